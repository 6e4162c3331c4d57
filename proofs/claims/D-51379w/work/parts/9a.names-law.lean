/-! HeirCasesLaw -/
set_option maxRecDepth 100000
def RX0 : String := "HeirCasesLaw"
abbrev cX0_parse : ByteArray := method_3_code
def yX0_parse : MethodName := ⟨RX0, "parse", "(LHeirCases;I[J)I"⟩
def dkwX0_parse_0 : List UInt8 := [44, 3, 42, 27, 182, 0, 7, 133, 80, 167, 0, 6, 78, 4, 172, 3, 172]
abbrev dktX0_parse_0 : List UInt8 := dkwX0_parse_0 ++ []
theorem dksX0_parse_0 : cX0_parse.data.toList.drop 0 = dktX0_parse_0 := by decide +kernel
theorem dX0_parse_0 : decode cX0_parse 0 = .ok (.aload_n 2, 1) := dk_44 (dk_at dksX0_parse_0 0 rfl rfl)
theorem dX0_parse_1 : decode cX0_parse 1 = .ok (.iconst 0, 1) := dk_3 (dk_at dksX0_parse_0 1 rfl rfl)
theorem dX0_parse_2 : decode cX0_parse 2 = .ok (.aload_n 0, 1) := dk_42 (dk_at dksX0_parse_0 2 rfl rfl)
theorem dX0_parse_3 : decode cX0_parse 3 = .ok (.iload_n 1, 1) := dk_27 (dk_at dksX0_parse_0 3 rfl rfl)
theorem dX0_parse_4 : decode cX0_parse 4 = .ok (.invokevirtual 7, 3) := dk_182 0 7 (dk_at dksX0_parse_0 4 rfl rfl)
theorem dX0_parse_7 : decode cX0_parse 7 = .ok (.i2l, 1) := dk_133 (dk_at dksX0_parse_0 7 rfl rfl)
theorem dX0_parse_8 : decode cX0_parse 8 = .ok (.lastore, 1) := dk_80 (dk_at dksX0_parse_0 8 rfl rfl)
theorem dX0_parse_9 : decode cX0_parse 9 = .ok (.goto 6, 3) := dk_167 0 6 (dk_at dksX0_parse_0 9 rfl rfl)
theorem dX0_parse_12 : decode cX0_parse 12 = .ok (.astore_n 3, 1) := dk_78 (dk_at dksX0_parse_0 12 rfl rfl)
theorem dX0_parse_13 : decode cX0_parse 13 = .ok (.iconst 1, 1) := dk_4 (dk_at dksX0_parse_0 13 rfl rfl)
theorem dX0_parse_14 : decode cX0_parse 14 = .ok (.ireturn, 1) := dk_172 (dk_at dksX0_parse_0 14 rfl rfl)
theorem dX0_parse_15 : decode cX0_parse 15 = .ok (.iconst 0, 1) := dk_3 (dk_at dksX0_parse_0 15 rfl rfl)
theorem dX0_parse_16 : decode cX0_parse 16 = .ok (.ireturn, 1) := dk_172 (dk_at dksX0_parse_0 16 rfl rfl)
abbrev cX0_load : ByteArray := method_4_code
def yX0_load : MethodName := ⟨RX0, "load", "(LHeirCases;I[J)I"⟩
def dkwX0_load_0 : List UInt8 := [44, 3, 42, 27, 182, 0, 15, 133, 80, 167, 0, 6, 78, 4, 172, 3, 172]
abbrev dktX0_load_0 : List UInt8 := dkwX0_load_0 ++ []
theorem dksX0_load_0 : cX0_load.data.toList.drop 0 = dktX0_load_0 := by decide +kernel
theorem dX0_load_0 : decode cX0_load 0 = .ok (.aload_n 2, 1) := dk_44 (dk_at dksX0_load_0 0 rfl rfl)
theorem dX0_load_1 : decode cX0_load 1 = .ok (.iconst 0, 1) := dk_3 (dk_at dksX0_load_0 1 rfl rfl)
theorem dX0_load_2 : decode cX0_load 2 = .ok (.aload_n 0, 1) := dk_42 (dk_at dksX0_load_0 2 rfl rfl)
theorem dX0_load_3 : decode cX0_load 3 = .ok (.iload_n 1, 1) := dk_27 (dk_at dksX0_load_0 3 rfl rfl)
theorem dX0_load_4 : decode cX0_load 4 = .ok (.invokevirtual 15, 3) := dk_182 0 15 (dk_at dksX0_load_0 4 rfl rfl)
theorem dX0_load_7 : decode cX0_load 7 = .ok (.i2l, 1) := dk_133 (dk_at dksX0_load_0 7 rfl rfl)
theorem dX0_load_8 : decode cX0_load 8 = .ok (.lastore, 1) := dk_80 (dk_at dksX0_load_0 8 rfl rfl)
theorem dX0_load_9 : decode cX0_load 9 = .ok (.goto 6, 3) := dk_167 0 6 (dk_at dksX0_load_0 9 rfl rfl)
theorem dX0_load_12 : decode cX0_load 12 = .ok (.astore_n 3, 1) := dk_78 (dk_at dksX0_load_0 12 rfl rfl)
theorem dX0_load_13 : decode cX0_load 13 = .ok (.iconst 1, 1) := dk_4 (dk_at dksX0_load_0 13 rfl rfl)
theorem dX0_load_14 : decode cX0_load 14 = .ok (.ireturn, 1) := dk_172 (dk_at dksX0_load_0 14 rfl rfl)
theorem dX0_load_15 : decode cX0_load 15 = .ok (.iconst 0, 1) := dk_3 (dk_at dksX0_load_0 15 rfl rfl)
theorem dX0_load_16 : decode cX0_load 16 = .ok (.ireturn, 1) := dk_172 (dk_at dksX0_load_0 16 rfl rfl)
abbrev cX0_size : ByteArray := method_5_code
def yX0_size : MethodName := ⟨RX0, "size", "(LHeirCases;I[J)I"⟩
def dkwX0_size_0 : List UInt8 := [44, 3, 42, 27, 182, 0, 18, 133, 80, 167, 0, 6, 78, 4, 172, 3, 172]
abbrev dktX0_size_0 : List UInt8 := dkwX0_size_0 ++ []
theorem dksX0_size_0 : cX0_size.data.toList.drop 0 = dktX0_size_0 := by decide +kernel
theorem dX0_size_0 : decode cX0_size 0 = .ok (.aload_n 2, 1) := dk_44 (dk_at dksX0_size_0 0 rfl rfl)
theorem dX0_size_1 : decode cX0_size 1 = .ok (.iconst 0, 1) := dk_3 (dk_at dksX0_size_0 1 rfl rfl)
theorem dX0_size_2 : decode cX0_size 2 = .ok (.aload_n 0, 1) := dk_42 (dk_at dksX0_size_0 2 rfl rfl)
theorem dX0_size_3 : decode cX0_size 3 = .ok (.iload_n 1, 1) := dk_27 (dk_at dksX0_size_0 3 rfl rfl)
theorem dX0_size_4 : decode cX0_size 4 = .ok (.invokevirtual 18, 3) := dk_182 0 18 (dk_at dksX0_size_0 4 rfl rfl)
theorem dX0_size_7 : decode cX0_size 7 = .ok (.i2l, 1) := dk_133 (dk_at dksX0_size_0 7 rfl rfl)
theorem dX0_size_8 : decode cX0_size 8 = .ok (.lastore, 1) := dk_80 (dk_at dksX0_size_0 8 rfl rfl)
theorem dX0_size_9 : decode cX0_size 9 = .ok (.goto 6, 3) := dk_167 0 6 (dk_at dksX0_size_0 9 rfl rfl)
theorem dX0_size_12 : decode cX0_size 12 = .ok (.astore_n 3, 1) := dk_78 (dk_at dksX0_size_0 12 rfl rfl)
theorem dX0_size_13 : decode cX0_size 13 = .ok (.iconst 1, 1) := dk_4 (dk_at dksX0_size_0 13 rfl rfl)
theorem dX0_size_14 : decode cX0_size 14 = .ok (.ireturn, 1) := dk_172 (dk_at dksX0_size_0 14 rfl rfl)
theorem dX0_size_15 : decode cX0_size 15 = .ok (.iconst 0, 1) := dk_3 (dk_at dksX0_size_0 15 rfl rfl)
theorem dX0_size_16 : decode cX0_size 16 = .ok (.ireturn, 1) := dk_172 (dk_at dksX0_size_0 16 rfl rfl)
abbrev cX0_values : ByteArray := method_6_code
def yX0_values : MethodName := ⟨RX0, "values", "(LHeirCases;I[J)I"⟩
def dkwX0_values_0 : List UInt8 := [44, 3, 42, 27, 182, 0, 21, 133, 80, 167, 0, 6, 78, 4, 172, 3, 172]
abbrev dktX0_values_0 : List UInt8 := dkwX0_values_0 ++ []
theorem dksX0_values_0 : cX0_values.data.toList.drop 0 = dktX0_values_0 := by decide +kernel
theorem dX0_values_0 : decode cX0_values 0 = .ok (.aload_n 2, 1) := dk_44 (dk_at dksX0_values_0 0 rfl rfl)
theorem dX0_values_1 : decode cX0_values 1 = .ok (.iconst 0, 1) := dk_3 (dk_at dksX0_values_0 1 rfl rfl)
theorem dX0_values_2 : decode cX0_values 2 = .ok (.aload_n 0, 1) := dk_42 (dk_at dksX0_values_0 2 rfl rfl)
theorem dX0_values_3 : decode cX0_values 3 = .ok (.iload_n 1, 1) := dk_27 (dk_at dksX0_values_0 3 rfl rfl)
theorem dX0_values_4 : decode cX0_values 4 = .ok (.invokevirtual 21, 3) := dk_182 0 21 (dk_at dksX0_values_0 4 rfl rfl)
theorem dX0_values_7 : decode cX0_values 7 = .ok (.i2l, 1) := dk_133 (dk_at dksX0_values_0 7 rfl rfl)
theorem dX0_values_8 : decode cX0_values 8 = .ok (.lastore, 1) := dk_80 (dk_at dksX0_values_0 8 rfl rfl)
theorem dX0_values_9 : decode cX0_values 9 = .ok (.goto 6, 3) := dk_167 0 6 (dk_at dksX0_values_0 9 rfl rfl)
theorem dX0_values_12 : decode cX0_values 12 = .ok (.astore_n 3, 1) := dk_78 (dk_at dksX0_values_0 12 rfl rfl)
theorem dX0_values_13 : decode cX0_values 13 = .ok (.iconst 1, 1) := dk_4 (dk_at dksX0_values_0 13 rfl rfl)
theorem dX0_values_14 : decode cX0_values 14 = .ok (.ireturn, 1) := dk_172 (dk_at dksX0_values_0 14 rfl rfl)
theorem dX0_values_15 : decode cX0_values 15 = .ok (.iconst 0, 1) := dk_3 (dk_at dksX0_values_0 15 rfl rfl)
theorem dX0_values_16 : decode cX0_values 16 = .ok (.ireturn, 1) := dk_172 (dk_at dksX0_values_0 16 rfl rfl)
abbrev cX0_valueIn : ByteArray := method_7_code
def yX0_valueIn : MethodName := ⟨RX0, "valueIn", "(LHeirCases;II[J)I"⟩
def dkwX0_valueIn_0 : List UInt8 := [45, 3, 42, 27, 28, 182, 0, 26, 133, 80, 167, 0, 11, 58, 4, 4, 172, 58, 4, 5, 172, 3, 172]
abbrev dktX0_valueIn_0 : List UInt8 := dkwX0_valueIn_0 ++ []
theorem dksX0_valueIn_0 : cX0_valueIn.data.toList.drop 0 = dktX0_valueIn_0 := by decide +kernel
theorem dX0_valueIn_0 : decode cX0_valueIn 0 = .ok (.aload_n 3, 1) := dk_45 (dk_at dksX0_valueIn_0 0 rfl rfl)
theorem dX0_valueIn_1 : decode cX0_valueIn 1 = .ok (.iconst 0, 1) := dk_3 (dk_at dksX0_valueIn_0 1 rfl rfl)
theorem dX0_valueIn_2 : decode cX0_valueIn 2 = .ok (.aload_n 0, 1) := dk_42 (dk_at dksX0_valueIn_0 2 rfl rfl)
theorem dX0_valueIn_3 : decode cX0_valueIn 3 = .ok (.iload_n 1, 1) := dk_27 (dk_at dksX0_valueIn_0 3 rfl rfl)
theorem dX0_valueIn_4 : decode cX0_valueIn 4 = .ok (.iload_n 2, 1) := dk_28 (dk_at dksX0_valueIn_0 4 rfl rfl)
theorem dX0_valueIn_5 : decode cX0_valueIn 5 = .ok (.invokevirtual 26, 3) := dk_182 0 26 (dk_at dksX0_valueIn_0 5 rfl rfl)
theorem dX0_valueIn_8 : decode cX0_valueIn 8 = .ok (.i2l, 1) := dk_133 (dk_at dksX0_valueIn_0 8 rfl rfl)
theorem dX0_valueIn_9 : decode cX0_valueIn 9 = .ok (.lastore, 1) := dk_80 (dk_at dksX0_valueIn_0 9 rfl rfl)
theorem dX0_valueIn_10 : decode cX0_valueIn 10 = .ok (.goto 11, 3) := dk_167 0 11 (dk_at dksX0_valueIn_0 10 rfl rfl)
theorem dX0_valueIn_13 : decode cX0_valueIn 13 = .ok (.astore 4, 2) := dk_58 4 (dk_at dksX0_valueIn_0 13 rfl rfl)
theorem dX0_valueIn_15 : decode cX0_valueIn 15 = .ok (.iconst 1, 1) := dk_4 (dk_at dksX0_valueIn_0 15 rfl rfl)
theorem dX0_valueIn_16 : decode cX0_valueIn 16 = .ok (.ireturn, 1) := dk_172 (dk_at dksX0_valueIn_0 16 rfl rfl)
theorem dX0_valueIn_17 : decode cX0_valueIn 17 = .ok (.astore 4, 2) := dk_58 4 (dk_at dksX0_valueIn_0 17 rfl rfl)
theorem dX0_valueIn_19 : decode cX0_valueIn 19 = .ok (.iconst 2, 1) := dk_5 (dk_at dksX0_valueIn_0 19 rfl rfl)
theorem dX0_valueIn_20 : decode cX0_valueIn 20 = .ok (.ireturn, 1) := dk_172 (dk_at dksX0_valueIn_0 20 rfl rfl)
theorem dX0_valueIn_21 : decode cX0_valueIn 21 = .ok (.iconst 0, 1) := dk_3 (dk_at dksX0_valueIn_0 21 rfl rfl)
theorem dX0_valueIn_22 : decode cX0_valueIn 22 = .ok (.ireturn, 1) := dk_172 (dk_at dksX0_valueIn_0 22 rfl rfl)
abbrev cX0_heir : ByteArray := method_8_code
def yX0_heir : MethodName := ⟨RX0, "heir", "(LHeirCases;II[J)I"⟩
def dkwX0_heir_0 : List UInt8 := [45, 3, 42, 27, 28, 182, 0, 32, 133, 80, 167, 0, 11, 58, 4, 4, 172, 58, 4, 5, 172, 3, 172]
abbrev dktX0_heir_0 : List UInt8 := dkwX0_heir_0 ++ []
theorem dksX0_heir_0 : cX0_heir.data.toList.drop 0 = dktX0_heir_0 := by decide +kernel
theorem dX0_heir_0 : decode cX0_heir 0 = .ok (.aload_n 3, 1) := dk_45 (dk_at dksX0_heir_0 0 rfl rfl)
theorem dX0_heir_1 : decode cX0_heir 1 = .ok (.iconst 0, 1) := dk_3 (dk_at dksX0_heir_0 1 rfl rfl)
theorem dX0_heir_2 : decode cX0_heir 2 = .ok (.aload_n 0, 1) := dk_42 (dk_at dksX0_heir_0 2 rfl rfl)
theorem dX0_heir_3 : decode cX0_heir 3 = .ok (.iload_n 1, 1) := dk_27 (dk_at dksX0_heir_0 3 rfl rfl)
theorem dX0_heir_4 : decode cX0_heir 4 = .ok (.iload_n 2, 1) := dk_28 (dk_at dksX0_heir_0 4 rfl rfl)
theorem dX0_heir_5 : decode cX0_heir 5 = .ok (.invokevirtual 32, 3) := dk_182 0 32 (dk_at dksX0_heir_0 5 rfl rfl)
theorem dX0_heir_8 : decode cX0_heir 8 = .ok (.i2l, 1) := dk_133 (dk_at dksX0_heir_0 8 rfl rfl)
theorem dX0_heir_9 : decode cX0_heir 9 = .ok (.lastore, 1) := dk_80 (dk_at dksX0_heir_0 9 rfl rfl)
theorem dX0_heir_10 : decode cX0_heir 10 = .ok (.goto 11, 3) := dk_167 0 11 (dk_at dksX0_heir_0 10 rfl rfl)
theorem dX0_heir_13 : decode cX0_heir 13 = .ok (.astore 4, 2) := dk_58 4 (dk_at dksX0_heir_0 13 rfl rfl)
theorem dX0_heir_15 : decode cX0_heir 15 = .ok (.iconst 1, 1) := dk_4 (dk_at dksX0_heir_0 15 rfl rfl)
theorem dX0_heir_16 : decode cX0_heir 16 = .ok (.ireturn, 1) := dk_172 (dk_at dksX0_heir_0 16 rfl rfl)
theorem dX0_heir_17 : decode cX0_heir 17 = .ok (.astore 4, 2) := dk_58 4 (dk_at dksX0_heir_0 17 rfl rfl)
theorem dX0_heir_19 : decode cX0_heir 19 = .ok (.iconst 2, 1) := dk_5 (dk_at dksX0_heir_0 19 rfl rfl)
theorem dX0_heir_20 : decode cX0_heir 20 = .ok (.ireturn, 1) := dk_172 (dk_at dksX0_heir_0 20 rfl rfl)
theorem dX0_heir_21 : decode cX0_heir 21 = .ok (.iconst 0, 1) := dk_3 (dk_at dksX0_heir_0 21 rfl rfl)
theorem dX0_heir_22 : decode cX0_heir 22 = .ok (.ireturn, 1) := dk_172 (dk_at dksX0_heir_0 22 rfl rfl)
abbrev cX0_rule : ByteArray := method_9_code
def yX0_rule : MethodName := ⟨RX0, "rule", "(LHeirCases;II[J)I"⟩
def dkwX0_rule_0 : List UInt8 := [45, 3, 42, 27, 28, 182, 0, 35, 133, 80, 167, 0, 11, 58, 4, 4, 172, 58, 4, 5, 172, 3, 172]
abbrev dktX0_rule_0 : List UInt8 := dkwX0_rule_0 ++ []
theorem dksX0_rule_0 : cX0_rule.data.toList.drop 0 = dktX0_rule_0 := by decide +kernel
theorem dX0_rule_0 : decode cX0_rule 0 = .ok (.aload_n 3, 1) := dk_45 (dk_at dksX0_rule_0 0 rfl rfl)
theorem dX0_rule_1 : decode cX0_rule 1 = .ok (.iconst 0, 1) := dk_3 (dk_at dksX0_rule_0 1 rfl rfl)
theorem dX0_rule_2 : decode cX0_rule 2 = .ok (.aload_n 0, 1) := dk_42 (dk_at dksX0_rule_0 2 rfl rfl)
theorem dX0_rule_3 : decode cX0_rule 3 = .ok (.iload_n 1, 1) := dk_27 (dk_at dksX0_rule_0 3 rfl rfl)
theorem dX0_rule_4 : decode cX0_rule 4 = .ok (.iload_n 2, 1) := dk_28 (dk_at dksX0_rule_0 4 rfl rfl)
theorem dX0_rule_5 : decode cX0_rule 5 = .ok (.invokevirtual 35, 3) := dk_182 0 35 (dk_at dksX0_rule_0 5 rfl rfl)
theorem dX0_rule_8 : decode cX0_rule 8 = .ok (.i2l, 1) := dk_133 (dk_at dksX0_rule_0 8 rfl rfl)
theorem dX0_rule_9 : decode cX0_rule 9 = .ok (.lastore, 1) := dk_80 (dk_at dksX0_rule_0 9 rfl rfl)
theorem dX0_rule_10 : decode cX0_rule 10 = .ok (.goto 11, 3) := dk_167 0 11 (dk_at dksX0_rule_0 10 rfl rfl)
theorem dX0_rule_13 : decode cX0_rule 13 = .ok (.astore 4, 2) := dk_58 4 (dk_at dksX0_rule_0 13 rfl rfl)
theorem dX0_rule_15 : decode cX0_rule 15 = .ok (.iconst 1, 1) := dk_4 (dk_at dksX0_rule_0 15 rfl rfl)
theorem dX0_rule_16 : decode cX0_rule 16 = .ok (.ireturn, 1) := dk_172 (dk_at dksX0_rule_0 16 rfl rfl)
theorem dX0_rule_17 : decode cX0_rule 17 = .ok (.astore 4, 2) := dk_58 4 (dk_at dksX0_rule_0 17 rfl rfl)
theorem dX0_rule_19 : decode cX0_rule 19 = .ok (.iconst 2, 1) := dk_5 (dk_at dksX0_rule_0 19 rfl rfl)
theorem dX0_rule_20 : decode cX0_rule 20 = .ok (.ireturn, 1) := dk_172 (dk_at dksX0_rule_0 20 rfl rfl)
theorem dX0_rule_21 : decode cX0_rule 21 = .ok (.iconst 0, 1) := dk_3 (dk_at dksX0_rule_0 21 rfl rfl)
theorem dX0_rule_22 : decode cX0_rule 22 = .ok (.ireturn, 1) := dk_172 (dk_at dksX0_rule_0 22 rfl rfl)
abbrev cX0_share : ByteArray := method_10_code
def yX0_share : MethodName := ⟨RX0, "share", "(LHeirCases;IIZ[J)I"⟩
def dkwX0_share_0 : List UInt8 := [25, 4, 3, 42, 27, 28, 29, 182, 0, 38, 133, 80, 167, 0, 7, 58, 5, 4, 172, 3, 172]
abbrev dktX0_share_0 : List UInt8 := dkwX0_share_0 ++ []
theorem dksX0_share_0 : cX0_share.data.toList.drop 0 = dktX0_share_0 := by decide +kernel
theorem dX0_share_0 : decode cX0_share 0 = .ok (.aload 4, 2) := dk_25 4 (dk_at dksX0_share_0 0 rfl rfl)
theorem dX0_share_2 : decode cX0_share 2 = .ok (.iconst 0, 1) := dk_3 (dk_at dksX0_share_0 2 rfl rfl)
theorem dX0_share_3 : decode cX0_share 3 = .ok (.aload_n 0, 1) := dk_42 (dk_at dksX0_share_0 3 rfl rfl)
theorem dX0_share_4 : decode cX0_share 4 = .ok (.iload_n 1, 1) := dk_27 (dk_at dksX0_share_0 4 rfl rfl)
theorem dX0_share_5 : decode cX0_share 5 = .ok (.iload_n 2, 1) := dk_28 (dk_at dksX0_share_0 5 rfl rfl)
theorem dX0_share_6 : decode cX0_share 6 = .ok (.iload_n 3, 1) := dk_29 (dk_at dksX0_share_0 6 rfl rfl)
theorem dX0_share_7 : decode cX0_share 7 = .ok (.invokevirtual 38, 3) := dk_182 0 38 (dk_at dksX0_share_0 7 rfl rfl)
theorem dX0_share_10 : decode cX0_share 10 = .ok (.i2l, 1) := dk_133 (dk_at dksX0_share_0 10 rfl rfl)
theorem dX0_share_11 : decode cX0_share 11 = .ok (.lastore, 1) := dk_80 (dk_at dksX0_share_0 11 rfl rfl)
theorem dX0_share_12 : decode cX0_share 12 = .ok (.goto 7, 3) := dk_167 0 7 (dk_at dksX0_share_0 12 rfl rfl)
theorem dX0_share_15 : decode cX0_share 15 = .ok (.astore 5, 2) := dk_58 5 (dk_at dksX0_share_0 15 rfl rfl)
theorem dX0_share_17 : decode cX0_share 17 = .ok (.iconst 1, 1) := dk_4 (dk_at dksX0_share_0 17 rfl rfl)
theorem dX0_share_18 : decode cX0_share 18 = .ok (.ireturn, 1) := dk_172 (dk_at dksX0_share_0 18 rfl rfl)
theorem dX0_share_19 : decode cX0_share 19 = .ok (.iconst 0, 1) := dk_3 (dk_at dksX0_share_0 19 rfl rfl)
theorem dX0_share_20 : decode cX0_share 20 = .ok (.ireturn, 1) := dk_172 (dk_at dksX0_share_0 20 rfl rfl)
abbrev cX0_applies : ByteArray := method_11_code
def yX0_applies : MethodName := ⟨RX0, "applies", "(LHeirCases;II[J)I"⟩
def dkwX0_applies_1 : List UInt8 := [58, 4, 5, 172, 3, 172]
abbrev dktX0_applies_1 : List UInt8 := dkwX0_applies_1 ++ []
def dkwX0_applies_0 : List UInt8 := [45, 3, 42, 27, 28, 182, 0, 42, 153, 0, 7, 10, 167, 0, 4, 9, 80, 167, 0, 11, 58, 4, 4, 172]
abbrev dktX0_applies_0 : List UInt8 := dkwX0_applies_0 ++ dktX0_applies_1
theorem dksX0_applies_0 : cX0_applies.data.toList.drop 0 = dktX0_applies_0 := by decide +kernel
theorem dksX0_applies_1 : cX0_applies.data.toList.drop 24 = dktX0_applies_1 := dk_seg dksX0_applies_0 24 rfl rfl
theorem dX0_applies_0 : decode cX0_applies 0 = .ok (.aload_n 3, 1) := dk_45 (dk_at dksX0_applies_0 0 rfl rfl)
theorem dX0_applies_1 : decode cX0_applies 1 = .ok (.iconst 0, 1) := dk_3 (dk_at dksX0_applies_0 1 rfl rfl)
theorem dX0_applies_2 : decode cX0_applies 2 = .ok (.aload_n 0, 1) := dk_42 (dk_at dksX0_applies_0 2 rfl rfl)
theorem dX0_applies_3 : decode cX0_applies 3 = .ok (.iload_n 1, 1) := dk_27 (dk_at dksX0_applies_0 3 rfl rfl)
theorem dX0_applies_4 : decode cX0_applies 4 = .ok (.iload_n 2, 1) := dk_28 (dk_at dksX0_applies_0 4 rfl rfl)
theorem dX0_applies_5 : decode cX0_applies 5 = .ok (.invokevirtual 42, 3) := dk_182 0 42 (dk_at dksX0_applies_0 5 rfl rfl)
theorem dX0_applies_8 : decode cX0_applies 8 = .ok (.ifCond .eq 7, 3) := dk_153 0 7 (dk_at dksX0_applies_0 8 rfl rfl)
theorem dX0_applies_11 : decode cX0_applies 11 = .ok (.lconst 1, 1) := dk_10 (dk_at dksX0_applies_0 11 rfl rfl)
theorem dX0_applies_12 : decode cX0_applies 12 = .ok (.goto 4, 3) := dk_167 0 4 (dk_at dksX0_applies_0 12 rfl rfl)
theorem dX0_applies_15 : decode cX0_applies 15 = .ok (.lconst 0, 1) := dk_9 (dk_at dksX0_applies_0 15 rfl rfl)
theorem dX0_applies_16 : decode cX0_applies 16 = .ok (.lastore, 1) := dk_80 (dk_at dksX0_applies_0 16 rfl rfl)
theorem dX0_applies_17 : decode cX0_applies 17 = .ok (.goto 11, 3) := dk_167 0 11 (dk_at dksX0_applies_0 17 rfl rfl)
theorem dX0_applies_20 : decode cX0_applies 20 = .ok (.astore 4, 2) := dk_58 4 (dk_at dksX0_applies_0 20 rfl rfl)
theorem dX0_applies_22 : decode cX0_applies 22 = .ok (.iconst 1, 1) := dk_4 (dk_at dksX0_applies_0 22 rfl rfl)
theorem dX0_applies_23 : decode cX0_applies 23 = .ok (.ireturn, 1) := dk_172 (dk_at dksX0_applies_0 23 rfl rfl)
theorem dX0_applies_24 : decode cX0_applies 24 = .ok (.astore 4, 2) := dk_58 4 (dk_at dksX0_applies_1 0 rfl rfl)
theorem dX0_applies_26 : decode cX0_applies 26 = .ok (.iconst 2, 1) := dk_5 (dk_at dksX0_applies_1 2 rfl rfl)
theorem dX0_applies_27 : decode cX0_applies 27 = .ok (.ireturn, 1) := dk_172 (dk_at dksX0_applies_1 3 rfl rfl)
theorem dX0_applies_28 : decode cX0_applies 28 = .ok (.iconst 0, 1) := dk_3 (dk_at dksX0_applies_1 4 rfl rfl)
theorem dX0_applies_29 : decode cX0_applies 29 = .ok (.ireturn, 1) := dk_172 (dk_at dksX0_applies_1 5 rfl rfl)
abbrev cX0_applying : ByteArray := method_12_code
def yX0_applying : MethodName := ⟨RX0, "applying", "(LHeirCases;I[J)I"⟩
def dkwX0_applying_0 : List UInt8 := [44, 3, 42, 27, 182, 0, 46, 133, 80, 167, 0, 6, 78, 4, 172, 3, 172]
abbrev dktX0_applying_0 : List UInt8 := dkwX0_applying_0 ++ []
theorem dksX0_applying_0 : cX0_applying.data.toList.drop 0 = dktX0_applying_0 := by decide +kernel
theorem dX0_applying_0 : decode cX0_applying 0 = .ok (.aload_n 2, 1) := dk_44 (dk_at dksX0_applying_0 0 rfl rfl)
theorem dX0_applying_1 : decode cX0_applying 1 = .ok (.iconst 0, 1) := dk_3 (dk_at dksX0_applying_0 1 rfl rfl)
theorem dX0_applying_2 : decode cX0_applying 2 = .ok (.aload_n 0, 1) := dk_42 (dk_at dksX0_applying_0 2 rfl rfl)
theorem dX0_applying_3 : decode cX0_applying 3 = .ok (.iload_n 1, 1) := dk_27 (dk_at dksX0_applying_0 3 rfl rfl)
theorem dX0_applying_4 : decode cX0_applying 4 = .ok (.invokevirtual 46, 3) := dk_182 0 46 (dk_at dksX0_applying_0 4 rfl rfl)
theorem dX0_applying_7 : decode cX0_applying 7 = .ok (.i2l, 1) := dk_133 (dk_at dksX0_applying_0 7 rfl rfl)
theorem dX0_applying_8 : decode cX0_applying 8 = .ok (.lastore, 1) := dk_80 (dk_at dksX0_applying_0 8 rfl rfl)
theorem dX0_applying_9 : decode cX0_applying 9 = .ok (.goto 6, 3) := dk_167 0 6 (dk_at dksX0_applying_0 9 rfl rfl)
theorem dX0_applying_12 : decode cX0_applying 12 = .ok (.astore_n 3, 1) := dk_78 (dk_at dksX0_applying_0 12 rfl rfl)
theorem dX0_applying_13 : decode cX0_applying 13 = .ok (.iconst 1, 1) := dk_4 (dk_at dksX0_applying_0 13 rfl rfl)
theorem dX0_applying_14 : decode cX0_applying 14 = .ok (.ireturn, 1) := dk_172 (dk_at dksX0_applying_0 14 rfl rfl)
theorem dX0_applying_15 : decode cX0_applying 15 = .ok (.iconst 0, 1) := dk_3 (dk_at dksX0_applying_0 15 rfl rfl)
theorem dX0_applying_16 : decode cX0_applying 16 = .ok (.ireturn, 1) := dk_172 (dk_at dksX0_applying_0 16 rfl rfl)
abbrev cX0_verdict : ByteArray := method_13_code
def yX0_verdict : MethodName := ⟨RX0, "verdict", "(LHeirCases;I[J)I"⟩
def dkwX0_verdict_0 : List UInt8 := [44, 3, 42, 27, 182, 0, 49, 133, 80, 167, 0, 6, 78, 4, 172, 3, 172]
abbrev dktX0_verdict_0 : List UInt8 := dkwX0_verdict_0 ++ []
theorem dksX0_verdict_0 : cX0_verdict.data.toList.drop 0 = dktX0_verdict_0 := by decide +kernel
theorem dX0_verdict_0 : decode cX0_verdict 0 = .ok (.aload_n 2, 1) := dk_44 (dk_at dksX0_verdict_0 0 rfl rfl)
theorem dX0_verdict_1 : decode cX0_verdict 1 = .ok (.iconst 0, 1) := dk_3 (dk_at dksX0_verdict_0 1 rfl rfl)
theorem dX0_verdict_2 : decode cX0_verdict 2 = .ok (.aload_n 0, 1) := dk_42 (dk_at dksX0_verdict_0 2 rfl rfl)
theorem dX0_verdict_3 : decode cX0_verdict 3 = .ok (.iload_n 1, 1) := dk_27 (dk_at dksX0_verdict_0 3 rfl rfl)
theorem dX0_verdict_4 : decode cX0_verdict 4 = .ok (.invokevirtual 49, 3) := dk_182 0 49 (dk_at dksX0_verdict_0 4 rfl rfl)
theorem dX0_verdict_7 : decode cX0_verdict 7 = .ok (.i2l, 1) := dk_133 (dk_at dksX0_verdict_0 7 rfl rfl)
theorem dX0_verdict_8 : decode cX0_verdict 8 = .ok (.lastore, 1) := dk_80 (dk_at dksX0_verdict_0 8 rfl rfl)
theorem dX0_verdict_9 : decode cX0_verdict 9 = .ok (.goto 6, 3) := dk_167 0 6 (dk_at dksX0_verdict_0 9 rfl rfl)
theorem dX0_verdict_12 : decode cX0_verdict 12 = .ok (.astore_n 3, 1) := dk_78 (dk_at dksX0_verdict_0 12 rfl rfl)
theorem dX0_verdict_13 : decode cX0_verdict 13 = .ok (.iconst 1, 1) := dk_4 (dk_at dksX0_verdict_0 13 rfl rfl)
theorem dX0_verdict_14 : decode cX0_verdict 14 = .ok (.ireturn, 1) := dk_172 (dk_at dksX0_verdict_0 14 rfl rfl)
theorem dX0_verdict_15 : decode cX0_verdict 15 = .ok (.iconst 0, 1) := dk_3 (dk_at dksX0_verdict_0 15 rfl rfl)
theorem dX0_verdict_16 : decode cX0_verdict 16 = .ok (.ireturn, 1) := dk_172 (dk_at dksX0_verdict_0 16 rfl rfl)
abbrev cX0_settledBy : ByteArray := method_14_code
def yX0_settledBy : MethodName := ⟨RX0, "settledBy", "(LHeirCases;I[J)I"⟩
def dkwX0_settledBy_0 : List UInt8 := [44, 3, 42, 27, 182, 0, 52, 133, 80, 167, 0, 6, 78, 4, 172, 3, 172]
abbrev dktX0_settledBy_0 : List UInt8 := dkwX0_settledBy_0 ++ []
theorem dksX0_settledBy_0 : cX0_settledBy.data.toList.drop 0 = dktX0_settledBy_0 := by decide +kernel
theorem dX0_settledBy_0 : decode cX0_settledBy 0 = .ok (.aload_n 2, 1) := dk_44 (dk_at dksX0_settledBy_0 0 rfl rfl)
theorem dX0_settledBy_1 : decode cX0_settledBy 1 = .ok (.iconst 0, 1) := dk_3 (dk_at dksX0_settledBy_0 1 rfl rfl)
theorem dX0_settledBy_2 : decode cX0_settledBy 2 = .ok (.aload_n 0, 1) := dk_42 (dk_at dksX0_settledBy_0 2 rfl rfl)
theorem dX0_settledBy_3 : decode cX0_settledBy 3 = .ok (.iload_n 1, 1) := dk_27 (dk_at dksX0_settledBy_0 3 rfl rfl)
theorem dX0_settledBy_4 : decode cX0_settledBy 4 = .ok (.invokevirtual 52, 3) := dk_182 0 52 (dk_at dksX0_settledBy_0 4 rfl rfl)
theorem dX0_settledBy_7 : decode cX0_settledBy 7 = .ok (.i2l, 1) := dk_133 (dk_at dksX0_settledBy_0 7 rfl rfl)
theorem dX0_settledBy_8 : decode cX0_settledBy 8 = .ok (.lastore, 1) := dk_80 (dk_at dksX0_settledBy_0 8 rfl rfl)
theorem dX0_settledBy_9 : decode cX0_settledBy 9 = .ok (.goto 6, 3) := dk_167 0 6 (dk_at dksX0_settledBy_0 9 rfl rfl)
theorem dX0_settledBy_12 : decode cX0_settledBy 12 = .ok (.astore_n 3, 1) := dk_78 (dk_at dksX0_settledBy_0 12 rfl rfl)
theorem dX0_settledBy_13 : decode cX0_settledBy 13 = .ok (.iconst 1, 1) := dk_4 (dk_at dksX0_settledBy_0 13 rfl rfl)
theorem dX0_settledBy_14 : decode cX0_settledBy 14 = .ok (.ireturn, 1) := dk_172 (dk_at dksX0_settledBy_0 14 rfl rfl)
theorem dX0_settledBy_15 : decode cX0_settledBy 15 = .ok (.iconst 0, 1) := dk_3 (dk_at dksX0_settledBy_0 15 rfl rfl)
theorem dX0_settledBy_16 : decode cX0_settledBy 16 = .ok (.ireturn, 1) := dk_172 (dk_at dksX0_settledBy_0 16 rfl rfl)
abbrev cX0_why : ByteArray := method_15_code
def yX0_why : MethodName := ⟨RX0, "why", "(LHeirCases;III[J)I"⟩
def dkwX0_why_1 : List UInt8 := [58, 5, 6, 172, 3, 172]
abbrev dktX0_why_1 : List UInt8 := dkwX0_why_1 ++ []
def dkwX0_why_0 : List UInt8 := [25, 4, 3, 42, 27, 28, 29, 182, 0, 55, 133, 80, 167, 0, 15, 58, 5, 4, 172, 58, 5, 5, 172]
abbrev dktX0_why_0 : List UInt8 := dkwX0_why_0 ++ dktX0_why_1
theorem dksX0_why_0 : cX0_why.data.toList.drop 0 = dktX0_why_0 := by decide +kernel
theorem dksX0_why_1 : cX0_why.data.toList.drop 23 = dktX0_why_1 := dk_seg dksX0_why_0 23 rfl rfl
theorem dX0_why_0 : decode cX0_why 0 = .ok (.aload 4, 2) := dk_25 4 (dk_at dksX0_why_0 0 rfl rfl)
theorem dX0_why_2 : decode cX0_why 2 = .ok (.iconst 0, 1) := dk_3 (dk_at dksX0_why_0 2 rfl rfl)
theorem dX0_why_3 : decode cX0_why 3 = .ok (.aload_n 0, 1) := dk_42 (dk_at dksX0_why_0 3 rfl rfl)
theorem dX0_why_4 : decode cX0_why 4 = .ok (.iload_n 1, 1) := dk_27 (dk_at dksX0_why_0 4 rfl rfl)
theorem dX0_why_5 : decode cX0_why 5 = .ok (.iload_n 2, 1) := dk_28 (dk_at dksX0_why_0 5 rfl rfl)
theorem dX0_why_6 : decode cX0_why 6 = .ok (.iload_n 3, 1) := dk_29 (dk_at dksX0_why_0 6 rfl rfl)
theorem dX0_why_7 : decode cX0_why 7 = .ok (.invokevirtual 55, 3) := dk_182 0 55 (dk_at dksX0_why_0 7 rfl rfl)
theorem dX0_why_10 : decode cX0_why 10 = .ok (.i2l, 1) := dk_133 (dk_at dksX0_why_0 10 rfl rfl)
theorem dX0_why_11 : decode cX0_why 11 = .ok (.lastore, 1) := dk_80 (dk_at dksX0_why_0 11 rfl rfl)
theorem dX0_why_12 : decode cX0_why 12 = .ok (.goto 15, 3) := dk_167 0 15 (dk_at dksX0_why_0 12 rfl rfl)
theorem dX0_why_15 : decode cX0_why 15 = .ok (.astore 5, 2) := dk_58 5 (dk_at dksX0_why_0 15 rfl rfl)
theorem dX0_why_17 : decode cX0_why 17 = .ok (.iconst 1, 1) := dk_4 (dk_at dksX0_why_0 17 rfl rfl)
theorem dX0_why_18 : decode cX0_why 18 = .ok (.ireturn, 1) := dk_172 (dk_at dksX0_why_0 18 rfl rfl)
theorem dX0_why_19 : decode cX0_why 19 = .ok (.astore 5, 2) := dk_58 5 (dk_at dksX0_why_0 19 rfl rfl)
theorem dX0_why_21 : decode cX0_why 21 = .ok (.iconst 2, 1) := dk_5 (dk_at dksX0_why_0 21 rfl rfl)
theorem dX0_why_22 : decode cX0_why 22 = .ok (.ireturn, 1) := dk_172 (dk_at dksX0_why_0 22 rfl rfl)
theorem dX0_why_23 : decode cX0_why 23 = .ok (.astore 5, 2) := dk_58 5 (dk_at dksX0_why_1 0 rfl rfl)
theorem dX0_why_25 : decode cX0_why 25 = .ok (.iconst 3, 1) := dk_6 (dk_at dksX0_why_1 2 rfl rfl)
theorem dX0_why_26 : decode cX0_why 26 = .ok (.ireturn, 1) := dk_172 (dk_at dksX0_why_1 3 rfl rfl)
theorem dX0_why_27 : decode cX0_why 27 = .ok (.iconst 0, 1) := dk_3 (dk_at dksX0_why_1 4 rfl rfl)
theorem dX0_why_28 : decode cX0_why 28 = .ok (.ireturn, 1) := dk_172 (dk_at dksX0_why_1 5 rfl rfl)
abbrev cX0_example : ByteArray := method_16_code
def yX0_example : MethodName := ⟨RX0, "example", "(LHeirCases;II[J)I"⟩
def dkwX0_example_0 : List UInt8 := [45, 3, 42, 27, 28, 182, 0, 59, 133, 80, 167, 0, 7, 58, 4, 4, 172, 3, 172]
abbrev dktX0_example_0 : List UInt8 := dkwX0_example_0 ++ []
theorem dksX0_example_0 : cX0_example.data.toList.drop 0 = dktX0_example_0 := by decide +kernel
theorem dX0_example_0 : decode cX0_example 0 = .ok (.aload_n 3, 1) := dk_45 (dk_at dksX0_example_0 0 rfl rfl)
theorem dX0_example_1 : decode cX0_example 1 = .ok (.iconst 0, 1) := dk_3 (dk_at dksX0_example_0 1 rfl rfl)
theorem dX0_example_2 : decode cX0_example 2 = .ok (.aload_n 0, 1) := dk_42 (dk_at dksX0_example_0 2 rfl rfl)
theorem dX0_example_3 : decode cX0_example 3 = .ok (.iload_n 1, 1) := dk_27 (dk_at dksX0_example_0 3 rfl rfl)
theorem dX0_example_4 : decode cX0_example 4 = .ok (.iload_n 2, 1) := dk_28 (dk_at dksX0_example_0 4 rfl rfl)
theorem dX0_example_5 : decode cX0_example 5 = .ok (.invokevirtual 59, 3) := dk_182 0 59 (dk_at dksX0_example_0 5 rfl rfl)
theorem dX0_example_8 : decode cX0_example 8 = .ok (.i2l, 1) := dk_133 (dk_at dksX0_example_0 8 rfl rfl)
theorem dX0_example_9 : decode cX0_example 9 = .ok (.lastore, 1) := dk_80 (dk_at dksX0_example_0 9 rfl rfl)
theorem dX0_example_10 : decode cX0_example 10 = .ok (.goto 7, 3) := dk_167 0 7 (dk_at dksX0_example_0 10 rfl rfl)
theorem dX0_example_13 : decode cX0_example 13 = .ok (.astore 4, 2) := dk_58 4 (dk_at dksX0_example_0 13 rfl rfl)
theorem dX0_example_15 : decode cX0_example 15 = .ok (.iconst 1, 1) := dk_4 (dk_at dksX0_example_0 15 rfl rfl)
theorem dX0_example_16 : decode cX0_example 16 = .ok (.ireturn, 1) := dk_172 (dk_at dksX0_example_0 16 rfl rfl)
theorem dX0_example_17 : decode cX0_example 17 = .ok (.iconst 0, 1) := dk_3 (dk_at dksX0_example_0 17 rfl rfl)
theorem dX0_example_18 : decode cX0_example 18 = .ok (.ireturn, 1) := dk_172 (dk_at dksX0_example_0 18 rfl rfl)
abbrev cX0_isWider : ByteArray := method_17_code
def yX0_isWider : MethodName := ⟨RX0, "isWider", "(LHeirCases;II[J)I"⟩
def dkwX0_isWider_1 : List UInt8 := [3, 172]
abbrev dktX0_isWider_1 : List UInt8 := dkwX0_isWider_1 ++ []
def dkwX0_isWider_0 : List UInt8 := [45, 3, 42, 27, 28, 182, 0, 62, 153, 0, 7, 10, 167, 0, 4, 9, 80, 167, 0, 7, 58, 4, 4, 172]
abbrev dktX0_isWider_0 : List UInt8 := dkwX0_isWider_0 ++ dktX0_isWider_1
theorem dksX0_isWider_0 : cX0_isWider.data.toList.drop 0 = dktX0_isWider_0 := by decide +kernel
theorem dksX0_isWider_1 : cX0_isWider.data.toList.drop 24 = dktX0_isWider_1 := dk_seg dksX0_isWider_0 24 rfl rfl
theorem dX0_isWider_0 : decode cX0_isWider 0 = .ok (.aload_n 3, 1) := dk_45 (dk_at dksX0_isWider_0 0 rfl rfl)
theorem dX0_isWider_1 : decode cX0_isWider 1 = .ok (.iconst 0, 1) := dk_3 (dk_at dksX0_isWider_0 1 rfl rfl)
theorem dX0_isWider_2 : decode cX0_isWider 2 = .ok (.aload_n 0, 1) := dk_42 (dk_at dksX0_isWider_0 2 rfl rfl)
theorem dX0_isWider_3 : decode cX0_isWider 3 = .ok (.iload_n 1, 1) := dk_27 (dk_at dksX0_isWider_0 3 rfl rfl)
theorem dX0_isWider_4 : decode cX0_isWider 4 = .ok (.iload_n 2, 1) := dk_28 (dk_at dksX0_isWider_0 4 rfl rfl)
theorem dX0_isWider_5 : decode cX0_isWider 5 = .ok (.invokevirtual 62, 3) := dk_182 0 62 (dk_at dksX0_isWider_0 5 rfl rfl)
theorem dX0_isWider_8 : decode cX0_isWider 8 = .ok (.ifCond .eq 7, 3) := dk_153 0 7 (dk_at dksX0_isWider_0 8 rfl rfl)
theorem dX0_isWider_11 : decode cX0_isWider 11 = .ok (.lconst 1, 1) := dk_10 (dk_at dksX0_isWider_0 11 rfl rfl)
theorem dX0_isWider_12 : decode cX0_isWider 12 = .ok (.goto 4, 3) := dk_167 0 4 (dk_at dksX0_isWider_0 12 rfl rfl)
theorem dX0_isWider_15 : decode cX0_isWider 15 = .ok (.lconst 0, 1) := dk_9 (dk_at dksX0_isWider_0 15 rfl rfl)
theorem dX0_isWider_16 : decode cX0_isWider 16 = .ok (.lastore, 1) := dk_80 (dk_at dksX0_isWider_0 16 rfl rfl)
theorem dX0_isWider_17 : decode cX0_isWider 17 = .ok (.goto 7, 3) := dk_167 0 7 (dk_at dksX0_isWider_0 17 rfl rfl)
theorem dX0_isWider_20 : decode cX0_isWider 20 = .ok (.astore 4, 2) := dk_58 4 (dk_at dksX0_isWider_0 20 rfl rfl)
theorem dX0_isWider_22 : decode cX0_isWider 22 = .ok (.iconst 1, 1) := dk_4 (dk_at dksX0_isWider_0 22 rfl rfl)
theorem dX0_isWider_23 : decode cX0_isWider 23 = .ok (.ireturn, 1) := dk_172 (dk_at dksX0_isWider_0 23 rfl rfl)
theorem dX0_isWider_24 : decode cX0_isWider 24 = .ok (.iconst 0, 1) := dk_3 (dk_at dksX0_isWider_1 0 rfl rfl)
theorem dX0_isWider_25 : decode cX0_isWider 25 = .ok (.ireturn, 1) := dk_172 (dk_at dksX0_isWider_1 1 rfl rfl)
abbrev cX0_common : ByteArray := method_18_code
def yX0_common : MethodName := ⟨RX0, "common", "(LHeirCases;II[J)I"⟩
def dkwX0_common_0 : List UInt8 := [45, 3, 42, 27, 28, 182, 0, 65, 133, 80, 167, 0, 7, 58, 4, 4, 172, 3, 172]
abbrev dktX0_common_0 : List UInt8 := dkwX0_common_0 ++ []
theorem dksX0_common_0 : cX0_common.data.toList.drop 0 = dktX0_common_0 := by decide +kernel
theorem dX0_common_0 : decode cX0_common 0 = .ok (.aload_n 3, 1) := dk_45 (dk_at dksX0_common_0 0 rfl rfl)
theorem dX0_common_1 : decode cX0_common 1 = .ok (.iconst 0, 1) := dk_3 (dk_at dksX0_common_0 1 rfl rfl)
theorem dX0_common_2 : decode cX0_common 2 = .ok (.aload_n 0, 1) := dk_42 (dk_at dksX0_common_0 2 rfl rfl)
theorem dX0_common_3 : decode cX0_common 3 = .ok (.iload_n 1, 1) := dk_27 (dk_at dksX0_common_0 3 rfl rfl)
theorem dX0_common_4 : decode cX0_common 4 = .ok (.iload_n 2, 1) := dk_28 (dk_at dksX0_common_0 4 rfl rfl)
theorem dX0_common_5 : decode cX0_common 5 = .ok (.invokevirtual 65, 3) := dk_182 0 65 (dk_at dksX0_common_0 5 rfl rfl)
theorem dX0_common_8 : decode cX0_common 8 = .ok (.i2l, 1) := dk_133 (dk_at dksX0_common_0 8 rfl rfl)
theorem dX0_common_9 : decode cX0_common 9 = .ok (.lastore, 1) := dk_80 (dk_at dksX0_common_0 9 rfl rfl)
theorem dX0_common_10 : decode cX0_common 10 = .ok (.goto 7, 3) := dk_167 0 7 (dk_at dksX0_common_0 10 rfl rfl)
theorem dX0_common_13 : decode cX0_common 13 = .ok (.astore 4, 2) := dk_58 4 (dk_at dksX0_common_0 13 rfl rfl)
theorem dX0_common_15 : decode cX0_common 15 = .ok (.iconst 1, 1) := dk_4 (dk_at dksX0_common_0 15 rfl rfl)
theorem dX0_common_16 : decode cX0_common 16 = .ok (.ireturn, 1) := dk_172 (dk_at dksX0_common_0 16 rfl rfl)
theorem dX0_common_17 : decode cX0_common 17 = .ok (.iconst 0, 1) := dk_3 (dk_at dksX0_common_0 17 rfl rfl)
theorem dX0_common_18 : decode cX0_common 18 = .ok (.ireturn, 1) := dk_172 (dk_at dksX0_common_0 18 rfl rfl)
abbrev cX0_gapsWithout : ByteArray := method_19_code
def yX0_gapsWithout : MethodName := ⟨RX0, "gapsWithout", "(LHeirCases;I[J)I"⟩
def dkwX0_gapsWithout_0 : List UInt8 := [44, 3, 42, 27, 182, 0, 68, 133, 80, 167, 0, 6, 78, 4, 172, 3, 172]
abbrev dktX0_gapsWithout_0 : List UInt8 := dkwX0_gapsWithout_0 ++ []
theorem dksX0_gapsWithout_0 : cX0_gapsWithout.data.toList.drop 0 = dktX0_gapsWithout_0 := by decide +kernel
theorem dX0_gapsWithout_0 : decode cX0_gapsWithout 0 = .ok (.aload_n 2, 1) := dk_44 (dk_at dksX0_gapsWithout_0 0 rfl rfl)
theorem dX0_gapsWithout_1 : decode cX0_gapsWithout 1 = .ok (.iconst 0, 1) := dk_3 (dk_at dksX0_gapsWithout_0 1 rfl rfl)
theorem dX0_gapsWithout_2 : decode cX0_gapsWithout 2 = .ok (.aload_n 0, 1) := dk_42 (dk_at dksX0_gapsWithout_0 2 rfl rfl)
theorem dX0_gapsWithout_3 : decode cX0_gapsWithout 3 = .ok (.iload_n 1, 1) := dk_27 (dk_at dksX0_gapsWithout_0 3 rfl rfl)
theorem dX0_gapsWithout_4 : decode cX0_gapsWithout 4 = .ok (.invokevirtual 68, 3) := dk_182 0 68 (dk_at dksX0_gapsWithout_0 4 rfl rfl)
theorem dX0_gapsWithout_7 : decode cX0_gapsWithout 7 = .ok (.i2l, 1) := dk_133 (dk_at dksX0_gapsWithout_0 7 rfl rfl)
theorem dX0_gapsWithout_8 : decode cX0_gapsWithout 8 = .ok (.lastore, 1) := dk_80 (dk_at dksX0_gapsWithout_0 8 rfl rfl)
theorem dX0_gapsWithout_9 : decode cX0_gapsWithout 9 = .ok (.goto 6, 3) := dk_167 0 6 (dk_at dksX0_gapsWithout_0 9 rfl rfl)
theorem dX0_gapsWithout_12 : decode cX0_gapsWithout 12 = .ok (.astore_n 3, 1) := dk_78 (dk_at dksX0_gapsWithout_0 12 rfl rfl)
theorem dX0_gapsWithout_13 : decode cX0_gapsWithout 13 = .ok (.iconst 1, 1) := dk_4 (dk_at dksX0_gapsWithout_0 13 rfl rfl)
theorem dX0_gapsWithout_14 : decode cX0_gapsWithout 14 = .ok (.ireturn, 1) := dk_172 (dk_at dksX0_gapsWithout_0 14 rfl rfl)
theorem dX0_gapsWithout_15 : decode cX0_gapsWithout 15 = .ok (.iconst 0, 1) := dk_3 (dk_at dksX0_gapsWithout_0 15 rfl rfl)
theorem dX0_gapsWithout_16 : decode cX0_gapsWithout 16 = .ok (.ireturn, 1) := dk_172 (dk_at dksX0_gapsWithout_0 16 rfl rfl)
abbrev cX0_clashesIf : ByteArray := method_20_code
def yX0_clashesIf : MethodName := ⟨RX0, "clashesIf", "(LHeirCases;II[J)I"⟩
def dkwX0_clashesIf_0 : List UInt8 := [45, 3, 42, 27, 28, 182, 0, 71, 133, 80, 167, 0, 7, 58, 4, 4, 172, 3, 172]
abbrev dktX0_clashesIf_0 : List UInt8 := dkwX0_clashesIf_0 ++ []
theorem dksX0_clashesIf_0 : cX0_clashesIf.data.toList.drop 0 = dktX0_clashesIf_0 := by decide +kernel
theorem dX0_clashesIf_0 : decode cX0_clashesIf 0 = .ok (.aload_n 3, 1) := dk_45 (dk_at dksX0_clashesIf_0 0 rfl rfl)
theorem dX0_clashesIf_1 : decode cX0_clashesIf 1 = .ok (.iconst 0, 1) := dk_3 (dk_at dksX0_clashesIf_0 1 rfl rfl)
theorem dX0_clashesIf_2 : decode cX0_clashesIf 2 = .ok (.aload_n 0, 1) := dk_42 (dk_at dksX0_clashesIf_0 2 rfl rfl)
theorem dX0_clashesIf_3 : decode cX0_clashesIf 3 = .ok (.iload_n 1, 1) := dk_27 (dk_at dksX0_clashesIf_0 3 rfl rfl)
theorem dX0_clashesIf_4 : decode cX0_clashesIf 4 = .ok (.iload_n 2, 1) := dk_28 (dk_at dksX0_clashesIf_0 4 rfl rfl)
theorem dX0_clashesIf_5 : decode cX0_clashesIf 5 = .ok (.invokevirtual 71, 3) := dk_182 0 71 (dk_at dksX0_clashesIf_0 5 rfl rfl)
theorem dX0_clashesIf_8 : decode cX0_clashesIf 8 = .ok (.i2l, 1) := dk_133 (dk_at dksX0_clashesIf_0 8 rfl rfl)
theorem dX0_clashesIf_9 : decode cX0_clashesIf 9 = .ok (.lastore, 1) := dk_80 (dk_at dksX0_clashesIf_0 9 rfl rfl)
theorem dX0_clashesIf_10 : decode cX0_clashesIf 10 = .ok (.goto 7, 3) := dk_167 0 7 (dk_at dksX0_clashesIf_0 10 rfl rfl)
theorem dX0_clashesIf_13 : decode cX0_clashesIf 13 = .ok (.astore 4, 2) := dk_58 4 (dk_at dksX0_clashesIf_0 13 rfl rfl)
theorem dX0_clashesIf_15 : decode cX0_clashesIf 15 = .ok (.iconst 1, 1) := dk_4 (dk_at dksX0_clashesIf_0 15 rfl rfl)
theorem dX0_clashesIf_16 : decode cX0_clashesIf 16 = .ok (.ireturn, 1) := dk_172 (dk_at dksX0_clashesIf_0 16 rfl rfl)
theorem dX0_clashesIf_17 : decode cX0_clashesIf 17 = .ok (.iconst 0, 1) := dk_3 (dk_at dksX0_clashesIf_0 17 rfl rfl)
theorem dX0_clashesIf_18 : decode cX0_clashesIf 18 = .ok (.ireturn, 1) := dk_172 (dk_at dksX0_clashesIf_0 18 rfl rfl)
abbrev cX0_farFrom : ByteArray := method_21_code
def yX0_farFrom : MethodName := ⟨RX0, "farFrom", "(LHeirCases;I[J)I"⟩
def dkwX0_farFrom_0 : List UInt8 := [44, 3, 42, 27, 182, 0, 74, 133, 80, 167, 0, 6, 78, 4, 172, 3, 172]
abbrev dktX0_farFrom_0 : List UInt8 := dkwX0_farFrom_0 ++ []
theorem dksX0_farFrom_0 : cX0_farFrom.data.toList.drop 0 = dktX0_farFrom_0 := by decide +kernel
theorem dX0_farFrom_0 : decode cX0_farFrom 0 = .ok (.aload_n 2, 1) := dk_44 (dk_at dksX0_farFrom_0 0 rfl rfl)
theorem dX0_farFrom_1 : decode cX0_farFrom 1 = .ok (.iconst 0, 1) := dk_3 (dk_at dksX0_farFrom_0 1 rfl rfl)
theorem dX0_farFrom_2 : decode cX0_farFrom 2 = .ok (.aload_n 0, 1) := dk_42 (dk_at dksX0_farFrom_0 2 rfl rfl)
theorem dX0_farFrom_3 : decode cX0_farFrom 3 = .ok (.iload_n 1, 1) := dk_27 (dk_at dksX0_farFrom_0 3 rfl rfl)
theorem dX0_farFrom_4 : decode cX0_farFrom 4 = .ok (.invokevirtual 74, 3) := dk_182 0 74 (dk_at dksX0_farFrom_0 4 rfl rfl)
theorem dX0_farFrom_7 : decode cX0_farFrom 7 = .ok (.i2l, 1) := dk_133 (dk_at dksX0_farFrom_0 7 rfl rfl)
theorem dX0_farFrom_8 : decode cX0_farFrom 8 = .ok (.lastore, 1) := dk_80 (dk_at dksX0_farFrom_0 8 rfl rfl)
theorem dX0_farFrom_9 : decode cX0_farFrom 9 = .ok (.goto 6, 3) := dk_167 0 6 (dk_at dksX0_farFrom_0 9 rfl rfl)
theorem dX0_farFrom_12 : decode cX0_farFrom 12 = .ok (.astore_n 3, 1) := dk_78 (dk_at dksX0_farFrom_0 12 rfl rfl)
theorem dX0_farFrom_13 : decode cX0_farFrom 13 = .ok (.iconst 1, 1) := dk_4 (dk_at dksX0_farFrom_0 13 rfl rfl)
theorem dX0_farFrom_14 : decode cX0_farFrom 14 = .ok (.ireturn, 1) := dk_172 (dk_at dksX0_farFrom_0 14 rfl rfl)
theorem dX0_farFrom_15 : decode cX0_farFrom 15 = .ok (.iconst 0, 1) := dk_3 (dk_at dksX0_farFrom_0 15 rfl rfl)
theorem dX0_farFrom_16 : decode cX0_farFrom 16 = .ok (.ireturn, 1) := dk_172 (dk_at dksX0_farFrom_0 16 rfl rfl)
abbrev cX0_gets : ByteArray := method_22_code
def yX0_gets : MethodName := ⟨RX0, "gets", "(LHeirCases;III[J)I"⟩
def dkwX0_gets_1 : List UInt8 := [58, 5, 6, 172, 3, 172]
abbrev dktX0_gets_1 : List UInt8 := dkwX0_gets_1 ++ []
def dkwX0_gets_0 : List UInt8 := [25, 4, 3, 42, 27, 28, 29, 182, 0, 77, 133, 80, 167, 0, 15, 58, 5, 4, 172, 58, 5, 5, 172]
abbrev dktX0_gets_0 : List UInt8 := dkwX0_gets_0 ++ dktX0_gets_1
theorem dksX0_gets_0 : cX0_gets.data.toList.drop 0 = dktX0_gets_0 := by decide +kernel
theorem dksX0_gets_1 : cX0_gets.data.toList.drop 23 = dktX0_gets_1 := dk_seg dksX0_gets_0 23 rfl rfl
theorem dX0_gets_0 : decode cX0_gets 0 = .ok (.aload 4, 2) := dk_25 4 (dk_at dksX0_gets_0 0 rfl rfl)
theorem dX0_gets_2 : decode cX0_gets 2 = .ok (.iconst 0, 1) := dk_3 (dk_at dksX0_gets_0 2 rfl rfl)
theorem dX0_gets_3 : decode cX0_gets 3 = .ok (.aload_n 0, 1) := dk_42 (dk_at dksX0_gets_0 3 rfl rfl)
theorem dX0_gets_4 : decode cX0_gets 4 = .ok (.iload_n 1, 1) := dk_27 (dk_at dksX0_gets_0 4 rfl rfl)
theorem dX0_gets_5 : decode cX0_gets 5 = .ok (.iload_n 2, 1) := dk_28 (dk_at dksX0_gets_0 5 rfl rfl)
theorem dX0_gets_6 : decode cX0_gets 6 = .ok (.iload_n 3, 1) := dk_29 (dk_at dksX0_gets_0 6 rfl rfl)
theorem dX0_gets_7 : decode cX0_gets 7 = .ok (.invokevirtual 77, 3) := dk_182 0 77 (dk_at dksX0_gets_0 7 rfl rfl)
theorem dX0_gets_10 : decode cX0_gets 10 = .ok (.i2l, 1) := dk_133 (dk_at dksX0_gets_0 10 rfl rfl)
theorem dX0_gets_11 : decode cX0_gets 11 = .ok (.lastore, 1) := dk_80 (dk_at dksX0_gets_0 11 rfl rfl)
theorem dX0_gets_12 : decode cX0_gets 12 = .ok (.goto 15, 3) := dk_167 0 15 (dk_at dksX0_gets_0 12 rfl rfl)
theorem dX0_gets_15 : decode cX0_gets 15 = .ok (.astore 5, 2) := dk_58 5 (dk_at dksX0_gets_0 15 rfl rfl)
theorem dX0_gets_17 : decode cX0_gets 17 = .ok (.iconst 1, 1) := dk_4 (dk_at dksX0_gets_0 17 rfl rfl)
theorem dX0_gets_18 : decode cX0_gets 18 = .ok (.ireturn, 1) := dk_172 (dk_at dksX0_gets_0 18 rfl rfl)
theorem dX0_gets_19 : decode cX0_gets 19 = .ok (.astore 5, 2) := dk_58 5 (dk_at dksX0_gets_0 19 rfl rfl)
theorem dX0_gets_21 : decode cX0_gets 21 = .ok (.iconst 2, 1) := dk_5 (dk_at dksX0_gets_0 21 rfl rfl)
theorem dX0_gets_22 : decode cX0_gets 22 = .ok (.ireturn, 1) := dk_172 (dk_at dksX0_gets_0 22 rfl rfl)
theorem dX0_gets_23 : decode cX0_gets 23 = .ok (.astore 5, 2) := dk_58 5 (dk_at dksX0_gets_1 0 rfl rfl)
theorem dX0_gets_25 : decode cX0_gets 25 = .ok (.iconst 3, 1) := dk_6 (dk_at dksX0_gets_1 2 rfl rfl)
theorem dX0_gets_26 : decode cX0_gets 26 = .ok (.ireturn, 1) := dk_172 (dk_at dksX0_gets_1 3 rfl rfl)
theorem dX0_gets_27 : decode cX0_gets 27 = .ok (.iconst 0, 1) := dk_3 (dk_at dksX0_gets_1 4 rfl rfl)
theorem dX0_gets_28 : decode cX0_gets 28 = .ok (.ireturn, 1) := dk_172 (dk_at dksX0_gets_1 5 rfl rfl)
abbrev cX0_duties : ByteArray := method_23_code
def yX0_duties : MethodName := ⟨RX0, "duties", "(LHeirCases;I[J)I"⟩
def dkwX0_duties_0 : List UInt8 := [44, 3, 42, 27, 182, 0, 80, 133, 80, 167, 0, 6, 78, 4, 172, 3, 172]
abbrev dktX0_duties_0 : List UInt8 := dkwX0_duties_0 ++ []
theorem dksX0_duties_0 : cX0_duties.data.toList.drop 0 = dktX0_duties_0 := by decide +kernel
theorem dX0_duties_0 : decode cX0_duties 0 = .ok (.aload_n 2, 1) := dk_44 (dk_at dksX0_duties_0 0 rfl rfl)
theorem dX0_duties_1 : decode cX0_duties 1 = .ok (.iconst 0, 1) := dk_3 (dk_at dksX0_duties_0 1 rfl rfl)
theorem dX0_duties_2 : decode cX0_duties 2 = .ok (.aload_n 0, 1) := dk_42 (dk_at dksX0_duties_0 2 rfl rfl)
theorem dX0_duties_3 : decode cX0_duties 3 = .ok (.iload_n 1, 1) := dk_27 (dk_at dksX0_duties_0 3 rfl rfl)
theorem dX0_duties_4 : decode cX0_duties 4 = .ok (.invokevirtual 80, 3) := dk_182 0 80 (dk_at dksX0_duties_0 4 rfl rfl)
theorem dX0_duties_7 : decode cX0_duties 7 = .ok (.i2l, 1) := dk_133 (dk_at dksX0_duties_0 7 rfl rfl)
theorem dX0_duties_8 : decode cX0_duties 8 = .ok (.lastore, 1) := dk_80 (dk_at dksX0_duties_0 8 rfl rfl)
theorem dX0_duties_9 : decode cX0_duties 9 = .ok (.goto 6, 3) := dk_167 0 6 (dk_at dksX0_duties_0 9 rfl rfl)
theorem dX0_duties_12 : decode cX0_duties 12 = .ok (.astore_n 3, 1) := dk_78 (dk_at dksX0_duties_0 12 rfl rfl)
theorem dX0_duties_13 : decode cX0_duties 13 = .ok (.iconst 1, 1) := dk_4 (dk_at dksX0_duties_0 13 rfl rfl)
theorem dX0_duties_14 : decode cX0_duties 14 = .ok (.ireturn, 1) := dk_172 (dk_at dksX0_duties_0 14 rfl rfl)
theorem dX0_duties_15 : decode cX0_duties 15 = .ok (.iconst 0, 1) := dk_3 (dk_at dksX0_duties_0 15 rfl rfl)
theorem dX0_duties_16 : decode cX0_duties 16 = .ok (.ireturn, 1) := dk_172 (dk_at dksX0_duties_0 16 rfl rfl)
abbrev cX0_writeRule : ByteArray := method_24_code
def yX0_writeRule : MethodName := ⟨RX0, "writeRule", "(LHeirCases;I[J)I"⟩
def dkwX0_writeRule_0 : List UInt8 := [44, 3, 42, 27, 182, 0, 83, 133, 80, 167, 0, 6, 78, 4, 172, 3, 172]
abbrev dktX0_writeRule_0 : List UInt8 := dkwX0_writeRule_0 ++ []
theorem dksX0_writeRule_0 : cX0_writeRule.data.toList.drop 0 = dktX0_writeRule_0 := by decide +kernel
theorem dX0_writeRule_0 : decode cX0_writeRule 0 = .ok (.aload_n 2, 1) := dk_44 (dk_at dksX0_writeRule_0 0 rfl rfl)
theorem dX0_writeRule_1 : decode cX0_writeRule 1 = .ok (.iconst 0, 1) := dk_3 (dk_at dksX0_writeRule_0 1 rfl rfl)
theorem dX0_writeRule_2 : decode cX0_writeRule 2 = .ok (.aload_n 0, 1) := dk_42 (dk_at dksX0_writeRule_0 2 rfl rfl)
theorem dX0_writeRule_3 : decode cX0_writeRule 3 = .ok (.iload_n 1, 1) := dk_27 (dk_at dksX0_writeRule_0 3 rfl rfl)
theorem dX0_writeRule_4 : decode cX0_writeRule 4 = .ok (.invokevirtual 83, 3) := dk_182 0 83 (dk_at dksX0_writeRule_0 4 rfl rfl)
theorem dX0_writeRule_7 : decode cX0_writeRule 7 = .ok (.i2l, 1) := dk_133 (dk_at dksX0_writeRule_0 7 rfl rfl)
theorem dX0_writeRule_8 : decode cX0_writeRule 8 = .ok (.lastore, 1) := dk_80 (dk_at dksX0_writeRule_0 8 rfl rfl)
theorem dX0_writeRule_9 : decode cX0_writeRule 9 = .ok (.goto 6, 3) := dk_167 0 6 (dk_at dksX0_writeRule_0 9 rfl rfl)
theorem dX0_writeRule_12 : decode cX0_writeRule 12 = .ok (.astore_n 3, 1) := dk_78 (dk_at dksX0_writeRule_0 12 rfl rfl)
theorem dX0_writeRule_13 : decode cX0_writeRule 13 = .ok (.iconst 1, 1) := dk_4 (dk_at dksX0_writeRule_0 13 rfl rfl)
theorem dX0_writeRule_14 : decode cX0_writeRule 14 = .ok (.ireturn, 1) := dk_172 (dk_at dksX0_writeRule_0 14 rfl rfl)
theorem dX0_writeRule_15 : decode cX0_writeRule 15 = .ok (.iconst 0, 1) := dk_3 (dk_at dksX0_writeRule_0 15 rfl rfl)
theorem dX0_writeRule_16 : decode cX0_writeRule 16 = .ok (.ireturn, 1) := dk_172 (dk_at dksX0_writeRule_0 16 rfl rfl)
abbrev cX0_addRule : ByteArray := method_25_code
def yX0_addRule : MethodName := ⟨RX0, "addRule", "(LHeirCases;I[J)I"⟩
def dkwX0_addRule_0 : List UInt8 := [44, 3, 42, 27, 182, 0, 86, 133, 80, 167, 0, 6, 78, 4, 172, 3, 172]
abbrev dktX0_addRule_0 : List UInt8 := dkwX0_addRule_0 ++ []
theorem dksX0_addRule_0 : cX0_addRule.data.toList.drop 0 = dktX0_addRule_0 := by decide +kernel
theorem dX0_addRule_0 : decode cX0_addRule 0 = .ok (.aload_n 2, 1) := dk_44 (dk_at dksX0_addRule_0 0 rfl rfl)
theorem dX0_addRule_1 : decode cX0_addRule 1 = .ok (.iconst 0, 1) := dk_3 (dk_at dksX0_addRule_0 1 rfl rfl)
theorem dX0_addRule_2 : decode cX0_addRule 2 = .ok (.aload_n 0, 1) := dk_42 (dk_at dksX0_addRule_0 2 rfl rfl)
theorem dX0_addRule_3 : decode cX0_addRule 3 = .ok (.iload_n 1, 1) := dk_27 (dk_at dksX0_addRule_0 3 rfl rfl)
theorem dX0_addRule_4 : decode cX0_addRule 4 = .ok (.invokevirtual 86, 3) := dk_182 0 86 (dk_at dksX0_addRule_0 4 rfl rfl)
theorem dX0_addRule_7 : decode cX0_addRule 7 = .ok (.i2l, 1) := dk_133 (dk_at dksX0_addRule_0 7 rfl rfl)
theorem dX0_addRule_8 : decode cX0_addRule 8 = .ok (.lastore, 1) := dk_80 (dk_at dksX0_addRule_0 8 rfl rfl)
theorem dX0_addRule_9 : decode cX0_addRule 9 = .ok (.goto 6, 3) := dk_167 0 6 (dk_at dksX0_addRule_0 9 rfl rfl)
theorem dX0_addRule_12 : decode cX0_addRule 12 = .ok (.astore_n 3, 1) := dk_78 (dk_at dksX0_addRule_0 12 rfl rfl)
theorem dX0_addRule_13 : decode cX0_addRule 13 = .ok (.iconst 1, 1) := dk_4 (dk_at dksX0_addRule_0 13 rfl rfl)
theorem dX0_addRule_14 : decode cX0_addRule 14 = .ok (.ireturn, 1) := dk_172 (dk_at dksX0_addRule_0 14 rfl rfl)
theorem dX0_addRule_15 : decode cX0_addRule 15 = .ok (.iconst 0, 1) := dk_3 (dk_at dksX0_addRule_0 15 rfl rfl)
theorem dX0_addRule_16 : decode cX0_addRule 16 = .ok (.ireturn, 1) := dk_172 (dk_at dksX0_addRule_0 16 rfl rfl)
abbrev cX0_dropRule : ByteArray := method_26_code
def yX0_dropRule : MethodName := ⟨RX0, "dropRule", "(LHeirCases;I[J)I"⟩
def dkwX0_dropRule_0 : List UInt8 := [44, 3, 42, 27, 182, 0, 89, 133, 80, 167, 0, 6, 78, 4, 172, 3, 172]
abbrev dktX0_dropRule_0 : List UInt8 := dkwX0_dropRule_0 ++ []
theorem dksX0_dropRule_0 : cX0_dropRule.data.toList.drop 0 = dktX0_dropRule_0 := by decide +kernel
theorem dX0_dropRule_0 : decode cX0_dropRule 0 = .ok (.aload_n 2, 1) := dk_44 (dk_at dksX0_dropRule_0 0 rfl rfl)
theorem dX0_dropRule_1 : decode cX0_dropRule 1 = .ok (.iconst 0, 1) := dk_3 (dk_at dksX0_dropRule_0 1 rfl rfl)
theorem dX0_dropRule_2 : decode cX0_dropRule 2 = .ok (.aload_n 0, 1) := dk_42 (dk_at dksX0_dropRule_0 2 rfl rfl)
theorem dX0_dropRule_3 : decode cX0_dropRule 3 = .ok (.iload_n 1, 1) := dk_27 (dk_at dksX0_dropRule_0 3 rfl rfl)
theorem dX0_dropRule_4 : decode cX0_dropRule 4 = .ok (.invokevirtual 89, 3) := dk_182 0 89 (dk_at dksX0_dropRule_0 4 rfl rfl)
theorem dX0_dropRule_7 : decode cX0_dropRule 7 = .ok (.i2l, 1) := dk_133 (dk_at dksX0_dropRule_0 7 rfl rfl)
theorem dX0_dropRule_8 : decode cX0_dropRule 8 = .ok (.lastore, 1) := dk_80 (dk_at dksX0_dropRule_0 8 rfl rfl)
theorem dX0_dropRule_9 : decode cX0_dropRule 9 = .ok (.goto 6, 3) := dk_167 0 6 (dk_at dksX0_dropRule_0 9 rfl rfl)
theorem dX0_dropRule_12 : decode cX0_dropRule 12 = .ok (.astore_n 3, 1) := dk_78 (dk_at dksX0_dropRule_0 12 rfl rfl)
theorem dX0_dropRule_13 : decode cX0_dropRule 13 = .ok (.iconst 1, 1) := dk_4 (dk_at dksX0_dropRule_0 13 rfl rfl)
theorem dX0_dropRule_14 : decode cX0_dropRule 14 = .ok (.ireturn, 1) := dk_172 (dk_at dksX0_dropRule_0 14 rfl rfl)
theorem dX0_dropRule_15 : decode cX0_dropRule 15 = .ok (.iconst 0, 1) := dk_3 (dk_at dksX0_dropRule_0 15 rfl rfl)
theorem dX0_dropRule_16 : decode cX0_dropRule 16 = .ok (.ireturn, 1) := dk_172 (dk_at dksX0_dropRule_0 16 rfl rfl)
abbrev cX0_setOver : ByteArray := method_27_code
def yX0_setOver : MethodName := ⟨RX0, "setOver", "(LHeirCases;IIZ[J)I"⟩
def dkwX0_setOver_0 : List UInt8 := [25, 4, 3, 42, 27, 28, 29, 182, 0, 92, 133, 80, 167, 0, 7, 58, 5, 4, 172, 3, 172]
abbrev dktX0_setOver_0 : List UInt8 := dkwX0_setOver_0 ++ []
theorem dksX0_setOver_0 : cX0_setOver.data.toList.drop 0 = dktX0_setOver_0 := by decide +kernel
theorem dX0_setOver_0 : decode cX0_setOver 0 = .ok (.aload 4, 2) := dk_25 4 (dk_at dksX0_setOver_0 0 rfl rfl)
theorem dX0_setOver_2 : decode cX0_setOver 2 = .ok (.iconst 0, 1) := dk_3 (dk_at dksX0_setOver_0 2 rfl rfl)
theorem dX0_setOver_3 : decode cX0_setOver 3 = .ok (.aload_n 0, 1) := dk_42 (dk_at dksX0_setOver_0 3 rfl rfl)
theorem dX0_setOver_4 : decode cX0_setOver 4 = .ok (.iload_n 1, 1) := dk_27 (dk_at dksX0_setOver_0 4 rfl rfl)
theorem dX0_setOver_5 : decode cX0_setOver 5 = .ok (.iload_n 2, 1) := dk_28 (dk_at dksX0_setOver_0 5 rfl rfl)
theorem dX0_setOver_6 : decode cX0_setOver 6 = .ok (.iload_n 3, 1) := dk_29 (dk_at dksX0_setOver_0 6 rfl rfl)
theorem dX0_setOver_7 : decode cX0_setOver 7 = .ok (.invokevirtual 92, 3) := dk_182 0 92 (dk_at dksX0_setOver_0 7 rfl rfl)
theorem dX0_setOver_10 : decode cX0_setOver 10 = .ok (.i2l, 1) := dk_133 (dk_at dksX0_setOver_0 10 rfl rfl)
theorem dX0_setOver_11 : decode cX0_setOver 11 = .ok (.lastore, 1) := dk_80 (dk_at dksX0_setOver_0 11 rfl rfl)
theorem dX0_setOver_12 : decode cX0_setOver 12 = .ok (.goto 7, 3) := dk_167 0 7 (dk_at dksX0_setOver_0 12 rfl rfl)
theorem dX0_setOver_15 : decode cX0_setOver 15 = .ok (.astore 5, 2) := dk_58 5 (dk_at dksX0_setOver_0 15 rfl rfl)
theorem dX0_setOver_17 : decode cX0_setOver 17 = .ok (.iconst 1, 1) := dk_4 (dk_at dksX0_setOver_0 17 rfl rfl)
theorem dX0_setOver_18 : decode cX0_setOver 18 = .ok (.ireturn, 1) := dk_172 (dk_at dksX0_setOver_0 18 rfl rfl)
theorem dX0_setOver_19 : decode cX0_setOver 19 = .ok (.iconst 0, 1) := dk_3 (dk_at dksX0_setOver_0 19 rfl rfl)
theorem dX0_setOver_20 : decode cX0_setOver 20 = .ok (.ireturn, 1) := dk_172 (dk_at dksX0_setOver_0 20 rfl rfl)
abbrev cX0_setShare : ByteArray := method_28_code
def yX0_setShare : MethodName := ⟨RX0, "setShare", "(LHeirCases;IIII[J)I"⟩
def dkwX0_setShare_1 : List UInt8 := [172, 3, 172]
abbrev dktX0_setShare_1 : List UInt8 := dkwX0_setShare_1 ++ []
def dkwX0_setShare_0 : List UInt8 := [25, 5, 3, 42, 27, 28, 29, 21, 4, 182, 0, 95, 133, 80, 167, 0, 11, 58, 6, 4, 172, 58, 6, 5]
abbrev dktX0_setShare_0 : List UInt8 := dkwX0_setShare_0 ++ dktX0_setShare_1
theorem dksX0_setShare_0 : cX0_setShare.data.toList.drop 0 = dktX0_setShare_0 := by decide +kernel
theorem dksX0_setShare_1 : cX0_setShare.data.toList.drop 24 = dktX0_setShare_1 := dk_seg dksX0_setShare_0 24 rfl rfl
theorem dX0_setShare_0 : decode cX0_setShare 0 = .ok (.aload 5, 2) := dk_25 5 (dk_at dksX0_setShare_0 0 rfl rfl)
theorem dX0_setShare_2 : decode cX0_setShare 2 = .ok (.iconst 0, 1) := dk_3 (dk_at dksX0_setShare_0 2 rfl rfl)
theorem dX0_setShare_3 : decode cX0_setShare 3 = .ok (.aload_n 0, 1) := dk_42 (dk_at dksX0_setShare_0 3 rfl rfl)
theorem dX0_setShare_4 : decode cX0_setShare 4 = .ok (.iload_n 1, 1) := dk_27 (dk_at dksX0_setShare_0 4 rfl rfl)
theorem dX0_setShare_5 : decode cX0_setShare 5 = .ok (.iload_n 2, 1) := dk_28 (dk_at dksX0_setShare_0 5 rfl rfl)
theorem dX0_setShare_6 : decode cX0_setShare 6 = .ok (.iload_n 3, 1) := dk_29 (dk_at dksX0_setShare_0 6 rfl rfl)
theorem dX0_setShare_7 : decode cX0_setShare 7 = .ok (.iload 4, 2) := dk_21 4 (dk_at dksX0_setShare_0 7 rfl rfl)
theorem dX0_setShare_9 : decode cX0_setShare 9 = .ok (.invokevirtual 95, 3) := dk_182 0 95 (dk_at dksX0_setShare_0 9 rfl rfl)
theorem dX0_setShare_12 : decode cX0_setShare 12 = .ok (.i2l, 1) := dk_133 (dk_at dksX0_setShare_0 12 rfl rfl)
theorem dX0_setShare_13 : decode cX0_setShare 13 = .ok (.lastore, 1) := dk_80 (dk_at dksX0_setShare_0 13 rfl rfl)
theorem dX0_setShare_14 : decode cX0_setShare 14 = .ok (.goto 11, 3) := dk_167 0 11 (dk_at dksX0_setShare_0 14 rfl rfl)
theorem dX0_setShare_17 : decode cX0_setShare 17 = .ok (.astore 6, 2) := dk_58 6 (dk_at dksX0_setShare_0 17 rfl rfl)
theorem dX0_setShare_19 : decode cX0_setShare 19 = .ok (.iconst 1, 1) := dk_4 (dk_at dksX0_setShare_0 19 rfl rfl)
theorem dX0_setShare_20 : decode cX0_setShare 20 = .ok (.ireturn, 1) := dk_172 (dk_at dksX0_setShare_0 20 rfl rfl)
theorem dX0_setShare_21 : decode cX0_setShare 21 = .ok (.astore 6, 2) := dk_58 6 (dk_at dksX0_setShare_0 21 rfl rfl)
theorem dX0_setShare_23 : decode cX0_setShare 23 = .ok (.iconst 2, 1) := dk_5 (dk_at dksX0_setShare_0 23 rfl rfl)
theorem dX0_setShare_24 : decode cX0_setShare 24 = .ok (.ireturn, 1) := dk_172 (dk_at dksX0_setShare_1 0 rfl rfl)
theorem dX0_setShare_25 : decode cX0_setShare 25 = .ok (.iconst 0, 1) := dk_3 (dk_at dksX0_setShare_1 1 rfl rfl)
theorem dX0_setShare_26 : decode cX0_setShare 26 = .ok (.ireturn, 1) := dk_172 (dk_at dksX0_setShare_1 2 rfl rfl)
abbrev cX0_setHeir : ByteArray := method_29_code
def yX0_setHeir : MethodName := ⟨RX0, "setHeir", "(LHeirCases;III[J)I"⟩
def dkwX0_setHeir_1 : List UInt8 := [172]
abbrev dktX0_setHeir_1 : List UInt8 := dkwX0_setHeir_1 ++ []
def dkwX0_setHeir_0 : List UInt8 := [25, 4, 3, 42, 27, 28, 29, 182, 0, 99, 133, 80, 167, 0, 11, 58, 5, 4, 172, 58, 5, 5, 172, 3]
abbrev dktX0_setHeir_0 : List UInt8 := dkwX0_setHeir_0 ++ dktX0_setHeir_1
theorem dksX0_setHeir_0 : cX0_setHeir.data.toList.drop 0 = dktX0_setHeir_0 := by decide +kernel
theorem dksX0_setHeir_1 : cX0_setHeir.data.toList.drop 24 = dktX0_setHeir_1 := dk_seg dksX0_setHeir_0 24 rfl rfl
theorem dX0_setHeir_0 : decode cX0_setHeir 0 = .ok (.aload 4, 2) := dk_25 4 (dk_at dksX0_setHeir_0 0 rfl rfl)
theorem dX0_setHeir_2 : decode cX0_setHeir 2 = .ok (.iconst 0, 1) := dk_3 (dk_at dksX0_setHeir_0 2 rfl rfl)
theorem dX0_setHeir_3 : decode cX0_setHeir 3 = .ok (.aload_n 0, 1) := dk_42 (dk_at dksX0_setHeir_0 3 rfl rfl)
theorem dX0_setHeir_4 : decode cX0_setHeir 4 = .ok (.iload_n 1, 1) := dk_27 (dk_at dksX0_setHeir_0 4 rfl rfl)
theorem dX0_setHeir_5 : decode cX0_setHeir 5 = .ok (.iload_n 2, 1) := dk_28 (dk_at dksX0_setHeir_0 5 rfl rfl)
theorem dX0_setHeir_6 : decode cX0_setHeir 6 = .ok (.iload_n 3, 1) := dk_29 (dk_at dksX0_setHeir_0 6 rfl rfl)
theorem dX0_setHeir_7 : decode cX0_setHeir 7 = .ok (.invokevirtual 99, 3) := dk_182 0 99 (dk_at dksX0_setHeir_0 7 rfl rfl)
theorem dX0_setHeir_10 : decode cX0_setHeir 10 = .ok (.i2l, 1) := dk_133 (dk_at dksX0_setHeir_0 10 rfl rfl)
theorem dX0_setHeir_11 : decode cX0_setHeir 11 = .ok (.lastore, 1) := dk_80 (dk_at dksX0_setHeir_0 11 rfl rfl)
theorem dX0_setHeir_12 : decode cX0_setHeir 12 = .ok (.goto 11, 3) := dk_167 0 11 (dk_at dksX0_setHeir_0 12 rfl rfl)
theorem dX0_setHeir_15 : decode cX0_setHeir 15 = .ok (.astore 5, 2) := dk_58 5 (dk_at dksX0_setHeir_0 15 rfl rfl)
theorem dX0_setHeir_17 : decode cX0_setHeir 17 = .ok (.iconst 1, 1) := dk_4 (dk_at dksX0_setHeir_0 17 rfl rfl)
theorem dX0_setHeir_18 : decode cX0_setHeir 18 = .ok (.ireturn, 1) := dk_172 (dk_at dksX0_setHeir_0 18 rfl rfl)
theorem dX0_setHeir_19 : decode cX0_setHeir 19 = .ok (.astore 5, 2) := dk_58 5 (dk_at dksX0_setHeir_0 19 rfl rfl)
theorem dX0_setHeir_21 : decode cX0_setHeir 21 = .ok (.iconst 2, 1) := dk_5 (dk_at dksX0_setHeir_0 21 rfl rfl)
theorem dX0_setHeir_22 : decode cX0_setHeir 22 = .ok (.ireturn, 1) := dk_172 (dk_at dksX0_setHeir_0 22 rfl rfl)
theorem dX0_setHeir_23 : decode cX0_setHeir 23 = .ok (.iconst 0, 1) := dk_3 (dk_at dksX0_setHeir_0 23 rfl rfl)
theorem dX0_setHeir_24 : decode cX0_setHeir 24 = .ok (.ireturn, 1) := dk_172 (dk_at dksX0_setHeir_1 0 rfl rfl)
abbrev cX0_setRest : ByteArray := method_30_code
def yX0_setRest : MethodName := ⟨RX0, "setRest", "(LHeirCases;I[J)I"⟩
def dkwX0_setRest_0 : List UInt8 := [44, 3, 42, 27, 182, 0, 102, 133, 80, 167, 0, 6, 78, 4, 172, 3, 172]
abbrev dktX0_setRest_0 : List UInt8 := dkwX0_setRest_0 ++ []
theorem dksX0_setRest_0 : cX0_setRest.data.toList.drop 0 = dktX0_setRest_0 := by decide +kernel
theorem dX0_setRest_0 : decode cX0_setRest 0 = .ok (.aload_n 2, 1) := dk_44 (dk_at dksX0_setRest_0 0 rfl rfl)
theorem dX0_setRest_1 : decode cX0_setRest 1 = .ok (.iconst 0, 1) := dk_3 (dk_at dksX0_setRest_0 1 rfl rfl)
theorem dX0_setRest_2 : decode cX0_setRest 2 = .ok (.aload_n 0, 1) := dk_42 (dk_at dksX0_setRest_0 2 rfl rfl)
theorem dX0_setRest_3 : decode cX0_setRest 3 = .ok (.iload_n 1, 1) := dk_27 (dk_at dksX0_setRest_0 3 rfl rfl)
theorem dX0_setRest_4 : decode cX0_setRest 4 = .ok (.invokevirtual 102, 3) := dk_182 0 102 (dk_at dksX0_setRest_0 4 rfl rfl)
theorem dX0_setRest_7 : decode cX0_setRest 7 = .ok (.i2l, 1) := dk_133 (dk_at dksX0_setRest_0 7 rfl rfl)
theorem dX0_setRest_8 : decode cX0_setRest 8 = .ok (.lastore, 1) := dk_80 (dk_at dksX0_setRest_0 8 rfl rfl)
theorem dX0_setRest_9 : decode cX0_setRest 9 = .ok (.goto 6, 3) := dk_167 0 6 (dk_at dksX0_setRest_0 9 rfl rfl)
theorem dX0_setRest_12 : decode cX0_setRest 12 = .ok (.astore_n 3, 1) := dk_78 (dk_at dksX0_setRest_0 12 rfl rfl)
theorem dX0_setRest_13 : decode cX0_setRest 13 = .ok (.iconst 1, 1) := dk_4 (dk_at dksX0_setRest_0 13 rfl rfl)
theorem dX0_setRest_14 : decode cX0_setRest 14 = .ok (.ireturn, 1) := dk_172 (dk_at dksX0_setRest_0 14 rfl rfl)
theorem dX0_setRest_15 : decode cX0_setRest 15 = .ok (.iconst 0, 1) := dk_3 (dk_at dksX0_setRest_0 15 rfl rfl)
theorem dX0_setRest_16 : decode cX0_setRest 16 = .ok (.ireturn, 1) := dk_172 (dk_at dksX0_setRest_0 16 rfl rfl)
abbrev cX0_setEstate : ByteArray := method_31_code
def yX0_setEstate : MethodName := ⟨RX0, "setEstate", "(LHeirCases;I[J)I"⟩
def dkwX0_setEstate_0 : List UInt8 := [44, 3, 42, 27, 182, 0, 105, 133, 80, 167, 0, 6, 78, 4, 172, 3, 172]
abbrev dktX0_setEstate_0 : List UInt8 := dkwX0_setEstate_0 ++ []
theorem dksX0_setEstate_0 : cX0_setEstate.data.toList.drop 0 = dktX0_setEstate_0 := by decide +kernel
theorem dX0_setEstate_0 : decode cX0_setEstate 0 = .ok (.aload_n 2, 1) := dk_44 (dk_at dksX0_setEstate_0 0 rfl rfl)
theorem dX0_setEstate_1 : decode cX0_setEstate 1 = .ok (.iconst 0, 1) := dk_3 (dk_at dksX0_setEstate_0 1 rfl rfl)
theorem dX0_setEstate_2 : decode cX0_setEstate 2 = .ok (.aload_n 0, 1) := dk_42 (dk_at dksX0_setEstate_0 2 rfl rfl)
theorem dX0_setEstate_3 : decode cX0_setEstate 3 = .ok (.iload_n 1, 1) := dk_27 (dk_at dksX0_setEstate_0 3 rfl rfl)
theorem dX0_setEstate_4 : decode cX0_setEstate 4 = .ok (.invokevirtual 105, 3) := dk_182 0 105 (dk_at dksX0_setEstate_0 4 rfl rfl)
theorem dX0_setEstate_7 : decode cX0_setEstate 7 = .ok (.i2l, 1) := dk_133 (dk_at dksX0_setEstate_0 7 rfl rfl)
theorem dX0_setEstate_8 : decode cX0_setEstate 8 = .ok (.lastore, 1) := dk_80 (dk_at dksX0_setEstate_0 8 rfl rfl)
theorem dX0_setEstate_9 : decode cX0_setEstate 9 = .ok (.goto 6, 3) := dk_167 0 6 (dk_at dksX0_setEstate_0 9 rfl rfl)
theorem dX0_setEstate_12 : decode cX0_setEstate 12 = .ok (.astore_n 3, 1) := dk_78 (dk_at dksX0_setEstate_0 12 rfl rfl)
theorem dX0_setEstate_13 : decode cX0_setEstate 13 = .ok (.iconst 1, 1) := dk_4 (dk_at dksX0_setEstate_0 13 rfl rfl)
theorem dX0_setEstate_14 : decode cX0_setEstate 14 = .ok (.ireturn, 1) := dk_172 (dk_at dksX0_setEstate_0 14 rfl rfl)
theorem dX0_setEstate_15 : decode cX0_setEstate 15 = .ok (.iconst 0, 1) := dk_3 (dk_at dksX0_setEstate_0 15 rfl rfl)
theorem dX0_setEstate_16 : decode cX0_setEstate 16 = .ok (.ireturn, 1) := dk_172 (dk_at dksX0_setEstate_0 16 rfl rfl)
abbrev cX0_setValue : ByteArray := method_32_code
def yX0_setValue : MethodName := ⟨RX0, "setValue", "(LHeirCases;II[J)I"⟩
def dkwX0_setValue_0 : List UInt8 := [45, 3, 42, 27, 28, 182, 0, 108, 133, 80, 167, 0, 11, 58, 4, 4, 172, 58, 4, 5, 172, 3, 172]
abbrev dktX0_setValue_0 : List UInt8 := dkwX0_setValue_0 ++ []
theorem dksX0_setValue_0 : cX0_setValue.data.toList.drop 0 = dktX0_setValue_0 := by decide +kernel
theorem dX0_setValue_0 : decode cX0_setValue 0 = .ok (.aload_n 3, 1) := dk_45 (dk_at dksX0_setValue_0 0 rfl rfl)
theorem dX0_setValue_1 : decode cX0_setValue 1 = .ok (.iconst 0, 1) := dk_3 (dk_at dksX0_setValue_0 1 rfl rfl)
theorem dX0_setValue_2 : decode cX0_setValue 2 = .ok (.aload_n 0, 1) := dk_42 (dk_at dksX0_setValue_0 2 rfl rfl)
theorem dX0_setValue_3 : decode cX0_setValue 3 = .ok (.iload_n 1, 1) := dk_27 (dk_at dksX0_setValue_0 3 rfl rfl)
theorem dX0_setValue_4 : decode cX0_setValue 4 = .ok (.iload_n 2, 1) := dk_28 (dk_at dksX0_setValue_0 4 rfl rfl)
theorem dX0_setValue_5 : decode cX0_setValue 5 = .ok (.invokevirtual 108, 3) := dk_182 0 108 (dk_at dksX0_setValue_0 5 rfl rfl)
theorem dX0_setValue_8 : decode cX0_setValue 8 = .ok (.i2l, 1) := dk_133 (dk_at dksX0_setValue_0 8 rfl rfl)
theorem dX0_setValue_9 : decode cX0_setValue 9 = .ok (.lastore, 1) := dk_80 (dk_at dksX0_setValue_0 9 rfl rfl)
theorem dX0_setValue_10 : decode cX0_setValue 10 = .ok (.goto 11, 3) := dk_167 0 11 (dk_at dksX0_setValue_0 10 rfl rfl)
theorem dX0_setValue_13 : decode cX0_setValue 13 = .ok (.astore 4, 2) := dk_58 4 (dk_at dksX0_setValue_0 13 rfl rfl)
theorem dX0_setValue_15 : decode cX0_setValue 15 = .ok (.iconst 1, 1) := dk_4 (dk_at dksX0_setValue_0 15 rfl rfl)
theorem dX0_setValue_16 : decode cX0_setValue 16 = .ok (.ireturn, 1) := dk_172 (dk_at dksX0_setValue_0 16 rfl rfl)
theorem dX0_setValue_17 : decode cX0_setValue 17 = .ok (.astore 4, 2) := dk_58 4 (dk_at dksX0_setValue_0 17 rfl rfl)
theorem dX0_setValue_19 : decode cX0_setValue 19 = .ok (.iconst 2, 1) := dk_5 (dk_at dksX0_setValue_0 19 rfl rfl)
theorem dX0_setValue_20 : decode cX0_setValue 20 = .ok (.ireturn, 1) := dk_172 (dk_at dksX0_setValue_0 20 rfl rfl)
theorem dX0_setValue_21 : decode cX0_setValue 21 = .ok (.iconst 0, 1) := dk_3 (dk_at dksX0_setValue_0 21 rfl rfl)
theorem dX0_setValue_22 : decode cX0_setValue 22 = .ok (.ireturn, 1) := dk_172 (dk_at dksX0_setValue_0 22 rfl rfl)
abbrev cX0_saveSnapshot : ByteArray := method_33_code
def yX0_saveSnapshot : MethodName := ⟨RX0, "saveSnapshot", "(LHeirCases;I[J)I"⟩
def dkwX0_saveSnapshot_0 : List UInt8 := [44, 3, 42, 27, 182, 0, 111, 153, 0, 7, 10, 167, 0, 4, 9, 80, 167, 0, 6, 78, 4, 172, 3, 172]
abbrev dktX0_saveSnapshot_0 : List UInt8 := dkwX0_saveSnapshot_0 ++ []
theorem dksX0_saveSnapshot_0 : cX0_saveSnapshot.data.toList.drop 0 = dktX0_saveSnapshot_0 := by decide +kernel
theorem dX0_saveSnapshot_0 : decode cX0_saveSnapshot 0 = .ok (.aload_n 2, 1) := dk_44 (dk_at dksX0_saveSnapshot_0 0 rfl rfl)
theorem dX0_saveSnapshot_1 : decode cX0_saveSnapshot 1 = .ok (.iconst 0, 1) := dk_3 (dk_at dksX0_saveSnapshot_0 1 rfl rfl)
theorem dX0_saveSnapshot_2 : decode cX0_saveSnapshot 2 = .ok (.aload_n 0, 1) := dk_42 (dk_at dksX0_saveSnapshot_0 2 rfl rfl)
theorem dX0_saveSnapshot_3 : decode cX0_saveSnapshot 3 = .ok (.iload_n 1, 1) := dk_27 (dk_at dksX0_saveSnapshot_0 3 rfl rfl)
theorem dX0_saveSnapshot_4 : decode cX0_saveSnapshot 4 = .ok (.invokevirtual 111, 3) := dk_182 0 111 (dk_at dksX0_saveSnapshot_0 4 rfl rfl)
theorem dX0_saveSnapshot_7 : decode cX0_saveSnapshot 7 = .ok (.ifCond .eq 7, 3) := dk_153 0 7 (dk_at dksX0_saveSnapshot_0 7 rfl rfl)
theorem dX0_saveSnapshot_10 : decode cX0_saveSnapshot 10 = .ok (.lconst 1, 1) := dk_10 (dk_at dksX0_saveSnapshot_0 10 rfl rfl)
theorem dX0_saveSnapshot_11 : decode cX0_saveSnapshot 11 = .ok (.goto 4, 3) := dk_167 0 4 (dk_at dksX0_saveSnapshot_0 11 rfl rfl)
theorem dX0_saveSnapshot_14 : decode cX0_saveSnapshot 14 = .ok (.lconst 0, 1) := dk_9 (dk_at dksX0_saveSnapshot_0 14 rfl rfl)
theorem dX0_saveSnapshot_15 : decode cX0_saveSnapshot 15 = .ok (.lastore, 1) := dk_80 (dk_at dksX0_saveSnapshot_0 15 rfl rfl)
theorem dX0_saveSnapshot_16 : decode cX0_saveSnapshot 16 = .ok (.goto 6, 3) := dk_167 0 6 (dk_at dksX0_saveSnapshot_0 16 rfl rfl)
theorem dX0_saveSnapshot_19 : decode cX0_saveSnapshot 19 = .ok (.astore_n 3, 1) := dk_78 (dk_at dksX0_saveSnapshot_0 19 rfl rfl)
theorem dX0_saveSnapshot_20 : decode cX0_saveSnapshot 20 = .ok (.iconst 1, 1) := dk_4 (dk_at dksX0_saveSnapshot_0 20 rfl rfl)
theorem dX0_saveSnapshot_21 : decode cX0_saveSnapshot 21 = .ok (.ireturn, 1) := dk_172 (dk_at dksX0_saveSnapshot_0 21 rfl rfl)
theorem dX0_saveSnapshot_22 : decode cX0_saveSnapshot 22 = .ok (.iconst 0, 1) := dk_3 (dk_at dksX0_saveSnapshot_0 22 rfl rfl)
theorem dX0_saveSnapshot_23 : decode cX0_saveSnapshot 23 = .ok (.ireturn, 1) := dk_172 (dk_at dksX0_saveSnapshot_0 23 rfl rfl)
abbrev cX0_restoreSnapshot : ByteArray := method_34_code
def yX0_restoreSnapshot : MethodName := ⟨RX0, "restoreSnapshot", "(LHeirCases;I[J)I"⟩
def dkwX0_restoreSnapshot_0 : List UInt8 := [44, 3, 42, 27, 182, 0, 115, 133, 80, 167, 0, 9, 78, 4, 172, 78, 5, 172, 3, 172]
abbrev dktX0_restoreSnapshot_0 : List UInt8 := dkwX0_restoreSnapshot_0 ++ []
theorem dksX0_restoreSnapshot_0 : cX0_restoreSnapshot.data.toList.drop 0 = dktX0_restoreSnapshot_0 := by decide +kernel
theorem dX0_restoreSnapshot_0 : decode cX0_restoreSnapshot 0 = .ok (.aload_n 2, 1) := dk_44 (dk_at dksX0_restoreSnapshot_0 0 rfl rfl)
theorem dX0_restoreSnapshot_1 : decode cX0_restoreSnapshot 1 = .ok (.iconst 0, 1) := dk_3 (dk_at dksX0_restoreSnapshot_0 1 rfl rfl)
theorem dX0_restoreSnapshot_2 : decode cX0_restoreSnapshot 2 = .ok (.aload_n 0, 1) := dk_42 (dk_at dksX0_restoreSnapshot_0 2 rfl rfl)
theorem dX0_restoreSnapshot_3 : decode cX0_restoreSnapshot 3 = .ok (.iload_n 1, 1) := dk_27 (dk_at dksX0_restoreSnapshot_0 3 rfl rfl)
theorem dX0_restoreSnapshot_4 : decode cX0_restoreSnapshot 4 = .ok (.invokevirtual 115, 3) := dk_182 0 115 (dk_at dksX0_restoreSnapshot_0 4 rfl rfl)
theorem dX0_restoreSnapshot_7 : decode cX0_restoreSnapshot 7 = .ok (.i2l, 1) := dk_133 (dk_at dksX0_restoreSnapshot_0 7 rfl rfl)
theorem dX0_restoreSnapshot_8 : decode cX0_restoreSnapshot 8 = .ok (.lastore, 1) := dk_80 (dk_at dksX0_restoreSnapshot_0 8 rfl rfl)
theorem dX0_restoreSnapshot_9 : decode cX0_restoreSnapshot 9 = .ok (.goto 9, 3) := dk_167 0 9 (dk_at dksX0_restoreSnapshot_0 9 rfl rfl)
theorem dX0_restoreSnapshot_12 : decode cX0_restoreSnapshot 12 = .ok (.astore_n 3, 1) := dk_78 (dk_at dksX0_restoreSnapshot_0 12 rfl rfl)
theorem dX0_restoreSnapshot_13 : decode cX0_restoreSnapshot 13 = .ok (.iconst 1, 1) := dk_4 (dk_at dksX0_restoreSnapshot_0 13 rfl rfl)
theorem dX0_restoreSnapshot_14 : decode cX0_restoreSnapshot 14 = .ok (.ireturn, 1) := dk_172 (dk_at dksX0_restoreSnapshot_0 14 rfl rfl)
theorem dX0_restoreSnapshot_15 : decode cX0_restoreSnapshot 15 = .ok (.astore_n 3, 1) := dk_78 (dk_at dksX0_restoreSnapshot_0 15 rfl rfl)
theorem dX0_restoreSnapshot_16 : decode cX0_restoreSnapshot 16 = .ok (.iconst 2, 1) := dk_5 (dk_at dksX0_restoreSnapshot_0 16 rfl rfl)
theorem dX0_restoreSnapshot_17 : decode cX0_restoreSnapshot 17 = .ok (.ireturn, 1) := dk_172 (dk_at dksX0_restoreSnapshot_0 17 rfl rfl)
theorem dX0_restoreSnapshot_18 : decode cX0_restoreSnapshot 18 = .ok (.iconst 0, 1) := dk_3 (dk_at dksX0_restoreSnapshot_0 18 rfl rfl)
theorem dX0_restoreSnapshot_19 : decode cX0_restoreSnapshot 19 = .ok (.ireturn, 1) := dk_172 (dk_at dksX0_restoreSnapshot_0 19 rfl rfl)
theorem q125 : (Jvm.Cond.initialized "HeirCasesLaw") ∈ lw_all := lw_g (lw_at lw_m1 0 rfl) rfl
theorem q167 : (Jvm.Cond.classLink "HeirCasesLaw" (8 : Nat) "HeirCases") ∈ lw_all := lw_g (lw_at lw_m1 42 rfl) rfl
theorem q169 : (Jvm.Cond.methodLink "HeirCasesLaw" (120 : Nat) ({ cls := "HeirCases", name := "<init>", desc := "()V" } : Jvm.MethodName)) ∈ lw_all := lw_g (lw_at lw_m1 44 rfl) rfl
theorem q1188 : (Jvm.Cond.methodLink "HeirCasesLaw" (124 : Nat) ({ cls := "HeirCases", name := "append", desc := "(IIIII)I" } : Jvm.MethodName)) ∈ lw_all := lw_g (lw_at lw_m5 103 rfl) rfl
theorem q1210 : (Jvm.Cond.methodLink "HeirCasesLaw" (181 : Nat) ({ cls := "HeirCases", name := "isClosed", desc := "()Z" } : Jvm.MethodName)) ∈ lw_all := lw_g (lw_at lw_m5 125 rfl) rfl
theorem q1331 : (Jvm.Cond.methodLink "HeirCasesLaw" (192 : Nat) ({ cls := "HeirCases", name := "needed", desc := "()I" } : Jvm.MethodName)) ∈ lw_all := lw_g (lw_at lw_m6 6 rfl) rfl
theorem q1378 : (Jvm.Cond.methodLink "HeirCasesLaw" (196 : Nat) ({ cls := "HeirCases", name := "idle", desc := "()I" } : Jvm.MethodName)) ∈ lw_all := lw_g (lw_at lw_m6 53 rfl) rfl
theorem q1384 : (Jvm.Cond.methodLink "HeirCasesLaw" (206 : Nat) ({ cls := "HeirCases", name := "patch", desc := "()I" } : Jvm.MethodName)) ∈ lw_all := lw_g (lw_at lw_m6 59 rfl) rfl
theorem q1406 : (Jvm.Cond.methodLink "HeirCasesLaw" (219 : Nat) ({ cls := "HeirCases", name := "dearest", desc := "()I" } : Jvm.MethodName)) ∈ lw_all := lw_g (lw_at lw_m6 81 rfl) rfl
theorem q1434 : (Jvm.Cond.methodLink "HeirCasesLaw" (223 : Nat) ({ cls := "HeirCases", name := "gap", desc := "()I" } : Jvm.MethodName)) ∈ lw_all := lw_g (lw_at lw_m6 109 rfl) rfl
theorem q1442 : (Jvm.Cond.methodLink "HeirCasesLaw" (227 : Nat) ({ cls := "HeirCases", name := "settledShare", desc := "()F" } : Jvm.MethodName)) ∈ lw_all := lw_g (lw_at lw_m6 117 rfl) rfl
theorem q1447 : (Jvm.Cond.methodLink "HeirCasesLaw" (232 : Nat) ({ cls := "HeirCases", name := "meanDuties", desc := "()D" } : Jvm.MethodName)) ∈ lw_all := lw_g (lw_at lw_m6 122 rfl) rfl
theorem q1454 : (Jvm.Cond.methodLink "HeirCasesLaw" (240 : Nat) ({ cls := "HeirCases", name := "writeVerdicts", desc := "()I" } : Jvm.MethodName)) ∈ lw_all := lw_g (lw_at lw_m6 129 rfl) rfl
theorem q1476 : (Jvm.Cond.methodLink "HeirCasesLaw" (244 : Nat) ({ cls := "HeirCases", name := "reportAt", desc := "(I)C" } : Jvm.MethodName)) ∈ lw_all := lw_g (lw_at lw_m6 151 rfl) rfl
theorem q1481 : (Jvm.Cond.methodLink "HeirCasesLaw" (274 : Nat) ({ cls := "HeirCases", name := "undo", desc := "()I" } : Jvm.MethodName)) ∈ lw_all := lw_g (lw_at lw_m6 156 rfl) rfl
theorem q1528 : (Jvm.Cond.methodLink "HeirCasesLaw" (284 : Nat) ({ cls := "HeirCases", name := "checksum", desc := "()J" } : Jvm.MethodName)) ∈ lw_all := lw_g (lw_at lw_m6 203 rfl) rfl
theorem q1637 : (Jvm.Cond.methodLink "HeirCasesLaw" (129 : Nat) ({ cls := "HeirCasesLaw", name := "parse", desc := "(LHeirCases;I[J)I" } : Jvm.MethodName)) ∈ lw_all := lw_g (lw_at lw_m7 72 rfl) rfl
theorem q1638 : (Jvm.Cond.static ({ cls := "HeirCasesLaw", name := "parse", desc := "(LHeirCases;I[J)I" } : Jvm.MethodName)) ∈ lw_all := lw_g (lw_at lw_m7 73 rfl) rfl
theorem q1639 : (Jvm.Cond.codeWith ({ cls := "HeirCasesLaw", name := "parse", desc := "(LHeirCases;I[J)I" } : Jvm.MethodName) method_3_code (4 : Nat) (Option.some Jvm.ClassFile.FieldType.int) [((0 : Nat), (9 : Nat), (12 : Nat), (13 : Nat))]) ∈ lw_all := lw_g (lw_at lw_m7 74 rfl) rfl
theorem q1640 : (Jvm.Cond.classLink "HeirCasesLaw" (13 : Nat) "java/lang/IllegalArgumentException") ∈ lw_all := lw_g (lw_at lw_m7 75 rfl) rfl
theorem q1641 : (Jvm.Cond.methodLink "HeirCasesLaw" (7 : Nat) ({ cls := "HeirCases", name := "parse", desc := "(I)I" } : Jvm.MethodName)) ∈ lw_all := lw_g (lw_at lw_m7 76 rfl) rfl
theorem q1716 : (Jvm.Cond.methodLink "HeirCasesLaw" (139 : Nat) ({ cls := "HeirCasesLaw", name := "load", desc := "(LHeirCases;I[J)I" } : Jvm.MethodName)) ∈ lw_all := lw_g (lw_at lw_m7 151 rfl) rfl
theorem q1717 : (Jvm.Cond.static ({ cls := "HeirCasesLaw", name := "load", desc := "(LHeirCases;I[J)I" } : Jvm.MethodName)) ∈ lw_all := lw_g (lw_at lw_m7 152 rfl) rfl
theorem q1718 : (Jvm.Cond.codeWith ({ cls := "HeirCasesLaw", name := "load", desc := "(LHeirCases;I[J)I" } : Jvm.MethodName) method_4_code (4 : Nat) (Option.some Jvm.ClassFile.FieldType.int) [((0 : Nat), (9 : Nat), (12 : Nat), (13 : Nat))]) ∈ lw_all := lw_g (lw_at lw_m7 153 rfl) rfl
theorem q1719 : (Jvm.Cond.methodLink "HeirCasesLaw" (15 : Nat) ({ cls := "HeirCases", name := "load", desc := "(I)I" } : Jvm.MethodName)) ∈ lw_all := lw_g (lw_at lw_m7 154 rfl) rfl
theorem q1723 : (Jvm.Cond.methodLink "HeirCasesLaw" (142 : Nat) ({ cls := "HeirCasesLaw", name := "size", desc := "(LHeirCases;I[J)I" } : Jvm.MethodName)) ∈ lw_all := lw_g (lw_at lw_m7 158 rfl) rfl
theorem q1724 : (Jvm.Cond.static ({ cls := "HeirCasesLaw", name := "size", desc := "(LHeirCases;I[J)I" } : Jvm.MethodName)) ∈ lw_all := lw_g (lw_at lw_m7 159 rfl) rfl
theorem q1725 : (Jvm.Cond.codeWith ({ cls := "HeirCasesLaw", name := "size", desc := "(LHeirCases;I[J)I" } : Jvm.MethodName) method_5_code (4 : Nat) (Option.some Jvm.ClassFile.FieldType.int) [((0 : Nat), (9 : Nat), (12 : Nat), (13 : Nat))]) ∈ lw_all := lw_g (lw_at lw_m7 160 rfl) rfl
theorem q1726 : (Jvm.Cond.methodLink "HeirCasesLaw" (18 : Nat) ({ cls := "HeirCases", name := "size", desc := "(I)I" } : Jvm.MethodName)) ∈ lw_all := lw_g (lw_at lw_m7 161 rfl) rfl
theorem q1727 : (Jvm.Cond.methodLink "HeirCasesLaw" (145 : Nat) ({ cls := "HeirCasesLaw", name := "values", desc := "(LHeirCases;I[J)I" } : Jvm.MethodName)) ∈ lw_all := lw_g (lw_at lw_m7 162 rfl) rfl
theorem q1728 : (Jvm.Cond.static ({ cls := "HeirCasesLaw", name := "values", desc := "(LHeirCases;I[J)I" } : Jvm.MethodName)) ∈ lw_all := lw_g (lw_at lw_m7 163 rfl) rfl
theorem q1729 : (Jvm.Cond.codeWith ({ cls := "HeirCasesLaw", name := "values", desc := "(LHeirCases;I[J)I" } : Jvm.MethodName) method_6_code (4 : Nat) (Option.some Jvm.ClassFile.FieldType.int) [((0 : Nat), (9 : Nat), (12 : Nat), (24 : Nat))]) ∈ lw_all := lw_g (lw_at lw_m7 164 rfl) rfl
theorem q1730 : (Jvm.Cond.classLink "HeirCasesLaw" (24 : Nat) "java/lang/IndexOutOfBoundsException") ∈ lw_all := lw_g (lw_at lw_m7 165 rfl) rfl
theorem q1733 : (Jvm.Cond.methodLink "HeirCasesLaw" (21 : Nat) ({ cls := "HeirCases", name := "values", desc := "(I)I" } : Jvm.MethodName)) ∈ lw_all := lw_g (lw_at lw_m7 168 rfl) rfl
theorem q1741 : (Jvm.Cond.methodLink "HeirCasesLaw" (148 : Nat) ({ cls := "HeirCasesLaw", name := "valueIn", desc := "(LHeirCases;II[J)I" } : Jvm.MethodName)) ∈ lw_all := lw_g (lw_at lw_m7 176 rfl) rfl
theorem q1742 : (Jvm.Cond.static ({ cls := "HeirCasesLaw", name := "valueIn", desc := "(LHeirCases;II[J)I" } : Jvm.MethodName)) ∈ lw_all := lw_g (lw_at lw_m7 177 rfl) rfl
theorem q1743 : (Jvm.Cond.codeWith ({ cls := "HeirCasesLaw", name := "valueIn", desc := "(LHeirCases;II[J)I" } : Jvm.MethodName) method_7_code (5 : Nat) (Option.some Jvm.ClassFile.FieldType.int) [((0 : Nat), (10 : Nat), (13 : Nat), (30 : Nat)), ((0 : Nat), (10 : Nat), (17 : Nat), (24 : Nat))]) ∈ lw_all := lw_g (lw_at lw_m7 178 rfl) rfl
theorem q1744 : (Jvm.Cond.classLink "HeirCasesLaw" (30 : Nat) "java/util/NoSuchElementException") ∈ lw_all := lw_g (lw_at lw_m7 179 rfl) rfl
theorem q1745 : (Jvm.Cond.methodLink "HeirCasesLaw" (26 : Nat) ({ cls := "HeirCases", name := "valueIn", desc := "(II)I" } : Jvm.MethodName)) ∈ lw_all := lw_g (lw_at lw_m7 180 rfl) rfl
theorem q1749 : (Jvm.Cond.methodLink "HeirCasesLaw" (152 : Nat) ({ cls := "HeirCasesLaw", name := "heir", desc := "(LHeirCases;II[J)I" } : Jvm.MethodName)) ∈ lw_all := lw_g (lw_at lw_m7 184 rfl) rfl
theorem q1750 : (Jvm.Cond.static ({ cls := "HeirCasesLaw", name := "heir", desc := "(LHeirCases;II[J)I" } : Jvm.MethodName)) ∈ lw_all := lw_g (lw_at lw_m7 185 rfl) rfl
theorem q1751 : (Jvm.Cond.codeWith ({ cls := "HeirCasesLaw", name := "heir", desc := "(LHeirCases;II[J)I" } : Jvm.MethodName) method_8_code (5 : Nat) (Option.some Jvm.ClassFile.FieldType.int) [((0 : Nat), (10 : Nat), (13 : Nat), (24 : Nat)), ((0 : Nat), (10 : Nat), (17 : Nat), (13 : Nat))]) ∈ lw_all := lw_g (lw_at lw_m7 186 rfl) rfl
theorem q1752 : (Jvm.Cond.methodLink "HeirCasesLaw" (32 : Nat) ({ cls := "HeirCases", name := "heir", desc := "(II)I" } : Jvm.MethodName)) ∈ lw_all := lw_g (lw_at lw_m7 187 rfl) rfl
theorem q1753 : (Jvm.Cond.methodLink "HeirCasesLaw" (155 : Nat) ({ cls := "HeirCasesLaw", name := "rule", desc := "(LHeirCases;II[J)I" } : Jvm.MethodName)) ∈ lw_all := lw_g (lw_at lw_m7 188 rfl) rfl
theorem q1754 : (Jvm.Cond.static ({ cls := "HeirCasesLaw", name := "rule", desc := "(LHeirCases;II[J)I" } : Jvm.MethodName)) ∈ lw_all := lw_g (lw_at lw_m7 189 rfl) rfl
theorem q1755 : (Jvm.Cond.codeWith ({ cls := "HeirCasesLaw", name := "rule", desc := "(LHeirCases;II[J)I" } : Jvm.MethodName) method_9_code (5 : Nat) (Option.some Jvm.ClassFile.FieldType.int) [((0 : Nat), (10 : Nat), (13 : Nat), (24 : Nat)), ((0 : Nat), (10 : Nat), (17 : Nat), (13 : Nat))]) ∈ lw_all := lw_g (lw_at lw_m7 190 rfl) rfl
theorem q1756 : (Jvm.Cond.methodLink "HeirCasesLaw" (35 : Nat) ({ cls := "HeirCases", name := "rule", desc := "(II)I" } : Jvm.MethodName)) ∈ lw_all := lw_g (lw_at lw_m7 191 rfl) rfl
theorem q1757 : (Jvm.Cond.methodLink "HeirCasesLaw" (158 : Nat) ({ cls := "HeirCasesLaw", name := "share", desc := "(LHeirCases;IIZ[J)I" } : Jvm.MethodName)) ∈ lw_all := lw_g (lw_at lw_m7 192 rfl) rfl
theorem q1758 : (Jvm.Cond.static ({ cls := "HeirCasesLaw", name := "share", desc := "(LHeirCases;IIZ[J)I" } : Jvm.MethodName)) ∈ lw_all := lw_g (lw_at lw_m7 193 rfl) rfl
theorem q1759 : (Jvm.Cond.codeWith ({ cls := "HeirCasesLaw", name := "share", desc := "(LHeirCases;IIZ[J)I" } : Jvm.MethodName) method_10_code (6 : Nat) (Option.some Jvm.ClassFile.FieldType.int) [((0 : Nat), (12 : Nat), (15 : Nat), (24 : Nat))]) ∈ lw_all := lw_g (lw_at lw_m7 194 rfl) rfl
theorem q1760 : (Jvm.Cond.methodLink "HeirCasesLaw" (38 : Nat) ({ cls := "HeirCases", name := "share", desc := "(IIZ)I" } : Jvm.MethodName)) ∈ lw_all := lw_g (lw_at lw_m7 195 rfl) rfl
theorem q1761 : (Jvm.Cond.methodLink "HeirCasesLaw" (162 : Nat) ({ cls := "HeirCasesLaw", name := "applies", desc := "(LHeirCases;II[J)I" } : Jvm.MethodName)) ∈ lw_all := lw_g (lw_at lw_m7 196 rfl) rfl
theorem q1762 : (Jvm.Cond.static ({ cls := "HeirCasesLaw", name := "applies", desc := "(LHeirCases;II[J)I" } : Jvm.MethodName)) ∈ lw_all := lw_g (lw_at lw_m7 197 rfl) rfl
theorem q1763 : (Jvm.Cond.codeWith ({ cls := "HeirCasesLaw", name := "applies", desc := "(LHeirCases;II[J)I" } : Jvm.MethodName) method_11_code (5 : Nat) (Option.some Jvm.ClassFile.FieldType.int) [((0 : Nat), (17 : Nat), (20 : Nat), (30 : Nat)), ((0 : Nat), (17 : Nat), (24 : Nat), (24 : Nat))]) ∈ lw_all := lw_g (lw_at lw_m7 198 rfl) rfl
theorem q1764 : (Jvm.Cond.methodLink "HeirCasesLaw" (42 : Nat) ({ cls := "HeirCases", name := "applies", desc := "(II)Z" } : Jvm.MethodName)) ∈ lw_all := lw_g (lw_at lw_m7 199 rfl) rfl
theorem q1768 : (Jvm.Cond.methodLink "HeirCasesLaw" (165 : Nat) ({ cls := "HeirCasesLaw", name := "applying", desc := "(LHeirCases;I[J)I" } : Jvm.MethodName)) ∈ lw_all := lw_g (lw_at lw_m7 203 rfl) rfl
theorem q1769 : (Jvm.Cond.static ({ cls := "HeirCasesLaw", name := "applying", desc := "(LHeirCases;I[J)I" } : Jvm.MethodName)) ∈ lw_all := lw_g (lw_at lw_m7 204 rfl) rfl
theorem q1770 : (Jvm.Cond.codeWith ({ cls := "HeirCasesLaw", name := "applying", desc := "(LHeirCases;I[J)I" } : Jvm.MethodName) method_12_code (4 : Nat) (Option.some Jvm.ClassFile.FieldType.int) [((0 : Nat), (9 : Nat), (12 : Nat), (30 : Nat))]) ∈ lw_all := lw_g (lw_at lw_m7 205 rfl) rfl
theorem q1771 : (Jvm.Cond.methodLink "HeirCasesLaw" (46 : Nat) ({ cls := "HeirCases", name := "applying", desc := "(I)I" } : Jvm.MethodName)) ∈ lw_all := lw_g (lw_at lw_m7 206 rfl) rfl
theorem q1775 : (Jvm.Cond.methodLink "HeirCasesLaw" (168 : Nat) ({ cls := "HeirCasesLaw", name := "verdict", desc := "(LHeirCases;I[J)I" } : Jvm.MethodName)) ∈ lw_all := lw_g (lw_at lw_m7 210 rfl) rfl
theorem q1776 : (Jvm.Cond.static ({ cls := "HeirCasesLaw", name := "verdict", desc := "(LHeirCases;I[J)I" } : Jvm.MethodName)) ∈ lw_all := lw_g (lw_at lw_m7 211 rfl) rfl
theorem q1777 : (Jvm.Cond.codeWith ({ cls := "HeirCasesLaw", name := "verdict", desc := "(LHeirCases;I[J)I" } : Jvm.MethodName) method_13_code (4 : Nat) (Option.some Jvm.ClassFile.FieldType.int) [((0 : Nat), (9 : Nat), (12 : Nat), (30 : Nat))]) ∈ lw_all := lw_g (lw_at lw_m7 212 rfl) rfl
theorem q1778 : (Jvm.Cond.methodLink "HeirCasesLaw" (49 : Nat) ({ cls := "HeirCases", name := "verdict", desc := "(I)I" } : Jvm.MethodName)) ∈ lw_all := lw_g (lw_at lw_m7 213 rfl) rfl
theorem q1779 : (Jvm.Cond.methodLink "HeirCasesLaw" (171 : Nat) ({ cls := "HeirCasesLaw", name := "settledBy", desc := "(LHeirCases;I[J)I" } : Jvm.MethodName)) ∈ lw_all := lw_g (lw_at lw_m7 214 rfl) rfl
theorem q1780 : (Jvm.Cond.static ({ cls := "HeirCasesLaw", name := "settledBy", desc := "(LHeirCases;I[J)I" } : Jvm.MethodName)) ∈ lw_all := lw_g (lw_at lw_m7 215 rfl) rfl
theorem q1781 : (Jvm.Cond.codeWith ({ cls := "HeirCasesLaw", name := "settledBy", desc := "(LHeirCases;I[J)I" } : Jvm.MethodName) method_14_code (4 : Nat) (Option.some Jvm.ClassFile.FieldType.int) [((0 : Nat), (9 : Nat), (12 : Nat), (30 : Nat))]) ∈ lw_all := lw_g (lw_at lw_m7 216 rfl) rfl
theorem q1782 : (Jvm.Cond.methodLink "HeirCasesLaw" (52 : Nat) ({ cls := "HeirCases", name := "settledBy", desc := "(I)I" } : Jvm.MethodName)) ∈ lw_all := lw_g (lw_at lw_m7 217 rfl) rfl
theorem q1783 : (Jvm.Cond.methodLink "HeirCasesLaw" (174 : Nat) ({ cls := "HeirCasesLaw", name := "why", desc := "(LHeirCases;III[J)I" } : Jvm.MethodName)) ∈ lw_all := lw_g (lw_at lw_m7 218 rfl) rfl
theorem q1784 : (Jvm.Cond.static ({ cls := "HeirCasesLaw", name := "why", desc := "(LHeirCases;III[J)I" } : Jvm.MethodName)) ∈ lw_all := lw_g (lw_at lw_m7 219 rfl) rfl
theorem q1785 : (Jvm.Cond.codeWith ({ cls := "HeirCasesLaw", name := "why", desc := "(LHeirCases;III[J)I" } : Jvm.MethodName) method_15_code (6 : Nat) (Option.some Jvm.ClassFile.FieldType.int) [((0 : Nat), (12 : Nat), (15 : Nat), (30 : Nat)), ((0 : Nat), (12 : Nat), (19 : Nat), (24 : Nat)), ((0 : Nat), (12 : Nat), (23 : Nat), (13 : Nat))]) ∈ lw_all := lw_g (lw_at lw_m7 220 rfl) rfl
theorem q1786 : (Jvm.Cond.methodLink "HeirCasesLaw" (55 : Nat) ({ cls := "HeirCases", name := "why", desc := "(III)I" } : Jvm.MethodName)) ∈ lw_all := lw_g (lw_at lw_m7 221 rfl) rfl
theorem q1801 : (Jvm.Cond.methodLink "HeirCasesLaw" (178 : Nat) ({ cls := "HeirCasesLaw", name := "example", desc := "(LHeirCases;II[J)I" } : Jvm.MethodName)) ∈ lw_all := lw_g (lw_at lw_m7 236 rfl) rfl
theorem q1802 : (Jvm.Cond.static ({ cls := "HeirCasesLaw", name := "example", desc := "(LHeirCases;II[J)I" } : Jvm.MethodName)) ∈ lw_all := lw_g (lw_at lw_m7 237 rfl) rfl
theorem q1803 : (Jvm.Cond.codeWith ({ cls := "HeirCasesLaw", name := "example", desc := "(LHeirCases;II[J)I" } : Jvm.MethodName) method_16_code (5 : Nat) (Option.some Jvm.ClassFile.FieldType.int) [((0 : Nat), (10 : Nat), (13 : Nat), (13 : Nat))]) ∈ lw_all := lw_g (lw_at lw_m7 238 rfl) rfl
theorem q1804 : (Jvm.Cond.methodLink "HeirCasesLaw" (59 : Nat) ({ cls := "HeirCases", name := "example", desc := "(II)I" } : Jvm.MethodName)) ∈ lw_all := lw_g (lw_at lw_m7 239 rfl) rfl
theorem q1808 : (Jvm.Cond.methodLink "HeirCasesLaw" (186 : Nat) ({ cls := "HeirCasesLaw", name := "isWider", desc := "(LHeirCases;II[J)I" } : Jvm.MethodName)) ∈ lw_all := lw_g (lw_at lw_m8 3 rfl) rfl
theorem q1809 : (Jvm.Cond.static ({ cls := "HeirCasesLaw", name := "isWider", desc := "(LHeirCases;II[J)I" } : Jvm.MethodName)) ∈ lw_all := lw_g (lw_at lw_m8 4 rfl) rfl
theorem q1810 : (Jvm.Cond.codeWith ({ cls := "HeirCasesLaw", name := "isWider", desc := "(LHeirCases;II[J)I" } : Jvm.MethodName) method_17_code (5 : Nat) (Option.some Jvm.ClassFile.FieldType.int) [((0 : Nat), (17 : Nat), (20 : Nat), (24 : Nat))]) ∈ lw_all := lw_g (lw_at lw_m8 5 rfl) rfl
theorem q1811 : (Jvm.Cond.methodLink "HeirCasesLaw" (62 : Nat) ({ cls := "HeirCases", name := "isWider", desc := "(II)Z" } : Jvm.MethodName)) ∈ lw_all := lw_g (lw_at lw_m8 6 rfl) rfl
theorem q1819 : (Jvm.Cond.methodLink "HeirCasesLaw" (189 : Nat) ({ cls := "HeirCasesLaw", name := "common", desc := "(LHeirCases;II[J)I" } : Jvm.MethodName)) ∈ lw_all := lw_g (lw_at lw_m8 14 rfl) rfl
theorem q1820 : (Jvm.Cond.static ({ cls := "HeirCasesLaw", name := "common", desc := "(LHeirCases;II[J)I" } : Jvm.MethodName)) ∈ lw_all := lw_g (lw_at lw_m8 15 rfl) rfl
theorem q1821 : (Jvm.Cond.codeWith ({ cls := "HeirCasesLaw", name := "common", desc := "(LHeirCases;II[J)I" } : Jvm.MethodName) method_18_code (5 : Nat) (Option.some Jvm.ClassFile.FieldType.int) [((0 : Nat), (10 : Nat), (13 : Nat), (24 : Nat))]) ∈ lw_all := lw_g (lw_at lw_m8 16 rfl) rfl
theorem q1822 : (Jvm.Cond.methodLink "HeirCasesLaw" (65 : Nat) ({ cls := "HeirCases", name := "common", desc := "(II)I" } : Jvm.MethodName)) ∈ lw_all := lw_g (lw_at lw_m8 17 rfl) rfl
theorem q1829 : (Jvm.Cond.methodLink "HeirCasesLaw" (200 : Nat) ({ cls := "HeirCasesLaw", name := "gapsWithout", desc := "(LHeirCases;I[J)I" } : Jvm.MethodName)) ∈ lw_all := lw_g (lw_at lw_m8 24 rfl) rfl
theorem q1830 : (Jvm.Cond.static ({ cls := "HeirCasesLaw", name := "gapsWithout", desc := "(LHeirCases;I[J)I" } : Jvm.MethodName)) ∈ lw_all := lw_g (lw_at lw_m8 25 rfl) rfl
theorem q1831 : (Jvm.Cond.codeWith ({ cls := "HeirCasesLaw", name := "gapsWithout", desc := "(LHeirCases;I[J)I" } : Jvm.MethodName) method_19_code (4 : Nat) (Option.some Jvm.ClassFile.FieldType.int) [((0 : Nat), (9 : Nat), (12 : Nat), (24 : Nat))]) ∈ lw_all := lw_g (lw_at lw_m8 26 rfl) rfl
theorem q1832 : (Jvm.Cond.methodLink "HeirCasesLaw" (68 : Nat) ({ cls := "HeirCases", name := "gapsWithout", desc := "(I)I" } : Jvm.MethodName)) ∈ lw_all := lw_g (lw_at lw_m8 27 rfl) rfl
theorem q1838 : (Jvm.Cond.methodLink "HeirCasesLaw" (203 : Nat) ({ cls := "HeirCasesLaw", name := "clashesIf", desc := "(LHeirCases;II[J)I" } : Jvm.MethodName)) ∈ lw_all := lw_g (lw_at lw_m8 33 rfl) rfl
theorem q1839 : (Jvm.Cond.static ({ cls := "HeirCasesLaw", name := "clashesIf", desc := "(LHeirCases;II[J)I" } : Jvm.MethodName)) ∈ lw_all := lw_g (lw_at lw_m8 34 rfl) rfl
theorem q1840 : (Jvm.Cond.codeWith ({ cls := "HeirCasesLaw", name := "clashesIf", desc := "(LHeirCases;II[J)I" } : Jvm.MethodName) method_20_code (5 : Nat) (Option.some Jvm.ClassFile.FieldType.int) [((0 : Nat), (10 : Nat), (13 : Nat), (24 : Nat))]) ∈ lw_all := lw_g (lw_at lw_m8 35 rfl) rfl
theorem q1841 : (Jvm.Cond.methodLink "HeirCasesLaw" (71 : Nat) ({ cls := "HeirCases", name := "clashesIf", desc := "(II)I" } : Jvm.MethodName)) ∈ lw_all := lw_g (lw_at lw_m8 36 rfl) rfl
theorem q1847 : (Jvm.Cond.methodLink "HeirCasesLaw" (210 : Nat) ({ cls := "HeirCasesLaw", name := "farFrom", desc := "(LHeirCases;I[J)I" } : Jvm.MethodName)) ∈ lw_all := lw_g (lw_at lw_m8 42 rfl) rfl
theorem q1848 : (Jvm.Cond.static ({ cls := "HeirCasesLaw", name := "farFrom", desc := "(LHeirCases;I[J)I" } : Jvm.MethodName)) ∈ lw_all := lw_g (lw_at lw_m8 43 rfl) rfl
theorem q1849 : (Jvm.Cond.codeWith ({ cls := "HeirCasesLaw", name := "farFrom", desc := "(LHeirCases;I[J)I" } : Jvm.MethodName) method_21_code (4 : Nat) (Option.some Jvm.ClassFile.FieldType.int) [((0 : Nat), (9 : Nat), (12 : Nat), (24 : Nat))]) ∈ lw_all := lw_g (lw_at lw_m8 44 rfl) rfl
theorem q1850 : (Jvm.Cond.methodLink "HeirCasesLaw" (74 : Nat) ({ cls := "HeirCases", name := "farFrom", desc := "(I)I" } : Jvm.MethodName)) ∈ lw_all := lw_g (lw_at lw_m8 45 rfl) rfl
theorem q1859 : (Jvm.Cond.methodLink "HeirCasesLaw" (213 : Nat) ({ cls := "HeirCasesLaw", name := "gets", desc := "(LHeirCases;III[J)I" } : Jvm.MethodName)) ∈ lw_all := lw_g (lw_at lw_m8 54 rfl) rfl
theorem q1860 : (Jvm.Cond.static ({ cls := "HeirCasesLaw", name := "gets", desc := "(LHeirCases;III[J)I" } : Jvm.MethodName)) ∈ lw_all := lw_g (lw_at lw_m8 55 rfl) rfl
theorem q1861 : (Jvm.Cond.codeWith ({ cls := "HeirCasesLaw", name := "gets", desc := "(LHeirCases;III[J)I" } : Jvm.MethodName) method_22_code (6 : Nat) (Option.some Jvm.ClassFile.FieldType.int) [((0 : Nat), (12 : Nat), (15 : Nat), (30 : Nat)), ((0 : Nat), (12 : Nat), (19 : Nat), (24 : Nat)), ((0 : Nat), (12 : Nat), (23 : Nat), (13 : Nat))]) ∈ lw_all := lw_g (lw_at lw_m8 56 rfl) rfl
theorem q1862 : (Jvm.Cond.methodLink "HeirCasesLaw" (77 : Nat) ({ cls := "HeirCases", name := "gets", desc := "(III)I" } : Jvm.MethodName)) ∈ lw_all := lw_g (lw_at lw_m8 57 rfl) rfl
theorem q1866 : (Jvm.Cond.methodLink "HeirCasesLaw" (216 : Nat) ({ cls := "HeirCasesLaw", name := "duties", desc := "(LHeirCases;I[J)I" } : Jvm.MethodName)) ∈ lw_all := lw_g (lw_at lw_m8 61 rfl) rfl
theorem q1867 : (Jvm.Cond.static ({ cls := "HeirCasesLaw", name := "duties", desc := "(LHeirCases;I[J)I" } : Jvm.MethodName)) ∈ lw_all := lw_g (lw_at lw_m8 62 rfl) rfl
theorem q1868 : (Jvm.Cond.codeWith ({ cls := "HeirCasesLaw", name := "duties", desc := "(LHeirCases;I[J)I" } : Jvm.MethodName) method_23_code (4 : Nat) (Option.some Jvm.ClassFile.FieldType.int) [((0 : Nat), (9 : Nat), (12 : Nat), (30 : Nat))]) ∈ lw_all := lw_g (lw_at lw_m8 63 rfl) rfl
theorem q1869 : (Jvm.Cond.methodLink "HeirCasesLaw" (80 : Nat) ({ cls := "HeirCases", name := "duties", desc := "(I)I" } : Jvm.MethodName)) ∈ lw_all := lw_g (lw_at lw_m8 64 rfl) rfl
theorem q1873 : (Jvm.Cond.methodLink "HeirCasesLaw" (237 : Nat) ({ cls := "HeirCasesLaw", name := "writeRule", desc := "(LHeirCases;I[J)I" } : Jvm.MethodName)) ∈ lw_all := lw_g (lw_at lw_m8 68 rfl) rfl
theorem q1874 : (Jvm.Cond.static ({ cls := "HeirCasesLaw", name := "writeRule", desc := "(LHeirCases;I[J)I" } : Jvm.MethodName)) ∈ lw_all := lw_g (lw_at lw_m8 69 rfl) rfl
theorem q1875 : (Jvm.Cond.codeWith ({ cls := "HeirCasesLaw", name := "writeRule", desc := "(LHeirCases;I[J)I" } : Jvm.MethodName) method_24_code (4 : Nat) (Option.some Jvm.ClassFile.FieldType.int) [((0 : Nat), (9 : Nat), (12 : Nat), (24 : Nat))]) ∈ lw_all := lw_g (lw_at lw_m8 70 rfl) rfl
theorem q1876 : (Jvm.Cond.methodLink "HeirCasesLaw" (83 : Nat) ({ cls := "HeirCases", name := "writeRule", desc := "(I)I" } : Jvm.MethodName)) ∈ lw_all := lw_g (lw_at lw_m8 71 rfl) rfl
theorem q1953 : (Jvm.Cond.methodLink "HeirCasesLaw" (249 : Nat) ({ cls := "HeirCasesLaw", name := "addRule", desc := "(LHeirCases;I[J)I" } : Jvm.MethodName)) ∈ lw_all := lw_g (lw_at lw_m8 148 rfl) rfl
theorem q1954 : (Jvm.Cond.static ({ cls := "HeirCasesLaw", name := "addRule", desc := "(LHeirCases;I[J)I" } : Jvm.MethodName)) ∈ lw_all := lw_g (lw_at lw_m8 149 rfl) rfl
theorem q1955 : (Jvm.Cond.codeWith ({ cls := "HeirCasesLaw", name := "addRule", desc := "(LHeirCases;I[J)I" } : Jvm.MethodName) method_25_code (4 : Nat) (Option.some Jvm.ClassFile.FieldType.int) [((0 : Nat), (9 : Nat), (12 : Nat), (13 : Nat))]) ∈ lw_all := lw_g (lw_at lw_m8 150 rfl) rfl
theorem q1956 : (Jvm.Cond.methodLink "HeirCasesLaw" (86 : Nat) ({ cls := "HeirCases", name := "addRule", desc := "(I)I" } : Jvm.MethodName)) ∈ lw_all := lw_g (lw_at lw_m8 151 rfl) rfl
theorem q1998 : (Jvm.Cond.methodLink "HeirCasesLaw" (252 : Nat) ({ cls := "HeirCasesLaw", name := "dropRule", desc := "(LHeirCases;I[J)I" } : Jvm.MethodName)) ∈ lw_all := lw_g (lw_at lw_m8 193 rfl) rfl
theorem q1999 : (Jvm.Cond.static ({ cls := "HeirCasesLaw", name := "dropRule", desc := "(LHeirCases;I[J)I" } : Jvm.MethodName)) ∈ lw_all := lw_g (lw_at lw_m8 194 rfl) rfl
theorem q2000 : (Jvm.Cond.codeWith ({ cls := "HeirCasesLaw", name := "dropRule", desc := "(LHeirCases;I[J)I" } : Jvm.MethodName) method_26_code (4 : Nat) (Option.some Jvm.ClassFile.FieldType.int) [((0 : Nat), (9 : Nat), (12 : Nat), (24 : Nat))]) ∈ lw_all := lw_g (lw_at lw_m8 195 rfl) rfl
theorem q2001 : (Jvm.Cond.methodLink "HeirCasesLaw" (89 : Nat) ({ cls := "HeirCases", name := "dropRule", desc := "(I)I" } : Jvm.MethodName)) ∈ lw_all := lw_g (lw_at lw_m8 196 rfl) rfl
theorem q2009 : (Jvm.Cond.methodLink "HeirCasesLaw" (255 : Nat) ({ cls := "HeirCasesLaw", name := "setOver", desc := "(LHeirCases;IIZ[J)I" } : Jvm.MethodName)) ∈ lw_all := lw_g (lw_at lw_m8 204 rfl) rfl
theorem q2010 : (Jvm.Cond.static ({ cls := "HeirCasesLaw", name := "setOver", desc := "(LHeirCases;IIZ[J)I" } : Jvm.MethodName)) ∈ lw_all := lw_g (lw_at lw_m8 205 rfl) rfl
theorem q2011 : (Jvm.Cond.codeWith ({ cls := "HeirCasesLaw", name := "setOver", desc := "(LHeirCases;IIZ[J)I" } : Jvm.MethodName) method_27_code (6 : Nat) (Option.some Jvm.ClassFile.FieldType.int) [((0 : Nat), (12 : Nat), (15 : Nat), (24 : Nat))]) ∈ lw_all := lw_g (lw_at lw_m8 206 rfl) rfl
theorem q2012 : (Jvm.Cond.methodLink "HeirCasesLaw" (92 : Nat) ({ cls := "HeirCases", name := "setOver", desc := "(IIZ)I" } : Jvm.MethodName)) ∈ lw_all := lw_g (lw_at lw_m8 207 rfl) rfl
theorem q2017 : (Jvm.Cond.methodLink "HeirCasesLaw" (258 : Nat) ({ cls := "HeirCasesLaw", name := "setShare", desc := "(LHeirCases;IIII[J)I" } : Jvm.MethodName)) ∈ lw_all := lw_g (lw_at lw_m8 212 rfl) rfl
theorem q2018 : (Jvm.Cond.static ({ cls := "HeirCasesLaw", name := "setShare", desc := "(LHeirCases;IIII[J)I" } : Jvm.MethodName)) ∈ lw_all := lw_g (lw_at lw_m8 213 rfl) rfl
theorem q2019 : (Jvm.Cond.codeWith ({ cls := "HeirCasesLaw", name := "setShare", desc := "(LHeirCases;IIII[J)I" } : Jvm.MethodName) method_28_code (7 : Nat) (Option.some Jvm.ClassFile.FieldType.int) [((0 : Nat), (14 : Nat), (17 : Nat), (24 : Nat)), ((0 : Nat), (14 : Nat), (21 : Nat), (13 : Nat))]) ∈ lw_all := lw_g (lw_at lw_m8 214 rfl) rfl
theorem q2020 : (Jvm.Cond.methodLink "HeirCasesLaw" (95 : Nat) ({ cls := "HeirCases", name := "setShare", desc := "(IIII)I" } : Jvm.MethodName)) ∈ lw_all := lw_g (lw_at lw_m8 215 rfl) rfl
theorem q2025 : (Jvm.Cond.methodLink "HeirCasesLaw" (262 : Nat) ({ cls := "HeirCasesLaw", name := "setHeir", desc := "(LHeirCases;III[J)I" } : Jvm.MethodName)) ∈ lw_all := lw_g (lw_at lw_m8 220 rfl) rfl
theorem q2026 : (Jvm.Cond.static ({ cls := "HeirCasesLaw", name := "setHeir", desc := "(LHeirCases;III[J)I" } : Jvm.MethodName)) ∈ lw_all := lw_g (lw_at lw_m8 221 rfl) rfl
theorem q2027 : (Jvm.Cond.codeWith ({ cls := "HeirCasesLaw", name := "setHeir", desc := "(LHeirCases;III[J)I" } : Jvm.MethodName) method_29_code (6 : Nat) (Option.some Jvm.ClassFile.FieldType.int) [((0 : Nat), (12 : Nat), (15 : Nat), (24 : Nat)), ((0 : Nat), (12 : Nat), (19 : Nat), (13 : Nat))]) ∈ lw_all := lw_g (lw_at lw_m8 222 rfl) rfl
theorem q2028 : (Jvm.Cond.methodLink "HeirCasesLaw" (99 : Nat) ({ cls := "HeirCases", name := "setHeir", desc := "(III)I" } : Jvm.MethodName)) ∈ lw_all := lw_g (lw_at lw_m8 223 rfl) rfl
theorem q2032 : (Jvm.Cond.methodLink "HeirCasesLaw" (265 : Nat) ({ cls := "HeirCasesLaw", name := "setRest", desc := "(LHeirCases;I[J)I" } : Jvm.MethodName)) ∈ lw_all := lw_g (lw_at lw_m8 227 rfl) rfl
theorem q2033 : (Jvm.Cond.static ({ cls := "HeirCasesLaw", name := "setRest", desc := "(LHeirCases;I[J)I" } : Jvm.MethodName)) ∈ lw_all := lw_g (lw_at lw_m8 228 rfl) rfl
theorem q2034 : (Jvm.Cond.codeWith ({ cls := "HeirCasesLaw", name := "setRest", desc := "(LHeirCases;I[J)I" } : Jvm.MethodName) method_30_code (4 : Nat) (Option.some Jvm.ClassFile.FieldType.int) [((0 : Nat), (9 : Nat), (12 : Nat), (24 : Nat))]) ∈ lw_all := lw_g (lw_at lw_m8 229 rfl) rfl
theorem q2035 : (Jvm.Cond.methodLink "HeirCasesLaw" (102 : Nat) ({ cls := "HeirCases", name := "setRest", desc := "(I)I" } : Jvm.MethodName)) ∈ lw_all := lw_g (lw_at lw_m8 230 rfl) rfl
theorem q2039 : (Jvm.Cond.methodLink "HeirCasesLaw" (268 : Nat) ({ cls := "HeirCasesLaw", name := "setEstate", desc := "(LHeirCases;I[J)I" } : Jvm.MethodName)) ∈ lw_all := lw_g (lw_at lw_m8 234 rfl) rfl
theorem q2040 : (Jvm.Cond.static ({ cls := "HeirCasesLaw", name := "setEstate", desc := "(LHeirCases;I[J)I" } : Jvm.MethodName)) ∈ lw_all := lw_g (lw_at lw_m8 235 rfl) rfl
theorem q2041 : (Jvm.Cond.codeWith ({ cls := "HeirCasesLaw", name := "setEstate", desc := "(LHeirCases;I[J)I" } : Jvm.MethodName) method_31_code (4 : Nat) (Option.some Jvm.ClassFile.FieldType.int) [((0 : Nat), (9 : Nat), (12 : Nat), (13 : Nat))]) ∈ lw_all := lw_g (lw_at lw_m8 236 rfl) rfl
theorem q2042 : (Jvm.Cond.methodLink "HeirCasesLaw" (105 : Nat) ({ cls := "HeirCases", name := "setEstate", desc := "(I)I" } : Jvm.MethodName)) ∈ lw_all := lw_g (lw_at lw_m8 237 rfl) rfl
theorem q2046 : (Jvm.Cond.methodLink "HeirCasesLaw" (271 : Nat) ({ cls := "HeirCasesLaw", name := "setValue", desc := "(LHeirCases;II[J)I" } : Jvm.MethodName)) ∈ lw_all := lw_g (lw_at lw_m9 1 rfl) rfl
theorem q2047 : (Jvm.Cond.static ({ cls := "HeirCasesLaw", name := "setValue", desc := "(LHeirCases;II[J)I" } : Jvm.MethodName)) ∈ lw_all := lw_g (lw_at lw_m9 2 rfl) rfl
theorem q2048 : (Jvm.Cond.codeWith ({ cls := "HeirCasesLaw", name := "setValue", desc := "(LHeirCases;II[J)I" } : Jvm.MethodName) method_32_code (5 : Nat) (Option.some Jvm.ClassFile.FieldType.int) [((0 : Nat), (10 : Nat), (13 : Nat), (24 : Nat)), ((0 : Nat), (10 : Nat), (17 : Nat), (13 : Nat))]) ∈ lw_all := lw_g (lw_at lw_m9 3 rfl) rfl
theorem q2049 : (Jvm.Cond.methodLink "HeirCasesLaw" (108 : Nat) ({ cls := "HeirCases", name := "setValue", desc := "(II)I" } : Jvm.MethodName)) ∈ lw_all := lw_g (lw_at lw_m9 4 rfl) rfl
theorem q2061 : (Jvm.Cond.methodLink "HeirCasesLaw" (278 : Nat) ({ cls := "HeirCasesLaw", name := "saveSnapshot", desc := "(LHeirCases;I[J)I" } : Jvm.MethodName)) ∈ lw_all := lw_g (lw_at lw_m9 16 rfl) rfl
theorem q2062 : (Jvm.Cond.static ({ cls := "HeirCasesLaw", name := "saveSnapshot", desc := "(LHeirCases;I[J)I" } : Jvm.MethodName)) ∈ lw_all := lw_g (lw_at lw_m9 17 rfl) rfl
theorem q2063 : (Jvm.Cond.codeWith ({ cls := "HeirCasesLaw", name := "saveSnapshot", desc := "(LHeirCases;I[J)I" } : Jvm.MethodName) method_33_code (4 : Nat) (Option.some Jvm.ClassFile.FieldType.int) [((0 : Nat), (16 : Nat), (19 : Nat), (13 : Nat))]) ∈ lw_all := lw_g (lw_at lw_m9 18 rfl) rfl
theorem q2064 : (Jvm.Cond.methodLink "HeirCasesLaw" (111 : Nat) ({ cls := "HeirCases", name := "saveSnapshot", desc := "(I)Z" } : Jvm.MethodName)) ∈ lw_all := lw_g (lw_at lw_m9 19 rfl) rfl
theorem q2068 : (Jvm.Cond.methodLink "HeirCasesLaw" (281 : Nat) ({ cls := "HeirCasesLaw", name := "restoreSnapshot", desc := "(LHeirCases;I[J)I" } : Jvm.MethodName)) ∈ lw_all := lw_g (lw_at lw_m9 23 rfl) rfl
theorem q2069 : (Jvm.Cond.static ({ cls := "HeirCasesLaw", name := "restoreSnapshot", desc := "(LHeirCases;I[J)I" } : Jvm.MethodName)) ∈ lw_all := lw_g (lw_at lw_m9 24 rfl) rfl
theorem q2070 : (Jvm.Cond.codeWith ({ cls := "HeirCasesLaw", name := "restoreSnapshot", desc := "(LHeirCases;I[J)I" } : Jvm.MethodName) method_34_code (4 : Nat) (Option.some Jvm.ClassFile.FieldType.int) [((0 : Nat), (9 : Nat), (12 : Nat), (13 : Nat)), ((0 : Nat), (9 : Nat), (15 : Nat), (118 : Nat))]) ∈ lw_all := lw_g (lw_at lw_m9 25 rfl) rfl
theorem q2071 : (Jvm.Cond.classLink "HeirCasesLaw" (118 : Nat) "java/lang/IllegalStateException") ∈ lw_all := lw_g (lw_at lw_m9 26 rfl) rfl
theorem q2072 : (Jvm.Cond.methodLink "HeirCasesLaw" (115 : Nat) ({ cls := "HeirCases", name := "restoreSnapshot", desc := "(I)I" } : Jvm.MethodName)) ∈ lw_all := lw_g (lw_at lw_m9 27 rfl) rfl
theorem q2080 : (Jvm.Cond.classLink "HeirCasesLaw" (121 : Nat) "HeirCasesModel") ∈ lw_all := lw_g (lw_at lw_m9 35 rfl) rfl
theorem q2082 : (Jvm.Cond.methodLink "HeirCasesLaw" (123 : Nat) ({ cls := "HeirCasesModel", name := "<init>", desc := "()V" } : Jvm.MethodName)) ∈ lw_all := lw_g (lw_at lw_m9 37 rfl) rfl
theorem q2298 : (Jvm.Cond.methodLink "HeirCasesLaw" (135 : Nat) ({ cls := "HeirCasesModel", name := "thrown", desc := "()I" } : Jvm.MethodName)) ∈ lw_all := lw_g (lw_at lw_m10 13 rfl) rfl
theorem q2302 : (Jvm.Cond.methodLink "HeirCasesLaw" (128 : Nat) ({ cls := "HeirCasesModel", name := "append", desc := "(IIIII)I" } : Jvm.MethodName)) ∈ lw_all := lw_g (lw_at lw_m10 17 rfl) rfl
theorem q2310 : (Jvm.Cond.methodLink "HeirCasesLaw" (134 : Nat) ({ cls := "HeirCasesModel", name := "parse", desc := "(I)I" } : Jvm.MethodName)) ∈ lw_all := lw_g (lw_at lw_m10 25 rfl) rfl
theorem q2322 : (Jvm.Cond.methodLink "HeirCasesLaw" (141 : Nat) ({ cls := "HeirCasesModel", name := "load", desc := "(I)I" } : Jvm.MethodName)) ∈ lw_all := lw_g (lw_at lw_m10 37 rfl) rfl
theorem q2326 : (Jvm.Cond.methodLink "HeirCasesLaw" (144 : Nat) ({ cls := "HeirCasesModel", name := "size", desc := "(I)I" } : Jvm.MethodName)) ∈ lw_all := lw_g (lw_at lw_m10 41 rfl) rfl
theorem q2382 : (Jvm.Cond.methodLink "HeirCasesLaw" (147 : Nat) ({ cls := "HeirCasesModel", name := "values", desc := "(I)I" } : Jvm.MethodName)) ∈ lw_all := lw_g (lw_at lw_m10 97 rfl) rfl
theorem q2386 : (Jvm.Cond.methodLink "HeirCasesLaw" (151 : Nat) ({ cls := "HeirCasesModel", name := "valueIn", desc := "(II)I" } : Jvm.MethodName)) ∈ lw_all := lw_g (lw_at lw_m10 101 rfl) rfl
theorem q2398 : (Jvm.Cond.methodLink "HeirCasesLaw" (154 : Nat) ({ cls := "HeirCasesModel", name := "heir", desc := "(II)I" } : Jvm.MethodName)) ∈ lw_all := lw_g (lw_at lw_m10 113 rfl) rfl
theorem q2431 : (Jvm.Cond.methodLink "HeirCasesLaw" (157 : Nat) ({ cls := "HeirCasesModel", name := "rule", desc := "(II)I" } : Jvm.MethodName)) ∈ lw_all := lw_g (lw_at lw_m10 146 rfl) rfl
theorem q2455 : (Jvm.Cond.methodLink "HeirCasesLaw" (161 : Nat) ({ cls := "HeirCasesModel", name := "share", desc := "(IIZ)I" } : Jvm.MethodName)) ∈ lw_all := lw_g (lw_at lw_m10 170 rfl) rfl
theorem q2466 : (Jvm.Cond.methodLink "HeirCasesLaw" (164 : Nat) ({ cls := "HeirCasesModel", name := "applies", desc := "(II)Z" } : Jvm.MethodName)) ∈ lw_all := lw_g (lw_at lw_m10 181 rfl) rfl
theorem q2470 : (Jvm.Cond.methodLink "HeirCasesLaw" (167 : Nat) ({ cls := "HeirCasesModel", name := "applying", desc := "(I)I" } : Jvm.MethodName)) ∈ lw_all := lw_g (lw_at lw_m10 185 rfl) rfl
theorem q2474 : (Jvm.Cond.methodLink "HeirCasesLaw" (170 : Nat) ({ cls := "HeirCasesModel", name := "verdict", desc := "(I)I" } : Jvm.MethodName)) ∈ lw_all := lw_g (lw_at lw_m10 189 rfl) rfl
theorem q2478 : (Jvm.Cond.methodLink "HeirCasesLaw" (173 : Nat) ({ cls := "HeirCasesModel", name := "settledBy", desc := "(I)I" } : Jvm.MethodName)) ∈ lw_all := lw_g (lw_at lw_m10 193 rfl) rfl
theorem q2482 : (Jvm.Cond.methodLink "HeirCasesLaw" (177 : Nat) ({ cls := "HeirCasesModel", name := "why", desc := "(III)I" } : Jvm.MethodName)) ∈ lw_all := lw_g (lw_at lw_m10 197 rfl) rfl
theorem q2497 : (Jvm.Cond.methodLink "HeirCasesLaw" (180 : Nat) ({ cls := "HeirCasesModel", name := "example", desc := "(II)I" } : Jvm.MethodName)) ∈ lw_all := lw_g (lw_at lw_m10 212 rfl) rfl
theorem q2501 : (Jvm.Cond.methodLink "HeirCasesLaw" (185 : Nat) ({ cls := "HeirCasesModel", name := "isClosed", desc := "()Z" } : Jvm.MethodName)) ∈ lw_all := lw_g (lw_at lw_m10 216 rfl) rfl
theorem q2509 : (Jvm.Cond.methodLink "HeirCasesLaw" (188 : Nat) ({ cls := "HeirCasesModel", name := "isWider", desc := "(II)Z" } : Jvm.MethodName)) ∈ lw_all := lw_g (lw_at lw_m10 224 rfl) rfl
theorem q2513 : (Jvm.Cond.methodLink "HeirCasesLaw" (191 : Nat) ({ cls := "HeirCasesModel", name := "common", desc := "(II)I" } : Jvm.MethodName)) ∈ lw_all := lw_g (lw_at lw_m10 228 rfl) rfl
theorem q2517 : (Jvm.Cond.methodLink "HeirCasesLaw" (195 : Nat) ({ cls := "HeirCasesModel", name := "needed", desc := "()I" } : Jvm.MethodName)) ∈ lw_all := lw_g (lw_at lw_m10 232 rfl) rfl
theorem q2521 : (Jvm.Cond.methodLink "HeirCasesLaw" (199 : Nat) ({ cls := "HeirCasesModel", name := "idle", desc := "()I" } : Jvm.MethodName)) ∈ lw_all := lw_g (lw_at lw_m10 236 rfl) rfl
theorem q2525 : (Jvm.Cond.methodLink "HeirCasesLaw" (202 : Nat) ({ cls := "HeirCasesModel", name := "gapsWithout", desc := "(I)I" } : Jvm.MethodName)) ∈ lw_all := lw_g (lw_at lw_m11 0 rfl) rfl
theorem q2529 : (Jvm.Cond.methodLink "HeirCasesLaw" (205 : Nat) ({ cls := "HeirCasesModel", name := "clashesIf", desc := "(II)I" } : Jvm.MethodName)) ∈ lw_all := lw_g (lw_at lw_m11 4 rfl) rfl
theorem q2533 : (Jvm.Cond.methodLink "HeirCasesLaw" (209 : Nat) ({ cls := "HeirCasesModel", name := "patch", desc := "()I" } : Jvm.MethodName)) ∈ lw_all := lw_g (lw_at lw_m11 8 rfl) rfl
theorem q2541 : (Jvm.Cond.methodLink "HeirCasesLaw" (212 : Nat) ({ cls := "HeirCasesModel", name := "farFrom", desc := "(I)I" } : Jvm.MethodName)) ∈ lw_all := lw_g (lw_at lw_m11 16 rfl) rfl
theorem q2549 : (Jvm.Cond.methodLink "HeirCasesLaw" (215 : Nat) ({ cls := "HeirCasesModel", name := "gets", desc := "(III)I" } : Jvm.MethodName)) ∈ lw_all := lw_g (lw_at lw_m11 24 rfl) rfl
theorem q2553 : (Jvm.Cond.methodLink "HeirCasesLaw" (218 : Nat) ({ cls := "HeirCasesModel", name := "duties", desc := "(I)I" } : Jvm.MethodName)) ∈ lw_all := lw_g (lw_at lw_m11 28 rfl) rfl
theorem q2561 : (Jvm.Cond.methodLink "HeirCasesLaw" (222 : Nat) ({ cls := "HeirCasesModel", name := "dearest", desc := "()I" } : Jvm.MethodName)) ∈ lw_all := lw_g (lw_at lw_m11 36 rfl) rfl
theorem q2565 : (Jvm.Cond.methodLink "HeirCasesLaw" (226 : Nat) ({ cls := "HeirCasesModel", name := "gap", desc := "()I" } : Jvm.MethodName)) ∈ lw_all := lw_g (lw_at lw_m11 40 rfl) rfl
theorem q2569 : (Jvm.Cond.methodLink "HeirCasesLaw" (231 : Nat) ({ cls := "HeirCasesModel", name := "settledShare", desc := "()F" } : Jvm.MethodName)) ∈ lw_all := lw_g (lw_at lw_m11 44 rfl) rfl
theorem q2573 : (Jvm.Cond.methodLink "HeirCasesLaw" (236 : Nat) ({ cls := "HeirCasesModel", name := "meanDuties", desc := "()D" } : Jvm.MethodName)) ∈ lw_all := lw_g (lw_at lw_m11 48 rfl) rfl
theorem q2577 : (Jvm.Cond.methodLink "HeirCasesLaw" (239 : Nat) ({ cls := "HeirCasesModel", name := "writeRule", desc := "(I)I" } : Jvm.MethodName)) ∈ lw_all := lw_g (lw_at lw_m11 52 rfl) rfl
theorem q2615 : (Jvm.Cond.methodLink "HeirCasesLaw" (243 : Nat) ({ cls := "HeirCasesModel", name := "writeVerdicts", desc := "()I" } : Jvm.MethodName)) ∈ lw_all := lw_g (lw_at lw_m11 90 rfl) rfl
theorem q2619 : (Jvm.Cond.methodLink "HeirCasesLaw" (248 : Nat) ({ cls := "HeirCasesModel", name := "reportAt", desc := "(I)C" } : Jvm.MethodName)) ∈ lw_all := lw_g (lw_at lw_m11 94 rfl) rfl
theorem q2623 : (Jvm.Cond.methodLink "HeirCasesLaw" (251 : Nat) ({ cls := "HeirCasesModel", name := "addRule", desc := "(I)I" } : Jvm.MethodName)) ∈ lw_all := lw_g (lw_at lw_m11 98 rfl) rfl
theorem q2635 : (Jvm.Cond.methodLink "HeirCasesLaw" (254 : Nat) ({ cls := "HeirCasesModel", name := "dropRule", desc := "(I)I" } : Jvm.MethodName)) ∈ lw_all := lw_g (lw_at lw_m11 110 rfl) rfl
theorem q2642 : (Jvm.Cond.methodLink "HeirCasesLaw" (257 : Nat) ({ cls := "HeirCasesModel", name := "setOver", desc := "(IIZ)I" } : Jvm.MethodName)) ∈ lw_all := lw_g (lw_at lw_m11 117 rfl) rfl
theorem q2646 : (Jvm.Cond.methodLink "HeirCasesLaw" (261 : Nat) ({ cls := "HeirCasesModel", name := "setShare", desc := "(IIII)I" } : Jvm.MethodName)) ∈ lw_all := lw_g (lw_at lw_m11 121 rfl) rfl
theorem q2654 : (Jvm.Cond.methodLink "HeirCasesLaw" (264 : Nat) ({ cls := "HeirCasesModel", name := "setHeir", desc := "(III)I" } : Jvm.MethodName)) ∈ lw_all := lw_g (lw_at lw_m11 129 rfl) rfl
theorem q2662 : (Jvm.Cond.methodLink "HeirCasesLaw" (267 : Nat) ({ cls := "HeirCasesModel", name := "setRest", desc := "(I)I" } : Jvm.MethodName)) ∈ lw_all := lw_g (lw_at lw_m11 137 rfl) rfl
theorem q2666 : (Jvm.Cond.methodLink "HeirCasesLaw" (270 : Nat) ({ cls := "HeirCasesModel", name := "setEstate", desc := "(I)I" } : Jvm.MethodName)) ∈ lw_all := lw_g (lw_at lw_m11 141 rfl) rfl
theorem q2670 : (Jvm.Cond.methodLink "HeirCasesLaw" (273 : Nat) ({ cls := "HeirCasesModel", name := "setValue", desc := "(II)I" } : Jvm.MethodName)) ∈ lw_all := lw_g (lw_at lw_m11 145 rfl) rfl
theorem q2674 : (Jvm.Cond.methodLink "HeirCasesLaw" (277 : Nat) ({ cls := "HeirCasesModel", name := "undo", desc := "()I" } : Jvm.MethodName)) ∈ lw_all := lw_g (lw_at lw_m11 149 rfl) rfl
theorem q2678 : (Jvm.Cond.methodLink "HeirCasesLaw" (280 : Nat) ({ cls := "HeirCasesModel", name := "saveSnapshot", desc := "(I)Z" } : Jvm.MethodName)) ∈ lw_all := lw_g (lw_at lw_m11 153 rfl) rfl
theorem q2682 : (Jvm.Cond.methodLink "HeirCasesLaw" (283 : Nat) ({ cls := "HeirCasesModel", name := "restoreSnapshot", desc := "(I)I" } : Jvm.MethodName)) ∈ lw_all := lw_g (lw_at lw_m11 157 rfl) rfl
theorem q2686 : (Jvm.Cond.methodLink "HeirCasesLaw" (288 : Nat) ({ cls := "HeirCasesModel", name := "checksum", desc := "()J" } : Jvm.MethodName)) ∈ lw_all := lw_g (lw_at lw_m11 161 rfl) rfl
/-! the law's own entry -/
set_option maxRecDepth 100000
abbrev cL_law : ByteArray := code
def dkwL_law_105 : List UInt8 := [182, 1, 28, 44, 182, 1, 32, 148, 153, 0, 5, 3, 172, 132, 4, 6, 167, 245, 191, 4, 172]
abbrev dktL_law_105 : List UInt8 := dkwL_law_105 ++ []
def dkwL_law_104 : List UInt8 := [172, 21, 5, 154, 0, 15, 45, 3, 47, 21, 6, 133, 148, 153, 0, 5, 3, 172, 167, 0, 17, 43]
abbrev dktL_law_104 : List UInt8 := dkwL_law_104 ++ dktL_law_105
def dkwL_law_103 : List UInt8 := [54, 5, 44, 42, 21, 4, 4, 96, 46, 182, 1, 27, 54, 6, 44, 182, 0, 135, 21, 5, 159, 0, 5, 3]
abbrev dktL_law_103 : List UInt8 := dkwL_law_103 ++ dktL_law_104
def dkwL_law_102 : List UInt8 := [167, 0, 4, 9, 148, 153, 0, 5, 3, 172, 167, 0, 73, 43, 42, 21, 4, 4, 96, 46, 45, 184, 1, 25]
abbrev dktL_law_102 : List UInt8 := dkwL_law_102 ++ dktL_law_103
def dkwL_law_101 : List UInt8 := [182, 0, 135, 21, 5, 159, 0, 5, 3, 172, 21, 5, 154, 0, 22, 45, 3, 47, 21, 6, 153, 0, 7, 10]
abbrev dktL_law_101 : List UInt8 := dkwL_law_101 ++ dktL_law_102
def dkwL_law_100 : List UInt8 := [21, 4, 4, 96, 46, 45, 184, 1, 22, 54, 5, 44, 42, 21, 4, 4, 96, 46, 182, 1, 24, 54, 6, 44]
abbrev dktL_law_100 : List UInt8 := dkwL_law_100 ++ dktL_law_101
def dkwL_law_99 : List UInt8 := [148, 153, 0, 5, 3, 172, 167, 0, 149, 43, 182, 1, 18, 44, 182, 1, 21, 159, 0, 138, 3, 172, 43, 42]
abbrev dktL_law_99 : List UInt8 := dkwL_law_99 ++ dktL_law_100
def dkwL_law_98 : List UInt8 := [54, 6, 44, 182, 0, 135, 21, 5, 159, 0, 5, 3, 172, 21, 5, 154, 0, 15, 45, 3, 47, 21, 6, 133]
abbrev dktL_law_98 : List UInt8 := dkwL_law_98 ++ dktL_law_99
def dkwL_law_97 : List UInt8 := [46, 45, 184, 1, 15, 54, 5, 44, 42, 21, 4, 4, 96, 46, 42, 21, 4, 5, 96, 46, 182, 1, 17]
abbrev dktL_law_97 : List UInt8 := dkwL_law_97 ++ dktL_law_98
def dkwL_law_96 : List UInt8 := [21, 6, 133, 148, 153, 0, 5, 3, 172, 167, 0, 217, 43, 42, 21, 4, 4, 96, 46, 42, 21, 4, 5, 96]
abbrev dktL_law_96 : List UInt8 := dkwL_law_96 ++ dktL_law_97
def dkwL_law_95 : List UInt8 := [182, 1, 14, 54, 6, 44, 182, 0, 135, 21, 5, 159, 0, 5, 3, 172, 21, 5, 154, 0, 15, 45, 3, 47]
abbrev dktL_law_95 : List UInt8 := dkwL_law_95 ++ dktL_law_96
def dkwL_law_94 : List UInt8 := [167, 1, 17, 43, 42, 21, 4, 4, 96, 46, 45, 184, 1, 12, 54, 5, 44, 42, 21, 4, 4, 96, 46]
abbrev dktL_law_94 : List UInt8 := dkwL_law_94 ++ dktL_law_95
def dkwL_law_93 : List UInt8 := [21, 5, 159, 0, 5, 3, 172, 21, 5, 154, 0, 15, 45, 3, 47, 21, 6, 133, 148, 153, 0, 5, 3, 172]
abbrev dktL_law_93 : List UInt8 := dkwL_law_93 ++ dktL_law_94
def dkwL_law_92 : List UInt8 := [46, 45, 184, 1, 9, 54, 5, 44, 42, 21, 4, 4, 96, 46, 182, 1, 11, 54, 6, 44, 182, 0, 135]
abbrev dktL_law_92 : List UInt8 := dkwL_law_92 ++ dktL_law_93
def dkwL_law_91 : List UInt8 := [154, 0, 15, 45, 3, 47, 21, 6, 133, 148, 153, 0, 5, 3, 172, 167, 1, 73, 43, 42, 21, 4, 4, 96]
abbrev dktL_law_91 : List UInt8 := dkwL_law_91 ++ dktL_law_92
def dkwL_law_90 : List UInt8 := [42, 21, 4, 6, 96, 46, 182, 1, 8, 54, 6, 44, 182, 0, 135, 21, 5, 159, 0, 5, 3, 172, 21, 5]
abbrev dktL_law_90 : List UInt8 := dkwL_law_90 ++ dktL_law_91
def dkwL_law_89 : List UInt8 := [21, 4, 6, 96, 46, 45, 184, 1, 6, 54, 5, 44, 42, 21, 4, 4, 96, 46, 42, 21, 4, 5, 96, 46]
abbrev dktL_law_89 : List UInt8 := dkwL_law_89 ++ dktL_law_90
def dkwL_law_88 : List UInt8 := [148, 153, 0, 5, 3, 172, 167, 1, 153, 43, 42, 21, 4, 4, 96, 46, 42, 21, 4, 5, 96, 46, 42]
abbrev dktL_law_88 : List UInt8 := dkwL_law_88 ++ dktL_law_89
def dkwL_law_87 : List UInt8 := [54, 6, 44, 182, 0, 135, 21, 5, 159, 0, 5, 3, 172, 21, 5, 154, 0, 15, 45, 3, 47, 21, 6, 133]
abbrev dktL_law_87 : List UInt8 := dkwL_law_87 ++ dktL_law_88
def dkwL_law_86 : List UInt8 := [4, 96, 46, 42, 21, 4, 5, 96, 46, 42, 21, 4, 6, 96, 46, 42, 21, 4, 7, 96, 46, 182, 1, 5]
abbrev dktL_law_86 : List UInt8 := dkwL_law_86 ++ dktL_law_87
def dkwL_law_85 : List UInt8 := [96, 46, 42, 21, 4, 6, 96, 46, 42, 21, 4, 7, 96, 46, 45, 184, 1, 2, 54, 5, 44, 42, 21, 4]
abbrev dktL_law_85 : List UInt8 := dkwL_law_85 ++ dktL_law_86
def dkwL_law_84 : List UInt8 := [47, 21, 6, 133, 148, 153, 0, 5, 3, 172, 167, 1, 245, 43, 42, 21, 4, 4, 96, 46, 42, 21, 4, 5]
abbrev dktL_law_84 : List UInt8 := dkwL_law_84 ++ dktL_law_85
def dkwL_law_83 : List UInt8 := [3, 182, 1, 1, 54, 6, 44, 182, 0, 135, 21, 5, 159, 0, 5, 3, 172, 21, 5, 154, 0, 15, 45, 3]
abbrev dktL_law_83 : List UInt8 := dkwL_law_83 ++ dktL_law_84
def dkwL_law_82 : List UInt8 := [21, 4, 4, 96, 46, 42, 21, 4, 5, 96, 46, 42, 21, 4, 6, 96, 46, 153, 0, 7, 4, 167, 0, 4]
abbrev dktL_law_82 : List UInt8 := dkwL_law_82 ++ dktL_law_83
def dkwL_law_81 : List UInt8 := [46, 42, 21, 4, 6, 96, 46, 153, 0, 7, 4, 167, 0, 4, 3, 45, 184, 0, 255, 54, 5, 44, 42]
abbrev dktL_law_81 : List UInt8 := dkwL_law_81 ++ dktL_law_82
def dkwL_law_80 : List UInt8 := [21, 6, 133, 148, 153, 0, 5, 3, 172, 167, 2, 85, 43, 42, 21, 4, 4, 96, 46, 42, 21, 4, 5, 96]
abbrev dktL_law_80 : List UInt8 := dkwL_law_80 ++ dktL_law_81
def dkwL_law_79 : List UInt8 := [182, 0, 254, 54, 6, 44, 182, 0, 135, 21, 5, 159, 0, 5, 3, 172, 21, 5, 154, 0, 15, 45, 3, 47]
abbrev dktL_law_79 : List UInt8 := dkwL_law_79 ++ dktL_law_80
def dkwL_law_78 : List UInt8 := [167, 2, 141, 43, 42, 21, 4, 4, 96, 46, 45, 184, 0, 252, 54, 5, 44, 42, 21, 4, 4, 96, 46]
abbrev dktL_law_78 : List UInt8 := dkwL_law_78 ++ dktL_law_79
def dkwL_law_77 : List UInt8 := [21, 5, 159, 0, 5, 3, 172, 21, 5, 154, 0, 15, 45, 3, 47, 21, 6, 133, 148, 153, 0, 5, 3, 172]
abbrev dktL_law_77 : List UInt8 := dkwL_law_77 ++ dktL_law_78
def dkwL_law_76 : List UInt8 := [46, 45, 184, 0, 249, 54, 5, 44, 42, 21, 4, 4, 96, 46, 182, 0, 251, 54, 6, 44, 182, 0, 135]
abbrev dktL_law_76 : List UInt8 := dkwL_law_76 ++ dktL_law_77
def dkwL_law_75 : List UInt8 := [182, 0, 244, 44, 42, 21, 4, 4, 96, 46, 182, 0, 248, 159, 2, 199, 3, 172, 43, 42, 21, 4, 4, 96]
abbrev dktL_law_75 : List UInt8 := dkwL_law_75 ++ dktL_law_76
def dkwL_law_74 : List UInt8 := [167, 2, 235, 43, 182, 0, 240, 44, 182, 0, 243, 159, 2, 224, 3, 172, 43, 42, 21, 4, 4, 96, 46]
abbrev dktL_law_74 : List UInt8 := dkwL_law_74 ++ dktL_law_75
def dkwL_law_73 : List UInt8 := [159, 0, 5, 3, 172, 21, 5, 154, 0, 15, 45, 3, 47, 21, 6, 133, 148, 153, 0, 5, 3, 172]
abbrev dktL_law_73 : List UInt8 := dkwL_law_73 ++ dktL_law_74
def dkwL_law_72 : List UInt8 := [184, 0, 237, 54, 5, 44, 42, 21, 4, 4, 96, 46, 182, 0, 239, 54, 6, 44, 182, 0, 135, 21, 5]
abbrev dktL_law_72 : List UInt8 := dkwL_law_72 ++ dktL_law_73
def dkwL_law_71 : List UInt8 := [153, 0, 11, 24, 7, 24, 7, 151, 154, 0, 5, 3, 172, 167, 3, 35, 43, 42, 21, 4, 4, 96, 46, 45]
abbrev dktL_law_71 : List UInt8 := dkwL_law_71 ++ dktL_law_72
def dkwL_law_70 : List UInt8 := [182, 0, 232, 57, 5, 44, 182, 0, 236, 57, 7, 24, 5, 24, 7, 151, 153, 0, 21, 24, 5, 24, 5, 151]
abbrev dktL_law_70 : List UInt8 := dkwL_law_70 ++ dktL_law_71
def dkwL_law_69 : List UInt8 := [24, 5, 24, 5, 151, 153, 0, 11, 24, 7, 24, 7, 151, 154, 0, 5, 3, 172, 167, 3, 76, 43]
abbrev dktL_law_69 : List UInt8 := dkwL_law_69 ++ dktL_law_70
def dkwL_law_68 : List UInt8 := [172, 43, 182, 0, 227, 141, 57, 5, 44, 182, 0, 231, 141, 57, 7, 24, 5, 24, 7, 151, 153, 0, 21]
abbrev dktL_law_68 : List UInt8 := dkwL_law_68 ++ dktL_law_69
def dkwL_law_67 : List UInt8 := [182, 0, 219, 44, 182, 0, 222, 159, 3, 134, 3, 172, 43, 182, 0, 223, 44, 182, 0, 226, 159, 3, 121, 3]
abbrev dktL_law_67 : List UInt8 := dkwL_law_67 ++ dktL_law_68
def dkwL_law_66 : List UInt8 := [172, 21, 5, 154, 0, 15, 45, 3, 47, 21, 6, 133, 148, 153, 0, 5, 3, 172, 167, 3, 145, 43]
abbrev dktL_law_66 : List UInt8 := dkwL_law_66 ++ dktL_law_67
def dkwL_law_65 : List UInt8 := [54, 5, 44, 42, 21, 4, 4, 96, 46, 182, 0, 218, 54, 6, 44, 182, 0, 135, 21, 5, 159, 0, 5, 3]
abbrev dktL_law_65 : List UInt8 := dkwL_law_65 ++ dktL_law_66
def dkwL_law_64 : List UInt8 := [21, 6, 133, 148, 153, 0, 5, 3, 172, 167, 3, 201, 43, 42, 21, 4, 4, 96, 46, 45, 184, 0, 216]
abbrev dktL_law_64 : List UInt8 := dkwL_law_64 ++ dktL_law_65
def dkwL_law_63 : List UInt8 := [182, 0, 215, 54, 6, 44, 182, 0, 135, 21, 5, 159, 0, 5, 3, 172, 21, 5, 154, 0, 15, 45, 3, 47]
abbrev dktL_law_63 : List UInt8 := dkwL_law_63 ++ dktL_law_64
def dkwL_law_62 : List UInt8 := [184, 0, 213, 54, 5, 44, 42, 21, 4, 4, 96, 46, 42, 21, 4, 5, 96, 46, 42, 21, 4, 6, 96, 46]
abbrev dktL_law_62 : List UInt8 := dkwL_law_62 ++ dktL_law_63
def dkwL_law_61 : List UInt8 := [167, 4, 25, 43, 42, 21, 4, 4, 96, 46, 42, 21, 4, 5, 96, 46, 42, 21, 4, 6, 96, 46, 45]
abbrev dktL_law_61 : List UInt8 := dkwL_law_61 ++ dktL_law_62
def dkwL_law_60 : List UInt8 := [159, 0, 5, 3, 172, 21, 5, 154, 0, 15, 45, 3, 47, 21, 6, 133, 148, 153, 0, 5, 3, 172]
abbrev dktL_law_60 : List UInt8 := dkwL_law_60 ++ dktL_law_61
def dkwL_law_59 : List UInt8 := [184, 0, 210, 54, 5, 44, 42, 21, 4, 4, 96, 46, 182, 0, 212, 54, 6, 44, 182, 0, 135, 21, 5]
abbrev dktL_law_59 : List UInt8 := dkwL_law_59 ++ dktL_law_60
def dkwL_law_58 : List UInt8 := [167, 4, 94, 43, 182, 0, 206, 44, 182, 0, 209, 159, 4, 83, 3, 172, 43, 42, 21, 4, 4, 96, 46, 45]
abbrev dktL_law_58 : List UInt8 := dkwL_law_58 ++ dktL_law_59
def dkwL_law_57 : List UInt8 := [159, 0, 5, 3, 172, 21, 5, 154, 0, 15, 45, 3, 47, 21, 6, 133, 148, 153, 0, 5, 3, 172]
abbrev dktL_law_57 : List UInt8 := dkwL_law_57 ++ dktL_law_58
def dkwL_law_56 : List UInt8 := [21, 4, 4, 96, 46, 42, 21, 4, 5, 96, 46, 182, 0, 205, 54, 6, 44, 182, 0, 135, 21, 5]
abbrev dktL_law_56 : List UInt8 := dkwL_law_56 ++ dktL_law_57
def dkwL_law_55 : List UInt8 := [167, 4, 162, 43, 42, 21, 4, 4, 96, 46, 42, 21, 4, 5, 96, 46, 45, 184, 0, 203, 54, 5, 44, 42]
abbrev dktL_law_55 : List UInt8 := dkwL_law_55 ++ dktL_law_56
def dkwL_law_54 : List UInt8 := [21, 5, 159, 0, 5, 3, 172, 21, 5, 154, 0, 15, 45, 3, 47, 21, 6, 133, 148, 153, 0, 5, 3, 172]
abbrev dktL_law_54 : List UInt8 := dkwL_law_54 ++ dktL_law_55
def dkwL_law_53 : List UInt8 := [46, 45, 184, 0, 200, 54, 5, 44, 42, 21, 4, 4, 96, 46, 182, 0, 202, 54, 6, 44, 182, 0, 135]
abbrev dktL_law_53 : List UInt8 := dkwL_law_53 ++ dktL_law_54
def dkwL_law_52 : List UInt8 := [159, 4, 233, 3, 172, 43, 182, 0, 196, 44, 182, 0, 199, 159, 4, 220, 3, 172, 43, 42, 21, 4, 4, 96]
abbrev dktL_law_52 : List UInt8 := dkwL_law_52 ++ dktL_law_53
def dkwL_law_51 : List UInt8 := [45, 3, 47, 21, 6, 133, 148, 153, 0, 5, 3, 172, 167, 4, 244, 43, 182, 0, 192, 44, 182, 0, 195]
abbrev dktL_law_51 : List UInt8 := dkwL_law_51 ++ dktL_law_52
def dkwL_law_50 : List UInt8 := [5, 96, 46, 182, 0, 191, 54, 6, 44, 182, 0, 135, 21, 5, 159, 0, 5, 3, 172, 21, 5, 154, 0, 15]
abbrev dktL_law_50 : List UInt8 := dkwL_law_50 ++ dktL_law_51
def dkwL_law_49 : List UInt8 := [96, 46, 42, 21, 4, 5, 96, 46, 45, 184, 0, 189, 54, 5, 44, 42, 21, 4, 4, 96, 46, 42, 21, 4]
abbrev dktL_law_49 : List UInt8 := dkwL_law_49 ++ dktL_law_50
def dkwL_law_48 : List UInt8 := [21, 6, 153, 0, 7, 10, 167, 0, 4, 9, 148, 153, 0, 5, 3, 172, 167, 5, 56, 43, 42, 21, 4, 4]
abbrev dktL_law_48 : List UInt8 := dkwL_law_48 ++ dktL_law_49
def dkwL_law_47 : List UInt8 := [182, 0, 188, 54, 6, 44, 182, 0, 135, 21, 5, 159, 0, 5, 3, 172, 21, 5, 154, 0, 22, 45, 3, 47]
abbrev dktL_law_47 : List UInt8 := dkwL_law_47 ++ dktL_law_48
def dkwL_law_46 : List UInt8 := [21, 4, 5, 96, 46, 45, 184, 0, 186, 54, 5, 44, 42, 21, 4, 4, 96, 46, 42, 21, 4, 5, 96, 46]
abbrev dktL_law_46 : List UInt8 := dkwL_law_46 ++ dktL_law_47
def dkwL_law_45 : List UInt8 := [167, 5, 144, 43, 182, 0, 181, 44, 182, 0, 185, 159, 5, 133, 3, 172, 43, 42, 21, 4, 4, 96, 46, 42]
abbrev dktL_law_45 : List UInt8 := dkwL_law_45 ++ dktL_law_46
def dkwL_law_44 : List UInt8 := [159, 0, 5, 3, 172, 21, 5, 154, 0, 15, 45, 3, 47, 21, 6, 133, 148, 153, 0, 5, 3, 172]
abbrev dktL_law_44 : List UInt8 := dkwL_law_44 ++ dktL_law_45
def dkwL_law_43 : List UInt8 := [21, 4, 4, 96, 46, 42, 21, 4, 5, 96, 46, 182, 0, 180, 54, 6, 44, 182, 0, 135, 21, 5]
abbrev dktL_law_43 : List UInt8 := dkwL_law_43 ++ dktL_law_44
def dkwL_law_42 : List UInt8 := [167, 5, 212, 43, 42, 21, 4, 4, 96, 46, 42, 21, 4, 5, 96, 46, 45, 184, 0, 178, 54, 5, 44, 42]
abbrev dktL_law_42 : List UInt8 := dkwL_law_42 ++ dktL_law_43
def dkwL_law_41 : List UInt8 := [21, 5, 159, 0, 5, 3, 172, 21, 5, 154, 0, 15, 45, 3, 47, 21, 6, 133, 148, 153, 0, 5, 3, 172]
abbrev dktL_law_41 : List UInt8 := dkwL_law_41 ++ dktL_law_42
def dkwL_law_40 : List UInt8 := [96, 46, 42, 21, 4, 5, 96, 46, 42, 21, 4, 6, 96, 46, 182, 0, 177, 54, 6, 44, 182, 0, 135]
abbrev dktL_law_40 : List UInt8 := dkwL_law_40 ++ dktL_law_41
def dkwL_law_39 : List UInt8 := [46, 42, 21, 4, 5, 96, 46, 42, 21, 4, 6, 96, 46, 45, 184, 0, 174, 54, 5, 44, 42, 21, 4, 4]
abbrev dktL_law_39 : List UInt8 := dkwL_law_39 ++ dktL_law_40
def dkwL_law_38 : List UInt8 := [154, 0, 15, 45, 3, 47, 21, 6, 133, 148, 153, 0, 5, 3, 172, 167, 6, 36, 43, 42, 21, 4, 4, 96]
abbrev dktL_law_38 : List UInt8 := dkwL_law_38 ++ dktL_law_39
def dkwL_law_37 : List UInt8 := [21, 4, 4, 96, 46, 182, 0, 173, 54, 6, 44, 182, 0, 135, 21, 5, 159, 0, 5, 3, 172, 21, 5]
abbrev dktL_law_37 : List UInt8 := dkwL_law_37 ++ dktL_law_38
def dkwL_law_36 : List UInt8 := [153, 0, 5, 3, 172, 167, 6, 92, 43, 42, 21, 4, 4, 96, 46, 45, 184, 0, 171, 54, 5, 44, 42]
abbrev dktL_law_36 : List UInt8 := dkwL_law_36 ++ dktL_law_37
def dkwL_law_35 : List UInt8 := [182, 0, 135, 21, 5, 159, 0, 5, 3, 172, 21, 5, 154, 0, 15, 45, 3, 47, 21, 6, 133, 148]
abbrev dktL_law_35 : List UInt8 := dkwL_law_35 ++ dktL_law_36
def dkwL_law_34 : List UInt8 := [21, 4, 4, 96, 46, 45, 184, 0, 168, 54, 5, 44, 42, 21, 4, 4, 96, 46, 182, 0, 170, 54, 6, 44]
abbrev dktL_law_34 : List UInt8 := dkwL_law_34 ++ dktL_law_35
def dkwL_law_33 : List UInt8 := [172, 21, 5, 154, 0, 15, 45, 3, 47, 21, 6, 133, 148, 153, 0, 5, 3, 172, 167, 6, 148, 43, 42]
abbrev dktL_law_33 : List UInt8 := dkwL_law_33 ++ dktL_law_34
def dkwL_law_32 : List UInt8 := [54, 5, 44, 42, 21, 4, 4, 96, 46, 182, 0, 167, 54, 6, 44, 182, 0, 135, 21, 5, 159, 0, 5, 3]
abbrev dktL_law_32 : List UInt8 := dkwL_law_32 ++ dktL_law_33
def dkwL_law_31 : List UInt8 := [167, 0, 4, 9, 148, 153, 0, 5, 3, 172, 167, 6, 204, 43, 42, 21, 4, 4, 96, 46, 45, 184, 0, 165]
abbrev dktL_law_31 : List UInt8 := dkwL_law_31 ++ dktL_law_32
def dkwL_law_30 : List UInt8 := [182, 0, 135, 21, 5, 159, 0, 5, 3, 172, 21, 5, 154, 0, 22, 45, 3, 47, 21, 6, 153, 0, 7, 10]
abbrev dktL_law_30 : List UInt8 := dkwL_law_30 ++ dktL_law_31
def dkwL_law_29 : List UInt8 := [184, 0, 162, 54, 5, 44, 42, 21, 4, 4, 96, 46, 42, 21, 4, 5, 96, 46, 182, 0, 164, 54, 6, 44]
abbrev dktL_law_29 : List UInt8 := dkwL_law_29 ++ dktL_law_30
def dkwL_law_28 : List UInt8 := [148, 153, 0, 5, 3, 172, 167, 7, 23, 43, 42, 21, 4, 4, 96, 46, 42, 21, 4, 5, 96, 46, 45]
abbrev dktL_law_28 : List UInt8 := dkwL_law_28 ++ dktL_law_29
def dkwL_law_27 : List UInt8 := [54, 6, 44, 182, 0, 135, 21, 5, 159, 0, 5, 3, 172, 21, 5, 154, 0, 15, 45, 3, 47, 21, 6, 133]
abbrev dktL_law_27 : List UInt8 := dkwL_law_27 ++ dktL_law_28
def dkwL_law_26 : List UInt8 := [42, 21, 4, 5, 96, 46, 42, 21, 4, 6, 96, 46, 153, 0, 7, 4, 167, 0, 4, 3, 182, 0, 161]
abbrev dktL_law_26 : List UInt8 := dkwL_law_26 ++ dktL_law_27
def dkwL_law_25 : List UInt8 := [6, 96, 46, 153, 0, 7, 4, 167, 0, 4, 3, 45, 184, 0, 158, 54, 5, 44, 42, 21, 4, 4, 96, 46]
abbrev dktL_law_25 : List UInt8 := dkwL_law_25 ++ dktL_law_26
def dkwL_law_24 : List UInt8 := [153, 0, 5, 3, 172, 167, 7, 119, 43, 42, 21, 4, 4, 96, 46, 42, 21, 4, 5, 96, 46, 42, 21, 4]
abbrev dktL_law_24 : List UInt8 := dkwL_law_24 ++ dktL_law_25
def dkwL_law_23 : List UInt8 := [182, 0, 135, 21, 5, 159, 0, 5, 3, 172, 21, 5, 154, 0, 15, 45, 3, 47, 21, 6, 133, 148]
abbrev dktL_law_23 : List UInt8 := dkwL_law_23 ++ dktL_law_24
def dkwL_law_22 : List UInt8 := [184, 0, 155, 54, 5, 44, 42, 21, 4, 4, 96, 46, 42, 21, 4, 5, 96, 46, 182, 0, 157, 54, 6, 44]
abbrev dktL_law_22 : List UInt8 := dkwL_law_22 ++ dktL_law_23
def dkwL_law_21 : List UInt8 := [153, 0, 5, 3, 172, 167, 7, 187, 43, 42, 21, 4, 4, 96, 46, 42, 21, 4, 5, 96, 46, 45]
abbrev dktL_law_21 : List UInt8 := dkwL_law_21 ++ dktL_law_22
def dkwL_law_20 : List UInt8 := [182, 0, 135, 21, 5, 159, 0, 5, 3, 172, 21, 5, 154, 0, 15, 45, 3, 47, 21, 6, 133, 148]
abbrev dktL_law_20 : List UInt8 := dkwL_law_20 ++ dktL_law_21
def dkwL_law_19 : List UInt8 := [184, 0, 152, 54, 5, 44, 42, 21, 4, 4, 96, 46, 42, 21, 4, 5, 96, 46, 182, 0, 154, 54, 6, 44]
abbrev dktL_law_19 : List UInt8 := dkwL_law_19 ++ dktL_law_20
def dkwL_law_18 : List UInt8 := [148, 153, 0, 5, 3, 172, 167, 7, 255, 43, 42, 21, 4, 4, 96, 46, 42, 21, 4, 5, 96, 46, 45]
abbrev dktL_law_18 : List UInt8 := dkwL_law_18 ++ dktL_law_19
def dkwL_law_17 : List UInt8 := [54, 6, 44, 182, 0, 135, 21, 5, 159, 0, 5, 3, 172, 21, 5, 154, 0, 15, 45, 3, 47, 21, 6, 133]
abbrev dktL_law_17 : List UInt8 := dkwL_law_17 ++ dktL_law_18
def dkwL_law_16 : List UInt8 := [46, 45, 184, 0, 148, 54, 5, 44, 42, 21, 4, 4, 96, 46, 42, 21, 4, 5, 96, 46, 182, 0, 151]
abbrev dktL_law_16 : List UInt8 := dkwL_law_16 ++ dktL_law_17
def dkwL_law_15 : List UInt8 := [21, 6, 133, 148, 153, 0, 5, 3, 172, 167, 8, 67, 43, 42, 21, 4, 4, 96, 46, 42, 21, 4, 5, 96]
abbrev dktL_law_15 : List UInt8 := dkwL_law_15 ++ dktL_law_16
def dkwL_law_14 : List UInt8 := [182, 0, 147, 54, 6, 44, 182, 0, 135, 21, 5, 159, 0, 5, 3, 172, 21, 5, 154, 0, 15, 45, 3, 47]
abbrev dktL_law_14 : List UInt8 := dkwL_law_14 ++ dktL_law_15
def dkwL_law_13 : List UInt8 := [167, 8, 123, 43, 42, 21, 4, 4, 96, 46, 45, 184, 0, 145, 54, 5, 44, 42, 21, 4, 4, 96, 46]
abbrev dktL_law_13 : List UInt8 := dkwL_law_13 ++ dktL_law_14
def dkwL_law_12 : List UInt8 := [21, 5, 159, 0, 5, 3, 172, 21, 5, 154, 0, 15, 45, 3, 47, 21, 6, 133, 148, 153, 0, 5, 3, 172]
abbrev dktL_law_12 : List UInt8 := dkwL_law_12 ++ dktL_law_13
def dkwL_law_11 : List UInt8 := [46, 45, 184, 0, 142, 54, 5, 44, 42, 21, 4, 4, 96, 46, 182, 0, 144, 54, 6, 44, 182, 0, 135]
abbrev dktL_law_11 : List UInt8 := dkwL_law_11 ++ dktL_law_12
def dkwL_law_10 : List UInt8 := [154, 0, 15, 45, 3, 47, 21, 6, 133, 148, 153, 0, 5, 3, 172, 167, 8, 179, 43, 42, 21, 4, 4, 96]
abbrev dktL_law_10 : List UInt8 := dkwL_law_10 ++ dktL_law_11
def dkwL_law_9 : List UInt8 := [21, 4, 4, 96, 46, 182, 0, 141, 54, 6, 44, 182, 0, 135, 21, 5, 159, 0, 5, 3, 172, 21, 5]
abbrev dktL_law_9 : List UInt8 := dkwL_law_9 ++ dktL_law_10
def dkwL_law_8 : List UInt8 := [148, 153, 0, 5, 3, 172, 167, 8, 235, 43, 42, 21, 4, 4, 96, 46, 45, 184, 0, 139, 54, 5, 44, 42]
abbrev dktL_law_8 : List UInt8 := dkwL_law_8 ++ dktL_law_9
def dkwL_law_7 : List UInt8 := [54, 6, 44, 182, 0, 135, 21, 5, 159, 0, 5, 3, 172, 21, 5, 154, 0, 15, 45, 3, 47, 21, 6, 133]
abbrev dktL_law_7 : List UInt8 := dkwL_law_7 ++ dktL_law_8
def dkwL_law_6 : List UInt8 := [172, 43, 42, 21, 4, 4, 96, 46, 45, 184, 0, 129, 54, 5, 44, 42, 21, 4, 4, 96, 46, 182, 0, 134]
abbrev dktL_law_6 : List UInt8 := dkwL_law_6 ++ dktL_law_7
def dkwL_law_5 : List UInt8 := [21, 4, 6, 96, 46, 42, 21, 4, 7, 96, 46, 42, 21, 4, 8, 96, 46, 182, 0, 128, 159, 9, 37, 3]
abbrev dktL_law_5 : List UInt8 := dkwL_law_5 ++ dktL_law_6
def dkwL_law_4 : List UInt8 := [46, 42, 21, 4, 8, 96, 46, 182, 0, 124, 44, 42, 21, 4, 4, 96, 46, 42, 21, 4, 5, 96, 46, 42]
abbrev dktL_law_4 : List UInt8 := dkwL_law_4 ++ dktL_law_5
def dkwL_law_3 : List UInt8 := [43, 42, 21, 4, 4, 96, 46, 42, 21, 4, 5, 96, 46, 42, 21, 4, 6, 96, 46, 42, 21, 4, 7, 96]
abbrev dktL_law_3 : List UInt8 := dkwL_law_3 ++ dktL_law_4
def dkwL_law_2 : List UInt8 := [170, 0, 0, 0, 0, 0, 10, 45, 0, 0, 0, 0, 0, 0, 0, 44, 0, 0, 0, 196, 0, 0, 1, 13, 0, 0, 1, 69, 0, 0, 1, 125, 0, 0, 1, 181, 0, 0, 1, 237, 0, 0, 2, 49, 0, 0, 2, 117, 0, 0, 2, 185, 0, 0, 3, 25, 0, 0, 3, 100, 0, 0, 3, 156, 0, 0, 3, 212, 0, 0, 4, 12, 0, 0, 4, 92, 0, 0, 4, 160, 0, 0, 4, 173, 0, 0, 4, 248, 0, 0, 5, 60, 0, 0, 5, 73, 0, 0, 5, 86, 0, 0, 5, 142, 0, 0, 5, 210, 0, 0, 5, 223, 0, 0, 6, 23, 0, 0, 6, 103, 0, 0, 6, 159, 0, 0, 6, 172, 0, 0, 6, 185, 0, 0, 6, 228, 0, 0, 7, 13, 0, 0, 7, 69, 0, 0, 7, 82, 0, 0, 7, 107, 0, 0, 7, 163, 0, 0, 7, 219, 0, 0, 8, 59, 0, 0, 8, 151, 0, 0, 8, 231, 0, 0, 9, 31, 0, 0, 9, 87, 0, 0, 9, 155, 0, 0, 9, 168, 0, 0, 9, 231, 0, 0, 10, 31]
abbrev dktL_law_2 : List UInt8 := dkwL_law_2 ++ dktL_law_3
def dkwL_law_1 : List UInt8 := [21, 4, 42, 190, 16, 6, 100, 163, 10, 61, 42, 21, 4, 46, 16, 63, 126]
abbrev dktL_law_1 : List UInt8 := dkwL_law_1 ++ dktL_law_2
def dkwL_law_0 : List UInt8 := [187, 0, 8, 89, 183, 0, 120, 76, 187, 0, 121, 89, 183, 0, 123, 77, 4, 188, 11, 78, 3, 54, 4]
abbrev dktL_law_0 : List UInt8 := dkwL_law_0 ++ dktL_law_1
theorem dksL_law_0 : cL_law.data.toList.drop 0 = dktL_law_0 := by decide +kernel
theorem dksL_law_1 : cL_law.data.toList.drop 23 = dktL_law_1 := dk_seg dksL_law_0 23 rfl rfl
theorem dksL_law_2 : cL_law.data.toList.drop 40 = dktL_law_2 := dk_seg dksL_law_1 17 rfl rfl
theorem dksL_law_3 : cL_law.data.toList.drop 236 = dktL_law_3 := dk_seg dksL_law_2 196 rfl rfl
theorem dksL_law_4 : cL_law.data.toList.drop 260 = dktL_law_4 := dk_seg dksL_law_3 24 rfl rfl
theorem dksL_law_5 : cL_law.data.toList.drop 284 = dktL_law_5 := dk_seg dksL_law_4 24 rfl rfl
theorem dksL_law_6 : cL_law.data.toList.drop 308 = dktL_law_6 := dk_seg dksL_law_5 24 rfl rfl
theorem dksL_law_7 : cL_law.data.toList.drop 332 = dktL_law_7 := dk_seg dksL_law_6 24 rfl rfl
theorem dksL_law_8 : cL_law.data.toList.drop 356 = dktL_law_8 := dk_seg dksL_law_7 24 rfl rfl
theorem dksL_law_9 : cL_law.data.toList.drop 380 = dktL_law_9 := dk_seg dksL_law_8 24 rfl rfl
theorem dksL_law_10 : cL_law.data.toList.drop 403 = dktL_law_10 := dk_seg dksL_law_9 23 rfl rfl
theorem dksL_law_11 : cL_law.data.toList.drop 427 = dktL_law_11 := dk_seg dksL_law_10 24 rfl rfl
theorem dksL_law_12 : cL_law.data.toList.drop 450 = dktL_law_12 := dk_seg dksL_law_11 23 rfl rfl
theorem dksL_law_13 : cL_law.data.toList.drop 474 = dktL_law_13 := dk_seg dksL_law_12 24 rfl rfl
theorem dksL_law_14 : cL_law.data.toList.drop 497 = dktL_law_14 := dk_seg dksL_law_13 23 rfl rfl
theorem dksL_law_15 : cL_law.data.toList.drop 521 = dktL_law_15 := dk_seg dksL_law_14 24 rfl rfl
theorem dksL_law_16 : cL_law.data.toList.drop 545 = dktL_law_16 := dk_seg dksL_law_15 24 rfl rfl
theorem dksL_law_17 : cL_law.data.toList.drop 568 = dktL_law_17 := dk_seg dksL_law_16 23 rfl rfl
theorem dksL_law_18 : cL_law.data.toList.drop 592 = dktL_law_18 := dk_seg dksL_law_17 24 rfl rfl
theorem dksL_law_19 : cL_law.data.toList.drop 615 = dktL_law_19 := dk_seg dksL_law_18 23 rfl rfl
theorem dksL_law_20 : cL_law.data.toList.drop 639 = dktL_law_20 := dk_seg dksL_law_19 24 rfl rfl
theorem dksL_law_21 : cL_law.data.toList.drop 661 = dktL_law_21 := dk_seg dksL_law_20 22 rfl rfl
theorem dksL_law_22 : cL_law.data.toList.drop 683 = dktL_law_22 := dk_seg dksL_law_21 22 rfl rfl
theorem dksL_law_23 : cL_law.data.toList.drop 707 = dktL_law_23 := dk_seg dksL_law_22 24 rfl rfl
theorem dksL_law_24 : cL_law.data.toList.drop 729 = dktL_law_24 := dk_seg dksL_law_23 22 rfl rfl
theorem dksL_law_25 : cL_law.data.toList.drop 753 = dktL_law_25 := dk_seg dksL_law_24 24 rfl rfl
theorem dksL_law_26 : cL_law.data.toList.drop 777 = dktL_law_26 := dk_seg dksL_law_25 24 rfl rfl
theorem dksL_law_27 : cL_law.data.toList.drop 800 = dktL_law_27 := dk_seg dksL_law_26 23 rfl rfl
theorem dksL_law_28 : cL_law.data.toList.drop 824 = dktL_law_28 := dk_seg dksL_law_27 24 rfl rfl
theorem dksL_law_29 : cL_law.data.toList.drop 847 = dktL_law_29 := dk_seg dksL_law_28 23 rfl rfl
theorem dksL_law_30 : cL_law.data.toList.drop 871 = dktL_law_30 := dk_seg dksL_law_29 24 rfl rfl
theorem dksL_law_31 : cL_law.data.toList.drop 895 = dktL_law_31 := dk_seg dksL_law_30 24 rfl rfl
theorem dksL_law_32 : cL_law.data.toList.drop 919 = dktL_law_32 := dk_seg dksL_law_31 24 rfl rfl
theorem dksL_law_33 : cL_law.data.toList.drop 943 = dktL_law_33 := dk_seg dksL_law_32 24 rfl rfl
theorem dksL_law_34 : cL_law.data.toList.drop 966 = dktL_law_34 := dk_seg dksL_law_33 23 rfl rfl
theorem dksL_law_35 : cL_law.data.toList.drop 990 = dktL_law_35 := dk_seg dksL_law_34 24 rfl rfl
theorem dksL_law_36 : cL_law.data.toList.drop 1012 = dktL_law_36 := dk_seg dksL_law_35 22 rfl rfl
theorem dksL_law_37 : cL_law.data.toList.drop 1035 = dktL_law_37 := dk_seg dksL_law_36 23 rfl rfl
theorem dksL_law_38 : cL_law.data.toList.drop 1058 = dktL_law_38 := dk_seg dksL_law_37 23 rfl rfl
theorem dksL_law_39 : cL_law.data.toList.drop 1082 = dktL_law_39 := dk_seg dksL_law_38 24 rfl rfl
theorem dksL_law_40 : cL_law.data.toList.drop 1106 = dktL_law_40 := dk_seg dksL_law_39 24 rfl rfl
theorem dksL_law_41 : cL_law.data.toList.drop 1129 = dktL_law_41 := dk_seg dksL_law_40 23 rfl rfl
theorem dksL_law_42 : cL_law.data.toList.drop 1153 = dktL_law_42 := dk_seg dksL_law_41 24 rfl rfl
theorem dksL_law_43 : cL_law.data.toList.drop 1177 = dktL_law_43 := dk_seg dksL_law_42 24 rfl rfl
theorem dksL_law_44 : cL_law.data.toList.drop 1199 = dktL_law_44 := dk_seg dksL_law_43 22 rfl rfl
theorem dksL_law_45 : cL_law.data.toList.drop 1221 = dktL_law_45 := dk_seg dksL_law_44 22 rfl rfl
theorem dksL_law_46 : cL_law.data.toList.drop 1245 = dktL_law_46 := dk_seg dksL_law_45 24 rfl rfl
theorem dksL_law_47 : cL_law.data.toList.drop 1269 = dktL_law_47 := dk_seg dksL_law_46 24 rfl rfl
theorem dksL_law_48 : cL_law.data.toList.drop 1293 = dktL_law_48 := dk_seg dksL_law_47 24 rfl rfl
theorem dksL_law_49 : cL_law.data.toList.drop 1317 = dktL_law_49 := dk_seg dksL_law_48 24 rfl rfl
theorem dksL_law_50 : cL_law.data.toList.drop 1341 = dktL_law_50 := dk_seg dksL_law_49 24 rfl rfl
theorem dksL_law_51 : cL_law.data.toList.drop 1365 = dktL_law_51 := dk_seg dksL_law_50 24 rfl rfl
theorem dksL_law_52 : cL_law.data.toList.drop 1388 = dktL_law_52 := dk_seg dksL_law_51 23 rfl rfl
theorem dksL_law_53 : cL_law.data.toList.drop 1412 = dktL_law_53 := dk_seg dksL_law_52 24 rfl rfl
theorem dksL_law_54 : cL_law.data.toList.drop 1435 = dktL_law_54 := dk_seg dksL_law_53 23 rfl rfl
theorem dksL_law_55 : cL_law.data.toList.drop 1459 = dktL_law_55 := dk_seg dksL_law_54 24 rfl rfl
theorem dksL_law_56 : cL_law.data.toList.drop 1483 = dktL_law_56 := dk_seg dksL_law_55 24 rfl rfl
theorem dksL_law_57 : cL_law.data.toList.drop 1505 = dktL_law_57 := dk_seg dksL_law_56 22 rfl rfl
theorem dksL_law_58 : cL_law.data.toList.drop 1527 = dktL_law_58 := dk_seg dksL_law_57 22 rfl rfl
theorem dksL_law_59 : cL_law.data.toList.drop 1551 = dktL_law_59 := dk_seg dksL_law_58 24 rfl rfl
theorem dksL_law_60 : cL_law.data.toList.drop 1574 = dktL_law_60 := dk_seg dksL_law_59 23 rfl rfl
theorem dksL_law_61 : cL_law.data.toList.drop 1596 = dktL_law_61 := dk_seg dksL_law_60 22 rfl rfl
theorem dksL_law_62 : cL_law.data.toList.drop 1619 = dktL_law_62 := dk_seg dksL_law_61 23 rfl rfl
theorem dksL_law_63 : cL_law.data.toList.drop 1643 = dktL_law_63 := dk_seg dksL_law_62 24 rfl rfl
theorem dksL_law_64 : cL_law.data.toList.drop 1667 = dktL_law_64 := dk_seg dksL_law_63 24 rfl rfl
theorem dksL_law_65 : cL_law.data.toList.drop 1690 = dktL_law_65 := dk_seg dksL_law_64 23 rfl rfl
theorem dksL_law_66 : cL_law.data.toList.drop 1714 = dktL_law_66 := dk_seg dksL_law_65 24 rfl rfl
theorem dksL_law_67 : cL_law.data.toList.drop 1736 = dktL_law_67 := dk_seg dksL_law_66 22 rfl rfl
theorem dksL_law_68 : cL_law.data.toList.drop 1760 = dktL_law_68 := dk_seg dksL_law_67 24 rfl rfl
theorem dksL_law_69 : cL_law.data.toList.drop 1783 = dktL_law_69 := dk_seg dksL_law_68 23 rfl rfl
theorem dksL_law_70 : cL_law.data.toList.drop 1805 = dktL_law_70 := dk_seg dksL_law_69 22 rfl rfl
theorem dksL_law_71 : cL_law.data.toList.drop 1829 = dktL_law_71 := dk_seg dksL_law_70 24 rfl rfl
theorem dksL_law_72 : cL_law.data.toList.drop 1853 = dktL_law_72 := dk_seg dksL_law_71 24 rfl rfl
theorem dksL_law_73 : cL_law.data.toList.drop 1876 = dktL_law_73 := dk_seg dksL_law_72 23 rfl rfl
theorem dksL_law_74 : cL_law.data.toList.drop 1898 = dktL_law_74 := dk_seg dksL_law_73 22 rfl rfl
theorem dksL_law_75 : cL_law.data.toList.drop 1921 = dktL_law_75 := dk_seg dksL_law_74 23 rfl rfl
theorem dksL_law_76 : cL_law.data.toList.drop 1945 = dktL_law_76 := dk_seg dksL_law_75 24 rfl rfl
theorem dksL_law_77 : cL_law.data.toList.drop 1968 = dktL_law_77 := dk_seg dksL_law_76 23 rfl rfl
theorem dksL_law_78 : cL_law.data.toList.drop 1992 = dktL_law_78 := dk_seg dksL_law_77 24 rfl rfl
theorem dksL_law_79 : cL_law.data.toList.drop 2015 = dktL_law_79 := dk_seg dksL_law_78 23 rfl rfl
theorem dksL_law_80 : cL_law.data.toList.drop 2039 = dktL_law_80 := dk_seg dksL_law_79 24 rfl rfl
theorem dksL_law_81 : cL_law.data.toList.drop 2063 = dktL_law_81 := dk_seg dksL_law_80 24 rfl rfl
theorem dksL_law_82 : cL_law.data.toList.drop 2086 = dktL_law_82 := dk_seg dksL_law_81 23 rfl rfl
theorem dksL_law_83 : cL_law.data.toList.drop 2110 = dktL_law_83 := dk_seg dksL_law_82 24 rfl rfl
theorem dksL_law_84 : cL_law.data.toList.drop 2134 = dktL_law_84 := dk_seg dksL_law_83 24 rfl rfl
theorem dksL_law_85 : cL_law.data.toList.drop 2158 = dktL_law_85 := dk_seg dksL_law_84 24 rfl rfl
theorem dksL_law_86 : cL_law.data.toList.drop 2182 = dktL_law_86 := dk_seg dksL_law_85 24 rfl rfl
theorem dksL_law_87 : cL_law.data.toList.drop 2206 = dktL_law_87 := dk_seg dksL_law_86 24 rfl rfl
theorem dksL_law_88 : cL_law.data.toList.drop 2230 = dktL_law_88 := dk_seg dksL_law_87 24 rfl rfl
theorem dksL_law_89 : cL_law.data.toList.drop 2253 = dktL_law_89 := dk_seg dksL_law_88 23 rfl rfl
theorem dksL_law_90 : cL_law.data.toList.drop 2277 = dktL_law_90 := dk_seg dksL_law_89 24 rfl rfl
theorem dksL_law_91 : cL_law.data.toList.drop 2301 = dktL_law_91 := dk_seg dksL_law_90 24 rfl rfl
theorem dksL_law_92 : cL_law.data.toList.drop 2325 = dktL_law_92 := dk_seg dksL_law_91 24 rfl rfl
theorem dksL_law_93 : cL_law.data.toList.drop 2348 = dktL_law_93 := dk_seg dksL_law_92 23 rfl rfl
theorem dksL_law_94 : cL_law.data.toList.drop 2372 = dktL_law_94 := dk_seg dksL_law_93 24 rfl rfl
theorem dksL_law_95 : cL_law.data.toList.drop 2395 = dktL_law_95 := dk_seg dksL_law_94 23 rfl rfl
theorem dksL_law_96 : cL_law.data.toList.drop 2419 = dktL_law_96 := dk_seg dksL_law_95 24 rfl rfl
theorem dksL_law_97 : cL_law.data.toList.drop 2443 = dktL_law_97 := dk_seg dksL_law_96 24 rfl rfl
theorem dksL_law_98 : cL_law.data.toList.drop 2466 = dktL_law_98 := dk_seg dksL_law_97 23 rfl rfl
theorem dksL_law_99 : cL_law.data.toList.drop 2490 = dktL_law_99 := dk_seg dksL_law_98 24 rfl rfl
theorem dksL_law_100 : cL_law.data.toList.drop 2514 = dktL_law_100 := dk_seg dksL_law_99 24 rfl rfl
theorem dksL_law_101 : cL_law.data.toList.drop 2538 = dktL_law_101 := dk_seg dksL_law_100 24 rfl rfl
theorem dksL_law_102 : cL_law.data.toList.drop 2562 = dktL_law_102 := dk_seg dksL_law_101 24 rfl rfl
theorem dksL_law_103 : cL_law.data.toList.drop 2586 = dktL_law_103 := dk_seg dksL_law_102 24 rfl rfl
theorem dksL_law_104 : cL_law.data.toList.drop 2610 = dktL_law_104 := dk_seg dksL_law_103 24 rfl rfl
theorem dksL_law_105 : cL_law.data.toList.drop 2632 = dktL_law_105 := dk_seg dksL_law_104 22 rfl rfl
theorem dL_law_0 : decode cL_law 0 = .ok (.new 8, 3) := dk_187 0 8 (dk_at dksL_law_0 0 rfl rfl)
theorem dL_law_3 : decode cL_law 3 = .ok (.dup, 1) := dk_89 (dk_at dksL_law_0 3 rfl rfl)
theorem dL_law_4 : decode cL_law 4 = .ok (.invokespecial 120, 3) := dk_183 0 120 (dk_at dksL_law_0 4 rfl rfl)
theorem dL_law_7 : decode cL_law 7 = .ok (.astore_n 1, 1) := dk_76 (dk_at dksL_law_0 7 rfl rfl)
theorem dL_law_8 : decode cL_law 8 = .ok (.new 121, 3) := dk_187 0 121 (dk_at dksL_law_0 8 rfl rfl)
theorem dL_law_11 : decode cL_law 11 = .ok (.dup, 1) := dk_89 (dk_at dksL_law_0 11 rfl rfl)
theorem dL_law_12 : decode cL_law 12 = .ok (.invokespecial 123, 3) := dk_183 0 123 (dk_at dksL_law_0 12 rfl rfl)
theorem dL_law_15 : decode cL_law 15 = .ok (.astore_n 2, 1) := dk_77 (dk_at dksL_law_0 15 rfl rfl)
theorem dL_law_16 : decode cL_law 16 = .ok (.iconst 1, 1) := dk_4 (dk_at dksL_law_0 16 rfl rfl)
theorem dL_law_17 : decode cL_law 17 = .ok (.newarray .long, 2) := dk_188_11 (dk_at dksL_law_0 17 rfl rfl)
theorem dL_law_19 : decode cL_law 19 = .ok (.astore_n 3, 1) := dk_78 (dk_at dksL_law_0 19 rfl rfl)
theorem dL_law_20 : decode cL_law 20 = .ok (.iconst 0, 1) := dk_3 (dk_at dksL_law_0 20 rfl rfl)
theorem dL_law_21 : decode cL_law 21 = .ok (.istore 4, 2) := dk_54 4 (dk_at dksL_law_0 21 rfl rfl)
theorem dL_law_23 : decode cL_law 23 = .ok (.iload 4, 2) := dk_21 4 (dk_at dksL_law_1 0 rfl rfl)
theorem dL_law_25 : decode cL_law 25 = .ok (.aload_n 0, 1) := dk_42 (dk_at dksL_law_1 2 rfl rfl)
theorem dL_law_26 : decode cL_law 26 = .ok (.arraylength, 1) := dk_190 (dk_at dksL_law_1 3 rfl rfl)
theorem dL_law_27 : decode cL_law 27 = .ok (.bipush 6, 2) := dk_16 6 (dk_at dksL_law_1 4 rfl rfl)
theorem dL_law_29 : decode cL_law 29 = .ok (.isub, 1) := dk_100 (dk_at dksL_law_1 6 rfl rfl)
theorem dL_law_30 : decode cL_law 30 = .ok (.if_icmp .gt 2621, 3) := dk_163 10 61 (dk_at dksL_law_1 7 rfl rfl)
theorem dL_law_33 : decode cL_law 33 = .ok (.aload_n 0, 1) := dk_42 (dk_at dksL_law_1 10 rfl rfl)
theorem dL_law_34 : decode cL_law 34 = .ok (.iload 4, 2) := dk_21 4 (dk_at dksL_law_1 11 rfl rfl)
theorem dL_law_36 : decode cL_law 36 = .ok (.iaload, 1) := dk_46 (dk_at dksL_law_1 13 rfl rfl)
theorem dL_law_37 : decode cL_law 37 = .ok (.bipush 63, 2) := dk_16 63 (dk_at dksL_law_1 14 rfl rfl)
theorem dL_law_39 : decode cL_law 39 = .ok (.iand, 1) := dk_126 (dk_at dksL_law_1 16 rfl rfl)
theorem dL_law_40 : decode cL_law 40 = .ok (.tableswitch 2605 0 44 #[196, 269, 325, 381, 437, 493, 561, 629, 697, 793, 868, 924, 980, 1036, 1116, 1184, 1197, 1272, 1340, 1353, 1366, 1422, 1490, 1503, 1559, 1639, 1695, 1708, 1721, 1764, 1805, 1861, 1874, 1899, 1955, 2011, 2107, 2199, 2279, 2335, 2391, 2459, 2472, 2535, 2591], 196) := by decide +kernel
theorem dL_law_236 : decode cL_law 236 = .ok (.aload_n 1, 1) := dk_43 (dk_at dksL_law_3 0 rfl rfl)
theorem dL_law_237 : decode cL_law 237 = .ok (.aload_n 0, 1) := dk_42 (dk_at dksL_law_3 1 rfl rfl)
theorem dL_law_238 : decode cL_law 238 = .ok (.iload 4, 2) := dk_21 4 (dk_at dksL_law_3 2 rfl rfl)
theorem dL_law_240 : decode cL_law 240 = .ok (.iconst 1, 1) := dk_4 (dk_at dksL_law_3 4 rfl rfl)
theorem dL_law_241 : decode cL_law 241 = .ok (.iadd, 1) := dk_96 (dk_at dksL_law_3 5 rfl rfl)
theorem dL_law_242 : decode cL_law 242 = .ok (.iaload, 1) := dk_46 (dk_at dksL_law_3 6 rfl rfl)
theorem dL_law_243 : decode cL_law 243 = .ok (.aload_n 0, 1) := dk_42 (dk_at dksL_law_3 7 rfl rfl)
theorem dL_law_244 : decode cL_law 244 = .ok (.iload 4, 2) := dk_21 4 (dk_at dksL_law_3 8 rfl rfl)
theorem dL_law_246 : decode cL_law 246 = .ok (.iconst 2, 1) := dk_5 (dk_at dksL_law_3 10 rfl rfl)
theorem dL_law_247 : decode cL_law 247 = .ok (.iadd, 1) := dk_96 (dk_at dksL_law_3 11 rfl rfl)
theorem dL_law_248 : decode cL_law 248 = .ok (.iaload, 1) := dk_46 (dk_at dksL_law_3 12 rfl rfl)
theorem dL_law_249 : decode cL_law 249 = .ok (.aload_n 0, 1) := dk_42 (dk_at dksL_law_3 13 rfl rfl)
theorem dL_law_250 : decode cL_law 250 = .ok (.iload 4, 2) := dk_21 4 (dk_at dksL_law_3 14 rfl rfl)
theorem dL_law_252 : decode cL_law 252 = .ok (.iconst 3, 1) := dk_6 (dk_at dksL_law_3 16 rfl rfl)
theorem dL_law_253 : decode cL_law 253 = .ok (.iadd, 1) := dk_96 (dk_at dksL_law_3 17 rfl rfl)
theorem dL_law_254 : decode cL_law 254 = .ok (.iaload, 1) := dk_46 (dk_at dksL_law_3 18 rfl rfl)
theorem dL_law_255 : decode cL_law 255 = .ok (.aload_n 0, 1) := dk_42 (dk_at dksL_law_3 19 rfl rfl)
theorem dL_law_256 : decode cL_law 256 = .ok (.iload 4, 2) := dk_21 4 (dk_at dksL_law_3 20 rfl rfl)
theorem dL_law_258 : decode cL_law 258 = .ok (.iconst 4, 1) := dk_7 (dk_at dksL_law_3 22 rfl rfl)
theorem dL_law_259 : decode cL_law 259 = .ok (.iadd, 1) := dk_96 (dk_at dksL_law_3 23 rfl rfl)
theorem dL_law_260 : decode cL_law 260 = .ok (.iaload, 1) := dk_46 (dk_at dksL_law_4 0 rfl rfl)
theorem dL_law_261 : decode cL_law 261 = .ok (.aload_n 0, 1) := dk_42 (dk_at dksL_law_4 1 rfl rfl)
theorem dL_law_262 : decode cL_law 262 = .ok (.iload 4, 2) := dk_21 4 (dk_at dksL_law_4 2 rfl rfl)
theorem dL_law_264 : decode cL_law 264 = .ok (.iconst 5, 1) := dk_8 (dk_at dksL_law_4 4 rfl rfl)
theorem dL_law_265 : decode cL_law 265 = .ok (.iadd, 1) := dk_96 (dk_at dksL_law_4 5 rfl rfl)
theorem dL_law_266 : decode cL_law 266 = .ok (.iaload, 1) := dk_46 (dk_at dksL_law_4 6 rfl rfl)
theorem dL_law_267 : decode cL_law 267 = .ok (.invokevirtual 124, 3) := dk_182 0 124 (dk_at dksL_law_4 7 rfl rfl)
theorem dL_law_270 : decode cL_law 270 = .ok (.aload_n 2, 1) := dk_44 (dk_at dksL_law_4 10 rfl rfl)
theorem dL_law_271 : decode cL_law 271 = .ok (.aload_n 0, 1) := dk_42 (dk_at dksL_law_4 11 rfl rfl)
theorem dL_law_272 : decode cL_law 272 = .ok (.iload 4, 2) := dk_21 4 (dk_at dksL_law_4 12 rfl rfl)
theorem dL_law_274 : decode cL_law 274 = .ok (.iconst 1, 1) := dk_4 (dk_at dksL_law_4 14 rfl rfl)
theorem dL_law_275 : decode cL_law 275 = .ok (.iadd, 1) := dk_96 (dk_at dksL_law_4 15 rfl rfl)
theorem dL_law_276 : decode cL_law 276 = .ok (.iaload, 1) := dk_46 (dk_at dksL_law_4 16 rfl rfl)
theorem dL_law_277 : decode cL_law 277 = .ok (.aload_n 0, 1) := dk_42 (dk_at dksL_law_4 17 rfl rfl)
theorem dL_law_278 : decode cL_law 278 = .ok (.iload 4, 2) := dk_21 4 (dk_at dksL_law_4 18 rfl rfl)
theorem dL_law_280 : decode cL_law 280 = .ok (.iconst 2, 1) := dk_5 (dk_at dksL_law_4 20 rfl rfl)
theorem dL_law_281 : decode cL_law 281 = .ok (.iadd, 1) := dk_96 (dk_at dksL_law_4 21 rfl rfl)
theorem dL_law_282 : decode cL_law 282 = .ok (.iaload, 1) := dk_46 (dk_at dksL_law_4 22 rfl rfl)
theorem dL_law_283 : decode cL_law 283 = .ok (.aload_n 0, 1) := dk_42 (dk_at dksL_law_4 23 rfl rfl)
theorem dL_law_284 : decode cL_law 284 = .ok (.iload 4, 2) := dk_21 4 (dk_at dksL_law_5 0 rfl rfl)
theorem dL_law_286 : decode cL_law 286 = .ok (.iconst 3, 1) := dk_6 (dk_at dksL_law_5 2 rfl rfl)
theorem dL_law_287 : decode cL_law 287 = .ok (.iadd, 1) := dk_96 (dk_at dksL_law_5 3 rfl rfl)
theorem dL_law_288 : decode cL_law 288 = .ok (.iaload, 1) := dk_46 (dk_at dksL_law_5 4 rfl rfl)
theorem dL_law_289 : decode cL_law 289 = .ok (.aload_n 0, 1) := dk_42 (dk_at dksL_law_5 5 rfl rfl)
theorem dL_law_290 : decode cL_law 290 = .ok (.iload 4, 2) := dk_21 4 (dk_at dksL_law_5 6 rfl rfl)
theorem dL_law_292 : decode cL_law 292 = .ok (.iconst 4, 1) := dk_7 (dk_at dksL_law_5 8 rfl rfl)
theorem dL_law_293 : decode cL_law 293 = .ok (.iadd, 1) := dk_96 (dk_at dksL_law_5 9 rfl rfl)
theorem dL_law_294 : decode cL_law 294 = .ok (.iaload, 1) := dk_46 (dk_at dksL_law_5 10 rfl rfl)
theorem dL_law_295 : decode cL_law 295 = .ok (.aload_n 0, 1) := dk_42 (dk_at dksL_law_5 11 rfl rfl)
theorem dL_law_296 : decode cL_law 296 = .ok (.iload 4, 2) := dk_21 4 (dk_at dksL_law_5 12 rfl rfl)
theorem dL_law_298 : decode cL_law 298 = .ok (.iconst 5, 1) := dk_8 (dk_at dksL_law_5 14 rfl rfl)
theorem dL_law_299 : decode cL_law 299 = .ok (.iadd, 1) := dk_96 (dk_at dksL_law_5 15 rfl rfl)
theorem dL_law_300 : decode cL_law 300 = .ok (.iaload, 1) := dk_46 (dk_at dksL_law_5 16 rfl rfl)
theorem dL_law_301 : decode cL_law 301 = .ok (.invokevirtual 128, 3) := dk_182 0 128 (dk_at dksL_law_5 17 rfl rfl)
theorem dL_law_304 : decode cL_law 304 = .ok (.if_icmp .eq 2341, 3) := dk_159 9 37 (dk_at dksL_law_5 20 rfl rfl)
theorem dL_law_307 : decode cL_law 307 = .ok (.iconst 0, 1) := dk_3 (dk_at dksL_law_5 23 rfl rfl)
theorem dL_law_308 : decode cL_law 308 = .ok (.ireturn, 1) := dk_172 (dk_at dksL_law_6 0 rfl rfl)
theorem dL_law_309 : decode cL_law 309 = .ok (.aload_n 1, 1) := dk_43 (dk_at dksL_law_6 1 rfl rfl)
theorem dL_law_310 : decode cL_law 310 = .ok (.aload_n 0, 1) := dk_42 (dk_at dksL_law_6 2 rfl rfl)
theorem dL_law_311 : decode cL_law 311 = .ok (.iload 4, 2) := dk_21 4 (dk_at dksL_law_6 3 rfl rfl)
theorem dL_law_313 : decode cL_law 313 = .ok (.iconst 1, 1) := dk_4 (dk_at dksL_law_6 5 rfl rfl)
theorem dL_law_314 : decode cL_law 314 = .ok (.iadd, 1) := dk_96 (dk_at dksL_law_6 6 rfl rfl)
theorem dL_law_315 : decode cL_law 315 = .ok (.iaload, 1) := dk_46 (dk_at dksL_law_6 7 rfl rfl)
theorem dL_law_316 : decode cL_law 316 = .ok (.aload_n 3, 1) := dk_45 (dk_at dksL_law_6 8 rfl rfl)
theorem dL_law_317 : decode cL_law 317 = .ok (.invokestatic 129, 3) := dk_184 0 129 (dk_at dksL_law_6 9 rfl rfl)
theorem dL_law_320 : decode cL_law 320 = .ok (.istore 5, 2) := dk_54 5 (dk_at dksL_law_6 12 rfl rfl)
theorem dL_law_322 : decode cL_law 322 = .ok (.aload_n 2, 1) := dk_44 (dk_at dksL_law_6 14 rfl rfl)
theorem dL_law_323 : decode cL_law 323 = .ok (.aload_n 0, 1) := dk_42 (dk_at dksL_law_6 15 rfl rfl)
theorem dL_law_324 : decode cL_law 324 = .ok (.iload 4, 2) := dk_21 4 (dk_at dksL_law_6 16 rfl rfl)
theorem dL_law_326 : decode cL_law 326 = .ok (.iconst 1, 1) := dk_4 (dk_at dksL_law_6 18 rfl rfl)
theorem dL_law_327 : decode cL_law 327 = .ok (.iadd, 1) := dk_96 (dk_at dksL_law_6 19 rfl rfl)
theorem dL_law_328 : decode cL_law 328 = .ok (.iaload, 1) := dk_46 (dk_at dksL_law_6 20 rfl rfl)
theorem dL_law_329 : decode cL_law 329 = .ok (.invokevirtual 134, 3) := dk_182 0 134 (dk_at dksL_law_6 21 rfl rfl)
theorem dL_law_332 : decode cL_law 332 = .ok (.istore 6, 2) := dk_54 6 (dk_at dksL_law_7 0 rfl rfl)
theorem dL_law_334 : decode cL_law 334 = .ok (.aload_n 2, 1) := dk_44 (dk_at dksL_law_7 2 rfl rfl)
theorem dL_law_335 : decode cL_law 335 = .ok (.invokevirtual 135, 3) := dk_182 0 135 (dk_at dksL_law_7 3 rfl rfl)
theorem dL_law_338 : decode cL_law 338 = .ok (.iload 5, 2) := dk_21 5 (dk_at dksL_law_7 6 rfl rfl)
theorem dL_law_340 : decode cL_law 340 = .ok (.if_icmp .eq 5, 3) := dk_159 0 5 (dk_at dksL_law_7 8 rfl rfl)
theorem dL_law_343 : decode cL_law 343 = .ok (.iconst 0, 1) := dk_3 (dk_at dksL_law_7 11 rfl rfl)
theorem dL_law_344 : decode cL_law 344 = .ok (.ireturn, 1) := dk_172 (dk_at dksL_law_7 12 rfl rfl)
theorem dL_law_345 : decode cL_law 345 = .ok (.iload 5, 2) := dk_21 5 (dk_at dksL_law_7 13 rfl rfl)
theorem dL_law_347 : decode cL_law 347 = .ok (.ifCond .ne 15, 3) := dk_154 0 15 (dk_at dksL_law_7 15 rfl rfl)
theorem dL_law_350 : decode cL_law 350 = .ok (.aload_n 3, 1) := dk_45 (dk_at dksL_law_7 18 rfl rfl)
theorem dL_law_351 : decode cL_law 351 = .ok (.iconst 0, 1) := dk_3 (dk_at dksL_law_7 19 rfl rfl)
theorem dL_law_352 : decode cL_law 352 = .ok (.laload, 1) := dk_47 (dk_at dksL_law_7 20 rfl rfl)
theorem dL_law_353 : decode cL_law 353 = .ok (.iload 6, 2) := dk_21 6 (dk_at dksL_law_7 21 rfl rfl)
theorem dL_law_355 : decode cL_law 355 = .ok (.i2l, 1) := dk_133 (dk_at dksL_law_7 23 rfl rfl)
theorem dL_law_356 : decode cL_law 356 = .ok (.lcmp, 1) := dk_148 (dk_at dksL_law_8 0 rfl rfl)
theorem dL_law_357 : decode cL_law 357 = .ok (.ifCond .eq 5, 3) := dk_153 0 5 (dk_at dksL_law_8 1 rfl rfl)
theorem dL_law_360 : decode cL_law 360 = .ok (.iconst 0, 1) := dk_3 (dk_at dksL_law_8 4 rfl rfl)
theorem dL_law_361 : decode cL_law 361 = .ok (.ireturn, 1) := dk_172 (dk_at dksL_law_8 5 rfl rfl)
theorem dL_law_362 : decode cL_law 362 = .ok (.goto 2283, 3) := dk_167 8 235 (dk_at dksL_law_8 6 rfl rfl)
theorem dL_law_365 : decode cL_law 365 = .ok (.aload_n 1, 1) := dk_43 (dk_at dksL_law_8 9 rfl rfl)
theorem dL_law_366 : decode cL_law 366 = .ok (.aload_n 0, 1) := dk_42 (dk_at dksL_law_8 10 rfl rfl)
theorem dL_law_367 : decode cL_law 367 = .ok (.iload 4, 2) := dk_21 4 (dk_at dksL_law_8 11 rfl rfl)
theorem dL_law_369 : decode cL_law 369 = .ok (.iconst 1, 1) := dk_4 (dk_at dksL_law_8 13 rfl rfl)
theorem dL_law_370 : decode cL_law 370 = .ok (.iadd, 1) := dk_96 (dk_at dksL_law_8 14 rfl rfl)
theorem dL_law_371 : decode cL_law 371 = .ok (.iaload, 1) := dk_46 (dk_at dksL_law_8 15 rfl rfl)
theorem dL_law_372 : decode cL_law 372 = .ok (.aload_n 3, 1) := dk_45 (dk_at dksL_law_8 16 rfl rfl)
theorem dL_law_373 : decode cL_law 373 = .ok (.invokestatic 139, 3) := dk_184 0 139 (dk_at dksL_law_8 17 rfl rfl)
theorem dL_law_376 : decode cL_law 376 = .ok (.istore 5, 2) := dk_54 5 (dk_at dksL_law_8 20 rfl rfl)
theorem dL_law_378 : decode cL_law 378 = .ok (.aload_n 2, 1) := dk_44 (dk_at dksL_law_8 22 rfl rfl)
theorem dL_law_379 : decode cL_law 379 = .ok (.aload_n 0, 1) := dk_42 (dk_at dksL_law_8 23 rfl rfl)
theorem dL_law_380 : decode cL_law 380 = .ok (.iload 4, 2) := dk_21 4 (dk_at dksL_law_9 0 rfl rfl)
theorem dL_law_382 : decode cL_law 382 = .ok (.iconst 1, 1) := dk_4 (dk_at dksL_law_9 2 rfl rfl)
theorem dL_law_383 : decode cL_law 383 = .ok (.iadd, 1) := dk_96 (dk_at dksL_law_9 3 rfl rfl)
theorem dL_law_384 : decode cL_law 384 = .ok (.iaload, 1) := dk_46 (dk_at dksL_law_9 4 rfl rfl)
theorem dL_law_385 : decode cL_law 385 = .ok (.invokevirtual 141, 3) := dk_182 0 141 (dk_at dksL_law_9 5 rfl rfl)
theorem dL_law_388 : decode cL_law 388 = .ok (.istore 6, 2) := dk_54 6 (dk_at dksL_law_9 8 rfl rfl)
theorem dL_law_390 : decode cL_law 390 = .ok (.aload_n 2, 1) := dk_44 (dk_at dksL_law_9 10 rfl rfl)
theorem dL_law_391 : decode cL_law 391 = .ok (.invokevirtual 135, 3) := dk_182 0 135 (dk_at dksL_law_9 11 rfl rfl)
theorem dL_law_394 : decode cL_law 394 = .ok (.iload 5, 2) := dk_21 5 (dk_at dksL_law_9 14 rfl rfl)
theorem dL_law_396 : decode cL_law 396 = .ok (.if_icmp .eq 5, 3) := dk_159 0 5 (dk_at dksL_law_9 16 rfl rfl)
theorem dL_law_399 : decode cL_law 399 = .ok (.iconst 0, 1) := dk_3 (dk_at dksL_law_9 19 rfl rfl)
theorem dL_law_400 : decode cL_law 400 = .ok (.ireturn, 1) := dk_172 (dk_at dksL_law_9 20 rfl rfl)
theorem dL_law_401 : decode cL_law 401 = .ok (.iload 5, 2) := dk_21 5 (dk_at dksL_law_9 21 rfl rfl)
theorem dL_law_403 : decode cL_law 403 = .ok (.ifCond .ne 15, 3) := dk_154 0 15 (dk_at dksL_law_10 0 rfl rfl)
theorem dL_law_406 : decode cL_law 406 = .ok (.aload_n 3, 1) := dk_45 (dk_at dksL_law_10 3 rfl rfl)
theorem dL_law_407 : decode cL_law 407 = .ok (.iconst 0, 1) := dk_3 (dk_at dksL_law_10 4 rfl rfl)
theorem dL_law_408 : decode cL_law 408 = .ok (.laload, 1) := dk_47 (dk_at dksL_law_10 5 rfl rfl)
theorem dL_law_409 : decode cL_law 409 = .ok (.iload 6, 2) := dk_21 6 (dk_at dksL_law_10 6 rfl rfl)
theorem dL_law_411 : decode cL_law 411 = .ok (.i2l, 1) := dk_133 (dk_at dksL_law_10 8 rfl rfl)
theorem dL_law_412 : decode cL_law 412 = .ok (.lcmp, 1) := dk_148 (dk_at dksL_law_10 9 rfl rfl)
theorem dL_law_413 : decode cL_law 413 = .ok (.ifCond .eq 5, 3) := dk_153 0 5 (dk_at dksL_law_10 10 rfl rfl)
theorem dL_law_416 : decode cL_law 416 = .ok (.iconst 0, 1) := dk_3 (dk_at dksL_law_10 13 rfl rfl)
theorem dL_law_417 : decode cL_law 417 = .ok (.ireturn, 1) := dk_172 (dk_at dksL_law_10 14 rfl rfl)
theorem dL_law_418 : decode cL_law 418 = .ok (.goto 2227, 3) := dk_167 8 179 (dk_at dksL_law_10 15 rfl rfl)
theorem dL_law_421 : decode cL_law 421 = .ok (.aload_n 1, 1) := dk_43 (dk_at dksL_law_10 18 rfl rfl)
theorem dL_law_422 : decode cL_law 422 = .ok (.aload_n 0, 1) := dk_42 (dk_at dksL_law_10 19 rfl rfl)
theorem dL_law_423 : decode cL_law 423 = .ok (.iload 4, 2) := dk_21 4 (dk_at dksL_law_10 20 rfl rfl)
theorem dL_law_425 : decode cL_law 425 = .ok (.iconst 1, 1) := dk_4 (dk_at dksL_law_10 22 rfl rfl)
theorem dL_law_426 : decode cL_law 426 = .ok (.iadd, 1) := dk_96 (dk_at dksL_law_10 23 rfl rfl)
theorem dL_law_427 : decode cL_law 427 = .ok (.iaload, 1) := dk_46 (dk_at dksL_law_11 0 rfl rfl)
theorem dL_law_428 : decode cL_law 428 = .ok (.aload_n 3, 1) := dk_45 (dk_at dksL_law_11 1 rfl rfl)
theorem dL_law_429 : decode cL_law 429 = .ok (.invokestatic 142, 3) := dk_184 0 142 (dk_at dksL_law_11 2 rfl rfl)
theorem dL_law_432 : decode cL_law 432 = .ok (.istore 5, 2) := dk_54 5 (dk_at dksL_law_11 5 rfl rfl)
theorem dL_law_434 : decode cL_law 434 = .ok (.aload_n 2, 1) := dk_44 (dk_at dksL_law_11 7 rfl rfl)
theorem dL_law_435 : decode cL_law 435 = .ok (.aload_n 0, 1) := dk_42 (dk_at dksL_law_11 8 rfl rfl)
theorem dL_law_436 : decode cL_law 436 = .ok (.iload 4, 2) := dk_21 4 (dk_at dksL_law_11 9 rfl rfl)
theorem dL_law_438 : decode cL_law 438 = .ok (.iconst 1, 1) := dk_4 (dk_at dksL_law_11 11 rfl rfl)
theorem dL_law_439 : decode cL_law 439 = .ok (.iadd, 1) := dk_96 (dk_at dksL_law_11 12 rfl rfl)
theorem dL_law_440 : decode cL_law 440 = .ok (.iaload, 1) := dk_46 (dk_at dksL_law_11 13 rfl rfl)
theorem dL_law_441 : decode cL_law 441 = .ok (.invokevirtual 144, 3) := dk_182 0 144 (dk_at dksL_law_11 14 rfl rfl)
theorem dL_law_444 : decode cL_law 444 = .ok (.istore 6, 2) := dk_54 6 (dk_at dksL_law_11 17 rfl rfl)
theorem dL_law_446 : decode cL_law 446 = .ok (.aload_n 2, 1) := dk_44 (dk_at dksL_law_11 19 rfl rfl)
theorem dL_law_447 : decode cL_law 447 = .ok (.invokevirtual 135, 3) := dk_182 0 135 (dk_at dksL_law_11 20 rfl rfl)
theorem dL_law_450 : decode cL_law 450 = .ok (.iload 5, 2) := dk_21 5 (dk_at dksL_law_12 0 rfl rfl)
theorem dL_law_452 : decode cL_law 452 = .ok (.if_icmp .eq 5, 3) := dk_159 0 5 (dk_at dksL_law_12 2 rfl rfl)
theorem dL_law_455 : decode cL_law 455 = .ok (.iconst 0, 1) := dk_3 (dk_at dksL_law_12 5 rfl rfl)
theorem dL_law_456 : decode cL_law 456 = .ok (.ireturn, 1) := dk_172 (dk_at dksL_law_12 6 rfl rfl)
theorem dL_law_457 : decode cL_law 457 = .ok (.iload 5, 2) := dk_21 5 (dk_at dksL_law_12 7 rfl rfl)
theorem dL_law_459 : decode cL_law 459 = .ok (.ifCond .ne 15, 3) := dk_154 0 15 (dk_at dksL_law_12 9 rfl rfl)
theorem dL_law_462 : decode cL_law 462 = .ok (.aload_n 3, 1) := dk_45 (dk_at dksL_law_12 12 rfl rfl)
theorem dL_law_463 : decode cL_law 463 = .ok (.iconst 0, 1) := dk_3 (dk_at dksL_law_12 13 rfl rfl)
theorem dL_law_464 : decode cL_law 464 = .ok (.laload, 1) := dk_47 (dk_at dksL_law_12 14 rfl rfl)
theorem dL_law_465 : decode cL_law 465 = .ok (.iload 6, 2) := dk_21 6 (dk_at dksL_law_12 15 rfl rfl)
theorem dL_law_467 : decode cL_law 467 = .ok (.i2l, 1) := dk_133 (dk_at dksL_law_12 17 rfl rfl)
theorem dL_law_468 : decode cL_law 468 = .ok (.lcmp, 1) := dk_148 (dk_at dksL_law_12 18 rfl rfl)
theorem dL_law_469 : decode cL_law 469 = .ok (.ifCond .eq 5, 3) := dk_153 0 5 (dk_at dksL_law_12 19 rfl rfl)
theorem dL_law_472 : decode cL_law 472 = .ok (.iconst 0, 1) := dk_3 (dk_at dksL_law_12 22 rfl rfl)
theorem dL_law_473 : decode cL_law 473 = .ok (.ireturn, 1) := dk_172 (dk_at dksL_law_12 23 rfl rfl)
theorem dL_law_474 : decode cL_law 474 = .ok (.goto 2171, 3) := dk_167 8 123 (dk_at dksL_law_13 0 rfl rfl)
theorem dL_law_477 : decode cL_law 477 = .ok (.aload_n 1, 1) := dk_43 (dk_at dksL_law_13 3 rfl rfl)
theorem dL_law_478 : decode cL_law 478 = .ok (.aload_n 0, 1) := dk_42 (dk_at dksL_law_13 4 rfl rfl)
theorem dL_law_479 : decode cL_law 479 = .ok (.iload 4, 2) := dk_21 4 (dk_at dksL_law_13 5 rfl rfl)
theorem dL_law_481 : decode cL_law 481 = .ok (.iconst 1, 1) := dk_4 (dk_at dksL_law_13 7 rfl rfl)
theorem dL_law_482 : decode cL_law 482 = .ok (.iadd, 1) := dk_96 (dk_at dksL_law_13 8 rfl rfl)
theorem dL_law_483 : decode cL_law 483 = .ok (.iaload, 1) := dk_46 (dk_at dksL_law_13 9 rfl rfl)
theorem dL_law_484 : decode cL_law 484 = .ok (.aload_n 3, 1) := dk_45 (dk_at dksL_law_13 10 rfl rfl)
theorem dL_law_485 : decode cL_law 485 = .ok (.invokestatic 145, 3) := dk_184 0 145 (dk_at dksL_law_13 11 rfl rfl)
theorem dL_law_488 : decode cL_law 488 = .ok (.istore 5, 2) := dk_54 5 (dk_at dksL_law_13 14 rfl rfl)
theorem dL_law_490 : decode cL_law 490 = .ok (.aload_n 2, 1) := dk_44 (dk_at dksL_law_13 16 rfl rfl)
theorem dL_law_491 : decode cL_law 491 = .ok (.aload_n 0, 1) := dk_42 (dk_at dksL_law_13 17 rfl rfl)
theorem dL_law_492 : decode cL_law 492 = .ok (.iload 4, 2) := dk_21 4 (dk_at dksL_law_13 18 rfl rfl)
theorem dL_law_494 : decode cL_law 494 = .ok (.iconst 1, 1) := dk_4 (dk_at dksL_law_13 20 rfl rfl)
theorem dL_law_495 : decode cL_law 495 = .ok (.iadd, 1) := dk_96 (dk_at dksL_law_13 21 rfl rfl)
theorem dL_law_496 : decode cL_law 496 = .ok (.iaload, 1) := dk_46 (dk_at dksL_law_13 22 rfl rfl)
theorem dL_law_497 : decode cL_law 497 = .ok (.invokevirtual 147, 3) := dk_182 0 147 (dk_at dksL_law_14 0 rfl rfl)
theorem dL_law_500 : decode cL_law 500 = .ok (.istore 6, 2) := dk_54 6 (dk_at dksL_law_14 3 rfl rfl)
theorem dL_law_502 : decode cL_law 502 = .ok (.aload_n 2, 1) := dk_44 (dk_at dksL_law_14 5 rfl rfl)
theorem dL_law_503 : decode cL_law 503 = .ok (.invokevirtual 135, 3) := dk_182 0 135 (dk_at dksL_law_14 6 rfl rfl)
theorem dL_law_506 : decode cL_law 506 = .ok (.iload 5, 2) := dk_21 5 (dk_at dksL_law_14 9 rfl rfl)
theorem dL_law_508 : decode cL_law 508 = .ok (.if_icmp .eq 5, 3) := dk_159 0 5 (dk_at dksL_law_14 11 rfl rfl)
theorem dL_law_511 : decode cL_law 511 = .ok (.iconst 0, 1) := dk_3 (dk_at dksL_law_14 14 rfl rfl)
theorem dL_law_512 : decode cL_law 512 = .ok (.ireturn, 1) := dk_172 (dk_at dksL_law_14 15 rfl rfl)
theorem dL_law_513 : decode cL_law 513 = .ok (.iload 5, 2) := dk_21 5 (dk_at dksL_law_14 16 rfl rfl)
theorem dL_law_515 : decode cL_law 515 = .ok (.ifCond .ne 15, 3) := dk_154 0 15 (dk_at dksL_law_14 18 rfl rfl)
theorem dL_law_518 : decode cL_law 518 = .ok (.aload_n 3, 1) := dk_45 (dk_at dksL_law_14 21 rfl rfl)
theorem dL_law_519 : decode cL_law 519 = .ok (.iconst 0, 1) := dk_3 (dk_at dksL_law_14 22 rfl rfl)
theorem dL_law_520 : decode cL_law 520 = .ok (.laload, 1) := dk_47 (dk_at dksL_law_14 23 rfl rfl)
theorem dL_law_521 : decode cL_law 521 = .ok (.iload 6, 2) := dk_21 6 (dk_at dksL_law_15 0 rfl rfl)
theorem dL_law_523 : decode cL_law 523 = .ok (.i2l, 1) := dk_133 (dk_at dksL_law_15 2 rfl rfl)
theorem dL_law_524 : decode cL_law 524 = .ok (.lcmp, 1) := dk_148 (dk_at dksL_law_15 3 rfl rfl)
theorem dL_law_525 : decode cL_law 525 = .ok (.ifCond .eq 5, 3) := dk_153 0 5 (dk_at dksL_law_15 4 rfl rfl)
theorem dL_law_528 : decode cL_law 528 = .ok (.iconst 0, 1) := dk_3 (dk_at dksL_law_15 7 rfl rfl)
theorem dL_law_529 : decode cL_law 529 = .ok (.ireturn, 1) := dk_172 (dk_at dksL_law_15 8 rfl rfl)
theorem dL_law_530 : decode cL_law 530 = .ok (.goto 2115, 3) := dk_167 8 67 (dk_at dksL_law_15 9 rfl rfl)
theorem dL_law_533 : decode cL_law 533 = .ok (.aload_n 1, 1) := dk_43 (dk_at dksL_law_15 12 rfl rfl)
theorem dL_law_534 : decode cL_law 534 = .ok (.aload_n 0, 1) := dk_42 (dk_at dksL_law_15 13 rfl rfl)
theorem dL_law_535 : decode cL_law 535 = .ok (.iload 4, 2) := dk_21 4 (dk_at dksL_law_15 14 rfl rfl)
theorem dL_law_537 : decode cL_law 537 = .ok (.iconst 1, 1) := dk_4 (dk_at dksL_law_15 16 rfl rfl)
theorem dL_law_538 : decode cL_law 538 = .ok (.iadd, 1) := dk_96 (dk_at dksL_law_15 17 rfl rfl)
theorem dL_law_539 : decode cL_law 539 = .ok (.iaload, 1) := dk_46 (dk_at dksL_law_15 18 rfl rfl)
theorem dL_law_540 : decode cL_law 540 = .ok (.aload_n 0, 1) := dk_42 (dk_at dksL_law_15 19 rfl rfl)
theorem dL_law_541 : decode cL_law 541 = .ok (.iload 4, 2) := dk_21 4 (dk_at dksL_law_15 20 rfl rfl)
theorem dL_law_543 : decode cL_law 543 = .ok (.iconst 2, 1) := dk_5 (dk_at dksL_law_15 22 rfl rfl)
theorem dL_law_544 : decode cL_law 544 = .ok (.iadd, 1) := dk_96 (dk_at dksL_law_15 23 rfl rfl)
theorem dL_law_545 : decode cL_law 545 = .ok (.iaload, 1) := dk_46 (dk_at dksL_law_16 0 rfl rfl)
theorem dL_law_546 : decode cL_law 546 = .ok (.aload_n 3, 1) := dk_45 (dk_at dksL_law_16 1 rfl rfl)
theorem dL_law_547 : decode cL_law 547 = .ok (.invokestatic 148, 3) := dk_184 0 148 (dk_at dksL_law_16 2 rfl rfl)
theorem dL_law_550 : decode cL_law 550 = .ok (.istore 5, 2) := dk_54 5 (dk_at dksL_law_16 5 rfl rfl)
theorem dL_law_552 : decode cL_law 552 = .ok (.aload_n 2, 1) := dk_44 (dk_at dksL_law_16 7 rfl rfl)
theorem dL_law_553 : decode cL_law 553 = .ok (.aload_n 0, 1) := dk_42 (dk_at dksL_law_16 8 rfl rfl)
theorem dL_law_554 : decode cL_law 554 = .ok (.iload 4, 2) := dk_21 4 (dk_at dksL_law_16 9 rfl rfl)
theorem dL_law_556 : decode cL_law 556 = .ok (.iconst 1, 1) := dk_4 (dk_at dksL_law_16 11 rfl rfl)
theorem dL_law_557 : decode cL_law 557 = .ok (.iadd, 1) := dk_96 (dk_at dksL_law_16 12 rfl rfl)
theorem dL_law_558 : decode cL_law 558 = .ok (.iaload, 1) := dk_46 (dk_at dksL_law_16 13 rfl rfl)
theorem dL_law_559 : decode cL_law 559 = .ok (.aload_n 0, 1) := dk_42 (dk_at dksL_law_16 14 rfl rfl)
theorem dL_law_560 : decode cL_law 560 = .ok (.iload 4, 2) := dk_21 4 (dk_at dksL_law_16 15 rfl rfl)
theorem dL_law_562 : decode cL_law 562 = .ok (.iconst 2, 1) := dk_5 (dk_at dksL_law_16 17 rfl rfl)
theorem dL_law_563 : decode cL_law 563 = .ok (.iadd, 1) := dk_96 (dk_at dksL_law_16 18 rfl rfl)
theorem dL_law_564 : decode cL_law 564 = .ok (.iaload, 1) := dk_46 (dk_at dksL_law_16 19 rfl rfl)
theorem dL_law_565 : decode cL_law 565 = .ok (.invokevirtual 151, 3) := dk_182 0 151 (dk_at dksL_law_16 20 rfl rfl)
theorem dL_law_568 : decode cL_law 568 = .ok (.istore 6, 2) := dk_54 6 (dk_at dksL_law_17 0 rfl rfl)
theorem dL_law_570 : decode cL_law 570 = .ok (.aload_n 2, 1) := dk_44 (dk_at dksL_law_17 2 rfl rfl)
theorem dL_law_571 : decode cL_law 571 = .ok (.invokevirtual 135, 3) := dk_182 0 135 (dk_at dksL_law_17 3 rfl rfl)
theorem dL_law_574 : decode cL_law 574 = .ok (.iload 5, 2) := dk_21 5 (dk_at dksL_law_17 6 rfl rfl)
theorem dL_law_576 : decode cL_law 576 = .ok (.if_icmp .eq 5, 3) := dk_159 0 5 (dk_at dksL_law_17 8 rfl rfl)
theorem dL_law_579 : decode cL_law 579 = .ok (.iconst 0, 1) := dk_3 (dk_at dksL_law_17 11 rfl rfl)
theorem dL_law_580 : decode cL_law 580 = .ok (.ireturn, 1) := dk_172 (dk_at dksL_law_17 12 rfl rfl)
theorem dL_law_581 : decode cL_law 581 = .ok (.iload 5, 2) := dk_21 5 (dk_at dksL_law_17 13 rfl rfl)
theorem dL_law_583 : decode cL_law 583 = .ok (.ifCond .ne 15, 3) := dk_154 0 15 (dk_at dksL_law_17 15 rfl rfl)
theorem dL_law_586 : decode cL_law 586 = .ok (.aload_n 3, 1) := dk_45 (dk_at dksL_law_17 18 rfl rfl)
theorem dL_law_587 : decode cL_law 587 = .ok (.iconst 0, 1) := dk_3 (dk_at dksL_law_17 19 rfl rfl)
theorem dL_law_588 : decode cL_law 588 = .ok (.laload, 1) := dk_47 (dk_at dksL_law_17 20 rfl rfl)
theorem dL_law_589 : decode cL_law 589 = .ok (.iload 6, 2) := dk_21 6 (dk_at dksL_law_17 21 rfl rfl)
theorem dL_law_591 : decode cL_law 591 = .ok (.i2l, 1) := dk_133 (dk_at dksL_law_17 23 rfl rfl)
theorem dL_law_592 : decode cL_law 592 = .ok (.lcmp, 1) := dk_148 (dk_at dksL_law_18 0 rfl rfl)
theorem dL_law_593 : decode cL_law 593 = .ok (.ifCond .eq 5, 3) := dk_153 0 5 (dk_at dksL_law_18 1 rfl rfl)
theorem dL_law_596 : decode cL_law 596 = .ok (.iconst 0, 1) := dk_3 (dk_at dksL_law_18 4 rfl rfl)
theorem dL_law_597 : decode cL_law 597 = .ok (.ireturn, 1) := dk_172 (dk_at dksL_law_18 5 rfl rfl)
theorem dL_law_598 : decode cL_law 598 = .ok (.goto 2047, 3) := dk_167 7 255 (dk_at dksL_law_18 6 rfl rfl)
theorem dL_law_601 : decode cL_law 601 = .ok (.aload_n 1, 1) := dk_43 (dk_at dksL_law_18 9 rfl rfl)
theorem dL_law_602 : decode cL_law 602 = .ok (.aload_n 0, 1) := dk_42 (dk_at dksL_law_18 10 rfl rfl)
theorem dL_law_603 : decode cL_law 603 = .ok (.iload 4, 2) := dk_21 4 (dk_at dksL_law_18 11 rfl rfl)
theorem dL_law_605 : decode cL_law 605 = .ok (.iconst 1, 1) := dk_4 (dk_at dksL_law_18 13 rfl rfl)
theorem dL_law_606 : decode cL_law 606 = .ok (.iadd, 1) := dk_96 (dk_at dksL_law_18 14 rfl rfl)
theorem dL_law_607 : decode cL_law 607 = .ok (.iaload, 1) := dk_46 (dk_at dksL_law_18 15 rfl rfl)
theorem dL_law_608 : decode cL_law 608 = .ok (.aload_n 0, 1) := dk_42 (dk_at dksL_law_18 16 rfl rfl)
theorem dL_law_609 : decode cL_law 609 = .ok (.iload 4, 2) := dk_21 4 (dk_at dksL_law_18 17 rfl rfl)
theorem dL_law_611 : decode cL_law 611 = .ok (.iconst 2, 1) := dk_5 (dk_at dksL_law_18 19 rfl rfl)
theorem dL_law_612 : decode cL_law 612 = .ok (.iadd, 1) := dk_96 (dk_at dksL_law_18 20 rfl rfl)
theorem dL_law_613 : decode cL_law 613 = .ok (.iaload, 1) := dk_46 (dk_at dksL_law_18 21 rfl rfl)
theorem dL_law_614 : decode cL_law 614 = .ok (.aload_n 3, 1) := dk_45 (dk_at dksL_law_18 22 rfl rfl)
theorem dL_law_615 : decode cL_law 615 = .ok (.invokestatic 152, 3) := dk_184 0 152 (dk_at dksL_law_19 0 rfl rfl)
theorem dL_law_618 : decode cL_law 618 = .ok (.istore 5, 2) := dk_54 5 (dk_at dksL_law_19 3 rfl rfl)
theorem dL_law_620 : decode cL_law 620 = .ok (.aload_n 2, 1) := dk_44 (dk_at dksL_law_19 5 rfl rfl)
theorem dL_law_621 : decode cL_law 621 = .ok (.aload_n 0, 1) := dk_42 (dk_at dksL_law_19 6 rfl rfl)
theorem dL_law_622 : decode cL_law 622 = .ok (.iload 4, 2) := dk_21 4 (dk_at dksL_law_19 7 rfl rfl)
theorem dL_law_624 : decode cL_law 624 = .ok (.iconst 1, 1) := dk_4 (dk_at dksL_law_19 9 rfl rfl)
theorem dL_law_625 : decode cL_law 625 = .ok (.iadd, 1) := dk_96 (dk_at dksL_law_19 10 rfl rfl)
theorem dL_law_626 : decode cL_law 626 = .ok (.iaload, 1) := dk_46 (dk_at dksL_law_19 11 rfl rfl)
theorem dL_law_627 : decode cL_law 627 = .ok (.aload_n 0, 1) := dk_42 (dk_at dksL_law_19 12 rfl rfl)
theorem dL_law_628 : decode cL_law 628 = .ok (.iload 4, 2) := dk_21 4 (dk_at dksL_law_19 13 rfl rfl)
theorem dL_law_630 : decode cL_law 630 = .ok (.iconst 2, 1) := dk_5 (dk_at dksL_law_19 15 rfl rfl)
theorem dL_law_631 : decode cL_law 631 = .ok (.iadd, 1) := dk_96 (dk_at dksL_law_19 16 rfl rfl)
theorem dL_law_632 : decode cL_law 632 = .ok (.iaload, 1) := dk_46 (dk_at dksL_law_19 17 rfl rfl)
theorem dL_law_633 : decode cL_law 633 = .ok (.invokevirtual 154, 3) := dk_182 0 154 (dk_at dksL_law_19 18 rfl rfl)
theorem dL_law_636 : decode cL_law 636 = .ok (.istore 6, 2) := dk_54 6 (dk_at dksL_law_19 21 rfl rfl)
theorem dL_law_638 : decode cL_law 638 = .ok (.aload_n 2, 1) := dk_44 (dk_at dksL_law_19 23 rfl rfl)
theorem dL_law_639 : decode cL_law 639 = .ok (.invokevirtual 135, 3) := dk_182 0 135 (dk_at dksL_law_20 0 rfl rfl)
theorem dL_law_642 : decode cL_law 642 = .ok (.iload 5, 2) := dk_21 5 (dk_at dksL_law_20 3 rfl rfl)
theorem dL_law_644 : decode cL_law 644 = .ok (.if_icmp .eq 5, 3) := dk_159 0 5 (dk_at dksL_law_20 5 rfl rfl)
theorem dL_law_647 : decode cL_law 647 = .ok (.iconst 0, 1) := dk_3 (dk_at dksL_law_20 8 rfl rfl)
theorem dL_law_648 : decode cL_law 648 = .ok (.ireturn, 1) := dk_172 (dk_at dksL_law_20 9 rfl rfl)
theorem dL_law_649 : decode cL_law 649 = .ok (.iload 5, 2) := dk_21 5 (dk_at dksL_law_20 10 rfl rfl)
theorem dL_law_651 : decode cL_law 651 = .ok (.ifCond .ne 15, 3) := dk_154 0 15 (dk_at dksL_law_20 12 rfl rfl)
theorem dL_law_654 : decode cL_law 654 = .ok (.aload_n 3, 1) := dk_45 (dk_at dksL_law_20 15 rfl rfl)
theorem dL_law_655 : decode cL_law 655 = .ok (.iconst 0, 1) := dk_3 (dk_at dksL_law_20 16 rfl rfl)
theorem dL_law_656 : decode cL_law 656 = .ok (.laload, 1) := dk_47 (dk_at dksL_law_20 17 rfl rfl)
theorem dL_law_657 : decode cL_law 657 = .ok (.iload 6, 2) := dk_21 6 (dk_at dksL_law_20 18 rfl rfl)
theorem dL_law_659 : decode cL_law 659 = .ok (.i2l, 1) := dk_133 (dk_at dksL_law_20 20 rfl rfl)
theorem dL_law_660 : decode cL_law 660 = .ok (.lcmp, 1) := dk_148 (dk_at dksL_law_20 21 rfl rfl)
theorem dL_law_661 : decode cL_law 661 = .ok (.ifCond .eq 5, 3) := dk_153 0 5 (dk_at dksL_law_21 0 rfl rfl)
theorem dL_law_664 : decode cL_law 664 = .ok (.iconst 0, 1) := dk_3 (dk_at dksL_law_21 3 rfl rfl)
theorem dL_law_665 : decode cL_law 665 = .ok (.ireturn, 1) := dk_172 (dk_at dksL_law_21 4 rfl rfl)
theorem dL_law_666 : decode cL_law 666 = .ok (.goto 1979, 3) := dk_167 7 187 (dk_at dksL_law_21 5 rfl rfl)
theorem dL_law_669 : decode cL_law 669 = .ok (.aload_n 1, 1) := dk_43 (dk_at dksL_law_21 8 rfl rfl)
theorem dL_law_670 : decode cL_law 670 = .ok (.aload_n 0, 1) := dk_42 (dk_at dksL_law_21 9 rfl rfl)
theorem dL_law_671 : decode cL_law 671 = .ok (.iload 4, 2) := dk_21 4 (dk_at dksL_law_21 10 rfl rfl)
theorem dL_law_673 : decode cL_law 673 = .ok (.iconst 1, 1) := dk_4 (dk_at dksL_law_21 12 rfl rfl)
theorem dL_law_674 : decode cL_law 674 = .ok (.iadd, 1) := dk_96 (dk_at dksL_law_21 13 rfl rfl)
theorem dL_law_675 : decode cL_law 675 = .ok (.iaload, 1) := dk_46 (dk_at dksL_law_21 14 rfl rfl)
theorem dL_law_676 : decode cL_law 676 = .ok (.aload_n 0, 1) := dk_42 (dk_at dksL_law_21 15 rfl rfl)
theorem dL_law_677 : decode cL_law 677 = .ok (.iload 4, 2) := dk_21 4 (dk_at dksL_law_21 16 rfl rfl)
theorem dL_law_679 : decode cL_law 679 = .ok (.iconst 2, 1) := dk_5 (dk_at dksL_law_21 18 rfl rfl)
theorem dL_law_680 : decode cL_law 680 = .ok (.iadd, 1) := dk_96 (dk_at dksL_law_21 19 rfl rfl)
theorem dL_law_681 : decode cL_law 681 = .ok (.iaload, 1) := dk_46 (dk_at dksL_law_21 20 rfl rfl)
theorem dL_law_682 : decode cL_law 682 = .ok (.aload_n 3, 1) := dk_45 (dk_at dksL_law_21 21 rfl rfl)
theorem dL_law_683 : decode cL_law 683 = .ok (.invokestatic 155, 3) := dk_184 0 155 (dk_at dksL_law_22 0 rfl rfl)
theorem dL_law_686 : decode cL_law 686 = .ok (.istore 5, 2) := dk_54 5 (dk_at dksL_law_22 3 rfl rfl)
theorem dL_law_688 : decode cL_law 688 = .ok (.aload_n 2, 1) := dk_44 (dk_at dksL_law_22 5 rfl rfl)
theorem dL_law_689 : decode cL_law 689 = .ok (.aload_n 0, 1) := dk_42 (dk_at dksL_law_22 6 rfl rfl)
theorem dL_law_690 : decode cL_law 690 = .ok (.iload 4, 2) := dk_21 4 (dk_at dksL_law_22 7 rfl rfl)
theorem dL_law_692 : decode cL_law 692 = .ok (.iconst 1, 1) := dk_4 (dk_at dksL_law_22 9 rfl rfl)
theorem dL_law_693 : decode cL_law 693 = .ok (.iadd, 1) := dk_96 (dk_at dksL_law_22 10 rfl rfl)
theorem dL_law_694 : decode cL_law 694 = .ok (.iaload, 1) := dk_46 (dk_at dksL_law_22 11 rfl rfl)
theorem dL_law_695 : decode cL_law 695 = .ok (.aload_n 0, 1) := dk_42 (dk_at dksL_law_22 12 rfl rfl)
theorem dL_law_696 : decode cL_law 696 = .ok (.iload 4, 2) := dk_21 4 (dk_at dksL_law_22 13 rfl rfl)
theorem dL_law_698 : decode cL_law 698 = .ok (.iconst 2, 1) := dk_5 (dk_at dksL_law_22 15 rfl rfl)
theorem dL_law_699 : decode cL_law 699 = .ok (.iadd, 1) := dk_96 (dk_at dksL_law_22 16 rfl rfl)
theorem dL_law_700 : decode cL_law 700 = .ok (.iaload, 1) := dk_46 (dk_at dksL_law_22 17 rfl rfl)
theorem dL_law_701 : decode cL_law 701 = .ok (.invokevirtual 157, 3) := dk_182 0 157 (dk_at dksL_law_22 18 rfl rfl)
theorem dL_law_704 : decode cL_law 704 = .ok (.istore 6, 2) := dk_54 6 (dk_at dksL_law_22 21 rfl rfl)
theorem dL_law_706 : decode cL_law 706 = .ok (.aload_n 2, 1) := dk_44 (dk_at dksL_law_22 23 rfl rfl)
theorem dL_law_707 : decode cL_law 707 = .ok (.invokevirtual 135, 3) := dk_182 0 135 (dk_at dksL_law_23 0 rfl rfl)
theorem dL_law_710 : decode cL_law 710 = .ok (.iload 5, 2) := dk_21 5 (dk_at dksL_law_23 3 rfl rfl)
theorem dL_law_712 : decode cL_law 712 = .ok (.if_icmp .eq 5, 3) := dk_159 0 5 (dk_at dksL_law_23 5 rfl rfl)
theorem dL_law_715 : decode cL_law 715 = .ok (.iconst 0, 1) := dk_3 (dk_at dksL_law_23 8 rfl rfl)
theorem dL_law_716 : decode cL_law 716 = .ok (.ireturn, 1) := dk_172 (dk_at dksL_law_23 9 rfl rfl)
theorem dL_law_717 : decode cL_law 717 = .ok (.iload 5, 2) := dk_21 5 (dk_at dksL_law_23 10 rfl rfl)
theorem dL_law_719 : decode cL_law 719 = .ok (.ifCond .ne 15, 3) := dk_154 0 15 (dk_at dksL_law_23 12 rfl rfl)
theorem dL_law_722 : decode cL_law 722 = .ok (.aload_n 3, 1) := dk_45 (dk_at dksL_law_23 15 rfl rfl)
theorem dL_law_723 : decode cL_law 723 = .ok (.iconst 0, 1) := dk_3 (dk_at dksL_law_23 16 rfl rfl)
theorem dL_law_724 : decode cL_law 724 = .ok (.laload, 1) := dk_47 (dk_at dksL_law_23 17 rfl rfl)
theorem dL_law_725 : decode cL_law 725 = .ok (.iload 6, 2) := dk_21 6 (dk_at dksL_law_23 18 rfl rfl)
theorem dL_law_727 : decode cL_law 727 = .ok (.i2l, 1) := dk_133 (dk_at dksL_law_23 20 rfl rfl)
theorem dL_law_728 : decode cL_law 728 = .ok (.lcmp, 1) := dk_148 (dk_at dksL_law_23 21 rfl rfl)
theorem dL_law_729 : decode cL_law 729 = .ok (.ifCond .eq 5, 3) := dk_153 0 5 (dk_at dksL_law_24 0 rfl rfl)
theorem dL_law_732 : decode cL_law 732 = .ok (.iconst 0, 1) := dk_3 (dk_at dksL_law_24 3 rfl rfl)
theorem dL_law_733 : decode cL_law 733 = .ok (.ireturn, 1) := dk_172 (dk_at dksL_law_24 4 rfl rfl)
theorem dL_law_734 : decode cL_law 734 = .ok (.goto 1911, 3) := dk_167 7 119 (dk_at dksL_law_24 5 rfl rfl)
theorem dL_law_737 : decode cL_law 737 = .ok (.aload_n 1, 1) := dk_43 (dk_at dksL_law_24 8 rfl rfl)
theorem dL_law_738 : decode cL_law 738 = .ok (.aload_n 0, 1) := dk_42 (dk_at dksL_law_24 9 rfl rfl)
theorem dL_law_739 : decode cL_law 739 = .ok (.iload 4, 2) := dk_21 4 (dk_at dksL_law_24 10 rfl rfl)
theorem dL_law_741 : decode cL_law 741 = .ok (.iconst 1, 1) := dk_4 (dk_at dksL_law_24 12 rfl rfl)
theorem dL_law_742 : decode cL_law 742 = .ok (.iadd, 1) := dk_96 (dk_at dksL_law_24 13 rfl rfl)
theorem dL_law_743 : decode cL_law 743 = .ok (.iaload, 1) := dk_46 (dk_at dksL_law_24 14 rfl rfl)
theorem dL_law_744 : decode cL_law 744 = .ok (.aload_n 0, 1) := dk_42 (dk_at dksL_law_24 15 rfl rfl)
theorem dL_law_745 : decode cL_law 745 = .ok (.iload 4, 2) := dk_21 4 (dk_at dksL_law_24 16 rfl rfl)
theorem dL_law_747 : decode cL_law 747 = .ok (.iconst 2, 1) := dk_5 (dk_at dksL_law_24 18 rfl rfl)
theorem dL_law_748 : decode cL_law 748 = .ok (.iadd, 1) := dk_96 (dk_at dksL_law_24 19 rfl rfl)
theorem dL_law_749 : decode cL_law 749 = .ok (.iaload, 1) := dk_46 (dk_at dksL_law_24 20 rfl rfl)
theorem dL_law_750 : decode cL_law 750 = .ok (.aload_n 0, 1) := dk_42 (dk_at dksL_law_24 21 rfl rfl)
theorem dL_law_751 : decode cL_law 751 = .ok (.iload 4, 2) := dk_21 4 (dk_at dksL_law_24 22 rfl rfl)
theorem dL_law_753 : decode cL_law 753 = .ok (.iconst 3, 1) := dk_6 (dk_at dksL_law_25 0 rfl rfl)
theorem dL_law_754 : decode cL_law 754 = .ok (.iadd, 1) := dk_96 (dk_at dksL_law_25 1 rfl rfl)
theorem dL_law_755 : decode cL_law 755 = .ok (.iaload, 1) := dk_46 (dk_at dksL_law_25 2 rfl rfl)
theorem dL_law_756 : decode cL_law 756 = .ok (.ifCond .eq 7, 3) := dk_153 0 7 (dk_at dksL_law_25 3 rfl rfl)
theorem dL_law_759 : decode cL_law 759 = .ok (.iconst 1, 1) := dk_4 (dk_at dksL_law_25 6 rfl rfl)
theorem dL_law_760 : decode cL_law 760 = .ok (.goto 4, 3) := dk_167 0 4 (dk_at dksL_law_25 7 rfl rfl)
theorem dL_law_763 : decode cL_law 763 = .ok (.iconst 0, 1) := dk_3 (dk_at dksL_law_25 10 rfl rfl)
theorem dL_law_764 : decode cL_law 764 = .ok (.aload_n 3, 1) := dk_45 (dk_at dksL_law_25 11 rfl rfl)
theorem dL_law_765 : decode cL_law 765 = .ok (.invokestatic 158, 3) := dk_184 0 158 (dk_at dksL_law_25 12 rfl rfl)
theorem dL_law_768 : decode cL_law 768 = .ok (.istore 5, 2) := dk_54 5 (dk_at dksL_law_25 15 rfl rfl)
theorem dL_law_770 : decode cL_law 770 = .ok (.aload_n 2, 1) := dk_44 (dk_at dksL_law_25 17 rfl rfl)
theorem dL_law_771 : decode cL_law 771 = .ok (.aload_n 0, 1) := dk_42 (dk_at dksL_law_25 18 rfl rfl)
theorem dL_law_772 : decode cL_law 772 = .ok (.iload 4, 2) := dk_21 4 (dk_at dksL_law_25 19 rfl rfl)
theorem dL_law_774 : decode cL_law 774 = .ok (.iconst 1, 1) := dk_4 (dk_at dksL_law_25 21 rfl rfl)
theorem dL_law_775 : decode cL_law 775 = .ok (.iadd, 1) := dk_96 (dk_at dksL_law_25 22 rfl rfl)
theorem dL_law_776 : decode cL_law 776 = .ok (.iaload, 1) := dk_46 (dk_at dksL_law_25 23 rfl rfl)
theorem dL_law_777 : decode cL_law 777 = .ok (.aload_n 0, 1) := dk_42 (dk_at dksL_law_26 0 rfl rfl)
theorem dL_law_778 : decode cL_law 778 = .ok (.iload 4, 2) := dk_21 4 (dk_at dksL_law_26 1 rfl rfl)
theorem dL_law_780 : decode cL_law 780 = .ok (.iconst 2, 1) := dk_5 (dk_at dksL_law_26 3 rfl rfl)
theorem dL_law_781 : decode cL_law 781 = .ok (.iadd, 1) := dk_96 (dk_at dksL_law_26 4 rfl rfl)
theorem dL_law_782 : decode cL_law 782 = .ok (.iaload, 1) := dk_46 (dk_at dksL_law_26 5 rfl rfl)
theorem dL_law_783 : decode cL_law 783 = .ok (.aload_n 0, 1) := dk_42 (dk_at dksL_law_26 6 rfl rfl)
theorem dL_law_784 : decode cL_law 784 = .ok (.iload 4, 2) := dk_21 4 (dk_at dksL_law_26 7 rfl rfl)
theorem dL_law_786 : decode cL_law 786 = .ok (.iconst 3, 1) := dk_6 (dk_at dksL_law_26 9 rfl rfl)
theorem dL_law_787 : decode cL_law 787 = .ok (.iadd, 1) := dk_96 (dk_at dksL_law_26 10 rfl rfl)
theorem dL_law_788 : decode cL_law 788 = .ok (.iaload, 1) := dk_46 (dk_at dksL_law_26 11 rfl rfl)
theorem dL_law_789 : decode cL_law 789 = .ok (.ifCond .eq 7, 3) := dk_153 0 7 (dk_at dksL_law_26 12 rfl rfl)
theorem dL_law_792 : decode cL_law 792 = .ok (.iconst 1, 1) := dk_4 (dk_at dksL_law_26 15 rfl rfl)
theorem dL_law_793 : decode cL_law 793 = .ok (.goto 4, 3) := dk_167 0 4 (dk_at dksL_law_26 16 rfl rfl)
theorem dL_law_796 : decode cL_law 796 = .ok (.iconst 0, 1) := dk_3 (dk_at dksL_law_26 19 rfl rfl)
theorem dL_law_797 : decode cL_law 797 = .ok (.invokevirtual 161, 3) := dk_182 0 161 (dk_at dksL_law_26 20 rfl rfl)
theorem dL_law_800 : decode cL_law 800 = .ok (.istore 6, 2) := dk_54 6 (dk_at dksL_law_27 0 rfl rfl)
theorem dL_law_802 : decode cL_law 802 = .ok (.aload_n 2, 1) := dk_44 (dk_at dksL_law_27 2 rfl rfl)
theorem dL_law_803 : decode cL_law 803 = .ok (.invokevirtual 135, 3) := dk_182 0 135 (dk_at dksL_law_27 3 rfl rfl)
theorem dL_law_806 : decode cL_law 806 = .ok (.iload 5, 2) := dk_21 5 (dk_at dksL_law_27 6 rfl rfl)
theorem dL_law_808 : decode cL_law 808 = .ok (.if_icmp .eq 5, 3) := dk_159 0 5 (dk_at dksL_law_27 8 rfl rfl)
theorem dL_law_811 : decode cL_law 811 = .ok (.iconst 0, 1) := dk_3 (dk_at dksL_law_27 11 rfl rfl)
theorem dL_law_812 : decode cL_law 812 = .ok (.ireturn, 1) := dk_172 (dk_at dksL_law_27 12 rfl rfl)
theorem dL_law_813 : decode cL_law 813 = .ok (.iload 5, 2) := dk_21 5 (dk_at dksL_law_27 13 rfl rfl)
theorem dL_law_815 : decode cL_law 815 = .ok (.ifCond .ne 15, 3) := dk_154 0 15 (dk_at dksL_law_27 15 rfl rfl)
theorem dL_law_818 : decode cL_law 818 = .ok (.aload_n 3, 1) := dk_45 (dk_at dksL_law_27 18 rfl rfl)
theorem dL_law_819 : decode cL_law 819 = .ok (.iconst 0, 1) := dk_3 (dk_at dksL_law_27 19 rfl rfl)
theorem dL_law_820 : decode cL_law 820 = .ok (.laload, 1) := dk_47 (dk_at dksL_law_27 20 rfl rfl)
theorem dL_law_821 : decode cL_law 821 = .ok (.iload 6, 2) := dk_21 6 (dk_at dksL_law_27 21 rfl rfl)
theorem dL_law_823 : decode cL_law 823 = .ok (.i2l, 1) := dk_133 (dk_at dksL_law_27 23 rfl rfl)
theorem dL_law_824 : decode cL_law 824 = .ok (.lcmp, 1) := dk_148 (dk_at dksL_law_28 0 rfl rfl)
theorem dL_law_825 : decode cL_law 825 = .ok (.ifCond .eq 5, 3) := dk_153 0 5 (dk_at dksL_law_28 1 rfl rfl)
theorem dL_law_828 : decode cL_law 828 = .ok (.iconst 0, 1) := dk_3 (dk_at dksL_law_28 4 rfl rfl)
theorem dL_law_829 : decode cL_law 829 = .ok (.ireturn, 1) := dk_172 (dk_at dksL_law_28 5 rfl rfl)
theorem dL_law_830 : decode cL_law 830 = .ok (.goto 1815, 3) := dk_167 7 23 (dk_at dksL_law_28 6 rfl rfl)
theorem dL_law_833 : decode cL_law 833 = .ok (.aload_n 1, 1) := dk_43 (dk_at dksL_law_28 9 rfl rfl)
theorem dL_law_834 : decode cL_law 834 = .ok (.aload_n 0, 1) := dk_42 (dk_at dksL_law_28 10 rfl rfl)
theorem dL_law_835 : decode cL_law 835 = .ok (.iload 4, 2) := dk_21 4 (dk_at dksL_law_28 11 rfl rfl)
theorem dL_law_837 : decode cL_law 837 = .ok (.iconst 1, 1) := dk_4 (dk_at dksL_law_28 13 rfl rfl)
theorem dL_law_838 : decode cL_law 838 = .ok (.iadd, 1) := dk_96 (dk_at dksL_law_28 14 rfl rfl)
theorem dL_law_839 : decode cL_law 839 = .ok (.iaload, 1) := dk_46 (dk_at dksL_law_28 15 rfl rfl)
theorem dL_law_840 : decode cL_law 840 = .ok (.aload_n 0, 1) := dk_42 (dk_at dksL_law_28 16 rfl rfl)
theorem dL_law_841 : decode cL_law 841 = .ok (.iload 4, 2) := dk_21 4 (dk_at dksL_law_28 17 rfl rfl)
theorem dL_law_843 : decode cL_law 843 = .ok (.iconst 2, 1) := dk_5 (dk_at dksL_law_28 19 rfl rfl)
theorem dL_law_844 : decode cL_law 844 = .ok (.iadd, 1) := dk_96 (dk_at dksL_law_28 20 rfl rfl)
theorem dL_law_845 : decode cL_law 845 = .ok (.iaload, 1) := dk_46 (dk_at dksL_law_28 21 rfl rfl)
theorem dL_law_846 : decode cL_law 846 = .ok (.aload_n 3, 1) := dk_45 (dk_at dksL_law_28 22 rfl rfl)
theorem dL_law_847 : decode cL_law 847 = .ok (.invokestatic 162, 3) := dk_184 0 162 (dk_at dksL_law_29 0 rfl rfl)
theorem dL_law_850 : decode cL_law 850 = .ok (.istore 5, 2) := dk_54 5 (dk_at dksL_law_29 3 rfl rfl)
theorem dL_law_852 : decode cL_law 852 = .ok (.aload_n 2, 1) := dk_44 (dk_at dksL_law_29 5 rfl rfl)
theorem dL_law_853 : decode cL_law 853 = .ok (.aload_n 0, 1) := dk_42 (dk_at dksL_law_29 6 rfl rfl)
theorem dL_law_854 : decode cL_law 854 = .ok (.iload 4, 2) := dk_21 4 (dk_at dksL_law_29 7 rfl rfl)
theorem dL_law_856 : decode cL_law 856 = .ok (.iconst 1, 1) := dk_4 (dk_at dksL_law_29 9 rfl rfl)
theorem dL_law_857 : decode cL_law 857 = .ok (.iadd, 1) := dk_96 (dk_at dksL_law_29 10 rfl rfl)
theorem dL_law_858 : decode cL_law 858 = .ok (.iaload, 1) := dk_46 (dk_at dksL_law_29 11 rfl rfl)
theorem dL_law_859 : decode cL_law 859 = .ok (.aload_n 0, 1) := dk_42 (dk_at dksL_law_29 12 rfl rfl)
theorem dL_law_860 : decode cL_law 860 = .ok (.iload 4, 2) := dk_21 4 (dk_at dksL_law_29 13 rfl rfl)
theorem dL_law_862 : decode cL_law 862 = .ok (.iconst 2, 1) := dk_5 (dk_at dksL_law_29 15 rfl rfl)
theorem dL_law_863 : decode cL_law 863 = .ok (.iadd, 1) := dk_96 (dk_at dksL_law_29 16 rfl rfl)
theorem dL_law_864 : decode cL_law 864 = .ok (.iaload, 1) := dk_46 (dk_at dksL_law_29 17 rfl rfl)
theorem dL_law_865 : decode cL_law 865 = .ok (.invokevirtual 164, 3) := dk_182 0 164 (dk_at dksL_law_29 18 rfl rfl)
theorem dL_law_868 : decode cL_law 868 = .ok (.istore 6, 2) := dk_54 6 (dk_at dksL_law_29 21 rfl rfl)
theorem dL_law_870 : decode cL_law 870 = .ok (.aload_n 2, 1) := dk_44 (dk_at dksL_law_29 23 rfl rfl)
theorem dL_law_871 : decode cL_law 871 = .ok (.invokevirtual 135, 3) := dk_182 0 135 (dk_at dksL_law_30 0 rfl rfl)
theorem dL_law_874 : decode cL_law 874 = .ok (.iload 5, 2) := dk_21 5 (dk_at dksL_law_30 3 rfl rfl)
theorem dL_law_876 : decode cL_law 876 = .ok (.if_icmp .eq 5, 3) := dk_159 0 5 (dk_at dksL_law_30 5 rfl rfl)
theorem dL_law_879 : decode cL_law 879 = .ok (.iconst 0, 1) := dk_3 (dk_at dksL_law_30 8 rfl rfl)
theorem dL_law_880 : decode cL_law 880 = .ok (.ireturn, 1) := dk_172 (dk_at dksL_law_30 9 rfl rfl)
theorem dL_law_881 : decode cL_law 881 = .ok (.iload 5, 2) := dk_21 5 (dk_at dksL_law_30 10 rfl rfl)
theorem dL_law_883 : decode cL_law 883 = .ok (.ifCond .ne 22, 3) := dk_154 0 22 (dk_at dksL_law_30 12 rfl rfl)
theorem dL_law_886 : decode cL_law 886 = .ok (.aload_n 3, 1) := dk_45 (dk_at dksL_law_30 15 rfl rfl)
theorem dL_law_887 : decode cL_law 887 = .ok (.iconst 0, 1) := dk_3 (dk_at dksL_law_30 16 rfl rfl)
theorem dL_law_888 : decode cL_law 888 = .ok (.laload, 1) := dk_47 (dk_at dksL_law_30 17 rfl rfl)
theorem dL_law_889 : decode cL_law 889 = .ok (.iload 6, 2) := dk_21 6 (dk_at dksL_law_30 18 rfl rfl)
theorem dL_law_891 : decode cL_law 891 = .ok (.ifCond .eq 7, 3) := dk_153 0 7 (dk_at dksL_law_30 20 rfl rfl)
theorem dL_law_894 : decode cL_law 894 = .ok (.lconst 1, 1) := dk_10 (dk_at dksL_law_30 23 rfl rfl)
theorem dL_law_895 : decode cL_law 895 = .ok (.goto 4, 3) := dk_167 0 4 (dk_at dksL_law_31 0 rfl rfl)
theorem dL_law_898 : decode cL_law 898 = .ok (.lconst 0, 1) := dk_9 (dk_at dksL_law_31 3 rfl rfl)
theorem dL_law_899 : decode cL_law 899 = .ok (.lcmp, 1) := dk_148 (dk_at dksL_law_31 4 rfl rfl)
theorem dL_law_900 : decode cL_law 900 = .ok (.ifCond .eq 5, 3) := dk_153 0 5 (dk_at dksL_law_31 5 rfl rfl)
theorem dL_law_903 : decode cL_law 903 = .ok (.iconst 0, 1) := dk_3 (dk_at dksL_law_31 8 rfl rfl)
theorem dL_law_904 : decode cL_law 904 = .ok (.ireturn, 1) := dk_172 (dk_at dksL_law_31 9 rfl rfl)
theorem dL_law_905 : decode cL_law 905 = .ok (.goto 1740, 3) := dk_167 6 204 (dk_at dksL_law_31 10 rfl rfl)
theorem dL_law_908 : decode cL_law 908 = .ok (.aload_n 1, 1) := dk_43 (dk_at dksL_law_31 13 rfl rfl)
theorem dL_law_909 : decode cL_law 909 = .ok (.aload_n 0, 1) := dk_42 (dk_at dksL_law_31 14 rfl rfl)
theorem dL_law_910 : decode cL_law 910 = .ok (.iload 4, 2) := dk_21 4 (dk_at dksL_law_31 15 rfl rfl)
theorem dL_law_912 : decode cL_law 912 = .ok (.iconst 1, 1) := dk_4 (dk_at dksL_law_31 17 rfl rfl)
theorem dL_law_913 : decode cL_law 913 = .ok (.iadd, 1) := dk_96 (dk_at dksL_law_31 18 rfl rfl)
theorem dL_law_914 : decode cL_law 914 = .ok (.iaload, 1) := dk_46 (dk_at dksL_law_31 19 rfl rfl)
theorem dL_law_915 : decode cL_law 915 = .ok (.aload_n 3, 1) := dk_45 (dk_at dksL_law_31 20 rfl rfl)
theorem dL_law_916 : decode cL_law 916 = .ok (.invokestatic 165, 3) := dk_184 0 165 (dk_at dksL_law_31 21 rfl rfl)
theorem dL_law_919 : decode cL_law 919 = .ok (.istore 5, 2) := dk_54 5 (dk_at dksL_law_32 0 rfl rfl)
theorem dL_law_921 : decode cL_law 921 = .ok (.aload_n 2, 1) := dk_44 (dk_at dksL_law_32 2 rfl rfl)
theorem dL_law_922 : decode cL_law 922 = .ok (.aload_n 0, 1) := dk_42 (dk_at dksL_law_32 3 rfl rfl)
theorem dL_law_923 : decode cL_law 923 = .ok (.iload 4, 2) := dk_21 4 (dk_at dksL_law_32 4 rfl rfl)
theorem dL_law_925 : decode cL_law 925 = .ok (.iconst 1, 1) := dk_4 (dk_at dksL_law_32 6 rfl rfl)
theorem dL_law_926 : decode cL_law 926 = .ok (.iadd, 1) := dk_96 (dk_at dksL_law_32 7 rfl rfl)
theorem dL_law_927 : decode cL_law 927 = .ok (.iaload, 1) := dk_46 (dk_at dksL_law_32 8 rfl rfl)
theorem dL_law_928 : decode cL_law 928 = .ok (.invokevirtual 167, 3) := dk_182 0 167 (dk_at dksL_law_32 9 rfl rfl)
theorem dL_law_931 : decode cL_law 931 = .ok (.istore 6, 2) := dk_54 6 (dk_at dksL_law_32 12 rfl rfl)
theorem dL_law_933 : decode cL_law 933 = .ok (.aload_n 2, 1) := dk_44 (dk_at dksL_law_32 14 rfl rfl)
theorem dL_law_934 : decode cL_law 934 = .ok (.invokevirtual 135, 3) := dk_182 0 135 (dk_at dksL_law_32 15 rfl rfl)
theorem dL_law_937 : decode cL_law 937 = .ok (.iload 5, 2) := dk_21 5 (dk_at dksL_law_32 18 rfl rfl)
theorem dL_law_939 : decode cL_law 939 = .ok (.if_icmp .eq 5, 3) := dk_159 0 5 (dk_at dksL_law_32 20 rfl rfl)
theorem dL_law_942 : decode cL_law 942 = .ok (.iconst 0, 1) := dk_3 (dk_at dksL_law_32 23 rfl rfl)
theorem dL_law_943 : decode cL_law 943 = .ok (.ireturn, 1) := dk_172 (dk_at dksL_law_33 0 rfl rfl)
theorem dL_law_944 : decode cL_law 944 = .ok (.iload 5, 2) := dk_21 5 (dk_at dksL_law_33 1 rfl rfl)
theorem dL_law_946 : decode cL_law 946 = .ok (.ifCond .ne 15, 3) := dk_154 0 15 (dk_at dksL_law_33 3 rfl rfl)
theorem dL_law_949 : decode cL_law 949 = .ok (.aload_n 3, 1) := dk_45 (dk_at dksL_law_33 6 rfl rfl)
theorem dL_law_950 : decode cL_law 950 = .ok (.iconst 0, 1) := dk_3 (dk_at dksL_law_33 7 rfl rfl)
theorem dL_law_951 : decode cL_law 951 = .ok (.laload, 1) := dk_47 (dk_at dksL_law_33 8 rfl rfl)
theorem dL_law_952 : decode cL_law 952 = .ok (.iload 6, 2) := dk_21 6 (dk_at dksL_law_33 9 rfl rfl)
theorem dL_law_954 : decode cL_law 954 = .ok (.i2l, 1) := dk_133 (dk_at dksL_law_33 11 rfl rfl)
theorem dL_law_955 : decode cL_law 955 = .ok (.lcmp, 1) := dk_148 (dk_at dksL_law_33 12 rfl rfl)
theorem dL_law_956 : decode cL_law 956 = .ok (.ifCond .eq 5, 3) := dk_153 0 5 (dk_at dksL_law_33 13 rfl rfl)
theorem dL_law_959 : decode cL_law 959 = .ok (.iconst 0, 1) := dk_3 (dk_at dksL_law_33 16 rfl rfl)
theorem dL_law_960 : decode cL_law 960 = .ok (.ireturn, 1) := dk_172 (dk_at dksL_law_33 17 rfl rfl)
theorem dL_law_961 : decode cL_law 961 = .ok (.goto 1684, 3) := dk_167 6 148 (dk_at dksL_law_33 18 rfl rfl)
theorem dL_law_964 : decode cL_law 964 = .ok (.aload_n 1, 1) := dk_43 (dk_at dksL_law_33 21 rfl rfl)
theorem dL_law_965 : decode cL_law 965 = .ok (.aload_n 0, 1) := dk_42 (dk_at dksL_law_33 22 rfl rfl)
theorem dL_law_966 : decode cL_law 966 = .ok (.iload 4, 2) := dk_21 4 (dk_at dksL_law_34 0 rfl rfl)
theorem dL_law_968 : decode cL_law 968 = .ok (.iconst 1, 1) := dk_4 (dk_at dksL_law_34 2 rfl rfl)
theorem dL_law_969 : decode cL_law 969 = .ok (.iadd, 1) := dk_96 (dk_at dksL_law_34 3 rfl rfl)
theorem dL_law_970 : decode cL_law 970 = .ok (.iaload, 1) := dk_46 (dk_at dksL_law_34 4 rfl rfl)
theorem dL_law_971 : decode cL_law 971 = .ok (.aload_n 3, 1) := dk_45 (dk_at dksL_law_34 5 rfl rfl)
theorem dL_law_972 : decode cL_law 972 = .ok (.invokestatic 168, 3) := dk_184 0 168 (dk_at dksL_law_34 6 rfl rfl)
theorem dL_law_975 : decode cL_law 975 = .ok (.istore 5, 2) := dk_54 5 (dk_at dksL_law_34 9 rfl rfl)
theorem dL_law_977 : decode cL_law 977 = .ok (.aload_n 2, 1) := dk_44 (dk_at dksL_law_34 11 rfl rfl)
theorem dL_law_978 : decode cL_law 978 = .ok (.aload_n 0, 1) := dk_42 (dk_at dksL_law_34 12 rfl rfl)
theorem dL_law_979 : decode cL_law 979 = .ok (.iload 4, 2) := dk_21 4 (dk_at dksL_law_34 13 rfl rfl)
theorem dL_law_981 : decode cL_law 981 = .ok (.iconst 1, 1) := dk_4 (dk_at dksL_law_34 15 rfl rfl)
theorem dL_law_982 : decode cL_law 982 = .ok (.iadd, 1) := dk_96 (dk_at dksL_law_34 16 rfl rfl)
theorem dL_law_983 : decode cL_law 983 = .ok (.iaload, 1) := dk_46 (dk_at dksL_law_34 17 rfl rfl)
theorem dL_law_984 : decode cL_law 984 = .ok (.invokevirtual 170, 3) := dk_182 0 170 (dk_at dksL_law_34 18 rfl rfl)
theorem dL_law_987 : decode cL_law 987 = .ok (.istore 6, 2) := dk_54 6 (dk_at dksL_law_34 21 rfl rfl)
theorem dL_law_989 : decode cL_law 989 = .ok (.aload_n 2, 1) := dk_44 (dk_at dksL_law_34 23 rfl rfl)
theorem dL_law_990 : decode cL_law 990 = .ok (.invokevirtual 135, 3) := dk_182 0 135 (dk_at dksL_law_35 0 rfl rfl)
theorem dL_law_993 : decode cL_law 993 = .ok (.iload 5, 2) := dk_21 5 (dk_at dksL_law_35 3 rfl rfl)
theorem dL_law_995 : decode cL_law 995 = .ok (.if_icmp .eq 5, 3) := dk_159 0 5 (dk_at dksL_law_35 5 rfl rfl)
theorem dL_law_998 : decode cL_law 998 = .ok (.iconst 0, 1) := dk_3 (dk_at dksL_law_35 8 rfl rfl)
theorem dL_law_999 : decode cL_law 999 = .ok (.ireturn, 1) := dk_172 (dk_at dksL_law_35 9 rfl rfl)
theorem dL_law_1000 : decode cL_law 1000 = .ok (.iload 5, 2) := dk_21 5 (dk_at dksL_law_35 10 rfl rfl)
theorem dL_law_1002 : decode cL_law 1002 = .ok (.ifCond .ne 15, 3) := dk_154 0 15 (dk_at dksL_law_35 12 rfl rfl)
theorem dL_law_1005 : decode cL_law 1005 = .ok (.aload_n 3, 1) := dk_45 (dk_at dksL_law_35 15 rfl rfl)
theorem dL_law_1006 : decode cL_law 1006 = .ok (.iconst 0, 1) := dk_3 (dk_at dksL_law_35 16 rfl rfl)
theorem dL_law_1007 : decode cL_law 1007 = .ok (.laload, 1) := dk_47 (dk_at dksL_law_35 17 rfl rfl)
theorem dL_law_1008 : decode cL_law 1008 = .ok (.iload 6, 2) := dk_21 6 (dk_at dksL_law_35 18 rfl rfl)
theorem dL_law_1010 : decode cL_law 1010 = .ok (.i2l, 1) := dk_133 (dk_at dksL_law_35 20 rfl rfl)
theorem dL_law_1011 : decode cL_law 1011 = .ok (.lcmp, 1) := dk_148 (dk_at dksL_law_35 21 rfl rfl)
theorem dL_law_1012 : decode cL_law 1012 = .ok (.ifCond .eq 5, 3) := dk_153 0 5 (dk_at dksL_law_36 0 rfl rfl)
theorem dL_law_1015 : decode cL_law 1015 = .ok (.iconst 0, 1) := dk_3 (dk_at dksL_law_36 3 rfl rfl)
theorem dL_law_1016 : decode cL_law 1016 = .ok (.ireturn, 1) := dk_172 (dk_at dksL_law_36 4 rfl rfl)
theorem dL_law_1017 : decode cL_law 1017 = .ok (.goto 1628, 3) := dk_167 6 92 (dk_at dksL_law_36 5 rfl rfl)
theorem dL_law_1020 : decode cL_law 1020 = .ok (.aload_n 1, 1) := dk_43 (dk_at dksL_law_36 8 rfl rfl)
theorem dL_law_1021 : decode cL_law 1021 = .ok (.aload_n 0, 1) := dk_42 (dk_at dksL_law_36 9 rfl rfl)
theorem dL_law_1022 : decode cL_law 1022 = .ok (.iload 4, 2) := dk_21 4 (dk_at dksL_law_36 10 rfl rfl)
theorem dL_law_1024 : decode cL_law 1024 = .ok (.iconst 1, 1) := dk_4 (dk_at dksL_law_36 12 rfl rfl)
theorem dL_law_1025 : decode cL_law 1025 = .ok (.iadd, 1) := dk_96 (dk_at dksL_law_36 13 rfl rfl)
theorem dL_law_1026 : decode cL_law 1026 = .ok (.iaload, 1) := dk_46 (dk_at dksL_law_36 14 rfl rfl)
theorem dL_law_1027 : decode cL_law 1027 = .ok (.aload_n 3, 1) := dk_45 (dk_at dksL_law_36 15 rfl rfl)
theorem dL_law_1028 : decode cL_law 1028 = .ok (.invokestatic 171, 3) := dk_184 0 171 (dk_at dksL_law_36 16 rfl rfl)
theorem dL_law_1031 : decode cL_law 1031 = .ok (.istore 5, 2) := dk_54 5 (dk_at dksL_law_36 19 rfl rfl)
theorem dL_law_1033 : decode cL_law 1033 = .ok (.aload_n 2, 1) := dk_44 (dk_at dksL_law_36 21 rfl rfl)
theorem dL_law_1034 : decode cL_law 1034 = .ok (.aload_n 0, 1) := dk_42 (dk_at dksL_law_36 22 rfl rfl)
theorem dL_law_1035 : decode cL_law 1035 = .ok (.iload 4, 2) := dk_21 4 (dk_at dksL_law_37 0 rfl rfl)
theorem dL_law_1037 : decode cL_law 1037 = .ok (.iconst 1, 1) := dk_4 (dk_at dksL_law_37 2 rfl rfl)
theorem dL_law_1038 : decode cL_law 1038 = .ok (.iadd, 1) := dk_96 (dk_at dksL_law_37 3 rfl rfl)
theorem dL_law_1039 : decode cL_law 1039 = .ok (.iaload, 1) := dk_46 (dk_at dksL_law_37 4 rfl rfl)
theorem dL_law_1040 : decode cL_law 1040 = .ok (.invokevirtual 173, 3) := dk_182 0 173 (dk_at dksL_law_37 5 rfl rfl)
theorem dL_law_1043 : decode cL_law 1043 = .ok (.istore 6, 2) := dk_54 6 (dk_at dksL_law_37 8 rfl rfl)
theorem dL_law_1045 : decode cL_law 1045 = .ok (.aload_n 2, 1) := dk_44 (dk_at dksL_law_37 10 rfl rfl)
theorem dL_law_1046 : decode cL_law 1046 = .ok (.invokevirtual 135, 3) := dk_182 0 135 (dk_at dksL_law_37 11 rfl rfl)
theorem dL_law_1049 : decode cL_law 1049 = .ok (.iload 5, 2) := dk_21 5 (dk_at dksL_law_37 14 rfl rfl)
theorem dL_law_1051 : decode cL_law 1051 = .ok (.if_icmp .eq 5, 3) := dk_159 0 5 (dk_at dksL_law_37 16 rfl rfl)
theorem dL_law_1054 : decode cL_law 1054 = .ok (.iconst 0, 1) := dk_3 (dk_at dksL_law_37 19 rfl rfl)
theorem dL_law_1055 : decode cL_law 1055 = .ok (.ireturn, 1) := dk_172 (dk_at dksL_law_37 20 rfl rfl)
theorem dL_law_1056 : decode cL_law 1056 = .ok (.iload 5, 2) := dk_21 5 (dk_at dksL_law_37 21 rfl rfl)
theorem dL_law_1058 : decode cL_law 1058 = .ok (.ifCond .ne 15, 3) := dk_154 0 15 (dk_at dksL_law_38 0 rfl rfl)
theorem dL_law_1061 : decode cL_law 1061 = .ok (.aload_n 3, 1) := dk_45 (dk_at dksL_law_38 3 rfl rfl)
theorem dL_law_1062 : decode cL_law 1062 = .ok (.iconst 0, 1) := dk_3 (dk_at dksL_law_38 4 rfl rfl)
theorem dL_law_1063 : decode cL_law 1063 = .ok (.laload, 1) := dk_47 (dk_at dksL_law_38 5 rfl rfl)
theorem dL_law_1064 : decode cL_law 1064 = .ok (.iload 6, 2) := dk_21 6 (dk_at dksL_law_38 6 rfl rfl)
theorem dL_law_1066 : decode cL_law 1066 = .ok (.i2l, 1) := dk_133 (dk_at dksL_law_38 8 rfl rfl)
theorem dL_law_1067 : decode cL_law 1067 = .ok (.lcmp, 1) := dk_148 (dk_at dksL_law_38 9 rfl rfl)
theorem dL_law_1068 : decode cL_law 1068 = .ok (.ifCond .eq 5, 3) := dk_153 0 5 (dk_at dksL_law_38 10 rfl rfl)
theorem dL_law_1071 : decode cL_law 1071 = .ok (.iconst 0, 1) := dk_3 (dk_at dksL_law_38 13 rfl rfl)
theorem dL_law_1072 : decode cL_law 1072 = .ok (.ireturn, 1) := dk_172 (dk_at dksL_law_38 14 rfl rfl)
theorem dL_law_1073 : decode cL_law 1073 = .ok (.goto 1572, 3) := dk_167 6 36 (dk_at dksL_law_38 15 rfl rfl)
theorem dL_law_1076 : decode cL_law 1076 = .ok (.aload_n 1, 1) := dk_43 (dk_at dksL_law_38 18 rfl rfl)
theorem dL_law_1077 : decode cL_law 1077 = .ok (.aload_n 0, 1) := dk_42 (dk_at dksL_law_38 19 rfl rfl)
theorem dL_law_1078 : decode cL_law 1078 = .ok (.iload 4, 2) := dk_21 4 (dk_at dksL_law_38 20 rfl rfl)
theorem dL_law_1080 : decode cL_law 1080 = .ok (.iconst 1, 1) := dk_4 (dk_at dksL_law_38 22 rfl rfl)
theorem dL_law_1081 : decode cL_law 1081 = .ok (.iadd, 1) := dk_96 (dk_at dksL_law_38 23 rfl rfl)
theorem dL_law_1082 : decode cL_law 1082 = .ok (.iaload, 1) := dk_46 (dk_at dksL_law_39 0 rfl rfl)
theorem dL_law_1083 : decode cL_law 1083 = .ok (.aload_n 0, 1) := dk_42 (dk_at dksL_law_39 1 rfl rfl)
theorem dL_law_1084 : decode cL_law 1084 = .ok (.iload 4, 2) := dk_21 4 (dk_at dksL_law_39 2 rfl rfl)
theorem dL_law_1086 : decode cL_law 1086 = .ok (.iconst 2, 1) := dk_5 (dk_at dksL_law_39 4 rfl rfl)
theorem dL_law_1087 : decode cL_law 1087 = .ok (.iadd, 1) := dk_96 (dk_at dksL_law_39 5 rfl rfl)
theorem dL_law_1088 : decode cL_law 1088 = .ok (.iaload, 1) := dk_46 (dk_at dksL_law_39 6 rfl rfl)
theorem dL_law_1089 : decode cL_law 1089 = .ok (.aload_n 0, 1) := dk_42 (dk_at dksL_law_39 7 rfl rfl)
theorem dL_law_1090 : decode cL_law 1090 = .ok (.iload 4, 2) := dk_21 4 (dk_at dksL_law_39 8 rfl rfl)
theorem dL_law_1092 : decode cL_law 1092 = .ok (.iconst 3, 1) := dk_6 (dk_at dksL_law_39 10 rfl rfl)
theorem dL_law_1093 : decode cL_law 1093 = .ok (.iadd, 1) := dk_96 (dk_at dksL_law_39 11 rfl rfl)
theorem dL_law_1094 : decode cL_law 1094 = .ok (.iaload, 1) := dk_46 (dk_at dksL_law_39 12 rfl rfl)
theorem dL_law_1095 : decode cL_law 1095 = .ok (.aload_n 3, 1) := dk_45 (dk_at dksL_law_39 13 rfl rfl)
theorem dL_law_1096 : decode cL_law 1096 = .ok (.invokestatic 174, 3) := dk_184 0 174 (dk_at dksL_law_39 14 rfl rfl)
theorem dL_law_1099 : decode cL_law 1099 = .ok (.istore 5, 2) := dk_54 5 (dk_at dksL_law_39 17 rfl rfl)
theorem dL_law_1101 : decode cL_law 1101 = .ok (.aload_n 2, 1) := dk_44 (dk_at dksL_law_39 19 rfl rfl)
theorem dL_law_1102 : decode cL_law 1102 = .ok (.aload_n 0, 1) := dk_42 (dk_at dksL_law_39 20 rfl rfl)
theorem dL_law_1103 : decode cL_law 1103 = .ok (.iload 4, 2) := dk_21 4 (dk_at dksL_law_39 21 rfl rfl)
theorem dL_law_1105 : decode cL_law 1105 = .ok (.iconst 1, 1) := dk_4 (dk_at dksL_law_39 23 rfl rfl)
theorem dL_law_1106 : decode cL_law 1106 = .ok (.iadd, 1) := dk_96 (dk_at dksL_law_40 0 rfl rfl)
theorem dL_law_1107 : decode cL_law 1107 = .ok (.iaload, 1) := dk_46 (dk_at dksL_law_40 1 rfl rfl)
theorem dL_law_1108 : decode cL_law 1108 = .ok (.aload_n 0, 1) := dk_42 (dk_at dksL_law_40 2 rfl rfl)
theorem dL_law_1109 : decode cL_law 1109 = .ok (.iload 4, 2) := dk_21 4 (dk_at dksL_law_40 3 rfl rfl)
theorem dL_law_1111 : decode cL_law 1111 = .ok (.iconst 2, 1) := dk_5 (dk_at dksL_law_40 5 rfl rfl)
theorem dL_law_1112 : decode cL_law 1112 = .ok (.iadd, 1) := dk_96 (dk_at dksL_law_40 6 rfl rfl)
theorem dL_law_1113 : decode cL_law 1113 = .ok (.iaload, 1) := dk_46 (dk_at dksL_law_40 7 rfl rfl)
theorem dL_law_1114 : decode cL_law 1114 = .ok (.aload_n 0, 1) := dk_42 (dk_at dksL_law_40 8 rfl rfl)
theorem dL_law_1115 : decode cL_law 1115 = .ok (.iload 4, 2) := dk_21 4 (dk_at dksL_law_40 9 rfl rfl)
theorem dL_law_1117 : decode cL_law 1117 = .ok (.iconst 3, 1) := dk_6 (dk_at dksL_law_40 11 rfl rfl)
theorem dL_law_1118 : decode cL_law 1118 = .ok (.iadd, 1) := dk_96 (dk_at dksL_law_40 12 rfl rfl)
theorem dL_law_1119 : decode cL_law 1119 = .ok (.iaload, 1) := dk_46 (dk_at dksL_law_40 13 rfl rfl)
theorem dL_law_1120 : decode cL_law 1120 = .ok (.invokevirtual 177, 3) := dk_182 0 177 (dk_at dksL_law_40 14 rfl rfl)
theorem dL_law_1123 : decode cL_law 1123 = .ok (.istore 6, 2) := dk_54 6 (dk_at dksL_law_40 17 rfl rfl)
theorem dL_law_1125 : decode cL_law 1125 = .ok (.aload_n 2, 1) := dk_44 (dk_at dksL_law_40 19 rfl rfl)
theorem dL_law_1126 : decode cL_law 1126 = .ok (.invokevirtual 135, 3) := dk_182 0 135 (dk_at dksL_law_40 20 rfl rfl)
theorem dL_law_1129 : decode cL_law 1129 = .ok (.iload 5, 2) := dk_21 5 (dk_at dksL_law_41 0 rfl rfl)
theorem dL_law_1131 : decode cL_law 1131 = .ok (.if_icmp .eq 5, 3) := dk_159 0 5 (dk_at dksL_law_41 2 rfl rfl)
theorem dL_law_1134 : decode cL_law 1134 = .ok (.iconst 0, 1) := dk_3 (dk_at dksL_law_41 5 rfl rfl)
theorem dL_law_1135 : decode cL_law 1135 = .ok (.ireturn, 1) := dk_172 (dk_at dksL_law_41 6 rfl rfl)
theorem dL_law_1136 : decode cL_law 1136 = .ok (.iload 5, 2) := dk_21 5 (dk_at dksL_law_41 7 rfl rfl)
theorem dL_law_1138 : decode cL_law 1138 = .ok (.ifCond .ne 15, 3) := dk_154 0 15 (dk_at dksL_law_41 9 rfl rfl)
theorem dL_law_1141 : decode cL_law 1141 = .ok (.aload_n 3, 1) := dk_45 (dk_at dksL_law_41 12 rfl rfl)
theorem dL_law_1142 : decode cL_law 1142 = .ok (.iconst 0, 1) := dk_3 (dk_at dksL_law_41 13 rfl rfl)
theorem dL_law_1143 : decode cL_law 1143 = .ok (.laload, 1) := dk_47 (dk_at dksL_law_41 14 rfl rfl)
theorem dL_law_1144 : decode cL_law 1144 = .ok (.iload 6, 2) := dk_21 6 (dk_at dksL_law_41 15 rfl rfl)
theorem dL_law_1146 : decode cL_law 1146 = .ok (.i2l, 1) := dk_133 (dk_at dksL_law_41 17 rfl rfl)
theorem dL_law_1147 : decode cL_law 1147 = .ok (.lcmp, 1) := dk_148 (dk_at dksL_law_41 18 rfl rfl)
theorem dL_law_1148 : decode cL_law 1148 = .ok (.ifCond .eq 5, 3) := dk_153 0 5 (dk_at dksL_law_41 19 rfl rfl)
theorem dL_law_1151 : decode cL_law 1151 = .ok (.iconst 0, 1) := dk_3 (dk_at dksL_law_41 22 rfl rfl)
theorem dL_law_1152 : decode cL_law 1152 = .ok (.ireturn, 1) := dk_172 (dk_at dksL_law_41 23 rfl rfl)
theorem dL_law_1153 : decode cL_law 1153 = .ok (.goto 1492, 3) := dk_167 5 212 (dk_at dksL_law_42 0 rfl rfl)
theorem dL_law_1156 : decode cL_law 1156 = .ok (.aload_n 1, 1) := dk_43 (dk_at dksL_law_42 3 rfl rfl)
theorem dL_law_1157 : decode cL_law 1157 = .ok (.aload_n 0, 1) := dk_42 (dk_at dksL_law_42 4 rfl rfl)
theorem dL_law_1158 : decode cL_law 1158 = .ok (.iload 4, 2) := dk_21 4 (dk_at dksL_law_42 5 rfl rfl)
theorem dL_law_1160 : decode cL_law 1160 = .ok (.iconst 1, 1) := dk_4 (dk_at dksL_law_42 7 rfl rfl)
theorem dL_law_1161 : decode cL_law 1161 = .ok (.iadd, 1) := dk_96 (dk_at dksL_law_42 8 rfl rfl)
theorem dL_law_1162 : decode cL_law 1162 = .ok (.iaload, 1) := dk_46 (dk_at dksL_law_42 9 rfl rfl)
theorem dL_law_1163 : decode cL_law 1163 = .ok (.aload_n 0, 1) := dk_42 (dk_at dksL_law_42 10 rfl rfl)
theorem dL_law_1164 : decode cL_law 1164 = .ok (.iload 4, 2) := dk_21 4 (dk_at dksL_law_42 11 rfl rfl)
theorem dL_law_1166 : decode cL_law 1166 = .ok (.iconst 2, 1) := dk_5 (dk_at dksL_law_42 13 rfl rfl)
theorem dL_law_1167 : decode cL_law 1167 = .ok (.iadd, 1) := dk_96 (dk_at dksL_law_42 14 rfl rfl)
theorem dL_law_1168 : decode cL_law 1168 = .ok (.iaload, 1) := dk_46 (dk_at dksL_law_42 15 rfl rfl)
theorem dL_law_1169 : decode cL_law 1169 = .ok (.aload_n 3, 1) := dk_45 (dk_at dksL_law_42 16 rfl rfl)
theorem dL_law_1170 : decode cL_law 1170 = .ok (.invokestatic 178, 3) := dk_184 0 178 (dk_at dksL_law_42 17 rfl rfl)
theorem dL_law_1173 : decode cL_law 1173 = .ok (.istore 5, 2) := dk_54 5 (dk_at dksL_law_42 20 rfl rfl)
theorem dL_law_1175 : decode cL_law 1175 = .ok (.aload_n 2, 1) := dk_44 (dk_at dksL_law_42 22 rfl rfl)
theorem dL_law_1176 : decode cL_law 1176 = .ok (.aload_n 0, 1) := dk_42 (dk_at dksL_law_42 23 rfl rfl)
theorem dL_law_1177 : decode cL_law 1177 = .ok (.iload 4, 2) := dk_21 4 (dk_at dksL_law_43 0 rfl rfl)
theorem dL_law_1179 : decode cL_law 1179 = .ok (.iconst 1, 1) := dk_4 (dk_at dksL_law_43 2 rfl rfl)
theorem dL_law_1180 : decode cL_law 1180 = .ok (.iadd, 1) := dk_96 (dk_at dksL_law_43 3 rfl rfl)
theorem dL_law_1181 : decode cL_law 1181 = .ok (.iaload, 1) := dk_46 (dk_at dksL_law_43 4 rfl rfl)
theorem dL_law_1182 : decode cL_law 1182 = .ok (.aload_n 0, 1) := dk_42 (dk_at dksL_law_43 5 rfl rfl)
theorem dL_law_1183 : decode cL_law 1183 = .ok (.iload 4, 2) := dk_21 4 (dk_at dksL_law_43 6 rfl rfl)
theorem dL_law_1185 : decode cL_law 1185 = .ok (.iconst 2, 1) := dk_5 (dk_at dksL_law_43 8 rfl rfl)
theorem dL_law_1186 : decode cL_law 1186 = .ok (.iadd, 1) := dk_96 (dk_at dksL_law_43 9 rfl rfl)
theorem dL_law_1187 : decode cL_law 1187 = .ok (.iaload, 1) := dk_46 (dk_at dksL_law_43 10 rfl rfl)
theorem dL_law_1188 : decode cL_law 1188 = .ok (.invokevirtual 180, 3) := dk_182 0 180 (dk_at dksL_law_43 11 rfl rfl)
theorem dL_law_1191 : decode cL_law 1191 = .ok (.istore 6, 2) := dk_54 6 (dk_at dksL_law_43 14 rfl rfl)
theorem dL_law_1193 : decode cL_law 1193 = .ok (.aload_n 2, 1) := dk_44 (dk_at dksL_law_43 16 rfl rfl)
theorem dL_law_1194 : decode cL_law 1194 = .ok (.invokevirtual 135, 3) := dk_182 0 135 (dk_at dksL_law_43 17 rfl rfl)
theorem dL_law_1197 : decode cL_law 1197 = .ok (.iload 5, 2) := dk_21 5 (dk_at dksL_law_43 20 rfl rfl)
theorem dL_law_1199 : decode cL_law 1199 = .ok (.if_icmp .eq 5, 3) := dk_159 0 5 (dk_at dksL_law_44 0 rfl rfl)
theorem dL_law_1202 : decode cL_law 1202 = .ok (.iconst 0, 1) := dk_3 (dk_at dksL_law_44 3 rfl rfl)
theorem dL_law_1203 : decode cL_law 1203 = .ok (.ireturn, 1) := dk_172 (dk_at dksL_law_44 4 rfl rfl)
theorem dL_law_1204 : decode cL_law 1204 = .ok (.iload 5, 2) := dk_21 5 (dk_at dksL_law_44 5 rfl rfl)
theorem dL_law_1206 : decode cL_law 1206 = .ok (.ifCond .ne 15, 3) := dk_154 0 15 (dk_at dksL_law_44 7 rfl rfl)
theorem dL_law_1209 : decode cL_law 1209 = .ok (.aload_n 3, 1) := dk_45 (dk_at dksL_law_44 10 rfl rfl)
theorem dL_law_1210 : decode cL_law 1210 = .ok (.iconst 0, 1) := dk_3 (dk_at dksL_law_44 11 rfl rfl)
theorem dL_law_1211 : decode cL_law 1211 = .ok (.laload, 1) := dk_47 (dk_at dksL_law_44 12 rfl rfl)
theorem dL_law_1212 : decode cL_law 1212 = .ok (.iload 6, 2) := dk_21 6 (dk_at dksL_law_44 13 rfl rfl)
theorem dL_law_1214 : decode cL_law 1214 = .ok (.i2l, 1) := dk_133 (dk_at dksL_law_44 15 rfl rfl)
theorem dL_law_1215 : decode cL_law 1215 = .ok (.lcmp, 1) := dk_148 (dk_at dksL_law_44 16 rfl rfl)
theorem dL_law_1216 : decode cL_law 1216 = .ok (.ifCond .eq 5, 3) := dk_153 0 5 (dk_at dksL_law_44 17 rfl rfl)
theorem dL_law_1219 : decode cL_law 1219 = .ok (.iconst 0, 1) := dk_3 (dk_at dksL_law_44 20 rfl rfl)
theorem dL_law_1220 : decode cL_law 1220 = .ok (.ireturn, 1) := dk_172 (dk_at dksL_law_44 21 rfl rfl)
theorem dL_law_1221 : decode cL_law 1221 = .ok (.goto 1424, 3) := dk_167 5 144 (dk_at dksL_law_45 0 rfl rfl)
theorem dL_law_1224 : decode cL_law 1224 = .ok (.aload_n 1, 1) := dk_43 (dk_at dksL_law_45 3 rfl rfl)
theorem dL_law_1225 : decode cL_law 1225 = .ok (.invokevirtual 181, 3) := dk_182 0 181 (dk_at dksL_law_45 4 rfl rfl)
theorem dL_law_1228 : decode cL_law 1228 = .ok (.aload_n 2, 1) := dk_44 (dk_at dksL_law_45 7 rfl rfl)
theorem dL_law_1229 : decode cL_law 1229 = .ok (.invokevirtual 185, 3) := dk_182 0 185 (dk_at dksL_law_45 8 rfl rfl)
theorem dL_law_1232 : decode cL_law 1232 = .ok (.if_icmp .eq 1413, 3) := dk_159 5 133 (dk_at dksL_law_45 11 rfl rfl)
theorem dL_law_1235 : decode cL_law 1235 = .ok (.iconst 0, 1) := dk_3 (dk_at dksL_law_45 14 rfl rfl)
theorem dL_law_1236 : decode cL_law 1236 = .ok (.ireturn, 1) := dk_172 (dk_at dksL_law_45 15 rfl rfl)
theorem dL_law_1237 : decode cL_law 1237 = .ok (.aload_n 1, 1) := dk_43 (dk_at dksL_law_45 16 rfl rfl)
theorem dL_law_1238 : decode cL_law 1238 = .ok (.aload_n 0, 1) := dk_42 (dk_at dksL_law_45 17 rfl rfl)
theorem dL_law_1239 : decode cL_law 1239 = .ok (.iload 4, 2) := dk_21 4 (dk_at dksL_law_45 18 rfl rfl)
theorem dL_law_1241 : decode cL_law 1241 = .ok (.iconst 1, 1) := dk_4 (dk_at dksL_law_45 20 rfl rfl)
theorem dL_law_1242 : decode cL_law 1242 = .ok (.iadd, 1) := dk_96 (dk_at dksL_law_45 21 rfl rfl)
theorem dL_law_1243 : decode cL_law 1243 = .ok (.iaload, 1) := dk_46 (dk_at dksL_law_45 22 rfl rfl)
theorem dL_law_1244 : decode cL_law 1244 = .ok (.aload_n 0, 1) := dk_42 (dk_at dksL_law_45 23 rfl rfl)
theorem dL_law_1245 : decode cL_law 1245 = .ok (.iload 4, 2) := dk_21 4 (dk_at dksL_law_46 0 rfl rfl)
theorem dL_law_1247 : decode cL_law 1247 = .ok (.iconst 2, 1) := dk_5 (dk_at dksL_law_46 2 rfl rfl)
theorem dL_law_1248 : decode cL_law 1248 = .ok (.iadd, 1) := dk_96 (dk_at dksL_law_46 3 rfl rfl)
theorem dL_law_1249 : decode cL_law 1249 = .ok (.iaload, 1) := dk_46 (dk_at dksL_law_46 4 rfl rfl)
theorem dL_law_1250 : decode cL_law 1250 = .ok (.aload_n 3, 1) := dk_45 (dk_at dksL_law_46 5 rfl rfl)
theorem dL_law_1251 : decode cL_law 1251 = .ok (.invokestatic 186, 3) := dk_184 0 186 (dk_at dksL_law_46 6 rfl rfl)
theorem dL_law_1254 : decode cL_law 1254 = .ok (.istore 5, 2) := dk_54 5 (dk_at dksL_law_46 9 rfl rfl)
theorem dL_law_1256 : decode cL_law 1256 = .ok (.aload_n 2, 1) := dk_44 (dk_at dksL_law_46 11 rfl rfl)
theorem dL_law_1257 : decode cL_law 1257 = .ok (.aload_n 0, 1) := dk_42 (dk_at dksL_law_46 12 rfl rfl)
theorem dL_law_1258 : decode cL_law 1258 = .ok (.iload 4, 2) := dk_21 4 (dk_at dksL_law_46 13 rfl rfl)
theorem dL_law_1260 : decode cL_law 1260 = .ok (.iconst 1, 1) := dk_4 (dk_at dksL_law_46 15 rfl rfl)
theorem dL_law_1261 : decode cL_law 1261 = .ok (.iadd, 1) := dk_96 (dk_at dksL_law_46 16 rfl rfl)
theorem dL_law_1262 : decode cL_law 1262 = .ok (.iaload, 1) := dk_46 (dk_at dksL_law_46 17 rfl rfl)
theorem dL_law_1263 : decode cL_law 1263 = .ok (.aload_n 0, 1) := dk_42 (dk_at dksL_law_46 18 rfl rfl)
theorem dL_law_1264 : decode cL_law 1264 = .ok (.iload 4, 2) := dk_21 4 (dk_at dksL_law_46 19 rfl rfl)
theorem dL_law_1266 : decode cL_law 1266 = .ok (.iconst 2, 1) := dk_5 (dk_at dksL_law_46 21 rfl rfl)
theorem dL_law_1267 : decode cL_law 1267 = .ok (.iadd, 1) := dk_96 (dk_at dksL_law_46 22 rfl rfl)
theorem dL_law_1268 : decode cL_law 1268 = .ok (.iaload, 1) := dk_46 (dk_at dksL_law_46 23 rfl rfl)
theorem dL_law_1269 : decode cL_law 1269 = .ok (.invokevirtual 188, 3) := dk_182 0 188 (dk_at dksL_law_47 0 rfl rfl)
theorem dL_law_1272 : decode cL_law 1272 = .ok (.istore 6, 2) := dk_54 6 (dk_at dksL_law_47 3 rfl rfl)
theorem dL_law_1274 : decode cL_law 1274 = .ok (.aload_n 2, 1) := dk_44 (dk_at dksL_law_47 5 rfl rfl)
theorem dL_law_1275 : decode cL_law 1275 = .ok (.invokevirtual 135, 3) := dk_182 0 135 (dk_at dksL_law_47 6 rfl rfl)
theorem dL_law_1278 : decode cL_law 1278 = .ok (.iload 5, 2) := dk_21 5 (dk_at dksL_law_47 9 rfl rfl)
theorem dL_law_1280 : decode cL_law 1280 = .ok (.if_icmp .eq 5, 3) := dk_159 0 5 (dk_at dksL_law_47 11 rfl rfl)
theorem dL_law_1283 : decode cL_law 1283 = .ok (.iconst 0, 1) := dk_3 (dk_at dksL_law_47 14 rfl rfl)
theorem dL_law_1284 : decode cL_law 1284 = .ok (.ireturn, 1) := dk_172 (dk_at dksL_law_47 15 rfl rfl)
theorem dL_law_1285 : decode cL_law 1285 = .ok (.iload 5, 2) := dk_21 5 (dk_at dksL_law_47 16 rfl rfl)
theorem dL_law_1287 : decode cL_law 1287 = .ok (.ifCond .ne 22, 3) := dk_154 0 22 (dk_at dksL_law_47 18 rfl rfl)
theorem dL_law_1290 : decode cL_law 1290 = .ok (.aload_n 3, 1) := dk_45 (dk_at dksL_law_47 21 rfl rfl)
theorem dL_law_1291 : decode cL_law 1291 = .ok (.iconst 0, 1) := dk_3 (dk_at dksL_law_47 22 rfl rfl)
theorem dL_law_1292 : decode cL_law 1292 = .ok (.laload, 1) := dk_47 (dk_at dksL_law_47 23 rfl rfl)
theorem dL_law_1293 : decode cL_law 1293 = .ok (.iload 6, 2) := dk_21 6 (dk_at dksL_law_48 0 rfl rfl)
theorem dL_law_1295 : decode cL_law 1295 = .ok (.ifCond .eq 7, 3) := dk_153 0 7 (dk_at dksL_law_48 2 rfl rfl)
theorem dL_law_1298 : decode cL_law 1298 = .ok (.lconst 1, 1) := dk_10 (dk_at dksL_law_48 5 rfl rfl)
theorem dL_law_1299 : decode cL_law 1299 = .ok (.goto 4, 3) := dk_167 0 4 (dk_at dksL_law_48 6 rfl rfl)
theorem dL_law_1302 : decode cL_law 1302 = .ok (.lconst 0, 1) := dk_9 (dk_at dksL_law_48 9 rfl rfl)
theorem dL_law_1303 : decode cL_law 1303 = .ok (.lcmp, 1) := dk_148 (dk_at dksL_law_48 10 rfl rfl)
theorem dL_law_1304 : decode cL_law 1304 = .ok (.ifCond .eq 5, 3) := dk_153 0 5 (dk_at dksL_law_48 11 rfl rfl)
theorem dL_law_1307 : decode cL_law 1307 = .ok (.iconst 0, 1) := dk_3 (dk_at dksL_law_48 14 rfl rfl)
theorem dL_law_1308 : decode cL_law 1308 = .ok (.ireturn, 1) := dk_172 (dk_at dksL_law_48 15 rfl rfl)
theorem dL_law_1309 : decode cL_law 1309 = .ok (.goto 1336, 3) := dk_167 5 56 (dk_at dksL_law_48 16 rfl rfl)
theorem dL_law_1312 : decode cL_law 1312 = .ok (.aload_n 1, 1) := dk_43 (dk_at dksL_law_48 19 rfl rfl)
theorem dL_law_1313 : decode cL_law 1313 = .ok (.aload_n 0, 1) := dk_42 (dk_at dksL_law_48 20 rfl rfl)
theorem dL_law_1314 : decode cL_law 1314 = .ok (.iload 4, 2) := dk_21 4 (dk_at dksL_law_48 21 rfl rfl)
theorem dL_law_1316 : decode cL_law 1316 = .ok (.iconst 1, 1) := dk_4 (dk_at dksL_law_48 23 rfl rfl)
theorem dL_law_1317 : decode cL_law 1317 = .ok (.iadd, 1) := dk_96 (dk_at dksL_law_49 0 rfl rfl)
theorem dL_law_1318 : decode cL_law 1318 = .ok (.iaload, 1) := dk_46 (dk_at dksL_law_49 1 rfl rfl)
theorem dL_law_1319 : decode cL_law 1319 = .ok (.aload_n 0, 1) := dk_42 (dk_at dksL_law_49 2 rfl rfl)
theorem dL_law_1320 : decode cL_law 1320 = .ok (.iload 4, 2) := dk_21 4 (dk_at dksL_law_49 3 rfl rfl)
theorem dL_law_1322 : decode cL_law 1322 = .ok (.iconst 2, 1) := dk_5 (dk_at dksL_law_49 5 rfl rfl)
theorem dL_law_1323 : decode cL_law 1323 = .ok (.iadd, 1) := dk_96 (dk_at dksL_law_49 6 rfl rfl)
theorem dL_law_1324 : decode cL_law 1324 = .ok (.iaload, 1) := dk_46 (dk_at dksL_law_49 7 rfl rfl)
theorem dL_law_1325 : decode cL_law 1325 = .ok (.aload_n 3, 1) := dk_45 (dk_at dksL_law_49 8 rfl rfl)
theorem dL_law_1326 : decode cL_law 1326 = .ok (.invokestatic 189, 3) := dk_184 0 189 (dk_at dksL_law_49 9 rfl rfl)
theorem dL_law_1329 : decode cL_law 1329 = .ok (.istore 5, 2) := dk_54 5 (dk_at dksL_law_49 12 rfl rfl)
theorem dL_law_1331 : decode cL_law 1331 = .ok (.aload_n 2, 1) := dk_44 (dk_at dksL_law_49 14 rfl rfl)
theorem dL_law_1332 : decode cL_law 1332 = .ok (.aload_n 0, 1) := dk_42 (dk_at dksL_law_49 15 rfl rfl)
theorem dL_law_1333 : decode cL_law 1333 = .ok (.iload 4, 2) := dk_21 4 (dk_at dksL_law_49 16 rfl rfl)
theorem dL_law_1335 : decode cL_law 1335 = .ok (.iconst 1, 1) := dk_4 (dk_at dksL_law_49 18 rfl rfl)
theorem dL_law_1336 : decode cL_law 1336 = .ok (.iadd, 1) := dk_96 (dk_at dksL_law_49 19 rfl rfl)
theorem dL_law_1337 : decode cL_law 1337 = .ok (.iaload, 1) := dk_46 (dk_at dksL_law_49 20 rfl rfl)
theorem dL_law_1338 : decode cL_law 1338 = .ok (.aload_n 0, 1) := dk_42 (dk_at dksL_law_49 21 rfl rfl)
theorem dL_law_1339 : decode cL_law 1339 = .ok (.iload 4, 2) := dk_21 4 (dk_at dksL_law_49 22 rfl rfl)
theorem dL_law_1341 : decode cL_law 1341 = .ok (.iconst 2, 1) := dk_5 (dk_at dksL_law_50 0 rfl rfl)
theorem dL_law_1342 : decode cL_law 1342 = .ok (.iadd, 1) := dk_96 (dk_at dksL_law_50 1 rfl rfl)
theorem dL_law_1343 : decode cL_law 1343 = .ok (.iaload, 1) := dk_46 (dk_at dksL_law_50 2 rfl rfl)
theorem dL_law_1344 : decode cL_law 1344 = .ok (.invokevirtual 191, 3) := dk_182 0 191 (dk_at dksL_law_50 3 rfl rfl)
theorem dL_law_1347 : decode cL_law 1347 = .ok (.istore 6, 2) := dk_54 6 (dk_at dksL_law_50 6 rfl rfl)
theorem dL_law_1349 : decode cL_law 1349 = .ok (.aload_n 2, 1) := dk_44 (dk_at dksL_law_50 8 rfl rfl)
theorem dL_law_1350 : decode cL_law 1350 = .ok (.invokevirtual 135, 3) := dk_182 0 135 (dk_at dksL_law_50 9 rfl rfl)
theorem dL_law_1353 : decode cL_law 1353 = .ok (.iload 5, 2) := dk_21 5 (dk_at dksL_law_50 12 rfl rfl)
theorem dL_law_1355 : decode cL_law 1355 = .ok (.if_icmp .eq 5, 3) := dk_159 0 5 (dk_at dksL_law_50 14 rfl rfl)
theorem dL_law_1358 : decode cL_law 1358 = .ok (.iconst 0, 1) := dk_3 (dk_at dksL_law_50 17 rfl rfl)
theorem dL_law_1359 : decode cL_law 1359 = .ok (.ireturn, 1) := dk_172 (dk_at dksL_law_50 18 rfl rfl)
theorem dL_law_1360 : decode cL_law 1360 = .ok (.iload 5, 2) := dk_21 5 (dk_at dksL_law_50 19 rfl rfl)
theorem dL_law_1362 : decode cL_law 1362 = .ok (.ifCond .ne 15, 3) := dk_154 0 15 (dk_at dksL_law_50 21 rfl rfl)
theorem dL_law_1365 : decode cL_law 1365 = .ok (.aload_n 3, 1) := dk_45 (dk_at dksL_law_51 0 rfl rfl)
theorem dL_law_1366 : decode cL_law 1366 = .ok (.iconst 0, 1) := dk_3 (dk_at dksL_law_51 1 rfl rfl)
theorem dL_law_1367 : decode cL_law 1367 = .ok (.laload, 1) := dk_47 (dk_at dksL_law_51 2 rfl rfl)
theorem dL_law_1368 : decode cL_law 1368 = .ok (.iload 6, 2) := dk_21 6 (dk_at dksL_law_51 3 rfl rfl)
theorem dL_law_1370 : decode cL_law 1370 = .ok (.i2l, 1) := dk_133 (dk_at dksL_law_51 5 rfl rfl)
theorem dL_law_1371 : decode cL_law 1371 = .ok (.lcmp, 1) := dk_148 (dk_at dksL_law_51 6 rfl rfl)
theorem dL_law_1372 : decode cL_law 1372 = .ok (.ifCond .eq 5, 3) := dk_153 0 5 (dk_at dksL_law_51 7 rfl rfl)
theorem dL_law_1375 : decode cL_law 1375 = .ok (.iconst 0, 1) := dk_3 (dk_at dksL_law_51 10 rfl rfl)
theorem dL_law_1376 : decode cL_law 1376 = .ok (.ireturn, 1) := dk_172 (dk_at dksL_law_51 11 rfl rfl)
theorem dL_law_1377 : decode cL_law 1377 = .ok (.goto 1268, 3) := dk_167 4 244 (dk_at dksL_law_51 12 rfl rfl)
theorem dL_law_1380 : decode cL_law 1380 = .ok (.aload_n 1, 1) := dk_43 (dk_at dksL_law_51 15 rfl rfl)
theorem dL_law_1381 : decode cL_law 1381 = .ok (.invokevirtual 192, 3) := dk_182 0 192 (dk_at dksL_law_51 16 rfl rfl)
theorem dL_law_1384 : decode cL_law 1384 = .ok (.aload_n 2, 1) := dk_44 (dk_at dksL_law_51 19 rfl rfl)
theorem dL_law_1385 : decode cL_law 1385 = .ok (.invokevirtual 195, 3) := dk_182 0 195 (dk_at dksL_law_51 20 rfl rfl)
theorem dL_law_1388 : decode cL_law 1388 = .ok (.if_icmp .eq 1257, 3) := dk_159 4 233 (dk_at dksL_law_52 0 rfl rfl)
theorem dL_law_1391 : decode cL_law 1391 = .ok (.iconst 0, 1) := dk_3 (dk_at dksL_law_52 3 rfl rfl)
theorem dL_law_1392 : decode cL_law 1392 = .ok (.ireturn, 1) := dk_172 (dk_at dksL_law_52 4 rfl rfl)
theorem dL_law_1393 : decode cL_law 1393 = .ok (.aload_n 1, 1) := dk_43 (dk_at dksL_law_52 5 rfl rfl)
theorem dL_law_1394 : decode cL_law 1394 = .ok (.invokevirtual 196, 3) := dk_182 0 196 (dk_at dksL_law_52 6 rfl rfl)
theorem dL_law_1397 : decode cL_law 1397 = .ok (.aload_n 2, 1) := dk_44 (dk_at dksL_law_52 9 rfl rfl)
theorem dL_law_1398 : decode cL_law 1398 = .ok (.invokevirtual 199, 3) := dk_182 0 199 (dk_at dksL_law_52 10 rfl rfl)
theorem dL_law_1401 : decode cL_law 1401 = .ok (.if_icmp .eq 1244, 3) := dk_159 4 220 (dk_at dksL_law_52 13 rfl rfl)
theorem dL_law_1404 : decode cL_law 1404 = .ok (.iconst 0, 1) := dk_3 (dk_at dksL_law_52 16 rfl rfl)
theorem dL_law_1405 : decode cL_law 1405 = .ok (.ireturn, 1) := dk_172 (dk_at dksL_law_52 17 rfl rfl)
theorem dL_law_1406 : decode cL_law 1406 = .ok (.aload_n 1, 1) := dk_43 (dk_at dksL_law_52 18 rfl rfl)
theorem dL_law_1407 : decode cL_law 1407 = .ok (.aload_n 0, 1) := dk_42 (dk_at dksL_law_52 19 rfl rfl)
theorem dL_law_1408 : decode cL_law 1408 = .ok (.iload 4, 2) := dk_21 4 (dk_at dksL_law_52 20 rfl rfl)
theorem dL_law_1410 : decode cL_law 1410 = .ok (.iconst 1, 1) := dk_4 (dk_at dksL_law_52 22 rfl rfl)
theorem dL_law_1411 : decode cL_law 1411 = .ok (.iadd, 1) := dk_96 (dk_at dksL_law_52 23 rfl rfl)
theorem dL_law_1412 : decode cL_law 1412 = .ok (.iaload, 1) := dk_46 (dk_at dksL_law_53 0 rfl rfl)
theorem dL_law_1413 : decode cL_law 1413 = .ok (.aload_n 3, 1) := dk_45 (dk_at dksL_law_53 1 rfl rfl)
theorem dL_law_1414 : decode cL_law 1414 = .ok (.invokestatic 200, 3) := dk_184 0 200 (dk_at dksL_law_53 2 rfl rfl)
theorem dL_law_1417 : decode cL_law 1417 = .ok (.istore 5, 2) := dk_54 5 (dk_at dksL_law_53 5 rfl rfl)
theorem dL_law_1419 : decode cL_law 1419 = .ok (.aload_n 2, 1) := dk_44 (dk_at dksL_law_53 7 rfl rfl)
theorem dL_law_1420 : decode cL_law 1420 = .ok (.aload_n 0, 1) := dk_42 (dk_at dksL_law_53 8 rfl rfl)
theorem dL_law_1421 : decode cL_law 1421 = .ok (.iload 4, 2) := dk_21 4 (dk_at dksL_law_53 9 rfl rfl)
theorem dL_law_1423 : decode cL_law 1423 = .ok (.iconst 1, 1) := dk_4 (dk_at dksL_law_53 11 rfl rfl)
theorem dL_law_1424 : decode cL_law 1424 = .ok (.iadd, 1) := dk_96 (dk_at dksL_law_53 12 rfl rfl)
theorem dL_law_1425 : decode cL_law 1425 = .ok (.iaload, 1) := dk_46 (dk_at dksL_law_53 13 rfl rfl)
theorem dL_law_1426 : decode cL_law 1426 = .ok (.invokevirtual 202, 3) := dk_182 0 202 (dk_at dksL_law_53 14 rfl rfl)
theorem dL_law_1429 : decode cL_law 1429 = .ok (.istore 6, 2) := dk_54 6 (dk_at dksL_law_53 17 rfl rfl)
theorem dL_law_1431 : decode cL_law 1431 = .ok (.aload_n 2, 1) := dk_44 (dk_at dksL_law_53 19 rfl rfl)
theorem dL_law_1432 : decode cL_law 1432 = .ok (.invokevirtual 135, 3) := dk_182 0 135 (dk_at dksL_law_53 20 rfl rfl)
theorem dL_law_1435 : decode cL_law 1435 = .ok (.iload 5, 2) := dk_21 5 (dk_at dksL_law_54 0 rfl rfl)
theorem dL_law_1437 : decode cL_law 1437 = .ok (.if_icmp .eq 5, 3) := dk_159 0 5 (dk_at dksL_law_54 2 rfl rfl)
theorem dL_law_1440 : decode cL_law 1440 = .ok (.iconst 0, 1) := dk_3 (dk_at dksL_law_54 5 rfl rfl)
theorem dL_law_1441 : decode cL_law 1441 = .ok (.ireturn, 1) := dk_172 (dk_at dksL_law_54 6 rfl rfl)
theorem dL_law_1442 : decode cL_law 1442 = .ok (.iload 5, 2) := dk_21 5 (dk_at dksL_law_54 7 rfl rfl)
theorem dL_law_1444 : decode cL_law 1444 = .ok (.ifCond .ne 15, 3) := dk_154 0 15 (dk_at dksL_law_54 9 rfl rfl)
theorem dL_law_1447 : decode cL_law 1447 = .ok (.aload_n 3, 1) := dk_45 (dk_at dksL_law_54 12 rfl rfl)
theorem dL_law_1448 : decode cL_law 1448 = .ok (.iconst 0, 1) := dk_3 (dk_at dksL_law_54 13 rfl rfl)
theorem dL_law_1449 : decode cL_law 1449 = .ok (.laload, 1) := dk_47 (dk_at dksL_law_54 14 rfl rfl)
theorem dL_law_1450 : decode cL_law 1450 = .ok (.iload 6, 2) := dk_21 6 (dk_at dksL_law_54 15 rfl rfl)
theorem dL_law_1452 : decode cL_law 1452 = .ok (.i2l, 1) := dk_133 (dk_at dksL_law_54 17 rfl rfl)
theorem dL_law_1453 : decode cL_law 1453 = .ok (.lcmp, 1) := dk_148 (dk_at dksL_law_54 18 rfl rfl)
theorem dL_law_1454 : decode cL_law 1454 = .ok (.ifCond .eq 5, 3) := dk_153 0 5 (dk_at dksL_law_54 19 rfl rfl)
theorem dL_law_1457 : decode cL_law 1457 = .ok (.iconst 0, 1) := dk_3 (dk_at dksL_law_54 22 rfl rfl)
theorem dL_law_1458 : decode cL_law 1458 = .ok (.ireturn, 1) := dk_172 (dk_at dksL_law_54 23 rfl rfl)
theorem dL_law_1459 : decode cL_law 1459 = .ok (.goto 1186, 3) := dk_167 4 162 (dk_at dksL_law_55 0 rfl rfl)
theorem dL_law_1462 : decode cL_law 1462 = .ok (.aload_n 1, 1) := dk_43 (dk_at dksL_law_55 3 rfl rfl)
theorem dL_law_1463 : decode cL_law 1463 = .ok (.aload_n 0, 1) := dk_42 (dk_at dksL_law_55 4 rfl rfl)
theorem dL_law_1464 : decode cL_law 1464 = .ok (.iload 4, 2) := dk_21 4 (dk_at dksL_law_55 5 rfl rfl)
theorem dL_law_1466 : decode cL_law 1466 = .ok (.iconst 1, 1) := dk_4 (dk_at dksL_law_55 7 rfl rfl)
theorem dL_law_1467 : decode cL_law 1467 = .ok (.iadd, 1) := dk_96 (dk_at dksL_law_55 8 rfl rfl)
theorem dL_law_1468 : decode cL_law 1468 = .ok (.iaload, 1) := dk_46 (dk_at dksL_law_55 9 rfl rfl)
theorem dL_law_1469 : decode cL_law 1469 = .ok (.aload_n 0, 1) := dk_42 (dk_at dksL_law_55 10 rfl rfl)
theorem dL_law_1470 : decode cL_law 1470 = .ok (.iload 4, 2) := dk_21 4 (dk_at dksL_law_55 11 rfl rfl)
theorem dL_law_1472 : decode cL_law 1472 = .ok (.iconst 2, 1) := dk_5 (dk_at dksL_law_55 13 rfl rfl)
theorem dL_law_1473 : decode cL_law 1473 = .ok (.iadd, 1) := dk_96 (dk_at dksL_law_55 14 rfl rfl)
theorem dL_law_1474 : decode cL_law 1474 = .ok (.iaload, 1) := dk_46 (dk_at dksL_law_55 15 rfl rfl)
theorem dL_law_1475 : decode cL_law 1475 = .ok (.aload_n 3, 1) := dk_45 (dk_at dksL_law_55 16 rfl rfl)
theorem dL_law_1476 : decode cL_law 1476 = .ok (.invokestatic 203, 3) := dk_184 0 203 (dk_at dksL_law_55 17 rfl rfl)
theorem dL_law_1479 : decode cL_law 1479 = .ok (.istore 5, 2) := dk_54 5 (dk_at dksL_law_55 20 rfl rfl)
theorem dL_law_1481 : decode cL_law 1481 = .ok (.aload_n 2, 1) := dk_44 (dk_at dksL_law_55 22 rfl rfl)
theorem dL_law_1482 : decode cL_law 1482 = .ok (.aload_n 0, 1) := dk_42 (dk_at dksL_law_55 23 rfl rfl)
theorem dL_law_1483 : decode cL_law 1483 = .ok (.iload 4, 2) := dk_21 4 (dk_at dksL_law_56 0 rfl rfl)
theorem dL_law_1485 : decode cL_law 1485 = .ok (.iconst 1, 1) := dk_4 (dk_at dksL_law_56 2 rfl rfl)
theorem dL_law_1486 : decode cL_law 1486 = .ok (.iadd, 1) := dk_96 (dk_at dksL_law_56 3 rfl rfl)
theorem dL_law_1487 : decode cL_law 1487 = .ok (.iaload, 1) := dk_46 (dk_at dksL_law_56 4 rfl rfl)
theorem dL_law_1488 : decode cL_law 1488 = .ok (.aload_n 0, 1) := dk_42 (dk_at dksL_law_56 5 rfl rfl)
theorem dL_law_1489 : decode cL_law 1489 = .ok (.iload 4, 2) := dk_21 4 (dk_at dksL_law_56 6 rfl rfl)
theorem dL_law_1491 : decode cL_law 1491 = .ok (.iconst 2, 1) := dk_5 (dk_at dksL_law_56 8 rfl rfl)
theorem dL_law_1492 : decode cL_law 1492 = .ok (.iadd, 1) := dk_96 (dk_at dksL_law_56 9 rfl rfl)
theorem dL_law_1493 : decode cL_law 1493 = .ok (.iaload, 1) := dk_46 (dk_at dksL_law_56 10 rfl rfl)
theorem dL_law_1494 : decode cL_law 1494 = .ok (.invokevirtual 205, 3) := dk_182 0 205 (dk_at dksL_law_56 11 rfl rfl)
theorem dL_law_1497 : decode cL_law 1497 = .ok (.istore 6, 2) := dk_54 6 (dk_at dksL_law_56 14 rfl rfl)
theorem dL_law_1499 : decode cL_law 1499 = .ok (.aload_n 2, 1) := dk_44 (dk_at dksL_law_56 16 rfl rfl)
theorem dL_law_1500 : decode cL_law 1500 = .ok (.invokevirtual 135, 3) := dk_182 0 135 (dk_at dksL_law_56 17 rfl rfl)
theorem dL_law_1503 : decode cL_law 1503 = .ok (.iload 5, 2) := dk_21 5 (dk_at dksL_law_56 20 rfl rfl)
theorem dL_law_1505 : decode cL_law 1505 = .ok (.if_icmp .eq 5, 3) := dk_159 0 5 (dk_at dksL_law_57 0 rfl rfl)
theorem dL_law_1508 : decode cL_law 1508 = .ok (.iconst 0, 1) := dk_3 (dk_at dksL_law_57 3 rfl rfl)
theorem dL_law_1509 : decode cL_law 1509 = .ok (.ireturn, 1) := dk_172 (dk_at dksL_law_57 4 rfl rfl)
theorem dL_law_1510 : decode cL_law 1510 = .ok (.iload 5, 2) := dk_21 5 (dk_at dksL_law_57 5 rfl rfl)
theorem dL_law_1512 : decode cL_law 1512 = .ok (.ifCond .ne 15, 3) := dk_154 0 15 (dk_at dksL_law_57 7 rfl rfl)
theorem dL_law_1515 : decode cL_law 1515 = .ok (.aload_n 3, 1) := dk_45 (dk_at dksL_law_57 10 rfl rfl)
theorem dL_law_1516 : decode cL_law 1516 = .ok (.iconst 0, 1) := dk_3 (dk_at dksL_law_57 11 rfl rfl)
theorem dL_law_1517 : decode cL_law 1517 = .ok (.laload, 1) := dk_47 (dk_at dksL_law_57 12 rfl rfl)
theorem dL_law_1518 : decode cL_law 1518 = .ok (.iload 6, 2) := dk_21 6 (dk_at dksL_law_57 13 rfl rfl)
theorem dL_law_1520 : decode cL_law 1520 = .ok (.i2l, 1) := dk_133 (dk_at dksL_law_57 15 rfl rfl)
theorem dL_law_1521 : decode cL_law 1521 = .ok (.lcmp, 1) := dk_148 (dk_at dksL_law_57 16 rfl rfl)
theorem dL_law_1522 : decode cL_law 1522 = .ok (.ifCond .eq 5, 3) := dk_153 0 5 (dk_at dksL_law_57 17 rfl rfl)
theorem dL_law_1525 : decode cL_law 1525 = .ok (.iconst 0, 1) := dk_3 (dk_at dksL_law_57 20 rfl rfl)
theorem dL_law_1526 : decode cL_law 1526 = .ok (.ireturn, 1) := dk_172 (dk_at dksL_law_57 21 rfl rfl)
theorem dL_law_1527 : decode cL_law 1527 = .ok (.goto 1118, 3) := dk_167 4 94 (dk_at dksL_law_58 0 rfl rfl)
theorem dL_law_1530 : decode cL_law 1530 = .ok (.aload_n 1, 1) := dk_43 (dk_at dksL_law_58 3 rfl rfl)
theorem dL_law_1531 : decode cL_law 1531 = .ok (.invokevirtual 206, 3) := dk_182 0 206 (dk_at dksL_law_58 4 rfl rfl)
theorem dL_law_1534 : decode cL_law 1534 = .ok (.aload_n 2, 1) := dk_44 (dk_at dksL_law_58 7 rfl rfl)
theorem dL_law_1535 : decode cL_law 1535 = .ok (.invokevirtual 209, 3) := dk_182 0 209 (dk_at dksL_law_58 8 rfl rfl)
theorem dL_law_1538 : decode cL_law 1538 = .ok (.if_icmp .eq 1107, 3) := dk_159 4 83 (dk_at dksL_law_58 11 rfl rfl)
theorem dL_law_1541 : decode cL_law 1541 = .ok (.iconst 0, 1) := dk_3 (dk_at dksL_law_58 14 rfl rfl)
theorem dL_law_1542 : decode cL_law 1542 = .ok (.ireturn, 1) := dk_172 (dk_at dksL_law_58 15 rfl rfl)
theorem dL_law_1543 : decode cL_law 1543 = .ok (.aload_n 1, 1) := dk_43 (dk_at dksL_law_58 16 rfl rfl)
theorem dL_law_1544 : decode cL_law 1544 = .ok (.aload_n 0, 1) := dk_42 (dk_at dksL_law_58 17 rfl rfl)
theorem dL_law_1545 : decode cL_law 1545 = .ok (.iload 4, 2) := dk_21 4 (dk_at dksL_law_58 18 rfl rfl)
theorem dL_law_1547 : decode cL_law 1547 = .ok (.iconst 1, 1) := dk_4 (dk_at dksL_law_58 20 rfl rfl)
theorem dL_law_1548 : decode cL_law 1548 = .ok (.iadd, 1) := dk_96 (dk_at dksL_law_58 21 rfl rfl)
theorem dL_law_1549 : decode cL_law 1549 = .ok (.iaload, 1) := dk_46 (dk_at dksL_law_58 22 rfl rfl)
theorem dL_law_1550 : decode cL_law 1550 = .ok (.aload_n 3, 1) := dk_45 (dk_at dksL_law_58 23 rfl rfl)
theorem dL_law_1551 : decode cL_law 1551 = .ok (.invokestatic 210, 3) := dk_184 0 210 (dk_at dksL_law_59 0 rfl rfl)
theorem dL_law_1554 : decode cL_law 1554 = .ok (.istore 5, 2) := dk_54 5 (dk_at dksL_law_59 3 rfl rfl)
theorem dL_law_1556 : decode cL_law 1556 = .ok (.aload_n 2, 1) := dk_44 (dk_at dksL_law_59 5 rfl rfl)
theorem dL_law_1557 : decode cL_law 1557 = .ok (.aload_n 0, 1) := dk_42 (dk_at dksL_law_59 6 rfl rfl)
theorem dL_law_1558 : decode cL_law 1558 = .ok (.iload 4, 2) := dk_21 4 (dk_at dksL_law_59 7 rfl rfl)
theorem dL_law_1560 : decode cL_law 1560 = .ok (.iconst 1, 1) := dk_4 (dk_at dksL_law_59 9 rfl rfl)
theorem dL_law_1561 : decode cL_law 1561 = .ok (.iadd, 1) := dk_96 (dk_at dksL_law_59 10 rfl rfl)
theorem dL_law_1562 : decode cL_law 1562 = .ok (.iaload, 1) := dk_46 (dk_at dksL_law_59 11 rfl rfl)
theorem dL_law_1563 : decode cL_law 1563 = .ok (.invokevirtual 212, 3) := dk_182 0 212 (dk_at dksL_law_59 12 rfl rfl)
theorem dL_law_1566 : decode cL_law 1566 = .ok (.istore 6, 2) := dk_54 6 (dk_at dksL_law_59 15 rfl rfl)
theorem dL_law_1568 : decode cL_law 1568 = .ok (.aload_n 2, 1) := dk_44 (dk_at dksL_law_59 17 rfl rfl)
theorem dL_law_1569 : decode cL_law 1569 = .ok (.invokevirtual 135, 3) := dk_182 0 135 (dk_at dksL_law_59 18 rfl rfl)
theorem dL_law_1572 : decode cL_law 1572 = .ok (.iload 5, 2) := dk_21 5 (dk_at dksL_law_59 21 rfl rfl)
theorem dL_law_1574 : decode cL_law 1574 = .ok (.if_icmp .eq 5, 3) := dk_159 0 5 (dk_at dksL_law_60 0 rfl rfl)
theorem dL_law_1577 : decode cL_law 1577 = .ok (.iconst 0, 1) := dk_3 (dk_at dksL_law_60 3 rfl rfl)
theorem dL_law_1578 : decode cL_law 1578 = .ok (.ireturn, 1) := dk_172 (dk_at dksL_law_60 4 rfl rfl)
theorem dL_law_1579 : decode cL_law 1579 = .ok (.iload 5, 2) := dk_21 5 (dk_at dksL_law_60 5 rfl rfl)
theorem dL_law_1581 : decode cL_law 1581 = .ok (.ifCond .ne 15, 3) := dk_154 0 15 (dk_at dksL_law_60 7 rfl rfl)
theorem dL_law_1584 : decode cL_law 1584 = .ok (.aload_n 3, 1) := dk_45 (dk_at dksL_law_60 10 rfl rfl)
theorem dL_law_1585 : decode cL_law 1585 = .ok (.iconst 0, 1) := dk_3 (dk_at dksL_law_60 11 rfl rfl)
theorem dL_law_1586 : decode cL_law 1586 = .ok (.laload, 1) := dk_47 (dk_at dksL_law_60 12 rfl rfl)
theorem dL_law_1587 : decode cL_law 1587 = .ok (.iload 6, 2) := dk_21 6 (dk_at dksL_law_60 13 rfl rfl)
theorem dL_law_1589 : decode cL_law 1589 = .ok (.i2l, 1) := dk_133 (dk_at dksL_law_60 15 rfl rfl)
theorem dL_law_1590 : decode cL_law 1590 = .ok (.lcmp, 1) := dk_148 (dk_at dksL_law_60 16 rfl rfl)
theorem dL_law_1591 : decode cL_law 1591 = .ok (.ifCond .eq 5, 3) := dk_153 0 5 (dk_at dksL_law_60 17 rfl rfl)
theorem dL_law_1594 : decode cL_law 1594 = .ok (.iconst 0, 1) := dk_3 (dk_at dksL_law_60 20 rfl rfl)
theorem dL_law_1595 : decode cL_law 1595 = .ok (.ireturn, 1) := dk_172 (dk_at dksL_law_60 21 rfl rfl)
theorem dL_law_1596 : decode cL_law 1596 = .ok (.goto 1049, 3) := dk_167 4 25 (dk_at dksL_law_61 0 rfl rfl)
theorem dL_law_1599 : decode cL_law 1599 = .ok (.aload_n 1, 1) := dk_43 (dk_at dksL_law_61 3 rfl rfl)
theorem dL_law_1600 : decode cL_law 1600 = .ok (.aload_n 0, 1) := dk_42 (dk_at dksL_law_61 4 rfl rfl)
theorem dL_law_1601 : decode cL_law 1601 = .ok (.iload 4, 2) := dk_21 4 (dk_at dksL_law_61 5 rfl rfl)
theorem dL_law_1603 : decode cL_law 1603 = .ok (.iconst 1, 1) := dk_4 (dk_at dksL_law_61 7 rfl rfl)
theorem dL_law_1604 : decode cL_law 1604 = .ok (.iadd, 1) := dk_96 (dk_at dksL_law_61 8 rfl rfl)
theorem dL_law_1605 : decode cL_law 1605 = .ok (.iaload, 1) := dk_46 (dk_at dksL_law_61 9 rfl rfl)
theorem dL_law_1606 : decode cL_law 1606 = .ok (.aload_n 0, 1) := dk_42 (dk_at dksL_law_61 10 rfl rfl)
theorem dL_law_1607 : decode cL_law 1607 = .ok (.iload 4, 2) := dk_21 4 (dk_at dksL_law_61 11 rfl rfl)
theorem dL_law_1609 : decode cL_law 1609 = .ok (.iconst 2, 1) := dk_5 (dk_at dksL_law_61 13 rfl rfl)
theorem dL_law_1610 : decode cL_law 1610 = .ok (.iadd, 1) := dk_96 (dk_at dksL_law_61 14 rfl rfl)
theorem dL_law_1611 : decode cL_law 1611 = .ok (.iaload, 1) := dk_46 (dk_at dksL_law_61 15 rfl rfl)
theorem dL_law_1612 : decode cL_law 1612 = .ok (.aload_n 0, 1) := dk_42 (dk_at dksL_law_61 16 rfl rfl)
theorem dL_law_1613 : decode cL_law 1613 = .ok (.iload 4, 2) := dk_21 4 (dk_at dksL_law_61 17 rfl rfl)
theorem dL_law_1615 : decode cL_law 1615 = .ok (.iconst 3, 1) := dk_6 (dk_at dksL_law_61 19 rfl rfl)
theorem dL_law_1616 : decode cL_law 1616 = .ok (.iadd, 1) := dk_96 (dk_at dksL_law_61 20 rfl rfl)
theorem dL_law_1617 : decode cL_law 1617 = .ok (.iaload, 1) := dk_46 (dk_at dksL_law_61 21 rfl rfl)
theorem dL_law_1618 : decode cL_law 1618 = .ok (.aload_n 3, 1) := dk_45 (dk_at dksL_law_61 22 rfl rfl)
theorem dL_law_1619 : decode cL_law 1619 = .ok (.invokestatic 213, 3) := dk_184 0 213 (dk_at dksL_law_62 0 rfl rfl)
theorem dL_law_1622 : decode cL_law 1622 = .ok (.istore 5, 2) := dk_54 5 (dk_at dksL_law_62 3 rfl rfl)
theorem dL_law_1624 : decode cL_law 1624 = .ok (.aload_n 2, 1) := dk_44 (dk_at dksL_law_62 5 rfl rfl)
theorem dL_law_1625 : decode cL_law 1625 = .ok (.aload_n 0, 1) := dk_42 (dk_at dksL_law_62 6 rfl rfl)
theorem dL_law_1626 : decode cL_law 1626 = .ok (.iload 4, 2) := dk_21 4 (dk_at dksL_law_62 7 rfl rfl)
theorem dL_law_1628 : decode cL_law 1628 = .ok (.iconst 1, 1) := dk_4 (dk_at dksL_law_62 9 rfl rfl)
theorem dL_law_1629 : decode cL_law 1629 = .ok (.iadd, 1) := dk_96 (dk_at dksL_law_62 10 rfl rfl)
theorem dL_law_1630 : decode cL_law 1630 = .ok (.iaload, 1) := dk_46 (dk_at dksL_law_62 11 rfl rfl)
theorem dL_law_1631 : decode cL_law 1631 = .ok (.aload_n 0, 1) := dk_42 (dk_at dksL_law_62 12 rfl rfl)
theorem dL_law_1632 : decode cL_law 1632 = .ok (.iload 4, 2) := dk_21 4 (dk_at dksL_law_62 13 rfl rfl)
theorem dL_law_1634 : decode cL_law 1634 = .ok (.iconst 2, 1) := dk_5 (dk_at dksL_law_62 15 rfl rfl)
theorem dL_law_1635 : decode cL_law 1635 = .ok (.iadd, 1) := dk_96 (dk_at dksL_law_62 16 rfl rfl)
theorem dL_law_1636 : decode cL_law 1636 = .ok (.iaload, 1) := dk_46 (dk_at dksL_law_62 17 rfl rfl)
theorem dL_law_1637 : decode cL_law 1637 = .ok (.aload_n 0, 1) := dk_42 (dk_at dksL_law_62 18 rfl rfl)
theorem dL_law_1638 : decode cL_law 1638 = .ok (.iload 4, 2) := dk_21 4 (dk_at dksL_law_62 19 rfl rfl)
theorem dL_law_1640 : decode cL_law 1640 = .ok (.iconst 3, 1) := dk_6 (dk_at dksL_law_62 21 rfl rfl)
theorem dL_law_1641 : decode cL_law 1641 = .ok (.iadd, 1) := dk_96 (dk_at dksL_law_62 22 rfl rfl)
theorem dL_law_1642 : decode cL_law 1642 = .ok (.iaload, 1) := dk_46 (dk_at dksL_law_62 23 rfl rfl)
theorem dL_law_1643 : decode cL_law 1643 = .ok (.invokevirtual 215, 3) := dk_182 0 215 (dk_at dksL_law_63 0 rfl rfl)
theorem dL_law_1646 : decode cL_law 1646 = .ok (.istore 6, 2) := dk_54 6 (dk_at dksL_law_63 3 rfl rfl)
theorem dL_law_1648 : decode cL_law 1648 = .ok (.aload_n 2, 1) := dk_44 (dk_at dksL_law_63 5 rfl rfl)
theorem dL_law_1649 : decode cL_law 1649 = .ok (.invokevirtual 135, 3) := dk_182 0 135 (dk_at dksL_law_63 6 rfl rfl)
theorem dL_law_1652 : decode cL_law 1652 = .ok (.iload 5, 2) := dk_21 5 (dk_at dksL_law_63 9 rfl rfl)
theorem dL_law_1654 : decode cL_law 1654 = .ok (.if_icmp .eq 5, 3) := dk_159 0 5 (dk_at dksL_law_63 11 rfl rfl)
theorem dL_law_1657 : decode cL_law 1657 = .ok (.iconst 0, 1) := dk_3 (dk_at dksL_law_63 14 rfl rfl)
theorem dL_law_1658 : decode cL_law 1658 = .ok (.ireturn, 1) := dk_172 (dk_at dksL_law_63 15 rfl rfl)
theorem dL_law_1659 : decode cL_law 1659 = .ok (.iload 5, 2) := dk_21 5 (dk_at dksL_law_63 16 rfl rfl)
theorem dL_law_1661 : decode cL_law 1661 = .ok (.ifCond .ne 15, 3) := dk_154 0 15 (dk_at dksL_law_63 18 rfl rfl)
theorem dL_law_1664 : decode cL_law 1664 = .ok (.aload_n 3, 1) := dk_45 (dk_at dksL_law_63 21 rfl rfl)
theorem dL_law_1665 : decode cL_law 1665 = .ok (.iconst 0, 1) := dk_3 (dk_at dksL_law_63 22 rfl rfl)
theorem dL_law_1666 : decode cL_law 1666 = .ok (.laload, 1) := dk_47 (dk_at dksL_law_63 23 rfl rfl)
theorem dL_law_1667 : decode cL_law 1667 = .ok (.iload 6, 2) := dk_21 6 (dk_at dksL_law_64 0 rfl rfl)
theorem dL_law_1669 : decode cL_law 1669 = .ok (.i2l, 1) := dk_133 (dk_at dksL_law_64 2 rfl rfl)
theorem dL_law_1670 : decode cL_law 1670 = .ok (.lcmp, 1) := dk_148 (dk_at dksL_law_64 3 rfl rfl)
theorem dL_law_1671 : decode cL_law 1671 = .ok (.ifCond .eq 5, 3) := dk_153 0 5 (dk_at dksL_law_64 4 rfl rfl)
theorem dL_law_1674 : decode cL_law 1674 = .ok (.iconst 0, 1) := dk_3 (dk_at dksL_law_64 7 rfl rfl)
theorem dL_law_1675 : decode cL_law 1675 = .ok (.ireturn, 1) := dk_172 (dk_at dksL_law_64 8 rfl rfl)
theorem dL_law_1676 : decode cL_law 1676 = .ok (.goto 969, 3) := dk_167 3 201 (dk_at dksL_law_64 9 rfl rfl)
theorem dL_law_1679 : decode cL_law 1679 = .ok (.aload_n 1, 1) := dk_43 (dk_at dksL_law_64 12 rfl rfl)
theorem dL_law_1680 : decode cL_law 1680 = .ok (.aload_n 0, 1) := dk_42 (dk_at dksL_law_64 13 rfl rfl)
theorem dL_law_1681 : decode cL_law 1681 = .ok (.iload 4, 2) := dk_21 4 (dk_at dksL_law_64 14 rfl rfl)
theorem dL_law_1683 : decode cL_law 1683 = .ok (.iconst 1, 1) := dk_4 (dk_at dksL_law_64 16 rfl rfl)
theorem dL_law_1684 : decode cL_law 1684 = .ok (.iadd, 1) := dk_96 (dk_at dksL_law_64 17 rfl rfl)
theorem dL_law_1685 : decode cL_law 1685 = .ok (.iaload, 1) := dk_46 (dk_at dksL_law_64 18 rfl rfl)
theorem dL_law_1686 : decode cL_law 1686 = .ok (.aload_n 3, 1) := dk_45 (dk_at dksL_law_64 19 rfl rfl)
theorem dL_law_1687 : decode cL_law 1687 = .ok (.invokestatic 216, 3) := dk_184 0 216 (dk_at dksL_law_64 20 rfl rfl)
theorem dL_law_1690 : decode cL_law 1690 = .ok (.istore 5, 2) := dk_54 5 (dk_at dksL_law_65 0 rfl rfl)
theorem dL_law_1692 : decode cL_law 1692 = .ok (.aload_n 2, 1) := dk_44 (dk_at dksL_law_65 2 rfl rfl)
theorem dL_law_1693 : decode cL_law 1693 = .ok (.aload_n 0, 1) := dk_42 (dk_at dksL_law_65 3 rfl rfl)
theorem dL_law_1694 : decode cL_law 1694 = .ok (.iload 4, 2) := dk_21 4 (dk_at dksL_law_65 4 rfl rfl)
theorem dL_law_1696 : decode cL_law 1696 = .ok (.iconst 1, 1) := dk_4 (dk_at dksL_law_65 6 rfl rfl)
theorem dL_law_1697 : decode cL_law 1697 = .ok (.iadd, 1) := dk_96 (dk_at dksL_law_65 7 rfl rfl)
theorem dL_law_1698 : decode cL_law 1698 = .ok (.iaload, 1) := dk_46 (dk_at dksL_law_65 8 rfl rfl)
theorem dL_law_1699 : decode cL_law 1699 = .ok (.invokevirtual 218, 3) := dk_182 0 218 (dk_at dksL_law_65 9 rfl rfl)
theorem dL_law_1702 : decode cL_law 1702 = .ok (.istore 6, 2) := dk_54 6 (dk_at dksL_law_65 12 rfl rfl)
theorem dL_law_1704 : decode cL_law 1704 = .ok (.aload_n 2, 1) := dk_44 (dk_at dksL_law_65 14 rfl rfl)
theorem dL_law_1705 : decode cL_law 1705 = .ok (.invokevirtual 135, 3) := dk_182 0 135 (dk_at dksL_law_65 15 rfl rfl)
theorem dL_law_1708 : decode cL_law 1708 = .ok (.iload 5, 2) := dk_21 5 (dk_at dksL_law_65 18 rfl rfl)
theorem dL_law_1710 : decode cL_law 1710 = .ok (.if_icmp .eq 5, 3) := dk_159 0 5 (dk_at dksL_law_65 20 rfl rfl)
theorem dL_law_1713 : decode cL_law 1713 = .ok (.iconst 0, 1) := dk_3 (dk_at dksL_law_65 23 rfl rfl)
theorem dL_law_1714 : decode cL_law 1714 = .ok (.ireturn, 1) := dk_172 (dk_at dksL_law_66 0 rfl rfl)
theorem dL_law_1715 : decode cL_law 1715 = .ok (.iload 5, 2) := dk_21 5 (dk_at dksL_law_66 1 rfl rfl)
theorem dL_law_1717 : decode cL_law 1717 = .ok (.ifCond .ne 15, 3) := dk_154 0 15 (dk_at dksL_law_66 3 rfl rfl)
theorem dL_law_1720 : decode cL_law 1720 = .ok (.aload_n 3, 1) := dk_45 (dk_at dksL_law_66 6 rfl rfl)
theorem dL_law_1721 : decode cL_law 1721 = .ok (.iconst 0, 1) := dk_3 (dk_at dksL_law_66 7 rfl rfl)
theorem dL_law_1722 : decode cL_law 1722 = .ok (.laload, 1) := dk_47 (dk_at dksL_law_66 8 rfl rfl)
theorem dL_law_1723 : decode cL_law 1723 = .ok (.iload 6, 2) := dk_21 6 (dk_at dksL_law_66 9 rfl rfl)
theorem dL_law_1725 : decode cL_law 1725 = .ok (.i2l, 1) := dk_133 (dk_at dksL_law_66 11 rfl rfl)
theorem dL_law_1726 : decode cL_law 1726 = .ok (.lcmp, 1) := dk_148 (dk_at dksL_law_66 12 rfl rfl)
theorem dL_law_1727 : decode cL_law 1727 = .ok (.ifCond .eq 5, 3) := dk_153 0 5 (dk_at dksL_law_66 13 rfl rfl)
theorem dL_law_1730 : decode cL_law 1730 = .ok (.iconst 0, 1) := dk_3 (dk_at dksL_law_66 16 rfl rfl)
theorem dL_law_1731 : decode cL_law 1731 = .ok (.ireturn, 1) := dk_172 (dk_at dksL_law_66 17 rfl rfl)
theorem dL_law_1732 : decode cL_law 1732 = .ok (.goto 913, 3) := dk_167 3 145 (dk_at dksL_law_66 18 rfl rfl)
theorem dL_law_1735 : decode cL_law 1735 = .ok (.aload_n 1, 1) := dk_43 (dk_at dksL_law_66 21 rfl rfl)
theorem dL_law_1736 : decode cL_law 1736 = .ok (.invokevirtual 219, 3) := dk_182 0 219 (dk_at dksL_law_67 0 rfl rfl)
theorem dL_law_1739 : decode cL_law 1739 = .ok (.aload_n 2, 1) := dk_44 (dk_at dksL_law_67 3 rfl rfl)
theorem dL_law_1740 : decode cL_law 1740 = .ok (.invokevirtual 222, 3) := dk_182 0 222 (dk_at dksL_law_67 4 rfl rfl)
theorem dL_law_1743 : decode cL_law 1743 = .ok (.if_icmp .eq 902, 3) := dk_159 3 134 (dk_at dksL_law_67 7 rfl rfl)
theorem dL_law_1746 : decode cL_law 1746 = .ok (.iconst 0, 1) := dk_3 (dk_at dksL_law_67 10 rfl rfl)
theorem dL_law_1747 : decode cL_law 1747 = .ok (.ireturn, 1) := dk_172 (dk_at dksL_law_67 11 rfl rfl)
theorem dL_law_1748 : decode cL_law 1748 = .ok (.aload_n 1, 1) := dk_43 (dk_at dksL_law_67 12 rfl rfl)
theorem dL_law_1749 : decode cL_law 1749 = .ok (.invokevirtual 223, 3) := dk_182 0 223 (dk_at dksL_law_67 13 rfl rfl)
theorem dL_law_1752 : decode cL_law 1752 = .ok (.aload_n 2, 1) := dk_44 (dk_at dksL_law_67 16 rfl rfl)
theorem dL_law_1753 : decode cL_law 1753 = .ok (.invokevirtual 226, 3) := dk_182 0 226 (dk_at dksL_law_67 17 rfl rfl)
theorem dL_law_1756 : decode cL_law 1756 = .ok (.if_icmp .eq 889, 3) := dk_159 3 121 (dk_at dksL_law_67 20 rfl rfl)
theorem dL_law_1759 : decode cL_law 1759 = .ok (.iconst 0, 1) := dk_3 (dk_at dksL_law_67 23 rfl rfl)
theorem dL_law_1760 : decode cL_law 1760 = .ok (.ireturn, 1) := dk_172 (dk_at dksL_law_68 0 rfl rfl)
theorem dL_law_1761 : decode cL_law 1761 = .ok (.aload_n 1, 1) := dk_43 (dk_at dksL_law_68 1 rfl rfl)
theorem dL_law_1762 : decode cL_law 1762 = .ok (.invokevirtual 227, 3) := dk_182 0 227 (dk_at dksL_law_68 2 rfl rfl)
theorem dL_law_1765 : decode cL_law 1765 = .ok (.f2d, 1) := dk_141 (dk_at dksL_law_68 5 rfl rfl)
theorem dL_law_1766 : decode cL_law 1766 = .ok (.dstore 5, 2) := dk_57 5 (dk_at dksL_law_68 6 rfl rfl)
theorem dL_law_1768 : decode cL_law 1768 = .ok (.aload_n 2, 1) := dk_44 (dk_at dksL_law_68 8 rfl rfl)
theorem dL_law_1769 : decode cL_law 1769 = .ok (.invokevirtual 231, 3) := dk_182 0 231 (dk_at dksL_law_68 9 rfl rfl)
theorem dL_law_1772 : decode cL_law 1772 = .ok (.f2d, 1) := dk_141 (dk_at dksL_law_68 12 rfl rfl)
theorem dL_law_1773 : decode cL_law 1773 = .ok (.dstore 7, 2) := dk_57 7 (dk_at dksL_law_68 13 rfl rfl)
theorem dL_law_1775 : decode cL_law 1775 = .ok (.dload 5, 2) := dk_24 5 (dk_at dksL_law_68 15 rfl rfl)
theorem dL_law_1777 : decode cL_law 1777 = .ok (.dload 7, 2) := dk_24 7 (dk_at dksL_law_68 17 rfl rfl)
theorem dL_law_1779 : decode cL_law 1779 = .ok (.dcmp .l, 1) := dk_151 (dk_at dksL_law_68 19 rfl rfl)
theorem dL_law_1780 : decode cL_law 1780 = .ok (.ifCond .eq 21, 3) := dk_153 0 21 (dk_at dksL_law_68 20 rfl rfl)
theorem dL_law_1783 : decode cL_law 1783 = .ok (.dload 5, 2) := dk_24 5 (dk_at dksL_law_69 0 rfl rfl)
theorem dL_law_1785 : decode cL_law 1785 = .ok (.dload 5, 2) := dk_24 5 (dk_at dksL_law_69 2 rfl rfl)
theorem dL_law_1787 : decode cL_law 1787 = .ok (.dcmp .l, 1) := dk_151 (dk_at dksL_law_69 4 rfl rfl)
theorem dL_law_1788 : decode cL_law 1788 = .ok (.ifCond .eq 11, 3) := dk_153 0 11 (dk_at dksL_law_69 5 rfl rfl)
theorem dL_law_1791 : decode cL_law 1791 = .ok (.dload 7, 2) := dk_24 7 (dk_at dksL_law_69 8 rfl rfl)
theorem dL_law_1793 : decode cL_law 1793 = .ok (.dload 7, 2) := dk_24 7 (dk_at dksL_law_69 10 rfl rfl)
theorem dL_law_1795 : decode cL_law 1795 = .ok (.dcmp .l, 1) := dk_151 (dk_at dksL_law_69 12 rfl rfl)
theorem dL_law_1796 : decode cL_law 1796 = .ok (.ifCond .ne 5, 3) := dk_154 0 5 (dk_at dksL_law_69 13 rfl rfl)
theorem dL_law_1799 : decode cL_law 1799 = .ok (.iconst 0, 1) := dk_3 (dk_at dksL_law_69 16 rfl rfl)
theorem dL_law_1800 : decode cL_law 1800 = .ok (.ireturn, 1) := dk_172 (dk_at dksL_law_69 17 rfl rfl)
theorem dL_law_1801 : decode cL_law 1801 = .ok (.goto 844, 3) := dk_167 3 76 (dk_at dksL_law_69 18 rfl rfl)
theorem dL_law_1804 : decode cL_law 1804 = .ok (.aload_n 1, 1) := dk_43 (dk_at dksL_law_69 21 rfl rfl)
theorem dL_law_1805 : decode cL_law 1805 = .ok (.invokevirtual 232, 3) := dk_182 0 232 (dk_at dksL_law_70 0 rfl rfl)
theorem dL_law_1808 : decode cL_law 1808 = .ok (.dstore 5, 2) := dk_57 5 (dk_at dksL_law_70 3 rfl rfl)
theorem dL_law_1810 : decode cL_law 1810 = .ok (.aload_n 2, 1) := dk_44 (dk_at dksL_law_70 5 rfl rfl)
theorem dL_law_1811 : decode cL_law 1811 = .ok (.invokevirtual 236, 3) := dk_182 0 236 (dk_at dksL_law_70 6 rfl rfl)
theorem dL_law_1814 : decode cL_law 1814 = .ok (.dstore 7, 2) := dk_57 7 (dk_at dksL_law_70 9 rfl rfl)
theorem dL_law_1816 : decode cL_law 1816 = .ok (.dload 5, 2) := dk_24 5 (dk_at dksL_law_70 11 rfl rfl)
theorem dL_law_1818 : decode cL_law 1818 = .ok (.dload 7, 2) := dk_24 7 (dk_at dksL_law_70 13 rfl rfl)
theorem dL_law_1820 : decode cL_law 1820 = .ok (.dcmp .l, 1) := dk_151 (dk_at dksL_law_70 15 rfl rfl)
theorem dL_law_1821 : decode cL_law 1821 = .ok (.ifCond .eq 21, 3) := dk_153 0 21 (dk_at dksL_law_70 16 rfl rfl)
theorem dL_law_1824 : decode cL_law 1824 = .ok (.dload 5, 2) := dk_24 5 (dk_at dksL_law_70 19 rfl rfl)
theorem dL_law_1826 : decode cL_law 1826 = .ok (.dload 5, 2) := dk_24 5 (dk_at dksL_law_70 21 rfl rfl)
theorem dL_law_1828 : decode cL_law 1828 = .ok (.dcmp .l, 1) := dk_151 (dk_at dksL_law_70 23 rfl rfl)
theorem dL_law_1829 : decode cL_law 1829 = .ok (.ifCond .eq 11, 3) := dk_153 0 11 (dk_at dksL_law_71 0 rfl rfl)
theorem dL_law_1832 : decode cL_law 1832 = .ok (.dload 7, 2) := dk_24 7 (dk_at dksL_law_71 3 rfl rfl)
theorem dL_law_1834 : decode cL_law 1834 = .ok (.dload 7, 2) := dk_24 7 (dk_at dksL_law_71 5 rfl rfl)
theorem dL_law_1836 : decode cL_law 1836 = .ok (.dcmp .l, 1) := dk_151 (dk_at dksL_law_71 7 rfl rfl)
theorem dL_law_1837 : decode cL_law 1837 = .ok (.ifCond .ne 5, 3) := dk_154 0 5 (dk_at dksL_law_71 8 rfl rfl)
theorem dL_law_1840 : decode cL_law 1840 = .ok (.iconst 0, 1) := dk_3 (dk_at dksL_law_71 11 rfl rfl)
theorem dL_law_1841 : decode cL_law 1841 = .ok (.ireturn, 1) := dk_172 (dk_at dksL_law_71 12 rfl rfl)
theorem dL_law_1842 : decode cL_law 1842 = .ok (.goto 803, 3) := dk_167 3 35 (dk_at dksL_law_71 13 rfl rfl)
theorem dL_law_1845 : decode cL_law 1845 = .ok (.aload_n 1, 1) := dk_43 (dk_at dksL_law_71 16 rfl rfl)
theorem dL_law_1846 : decode cL_law 1846 = .ok (.aload_n 0, 1) := dk_42 (dk_at dksL_law_71 17 rfl rfl)
theorem dL_law_1847 : decode cL_law 1847 = .ok (.iload 4, 2) := dk_21 4 (dk_at dksL_law_71 18 rfl rfl)
theorem dL_law_1849 : decode cL_law 1849 = .ok (.iconst 1, 1) := dk_4 (dk_at dksL_law_71 20 rfl rfl)
theorem dL_law_1850 : decode cL_law 1850 = .ok (.iadd, 1) := dk_96 (dk_at dksL_law_71 21 rfl rfl)
theorem dL_law_1851 : decode cL_law 1851 = .ok (.iaload, 1) := dk_46 (dk_at dksL_law_71 22 rfl rfl)
theorem dL_law_1852 : decode cL_law 1852 = .ok (.aload_n 3, 1) := dk_45 (dk_at dksL_law_71 23 rfl rfl)
theorem dL_law_1853 : decode cL_law 1853 = .ok (.invokestatic 237, 3) := dk_184 0 237 (dk_at dksL_law_72 0 rfl rfl)
theorem dL_law_1856 : decode cL_law 1856 = .ok (.istore 5, 2) := dk_54 5 (dk_at dksL_law_72 3 rfl rfl)
theorem dL_law_1858 : decode cL_law 1858 = .ok (.aload_n 2, 1) := dk_44 (dk_at dksL_law_72 5 rfl rfl)
theorem dL_law_1859 : decode cL_law 1859 = .ok (.aload_n 0, 1) := dk_42 (dk_at dksL_law_72 6 rfl rfl)
theorem dL_law_1860 : decode cL_law 1860 = .ok (.iload 4, 2) := dk_21 4 (dk_at dksL_law_72 7 rfl rfl)
theorem dL_law_1862 : decode cL_law 1862 = .ok (.iconst 1, 1) := dk_4 (dk_at dksL_law_72 9 rfl rfl)
theorem dL_law_1863 : decode cL_law 1863 = .ok (.iadd, 1) := dk_96 (dk_at dksL_law_72 10 rfl rfl)
theorem dL_law_1864 : decode cL_law 1864 = .ok (.iaload, 1) := dk_46 (dk_at dksL_law_72 11 rfl rfl)
theorem dL_law_1865 : decode cL_law 1865 = .ok (.invokevirtual 239, 3) := dk_182 0 239 (dk_at dksL_law_72 12 rfl rfl)
theorem dL_law_1868 : decode cL_law 1868 = .ok (.istore 6, 2) := dk_54 6 (dk_at dksL_law_72 15 rfl rfl)
theorem dL_law_1870 : decode cL_law 1870 = .ok (.aload_n 2, 1) := dk_44 (dk_at dksL_law_72 17 rfl rfl)
theorem dL_law_1871 : decode cL_law 1871 = .ok (.invokevirtual 135, 3) := dk_182 0 135 (dk_at dksL_law_72 18 rfl rfl)
theorem dL_law_1874 : decode cL_law 1874 = .ok (.iload 5, 2) := dk_21 5 (dk_at dksL_law_72 21 rfl rfl)
theorem dL_law_1876 : decode cL_law 1876 = .ok (.if_icmp .eq 5, 3) := dk_159 0 5 (dk_at dksL_law_73 0 rfl rfl)
theorem dL_law_1879 : decode cL_law 1879 = .ok (.iconst 0, 1) := dk_3 (dk_at dksL_law_73 3 rfl rfl)
theorem dL_law_1880 : decode cL_law 1880 = .ok (.ireturn, 1) := dk_172 (dk_at dksL_law_73 4 rfl rfl)
theorem dL_law_1881 : decode cL_law 1881 = .ok (.iload 5, 2) := dk_21 5 (dk_at dksL_law_73 5 rfl rfl)
theorem dL_law_1883 : decode cL_law 1883 = .ok (.ifCond .ne 15, 3) := dk_154 0 15 (dk_at dksL_law_73 7 rfl rfl)
theorem dL_law_1886 : decode cL_law 1886 = .ok (.aload_n 3, 1) := dk_45 (dk_at dksL_law_73 10 rfl rfl)
theorem dL_law_1887 : decode cL_law 1887 = .ok (.iconst 0, 1) := dk_3 (dk_at dksL_law_73 11 rfl rfl)
theorem dL_law_1888 : decode cL_law 1888 = .ok (.laload, 1) := dk_47 (dk_at dksL_law_73 12 rfl rfl)
theorem dL_law_1889 : decode cL_law 1889 = .ok (.iload 6, 2) := dk_21 6 (dk_at dksL_law_73 13 rfl rfl)
theorem dL_law_1891 : decode cL_law 1891 = .ok (.i2l, 1) := dk_133 (dk_at dksL_law_73 15 rfl rfl)
theorem dL_law_1892 : decode cL_law 1892 = .ok (.lcmp, 1) := dk_148 (dk_at dksL_law_73 16 rfl rfl)
theorem dL_law_1893 : decode cL_law 1893 = .ok (.ifCond .eq 5, 3) := dk_153 0 5 (dk_at dksL_law_73 17 rfl rfl)
theorem dL_law_1896 : decode cL_law 1896 = .ok (.iconst 0, 1) := dk_3 (dk_at dksL_law_73 20 rfl rfl)
theorem dL_law_1897 : decode cL_law 1897 = .ok (.ireturn, 1) := dk_172 (dk_at dksL_law_73 21 rfl rfl)
theorem dL_law_1898 : decode cL_law 1898 = .ok (.goto 747, 3) := dk_167 2 235 (dk_at dksL_law_74 0 rfl rfl)
theorem dL_law_1901 : decode cL_law 1901 = .ok (.aload_n 1, 1) := dk_43 (dk_at dksL_law_74 3 rfl rfl)
theorem dL_law_1902 : decode cL_law 1902 = .ok (.invokevirtual 240, 3) := dk_182 0 240 (dk_at dksL_law_74 4 rfl rfl)
theorem dL_law_1905 : decode cL_law 1905 = .ok (.aload_n 2, 1) := dk_44 (dk_at dksL_law_74 7 rfl rfl)
theorem dL_law_1906 : decode cL_law 1906 = .ok (.invokevirtual 243, 3) := dk_182 0 243 (dk_at dksL_law_74 8 rfl rfl)
theorem dL_law_1909 : decode cL_law 1909 = .ok (.if_icmp .eq 736, 3) := dk_159 2 224 (dk_at dksL_law_74 11 rfl rfl)
theorem dL_law_1912 : decode cL_law 1912 = .ok (.iconst 0, 1) := dk_3 (dk_at dksL_law_74 14 rfl rfl)
theorem dL_law_1913 : decode cL_law 1913 = .ok (.ireturn, 1) := dk_172 (dk_at dksL_law_74 15 rfl rfl)
theorem dL_law_1914 : decode cL_law 1914 = .ok (.aload_n 1, 1) := dk_43 (dk_at dksL_law_74 16 rfl rfl)
theorem dL_law_1915 : decode cL_law 1915 = .ok (.aload_n 0, 1) := dk_42 (dk_at dksL_law_74 17 rfl rfl)
theorem dL_law_1916 : decode cL_law 1916 = .ok (.iload 4, 2) := dk_21 4 (dk_at dksL_law_74 18 rfl rfl)
theorem dL_law_1918 : decode cL_law 1918 = .ok (.iconst 1, 1) := dk_4 (dk_at dksL_law_74 20 rfl rfl)
theorem dL_law_1919 : decode cL_law 1919 = .ok (.iadd, 1) := dk_96 (dk_at dksL_law_74 21 rfl rfl)
theorem dL_law_1920 : decode cL_law 1920 = .ok (.iaload, 1) := dk_46 (dk_at dksL_law_74 22 rfl rfl)
theorem dL_law_1921 : decode cL_law 1921 = .ok (.invokevirtual 244, 3) := dk_182 0 244 (dk_at dksL_law_75 0 rfl rfl)
theorem dL_law_1924 : decode cL_law 1924 = .ok (.aload_n 2, 1) := dk_44 (dk_at dksL_law_75 3 rfl rfl)
theorem dL_law_1925 : decode cL_law 1925 = .ok (.aload_n 0, 1) := dk_42 (dk_at dksL_law_75 4 rfl rfl)
theorem dL_law_1926 : decode cL_law 1926 = .ok (.iload 4, 2) := dk_21 4 (dk_at dksL_law_75 5 rfl rfl)
theorem dL_law_1928 : decode cL_law 1928 = .ok (.iconst 1, 1) := dk_4 (dk_at dksL_law_75 7 rfl rfl)
theorem dL_law_1929 : decode cL_law 1929 = .ok (.iadd, 1) := dk_96 (dk_at dksL_law_75 8 rfl rfl)
theorem dL_law_1930 : decode cL_law 1930 = .ok (.iaload, 1) := dk_46 (dk_at dksL_law_75 9 rfl rfl)
theorem dL_law_1931 : decode cL_law 1931 = .ok (.invokevirtual 248, 3) := dk_182 0 248 (dk_at dksL_law_75 10 rfl rfl)
theorem dL_law_1934 : decode cL_law 1934 = .ok (.if_icmp .eq 711, 3) := dk_159 2 199 (dk_at dksL_law_75 13 rfl rfl)
theorem dL_law_1937 : decode cL_law 1937 = .ok (.iconst 0, 1) := dk_3 (dk_at dksL_law_75 16 rfl rfl)
theorem dL_law_1938 : decode cL_law 1938 = .ok (.ireturn, 1) := dk_172 (dk_at dksL_law_75 17 rfl rfl)
theorem dL_law_1939 : decode cL_law 1939 = .ok (.aload_n 1, 1) := dk_43 (dk_at dksL_law_75 18 rfl rfl)
theorem dL_law_1940 : decode cL_law 1940 = .ok (.aload_n 0, 1) := dk_42 (dk_at dksL_law_75 19 rfl rfl)
theorem dL_law_1941 : decode cL_law 1941 = .ok (.iload 4, 2) := dk_21 4 (dk_at dksL_law_75 20 rfl rfl)
theorem dL_law_1943 : decode cL_law 1943 = .ok (.iconst 1, 1) := dk_4 (dk_at dksL_law_75 22 rfl rfl)
theorem dL_law_1944 : decode cL_law 1944 = .ok (.iadd, 1) := dk_96 (dk_at dksL_law_75 23 rfl rfl)
theorem dL_law_1945 : decode cL_law 1945 = .ok (.iaload, 1) := dk_46 (dk_at dksL_law_76 0 rfl rfl)
theorem dL_law_1946 : decode cL_law 1946 = .ok (.aload_n 3, 1) := dk_45 (dk_at dksL_law_76 1 rfl rfl)
theorem dL_law_1947 : decode cL_law 1947 = .ok (.invokestatic 249, 3) := dk_184 0 249 (dk_at dksL_law_76 2 rfl rfl)
theorem dL_law_1950 : decode cL_law 1950 = .ok (.istore 5, 2) := dk_54 5 (dk_at dksL_law_76 5 rfl rfl)
theorem dL_law_1952 : decode cL_law 1952 = .ok (.aload_n 2, 1) := dk_44 (dk_at dksL_law_76 7 rfl rfl)
theorem dL_law_1953 : decode cL_law 1953 = .ok (.aload_n 0, 1) := dk_42 (dk_at dksL_law_76 8 rfl rfl)
theorem dL_law_1954 : decode cL_law 1954 = .ok (.iload 4, 2) := dk_21 4 (dk_at dksL_law_76 9 rfl rfl)
theorem dL_law_1956 : decode cL_law 1956 = .ok (.iconst 1, 1) := dk_4 (dk_at dksL_law_76 11 rfl rfl)
theorem dL_law_1957 : decode cL_law 1957 = .ok (.iadd, 1) := dk_96 (dk_at dksL_law_76 12 rfl rfl)
theorem dL_law_1958 : decode cL_law 1958 = .ok (.iaload, 1) := dk_46 (dk_at dksL_law_76 13 rfl rfl)
theorem dL_law_1959 : decode cL_law 1959 = .ok (.invokevirtual 251, 3) := dk_182 0 251 (dk_at dksL_law_76 14 rfl rfl)
theorem dL_law_1962 : decode cL_law 1962 = .ok (.istore 6, 2) := dk_54 6 (dk_at dksL_law_76 17 rfl rfl)
theorem dL_law_1964 : decode cL_law 1964 = .ok (.aload_n 2, 1) := dk_44 (dk_at dksL_law_76 19 rfl rfl)
theorem dL_law_1965 : decode cL_law 1965 = .ok (.invokevirtual 135, 3) := dk_182 0 135 (dk_at dksL_law_76 20 rfl rfl)
theorem dL_law_1968 : decode cL_law 1968 = .ok (.iload 5, 2) := dk_21 5 (dk_at dksL_law_77 0 rfl rfl)
theorem dL_law_1970 : decode cL_law 1970 = .ok (.if_icmp .eq 5, 3) := dk_159 0 5 (dk_at dksL_law_77 2 rfl rfl)
theorem dL_law_1973 : decode cL_law 1973 = .ok (.iconst 0, 1) := dk_3 (dk_at dksL_law_77 5 rfl rfl)
theorem dL_law_1974 : decode cL_law 1974 = .ok (.ireturn, 1) := dk_172 (dk_at dksL_law_77 6 rfl rfl)
theorem dL_law_1975 : decode cL_law 1975 = .ok (.iload 5, 2) := dk_21 5 (dk_at dksL_law_77 7 rfl rfl)
theorem dL_law_1977 : decode cL_law 1977 = .ok (.ifCond .ne 15, 3) := dk_154 0 15 (dk_at dksL_law_77 9 rfl rfl)
theorem dL_law_1980 : decode cL_law 1980 = .ok (.aload_n 3, 1) := dk_45 (dk_at dksL_law_77 12 rfl rfl)
theorem dL_law_1981 : decode cL_law 1981 = .ok (.iconst 0, 1) := dk_3 (dk_at dksL_law_77 13 rfl rfl)
theorem dL_law_1982 : decode cL_law 1982 = .ok (.laload, 1) := dk_47 (dk_at dksL_law_77 14 rfl rfl)
theorem dL_law_1983 : decode cL_law 1983 = .ok (.iload 6, 2) := dk_21 6 (dk_at dksL_law_77 15 rfl rfl)
theorem dL_law_1985 : decode cL_law 1985 = .ok (.i2l, 1) := dk_133 (dk_at dksL_law_77 17 rfl rfl)
theorem dL_law_1986 : decode cL_law 1986 = .ok (.lcmp, 1) := dk_148 (dk_at dksL_law_77 18 rfl rfl)
theorem dL_law_1987 : decode cL_law 1987 = .ok (.ifCond .eq 5, 3) := dk_153 0 5 (dk_at dksL_law_77 19 rfl rfl)
theorem dL_law_1990 : decode cL_law 1990 = .ok (.iconst 0, 1) := dk_3 (dk_at dksL_law_77 22 rfl rfl)
theorem dL_law_1991 : decode cL_law 1991 = .ok (.ireturn, 1) := dk_172 (dk_at dksL_law_77 23 rfl rfl)
theorem dL_law_1992 : decode cL_law 1992 = .ok (.goto 653, 3) := dk_167 2 141 (dk_at dksL_law_78 0 rfl rfl)
theorem dL_law_1995 : decode cL_law 1995 = .ok (.aload_n 1, 1) := dk_43 (dk_at dksL_law_78 3 rfl rfl)
theorem dL_law_1996 : decode cL_law 1996 = .ok (.aload_n 0, 1) := dk_42 (dk_at dksL_law_78 4 rfl rfl)
theorem dL_law_1997 : decode cL_law 1997 = .ok (.iload 4, 2) := dk_21 4 (dk_at dksL_law_78 5 rfl rfl)
theorem dL_law_1999 : decode cL_law 1999 = .ok (.iconst 1, 1) := dk_4 (dk_at dksL_law_78 7 rfl rfl)
theorem dL_law_2000 : decode cL_law 2000 = .ok (.iadd, 1) := dk_96 (dk_at dksL_law_78 8 rfl rfl)
theorem dL_law_2001 : decode cL_law 2001 = .ok (.iaload, 1) := dk_46 (dk_at dksL_law_78 9 rfl rfl)
theorem dL_law_2002 : decode cL_law 2002 = .ok (.aload_n 3, 1) := dk_45 (dk_at dksL_law_78 10 rfl rfl)
theorem dL_law_2003 : decode cL_law 2003 = .ok (.invokestatic 252, 3) := dk_184 0 252 (dk_at dksL_law_78 11 rfl rfl)
theorem dL_law_2006 : decode cL_law 2006 = .ok (.istore 5, 2) := dk_54 5 (dk_at dksL_law_78 14 rfl rfl)
theorem dL_law_2008 : decode cL_law 2008 = .ok (.aload_n 2, 1) := dk_44 (dk_at dksL_law_78 16 rfl rfl)
theorem dL_law_2009 : decode cL_law 2009 = .ok (.aload_n 0, 1) := dk_42 (dk_at dksL_law_78 17 rfl rfl)
theorem dL_law_2010 : decode cL_law 2010 = .ok (.iload 4, 2) := dk_21 4 (dk_at dksL_law_78 18 rfl rfl)
theorem dL_law_2012 : decode cL_law 2012 = .ok (.iconst 1, 1) := dk_4 (dk_at dksL_law_78 20 rfl rfl)
theorem dL_law_2013 : decode cL_law 2013 = .ok (.iadd, 1) := dk_96 (dk_at dksL_law_78 21 rfl rfl)
theorem dL_law_2014 : decode cL_law 2014 = .ok (.iaload, 1) := dk_46 (dk_at dksL_law_78 22 rfl rfl)
theorem dL_law_2015 : decode cL_law 2015 = .ok (.invokevirtual 254, 3) := dk_182 0 254 (dk_at dksL_law_79 0 rfl rfl)
theorem dL_law_2018 : decode cL_law 2018 = .ok (.istore 6, 2) := dk_54 6 (dk_at dksL_law_79 3 rfl rfl)
theorem dL_law_2020 : decode cL_law 2020 = .ok (.aload_n 2, 1) := dk_44 (dk_at dksL_law_79 5 rfl rfl)
theorem dL_law_2021 : decode cL_law 2021 = .ok (.invokevirtual 135, 3) := dk_182 0 135 (dk_at dksL_law_79 6 rfl rfl)
theorem dL_law_2024 : decode cL_law 2024 = .ok (.iload 5, 2) := dk_21 5 (dk_at dksL_law_79 9 rfl rfl)
theorem dL_law_2026 : decode cL_law 2026 = .ok (.if_icmp .eq 5, 3) := dk_159 0 5 (dk_at dksL_law_79 11 rfl rfl)
theorem dL_law_2029 : decode cL_law 2029 = .ok (.iconst 0, 1) := dk_3 (dk_at dksL_law_79 14 rfl rfl)
theorem dL_law_2030 : decode cL_law 2030 = .ok (.ireturn, 1) := dk_172 (dk_at dksL_law_79 15 rfl rfl)
theorem dL_law_2031 : decode cL_law 2031 = .ok (.iload 5, 2) := dk_21 5 (dk_at dksL_law_79 16 rfl rfl)
theorem dL_law_2033 : decode cL_law 2033 = .ok (.ifCond .ne 15, 3) := dk_154 0 15 (dk_at dksL_law_79 18 rfl rfl)
theorem dL_law_2036 : decode cL_law 2036 = .ok (.aload_n 3, 1) := dk_45 (dk_at dksL_law_79 21 rfl rfl)
theorem dL_law_2037 : decode cL_law 2037 = .ok (.iconst 0, 1) := dk_3 (dk_at dksL_law_79 22 rfl rfl)
theorem dL_law_2038 : decode cL_law 2038 = .ok (.laload, 1) := dk_47 (dk_at dksL_law_79 23 rfl rfl)
theorem dL_law_2039 : decode cL_law 2039 = .ok (.iload 6, 2) := dk_21 6 (dk_at dksL_law_80 0 rfl rfl)
theorem dL_law_2041 : decode cL_law 2041 = .ok (.i2l, 1) := dk_133 (dk_at dksL_law_80 2 rfl rfl)
theorem dL_law_2042 : decode cL_law 2042 = .ok (.lcmp, 1) := dk_148 (dk_at dksL_law_80 3 rfl rfl)
theorem dL_law_2043 : decode cL_law 2043 = .ok (.ifCond .eq 5, 3) := dk_153 0 5 (dk_at dksL_law_80 4 rfl rfl)
theorem dL_law_2046 : decode cL_law 2046 = .ok (.iconst 0, 1) := dk_3 (dk_at dksL_law_80 7 rfl rfl)
theorem dL_law_2047 : decode cL_law 2047 = .ok (.ireturn, 1) := dk_172 (dk_at dksL_law_80 8 rfl rfl)
theorem dL_law_2048 : decode cL_law 2048 = .ok (.goto 597, 3) := dk_167 2 85 (dk_at dksL_law_80 9 rfl rfl)
theorem dL_law_2051 : decode cL_law 2051 = .ok (.aload_n 1, 1) := dk_43 (dk_at dksL_law_80 12 rfl rfl)
theorem dL_law_2052 : decode cL_law 2052 = .ok (.aload_n 0, 1) := dk_42 (dk_at dksL_law_80 13 rfl rfl)
theorem dL_law_2053 : decode cL_law 2053 = .ok (.iload 4, 2) := dk_21 4 (dk_at dksL_law_80 14 rfl rfl)
theorem dL_law_2055 : decode cL_law 2055 = .ok (.iconst 1, 1) := dk_4 (dk_at dksL_law_80 16 rfl rfl)
theorem dL_law_2056 : decode cL_law 2056 = .ok (.iadd, 1) := dk_96 (dk_at dksL_law_80 17 rfl rfl)
theorem dL_law_2057 : decode cL_law 2057 = .ok (.iaload, 1) := dk_46 (dk_at dksL_law_80 18 rfl rfl)
theorem dL_law_2058 : decode cL_law 2058 = .ok (.aload_n 0, 1) := dk_42 (dk_at dksL_law_80 19 rfl rfl)
theorem dL_law_2059 : decode cL_law 2059 = .ok (.iload 4, 2) := dk_21 4 (dk_at dksL_law_80 20 rfl rfl)
theorem dL_law_2061 : decode cL_law 2061 = .ok (.iconst 2, 1) := dk_5 (dk_at dksL_law_80 22 rfl rfl)
theorem dL_law_2062 : decode cL_law 2062 = .ok (.iadd, 1) := dk_96 (dk_at dksL_law_80 23 rfl rfl)
theorem dL_law_2063 : decode cL_law 2063 = .ok (.iaload, 1) := dk_46 (dk_at dksL_law_81 0 rfl rfl)
theorem dL_law_2064 : decode cL_law 2064 = .ok (.aload_n 0, 1) := dk_42 (dk_at dksL_law_81 1 rfl rfl)
theorem dL_law_2065 : decode cL_law 2065 = .ok (.iload 4, 2) := dk_21 4 (dk_at dksL_law_81 2 rfl rfl)
theorem dL_law_2067 : decode cL_law 2067 = .ok (.iconst 3, 1) := dk_6 (dk_at dksL_law_81 4 rfl rfl)
theorem dL_law_2068 : decode cL_law 2068 = .ok (.iadd, 1) := dk_96 (dk_at dksL_law_81 5 rfl rfl)
theorem dL_law_2069 : decode cL_law 2069 = .ok (.iaload, 1) := dk_46 (dk_at dksL_law_81 6 rfl rfl)
theorem dL_law_2070 : decode cL_law 2070 = .ok (.ifCond .eq 7, 3) := dk_153 0 7 (dk_at dksL_law_81 7 rfl rfl)
theorem dL_law_2073 : decode cL_law 2073 = .ok (.iconst 1, 1) := dk_4 (dk_at dksL_law_81 10 rfl rfl)
theorem dL_law_2074 : decode cL_law 2074 = .ok (.goto 4, 3) := dk_167 0 4 (dk_at dksL_law_81 11 rfl rfl)
theorem dL_law_2077 : decode cL_law 2077 = .ok (.iconst 0, 1) := dk_3 (dk_at dksL_law_81 14 rfl rfl)
theorem dL_law_2078 : decode cL_law 2078 = .ok (.aload_n 3, 1) := dk_45 (dk_at dksL_law_81 15 rfl rfl)
theorem dL_law_2079 : decode cL_law 2079 = .ok (.invokestatic 255, 3) := dk_184 0 255 (dk_at dksL_law_81 16 rfl rfl)
theorem dL_law_2082 : decode cL_law 2082 = .ok (.istore 5, 2) := dk_54 5 (dk_at dksL_law_81 19 rfl rfl)
theorem dL_law_2084 : decode cL_law 2084 = .ok (.aload_n 2, 1) := dk_44 (dk_at dksL_law_81 21 rfl rfl)
theorem dL_law_2085 : decode cL_law 2085 = .ok (.aload_n 0, 1) := dk_42 (dk_at dksL_law_81 22 rfl rfl)
theorem dL_law_2086 : decode cL_law 2086 = .ok (.iload 4, 2) := dk_21 4 (dk_at dksL_law_82 0 rfl rfl)
theorem dL_law_2088 : decode cL_law 2088 = .ok (.iconst 1, 1) := dk_4 (dk_at dksL_law_82 2 rfl rfl)
theorem dL_law_2089 : decode cL_law 2089 = .ok (.iadd, 1) := dk_96 (dk_at dksL_law_82 3 rfl rfl)
theorem dL_law_2090 : decode cL_law 2090 = .ok (.iaload, 1) := dk_46 (dk_at dksL_law_82 4 rfl rfl)
theorem dL_law_2091 : decode cL_law 2091 = .ok (.aload_n 0, 1) := dk_42 (dk_at dksL_law_82 5 rfl rfl)
theorem dL_law_2092 : decode cL_law 2092 = .ok (.iload 4, 2) := dk_21 4 (dk_at dksL_law_82 6 rfl rfl)
theorem dL_law_2094 : decode cL_law 2094 = .ok (.iconst 2, 1) := dk_5 (dk_at dksL_law_82 8 rfl rfl)
theorem dL_law_2095 : decode cL_law 2095 = .ok (.iadd, 1) := dk_96 (dk_at dksL_law_82 9 rfl rfl)
theorem dL_law_2096 : decode cL_law 2096 = .ok (.iaload, 1) := dk_46 (dk_at dksL_law_82 10 rfl rfl)
theorem dL_law_2097 : decode cL_law 2097 = .ok (.aload_n 0, 1) := dk_42 (dk_at dksL_law_82 11 rfl rfl)
theorem dL_law_2098 : decode cL_law 2098 = .ok (.iload 4, 2) := dk_21 4 (dk_at dksL_law_82 12 rfl rfl)
theorem dL_law_2100 : decode cL_law 2100 = .ok (.iconst 3, 1) := dk_6 (dk_at dksL_law_82 14 rfl rfl)
theorem dL_law_2101 : decode cL_law 2101 = .ok (.iadd, 1) := dk_96 (dk_at dksL_law_82 15 rfl rfl)
theorem dL_law_2102 : decode cL_law 2102 = .ok (.iaload, 1) := dk_46 (dk_at dksL_law_82 16 rfl rfl)
theorem dL_law_2103 : decode cL_law 2103 = .ok (.ifCond .eq 7, 3) := dk_153 0 7 (dk_at dksL_law_82 17 rfl rfl)
theorem dL_law_2106 : decode cL_law 2106 = .ok (.iconst 1, 1) := dk_4 (dk_at dksL_law_82 20 rfl rfl)
theorem dL_law_2107 : decode cL_law 2107 = .ok (.goto 4, 3) := dk_167 0 4 (dk_at dksL_law_82 21 rfl rfl)
theorem dL_law_2110 : decode cL_law 2110 = .ok (.iconst 0, 1) := dk_3 (dk_at dksL_law_83 0 rfl rfl)
theorem dL_law_2111 : decode cL_law 2111 = .ok (.invokevirtual 257, 3) := dk_182 1 1 (dk_at dksL_law_83 1 rfl rfl)
theorem dL_law_2114 : decode cL_law 2114 = .ok (.istore 6, 2) := dk_54 6 (dk_at dksL_law_83 4 rfl rfl)
theorem dL_law_2116 : decode cL_law 2116 = .ok (.aload_n 2, 1) := dk_44 (dk_at dksL_law_83 6 rfl rfl)
theorem dL_law_2117 : decode cL_law 2117 = .ok (.invokevirtual 135, 3) := dk_182 0 135 (dk_at dksL_law_83 7 rfl rfl)
theorem dL_law_2120 : decode cL_law 2120 = .ok (.iload 5, 2) := dk_21 5 (dk_at dksL_law_83 10 rfl rfl)
theorem dL_law_2122 : decode cL_law 2122 = .ok (.if_icmp .eq 5, 3) := dk_159 0 5 (dk_at dksL_law_83 12 rfl rfl)
theorem dL_law_2125 : decode cL_law 2125 = .ok (.iconst 0, 1) := dk_3 (dk_at dksL_law_83 15 rfl rfl)
theorem dL_law_2126 : decode cL_law 2126 = .ok (.ireturn, 1) := dk_172 (dk_at dksL_law_83 16 rfl rfl)
theorem dL_law_2127 : decode cL_law 2127 = .ok (.iload 5, 2) := dk_21 5 (dk_at dksL_law_83 17 rfl rfl)
theorem dL_law_2129 : decode cL_law 2129 = .ok (.ifCond .ne 15, 3) := dk_154 0 15 (dk_at dksL_law_83 19 rfl rfl)
theorem dL_law_2132 : decode cL_law 2132 = .ok (.aload_n 3, 1) := dk_45 (dk_at dksL_law_83 22 rfl rfl)
theorem dL_law_2133 : decode cL_law 2133 = .ok (.iconst 0, 1) := dk_3 (dk_at dksL_law_83 23 rfl rfl)
theorem dL_law_2134 : decode cL_law 2134 = .ok (.laload, 1) := dk_47 (dk_at dksL_law_84 0 rfl rfl)
theorem dL_law_2135 : decode cL_law 2135 = .ok (.iload 6, 2) := dk_21 6 (dk_at dksL_law_84 1 rfl rfl)
theorem dL_law_2137 : decode cL_law 2137 = .ok (.i2l, 1) := dk_133 (dk_at dksL_law_84 3 rfl rfl)
theorem dL_law_2138 : decode cL_law 2138 = .ok (.lcmp, 1) := dk_148 (dk_at dksL_law_84 4 rfl rfl)
theorem dL_law_2139 : decode cL_law 2139 = .ok (.ifCond .eq 5, 3) := dk_153 0 5 (dk_at dksL_law_84 5 rfl rfl)
theorem dL_law_2142 : decode cL_law 2142 = .ok (.iconst 0, 1) := dk_3 (dk_at dksL_law_84 8 rfl rfl)
theorem dL_law_2143 : decode cL_law 2143 = .ok (.ireturn, 1) := dk_172 (dk_at dksL_law_84 9 rfl rfl)
theorem dL_law_2144 : decode cL_law 2144 = .ok (.goto 501, 3) := dk_167 1 245 (dk_at dksL_law_84 10 rfl rfl)
theorem dL_law_2147 : decode cL_law 2147 = .ok (.aload_n 1, 1) := dk_43 (dk_at dksL_law_84 13 rfl rfl)
theorem dL_law_2148 : decode cL_law 2148 = .ok (.aload_n 0, 1) := dk_42 (dk_at dksL_law_84 14 rfl rfl)
theorem dL_law_2149 : decode cL_law 2149 = .ok (.iload 4, 2) := dk_21 4 (dk_at dksL_law_84 15 rfl rfl)
theorem dL_law_2151 : decode cL_law 2151 = .ok (.iconst 1, 1) := dk_4 (dk_at dksL_law_84 17 rfl rfl)
theorem dL_law_2152 : decode cL_law 2152 = .ok (.iadd, 1) := dk_96 (dk_at dksL_law_84 18 rfl rfl)
theorem dL_law_2153 : decode cL_law 2153 = .ok (.iaload, 1) := dk_46 (dk_at dksL_law_84 19 rfl rfl)
theorem dL_law_2154 : decode cL_law 2154 = .ok (.aload_n 0, 1) := dk_42 (dk_at dksL_law_84 20 rfl rfl)
theorem dL_law_2155 : decode cL_law 2155 = .ok (.iload 4, 2) := dk_21 4 (dk_at dksL_law_84 21 rfl rfl)
theorem dL_law_2157 : decode cL_law 2157 = .ok (.iconst 2, 1) := dk_5 (dk_at dksL_law_84 23 rfl rfl)
theorem dL_law_2158 : decode cL_law 2158 = .ok (.iadd, 1) := dk_96 (dk_at dksL_law_85 0 rfl rfl)
theorem dL_law_2159 : decode cL_law 2159 = .ok (.iaload, 1) := dk_46 (dk_at dksL_law_85 1 rfl rfl)
theorem dL_law_2160 : decode cL_law 2160 = .ok (.aload_n 0, 1) := dk_42 (dk_at dksL_law_85 2 rfl rfl)
theorem dL_law_2161 : decode cL_law 2161 = .ok (.iload 4, 2) := dk_21 4 (dk_at dksL_law_85 3 rfl rfl)
theorem dL_law_2163 : decode cL_law 2163 = .ok (.iconst 3, 1) := dk_6 (dk_at dksL_law_85 5 rfl rfl)
theorem dL_law_2164 : decode cL_law 2164 = .ok (.iadd, 1) := dk_96 (dk_at dksL_law_85 6 rfl rfl)
theorem dL_law_2165 : decode cL_law 2165 = .ok (.iaload, 1) := dk_46 (dk_at dksL_law_85 7 rfl rfl)
theorem dL_law_2166 : decode cL_law 2166 = .ok (.aload_n 0, 1) := dk_42 (dk_at dksL_law_85 8 rfl rfl)
theorem dL_law_2167 : decode cL_law 2167 = .ok (.iload 4, 2) := dk_21 4 (dk_at dksL_law_85 9 rfl rfl)
theorem dL_law_2169 : decode cL_law 2169 = .ok (.iconst 4, 1) := dk_7 (dk_at dksL_law_85 11 rfl rfl)
theorem dL_law_2170 : decode cL_law 2170 = .ok (.iadd, 1) := dk_96 (dk_at dksL_law_85 12 rfl rfl)
theorem dL_law_2171 : decode cL_law 2171 = .ok (.iaload, 1) := dk_46 (dk_at dksL_law_85 13 rfl rfl)
theorem dL_law_2172 : decode cL_law 2172 = .ok (.aload_n 3, 1) := dk_45 (dk_at dksL_law_85 14 rfl rfl)
theorem dL_law_2173 : decode cL_law 2173 = .ok (.invokestatic 258, 3) := dk_184 1 2 (dk_at dksL_law_85 15 rfl rfl)
theorem dL_law_2176 : decode cL_law 2176 = .ok (.istore 5, 2) := dk_54 5 (dk_at dksL_law_85 18 rfl rfl)
theorem dL_law_2178 : decode cL_law 2178 = .ok (.aload_n 2, 1) := dk_44 (dk_at dksL_law_85 20 rfl rfl)
theorem dL_law_2179 : decode cL_law 2179 = .ok (.aload_n 0, 1) := dk_42 (dk_at dksL_law_85 21 rfl rfl)
theorem dL_law_2180 : decode cL_law 2180 = .ok (.iload 4, 2) := dk_21 4 (dk_at dksL_law_85 22 rfl rfl)
theorem dL_law_2182 : decode cL_law 2182 = .ok (.iconst 1, 1) := dk_4 (dk_at dksL_law_86 0 rfl rfl)
theorem dL_law_2183 : decode cL_law 2183 = .ok (.iadd, 1) := dk_96 (dk_at dksL_law_86 1 rfl rfl)
theorem dL_law_2184 : decode cL_law 2184 = .ok (.iaload, 1) := dk_46 (dk_at dksL_law_86 2 rfl rfl)
theorem dL_law_2185 : decode cL_law 2185 = .ok (.aload_n 0, 1) := dk_42 (dk_at dksL_law_86 3 rfl rfl)
theorem dL_law_2186 : decode cL_law 2186 = .ok (.iload 4, 2) := dk_21 4 (dk_at dksL_law_86 4 rfl rfl)
theorem dL_law_2188 : decode cL_law 2188 = .ok (.iconst 2, 1) := dk_5 (dk_at dksL_law_86 6 rfl rfl)
theorem dL_law_2189 : decode cL_law 2189 = .ok (.iadd, 1) := dk_96 (dk_at dksL_law_86 7 rfl rfl)
theorem dL_law_2190 : decode cL_law 2190 = .ok (.iaload, 1) := dk_46 (dk_at dksL_law_86 8 rfl rfl)
theorem dL_law_2191 : decode cL_law 2191 = .ok (.aload_n 0, 1) := dk_42 (dk_at dksL_law_86 9 rfl rfl)
theorem dL_law_2192 : decode cL_law 2192 = .ok (.iload 4, 2) := dk_21 4 (dk_at dksL_law_86 10 rfl rfl)
theorem dL_law_2194 : decode cL_law 2194 = .ok (.iconst 3, 1) := dk_6 (dk_at dksL_law_86 12 rfl rfl)
theorem dL_law_2195 : decode cL_law 2195 = .ok (.iadd, 1) := dk_96 (dk_at dksL_law_86 13 rfl rfl)
theorem dL_law_2196 : decode cL_law 2196 = .ok (.iaload, 1) := dk_46 (dk_at dksL_law_86 14 rfl rfl)
theorem dL_law_2197 : decode cL_law 2197 = .ok (.aload_n 0, 1) := dk_42 (dk_at dksL_law_86 15 rfl rfl)
theorem dL_law_2198 : decode cL_law 2198 = .ok (.iload 4, 2) := dk_21 4 (dk_at dksL_law_86 16 rfl rfl)
theorem dL_law_2200 : decode cL_law 2200 = .ok (.iconst 4, 1) := dk_7 (dk_at dksL_law_86 18 rfl rfl)
theorem dL_law_2201 : decode cL_law 2201 = .ok (.iadd, 1) := dk_96 (dk_at dksL_law_86 19 rfl rfl)
theorem dL_law_2202 : decode cL_law 2202 = .ok (.iaload, 1) := dk_46 (dk_at dksL_law_86 20 rfl rfl)
theorem dL_law_2203 : decode cL_law 2203 = .ok (.invokevirtual 261, 3) := dk_182 1 5 (dk_at dksL_law_86 21 rfl rfl)
theorem dL_law_2206 : decode cL_law 2206 = .ok (.istore 6, 2) := dk_54 6 (dk_at dksL_law_87 0 rfl rfl)
theorem dL_law_2208 : decode cL_law 2208 = .ok (.aload_n 2, 1) := dk_44 (dk_at dksL_law_87 2 rfl rfl)
theorem dL_law_2209 : decode cL_law 2209 = .ok (.invokevirtual 135, 3) := dk_182 0 135 (dk_at dksL_law_87 3 rfl rfl)
theorem dL_law_2212 : decode cL_law 2212 = .ok (.iload 5, 2) := dk_21 5 (dk_at dksL_law_87 6 rfl rfl)
theorem dL_law_2214 : decode cL_law 2214 = .ok (.if_icmp .eq 5, 3) := dk_159 0 5 (dk_at dksL_law_87 8 rfl rfl)
theorem dL_law_2217 : decode cL_law 2217 = .ok (.iconst 0, 1) := dk_3 (dk_at dksL_law_87 11 rfl rfl)
theorem dL_law_2218 : decode cL_law 2218 = .ok (.ireturn, 1) := dk_172 (dk_at dksL_law_87 12 rfl rfl)
theorem dL_law_2219 : decode cL_law 2219 = .ok (.iload 5, 2) := dk_21 5 (dk_at dksL_law_87 13 rfl rfl)
theorem dL_law_2221 : decode cL_law 2221 = .ok (.ifCond .ne 15, 3) := dk_154 0 15 (dk_at dksL_law_87 15 rfl rfl)
theorem dL_law_2224 : decode cL_law 2224 = .ok (.aload_n 3, 1) := dk_45 (dk_at dksL_law_87 18 rfl rfl)
theorem dL_law_2225 : decode cL_law 2225 = .ok (.iconst 0, 1) := dk_3 (dk_at dksL_law_87 19 rfl rfl)
theorem dL_law_2226 : decode cL_law 2226 = .ok (.laload, 1) := dk_47 (dk_at dksL_law_87 20 rfl rfl)
theorem dL_law_2227 : decode cL_law 2227 = .ok (.iload 6, 2) := dk_21 6 (dk_at dksL_law_87 21 rfl rfl)
theorem dL_law_2229 : decode cL_law 2229 = .ok (.i2l, 1) := dk_133 (dk_at dksL_law_87 23 rfl rfl)
theorem dL_law_2230 : decode cL_law 2230 = .ok (.lcmp, 1) := dk_148 (dk_at dksL_law_88 0 rfl rfl)
theorem dL_law_2231 : decode cL_law 2231 = .ok (.ifCond .eq 5, 3) := dk_153 0 5 (dk_at dksL_law_88 1 rfl rfl)
theorem dL_law_2234 : decode cL_law 2234 = .ok (.iconst 0, 1) := dk_3 (dk_at dksL_law_88 4 rfl rfl)
theorem dL_law_2235 : decode cL_law 2235 = .ok (.ireturn, 1) := dk_172 (dk_at dksL_law_88 5 rfl rfl)
theorem dL_law_2236 : decode cL_law 2236 = .ok (.goto 409, 3) := dk_167 1 153 (dk_at dksL_law_88 6 rfl rfl)
theorem dL_law_2239 : decode cL_law 2239 = .ok (.aload_n 1, 1) := dk_43 (dk_at dksL_law_88 9 rfl rfl)
theorem dL_law_2240 : decode cL_law 2240 = .ok (.aload_n 0, 1) := dk_42 (dk_at dksL_law_88 10 rfl rfl)
theorem dL_law_2241 : decode cL_law 2241 = .ok (.iload 4, 2) := dk_21 4 (dk_at dksL_law_88 11 rfl rfl)
theorem dL_law_2243 : decode cL_law 2243 = .ok (.iconst 1, 1) := dk_4 (dk_at dksL_law_88 13 rfl rfl)
theorem dL_law_2244 : decode cL_law 2244 = .ok (.iadd, 1) := dk_96 (dk_at dksL_law_88 14 rfl rfl)
theorem dL_law_2245 : decode cL_law 2245 = .ok (.iaload, 1) := dk_46 (dk_at dksL_law_88 15 rfl rfl)
theorem dL_law_2246 : decode cL_law 2246 = .ok (.aload_n 0, 1) := dk_42 (dk_at dksL_law_88 16 rfl rfl)
theorem dL_law_2247 : decode cL_law 2247 = .ok (.iload 4, 2) := dk_21 4 (dk_at dksL_law_88 17 rfl rfl)
theorem dL_law_2249 : decode cL_law 2249 = .ok (.iconst 2, 1) := dk_5 (dk_at dksL_law_88 19 rfl rfl)
theorem dL_law_2250 : decode cL_law 2250 = .ok (.iadd, 1) := dk_96 (dk_at dksL_law_88 20 rfl rfl)
theorem dL_law_2251 : decode cL_law 2251 = .ok (.iaload, 1) := dk_46 (dk_at dksL_law_88 21 rfl rfl)
theorem dL_law_2252 : decode cL_law 2252 = .ok (.aload_n 0, 1) := dk_42 (dk_at dksL_law_88 22 rfl rfl)
theorem dL_law_2253 : decode cL_law 2253 = .ok (.iload 4, 2) := dk_21 4 (dk_at dksL_law_89 0 rfl rfl)
theorem dL_law_2255 : decode cL_law 2255 = .ok (.iconst 3, 1) := dk_6 (dk_at dksL_law_89 2 rfl rfl)
theorem dL_law_2256 : decode cL_law 2256 = .ok (.iadd, 1) := dk_96 (dk_at dksL_law_89 3 rfl rfl)
theorem dL_law_2257 : decode cL_law 2257 = .ok (.iaload, 1) := dk_46 (dk_at dksL_law_89 4 rfl rfl)
theorem dL_law_2258 : decode cL_law 2258 = .ok (.aload_n 3, 1) := dk_45 (dk_at dksL_law_89 5 rfl rfl)
theorem dL_law_2259 : decode cL_law 2259 = .ok (.invokestatic 262, 3) := dk_184 1 6 (dk_at dksL_law_89 6 rfl rfl)
theorem dL_law_2262 : decode cL_law 2262 = .ok (.istore 5, 2) := dk_54 5 (dk_at dksL_law_89 9 rfl rfl)
theorem dL_law_2264 : decode cL_law 2264 = .ok (.aload_n 2, 1) := dk_44 (dk_at dksL_law_89 11 rfl rfl)
theorem dL_law_2265 : decode cL_law 2265 = .ok (.aload_n 0, 1) := dk_42 (dk_at dksL_law_89 12 rfl rfl)
theorem dL_law_2266 : decode cL_law 2266 = .ok (.iload 4, 2) := dk_21 4 (dk_at dksL_law_89 13 rfl rfl)
theorem dL_law_2268 : decode cL_law 2268 = .ok (.iconst 1, 1) := dk_4 (dk_at dksL_law_89 15 rfl rfl)
theorem dL_law_2269 : decode cL_law 2269 = .ok (.iadd, 1) := dk_96 (dk_at dksL_law_89 16 rfl rfl)
theorem dL_law_2270 : decode cL_law 2270 = .ok (.iaload, 1) := dk_46 (dk_at dksL_law_89 17 rfl rfl)
theorem dL_law_2271 : decode cL_law 2271 = .ok (.aload_n 0, 1) := dk_42 (dk_at dksL_law_89 18 rfl rfl)
theorem dL_law_2272 : decode cL_law 2272 = .ok (.iload 4, 2) := dk_21 4 (dk_at dksL_law_89 19 rfl rfl)
theorem dL_law_2274 : decode cL_law 2274 = .ok (.iconst 2, 1) := dk_5 (dk_at dksL_law_89 21 rfl rfl)
theorem dL_law_2275 : decode cL_law 2275 = .ok (.iadd, 1) := dk_96 (dk_at dksL_law_89 22 rfl rfl)
theorem dL_law_2276 : decode cL_law 2276 = .ok (.iaload, 1) := dk_46 (dk_at dksL_law_89 23 rfl rfl)
theorem dL_law_2277 : decode cL_law 2277 = .ok (.aload_n 0, 1) := dk_42 (dk_at dksL_law_90 0 rfl rfl)
theorem dL_law_2278 : decode cL_law 2278 = .ok (.iload 4, 2) := dk_21 4 (dk_at dksL_law_90 1 rfl rfl)
theorem dL_law_2280 : decode cL_law 2280 = .ok (.iconst 3, 1) := dk_6 (dk_at dksL_law_90 3 rfl rfl)
theorem dL_law_2281 : decode cL_law 2281 = .ok (.iadd, 1) := dk_96 (dk_at dksL_law_90 4 rfl rfl)
theorem dL_law_2282 : decode cL_law 2282 = .ok (.iaload, 1) := dk_46 (dk_at dksL_law_90 5 rfl rfl)
theorem dL_law_2283 : decode cL_law 2283 = .ok (.invokevirtual 264, 3) := dk_182 1 8 (dk_at dksL_law_90 6 rfl rfl)
theorem dL_law_2286 : decode cL_law 2286 = .ok (.istore 6, 2) := dk_54 6 (dk_at dksL_law_90 9 rfl rfl)
theorem dL_law_2288 : decode cL_law 2288 = .ok (.aload_n 2, 1) := dk_44 (dk_at dksL_law_90 11 rfl rfl)
theorem dL_law_2289 : decode cL_law 2289 = .ok (.invokevirtual 135, 3) := dk_182 0 135 (dk_at dksL_law_90 12 rfl rfl)
theorem dL_law_2292 : decode cL_law 2292 = .ok (.iload 5, 2) := dk_21 5 (dk_at dksL_law_90 15 rfl rfl)
theorem dL_law_2294 : decode cL_law 2294 = .ok (.if_icmp .eq 5, 3) := dk_159 0 5 (dk_at dksL_law_90 17 rfl rfl)
theorem dL_law_2297 : decode cL_law 2297 = .ok (.iconst 0, 1) := dk_3 (dk_at dksL_law_90 20 rfl rfl)
theorem dL_law_2298 : decode cL_law 2298 = .ok (.ireturn, 1) := dk_172 (dk_at dksL_law_90 21 rfl rfl)
theorem dL_law_2299 : decode cL_law 2299 = .ok (.iload 5, 2) := dk_21 5 (dk_at dksL_law_90 22 rfl rfl)
theorem dL_law_2301 : decode cL_law 2301 = .ok (.ifCond .ne 15, 3) := dk_154 0 15 (dk_at dksL_law_91 0 rfl rfl)
theorem dL_law_2304 : decode cL_law 2304 = .ok (.aload_n 3, 1) := dk_45 (dk_at dksL_law_91 3 rfl rfl)
theorem dL_law_2305 : decode cL_law 2305 = .ok (.iconst 0, 1) := dk_3 (dk_at dksL_law_91 4 rfl rfl)
theorem dL_law_2306 : decode cL_law 2306 = .ok (.laload, 1) := dk_47 (dk_at dksL_law_91 5 rfl rfl)
theorem dL_law_2307 : decode cL_law 2307 = .ok (.iload 6, 2) := dk_21 6 (dk_at dksL_law_91 6 rfl rfl)
theorem dL_law_2309 : decode cL_law 2309 = .ok (.i2l, 1) := dk_133 (dk_at dksL_law_91 8 rfl rfl)
theorem dL_law_2310 : decode cL_law 2310 = .ok (.lcmp, 1) := dk_148 (dk_at dksL_law_91 9 rfl rfl)
theorem dL_law_2311 : decode cL_law 2311 = .ok (.ifCond .eq 5, 3) := dk_153 0 5 (dk_at dksL_law_91 10 rfl rfl)
theorem dL_law_2314 : decode cL_law 2314 = .ok (.iconst 0, 1) := dk_3 (dk_at dksL_law_91 13 rfl rfl)
theorem dL_law_2315 : decode cL_law 2315 = .ok (.ireturn, 1) := dk_172 (dk_at dksL_law_91 14 rfl rfl)
theorem dL_law_2316 : decode cL_law 2316 = .ok (.goto 329, 3) := dk_167 1 73 (dk_at dksL_law_91 15 rfl rfl)
theorem dL_law_2319 : decode cL_law 2319 = .ok (.aload_n 1, 1) := dk_43 (dk_at dksL_law_91 18 rfl rfl)
theorem dL_law_2320 : decode cL_law 2320 = .ok (.aload_n 0, 1) := dk_42 (dk_at dksL_law_91 19 rfl rfl)
theorem dL_law_2321 : decode cL_law 2321 = .ok (.iload 4, 2) := dk_21 4 (dk_at dksL_law_91 20 rfl rfl)
theorem dL_law_2323 : decode cL_law 2323 = .ok (.iconst 1, 1) := dk_4 (dk_at dksL_law_91 22 rfl rfl)
theorem dL_law_2324 : decode cL_law 2324 = .ok (.iadd, 1) := dk_96 (dk_at dksL_law_91 23 rfl rfl)
theorem dL_law_2325 : decode cL_law 2325 = .ok (.iaload, 1) := dk_46 (dk_at dksL_law_92 0 rfl rfl)
theorem dL_law_2326 : decode cL_law 2326 = .ok (.aload_n 3, 1) := dk_45 (dk_at dksL_law_92 1 rfl rfl)
theorem dL_law_2327 : decode cL_law 2327 = .ok (.invokestatic 265, 3) := dk_184 1 9 (dk_at dksL_law_92 2 rfl rfl)
theorem dL_law_2330 : decode cL_law 2330 = .ok (.istore 5, 2) := dk_54 5 (dk_at dksL_law_92 5 rfl rfl)
theorem dL_law_2332 : decode cL_law 2332 = .ok (.aload_n 2, 1) := dk_44 (dk_at dksL_law_92 7 rfl rfl)
theorem dL_law_2333 : decode cL_law 2333 = .ok (.aload_n 0, 1) := dk_42 (dk_at dksL_law_92 8 rfl rfl)
theorem dL_law_2334 : decode cL_law 2334 = .ok (.iload 4, 2) := dk_21 4 (dk_at dksL_law_92 9 rfl rfl)
theorem dL_law_2336 : decode cL_law 2336 = .ok (.iconst 1, 1) := dk_4 (dk_at dksL_law_92 11 rfl rfl)
theorem dL_law_2337 : decode cL_law 2337 = .ok (.iadd, 1) := dk_96 (dk_at dksL_law_92 12 rfl rfl)
theorem dL_law_2338 : decode cL_law 2338 = .ok (.iaload, 1) := dk_46 (dk_at dksL_law_92 13 rfl rfl)
theorem dL_law_2339 : decode cL_law 2339 = .ok (.invokevirtual 267, 3) := dk_182 1 11 (dk_at dksL_law_92 14 rfl rfl)
theorem dL_law_2342 : decode cL_law 2342 = .ok (.istore 6, 2) := dk_54 6 (dk_at dksL_law_92 17 rfl rfl)
theorem dL_law_2344 : decode cL_law 2344 = .ok (.aload_n 2, 1) := dk_44 (dk_at dksL_law_92 19 rfl rfl)
theorem dL_law_2345 : decode cL_law 2345 = .ok (.invokevirtual 135, 3) := dk_182 0 135 (dk_at dksL_law_92 20 rfl rfl)
theorem dL_law_2348 : decode cL_law 2348 = .ok (.iload 5, 2) := dk_21 5 (dk_at dksL_law_93 0 rfl rfl)
theorem dL_law_2350 : decode cL_law 2350 = .ok (.if_icmp .eq 5, 3) := dk_159 0 5 (dk_at dksL_law_93 2 rfl rfl)
theorem dL_law_2353 : decode cL_law 2353 = .ok (.iconst 0, 1) := dk_3 (dk_at dksL_law_93 5 rfl rfl)
theorem dL_law_2354 : decode cL_law 2354 = .ok (.ireturn, 1) := dk_172 (dk_at dksL_law_93 6 rfl rfl)
theorem dL_law_2355 : decode cL_law 2355 = .ok (.iload 5, 2) := dk_21 5 (dk_at dksL_law_93 7 rfl rfl)
theorem dL_law_2357 : decode cL_law 2357 = .ok (.ifCond .ne 15, 3) := dk_154 0 15 (dk_at dksL_law_93 9 rfl rfl)
theorem dL_law_2360 : decode cL_law 2360 = .ok (.aload_n 3, 1) := dk_45 (dk_at dksL_law_93 12 rfl rfl)
theorem dL_law_2361 : decode cL_law 2361 = .ok (.iconst 0, 1) := dk_3 (dk_at dksL_law_93 13 rfl rfl)
theorem dL_law_2362 : decode cL_law 2362 = .ok (.laload, 1) := dk_47 (dk_at dksL_law_93 14 rfl rfl)
theorem dL_law_2363 : decode cL_law 2363 = .ok (.iload 6, 2) := dk_21 6 (dk_at dksL_law_93 15 rfl rfl)
theorem dL_law_2365 : decode cL_law 2365 = .ok (.i2l, 1) := dk_133 (dk_at dksL_law_93 17 rfl rfl)
theorem dL_law_2366 : decode cL_law 2366 = .ok (.lcmp, 1) := dk_148 (dk_at dksL_law_93 18 rfl rfl)
theorem dL_law_2367 : decode cL_law 2367 = .ok (.ifCond .eq 5, 3) := dk_153 0 5 (dk_at dksL_law_93 19 rfl rfl)
theorem dL_law_2370 : decode cL_law 2370 = .ok (.iconst 0, 1) := dk_3 (dk_at dksL_law_93 22 rfl rfl)
theorem dL_law_2371 : decode cL_law 2371 = .ok (.ireturn, 1) := dk_172 (dk_at dksL_law_93 23 rfl rfl)
theorem dL_law_2372 : decode cL_law 2372 = .ok (.goto 273, 3) := dk_167 1 17 (dk_at dksL_law_94 0 rfl rfl)
theorem dL_law_2375 : decode cL_law 2375 = .ok (.aload_n 1, 1) := dk_43 (dk_at dksL_law_94 3 rfl rfl)
theorem dL_law_2376 : decode cL_law 2376 = .ok (.aload_n 0, 1) := dk_42 (dk_at dksL_law_94 4 rfl rfl)
theorem dL_law_2377 : decode cL_law 2377 = .ok (.iload 4, 2) := dk_21 4 (dk_at dksL_law_94 5 rfl rfl)
theorem dL_law_2379 : decode cL_law 2379 = .ok (.iconst 1, 1) := dk_4 (dk_at dksL_law_94 7 rfl rfl)
theorem dL_law_2380 : decode cL_law 2380 = .ok (.iadd, 1) := dk_96 (dk_at dksL_law_94 8 rfl rfl)
theorem dL_law_2381 : decode cL_law 2381 = .ok (.iaload, 1) := dk_46 (dk_at dksL_law_94 9 rfl rfl)
theorem dL_law_2382 : decode cL_law 2382 = .ok (.aload_n 3, 1) := dk_45 (dk_at dksL_law_94 10 rfl rfl)
theorem dL_law_2383 : decode cL_law 2383 = .ok (.invokestatic 268, 3) := dk_184 1 12 (dk_at dksL_law_94 11 rfl rfl)
theorem dL_law_2386 : decode cL_law 2386 = .ok (.istore 5, 2) := dk_54 5 (dk_at dksL_law_94 14 rfl rfl)
theorem dL_law_2388 : decode cL_law 2388 = .ok (.aload_n 2, 1) := dk_44 (dk_at dksL_law_94 16 rfl rfl)
theorem dL_law_2389 : decode cL_law 2389 = .ok (.aload_n 0, 1) := dk_42 (dk_at dksL_law_94 17 rfl rfl)
theorem dL_law_2390 : decode cL_law 2390 = .ok (.iload 4, 2) := dk_21 4 (dk_at dksL_law_94 18 rfl rfl)
theorem dL_law_2392 : decode cL_law 2392 = .ok (.iconst 1, 1) := dk_4 (dk_at dksL_law_94 20 rfl rfl)
theorem dL_law_2393 : decode cL_law 2393 = .ok (.iadd, 1) := dk_96 (dk_at dksL_law_94 21 rfl rfl)
theorem dL_law_2394 : decode cL_law 2394 = .ok (.iaload, 1) := dk_46 (dk_at dksL_law_94 22 rfl rfl)
theorem dL_law_2395 : decode cL_law 2395 = .ok (.invokevirtual 270, 3) := dk_182 1 14 (dk_at dksL_law_95 0 rfl rfl)
theorem dL_law_2398 : decode cL_law 2398 = .ok (.istore 6, 2) := dk_54 6 (dk_at dksL_law_95 3 rfl rfl)
theorem dL_law_2400 : decode cL_law 2400 = .ok (.aload_n 2, 1) := dk_44 (dk_at dksL_law_95 5 rfl rfl)
theorem dL_law_2401 : decode cL_law 2401 = .ok (.invokevirtual 135, 3) := dk_182 0 135 (dk_at dksL_law_95 6 rfl rfl)
theorem dL_law_2404 : decode cL_law 2404 = .ok (.iload 5, 2) := dk_21 5 (dk_at dksL_law_95 9 rfl rfl)
theorem dL_law_2406 : decode cL_law 2406 = .ok (.if_icmp .eq 5, 3) := dk_159 0 5 (dk_at dksL_law_95 11 rfl rfl)
theorem dL_law_2409 : decode cL_law 2409 = .ok (.iconst 0, 1) := dk_3 (dk_at dksL_law_95 14 rfl rfl)
theorem dL_law_2410 : decode cL_law 2410 = .ok (.ireturn, 1) := dk_172 (dk_at dksL_law_95 15 rfl rfl)
theorem dL_law_2411 : decode cL_law 2411 = .ok (.iload 5, 2) := dk_21 5 (dk_at dksL_law_95 16 rfl rfl)
theorem dL_law_2413 : decode cL_law 2413 = .ok (.ifCond .ne 15, 3) := dk_154 0 15 (dk_at dksL_law_95 18 rfl rfl)
theorem dL_law_2416 : decode cL_law 2416 = .ok (.aload_n 3, 1) := dk_45 (dk_at dksL_law_95 21 rfl rfl)
theorem dL_law_2417 : decode cL_law 2417 = .ok (.iconst 0, 1) := dk_3 (dk_at dksL_law_95 22 rfl rfl)
theorem dL_law_2418 : decode cL_law 2418 = .ok (.laload, 1) := dk_47 (dk_at dksL_law_95 23 rfl rfl)
theorem dL_law_2419 : decode cL_law 2419 = .ok (.iload 6, 2) := dk_21 6 (dk_at dksL_law_96 0 rfl rfl)
theorem dL_law_2421 : decode cL_law 2421 = .ok (.i2l, 1) := dk_133 (dk_at dksL_law_96 2 rfl rfl)
theorem dL_law_2422 : decode cL_law 2422 = .ok (.lcmp, 1) := dk_148 (dk_at dksL_law_96 3 rfl rfl)
theorem dL_law_2423 : decode cL_law 2423 = .ok (.ifCond .eq 5, 3) := dk_153 0 5 (dk_at dksL_law_96 4 rfl rfl)
theorem dL_law_2426 : decode cL_law 2426 = .ok (.iconst 0, 1) := dk_3 (dk_at dksL_law_96 7 rfl rfl)
theorem dL_law_2427 : decode cL_law 2427 = .ok (.ireturn, 1) := dk_172 (dk_at dksL_law_96 8 rfl rfl)
theorem dL_law_2428 : decode cL_law 2428 = .ok (.goto 217, 3) := dk_167 0 217 (dk_at dksL_law_96 9 rfl rfl)
theorem dL_law_2431 : decode cL_law 2431 = .ok (.aload_n 1, 1) := dk_43 (dk_at dksL_law_96 12 rfl rfl)
theorem dL_law_2432 : decode cL_law 2432 = .ok (.aload_n 0, 1) := dk_42 (dk_at dksL_law_96 13 rfl rfl)
theorem dL_law_2433 : decode cL_law 2433 = .ok (.iload 4, 2) := dk_21 4 (dk_at dksL_law_96 14 rfl rfl)
theorem dL_law_2435 : decode cL_law 2435 = .ok (.iconst 1, 1) := dk_4 (dk_at dksL_law_96 16 rfl rfl)
theorem dL_law_2436 : decode cL_law 2436 = .ok (.iadd, 1) := dk_96 (dk_at dksL_law_96 17 rfl rfl)
theorem dL_law_2437 : decode cL_law 2437 = .ok (.iaload, 1) := dk_46 (dk_at dksL_law_96 18 rfl rfl)
theorem dL_law_2438 : decode cL_law 2438 = .ok (.aload_n 0, 1) := dk_42 (dk_at dksL_law_96 19 rfl rfl)
theorem dL_law_2439 : decode cL_law 2439 = .ok (.iload 4, 2) := dk_21 4 (dk_at dksL_law_96 20 rfl rfl)
theorem dL_law_2441 : decode cL_law 2441 = .ok (.iconst 2, 1) := dk_5 (dk_at dksL_law_96 22 rfl rfl)
theorem dL_law_2442 : decode cL_law 2442 = .ok (.iadd, 1) := dk_96 (dk_at dksL_law_96 23 rfl rfl)
theorem dL_law_2443 : decode cL_law 2443 = .ok (.iaload, 1) := dk_46 (dk_at dksL_law_97 0 rfl rfl)
theorem dL_law_2444 : decode cL_law 2444 = .ok (.aload_n 3, 1) := dk_45 (dk_at dksL_law_97 1 rfl rfl)
theorem dL_law_2445 : decode cL_law 2445 = .ok (.invokestatic 271, 3) := dk_184 1 15 (dk_at dksL_law_97 2 rfl rfl)
theorem dL_law_2448 : decode cL_law 2448 = .ok (.istore 5, 2) := dk_54 5 (dk_at dksL_law_97 5 rfl rfl)
theorem dL_law_2450 : decode cL_law 2450 = .ok (.aload_n 2, 1) := dk_44 (dk_at dksL_law_97 7 rfl rfl)
theorem dL_law_2451 : decode cL_law 2451 = .ok (.aload_n 0, 1) := dk_42 (dk_at dksL_law_97 8 rfl rfl)
theorem dL_law_2452 : decode cL_law 2452 = .ok (.iload 4, 2) := dk_21 4 (dk_at dksL_law_97 9 rfl rfl)
theorem dL_law_2454 : decode cL_law 2454 = .ok (.iconst 1, 1) := dk_4 (dk_at dksL_law_97 11 rfl rfl)
theorem dL_law_2455 : decode cL_law 2455 = .ok (.iadd, 1) := dk_96 (dk_at dksL_law_97 12 rfl rfl)
theorem dL_law_2456 : decode cL_law 2456 = .ok (.iaload, 1) := dk_46 (dk_at dksL_law_97 13 rfl rfl)
theorem dL_law_2457 : decode cL_law 2457 = .ok (.aload_n 0, 1) := dk_42 (dk_at dksL_law_97 14 rfl rfl)
theorem dL_law_2458 : decode cL_law 2458 = .ok (.iload 4, 2) := dk_21 4 (dk_at dksL_law_97 15 rfl rfl)
theorem dL_law_2460 : decode cL_law 2460 = .ok (.iconst 2, 1) := dk_5 (dk_at dksL_law_97 17 rfl rfl)
theorem dL_law_2461 : decode cL_law 2461 = .ok (.iadd, 1) := dk_96 (dk_at dksL_law_97 18 rfl rfl)
theorem dL_law_2462 : decode cL_law 2462 = .ok (.iaload, 1) := dk_46 (dk_at dksL_law_97 19 rfl rfl)
theorem dL_law_2463 : decode cL_law 2463 = .ok (.invokevirtual 273, 3) := dk_182 1 17 (dk_at dksL_law_97 20 rfl rfl)
theorem dL_law_2466 : decode cL_law 2466 = .ok (.istore 6, 2) := dk_54 6 (dk_at dksL_law_98 0 rfl rfl)
theorem dL_law_2468 : decode cL_law 2468 = .ok (.aload_n 2, 1) := dk_44 (dk_at dksL_law_98 2 rfl rfl)
theorem dL_law_2469 : decode cL_law 2469 = .ok (.invokevirtual 135, 3) := dk_182 0 135 (dk_at dksL_law_98 3 rfl rfl)
theorem dL_law_2472 : decode cL_law 2472 = .ok (.iload 5, 2) := dk_21 5 (dk_at dksL_law_98 6 rfl rfl)
theorem dL_law_2474 : decode cL_law 2474 = .ok (.if_icmp .eq 5, 3) := dk_159 0 5 (dk_at dksL_law_98 8 rfl rfl)
theorem dL_law_2477 : decode cL_law 2477 = .ok (.iconst 0, 1) := dk_3 (dk_at dksL_law_98 11 rfl rfl)
theorem dL_law_2478 : decode cL_law 2478 = .ok (.ireturn, 1) := dk_172 (dk_at dksL_law_98 12 rfl rfl)
theorem dL_law_2479 : decode cL_law 2479 = .ok (.iload 5, 2) := dk_21 5 (dk_at dksL_law_98 13 rfl rfl)
theorem dL_law_2481 : decode cL_law 2481 = .ok (.ifCond .ne 15, 3) := dk_154 0 15 (dk_at dksL_law_98 15 rfl rfl)
theorem dL_law_2484 : decode cL_law 2484 = .ok (.aload_n 3, 1) := dk_45 (dk_at dksL_law_98 18 rfl rfl)
theorem dL_law_2485 : decode cL_law 2485 = .ok (.iconst 0, 1) := dk_3 (dk_at dksL_law_98 19 rfl rfl)
theorem dL_law_2486 : decode cL_law 2486 = .ok (.laload, 1) := dk_47 (dk_at dksL_law_98 20 rfl rfl)
theorem dL_law_2487 : decode cL_law 2487 = .ok (.iload 6, 2) := dk_21 6 (dk_at dksL_law_98 21 rfl rfl)
theorem dL_law_2489 : decode cL_law 2489 = .ok (.i2l, 1) := dk_133 (dk_at dksL_law_98 23 rfl rfl)
theorem dL_law_2490 : decode cL_law 2490 = .ok (.lcmp, 1) := dk_148 (dk_at dksL_law_99 0 rfl rfl)
theorem dL_law_2491 : decode cL_law 2491 = .ok (.ifCond .eq 5, 3) := dk_153 0 5 (dk_at dksL_law_99 1 rfl rfl)
theorem dL_law_2494 : decode cL_law 2494 = .ok (.iconst 0, 1) := dk_3 (dk_at dksL_law_99 4 rfl rfl)
theorem dL_law_2495 : decode cL_law 2495 = .ok (.ireturn, 1) := dk_172 (dk_at dksL_law_99 5 rfl rfl)
theorem dL_law_2496 : decode cL_law 2496 = .ok (.goto 149, 3) := dk_167 0 149 (dk_at dksL_law_99 6 rfl rfl)
theorem dL_law_2499 : decode cL_law 2499 = .ok (.aload_n 1, 1) := dk_43 (dk_at dksL_law_99 9 rfl rfl)
theorem dL_law_2500 : decode cL_law 2500 = .ok (.invokevirtual 274, 3) := dk_182 1 18 (dk_at dksL_law_99 10 rfl rfl)
theorem dL_law_2503 : decode cL_law 2503 = .ok (.aload_n 2, 1) := dk_44 (dk_at dksL_law_99 13 rfl rfl)
theorem dL_law_2504 : decode cL_law 2504 = .ok (.invokevirtual 277, 3) := dk_182 1 21 (dk_at dksL_law_99 14 rfl rfl)
theorem dL_law_2507 : decode cL_law 2507 = .ok (.if_icmp .eq 138, 3) := dk_159 0 138 (dk_at dksL_law_99 17 rfl rfl)
theorem dL_law_2510 : decode cL_law 2510 = .ok (.iconst 0, 1) := dk_3 (dk_at dksL_law_99 20 rfl rfl)
theorem dL_law_2511 : decode cL_law 2511 = .ok (.ireturn, 1) := dk_172 (dk_at dksL_law_99 21 rfl rfl)
theorem dL_law_2512 : decode cL_law 2512 = .ok (.aload_n 1, 1) := dk_43 (dk_at dksL_law_99 22 rfl rfl)
theorem dL_law_2513 : decode cL_law 2513 = .ok (.aload_n 0, 1) := dk_42 (dk_at dksL_law_99 23 rfl rfl)
theorem dL_law_2514 : decode cL_law 2514 = .ok (.iload 4, 2) := dk_21 4 (dk_at dksL_law_100 0 rfl rfl)
theorem dL_law_2516 : decode cL_law 2516 = .ok (.iconst 1, 1) := dk_4 (dk_at dksL_law_100 2 rfl rfl)
theorem dL_law_2517 : decode cL_law 2517 = .ok (.iadd, 1) := dk_96 (dk_at dksL_law_100 3 rfl rfl)
theorem dL_law_2518 : decode cL_law 2518 = .ok (.iaload, 1) := dk_46 (dk_at dksL_law_100 4 rfl rfl)
theorem dL_law_2519 : decode cL_law 2519 = .ok (.aload_n 3, 1) := dk_45 (dk_at dksL_law_100 5 rfl rfl)
theorem dL_law_2520 : decode cL_law 2520 = .ok (.invokestatic 278, 3) := dk_184 1 22 (dk_at dksL_law_100 6 rfl rfl)
theorem dL_law_2523 : decode cL_law 2523 = .ok (.istore 5, 2) := dk_54 5 (dk_at dksL_law_100 9 rfl rfl)
theorem dL_law_2525 : decode cL_law 2525 = .ok (.aload_n 2, 1) := dk_44 (dk_at dksL_law_100 11 rfl rfl)
theorem dL_law_2526 : decode cL_law 2526 = .ok (.aload_n 0, 1) := dk_42 (dk_at dksL_law_100 12 rfl rfl)
theorem dL_law_2527 : decode cL_law 2527 = .ok (.iload 4, 2) := dk_21 4 (dk_at dksL_law_100 13 rfl rfl)
theorem dL_law_2529 : decode cL_law 2529 = .ok (.iconst 1, 1) := dk_4 (dk_at dksL_law_100 15 rfl rfl)
theorem dL_law_2530 : decode cL_law 2530 = .ok (.iadd, 1) := dk_96 (dk_at dksL_law_100 16 rfl rfl)
theorem dL_law_2531 : decode cL_law 2531 = .ok (.iaload, 1) := dk_46 (dk_at dksL_law_100 17 rfl rfl)
theorem dL_law_2532 : decode cL_law 2532 = .ok (.invokevirtual 280, 3) := dk_182 1 24 (dk_at dksL_law_100 18 rfl rfl)
theorem dL_law_2535 : decode cL_law 2535 = .ok (.istore 6, 2) := dk_54 6 (dk_at dksL_law_100 21 rfl rfl)
theorem dL_law_2537 : decode cL_law 2537 = .ok (.aload_n 2, 1) := dk_44 (dk_at dksL_law_100 23 rfl rfl)
theorem dL_law_2538 : decode cL_law 2538 = .ok (.invokevirtual 135, 3) := dk_182 0 135 (dk_at dksL_law_101 0 rfl rfl)
theorem dL_law_2541 : decode cL_law 2541 = .ok (.iload 5, 2) := dk_21 5 (dk_at dksL_law_101 3 rfl rfl)
theorem dL_law_2543 : decode cL_law 2543 = .ok (.if_icmp .eq 5, 3) := dk_159 0 5 (dk_at dksL_law_101 5 rfl rfl)
theorem dL_law_2546 : decode cL_law 2546 = .ok (.iconst 0, 1) := dk_3 (dk_at dksL_law_101 8 rfl rfl)
theorem dL_law_2547 : decode cL_law 2547 = .ok (.ireturn, 1) := dk_172 (dk_at dksL_law_101 9 rfl rfl)
theorem dL_law_2548 : decode cL_law 2548 = .ok (.iload 5, 2) := dk_21 5 (dk_at dksL_law_101 10 rfl rfl)
theorem dL_law_2550 : decode cL_law 2550 = .ok (.ifCond .ne 22, 3) := dk_154 0 22 (dk_at dksL_law_101 12 rfl rfl)
theorem dL_law_2553 : decode cL_law 2553 = .ok (.aload_n 3, 1) := dk_45 (dk_at dksL_law_101 15 rfl rfl)
theorem dL_law_2554 : decode cL_law 2554 = .ok (.iconst 0, 1) := dk_3 (dk_at dksL_law_101 16 rfl rfl)
theorem dL_law_2555 : decode cL_law 2555 = .ok (.laload, 1) := dk_47 (dk_at dksL_law_101 17 rfl rfl)
theorem dL_law_2556 : decode cL_law 2556 = .ok (.iload 6, 2) := dk_21 6 (dk_at dksL_law_101 18 rfl rfl)
theorem dL_law_2558 : decode cL_law 2558 = .ok (.ifCond .eq 7, 3) := dk_153 0 7 (dk_at dksL_law_101 20 rfl rfl)
theorem dL_law_2561 : decode cL_law 2561 = .ok (.lconst 1, 1) := dk_10 (dk_at dksL_law_101 23 rfl rfl)
theorem dL_law_2562 : decode cL_law 2562 = .ok (.goto 4, 3) := dk_167 0 4 (dk_at dksL_law_102 0 rfl rfl)
theorem dL_law_2565 : decode cL_law 2565 = .ok (.lconst 0, 1) := dk_9 (dk_at dksL_law_102 3 rfl rfl)
theorem dL_law_2566 : decode cL_law 2566 = .ok (.lcmp, 1) := dk_148 (dk_at dksL_law_102 4 rfl rfl)
theorem dL_law_2567 : decode cL_law 2567 = .ok (.ifCond .eq 5, 3) := dk_153 0 5 (dk_at dksL_law_102 5 rfl rfl)
theorem dL_law_2570 : decode cL_law 2570 = .ok (.iconst 0, 1) := dk_3 (dk_at dksL_law_102 8 rfl rfl)
theorem dL_law_2571 : decode cL_law 2571 = .ok (.ireturn, 1) := dk_172 (dk_at dksL_law_102 9 rfl rfl)
theorem dL_law_2572 : decode cL_law 2572 = .ok (.goto 73, 3) := dk_167 0 73 (dk_at dksL_law_102 10 rfl rfl)
theorem dL_law_2575 : decode cL_law 2575 = .ok (.aload_n 1, 1) := dk_43 (dk_at dksL_law_102 13 rfl rfl)
theorem dL_law_2576 : decode cL_law 2576 = .ok (.aload_n 0, 1) := dk_42 (dk_at dksL_law_102 14 rfl rfl)
theorem dL_law_2577 : decode cL_law 2577 = .ok (.iload 4, 2) := dk_21 4 (dk_at dksL_law_102 15 rfl rfl)
theorem dL_law_2579 : decode cL_law 2579 = .ok (.iconst 1, 1) := dk_4 (dk_at dksL_law_102 17 rfl rfl)
theorem dL_law_2580 : decode cL_law 2580 = .ok (.iadd, 1) := dk_96 (dk_at dksL_law_102 18 rfl rfl)
theorem dL_law_2581 : decode cL_law 2581 = .ok (.iaload, 1) := dk_46 (dk_at dksL_law_102 19 rfl rfl)
theorem dL_law_2582 : decode cL_law 2582 = .ok (.aload_n 3, 1) := dk_45 (dk_at dksL_law_102 20 rfl rfl)
theorem dL_law_2583 : decode cL_law 2583 = .ok (.invokestatic 281, 3) := dk_184 1 25 (dk_at dksL_law_102 21 rfl rfl)
theorem dL_law_2586 : decode cL_law 2586 = .ok (.istore 5, 2) := dk_54 5 (dk_at dksL_law_103 0 rfl rfl)
theorem dL_law_2588 : decode cL_law 2588 = .ok (.aload_n 2, 1) := dk_44 (dk_at dksL_law_103 2 rfl rfl)
theorem dL_law_2589 : decode cL_law 2589 = .ok (.aload_n 0, 1) := dk_42 (dk_at dksL_law_103 3 rfl rfl)
theorem dL_law_2590 : decode cL_law 2590 = .ok (.iload 4, 2) := dk_21 4 (dk_at dksL_law_103 4 rfl rfl)
theorem dL_law_2592 : decode cL_law 2592 = .ok (.iconst 1, 1) := dk_4 (dk_at dksL_law_103 6 rfl rfl)
theorem dL_law_2593 : decode cL_law 2593 = .ok (.iadd, 1) := dk_96 (dk_at dksL_law_103 7 rfl rfl)
theorem dL_law_2594 : decode cL_law 2594 = .ok (.iaload, 1) := dk_46 (dk_at dksL_law_103 8 rfl rfl)
theorem dL_law_2595 : decode cL_law 2595 = .ok (.invokevirtual 283, 3) := dk_182 1 27 (dk_at dksL_law_103 9 rfl rfl)
theorem dL_law_2598 : decode cL_law 2598 = .ok (.istore 6, 2) := dk_54 6 (dk_at dksL_law_103 12 rfl rfl)
theorem dL_law_2600 : decode cL_law 2600 = .ok (.aload_n 2, 1) := dk_44 (dk_at dksL_law_103 14 rfl rfl)
theorem dL_law_2601 : decode cL_law 2601 = .ok (.invokevirtual 135, 3) := dk_182 0 135 (dk_at dksL_law_103 15 rfl rfl)
theorem dL_law_2604 : decode cL_law 2604 = .ok (.iload 5, 2) := dk_21 5 (dk_at dksL_law_103 18 rfl rfl)
theorem dL_law_2606 : decode cL_law 2606 = .ok (.if_icmp .eq 5, 3) := dk_159 0 5 (dk_at dksL_law_103 20 rfl rfl)
theorem dL_law_2609 : decode cL_law 2609 = .ok (.iconst 0, 1) := dk_3 (dk_at dksL_law_103 23 rfl rfl)
theorem dL_law_2610 : decode cL_law 2610 = .ok (.ireturn, 1) := dk_172 (dk_at dksL_law_104 0 rfl rfl)
theorem dL_law_2611 : decode cL_law 2611 = .ok (.iload 5, 2) := dk_21 5 (dk_at dksL_law_104 1 rfl rfl)
theorem dL_law_2613 : decode cL_law 2613 = .ok (.ifCond .ne 15, 3) := dk_154 0 15 (dk_at dksL_law_104 3 rfl rfl)
theorem dL_law_2616 : decode cL_law 2616 = .ok (.aload_n 3, 1) := dk_45 (dk_at dksL_law_104 6 rfl rfl)
theorem dL_law_2617 : decode cL_law 2617 = .ok (.iconst 0, 1) := dk_3 (dk_at dksL_law_104 7 rfl rfl)
theorem dL_law_2618 : decode cL_law 2618 = .ok (.laload, 1) := dk_47 (dk_at dksL_law_104 8 rfl rfl)
theorem dL_law_2619 : decode cL_law 2619 = .ok (.iload 6, 2) := dk_21 6 (dk_at dksL_law_104 9 rfl rfl)
theorem dL_law_2621 : decode cL_law 2621 = .ok (.i2l, 1) := dk_133 (dk_at dksL_law_104 11 rfl rfl)
theorem dL_law_2622 : decode cL_law 2622 = .ok (.lcmp, 1) := dk_148 (dk_at dksL_law_104 12 rfl rfl)
theorem dL_law_2623 : decode cL_law 2623 = .ok (.ifCond .eq 5, 3) := dk_153 0 5 (dk_at dksL_law_104 13 rfl rfl)
theorem dL_law_2626 : decode cL_law 2626 = .ok (.iconst 0, 1) := dk_3 (dk_at dksL_law_104 16 rfl rfl)
theorem dL_law_2627 : decode cL_law 2627 = .ok (.ireturn, 1) := dk_172 (dk_at dksL_law_104 17 rfl rfl)
theorem dL_law_2628 : decode cL_law 2628 = .ok (.goto 17, 3) := dk_167 0 17 (dk_at dksL_law_104 18 rfl rfl)
theorem dL_law_2631 : decode cL_law 2631 = .ok (.aload_n 1, 1) := dk_43 (dk_at dksL_law_104 21 rfl rfl)
theorem dL_law_2632 : decode cL_law 2632 = .ok (.invokevirtual 284, 3) := dk_182 1 28 (dk_at dksL_law_105 0 rfl rfl)
theorem dL_law_2635 : decode cL_law 2635 = .ok (.aload_n 2, 1) := dk_44 (dk_at dksL_law_105 3 rfl rfl)
theorem dL_law_2636 : decode cL_law 2636 = .ok (.invokevirtual 288, 3) := dk_182 1 32 (dk_at dksL_law_105 4 rfl rfl)
theorem dL_law_2639 : decode cL_law 2639 = .ok (.lcmp, 1) := dk_148 (dk_at dksL_law_105 7 rfl rfl)
theorem dL_law_2640 : decode cL_law 2640 = .ok (.ifCond .eq 5, 3) := dk_153 0 5 (dk_at dksL_law_105 8 rfl rfl)
theorem dL_law_2643 : decode cL_law 2643 = .ok (.iconst 0, 1) := dk_3 (dk_at dksL_law_105 11 rfl rfl)
theorem dL_law_2644 : decode cL_law 2644 = .ok (.ireturn, 1) := dk_172 (dk_at dksL_law_105 12 rfl rfl)
theorem dL_law_2645 : decode cL_law 2645 = .ok (.iinc 4 6, 3) := dk_132 4 6 (dk_at dksL_law_105 13 rfl rfl)
theorem dL_law_2648 : decode cL_law 2648 = .ok (.goto (-2625), 3) := dk_167 245 191 (dk_at dksL_law_105 16 rfl rfl)
theorem dL_law_2651 : decode cL_law 2651 = .ok (.iconst 1, 1) := dk_4 (dk_at dksL_law_105 19 rfl rfl)
theorem dL_law_2652 : decode cL_law 2652 = .ok (.ireturn, 1) := dk_172 (dk_at dksL_law_105 20 rfl rfl)
