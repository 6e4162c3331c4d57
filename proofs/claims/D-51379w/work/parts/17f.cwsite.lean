/-! THE LAMBDAS' SITES: printed -/
set_option maxRecDepth 100000
abbrev lq0 : cLt := (⟨"HeirCases$Comparison", "<init>", "(ICI)V"⟩, 48, 20, sg0, 6)
theorem lz0 : cLam[0]? = some lq0 := rfl
def lb0 : ByteArray := ⟨#[0x1b, 0x1c, 0xb8, 0x00, 0x11, 0xac]⟩
theorem ld0_0 : decode lb0 0 = .ok (.iload_n 1, 1) := by decide +kernel
theorem ld0_1 : decode lb0 1 = .ok (.iload_n 2, 1) := by decide +kernel
theorem ld0_2 : decode lb0 2 = .ok (.invokestatic 17, 3) := by decide +kernel
theorem ld0_5 : decode lb0 5 = .ok (.ireturn, 1) := by decide +kernel
theorem lo0 : lamOk lq0.2.2.2.1 lq0.1.cls lb0 3 17 14 16 13 [] = true := by decide +kernel
theorem lx0 : (⟨"HeirCases$Comparing", "is", "(II)Z"⟩ : MethodName) = ⟨lq0.2.2.2.1.iface, lq0.2.2.2.1.name, lq0.2.2.2.1.sam.toString⟩ := by decide +kernel
theorem ly0 : (⟨"HeirCases$Comparison", "lambda$new$0", "(II)Z"⟩ : MethodName) = ⟨lq0.2.2.2.1.implClass, lq0.2.2.2.1.implName, lq0.2.2.2.1.implDesc.toString⟩ := by decide +kernel
abbrev lq1 : cLt := (⟨"HeirCases$Comparison", "<init>", "(ICI)V"⟩, 56, 24, sg1, 7)
theorem lz1 : cLam[1]? = some lq1 := rfl
def lb1 : ByteArray := ⟨#[0x1b, 0x1c, 0xb8, 0x00, 0x11, 0xac]⟩
theorem ld1_0 : decode lb1 0 = .ok (.iload_n 1, 1) := by decide +kernel
theorem ld1_1 : decode lb1 1 = .ok (.iload_n 2, 1) := by decide +kernel
theorem ld1_2 : decode lb1 2 = .ok (.invokestatic 17, 3) := by decide +kernel
theorem ld1_5 : decode lb1 5 = .ok (.ireturn, 1) := by decide +kernel
theorem lo1 : lamOk lq1.2.2.2.1 lq1.1.cls lb1 3 17 14 16 13 [] = true := by decide +kernel
theorem lx1 : (⟨"HeirCases$Comparing", "is", "(II)Z"⟩ : MethodName) = ⟨lq1.2.2.2.1.iface, lq1.2.2.2.1.name, lq1.2.2.2.1.sam.toString⟩ := by decide +kernel
theorem ly1 : (⟨"HeirCases$Comparison", "lambda$new$1", "(II)Z"⟩ : MethodName) = ⟨lq1.2.2.2.1.implClass, lq1.2.2.2.1.implName, lq1.2.2.2.1.implDesc.toString⟩ := by decide +kernel
abbrev lq2 : cLt := (⟨"HeirCases$Comparison", "<init>", "(ICI)V"⟩, 64, 25, sg2, 8)
theorem lz2 : cLam[2]? = some lq2 := rfl
def lb2 : ByteArray := ⟨#[0x1b, 0x1c, 0xb8, 0x00, 0x11, 0xac]⟩
theorem ld2_0 : decode lb2 0 = .ok (.iload_n 1, 1) := by decide +kernel
theorem ld2_1 : decode lb2 1 = .ok (.iload_n 2, 1) := by decide +kernel
theorem ld2_2 : decode lb2 2 = .ok (.invokestatic 17, 3) := by decide +kernel
theorem ld2_5 : decode lb2 5 = .ok (.ireturn, 1) := by decide +kernel
theorem lo2 : lamOk lq2.2.2.2.1 lq2.1.cls lb2 3 17 14 16 13 [] = true := by decide +kernel
theorem lx2 : (⟨"HeirCases$Comparing", "is", "(II)Z"⟩ : MethodName) = ⟨lq2.2.2.2.1.iface, lq2.2.2.2.1.name, lq2.2.2.2.1.sam.toString⟩ := by decide +kernel
theorem ly2 : (⟨"HeirCases$Comparison", "lambda$new$2", "(II)Z"⟩ : MethodName) = ⟨lq2.2.2.2.1.implClass, lq2.2.2.2.1.implName, lq2.2.2.2.1.implDesc.toString⟩ := by decide +kernel
abbrev lq3 : cLt := (⟨"HeirCases", "needed", "()I"⟩, 33, 301, sg3, 0)
theorem lz3 : cLam[3]? = some lq3 := rfl
def lb3 : ByteArray := ⟨#[0x2a, 0xb4, 0x00, 0x0f, 0x2b, 0xb8, 0x00, 0x17, 0xb1]⟩
theorem ld3_0 : decode lb3 0 = .ok (.aload_n 0, 1) := by decide +kernel
theorem ld3_1 : decode lb3 1 = .ok (.getfield 15, 3) := by decide +kernel
theorem ld3_4 : decode lb3 4 = .ok (.aload_n 1, 1) := by decide +kernel
theorem ld3_5 : decode lb3 5 = .ok (.invokestatic 23, 3) := by decide +kernel
theorem ld3_8 : decode lb3 8 = .ok (.return_, 1) := by decide +kernel
theorem lo3 : lamOk lq3.2.2.2.1 lq3.1.cls lb3 2 23 19 22 18 [(15, 14)] = true := by decide +kernel
theorem lx3 : (⟨"HeirCases$Deed", "in", "(LHeirCases$Will;)V"⟩ : MethodName) = ⟨lq3.2.2.2.1.iface, lq3.2.2.2.1.name, lq3.2.2.2.1.sam.toString⟩ := by decide +kernel
theorem ly3 : (⟨"HeirCases", "lambda$needed$7", "(ILHeirCases$Will;)V"⟩ : MethodName) = ⟨lq3.2.2.2.1.implClass, lq3.2.2.2.1.implName, lq3.2.2.2.1.implDesc.toString⟩ := by decide +kernel
abbrev lq4 : cLt := (⟨"HeirCases", "patch", "()I"⟩, 53, 317, sg4, 0)
theorem lz4 : cLam[4]? = some lq4 := rfl
def lb4 : ByteArray := ⟨#[0x2a, 0xb4, 0x00, 0x11, 0x2a, 0xb4, 0x00, 0x13, 0x1b, 0xb6, 0x00, 0x1b, 0xac]⟩
theorem ld4_0 : decode lb4 0 = .ok (.aload_n 0, 1) := by decide +kernel
theorem ld4_1 : decode lb4 1 = .ok (.getfield 17, 3) := by decide +kernel
theorem ld4_4 : decode lb4 4 = .ok (.aload_n 0, 1) := by decide +kernel
theorem ld4_5 : decode lb4 5 = .ok (.getfield 19, 3) := by decide +kernel
theorem ld4_8 : decode lb4 8 = .ok (.iload_n 1, 1) := by decide +kernel
theorem ld4_9 : decode lb4 9 = .ok (.invokevirtual 27, 3) := by decide +kernel
theorem ld4_12 : decode lb4 12 = .ok (.ireturn, 1) := by decide +kernel
theorem lo4 : lamOk lq4.2.2.2.1 lq4.1.cls lb4 2 27 23 26 22 [(17, 16), (19, 18)] = true := by decide +kernel
theorem lx4 : (⟨"HeirCases$OfCase", "of", "(I)I"⟩ : MethodName) = ⟨lq4.2.2.2.1.iface, lq4.2.2.2.1.name, lq4.2.2.2.1.sam.toString⟩ := by decide +kernel
theorem ly4 : (⟨"HeirCases", "lambda$patch$10", "(LHeirCases$Comparison;I)I"⟩ : MethodName) = ⟨lq4.2.2.2.1.implClass, lq4.2.2.2.1.implName, lq4.2.2.2.1.implDesc.toString⟩ := by decide +kernel
abbrev lq5 : cLt := (⟨"HeirCases", "dearest", "()I"⟩, 2, 331, sg5, 0)
theorem lz5 : cLam[5]? = some lq5 := rfl
def lb5 : ByteArray := ⟨#[0x2a, 0xb4, 0x00, 0x0f, 0x1b, 0xb6, 0x00, 0x16, 0xac]⟩
theorem ld5_0 : decode lb5 0 = .ok (.aload_n 0, 1) := by decide +kernel
theorem ld5_1 : decode lb5 1 = .ok (.getfield 15, 3) := by decide +kernel
theorem ld5_4 : decode lb5 4 = .ok (.iload_n 1, 1) := by decide +kernel
theorem ld5_5 : decode lb5 5 = .ok (.invokevirtual 22, 3) := by decide +kernel
theorem ld5_8 : decode lb5 8 = .ok (.ireturn, 1) := by decide +kernel
theorem lo5 : lamOk lq5.2.2.2.1 lq5.1.cls lb5 2 22 19 21 18 [(15, 14)] = true := by decide +kernel
theorem lx5 : (⟨"HeirCases$OfCase", "of", "(I)I"⟩ : MethodName) = ⟨lq5.2.2.2.1.iface, lq5.2.2.2.1.name, lq5.2.2.2.1.sam.toString⟩ := by decide +kernel
theorem ly5 : (⟨"HeirCases", "lambda$dearest$11", "(I)I"⟩ : MethodName) = ⟨lq5.2.2.2.1.implClass, lq5.2.2.2.1.implName, lq5.2.2.2.1.implDesc.toString⟩ := by decide +kernel
abbrev lq6 : cLt := (⟨"HeirCases", "gap", "()I"⟩, 2, 334, sg6, 0)
theorem lz6 : cLam[6]? = some lq6 := rfl
def lb6 : ByteArray := ⟨#[0x2a, 0xb4, 0x00, 0x0f, 0x1b, 0xb6, 0x00, 0x16, 0xac]⟩
theorem ld6_0 : decode lb6 0 = .ok (.aload_n 0, 1) := by decide +kernel
theorem ld6_1 : decode lb6 1 = .ok (.getfield 15, 3) := by decide +kernel
theorem ld6_4 : decode lb6 4 = .ok (.iload_n 1, 1) := by decide +kernel
theorem ld6_5 : decode lb6 5 = .ok (.invokevirtual 22, 3) := by decide +kernel
theorem ld6_8 : decode lb6 8 = .ok (.ireturn, 1) := by decide +kernel
theorem lo6 : lamOk lq6.2.2.2.1 lq6.1.cls lb6 2 22 19 21 18 [(15, 14)] = true := by decide +kernel
theorem lx6 : (⟨"HeirCases$OfCase", "of", "(I)I"⟩ : MethodName) = ⟨lq6.2.2.2.1.iface, lq6.2.2.2.1.name, lq6.2.2.2.1.sam.toString⟩ := by decide +kernel
theorem ly6 : (⟨"HeirCases", "left", "(I)I"⟩ : MethodName) = ⟨lq6.2.2.2.1.implClass, lq6.2.2.2.1.implName, lq6.2.2.2.1.implDesc.toString⟩ := by decide +kernel
abbrev lq7 : cLt := (⟨"HeirCases", "meanDuties", "()D"⟩, 11, 335, sg7, 0)
theorem lz7 : cLam[7]? = some lq7 := rfl
def lb7 : ByteArray := ⟨#[0x2a, 0xb4, 0x00, 0x0f, 0x1b, 0xb6, 0x00, 0x16, 0xac]⟩
theorem ld7_0 : decode lb7 0 = .ok (.aload_n 0, 1) := by decide +kernel
theorem ld7_1 : decode lb7 1 = .ok (.getfield 15, 3) := by decide +kernel
theorem ld7_4 : decode lb7 4 = .ok (.iload_n 1, 1) := by decide +kernel
theorem ld7_5 : decode lb7 5 = .ok (.invokevirtual 22, 3) := by decide +kernel
theorem ld7_8 : decode lb7 8 = .ok (.ireturn, 1) := by decide +kernel
theorem lo7 : lamOk lq7.2.2.2.1 lq7.1.cls lb7 2 22 19 21 18 [(15, 14)] = true := by decide +kernel
theorem lx7 : (⟨"HeirCases$OfCase", "of", "(I)I"⟩ : MethodName) = ⟨lq7.2.2.2.1.iface, lq7.2.2.2.1.name, lq7.2.2.2.1.sam.toString⟩ := by decide +kernel
theorem ly7 : (⟨"HeirCases", "lambda$meanDuties$12", "(I)I"⟩ : MethodName) = ⟨lq7.2.2.2.1.implClass, lq7.2.2.2.1.implName, lq7.2.2.2.1.implDesc.toString⟩ := by decide +kernel
abbrev lq8 : cLt := (⟨"HeirCases", "heir", "(II)I"⟩, 134, 221, sg8, 0)
theorem lz8 : cLam[8]? = some lq8 := rfl
def lb8 : ByteArray := ⟨#[0x2a, 0xb4, 0x00, 0x11, 0x2a, 0xb4, 0x00, 0x13, 0x1b, 0xb6, 0x00, 0x1b, 0xac]⟩
theorem ld8_0 : decode lb8 0 = .ok (.aload_n 0, 1) := by decide +kernel
theorem ld8_1 : decode lb8 1 = .ok (.getfield 17, 3) := by decide +kernel
theorem ld8_4 : decode lb8 4 = .ok (.aload_n 0, 1) := by decide +kernel
theorem ld8_5 : decode lb8 5 = .ok (.getfield 19, 3) := by decide +kernel
theorem ld8_8 : decode lb8 8 = .ok (.iload_n 1, 1) := by decide +kernel
theorem ld8_9 : decode lb8 9 = .ok (.invokevirtual 27, 3) := by decide +kernel
theorem ld8_12 : decode lb8 12 = .ok (.ireturn, 1) := by decide +kernel
theorem lo8 : lamOk lq8.2.2.2.1 lq8.1.cls lb8 2 27 23 26 22 [(17, 16), (19, 18)] = true := by decide +kernel
theorem lx8 : (⟨"HeirCases$OfCase", "of", "(I)I"⟩ : MethodName) = ⟨lq8.2.2.2.1.iface, lq8.2.2.2.1.name, lq8.2.2.2.1.sam.toString⟩ := by decide +kernel
theorem ly8 : (⟨"HeirCases", "lambda$heir$0", "(II)I"⟩ : MethodName) = ⟨lq8.2.2.2.1.implClass, lq8.2.2.2.1.implName, lq8.2.2.2.1.implDesc.toString⟩ := by decide +kernel
abbrev lq9 : cLt := (⟨"HeirCases", "heir", "(II)I"⟩, 149, 228, sg9, 0)
theorem lz9 : cLam[9]? = some lq9 := rfl
def lb9 : ByteArray := ⟨#[0x2a, 0xb4, 0x00, 0x11, 0x2a, 0xb4, 0x00, 0x13, 0x1b, 0xb6, 0x00, 0x1b, 0xac]⟩
theorem ld9_0 : decode lb9 0 = .ok (.aload_n 0, 1) := by decide +kernel
theorem ld9_1 : decode lb9 1 = .ok (.getfield 17, 3) := by decide +kernel
theorem ld9_4 : decode lb9 4 = .ok (.aload_n 0, 1) := by decide +kernel
theorem ld9_5 : decode lb9 5 = .ok (.getfield 19, 3) := by decide +kernel
theorem ld9_8 : decode lb9 8 = .ok (.iload_n 1, 1) := by decide +kernel
theorem ld9_9 : decode lb9 9 = .ok (.invokevirtual 27, 3) := by decide +kernel
theorem ld9_12 : decode lb9 12 = .ok (.ireturn, 1) := by decide +kernel
theorem lo9 : lamOk lq9.2.2.2.1 lq9.1.cls lb9 2 27 23 26 22 [(17, 16), (19, 18)] = true := by decide +kernel
theorem lx9 : (⟨"HeirCases$OfCase", "of", "(I)I"⟩ : MethodName) = ⟨lq9.2.2.2.1.iface, lq9.2.2.2.1.name, lq9.2.2.2.1.sam.toString⟩ := by decide +kernel
theorem ly9 : (⟨"HeirCases", "lambda$heir$1", "(II)I"⟩ : MethodName) = ⟨lq9.2.2.2.1.implClass, lq9.2.2.2.1.implName, lq9.2.2.2.1.implDesc.toString⟩ := by decide +kernel
abbrev lq10 : cLt := (⟨"HeirCases", "rule", "(II)I"⟩, 51, 243, sg10, 0)
theorem lz10 : cLam[10]? = some lq10 := rfl
def lb10 : ByteArray := ⟨#[0x2a, 0xb4, 0x00, 0x11, 0x2a, 0xb4, 0x00, 0x13, 0x1b, 0xb6, 0x00, 0x1b, 0xac]⟩
theorem ld10_0 : decode lb10 0 = .ok (.aload_n 0, 1) := by decide +kernel
theorem ld10_1 : decode lb10 1 = .ok (.getfield 17, 3) := by decide +kernel
theorem ld10_4 : decode lb10 4 = .ok (.aload_n 0, 1) := by decide +kernel
theorem ld10_5 : decode lb10 5 = .ok (.getfield 19, 3) := by decide +kernel
theorem ld10_8 : decode lb10 8 = .ok (.iload_n 1, 1) := by decide +kernel
theorem ld10_9 : decode lb10 9 = .ok (.invokevirtual 27, 3) := by decide +kernel
theorem ld10_12 : decode lb10 12 = .ok (.ireturn, 1) := by decide +kernel
theorem lo10 : lamOk lq10.2.2.2.1 lq10.1.cls lb10 2 27 23 26 22 [(17, 16), (19, 18)] = true := by decide +kernel
theorem lx10 : (⟨"HeirCases$OfCase", "of", "(I)I"⟩ : MethodName) = ⟨lq10.2.2.2.1.iface, lq10.2.2.2.1.name, lq10.2.2.2.1.sam.toString⟩ := by decide +kernel
theorem ly10 : (⟨"HeirCases", "lambda$rule$2", "(II)I"⟩ : MethodName) = ⟨lq10.2.2.2.1.implClass, lq10.2.2.2.1.implName, lq10.2.2.2.1.implDesc.toString⟩ := by decide +kernel
abbrev lq11 : cLt := (⟨"HeirCases", "rule", "(II)I"⟩, 65, 248, sg11, 0)
theorem lz11 : cLam[11]? = some lq11 := rfl
def lb11 : ByteArray := ⟨#[0x2a, 0xb4, 0x00, 0x11, 0x2a, 0xb4, 0x00, 0x13, 0x1b, 0xb6, 0x00, 0x1b, 0xac]⟩
theorem ld11_0 : decode lb11 0 = .ok (.aload_n 0, 1) := by decide +kernel
theorem ld11_1 : decode lb11 1 = .ok (.getfield 17, 3) := by decide +kernel
theorem ld11_4 : decode lb11 4 = .ok (.aload_n 0, 1) := by decide +kernel
theorem ld11_5 : decode lb11 5 = .ok (.getfield 19, 3) := by decide +kernel
theorem ld11_8 : decode lb11 8 = .ok (.iload_n 1, 1) := by decide +kernel
theorem ld11_9 : decode lb11 9 = .ok (.invokevirtual 27, 3) := by decide +kernel
theorem ld11_12 : decode lb11 12 = .ok (.ireturn, 1) := by decide +kernel
theorem lo11 : lamOk lq11.2.2.2.1 lq11.1.cls lb11 2 27 23 26 22 [(17, 16), (19, 18)] = true := by decide +kernel
theorem lx11 : (⟨"HeirCases$OfCase", "of", "(I)I"⟩ : MethodName) = ⟨lq11.2.2.2.1.iface, lq11.2.2.2.1.name, lq11.2.2.2.1.sam.toString⟩ := by decide +kernel
theorem ly11 : (⟨"HeirCases", "lambda$rule$3", "(II)I"⟩ : MethodName) = ⟨lq11.2.2.2.1.implClass, lq11.2.2.2.1.implName, lq11.2.2.2.1.implDesc.toString⟩ := by decide +kernel
abbrev lq12 : cLt := (⟨"HeirCases", "rule", "(II)I"⟩, 79, 249, sg12, 0)
theorem lz12 : cLam[12]? = some lq12 := rfl
def lb12 : ByteArray := ⟨#[0x2a, 0xb4, 0x00, 0x11, 0x2a, 0xb4, 0x00, 0x13, 0x1b, 0xb6, 0x00, 0x1b, 0xac]⟩
theorem ld12_0 : decode lb12 0 = .ok (.aload_n 0, 1) := by decide +kernel
theorem ld12_1 : decode lb12 1 = .ok (.getfield 17, 3) := by decide +kernel
theorem ld12_4 : decode lb12 4 = .ok (.aload_n 0, 1) := by decide +kernel
theorem ld12_5 : decode lb12 5 = .ok (.getfield 19, 3) := by decide +kernel
theorem ld12_8 : decode lb12 8 = .ok (.iload_n 1, 1) := by decide +kernel
theorem ld12_9 : decode lb12 9 = .ok (.invokevirtual 27, 3) := by decide +kernel
theorem ld12_12 : decode lb12 12 = .ok (.ireturn, 1) := by decide +kernel
theorem lo12 : lamOk lq12.2.2.2.1 lq12.1.cls lb12 2 27 23 26 22 [(17, 16), (19, 18)] = true := by decide +kernel
theorem lx12 : (⟨"HeirCases$OfCase", "of", "(I)I"⟩ : MethodName) = ⟨lq12.2.2.2.1.iface, lq12.2.2.2.1.name, lq12.2.2.2.1.sam.toString⟩ := by decide +kernel
theorem ly12 : (⟨"HeirCases", "lambda$rule$4", "(II)I"⟩ : MethodName) = ⟨lq12.2.2.2.1.implClass, lq12.2.2.2.1.implName, lq12.2.2.2.1.implDesc.toString⟩ := by decide +kernel
abbrev lq13 : cLt := (⟨"HeirCases", "isWider", "(II)Z"⟩, 16, 289, sg13, 0)
theorem lz13 : cLam[13]? = some lq13 := rfl
def lb13 : ByteArray := ⟨#[0x2a, 0xb4, 0x00, 0x12, 0x2a, 0xb4, 0x00, 0x14, 0x2a, 0xb4, 0x00, 0x16, 0x1b, 0xb6, 0x00, 0x1e, 0xac]⟩
theorem ld13_0 : decode lb13 0 = .ok (.aload_n 0, 1) := by decide +kernel
theorem ld13_1 : decode lb13 1 = .ok (.getfield 18, 3) := by decide +kernel
theorem ld13_4 : decode lb13 4 = .ok (.aload_n 0, 1) := by decide +kernel
theorem ld13_5 : decode lb13 5 = .ok (.getfield 20, 3) := by decide +kernel
theorem ld13_8 : decode lb13 8 = .ok (.aload_n 0, 1) := by decide +kernel
theorem ld13_9 : decode lb13 9 = .ok (.getfield 22, 3) := by decide +kernel
theorem ld13_12 : decode lb13 12 = .ok (.iload_n 1, 1) := by decide +kernel
theorem ld13_13 : decode lb13 13 = .ok (.invokevirtual 30, 3) := by decide +kernel
theorem ld13_16 : decode lb13 16 = .ok (.ireturn, 1) := by decide +kernel
theorem lo13 : lamOk lq13.2.2.2.1 lq13.1.cls lb13 2 30 26 29 25 [(18, 17), (20, 19), (22, 21)] = true := by decide +kernel
theorem lx13 : (⟨"HeirCases$OfCase", "of", "(I)I"⟩ : MethodName) = ⟨lq13.2.2.2.1.iface, lq13.2.2.2.1.name, lq13.2.2.2.1.sam.toString⟩ := by decide +kernel
theorem ly13 : (⟨"HeirCases", "lambda$isWider$5", "(III)I"⟩ : MethodName) = ⟨lq13.2.2.2.1.implClass, lq13.2.2.2.1.implName, lq13.2.2.2.1.implDesc.toString⟩ := by decide +kernel
abbrev lq14 : cLt := (⟨"HeirCases", "common", "(II)I"⟩, 16, 292, sg14, 0)
theorem lz14 : cLam[14]? = some lq14 := rfl
def lb14 : ByteArray := ⟨#[0x2a, 0xb4, 0x00, 0x12, 0x2a, 0xb4, 0x00, 0x14, 0x2a, 0xb4, 0x00, 0x16, 0x1b, 0xb6, 0x00, 0x1e, 0xac]⟩
theorem ld14_0 : decode lb14 0 = .ok (.aload_n 0, 1) := by decide +kernel
theorem ld14_1 : decode lb14 1 = .ok (.getfield 18, 3) := by decide +kernel
theorem ld14_4 : decode lb14 4 = .ok (.aload_n 0, 1) := by decide +kernel
theorem ld14_5 : decode lb14 5 = .ok (.getfield 20, 3) := by decide +kernel
theorem ld14_8 : decode lb14 8 = .ok (.aload_n 0, 1) := by decide +kernel
theorem ld14_9 : decode lb14 9 = .ok (.getfield 22, 3) := by decide +kernel
theorem ld14_12 : decode lb14 12 = .ok (.iload_n 1, 1) := by decide +kernel
theorem ld14_13 : decode lb14 13 = .ok (.invokevirtual 30, 3) := by decide +kernel
theorem ld14_16 : decode lb14 16 = .ok (.ireturn, 1) := by decide +kernel
theorem lo14 : lamOk lq14.2.2.2.1 lq14.1.cls lb14 2 30 26 29 25 [(18, 17), (20, 19), (22, 21)] = true := by decide +kernel
theorem lx14 : (⟨"HeirCases$OfCase", "of", "(I)I"⟩ : MethodName) = ⟨lq14.2.2.2.1.iface, lq14.2.2.2.1.name, lq14.2.2.2.1.sam.toString⟩ := by decide +kernel
theorem ly14 : (⟨"HeirCases", "lambda$common$6", "(III)I"⟩ : MethodName) = ⟨lq14.2.2.2.1.implClass, lq14.2.2.2.1.implName, lq14.2.2.2.1.implDesc.toString⟩ := by decide +kernel
abbrev lq15 : cLt := (⟨"HeirCases", "gapsWithout", "(I)I"⟩, 8, 308, sg15, 0)
theorem lz15 : cLam[15]? = some lq15 := rfl
def lb15 : ByteArray := ⟨#[0x2a, 0xb4, 0x00, 0x0f, 0x2b, 0xb8, 0x00, 0x17, 0xb1]⟩
theorem ld15_0 : decode lb15 0 = .ok (.aload_n 0, 1) := by decide +kernel
theorem ld15_1 : decode lb15 1 = .ok (.getfield 15, 3) := by decide +kernel
theorem ld15_4 : decode lb15 4 = .ok (.aload_n 1, 1) := by decide +kernel
theorem ld15_5 : decode lb15 5 = .ok (.invokestatic 23, 3) := by decide +kernel
theorem ld15_8 : decode lb15 8 = .ok (.return_, 1) := by decide +kernel
theorem lo15 : lamOk lq15.2.2.2.1 lq15.1.cls lb15 2 23 19 22 18 [(15, 14)] = true := by decide +kernel
theorem lx15 : (⟨"HeirCases$Deed", "in", "(LHeirCases$Will;)V"⟩ : MethodName) = ⟨lq15.2.2.2.1.iface, lq15.2.2.2.1.name, lq15.2.2.2.1.sam.toString⟩ := by decide +kernel
theorem ly15 : (⟨"HeirCases", "lambda$gapsWithout$8", "(ILHeirCases$Will;)V"⟩ : MethodName) = ⟨lq15.2.2.2.1.implClass, lq15.2.2.2.1.implName, lq15.2.2.2.1.implDesc.toString⟩ := by decide +kernel
abbrev lq16 : cLt := (⟨"HeirCases", "clashesIf", "(II)I"⟩, 28, 309, sg16, 0)
theorem lz16 : cLam[16]? = some lq16 := rfl
def lb16 : ByteArray := ⟨#[0x2a, 0xb4, 0x00, 0x10, 0x2a, 0xb4, 0x00, 0x12, 0x2b, 0xb8, 0x00, 0x1a, 0xb1]⟩
theorem ld16_0 : decode lb16 0 = .ok (.aload_n 0, 1) := by decide +kernel
theorem ld16_1 : decode lb16 1 = .ok (.getfield 16, 3) := by decide +kernel
theorem ld16_4 : decode lb16 4 = .ok (.aload_n 0, 1) := by decide +kernel
theorem ld16_5 : decode lb16 5 = .ok (.getfield 18, 3) := by decide +kernel
theorem ld16_8 : decode lb16 8 = .ok (.aload_n 1, 1) := by decide +kernel
theorem ld16_9 : decode lb16 9 = .ok (.invokestatic 26, 3) := by decide +kernel
theorem ld16_12 : decode lb16 12 = .ok (.return_, 1) := by decide +kernel
theorem lo16 : lamOk lq16.2.2.2.1 lq16.1.cls lb16 2 26 22 25 21 [(16, 15), (18, 17)] = true := by decide +kernel
theorem lx16 : (⟨"HeirCases$Deed", "in", "(LHeirCases$Will;)V"⟩ : MethodName) = ⟨lq16.2.2.2.1.iface, lq16.2.2.2.1.name, lq16.2.2.2.1.sam.toString⟩ := by decide +kernel
theorem ly16 : (⟨"HeirCases", "lambda$clashesIf$9", "(IILHeirCases$Will;)V"⟩ : MethodName) = ⟨lq16.2.2.2.1.implClass, lq16.2.2.2.1.implName, lq16.2.2.2.1.implDesc.toString⟩ := by decide +kernel
