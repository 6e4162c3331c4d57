/-! THE CLASS' WALKS 37: printed by gencl.py -/
section
variable {p : Program} {l : Launch} {e : Env} {R : Room} {s : State} {m : MethodId} {args : Array Value} {below : List Frame} {meth : Method} {c : Code} {g : cG} {A : Nat → Prop}
set_option maxRecDepth 100000
theorem w_X1_setOver_53 {z : (cX (Int32)) × cS} {o : Nat} (C : CX p m meth c s args cX1_setOver 5 (Option.some Jvm.ClassFile.FieldType.int) RX1) (hx : ∀ x ∈ c.exceptionTable.toList, False) (hl0 : l.stackTraces = false) (hw : WKc g A s s.heap) (hR : RM g s R (10) (213))  : ∀ (x4 : Option Nat) (s0 : Option Nat) (s1 : Int32) (σ : cS) (H : Heap) (locs : List Loc) (ls : Array Slot), b_X1_setOver_53 o x4 s0 s1 σ = some z → CI g A s σ H locs → lv_has ls 5 [(0, .ref o), (4, va_rf x4)] → W p l e R s m args below meth c H locs (H.size - s.heap.size) (hsl H - hsl s.heap) (UQ g A (fun v => some (.int v)) z args s (g.2.2.1 3 - s.heap.size) (g.2.2.1 4 - hsl s.heap) below) (F0 m 53 ls [.int s1, va_rf s0]) := by
  intro x4 s0 s1 σ H locs ls h hI hl
  unfold b_X1_setOver_53 at h
  refine cw_pO (r := s0) (v := (.int s1)) (ty := .int) 2 3 C hw hI h (by decide) rfl in_X9 tyX9 tyX9_ok nmX9 (by decide) (C.t _ q1112) (fun _ h9 => h9) (Or.inl rfl) (by decide +kernel) rfl rfl dX1_setOver_53 (fun σ_1 H locs h hI => ?_)
  refine r_aload_n (x := some o) C.x C.b dX1_setOver_56 rfl (lv_at hl 0 rfl) ?_
  refine cw_gR (r := some o) 0 0 C hw hI h (by decide) rfl in_X1 (by decide) (C.t _ q1172) (fun _ h9 => h9) dX1_setOver_57 (fun v_2 h => ?_)
  refine cw_callV (y := yX4_forget) (bytes := cX4_forget) (maxL := 2) (r := v_2) (f := fun a_4 => m_X4_forget a_4 σ_1) 1 (fun _ => none) [] C hw hR hI hl.1 h (by decide) rfl (fun aa vv ss ee => k_X4_forget l g A aa σ_1 vv ss ee) (cwV 0 C.t (lw_V q2016 q1137 q1138 q150 q1139) rfl rfl rfl (by decide +kernel) ⟨Nat.le_trans (Nat.le_of_ble_eq_true rfl) hR.f, Nat.le_trans (Nat.le_of_ble_eq_true rfl) hR.lo⟩) rfl rfl (Nat.le_of_ble_eq_true rfl) dX1_setOver_60 (fun _ σ_3 H locs h hI => ?_)
  refine r_aload (x := x4) C.x C.b dX1_setOver_63 (lv_at hl 1 rfl) ?_
  refine cw_gI (r := x4) 2 3 C hw hI h (by decide) rfl in_X9 (by decide) (C.t _ q1112) (fun _ h9 => h9) dX1_setOver_65 (fun v_5 h => ?_)
  refine cw_callS (y := yJ14_bitCount) (bytes := cJ14_bitCount) (maxL := 1) (fun v => some (.int v)) [.int v_5] C hw hR hI hl.1 h (fun vv ss ee => k_J14_bitCount l g A v_5 σ_3 vv ss ee) (va_cwS 1 C.t (lw_S q1793 q1794 q145 q1795) rfl rfl rfl (by decide +kernel) ⟨Nat.le_trans (Nat.le_of_ble_eq_true rfl) hR.f, Nat.le_trans (Nat.le_of_ble_eq_true rfl) hR.lo⟩) rfl rfl (Nat.le_of_ble_eq_true rfl) dX1_setOver_68 (fun v_6 σ_7 H locs h hI => ?_)
  exact uq_l h (fun y h => cw_iret C hI h dX1_setOver_71)

theorem k_X1_setOver (l : Launch) (hl0 : l.stackTraces = false) (g : cG) (A : Nat → Prop) (o : Nat) (x1 : Int32) (x2 : Int32) (x3 : Int32) (σ : cS) (z : (cX (Int32)) × cS) (h : m_X1_setOver o x1 x2 x3 σ = some z) : MetX l yX1_setOver (ws_ yX1_setOver cX1_setOver 5 (Option.some Jvm.ClassFile.FieldType.int)) ({ frames := 10, cells := σ.2 3 - σ.2 0, slots := σ.2 4 - σ.2 1, locals := 213 }) g A [.ref o, .int x1, .int x2, .int x3] σ (fun v => some (.int v)) z (σ.2 3 - σ.2 0) (σ.2 4 - σ.2 1) := by
  refine metx_of (cc := cX1_setOver) (maxL := 5) (ret := (Option.some Jvm.ClassFile.FieldType.int)) (by decide) rfl ?_
  intro p e s m args below meth c s₁ B hml hx hv
  obtain ⟨rfl, hw, hσ⟩ := hv
  have hts := atoms_spec (ws := (ws_ yX1_setOver cX1_setOver 5 (Option.some Jvm.ClassFile.FieldType.int))) B.pre
  have C : CX p m meth c s ([.ref o, .int x1, .int x2, .int x3] : List Value).toArray cX1_setOver 5 (Option.some Jvm.ClassFile.FieldType.int) RX1 := ⟨⟨B.exec, B.bytes, hml, findClass_of_methodNamed B.named, fun w h => hts w (List.mem_cons_of_mem _ h)⟩, B.returns, B.notSynchronized⟩
  have e3 : σ.2 3 - σ.2 0 = g.2.2.1 3 - s.heap.size := by rw [hσ.1, hσ.2.2.2.1 3 (by decide)]
  have e4 : σ.2 4 - σ.2 1 = g.2.2.1 4 - hsl s.heap := by rw [hσ.2.1, hσ.2.2.2.1 4 (by decide)]
  have hR : RM g s (headSpec (ws_ yX1_setOver cX1_setOver 5 (Option.some Jvm.ClassFile.FieldType.int)) ({ frames := 10, cells := σ.2 3 - σ.2 0, slots := σ.2 4 - σ.2 1, locals := 213 })).room (10) (213) := ⟨⟨Nat.le_refl _, Nat.le_refl _⟩, Nat.le_of_eq e3.symm, Nat.le_of_eq e4.symm⟩
  generalize (headSpec (ws_ yX1_setOver cX1_setOver 5 (Option.some Jvm.ClassFile.FieldType.int)) ({ frames := 10, cells := σ.2 3 - σ.2 0, slots := σ.2 4 - σ.2 1, locals := 213 })).room = R at hR ⊢
  rw [e3, e4]
  have hI : CI g A s σ s.heap [] := ⟨hσ, va_S.rf, Nat.le_refl _⟩
  have hl := lv_entry ([.ref o, .int x1, .int x2, .int x3]) (n := 5) (Nat.le_of_ble_eq_true rfl)
  rw [lg_entry_eq]
  generalize (lg_sl ([.ref o, .int x1, .int x2, .int x3]) ++ List.replicate (5 - (lg_sl ([.ref o, .int x1, .int x2, .int x3])).length) Slot.unset).toArray = ls at hl ⊢
  have hl : lv_has ls 5 [(0, .ref o), (1, .int x1), (2, .int x2), (3, .int x3)] := hl
  refine W.narrow ?_
  unfold m_X1_setOver at h
  refine r_aload_n (x := some o) C.x C.b dX1_setOver_0 rfl (lv_at hl 0 rfl) ?_
  refine lv_iload_n C.x C.b dX1_setOver_1 rfl (lv_at hl 1 rfl) ?_
  refine cx_callV (y := yX1_ruleAt) (bytes := cX1_ruleAt) (maxL := 2) (r := some o) (f := fun a_3 => m_X1_ruleAt a_3 x1 σ) 0 (fun v => some (va_rf v)) [.int x1] C hx hw hR hI hl.1 h (by decide) rfl (fun aa uu ee => k_X1_ruleAt l hl0 g A aa x1 σ uu ee) (cwV 1 C.t (lw_V q1582 q1584 qs39 q126 q1585) rfl rfl rfl (by decide +kernel) ⟨Nat.le_trans (Nat.le_of_ble_eq_true rfl) hR.f, Nat.le_trans (Nat.le_of_ble_eq_true rfl) hR.lo⟩) rfl rfl (Nat.le_of_ble_eq_true rfl) dX1_setOver_2 (fun v_1 σ_2 H locs h hI => ?_)
  refine r_astore (i := 4) (x := v_1) (lv' := [(4, va_rf v_1), (0, .ref o), (1, .int x1), (2, .int x2), (3, .int x3)]) C.x C.b dX1_setOver_5 hl (by decide) (by rfl) (fun ls hl => ?_)
  refine r_aload_n (x := some o) C.x C.b dX1_setOver_7 rfl (lv_at hl 1 rfl) ?_
  refine lv_iload_n C.x C.b dX1_setOver_8 rfl (lv_at hl 3 rfl) ?_
  refine cx_callV (y := yX1_ruleAt) (bytes := cX1_ruleAt) (maxL := 2) (r := some o) (f := fun a_6 => m_X1_ruleAt a_6 x2 σ_2) 0 (fun v => some (va_rf v)) [.int x2] C hx hw hR hI hl.1 h (by decide) rfl (fun aa uu ee => k_X1_ruleAt l hl0 g A aa x2 σ_2 uu ee) (cwV 1 C.t (lw_V q1582 q1584 qs39 q126 q1585) rfl rfl rfl (by decide +kernel) ⟨Nat.le_trans (Nat.le_of_ble_eq_true rfl) hR.f, Nat.le_trans (Nat.le_of_ble_eq_true rfl) hR.lo⟩) rfl rfl (Nat.le_of_ble_eq_true rfl) dX1_setOver_9 (fun v_4 σ_5 H locs h hI => ?_)
  refine lv_pop C.x C.b dX1_setOver_12 (cat_rf _) ?_
  refine lv_iload_n C.x C.b dX1_setOver_13 rfl (lv_at hl 2 rfl) ?_
  refine lv_iload_n C.x C.b dX1_setOver_14 rfl (lv_at hl 3 rfl) ?_
  refine lv_icmp_ne (tgt := 20) C.x C.b dX1_setOver_15 (by decide) (fun c_7 => ?_) (fun c_7 => ?_)
  · have h := iN c_7 h
    refine r_aload_n (x := some o) C.x C.b dX1_setOver_20 rfl (lv_at hl 1 rfl) ?_
    refine cw_callV (y := yX1_remember) (bytes := cX1_remember) (maxL := 1) (r := some o) (f := fun a_9 => m_X1_remember a_9 σ_5) 0 (fun _ => none) [] C hw hR hI hl.1 h (by decide) rfl (fun aa vv ss ee => k_X1_remember l g A aa σ_5 vv ss ee) (cwV 0 C.t (lw_V q2005 q2007 qs53 q126 q2008) rfl rfl rfl (by decide +kernel) ⟨Nat.le_trans (Nat.le_of_ble_eq_true rfl) hR.f, Nat.le_trans (Nat.le_of_ble_eq_true rfl) hR.lo⟩) rfl rfl (Nat.le_of_ble_eq_true rfl) dX1_setOver_21 (fun _ σ_8 H locs h hI => ?_)
    refine r_aload (x := v_1) C.x C.b dX1_setOver_24 (lv_at hl 0 rfl) ?_
    refine lv_iload_n C.x C.b dX1_setOver_26 rfl (lv_at hl 4 rfl) ?_
    refine lv_if_eq (tgt := 42) C.x C.b dX1_setOver_27 (by decide) (fun c_10 => ?_) (fun c_10 => ?_)
    · have h := ip c_10 h
      refine r_aload (x := v_1) C.x C.b dX1_setOver_42 (lv_at hl 0 rfl) ?_
      refine cw_gI (r := v_1) 2 3 C hw hI h (by decide) rfl in_X9 (by decide) (C.t _ q1112) (fun _ h9 => h9) dX1_setOver_44 (fun v_11 h => ?_)
      refine lv_iconst (v := 1) C.x C.b dX1_setOver_47 (by decide) ?_
      refine lv_iload_n C.x C.b dX1_setOver_48 rfl (lv_at hl 3 rfl) ?_
      refine lv_ishl C.x C.b dX1_setOver_49 ?_
      refine lv_iconst (v := -1) C.x C.b dX1_setOver_50 (by decide) ?_
      refine lv_ixor C.x C.b dX1_setOver_51 ?_
      refine lv_iand C.x C.b dX1_setOver_52 ?_
      exact w_X1_setOver_53 C hx hl0 hw hR v_1 v_1 (v_11 &&& ((1 <<< (x2 &&& 31)) ^^^ (-1))) _ _ _ _ h hI (lv_sub hl [1, 0] rfl)
    · have h := iN c_10 h
      refine r_aload (x := v_1) C.x C.b dX1_setOver_30 (lv_at hl 0 rfl) ?_
      refine cw_gI (r := v_1) 2 3 C hw hI h (by decide) rfl in_X9 (by decide) (C.t _ q1112) (fun _ h9 => h9) dX1_setOver_32 (fun v_12 h => ?_)
      refine lv_iconst (v := 1) C.x C.b dX1_setOver_35 (by decide) ?_
      refine lv_iload_n C.x C.b dX1_setOver_36 rfl (lv_at hl 3 rfl) ?_
      refine lv_ishl C.x C.b dX1_setOver_37 ?_
      refine lv_ior C.x C.b dX1_setOver_38 ?_
      refine lv_goto (tgt := 53) C.x C.b dX1_setOver_39 (by decide) ?_
      exact w_X1_setOver_53 C hx hl0 hw hR v_1 v_1 (v_12 ||| (1 <<< (x2 &&& 31))) _ _ _ _ h hI (lv_sub hl [1, 0] rfl)
  · have h := ip c_7 h
    refine lv_iconst (v := -1) C.x C.b dX1_setOver_18 (by decide) ?_
    exact uq_l h (fun y h => cw_iret C hI h dX1_setOver_19)

theorem w_X1_setShare_66 {z : (cX (Int32)) × cS} {o : Nat} (C : CX p m meth c s args cX1_setShare 9 (Option.some Jvm.ClassFile.FieldType.int) RX1) (hx : ∀ x ∈ c.exceptionTable.toList, False) (hl0 : l.stackTraces = false) (hw : WKc g A s s.heap) (hR : RM g s R (10) (193))  : ∀ (n : Nat) (x5 : Option Nat) (x7 : Int32) (x8 : Int32) (σ : cS) (H : Heap) (locs : List Loc) (ls : Array Slot), b_X1_setShare_66 o n x5 x7 x8 σ = some z → CI g A s σ H locs → lv_has ls 9 [(0, .ref o), (5, va_rf x5), (7, .int x7), (8, .int x8)] → W p l e R s m args below meth c H locs (H.size - s.heap.size) (hsl H - hsl s.heap) (UQ g A (fun v => some (.int v)) z args s (g.2.2.1 3 - s.heap.size) (g.2.2.1 4 - hsl s.heap) below) (F0 m 66 ls []) := by
  intro n
  induction n with
  | zero =>
    intro x5 x7 x8 σ H locs ls h
    cases h
  | succ n ih =>
    intro x5 x7 x8 σ H locs ls h hI hl
    rw [b_X1_setShare_66] at h
    refine lv_iload C.x C.b dX1_setShare_66 (lv_at hl 3 rfl) ?_
    refine r_aload_n (x := some o) C.x C.b dX1_setShare_68 rfl (lv_at hl 0 rfl) ?_
    refine cw_gR (r := some o) 0 0 C hw hI h (by decide) rfl in_X1 (by decide) (C.t _ q1172) (fun _ h9 => h9) dX1_setShare_69 (fun v_1 h => ?_)
    refine cw_gI (r := v_1) 1 1 C hw hI h (by decide) rfl in_X4 (by decide) (C.t _ q842) (fun _ h9 => h9) dX1_setShare_72 (fun v_2 h => ?_)
    refine lv_icmp_ge (tgt := 105) C.x C.b dX1_setShare_75 (by decide) (fun c_3 => ?_) (fun c_3 => ?_)
    · have h := ip c_3 h
      refine lv_iload C.x C.b dX1_setShare_105 (lv_at hl 2 rfl) ?_
      exact uq_l h (fun y h => cw_iret C hI h dX1_setShare_107)
    · have h := iN c_3 h
      refine lv_iload C.x C.b dX1_setShare_78 (lv_at hl 2 rfl) ?_
      refine r_aload (x := x5) C.x C.b dX1_setShare_80 (lv_at hl 1 rfl) ?_
      refine cw_gR (r := x5) 2 2 C hw hI h (by decide) rfl in_X9 (by decide) (C.t _ q1108) (fun _ h9 => h9) dX1_setShare_82 (fun v_4 h => ?_)
      refine lv_iload C.x C.b dX1_setShare_85 (lv_at hl 3 rfl) ?_
      refine cw_ild (r := v_4) C hw hI h dX1_setShare_87 (fun v_5 h => ?_)
      refine lv_if_le (tgt := 95) C.x C.b dX1_setShare_88 (by decide) (fun c_6 => ?_) (fun c_6 => ?_)
      · have h := ip c_6 h
        refine lv_iconst (v := 0) C.x C.b dX1_setShare_95 (by decide) ?_
        refine lv_iadd C.x C.b dX1_setShare_96 ?_
        refine tw_lt h (fun x7_7 h => ?_)
        refine lv_istore (i := 7) (lv' := [(7, .int x7_7), (0, .ref o), (5, va_rf x5), (8, .int x8)]) C.x C.b dX1_setShare_97 hl (by decide) (by first | (simp [List.filter, cat_rf, cat_i, cat_a, cat_n, cat_l, cat_f, cat_d]; done) | (simp [List.filter, cat_rf, cat_i, cat_a, cat_n, cat_l, cat_f, cat_d]; rfl)) (fun ls hl => ?_)
        obtain ⟨x8_8, e_, h⟩ := nm_s h
        refine lv_iinc (v := x8_8) (lv' := [(8, .int x8_8), (7, .int x7_7), (0, .ref o), (5, va_rf x5)]) C.x C.b dX1_setShare_99 hl (k := 3) rfl e_.symm (by decide) (by first | (simp [List.filter, cat_rf, cat_i, cat_a, cat_n, cat_l, cat_f, cat_d]; done) | (simp [List.filter, cat_rf, cat_i, cat_a, cat_n, cat_l, cat_f, cat_d]; rfl)) (fun ls hl => ?_)
        refine lv_goto (tgt := 66) C.x C.b dX1_setShare_102 (by decide) ?_
        exact ih x5 x7_7 x8_8 _ _ _ _ h hI (lv_sub hl [2, 3, 1, 0] rfl)
      · have h := iN c_6 h
        refine lv_iconst (v := 1) C.x C.b dX1_setShare_91 (by decide) ?_
        refine lv_goto (tgt := 96) C.x C.b dX1_setShare_92 (by decide) ?_
        refine lv_iadd C.x C.b dX1_setShare_96 ?_
        refine tw_lt h (fun x7_9 h => ?_)
        refine lv_istore (i := 7) (lv' := [(7, .int x7_9), (0, .ref o), (5, va_rf x5), (8, .int x8)]) C.x C.b dX1_setShare_97 hl (by decide) (by first | (simp [List.filter, cat_rf, cat_i, cat_a, cat_n, cat_l, cat_f, cat_d]; done) | (simp [List.filter, cat_rf, cat_i, cat_a, cat_n, cat_l, cat_f, cat_d]; rfl)) (fun ls hl => ?_)
        obtain ⟨x8_10, e_, h⟩ := nm_s h
        refine lv_iinc (v := x8_10) (lv' := [(8, .int x8_10), (7, .int x7_9), (0, .ref o), (5, va_rf x5)]) C.x C.b dX1_setShare_99 hl (k := 3) rfl e_.symm (by decide) (by first | (simp [List.filter, cat_rf, cat_i, cat_a, cat_n, cat_l, cat_f, cat_d]; done) | (simp [List.filter, cat_rf, cat_i, cat_a, cat_n, cat_l, cat_f, cat_d]; rfl)) (fun ls hl => ?_)
        refine lv_goto (tgt := 66) C.x C.b dX1_setShare_102 (by decide) ?_
        exact ih x5 x7_9 x8_10 _ _ _ _ h hI (lv_sub hl [2, 3, 1, 0] rfl)

theorem k_X1_setShare (l : Launch) (hl0 : l.stackTraces = false) (g : cG) (A : Nat → Prop) (o : Nat) (x1 : Int32) (x2 : Int32) (x3 : Int32) (x4 : Int32) (σ : cS) (z : (cX (Int32)) × cS) (h : m_X1_setShare o x1 x2 x3 x4 σ = some z) : MetX l yX1_setShare (ws_ yX1_setShare cX1_setShare 9 (Option.some Jvm.ClassFile.FieldType.int)) ({ frames := 10, cells := σ.2 3 - σ.2 0, slots := σ.2 4 - σ.2 1, locals := 193 }) g A [.ref o, .int x1, .int x2, .int x3, .int x4] σ (fun v => some (.int v)) z (σ.2 3 - σ.2 0) (σ.2 4 - σ.2 1) := by
  refine metx_of (cc := cX1_setShare) (maxL := 9) (ret := (Option.some Jvm.ClassFile.FieldType.int)) (by decide) rfl ?_
  intro p e s m args below meth c s₁ B hml hx hv
  obtain ⟨rfl, hw, hσ⟩ := hv
  have hts := atoms_spec (ws := (ws_ yX1_setShare cX1_setShare 9 (Option.some Jvm.ClassFile.FieldType.int))) B.pre
  have C : CX p m meth c s ([.ref o, .int x1, .int x2, .int x3, .int x4] : List Value).toArray cX1_setShare 9 (Option.some Jvm.ClassFile.FieldType.int) RX1 := ⟨⟨B.exec, B.bytes, hml, findClass_of_methodNamed B.named, fun w h => hts w (List.mem_cons_of_mem _ h)⟩, B.returns, B.notSynchronized⟩
  have e3 : σ.2 3 - σ.2 0 = g.2.2.1 3 - s.heap.size := by rw [hσ.1, hσ.2.2.2.1 3 (by decide)]
  have e4 : σ.2 4 - σ.2 1 = g.2.2.1 4 - hsl s.heap := by rw [hσ.2.1, hσ.2.2.2.1 4 (by decide)]
  have hR : RM g s (headSpec (ws_ yX1_setShare cX1_setShare 9 (Option.some Jvm.ClassFile.FieldType.int)) ({ frames := 10, cells := σ.2 3 - σ.2 0, slots := σ.2 4 - σ.2 1, locals := 193 })).room (10) (193) := ⟨⟨Nat.le_refl _, Nat.le_refl _⟩, Nat.le_of_eq e3.symm, Nat.le_of_eq e4.symm⟩
  generalize (headSpec (ws_ yX1_setShare cX1_setShare 9 (Option.some Jvm.ClassFile.FieldType.int)) ({ frames := 10, cells := σ.2 3 - σ.2 0, slots := σ.2 4 - σ.2 1, locals := 193 })).room = R at hR ⊢
  rw [e3, e4]
  have hI : CI g A s σ s.heap [] := ⟨hσ, va_S.rf, Nat.le_refl _⟩
  have hl := lv_entry ([.ref o, .int x1, .int x2, .int x3, .int x4]) (n := 9) (Nat.le_of_ble_eq_true rfl)
  rw [lg_entry_eq]
  generalize (lg_sl ([.ref o, .int x1, .int x2, .int x3, .int x4]) ++ List.replicate (9 - (lg_sl ([.ref o, .int x1, .int x2, .int x3, .int x4])).length) Slot.unset).toArray = ls at hl ⊢
  have hl : lv_has ls 9 [(0, .ref o), (1, .int x1), (2, .int x2), (3, .int x3), (4, .int x4)] := hl
  refine W.narrow ?_
  unfold m_X1_setShare at h
  refine r_aload_n (x := some o) C.x C.b dX1_setShare_0 rfl (lv_at hl 0 rfl) ?_
  refine lv_iload_n C.x C.b dX1_setShare_1 rfl (lv_at hl 1 rfl) ?_
  refine cx_callV (y := yX1_ruleAt) (bytes := cX1_ruleAt) (maxL := 2) (r := some o) (f := fun a_3 => m_X1_ruleAt a_3 x1 σ) 0 (fun v => some (va_rf v)) [.int x1] C hx hw hR hI hl.1 h (by decide) rfl (fun aa uu ee => k_X1_ruleAt l hl0 g A aa x1 σ uu ee) (cwV 1 C.t (lw_V q1582 q1584 qs39 q126 q1585) rfl rfl rfl (by decide +kernel) ⟨Nat.le_trans (Nat.le_of_ble_eq_true rfl) hR.f, Nat.le_trans (Nat.le_of_ble_eq_true rfl) hR.lo⟩) rfl rfl (Nat.le_of_ble_eq_true rfl) dX1_setShare_2 (fun v_1 σ_2 H locs h hI => ?_)
  refine r_astore (i := 5) (x := v_1) (lv' := [(5, va_rf v_1), (0, .ref o), (1, .int x1), (2, .int x2), (3, .int x3), (4, .int x4)]) C.x C.b dX1_setShare_5 hl (by decide) (by rfl) (fun ls hl => ?_)
  refine r_aload_n (x := some o) C.x C.b dX1_setShare_7 rfl (lv_at hl 1 rfl) ?_
  refine lv_iload_n C.x C.b dX1_setShare_8 rfl (lv_at hl 3 rfl) ?_
  refine cx_callV (y := yX1_checkHeir) (bytes := cX1_checkHeir) (maxL := 2) (r := some o) (f := fun a_5 => m_X1_checkHeir a_5 x2 σ_2) 0 (fun _ => none) [.int x2] C hx hw hR hI hl.1 h (by decide) rfl (fun aa uu ee => k_X1_checkHeir l hl0 g A aa x2 σ_2 uu ee) (cwV 1 C.t (lw_V q1549 q1551 qs36 q126 q1552) rfl rfl rfl (by decide +kernel) ⟨Nat.le_trans (Nat.le_of_ble_eq_true rfl) hR.f, Nat.le_trans (Nat.le_of_ble_eq_true rfl) hR.lo⟩) rfl rfl (Nat.le_of_ble_eq_true rfl) dX1_setShare_9 (fun _ σ_4 H locs h hI => ?_)
  refine lv_iload_n C.x C.b dX1_setShare_12 rfl (lv_at hl 4 rfl) ?_
  refine lv_iconst (v := 0) C.x C.b dX1_setShare_13 (by decide) ?_
  refine lv_bipush (v := 12) C.x C.b dX1_setShare_14 (by decide) ?_
  refine cx_callS (y := yX1_check) (bytes := cX1_check) (maxL := 3) (fun _ => none) [.int x3, .int 0, .int 12] C hx hw hR hI hl.1 h (fun uu ee => k_X1_check l hl0 g A x3 0 12 σ_4 uu ee) (va_cwS 3 C.t (lw_S q1537 q1538 q126 q1539) rfl rfl rfl (by decide +kernel) ⟨Nat.le_trans (Nat.le_of_ble_eq_true rfl) hR.f, Nat.le_trans (Nat.le_of_ble_eq_true rfl) hR.lo⟩) rfl rfl (Nat.le_of_ble_eq_true rfl) dX1_setShare_16 (fun _ σ_6 H locs h hI => ?_)
  refine lv_iload C.x C.b dX1_setShare_19 (lv_at hl 5 rfl) ?_
  refine lv_iconst (v := 1) C.x C.b dX1_setShare_21 (by decide) ?_
  refine lv_bipush (v := 12) C.x C.b dX1_setShare_22 (by decide) ?_
  refine cx_callS (y := yX1_check) (bytes := cX1_check) (maxL := 3) (fun _ => none) [.int x4, .int 1, .int 12] C hx hw hR hI hl.1 h (fun uu ee => k_X1_check l hl0 g A x4 1 12 σ_6 uu ee) (va_cwS 3 C.t (lw_S q1537 q1538 q126 q1539) rfl rfl rfl (by decide +kernel) ⟨Nat.le_trans (Nat.le_of_ble_eq_true rfl) hR.f, Nat.le_trans (Nat.le_of_ble_eq_true rfl) hR.lo⟩) rfl rfl (Nat.le_of_ble_eq_true rfl) dX1_setShare_24 (fun _ σ_7 H locs h hI => ?_)
  refine r_aload_n (x := some o) C.x C.b dX1_setShare_27 rfl (lv_at hl 1 rfl) ?_
  refine cw_gR (r := some o) 0 0 C hw hI h (by decide) rfl in_X1 (by decide) (C.t _ q1172) (fun _ h9 => h9) dX1_setShare_28 (fun v_8 h => ?_)
  refine cw_callV (y := yX4_duplicate) (bytes := cX4_duplicate) (maxL := 3) (r := v_8) (f := fun a_11 => m_X4_duplicate a_11 σ_7) 1 (fun v => some (va_rf v)) [] C hw hR hI hl.1 h (by decide) rfl (fun aa vv ss ee => k_X4_duplicate l g A aa σ_7 vv ss ee) (cwV 0 C.t (lw_V q1359 q1360 q1361 q150 q1362) rfl rfl rfl (by decide +kernel) ⟨Nat.le_trans (Nat.le_of_ble_eq_true rfl) hR.f, Nat.le_trans (Nat.le_of_ble_eq_true rfl) hR.lo⟩) rfl rfl (Nat.le_of_ble_eq_true rfl) dX1_setShare_31 (fun v_9 σ_10 H locs h hI => ?_)
  refine r_astore (i := 6) (x := v_9) (lv' := [(6, va_rf v_9), (5, va_rf v_1), (0, .ref o), (1, .int x1), (2, .int x2), (3, .int x3), (4, .int x4)]) C.x C.b dX1_setShare_34 hl (by decide) (by first | (simp [List.filter, cat_rf, cat_i, cat_a, cat_n, cat_l, cat_f, cat_d]; done) | (simp [List.filter, cat_rf, cat_i, cat_a, cat_n, cat_l, cat_f, cat_d]; rfl)) (fun ls hl => ?_)
  refine r_aload_n (x := some o) C.x C.b dX1_setShare_36 rfl (lv_at hl 2 rfl) ?_
  refine cw_gR (r := some o) 0 0 C hw hI h (by decide) rfl in_X1 (by decide) (C.t _ q1172) (fun _ h9 => h9) dX1_setShare_37 (fun v_12 h => ?_)
  refine r_aload (x := v_1) C.x C.b dX1_setShare_40 (lv_at hl 1 rfl) ?_
  refine lv_iload_n C.x C.b dX1_setShare_42 rfl (lv_at hl 4 rfl) ?_
  refine lv_iload_n C.x C.b dX1_setShare_43 rfl (lv_at hl 5 rfl) ?_
  refine lv_iload C.x C.b dX1_setShare_44 (lv_at hl 6 rfl) ?_
  refine cw_callV (y := yX4_setShare) (bytes := cX4_setShare) (maxL := 7) (r := v_12) (f := fun a_15 => m_X4_setShare a_15 v_1 x2 x3 x4 σ_10) 1 (fun v => some (.int v)) [va_rf v_1, .int x2, .int x3, .int x4] C hw hR hI hl.1 h (by decide) rfl (fun aa vv ss ee => k_X4_setShare l g A aa v_1 x2 x3 x4 σ_10 vv ss ee) (cwV 4 C.t (lw_V q2024 q1133 q1134 q150 q1135) rfl rfl rfl (by decide +kernel) ⟨Nat.le_trans (Nat.le_of_ble_eq_true rfl) hR.f, Nat.le_trans (Nat.le_of_ble_eq_true rfl) hR.lo⟩) rfl rfl (Nat.le_of_ble_eq_true rfl) dX1_setShare_46 (fun v_13 σ_14 H locs h hI => ?_)
  refine lv_if_ne (tgt := 54) C.x C.b dX1_setShare_49 (by decide) (fun c_16 => ?_) (fun c_16 => ?_)
  · have h := iN c_16 h
    refine r_aload_n (x := some o) C.x C.b dX1_setShare_54 rfl (lv_at hl 2 rfl) ?_
    refine r_aload (x := v_9) C.x C.b dX1_setShare_55 (lv_at hl 0 rfl) ?_
    refine cw_callV (y := yX1_keep) (bytes := cX1_keep) (maxL := 2) (r := some o) (f := fun a_18 => m_X1_keep a_18 v_9 σ_14) 0 (fun _ => none) [va_rf v_9] C hw hR hI hl.1 h (by decide) rfl (fun aa vv ss ee => k_X1_keep l g A aa v_9 σ_14 vv ss ee) (cwV 1 C.t (lw_V q1964 q1966 qs50 q126 q1967) rfl rfl rfl (by decide +kernel) ⟨Nat.le_trans (Nat.le_of_ble_eq_true rfl) hR.f, Nat.le_trans (Nat.le_of_ble_eq_true rfl) hR.lo⟩) rfl rfl (Nat.le_of_ble_eq_true rfl) dX1_setShare_57 (fun _ σ_17 H locs h hI => ?_)
    refine lv_iconst (v := 0) C.x C.b dX1_setShare_60 (by decide) ?_
    refine lv_istore (i := 7) (lv' := [(7, .int 0), (6, va_rf v_9), (5, va_rf v_1), (0, .ref o), (1, .int x1), (2, .int x2), (3, .int x3), (4, .int x4)]) C.x C.b dX1_setShare_61 hl (by decide) (by first | (simp [List.filter, cat_rf, cat_i, cat_a, cat_n, cat_l, cat_f, cat_d]; done) | (simp [List.filter, cat_rf, cat_i, cat_a, cat_n, cat_l, cat_f, cat_d]; rfl)) (fun ls hl => ?_)
    refine lv_iconst (v := 0) C.x C.b dX1_setShare_63 (by decide) ?_
    refine lv_istore (i := 8) (lv' := [(8, .int 0), (7, .int 0), (6, va_rf v_9), (5, va_rf v_1), (0, .ref o), (1, .int x1), (2, .int x2), (3, .int x3), (4, .int x4)]) C.x C.b dX1_setShare_64 hl (by decide) (by first | (simp [List.filter, cat_rf, cat_i, cat_a, cat_n, cat_l, cat_f, cat_d]; done) | (simp [List.filter, cat_rf, cat_i, cat_a, cat_n, cat_l, cat_f, cat_d]; rfl)) (fun ls hl => ?_)
    exact w_X1_setShare_66 C hx hl0 hw hR _ v_1 0 0 _ _ _ _ h hI (lv_sub hl [4, 3, 1, 0] rfl)
  · have h := ip c_16 h
    refine lv_iconst (v := -1) C.x C.b dX1_setShare_52 (by decide) ?_
    exact uq_l h (fun y h => cw_iret C hI h dX1_setShare_53)

theorem w_X1_setHeir_53 {z : (cX (Int32)) × cS} {o : Nat} (C : CX p m meth c s args cX1_setHeir 6 (Option.some Jvm.ClassFile.FieldType.int) RX1) (hx : ∀ x ∈ c.exceptionTable.toList, False) (hl0 : l.stackTraces = false) (hw : WKc g A s s.heap) (hR : RM g s R (10) (213))  : ∀ (x1 : Int32) (x3 : Int32) (s0 : Option Nat) (σ : cS) (H : Heap) (locs : List Loc) (ls : Array Slot), b_X1_setHeir_53 o x1 x3 s0 σ = some z → CI g A s σ H locs → lv_has ls 6 [(0, .ref o), (1, .int x1), (3, .int x3)] → W p l e R s m args below meth c H locs (H.size - s.heap.size) (hsl H - hsl s.heap) (UQ g A (fun v => some (.int v)) z args s (g.2.2.1 3 - s.heap.size) (g.2.2.1 4 - hsl s.heap) below) (F0 m 53 ls [va_rf s0]) := by
  intro x1 x3 s0 σ H locs ls h hI hl
  unfold b_X1_setHeir_53 at h
  refine r_astore (i := 4) (x := s0) (lv' := [(4, va_rf s0), (0, .ref o), (1, .int x1), (3, .int x3)]) C.x C.b dX1_setHeir_53 hl (by decide) (by rfl) (fun ls hl => ?_)
  refine r_aload (x := s0) C.x C.b dX1_setHeir_55 (lv_at hl 0 rfl) ?_
  refine lv_iload_n C.x C.b dX1_setHeir_57 rfl (lv_at hl 2 rfl) ?_
  refine cw_ild (r := s0) C hw hI h dX1_setHeir_58 (fun v_1 h => ?_)
  refine lv_istore (i := 5) (lv' := [(5, .int v_1), (4, va_rf s0), (0, .ref o), (1, .int x1), (3, .int x3)]) C.x C.b dX1_setHeir_59 hl (by decide) (by first | (simp [List.filter, cat_rf, cat_i, cat_a, cat_n, cat_l, cat_f, cat_d]; done) | (simp [List.filter, cat_rf, cat_i, cat_a, cat_n, cat_l, cat_f, cat_d]; rfl)) (fun ls hl => ?_)
  refine r_aload (x := s0) C.x C.b dX1_setHeir_61 (lv_at hl 1 rfl) ?_
  refine lv_iload_n C.x C.b dX1_setHeir_63 rfl (lv_at hl 3 rfl) ?_
  refine lv_iload_n C.x C.b dX1_setHeir_64 rfl (lv_at hl 4 rfl) ?_
  refine cw_ist (r := s0) C hw hI h dX1_setHeir_65 (fun σ_2 H locs h hI => ?_)
  refine lv_iload C.x C.b dX1_setHeir_66 (lv_at hl 0 rfl) ?_
  exact uq_l h (fun y h => cw_iret C hI h dX1_setHeir_68)

theorem w_X1_setHeir_25 {z : (cX (Int32)) × cS} {o : Nat} (C : CX p m meth c s args cX1_setHeir 6 (Option.some Jvm.ClassFile.FieldType.int) RX1) (hx : ∀ x ∈ c.exceptionTable.toList, False) (hl0 : l.stackTraces = false) (hw : WKc g A s s.heap) (hR : RM g s R (10) (213))  : ∀ (x1 : Int32) (x2 : Int32) (x3 : Int32) (s0 : Int32) (s1 : Int32) (s2 : Int32) (σ : cS) (H : Heap) (locs : List Loc) (ls : Array Slot), b_X1_setHeir_25 o x1 x2 x3 s0 s1 s2 σ = some z → CI g A s σ H locs → lv_has ls 6 [(0, .ref o), (1, .int x1), (2, .int x2), (3, .int x3)] → W p l e R s m args below meth c H locs (H.size - s.heap.size) (hsl H - hsl s.heap) (UQ g A (fun v => some (.int v)) z args s (g.2.2.1 3 - s.heap.size) (g.2.2.1 4 - hsl s.heap) below) (F0 m 25 ls [.int s2, .int s1, .int s0]) := by
  intro x1 x2 x3 s0 s1 s2 σ H locs ls h hI hl
  unfold b_X1_setHeir_25 at h
  refine cx_callS (y := yX1_check) (bytes := cX1_check) (maxL := 3) (fun _ => none) [.int s0, .int s1, .int s2] C hx hw hR hI hl.1 h (fun uu ee => k_X1_check l hl0 g A s0 s1 s2 σ uu ee) (va_cwS 3 C.t (lw_S q1537 q1538 q126 q1539) rfl rfl rfl (by decide +kernel) ⟨Nat.le_trans (Nat.le_of_ble_eq_true rfl) hR.f, Nat.le_trans (Nat.le_of_ble_eq_true rfl) hR.lo⟩) rfl rfl (Nat.le_of_ble_eq_true rfl) dX1_setHeir_25 (fun _ σ_1 H locs h hI => ?_)
  refine r_aload_n (x := some o) C.x C.b dX1_setHeir_28 rfl (lv_at hl 0 rfl) ?_
  refine cw_callV (y := yX1_remember) (bytes := cX1_remember) (maxL := 1) (r := some o) (f := fun a_3 => m_X1_remember a_3 σ_1) 0 (fun _ => none) [] C hw hR hI hl.1 h (by decide) rfl (fun aa vv ss ee => k_X1_remember l g A aa σ_1 vv ss ee) (cwV 0 C.t (lw_V q2005 q2007 qs53 q126 q2008) rfl rfl rfl (by decide +kernel) ⟨Nat.le_trans (Nat.le_of_ble_eq_true rfl) hR.f, Nat.le_trans (Nat.le_of_ble_eq_true rfl) hR.lo⟩) rfl rfl (Nat.le_of_ble_eq_true rfl) dX1_setHeir_29 (fun _ σ_2 H locs h hI => ?_)
  refine lv_iload_n C.x C.b dX1_setHeir_32 rfl (lv_at hl 2 rfl) ?_
  refine lv_if_ne (tgt := 46) C.x C.b dX1_setHeir_33 (by decide) (fun c_4 => ?_) (fun c_4 => ?_)
  · have h := iN c_4 h
    refine r_aload_n (x := some o) C.x C.b dX1_setHeir_46 rfl (lv_at hl 0 rfl) ?_
    refine cw_gR (r := some o) 0 0 C hw hI h (by decide) rfl in_X1 (by decide) (C.t _ q1172) (fun _ h9 => h9) dX1_setHeir_47 (fun v_5 h => ?_)
    refine cw_gR (r := v_5) 1 3 C hw hI h (by decide) rfl in_X4 (by decide) (C.t _ q849) (fun _ h9 => h9) dX1_setHeir_50 (fun v_6 h => ?_)
    exact w_X1_setHeir_53 C hx hl0 hw hR x1 x3 v_6 _ _ _ _ h hI (lv_sub hl [0, 1, 3] rfl)
  · have h := ip c_4 h
    refine r_aload_n (x := some o) C.x C.b dX1_setHeir_36 rfl (lv_at hl 0 rfl) ?_
    refine cw_gR (r := some o) 0 0 C hw hI h (by decide) rfl in_X1 (by decide) (C.t _ q1172) (fun _ h9 => h9) dX1_setHeir_37 (fun v_7 h => ?_)
    refine cw_gR (r := v_7) 1 2 C hw hI h (by decide) rfl in_X4 (by decide) (C.t _ q846) (fun _ h9 => h9) dX1_setHeir_40 (fun v_8 h => ?_)
    refine lv_goto (tgt := 53) C.x C.b dX1_setHeir_43 (by decide) ?_
    exact w_X1_setHeir_53 C hx hl0 hw hR x1 x3 v_8 _ _ _ _ h hI (lv_sub hl [0, 1, 3] rfl)

theorem k_X1_setHeir (l : Launch) (hl0 : l.stackTraces = false) (g : cG) (A : Nat → Prop) (o : Nat) (x1 : Int32) (x2 : Int32) (x3 : Int32) (σ : cS) (z : (cX (Int32)) × cS) (h : m_X1_setHeir o x1 x2 x3 σ = some z) : MetX l yX1_setHeir (ws_ yX1_setHeir cX1_setHeir 6 (Option.some Jvm.ClassFile.FieldType.int)) ({ frames := 10, cells := σ.2 3 - σ.2 0, slots := σ.2 4 - σ.2 1, locals := 213 }) g A [.ref o, .int x1, .int x2, .int x3] σ (fun v => some (.int v)) z (σ.2 3 - σ.2 0) (σ.2 4 - σ.2 1) := by
  refine metx_of (cc := cX1_setHeir) (maxL := 6) (ret := (Option.some Jvm.ClassFile.FieldType.int)) (by decide) rfl ?_
  intro p e s m args below meth c s₁ B hml hx hv
  obtain ⟨rfl, hw, hσ⟩ := hv
  have hts := atoms_spec (ws := (ws_ yX1_setHeir cX1_setHeir 6 (Option.some Jvm.ClassFile.FieldType.int))) B.pre
  have C : CX p m meth c s ([.ref o, .int x1, .int x2, .int x3] : List Value).toArray cX1_setHeir 6 (Option.some Jvm.ClassFile.FieldType.int) RX1 := ⟨⟨B.exec, B.bytes, hml, findClass_of_methodNamed B.named, fun w h => hts w (List.mem_cons_of_mem _ h)⟩, B.returns, B.notSynchronized⟩
  have e3 : σ.2 3 - σ.2 0 = g.2.2.1 3 - s.heap.size := by rw [hσ.1, hσ.2.2.2.1 3 (by decide)]
  have e4 : σ.2 4 - σ.2 1 = g.2.2.1 4 - hsl s.heap := by rw [hσ.2.1, hσ.2.2.2.1 4 (by decide)]
  have hR : RM g s (headSpec (ws_ yX1_setHeir cX1_setHeir 6 (Option.some Jvm.ClassFile.FieldType.int)) ({ frames := 10, cells := σ.2 3 - σ.2 0, slots := σ.2 4 - σ.2 1, locals := 213 })).room (10) (213) := ⟨⟨Nat.le_refl _, Nat.le_refl _⟩, Nat.le_of_eq e3.symm, Nat.le_of_eq e4.symm⟩
  generalize (headSpec (ws_ yX1_setHeir cX1_setHeir 6 (Option.some Jvm.ClassFile.FieldType.int)) ({ frames := 10, cells := σ.2 3 - σ.2 0, slots := σ.2 4 - σ.2 1, locals := 213 })).room = R at hR ⊢
  rw [e3, e4]
  have hI : CI g A s σ s.heap [] := ⟨hσ, va_S.rf, Nat.le_refl _⟩
  have hl := lv_entry ([.ref o, .int x1, .int x2, .int x3]) (n := 6) (Nat.le_of_ble_eq_true rfl)
  rw [lg_entry_eq]
  generalize (lg_sl ([.ref o, .int x1, .int x2, .int x3]) ++ List.replicate (6 - (lg_sl ([.ref o, .int x1, .int x2, .int x3])).length) Slot.unset).toArray = ls at hl ⊢
  have hl : lv_has ls 6 [(0, .ref o), (1, .int x1), (2, .int x2), (3, .int x3)] := hl
  refine W.narrow ?_
  unfold m_X1_setHeir at h
  refine r_aload_n (x := some o) C.x C.b dX1_setHeir_0 rfl (lv_at hl 0 rfl) ?_
  refine lv_iload_n C.x C.b dX1_setHeir_1 rfl (lv_at hl 1 rfl) ?_
  refine cx_callV (y := yX1_checkHeir) (bytes := cX1_checkHeir) (maxL := 2) (r := some o) (f := fun a_2 => m_X1_checkHeir a_2 x1 σ) 0 (fun _ => none) [.int x1] C hx hw hR hI hl.1 h (by decide) rfl (fun aa uu ee => k_X1_checkHeir l hl0 g A aa x1 σ uu ee) (cwV 1 C.t (lw_V q1549 q1551 qs36 q126 q1552) rfl rfl rfl (by decide +kernel) ⟨Nat.le_trans (Nat.le_of_ble_eq_true rfl) hR.f, Nat.le_trans (Nat.le_of_ble_eq_true rfl) hR.lo⟩) rfl rfl (Nat.le_of_ble_eq_true rfl) dX1_setHeir_2 (fun _ σ_1 H locs h hI => ?_)
  refine lv_iload_n C.x C.b dX1_setHeir_5 rfl (lv_at hl 2 rfl) ?_
  refine lv_iconst (v := 0) C.x C.b dX1_setHeir_6 (by decide) ?_
  refine lv_iconst (v := 1) C.x C.b dX1_setHeir_7 (by decide) ?_
  refine cx_callS (y := yX1_check) (bytes := cX1_check) (maxL := 3) (fun _ => none) [.int x2, .int 0, .int 1] C hx hw hR hI hl.1 h (fun uu ee => k_X1_check l hl0 g A x2 0 1 σ_1 uu ee) (va_cwS 3 C.t (lw_S q1537 q1538 q126 q1539) rfl rfl rfl (by decide +kernel) ⟨Nat.le_trans (Nat.le_of_ble_eq_true rfl) hR.f, Nat.le_trans (Nat.le_of_ble_eq_true rfl) hR.lo⟩) rfl rfl (Nat.le_of_ble_eq_true rfl) dX1_setHeir_8 (fun _ σ_3 H locs h hI => ?_)
  refine lv_iload_n C.x C.b dX1_setHeir_11 rfl (lv_at hl 3 rfl) ?_
  refine lv_iconst (v := 0) C.x C.b dX1_setHeir_12 (by decide) ?_
  refine lv_iload_n C.x C.b dX1_setHeir_13 rfl (lv_at hl 2 rfl) ?_
  refine lv_if_ne (tgt := 23) C.x C.b dX1_setHeir_14 (by decide) (fun c_4 => ?_) (fun c_4 => ?_)
  · have h := iN c_4 h
    refine lv_bipush (v := 60) C.x C.b dX1_setHeir_23 (by decide) ?_
    exact w_X1_setHeir_25 C hx hl0 hw hR x1 x2 x3 x3 0 60 _ _ _ _ h hI (lv_sub hl [0, 1, 2, 3] rfl)
  · have h := ip c_4 h
    refine lv_sipush (v := 9999) C.x C.b dX1_setHeir_17 (by decide) ?_
    refine lv_goto (tgt := 25) C.x C.b dX1_setHeir_20 (by decide) ?_
    exact w_X1_setHeir_25 C hx hl0 hw hR x1 x2 x3 x3 0 9999 _ _ _ _ h hI (lv_sub hl [0, 1, 2, 3] rfl)

theorem k_X1_setRest (l : Launch) (hl0 : l.stackTraces = false) (g : cG) (A : Nat → Prop) (o : Nat) (x1 : Int32) (σ : cS) (z : (cX (Int32)) × cS) (h : m_X1_setRest o x1 σ = some z) : MetX l yX1_setRest (ws_ yX1_setRest cX1_setRest 3 (Option.some Jvm.ClassFile.FieldType.int)) ({ frames := 10, cells := σ.2 3 - σ.2 0, slots := σ.2 4 - σ.2 1, locals := 213 }) g A [.ref o, .int x1] σ (fun v => some (.int v)) z (σ.2 3 - σ.2 0) (σ.2 4 - σ.2 1) := by
  refine metx_of (cc := cX1_setRest) (maxL := 3) (ret := (Option.some Jvm.ClassFile.FieldType.int)) (by decide) rfl ?_
  intro p e s m args below meth c s₁ B hml hx hv
  obtain ⟨rfl, hw, hσ⟩ := hv
  have hts := atoms_spec (ws := (ws_ yX1_setRest cX1_setRest 3 (Option.some Jvm.ClassFile.FieldType.int))) B.pre
  have C : CX p m meth c s ([.ref o, .int x1] : List Value).toArray cX1_setRest 3 (Option.some Jvm.ClassFile.FieldType.int) RX1 := ⟨⟨B.exec, B.bytes, hml, findClass_of_methodNamed B.named, fun w h => hts w (List.mem_cons_of_mem _ h)⟩, B.returns, B.notSynchronized⟩
  have e3 : σ.2 3 - σ.2 0 = g.2.2.1 3 - s.heap.size := by rw [hσ.1, hσ.2.2.2.1 3 (by decide)]
  have e4 : σ.2 4 - σ.2 1 = g.2.2.1 4 - hsl s.heap := by rw [hσ.2.1, hσ.2.2.2.1 4 (by decide)]
  have hR : RM g s (headSpec (ws_ yX1_setRest cX1_setRest 3 (Option.some Jvm.ClassFile.FieldType.int)) ({ frames := 10, cells := σ.2 3 - σ.2 0, slots := σ.2 4 - σ.2 1, locals := 213 })).room (10) (213) := ⟨⟨Nat.le_refl _, Nat.le_refl _⟩, Nat.le_of_eq e3.symm, Nat.le_of_eq e4.symm⟩
  generalize (headSpec (ws_ yX1_setRest cX1_setRest 3 (Option.some Jvm.ClassFile.FieldType.int)) ({ frames := 10, cells := σ.2 3 - σ.2 0, slots := σ.2 4 - σ.2 1, locals := 213 })).room = R at hR ⊢
  rw [e3, e4]
  have hI : CI g A s σ s.heap [] := ⟨hσ, va_S.rf, Nat.le_refl _⟩
  have hl := lv_entry ([.ref o, .int x1]) (n := 3) (Nat.le_of_ble_eq_true rfl)
  rw [lg_entry_eq]
  generalize (lg_sl ([.ref o, .int x1]) ++ List.replicate (3 - (lg_sl ([.ref o, .int x1])).length) Slot.unset).toArray = ls at hl ⊢
  have hl : lv_has ls 3 [(0, .ref o), (1, .int x1)] := hl
  refine W.narrow ?_
  unfold m_X1_setRest at h
  refine r_aload_n (x := some o) C.x C.b dX1_setRest_0 rfl (lv_at hl 0 rfl) ?_
  refine lv_iload_n C.x C.b dX1_setRest_1 rfl (lv_at hl 1 rfl) ?_
  refine cx_callV (y := yX1_checkHeir) (bytes := cX1_checkHeir) (maxL := 2) (r := some o) (f := fun a_2 => m_X1_checkHeir a_2 x1 σ) 0 (fun _ => none) [.int x1] C hx hw hR hI hl.1 h (by decide) rfl (fun aa uu ee => k_X1_checkHeir l hl0 g A aa x1 σ uu ee) (cwV 1 C.t (lw_V q1549 q1551 qs36 q126 q1552) rfl rfl rfl (by decide +kernel) ⟨Nat.le_trans (Nat.le_of_ble_eq_true rfl) hR.f, Nat.le_trans (Nat.le_of_ble_eq_true rfl) hR.lo⟩) rfl rfl (Nat.le_of_ble_eq_true rfl) dX1_setRest_2 (fun _ σ_1 H locs h hI => ?_)
  refine r_aload_n (x := some o) C.x C.b dX1_setRest_5 rfl (lv_at hl 0 rfl) ?_
  refine cw_callV (y := yX1_remember) (bytes := cX1_remember) (maxL := 1) (r := some o) (f := fun a_4 => m_X1_remember a_4 σ_1) 0 (fun _ => none) [] C hw hR hI hl.1 h (by decide) rfl (fun aa vv ss ee => k_X1_remember l g A aa σ_1 vv ss ee) (cwV 0 C.t (lw_V q2005 q2007 qs53 q126 q2008) rfl rfl rfl (by decide +kernel) ⟨Nat.le_trans (Nat.le_of_ble_eq_true rfl) hR.f, Nat.le_trans (Nat.le_of_ble_eq_true rfl) hR.lo⟩) rfl rfl (Nat.le_of_ble_eq_true rfl) dX1_setRest_6 (fun _ σ_3 H locs h hI => ?_)
  refine r_aload_n (x := some o) C.x C.b dX1_setRest_9 rfl (lv_at hl 0 rfl) ?_
  refine cw_gR (r := some o) 0 0 C hw hI h (by decide) rfl in_X1 (by decide) (C.t _ q1172) (fun _ h9 => h9) dX1_setRest_10 (fun v_5 h => ?_)
  refine cw_gI (r := v_5) 1 6 C hw hI h (by decide) rfl in_X4 (by decide) (C.t _ q855) (fun _ h9 => h9) dX1_setRest_13 (fun v_6 h => ?_)
  refine lv_istore_n (i := 2) (lv' := [(2, .int v_6), (0, .ref o), (1, .int x1)]) C.x C.b dX1_setRest_16 rfl hl (by decide) rfl (fun ls hl => ?_)
  refine r_aload_n (x := some o) C.x C.b dX1_setRest_17 rfl (lv_at hl 1 rfl) ?_
  refine cw_gR (r := some o) 0 0 C hw hI h (by decide) rfl in_X1 (by decide) (C.t _ q1172) (fun _ h9 => h9) dX1_setRest_18 (fun v_7 h => ?_)
  refine lv_iload_n C.x C.b dX1_setRest_21 rfl (lv_at hl 2 rfl) ?_
  refine cw_pO (r := v_7) (v := (.int x1)) (ty := .int) 1 6 C hw hI h (by decide) rfl in_X4 tyX4 tyX4_ok nmX4 (by decide) (C.t _ q855) (fun _ h9 => h9) (Or.inl rfl) (by decide +kernel) rfl rfl dX1_setRest_22 (fun σ_8 H locs h hI => ?_)
  refine lv_iload_n C.x C.b dX1_setRest_25 rfl (lv_at hl 0 rfl) ?_
  exact uq_l h (fun y h => cw_iret C hI h dX1_setRest_26)

theorem k_X1_setEstate (l : Launch) (hl0 : l.stackTraces = false) (g : cG) (A : Nat → Prop) (o : Nat) (x1 : Int32) (σ : cS) (z : (cX (Int32)) × cS) (h : m_X1_setEstate o x1 σ = some z) : MetX l yX1_setEstate (ws_ yX1_setEstate cX1_setEstate 3 (Option.some Jvm.ClassFile.FieldType.int)) ({ frames := 9, cells := σ.2 3 - σ.2 0, slots := σ.2 4 - σ.2 1, locals := 213 }) g A [.ref o, .int x1] σ (fun v => some (.int v)) z (σ.2 3 - σ.2 0) (σ.2 4 - σ.2 1) := by
  refine metx_of (cc := cX1_setEstate) (maxL := 3) (ret := (Option.some Jvm.ClassFile.FieldType.int)) (by decide) rfl ?_
  intro p e s m args below meth c s₁ B hml hx hv
  obtain ⟨rfl, hw, hσ⟩ := hv
  have hts := atoms_spec (ws := (ws_ yX1_setEstate cX1_setEstate 3 (Option.some Jvm.ClassFile.FieldType.int))) B.pre
  have C : CX p m meth c s ([.ref o, .int x1] : List Value).toArray cX1_setEstate 3 (Option.some Jvm.ClassFile.FieldType.int) RX1 := ⟨⟨B.exec, B.bytes, hml, findClass_of_methodNamed B.named, fun w h => hts w (List.mem_cons_of_mem _ h)⟩, B.returns, B.notSynchronized⟩
  have e3 : σ.2 3 - σ.2 0 = g.2.2.1 3 - s.heap.size := by rw [hσ.1, hσ.2.2.2.1 3 (by decide)]
  have e4 : σ.2 4 - σ.2 1 = g.2.2.1 4 - hsl s.heap := by rw [hσ.2.1, hσ.2.2.2.1 4 (by decide)]
  have hR : RM g s (headSpec (ws_ yX1_setEstate cX1_setEstate 3 (Option.some Jvm.ClassFile.FieldType.int)) ({ frames := 9, cells := σ.2 3 - σ.2 0, slots := σ.2 4 - σ.2 1, locals := 213 })).room (9) (213) := ⟨⟨Nat.le_refl _, Nat.le_refl _⟩, Nat.le_of_eq e3.symm, Nat.le_of_eq e4.symm⟩
  generalize (headSpec (ws_ yX1_setEstate cX1_setEstate 3 (Option.some Jvm.ClassFile.FieldType.int)) ({ frames := 9, cells := σ.2 3 - σ.2 0, slots := σ.2 4 - σ.2 1, locals := 213 })).room = R at hR ⊢
  rw [e3, e4]
  have hI : CI g A s σ s.heap [] := ⟨hσ, va_S.rf, Nat.le_refl _⟩
  have hl := lv_entry ([.ref o, .int x1]) (n := 3) (Nat.le_of_ble_eq_true rfl)
  rw [lg_entry_eq]
  generalize (lg_sl ([.ref o, .int x1]) ++ List.replicate (3 - (lg_sl ([.ref o, .int x1])).length) Slot.unset).toArray = ls at hl ⊢
  have hl : lv_has ls 3 [(0, .ref o), (1, .int x1)] := hl
  refine W.narrow ?_
  unfold m_X1_setEstate at h
  refine lv_iload_n C.x C.b dX1_setEstate_0 rfl (lv_at hl 1 rfl) ?_
  refine lv_iconst (v := 0) C.x C.b dX1_setEstate_1 (by decide) ?_
  refine lv_sipush (v := 9999) C.x C.b dX1_setEstate_2 (by decide) ?_
  refine cx_callS (y := yX1_check) (bytes := cX1_check) (maxL := 3) (fun _ => none) [.int x1, .int 0, .int 9999] C hx hw hR hI hl.1 h (fun uu ee => k_X1_check l hl0 g A x1 0 9999 σ uu ee) (va_cwS 3 C.t (lw_S q1537 q1538 q126 q1539) rfl rfl rfl (by decide +kernel) ⟨Nat.le_trans (Nat.le_of_ble_eq_true rfl) hR.f, Nat.le_trans (Nat.le_of_ble_eq_true rfl) hR.lo⟩) rfl rfl (Nat.le_of_ble_eq_true rfl) dX1_setEstate_5 (fun _ σ_1 H locs h hI => ?_)
  refine r_aload_n (x := some o) C.x C.b dX1_setEstate_8 rfl (lv_at hl 0 rfl) ?_
  refine cw_callV (y := yX1_remember) (bytes := cX1_remember) (maxL := 1) (r := some o) (f := fun a_3 => m_X1_remember a_3 σ_1) 0 (fun _ => none) [] C hw hR hI hl.1 h (by decide) rfl (fun aa vv ss ee => k_X1_remember l g A aa σ_1 vv ss ee) (cwV 0 C.t (lw_V q2005 q2007 qs53 q126 q2008) rfl rfl rfl (by decide +kernel) ⟨Nat.le_trans (Nat.le_of_ble_eq_true rfl) hR.f, Nat.le_trans (Nat.le_of_ble_eq_true rfl) hR.lo⟩) rfl rfl (Nat.le_of_ble_eq_true rfl) dX1_setEstate_9 (fun _ σ_2 H locs h hI => ?_)
  refine r_aload_n (x := some o) C.x C.b dX1_setEstate_12 rfl (lv_at hl 0 rfl) ?_
  refine cw_gR (r := some o) 0 0 C hw hI h (by decide) rfl in_X1 (by decide) (C.t _ q1172) (fun _ h9 => h9) dX1_setEstate_13 (fun v_4 h => ?_)
  refine cw_gI (r := v_4) 1 7 C hw hI h (by decide) rfl in_X4 (by decide) (C.t _ q858) (fun _ h9 => h9) dX1_setEstate_16 (fun v_5 h => ?_)
  refine lv_istore_n (i := 2) (lv' := [(2, .int v_5), (0, .ref o), (1, .int x1)]) C.x C.b dX1_setEstate_19 rfl hl (by decide) rfl (fun ls hl => ?_)
  refine r_aload_n (x := some o) C.x C.b dX1_setEstate_20 rfl (lv_at hl 1 rfl) ?_
  refine cw_gR (r := some o) 0 0 C hw hI h (by decide) rfl in_X1 (by decide) (C.t _ q1172) (fun _ h9 => h9) dX1_setEstate_21 (fun v_6 h => ?_)
  refine lv_iload_n C.x C.b dX1_setEstate_24 rfl (lv_at hl 2 rfl) ?_
  refine cw_pO (r := v_6) (v := (.int x1)) (ty := .int) 1 7 C hw hI h (by decide) rfl in_X4 tyX4 tyX4_ok nmX4 (by decide) (C.t _ q858) (fun _ h9 => h9) (Or.inl rfl) (by decide +kernel) rfl rfl dX1_setEstate_25 (fun σ_7 H locs h hI => ?_)
  refine lv_iload_n C.x C.b dX1_setEstate_28 rfl (lv_at hl 0 rfl) ?_
  exact uq_l h (fun y h => cw_iret C hI h dX1_setEstate_29)

theorem k_X1_setValue (l : Launch) (hl0 : l.stackTraces = false) (g : cG) (A : Nat → Prop) (o : Nat) (x1 : Int32) (x2 : Int32) (σ : cS) (z : (cX (Int32)) × cS) (h : m_X1_setValue o x1 x2 σ = some z) : MetX l yX1_setValue (ws_ yX1_setValue cX1_setValue 3 (Option.some Jvm.ClassFile.FieldType.int)) ({ frames := 10, cells := σ.2 3 - σ.2 0, slots := σ.2 4 - σ.2 1, locals := 213 }) g A [.ref o, .int x1, .int x2] σ (fun v => some (.int v)) z (σ.2 3 - σ.2 0) (σ.2 4 - σ.2 1) := by
  refine metx_of (cc := cX1_setValue) (maxL := 3) (ret := (Option.some Jvm.ClassFile.FieldType.int)) (by decide) rfl ?_
  intro p e s m args below meth c s₁ B hml hx hv
  obtain ⟨rfl, hw, hσ⟩ := hv
  have hts := atoms_spec (ws := (ws_ yX1_setValue cX1_setValue 3 (Option.some Jvm.ClassFile.FieldType.int))) B.pre
  have C : CX p m meth c s ([.ref o, .int x1, .int x2] : List Value).toArray cX1_setValue 3 (Option.some Jvm.ClassFile.FieldType.int) RX1 := ⟨⟨B.exec, B.bytes, hml, findClass_of_methodNamed B.named, fun w h => hts w (List.mem_cons_of_mem _ h)⟩, B.returns, B.notSynchronized⟩
  have e3 : σ.2 3 - σ.2 0 = g.2.2.1 3 - s.heap.size := by rw [hσ.1, hσ.2.2.2.1 3 (by decide)]
  have e4 : σ.2 4 - σ.2 1 = g.2.2.1 4 - hsl s.heap := by rw [hσ.2.1, hσ.2.2.2.1 4 (by decide)]
  have hR : RM g s (headSpec (ws_ yX1_setValue cX1_setValue 3 (Option.some Jvm.ClassFile.FieldType.int)) ({ frames := 10, cells := σ.2 3 - σ.2 0, slots := σ.2 4 - σ.2 1, locals := 213 })).room (10) (213) := ⟨⟨Nat.le_refl _, Nat.le_refl _⟩, Nat.le_of_eq e3.symm, Nat.le_of_eq e4.symm⟩
  generalize (headSpec (ws_ yX1_setValue cX1_setValue 3 (Option.some Jvm.ClassFile.FieldType.int)) ({ frames := 10, cells := σ.2 3 - σ.2 0, slots := σ.2 4 - σ.2 1, locals := 213 })).room = R at hR ⊢
  rw [e3, e4]
  have hI : CI g A s σ s.heap [] := ⟨hσ, va_S.rf, Nat.le_refl _⟩
  have hl := lv_entry ([.ref o, .int x1, .int x2]) (n := 3) (Nat.le_of_ble_eq_true rfl)
  rw [lg_entry_eq]
  generalize (lg_sl ([.ref o, .int x1, .int x2]) ++ List.replicate (3 - (lg_sl ([.ref o, .int x1, .int x2])).length) Slot.unset).toArray = ls at hl ⊢
  have hl : lv_has ls 3 [(0, .ref o), (1, .int x1), (2, .int x2)] := hl
  refine W.narrow ?_
  unfold m_X1_setValue at h
  refine r_aload_n (x := some o) C.x C.b dX1_setValue_0 rfl (lv_at hl 0 rfl) ?_
  refine lv_iload_n C.x C.b dX1_setValue_1 rfl (lv_at hl 1 rfl) ?_
  refine cx_callV (y := yX1_checkFact) (bytes := cX1_checkFact) (maxL := 2) (r := some o) (f := fun a_2 => m_X1_checkFact a_2 x1 σ) 0 (fun _ => none) [.int x1] C hx hw hR hI hl.1 h (by decide) rfl (fun aa uu ee => k_X1_checkFact l hl0 g A aa x1 σ uu ee) (cwV 1 C.t (lw_V q1737 q1739 qs45 q126 q1740) rfl rfl rfl (by decide +kernel) ⟨Nat.le_trans (Nat.le_of_ble_eq_true rfl) hR.f, Nat.le_trans (Nat.le_of_ble_eq_true rfl) hR.lo⟩) rfl rfl (Nat.le_of_ble_eq_true rfl) dX1_setValue_2 (fun _ σ_1 H locs h hI => ?_)
  refine lv_iload_n C.x C.b dX1_setValue_5 rfl (lv_at hl 2 rfl) ?_
  refine lv_iconst (v := 0) C.x C.b dX1_setValue_6 (by decide) ?_
  refine r_aload_n (x := some o) C.x C.b dX1_setValue_7 rfl (lv_at hl 0 rfl) ?_
  refine cw_gR (r := some o) 0 0 C hw hI h (by decide) rfl in_X1 (by decide) (C.t _ q1172) (fun _ h9 => h9) dX1_setValue_8 (fun v_3 h => ?_)
  refine cw_gR (r := v_3) 1 0 C hw hI h (by decide) rfl in_X4 (by decide) (C.t _ q839) (fun _ h9 => h9) dX1_setValue_11 (fun v_4 h => ?_)
  refine lv_iload_n C.x C.b dX1_setValue_14 rfl (lv_at hl 1 rfl) ?_
  refine cw_ild (r := v_4) C hw hI h dX1_setValue_15 (fun v_5 h => ?_)
  refine lv_iconst (v := 1) C.x C.b dX1_setValue_16 (by decide) ?_
  refine lv_isub C.x C.b dX1_setValue_17 ?_
  refine cx_callS (y := yX1_check) (bytes := cX1_check) (maxL := 3) (fun _ => none) [.int x2, .int 0, .int (v_5 - 1)] C hx hw hR hI hl.1 h (fun uu ee => k_X1_check l hl0 g A x2 0 (v_5 - 1) σ_1 uu ee) (va_cwS 3 C.t (lw_S q1537 q1538 q126 q1539) rfl rfl rfl (by decide +kernel) ⟨Nat.le_trans (Nat.le_of_ble_eq_true rfl) hR.f, Nat.le_trans (Nat.le_of_ble_eq_true rfl) hR.lo⟩) rfl rfl (Nat.le_of_ble_eq_true rfl) dX1_setValue_18 (fun _ σ_6 H locs h hI => ?_)
  refine r_aload_n (x := some o) C.x C.b dX1_setValue_21 rfl (lv_at hl 0 rfl) ?_
  refine cw_callV (y := yX1_remember) (bytes := cX1_remember) (maxL := 1) (r := some o) (f := fun a_8 => m_X1_remember a_8 σ_6) 0 (fun _ => none) [] C hw hR hI hl.1 h (by decide) rfl (fun aa vv ss ee => k_X1_remember l g A aa σ_6 vv ss ee) (cwV 0 C.t (lw_V q2005 q2007 qs53 q126 q2008) rfl rfl rfl (by decide +kernel) ⟨Nat.le_trans (Nat.le_of_ble_eq_true rfl) hR.f, Nat.le_trans (Nat.le_of_ble_eq_true rfl) hR.lo⟩) rfl rfl (Nat.le_of_ble_eq_true rfl) dX1_setValue_22 (fun _ σ_7 H locs h hI => ?_)
  refine r_aload_n (x := some o) C.x C.b dX1_setValue_25 rfl (lv_at hl 0 rfl) ?_
  refine cw_gR (r := some o) 0 0 C hw hI h (by decide) rfl in_X1 (by decide) (C.t _ q1172) (fun _ h9 => h9) dX1_setValue_26 (fun v_9 h => ?_)
  refine lv_iload_n C.x C.b dX1_setValue_29 rfl (lv_at hl 1 rfl) ?_
  refine lv_iload_n C.x C.b dX1_setValue_30 rfl (lv_at hl 2 rfl) ?_
  refine cw_callV (y := yX4_setValue) (bytes := cX4_setValue) (maxL := 4) (r := v_9) (f := fun a_11 => m_X4_setValue a_11 x1 x2 σ_7) 1 (fun _ => none) [.int x1, .int x2] C hw hR hI hl.1 h (by decide) rfl (fun aa vv ss ee => k_X4_setValue l g A aa x1 x2 σ_7 vv ss ee) (cwV 2 C.t (lw_V q2053 q2054 q2055 q150 q2056) rfl rfl rfl (by decide +kernel) ⟨Nat.le_trans (Nat.le_of_ble_eq_true rfl) hR.f, Nat.le_trans (Nat.le_of_ble_eq_true rfl) hR.lo⟩) rfl rfl (Nat.le_of_ble_eq_true rfl) dX1_setValue_31 (fun _ σ_10 H locs h hI => ?_)
  refine r_aload_n (x := some o) C.x C.b dX1_setValue_34 rfl (lv_at hl 0 rfl) ?_
  refine cw_gR (r := some o) 0 0 C hw hI h (by decide) rfl in_X1 (by decide) (C.t _ q1172) (fun _ h9 => h9) dX1_setValue_35 (fun v_12 h => ?_)
  refine cw_gI (r := v_12) 1 8 C hw hI h (by decide) rfl in_X4 (by decide) (C.t _ q860) (fun _ h9 => h9) dX1_setValue_38 (fun v_13 h => ?_)
  exact uq_l h (fun y h => cw_iret C hI h dX1_setValue_41)

theorem w_X1_saveSnapshot_20 {z : (cX (Int32)) × cS} {o : Nat} (C : CX p m meth c s args cX1_saveSnapshot 3 (Option.some Jvm.ClassFile.FieldType.boolean) RX1) (hx : ∀ x ∈ c.exceptionTable.toList, False) (hl0 : l.stackTraces = false) (hw : WKc g A s s.heap) (hR : RM g s R (9) (193))  : ∀ (x1 : Int32) (s0 : Int32) (σ : cS) (H : Heap) (locs : List Loc) (ls : Array Slot), b_X1_saveSnapshot_20 o x1 s0 σ = some z → CI g A s σ H locs → lv_has ls 3 [(0, .ref o), (1, .int x1)] → W p l e R s m args below meth c H locs (H.size - s.heap.size) (hsl H - hsl s.heap) (UQ g A (fun v => some (.int v)) z args s (g.2.2.1 3 - s.heap.size) (g.2.2.1 4 - hsl s.heap) below) (F0 m 20 ls [.int s0]) := by
  intro x1 s0 σ H locs ls h hI hl
  unfold b_X1_saveSnapshot_20 at h
  refine lv_istore_n (i := 2) (lv' := [(2, .int s0), (0, .ref o), (1, .int x1)]) C.x C.b dX1_saveSnapshot_20 rfl hl (by decide) rfl (fun ls hl => ?_)
  refine r_aload_n (x := some o) C.x C.b dX1_saveSnapshot_21 rfl (lv_at hl 1 rfl) ?_
  refine cw_gR (r := some o) 0 2 C hw hI h (by decide) rfl in_X1 (by decide) (C.t _ q1174) (fun _ h9 => h9) dX1_saveSnapshot_22 (fun v_1 h => ?_)
  refine lv_iload_n C.x C.b dX1_saveSnapshot_25 rfl (lv_at hl 2 rfl) ?_
  refine r_aload_n (x := some o) C.x C.b dX1_saveSnapshot_26 rfl (lv_at hl 1 rfl) ?_
  refine cw_gR (r := some o) 0 0 C hw hI h (by decide) rfl in_X1 (by decide) (C.t _ q1172) (fun _ h9 => h9) dX1_saveSnapshot_27 (fun v_2 h => ?_)
  refine cw_callV (y := yX4_duplicate) (bytes := cX4_duplicate) (maxL := 3) (r := v_2) (f := fun a_5 => m_X4_duplicate a_5 σ) 1 (fun v => some (va_rf v)) [] C hw hR hI hl.1 h (by decide) rfl (fun aa vv ss ee => k_X4_duplicate l g A aa σ vv ss ee) (cwV 0 C.t (lw_V q1359 q1360 q1361 q150 q1362) rfl rfl rfl (by decide +kernel) ⟨Nat.le_trans (Nat.le_of_ble_eq_true rfl) hR.f, Nat.le_trans (Nat.le_of_ble_eq_true rfl) hR.lo⟩) rfl rfl (Nat.le_of_ble_eq_true rfl) dX1_saveSnapshot_30 (fun v_3 σ_4 H locs h hI => ?_)
  refine cw_rst (r := v_1) (x := v_3) C hw hI h dX1_saveSnapshot_33 (fun σ_6 H locs h hI => ?_)
  refine lv_iload_n C.x C.b dX1_saveSnapshot_34 rfl (lv_at hl 0 rfl) ?_
  exact uq_l h (fun y h => cw_zret C hI h dX1_saveSnapshot_35)

theorem k_X1_saveSnapshot (l : Launch) (hl0 : l.stackTraces = false) (g : cG) (A : Nat → Prop) (o : Nat) (x1 : Int32) (σ : cS) (z : (cX (Int32)) × cS) (h : m_X1_saveSnapshot o x1 σ = some z) : MetX l yX1_saveSnapshot (ws_ yX1_saveSnapshot cX1_saveSnapshot 3 (Option.some Jvm.ClassFile.FieldType.boolean)) ({ frames := 9, cells := σ.2 3 - σ.2 0, slots := σ.2 4 - σ.2 1, locals := 193 }) g A [.ref o, .int x1] σ (fun v => some (.int v)) z (σ.2 3 - σ.2 0) (σ.2 4 - σ.2 1) := by
  refine metx_of (cc := cX1_saveSnapshot) (maxL := 3) (ret := (Option.some Jvm.ClassFile.FieldType.boolean)) (by decide) rfl ?_
  intro p e s m args below meth c s₁ B hml hx hv
  obtain ⟨rfl, hw, hσ⟩ := hv
  have hts := atoms_spec (ws := (ws_ yX1_saveSnapshot cX1_saveSnapshot 3 (Option.some Jvm.ClassFile.FieldType.boolean))) B.pre
  have C : CX p m meth c s ([.ref o, .int x1] : List Value).toArray cX1_saveSnapshot 3 (Option.some Jvm.ClassFile.FieldType.boolean) RX1 := ⟨⟨B.exec, B.bytes, hml, findClass_of_methodNamed B.named, fun w h => hts w (List.mem_cons_of_mem _ h)⟩, B.returns, B.notSynchronized⟩
  have e3 : σ.2 3 - σ.2 0 = g.2.2.1 3 - s.heap.size := by rw [hσ.1, hσ.2.2.2.1 3 (by decide)]
  have e4 : σ.2 4 - σ.2 1 = g.2.2.1 4 - hsl s.heap := by rw [hσ.2.1, hσ.2.2.2.1 4 (by decide)]
  have hR : RM g s (headSpec (ws_ yX1_saveSnapshot cX1_saveSnapshot 3 (Option.some Jvm.ClassFile.FieldType.boolean)) ({ frames := 9, cells := σ.2 3 - σ.2 0, slots := σ.2 4 - σ.2 1, locals := 193 })).room (9) (193) := ⟨⟨Nat.le_refl _, Nat.le_refl _⟩, Nat.le_of_eq e3.symm, Nat.le_of_eq e4.symm⟩
  generalize (headSpec (ws_ yX1_saveSnapshot cX1_saveSnapshot 3 (Option.some Jvm.ClassFile.FieldType.boolean)) ({ frames := 9, cells := σ.2 3 - σ.2 0, slots := σ.2 4 - σ.2 1, locals := 193 })).room = R at hR ⊢
  rw [e3, e4]
  have hI : CI g A s σ s.heap [] := ⟨hσ, va_S.rf, Nat.le_refl _⟩
  have hl := lv_entry ([.ref o, .int x1]) (n := 3) (Nat.le_of_ble_eq_true rfl)
  rw [lg_entry_eq]
  generalize (lg_sl ([.ref o, .int x1]) ++ List.replicate (3 - (lg_sl ([.ref o, .int x1])).length) Slot.unset).toArray = ls at hl ⊢
  have hl : lv_has ls 3 [(0, .ref o), (1, .int x1)] := hl
  refine W.narrow ?_
  unfold m_X1_saveSnapshot at h
  refine lv_iload_n C.x C.b dX1_saveSnapshot_0 rfl (lv_at hl 1 rfl) ?_
  refine lv_iconst (v := 0) C.x C.b dX1_saveSnapshot_1 (by decide) ?_
  refine lv_iconst (v := 1) C.x C.b dX1_saveSnapshot_2 (by decide) ?_
  refine cx_callS (y := yX1_check) (bytes := cX1_check) (maxL := 3) (fun _ => none) [.int x1, .int 0, .int 1] C hx hw hR hI hl.1 h (fun uu ee => k_X1_check l hl0 g A x1 0 1 σ uu ee) (va_cwS 3 C.t (lw_S q1537 q1538 q126 q1539) rfl rfl rfl (by decide +kernel) ⟨Nat.le_trans (Nat.le_of_ble_eq_true rfl) hR.f, Nat.le_trans (Nat.le_of_ble_eq_true rfl) hR.lo⟩) rfl rfl (Nat.le_of_ble_eq_true rfl) dX1_saveSnapshot_3 (fun _ σ_1 H locs h hI => ?_)
  refine r_aload_n (x := some o) C.x C.b dX1_saveSnapshot_6 rfl (lv_at hl 0 rfl) ?_
  refine cw_gR (r := some o) 0 2 C hw hI h (by decide) rfl in_X1 (by decide) (C.t _ q1174) (fun _ h9 => h9) dX1_saveSnapshot_7 (fun v_2 h => ?_)
  refine lv_iload_n C.x C.b dX1_saveSnapshot_10 rfl (lv_at hl 1 rfl) ?_
  refine cw_rld (r := v_2) C hw hI h dX1_saveSnapshot_11 (fun v_3 h => ?_)
  refine r_ifnull (x := v_3) (tgt := 19) C.x C.b dX1_saveSnapshot_12 (by decide) (fun c_4 => ?_) (fun c_4 => ?_)
  · have h := ip c_4 h
    refine lv_iconst (v := 0) C.x C.b dX1_saveSnapshot_19 (by decide) ?_
    exact w_X1_saveSnapshot_20 C hx hl0 hw hR x1 0 _ _ _ _ h hI (lv_sub hl [0, 1] rfl)
  · have h := iN c_4 h
    refine lv_iconst (v := 1) C.x C.b dX1_saveSnapshot_15 (by decide) ?_
    refine lv_goto (tgt := 20) C.x C.b dX1_saveSnapshot_16 (by decide) ?_
    exact w_X1_saveSnapshot_20 C hx hl0 hw hR x1 1 _ _ _ _ h hI (lv_sub hl [0, 1] rfl)

end
