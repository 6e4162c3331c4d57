/-! THE CLASS' WALKS 27: printed by gencl.py -/
section
variable {p : Program} {l : Launch} {e : Env} {R : Room} {s : State} {m : MethodId} {args : Array Value} {below : List Frame} {meth : Method} {c : Code} {g : cG} {A : Nat → Prop}
set_option maxRecDepth 100000
theorem k_X1_ruleAt (l : Launch) (hl0 : l.stackTraces = false) (g : cG) (A : Nat → Prop) (o : Nat) (x1 : Int32) (σ : cS) (z : (cX (Option Nat)) × cS) (h : m_X1_ruleAt o x1 σ = some z) : MetX l yX1_ruleAt (ws_ yX1_ruleAt cX1_ruleAt 2 (Option.some (Jvm.ClassFile.FieldType.object "HeirCases$Rule"))) ({ frames := 9, cells := σ.2 3 - σ.2 0, slots := σ.2 4 - σ.2 1, locals := 121 }) g A [.ref o, .int x1] σ (fun v => some (va_rf v)) z (σ.2 3 - σ.2 0) (σ.2 4 - σ.2 1) := by
  refine metx_of (cc := cX1_ruleAt) (maxL := 2) (ret := (Option.some (Jvm.ClassFile.FieldType.object "HeirCases$Rule"))) (by decide) rfl ?_
  intro p e s m args below meth c s₁ B hml hx hv
  obtain ⟨rfl, hw, hσ⟩ := hv
  have hts := atoms_spec (ws := (ws_ yX1_ruleAt cX1_ruleAt 2 (Option.some (Jvm.ClassFile.FieldType.object "HeirCases$Rule")))) B.pre
  have C : CX p m meth c s ([.ref o, .int x1] : List Value).toArray cX1_ruleAt 2 (Option.some (Jvm.ClassFile.FieldType.object "HeirCases$Rule")) RX1 := ⟨⟨B.exec, B.bytes, hml, findClass_of_methodNamed B.named, fun w h => hts w (List.mem_cons_of_mem _ h)⟩, B.returns, B.notSynchronized⟩
  have e3 : σ.2 3 - σ.2 0 = g.2.2.1 3 - s.heap.size := by rw [hσ.1, hσ.2.2.2.1 3 (by decide)]
  have e4 : σ.2 4 - σ.2 1 = g.2.2.1 4 - hsl s.heap := by rw [hσ.2.1, hσ.2.2.2.1 4 (by decide)]
  have hR : RM g s (headSpec (ws_ yX1_ruleAt cX1_ruleAt 2 (Option.some (Jvm.ClassFile.FieldType.object "HeirCases$Rule"))) ({ frames := 9, cells := σ.2 3 - σ.2 0, slots := σ.2 4 - σ.2 1, locals := 121 })).room (9) (121) := ⟨⟨Nat.le_refl _, Nat.le_refl _⟩, Nat.le_of_eq e3.symm, Nat.le_of_eq e4.symm⟩
  generalize (headSpec (ws_ yX1_ruleAt cX1_ruleAt 2 (Option.some (Jvm.ClassFile.FieldType.object "HeirCases$Rule"))) ({ frames := 9, cells := σ.2 3 - σ.2 0, slots := σ.2 4 - σ.2 1, locals := 121 })).room = R at hR ⊢
  rw [e3, e4]
  have hI : CI g A s σ s.heap [] := ⟨hσ, va_S.rf, Nat.le_refl _⟩
  have hl := lv_entry ([.ref o, .int x1]) (n := 2) (Nat.le_of_ble_eq_true rfl)
  rw [lg_entry_eq]
  generalize (lg_sl ([.ref o, .int x1]) ++ List.replicate (2 - (lg_sl ([.ref o, .int x1])).length) Slot.unset).toArray = ls at hl ⊢
  have hl : lv_has ls 2 [(0, .ref o), (1, .int x1)] := hl
  refine W.narrow ?_
  unfold m_X1_ruleAt at h
  refine lv_iload_n C.x C.b dX1_ruleAt_0 rfl (lv_at hl 1 rfl) ?_
  refine r_aload_n (x := some o) C.x C.b dX1_ruleAt_1 rfl (lv_at hl 0 rfl) ?_
  refine cw_gR (r := some o) 0 0 C hw hI h (by decide) rfl in_X1 (by decide) (C.t _ q1172) (fun _ h9 => h9) dX1_ruleAt_2 (fun v_1 h => ?_)
  refine cw_gR (r := v_1) 1 4 C hw hI h (by decide) rfl in_X4 (by decide) (C.t _ q851) (fun _ h9 => h9) dX1_ruleAt_5 (fun v_2 h => ?_)
  refine cw_callV (y := yJ18_size) (bytes := cJ18_size) (maxL := 1) (r := v_2) (f := fun a_5 => m_J18_size a_5 σ) 9 (fun v => some (.int v)) [] C hw hR hI hl.1 h (by decide) rfl (fun aa vv ss ee => k_J18_size l g A aa σ vv ss ee) (cwV 0 C.t (lw_V q1339 q947 q948 q152 q949) rfl rfl rfl (by decide +kernel) ⟨Nat.le_trans (Nat.le_of_ble_eq_true rfl) hR.f, Nat.le_trans (Nat.le_of_ble_eq_true rfl) hR.lo⟩) rfl rfl (Nat.le_of_ble_eq_true rfl) dX1_ruleAt_8 (fun v_3 σ_4 H locs h hI => ?_)
  refine cx_callS (y := yX1_checkIndex) (bytes := cX1_checkIndex) (maxL := 2) (fun _ => none) [.int x1, .int v_3] C hx hw hR hI hl.1 h (fun uu ee => k_X1_checkIndex l hl0 g A x1 v_3 σ_4 uu ee) (va_cwS 2 C.t (lw_S q1553 q1554 q126 q1555) rfl rfl rfl (by decide +kernel) ⟨Nat.le_trans (Nat.le_of_ble_eq_true rfl) hR.f, Nat.le_trans (Nat.le_of_ble_eq_true rfl) hR.lo⟩) rfl rfl (Nat.le_of_ble_eq_true rfl) dX1_ruleAt_11 (fun _ σ_6 H locs h hI => ?_)
  refine r_aload_n (x := some o) C.x C.b dX1_ruleAt_14 rfl (lv_at hl 0 rfl) ?_
  refine cw_gR (r := some o) 0 0 C hw hI h (by decide) rfl in_X1 (by decide) (C.t _ q1172) (fun _ h9 => h9) dX1_ruleAt_15 (fun v_7 h => ?_)
  refine cw_gR (r := v_7) 1 4 C hw hI h (by decide) rfl in_X4 (by decide) (C.t _ q851) (fun _ h9 => h9) dX1_ruleAt_18 (fun v_8 h => ?_)
  refine lv_iload_n C.x C.b dX1_ruleAt_21 rfl (lv_at hl 1 rfl) ?_
  refine cw_callV (y := yJ18_get) (bytes := cJ18_get) (maxL := 2) (r := v_8) (f := fun a_11 => m_J18_get a_11 x1 σ_6) 9 (fun v => some (va_rf v)) [.int x1] C hw hR hI hl.1 h (by decide) rfl (fun aa vv ss ee => k_J18_get l g A aa x1 σ_6 vv ss ee) (cwV 1 C.t (lw_V q1586 q1264 q1265 q152 q1266) rfl rfl rfl (by decide +kernel) ⟨Nat.le_trans (Nat.le_of_ble_eq_true rfl) hR.f, Nat.le_trans (Nat.le_of_ble_eq_true rfl) hR.lo⟩) rfl rfl (Nat.le_of_ble_eq_true rfl) dX1_ruleAt_22 (fun v_9 σ_10 H locs h hI => ?_)
  refine cw_cast (r := v_9) 2 C hw hI h (by decide) rfl q1587 dX1_ruleAt_25 (fun h => ?_)
  exact uq_l h (fun y h => cw_aret (x := v_9) C (Or.inl ⟨_, rfl⟩) hI h dX1_ruleAt_28)

theorem k_X1_applies (l : Launch) (hl0 : l.stackTraces = false) (g : cG) (A : Nat → Prop) (o : Nat) (x1 : Int32) (x2 : Int32) (σ : cS) (z : (cX (Int32)) × cS) (h : m_X1_applies o x1 x2 σ = some z) : MetX l yX1_applies (ws_ yX1_applies cX1_applies 3 (Option.some Jvm.ClassFile.FieldType.boolean)) ({ frames := 259, cells := σ.2 3 - σ.2 0, slots := σ.2 4 - σ.2 1, locals := 6471 }) g A [.ref o, .int x1, .int x2] σ (fun v => some (.int v)) z (σ.2 3 - σ.2 0) (σ.2 4 - σ.2 1) := by
  refine metx_of (cc := cX1_applies) (maxL := 3) (ret := (Option.some Jvm.ClassFile.FieldType.boolean)) (by decide) rfl ?_
  intro p e s m args below meth c s₁ B hml hx hv
  obtain ⟨rfl, hw, hσ⟩ := hv
  have hts := atoms_spec (ws := (ws_ yX1_applies cX1_applies 3 (Option.some Jvm.ClassFile.FieldType.boolean))) B.pre
  have C : CX p m meth c s ([.ref o, .int x1, .int x2] : List Value).toArray cX1_applies 3 (Option.some Jvm.ClassFile.FieldType.boolean) RX1 := ⟨⟨B.exec, B.bytes, hml, findClass_of_methodNamed B.named, fun w h => hts w (List.mem_cons_of_mem _ h)⟩, B.returns, B.notSynchronized⟩
  have e3 : σ.2 3 - σ.2 0 = g.2.2.1 3 - s.heap.size := by rw [hσ.1, hσ.2.2.2.1 3 (by decide)]
  have e4 : σ.2 4 - σ.2 1 = g.2.2.1 4 - hsl s.heap := by rw [hσ.2.1, hσ.2.2.2.1 4 (by decide)]
  have hR : RM g s (headSpec (ws_ yX1_applies cX1_applies 3 (Option.some Jvm.ClassFile.FieldType.boolean)) ({ frames := 259, cells := σ.2 3 - σ.2 0, slots := σ.2 4 - σ.2 1, locals := 6471 })).room (259) (6471) := ⟨⟨Nat.le_refl _, Nat.le_refl _⟩, Nat.le_of_eq e3.symm, Nat.le_of_eq e4.symm⟩
  generalize (headSpec (ws_ yX1_applies cX1_applies 3 (Option.some Jvm.ClassFile.FieldType.boolean)) ({ frames := 259, cells := σ.2 3 - σ.2 0, slots := σ.2 4 - σ.2 1, locals := 6471 })).room = R at hR ⊢
  rw [e3, e4]
  have hI : CI g A s σ s.heap [] := ⟨hσ, va_S.rf, Nat.le_refl _⟩
  have hl := lv_entry ([.ref o, .int x1, .int x2]) (n := 3) (Nat.le_of_ble_eq_true rfl)
  rw [lg_entry_eq]
  generalize (lg_sl ([.ref o, .int x1, .int x2]) ++ List.replicate (3 - (lg_sl ([.ref o, .int x1, .int x2])).length) Slot.unset).toArray = ls at hl ⊢
  have hl : lv_has ls 3 [(0, .ref o), (1, .int x1), (2, .int x2)] := hl
  refine W.narrow ?_
  unfold m_X1_applies at h
  refine r_aload_n (x := some o) C.x C.b dX1_applies_0 rfl (lv_at hl 0 rfl) ?_
  refine lv_iload_n C.x C.b dX1_applies_1 rfl (lv_at hl 1 rfl) ?_
  refine cx_callV (y := yX1_checkCase) (bytes := cX1_checkCase) (maxL := 2) (r := some o) (f := fun a_2 => m_X1_checkCase a_2 x1 σ) 0 (fun _ => none) [.int x1] C hx hw hR hI hl.1 h (by decide) rfl (fun aa uu ee => k_X1_checkCase l hl0 g A aa x1 σ uu ee) (cwV 1 C.t (lw_V q1627 q1629 qs44 q126 q1630) rfl rfl rfl (by decide +kernel) ⟨Nat.le_trans (Nat.le_of_ble_eq_true rfl) hR.f, Nat.le_trans (Nat.le_of_ble_eq_true rfl) hR.lo⟩) rfl rfl (Nat.le_of_ble_eq_true rfl) dX1_applies_2 (fun _ σ_1 H locs h hI => ?_)
  refine r_aload_n (x := some o) C.x C.b dX1_applies_5 rfl (lv_at hl 0 rfl) ?_
  refine lv_iload_n C.x C.b dX1_applies_6 rfl (lv_at hl 2 rfl) ?_
  refine cx_callV (y := yX1_ruleAt) (bytes := cX1_ruleAt) (maxL := 2) (r := some o) (f := fun a_5 => m_X1_ruleAt a_5 x2 σ_1) 0 (fun v => some (va_rf v)) [.int x2] C hx hw hR hI hl.1 h (by decide) rfl (fun aa uu ee => k_X1_ruleAt l hl0 g A aa x2 σ_1 uu ee) (cwV 1 C.t (lw_V q1582 q1584 qs39 q126 q1585) rfl rfl rfl (by decide +kernel) ⟨Nat.le_trans (Nat.le_of_ble_eq_true rfl) hR.f, Nat.le_trans (Nat.le_of_ble_eq_true rfl) hR.lo⟩) rfl rfl (Nat.le_of_ble_eq_true rfl) dX1_applies_7 (fun v_3 σ_4 H locs h hI => ?_)
  refine lv_pop C.x C.b dX1_applies_10 (cat_rf _) ?_
  refine r_aload_n (x := some o) C.x C.b dX1_applies_11 rfl (lv_at hl 0 rfl) ?_
  refine cw_gR (r := some o) 0 0 C hw hI h (by decide) rfl in_X1 (by decide) (C.t _ q1172) (fun _ h9 => h9) dX1_applies_12 (fun v_6 h => ?_)
  refine lv_iload_n C.x C.b dX1_applies_15 rfl (lv_at hl 1 rfl) ?_
  refine cw_callV (y := yX4_look) (bytes := cX4_look) (maxL := 2) (r := v_6) (f := fun a_9 => m_X4_look a_9 x1 σ_4) 1 (fun v => some (va_rf v)) [.int x1] C hw hR hI hl.1 h (by decide) rfl (fun aa vv ss ee => k_X4_look l g A aa x1 σ_4 vv ss ee) (cwV 1 C.t (lw_V q1383 q1223 q1224 q150 q1225) rfl rfl rfl (by decide +kernel) ⟨Nat.le_trans (Nat.le_of_ble_eq_true rfl) hR.f, Nat.le_trans (Nat.le_of_ble_eq_true rfl) hR.lo⟩) rfl rfl (Nat.le_of_ble_eq_true rfl) dX1_applies_16 (fun v_7 σ_8 H locs h hI => ?_)
  refine cw_gI (r := v_7) 3 1 C hw hI h (by decide) rfl in_X11 (by decide) (C.t _ q1243) (fun _ h9 => h9) dX1_applies_19 (fun v_10 h => ?_)
  refine lv_iload_n C.x C.b dX1_applies_22 rfl (lv_at hl 2 rfl) ?_
  refine lv_ishr C.x C.b dX1_applies_23 ?_
  refine lv_iconst (v := 1) C.x C.b dX1_applies_24 (by decide) ?_
  refine lv_iand C.x C.b dX1_applies_25 ?_
  refine lv_iconst (v := 1) C.x C.b dX1_applies_26 (by decide) ?_
  refine lv_icmp_ne (tgt := 34) C.x C.b dX1_applies_27 (by decide) (fun c_11 => ?_) (fun c_11 => ?_)
  · have h := iN c_11 h
    refine lv_iconst (v := 0) C.x C.b dX1_applies_34 (by decide) ?_
    exact uq_l h (fun y h => cw_zret C hI h dX1_applies_35)
  · have h := ip c_11 h
    refine lv_iconst (v := 1) C.x C.b dX1_applies_30 (by decide) ?_
    refine lv_goto (tgt := 35) C.x C.b dX1_applies_31 (by decide) ?_
    exact uq_l h (fun y h => cw_zret C hI h dX1_applies_35)

theorem k_X1_lambda_common_6 (l : Launch) (hl0 : l.stackTraces = false) (g : cG) (A : Nat → Prop) (o : Nat) (x1 : Int32) (x2 : Int32) (x3 : Int32) (σ : cS) (z : (cX (Int32)) × cS) (h : m_X1_lambda_common_6 o x1 x2 x3 σ = some z) : MetX l yX1_lambda_common_6 (ws_ yX1_lambda_common_6 cX1_lambda_common_6 4 (Option.some Jvm.ClassFile.FieldType.int)) ({ frames := 260, cells := σ.2 3 - σ.2 0, slots := σ.2 4 - σ.2 1, locals := 6493 }) g A [.ref o, .int x1, .int x2, .int x3] σ (fun v => some (.int v)) z (σ.2 3 - σ.2 0) (σ.2 4 - σ.2 1) := by
  refine metx_of (cc := cX1_lambda_common_6) (maxL := 4) (ret := (Option.some Jvm.ClassFile.FieldType.int)) (by decide) rfl ?_
  intro p e s m args below meth c s₁ B hml hx hv
  obtain ⟨rfl, hw, hσ⟩ := hv
  have hts := atoms_spec (ws := (ws_ yX1_lambda_common_6 cX1_lambda_common_6 4 (Option.some Jvm.ClassFile.FieldType.int))) B.pre
  have C : CX p m meth c s ([.ref o, .int x1, .int x2, .int x3] : List Value).toArray cX1_lambda_common_6 4 (Option.some Jvm.ClassFile.FieldType.int) RX1 := ⟨⟨B.exec, B.bytes, hml, findClass_of_methodNamed B.named, fun w h => hts w (List.mem_cons_of_mem _ h)⟩, B.returns, B.notSynchronized⟩
  have e3 : σ.2 3 - σ.2 0 = g.2.2.1 3 - s.heap.size := by rw [hσ.1, hσ.2.2.2.1 3 (by decide)]
  have e4 : σ.2 4 - σ.2 1 = g.2.2.1 4 - hsl s.heap := by rw [hσ.2.1, hσ.2.2.2.1 4 (by decide)]
  have hR : RM g s (headSpec (ws_ yX1_lambda_common_6 cX1_lambda_common_6 4 (Option.some Jvm.ClassFile.FieldType.int)) ({ frames := 260, cells := σ.2 3 - σ.2 0, slots := σ.2 4 - σ.2 1, locals := 6493 })).room (260) (6493) := ⟨⟨Nat.le_refl _, Nat.le_refl _⟩, Nat.le_of_eq e3.symm, Nat.le_of_eq e4.symm⟩
  generalize (headSpec (ws_ yX1_lambda_common_6 cX1_lambda_common_6 4 (Option.some Jvm.ClassFile.FieldType.int)) ({ frames := 260, cells := σ.2 3 - σ.2 0, slots := σ.2 4 - σ.2 1, locals := 6493 })).room = R at hR ⊢
  rw [e3, e4]
  have hI : CI g A s σ s.heap [] := ⟨hσ, va_S.rf, Nat.le_refl _⟩
  have hl := lv_entry ([.ref o, .int x1, .int x2, .int x3]) (n := 4) (Nat.le_of_ble_eq_true rfl)
  rw [lg_entry_eq]
  generalize (lg_sl ([.ref o, .int x1, .int x2, .int x3]) ++ List.replicate (4 - (lg_sl ([.ref o, .int x1, .int x2, .int x3])).length) Slot.unset).toArray = ls at hl ⊢
  have hl : lv_has ls 4 [(0, .ref o), (1, .int x1), (2, .int x2), (3, .int x3)] := hl
  refine W.narrow ?_
  unfold m_X1_lambda_common_6 at h
  refine r_aload_n (x := some o) C.x C.b dX1_lambda_common_6_0 rfl (lv_at hl 0 rfl) ?_
  refine lv_iload_n C.x C.b dX1_lambda_common_6_1 rfl (lv_at hl 3 rfl) ?_
  refine lv_iload_n C.x C.b dX1_lambda_common_6_2 rfl (lv_at hl 1 rfl) ?_
  refine cx_callV (y := yX1_applies) (bytes := cX1_applies) (maxL := 3) (r := some o) (f := fun a_3 => m_X1_applies a_3 x3 x1 σ) 0 (fun v => some (.int v)) [.int x3, .int x1] C hx hw hR hI hl.1 h (by decide) rfl (fun aa uu ee => k_X1_applies l hl0 g A aa x3 x1 σ uu ee) (cwV 2 C.t (lw_V q1818 q1765 q1766 q126 q1767) rfl rfl rfl (by decide +kernel) ⟨Nat.le_trans (Nat.le_of_ble_eq_true rfl) hR.f, Nat.le_trans (Nat.le_of_ble_eq_true rfl) hR.lo⟩) rfl rfl (Nat.le_of_ble_eq_true rfl) dX1_lambda_common_6_3 (fun v_1 σ_2 H locs h hI => ?_)
  refine lv_if_eq (tgt := 22) C.x C.b dX1_lambda_common_6_6 (by decide) (fun c_4 => ?_) (fun c_4 => ?_)
  · have h := ip c_4 h
    refine lv_iconst (v := 0) C.x C.b dX1_lambda_common_6_22 (by decide) ?_
    exact uq_l h (fun y h => cw_iret C hI h dX1_lambda_common_6_23)
  · have h := iN c_4 h
    refine r_aload_n (x := some o) C.x C.b dX1_lambda_common_6_9 rfl (lv_at hl 0 rfl) ?_
    refine lv_iload_n C.x C.b dX1_lambda_common_6_10 rfl (lv_at hl 3 rfl) ?_
    refine lv_iload_n C.x C.b dX1_lambda_common_6_11 rfl (lv_at hl 2 rfl) ?_
    refine cx_callV (y := yX1_applies) (bytes := cX1_applies) (maxL := 3) (r := some o) (f := fun a_7 => m_X1_applies a_7 x3 x2 σ_2) 0 (fun v => some (.int v)) [.int x3, .int x2] C hx hw hR hI hl.1 h (by decide) rfl (fun aa uu ee => k_X1_applies l hl0 g A aa x3 x2 σ_2 uu ee) (cwV 2 C.t (lw_V q1818 q1765 q1766 q126 q1767) rfl rfl rfl (by decide +kernel) ⟨Nat.le_trans (Nat.le_of_ble_eq_true rfl) hR.f, Nat.le_trans (Nat.le_of_ble_eq_true rfl) hR.lo⟩) rfl rfl (Nat.le_of_ble_eq_true rfl) dX1_lambda_common_6_12 (fun v_5 σ_6 H locs h hI => ?_)
    refine lv_if_eq (tgt := 22) C.x C.b dX1_lambda_common_6_15 (by decide) (fun c_8 => ?_) (fun c_8 => ?_)
    · have h := ip c_8 h
      refine lv_iconst (v := 0) C.x C.b dX1_lambda_common_6_22 (by decide) ?_
      exact uq_l h (fun y h => cw_iret C hI h dX1_lambda_common_6_23)
    · have h := iN c_8 h
      refine lv_iconst (v := 1) C.x C.b dX1_lambda_common_6_18 (by decide) ?_
      refine lv_goto (tgt := 23) C.x C.b dX1_lambda_common_6_19 (by decide) ?_
      exact uq_l h (fun y h => cw_iret C hI h dX1_lambda_common_6_23)

theorem k_X1_lambda_dearest_11 (l : Launch) (g : cG) (A : Nat → Prop) (o : Nat) (x1 : Int32) (σ : cS) (v : Int32) (σ1 : cS) (h : m_X1_lambda_dearest_11 o x1 σ = some (v, σ1)) : Met l yX1_lambda_dearest_11 (ws_ yX1_lambda_dearest_11 cX1_lambda_dearest_11 2 (Option.some Jvm.ClassFile.FieldType.int)) ({ frames := 262, cells := σ.2 3 - σ.2 0, slots := σ.2 4 - σ.2 1, locals := 6543 }) (CPc g A [.ref o, .int x1] σ) (CQ g A (some (.int v)) σ1) (σ.2 3 - σ.2 0) (σ.2 4 - σ.2 1) A := by
  refine Met.ofW (cc := cX1_lambda_dearest_11) (maxL := 2) (ret := (Option.some Jvm.ClassFile.FieldType.int)) (by decide) rfl ?_
  intro p e s m args below meth c s₁ B hml hv
  obtain ⟨rfl, hw, hσ⟩ := hv
  have hts := atoms_spec (ws := (ws_ yX1_lambda_dearest_11 cX1_lambda_dearest_11 2 (Option.some Jvm.ClassFile.FieldType.int))) B.pre
  have C : CX p m meth c s ([.ref o, .int x1] : List Value).toArray cX1_lambda_dearest_11 2 (Option.some Jvm.ClassFile.FieldType.int) RX1 := ⟨⟨B.exec, B.bytes, hml, findClass_of_methodNamed B.named, fun w h => hts w (List.mem_cons_of_mem _ h)⟩, B.returns, B.notSynchronized⟩
  have e3 : σ.2 3 - σ.2 0 = g.2.2.1 3 - s.heap.size := by rw [hσ.1, hσ.2.2.2.1 3 (by decide)]
  have e4 : σ.2 4 - σ.2 1 = g.2.2.1 4 - hsl s.heap := by rw [hσ.2.1, hσ.2.2.2.1 4 (by decide)]
  have hR : RM g s (headSpec (ws_ yX1_lambda_dearest_11 cX1_lambda_dearest_11 2 (Option.some Jvm.ClassFile.FieldType.int)) ({ frames := 262, cells := σ.2 3 - σ.2 0, slots := σ.2 4 - σ.2 1, locals := 6543 })).room (262) (6543) := ⟨⟨Nat.le_refl _, Nat.le_refl _⟩, Nat.le_of_eq e3.symm, Nat.le_of_eq e4.symm⟩
  generalize (headSpec (ws_ yX1_lambda_dearest_11 cX1_lambda_dearest_11 2 (Option.some Jvm.ClassFile.FieldType.int)) ({ frames := 262, cells := σ.2 3 - σ.2 0, slots := σ.2 4 - σ.2 1, locals := 6543 })).room = R at hR ⊢
  rw [e3, e4]
  have hI : CI g A s σ s.heap [] := ⟨hσ, va_S.rf, Nat.le_refl _⟩
  have hl := lv_entry ([.ref o, .int x1]) (n := 2) (Nat.le_of_ble_eq_true rfl)
  rw [lg_entry_eq]
  generalize (lg_sl ([.ref o, .int x1]) ++ List.replicate (2 - (lg_sl ([.ref o, .int x1])).length) Slot.unset).toArray = ls at hl ⊢
  have hl : lv_has ls 2 [(0, .ref o), (1, .int x1)] := hl
  obtain ⟨z, hz⟩ : ∃ z, z = (v, σ1) := ⟨_, rfl⟩
  rw [← hz] at h
  rw [show v = z.1 by rw [hz], show σ1 = z.2 by rw [hz]]
  clear hz v σ1
  refine W.narrow ?_
  unfold m_X1_lambda_dearest_11 at h
  refine r_aload_n (x := some o) C.x C.b dX1_lambda_dearest_11_0 rfl (lv_at hl 0 rfl) ?_
  refine cw_gR (r := some o) 0 0 C hw hI h (by decide) rfl in_X1 (by decide) (C.t _ q1172) (fun _ h9 => h9) dX1_lambda_dearest_11_1 (fun v_1 h => ?_)
  refine lv_iload_n C.x C.b dX1_lambda_dearest_11_4 rfl (lv_at hl 1 rfl) ?_
  refine cw_callV (y := yX4_duties) (bytes := cX4_duties) (maxL := 4) (r := v_1) (f := fun a_4 => m_X4_duties a_4 x1 σ) 1 (fun v => some (.int v)) [.int x1] C hw hR hI hl.1 h (by decide) rfl (fun aa vv ss ee => k_X4_duties l g A aa x1 σ vv ss ee) (cwV 1 C.t (lw_V q1413 q1414 q1415 q150 q1416) rfl rfl rfl (by decide +kernel) ⟨Nat.le_trans (Nat.le_of_ble_eq_true rfl) hR.f, Nat.le_trans (Nat.le_of_ble_eq_true rfl) hR.lo⟩) rfl rfl (Nat.le_of_ble_eq_true rfl) dX1_lambda_dearest_11_5 (fun v_2 σ_3 H locs h hI => ?_)
  exact cw_iret C hI h dX1_lambda_dearest_11_8

theorem k_X1_lambda_heir_0 (l : Launch) (g : cG) (A : Nat → Prop) (o : Nat) (x1 : Int32) (x2 : Int32) (σ : cS) (v : Int32) (σ1 : cS) (h : m_X1_lambda_heir_0 o x1 x2 σ = some (v, σ1)) : Met l yX1_lambda_heir_0 (ws_ yX1_lambda_heir_0 cX1_lambda_heir_0 3 (Option.some Jvm.ClassFile.FieldType.int)) ({ frames := 260, cells := σ.2 3 - σ.2 0, slots := σ.2 4 - σ.2 1, locals := 6497 }) (CPc g A [.ref o, .int x1, .int x2] σ) (CQ g A (some (.int v)) σ1) (σ.2 3 - σ.2 0) (σ.2 4 - σ.2 1) A := by
  refine Met.ofW (cc := cX1_lambda_heir_0) (maxL := 3) (ret := (Option.some Jvm.ClassFile.FieldType.int)) (by decide) rfl ?_
  intro p e s m args below meth c s₁ B hml hv
  obtain ⟨rfl, hw, hσ⟩ := hv
  have hts := atoms_spec (ws := (ws_ yX1_lambda_heir_0 cX1_lambda_heir_0 3 (Option.some Jvm.ClassFile.FieldType.int))) B.pre
  have C : CX p m meth c s ([.ref o, .int x1, .int x2] : List Value).toArray cX1_lambda_heir_0 3 (Option.some Jvm.ClassFile.FieldType.int) RX1 := ⟨⟨B.exec, B.bytes, hml, findClass_of_methodNamed B.named, fun w h => hts w (List.mem_cons_of_mem _ h)⟩, B.returns, B.notSynchronized⟩
  have e3 : σ.2 3 - σ.2 0 = g.2.2.1 3 - s.heap.size := by rw [hσ.1, hσ.2.2.2.1 3 (by decide)]
  have e4 : σ.2 4 - σ.2 1 = g.2.2.1 4 - hsl s.heap := by rw [hσ.2.1, hσ.2.2.2.1 4 (by decide)]
  have hR : RM g s (headSpec (ws_ yX1_lambda_heir_0 cX1_lambda_heir_0 3 (Option.some Jvm.ClassFile.FieldType.int)) ({ frames := 260, cells := σ.2 3 - σ.2 0, slots := σ.2 4 - σ.2 1, locals := 6497 })).room (260) (6497) := ⟨⟨Nat.le_refl _, Nat.le_refl _⟩, Nat.le_of_eq e3.symm, Nat.le_of_eq e4.symm⟩
  generalize (headSpec (ws_ yX1_lambda_heir_0 cX1_lambda_heir_0 3 (Option.some Jvm.ClassFile.FieldType.int)) ({ frames := 260, cells := σ.2 3 - σ.2 0, slots := σ.2 4 - σ.2 1, locals := 6497 })).room = R at hR ⊢
  rw [e3, e4]
  have hI : CI g A s σ s.heap [] := ⟨hσ, va_S.rf, Nat.le_refl _⟩
  have hl := lv_entry ([.ref o, .int x1, .int x2]) (n := 3) (Nat.le_of_ble_eq_true rfl)
  rw [lg_entry_eq]
  generalize (lg_sl ([.ref o, .int x1, .int x2]) ++ List.replicate (3 - (lg_sl ([.ref o, .int x1, .int x2])).length) Slot.unset).toArray = ls at hl ⊢
  have hl : lv_has ls 3 [(0, .ref o), (1, .int x1), (2, .int x2)] := hl
  obtain ⟨z, hz⟩ : ∃ z, z = (v, σ1) := ⟨_, rfl⟩
  rw [← hz] at h
  rw [show v = z.1 by rw [hz], show σ1 = z.2 by rw [hz]]
  clear hz v σ1
  refine W.narrow ?_
  unfold m_X1_lambda_heir_0 at h
  refine r_aload_n (x := some o) C.x C.b dX1_lambda_heir_0_0 rfl (lv_at hl 0 rfl) ?_
  refine cw_gR (r := some o) 0 0 C hw hI h (by decide) rfl in_X1 (by decide) (C.t _ q1172) (fun _ h9 => h9) dX1_lambda_heir_0_1 (fun v_1 h => ?_)
  refine lv_iload_n C.x C.b dX1_lambda_heir_0_4 rfl (lv_at hl 2 rfl) ?_
  refine lv_iload_n C.x C.b dX1_lambda_heir_0_5 rfl (lv_at hl 1 rfl) ?_
  refine cw_callV (y := yX4_gets) (bytes := cX4_gets) (maxL := 7) (r := v_1) (f := fun a_4 => m_X4_gets a_4 x2 x1 σ) 1 (fun v => some (.int v)) [.int x2, .int x1] C hw hR hI hl.1 h (by decide) rfl (fun aa vv ss ee => k_X4_gets l g A aa x2 x1 σ vv ss ee) (cwV 2 C.t (lw_V q1441 q1422 q1423 q150 q1424) rfl rfl rfl (by decide +kernel) ⟨Nat.le_trans (Nat.le_of_ble_eq_true rfl) hR.f, Nat.le_trans (Nat.le_of_ble_eq_true rfl) hR.lo⟩) rfl rfl (Nat.le_of_ble_eq_true rfl) dX1_lambda_heir_0_6 (fun v_2 σ_3 H locs h hI => ?_)
  exact cw_iret C hI h dX1_lambda_heir_0_9

theorem k_X1_lambda_heir_1 (l : Launch) (g : cG) (A : Nat → Prop) (o : Nat) (x1 : Int32) (x2 : Int32) (σ : cS) (v : Int32) (σ1 : cS) (h : m_X1_lambda_heir_1 o x1 x2 σ = some (v, σ1)) : Met l yX1_lambda_heir_1 (ws_ yX1_lambda_heir_1 cX1_lambda_heir_1 3 (Option.some Jvm.ClassFile.FieldType.int)) ({ frames := 260, cells := σ.2 3 - σ.2 0, slots := σ.2 4 - σ.2 1, locals := 6497 }) (CPc g A [.ref o, .int x1, .int x2] σ) (CQ g A (some (.int v)) σ1) (σ.2 3 - σ.2 0) (σ.2 4 - σ.2 1) A := by
  refine Met.ofW (cc := cX1_lambda_heir_1) (maxL := 3) (ret := (Option.some Jvm.ClassFile.FieldType.int)) (by decide) rfl ?_
  intro p e s m args below meth c s₁ B hml hv
  obtain ⟨rfl, hw, hσ⟩ := hv
  have hts := atoms_spec (ws := (ws_ yX1_lambda_heir_1 cX1_lambda_heir_1 3 (Option.some Jvm.ClassFile.FieldType.int))) B.pre
  have C : CX p m meth c s ([.ref o, .int x1, .int x2] : List Value).toArray cX1_lambda_heir_1 3 (Option.some Jvm.ClassFile.FieldType.int) RX1 := ⟨⟨B.exec, B.bytes, hml, findClass_of_methodNamed B.named, fun w h => hts w (List.mem_cons_of_mem _ h)⟩, B.returns, B.notSynchronized⟩
  have e3 : σ.2 3 - σ.2 0 = g.2.2.1 3 - s.heap.size := by rw [hσ.1, hσ.2.2.2.1 3 (by decide)]
  have e4 : σ.2 4 - σ.2 1 = g.2.2.1 4 - hsl s.heap := by rw [hσ.2.1, hσ.2.2.2.1 4 (by decide)]
  have hR : RM g s (headSpec (ws_ yX1_lambda_heir_1 cX1_lambda_heir_1 3 (Option.some Jvm.ClassFile.FieldType.int)) ({ frames := 260, cells := σ.2 3 - σ.2 0, slots := σ.2 4 - σ.2 1, locals := 6497 })).room (260) (6497) := ⟨⟨Nat.le_refl _, Nat.le_refl _⟩, Nat.le_of_eq e3.symm, Nat.le_of_eq e4.symm⟩
  generalize (headSpec (ws_ yX1_lambda_heir_1 cX1_lambda_heir_1 3 (Option.some Jvm.ClassFile.FieldType.int)) ({ frames := 260, cells := σ.2 3 - σ.2 0, slots := σ.2 4 - σ.2 1, locals := 6497 })).room = R at hR ⊢
  rw [e3, e4]
  have hI : CI g A s σ s.heap [] := ⟨hσ, va_S.rf, Nat.le_refl _⟩
  have hl := lv_entry ([.ref o, .int x1, .int x2]) (n := 3) (Nat.le_of_ble_eq_true rfl)
  rw [lg_entry_eq]
  generalize (lg_sl ([.ref o, .int x1, .int x2]) ++ List.replicate (3 - (lg_sl ([.ref o, .int x1, .int x2])).length) Slot.unset).toArray = ls at hl ⊢
  have hl : lv_has ls 3 [(0, .ref o), (1, .int x1), (2, .int x2)] := hl
  obtain ⟨z, hz⟩ : ∃ z, z = (v, σ1) := ⟨_, rfl⟩
  rw [← hz] at h
  rw [show v = z.1 by rw [hz], show σ1 = z.2 by rw [hz]]
  clear hz v σ1
  refine W.narrow ?_
  unfold m_X1_lambda_heir_1 at h
  refine r_aload_n (x := some o) C.x C.b dX1_lambda_heir_1_0 rfl (lv_at hl 0 rfl) ?_
  refine cw_gR (r := some o) 0 0 C hw hI h (by decide) rfl in_X1 (by decide) (C.t _ q1172) (fun _ h9 => h9) dX1_lambda_heir_1_1 (fun v_1 h => ?_)
  refine lv_iload_n C.x C.b dX1_lambda_heir_1_4 rfl (lv_at hl 2 rfl) ?_
  refine lv_iload_n C.x C.b dX1_lambda_heir_1_5 rfl (lv_at hl 1 rfl) ?_
  refine cw_callV (y := yX4_gets) (bytes := cX4_gets) (maxL := 7) (r := v_1) (f := fun a_4 => m_X4_gets a_4 x2 x1 σ) 1 (fun v => some (.int v)) [.int x2, .int x1] C hw hR hI hl.1 h (by decide) rfl (fun aa vv ss ee => k_X4_gets l g A aa x2 x1 σ vv ss ee) (cwV 2 C.t (lw_V q1441 q1422 q1423 q150 q1424) rfl rfl rfl (by decide +kernel) ⟨Nat.le_trans (Nat.le_of_ble_eq_true rfl) hR.f, Nat.le_trans (Nat.le_of_ble_eq_true rfl) hR.lo⟩) rfl rfl (Nat.le_of_ble_eq_true rfl) dX1_lambda_heir_1_6 (fun v_2 σ_3 H locs h hI => ?_)
  exact cw_iret C hI h dX1_lambda_heir_1_9

theorem k_X1_lambda_isWider_5 (l : Launch) (hl0 : l.stackTraces = false) (g : cG) (A : Nat → Prop) (o : Nat) (x1 : Int32) (x2 : Int32) (x3 : Int32) (σ : cS) (z : (cX (Int32)) × cS) (h : m_X1_lambda_isWider_5 o x1 x2 x3 σ = some z) : MetX l yX1_lambda_isWider_5 (ws_ yX1_lambda_isWider_5 cX1_lambda_isWider_5 4 (Option.some Jvm.ClassFile.FieldType.int)) ({ frames := 260, cells := σ.2 3 - σ.2 0, slots := σ.2 4 - σ.2 1, locals := 6493 }) g A [.ref o, .int x1, .int x2, .int x3] σ (fun v => some (.int v)) z (σ.2 3 - σ.2 0) (σ.2 4 - σ.2 1) := by
  refine metx_of (cc := cX1_lambda_isWider_5) (maxL := 4) (ret := (Option.some Jvm.ClassFile.FieldType.int)) (by decide) rfl ?_
  intro p e s m args below meth c s₁ B hml hx hv
  obtain ⟨rfl, hw, hσ⟩ := hv
  have hts := atoms_spec (ws := (ws_ yX1_lambda_isWider_5 cX1_lambda_isWider_5 4 (Option.some Jvm.ClassFile.FieldType.int))) B.pre
  have C : CX p m meth c s ([.ref o, .int x1, .int x2, .int x3] : List Value).toArray cX1_lambda_isWider_5 4 (Option.some Jvm.ClassFile.FieldType.int) RX1 := ⟨⟨B.exec, B.bytes, hml, findClass_of_methodNamed B.named, fun w h => hts w (List.mem_cons_of_mem _ h)⟩, B.returns, B.notSynchronized⟩
  have e3 : σ.2 3 - σ.2 0 = g.2.2.1 3 - s.heap.size := by rw [hσ.1, hσ.2.2.2.1 3 (by decide)]
  have e4 : σ.2 4 - σ.2 1 = g.2.2.1 4 - hsl s.heap := by rw [hσ.2.1, hσ.2.2.2.1 4 (by decide)]
  have hR : RM g s (headSpec (ws_ yX1_lambda_isWider_5 cX1_lambda_isWider_5 4 (Option.some Jvm.ClassFile.FieldType.int)) ({ frames := 260, cells := σ.2 3 - σ.2 0, slots := σ.2 4 - σ.2 1, locals := 6493 })).room (260) (6493) := ⟨⟨Nat.le_refl _, Nat.le_refl _⟩, Nat.le_of_eq e3.symm, Nat.le_of_eq e4.symm⟩
  generalize (headSpec (ws_ yX1_lambda_isWider_5 cX1_lambda_isWider_5 4 (Option.some Jvm.ClassFile.FieldType.int)) ({ frames := 260, cells := σ.2 3 - σ.2 0, slots := σ.2 4 - σ.2 1, locals := 6493 })).room = R at hR ⊢
  rw [e3, e4]
  have hI : CI g A s σ s.heap [] := ⟨hσ, va_S.rf, Nat.le_refl _⟩
  have hl := lv_entry ([.ref o, .int x1, .int x2, .int x3]) (n := 4) (Nat.le_of_ble_eq_true rfl)
  rw [lg_entry_eq]
  generalize (lg_sl ([.ref o, .int x1, .int x2, .int x3]) ++ List.replicate (4 - (lg_sl ([.ref o, .int x1, .int x2, .int x3])).length) Slot.unset).toArray = ls at hl ⊢
  have hl : lv_has ls 4 [(0, .ref o), (1, .int x1), (2, .int x2), (3, .int x3)] := hl
  refine W.narrow ?_
  unfold m_X1_lambda_isWider_5 at h
  refine r_aload_n (x := some o) C.x C.b dX1_lambda_isWider_5_0 rfl (lv_at hl 0 rfl) ?_
  refine lv_iload_n C.x C.b dX1_lambda_isWider_5_1 rfl (lv_at hl 3 rfl) ?_
  refine lv_iload_n C.x C.b dX1_lambda_isWider_5_2 rfl (lv_at hl 1 rfl) ?_
  refine cx_callV (y := yX1_applies) (bytes := cX1_applies) (maxL := 3) (r := some o) (f := fun a_3 => m_X1_applies a_3 x3 x1 σ) 0 (fun v => some (.int v)) [.int x3, .int x1] C hx hw hR hI hl.1 h (by decide) rfl (fun aa uu ee => k_X1_applies l hl0 g A aa x3 x1 σ uu ee) (cwV 2 C.t (lw_V q1818 q1765 q1766 q126 q1767) rfl rfl rfl (by decide +kernel) ⟨Nat.le_trans (Nat.le_of_ble_eq_true rfl) hR.f, Nat.le_trans (Nat.le_of_ble_eq_true rfl) hR.lo⟩) rfl rfl (Nat.le_of_ble_eq_true rfl) dX1_lambda_isWider_5_3 (fun v_1 σ_2 H locs h hI => ?_)
  refine lv_if_eq (tgt := 22) C.x C.b dX1_lambda_isWider_5_6 (by decide) (fun c_4 => ?_) (fun c_4 => ?_)
  · have h := ip c_4 h
    refine lv_iconst (v := 0) C.x C.b dX1_lambda_isWider_5_22 (by decide) ?_
    exact uq_l h (fun y h => cw_iret C hI h dX1_lambda_isWider_5_23)
  · have h := iN c_4 h
    refine r_aload_n (x := some o) C.x C.b dX1_lambda_isWider_5_9 rfl (lv_at hl 0 rfl) ?_
    refine lv_iload_n C.x C.b dX1_lambda_isWider_5_10 rfl (lv_at hl 3 rfl) ?_
    refine lv_iload_n C.x C.b dX1_lambda_isWider_5_11 rfl (lv_at hl 2 rfl) ?_
    refine cx_callV (y := yX1_applies) (bytes := cX1_applies) (maxL := 3) (r := some o) (f := fun a_7 => m_X1_applies a_7 x3 x2 σ_2) 0 (fun v => some (.int v)) [.int x3, .int x2] C hx hw hR hI hl.1 h (by decide) rfl (fun aa uu ee => k_X1_applies l hl0 g A aa x3 x2 σ_2 uu ee) (cwV 2 C.t (lw_V q1818 q1765 q1766 q126 q1767) rfl rfl rfl (by decide +kernel) ⟨Nat.le_trans (Nat.le_of_ble_eq_true rfl) hR.f, Nat.le_trans (Nat.le_of_ble_eq_true rfl) hR.lo⟩) rfl rfl (Nat.le_of_ble_eq_true rfl) dX1_lambda_isWider_5_12 (fun v_5 σ_6 H locs h hI => ?_)
    refine lv_if_ne (tgt := 22) C.x C.b dX1_lambda_isWider_5_15 (by decide) (fun c_8 => ?_) (fun c_8 => ?_)
    · have h := iN c_8 h
      refine lv_iconst (v := 0) C.x C.b dX1_lambda_isWider_5_22 (by decide) ?_
      exact uq_l h (fun y h => cw_iret C hI h dX1_lambda_isWider_5_23)
    · have h := ip c_8 h
      refine lv_iconst (v := 1) C.x C.b dX1_lambda_isWider_5_18 (by decide) ?_
      refine lv_goto (tgt := 23) C.x C.b dX1_lambda_isWider_5_19 (by decide) ?_
      exact uq_l h (fun y h => cw_iret C hI h dX1_lambda_isWider_5_23)

theorem k_X1_lambda_meanDuties_12 (l : Launch) (g : cG) (A : Nat → Prop) (o : Nat) (x1 : Int32) (σ : cS) (v : Int32) (σ1 : cS) (h : m_X1_lambda_meanDuties_12 o x1 σ = some (v, σ1)) : Met l yX1_lambda_meanDuties_12 (ws_ yX1_lambda_meanDuties_12 cX1_lambda_meanDuties_12 2 (Option.some Jvm.ClassFile.FieldType.int)) ({ frames := 262, cells := σ.2 3 - σ.2 0, slots := σ.2 4 - σ.2 1, locals := 6543 }) (CPc g A [.ref o, .int x1] σ) (CQ g A (some (.int v)) σ1) (σ.2 3 - σ.2 0) (σ.2 4 - σ.2 1) A := by
  refine Met.ofW (cc := cX1_lambda_meanDuties_12) (maxL := 2) (ret := (Option.some Jvm.ClassFile.FieldType.int)) (by decide) rfl ?_
  intro p e s m args below meth c s₁ B hml hv
  obtain ⟨rfl, hw, hσ⟩ := hv
  have hts := atoms_spec (ws := (ws_ yX1_lambda_meanDuties_12 cX1_lambda_meanDuties_12 2 (Option.some Jvm.ClassFile.FieldType.int))) B.pre
  have C : CX p m meth c s ([.ref o, .int x1] : List Value).toArray cX1_lambda_meanDuties_12 2 (Option.some Jvm.ClassFile.FieldType.int) RX1 := ⟨⟨B.exec, B.bytes, hml, findClass_of_methodNamed B.named, fun w h => hts w (List.mem_cons_of_mem _ h)⟩, B.returns, B.notSynchronized⟩
  have e3 : σ.2 3 - σ.2 0 = g.2.2.1 3 - s.heap.size := by rw [hσ.1, hσ.2.2.2.1 3 (by decide)]
  have e4 : σ.2 4 - σ.2 1 = g.2.2.1 4 - hsl s.heap := by rw [hσ.2.1, hσ.2.2.2.1 4 (by decide)]
  have hR : RM g s (headSpec (ws_ yX1_lambda_meanDuties_12 cX1_lambda_meanDuties_12 2 (Option.some Jvm.ClassFile.FieldType.int)) ({ frames := 262, cells := σ.2 3 - σ.2 0, slots := σ.2 4 - σ.2 1, locals := 6543 })).room (262) (6543) := ⟨⟨Nat.le_refl _, Nat.le_refl _⟩, Nat.le_of_eq e3.symm, Nat.le_of_eq e4.symm⟩
  generalize (headSpec (ws_ yX1_lambda_meanDuties_12 cX1_lambda_meanDuties_12 2 (Option.some Jvm.ClassFile.FieldType.int)) ({ frames := 262, cells := σ.2 3 - σ.2 0, slots := σ.2 4 - σ.2 1, locals := 6543 })).room = R at hR ⊢
  rw [e3, e4]
  have hI : CI g A s σ s.heap [] := ⟨hσ, va_S.rf, Nat.le_refl _⟩
  have hl := lv_entry ([.ref o, .int x1]) (n := 2) (Nat.le_of_ble_eq_true rfl)
  rw [lg_entry_eq]
  generalize (lg_sl ([.ref o, .int x1]) ++ List.replicate (2 - (lg_sl ([.ref o, .int x1])).length) Slot.unset).toArray = ls at hl ⊢
  have hl : lv_has ls 2 [(0, .ref o), (1, .int x1)] := hl
  obtain ⟨z, hz⟩ : ∃ z, z = (v, σ1) := ⟨_, rfl⟩
  rw [← hz] at h
  rw [show v = z.1 by rw [hz], show σ1 = z.2 by rw [hz]]
  clear hz v σ1
  refine W.narrow ?_
  unfold m_X1_lambda_meanDuties_12 at h
  refine r_aload_n (x := some o) C.x C.b dX1_lambda_meanDuties_12_0 rfl (lv_at hl 0 rfl) ?_
  refine cw_gR (r := some o) 0 0 C hw hI h (by decide) rfl in_X1 (by decide) (C.t _ q1172) (fun _ h9 => h9) dX1_lambda_meanDuties_12_1 (fun v_1 h => ?_)
  refine lv_iload_n C.x C.b dX1_lambda_meanDuties_12_4 rfl (lv_at hl 1 rfl) ?_
  refine cw_callV (y := yX4_duties) (bytes := cX4_duties) (maxL := 4) (r := v_1) (f := fun a_4 => m_X4_duties a_4 x1 σ) 1 (fun v => some (.int v)) [.int x1] C hw hR hI hl.1 h (by decide) rfl (fun aa vv ss ee => k_X4_duties l g A aa x1 σ vv ss ee) (cwV 1 C.t (lw_V q1413 q1414 q1415 q150 q1416) rfl rfl rfl (by decide +kernel) ⟨Nat.le_trans (Nat.le_of_ble_eq_true rfl) hR.f, Nat.le_trans (Nat.le_of_ble_eq_true rfl) hR.lo⟩) rfl rfl (Nat.le_of_ble_eq_true rfl) dX1_lambda_meanDuties_12_5 (fun v_2 σ_3 H locs h hI => ?_)
  exact cw_iret C hI h dX1_lambda_meanDuties_12_8

theorem k_X1_isGap (l : Launch) (g : cG) (A : Nat → Prop) (o : Nat) (x1 : Int32) (σ : cS) (v : Int32) (σ1 : cS) (h : m_X1_isGap o x1 σ = some (v, σ1)) : Met l yX1_isGap (ws_ yX1_isGap cX1_isGap 3 (Option.some Jvm.ClassFile.FieldType.boolean)) ({ frames := 259, cells := σ.2 3 - σ.2 0, slots := σ.2 4 - σ.2 1, locals := 6471 }) (CPc g A [.ref o, .int x1] σ) (CQ g A (some (.int v)) σ1) (σ.2 3 - σ.2 0) (σ.2 4 - σ.2 1) A := by
  refine Met.ofW (cc := cX1_isGap) (maxL := 3) (ret := (Option.some Jvm.ClassFile.FieldType.boolean)) (by decide) rfl ?_
  intro p e s m args below meth c s₁ B hml hv
  obtain ⟨rfl, hw, hσ⟩ := hv
  have hts := atoms_spec (ws := (ws_ yX1_isGap cX1_isGap 3 (Option.some Jvm.ClassFile.FieldType.boolean))) B.pre
  have C : CX p m meth c s ([.ref o, .int x1] : List Value).toArray cX1_isGap 3 (Option.some Jvm.ClassFile.FieldType.boolean) RX1 := ⟨⟨B.exec, B.bytes, hml, findClass_of_methodNamed B.named, fun w h => hts w (List.mem_cons_of_mem _ h)⟩, B.returns, B.notSynchronized⟩
  have e3 : σ.2 3 - σ.2 0 = g.2.2.1 3 - s.heap.size := by rw [hσ.1, hσ.2.2.2.1 3 (by decide)]
  have e4 : σ.2 4 - σ.2 1 = g.2.2.1 4 - hsl s.heap := by rw [hσ.2.1, hσ.2.2.2.1 4 (by decide)]
  have hR : RM g s (headSpec (ws_ yX1_isGap cX1_isGap 3 (Option.some Jvm.ClassFile.FieldType.boolean)) ({ frames := 259, cells := σ.2 3 - σ.2 0, slots := σ.2 4 - σ.2 1, locals := 6471 })).room (259) (6471) := ⟨⟨Nat.le_refl _, Nat.le_refl _⟩, Nat.le_of_eq e3.symm, Nat.le_of_eq e4.symm⟩
  generalize (headSpec (ws_ yX1_isGap cX1_isGap 3 (Option.some Jvm.ClassFile.FieldType.boolean)) ({ frames := 259, cells := σ.2 3 - σ.2 0, slots := σ.2 4 - σ.2 1, locals := 6471 })).room = R at hR ⊢
  rw [e3, e4]
  have hI : CI g A s σ s.heap [] := ⟨hσ, va_S.rf, Nat.le_refl _⟩
  have hl := lv_entry ([.ref o, .int x1]) (n := 3) (Nat.le_of_ble_eq_true rfl)
  rw [lg_entry_eq]
  generalize (lg_sl ([.ref o, .int x1]) ++ List.replicate (3 - (lg_sl ([.ref o, .int x1])).length) Slot.unset).toArray = ls at hl ⊢
  have hl : lv_has ls 3 [(0, .ref o), (1, .int x1)] := hl
  obtain ⟨z, hz⟩ : ∃ z, z = (v, σ1) := ⟨_, rfl⟩
  rw [← hz] at h
  rw [show v = z.1 by rw [hz], show σ1 = z.2 by rw [hz]]
  clear hz v σ1
  refine W.narrow ?_
  unfold m_X1_isGap at h
  refine r_aload_n (x := some o) C.x C.b dX1_isGap_0 rfl (lv_at hl 0 rfl) ?_
  refine cw_gR (r := some o) 0 0 C hw hI h (by decide) rfl in_X1 (by decide) (C.t _ q1172) (fun _ h9 => h9) dX1_isGap_1 (fun v_1 h => ?_)
  refine lv_iload_n C.x C.b dX1_isGap_4 rfl (lv_at hl 1 rfl) ?_
  refine cw_callV (y := yX4_look) (bytes := cX4_look) (maxL := 2) (r := v_1) (f := fun a_4 => m_X4_look a_4 x1 σ) 1 (fun v => some (va_rf v)) [.int x1] C hw hR hI hl.1 h (by decide) rfl (fun aa vv ss ee => k_X4_look l g A aa x1 σ vv ss ee) (cwV 1 C.t (lw_V q1383 q1223 q1224 q150 q1225) rfl rfl rfl (by decide +kernel) ⟨Nat.le_trans (Nat.le_of_ble_eq_true rfl) hR.f, Nat.le_trans (Nat.le_of_ble_eq_true rfl) hR.lo⟩) rfl rfl (Nat.le_of_ble_eq_true rfl) dX1_isGap_5 (fun v_2 σ_3 H locs h hI => ?_)
  refine cw_gI (r := v_2) 3 3 C hw hI h (by decide) rfl in_X11 (by decide) (C.t _ q1247) (fun _ h9 => h9) dX1_isGap_8 (fun v_5 h => ?_)
  refine lv_istore_n (i := 2) (lv' := [(2, .int v_5), (0, .ref o), (1, .int x1)]) C.x C.b dX1_isGap_11 rfl hl (by decide) rfl (fun ls hl => ?_)
  refine lv_iload_n C.x C.b dX1_isGap_12 rfl (lv_at hl 0 rfl) ?_
  refine lv_iconst (v := 1) C.x C.b dX1_isGap_13 (by decide) ?_
  refine lv_icmp_eq (tgt := 22) C.x C.b dX1_isGap_14 (by decide) (fun c_6 => ?_) (fun c_6 => ?_)
  · have h := ip c_6 h
    refine lv_iconst (v := 1) C.x C.b dX1_isGap_22 (by decide) ?_
    refine lv_goto (tgt := 27) C.x C.b dX1_isGap_23 (by decide) ?_
    exact cw_zret C hI h dX1_isGap_27
  · have h := iN c_6 h
    refine lv_iload_n C.x C.b dX1_isGap_17 rfl (lv_at hl 0 rfl) ?_
    refine lv_iconst (v := 2) C.x C.b dX1_isGap_18 (by decide) ?_
    refine lv_icmp_ne (tgt := 26) C.x C.b dX1_isGap_19 (by decide) (fun c_7 => ?_) (fun c_7 => ?_)
    · have h := iN c_7 h
      refine lv_iconst (v := 0) C.x C.b dX1_isGap_26 (by decide) ?_
      exact cw_zret C hI h dX1_isGap_27
    · have h := ip c_7 h
      refine lv_iconst (v := 1) C.x C.b dX1_isGap_22 (by decide) ?_
      refine lv_goto (tgt := 27) C.x C.b dX1_isGap_23 (by decide) ?_
      exact cw_zret C hI h dX1_isGap_27

theorem k_X1_lambda_patch_10 (l : Launch) (g : cG) (A : Nat → Prop) (o : Nat) (x1 : Option Nat) (x2 : Int32) (σ : cS) (v : Int32) (σ1 : cS) (h : m_X1_lambda_patch_10 o x1 x2 σ = some (v, σ1)) : Met l yX1_lambda_patch_10 (ws_ yX1_lambda_patch_10 cX1_lambda_patch_10 3 (Option.some Jvm.ClassFile.FieldType.int)) ({ frames := 265, cells := σ.2 3 - σ.2 0, slots := σ.2 4 - σ.2 1, locals := 6621 }) (CPc g A [.ref o, va_rf x1, .int x2] σ) (CQ g A (some (.int v)) σ1) (σ.2 3 - σ.2 0) (σ.2 4 - σ.2 1) A := by
  refine Met.ofW (cc := cX1_lambda_patch_10) (maxL := 3) (ret := (Option.some Jvm.ClassFile.FieldType.int)) (by decide) rfl ?_
  intro p e s m args below meth c s₁ B hml hv
  obtain ⟨rfl, hw, hσ⟩ := hv
  have hts := atoms_spec (ws := (ws_ yX1_lambda_patch_10 cX1_lambda_patch_10 3 (Option.some Jvm.ClassFile.FieldType.int))) B.pre
  have C : CX p m meth c s ([.ref o, va_rf x1, .int x2] : List Value).toArray cX1_lambda_patch_10 3 (Option.some Jvm.ClassFile.FieldType.int) RX1 := ⟨⟨B.exec, B.bytes, hml, findClass_of_methodNamed B.named, fun w h => hts w (List.mem_cons_of_mem _ h)⟩, B.returns, B.notSynchronized⟩
  have e3 : σ.2 3 - σ.2 0 = g.2.2.1 3 - s.heap.size := by rw [hσ.1, hσ.2.2.2.1 3 (by decide)]
  have e4 : σ.2 4 - σ.2 1 = g.2.2.1 4 - hsl s.heap := by rw [hσ.2.1, hσ.2.2.2.1 4 (by decide)]
  have hR : RM g s (headSpec (ws_ yX1_lambda_patch_10 cX1_lambda_patch_10 3 (Option.some Jvm.ClassFile.FieldType.int)) ({ frames := 265, cells := σ.2 3 - σ.2 0, slots := σ.2 4 - σ.2 1, locals := 6621 })).room (265) (6621) := ⟨⟨Nat.le_refl _, Nat.le_refl _⟩, Nat.le_of_eq e3.symm, Nat.le_of_eq e4.symm⟩
  generalize (headSpec (ws_ yX1_lambda_patch_10 cX1_lambda_patch_10 3 (Option.some Jvm.ClassFile.FieldType.int)) ({ frames := 265, cells := σ.2 3 - σ.2 0, slots := σ.2 4 - σ.2 1, locals := 6621 })).room = R at hR ⊢
  rw [e3, e4]
  have hI : CI g A s σ s.heap [] := ⟨hσ, va_S.rf, Nat.le_refl _⟩
  have hlen : (lg_sl ([.ref o, va_rf x1, .int x2])).length ≤ 3 := by rcases x1 with _ | x1 <;> exact Nat.le_of_ble_eq_true rfl
  have hl := lv_entry ([.ref o, va_rf x1, .int x2]) (n := 3) hlen
  rw [lg_entry_eq]
  generalize (lg_sl ([.ref o, va_rf x1, .int x2]) ++ List.replicate (3 - (lg_sl ([.ref o, va_rf x1, .int x2])).length) Slot.unset).toArray = ls at hl ⊢
  have hl : lv_has ls 3 [(0, .ref o), (1, va_rf x1), (2, .int x2)] := by clear hI hw h hσ e3 e4 hR C hts B; rcases x1 with _ | x1 <;> exact hl
  obtain ⟨z, hz⟩ : ∃ z, z = (v, σ1) := ⟨_, rfl⟩
  rw [← hz] at h
  rw [show v = z.1 by rw [hz], show σ1 = z.2 by rw [hz]]
  clear hz v σ1
  refine W.narrow ?_
  unfold m_X1_lambda_patch_10 at h
  refine r_aload_n (x := some o) C.x C.b dX1_lambda_patch_10_0 rfl (lv_at hl 0 rfl) ?_
  refine lv_iload_n C.x C.b dX1_lambda_patch_10_1 rfl (lv_at hl 2 rfl) ?_
  refine cw_callV (y := yX1_isGap) (bytes := cX1_isGap) (maxL := 3) (r := some o) (f := fun a_3 => m_X1_isGap a_3 x2 σ) 0 (fun v => some (.int v)) [.int x2] C hw hR hI hl.1 h (by decide) rfl (fun aa vv ss ee => k_X1_isGap l g A aa x2 σ vv ss ee) (cwV 1 C.t (lw_V q1393 q1395 qs29 q126 q1396) rfl rfl rfl (by decide +kernel) ⟨Nat.le_trans (Nat.le_of_ble_eq_true rfl) hR.f, Nat.le_trans (Nat.le_of_ble_eq_true rfl) hR.lo⟩) rfl rfl (Nat.le_of_ble_eq_true rfl) dX1_lambda_patch_10_2 (fun v_1 σ_2 H locs h hI => ?_)
  refine lv_if_eq (tgt := 30) C.x C.b dX1_lambda_patch_10_5 (by decide) (fun c_4 => ?_) (fun c_4 => ?_)
  · have h := ip c_4 h
    refine lv_iconst (v := 0) C.x C.b dX1_lambda_patch_10_30 (by decide) ?_
    exact cw_iret C hI h dX1_lambda_patch_10_31
  · have h := iN c_4 h
    refine r_aload_n (x := x1) C.x C.b dX1_lambda_patch_10_8 rfl (lv_at hl 1 rfl) ?_
    refine r_aload_n (x := some o) C.x C.b dX1_lambda_patch_10_9 rfl (lv_at hl 0 rfl) ?_
    refine cw_gR (r := some o) 0 0 C hw hI h (by decide) rfl in_X1 (by decide) (C.t _ q1172) (fun _ h9 => h9) dX1_lambda_patch_10_10 (fun v_5 h => ?_)
    refine lv_iload_n C.x C.b dX1_lambda_patch_10_13 rfl (lv_at hl 2 rfl) ?_
    refine cw_callV (y := yX4_look) (bytes := cX4_look) (maxL := 2) (r := v_5) (f := fun a_8 => m_X4_look a_8 x2 σ_2) 1 (fun v => some (va_rf v)) [.int x2] C hw hR hI hl.1 h (by decide) rfl (fun aa vv ss ee => k_X4_look l g A aa x2 σ_2 vv ss ee) (cwV 1 C.t (lw_V q1383 q1223 q1224 q150 q1225) rfl rfl rfl (by decide +kernel) ⟨Nat.le_trans (Nat.le_of_ble_eq_true rfl) hR.f, Nat.le_trans (Nat.le_of_ble_eq_true rfl) hR.lo⟩) rfl rfl (Nat.le_of_ble_eq_true rfl) dX1_lambda_patch_10_14 (fun v_6 σ_7 H locs h hI => ?_)
    refine cw_gR (r := v_6) 3 0 C hw hI h (by decide) rfl in_X11 (by decide) (C.t _ q1241) (fun _ h9 => h9) dX1_lambda_patch_10_17 (fun v_9 h => ?_)
    refine cw_callV (y := yX7_holds) (bytes := cX7_holds) (maxL := 2) (r := x1) (f := fun a_12 => m_X7_holds (dv_holds DPC) a_12 v_9 σ_7) 4 (fun v => some (.int v)) [va_rf v_9] C hw hR hI hl.1 h (by decide) rfl (fun aa vv ss ee => k_X7_holds l g A (kd_holdsD l g A) aa v_9 σ_7 vv ss ee) (cwV 1 C.t (lw_V q1397 q1297 q2706 q155 q1299) rfl rfl rfl (by decide +kernel) ⟨Nat.le_trans (Nat.le_of_ble_eq_true rfl) hR.f, Nat.le_trans (Nat.le_of_ble_eq_true rfl) hR.lo⟩) rfl rfl (Nat.le_of_ble_eq_true rfl) dX1_lambda_patch_10_20 (fun v_10 σ_11 H locs h hI => ?_)
    refine lv_if_eq (tgt := 30) C.x C.b dX1_lambda_patch_10_23 (by decide) (fun c_13 => ?_) (fun c_13 => ?_)
    · have h := ip c_13 h
      refine lv_iconst (v := 0) C.x C.b dX1_lambda_patch_10_30 (by decide) ?_
      exact cw_iret C hI h dX1_lambda_patch_10_31
    · have h := iN c_13 h
      refine lv_iconst (v := 1) C.x C.b dX1_lambda_patch_10_26 (by decide) ?_
      refine lv_goto (tgt := 31) C.x C.b dX1_lambda_patch_10_27 (by decide) ?_
      exact cw_iret C hI h dX1_lambda_patch_10_31

theorem k_X1_lambda_rule_2 (l : Launch) (g : cG) (A : Nat → Prop) (o : Nat) (x1 : Int32) (x2 : Int32) (σ : cS) (v : Int32) (σ1 : cS) (h : m_X1_lambda_rule_2 o x1 x2 σ = some (v, σ1)) : Met l yX1_lambda_rule_2 (ws_ yX1_lambda_rule_2 cX1_lambda_rule_2 3 (Option.some Jvm.ClassFile.FieldType.int)) ({ frames := 259, cells := σ.2 3 - σ.2 0, slots := σ.2 4 - σ.2 1, locals := 6471 }) (CPc g A [.ref o, .int x1, .int x2] σ) (CQ g A (some (.int v)) σ1) (σ.2 3 - σ.2 0) (σ.2 4 - σ.2 1) A := by
  refine Met.ofW (cc := cX1_lambda_rule_2) (maxL := 3) (ret := (Option.some Jvm.ClassFile.FieldType.int)) (by decide) rfl ?_
  intro p e s m args below meth c s₁ B hml hv
  obtain ⟨rfl, hw, hσ⟩ := hv
  have hts := atoms_spec (ws := (ws_ yX1_lambda_rule_2 cX1_lambda_rule_2 3 (Option.some Jvm.ClassFile.FieldType.int))) B.pre
  have C : CX p m meth c s ([.ref o, .int x1, .int x2] : List Value).toArray cX1_lambda_rule_2 3 (Option.some Jvm.ClassFile.FieldType.int) RX1 := ⟨⟨B.exec, B.bytes, hml, findClass_of_methodNamed B.named, fun w h => hts w (List.mem_cons_of_mem _ h)⟩, B.returns, B.notSynchronized⟩
  have e3 : σ.2 3 - σ.2 0 = g.2.2.1 3 - s.heap.size := by rw [hσ.1, hσ.2.2.2.1 3 (by decide)]
  have e4 : σ.2 4 - σ.2 1 = g.2.2.1 4 - hsl s.heap := by rw [hσ.2.1, hσ.2.2.2.1 4 (by decide)]
  have hR : RM g s (headSpec (ws_ yX1_lambda_rule_2 cX1_lambda_rule_2 3 (Option.some Jvm.ClassFile.FieldType.int)) ({ frames := 259, cells := σ.2 3 - σ.2 0, slots := σ.2 4 - σ.2 1, locals := 6471 })).room (259) (6471) := ⟨⟨Nat.le_refl _, Nat.le_refl _⟩, Nat.le_of_eq e3.symm, Nat.le_of_eq e4.symm⟩
  generalize (headSpec (ws_ yX1_lambda_rule_2 cX1_lambda_rule_2 3 (Option.some Jvm.ClassFile.FieldType.int)) ({ frames := 259, cells := σ.2 3 - σ.2 0, slots := σ.2 4 - σ.2 1, locals := 6471 })).room = R at hR ⊢
  rw [e3, e4]
  have hI : CI g A s σ s.heap [] := ⟨hσ, va_S.rf, Nat.le_refl _⟩
  have hl := lv_entry ([.ref o, .int x1, .int x2]) (n := 3) (Nat.le_of_ble_eq_true rfl)
  rw [lg_entry_eq]
  generalize (lg_sl ([.ref o, .int x1, .int x2]) ++ List.replicate (3 - (lg_sl ([.ref o, .int x1, .int x2])).length) Slot.unset).toArray = ls at hl ⊢
  have hl : lv_has ls 3 [(0, .ref o), (1, .int x1), (2, .int x2)] := hl
  obtain ⟨z, hz⟩ : ∃ z, z = (v, σ1) := ⟨_, rfl⟩
  rw [← hz] at h
  rw [show v = z.1 by rw [hz], show σ1 = z.2 by rw [hz]]
  clear hz v σ1
  refine W.narrow ?_
  unfold m_X1_lambda_rule_2 at h
  refine r_aload_n (x := some o) C.x C.b dX1_lambda_rule_2_0 rfl (lv_at hl 0 rfl) ?_
  refine cw_gR (r := some o) 0 0 C hw hI h (by decide) rfl in_X1 (by decide) (C.t _ q1172) (fun _ h9 => h9) dX1_lambda_rule_2_1 (fun v_1 h => ?_)
  refine lv_iload_n C.x C.b dX1_lambda_rule_2_4 rfl (lv_at hl 2 rfl) ?_
  refine cw_callV (y := yX4_look) (bytes := cX4_look) (maxL := 2) (r := v_1) (f := fun a_4 => m_X4_look a_4 x2 σ) 1 (fun v => some (va_rf v)) [.int x2] C hw hR hI hl.1 h (by decide) rfl (fun aa vv ss ee => k_X4_look l g A aa x2 σ vv ss ee) (cwV 1 C.t (lw_V q1383 q1223 q1224 q150 q1225) rfl rfl rfl (by decide +kernel) ⟨Nat.le_trans (Nat.le_of_ble_eq_true rfl) hR.f, Nat.le_trans (Nat.le_of_ble_eq_true rfl) hR.lo⟩) rfl rfl (Nat.le_of_ble_eq_true rfl) dX1_lambda_rule_2_5 (fun v_2 σ_3 H locs h hI => ?_)
  refine cw_gI (r := v_2) 3 1 C hw hI h (by decide) rfl in_X11 (by decide) (C.t _ q1243) (fun _ h9 => h9) dX1_lambda_rule_2_8 (fun v_5 h => ?_)
  refine lv_iload_n C.x C.b dX1_lambda_rule_2_11 rfl (lv_at hl 1 rfl) ?_
  refine lv_ishr C.x C.b dX1_lambda_rule_2_12 ?_
  refine lv_iconst (v := 1) C.x C.b dX1_lambda_rule_2_13 (by decide) ?_
  refine lv_iand C.x C.b dX1_lambda_rule_2_14 ?_
  exact cw_iret C hI h dX1_lambda_rule_2_15

end
