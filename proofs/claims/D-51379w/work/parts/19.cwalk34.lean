/-! THE CLASS' WALKS 34: printed by gencl.py -/
section
variable {p : Program} {l : Launch} {e : Env} {R : Room} {s : State} {m : MethodId} {args : Array Value} {below : List Frame} {meth : Method} {c : Code} {g : cG} {A : Nat → Prop}
set_option maxRecDepth 100000
theorem k_X1_values (l : Launch) (hl0 : l.stackTraces = false) (g : cG) (A : Nat → Prop) (o : Nat) (x1 : Int32) (σ : cS) (z : (cX (Int32)) × cS) (h : m_X1_values o x1 σ = some z) : MetX l yX1_values (ws_ yX1_values cX1_values 2 (Option.some Jvm.ClassFile.FieldType.int)) ({ frames := 10, cells := σ.2 3 - σ.2 0, slots := σ.2 4 - σ.2 1, locals := 142 }) g A [.ref o, .int x1] σ (fun v => some (.int v)) z (σ.2 3 - σ.2 0) (σ.2 4 - σ.2 1) := by
  refine metx_of (cc := cX1_values) (maxL := 2) (ret := (Option.some Jvm.ClassFile.FieldType.int)) (by decide) rfl ?_
  intro p e s m args below meth c s₁ B hml hx hv
  obtain ⟨rfl, hw, hσ⟩ := hv
  have hts := atoms_spec (ws := (ws_ yX1_values cX1_values 2 (Option.some Jvm.ClassFile.FieldType.int))) B.pre
  have C : CX p m meth c s ([.ref o, .int x1] : List Value).toArray cX1_values 2 (Option.some Jvm.ClassFile.FieldType.int) RX1 := ⟨⟨B.exec, B.bytes, hml, findClass_of_methodNamed B.named, fun w h => hts w (List.mem_cons_of_mem _ h)⟩, B.returns, B.notSynchronized⟩
  have e3 : σ.2 3 - σ.2 0 = g.2.2.1 3 - s.heap.size := by rw [hσ.1, hσ.2.2.2.1 3 (by decide)]
  have e4 : σ.2 4 - σ.2 1 = g.2.2.1 4 - hsl s.heap := by rw [hσ.2.1, hσ.2.2.2.1 4 (by decide)]
  have hR : RM g s (headSpec (ws_ yX1_values cX1_values 2 (Option.some Jvm.ClassFile.FieldType.int)) ({ frames := 10, cells := σ.2 3 - σ.2 0, slots := σ.2 4 - σ.2 1, locals := 142 })).room (10) (142) := ⟨⟨Nat.le_refl _, Nat.le_refl _⟩, Nat.le_of_eq e3.symm, Nat.le_of_eq e4.symm⟩
  generalize (headSpec (ws_ yX1_values cX1_values 2 (Option.some Jvm.ClassFile.FieldType.int)) ({ frames := 10, cells := σ.2 3 - σ.2 0, slots := σ.2 4 - σ.2 1, locals := 142 })).room = R at hR ⊢
  rw [e3, e4]
  have hI : CI g A s σ s.heap [] := ⟨hσ, va_S.rf, Nat.le_refl _⟩
  have hl := lv_entry ([.ref o, .int x1]) (n := 2) (Nat.le_of_ble_eq_true rfl)
  rw [lg_entry_eq]
  generalize (lg_sl ([.ref o, .int x1]) ++ List.replicate (2 - (lg_sl ([.ref o, .int x1])).length) Slot.unset).toArray = ls at hl ⊢
  have hl : lv_has ls 2 [(0, .ref o), (1, .int x1)] := hl
  refine W.narrow ?_
  unfold m_X1_values at h
  refine r_aload_n (x := some o) C.x C.b dX1_values_0 rfl (lv_at hl 0 rfl) ?_
  refine lv_iload_n C.x C.b dX1_values_1 rfl (lv_at hl 1 rfl) ?_
  refine cx_callV (y := yX1_checkFact) (bytes := cX1_checkFact) (maxL := 2) (r := some o) (f := fun a_2 => m_X1_checkFact a_2 x1 σ) 0 (fun _ => none) [.int x1] C hx hw hR hI hl.1 h (by decide) rfl (fun aa uu ee => k_X1_checkFact l hl0 g A aa x1 σ uu ee) (cwV 1 C.t (lw_V q1737 q1739 qs45 q126 q1740) rfl rfl rfl (by decide +kernel) ⟨Nat.le_trans (Nat.le_of_ble_eq_true rfl) hR.f, Nat.le_trans (Nat.le_of_ble_eq_true rfl) hR.lo⟩) rfl rfl (Nat.le_of_ble_eq_true rfl) dX1_values_2 (fun _ σ_1 H locs h hI => ?_)
  refine r_aload_n (x := some o) C.x C.b dX1_values_5 rfl (lv_at hl 0 rfl) ?_
  refine cw_gR (r := some o) 0 0 C hw hI h (by decide) rfl in_X1 (by decide) (C.t _ q1172) (fun _ h9 => h9) dX1_values_6 (fun v_3 h => ?_)
  refine cw_gR (r := v_3) 1 0 C hw hI h (by decide) rfl in_X4 (by decide) (C.t _ q839) (fun _ h9 => h9) dX1_values_9 (fun v_4 h => ?_)
  refine lv_iload_n C.x C.b dX1_values_12 rfl (lv_at hl 1 rfl) ?_
  refine cw_ild (r := v_4) C hw hI h dX1_values_13 (fun v_5 h => ?_)
  exact uq_l h (fun y h => cw_iret C hI h dX1_values_14)

theorem k_X1_valueIn (l : Launch) (hl0 : l.stackTraces = false) (g : cG) (A : Nat → Prop) (o : Nat) (x1 : Int32) (x2 : Int32) (σ : cS) (z : (cX (Int32)) × cS) (h : m_X1_valueIn o x1 x2 σ = some z) : MetX l yX1_valueIn (ws_ yX1_valueIn cX1_valueIn 3 (Option.some Jvm.ClassFile.FieldType.int)) ({ frames := 259, cells := σ.2 3 - σ.2 0, slots := σ.2 4 - σ.2 1, locals := 6471 }) g A [.ref o, .int x1, .int x2] σ (fun v => some (.int v)) z (σ.2 3 - σ.2 0) (σ.2 4 - σ.2 1) := by
  refine metx_of (cc := cX1_valueIn) (maxL := 3) (ret := (Option.some Jvm.ClassFile.FieldType.int)) (by decide) rfl ?_
  intro p e s m args below meth c s₁ B hml hx hv
  obtain ⟨rfl, hw, hσ⟩ := hv
  have hts := atoms_spec (ws := (ws_ yX1_valueIn cX1_valueIn 3 (Option.some Jvm.ClassFile.FieldType.int))) B.pre
  have C : CX p m meth c s ([.ref o, .int x1, .int x2] : List Value).toArray cX1_valueIn 3 (Option.some Jvm.ClassFile.FieldType.int) RX1 := ⟨⟨B.exec, B.bytes, hml, findClass_of_methodNamed B.named, fun w h => hts w (List.mem_cons_of_mem _ h)⟩, B.returns, B.notSynchronized⟩
  have e3 : σ.2 3 - σ.2 0 = g.2.2.1 3 - s.heap.size := by rw [hσ.1, hσ.2.2.2.1 3 (by decide)]
  have e4 : σ.2 4 - σ.2 1 = g.2.2.1 4 - hsl s.heap := by rw [hσ.2.1, hσ.2.2.2.1 4 (by decide)]
  have hR : RM g s (headSpec (ws_ yX1_valueIn cX1_valueIn 3 (Option.some Jvm.ClassFile.FieldType.int)) ({ frames := 259, cells := σ.2 3 - σ.2 0, slots := σ.2 4 - σ.2 1, locals := 6471 })).room (259) (6471) := ⟨⟨Nat.le_refl _, Nat.le_refl _⟩, Nat.le_of_eq e3.symm, Nat.le_of_eq e4.symm⟩
  generalize (headSpec (ws_ yX1_valueIn cX1_valueIn 3 (Option.some Jvm.ClassFile.FieldType.int)) ({ frames := 259, cells := σ.2 3 - σ.2 0, slots := σ.2 4 - σ.2 1, locals := 6471 })).room = R at hR ⊢
  rw [e3, e4]
  have hI : CI g A s σ s.heap [] := ⟨hσ, va_S.rf, Nat.le_refl _⟩
  have hl := lv_entry ([.ref o, .int x1, .int x2]) (n := 3) (Nat.le_of_ble_eq_true rfl)
  rw [lg_entry_eq]
  generalize (lg_sl ([.ref o, .int x1, .int x2]) ++ List.replicate (3 - (lg_sl ([.ref o, .int x1, .int x2])).length) Slot.unset).toArray = ls at hl ⊢
  have hl : lv_has ls 3 [(0, .ref o), (1, .int x1), (2, .int x2)] := hl
  refine W.narrow ?_
  unfold m_X1_valueIn at h
  refine r_aload_n (x := some o) C.x C.b dX1_valueIn_0 rfl (lv_at hl 0 rfl) ?_
  refine lv_iload_n C.x C.b dX1_valueIn_1 rfl (lv_at hl 1 rfl) ?_
  refine cx_callV (y := yX1_checkCase) (bytes := cX1_checkCase) (maxL := 2) (r := some o) (f := fun a_2 => m_X1_checkCase a_2 x1 σ) 0 (fun _ => none) [.int x1] C hx hw hR hI hl.1 h (by decide) rfl (fun aa uu ee => k_X1_checkCase l hl0 g A aa x1 σ uu ee) (cwV 1 C.t (lw_V q1627 q1629 qs44 q126 q1630) rfl rfl rfl (by decide +kernel) ⟨Nat.le_trans (Nat.le_of_ble_eq_true rfl) hR.f, Nat.le_trans (Nat.le_of_ble_eq_true rfl) hR.lo⟩) rfl rfl (Nat.le_of_ble_eq_true rfl) dX1_valueIn_2 (fun _ σ_1 H locs h hI => ?_)
  refine r_aload_n (x := some o) C.x C.b dX1_valueIn_5 rfl (lv_at hl 0 rfl) ?_
  refine lv_iload_n C.x C.b dX1_valueIn_6 rfl (lv_at hl 2 rfl) ?_
  refine cx_callV (y := yX1_checkFact) (bytes := cX1_checkFact) (maxL := 2) (r := some o) (f := fun a_4 => m_X1_checkFact a_4 x2 σ_1) 0 (fun _ => none) [.int x2] C hx hw hR hI hl.1 h (by decide) rfl (fun aa uu ee => k_X1_checkFact l hl0 g A aa x2 σ_1 uu ee) (cwV 1 C.t (lw_V q1737 q1739 qs45 q126 q1740) rfl rfl rfl (by decide +kernel) ⟨Nat.le_trans (Nat.le_of_ble_eq_true rfl) hR.f, Nat.le_trans (Nat.le_of_ble_eq_true rfl) hR.lo⟩) rfl rfl (Nat.le_of_ble_eq_true rfl) dX1_valueIn_7 (fun _ σ_3 H locs h hI => ?_)
  refine r_aload_n (x := some o) C.x C.b dX1_valueIn_10 rfl (lv_at hl 0 rfl) ?_
  refine cw_gR (r := some o) 0 0 C hw hI h (by decide) rfl in_X1 (by decide) (C.t _ q1172) (fun _ h9 => h9) dX1_valueIn_11 (fun v_5 h => ?_)
  refine lv_iload_n C.x C.b dX1_valueIn_14 rfl (lv_at hl 1 rfl) ?_
  refine cw_callV (y := yX4_look) (bytes := cX4_look) (maxL := 2) (r := v_5) (f := fun a_8 => m_X4_look a_8 x1 σ_3) 1 (fun v => some (va_rf v)) [.int x1] C hw hR hI hl.1 h (by decide) rfl (fun aa vv ss ee => k_X4_look l g A aa x1 σ_3 vv ss ee) (cwV 1 C.t (lw_V q1383 q1223 q1224 q150 q1225) rfl rfl rfl (by decide +kernel) ⟨Nat.le_trans (Nat.le_of_ble_eq_true rfl) hR.f, Nat.le_trans (Nat.le_of_ble_eq_true rfl) hR.lo⟩) rfl rfl (Nat.le_of_ble_eq_true rfl) dX1_valueIn_15 (fun v_6 σ_7 H locs h hI => ?_)
  refine cw_gR (r := v_6) 3 0 C hw hI h (by decide) rfl in_X11 (by decide) (C.t _ q1241) (fun _ h9 => h9) dX1_valueIn_18 (fun v_9 h => ?_)
  refine lv_iload_n C.x C.b dX1_valueIn_21 rfl (lv_at hl 2 rfl) ?_
  refine cw_ild (r := v_9) C hw hI h dX1_valueIn_22 (fun v_10 h => ?_)
  exact uq_l h (fun y h => cw_iret C hI h dX1_valueIn_23)

theorem k_X1_applying (l : Launch) (hl0 : l.stackTraces = false) (g : cG) (A : Nat → Prop) (o : Nat) (x1 : Int32) (σ : cS) (z : (cX (Int32)) × cS) (h : m_X1_applying o x1 σ = some z) : MetX l yX1_applying (ws_ yX1_applying cX1_applying 2 (Option.some Jvm.ClassFile.FieldType.int)) ({ frames := 259, cells := σ.2 3 - σ.2 0, slots := σ.2 4 - σ.2 1, locals := 6471 }) g A [.ref o, .int x1] σ (fun v => some (.int v)) z (σ.2 3 - σ.2 0) (σ.2 4 - σ.2 1) := by
  refine metx_of (cc := cX1_applying) (maxL := 2) (ret := (Option.some Jvm.ClassFile.FieldType.int)) (by decide) rfl ?_
  intro p e s m args below meth c s₁ B hml hx hv
  obtain ⟨rfl, hw, hσ⟩ := hv
  have hts := atoms_spec (ws := (ws_ yX1_applying cX1_applying 2 (Option.some Jvm.ClassFile.FieldType.int))) B.pre
  have C : CX p m meth c s ([.ref o, .int x1] : List Value).toArray cX1_applying 2 (Option.some Jvm.ClassFile.FieldType.int) RX1 := ⟨⟨B.exec, B.bytes, hml, findClass_of_methodNamed B.named, fun w h => hts w (List.mem_cons_of_mem _ h)⟩, B.returns, B.notSynchronized⟩
  have e3 : σ.2 3 - σ.2 0 = g.2.2.1 3 - s.heap.size := by rw [hσ.1, hσ.2.2.2.1 3 (by decide)]
  have e4 : σ.2 4 - σ.2 1 = g.2.2.1 4 - hsl s.heap := by rw [hσ.2.1, hσ.2.2.2.1 4 (by decide)]
  have hR : RM g s (headSpec (ws_ yX1_applying cX1_applying 2 (Option.some Jvm.ClassFile.FieldType.int)) ({ frames := 259, cells := σ.2 3 - σ.2 0, slots := σ.2 4 - σ.2 1, locals := 6471 })).room (259) (6471) := ⟨⟨Nat.le_refl _, Nat.le_refl _⟩, Nat.le_of_eq e3.symm, Nat.le_of_eq e4.symm⟩
  generalize (headSpec (ws_ yX1_applying cX1_applying 2 (Option.some Jvm.ClassFile.FieldType.int)) ({ frames := 259, cells := σ.2 3 - σ.2 0, slots := σ.2 4 - σ.2 1, locals := 6471 })).room = R at hR ⊢
  rw [e3, e4]
  have hI : CI g A s σ s.heap [] := ⟨hσ, va_S.rf, Nat.le_refl _⟩
  have hl := lv_entry ([.ref o, .int x1]) (n := 2) (Nat.le_of_ble_eq_true rfl)
  rw [lg_entry_eq]
  generalize (lg_sl ([.ref o, .int x1]) ++ List.replicate (2 - (lg_sl ([.ref o, .int x1])).length) Slot.unset).toArray = ls at hl ⊢
  have hl : lv_has ls 2 [(0, .ref o), (1, .int x1)] := hl
  refine W.narrow ?_
  unfold m_X1_applying at h
  refine r_aload_n (x := some o) C.x C.b dX1_applying_0 rfl (lv_at hl 0 rfl) ?_
  refine lv_iload_n C.x C.b dX1_applying_1 rfl (lv_at hl 1 rfl) ?_
  refine cx_callV (y := yX1_checkCase) (bytes := cX1_checkCase) (maxL := 2) (r := some o) (f := fun a_2 => m_X1_checkCase a_2 x1 σ) 0 (fun _ => none) [.int x1] C hx hw hR hI hl.1 h (by decide) rfl (fun aa uu ee => k_X1_checkCase l hl0 g A aa x1 σ uu ee) (cwV 1 C.t (lw_V q1627 q1629 qs44 q126 q1630) rfl rfl rfl (by decide +kernel) ⟨Nat.le_trans (Nat.le_of_ble_eq_true rfl) hR.f, Nat.le_trans (Nat.le_of_ble_eq_true rfl) hR.lo⟩) rfl rfl (Nat.le_of_ble_eq_true rfl) dX1_applying_2 (fun _ σ_1 H locs h hI => ?_)
  refine r_aload_n (x := some o) C.x C.b dX1_applying_5 rfl (lv_at hl 0 rfl) ?_
  refine cw_gR (r := some o) 0 0 C hw hI h (by decide) rfl in_X1 (by decide) (C.t _ q1172) (fun _ h9 => h9) dX1_applying_6 (fun v_3 h => ?_)
  refine lv_iload_n C.x C.b dX1_applying_9 rfl (lv_at hl 1 rfl) ?_
  refine cw_callV (y := yX4_look) (bytes := cX4_look) (maxL := 2) (r := v_3) (f := fun a_6 => m_X4_look a_6 x1 σ_1) 1 (fun v => some (va_rf v)) [.int x1] C hw hR hI hl.1 h (by decide) rfl (fun aa vv ss ee => k_X4_look l g A aa x1 σ_1 vv ss ee) (cwV 1 C.t (lw_V q1383 q1223 q1224 q150 q1225) rfl rfl rfl (by decide +kernel) ⟨Nat.le_trans (Nat.le_of_ble_eq_true rfl) hR.f, Nat.le_trans (Nat.le_of_ble_eq_true rfl) hR.lo⟩) rfl rfl (Nat.le_of_ble_eq_true rfl) dX1_applying_10 (fun v_4 σ_5 H locs h hI => ?_)
  refine cw_gI (r := v_4) 3 1 C hw hI h (by decide) rfl in_X11 (by decide) (C.t _ q1243) (fun _ h9 => h9) dX1_applying_13 (fun v_7 h => ?_)
  exact uq_l h (fun y h => cw_iret C hI h dX1_applying_16)

theorem k_X1_reasonOf (l : Launch) (g : cG) (A : Nat → Prop) (x0 : Option Nat) (x1 : Int32) (σ : cS) (v : Int32) (σ1 : cS) (h : m_X1_reasonOf x0 x1 σ = some (v, σ1)) : Met l yX1_reasonOf (ws_ yX1_reasonOf cX1_reasonOf 2 (Option.some Jvm.ClassFile.FieldType.int)) ({ frames := 2, cells := σ.2 3 - σ.2 0, slots := σ.2 4 - σ.2 1, locals := 61 }) (CPc g A [va_rf x0, .int x1] σ) (CQ g A (some (.int v)) σ1) (σ.2 3 - σ.2 0) (σ.2 4 - σ.2 1) A := by
  refine Met.ofW (cc := cX1_reasonOf) (maxL := 2) (ret := (Option.some Jvm.ClassFile.FieldType.int)) (by decide) rfl ?_
  intro p e s m args below meth c s₁ B hml hv
  obtain ⟨rfl, hw, hσ⟩ := hv
  have hts := atoms_spec (ws := (ws_ yX1_reasonOf cX1_reasonOf 2 (Option.some Jvm.ClassFile.FieldType.int))) B.pre
  have C : CX p m meth c s ([va_rf x0, .int x1] : List Value).toArray cX1_reasonOf 2 (Option.some Jvm.ClassFile.FieldType.int) RX1 := ⟨⟨B.exec, B.bytes, hml, findClass_of_methodNamed B.named, fun w h => hts w (List.mem_cons_of_mem _ h)⟩, B.returns, B.notSynchronized⟩
  have e3 : σ.2 3 - σ.2 0 = g.2.2.1 3 - s.heap.size := by rw [hσ.1, hσ.2.2.2.1 3 (by decide)]
  have e4 : σ.2 4 - σ.2 1 = g.2.2.1 4 - hsl s.heap := by rw [hσ.2.1, hσ.2.2.2.1 4 (by decide)]
  have hR : RM g s (headSpec (ws_ yX1_reasonOf cX1_reasonOf 2 (Option.some Jvm.ClassFile.FieldType.int)) ({ frames := 2, cells := σ.2 3 - σ.2 0, slots := σ.2 4 - σ.2 1, locals := 61 })).room (2) (61) := ⟨⟨Nat.le_refl _, Nat.le_refl _⟩, Nat.le_of_eq e3.symm, Nat.le_of_eq e4.symm⟩
  generalize (headSpec (ws_ yX1_reasonOf cX1_reasonOf 2 (Option.some Jvm.ClassFile.FieldType.int)) ({ frames := 2, cells := σ.2 3 - σ.2 0, slots := σ.2 4 - σ.2 1, locals := 61 })).room = R at hR ⊢
  rw [e3, e4]
  have hI : CI g A s σ s.heap [] := ⟨hσ, va_S.rf, Nat.le_refl _⟩
  have hlen : (lg_sl ([va_rf x0, .int x1])).length ≤ 2 := by rcases x0 with _ | x0 <;> exact Nat.le_of_ble_eq_true rfl
  have hl := lv_entry ([va_rf x0, .int x1]) (n := 2) hlen
  rw [lg_entry_eq]
  generalize (lg_sl ([va_rf x0, .int x1]) ++ List.replicate (2 - (lg_sl ([va_rf x0, .int x1])).length) Slot.unset).toArray = ls at hl ⊢
  have hl : lv_has ls 2 [(0, va_rf x0), (1, .int x1)] := by clear hI hw h hσ e3 e4 hR C hts B; rcases x0 with _ | x0 <;> exact hl
  obtain ⟨z, hz⟩ : ∃ z, z = (v, σ1) := ⟨_, rfl⟩
  rw [← hz] at h
  rw [show v = z.1 by rw [hz], show σ1 = z.2 by rw [hz]]
  clear hz v σ1
  refine W.narrow ?_
  unfold m_X1_reasonOf at h
  refine r_aload_n (x := x0) C.x C.b dX1_reasonOf_0 rfl (lv_at hl 0 rfl) ?_
  refine cw_gI (r := x0) 3 1 C hw hI h (by decide) rfl in_X11 (by decide) (C.t _ q1243) (fun _ h9 => h9) dX1_reasonOf_1 (fun v_1 h => ?_)
  refine lv_iload_n C.x C.b dX1_reasonOf_4 rfl (lv_at hl 1 rfl) ?_
  refine lv_ishr C.x C.b dX1_reasonOf_5 ?_
  refine lv_iconst (v := 1) C.x C.b dX1_reasonOf_6 (by decide) ?_
  refine lv_iand C.x C.b dX1_reasonOf_7 ?_
  refine lv_if_ne (tgt := 13) C.x C.b dX1_reasonOf_8 (by decide) (fun c_2 => ?_) (fun c_2 => ?_)
  · have h := iN c_2 h
    refine r_aload_n (x := x0) C.x C.b dX1_reasonOf_13 rfl (lv_at hl 0 rfl) ?_
    refine lv_iload_n C.x C.b dX1_reasonOf_14 rfl (lv_at hl 1 rfl) ?_
    refine cw_callS (y := yX1_beatenIn) (bytes := cX1_beatenIn) (maxL := 2) (fun v => some (.int v)) [va_rf x0, .int x1] C hw hR hI hl.1 h (fun vv ss ee => k_X1_beatenIn l g A x0 x1 σ vv ss ee) (va_cwS 2 C.t (lw_S q1597 q1598 q126 q1599) rfl rfl rfl (by decide +kernel) ⟨Nat.le_trans (Nat.le_of_ble_eq_true rfl) hR.f, Nat.le_trans (Nat.le_of_ble_eq_true rfl) hR.lo⟩) rfl rfl (Nat.le_of_ble_eq_true rfl) dX1_reasonOf_15 (fun v_3 σ_4 H locs h hI => ?_)
    refine lv_iconst (v := 1) C.x C.b dX1_reasonOf_18 (by decide) ?_
    refine lv_icmp_ne (tgt := 24) C.x C.b dX1_reasonOf_19 (by decide) (fun c_5 => ?_) (fun c_5 => ?_)
    · have h := iN c_5 h
      refine r_aload_n (x := x0) C.x C.b dX1_reasonOf_24 rfl (lv_at hl 0 rfl) ?_
      refine cw_gI (r := x0) 3 3 C hw hI h (by decide) rfl in_X11 (by decide) (C.t _ q1247) (fun _ h9 => h9) dX1_reasonOf_25 (fun v_6 h => ?_)
      refine lv_iconst (v := 3) C.x C.b dX1_reasonOf_28 (by decide) ?_
      refine lv_icmp_ne (tgt := 36) C.x C.b dX1_reasonOf_29 (by decide) (fun c_7 => ?_) (fun c_7 => ?_)
      · have h := iN c_7 h
        refine r_aload_n (x := x0) C.x C.b dX1_reasonOf_36 rfl (lv_at hl 0 rfl) ?_
        refine cw_gI (r := x0) 3 4 C hw hI h (by decide) rfl in_X11 (by decide) (C.t _ q1250) (fun _ h9 => h9) dX1_reasonOf_37 (fun v_8 h => ?_)
        refine lv_iload_n C.x C.b dX1_reasonOf_40 rfl (lv_at hl 1 rfl) ?_
        refine lv_icmp_ne (tgt := 48) C.x C.b dX1_reasonOf_41 (by decide) (fun c_9 => ?_) (fun c_9 => ?_)
        · have h := iN c_9 h
          refine lv_iconst (v := 4) C.x C.b dX1_reasonOf_48 (by decide) ?_
          exact cw_iret C hI h dX1_reasonOf_49
        · have h := ip c_9 h
          refine lv_iconst (v := 0) C.x C.b dX1_reasonOf_44 (by decide) ?_
          refine lv_goto (tgt := 49) C.x C.b dX1_reasonOf_45 (by decide) ?_
          exact cw_iret C hI h dX1_reasonOf_49
      · have h := ip c_7 h
        refine lv_iconst (v := 3) C.x C.b dX1_reasonOf_32 (by decide) ?_
        refine lv_goto (tgt := 49) C.x C.b dX1_reasonOf_33 (by decide) ?_
        exact cw_iret C hI h dX1_reasonOf_49
    · have h := ip c_5 h
      refine lv_iconst (v := 2) C.x C.b dX1_reasonOf_22 (by decide) ?_
      exact cw_iret C hI h dX1_reasonOf_23
  · have h := ip c_2 h
    refine lv_iconst (v := 1) C.x C.b dX1_reasonOf_11 (by decide) ?_
    exact cw_iret C hI h dX1_reasonOf_12

theorem k_X1_why (l : Launch) (hl0 : l.stackTraces = false) (g : cG) (A : Nat → Prop) (o : Nat) (x1 : Int32) (x2 : Int32) (x3 : Int32) (σ : cS) (z : (cX (Int32)) × cS) (h : m_X1_why o x1 x2 x3 σ = some z) : MetX l yX1_why (ws_ yX1_why cX1_why 6 (Option.some Jvm.ClassFile.FieldType.int)) ({ frames := 259, cells := σ.2 3 - σ.2 0, slots := σ.2 4 - σ.2 1, locals := 6471 }) g A [.ref o, .int x1, .int x2, .int x3] σ (fun v => some (.int v)) z (σ.2 3 - σ.2 0) (σ.2 4 - σ.2 1) := by
  refine metx_of (cc := cX1_why) (maxL := 6) (ret := (Option.some Jvm.ClassFile.FieldType.int)) (by decide) rfl ?_
  intro p e s m args below meth c s₁ B hml hx hv
  obtain ⟨rfl, hw, hσ⟩ := hv
  have hts := atoms_spec (ws := (ws_ yX1_why cX1_why 6 (Option.some Jvm.ClassFile.FieldType.int))) B.pre
  have C : CX p m meth c s ([.ref o, .int x1, .int x2, .int x3] : List Value).toArray cX1_why 6 (Option.some Jvm.ClassFile.FieldType.int) RX1 := ⟨⟨B.exec, B.bytes, hml, findClass_of_methodNamed B.named, fun w h => hts w (List.mem_cons_of_mem _ h)⟩, B.returns, B.notSynchronized⟩
  have e3 : σ.2 3 - σ.2 0 = g.2.2.1 3 - s.heap.size := by rw [hσ.1, hσ.2.2.2.1 3 (by decide)]
  have e4 : σ.2 4 - σ.2 1 = g.2.2.1 4 - hsl s.heap := by rw [hσ.2.1, hσ.2.2.2.1 4 (by decide)]
  have hR : RM g s (headSpec (ws_ yX1_why cX1_why 6 (Option.some Jvm.ClassFile.FieldType.int)) ({ frames := 259, cells := σ.2 3 - σ.2 0, slots := σ.2 4 - σ.2 1, locals := 6471 })).room (259) (6471) := ⟨⟨Nat.le_refl _, Nat.le_refl _⟩, Nat.le_of_eq e3.symm, Nat.le_of_eq e4.symm⟩
  generalize (headSpec (ws_ yX1_why cX1_why 6 (Option.some Jvm.ClassFile.FieldType.int)) ({ frames := 259, cells := σ.2 3 - σ.2 0, slots := σ.2 4 - σ.2 1, locals := 6471 })).room = R at hR ⊢
  rw [e3, e4]
  have hI : CI g A s σ s.heap [] := ⟨hσ, va_S.rf, Nat.le_refl _⟩
  have hl := lv_entry ([.ref o, .int x1, .int x2, .int x3]) (n := 6) (Nat.le_of_ble_eq_true rfl)
  rw [lg_entry_eq]
  generalize (lg_sl ([.ref o, .int x1, .int x2, .int x3]) ++ List.replicate (6 - (lg_sl ([.ref o, .int x1, .int x2, .int x3])).length) Slot.unset).toArray = ls at hl ⊢
  have hl : lv_has ls 6 [(0, .ref o), (1, .int x1), (2, .int x2), (3, .int x3)] := hl
  refine W.narrow ?_
  unfold m_X1_why at h
  refine r_aload_n (x := some o) C.x C.b dX1_why_0 rfl (lv_at hl 0 rfl) ?_
  refine lv_iload_n C.x C.b dX1_why_1 rfl (lv_at hl 1 rfl) ?_
  refine cx_callV (y := yX1_checkCase) (bytes := cX1_checkCase) (maxL := 2) (r := some o) (f := fun a_2 => m_X1_checkCase a_2 x1 σ) 0 (fun _ => none) [.int x1] C hx hw hR hI hl.1 h (by decide) rfl (fun aa uu ee => k_X1_checkCase l hl0 g A aa x1 σ uu ee) (cwV 1 C.t (lw_V q1627 q1629 qs44 q126 q1630) rfl rfl rfl (by decide +kernel) ⟨Nat.le_trans (Nat.le_of_ble_eq_true rfl) hR.f, Nat.le_trans (Nat.le_of_ble_eq_true rfl) hR.lo⟩) rfl rfl (Nat.le_of_ble_eq_true rfl) dX1_why_2 (fun _ σ_1 H locs h hI => ?_)
  refine r_aload_n (x := some o) C.x C.b dX1_why_5 rfl (lv_at hl 0 rfl) ?_
  refine lv_iload_n C.x C.b dX1_why_6 rfl (lv_at hl 2 rfl) ?_
  refine cx_callV (y := yX1_ruleAt) (bytes := cX1_ruleAt) (maxL := 2) (r := some o) (f := fun a_5 => m_X1_ruleAt a_5 x2 σ_1) 0 (fun v => some (va_rf v)) [.int x2] C hx hw hR hI hl.1 h (by decide) rfl (fun aa uu ee => k_X1_ruleAt l hl0 g A aa x2 σ_1 uu ee) (cwV 1 C.t (lw_V q1582 q1584 qs39 q126 q1585) rfl rfl rfl (by decide +kernel) ⟨Nat.le_trans (Nat.le_of_ble_eq_true rfl) hR.f, Nat.le_trans (Nat.le_of_ble_eq_true rfl) hR.lo⟩) rfl rfl (Nat.le_of_ble_eq_true rfl) dX1_why_7 (fun v_3 σ_4 H locs h hI => ?_)
  refine lv_pop C.x C.b dX1_why_10 (cat_rf _) ?_
  refine lv_iload_n C.x C.b dX1_why_11 rfl (lv_at hl 3 rfl) ?_
  refine lv_iconst (v := 0) C.x C.b dX1_why_12 (by decide) ?_
  refine lv_iconst (v := 1) C.x C.b dX1_why_13 (by decide) ?_
  refine cx_callS (y := yX1_check) (bytes := cX1_check) (maxL := 3) (fun _ => none) [.int x3, .int 0, .int 1] C hx hw hR hI hl.1 h (fun uu ee => k_X1_check l hl0 g A x3 0 1 σ_4 uu ee) (va_cwS 3 C.t (lw_S q1537 q1538 q126 q1539) rfl rfl rfl (by decide +kernel) ⟨Nat.le_trans (Nat.le_of_ble_eq_true rfl) hR.f, Nat.le_trans (Nat.le_of_ble_eq_true rfl) hR.lo⟩) rfl rfl (Nat.le_of_ble_eq_true rfl) dX1_why_14 (fun _ σ_6 H locs h hI => ?_)
  refine r_aload_n (x := some o) C.x C.b dX1_why_17 rfl (lv_at hl 0 rfl) ?_
  refine cw_gR (r := some o) 0 0 C hw hI h (by decide) rfl in_X1 (by decide) (C.t _ q1172) (fun _ h9 => h9) dX1_why_18 (fun v_7 h => ?_)
  refine lv_iload_n C.x C.b dX1_why_21 rfl (lv_at hl 1 rfl) ?_
  refine cw_callV (y := yX4_look) (bytes := cX4_look) (maxL := 2) (r := v_7) (f := fun a_10 => m_X4_look a_10 x1 σ_6) 1 (fun v => some (va_rf v)) [.int x1] C hw hR hI hl.1 h (by decide) rfl (fun aa vv ss ee => k_X4_look l g A aa x1 σ_6 vv ss ee) (cwV 1 C.t (lw_V q1383 q1223 q1224 q150 q1225) rfl rfl rfl (by decide +kernel) ⟨Nat.le_trans (Nat.le_of_ble_eq_true rfl) hR.f, Nat.le_trans (Nat.le_of_ble_eq_true rfl) hR.lo⟩) rfl rfl (Nat.le_of_ble_eq_true rfl) dX1_why_22 (fun v_8 σ_9 H locs h hI => ?_)
  refine r_astore (i := 4) (x := v_8) (lv' := [(4, va_rf v_8), (0, .ref o), (1, .int x1), (2, .int x2), (3, .int x3)]) C.x C.b dX1_why_25 hl (by decide) (by rfl) (fun ls hl => ?_)
  refine r_aload (x := v_8) C.x C.b dX1_why_27 (lv_at hl 0 rfl) ?_
  refine lv_iload_n C.x C.b dX1_why_29 rfl (lv_at hl 3 rfl) ?_
  refine cw_callS (y := yX1_reasonOf) (bytes := cX1_reasonOf) (maxL := 2) (fun v => some (.int v)) [va_rf v_8, .int x2] C hw hR hI hl.1 h (fun vv ss ee => k_X1_reasonOf l g A v_8 x2 σ_9 vv ss ee) (va_cwS 2 C.t (lw_S q1790 q1791 q126 q1792) rfl rfl rfl (by decide +kernel) ⟨Nat.le_trans (Nat.le_of_ble_eq_true rfl) hR.f, Nat.le_trans (Nat.le_of_ble_eq_true rfl) hR.lo⟩) rfl rfl (Nat.le_of_ble_eq_true rfl) dX1_why_30 (fun v_11 σ_12 H locs h hI => ?_)
  refine lv_istore (i := 5) (lv' := [(5, .int v_11), (4, va_rf v_8), (0, .ref o), (1, .int x1), (2, .int x2), (3, .int x3)]) C.x C.b dX1_why_33 hl (by decide) (by first | (simp [List.filter, cat_rf, cat_i, cat_a, cat_n, cat_l, cat_f, cat_d]; done) | (simp [List.filter, cat_rf, cat_i, cat_a, cat_n, cat_l, cat_f, cat_d]; rfl)) (fun ls hl => ?_)
  refine lv_iload_n C.x C.b dX1_why_35 rfl (lv_at hl 5 rfl) ?_
  refine lv_if_ne (tgt := 42) C.x C.b dX1_why_36 (by decide) (fun c_13 => ?_) (fun c_13 => ?_)
  · have h := iN c_13 h
    refine lv_iload C.x C.b dX1_why_42 (lv_at hl 0 rfl) ?_
    by_cases c_14 : v_11 = 0
    · have h := ip c_14 h
      refine lv_tableIn (off := 32) (tgt := 76) C.x C.b dX1_why_44 (by rw [c_14]; decide) (by rw [c_14]; decide) (by rw [c_14]; rfl) (by decide) ?_
      refine r_aload (x := v_8) C.x C.b dX1_why_76 (lv_at hl 1 rfl) ?_
      refine cw_gI (r := v_8) 3 1 C hw hI h (by decide) rfl in_X11 (by decide) (C.t _ q1243) (fun _ h9 => h9) dX1_why_78 (fun v_15 h => ?_)
      refine cw_callS (y := yJ14_bitCount) (bytes := cJ14_bitCount) (maxL := 1) (fun v => some (.int v)) [.int v_15] C hw hR hI hl.1 h (fun vv ss ee => k_J14_bitCount l g A v_15 σ_12 vv ss ee) (va_cwS 1 C.t (lw_S q1793 q1794 q145 q1795) rfl rfl rfl (by decide +kernel) ⟨Nat.le_trans (Nat.le_of_ble_eq_true rfl) hR.f, Nat.le_trans (Nat.le_of_ble_eq_true rfl) hR.lo⟩) rfl rfl (Nat.le_of_ble_eq_true rfl) dX1_why_81 (fun v_16 σ_17 H locs h hI => ?_)
      refine lv_goto (tgt := 135) C.x C.b dX1_why_84 (by decide) ?_
      exact uq_l h (fun y h => cw_iret C hI h dX1_why_135)
    have h := iN c_14 h
    by_cases c_18 : v_11 = 1
    · have h := ip c_18 h
      refine lv_tableIn (off := 43) (tgt := 87) C.x C.b dX1_why_44 (by rw [c_18]; decide) (by rw [c_18]; decide) (by rw [c_18]; rfl) (by decide) ?_
      refine r_aload (x := v_8) C.x C.b dX1_why_87 (lv_at hl 1 rfl) ?_
      refine cw_gR (r := v_8) 3 0 C hw hI h (by decide) rfl in_X11 (by decide) (C.t _ q1241) (fun _ h9 => h9) dX1_why_89 (fun v_19 h => ?_)
      refine lv_iconst (v := 0) C.x C.b dX1_why_92 (by decide) ?_
      refine cw_ild (r := v_19) C hw hI h dX1_why_93 (fun v_20 h => ?_)
      refine lv_goto (tgt := 135) C.x C.b dX1_why_94 (by decide) ?_
      exact uq_l h (fun y h => cw_iret C hI h dX1_why_135)
    have h := iN c_18 h
    by_cases c_21 : v_11 = 2
    · have h := ip c_21 h
      refine lv_tableIn (off := 53) (tgt := 97) C.x C.b dX1_why_44 (by rw [c_21]; decide) (by rw [c_21]; decide) (by rw [c_21]; rfl) (by decide) ?_
      refine r_aload (x := v_8) C.x C.b dX1_why_97 (lv_at hl 1 rfl) ?_
      refine cw_gI (r := v_8) 3 1 C hw hI h (by decide) rfl in_X11 (by decide) (C.t _ q1243) (fun _ h9 => h9) dX1_why_99 (fun v_22 h => ?_)
      refine r_aload_n (x := some o) C.x C.b dX1_why_102 rfl (lv_at hl 2 rfl) ?_
      refine lv_iload_n C.x C.b dX1_why_103 rfl (lv_at hl 4 rfl) ?_
      refine cw_callV (y := yX1_beaters) (bytes := cX1_beaters) (maxL := 4) (r := some o) (f := fun a_25 => m_X1_beaters a_25 x2 σ_12) 0 (fun v => some (.int v)) [.int x2] C hw hR hI hl.1 h (by decide) rfl (fun aa vv ss ee => k_X1_beaters l g A aa x2 σ_12 vv ss ee) (cwV 1 C.t (lw_V q1600 q1602 qs43 q126 q1603) rfl rfl rfl (by decide +kernel) ⟨Nat.le_trans (Nat.le_of_ble_eq_true rfl) hR.f, Nat.le_trans (Nat.le_of_ble_eq_true rfl) hR.lo⟩) rfl rfl (Nat.le_of_ble_eq_true rfl) dX1_why_104 (fun v_23 σ_24 H locs h hI => ?_)
      refine lv_iand C.x C.b dX1_why_107 ?_
      refine cw_callS (y := yJ14_numberOfTrailingZeros) (bytes := cJ14_numberOfTrailingZeros) (maxL := 2) (fun v => some (.int v)) [.int (v_22 &&& v_23)] C hw hR hI hl.1 h (fun vv ss ee => k_J14_numberOfTrailingZeros l g A (v_22 &&& v_23) σ_24 vv ss ee) (va_cwS 1 C.t (lw_S q1799 q1320 q145 q1321) rfl rfl rfl (by decide +kernel) ⟨Nat.le_trans (Nat.le_of_ble_eq_true rfl) hR.f, Nat.le_trans (Nat.le_of_ble_eq_true rfl) hR.lo⟩) rfl rfl (Nat.le_of_ble_eq_true rfl) dX1_why_108 (fun v_26 σ_27 H locs h hI => ?_)
      refine lv_goto (tgt := 135) C.x C.b dX1_why_111 (by decide) ?_
      exact uq_l h (fun y h => cw_iret C hI h dX1_why_135)
    have h := iN c_21 h
    by_cases c_28 : v_11 = 3
    · have h := ip c_28 h
      refine lv_tableIn (off := 70) (tgt := 114) C.x C.b dX1_why_44 (by rw [c_28]; decide) (by rw [c_28]; decide) (by rw [c_28]; rfl) (by decide) ?_
      refine r_aload_n (x := some o) C.x C.b dX1_why_114 rfl (lv_at hl 2 rfl) ?_
      refine cw_gR (r := some o) 0 0 C hw hI h (by decide) rfl in_X1 (by decide) (C.t _ q1172) (fun _ h9 => h9) dX1_why_115 (fun v_29 h => ?_)
      refine r_aload (x := v_8) C.x C.b dX1_why_118 (lv_at hl 1 rfl) ?_
      refine cw_gI (r := v_8) 3 2 C hw hI h (by decide) rfl in_X11 (by decide) (C.t _ q1245) (fun _ h9 => h9) dX1_why_120 (fun v_30 h => ?_)
      refine lv_iload_n C.x C.b dX1_why_123 rfl (lv_at hl 4 rfl) ?_
      refine cw_callV (y := yX4_unlike) (bytes := cX4_unlike) (maxL := 4) (r := v_29) (f := fun a_33 => m_X4_unlike a_33 v_30 x2 σ_12) 1 (fun v => some (.int v)) [.int v_30, .int x2] C hw hR hI hl.1 h (by decide) rfl (fun aa vv ss ee => k_X4_unlike l g A aa v_30 x2 σ_12 vv ss ee) (cwV 2 C.t (lw_V q1800 q1324 q1325 q150 q1326) rfl rfl rfl (by decide +kernel) ⟨Nat.le_trans (Nat.le_of_ble_eq_true rfl) hR.f, Nat.le_trans (Nat.le_of_ble_eq_true rfl) hR.lo⟩) rfl rfl (Nat.le_of_ble_eq_true rfl) dX1_why_124 (fun v_31 σ_32 H locs h hI => ?_)
      refine lv_goto (tgt := 135) C.x C.b dX1_why_127 (by decide) ?_
      exact uq_l h (fun y h => cw_iret C hI h dX1_why_135)
    have h := iN c_28 h
    refine tw_tabD (tgt := 130) C.x C.b dX1_why_44 (by decide) (fun j hj => match j, hj with | 0, _ => Or.inr (lv_neT c_14 (by decide)) | 1, _ => Or.inr (lv_neT c_18 (by decide)) | 2, _ => Or.inr (lv_neT c_21 (by decide)) | 3, _ => Or.inr (lv_neT c_28 (by decide)) | j + 4, hj => absurd hj (Nat.not_lt_of_le (Nat.le_add_left _ _))) (by decide) ?_
    refine r_aload (x := v_8) C.x C.b dX1_why_130 (lv_at hl 1 rfl) ?_
    refine cw_gI (r := v_8) 3 4 C hw hI h (by decide) rfl in_X11 (by decide) (C.t _ q1250) (fun _ h9 => h9) dX1_why_132 (fun v_34 h => ?_)
    exact uq_l h (fun y h => cw_iret C hI h dX1_why_135)
  · have h := ip c_13 h
    refine lv_iload C.x C.b dX1_why_39 (lv_at hl 0 rfl) ?_
    exact uq_l h (fun y h => cw_iret C hI h dX1_why_41)

theorem w_X1_example_20 {z : (cX (Int32)) × cS} {o : Nat} (C : CX p m meth c s args cX1_example 6 (Option.some Jvm.ClassFile.FieldType.int) RX1) (hx : ∀ x ∈ c.exceptionTable.toList, False) (hl0 : l.stackTraces = false) (hw : WKc g A s s.heap) (hR : RM g s R (259) (6471))  : ∀ (n : Nat) (x1 : Int32) (x3 : Int32) (x4 : Int32) (x5 : Int32) (σ : cS) (H : Heap) (locs : List Loc) (ls : Array Slot), b_X1_example_20 o n x1 x3 x4 x5 σ = some z → CI g A s σ H locs → lv_has ls 6 [(0, .ref o), (1, .int x1), (3, .int x3), (4, .int x4), (5, .int x5)] → W p l e R s m args below meth c H locs (H.size - s.heap.size) (hsl H - hsl s.heap) (UQ g A (fun v => some (.int v)) z args s (g.2.2.1 3 - s.heap.size) (g.2.2.1 4 - hsl s.heap) below) (F0 m 20 ls []) := by
  intro n
  induction n with
  | zero =>
    intro x1 x3 x4 x5 σ H locs ls h
    cases h
  | succ n ih =>
    intro x1 x3 x4 x5 σ H locs ls h hI hl
    rw [b_X1_example_20] at h
    refine lv_iload C.x C.b dX1_example_20 (lv_at hl 4 rfl) ?_
    refine lv_iload C.x C.b dX1_example_22 (lv_at hl 3 rfl) ?_
    refine lv_icmp_ge (tgt := 63) C.x C.b dX1_example_24 (by decide) (fun c_1 => ?_) (fun c_1 => ?_)
    · have h := ip c_1 h
      refine lv_iconst (v := -1) C.x C.b dX1_example_63 (by decide) ?_
      exact uq_l h (fun y h => cw_iret C hI h dX1_example_64)
    · have h := iN c_1 h
      refine lv_iload_n C.x C.b dX1_example_27 rfl (lv_at hl 2 rfl) ?_
      refine lv_if_lt (tgt := 63) C.x C.b dX1_example_28 (by decide) (fun c_2 => ?_) (fun c_2 => ?_)
      · have h := ip c_2 h
        refine lv_iconst (v := -1) C.x C.b dX1_example_63 (by decide) ?_
        exact uq_l h (fun y h => cw_iret C hI h dX1_example_64)
      · have h := iN c_2 h
        refine r_aload_n (x := some o) C.x C.b dX1_example_31 rfl (lv_at hl 0 rfl) ?_
        refine cw_gR (r := some o) 0 0 C hw hI h (by decide) rfl in_X1 (by decide) (C.t _ q1172) (fun _ h9 => h9) dX1_example_32 (fun v_3 h => ?_)
        refine lv_iload C.x C.b dX1_example_35 (lv_at hl 4 rfl) ?_
        refine cw_callV (y := yX4_look) (bytes := cX4_look) (maxL := 2) (r := v_3) (f := fun a_6 => m_X4_look a_6 x5 σ) 1 (fun v => some (va_rf v)) [.int x5] C hw hR hI hl.1 h (by decide) rfl (fun aa vv ss ee => k_X4_look l g A aa x5 σ vv ss ee) (cwV 1 C.t (lw_V q1383 q1223 q1224 q150 q1225) rfl rfl rfl (by decide +kernel) ⟨Nat.le_trans (Nat.le_of_ble_eq_true rfl) hR.f, Nat.le_trans (Nat.le_of_ble_eq_true rfl) hR.lo⟩) rfl rfl (Nat.le_of_ble_eq_true rfl) dX1_example_37 (fun v_4 σ_5 H locs h hI => ?_)
        refine cw_gI (r := v_4) 3 3 C hw hI h (by decide) rfl in_X11 (by decide) (C.t _ q1247) (fun _ h9 => h9) dX1_example_40 (fun v_7 h => ?_)
        refine lv_iload_n C.x C.b dX1_example_43 rfl (lv_at hl 1 rfl) ?_
        refine lv_icmp_ne (tgt := 57) C.x C.b dX1_example_44 (by decide) (fun c_8 => ?_) (fun c_8 => ?_)
        · have h := iN c_8 h
          obtain ⟨x5_9, e_, h⟩ := nm_s h
          refine lv_iinc (v := x5_9) (lv' := [(5, .int x5_9), (0, .ref o), (1, .int x1), (3, .int x3), (4, .int x4)]) C.x C.b dX1_example_57 hl (k := 4) rfl e_.symm (by decide) rfl (fun ls hl => ?_)
          refine lv_goto (tgt := 20) C.x C.b dX1_example_60 (by decide) ?_
          exact ih x1 x3 x4 x5_9 _ _ _ _ h hI (lv_sub hl [1, 2, 3, 4, 0] rfl)
        · have h := ip c_8 h
          refine lv_iload_n C.x C.b dX1_example_47 rfl (lv_at hl 2 rfl) ?_
          refine lv_if_ne (tgt := 54) C.x C.b dX1_example_48 (by decide) (fun c_10 => ?_) (fun c_10 => ?_)
          · have h := iN c_10 h
            obtain ⟨x3_11, e_, h⟩ := nm_s h
            refine lv_iinc (v := x3_11) (lv' := [(3, .int x3_11), (0, .ref o), (1, .int x1), (4, .int x4), (5, .int x5)]) C.x C.b dX1_example_54 hl (k := 2) rfl e_.symm (by decide) rfl (fun ls hl => ?_)
            obtain ⟨x5_12, e_, h⟩ := nm_s h
            refine lv_iinc (v := x5_12) (lv' := [(5, .int x5_12), (3, .int x3_11), (0, .ref o), (1, .int x1), (4, .int x4)]) C.x C.b dX1_example_57 hl (k := 4) rfl e_.symm (by decide) rfl (fun ls hl => ?_)
            refine lv_goto (tgt := 20) C.x C.b dX1_example_60 (by decide) ?_
            exact ih x1 x3_11 x4 x5_12 _ _ _ _ h hI (lv_sub hl [2, 3, 1, 4, 0] rfl)
          · have h := ip c_10 h
            refine lv_iload C.x C.b dX1_example_51 (lv_at hl 4 rfl) ?_
            exact uq_l h (fun y h => cw_iret C hI h dX1_example_53)

theorem k_X1_example (l : Launch) (hl0 : l.stackTraces = false) (g : cG) (A : Nat → Prop) (o : Nat) (x1 : Int32) (x2 : Int32) (σ : cS) (z : (cX (Int32)) × cS) (h : m_X1_example o x1 x2 σ = some z) : MetX l yX1_example (ws_ yX1_example cX1_example 6 (Option.some Jvm.ClassFile.FieldType.int)) ({ frames := 259, cells := σ.2 3 - σ.2 0, slots := σ.2 4 - σ.2 1, locals := 6471 }) g A [.ref o, .int x1, .int x2] σ (fun v => some (.int v)) z (σ.2 3 - σ.2 0) (σ.2 4 - σ.2 1) := by
  refine metx_of (cc := cX1_example) (maxL := 6) (ret := (Option.some Jvm.ClassFile.FieldType.int)) (by decide) rfl ?_
  intro p e s m args below meth c s₁ B hml hx hv
  obtain ⟨rfl, hw, hσ⟩ := hv
  have hts := atoms_spec (ws := (ws_ yX1_example cX1_example 6 (Option.some Jvm.ClassFile.FieldType.int))) B.pre
  have C : CX p m meth c s ([.ref o, .int x1, .int x2] : List Value).toArray cX1_example 6 (Option.some Jvm.ClassFile.FieldType.int) RX1 := ⟨⟨B.exec, B.bytes, hml, findClass_of_methodNamed B.named, fun w h => hts w (List.mem_cons_of_mem _ h)⟩, B.returns, B.notSynchronized⟩
  have e3 : σ.2 3 - σ.2 0 = g.2.2.1 3 - s.heap.size := by rw [hσ.1, hσ.2.2.2.1 3 (by decide)]
  have e4 : σ.2 4 - σ.2 1 = g.2.2.1 4 - hsl s.heap := by rw [hσ.2.1, hσ.2.2.2.1 4 (by decide)]
  have hR : RM g s (headSpec (ws_ yX1_example cX1_example 6 (Option.some Jvm.ClassFile.FieldType.int)) ({ frames := 259, cells := σ.2 3 - σ.2 0, slots := σ.2 4 - σ.2 1, locals := 6471 })).room (259) (6471) := ⟨⟨Nat.le_refl _, Nat.le_refl _⟩, Nat.le_of_eq e3.symm, Nat.le_of_eq e4.symm⟩
  generalize (headSpec (ws_ yX1_example cX1_example 6 (Option.some Jvm.ClassFile.FieldType.int)) ({ frames := 259, cells := σ.2 3 - σ.2 0, slots := σ.2 4 - σ.2 1, locals := 6471 })).room = R at hR ⊢
  rw [e3, e4]
  have hI : CI g A s σ s.heap [] := ⟨hσ, va_S.rf, Nat.le_refl _⟩
  have hl := lv_entry ([.ref o, .int x1, .int x2]) (n := 6) (Nat.le_of_ble_eq_true rfl)
  rw [lg_entry_eq]
  generalize (lg_sl ([.ref o, .int x1, .int x2]) ++ List.replicate (6 - (lg_sl ([.ref o, .int x1, .int x2])).length) Slot.unset).toArray = ls at hl ⊢
  have hl : lv_has ls 6 [(0, .ref o), (1, .int x1), (2, .int x2)] := hl
  refine W.narrow ?_
  unfold m_X1_example at h
  refine lv_iload_n C.x C.b dX1_example_0 rfl (lv_at hl 1 rfl) ?_
  refine lv_iconst (v := 0) C.x C.b dX1_example_1 (by decide) ?_
  refine lv_iconst (v := 3) C.x C.b dX1_example_2 (by decide) ?_
  refine cx_callS (y := yX1_check) (bytes := cX1_check) (maxL := 3) (fun _ => none) [.int x1, .int 0, .int 3] C hx hw hR hI hl.1 h (fun uu ee => k_X1_check l hl0 g A x1 0 3 σ uu ee) (va_cwS 3 C.t (lw_S q1537 q1538 q126 q1539) rfl rfl rfl (by decide +kernel) ⟨Nat.le_trans (Nat.le_of_ble_eq_true rfl) hR.f, Nat.le_trans (Nat.le_of_ble_eq_true rfl) hR.lo⟩) rfl rfl (Nat.le_of_ble_eq_true rfl) dX1_example_3 (fun _ σ_1 H locs h hI => ?_)
  refine lv_iload_n C.x C.b dX1_example_6 rfl (lv_at hl 2 rfl) ?_
  refine lv_istore_n (i := 3) (lv' := [(3, .int x2), (0, .ref o), (1, .int x1), (2, .int x2)]) C.x C.b dX1_example_7 rfl hl (by decide) rfl (fun ls hl => ?_)
  refine r_aload_n (x := some o) C.x C.b dX1_example_8 rfl (lv_at hl 1 rfl) ?_
  refine cw_gR (r := some o) 0 0 C hw hI h (by decide) rfl in_X1 (by decide) (C.t _ q1172) (fun _ h9 => h9) dX1_example_9 (fun v_2 h => ?_)
  refine cw_callV (y := yX4_cases) (bytes := cX4_cases) (maxL := 3) (r := v_2) (f := fun a_5 => m_X4_cases a_5 σ_1) 1 (fun v => some (.int v)) [] C hw hR hI hl.1 h (by decide) rfl (fun aa vv ss ee => k_X4_cases l g A aa σ_1 vv ss ee) (cwV 0 C.t (lw_V q1382 q833 q834 q150 q835) rfl rfl rfl (by decide +kernel) ⟨Nat.le_trans (Nat.le_of_ble_eq_true rfl) hR.f, Nat.le_trans (Nat.le_of_ble_eq_true rfl) hR.lo⟩) rfl rfl (Nat.le_of_ble_eq_true rfl) dX1_example_12 (fun v_3 σ_4 H locs h hI => ?_)
  refine lv_istore (i := 4) (lv' := [(4, .int v_3), (3, .int x2), (0, .ref o), (1, .int x1), (2, .int x2)]) C.x C.b dX1_example_15 hl (by decide) rfl (fun ls hl => ?_)
  refine lv_iconst (v := 0) C.x C.b dX1_example_17 (by decide) ?_
  refine lv_istore (i := 5) (lv' := [(5, .int 0), (4, .int v_3), (3, .int x2), (0, .ref o), (1, .int x1), (2, .int x2)]) C.x C.b dX1_example_18 hl (by decide) rfl (fun ls hl => ?_)
  exact w_X1_example_20 C hx hl0 hw hR _ x1 x2 v_3 0 _ _ _ _ h hI (lv_sub hl [3, 4, 2, 1, 0] rfl)

theorem k_X1_isWider (l : Launch) (hl0 : l.stackTraces = false) (g : cG) (A : Nat → Prop) (o : Nat) (x1 : Int32) (x2 : Int32) (σ : cS) (z : (cX (Int32)) × cS) (h : m_X1_isWider o x1 x2 σ = some z) : MetX l yX1_isWider (ws_ yX1_isWider cX1_isWider 3 (Option.some Jvm.ClassFile.FieldType.boolean)) ({ frames := 268, cells := σ.2 3 - σ.2 0, slots := σ.2 4 - σ.2 1, locals := 6688 }) g A [.ref o, .int x1, .int x2] σ (fun v => some (.int v)) z (σ.2 3 - σ.2 0) (σ.2 4 - σ.2 1) := by
  refine metx_of (cc := cX1_isWider) (maxL := 3) (ret := (Option.some Jvm.ClassFile.FieldType.boolean)) (by decide) rfl ?_
  intro p e s m args below meth c s₁ B hml hx hv
  obtain ⟨rfl, hw, hσ⟩ := hv
  have hts := atoms_spec (ws := (ws_ yX1_isWider cX1_isWider 3 (Option.some Jvm.ClassFile.FieldType.boolean))) B.pre
  have C : CX p m meth c s ([.ref o, .int x1, .int x2] : List Value).toArray cX1_isWider 3 (Option.some Jvm.ClassFile.FieldType.boolean) RX1 := ⟨⟨B.exec, B.bytes, hml, findClass_of_methodNamed B.named, fun w h => hts w (List.mem_cons_of_mem _ h)⟩, B.returns, B.notSynchronized⟩
  have hnm : s.methodNamed? yX1_isWider = some m := B.named
  have e3 : σ.2 3 - σ.2 0 = g.2.2.1 3 - s.heap.size := by rw [hσ.1, hσ.2.2.2.1 3 (by decide)]
  have e4 : σ.2 4 - σ.2 1 = g.2.2.1 4 - hsl s.heap := by rw [hσ.2.1, hσ.2.2.2.1 4 (by decide)]
  have hR : RM g s (headSpec (ws_ yX1_isWider cX1_isWider 3 (Option.some Jvm.ClassFile.FieldType.boolean)) ({ frames := 268, cells := σ.2 3 - σ.2 0, slots := σ.2 4 - σ.2 1, locals := 6688 })).room (268) (6688) := ⟨⟨Nat.le_refl _, Nat.le_refl _⟩, Nat.le_of_eq e3.symm, Nat.le_of_eq e4.symm⟩
  generalize (headSpec (ws_ yX1_isWider cX1_isWider 3 (Option.some Jvm.ClassFile.FieldType.boolean)) ({ frames := 268, cells := σ.2 3 - σ.2 0, slots := σ.2 4 - σ.2 1, locals := 6688 })).room = R at hR ⊢
  rw [e3, e4]
  have hI : CI g A s σ s.heap [] := ⟨hσ, va_S.rf, Nat.le_refl _⟩
  have hl := lv_entry ([.ref o, .int x1, .int x2]) (n := 3) (Nat.le_of_ble_eq_true rfl)
  rw [lg_entry_eq]
  generalize (lg_sl ([.ref o, .int x1, .int x2]) ++ List.replicate (3 - (lg_sl ([.ref o, .int x1, .int x2])).length) Slot.unset).toArray = ls at hl ⊢
  have hl : lv_has ls 3 [(0, .ref o), (1, .int x1), (2, .int x2)] := hl
  refine W.narrow ?_
  unfold m_X1_isWider at h
  refine r_aload_n (x := some o) C.x C.b dX1_isWider_0 rfl (lv_at hl 0 rfl) ?_
  refine lv_iload_n C.x C.b dX1_isWider_1 rfl (lv_at hl 1 rfl) ?_
  refine cx_callV (y := yX1_ruleAt) (bytes := cX1_ruleAt) (maxL := 2) (r := some o) (f := fun a_3 => m_X1_ruleAt a_3 x1 σ) 0 (fun v => some (va_rf v)) [.int x1] C hx hw hR hI hl.1 h (by decide) rfl (fun aa uu ee => k_X1_ruleAt l hl0 g A aa x1 σ uu ee) (cwV 1 C.t (lw_V q1582 q1584 qs39 q126 q1585) rfl rfl rfl (by decide +kernel) ⟨Nat.le_trans (Nat.le_of_ble_eq_true rfl) hR.f, Nat.le_trans (Nat.le_of_ble_eq_true rfl) hR.lo⟩) rfl rfl (Nat.le_of_ble_eq_true rfl) dX1_isWider_2 (fun v_1 σ_2 H locs h hI => ?_)
  refine lv_pop C.x C.b dX1_isWider_5 (cat_rf _) ?_
  refine r_aload_n (x := some o) C.x C.b dX1_isWider_6 rfl (lv_at hl 0 rfl) ?_
  refine lv_iload_n C.x C.b dX1_isWider_7 rfl (lv_at hl 2 rfl) ?_
  refine cx_callV (y := yX1_ruleAt) (bytes := cX1_ruleAt) (maxL := 2) (r := some o) (f := fun a_6 => m_X1_ruleAt a_6 x2 σ_2) 0 (fun v => some (va_rf v)) [.int x2] C hx hw hR hI hl.1 h (by decide) rfl (fun aa uu ee => k_X1_ruleAt l hl0 g A aa x2 σ_2 uu ee) (cwV 1 C.t (lw_V q1582 q1584 qs39 q126 q1585) rfl rfl rfl (by decide +kernel) ⟨Nat.le_trans (Nat.le_of_ble_eq_true rfl) hR.f, Nat.le_trans (Nat.le_of_ble_eq_true rfl) hR.lo⟩) rfl rfl (Nat.le_of_ble_eq_true rfl) dX1_isWider_8 (fun v_4 σ_5 H locs h hI => ?_)
  refine lv_pop C.x C.b dX1_isWider_11 (cat_rf _) ?_
  refine r_aload_n (x := some o) C.x C.b dX1_isWider_12 rfl (lv_at hl 0 rfl) ?_
  refine r_aload_n (x := some o) C.x C.b dX1_isWider_13 rfl (lv_at hl 0 rfl) ?_
  refine lv_iload_n C.x C.b dX1_isWider_14 rfl (lv_at hl 2 rfl) ?_
  refine lv_iload_n C.x C.b dX1_isWider_15 rfl (lv_at hl 1 rfl) ?_
  refine cw_lamM (q := lq13) (st := [.int x1, .int x2, .ref o, .ref o]) 13 [.ref o, .int x2, .int x1] C hw hR hI hnm lz13 lo13 h (by decide) (show (fits (.object "HeirCases") (va_rf (some o)) = true ∧ narrow (.object "HeirCases") (va_rf (some o)) = (va_rf (some o))) ∧ (fits .int (.int x2) = true ∧ narrow .int (.int x2) = (.int x2)) ∧ (fits .int (.int x1) = true ∧ narrow .int (.int x1) = (.int x1)) ∧ True from ⟨⟨fits_o _ (some o), nar_o _ (some o)⟩, ⟨⟨rfl, rfl⟩, ⟨⟨rfl, rfl⟩, trivial⟩⟩⟩) rfl hl.1 (Nat.le_of_ble_eq_true rfl) rfl (Nat.le_of_ble_eq_true rfl) dX1_isWider_16 (fun q_7 σ_8 H locs h hI => ?_)
  refine cx_callV (y := yX1_sum) (bytes := cX1_sum) (maxL := 5) (r := some o) (f := fun a_11 => m_X1_sum a_11 (some q_7) σ_8) 0 (fun v => some (.int v)) [.ref q_7] C hx hw hR hI hl.1 h (by decide) rfl (fun aa uu ee => k_X1_sum l hl0 g A aa (some q_7) σ_8 uu ee) (cwV 1 C.t (lw_V q1398 q1400 qs30 q126 q1401) rfl rfl rfl (by decide +kernel) ⟨Nat.le_trans (Nat.le_of_ble_eq_true rfl) hR.f, Nat.le_trans (Nat.le_of_ble_eq_true rfl) hR.lo⟩) rfl rfl (Nat.le_of_ble_eq_true rfl) dX1_isWider_21 (fun v_9 σ_10 H locs h hI => ?_)
  refine lv_if_ne (tgt := 31) C.x C.b dX1_isWider_24 (by decide) (fun c_12 => ?_) (fun c_12 => ?_)
  · have h := iN c_12 h
    refine lv_iconst (v := 0) C.x C.b dX1_isWider_31 (by decide) ?_
    exact uq_l h (fun y h => cw_zret C hI h dX1_isWider_32)
  · have h := ip c_12 h
    refine lv_iconst (v := 1) C.x C.b dX1_isWider_27 (by decide) ?_
    refine lv_goto (tgt := 32) C.x C.b dX1_isWider_28 (by decide) ?_
    exact uq_l h (fun y h => cw_zret C hI h dX1_isWider_32)

theorem k_X1_common (l : Launch) (hl0 : l.stackTraces = false) (g : cG) (A : Nat → Prop) (o : Nat) (x1 : Int32) (x2 : Int32) (σ : cS) (z : (cX (Int32)) × cS) (h : m_X1_common o x1 x2 σ = some z) : MetX l yX1_common (ws_ yX1_common cX1_common 3 (Option.some Jvm.ClassFile.FieldType.int)) ({ frames := 268, cells := σ.2 3 - σ.2 0, slots := σ.2 4 - σ.2 1, locals := 6688 }) g A [.ref o, .int x1, .int x2] σ (fun v => some (.int v)) z (σ.2 3 - σ.2 0) (σ.2 4 - σ.2 1) := by
  refine metx_of (cc := cX1_common) (maxL := 3) (ret := (Option.some Jvm.ClassFile.FieldType.int)) (by decide) rfl ?_
  intro p e s m args below meth c s₁ B hml hx hv
  obtain ⟨rfl, hw, hσ⟩ := hv
  have hts := atoms_spec (ws := (ws_ yX1_common cX1_common 3 (Option.some Jvm.ClassFile.FieldType.int))) B.pre
  have C : CX p m meth c s ([.ref o, .int x1, .int x2] : List Value).toArray cX1_common 3 (Option.some Jvm.ClassFile.FieldType.int) RX1 := ⟨⟨B.exec, B.bytes, hml, findClass_of_methodNamed B.named, fun w h => hts w (List.mem_cons_of_mem _ h)⟩, B.returns, B.notSynchronized⟩
  have hnm : s.methodNamed? yX1_common = some m := B.named
  have e3 : σ.2 3 - σ.2 0 = g.2.2.1 3 - s.heap.size := by rw [hσ.1, hσ.2.2.2.1 3 (by decide)]
  have e4 : σ.2 4 - σ.2 1 = g.2.2.1 4 - hsl s.heap := by rw [hσ.2.1, hσ.2.2.2.1 4 (by decide)]
  have hR : RM g s (headSpec (ws_ yX1_common cX1_common 3 (Option.some Jvm.ClassFile.FieldType.int)) ({ frames := 268, cells := σ.2 3 - σ.2 0, slots := σ.2 4 - σ.2 1, locals := 6688 })).room (268) (6688) := ⟨⟨Nat.le_refl _, Nat.le_refl _⟩, Nat.le_of_eq e3.symm, Nat.le_of_eq e4.symm⟩
  generalize (headSpec (ws_ yX1_common cX1_common 3 (Option.some Jvm.ClassFile.FieldType.int)) ({ frames := 268, cells := σ.2 3 - σ.2 0, slots := σ.2 4 - σ.2 1, locals := 6688 })).room = R at hR ⊢
  rw [e3, e4]
  have hI : CI g A s σ s.heap [] := ⟨hσ, va_S.rf, Nat.le_refl _⟩
  have hl := lv_entry ([.ref o, .int x1, .int x2]) (n := 3) (Nat.le_of_ble_eq_true rfl)
  rw [lg_entry_eq]
  generalize (lg_sl ([.ref o, .int x1, .int x2]) ++ List.replicate (3 - (lg_sl ([.ref o, .int x1, .int x2])).length) Slot.unset).toArray = ls at hl ⊢
  have hl : lv_has ls 3 [(0, .ref o), (1, .int x1), (2, .int x2)] := hl
  refine W.narrow ?_
  unfold m_X1_common at h
  refine r_aload_n (x := some o) C.x C.b dX1_common_0 rfl (lv_at hl 0 rfl) ?_
  refine lv_iload_n C.x C.b dX1_common_1 rfl (lv_at hl 1 rfl) ?_
  refine cx_callV (y := yX1_ruleAt) (bytes := cX1_ruleAt) (maxL := 2) (r := some o) (f := fun a_3 => m_X1_ruleAt a_3 x1 σ) 0 (fun v => some (va_rf v)) [.int x1] C hx hw hR hI hl.1 h (by decide) rfl (fun aa uu ee => k_X1_ruleAt l hl0 g A aa x1 σ uu ee) (cwV 1 C.t (lw_V q1582 q1584 qs39 q126 q1585) rfl rfl rfl (by decide +kernel) ⟨Nat.le_trans (Nat.le_of_ble_eq_true rfl) hR.f, Nat.le_trans (Nat.le_of_ble_eq_true rfl) hR.lo⟩) rfl rfl (Nat.le_of_ble_eq_true rfl) dX1_common_2 (fun v_1 σ_2 H locs h hI => ?_)
  refine lv_pop C.x C.b dX1_common_5 (cat_rf _) ?_
  refine r_aload_n (x := some o) C.x C.b dX1_common_6 rfl (lv_at hl 0 rfl) ?_
  refine lv_iload_n C.x C.b dX1_common_7 rfl (lv_at hl 2 rfl) ?_
  refine cx_callV (y := yX1_ruleAt) (bytes := cX1_ruleAt) (maxL := 2) (r := some o) (f := fun a_6 => m_X1_ruleAt a_6 x2 σ_2) 0 (fun v => some (va_rf v)) [.int x2] C hx hw hR hI hl.1 h (by decide) rfl (fun aa uu ee => k_X1_ruleAt l hl0 g A aa x2 σ_2 uu ee) (cwV 1 C.t (lw_V q1582 q1584 qs39 q126 q1585) rfl rfl rfl (by decide +kernel) ⟨Nat.le_trans (Nat.le_of_ble_eq_true rfl) hR.f, Nat.le_trans (Nat.le_of_ble_eq_true rfl) hR.lo⟩) rfl rfl (Nat.le_of_ble_eq_true rfl) dX1_common_8 (fun v_4 σ_5 H locs h hI => ?_)
  refine lv_pop C.x C.b dX1_common_11 (cat_rf _) ?_
  refine r_aload_n (x := some o) C.x C.b dX1_common_12 rfl (lv_at hl 0 rfl) ?_
  refine r_aload_n (x := some o) C.x C.b dX1_common_13 rfl (lv_at hl 0 rfl) ?_
  refine lv_iload_n C.x C.b dX1_common_14 rfl (lv_at hl 1 rfl) ?_
  refine lv_iload_n C.x C.b dX1_common_15 rfl (lv_at hl 2 rfl) ?_
  refine cw_lamM (q := lq14) (st := [.int x2, .int x1, .ref o, .ref o]) 14 [.ref o, .int x1, .int x2] C hw hR hI hnm lz14 lo14 h (by decide) (show (fits (.object "HeirCases") (va_rf (some o)) = true ∧ narrow (.object "HeirCases") (va_rf (some o)) = (va_rf (some o))) ∧ (fits .int (.int x1) = true ∧ narrow .int (.int x1) = (.int x1)) ∧ (fits .int (.int x2) = true ∧ narrow .int (.int x2) = (.int x2)) ∧ True from ⟨⟨fits_o _ (some o), nar_o _ (some o)⟩, ⟨⟨rfl, rfl⟩, ⟨⟨rfl, rfl⟩, trivial⟩⟩⟩) rfl hl.1 (Nat.le_of_ble_eq_true rfl) rfl (Nat.le_of_ble_eq_true rfl) dX1_common_16 (fun q_7 σ_8 H locs h hI => ?_)
  refine cx_callV (y := yX1_sum) (bytes := cX1_sum) (maxL := 5) (r := some o) (f := fun a_11 => m_X1_sum a_11 (some q_7) σ_8) 0 (fun v => some (.int v)) [.ref q_7] C hx hw hR hI hl.1 h (by decide) rfl (fun aa uu ee => k_X1_sum l hl0 g A aa (some q_7) σ_8 uu ee) (cwV 1 C.t (lw_V q1398 q1400 qs30 q126 q1401) rfl rfl rfl (by decide +kernel) ⟨Nat.le_trans (Nat.le_of_ble_eq_true rfl) hR.f, Nat.le_trans (Nat.le_of_ble_eq_true rfl) hR.lo⟩) rfl rfl (Nat.le_of_ble_eq_true rfl) dX1_common_21 (fun v_9 σ_10 H locs h hI => ?_)
  exact uq_l h (fun y h => cw_iret C hI h dX1_common_24)

end
