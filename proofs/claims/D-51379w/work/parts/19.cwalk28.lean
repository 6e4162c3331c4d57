/-! THE CLASS' WALKS 28: printed by gencl.py -/
section
variable {p : Program} {l : Launch} {e : Env} {R : Room} {s : State} {m : MethodId} {args : Array Value} {below : List Frame} {meth : Method} {c : Code} {g : cG} {A : Nat → Prop}
set_option maxRecDepth 100000
theorem k_X1_lambda_rule_3 (l : Launch) (g : cG) (A : Nat → Prop) (o : Nat) (x1 : Int32) (x2 : Int32) (σ : cS) (v : Int32) (σ1 : cS) (h : m_X1_lambda_rule_3 o x1 x2 σ = some (v, σ1)) : Met l yX1_lambda_rule_3 (ws_ yX1_lambda_rule_3 cX1_lambda_rule_3 3 (Option.some Jvm.ClassFile.FieldType.int)) ({ frames := 259, cells := σ.2 3 - σ.2 0, slots := σ.2 4 - σ.2 1, locals := 6471 }) (CPc g A [.ref o, .int x1, .int x2] σ) (CQ g A (some (.int v)) σ1) (σ.2 3 - σ.2 0) (σ.2 4 - σ.2 1) A := by
  refine Met.ofW (cc := cX1_lambda_rule_3) (maxL := 3) (ret := (Option.some Jvm.ClassFile.FieldType.int)) (by decide) rfl ?_
  intro p e s m args below meth c s₁ B hml hv
  obtain ⟨rfl, hw, hσ⟩ := hv
  have hts := atoms_spec (ws := (ws_ yX1_lambda_rule_3 cX1_lambda_rule_3 3 (Option.some Jvm.ClassFile.FieldType.int))) B.pre
  have C : CX p m meth c s ([.ref o, .int x1, .int x2] : List Value).toArray cX1_lambda_rule_3 3 (Option.some Jvm.ClassFile.FieldType.int) RX1 := ⟨⟨B.exec, B.bytes, hml, findClass_of_methodNamed B.named, fun w h => hts w (List.mem_cons_of_mem _ h)⟩, B.returns, B.notSynchronized⟩
  have e3 : σ.2 3 - σ.2 0 = g.2.2.1 3 - s.heap.size := by rw [hσ.1, hσ.2.2.2.1 3 (by decide)]
  have e4 : σ.2 4 - σ.2 1 = g.2.2.1 4 - hsl s.heap := by rw [hσ.2.1, hσ.2.2.2.1 4 (by decide)]
  have hR : RM g s (headSpec (ws_ yX1_lambda_rule_3 cX1_lambda_rule_3 3 (Option.some Jvm.ClassFile.FieldType.int)) ({ frames := 259, cells := σ.2 3 - σ.2 0, slots := σ.2 4 - σ.2 1, locals := 6471 })).room (259) (6471) := ⟨⟨Nat.le_refl _, Nat.le_refl _⟩, Nat.le_of_eq e3.symm, Nat.le_of_eq e4.symm⟩
  generalize (headSpec (ws_ yX1_lambda_rule_3 cX1_lambda_rule_3 3 (Option.some Jvm.ClassFile.FieldType.int)) ({ frames := 259, cells := σ.2 3 - σ.2 0, slots := σ.2 4 - σ.2 1, locals := 6471 })).room = R at hR ⊢
  rw [e3, e4]
  have hI : CI g A s σ s.heap [] := ⟨hσ, va_S.rf, Nat.le_refl _⟩
  have hl := lv_entry ([.ref o, .int x1, .int x2]) (n := 3) (Nat.le_of_ble_eq_true rfl)
  rw [lg_entry_eq]
  generalize (lg_sl ([.ref o, .int x1, .int x2]) ++ List.replicate (3 - (lg_sl ([.ref o, .int x1, .int x2])).length) Slot.unset).toArray = ls at hl ⊢
  have hl : lv_has ls 3 [(0, .ref o), (1, .int x1), (2, .int x2)] := hl
  obtain ⟨z, hz⟩ : ∃ z, z = (v, σ1) := ⟨_, rfl⟩
  rw [← hz] at h
  rw [show v = z.1 by rw [hz], show σ1 = z.2 by rw [hz]]
  clear hz v σ1
  refine W.narrow ?_
  unfold m_X1_lambda_rule_3 at h
  refine r_aload_n (x := some o) C.x C.b dX1_lambda_rule_3_0 rfl (lv_at hl 0 rfl) ?_
  refine cw_gR (r := some o) 0 0 C hw hI h (by decide) rfl in_X1 (by decide) (C.t _ q1172) (fun _ h9 => h9) dX1_lambda_rule_3_1 (fun v_1 h => ?_)
  refine lv_iload_n C.x C.b dX1_lambda_rule_3_4 rfl (lv_at hl 2 rfl) ?_
  refine cw_callV (y := yX4_look) (bytes := cX4_look) (maxL := 2) (r := v_1) (f := fun a_4 => m_X4_look a_4 x2 σ) 1 (fun v => some (va_rf v)) [.int x2] C hw hR hI hl.1 h (by decide) rfl (fun aa vv ss ee => k_X4_look l g A aa x2 σ vv ss ee) (cwV 1 C.t (lw_V q1383 q1223 q1224 q150 q1225) rfl rfl rfl (by decide +kernel) ⟨Nat.le_trans (Nat.le_of_ble_eq_true rfl) hR.f, Nat.le_trans (Nat.le_of_ble_eq_true rfl) hR.lo⟩) rfl rfl (Nat.le_of_ble_eq_true rfl) dX1_lambda_rule_3_5 (fun v_2 σ_3 H locs h hI => ?_)
  refine cw_gI (r := v_2) 3 4 C hw hI h (by decide) rfl in_X11 (by decide) (C.t _ q1250) (fun _ h9 => h9) dX1_lambda_rule_3_8 (fun v_5 h => ?_)
  refine lv_iload_n C.x C.b dX1_lambda_rule_3_11 rfl (lv_at hl 1 rfl) ?_
  refine lv_icmp_ne (tgt := 19) C.x C.b dX1_lambda_rule_3_12 (by decide) (fun c_6 => ?_) (fun c_6 => ?_)
  · have h := iN c_6 h
    refine lv_iconst (v := 0) C.x C.b dX1_lambda_rule_3_19 (by decide) ?_
    exact cw_iret C hI h dX1_lambda_rule_3_20
  · have h := ip c_6 h
    refine lv_iconst (v := 1) C.x C.b dX1_lambda_rule_3_15 (by decide) ?_
    refine lv_goto (tgt := 20) C.x C.b dX1_lambda_rule_3_16 (by decide) ?_
    exact cw_iret C hI h dX1_lambda_rule_3_20

theorem k_X1_beatenIn (l : Launch) (g : cG) (A : Nat → Prop) (x0 : Option Nat) (x1 : Int32) (σ : cS) (v : Int32) (σ1 : cS) (h : m_X1_beatenIn x0 x1 σ = some (v, σ1)) : Met l yX1_beatenIn (ws_ yX1_beatenIn cX1_beatenIn 2 (Option.some Jvm.ClassFile.FieldType.int)) ({ frames := 1, cells := σ.2 3 - σ.2 0, slots := σ.2 4 - σ.2 1, locals := 40 }) (CPc g A [va_rf x0, .int x1] σ) (CQ g A (some (.int v)) σ1) (σ.2 3 - σ.2 0) (σ.2 4 - σ.2 1) A := by
  refine Met.ofW (cc := cX1_beatenIn) (maxL := 2) (ret := (Option.some Jvm.ClassFile.FieldType.int)) (by decide) rfl ?_
  intro p e s m args below meth c s₁ B hml hv
  obtain ⟨rfl, hw, hσ⟩ := hv
  have hts := atoms_spec (ws := (ws_ yX1_beatenIn cX1_beatenIn 2 (Option.some Jvm.ClassFile.FieldType.int))) B.pre
  have C : CX p m meth c s ([va_rf x0, .int x1] : List Value).toArray cX1_beatenIn 2 (Option.some Jvm.ClassFile.FieldType.int) RX1 := ⟨⟨B.exec, B.bytes, hml, findClass_of_methodNamed B.named, fun w h => hts w (List.mem_cons_of_mem _ h)⟩, B.returns, B.notSynchronized⟩
  have e3 : σ.2 3 - σ.2 0 = g.2.2.1 3 - s.heap.size := by rw [hσ.1, hσ.2.2.2.1 3 (by decide)]
  have e4 : σ.2 4 - σ.2 1 = g.2.2.1 4 - hsl s.heap := by rw [hσ.2.1, hσ.2.2.2.1 4 (by decide)]
  have hR : RM g s (headSpec (ws_ yX1_beatenIn cX1_beatenIn 2 (Option.some Jvm.ClassFile.FieldType.int)) ({ frames := 1, cells := σ.2 3 - σ.2 0, slots := σ.2 4 - σ.2 1, locals := 40 })).room (1) (40) := ⟨⟨Nat.le_refl _, Nat.le_refl _⟩, Nat.le_of_eq e3.symm, Nat.le_of_eq e4.symm⟩
  generalize (headSpec (ws_ yX1_beatenIn cX1_beatenIn 2 (Option.some Jvm.ClassFile.FieldType.int)) ({ frames := 1, cells := σ.2 3 - σ.2 0, slots := σ.2 4 - σ.2 1, locals := 40 })).room = R at hR ⊢
  rw [e3, e4]
  have hI : CI g A s σ s.heap [] := ⟨hσ, va_S.rf, Nat.le_refl _⟩
  have hlen : (lg_sl ([va_rf x0, .int x1])).length ≤ 2 := by rcases x0 with _ | x0 <;> exact Nat.le_of_ble_eq_true rfl
  have hl := lv_entry ([va_rf x0, .int x1]) (n := 2) hlen
  rw [lg_entry_eq]
  generalize (lg_sl ([va_rf x0, .int x1]) ++ List.replicate (2 - (lg_sl ([va_rf x0, .int x1])).length) Slot.unset).toArray = ls at hl ⊢
  have hl : lv_has ls 2 [(0, va_rf x0), (1, .int x1)] := by clear hI hw h hσ e3 e4 hR C hts B; rcases x0 with _ | x0 <;> exact hl
  obtain ⟨z, hz⟩ : ∃ z, z = (v, σ1) := ⟨_, rfl⟩
  rw [← hz] at h
  rw [show v = z.1 by rw [hz], show σ1 = z.2 by rw [hz]]
  clear hz v σ1
  refine W.narrow ?_
  unfold m_X1_beatenIn at h
  refine r_aload_n (x := x0) C.x C.b dX1_beatenIn_0 rfl (lv_at hl 0 rfl) ?_
  refine cw_gI (r := x0) 3 1 C hw hI h (by decide) rfl in_X11 (by decide) (C.t _ q1243) (fun _ h9 => h9) dX1_beatenIn_1 (fun v_1 h => ?_)
  refine r_aload_n (x := x0) C.x C.b dX1_beatenIn_4 rfl (lv_at hl 0 rfl) ?_
  refine cw_gI (r := x0) 3 2 C hw hI h (by decide) rfl in_X11 (by decide) (C.t _ q1245) (fun _ h9 => h9) dX1_beatenIn_5 (fun v_2 h => ?_)
  refine lv_iconst (v := -1) C.x C.b dX1_beatenIn_8 (by decide) ?_
  refine lv_ixor C.x C.b dX1_beatenIn_9 ?_
  refine lv_iand C.x C.b dX1_beatenIn_10 ?_
  refine lv_iload_n C.x C.b dX1_beatenIn_11 rfl (lv_at hl 1 rfl) ?_
  refine lv_ishr C.x C.b dX1_beatenIn_12 ?_
  refine lv_iconst (v := 1) C.x C.b dX1_beatenIn_13 (by decide) ?_
  refine lv_iand C.x C.b dX1_beatenIn_14 ?_
  exact cw_iret C hI h dX1_beatenIn_15

theorem k_X1_lambda_rule_4 (l : Launch) (g : cG) (A : Nat → Prop) (o : Nat) (x1 : Int32) (x2 : Int32) (σ : cS) (v : Int32) (σ1 : cS) (h : m_X1_lambda_rule_4 o x1 x2 σ = some (v, σ1)) : Met l yX1_lambda_rule_4 (ws_ yX1_lambda_rule_4 cX1_lambda_rule_4 3 (Option.some Jvm.ClassFile.FieldType.int)) ({ frames := 259, cells := σ.2 3 - σ.2 0, slots := σ.2 4 - σ.2 1, locals := 6471 }) (CPc g A [.ref o, .int x1, .int x2] σ) (CQ g A (some (.int v)) σ1) (σ.2 3 - σ.2 0) (σ.2 4 - σ.2 1) A := by
  refine Met.ofW (cc := cX1_lambda_rule_4) (maxL := 3) (ret := (Option.some Jvm.ClassFile.FieldType.int)) (by decide) rfl ?_
  intro p e s m args below meth c s₁ B hml hv
  obtain ⟨rfl, hw, hσ⟩ := hv
  have hts := atoms_spec (ws := (ws_ yX1_lambda_rule_4 cX1_lambda_rule_4 3 (Option.some Jvm.ClassFile.FieldType.int))) B.pre
  have C : CX p m meth c s ([.ref o, .int x1, .int x2] : List Value).toArray cX1_lambda_rule_4 3 (Option.some Jvm.ClassFile.FieldType.int) RX1 := ⟨⟨B.exec, B.bytes, hml, findClass_of_methodNamed B.named, fun w h => hts w (List.mem_cons_of_mem _ h)⟩, B.returns, B.notSynchronized⟩
  have e3 : σ.2 3 - σ.2 0 = g.2.2.1 3 - s.heap.size := by rw [hσ.1, hσ.2.2.2.1 3 (by decide)]
  have e4 : σ.2 4 - σ.2 1 = g.2.2.1 4 - hsl s.heap := by rw [hσ.2.1, hσ.2.2.2.1 4 (by decide)]
  have hR : RM g s (headSpec (ws_ yX1_lambda_rule_4 cX1_lambda_rule_4 3 (Option.some Jvm.ClassFile.FieldType.int)) ({ frames := 259, cells := σ.2 3 - σ.2 0, slots := σ.2 4 - σ.2 1, locals := 6471 })).room (259) (6471) := ⟨⟨Nat.le_refl _, Nat.le_refl _⟩, Nat.le_of_eq e3.symm, Nat.le_of_eq e4.symm⟩
  generalize (headSpec (ws_ yX1_lambda_rule_4 cX1_lambda_rule_4 3 (Option.some Jvm.ClassFile.FieldType.int)) ({ frames := 259, cells := σ.2 3 - σ.2 0, slots := σ.2 4 - σ.2 1, locals := 6471 })).room = R at hR ⊢
  rw [e3, e4]
  have hI : CI g A s σ s.heap [] := ⟨hσ, va_S.rf, Nat.le_refl _⟩
  have hl := lv_entry ([.ref o, .int x1, .int x2]) (n := 3) (Nat.le_of_ble_eq_true rfl)
  rw [lg_entry_eq]
  generalize (lg_sl ([.ref o, .int x1, .int x2]) ++ List.replicate (3 - (lg_sl ([.ref o, .int x1, .int x2])).length) Slot.unset).toArray = ls at hl ⊢
  have hl : lv_has ls 3 [(0, .ref o), (1, .int x1), (2, .int x2)] := hl
  obtain ⟨z, hz⟩ : ∃ z, z = (v, σ1) := ⟨_, rfl⟩
  rw [← hz] at h
  rw [show v = z.1 by rw [hz], show σ1 = z.2 by rw [hz]]
  clear hz v σ1
  refine W.narrow ?_
  unfold m_X1_lambda_rule_4 at h
  refine r_aload_n (x := some o) C.x C.b dX1_lambda_rule_4_0 rfl (lv_at hl 0 rfl) ?_
  refine cw_gR (r := some o) 0 0 C hw hI h (by decide) rfl in_X1 (by decide) (C.t _ q1172) (fun _ h9 => h9) dX1_lambda_rule_4_1 (fun v_1 h => ?_)
  refine lv_iload_n C.x C.b dX1_lambda_rule_4_4 rfl (lv_at hl 2 rfl) ?_
  refine cw_callV (y := yX4_look) (bytes := cX4_look) (maxL := 2) (r := v_1) (f := fun a_4 => m_X4_look a_4 x2 σ) 1 (fun v => some (va_rf v)) [.int x2] C hw hR hI hl.1 h (by decide) rfl (fun aa vv ss ee => k_X4_look l g A aa x2 σ vv ss ee) (cwV 1 C.t (lw_V q1383 q1223 q1224 q150 q1225) rfl rfl rfl (by decide +kernel) ⟨Nat.le_trans (Nat.le_of_ble_eq_true rfl) hR.f, Nat.le_trans (Nat.le_of_ble_eq_true rfl) hR.lo⟩) rfl rfl (Nat.le_of_ble_eq_true rfl) dX1_lambda_rule_4_5 (fun v_2 σ_3 H locs h hI => ?_)
  refine lv_iload_n C.x C.b dX1_lambda_rule_4_8 rfl (lv_at hl 1 rfl) ?_
  refine cw_callS (y := yX1_beatenIn) (bytes := cX1_beatenIn) (maxL := 2) (fun v => some (.int v)) [va_rf v_2, .int x1] C hw hR hI hl.1 h (fun vv ss ee => k_X1_beatenIn l g A v_2 x1 σ_3 vv ss ee) (va_cwS 2 C.t (lw_S q1597 q1598 q126 q1599) rfl rfl rfl (by decide +kernel) ⟨Nat.le_trans (Nat.le_of_ble_eq_true rfl) hR.f, Nat.le_trans (Nat.le_of_ble_eq_true rfl) hR.lo⟩) rfl rfl (Nat.le_of_ble_eq_true rfl) dX1_lambda_rule_4_9 (fun v_5 σ_6 H locs h hI => ?_)
  exact cw_iret C hI h dX1_lambda_rule_4_12

theorem w_X1_left_28 {z : Int32 × cS} {o : Nat} (C : CX p m meth c s args cX1_left 4 (Option.some Jvm.ClassFile.FieldType.int) RX1) (hw : WKc g A s s.heap) (hR : RM g s R (260) (6497))  : ∀ (n : Nat) (x1 : Int32) (x2 : Int32) (x3 : Int32) (σ : cS) (H : Heap) (locs : List Loc) (ls : Array Slot), b_X1_left_28 o n x1 x2 x3 σ = some z → CI g A s σ H locs → lv_has ls 4 [(0, .ref o), (1, .int x1), (2, .int x2), (3, .int x3)] → W p l e R s m args below meth c H locs (H.size - s.heap.size) (hsl H - hsl s.heap) (MQ below (CQ g A (some (.int z.1)) z.2) args s (g.2.2.1 3 - s.heap.size) (g.2.2.1 4 - hsl s.heap) A) (F0 m 28 ls []) := by
  intro n
  induction n with
  | zero =>
    intro x1 x2 x3 σ H locs ls h
    cases h
  | succ n ih =>
    intro x1 x2 x3 σ H locs ls h hI hl
    rw [b_X1_left_28] at h
    refine lv_iload_n C.x C.b dX1_left_28 rfl (lv_at hl 3 rfl) ?_
    refine r_aload_n (x := some o) C.x C.b dX1_left_29 rfl (lv_at hl 0 rfl) ?_
    refine cw_gR (r := some o) 0 0 C hw hI h (by decide) rfl in_X1 (by decide) (C.t _ q1172) (fun _ h9 => h9) dX1_left_30 (fun v_1 h => ?_)
    refine cw_gI (r := v_1) 1 1 C hw hI h (by decide) rfl in_X4 (by decide) (C.t _ q842) (fun _ h9 => h9) dX1_left_33 (fun v_2 h => ?_)
    refine lv_icmp_ge (tgt := 57) C.x C.b dX1_left_36 (by decide) (fun c_3 => ?_) (fun c_3 => ?_)
    · have h := ip c_3 h
      refine lv_iload_n C.x C.b dX1_left_57 rfl (lv_at hl 2 rfl) ?_
      exact cw_iret C hI h dX1_left_58
    · have h := iN c_3 h
      refine lv_iload_n C.x C.b dX1_left_39 rfl (lv_at hl 2 rfl) ?_
      refine r_aload_n (x := some o) C.x C.b dX1_left_40 rfl (lv_at hl 0 rfl) ?_
      refine cw_gR (r := some o) 0 0 C hw hI h (by decide) rfl in_X1 (by decide) (C.t _ q1172) (fun _ h9 => h9) dX1_left_41 (fun v_4 h => ?_)
      refine lv_iload_n C.x C.b dX1_left_44 rfl (lv_at hl 1 rfl) ?_
      refine lv_iload_n C.x C.b dX1_left_45 rfl (lv_at hl 3 rfl) ?_
      refine cw_callV (y := yX4_gets) (bytes := cX4_gets) (maxL := 7) (r := v_4) (f := fun a_7 => m_X4_gets a_7 x1 x3 σ) 1 (fun v => some (.int v)) [.int x1, .int x3] C hw hR hI hl.1 h (by decide) rfl (fun aa vv ss ee => k_X4_gets l g A aa x1 x3 σ vv ss ee) (cwV 2 C.t (lw_V q1441 q1422 q1423 q150 q1424) rfl rfl rfl (by decide +kernel) ⟨Nat.le_trans (Nat.le_of_ble_eq_true rfl) hR.f, Nat.le_trans (Nat.le_of_ble_eq_true rfl) hR.lo⟩) rfl rfl (Nat.le_of_ble_eq_true rfl) dX1_left_46 (fun v_5 σ_6 H locs h hI => ?_)
      refine lv_isub C.x C.b dX1_left_49 ?_
      refine tw_lt h (fun x2_8 h => ?_)
      refine lv_istore_n (i := 2) (lv' := [(2, .int x2_8), (0, .ref o), (1, .int x1), (3, .int x3)]) C.x C.b dX1_left_50 rfl hl (by decide) rfl (fun ls hl => ?_)
      obtain ⟨x3_9, e_, h⟩ := nm_s h
      refine lv_iinc (v := x3_9) (lv' := [(3, .int x3_9), (2, .int x2_8), (0, .ref o), (1, .int x1)]) C.x C.b dX1_left_51 hl (k := 3) rfl e_.symm (by decide) rfl (fun ls hl => ?_)
      refine lv_goto (tgt := 28) C.x C.b dX1_left_54 (by decide) ?_
      exact ih x1 x2_8 x3_9 _ _ _ _ h hI (lv_sub hl [2, 3, 1, 0] rfl)

theorem k_X1_left (l : Launch) (g : cG) (A : Nat → Prop) (o : Nat) (x1 : Int32) (σ : cS) (v : Int32) (σ1 : cS) (h : m_X1_left o x1 σ = some (v, σ1)) : Met l yX1_left (ws_ yX1_left cX1_left 4 (Option.some Jvm.ClassFile.FieldType.int)) ({ frames := 260, cells := σ.2 3 - σ.2 0, slots := σ.2 4 - σ.2 1, locals := 6497 }) (CPc g A [.ref o, .int x1] σ) (CQ g A (some (.int v)) σ1) (σ.2 3 - σ.2 0) (σ.2 4 - σ.2 1) A := by
  refine Met.ofW (cc := cX1_left) (maxL := 4) (ret := (Option.some Jvm.ClassFile.FieldType.int)) (by decide) rfl ?_
  intro p e s m args below meth c s₁ B hml hv
  obtain ⟨rfl, hw, hσ⟩ := hv
  have hts := atoms_spec (ws := (ws_ yX1_left cX1_left 4 (Option.some Jvm.ClassFile.FieldType.int))) B.pre
  have C : CX p m meth c s ([.ref o, .int x1] : List Value).toArray cX1_left 4 (Option.some Jvm.ClassFile.FieldType.int) RX1 := ⟨⟨B.exec, B.bytes, hml, findClass_of_methodNamed B.named, fun w h => hts w (List.mem_cons_of_mem _ h)⟩, B.returns, B.notSynchronized⟩
  have e3 : σ.2 3 - σ.2 0 = g.2.2.1 3 - s.heap.size := by rw [hσ.1, hσ.2.2.2.1 3 (by decide)]
  have e4 : σ.2 4 - σ.2 1 = g.2.2.1 4 - hsl s.heap := by rw [hσ.2.1, hσ.2.2.2.1 4 (by decide)]
  have hR : RM g s (headSpec (ws_ yX1_left cX1_left 4 (Option.some Jvm.ClassFile.FieldType.int)) ({ frames := 260, cells := σ.2 3 - σ.2 0, slots := σ.2 4 - σ.2 1, locals := 6497 })).room (260) (6497) := ⟨⟨Nat.le_refl _, Nat.le_refl _⟩, Nat.le_of_eq e3.symm, Nat.le_of_eq e4.symm⟩
  generalize (headSpec (ws_ yX1_left cX1_left 4 (Option.some Jvm.ClassFile.FieldType.int)) ({ frames := 260, cells := σ.2 3 - σ.2 0, slots := σ.2 4 - σ.2 1, locals := 6497 })).room = R at hR ⊢
  rw [e3, e4]
  have hI : CI g A s σ s.heap [] := ⟨hσ, va_S.rf, Nat.le_refl _⟩
  have hl := lv_entry ([.ref o, .int x1]) (n := 4) (Nat.le_of_ble_eq_true rfl)
  rw [lg_entry_eq]
  generalize (lg_sl ([.ref o, .int x1]) ++ List.replicate (4 - (lg_sl ([.ref o, .int x1])).length) Slot.unset).toArray = ls at hl ⊢
  have hl : lv_has ls 4 [(0, .ref o), (1, .int x1)] := hl
  obtain ⟨z, hz⟩ : ∃ z, z = (v, σ1) := ⟨_, rfl⟩
  rw [← hz] at h
  rw [show v = z.1 by rw [hz], show σ1 = z.2 by rw [hz]]
  clear hz v σ1
  refine W.narrow ?_
  unfold m_X1_left at h
  refine r_aload_n (x := some o) C.x C.b dX1_left_0 rfl (lv_at hl 0 rfl) ?_
  refine cw_gR (r := some o) 0 0 C hw hI h (by decide) rfl in_X1 (by decide) (C.t _ q1172) (fun _ h9 => h9) dX1_left_1 (fun v_1 h => ?_)
  refine lv_iload_n C.x C.b dX1_left_4 rfl (lv_at hl 1 rfl) ?_
  refine cw_callV (y := yX4_look) (bytes := cX4_look) (maxL := 2) (r := v_1) (f := fun a_4 => m_X4_look a_4 x1 σ) 1 (fun v => some (va_rf v)) [.int x1] C hw hR hI hl.1 h (by decide) rfl (fun aa vv ss ee => k_X4_look l g A aa x1 σ vv ss ee) (cwV 1 C.t (lw_V q1383 q1223 q1224 q150 q1225) rfl rfl rfl (by decide +kernel) ⟨Nat.le_trans (Nat.le_of_ble_eq_true rfl) hR.f, Nat.le_trans (Nat.le_of_ble_eq_true rfl) hR.lo⟩) rfl rfl (Nat.le_of_ble_eq_true rfl) dX1_left_5 (fun v_2 σ_3 H locs h hI => ?_)
  refine cw_gI (r := v_2) 3 3 C hw hI h (by decide) rfl in_X11 (by decide) (C.t _ q1247) (fun _ h9 => h9) dX1_left_8 (fun v_5 h => ?_)
  refine lv_if_ne (tgt := 24) C.x C.b dX1_left_11 (by decide) (fun c_6 => ?_) (fun c_6 => ?_)
  · have h := iN c_6 h
    refine lv_iconst (v := 0) C.x C.b dX1_left_24 (by decide) ?_
    refine lv_istore_n (i := 2) (lv' := [(2, .int 0), (0, .ref o), (1, .int x1)]) C.x C.b dX1_left_25 rfl hl (by decide) rfl (fun ls hl => ?_)
    refine lv_iconst (v := 0) C.x C.b dX1_left_26 (by decide) ?_
    refine lv_istore_n (i := 3) (lv' := [(3, .int 0), (2, .int 0), (0, .ref o), (1, .int x1)]) C.x C.b dX1_left_27 rfl hl (by decide) rfl (fun ls hl => ?_)
    exact w_X1_left_28 C hw hR _ x1 0 0 _ _ _ _ h hI (lv_sub hl [2, 3, 1, 0] rfl)
  · have h := ip c_6 h
    refine r_aload_n (x := some o) C.x C.b dX1_left_14 rfl (lv_at hl 0 rfl) ?_
    refine cw_gR (r := some o) 0 0 C hw hI h (by decide) rfl in_X1 (by decide) (C.t _ q1172) (fun _ h9 => h9) dX1_left_15 (fun v_7 h => ?_)
    refine cw_gI (r := v_7) 1 7 C hw hI h (by decide) rfl in_X4 (by decide) (C.t _ q858) (fun _ h9 => h9) dX1_left_18 (fun v_8 h => ?_)
    refine lv_goto (tgt := 25) C.x C.b dX1_left_21 (by decide) ?_
    refine lv_istore_n (i := 2) (lv' := [(2, .int v_8), (0, .ref o), (1, .int x1)]) C.x C.b dX1_left_25 rfl hl (by decide) rfl (fun ls hl => ?_)
    refine lv_iconst (v := 0) C.x C.b dX1_left_26 (by decide) ?_
    refine lv_istore_n (i := 3) (lv' := [(3, .int 0), (2, .int v_8), (0, .ref o), (1, .int x1)]) C.x C.b dX1_left_27 rfl hl (by decide) rfl (fun ls hl => ?_)
    exact w_X1_left_28 C hw hR _ x1 v_8 0 _ _ _ _ h hI (lv_sub hl [2, 3, 1, 0] rfl)

theorem w_X1_sum_13 {z : (cX (Int32)) × cS} {o : Nat} (C : CX p m meth c s args cX1_sum 5 (Option.some Jvm.ClassFile.FieldType.int) RX1) (hx : ∀ x ∈ c.exceptionTable.toList, False) (hl0 : l.stackTraces = false) (hw : WKc g A s s.heap) (hR : RM g s R (267) (6664))  : ∀ (n : Nat) (x1 : Option Nat) (x2 : Int32) (x3 : Int32) (x4 : Int32) (σ : cS) (H : Heap) (locs : List Loc) (ls : Array Slot), b_X1_sum_13 o n x1 x2 x3 x4 σ = some z → CI g A s σ H locs → lv_has ls 5 [(0, .ref o), (1, va_rf x1), (2, .int x2), (3, .int x3), (4, .int x4)] → W p l e R s m args below meth c H locs (H.size - s.heap.size) (hsl H - hsl s.heap) (UQ g A (fun v => some (.int v)) z args s (g.2.2.1 3 - s.heap.size) (g.2.2.1 4 - hsl s.heap) below) (F0 m 13 ls []) := by
  intro n
  induction n with
  | zero =>
    intro x1 x2 x3 x4 σ H locs ls h
    cases h
  | succ n ih =>
    intro x1 x2 x3 x4 σ H locs ls h hI hl
    rw [b_X1_sum_13] at h
    refine lv_iload C.x C.b dX1_sum_13 (lv_at hl 4 rfl) ?_
    refine lv_iload_n C.x C.b dX1_sum_15 rfl (lv_at hl 3 rfl) ?_
    refine lv_icmp_ge (tgt := 36) C.x C.b dX1_sum_16 (by decide) (fun c_1 => ?_) (fun c_1 => ?_)
    · have h := ip c_1 h
      refine lv_iload_n C.x C.b dX1_sum_36 rfl (lv_at hl 2 rfl) ?_
      exact uq_l h (fun y h => cw_iret C hI h dX1_sum_37)
    · have h := iN c_1 h
      refine lv_iload_n C.x C.b dX1_sum_19 rfl (lv_at hl 2 rfl) ?_
      refine r_aload_n (x := x1) C.x C.b dX1_sum_20 rfl (lv_at hl 1 rfl) ?_
      refine lv_iload C.x C.b dX1_sum_21 (lv_at hl 4 rfl) ?_
      refine cw_callL (r := x1) (F := fun a_4 => dL_of a_4 x4 σ) (fun v => some (.int v)) [.int x4] hI h ?_ rfl (fun v_2 σ_3 H locs h hI => ?_)
      · intro aa vv ss er ee
        unfold dL_of at ee
        by_cases hO4 : isO σ aa 64 = true
        · rw [if_pos hO4] at ee
          obtain ⟨fs, ha, ee⟩ := gL_s ee
          obtain ⟨c0, hc0, ee⟩ := kR_s ee
          obtain ⟨c1, hc1, ee⟩ := kR_s ee
          obtain ⟨bb, fsb, rfl, hbb, ee⟩ := nn_s ee
          obtain ⟨cellO, hcO, hoO, hfO⟩ := cw_recv (ci := 0) (Cn := "HeirCases") hw hI hbb (by decide) rfl
          exact cw_lamC (q := lq4) (n := 4) (x := ⟨"HeirCases$OfCase", "of", "(I)I"⟩) (y := yX1_lambda_patch_10) (as := [.ref bb, va_rf c1, .int x4]) (As := [.int x4]) (bytesY := cX1_lambda_patch_10) (maxLY := 3) (retY := (Option.some Jvm.ClassFile.FieldType.int)) (F_ := 267) (L_ := 6664) C hw hR hI hl.1 lz4 lo4 ha lx4 (by decide) (C.t _ q1403) (k_X1_lambda_patch_10 l g A bb c1 x4 σ vv ss ee) (lw_meth q1392) rfl rfl rfl q126 (Nat.le_of_ble_eq_true rfl) (Nat.le_of_ble_eq_true rfl) (fun R' s' a' below' methk ck Q' ls' hb hF hl kk => lv_aload_n C.x hb ld4_0 rfl (lv_at hl 0 rfl) (cw_lget C.x hb (hF 0 (17, 16) rfl) (lam_cell (n := 4) hI ha) (by simp) (arr_at hc0) ld4_1 (lv_aload_n C.x hb ld4_4 rfl (lv_at hl 0 rfl) (cw_lget C.x hb (hF 1 (19, 18) rfl) (lam_cell (n := 4) hI ha) (by simp) (arr_at hc1) ld4_5 (lv_iload_n C.x hb ld4_8 rfl (lv_at hl 1 rfl) (kk)))))) (lamT_V (q := lq4) (n := 4) (o := bb) (cB := 0) (as := [va_rf c1, .int x4]) C.t (hw.2.2.2.2.2.2.2.2.2.2.2.2.2.2.2.1.2.2.1 _ _ lz4) lo4 ly4 (by decide +kernel) rfl q1392 q1391 qs28 q126 rfl ld4_9 hcO hoO hfO) (Or.inr ⟨vv, .int, rfl, rfl, rfl, Or.inl rfl, ld4_12⟩) (Nat.le_of_ble_eq_true rfl) rfl rfl (Nat.le_of_ble_eq_true rfl) dX1_sum_23
        rw [if_neg hO4] at ee
        by_cases hO5 : isO σ aa 65 = true
        · rw [if_pos hO5] at ee
          obtain ⟨fs, ha, ee⟩ := gL_s ee
          obtain ⟨c0, hc0, ee⟩ := kR_s ee
          obtain ⟨bb, fsb, rfl, hbb, ee⟩ := nn_s ee
          obtain ⟨cellO, hcO, hoO, hfO⟩ := cw_recv (ci := 0) (Cn := "HeirCases") hw hI hbb (by decide) rfl
          exact cw_lamC (q := lq5) (n := 5) (x := ⟨"HeirCases$OfCase", "of", "(I)I"⟩) (y := yX1_lambda_dearest_11) (as := [.ref bb, .int x4]) (As := [.int x4]) (bytesY := cX1_lambda_dearest_11) (maxLY := 2) (retY := (Option.some Jvm.ClassFile.FieldType.int)) (F_ := 267) (L_ := 6664) C hw hR hI hl.1 lz5 lo5 ha lx5 (by decide) (C.t _ q1403) (k_X1_lambda_dearest_11 l g A bb x4 σ vv ss ee) (lw_meth q1412) rfl rfl rfl q126 (Nat.le_of_ble_eq_true rfl) (Nat.le_of_ble_eq_true rfl) (fun R' s' a' below' methk ck Q' ls' hb hF hl kk => lv_aload_n C.x hb ld5_0 rfl (lv_at hl 0 rfl) (cw_lget C.x hb (hF 0 (15, 14) rfl) (lam_cell (n := 5) hI ha) (by simp) (arr_at hc0) ld5_1 (lv_iload_n C.x hb ld5_4 rfl (lv_at hl 1 rfl) (kk)))) (lamT_V (q := lq5) (n := 5) (o := bb) (cB := 0) (as := [.int x4]) C.t (hw.2.2.2.2.2.2.2.2.2.2.2.2.2.2.2.1.2.2.1 _ _ lz5) lo5 ly5 (by decide +kernel) rfl q1412 q1411 qs31 q126 rfl ld5_5 hcO hoO hfO) (Or.inr ⟨vv, .int, rfl, rfl, rfl, Or.inl rfl, ld5_8⟩) (Nat.le_of_ble_eq_true rfl) rfl rfl (Nat.le_of_ble_eq_true rfl) dX1_sum_23
        rw [if_neg hO5] at ee
        by_cases hO6 : isO σ aa 66 = true
        · rw [if_pos hO6] at ee
          obtain ⟨fs, ha, ee⟩ := gL_s ee
          obtain ⟨c0, hc0, ee⟩ := kR_s ee
          obtain ⟨bb, fsb, rfl, hbb, ee⟩ := nn_s ee
          obtain ⟨cellO, hcO, hoO, hfO⟩ := cw_recv (ci := 0) (Cn := "HeirCases") hw hI hbb (by decide) rfl
          exact cw_lamC (q := lq6) (n := 6) (x := ⟨"HeirCases$OfCase", "of", "(I)I"⟩) (y := yX1_left) (as := [.ref bb, .int x4]) (As := [.int x4]) (bytesY := cX1_left) (maxLY := 4) (retY := (Option.some Jvm.ClassFile.FieldType.int)) (F_ := 267) (L_ := 6664) C hw hR hI hl.1 lz6 lo6 ha lx6 (by decide) (C.t _ q1403) (k_X1_left l g A bb x4 σ vv ss ee) (lw_meth q1440) rfl rfl rfl q126 (Nat.le_of_ble_eq_true rfl) (Nat.le_of_ble_eq_true rfl) (fun R' s' a' below' methk ck Q' ls' hb hF hl kk => lv_aload_n C.x hb ld6_0 rfl (lv_at hl 0 rfl) (cw_lget C.x hb (hF 0 (15, 14) rfl) (lam_cell (n := 6) hI ha) (by simp) (arr_at hc0) ld6_1 (lv_iload_n C.x hb ld6_4 rfl (lv_at hl 1 rfl) (kk)))) (lamT_V (q := lq6) (n := 6) (o := bb) (cB := 0) (as := [.int x4]) C.t (hw.2.2.2.2.2.2.2.2.2.2.2.2.2.2.2.1.2.2.1 _ _ lz6) lo6 ly6 (by decide +kernel) rfl q1440 q1439 qs34 q126 rfl ld6_5 hcO hoO hfO) (Or.inr ⟨vv, .int, rfl, rfl, rfl, Or.inl rfl, ld6_8⟩) (Nat.le_of_ble_eq_true rfl) rfl rfl (Nat.le_of_ble_eq_true rfl) dX1_sum_23
        rw [if_neg hO6] at ee
        by_cases hO7 : isO σ aa 67 = true
        · rw [if_pos hO7] at ee
          obtain ⟨fs, ha, ee⟩ := gL_s ee
          obtain ⟨c0, hc0, ee⟩ := kR_s ee
          obtain ⟨bb, fsb, rfl, hbb, ee⟩ := nn_s ee
          obtain ⟨cellO, hcO, hoO, hfO⟩ := cw_recv (ci := 0) (Cn := "HeirCases") hw hI hbb (by decide) rfl
          exact cw_lamC (q := lq7) (n := 7) (x := ⟨"HeirCases$OfCase", "of", "(I)I"⟩) (y := yX1_lambda_meanDuties_12) (as := [.ref bb, .int x4]) (As := [.int x4]) (bytesY := cX1_lambda_meanDuties_12) (maxLY := 2) (retY := (Option.some Jvm.ClassFile.FieldType.int)) (F_ := 267) (L_ := 6664) C hw hR hI hl.1 lz7 lo7 ha lx7 (by decide) (C.t _ q1403) (k_X1_lambda_meanDuties_12 l g A bb x4 σ vv ss ee) (lw_meth q1453) rfl rfl rfl q126 (Nat.le_of_ble_eq_true rfl) (Nat.le_of_ble_eq_true rfl) (fun R' s' a' below' methk ck Q' ls' hb hF hl kk => lv_aload_n C.x hb ld7_0 rfl (lv_at hl 0 rfl) (cw_lget C.x hb (hF 0 (15, 14) rfl) (lam_cell (n := 7) hI ha) (by simp) (arr_at hc0) ld7_1 (lv_iload_n C.x hb ld7_4 rfl (lv_at hl 1 rfl) (kk)))) (lamT_V (q := lq7) (n := 7) (o := bb) (cB := 0) (as := [.int x4]) C.t (hw.2.2.2.2.2.2.2.2.2.2.2.2.2.2.2.1.2.2.1 _ _ lz7) lo7 ly7 (by decide +kernel) rfl q1453 q1452 qs35 q126 rfl ld7_5 hcO hoO hfO) (Or.inr ⟨vv, .int, rfl, rfl, rfl, Or.inl rfl, ld7_8⟩) (Nat.le_of_ble_eq_true rfl) rfl rfl (Nat.le_of_ble_eq_true rfl) dX1_sum_23
        rw [if_neg hO7] at ee
        by_cases hO8 : isO σ aa 68 = true
        · rw [if_pos hO8] at ee
          obtain ⟨fs, ha, ee⟩ := gL_s ee
          obtain ⟨c0, hc0, ee⟩ := kR_s ee
          obtain ⟨c1, hc1, ee⟩ := kI_s ee
          obtain ⟨bb, fsb, rfl, hbb, ee⟩ := nn_s ee
          obtain ⟨cellO, hcO, hoO, hfO⟩ := cw_recv (ci := 0) (Cn := "HeirCases") hw hI hbb (by decide) rfl
          exact cw_lamC (q := lq8) (n := 8) (x := ⟨"HeirCases$OfCase", "of", "(I)I"⟩) (y := yX1_lambda_heir_0) (as := [.ref bb, .int c1, .int x4]) (As := [.int x4]) (bytesY := cX1_lambda_heir_0) (maxLY := 3) (retY := (Option.some Jvm.ClassFile.FieldType.int)) (F_ := 267) (L_ := 6664) C hw hR hI hl.1 lz8 lo8 ha lx8 (by decide) (C.t _ q1403) (k_X1_lambda_heir_0 l g A bb c1 x4 σ vv ss ee) (lw_meth q1574) rfl rfl rfl q126 (Nat.le_of_ble_eq_true rfl) (Nat.le_of_ble_eq_true rfl) (fun R' s' a' below' methk ck Q' ls' hb hF hl kk => lv_aload_n C.x hb ld8_0 rfl (lv_at hl 0 rfl) (cw_lget C.x hb (hF 0 (17, 16) rfl) (lam_cell (n := 8) hI ha) (by simp) (arr_at hc0) ld8_1 (lv_aload_n C.x hb ld8_4 rfl (lv_at hl 0 rfl) (cw_lget C.x hb (hF 1 (19, 18) rfl) (lam_cell (n := 8) hI ha) (by simp) (arr_at hc1) ld8_5 (lv_iload_n C.x hb ld8_8 rfl (lv_at hl 1 rfl) (kk)))))) (lamT_V (q := lq8) (n := 8) (o := bb) (cB := 0) (as := [.int c1, .int x4]) C.t (hw.2.2.2.2.2.2.2.2.2.2.2.2.2.2.2.1.2.2.1 _ _ lz8) lo8 ly8 (by decide +kernel) rfl q1574 q1573 qs37 q126 rfl ld8_9 hcO hoO hfO) (Or.inr ⟨vv, .int, rfl, rfl, rfl, Or.inl rfl, ld8_12⟩) (Nat.le_of_ble_eq_true rfl) rfl rfl (Nat.le_of_ble_eq_true rfl) dX1_sum_23
        rw [if_neg hO8] at ee
        by_cases hO9 : isO σ aa 69 = true
        · rw [if_pos hO9] at ee
          obtain ⟨fs, ha, ee⟩ := gL_s ee
          obtain ⟨c0, hc0, ee⟩ := kR_s ee
          obtain ⟨c1, hc1, ee⟩ := kI_s ee
          obtain ⟨bb, fsb, rfl, hbb, ee⟩ := nn_s ee
          obtain ⟨cellO, hcO, hoO, hfO⟩ := cw_recv (ci := 0) (Cn := "HeirCases") hw hI hbb (by decide) rfl
          exact cw_lamC (q := lq9) (n := 9) (x := ⟨"HeirCases$OfCase", "of", "(I)I"⟩) (y := yX1_lambda_heir_1) (as := [.ref bb, .int c1, .int x4]) (As := [.int x4]) (bytesY := cX1_lambda_heir_1) (maxLY := 3) (retY := (Option.some Jvm.ClassFile.FieldType.int)) (F_ := 267) (L_ := 6664) C hw hR hI hl.1 lz9 lo9 ha lx9 (by decide) (C.t _ q1403) (k_X1_lambda_heir_1 l g A bb c1 x4 σ vv ss ee) (lw_meth q1577) rfl rfl rfl q126 (Nat.le_of_ble_eq_true rfl) (Nat.le_of_ble_eq_true rfl) (fun R' s' a' below' methk ck Q' ls' hb hF hl kk => lv_aload_n C.x hb ld9_0 rfl (lv_at hl 0 rfl) (cw_lget C.x hb (hF 0 (17, 16) rfl) (lam_cell (n := 9) hI ha) (by simp) (arr_at hc0) ld9_1 (lv_aload_n C.x hb ld9_4 rfl (lv_at hl 0 rfl) (cw_lget C.x hb (hF 1 (19, 18) rfl) (lam_cell (n := 9) hI ha) (by simp) (arr_at hc1) ld9_5 (lv_iload_n C.x hb ld9_8 rfl (lv_at hl 1 rfl) (kk)))))) (lamT_V (q := lq9) (n := 9) (o := bb) (cB := 0) (as := [.int c1, .int x4]) C.t (hw.2.2.2.2.2.2.2.2.2.2.2.2.2.2.2.1.2.2.1 _ _ lz9) lo9 ly9 (by decide +kernel) rfl q1577 q1576 qs38 q126 rfl ld9_9 hcO hoO hfO) (Or.inr ⟨vv, .int, rfl, rfl, rfl, Or.inl rfl, ld9_12⟩) (Nat.le_of_ble_eq_true rfl) rfl rfl (Nat.le_of_ble_eq_true rfl) dX1_sum_23
        rw [if_neg hO9] at ee
        by_cases hO10 : isO σ aa 70 = true
        · rw [if_pos hO10] at ee
          obtain ⟨fs, ha, ee⟩ := gL_s ee
          obtain ⟨c0, hc0, ee⟩ := kR_s ee
          obtain ⟨c1, hc1, ee⟩ := kI_s ee
          obtain ⟨bb, fsb, rfl, hbb, ee⟩ := nn_s ee
          obtain ⟨cellO, hcO, hoO, hfO⟩ := cw_recv (ci := 0) (Cn := "HeirCases") hw hI hbb (by decide) rfl
          exact cw_lamC (q := lq10) (n := 10) (x := ⟨"HeirCases$OfCase", "of", "(I)I"⟩) (y := yX1_lambda_rule_2) (as := [.ref bb, .int c1, .int x4]) (As := [.int x4]) (bytesY := cX1_lambda_rule_2) (maxLY := 3) (retY := (Option.some Jvm.ClassFile.FieldType.int)) (F_ := 267) (L_ := 6664) C hw hR hI hl.1 lz10 lo10 ha lx10 (by decide) (C.t _ q1403) (k_X1_lambda_rule_2 l g A bb c1 x4 σ vv ss ee) (lw_meth q1590) rfl rfl rfl q126 (Nat.le_of_ble_eq_true rfl) (Nat.le_of_ble_eq_true rfl) (fun R' s' a' below' methk ck Q' ls' hb hF hl kk => lv_aload_n C.x hb ld10_0 rfl (lv_at hl 0 rfl) (cw_lget C.x hb (hF 0 (17, 16) rfl) (lam_cell (n := 10) hI ha) (by simp) (arr_at hc0) ld10_1 (lv_aload_n C.x hb ld10_4 rfl (lv_at hl 0 rfl) (cw_lget C.x hb (hF 1 (19, 18) rfl) (lam_cell (n := 10) hI ha) (by simp) (arr_at hc1) ld10_5 (lv_iload_n C.x hb ld10_8 rfl (lv_at hl 1 rfl) (kk)))))) (lamT_V (q := lq10) (n := 10) (o := bb) (cB := 0) (as := [.int c1, .int x4]) C.t (hw.2.2.2.2.2.2.2.2.2.2.2.2.2.2.2.1.2.2.1 _ _ lz10) lo10 ly10 (by decide +kernel) rfl q1590 q1589 qs40 q126 rfl ld10_9 hcO hoO hfO) (Or.inr ⟨vv, .int, rfl, rfl, rfl, Or.inl rfl, ld10_12⟩) (Nat.le_of_ble_eq_true rfl) rfl rfl (Nat.le_of_ble_eq_true rfl) dX1_sum_23
        rw [if_neg hO10] at ee
        by_cases hO11 : isO σ aa 71 = true
        · rw [if_pos hO11] at ee
          obtain ⟨fs, ha, ee⟩ := gL_s ee
          obtain ⟨c0, hc0, ee⟩ := kR_s ee
          obtain ⟨c1, hc1, ee⟩ := kI_s ee
          obtain ⟨bb, fsb, rfl, hbb, ee⟩ := nn_s ee
          obtain ⟨cellO, hcO, hoO, hfO⟩ := cw_recv (ci := 0) (Cn := "HeirCases") hw hI hbb (by decide) rfl
          exact cw_lamC (q := lq11) (n := 11) (x := ⟨"HeirCases$OfCase", "of", "(I)I"⟩) (y := yX1_lambda_rule_3) (as := [.ref bb, .int c1, .int x4]) (As := [.int x4]) (bytesY := cX1_lambda_rule_3) (maxLY := 3) (retY := (Option.some Jvm.ClassFile.FieldType.int)) (F_ := 267) (L_ := 6664) C hw hR hI hl.1 lz11 lo11 ha lx11 (by decide) (C.t _ q1403) (k_X1_lambda_rule_3 l g A bb c1 x4 σ vv ss ee) (lw_meth q1593) rfl rfl rfl q126 (Nat.le_of_ble_eq_true rfl) (Nat.le_of_ble_eq_true rfl) (fun R' s' a' below' methk ck Q' ls' hb hF hl kk => lv_aload_n C.x hb ld11_0 rfl (lv_at hl 0 rfl) (cw_lget C.x hb (hF 0 (17, 16) rfl) (lam_cell (n := 11) hI ha) (by simp) (arr_at hc0) ld11_1 (lv_aload_n C.x hb ld11_4 rfl (lv_at hl 0 rfl) (cw_lget C.x hb (hF 1 (19, 18) rfl) (lam_cell (n := 11) hI ha) (by simp) (arr_at hc1) ld11_5 (lv_iload_n C.x hb ld11_8 rfl (lv_at hl 1 rfl) (kk)))))) (lamT_V (q := lq11) (n := 11) (o := bb) (cB := 0) (as := [.int c1, .int x4]) C.t (hw.2.2.2.2.2.2.2.2.2.2.2.2.2.2.2.1.2.2.1 _ _ lz11) lo11 ly11 (by decide +kernel) rfl q1593 q1592 qs41 q126 rfl ld11_9 hcO hoO hfO) (Or.inr ⟨vv, .int, rfl, rfl, rfl, Or.inl rfl, ld11_12⟩) (Nat.le_of_ble_eq_true rfl) rfl rfl (Nat.le_of_ble_eq_true rfl) dX1_sum_23
        rw [if_neg hO11] at ee
        by_cases hO12 : isO σ aa 72 = true
        · rw [if_pos hO12] at ee
          obtain ⟨fs, ha, ee⟩ := gL_s ee
          obtain ⟨c0, hc0, ee⟩ := kR_s ee
          obtain ⟨c1, hc1, ee⟩ := kI_s ee
          obtain ⟨bb, fsb, rfl, hbb, ee⟩ := nn_s ee
          obtain ⟨cellO, hcO, hoO, hfO⟩ := cw_recv (ci := 0) (Cn := "HeirCases") hw hI hbb (by decide) rfl
          exact cw_lamC (q := lq12) (n := 12) (x := ⟨"HeirCases$OfCase", "of", "(I)I"⟩) (y := yX1_lambda_rule_4) (as := [.ref bb, .int c1, .int x4]) (As := [.int x4]) (bytesY := cX1_lambda_rule_4) (maxLY := 3) (retY := (Option.some Jvm.ClassFile.FieldType.int)) (F_ := 267) (L_ := 6664) C hw hR hI hl.1 lz12 lo12 ha lx12 (by decide) (C.t _ q1403) (k_X1_lambda_rule_4 l g A bb c1 x4 σ vv ss ee) (lw_meth q1596) rfl rfl rfl q126 (Nat.le_of_ble_eq_true rfl) (Nat.le_of_ble_eq_true rfl) (fun R' s' a' below' methk ck Q' ls' hb hF hl kk => lv_aload_n C.x hb ld12_0 rfl (lv_at hl 0 rfl) (cw_lget C.x hb (hF 0 (17, 16) rfl) (lam_cell (n := 12) hI ha) (by simp) (arr_at hc0) ld12_1 (lv_aload_n C.x hb ld12_4 rfl (lv_at hl 0 rfl) (cw_lget C.x hb (hF 1 (19, 18) rfl) (lam_cell (n := 12) hI ha) (by simp) (arr_at hc1) ld12_5 (lv_iload_n C.x hb ld12_8 rfl (lv_at hl 1 rfl) (kk)))))) (lamT_V (q := lq12) (n := 12) (o := bb) (cB := 0) (as := [.int c1, .int x4]) C.t (hw.2.2.2.2.2.2.2.2.2.2.2.2.2.2.2.1.2.2.1 _ _ lz12) lo12 ly12 (by decide +kernel) rfl q1596 q1595 qs42 q126 rfl ld12_9 hcO hoO hfO) (Or.inr ⟨vv, .int, rfl, rfl, rfl, Or.inl rfl, ld12_12⟩) (Nat.le_of_ble_eq_true rfl) rfl rfl (Nat.le_of_ble_eq_true rfl) dX1_sum_23
        rw [if_neg hO12] at ee
        by_cases hO13 : isO σ aa 73 = true
        · rw [if_pos hO13] at ee
          obtain ⟨fs, ha, ee⟩ := gL_s ee
          obtain ⟨c0, hc0, ee⟩ := kR_s ee
          obtain ⟨c1, hc1, ee⟩ := kI_s ee
          obtain ⟨c2, hc2, ee⟩ := kI_s ee
          obtain ⟨bb, fsb, rfl, hbb, ee⟩ := nn_s ee
          have ee := unx_s ee
          obtain ⟨cellO, hcO, hoO, hfO⟩ := cw_recv (ci := 0) (Cn := "HeirCases") hw hI hbb (by decide) rfl
          exact cw_lamC (q := lq13) (n := 13) (x := ⟨"HeirCases$OfCase", "of", "(I)I"⟩) (y := yX1_lambda_isWider_5) (as := [.ref bb, .int c1, .int c2, .int x4]) (As := [.int x4]) (bytesY := cX1_lambda_isWider_5) (maxLY := 4) (retY := (Option.some Jvm.ClassFile.FieldType.int)) (F_ := 267) (L_ := 6664) C hw hR hI hl.1 lz13 lo13 ha lx13 (by decide) (C.t _ q1403) (k_X1_lambda_isWider_5 l hl0 g A bb c1 c2 x4 σ (.inl vv, ss) ee) (lw_meth q1817) rfl rfl rfl q126 (Nat.le_of_ble_eq_true rfl) (Nat.le_of_ble_eq_true rfl) (fun R' s' a' below' methk ck Q' ls' hb hF hl kk => lv_aload_n C.x hb ld13_0 rfl (lv_at hl 0 rfl) (cw_lget C.x hb (hF 0 (18, 17) rfl) (lam_cell (n := 13) hI ha) (by simp) (arr_at hc0) ld13_1 (lv_aload_n C.x hb ld13_4 rfl (lv_at hl 0 rfl) (cw_lget C.x hb (hF 1 (20, 19) rfl) (lam_cell (n := 13) hI ha) (by simp) (arr_at hc1) ld13_5 (lv_aload_n C.x hb ld13_8 rfl (lv_at hl 0 rfl) (cw_lget C.x hb (hF 2 (22, 21) rfl) (lam_cell (n := 13) hI ha) (by simp) (arr_at hc2) ld13_9 (lv_iload_n C.x hb ld13_12 rfl (lv_at hl 1 rfl) (kk)))))))) (lamT_V (q := lq13) (n := 13) (o := bb) (cB := 0) (as := [.int c1, .int c2, .int x4]) C.t (hw.2.2.2.2.2.2.2.2.2.2.2.2.2.2.2.1.2.2.1 _ _ lz13) lo13 ly13 (by decide +kernel) rfl q1817 q1816 qs46 q126 rfl ld13_13 hcO hoO hfO) (Or.inr ⟨vv, .int, rfl, rfl, rfl, Or.inl rfl, ld13_16⟩) (Nat.le_of_ble_eq_true rfl) rfl rfl (Nat.le_of_ble_eq_true rfl) dX1_sum_23
        rw [if_neg hO13] at ee
        by_cases hO14 : isO σ aa 74 = true
        · rw [if_pos hO14] at ee
          obtain ⟨fs, ha, ee⟩ := gL_s ee
          obtain ⟨c0, hc0, ee⟩ := kR_s ee
          obtain ⟨c1, hc1, ee⟩ := kI_s ee
          obtain ⟨c2, hc2, ee⟩ := kI_s ee
          obtain ⟨bb, fsb, rfl, hbb, ee⟩ := nn_s ee
          have ee := unx_s ee
          obtain ⟨cellO, hcO, hoO, hfO⟩ := cw_recv (ci := 0) (Cn := "HeirCases") hw hI hbb (by decide) rfl
          exact cw_lamC (q := lq14) (n := 14) (x := ⟨"HeirCases$OfCase", "of", "(I)I"⟩) (y := yX1_lambda_common_6) (as := [.ref bb, .int c1, .int c2, .int x4]) (As := [.int x4]) (bytesY := cX1_lambda_common_6) (maxLY := 4) (retY := (Option.some Jvm.ClassFile.FieldType.int)) (F_ := 267) (L_ := 6664) C hw hR hI hl.1 lz14 lo14 ha lx14 (by decide) (C.t _ q1403) (k_X1_lambda_common_6 l hl0 g A bb c1 c2 x4 σ (.inl vv, ss) ee) (lw_meth q1828) rfl rfl rfl q126 (Nat.le_of_ble_eq_true rfl) (Nat.le_of_ble_eq_true rfl) (fun R' s' a' below' methk ck Q' ls' hb hF hl kk => lv_aload_n C.x hb ld14_0 rfl (lv_at hl 0 rfl) (cw_lget C.x hb (hF 0 (18, 17) rfl) (lam_cell (n := 14) hI ha) (by simp) (arr_at hc0) ld14_1 (lv_aload_n C.x hb ld14_4 rfl (lv_at hl 0 rfl) (cw_lget C.x hb (hF 1 (20, 19) rfl) (lam_cell (n := 14) hI ha) (by simp) (arr_at hc1) ld14_5 (lv_aload_n C.x hb ld14_8 rfl (lv_at hl 0 rfl) (cw_lget C.x hb (hF 2 (22, 21) rfl) (lam_cell (n := 14) hI ha) (by simp) (arr_at hc2) ld14_9 (lv_iload_n C.x hb ld14_12 rfl (lv_at hl 1 rfl) (kk)))))))) (lamT_V (q := lq14) (n := 14) (o := bb) (cB := 0) (as := [.int c1, .int c2, .int x4]) C.t (hw.2.2.2.2.2.2.2.2.2.2.2.2.2.2.2.1.2.2.1 _ _ lz14) lo14 ly14 (by decide +kernel) rfl q1828 q1827 qs47 q126 rfl ld14_13 hcO hoO hfO) (Or.inr ⟨vv, .int, rfl, rfl, rfl, Or.inl rfl, ld14_16⟩) (Nat.le_of_ble_eq_true rfl) rfl rfl (Nat.le_of_ble_eq_true rfl) dX1_sum_23
        rw [if_neg hO14] at ee
        cases ee
      · refine lv_iadd C.x C.b dX1_sum_28 ?_
        refine tw_lt h (fun x2_5 h => ?_)
        refine lv_istore_n (i := 2) (lv' := [(2, .int x2_5), (0, .ref o), (1, va_rf x1), (3, .int x3), (4, .int x4)]) C.x C.b dX1_sum_29 rfl hl (by decide) (by first | (simp [List.filter, cat_rf, cat_i, cat_a, cat_n, cat_l, cat_f, cat_d]; done) | (simp [List.filter, cat_rf, cat_i, cat_a, cat_n, cat_l, cat_f, cat_d]; rfl)) (fun ls hl => ?_)
        obtain ⟨x4_6, e_, h⟩ := nm_s h
        refine lv_iinc (v := x4_6) (lv' := [(4, .int x4_6), (2, .int x2_5), (0, .ref o), (1, va_rf x1), (3, .int x3)]) C.x C.b dX1_sum_30 hl (k := 4) rfl e_.symm (by decide) (by first | (simp [List.filter, cat_rf, cat_i, cat_a, cat_n, cat_l, cat_f, cat_d]; done) | (simp [List.filter, cat_rf, cat_i, cat_a, cat_n, cat_l, cat_f, cat_d]; rfl)) (fun ls hl => ?_)
        refine lv_goto (tgt := 13) C.x C.b dX1_sum_33 (by decide) ?_
        exact ih x1 x2_5 x3 x4_6 _ _ _ _ h hI (lv_sub hl [2, 3, 1, 4, 0] rfl)

theorem k_X1_sum (l : Launch) (hl0 : l.stackTraces = false) (g : cG) (A : Nat → Prop) (o : Nat) (x1 : Option Nat) (σ : cS) (z : (cX (Int32)) × cS) (h : m_X1_sum o x1 σ = some z) : MetX l yX1_sum (ws_ yX1_sum cX1_sum 5 (Option.some Jvm.ClassFile.FieldType.int)) ({ frames := 267, cells := σ.2 3 - σ.2 0, slots := σ.2 4 - σ.2 1, locals := 6664 }) g A [.ref o, va_rf x1] σ (fun v => some (.int v)) z (σ.2 3 - σ.2 0) (σ.2 4 - σ.2 1) := by
  refine metx_of (cc := cX1_sum) (maxL := 5) (ret := (Option.some Jvm.ClassFile.FieldType.int)) (by decide) rfl ?_
  intro p e s m args below meth c s₁ B hml hx hv
  obtain ⟨rfl, hw, hσ⟩ := hv
  have hts := atoms_spec (ws := (ws_ yX1_sum cX1_sum 5 (Option.some Jvm.ClassFile.FieldType.int))) B.pre
  have C : CX p m meth c s ([.ref o, va_rf x1] : List Value).toArray cX1_sum 5 (Option.some Jvm.ClassFile.FieldType.int) RX1 := ⟨⟨B.exec, B.bytes, hml, findClass_of_methodNamed B.named, fun w h => hts w (List.mem_cons_of_mem _ h)⟩, B.returns, B.notSynchronized⟩
  have e3 : σ.2 3 - σ.2 0 = g.2.2.1 3 - s.heap.size := by rw [hσ.1, hσ.2.2.2.1 3 (by decide)]
  have e4 : σ.2 4 - σ.2 1 = g.2.2.1 4 - hsl s.heap := by rw [hσ.2.1, hσ.2.2.2.1 4 (by decide)]
  have hR : RM g s (headSpec (ws_ yX1_sum cX1_sum 5 (Option.some Jvm.ClassFile.FieldType.int)) ({ frames := 267, cells := σ.2 3 - σ.2 0, slots := σ.2 4 - σ.2 1, locals := 6664 })).room (267) (6664) := ⟨⟨Nat.le_refl _, Nat.le_refl _⟩, Nat.le_of_eq e3.symm, Nat.le_of_eq e4.symm⟩
  generalize (headSpec (ws_ yX1_sum cX1_sum 5 (Option.some Jvm.ClassFile.FieldType.int)) ({ frames := 267, cells := σ.2 3 - σ.2 0, slots := σ.2 4 - σ.2 1, locals := 6664 })).room = R at hR ⊢
  rw [e3, e4]
  have hI : CI g A s σ s.heap [] := ⟨hσ, va_S.rf, Nat.le_refl _⟩
  have hlen : (lg_sl ([.ref o, va_rf x1])).length ≤ 5 := by rcases x1 with _ | x1 <;> exact Nat.le_of_ble_eq_true rfl
  have hl := lv_entry ([.ref o, va_rf x1]) (n := 5) hlen
  rw [lg_entry_eq]
  generalize (lg_sl ([.ref o, va_rf x1]) ++ List.replicate (5 - (lg_sl ([.ref o, va_rf x1])).length) Slot.unset).toArray = ls at hl ⊢
  have hl : lv_has ls 5 [(0, .ref o), (1, va_rf x1)] := by clear hI hw h hσ e3 e4 hR C hts B; rcases x1 with _ | x1 <;> exact hl
  refine W.narrow ?_
  unfold m_X1_sum at h
  refine lv_iconst (v := 0) C.x C.b dX1_sum_0 (by decide) ?_
  refine lv_istore_n (i := 2) (lv' := [(2, .int 0), (0, .ref o), (1, va_rf x1)]) C.x C.b dX1_sum_1 rfl hl (by decide) (by first | (simp [List.filter, cat_rf, cat_i, cat_a, cat_n, cat_l, cat_f, cat_d]; done) | (simp [List.filter, cat_rf, cat_i, cat_a, cat_n, cat_l, cat_f, cat_d]; rfl)) (fun ls hl => ?_)
  refine r_aload_n (x := some o) C.x C.b dX1_sum_2 rfl (lv_at hl 1 rfl) ?_
  refine cw_gR (r := some o) 0 0 C hw hI h (by decide) rfl in_X1 (by decide) (C.t _ q1172) (fun _ h9 => h9) dX1_sum_3 (fun v_1 h => ?_)
  refine cw_callV (y := yX4_cases) (bytes := cX4_cases) (maxL := 3) (r := v_1) (f := fun a_4 => m_X4_cases a_4 σ) 1 (fun v => some (.int v)) [] C hw hR hI hl.1 h (by decide) rfl (fun aa vv ss ee => k_X4_cases l g A aa σ vv ss ee) (cwV 0 C.t (lw_V q1382 q833 q834 q150 q835) rfl rfl rfl (by decide +kernel) ⟨Nat.le_trans (Nat.le_of_ble_eq_true rfl) hR.f, Nat.le_trans (Nat.le_of_ble_eq_true rfl) hR.lo⟩) rfl rfl (Nat.le_of_ble_eq_true rfl) dX1_sum_6 (fun v_2 σ_3 H locs h hI => ?_)
  refine lv_istore_n (i := 3) (lv' := [(3, .int v_2), (2, .int 0), (0, .ref o), (1, va_rf x1)]) C.x C.b dX1_sum_9 rfl hl (by decide) (by first | (simp [List.filter, cat_rf, cat_i, cat_a, cat_n, cat_l, cat_f, cat_d]; done) | (simp [List.filter, cat_rf, cat_i, cat_a, cat_n, cat_l, cat_f, cat_d]; rfl)) (fun ls hl => ?_)
  refine lv_iconst (v := 0) C.x C.b dX1_sum_10 (by decide) ?_
  refine lv_istore (i := 4) (lv' := [(4, .int 0), (3, .int v_2), (2, .int 0), (0, .ref o), (1, va_rf x1)]) C.x C.b dX1_sum_11 hl (by decide) (by first | (simp [List.filter, cat_rf, cat_i, cat_a, cat_n, cat_l, cat_f, cat_d]; done) | (simp [List.filter, cat_rf, cat_i, cat_a, cat_n, cat_l, cat_f, cat_d]; rfl)) (fun ls hl => ?_)
  exact w_X1_sum_13 C hx hl0 hw hR _ x1 0 v_2 0 _ _ _ _ h hI (lv_sub hl [3, 4, 2, 1, 0] rfl)

end
