/-! THE CLASS' WALKS 22: printed by gencl.py -/
section
variable {p : Program} {l : Launch} {e : Env} {R : Room} {s : State} {m : MethodId} {args : Array Value} {below : List Frame} {meth : Method} {c : Code} {g : cG} {A : Nat → Prop}
set_option maxRecDepth 100000
theorem w_X1_divisor_4 {z : Int32 × cS} (C : CX p m meth c s args cX1_divisor 5 (Option.some Jvm.ClassFile.FieldType.int) RX1) (hw : WKc g A s s.heap) (hR : RM g s R (1) (40))  : ∀ (n : Nat) (x2 : Int32) (x3 : Int32) (σ : cS) (H : Heap) (locs : List Loc) (ls : Array Slot), b_X1_divisor_4 n x2 x3 σ = some z → CI g A s σ H locs → lv_has ls 5 [(2, .int x2), (3, .int x3)] → W p l e R s m args below meth c H locs (H.size - s.heap.size) (hsl H - hsl s.heap) (MQ below (CQ g A (some (.int z.1)) z.2) args s (g.2.2.1 3 - s.heap.size) (g.2.2.1 4 - hsl s.heap) A) (F0 m 4 ls []) := by
  intro n
  induction n with
  | zero =>
    intro x2 x3 σ H locs ls h
    cases h
  | succ n ih =>
    intro x2 x3 σ H locs ls h hI hl
    rw [b_X1_divisor_4] at h
    refine lv_iload_n C.x C.b dX1_divisor_4 rfl (lv_at hl 1 rfl) ?_
    refine lv_if_eq (tgt := 21) C.x C.b dX1_divisor_5 (by decide) (fun c_1 => ?_) (fun c_1 => ?_)
    · have h := ip c_1 h
      refine lv_iload_n C.x C.b dX1_divisor_21 rfl (lv_at hl 0 rfl) ?_
      exact cw_iret C hI h dX1_divisor_22
    · have h := iN c_1 h
      refine lv_iload_n C.x C.b dX1_divisor_8 rfl (lv_at hl 0 rfl) ?_
      refine lv_iload_n C.x C.b dX1_divisor_9 rfl (lv_at hl 1 rfl) ?_
      have hz := nz_s h
      have h := hz.2
      refine lv_irem C.x C.b dX1_divisor_10 hz.1 ?_
      refine tw_lt h (fun x4_2 h => ?_)
      refine lv_istore (i := 4) (lv' := [(4, .int x4_2), (2, .int x2), (3, .int x3)]) C.x C.b dX1_divisor_11 hl (by decide) rfl (fun ls hl => ?_)
      refine lv_iload_n C.x C.b dX1_divisor_13 rfl (lv_at hl 2 rfl) ?_
      refine lv_istore_n (i := 2) (lv' := [(2, .int x3), (4, .int x4_2), (3, .int x3)]) C.x C.b dX1_divisor_14 rfl hl (by decide) rfl (fun ls hl => ?_)
      refine lv_iload C.x C.b dX1_divisor_15 (lv_at hl 1 rfl) ?_
      refine lv_istore_n (i := 3) (lv' := [(3, .int x4_2), (2, .int x3), (4, .int x4_2)]) C.x C.b dX1_divisor_17 rfl hl (by decide) rfl (fun ls hl => ?_)
      refine lv_goto (tgt := 4) C.x C.b dX1_divisor_18 (by decide) ?_
      exact ih x3 x4_2 _ _ _ _ h hI (lv_sub hl [1, 0] rfl)

theorem k_X1_divisor (l : Launch) (g : cG) (A : Nat → Prop) (x0 : Int32) (x1 : Int32) (σ : cS) (v : Int32) (σ1 : cS) (h : m_X1_divisor x0 x1 σ = some (v, σ1)) : Met l yX1_divisor (ws_ yX1_divisor cX1_divisor 5 (Option.some Jvm.ClassFile.FieldType.int)) ({ frames := 1, cells := σ.2 3 - σ.2 0, slots := σ.2 4 - σ.2 1, locals := 40 }) (CPc g A [.int x0, .int x1] σ) (CQ g A (some (.int v)) σ1) (σ.2 3 - σ.2 0) (σ.2 4 - σ.2 1) A := by
  refine Met.ofW (cc := cX1_divisor) (maxL := 5) (ret := (Option.some Jvm.ClassFile.FieldType.int)) (by decide) rfl ?_
  intro p e s m args below meth c s₁ B hml hv
  obtain ⟨rfl, hw, hσ⟩ := hv
  have hts := atoms_spec (ws := (ws_ yX1_divisor cX1_divisor 5 (Option.some Jvm.ClassFile.FieldType.int))) B.pre
  have C : CX p m meth c s ([.int x0, .int x1] : List Value).toArray cX1_divisor 5 (Option.some Jvm.ClassFile.FieldType.int) RX1 := ⟨⟨B.exec, B.bytes, hml, findClass_of_methodNamed B.named, fun w h => hts w (List.mem_cons_of_mem _ h)⟩, B.returns, B.notSynchronized⟩
  have e3 : σ.2 3 - σ.2 0 = g.2.2.1 3 - s.heap.size := by rw [hσ.1, hσ.2.2.2.1 3 (by decide)]
  have e4 : σ.2 4 - σ.2 1 = g.2.2.1 4 - hsl s.heap := by rw [hσ.2.1, hσ.2.2.2.1 4 (by decide)]
  have hR : RM g s (headSpec (ws_ yX1_divisor cX1_divisor 5 (Option.some Jvm.ClassFile.FieldType.int)) ({ frames := 1, cells := σ.2 3 - σ.2 0, slots := σ.2 4 - σ.2 1, locals := 40 })).room (1) (40) := ⟨⟨Nat.le_refl _, Nat.le_refl _⟩, Nat.le_of_eq e3.symm, Nat.le_of_eq e4.symm⟩
  generalize (headSpec (ws_ yX1_divisor cX1_divisor 5 (Option.some Jvm.ClassFile.FieldType.int)) ({ frames := 1, cells := σ.2 3 - σ.2 0, slots := σ.2 4 - σ.2 1, locals := 40 })).room = R at hR ⊢
  rw [e3, e4]
  have hI : CI g A s σ s.heap [] := ⟨hσ, va_S.rf, Nat.le_refl _⟩
  have hl := lv_entry ([.int x0, .int x1]) (n := 5) (Nat.le_of_ble_eq_true rfl)
  rw [lg_entry_eq]
  generalize (lg_sl ([.int x0, .int x1]) ++ List.replicate (5 - (lg_sl ([.int x0, .int x1])).length) Slot.unset).toArray = ls at hl ⊢
  have hl : lv_has ls 5 [(0, .int x0), (1, .int x1)] := hl
  obtain ⟨z, hz⟩ : ∃ z, z = (v, σ1) := ⟨_, rfl⟩
  rw [← hz] at h
  rw [show v = z.1 by rw [hz], show σ1 = z.2 by rw [hz]]
  clear hz v σ1
  refine W.narrow ?_
  unfold m_X1_divisor at h
  refine lv_iload_n C.x C.b dX1_divisor_0 rfl (lv_at hl 0 rfl) ?_
  refine lv_istore_n (i := 2) (lv' := [(2, .int x0), (0, .int x0), (1, .int x1)]) C.x C.b dX1_divisor_1 rfl hl (by decide) rfl (fun ls hl => ?_)
  refine lv_iload_n C.x C.b dX1_divisor_2 rfl (lv_at hl 2 rfl) ?_
  refine lv_istore_n (i := 3) (lv' := [(3, .int x1), (2, .int x0), (0, .int x0), (1, .int x1)]) C.x C.b dX1_divisor_3 rfl hl (by decide) rfl (fun ls hl => ?_)
  exact w_X1_divisor_4 C hw hR _ x0 x1 _ _ _ _ h hI (lv_sub hl [1, 0] rfl)

theorem k_X9_below (l : Launch) (g : cG) (A : Nat → Prop) (o : Nat) (x1 : Int32) (σ : cS) (v : Int32) (σ1 : cS) (h : m_X9_below o x1 σ = some (v, σ1)) : Met l yX9_below (ws_ yX9_below cX9_below 2 (Option.some Jvm.ClassFile.FieldType.int)) ({ frames := 2, cells := σ.2 3 - σ.2 0, slots := σ.2 4 - σ.2 1, locals := 64 }) (CPc g A [.ref o, .int x1] σ) (CQ g A (some (.int v)) σ1) (σ.2 3 - σ.2 0) (σ.2 4 - σ.2 1) A := by
  refine Met.ofW (cc := cX9_below) (maxL := 2) (ret := (Option.some Jvm.ClassFile.FieldType.int)) (by decide) rfl ?_
  intro p e s m args below meth c s₁ B hml hv
  obtain ⟨rfl, hw, hσ⟩ := hv
  have hts := atoms_spec (ws := (ws_ yX9_below cX9_below 2 (Option.some Jvm.ClassFile.FieldType.int))) B.pre
  have C : CX p m meth c s ([.ref o, .int x1] : List Value).toArray cX9_below 2 (Option.some Jvm.ClassFile.FieldType.int) RX9 := ⟨⟨B.exec, B.bytes, hml, findClass_of_methodNamed B.named, fun w h => hts w (List.mem_cons_of_mem _ h)⟩, B.returns, B.notSynchronized⟩
  have e3 : σ.2 3 - σ.2 0 = g.2.2.1 3 - s.heap.size := by rw [hσ.1, hσ.2.2.2.1 3 (by decide)]
  have e4 : σ.2 4 - σ.2 1 = g.2.2.1 4 - hsl s.heap := by rw [hσ.2.1, hσ.2.2.2.1 4 (by decide)]
  have hR : RM g s (headSpec (ws_ yX9_below cX9_below 2 (Option.some Jvm.ClassFile.FieldType.int)) ({ frames := 2, cells := σ.2 3 - σ.2 0, slots := σ.2 4 - σ.2 1, locals := 64 })).room (2) (64) := ⟨⟨Nat.le_refl _, Nat.le_refl _⟩, Nat.le_of_eq e3.symm, Nat.le_of_eq e4.symm⟩
  generalize (headSpec (ws_ yX9_below cX9_below 2 (Option.some Jvm.ClassFile.FieldType.int)) ({ frames := 2, cells := σ.2 3 - σ.2 0, slots := σ.2 4 - σ.2 1, locals := 64 })).room = R at hR ⊢
  rw [e3, e4]
  have hI : CI g A s σ s.heap [] := ⟨hσ, va_S.rf, Nat.le_refl _⟩
  have hl := lv_entry ([.ref o, .int x1]) (n := 2) (Nat.le_of_ble_eq_true rfl)
  rw [lg_entry_eq]
  generalize (lg_sl ([.ref o, .int x1]) ++ List.replicate (2 - (lg_sl ([.ref o, .int x1])).length) Slot.unset).toArray = ls at hl ⊢
  have hl : lv_has ls 2 [(0, .ref o), (1, .int x1)] := hl
  obtain ⟨z, hz⟩ : ∃ z, z = (v, σ1) := ⟨_, rfl⟩
  rw [← hz] at h
  rw [show v = z.1 by rw [hz], show σ1 = z.2 by rw [hz]]
  clear hz v σ1
  refine W.narrow ?_
  unfold m_X9_below at h
  refine lv_sipush (v := 27720) C.x C.b dX9_below_0 (by decide) ?_
  refine r_aload_n (x := some o) C.x C.b dX9_below_3 rfl (lv_at hl 0 rfl) ?_
  refine cw_gR (r := some o) 2 2 C hw hI h (by decide) rfl in_X9 (by decide) (C.t _ q1106) (fun _ h9 => h9) dX9_below_4 (fun v_1 h => ?_)
  refine lv_iload_n C.x C.b dX9_below_7 rfl (lv_at hl 1 rfl) ?_
  refine cw_ild (r := v_1) C hw hI h dX9_below_8 (fun v_2 h => ?_)
  refine lv_sipush (v := 27720) C.x C.b dX9_below_9 (by decide) ?_
  refine cw_callSN (y := yX1_divisor) (bytes := cX1_divisor) (maxL := 5) (host := "HeirCases") (fun v => some (.int v)) [.int v_2, .int 27720] C hw hR hI hl.1 h (fun vv ss ee => k_X1_divisor l g A v_2 27720 σ vv ss ee) (cw_nest 2 C hw (List.mem_of_getElem? (i := 2) rfl) q1618 rfl rfl q126 q1617 (by decide +kernel) ⟨Nat.le_trans (Nat.le_of_ble_eq_true rfl) hR.f, Nat.le_trans (Nat.le_of_ble_eq_true rfl) hR.lo⟩) rfl rfl (Nat.le_of_ble_eq_true rfl) dX9_below_12 (fun v_3 σ_4 H locs h hI => ?_)
  have hz := nz_s h
  have h := hz.2
  refine lv_idiv C.x C.b dX9_below_15 hz.1 ?_
  exact cw_iret C hI h dX9_below_16

theorem k_X9_above (l : Launch) (g : cG) (A : Nat → Prop) (o : Nat) (x1 : Int32) (σ : cS) (v : Int32) (σ1 : cS) (h : m_X9_above o x1 σ = some (v, σ1)) : Met l yX9_above (ws_ yX9_above cX9_above 2 (Option.some Jvm.ClassFile.FieldType.int)) ({ frames := 2, cells := σ.2 3 - σ.2 0, slots := σ.2 4 - σ.2 1, locals := 64 }) (CPc g A [.ref o, .int x1] σ) (CQ g A (some (.int v)) σ1) (σ.2 3 - σ.2 0) (σ.2 4 - σ.2 1) A := by
  refine Met.ofW (cc := cX9_above) (maxL := 2) (ret := (Option.some Jvm.ClassFile.FieldType.int)) (by decide) rfl ?_
  intro p e s m args below meth c s₁ B hml hv
  obtain ⟨rfl, hw, hσ⟩ := hv
  have hts := atoms_spec (ws := (ws_ yX9_above cX9_above 2 (Option.some Jvm.ClassFile.FieldType.int))) B.pre
  have C : CX p m meth c s ([.ref o, .int x1] : List Value).toArray cX9_above 2 (Option.some Jvm.ClassFile.FieldType.int) RX9 := ⟨⟨B.exec, B.bytes, hml, findClass_of_methodNamed B.named, fun w h => hts w (List.mem_cons_of_mem _ h)⟩, B.returns, B.notSynchronized⟩
  have e3 : σ.2 3 - σ.2 0 = g.2.2.1 3 - s.heap.size := by rw [hσ.1, hσ.2.2.2.1 3 (by decide)]
  have e4 : σ.2 4 - σ.2 1 = g.2.2.1 4 - hsl s.heap := by rw [hσ.2.1, hσ.2.2.2.1 4 (by decide)]
  have hR : RM g s (headSpec (ws_ yX9_above cX9_above 2 (Option.some Jvm.ClassFile.FieldType.int)) ({ frames := 2, cells := σ.2 3 - σ.2 0, slots := σ.2 4 - σ.2 1, locals := 64 })).room (2) (64) := ⟨⟨Nat.le_refl _, Nat.le_refl _⟩, Nat.le_of_eq e3.symm, Nat.le_of_eq e4.symm⟩
  generalize (headSpec (ws_ yX9_above cX9_above 2 (Option.some Jvm.ClassFile.FieldType.int)) ({ frames := 2, cells := σ.2 3 - σ.2 0, slots := σ.2 4 - σ.2 1, locals := 64 })).room = R at hR ⊢
  rw [e3, e4]
  have hI : CI g A s σ s.heap [] := ⟨hσ, va_S.rf, Nat.le_refl _⟩
  have hl := lv_entry ([.ref o, .int x1]) (n := 2) (Nat.le_of_ble_eq_true rfl)
  rw [lg_entry_eq]
  generalize (lg_sl ([.ref o, .int x1]) ++ List.replicate (2 - (lg_sl ([.ref o, .int x1])).length) Slot.unset).toArray = ls at hl ⊢
  have hl : lv_has ls 2 [(0, .ref o), (1, .int x1)] := hl
  obtain ⟨z, hz⟩ : ∃ z, z = (v, σ1) := ⟨_, rfl⟩
  rw [← hz] at h
  rw [show v = z.1 by rw [hz], show σ1 = z.2 by rw [hz]]
  clear hz v σ1
  refine W.narrow ?_
  unfold m_X9_above at h
  refine r_aload_n (x := some o) C.x C.b dX9_above_0 rfl (lv_at hl 0 rfl) ?_
  refine cw_gR (r := some o) 2 2 C hw hI h (by decide) rfl in_X9 (by decide) (C.t _ q1106) (fun _ h9 => h9) dX9_above_1 (fun v_1 h => ?_)
  refine lv_iload_n C.x C.b dX9_above_4 rfl (lv_at hl 1 rfl) ?_
  refine cw_ild (r := v_1) C hw hI h dX9_above_5 (fun v_2 h => ?_)
  refine r_aload_n (x := some o) C.x C.b dX9_above_6 rfl (lv_at hl 0 rfl) ?_
  refine cw_gR (r := some o) 2 2 C hw hI h (by decide) rfl in_X9 (by decide) (C.t _ q1106) (fun _ h9 => h9) dX9_above_7 (fun v_3 h => ?_)
  refine lv_iload_n C.x C.b dX9_above_10 rfl (lv_at hl 1 rfl) ?_
  refine cw_ild (r := v_3) C hw hI h dX9_above_11 (fun v_4 h => ?_)
  refine lv_sipush (v := 27720) C.x C.b dX9_above_12 (by decide) ?_
  refine cw_callSN (y := yX1_divisor) (bytes := cX1_divisor) (maxL := 5) (host := "HeirCases") (fun v => some (.int v)) [.int v_4, .int 27720] C hw hR hI hl.1 h (fun vv ss ee => k_X1_divisor l g A v_4 27720 σ vv ss ee) (cw_nest 2 C hw (List.mem_of_getElem? (i := 2) rfl) q1618 rfl rfl q126 q1617 (by decide +kernel) ⟨Nat.le_trans (Nat.le_of_ble_eq_true rfl) hR.f, Nat.le_trans (Nat.le_of_ble_eq_true rfl) hR.lo⟩) rfl rfl (Nat.le_of_ble_eq_true rfl) dX9_above_15 (fun v_5 σ_6 H locs h hI => ?_)
  have hz := nz_s h
  have h := hz.2
  refine lv_idiv C.x C.b dX9_above_18 hz.1 ?_
  exact cw_iret C hI h dX9_above_19

theorem w_X4_unlike_2 {z : Int32 × cS} {o : Nat} (C : CX p m meth c s args cX4_unlike 4 (Option.some Jvm.ClassFile.FieldType.int) RX4) (hw : WKc g A s s.heap) (hR : RM g s R (4) (104))  : ∀ (n : Nat) (x1 : Int32) (x2 : Int32) (x3 : Int32) (σ : cS) (H : Heap) (locs : List Loc) (ls : Array Slot), b_X4_unlike_2 o n x1 x2 x3 σ = some z → CI g A s σ H locs → lv_has ls 4 [(0, .ref o), (1, .int x1), (2, .int x2), (3, .int x3)] → W p l e R s m args below meth c H locs (H.size - s.heap.size) (hsl H - hsl s.heap) (MQ below (CQ g A (some (.int z.1)) z.2) args s (g.2.2.1 3 - s.heap.size) (g.2.2.1 4 - hsl s.heap) A) (F0 m 2 ls []) := by
  intro n
  induction n with
  | zero =>
    intro x1 x2 x3 σ H locs ls h
    cases h
  | succ n ih =>
    intro x1 x2 x3 σ H locs ls h hI hl
    rw [b_X4_unlike_2] at h
    refine lv_iload_n C.x C.b dX4_unlike_2 rfl (lv_at hl 3 rfl) ?_
    refine r_aload_n (x := some o) C.x C.b dX4_unlike_3 rfl (lv_at hl 0 rfl) ?_
    refine cw_gR (r := some o) 1 4 C hw hI h (by decide) rfl in_X4 (by decide) (C.t _ q850) (fun _ h9 => h9) dX4_unlike_4 (fun v_1 h => ?_)
    refine cw_callV (y := yJ18_size) (bytes := cJ18_size) (maxL := 1) (r := v_1) (f := fun a_4 => m_J18_size a_4 σ) 9 (fun v => some (.int v)) [] C hw hR hI hl.1 h (by decide) rfl (fun aa vv ss ee => k_J18_size l g A aa σ vv ss ee) (cwV 0 C.t (lw_V q1262 q947 q948 q152 q949) rfl rfl rfl (by decide +kernel) ⟨Nat.le_trans (Nat.le_of_ble_eq_true rfl) hR.f, Nat.le_trans (Nat.le_of_ble_eq_true rfl) hR.lo⟩) rfl rfl (Nat.le_of_ble_eq_true rfl) dX4_unlike_7 (fun v_2 σ_3 H locs h hI => ?_)
    refine lv_icmp_ge (tgt := 58) C.x C.b dX4_unlike_10 (by decide) (fun c_5 => ?_) (fun c_5 => ?_)
    · have h := ip c_5 h
      refine lv_iconst (v := -1) C.x C.b dX4_unlike_58 (by decide) ?_
      exact cw_iret C hI h dX4_unlike_59
    · have h := iN c_5 h
      refine lv_iload_n C.x C.b dX4_unlike_13 rfl (lv_at hl 1 rfl) ?_
      refine lv_iload_n C.x C.b dX4_unlike_14 rfl (lv_at hl 3 rfl) ?_
      refine lv_ishr C.x C.b dX4_unlike_15 ?_
      refine lv_iconst (v := 1) C.x C.b dX4_unlike_16 (by decide) ?_
      refine lv_iand C.x C.b dX4_unlike_17 ?_
      refine lv_iconst (v := 1) C.x C.b dX4_unlike_18 (by decide) ?_
      refine lv_icmp_ne (tgt := 52) C.x C.b dX4_unlike_19 (by decide) (fun c_6 => ?_) (fun c_6 => ?_)
      · have h := iN c_6 h
        obtain ⟨x3_7, e_, h⟩ := nm_s h
        refine lv_iinc (v := x3_7) (lv' := [(3, .int x3_7), (0, .ref o), (1, .int x1), (2, .int x2)]) C.x C.b dX4_unlike_52 hl (k := 3) rfl e_.symm (by decide) rfl (fun ls hl => ?_)
        refine lv_goto (tgt := 2) C.x C.b dX4_unlike_55 (by decide) ?_
        exact ih x1 x2 x3_7 _ _ _ _ h hI (lv_sub hl [1, 2, 3, 0] rfl)
      · have h := ip c_6 h
        refine r_aload_n (x := some o) C.x C.b dX4_unlike_22 rfl (lv_at hl 0 rfl) ?_
        refine cw_gR (r := some o) 1 4 C hw hI h (by decide) rfl in_X4 (by decide) (C.t _ q850) (fun _ h9 => h9) dX4_unlike_23 (fun v_8 h => ?_)
        refine lv_iload_n C.x C.b dX4_unlike_26 rfl (lv_at hl 3 rfl) ?_
        refine cw_callV (y := yJ18_get) (bytes := cJ18_get) (maxL := 2) (r := v_8) (f := fun a_11 => m_J18_get a_11 x3 σ_3) 9 (fun v => some (va_rf v)) [.int x3] C hw hR hI hl.1 h (by decide) rfl (fun aa vv ss ee => k_J18_get l g A aa x3 σ_3 vv ss ee) (cwV 1 C.t (lw_V q1263 q1264 q1265 q152 q1266) rfl rfl rfl (by decide +kernel) ⟨Nat.le_trans (Nat.le_of_ble_eq_true rfl) hR.f, Nat.le_trans (Nat.le_of_ble_eq_true rfl) hR.lo⟩) rfl rfl (Nat.le_of_ble_eq_true rfl) dX4_unlike_27 (fun v_9 σ_10 H locs h hI => ?_)
        refine cw_cast (r := v_9) 2 C hw hI h (by decide) rfl q1275 dX4_unlike_30 (fun h => ?_)
        refine r_aload_n (x := some o) C.x C.b dX4_unlike_33 rfl (lv_at hl 0 rfl) ?_
        refine cw_gR (r := some o) 1 4 C hw hI h (by decide) rfl in_X4 (by decide) (C.t _ q850) (fun _ h9 => h9) dX4_unlike_34 (fun v_12 h => ?_)
        refine lv_iload_n C.x C.b dX4_unlike_37 rfl (lv_at hl 2 rfl) ?_
        refine cw_callV (y := yJ18_get) (bytes := cJ18_get) (maxL := 2) (r := v_12) (f := fun a_15 => m_J18_get a_15 x2 σ_10) 9 (fun v => some (va_rf v)) [.int x2] C hw hR hI hl.1 h (by decide) rfl (fun aa vv ss ee => k_J18_get l g A aa x2 σ_10 vv ss ee) (cwV 1 C.t (lw_V q1263 q1264 q1265 q152 q1266) rfl rfl rfl (by decide +kernel) ⟨Nat.le_trans (Nat.le_of_ble_eq_true rfl) hR.f, Nat.le_trans (Nat.le_of_ble_eq_true rfl) hR.lo⟩) rfl rfl (Nat.le_of_ble_eq_true rfl) dX4_unlike_38 (fun v_13 σ_14 H locs h hI => ?_)
        refine cw_cast (r := v_13) 2 C hw hI h (by decide) rfl q1275 dX4_unlike_41 (fun h => ?_)
        refine cw_callV (y := yX9_givesLike) (bytes := cX9_givesLike) (maxL := 4) (r := v_9) (f := fun a_18 => m_X9_givesLike a_18 v_13 σ_14) 2 (fun v => some (.int v)) [va_rf v_13] C hw hR hI hl.1 h (by decide) rfl (fun aa vv ss ee => k_X9_givesLike l g A aa v_13 σ_14 vv ss ee) (cwV 1 C.t (lw_V q1327 q1328 q1329 q157 q1330) rfl rfl rfl (by decide +kernel) ⟨Nat.le_trans (Nat.le_of_ble_eq_true rfl) hR.f, Nat.le_trans (Nat.le_of_ble_eq_true rfl) hR.lo⟩) rfl rfl (Nat.le_of_ble_eq_true rfl) dX4_unlike_44 (fun v_16 σ_17 H locs h hI => ?_)
        refine lv_if_ne (tgt := 52) C.x C.b dX4_unlike_47 (by decide) (fun c_19 => ?_) (fun c_19 => ?_)
        · have h := iN c_19 h
          obtain ⟨x3_20, e_, h⟩ := nm_s h
          refine lv_iinc (v := x3_20) (lv' := [(3, .int x3_20), (0, .ref o), (1, .int x1), (2, .int x2)]) C.x C.b dX4_unlike_52 hl (k := 3) rfl e_.symm (by decide) rfl (fun ls hl => ?_)
          refine lv_goto (tgt := 2) C.x C.b dX4_unlike_55 (by decide) ?_
          exact ih x1 x2 x3_20 _ _ _ _ h hI (lv_sub hl [1, 2, 3, 0] rfl)
        · have h := ip c_19 h
          refine lv_iload_n C.x C.b dX4_unlike_50 rfl (lv_at hl 3 rfl) ?_
          exact cw_iret C hI h dX4_unlike_51

theorem k_X4_unlike (l : Launch) (g : cG) (A : Nat → Prop) (o : Nat) (x1 : Int32) (x2 : Int32) (σ : cS) (v : Int32) (σ1 : cS) (h : m_X4_unlike o x1 x2 σ = some (v, σ1)) : Met l yX4_unlike (ws_ yX4_unlike cX4_unlike 4 (Option.some Jvm.ClassFile.FieldType.int)) ({ frames := 4, cells := σ.2 3 - σ.2 0, slots := σ.2 4 - σ.2 1, locals := 104 }) (CPc g A [.ref o, .int x1, .int x2] σ) (CQ g A (some (.int v)) σ1) (σ.2 3 - σ.2 0) (σ.2 4 - σ.2 1) A := by
  refine Met.ofW (cc := cX4_unlike) (maxL := 4) (ret := (Option.some Jvm.ClassFile.FieldType.int)) (by decide) rfl ?_
  intro p e s m args below meth c s₁ B hml hv
  obtain ⟨rfl, hw, hσ⟩ := hv
  have hts := atoms_spec (ws := (ws_ yX4_unlike cX4_unlike 4 (Option.some Jvm.ClassFile.FieldType.int))) B.pre
  have C : CX p m meth c s ([.ref o, .int x1, .int x2] : List Value).toArray cX4_unlike 4 (Option.some Jvm.ClassFile.FieldType.int) RX4 := ⟨⟨B.exec, B.bytes, hml, findClass_of_methodNamed B.named, fun w h => hts w (List.mem_cons_of_mem _ h)⟩, B.returns, B.notSynchronized⟩
  have e3 : σ.2 3 - σ.2 0 = g.2.2.1 3 - s.heap.size := by rw [hσ.1, hσ.2.2.2.1 3 (by decide)]
  have e4 : σ.2 4 - σ.2 1 = g.2.2.1 4 - hsl s.heap := by rw [hσ.2.1, hσ.2.2.2.1 4 (by decide)]
  have hR : RM g s (headSpec (ws_ yX4_unlike cX4_unlike 4 (Option.some Jvm.ClassFile.FieldType.int)) ({ frames := 4, cells := σ.2 3 - σ.2 0, slots := σ.2 4 - σ.2 1, locals := 104 })).room (4) (104) := ⟨⟨Nat.le_refl _, Nat.le_refl _⟩, Nat.le_of_eq e3.symm, Nat.le_of_eq e4.symm⟩
  generalize (headSpec (ws_ yX4_unlike cX4_unlike 4 (Option.some Jvm.ClassFile.FieldType.int)) ({ frames := 4, cells := σ.2 3 - σ.2 0, slots := σ.2 4 - σ.2 1, locals := 104 })).room = R at hR ⊢
  rw [e3, e4]
  have hI : CI g A s σ s.heap [] := ⟨hσ, va_S.rf, Nat.le_refl _⟩
  have hl := lv_entry ([.ref o, .int x1, .int x2]) (n := 4) (Nat.le_of_ble_eq_true rfl)
  rw [lg_entry_eq]
  generalize (lg_sl ([.ref o, .int x1, .int x2]) ++ List.replicate (4 - (lg_sl ([.ref o, .int x1, .int x2])).length) Slot.unset).toArray = ls at hl ⊢
  have hl : lv_has ls 4 [(0, .ref o), (1, .int x1), (2, .int x2)] := hl
  obtain ⟨z, hz⟩ : ∃ z, z = (v, σ1) := ⟨_, rfl⟩
  rw [← hz] at h
  rw [show v = z.1 by rw [hz], show σ1 = z.2 by rw [hz]]
  clear hz v σ1
  refine W.narrow ?_
  unfold m_X4_unlike at h
  refine lv_iconst (v := 0) C.x C.b dX4_unlike_0 (by decide) ?_
  refine lv_istore_n (i := 3) (lv' := [(3, .int 0), (0, .ref o), (1, .int x1), (2, .int x2)]) C.x C.b dX4_unlike_1 rfl hl (by decide) rfl (fun ls hl => ?_)
  exact w_X4_unlike_2 C hw hR _ x1 x2 0 _ _ _ _ h hI (lv_sub hl [1, 2, 3, 0] rfl)

theorem k_X4_judge (l : Launch) (g : cG) (A : Nat → Prop) (o : Nat) (x1 : Option Nat) (σ : cS) (v : Int32) (σ1 : cS) (h : m_X4_judge o x1 σ = some (v, σ1)) : Met l yX4_judge (ws_ yX4_judge cX4_judge 3 (Option.none : Option Jvm.ClassFile.FieldType)) ({ frames := 5, cells := σ.2 3 - σ.2 0, slots := σ.2 4 - σ.2 1, locals := 127 }) (CPc g A [.ref o, va_rf x1] σ) (CQ g A (none) σ1) (σ.2 3 - σ.2 0) (σ.2 4 - σ.2 1) A := by
  refine Met.ofW (cc := cX4_judge) (maxL := 3) (ret := (Option.none : Option Jvm.ClassFile.FieldType)) (by decide) rfl ?_
  intro p e s m args below meth c s₁ B hml hv
  obtain ⟨rfl, hw, hσ⟩ := hv
  have hts := atoms_spec (ws := (ws_ yX4_judge cX4_judge 3 (Option.none : Option Jvm.ClassFile.FieldType))) B.pre
  have C : CX p m meth c s ([.ref o, va_rf x1] : List Value).toArray cX4_judge 3 (Option.none : Option Jvm.ClassFile.FieldType) RX4 := ⟨⟨B.exec, B.bytes, hml, findClass_of_methodNamed B.named, fun w h => hts w (List.mem_cons_of_mem _ h)⟩, B.returns, B.notSynchronized⟩
  have e3 : σ.2 3 - σ.2 0 = g.2.2.1 3 - s.heap.size := by rw [hσ.1, hσ.2.2.2.1 3 (by decide)]
  have e4 : σ.2 4 - σ.2 1 = g.2.2.1 4 - hsl s.heap := by rw [hσ.2.1, hσ.2.2.2.1 4 (by decide)]
  have hR : RM g s (headSpec (ws_ yX4_judge cX4_judge 3 (Option.none : Option Jvm.ClassFile.FieldType)) ({ frames := 5, cells := σ.2 3 - σ.2 0, slots := σ.2 4 - σ.2 1, locals := 127 })).room (5) (127) := ⟨⟨Nat.le_refl _, Nat.le_refl _⟩, Nat.le_of_eq e3.symm, Nat.le_of_eq e4.symm⟩
  generalize (headSpec (ws_ yX4_judge cX4_judge 3 (Option.none : Option Jvm.ClassFile.FieldType)) ({ frames := 5, cells := σ.2 3 - σ.2 0, slots := σ.2 4 - σ.2 1, locals := 127 })).room = R at hR ⊢
  rw [e3, e4]
  have hI : CI g A s σ s.heap [] := ⟨hσ, va_S.rf, Nat.le_refl _⟩
  have hlen : (lg_sl ([.ref o, va_rf x1])).length ≤ 3 := by rcases x1 with _ | x1 <;> exact Nat.le_of_ble_eq_true rfl
  have hl := lv_entry ([.ref o, va_rf x1]) (n := 3) hlen
  rw [lg_entry_eq]
  generalize (lg_sl ([.ref o, va_rf x1]) ++ List.replicate (3 - (lg_sl ([.ref o, va_rf x1])).length) Slot.unset).toArray = ls at hl ⊢
  have hl : lv_has ls 3 [(0, .ref o), (1, va_rf x1)] := by clear hI hw h hσ e3 e4 hR C hts B; rcases x1 with _ | x1 <;> exact hl
  obtain ⟨z, hz⟩ : ∃ z, z = (v, σ1) := ⟨_, rfl⟩
  rw [← hz] at h
  rw [show σ1 = z.2 by rw [hz]]
  clear hz v σ1
  refine W.narrow ?_
  unfold m_X4_judge at h
  refine r_aload_n (x := x1) C.x C.b dX4_judge_0 rfl (lv_at hl 1 rfl) ?_
  refine cw_gI (r := x1) 3 2 C hw hI h (by decide) rfl in_X11 (by decide) (C.t _ q1244) (fun _ h9 => h9) dX4_judge_1 (fun v_1 h => ?_)
  refine cw_callS (y := yJ14_numberOfTrailingZeros) (bytes := cJ14_numberOfTrailingZeros) (maxL := 2) (fun v => some (.int v)) [.int v_1] C hw hR hI hl.1 h (fun vv ss ee => k_J14_numberOfTrailingZeros l g A v_1 σ vv ss ee) (va_cwS 1 C.t (lw_S q1319 q1320 q145 q1321) rfl rfl rfl (by decide +kernel) ⟨Nat.le_trans (Nat.le_of_ble_eq_true rfl) hR.f, Nat.le_trans (Nat.le_of_ble_eq_true rfl) hR.lo⟩) rfl rfl (Nat.le_of_ble_eq_true rfl) dX4_judge_4 (fun v_2 σ_3 H locs h hI => ?_)
  refine lv_istore_n (i := 2) (lv' := [(2, .int v_2), (0, .ref o), (1, va_rf x1)]) C.x C.b dX4_judge_7 rfl hl (by decide) (by first | (simp [List.filter, cat_rf, cat_i, cat_a, cat_n, cat_l, cat_f, cat_d]; done) | (simp [List.filter, cat_rf, cat_i, cat_a, cat_n, cat_l, cat_f, cat_d]; rfl)) (fun ls hl => ?_)
  refine r_aload_n (x := x1) C.x C.b dX4_judge_8 rfl (lv_at hl 2 rfl) ?_
  refine cw_gI (r := x1) 3 1 C hw hI h (by decide) rfl in_X11 (by decide) (C.t _ q1242) (fun _ h9 => h9) dX4_judge_9 (fun v_4 h => ?_)
  refine lv_if_ne (tgt := 23) C.x C.b dX4_judge_12 (by decide) (fun c_5 => ?_) (fun c_5 => ?_)
  · have h := iN c_5 h
    refine r_aload_n (x := x1) C.x C.b dX4_judge_23 rfl (lv_at hl 2 rfl) ?_
    refine cw_gI (r := x1) 3 2 C hw hI h (by decide) rfl in_X11 (by decide) (C.t _ q1244) (fun _ h9 => h9) dX4_judge_24 (fun v_6 h => ?_)
    refine lv_if_ne (tgt := 38) C.x C.b dX4_judge_27 (by decide) (fun c_7 => ?_) (fun c_7 => ?_)
    · have h := iN c_7 h
      refine r_aload_n (x := some o) C.x C.b dX4_judge_38 rfl (lv_at hl 1 rfl) ?_
      refine r_aload_n (x := x1) C.x C.b dX4_judge_39 rfl (lv_at hl 2 rfl) ?_
      refine cw_gI (r := x1) 3 2 C hw hI h (by decide) rfl in_X11 (by decide) (C.t _ q1244) (fun _ h9 => h9) dX4_judge_40 (fun v_8 h => ?_)
      refine lv_iload_n C.x C.b dX4_judge_43 rfl (lv_at hl 0 rfl) ?_
      refine cw_callV (y := yX4_unlike) (bytes := cX4_unlike) (maxL := 4) (r := some o) (f := fun a_11 => m_X4_unlike a_11 v_8 v_2 σ_3) 1 (fun v => some (.int v)) [.int v_8, .int v_2] C hw hR hI hl.1 h (by decide) rfl (fun aa vv ss ee => k_X4_unlike l g A aa v_8 v_2 σ_3 vv ss ee) (cwV 2 C.t (lw_V q1323 q1324 q1325 q150 q1326) rfl rfl rfl (by decide +kernel) ⟨Nat.le_trans (Nat.le_of_ble_eq_true rfl) hR.f, Nat.le_trans (Nat.le_of_ble_eq_true rfl) hR.lo⟩) rfl rfl (Nat.le_of_ble_eq_true rfl) dX4_judge_44 (fun v_9 σ_10 H locs h hI => ?_)
      refine lv_iconst (v := -1) C.x C.b dX4_judge_47 (by decide) ?_
      refine lv_icmp_eq (tgt := 59) C.x C.b dX4_judge_48 (by decide) (fun c_12 => ?_) (fun c_12 => ?_)
      · have h := ip c_12 h
        refine r_aload_n (x := x1) C.x C.b dX4_judge_59 rfl (lv_at hl 2 rfl) ?_
        refine lv_iconst (v := 0) C.x C.b dX4_judge_60 (by decide) ?_
        refine cw_pO (r := x1) (v := (.int 0)) (ty := .int) 3 3 C hw hI h (by decide) rfl in_X11 tyX11 tyX11_ok nmX11 (by decide) (C.t _ q1246) (fun _ h9 => h9) (Or.inl rfl) (by decide +kernel) rfl rfl dX4_judge_61 (fun σ_13 H locs h hI => ?_)
        refine r_aload_n (x := x1) C.x C.b dX4_judge_64 rfl (lv_at hl 2 rfl) ?_
        refine lv_iload_n C.x C.b dX4_judge_65 rfl (lv_at hl 0 rfl) ?_
        refine cw_pO (r := x1) (v := (.int v_2)) (ty := .int) 3 4 C hw hI h (by decide) rfl in_X11 tyX11 tyX11_ok nmX11 (by decide) (C.t _ q1249) (fun _ h9 => h9) (Or.inl rfl) (by decide +kernel) rfl rfl dX4_judge_66 (fun σ_14 H locs h hI => ?_)
        exact cw_vret C hI h dX4_judge_69
      · have h := iN c_12 h
        refine r_aload_n (x := x1) C.x C.b dX4_judge_51 rfl (lv_at hl 2 rfl) ?_
        refine lv_iconst (v := 3) C.x C.b dX4_judge_52 (by decide) ?_
        refine cw_pO (r := x1) (v := (.int 3)) (ty := .int) 3 3 C hw hI h (by decide) rfl in_X11 tyX11 tyX11_ok nmX11 (by decide) (C.t _ q1246) (fun _ h9 => h9) (Or.inl rfl) (by decide +kernel) rfl rfl dX4_judge_53 (fun σ_15 H locs h hI => ?_)
        refine lv_goto (tgt := 69) C.x C.b dX4_judge_56 (by decide) ?_
        exact cw_vret C hI h dX4_judge_69
    · have h := ip c_7 h
      refine r_aload_n (x := x1) C.x C.b dX4_judge_30 rfl (lv_at hl 2 rfl) ?_
      refine lv_iconst (v := 2) C.x C.b dX4_judge_31 (by decide) ?_
      refine cw_pO (r := x1) (v := (.int 2)) (ty := .int) 3 3 C hw hI h (by decide) rfl in_X11 tyX11 tyX11_ok nmX11 (by decide) (C.t _ q1246) (fun _ h9 => h9) (Or.inl rfl) (by decide +kernel) rfl rfl dX4_judge_32 (fun σ_16 H locs h hI => ?_)
      refine lv_goto (tgt := 69) C.x C.b dX4_judge_35 (by decide) ?_
      exact cw_vret C hI h dX4_judge_69
  · have h := ip c_5 h
    refine r_aload_n (x := x1) C.x C.b dX4_judge_15 rfl (lv_at hl 2 rfl) ?_
    refine lv_iconst (v := 1) C.x C.b dX4_judge_16 (by decide) ?_
    refine cw_pO (r := x1) (v := (.int 1)) (ty := .int) 3 3 C hw hI h (by decide) rfl in_X11 tyX11 tyX11_ok nmX11 (by decide) (C.t _ q1246) (fun _ h9 => h9) (Or.inl rfl) (by decide +kernel) rfl rfl dX4_judge_17 (fun σ_17 H locs h hI => ?_)
    refine lv_goto (tgt := 69) C.x C.b dX4_judge_20 (by decide) ?_
    exact cw_vret C hI h dX4_judge_69

theorem w_X4_valuesOf_13 {z : Option Nat × cS} {o : Nat} (C : CX p m meth c s args cX4_valuesOf 5 (Option.some (Jvm.ClassFile.FieldType.array Jvm.ClassFile.FieldType.int)) RX4) (hw : WKc g A s s.heap) (hR : RM g s R (1) (40))  : ∀ (n : Nat) (x2 : Option Nat) (x3 : Int32) (x4 : Int32) (σ : cS) (H : Heap) (locs : List Loc) (ls : Array Slot), b_X4_valuesOf_13 o n x2 x3 x4 σ = some z → CI g A s σ H locs → lv_has ls 5 [(0, .ref o), (2, va_rf x2), (3, .int x3), (4, .int x4)] → W p l e R s m args below meth c H locs (H.size - s.heap.size) (hsl H - hsl s.heap) (MQ below (CQ g A (some (va_rf z.1)) z.2) args s (g.2.2.1 3 - s.heap.size) (g.2.2.1 4 - hsl s.heap) A) (F0 m 13 ls []) := by
  intro n
  induction n with
  | zero =>
    intro x2 x3 x4 σ H locs ls h
    cases h
  | succ n ih =>
    intro x2 x3 x4 σ H locs ls h hI hl
    rw [b_X4_valuesOf_13] at h
    refine lv_iload C.x C.b dX4_valuesOf_13 (lv_at hl 3 rfl) ?_
    refine r_aload_n (x := some o) C.x C.b dX4_valuesOf_15 rfl (lv_at hl 0 rfl) ?_
    refine cw_gR (r := some o) 1 0 C hw hI h (by decide) rfl in_X4 (by decide) (C.t _ q838) (fun _ h9 => h9) dX4_valuesOf_16 (fun v_1 h => ?_)
    refine cw_aL (r := v_1) C hw hI h dX4_valuesOf_19 (fun v_2 h => ?_)
    refine lv_icmp_ge (tgt := 52) C.x C.b dX4_valuesOf_20 (by decide) (fun c_3 => ?_) (fun c_3 => ?_)
    · have h := ip c_3 h
      refine r_aload_n (x := x2) C.x C.b dX4_valuesOf_52 rfl (lv_at hl 1 rfl) ?_
      exact cw_aret (x := x2) C (Or.inr ⟨_, rfl⟩) hI h dX4_valuesOf_53
    · have h := iN c_3 h
      refine r_aload_n (x := x2) C.x C.b dX4_valuesOf_23 rfl (lv_at hl 1 rfl) ?_
      refine lv_iload C.x C.b dX4_valuesOf_24 (lv_at hl 3 rfl) ?_
      refine lv_iload_n C.x C.b dX4_valuesOf_26 rfl (lv_at hl 2 rfl) ?_
      refine r_aload_n (x := some o) C.x C.b dX4_valuesOf_27 rfl (lv_at hl 0 rfl) ?_
      refine cw_gR (r := some o) 1 0 C hw hI h (by decide) rfl in_X4 (by decide) (C.t _ q838) (fun _ h9 => h9) dX4_valuesOf_28 (fun v_4 h => ?_)
      refine lv_iload C.x C.b dX4_valuesOf_31 (lv_at hl 3 rfl) ?_
      refine cw_ild (r := v_4) C hw hI h dX4_valuesOf_33 (fun v_5 h => ?_)
      have hz := nz_s h
      have h := hz.2
      refine lv_irem C.x C.b dX4_valuesOf_34 hz.1 ?_
      refine cw_ist (r := x2) C hw hI h dX4_valuesOf_35 (fun σ_6 H locs h hI => ?_)
      refine lv_iload_n C.x C.b dX4_valuesOf_36 rfl (lv_at hl 2 rfl) ?_
      refine r_aload_n (x := some o) C.x C.b dX4_valuesOf_37 rfl (lv_at hl 0 rfl) ?_
      refine cw_gR (r := some o) 1 0 C hw hI h (by decide) rfl in_X4 (by decide) (C.t _ q838) (fun _ h9 => h9) dX4_valuesOf_38 (fun v_7 h => ?_)
      refine lv_iload C.x C.b dX4_valuesOf_41 (lv_at hl 3 rfl) ?_
      refine cw_ild (r := v_7) C hw hI h dX4_valuesOf_43 (fun v_8 h => ?_)
      have hz := nz_s h
      have h := hz.2
      refine lv_idiv C.x C.b dX4_valuesOf_44 hz.1 ?_
      refine tw_lt h (fun x3_9 h => ?_)
      refine lv_istore_n (i := 3) (lv' := [(3, .int x3_9), (0, .ref o), (2, va_rf x2), (4, .int x4)]) C.x C.b dX4_valuesOf_45 rfl hl (by decide) (by first | (simp [List.filter, cat_rf, cat_i, cat_a, cat_n, cat_l, cat_f, cat_d]; done) | (simp [List.filter, cat_rf, cat_i, cat_a, cat_n, cat_l, cat_f, cat_d]; rfl)) (fun ls hl => ?_)
      obtain ⟨x4_10, e_, h⟩ := nm_s h
      refine lv_iinc (v := x4_10) (lv' := [(4, .int x4_10), (3, .int x3_9), (0, .ref o), (2, va_rf x2)]) C.x C.b dX4_valuesOf_46 hl (k := 3) rfl e_.symm (by decide) (by first | (simp [List.filter, cat_rf, cat_i, cat_a, cat_n, cat_l, cat_f, cat_d]; done) | (simp [List.filter, cat_rf, cat_i, cat_a, cat_n, cat_l, cat_f, cat_d]; rfl)) (fun ls hl => ?_)
      refine lv_goto (tgt := 13) C.x C.b dX4_valuesOf_49 (by decide) ?_
      exact ih x2 x3_9 x4_10 _ _ _ _ h hI (lv_sub hl [2, 3, 1, 0] rfl)

theorem k_X4_valuesOf (l : Launch) (g : cG) (A : Nat → Prop) (o : Nat) (x1 : Int32) (σ : cS) (v : Option Nat) (σ1 : cS) (h : m_X4_valuesOf o x1 σ = some (v, σ1)) : Met l yX4_valuesOf (ws_ yX4_valuesOf cX4_valuesOf 5 (Option.some (Jvm.ClassFile.FieldType.array Jvm.ClassFile.FieldType.int))) ({ frames := 1, cells := σ.2 3 - σ.2 0, slots := σ.2 4 - σ.2 1, locals := 40 }) (CPc g A [.ref o, .int x1] σ) (CQ g A (some (va_rf v)) σ1) (σ.2 3 - σ.2 0) (σ.2 4 - σ.2 1) A := by
  refine Met.ofW (cc := cX4_valuesOf) (maxL := 5) (ret := (Option.some (Jvm.ClassFile.FieldType.array Jvm.ClassFile.FieldType.int))) (by decide) rfl ?_
  intro p e s m args below meth c s₁ B hml hv
  obtain ⟨rfl, hw, hσ⟩ := hv
  have hts := atoms_spec (ws := (ws_ yX4_valuesOf cX4_valuesOf 5 (Option.some (Jvm.ClassFile.FieldType.array Jvm.ClassFile.FieldType.int)))) B.pre
  have C : CX p m meth c s ([.ref o, .int x1] : List Value).toArray cX4_valuesOf 5 (Option.some (Jvm.ClassFile.FieldType.array Jvm.ClassFile.FieldType.int)) RX4 := ⟨⟨B.exec, B.bytes, hml, findClass_of_methodNamed B.named, fun w h => hts w (List.mem_cons_of_mem _ h)⟩, B.returns, B.notSynchronized⟩
  have e3 : σ.2 3 - σ.2 0 = g.2.2.1 3 - s.heap.size := by rw [hσ.1, hσ.2.2.2.1 3 (by decide)]
  have e4 : σ.2 4 - σ.2 1 = g.2.2.1 4 - hsl s.heap := by rw [hσ.2.1, hσ.2.2.2.1 4 (by decide)]
  have hR : RM g s (headSpec (ws_ yX4_valuesOf cX4_valuesOf 5 (Option.some (Jvm.ClassFile.FieldType.array Jvm.ClassFile.FieldType.int))) ({ frames := 1, cells := σ.2 3 - σ.2 0, slots := σ.2 4 - σ.2 1, locals := 40 })).room (1) (40) := ⟨⟨Nat.le_refl _, Nat.le_refl _⟩, Nat.le_of_eq e3.symm, Nat.le_of_eq e4.symm⟩
  generalize (headSpec (ws_ yX4_valuesOf cX4_valuesOf 5 (Option.some (Jvm.ClassFile.FieldType.array Jvm.ClassFile.FieldType.int))) ({ frames := 1, cells := σ.2 3 - σ.2 0, slots := σ.2 4 - σ.2 1, locals := 40 })).room = R at hR ⊢
  rw [e3, e4]
  have hI : CI g A s σ s.heap [] := ⟨hσ, va_S.rf, Nat.le_refl _⟩
  have hl := lv_entry ([.ref o, .int x1]) (n := 5) (Nat.le_of_ble_eq_true rfl)
  rw [lg_entry_eq]
  generalize (lg_sl ([.ref o, .int x1]) ++ List.replicate (5 - (lg_sl ([.ref o, .int x1])).length) Slot.unset).toArray = ls at hl ⊢
  have hl : lv_has ls 5 [(0, .ref o), (1, .int x1)] := hl
  obtain ⟨z, hz⟩ : ∃ z, z = (v, σ1) := ⟨_, rfl⟩
  rw [← hz] at h
  rw [show v = z.1 by rw [hz], show σ1 = z.2 by rw [hz]]
  clear hz v σ1
  refine W.narrow ?_
  unfold m_X4_valuesOf at h
  refine r_aload_n (x := some o) C.x C.b dX4_valuesOf_0 rfl (lv_at hl 0 rfl) ?_
  refine cw_gR (r := some o) 1 0 C hw hI h (by decide) rfl in_X4 (by decide) (C.t _ q838) (fun _ h9 => h9) dX4_valuesOf_1 (fun v_1 h => ?_)
  refine cw_aL (r := v_1) C hw hI h dX4_valuesOf_4 (fun v_2 h => ?_)
  refine cw_nAi C hw hR hI h dX4_valuesOf_5 (fun q_3 σ_4 H locs h hI => ?_)
  refine r_astore_n (i := 2) (x := some q_3) (lv' := [(2, .ref q_3), (0, .ref o), (1, .int x1)]) C.x C.b dX4_valuesOf_7 rfl hl (by decide) (by rfl) (fun ls hl => ?_)
  refine lv_iload_n C.x C.b dX4_valuesOf_8 rfl (lv_at hl 2 rfl) ?_
  refine lv_istore_n (i := 3) (lv' := [(3, .int x1), (2, .ref q_3), (0, .ref o), (1, .int x1)]) C.x C.b dX4_valuesOf_9 rfl hl (by decide) rfl (fun ls hl => ?_)
  refine lv_iconst (v := 0) C.x C.b dX4_valuesOf_10 (by decide) ?_
  refine lv_istore (i := 4) (lv' := [(4, .int 0), (3, .int x1), (2, .ref q_3), (0, .ref o), (1, .int x1)]) C.x C.b dX4_valuesOf_11 hl (by decide) rfl (fun ls hl => ?_)
  exact w_X4_valuesOf_13 C hw hR _ (some q_3) x1 0 _ _ _ _ h hI (lv_sub hl [3, 2, 1, 0] rfl)

end
