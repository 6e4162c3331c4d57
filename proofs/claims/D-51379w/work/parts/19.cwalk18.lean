/-! THE CLASS' WALKS 18: printed by gencl.py -/
section
variable {p : Program} {l : Launch} {e : Env} {R : Room} {s : State} {m : MethodId} {args : Array Value} {below : List Frame} {meth : Method} {c : Code} {g : cG} {A : Nat → Prop}
set_option maxRecDepth 100000
theorem w_X9_sharesTogether_4 {z : Int32 × cS} {o : Nat} (C : CX p m meth c s args cX9_sharesTogether 3 (Option.some Jvm.ClassFile.FieldType.int) RX9) (hw : WKc g A s s.heap) (hR : RM g s R (1) (40))  : ∀ (n : Nat) (x1 : Int32) (x2 : Int32) (σ : cS) (H : Heap) (locs : List Loc) (ls : Array Slot), b_X9_sharesTogether_4 o n x1 x2 σ = some z → CI g A s σ H locs → lv_has ls 3 [(0, .ref o), (1, .int x1), (2, .int x2)] → W p l e R s m args below meth c H locs (H.size - s.heap.size) (hsl H - hsl s.heap) (MQ below (CQ g A (some (.int z.1)) z.2) args s (g.2.2.1 3 - s.heap.size) (g.2.2.1 4 - hsl s.heap) A) (F0 m 4 ls []) := by
  intro n
  induction n with
  | zero =>
    intro x1 x2 σ H locs ls h
    cases h
  | succ n ih =>
    intro x1 x2 σ H locs ls h hI hl
    rw [b_X9_sharesTogether_4] at h
    refine lv_iload_n C.x C.b dX9_sharesTogether_4 rfl (lv_at hl 2 rfl) ?_
    refine lv_iconst (v := 4) C.x C.b dX9_sharesTogether_5 (by decide) ?_
    refine lv_icmp_ge (tgt := 24) C.x C.b dX9_sharesTogether_6 (by decide) (fun c_1 => ?_) (fun c_1 => ?_)
    · have h := ip c_1 h
      refine lv_iload_n C.x C.b dX9_sharesTogether_24 rfl (lv_at hl 1 rfl) ?_
      exact cw_iret C hI h dX9_sharesTogether_25
    · have h := iN c_1 h
      refine lv_iload_n C.x C.b dX9_sharesTogether_9 rfl (lv_at hl 1 rfl) ?_
      refine r_aload_n (x := some o) C.x C.b dX9_sharesTogether_10 rfl (lv_at hl 0 rfl) ?_
      refine cw_gR (r := some o) 2 2 C hw hI h (by decide) rfl in_X9 (by decide) (C.t _ q1106) (fun _ h9 => h9) dX9_sharesTogether_11 (fun v_2 h => ?_)
      refine lv_iload_n C.x C.b dX9_sharesTogether_14 rfl (lv_at hl 2 rfl) ?_
      refine cw_ild (r := v_2) C hw hI h dX9_sharesTogether_15 (fun v_3 h => ?_)
      refine lv_iadd C.x C.b dX9_sharesTogether_16 ?_
      refine tw_lt h (fun x1_4 h => ?_)
      refine lv_istore_n (i := 1) (lv' := [(1, .int x1_4), (0, .ref o), (2, .int x2)]) C.x C.b dX9_sharesTogether_17 rfl hl (by decide) rfl (fun ls hl => ?_)
      obtain ⟨x2_5, e_, h⟩ := nm_s h
      refine lv_iinc (v := x2_5) (lv' := [(2, .int x2_5), (1, .int x1_4), (0, .ref o)]) C.x C.b dX9_sharesTogether_18 hl (k := 2) rfl e_.symm (by decide) rfl (fun ls hl => ?_)
      refine lv_goto (tgt := 4) C.x C.b dX9_sharesTogether_21 (by decide) ?_
      exact ih x1_4 x2_5 _ _ _ _ h hI (lv_sub hl [2, 1, 0] rfl)

theorem k_X9_sharesTogether (l : Launch) (g : cG) (A : Nat → Prop) (o : Nat) (σ : cS) (v : Int32) (σ1 : cS) (h : m_X9_sharesTogether o σ = some (v, σ1)) : Met l yX9_sharesTogether (ws_ yX9_sharesTogether cX9_sharesTogether 3 (Option.some Jvm.ClassFile.FieldType.int)) ({ frames := 1, cells := σ.2 3 - σ.2 0, slots := σ.2 4 - σ.2 1, locals := 40 }) (CPc g A [.ref o] σ) (CQ g A (some (.int v)) σ1) (σ.2 3 - σ.2 0) (σ.2 4 - σ.2 1) A := by
  refine Met.ofW (cc := cX9_sharesTogether) (maxL := 3) (ret := (Option.some Jvm.ClassFile.FieldType.int)) (by decide) rfl ?_
  intro p e s m args below meth c s₁ B hml hv
  obtain ⟨rfl, hw, hσ⟩ := hv
  have hts := atoms_spec (ws := (ws_ yX9_sharesTogether cX9_sharesTogether 3 (Option.some Jvm.ClassFile.FieldType.int))) B.pre
  have C : CX p m meth c s ([.ref o] : List Value).toArray cX9_sharesTogether 3 (Option.some Jvm.ClassFile.FieldType.int) RX9 := ⟨⟨B.exec, B.bytes, hml, findClass_of_methodNamed B.named, fun w h => hts w (List.mem_cons_of_mem _ h)⟩, B.returns, B.notSynchronized⟩
  have e3 : σ.2 3 - σ.2 0 = g.2.2.1 3 - s.heap.size := by rw [hσ.1, hσ.2.2.2.1 3 (by decide)]
  have e4 : σ.2 4 - σ.2 1 = g.2.2.1 4 - hsl s.heap := by rw [hσ.2.1, hσ.2.2.2.1 4 (by decide)]
  have hR : RM g s (headSpec (ws_ yX9_sharesTogether cX9_sharesTogether 3 (Option.some Jvm.ClassFile.FieldType.int)) ({ frames := 1, cells := σ.2 3 - σ.2 0, slots := σ.2 4 - σ.2 1, locals := 40 })).room (1) (40) := ⟨⟨Nat.le_refl _, Nat.le_refl _⟩, Nat.le_of_eq e3.symm, Nat.le_of_eq e4.symm⟩
  generalize (headSpec (ws_ yX9_sharesTogether cX9_sharesTogether 3 (Option.some Jvm.ClassFile.FieldType.int)) ({ frames := 1, cells := σ.2 3 - σ.2 0, slots := σ.2 4 - σ.2 1, locals := 40 })).room = R at hR ⊢
  rw [e3, e4]
  have hI : CI g A s σ s.heap [] := ⟨hσ, va_S.rf, Nat.le_refl _⟩
  have hl := lv_entry ([.ref o]) (n := 3) (Nat.le_of_ble_eq_true rfl)
  rw [lg_entry_eq]
  generalize (lg_sl ([.ref o]) ++ List.replicate (3 - (lg_sl ([.ref o])).length) Slot.unset).toArray = ls at hl ⊢
  have hl : lv_has ls 3 [(0, .ref o)] := hl
  obtain ⟨z, hz⟩ : ∃ z, z = (v, σ1) := ⟨_, rfl⟩
  rw [← hz] at h
  rw [show v = z.1 by rw [hz], show σ1 = z.2 by rw [hz]]
  clear hz v σ1
  refine W.narrow ?_
  unfold m_X9_sharesTogether at h
  refine lv_iconst (v := 0) C.x C.b dX9_sharesTogether_0 (by decide) ?_
  refine lv_istore_n (i := 1) (lv' := [(1, .int 0), (0, .ref o)]) C.x C.b dX9_sharesTogether_1 rfl hl (by decide) rfl (fun ls hl => ?_)
  refine lv_iconst (v := 0) C.x C.b dX9_sharesTogether_2 (by decide) ?_
  refine lv_istore_n (i := 2) (lv' := [(2, .int 0), (1, .int 0), (0, .ref o)]) C.x C.b dX9_sharesTogether_3 rfl hl (by decide) rfl (fun ls hl => ?_)
  exact w_X9_sharesTogether_4 C hw hR _ 0 0 _ _ _ _ h hI (lv_sub hl [2, 1, 0] rfl)

theorem w_X4_forget_2 {z : Int32 × cS} {o : Nat} (C : CX p m meth c s args cX4_forget 2 (Option.none : Option Jvm.ClassFile.FieldType) RX4) (hw : WKc g A s s.heap) (hR : RM g s R (1) (40))  : ∀ (n : Nat) (x1 : Int32) (σ : cS) (H : Heap) (locs : List Loc) (ls : Array Slot), b_X4_forget_2 o n x1 σ = some z → CI g A s σ H locs → lv_has ls 2 [(0, .ref o), (1, .int x1)] → W p l e R s m args below meth c H locs (H.size - s.heap.size) (hsl H - hsl s.heap) (MQ below (CQ g A (none) z.2) args s (g.2.2.1 3 - s.heap.size) (g.2.2.1 4 - hsl s.heap) A) (F0 m 2 ls []) := by
  intro n
  induction n with
  | zero =>
    intro x1 σ H locs ls h
    cases h
  | succ n ih =>
    intro x1 σ H locs ls h hI hl
    rw [b_X4_forget_2] at h
    refine lv_iload_n C.x C.b dX4_forget_2 rfl (lv_at hl 1 rfl) ?_
    refine r_aload_n (x := some o) C.x C.b dX4_forget_3 rfl (lv_at hl 0 rfl) ?_
    refine cw_gR (r := some o) 1 5 C hw hI h (by decide) rfl in_X4 (by decide) (C.t _ q853) (fun _ h9 => h9) dX4_forget_4 (fun v_1 h => ?_)
    refine cw_aL (r := v_1) C hw hI h dX4_forget_7 (fun v_2 h => ?_)
    refine lv_icmp_ge (tgt := 24) C.x C.b dX4_forget_8 (by decide) (fun c_3 => ?_) (fun c_3 => ?_)
    · have h := ip c_3 h
      exact cw_vret C hI h dX4_forget_24
    · have h := iN c_3 h
      refine r_aload_n (x := some o) C.x C.b dX4_forget_11 rfl (lv_at hl 0 rfl) ?_
      refine cw_gR (r := some o) 1 5 C hw hI h (by decide) rfl in_X4 (by decide) (C.t _ q853) (fun _ h9 => h9) dX4_forget_12 (fun v_4 h => ?_)
      refine lv_iload_n C.x C.b dX4_forget_15 rfl (lv_at hl 1 rfl) ?_
      refine lv_null C.x C.b dX4_forget_16 ?_
      refine cw_rst (r := v_4) (x := none) C hw hI h dX4_forget_17 (fun σ_5 H locs h hI => ?_)
      obtain ⟨x1_6, e_, h⟩ := nm_s h
      refine lv_iinc (v := x1_6) (lv' := [(1, .int x1_6), (0, .ref o)]) C.x C.b dX4_forget_18 hl (k := 1) rfl e_.symm (by decide) rfl (fun ls hl => ?_)
      refine lv_goto (tgt := 2) C.x C.b dX4_forget_21 (by decide) ?_
      exact ih x1_6 _ _ _ _ h hI (lv_sub hl [1, 0] rfl)

theorem k_X4_forget (l : Launch) (g : cG) (A : Nat → Prop) (o : Nat) (σ : cS) (v : Int32) (σ1 : cS) (h : m_X4_forget o σ = some (v, σ1)) : Met l yX4_forget (ws_ yX4_forget cX4_forget 2 (Option.none : Option Jvm.ClassFile.FieldType)) ({ frames := 1, cells := σ.2 3 - σ.2 0, slots := σ.2 4 - σ.2 1, locals := 40 }) (CPc g A [.ref o] σ) (CQ g A (none) σ1) (σ.2 3 - σ.2 0) (σ.2 4 - σ.2 1) A := by
  refine Met.ofW (cc := cX4_forget) (maxL := 2) (ret := (Option.none : Option Jvm.ClassFile.FieldType)) (by decide) rfl ?_
  intro p e s m args below meth c s₁ B hml hv
  obtain ⟨rfl, hw, hσ⟩ := hv
  have hts := atoms_spec (ws := (ws_ yX4_forget cX4_forget 2 (Option.none : Option Jvm.ClassFile.FieldType))) B.pre
  have C : CX p m meth c s ([.ref o] : List Value).toArray cX4_forget 2 (Option.none : Option Jvm.ClassFile.FieldType) RX4 := ⟨⟨B.exec, B.bytes, hml, findClass_of_methodNamed B.named, fun w h => hts w (List.mem_cons_of_mem _ h)⟩, B.returns, B.notSynchronized⟩
  have e3 : σ.2 3 - σ.2 0 = g.2.2.1 3 - s.heap.size := by rw [hσ.1, hσ.2.2.2.1 3 (by decide)]
  have e4 : σ.2 4 - σ.2 1 = g.2.2.1 4 - hsl s.heap := by rw [hσ.2.1, hσ.2.2.2.1 4 (by decide)]
  have hR : RM g s (headSpec (ws_ yX4_forget cX4_forget 2 (Option.none : Option Jvm.ClassFile.FieldType)) ({ frames := 1, cells := σ.2 3 - σ.2 0, slots := σ.2 4 - σ.2 1, locals := 40 })).room (1) (40) := ⟨⟨Nat.le_refl _, Nat.le_refl _⟩, Nat.le_of_eq e3.symm, Nat.le_of_eq e4.symm⟩
  generalize (headSpec (ws_ yX4_forget cX4_forget 2 (Option.none : Option Jvm.ClassFile.FieldType)) ({ frames := 1, cells := σ.2 3 - σ.2 0, slots := σ.2 4 - σ.2 1, locals := 40 })).room = R at hR ⊢
  rw [e3, e4]
  have hI : CI g A s σ s.heap [] := ⟨hσ, va_S.rf, Nat.le_refl _⟩
  have hl := lv_entry ([.ref o]) (n := 2) (Nat.le_of_ble_eq_true rfl)
  rw [lg_entry_eq]
  generalize (lg_sl ([.ref o]) ++ List.replicate (2 - (lg_sl ([.ref o])).length) Slot.unset).toArray = ls at hl ⊢
  have hl : lv_has ls 2 [(0, .ref o)] := hl
  obtain ⟨z, hz⟩ : ∃ z, z = (v, σ1) := ⟨_, rfl⟩
  rw [← hz] at h
  rw [show σ1 = z.2 by rw [hz]]
  clear hz v σ1
  refine W.narrow ?_
  unfold m_X4_forget at h
  refine lv_iconst (v := 0) C.x C.b dX4_forget_0 (by decide) ?_
  refine lv_istore_n (i := 1) (lv' := [(1, .int 0), (0, .ref o)]) C.x C.b dX4_forget_1 rfl hl (by decide) rfl (fun ls hl => ?_)
  exact w_X4_forget_2 C hw hR _ 0 _ _ _ _ h hI (lv_sub hl [1, 0] rfl)

theorem w_X4_setShare_62 {z : Int32 × cS} {o : Nat} (C : CX p m meth c s args cX4_setShare 7 (Option.some Jvm.ClassFile.FieldType.boolean) RX4) (hw : WKc g A s s.heap) (hR : RM g s R (2) (62))  : ∀ (x6 : Int32) (s0 : Option Nat) (s1 : Int32) (s2 : Int32) (σ : cS) (H : Heap) (locs : List Loc) (ls : Array Slot), b_X4_setShare_62 o x6 s0 s1 s2 σ = some z → CI g A s σ H locs → lv_has ls 7 [(0, .ref o), (6, .int x6)] → W p l e R s m args below meth c H locs (H.size - s.heap.size) (hsl H - hsl s.heap) (MQ below (CQ g A (some (.int z.1)) z.2) args s (g.2.2.1 3 - s.heap.size) (g.2.2.1 4 - hsl s.heap) A) (F0 m 62 ls [.int s2, .int s1, va_rf s0]) := by
  intro x6 s0 s1 s2 σ H locs ls h hI hl
  unfold b_X4_setShare_62 at h
  refine cw_ist (r := s0) C hw hI h dX4_setShare_62 (fun σ_1 H locs h hI => ?_)
  refine lv_iload C.x C.b dX4_setShare_63 (lv_at hl 1 rfl) ?_
  exact cw_zret C hI h dX4_setShare_65

theorem w_X4_setShare_39 {z : Int32 × cS} {o : Nat} (C : CX p m meth c s args cX4_setShare 7 (Option.some Jvm.ClassFile.FieldType.boolean) RX4) (hw : WKc g A s s.heap) (hR : RM g s R (2) (62))  : ∀ (x1 : Option Nat) (x2 : Int32) (x5 : Int32) (s0 : Int32) (σ : cS) (H : Heap) (locs : List Loc) (ls : Array Slot), b_X4_setShare_39 o x1 x2 x5 s0 σ = some z → CI g A s σ H locs → lv_has ls 7 [(0, .ref o), (1, va_rf x1), (2, .int x2), (5, .int x5)] → W p l e R s m args below meth c H locs (H.size - s.heap.size) (hsl H - hsl s.heap) (MQ below (CQ g A (some (.int z.1)) z.2) args s (g.2.2.1 3 - s.heap.size) (g.2.2.1 4 - hsl s.heap) A) (F0 m 39 ls [.int s0]) := by
  intro x1 x2 x5 s0 σ H locs ls h hI hl
  unfold b_X4_setShare_39 at h
  refine lv_istore (i := 6) (lv' := [(6, .int s0), (0, .ref o), (1, va_rf x1), (2, .int x2), (5, .int x5)]) C.x C.b dX4_setShare_39 hl (by decide) (by first | (simp [List.filter, cat_rf, cat_i, cat_a, cat_n, cat_l, cat_f, cat_d]; done) | (simp [List.filter, cat_rf, cat_i, cat_a, cat_n, cat_l, cat_f, cat_d]; rfl)) (fun ls hl => ?_)
  refine r_aload_n (x := x1) C.x C.b dX4_setShare_41 rfl (lv_at hl 2 rfl) ?_
  refine cw_gR (r := x1) 2 2 C hw hI h (by decide) rfl in_X9 (by decide) (C.t _ q1107) (fun _ h9 => h9) dX4_setShare_42 (fun v_1 h => ?_)
  refine lv_iload_n C.x C.b dX4_setShare_45 rfl (lv_at hl 3 rfl) ?_
  refine lv_iload C.x C.b dX4_setShare_46 (lv_at hl 0 rfl) ?_
  refine lv_if_eq (tgt := 56) C.x C.b dX4_setShare_48 (by decide) (fun c_2 => ?_) (fun c_2 => ?_)
  · have h := ip c_2 h
    refine r_aload_n (x := x1) C.x C.b dX4_setShare_56 rfl (lv_at hl 2 rfl) ?_
    refine cw_gR (r := x1) 2 2 C hw hI h (by decide) rfl in_X9 (by decide) (C.t _ q1107) (fun _ h9 => h9) dX4_setShare_57 (fun v_3 h => ?_)
    refine lv_iload_n C.x C.b dX4_setShare_60 rfl (lv_at hl 3 rfl) ?_
    refine cw_ild (r := v_3) C hw hI h dX4_setShare_61 (fun v_4 h => ?_)
    exact w_X4_setShare_62 C hw hR s0 v_1 x2 v_4 _ _ _ _ h hI (lv_sub hl [1, 0] rfl)
  · have h := iN c_2 h
    refine lv_iload C.x C.b dX4_setShare_51 (lv_at hl 4 rfl) ?_
    refine lv_goto (tgt := 62) C.x C.b dX4_setShare_53 (by decide) ?_
    exact w_X4_setShare_62 C hw hR s0 v_1 x2 x5 _ _ _ _ h hI (lv_sub hl [1, 0] rfl)

theorem k_X4_setShare (l : Launch) (g : cG) (A : Nat → Prop) (o : Nat) (x1 : Option Nat) (x2 : Int32) (x3 : Int32) (x4 : Int32) (σ : cS) (v : Int32) (σ1 : cS) (h : m_X4_setShare o x1 x2 x3 x4 σ = some (v, σ1)) : Met l yX4_setShare (ws_ yX4_setShare cX4_setShare 7 (Option.some Jvm.ClassFile.FieldType.boolean)) ({ frames := 2, cells := σ.2 3 - σ.2 0, slots := σ.2 4 - σ.2 1, locals := 62 }) (CPc g A [.ref o, va_rf x1, .int x2, .int x3, .int x4] σ) (CQ g A (some (.int v)) σ1) (σ.2 3 - σ.2 0) (σ.2 4 - σ.2 1) A := by
  refine Met.ofW (cc := cX4_setShare) (maxL := 7) (ret := (Option.some Jvm.ClassFile.FieldType.boolean)) (by decide) rfl ?_
  intro p e s m args below meth c s₁ B hml hv
  obtain ⟨rfl, hw, hσ⟩ := hv
  have hts := atoms_spec (ws := (ws_ yX4_setShare cX4_setShare 7 (Option.some Jvm.ClassFile.FieldType.boolean))) B.pre
  have C : CX p m meth c s ([.ref o, va_rf x1, .int x2, .int x3, .int x4] : List Value).toArray cX4_setShare 7 (Option.some Jvm.ClassFile.FieldType.boolean) RX4 := ⟨⟨B.exec, B.bytes, hml, findClass_of_methodNamed B.named, fun w h => hts w (List.mem_cons_of_mem _ h)⟩, B.returns, B.notSynchronized⟩
  have e3 : σ.2 3 - σ.2 0 = g.2.2.1 3 - s.heap.size := by rw [hσ.1, hσ.2.2.2.1 3 (by decide)]
  have e4 : σ.2 4 - σ.2 1 = g.2.2.1 4 - hsl s.heap := by rw [hσ.2.1, hσ.2.2.2.1 4 (by decide)]
  have hR : RM g s (headSpec (ws_ yX4_setShare cX4_setShare 7 (Option.some Jvm.ClassFile.FieldType.boolean)) ({ frames := 2, cells := σ.2 3 - σ.2 0, slots := σ.2 4 - σ.2 1, locals := 62 })).room (2) (62) := ⟨⟨Nat.le_refl _, Nat.le_refl _⟩, Nat.le_of_eq e3.symm, Nat.le_of_eq e4.symm⟩
  generalize (headSpec (ws_ yX4_setShare cX4_setShare 7 (Option.some Jvm.ClassFile.FieldType.boolean)) ({ frames := 2, cells := σ.2 3 - σ.2 0, slots := σ.2 4 - σ.2 1, locals := 62 })).room = R at hR ⊢
  rw [e3, e4]
  have hI : CI g A s σ s.heap [] := ⟨hσ, va_S.rf, Nat.le_refl _⟩
  have hlen : (lg_sl ([.ref o, va_rf x1, .int x2, .int x3, .int x4])).length ≤ 7 := by rcases x1 with _ | x1 <;> exact Nat.le_of_ble_eq_true rfl
  have hl := lv_entry ([.ref o, va_rf x1, .int x2, .int x3, .int x4]) (n := 7) hlen
  rw [lg_entry_eq]
  generalize (lg_sl ([.ref o, va_rf x1, .int x2, .int x3, .int x4]) ++ List.replicate (7 - (lg_sl ([.ref o, va_rf x1, .int x2, .int x3, .int x4])).length) Slot.unset).toArray = ls at hl ⊢
  have hl : lv_has ls 7 [(0, .ref o), (1, va_rf x1), (2, .int x2), (3, .int x3), (4, .int x4)] := by clear hI hw h hσ e3 e4 hR C hts B; rcases x1 with _ | x1 <;> exact hl
  obtain ⟨z, hz⟩ : ∃ z, z = (v, σ1) := ⟨_, rfl⟩
  rw [← hz] at h
  rw [show v = z.1 by rw [hz], show σ1 = z.2 by rw [hz]]
  clear hz v σ1
  refine W.narrow ?_
  unfold m_X4_setShare at h
  refine r_aload_n (x := some o) C.x C.b dX4_setShare_0 rfl (lv_at hl 0 rfl) ?_
  refine cw_callV (y := yX4_forget) (bytes := cX4_forget) (maxL := 2) (r := some o) (f := fun a_2 => m_X4_forget a_2 σ) 1 (fun _ => none) [] C hw hR hI hl.1 h (by decide) rfl (fun aa vv ss ee => k_X4_forget l g A aa σ vv ss ee) (cwV 0 C.t (lw_V q1136 q1137 q1138 q150 q1139) rfl rfl rfl (by decide +kernel) ⟨Nat.le_trans (Nat.le_of_ble_eq_true rfl) hR.f, Nat.le_trans (Nat.le_of_ble_eq_true rfl) hR.lo⟩) rfl rfl (Nat.le_of_ble_eq_true rfl) dX4_setShare_1 (fun _ σ_1 H locs h hI => ?_)
  refine lv_sipush (v := 27720) C.x C.b dX4_setShare_4 (by decide) ?_
  refine lv_iload C.x C.b dX4_setShare_7 (lv_at hl 4 rfl) ?_
  have hz := nz_s h
  have h := hz.2
  refine lv_idiv C.x C.b dX4_setShare_9 hz.1 ?_
  refine lv_iload_n C.x C.b dX4_setShare_10 rfl (lv_at hl 3 rfl) ?_
  refine lv_imul C.x C.b dX4_setShare_11 ?_
  refine tw_lt h (fun x5_3 h => ?_)
  refine lv_istore (i := 5) (lv' := [(5, .int x5_3), (0, .ref o), (1, va_rf x1), (2, .int x2), (3, .int x3), (4, .int x4)]) C.x C.b dX4_setShare_12 hl (by decide) (by first | (simp [List.filter, cat_rf, cat_i, cat_a, cat_n, cat_l, cat_f, cat_d]; done) | (simp [List.filter, cat_rf, cat_i, cat_a, cat_n, cat_l, cat_f, cat_d]; rfl)) (fun ls hl => ?_)
  refine r_aload_n (x := x1) C.x C.b dX4_setShare_14 rfl (lv_at hl 2 rfl) ?_
  refine cw_callV (y := yX9_sharesTogether) (bytes := cX9_sharesTogether) (maxL := 3) (r := x1) (f := fun a_6 => m_X9_sharesTogether a_6 σ_1) 2 (fun v => some (.int v)) [] C hw hR hI hl.1 h (by decide) rfl (fun aa vv ss ee => k_X9_sharesTogether l g A aa σ_1 vv ss ee) (cwV 0 C.t (lw_V q1140 q1141 q1142 q157 q1143) rfl rfl rfl (by decide +kernel) ⟨Nat.le_trans (Nat.le_of_ble_eq_true rfl) hR.f, Nat.le_trans (Nat.le_of_ble_eq_true rfl) hR.lo⟩) rfl rfl (Nat.le_of_ble_eq_true rfl) dX4_setShare_15 (fun v_4 σ_5 H locs h hI => ?_)
  refine r_aload_n (x := x1) C.x C.b dX4_setShare_18 rfl (lv_at hl 2 rfl) ?_
  refine cw_gR (r := x1) 2 2 C hw hI h (by decide) rfl in_X9 (by decide) (C.t _ q1107) (fun _ h9 => h9) dX4_setShare_19 (fun v_7 h => ?_)
  refine lv_iload_n C.x C.b dX4_setShare_22 rfl (lv_at hl 3 rfl) ?_
  refine cw_ild (r := v_7) C hw hI h dX4_setShare_23 (fun v_8 h => ?_)
  refine lv_isub C.x C.b dX4_setShare_24 ?_
  refine lv_iload C.x C.b dX4_setShare_25 (lv_at hl 0 rfl) ?_
  refine lv_iadd C.x C.b dX4_setShare_27 ?_
  refine lv_sipush (v := 27720) C.x C.b dX4_setShare_28 (by decide) ?_
  refine lv_icmp_gt (tgt := 38) C.x C.b dX4_setShare_31 (by decide) (fun c_9 => ?_) (fun c_9 => ?_)
  · have h := ip c_9 h
    refine lv_iconst (v := 0) C.x C.b dX4_setShare_38 (by decide) ?_
    exact w_X4_setShare_39 C hw hR x1 x2 x5_3 0 _ _ _ _ h hI (lv_sub hl [1, 2, 3, 0] rfl)
  · have h := iN c_9 h
    refine lv_iconst (v := 1) C.x C.b dX4_setShare_34 (by decide) ?_
    refine lv_goto (tgt := 39) C.x C.b dX4_setShare_35 (by decide) ?_
    exact w_X4_setShare_39 C hw hR x1 x2 x5_3 1 _ _ _ _ h hI (lv_sub hl [1, 2, 3, 0] rfl)

theorem w_X2_parts_4 {z : (cX (Int32)) × cS} {o : Nat} (C : CX p m meth c s args cX2_parts 7 (Option.none : Option Jvm.ClassFile.FieldType) RX2) (hx : ∀ x ∈ c.exceptionTable.toList, False) (hl0 : l.stackTraces = false) (hw : WKc g A s s.heap) (hR : RM g s R (12) (260))  : ∀ (n : Nat) (x1 : Option Nat) (x2 : Int32) (x3 : Int32) (σ : cS) (H : Heap) (locs : List Loc) (ls : Array Slot), b_X2_parts_4 o n x1 x2 x3 σ = some z → CI g A s σ H locs → lv_has ls 7 [(0, .ref o), (1, va_rf x1), (2, .int x2), (3, .int x3)] → W p l e R s m args below meth c H locs (H.size - s.heap.size) (hsl H - hsl s.heap) (UQ g A (fun _ => none) z args s (g.2.2.1 3 - s.heap.size) (g.2.2.1 4 - hsl s.heap) below) (F0 m 4 ls []) := by
  intro n
  induction n with
  | zero =>
    intro x1 x2 x3 σ H locs ls h
    cases h
  | succ n ih =>
    intro x1 x2 x3 σ H locs ls h hI hl
    rw [b_X2_parts_4] at h
    refine lv_iload_n C.x C.b dX2_parts_4 rfl (lv_at hl 3 rfl) ?_
    refine lv_if_eq (tgt := 107) C.x C.b dX2_parts_5 (by decide) (fun c_1 => ?_) (fun c_1 => ?_)
    · have h := ip c_1 h
      exact uq_l h (fun y h => cw_vret C hI h dX2_parts_107)
    · have h := iN c_1 h
      refine r_aload_n (x := some o) C.x C.b dX2_parts_8 rfl (lv_at hl 0 rfl) ?_
      refine lv_iload_n C.x C.b dX2_parts_9 rfl (lv_at hl 2 rfl) ?_
      refine r_aload_n (x := some o) C.x C.b dX2_parts_10 rfl (lv_at hl 0 rfl) ?_
      refine cw_gR (r := some o) 8 2 C hw hI h (by decide) rfl in_X2 (by decide) (C.t _ q260) (fun _ h9 => h9) dX2_parts_11 (fun v_2 h => ?_)
      refine cw_gI (r := v_2) 1 1 C hw hI h (by decide) rfl in_X4 (by decide) (C.t _ q843) (fun _ h9 => h9) dX2_parts_14 (fun v_3 h => ?_)
      refine lv_iconst (v := 1) C.x C.b dX2_parts_17 (by decide) ?_
      refine lv_isub C.x C.b dX2_parts_18 ?_
      refine cx_callV (y := yX2_newIn) (bytes := cX2_newIn) (maxL := 4) (r := some o) (f := fun a_6 => m_X2_newIn a_6 x2 (v_3 - 1) σ) 8 (fun v => some (.int v)) [.int x2, .int (v_3 - 1)] C hx hw hR hI hl.1 h (by decide) rfl (fun aa uu ee => k_X2_newIn l hl0 g A aa x2 (v_3 - 1) σ uu ee) (cwV 2 C.t (lw_V q1128 q1130 qs21 q133 q1131) rfl rfl rfl (by decide +kernel) ⟨Nat.le_trans (Nat.le_of_ble_eq_true rfl) hR.f, Nat.le_trans (Nat.le_of_ble_eq_true rfl) hR.lo⟩) rfl rfl (Nat.le_of_ble_eq_true rfl) dX2_parts_19 (fun v_4 σ_5 H locs h hI => ?_)
      refine lv_istore (i := 4) (lv' := [(4, .int v_4), (0, .ref o), (1, va_rf x1), (2, .int x2), (3, .int x3)]) C.x C.b dX2_parts_22 hl (by decide) (by first | (simp [List.filter, cat_rf, cat_i, cat_a, cat_n, cat_l, cat_f, cat_d]; done) | (simp [List.filter, cat_rf, cat_i, cat_a, cat_n, cat_l, cat_f, cat_d]; rfl)) (fun ls hl => ?_)
      refine lv_iload_n C.x C.b dX2_parts_24 rfl (lv_at hl 3 rfl) ?_
      refine lv_iconst (v := 1) C.x C.b dX2_parts_25 (by decide) ?_
      refine lv_iload C.x C.b dX2_parts_26 (lv_at hl 0 rfl) ?_
      refine lv_ishl C.x C.b dX2_parts_28 ?_
      refine lv_ior C.x C.b dX2_parts_29 ?_
      refine tw_lt h (fun x2_7 h => ?_)
      refine lv_istore_n (i := 2) (lv' := [(2, .int x2_7), (4, .int v_4), (0, .ref o), (1, va_rf x1), (3, .int x3)]) C.x C.b dX2_parts_30 rfl hl (by decide) (by first | (simp [List.filter, cat_rf, cat_i, cat_a, cat_n, cat_l, cat_f, cat_d]; done) | (simp [List.filter, cat_rf, cat_i, cat_a, cat_n, cat_l, cat_f, cat_d]; rfl)) (fun ls hl => ?_)
      refine r_aload_n (x := some o) C.x C.b dX2_parts_31 rfl (lv_at hl 2 rfl) ?_
      refine lv_iconst (v := 0) C.x C.b dX2_parts_32 (by decide) ?_
      refine lv_bipush (v := 12) C.x C.b dX2_parts_33 (by decide) ?_
      refine cx_callV (y := yX2_number) (bytes := cX2_number) (maxL := 4) (r := some o) (f := fun a_10 => m_X2_number a_10 0 12 σ_5) 8 (fun v => some (.int v)) [.int 0, .int 12] C hx hw hR hI hl.1 h (by decide) rfl (fun aa uu ee => k_X2_number l hl0 g A aa 0 12 σ_5 uu ee) (cwV 2 C.t (lw_V q797 q799 qs10 q133 q800) rfl rfl rfl (by decide +kernel) ⟨Nat.le_trans (Nat.le_of_ble_eq_true rfl) hR.f, Nat.le_trans (Nat.le_of_ble_eq_true rfl) hR.lo⟩) rfl rfl (Nat.le_of_ble_eq_true rfl) dX2_parts_35 (fun v_8 σ_9 H locs h hI => ?_)
      refine lv_istore (i := 5) (lv' := [(5, .int v_8), (2, .int x2_7), (4, .int v_4), (0, .ref o), (1, va_rf x1), (3, .int x3)]) C.x C.b dX2_parts_38 hl (by decide) (by first | (simp [List.filter, cat_rf, cat_i, cat_a, cat_n, cat_l, cat_f, cat_d]; done) | (simp [List.filter, cat_rf, cat_i, cat_a, cat_n, cat_l, cat_f, cat_d]; rfl)) (fun ls hl => ?_)
      refine r_aload_n (x := some o) C.x C.b dX2_parts_40 rfl (lv_at hl 3 rfl) ?_
      refine lv_bipush (v := 47) C.x C.b dX2_parts_41 (by decide) ?_
      refine cx_callV (y := yX2_sign) (bytes := cX2_sign) (maxL := 2) (r := some o) (f := fun a_12 => m_X2_sign a_12 47 σ_9) 8 (fun _ => none) [.int 47] C hx hw hR hI hl.1 h (by decide) rfl (fun aa uu ee => k_X2_sign l hl0 g A aa 47 σ_9 uu ee) (cwV 1 C.t (lw_V q787 q789 qs8 q133 q790) rfl rfl rfl (by decide +kernel) ⟨Nat.le_trans (Nat.le_of_ble_eq_true rfl) hR.f, Nat.le_trans (Nat.le_of_ble_eq_true rfl) hR.lo⟩) rfl rfl (Nat.le_of_ble_eq_true rfl) dX2_parts_43 (fun _ σ_11 H locs h hI => ?_)
      refine r_aload_n (x := some o) C.x C.b dX2_parts_46 rfl (lv_at hl 3 rfl) ?_
      refine lv_iconst (v := 1) C.x C.b dX2_parts_47 (by decide) ?_
      refine lv_bipush (v := 12) C.x C.b dX2_parts_48 (by decide) ?_
      refine cx_callV (y := yX2_look) (bytes := cX2_look) (maxL := 3) (r := some o) (f := fun a_15 => m_X2_look a_15 1 12 σ_11) 8 (fun v => some (.int v)) [.int 1, .int 12] C hx hw hR hI hl.1 h (by decide) rfl (fun aa uu ee => k_X2_look l hl0 g A aa 1 12 σ_11 uu ee) (cwV 2 C.t (lw_V q779 q781 qs6 q133 q782) rfl rfl rfl (by decide +kernel) ⟨Nat.le_trans (Nat.le_of_ble_eq_true rfl) hR.f, Nat.le_trans (Nat.le_of_ble_eq_true rfl) hR.lo⟩) rfl rfl (Nat.le_of_ble_eq_true rfl) dX2_parts_50 (fun v_13 σ_14 H locs h hI => ?_)
      refine lv_istore (i := 6) (lv' := [(6, .int v_13), (5, .int v_8), (2, .int x2_7), (4, .int v_4), (0, .ref o), (1, va_rf x1), (3, .int x3)]) C.x C.b dX2_parts_53 hl (by decide) (by first | (simp [List.filter, cat_rf, cat_i, cat_a, cat_n, cat_l, cat_f, cat_d]; done) | (simp [List.filter, cat_rf, cat_i, cat_a, cat_n, cat_l, cat_f, cat_d]; rfl)) (fun ls hl => ?_)
      refine r_aload_n (x := some o) C.x C.b dX2_parts_55 rfl (lv_at hl 4 rfl) ?_
      refine cw_gR (r := some o) 8 2 C hw hI h (by decide) rfl in_X2 (by decide) (C.t _ q260) (fun _ h9 => h9) dX2_parts_56 (fun v_16 h => ?_)
      refine r_aload_n (x := x1) C.x C.b dX2_parts_59 rfl (lv_at hl 5 rfl) ?_
      refine lv_iload C.x C.b dX2_parts_60 (lv_at hl 3 rfl) ?_
      refine lv_iload C.x C.b dX2_parts_62 (lv_at hl 1 rfl) ?_
      refine lv_iload C.x C.b dX2_parts_64 (lv_at hl 0 rfl) ?_
      refine cw_callV (y := yX4_setShare) (bytes := cX4_setShare) (maxL := 7) (r := v_16) (f := fun a_19 => m_X4_setShare a_19 x1 v_4 v_8 v_13 σ_14) 1 (fun v => some (.int v)) [va_rf x1, .int v_4, .int v_8, .int v_13] C hw hR hI hl.1 h (by decide) rfl (fun aa vv ss ee => k_X4_setShare l g A aa x1 v_4 v_8 v_13 σ_14 vv ss ee) (cwV 4 C.t (lw_V q1132 q1133 q1134 q150 q1135) rfl rfl rfl (by decide +kernel) ⟨Nat.le_trans (Nat.le_of_ble_eq_true rfl) hR.f, Nat.le_trans (Nat.le_of_ble_eq_true rfl) hR.lo⟩) rfl rfl (Nat.le_of_ble_eq_true rfl) dX2_parts_66 (fun v_17 σ_18 H locs h hI => ?_)
      refine lv_if_ne (tgt := 85) C.x C.b dX2_parts_69 (by decide) (fun c_20 => ?_) (fun c_20 => ?_)
      · have h := iN c_20 h
        refine r_aload_n (x := some o) C.x C.b dX2_parts_85 rfl (lv_at hl 4 rfl) ?_
        refine cw_callV (y := yX2_next) (bytes := cX2_next) (maxL := 1) (r := some o) (f := fun a_22 => m_X2_next a_22 σ_18) 8 (fun _ => none) [] C hw hR hI hl.1 h (by decide) rfl (fun aa vv ss ee => k_X2_next l g A aa σ_18 vv ss ee) (cwV 0 C.t (lw_V q293 q295 qs1 q133 q296) rfl rfl rfl (by decide +kernel) ⟨Nat.le_trans (Nat.le_of_ble_eq_true rfl) hR.f, Nat.le_trans (Nat.le_of_ble_eq_true rfl) hR.lo⟩) rfl rfl (Nat.le_of_ble_eq_true rfl) dX2_parts_86 (fun _ σ_21 H locs h hI => ?_)
        refine r_aload_n (x := some o) C.x C.b dX2_parts_89 rfl (lv_at hl 4 rfl) ?_
        refine lv_bipush (v := 44) C.x C.b dX2_parts_90 (by decide) ?_
        refine cw_callV (y := yX2_isSign) (bytes := cX2_isSign) (maxL := 2) (r := some o) (f := fun a_25 => m_X2_isSign a_25 44 σ_21) 8 (fun v => some (.int v)) [.int 44] C hw hR hI hl.1 h (by decide) rfl (fun aa vv ss ee => k_X2_isSign l g A aa 44 σ_21 vv ss ee) (cwV 1 C.t (lw_V q791 q793 qs9 q133 q794) rfl rfl rfl (by decide +kernel) ⟨Nat.le_trans (Nat.le_of_ble_eq_true rfl) hR.f, Nat.le_trans (Nat.le_of_ble_eq_true rfl) hR.lo⟩) rfl rfl (Nat.le_of_ble_eq_true rfl) dX2_parts_92 (fun v_23 σ_24 H locs h hI => ?_)
        refine lv_istore_n (i := 3) (lv' := [(3, .int v_23), (6, .int v_13), (5, .int v_8), (2, .int x2_7), (4, .int v_4), (0, .ref o), (1, va_rf x1)]) C.x C.b dX2_parts_95 rfl hl (by decide) (by first | (simp [List.filter, cat_rf, cat_i, cat_a, cat_n, cat_l, cat_f, cat_d]; done) | (simp [List.filter, cat_rf, cat_i, cat_a, cat_n, cat_l, cat_f, cat_d]; rfl)) (fun ls hl => ?_)
        refine lv_iload_n C.x C.b dX2_parts_96 rfl (lv_at hl 0 rfl) ?_
        refine lv_if_eq (tgt := 104) C.x C.b dX2_parts_97 (by decide) (fun c_26 => ?_) (fun c_26 => ?_)
        · have h := ip c_26 h
          refine lv_goto (tgt := 4) C.x C.b dX2_parts_104 (by decide) ?_
          exact ih x1 x2_7 v_23 _ _ _ _ h hI (lv_sub hl [5, 6, 3, 0] rfl)
        · have h := iN c_26 h
          refine r_aload_n (x := some o) C.x C.b dX2_parts_100 rfl (lv_at hl 5 rfl) ?_
          refine cw_callV (y := yX2_next) (bytes := cX2_next) (maxL := 1) (r := some o) (f := fun a_28 => m_X2_next a_28 σ_24) 8 (fun _ => none) [] C hw hR hI hl.1 h (by decide) rfl (fun aa vv ss ee => k_X2_next l g A aa σ_24 vv ss ee) (cwV 0 C.t (lw_V q293 q295 qs1 q133 q296) rfl rfl rfl (by decide +kernel) ⟨Nat.le_trans (Nat.le_of_ble_eq_true rfl) hR.f, Nat.le_trans (Nat.le_of_ble_eq_true rfl) hR.lo⟩) rfl rfl (Nat.le_of_ble_eq_true rfl) dX2_parts_101 (fun _ σ_27 H locs h hI => ?_)
          refine lv_goto (tgt := 4) C.x C.b dX2_parts_104 (by decide) ?_
          exact ih x1 x2_7 v_23 _ _ _ _ h hI (lv_sub hl [5, 6, 3, 0] rfl)
      · have h := ip c_20 h
        refine cw_newF C hw hI hR.2.1 hR.2.2 h q753 q754 q149 dX2_parts_72 (fun q_29 σ_30 H locs h hI => ?_)
        refine lv_dup C.x C.b dX2_parts_75 rfl ?_
        refine r_aload_n (x := some o) C.x C.b dX2_parts_76 rfl (lv_at hl 4 rfl) ?_
        refine cw_gI (r := some o) 8 4 C hw hI h (by decide) rfl in_X2 (by decide) (C.t _ q262) (fun _ h9 => h9) dX2_parts_77 (fun v_31 h => ?_)
        refine lv_iconst (v := 5) C.x C.b dX2_parts_80 (by decide) ?_
        refine cw_callI (y := yX3_init) (bytes := cX3_init) (maxL := 3) (b := q_29) [.int v_31, .int 5] C hw hR hI hl.1 h (fun vv ss ee => k_X3_init l hl0 g A q_29 v_31 5 σ_30 vv ss ee) (cwI 2 C.t (lw_meth q764) rfl rfl rfl (C.t _ q149) (C.t _ q762) (C.t _ q763) rfl (by decide +kernel) ⟨Nat.le_trans (Nat.le_of_ble_eq_true rfl) hR.f, Nat.le_trans (Nat.le_of_ble_eq_true rfl) hR.lo⟩) rfl rfl (Nat.le_of_ble_eq_true rfl) dX2_parts_81 (fun σ_32 _ H locs h hI => ?_)
        exact cx_athrow (r := some q_29) C hx hw hI h dX2_parts_84

theorem k_X2_parts (l : Launch) (hl0 : l.stackTraces = false) (g : cG) (A : Nat → Prop) (o : Nat) (x1 : Option Nat) (σ : cS) (z : (cX (Int32)) × cS) (h : m_X2_parts o x1 σ = some z) : MetX l yX2_parts (ws_ yX2_parts cX2_parts 7 (Option.none : Option Jvm.ClassFile.FieldType)) ({ frames := 12, cells := σ.2 3 - σ.2 0, slots := σ.2 4 - σ.2 1, locals := 260 }) g A [.ref o, va_rf x1] σ (fun _ => none) z (σ.2 3 - σ.2 0) (σ.2 4 - σ.2 1) := by
  refine metx_of (cc := cX2_parts) (maxL := 7) (ret := (Option.none : Option Jvm.ClassFile.FieldType)) (by decide) rfl ?_
  intro p e s m args below meth c s₁ B hml hx hv
  obtain ⟨rfl, hw, hσ⟩ := hv
  have hts := atoms_spec (ws := (ws_ yX2_parts cX2_parts 7 (Option.none : Option Jvm.ClassFile.FieldType))) B.pre
  have C : CX p m meth c s ([.ref o, va_rf x1] : List Value).toArray cX2_parts 7 (Option.none : Option Jvm.ClassFile.FieldType) RX2 := ⟨⟨B.exec, B.bytes, hml, findClass_of_methodNamed B.named, fun w h => hts w (List.mem_cons_of_mem _ h)⟩, B.returns, B.notSynchronized⟩
  have e3 : σ.2 3 - σ.2 0 = g.2.2.1 3 - s.heap.size := by rw [hσ.1, hσ.2.2.2.1 3 (by decide)]
  have e4 : σ.2 4 - σ.2 1 = g.2.2.1 4 - hsl s.heap := by rw [hσ.2.1, hσ.2.2.2.1 4 (by decide)]
  have hR : RM g s (headSpec (ws_ yX2_parts cX2_parts 7 (Option.none : Option Jvm.ClassFile.FieldType)) ({ frames := 12, cells := σ.2 3 - σ.2 0, slots := σ.2 4 - σ.2 1, locals := 260 })).room (12) (260) := ⟨⟨Nat.le_refl _, Nat.le_refl _⟩, Nat.le_of_eq e3.symm, Nat.le_of_eq e4.symm⟩
  generalize (headSpec (ws_ yX2_parts cX2_parts 7 (Option.none : Option Jvm.ClassFile.FieldType)) ({ frames := 12, cells := σ.2 3 - σ.2 0, slots := σ.2 4 - σ.2 1, locals := 260 })).room = R at hR ⊢
  rw [e3, e4]
  have hI : CI g A s σ s.heap [] := ⟨hσ, va_S.rf, Nat.le_refl _⟩
  have hlen : (lg_sl ([.ref o, va_rf x1])).length ≤ 7 := by rcases x1 with _ | x1 <;> exact Nat.le_of_ble_eq_true rfl
  have hl := lv_entry ([.ref o, va_rf x1]) (n := 7) hlen
  rw [lg_entry_eq]
  generalize (lg_sl ([.ref o, va_rf x1]) ++ List.replicate (7 - (lg_sl ([.ref o, va_rf x1])).length) Slot.unset).toArray = ls at hl ⊢
  have hl : lv_has ls 7 [(0, .ref o), (1, va_rf x1)] := by clear hI hw h hσ e3 e4 hR C hts B; rcases x1 with _ | x1 <;> exact hl
  refine W.narrow ?_
  unfold m_X2_parts at h
  refine lv_iconst (v := 0) C.x C.b dX2_parts_0 (by decide) ?_
  refine lv_istore_n (i := 2) (lv' := [(2, .int 0), (0, .ref o), (1, va_rf x1)]) C.x C.b dX2_parts_1 rfl hl (by decide) (by first | (simp [List.filter, cat_rf, cat_i, cat_a, cat_n, cat_l, cat_f, cat_d]; done) | (simp [List.filter, cat_rf, cat_i, cat_a, cat_n, cat_l, cat_f, cat_d]; rfl)) (fun ls hl => ?_)
  refine lv_iconst (v := 1) C.x C.b dX2_parts_2 (by decide) ?_
  refine lv_istore_n (i := 3) (lv' := [(3, .int 1), (2, .int 0), (0, .ref o), (1, va_rf x1)]) C.x C.b dX2_parts_3 rfl hl (by decide) (by first | (simp [List.filter, cat_rf, cat_i, cat_a, cat_n, cat_l, cat_f, cat_d]; done) | (simp [List.filter, cat_rf, cat_i, cat_a, cat_n, cat_l, cat_f, cat_d]; rfl)) (fun ls hl => ?_)
  exact w_X2_parts_4 C hx hl0 hw hR _ x1 0 1 _ _ _ _ h hI (lv_sub hl [2, 3, 1, 0] rfl)

theorem k_X2_word (l : Launch) (hl0 : l.stackTraces = false) (g : cG) (A : Nat → Prop) (o : Nat) (x1 : Option Nat) (σ : cS) (z : (cX (Int32)) × cS) (h : m_X2_word o x1 σ = some z) : MetX l yX2_word (ws_ yX2_word cX2_word 2 (Option.none : Option Jvm.ClassFile.FieldType)) ({ frames := 10, cells := σ.2 3 - σ.2 0, slots := σ.2 4 - σ.2 1, locals := 237 }) g A [.ref o, va_rf x1] σ (fun _ => none) z (σ.2 3 - σ.2 0) (σ.2 4 - σ.2 1) := by
  refine metx_of (cc := cX2_word) (maxL := 2) (ret := (Option.none : Option Jvm.ClassFile.FieldType)) (by decide) rfl ?_
  intro p e s m args below meth c s₁ B hml hx hv
  obtain ⟨rfl, hw, hσ⟩ := hv
  have hts := atoms_spec (ws := (ws_ yX2_word cX2_word 2 (Option.none : Option Jvm.ClassFile.FieldType))) B.pre
  have C : CX p m meth c s ([.ref o, va_rf x1] : List Value).toArray cX2_word 2 (Option.none : Option Jvm.ClassFile.FieldType) RX2 := ⟨⟨B.exec, B.bytes, hml, findClass_of_methodNamed B.named, fun w h => hts w (List.mem_cons_of_mem _ h)⟩, B.returns, B.notSynchronized⟩
  have e3 : σ.2 3 - σ.2 0 = g.2.2.1 3 - s.heap.size := by rw [hσ.1, hσ.2.2.2.1 3 (by decide)]
  have e4 : σ.2 4 - σ.2 1 = g.2.2.1 4 - hsl s.heap := by rw [hσ.2.1, hσ.2.2.2.1 4 (by decide)]
  have hR : RM g s (headSpec (ws_ yX2_word cX2_word 2 (Option.none : Option Jvm.ClassFile.FieldType)) ({ frames := 10, cells := σ.2 3 - σ.2 0, slots := σ.2 4 - σ.2 1, locals := 237 })).room (10) (237) := ⟨⟨Nat.le_refl _, Nat.le_refl _⟩, Nat.le_of_eq e3.symm, Nat.le_of_eq e4.symm⟩
  generalize (headSpec (ws_ yX2_word cX2_word 2 (Option.none : Option Jvm.ClassFile.FieldType)) ({ frames := 10, cells := σ.2 3 - σ.2 0, slots := σ.2 4 - σ.2 1, locals := 237 })).room = R at hR ⊢
  rw [e3, e4]
  have hI : CI g A s σ s.heap [] := ⟨hσ, va_S.rf, Nat.le_refl _⟩
  have hlen : (lg_sl ([.ref o, va_rf x1])).length ≤ 2 := by rcases x1 with _ | x1 <;> exact Nat.le_of_ble_eq_true rfl
  have hl := lv_entry ([.ref o, va_rf x1]) (n := 2) hlen
  rw [lg_entry_eq]
  generalize (lg_sl ([.ref o, va_rf x1]) ++ List.replicate (2 - (lg_sl ([.ref o, va_rf x1])).length) Slot.unset).toArray = ls at hl ⊢
  have hl : lv_has ls 2 [(0, .ref o), (1, va_rf x1)] := by clear hI hw h hσ e3 e4 hR C hts B; rcases x1 with _ | x1 <;> exact hl
  refine W.narrow ?_
  unfold m_X2_word at h
  refine r_aload_n (x := some o) C.x C.b dX2_word_0 rfl (lv_at hl 0 rfl) ?_
  refine r_aload_n (x := x1) C.x C.b dX2_word_1 rfl (lv_at hl 1 rfl) ?_
  refine cw_callV (y := yX2_isWord) (bytes := cX2_isWord) (maxL := 2) (r := some o) (f := fun a_3 => m_X2_isWord a_3 x1 σ) 8 (fun v => some (.int v)) [va_rf x1] C hw hR hI hl.1 h (by decide) rfl (fun aa vv ss ee => k_X2_isWord l g A aa x1 σ vv ss ee) (cwV 1 C.t (lw_V q741 q743 qs5 q133 q744) rfl rfl rfl (by decide +kernel) ⟨Nat.le_trans (Nat.le_of_ble_eq_true rfl) hR.f, Nat.le_trans (Nat.le_of_ble_eq_true rfl) hR.lo⟩) rfl rfl (Nat.le_of_ble_eq_true rfl) dX2_word_2 (fun v_1 σ_2 H locs h hI => ?_)
  refine lv_if_ne (tgt := 21) C.x C.b dX2_word_5 (by decide) (fun c_4 => ?_) (fun c_4 => ?_)
  · have h := iN c_4 h
    refine r_aload_n (x := some o) C.x C.b dX2_word_21 rfl (lv_at hl 0 rfl) ?_
    refine cw_callV (y := yX2_next) (bytes := cX2_next) (maxL := 1) (r := some o) (f := fun a_6 => m_X2_next a_6 σ_2) 8 (fun _ => none) [] C hw hR hI hl.1 h (by decide) rfl (fun aa vv ss ee => k_X2_next l g A aa σ_2 vv ss ee) (cwV 0 C.t (lw_V q293 q295 qs1 q133 q296) rfl rfl rfl (by decide +kernel) ⟨Nat.le_trans (Nat.le_of_ble_eq_true rfl) hR.f, Nat.le_trans (Nat.le_of_ble_eq_true rfl) hR.lo⟩) rfl rfl (Nat.le_of_ble_eq_true rfl) dX2_word_22 (fun _ σ_5 H locs h hI => ?_)
    exact uq_l h (fun y h => cw_vret C hI h dX2_word_25)
  · have h := ip c_4 h
    refine cw_newF C hw hI hR.2.1 hR.2.2 h q753 q754 q149 dX2_word_8 (fun q_7 σ_8 H locs h hI => ?_)
    refine lv_dup C.x C.b dX2_word_11 rfl ?_
    refine r_aload_n (x := some o) C.x C.b dX2_word_12 rfl (lv_at hl 0 rfl) ?_
    refine cw_gI (r := some o) 8 4 C hw hI h (by decide) rfl in_X2 (by decide) (C.t _ q262) (fun _ h9 => h9) dX2_word_13 (fun v_9 h => ?_)
    refine lv_iconst (v := 1) C.x C.b dX2_word_16 (by decide) ?_
    refine cw_callI (y := yX3_init) (bytes := cX3_init) (maxL := 3) (b := q_7) [.int v_9, .int 1] C hw hR hI hl.1 h (fun vv ss ee => k_X3_init l hl0 g A q_7 v_9 1 σ_8 vv ss ee) (cwI 2 C.t (lw_meth q764) rfl rfl rfl (C.t _ q149) (C.t _ q762) (C.t _ q763) rfl (by decide +kernel) ⟨Nat.le_trans (Nat.le_of_ble_eq_true rfl) hR.f, Nat.le_trans (Nat.le_of_ble_eq_true rfl) hR.lo⟩) rfl rfl (Nat.le_of_ble_eq_true rfl) dX2_word_17 (fun σ_10 _ H locs h hI => ?_)
    exact cx_athrow (r := some q_7) C hx hw hI h dX2_word_20

theorem k_X9_init (l : Launch) (g : cG) (A : Nat → Prop) (o : Nat) (x1 : Option Nat) (x2 : Int32) (σ : cS) (v : Int32) (σ1 : cS) (h : m_X9_init o x1 x2 σ = some (v, σ1)) : Met l yX9_init (ws_ yX9_init cX9_init 3 (Option.none : Option Jvm.ClassFile.FieldType)) ({ frames := 1, cells := σ.2 3 - σ.2 0, slots := σ.2 4 - σ.2 1, locals := 40 }) (CPc g A [.ref o, va_rf x1, .int x2] σ) (CQ g A (none) σ1) (σ.2 3 - σ.2 0) (σ.2 4 - σ.2 1) A := by
  refine Met.ofW (cc := cX9_init) (maxL := 3) (ret := (Option.none : Option Jvm.ClassFile.FieldType)) (by decide) rfl ?_
  intro p e s m args below meth c s₁ B hml hv
  obtain ⟨rfl, hw, hσ⟩ := hv
  have hts := atoms_spec (ws := (ws_ yX9_init cX9_init 3 (Option.none : Option Jvm.ClassFile.FieldType))) B.pre
  have C : CX p m meth c s ([.ref o, va_rf x1, .int x2] : List Value).toArray cX9_init 3 (Option.none : Option Jvm.ClassFile.FieldType) RX9 := ⟨⟨B.exec, B.bytes, hml, findClass_of_methodNamed B.named, fun w h => hts w (List.mem_cons_of_mem _ h)⟩, B.returns, B.notSynchronized⟩
  have hin : meth.name = "<init>" := (name_of_methodNamed B.named B.method).1
  have e3 : σ.2 3 - σ.2 0 = g.2.2.1 3 - s.heap.size := by rw [hσ.1, hσ.2.2.2.1 3 (by decide)]
  have e4 : σ.2 4 - σ.2 1 = g.2.2.1 4 - hsl s.heap := by rw [hσ.2.1, hσ.2.2.2.1 4 (by decide)]
  have hR : RM g s (headSpec (ws_ yX9_init cX9_init 3 (Option.none : Option Jvm.ClassFile.FieldType)) ({ frames := 1, cells := σ.2 3 - σ.2 0, slots := σ.2 4 - σ.2 1, locals := 40 })).room (1) (40) := ⟨⟨Nat.le_refl _, Nat.le_refl _⟩, Nat.le_of_eq e3.symm, Nat.le_of_eq e4.symm⟩
  generalize (headSpec (ws_ yX9_init cX9_init 3 (Option.none : Option Jvm.ClassFile.FieldType)) ({ frames := 1, cells := σ.2 3 - σ.2 0, slots := σ.2 4 - σ.2 1, locals := 40 })).room = R at hR ⊢
  rw [e3, e4]
  have hI : CI g A s σ s.heap [] := ⟨hσ, va_S.rf, Nat.le_refl _⟩
  have hlen : (lg_sl ([.ref o, va_rf x1, .int x2])).length ≤ 3 := by rcases x1 with _ | x1 <;> exact Nat.le_of_ble_eq_true rfl
  have hl := lv_entry ([.ref o, va_rf x1, .int x2]) (n := 3) hlen
  rw [lg_entry_eq]
  generalize (lg_sl ([.ref o, va_rf x1, .int x2]) ++ List.replicate (3 - (lg_sl ([.ref o, va_rf x1, .int x2])).length) Slot.unset).toArray = ls at hl ⊢
  have hl : lv_has ls 3 [(0, .ref o), (1, va_rf x1), (2, .int x2)] := by clear hI hw h hσ e3 e4 hR C hts B; rcases x1 with _ | x1 <;> exact hl
  obtain ⟨z, hz⟩ : ∃ z, z = (v, σ1) := ⟨_, rfl⟩
  rw [← hz] at h
  rw [show σ1 = z.2 by rw [hz]]
  clear hz v σ1
  refine W.narrow ?_
  unfold m_X9_init at h
  refine r_aload_n (x := some o) C.x C.b dX9_init_0 rfl (lv_at hl 0 rfl) ?_
  refine cw_obj C hR hl.1 q1100 q173 q174 dX9_init_1 (by decide) (by decide) (Nat.le_of_ble_eq_true rfl) ?_
  refine r_aload_n (x := some o) C.x C.b dX9_init_4 rfl (lv_at hl 0 rfl) ?_
  refine lv_iconst (v := 4) C.x C.b dX9_init_5 (by decide) ?_
  refine cw_nAi C hw hR hI h dX9_init_6 (fun q_1 σ_2 H locs h hI => ?_)
  refine cw_pO (r := some o) (v := (va_rf (some q_1))) (ty := (.array .int)) 2 2 C hw hI h (by decide) rfl in_X9 tyX9 tyX9_ok nmX9 (by decide) (C.t _ q1106) (fun _ h9 => h9) (Or.inr ⟨rfl, rfl, hin⟩) (by decide +kernel) (nar_a _ _) (fits_a _ _) dX9_init_8 (fun σ_3 H locs h hI => ?_)
  refine r_aload_n (x := some o) C.x C.b dX9_init_11 rfl (lv_at hl 0 rfl) ?_
  refine r_aload_n (x := x1) C.x C.b dX9_init_12 rfl (lv_at hl 1 rfl) ?_
  refine cw_pO (r := some o) (v := (va_rf x1)) (ty := (.object "HeirCases$Guard")) 2 0 C hw hI h (by decide) rfl in_X9 tyX9 tyX9_ok nmX9 (by decide) (C.t _ q1101) (fun _ h9 => h9) (Or.inr ⟨rfl, rfl, hin⟩) (by decide +kernel) (nar_o _ _) (fits_o _ _) dX9_init_13 (fun σ_4 H locs h hI => ?_)
  refine r_aload_n (x := some o) C.x C.b dX9_init_16 rfl (lv_at hl 0 rfl) ?_
  refine lv_iload_n C.x C.b dX9_init_17 rfl (lv_at hl 2 rfl) ?_
  refine cw_pO (r := some o) (v := (.int x2)) (ty := .int) 2 1 C hw hI h (by decide) rfl in_X9 tyX9 tyX9_ok nmX9 (by decide) (C.t _ q1104) (fun _ h9 => h9) (Or.inr ⟨rfl, rfl, hin⟩) (by decide +kernel) rfl rfl dX9_init_18 (fun σ_5 H locs h hI => ?_)
  exact cw_vret C hI h dX9_init_21

theorem k_X1_always (l : Launch) (g : cG) (A : Nat → Prop) (σ : cS) (v : Option Nat) (σ1 : cS) (h : m_X1_always σ = some (v, σ1)) : Met l yX1_always (ws_ yX1_always cX1_always 0 (Option.some (Jvm.ClassFile.FieldType.object "HeirCases$Guard"))) ({ frames := 2, cells := σ.2 3 - σ.2 0, slots := σ.2 4 - σ.2 1, locals := 60 }) (CPc g A [] σ) (CQ g A (some (va_rf v)) σ1) (σ.2 3 - σ.2 0) (σ.2 4 - σ.2 1) A := by
  refine Met.ofW (cc := cX1_always) (maxL := 0) (ret := (Option.some (Jvm.ClassFile.FieldType.object "HeirCases$Guard"))) (by decide) rfl ?_
  intro p e s m args below meth c s₁ B hml hv
  obtain ⟨rfl, hw, hσ⟩ := hv
  have hts := atoms_spec (ws := (ws_ yX1_always cX1_always 0 (Option.some (Jvm.ClassFile.FieldType.object "HeirCases$Guard")))) B.pre
  have C : CX p m meth c s ([] : List Value).toArray cX1_always 0 (Option.some (Jvm.ClassFile.FieldType.object "HeirCases$Guard")) RX1 := ⟨⟨B.exec, B.bytes, hml, findClass_of_methodNamed B.named, fun w h => hts w (List.mem_cons_of_mem _ h)⟩, B.returns, B.notSynchronized⟩
  have e3 : σ.2 3 - σ.2 0 = g.2.2.1 3 - s.heap.size := by rw [hσ.1, hσ.2.2.2.1 3 (by decide)]
  have e4 : σ.2 4 - σ.2 1 = g.2.2.1 4 - hsl s.heap := by rw [hσ.2.1, hσ.2.2.2.1 4 (by decide)]
  have hR : RM g s (headSpec (ws_ yX1_always cX1_always 0 (Option.some (Jvm.ClassFile.FieldType.object "HeirCases$Guard"))) ({ frames := 2, cells := σ.2 3 - σ.2 0, slots := σ.2 4 - σ.2 1, locals := 60 })).room (2) (60) := ⟨⟨Nat.le_refl _, Nat.le_refl _⟩, Nat.le_of_eq e3.symm, Nat.le_of_eq e4.symm⟩
  generalize (headSpec (ws_ yX1_always cX1_always 0 (Option.some (Jvm.ClassFile.FieldType.object "HeirCases$Guard"))) ({ frames := 2, cells := σ.2 3 - σ.2 0, slots := σ.2 4 - σ.2 1, locals := 60 })).room = R at hR ⊢
  rw [e3, e4]
  have hI : CI g A s σ s.heap [] := ⟨hσ, va_S.rf, Nat.le_refl _⟩
  have hl := lv_entry ([]) (n := 0) (Nat.le_of_ble_eq_true rfl)
  rw [lg_entry_eq]
  generalize (lg_sl ([]) ++ List.replicate (0 - (lg_sl ([])).length) Slot.unset).toArray = ls at hl ⊢
  have hl : lv_has ls 0 [] := hl
  obtain ⟨z, hz⟩ : ∃ z, z = (v, σ1) := ⟨_, rfl⟩
  rw [← hz] at h
  rw [show v = z.1 by rw [hz], show σ1 = z.2 by rw [hz]]
  clear hz v σ1
  refine W.narrow ?_
  unfold m_X1_always at h
  refine cw_new (T := TX6) (N := 0) 7 C hw hI hR.2.1 hR.2.2 h (by decide) rfl in_X6 (fun _ => .int) (fun k hk => absurd hk (Nat.not_lt_zero _)) (fun j hj => match j, hj with  | j + 0, hj => absurd hj (Nat.not_lt_of_le (Nat.le_add_left _ _))) q990 q991 q154 dX1_always_0 (fun q_1 σ_2 H locs h hI => ?_)
  refine lv_dup C.x C.b dX1_always_3 rfl ?_
  refine cw_callI (y := yX6_init) (bytes := cX6_init) (maxL := 1) (b := q_1) [] C hw hR hI hl.1 h (fun vv ss ee => k_X6_init l g A q_1 σ_2 vv ss ee) (cwI 0 C.t (lw_meth q994) rfl rfl rfl (C.t _ q154) (C.t _ q992) (C.t _ q993) rfl (by decide +kernel) ⟨Nat.le_trans (Nat.le_of_ble_eq_true rfl) hR.f, Nat.le_trans (Nat.le_of_ble_eq_true rfl) hR.lo⟩) rfl rfl (Nat.le_of_ble_eq_true rfl) dX1_always_4 (fun σ_3 _ H locs h hI => ?_)
  exact cw_aret (x := some q_1) C (Or.inl ⟨_, rfl⟩) hI h dX1_always_7

end
