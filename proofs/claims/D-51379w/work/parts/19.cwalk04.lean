/-! THE CLASS' WALKS 4: printed by gencl.py -/
section
variable {p : Program} {l : Launch} {e : Env} {R : Room} {s : State} {m : MethodId} {args : Array Value} {below : List Frame} {meth : Method} {c : Code} {g : cG} {A : Nat → Prop}
set_option maxRecDepth 100000
theorem k_J1_sub (l : Launch) (g : cG) (A : Nat → Prop) (x0 : Int32) (x1 : Int32) (x2 : Int32) (σ : cS) (v : Int32) (σ1 : cS) (h : m_J1_sub x0 x1 x2 σ = some (v, σ1)) : Met l yJ1_sub (ws_ yJ1_sub cJ1_sub 3 (Option.some Jvm.ClassFile.FieldType.int)) ({ frames := 1, cells := σ.2 3 - σ.2 0, slots := σ.2 4 - σ.2 1, locals := 40 }) (CPc g A [.int x0, .int x1, .int x2] σ) (CQ g A (some (.int v)) σ1) (σ.2 3 - σ.2 0) (σ.2 4 - σ.2 1) A := by
  refine Met.ofW (cc := cJ1_sub) (maxL := 3) (ret := (Option.some Jvm.ClassFile.FieldType.int)) (by decide) rfl ?_
  intro p e s m args below meth c s₁ B hml hv
  obtain ⟨rfl, hw, hσ⟩ := hv
  have hts := atoms_spec (ws := (ws_ yJ1_sub cJ1_sub 3 (Option.some Jvm.ClassFile.FieldType.int))) B.pre
  have C : CX p m meth c s ([.int x0, .int x1, .int x2] : List Value).toArray cJ1_sub 3 (Option.some Jvm.ClassFile.FieldType.int) RJ1 := ⟨⟨B.exec, B.bytes, hml, findClass_of_methodNamed B.named, fun w h => hts w (List.mem_cons_of_mem _ h)⟩, B.returns, B.notSynchronized⟩
  have e3 : σ.2 3 - σ.2 0 = g.2.2.1 3 - s.heap.size := by rw [hσ.1, hσ.2.2.2.1 3 (by decide)]
  have e4 : σ.2 4 - σ.2 1 = g.2.2.1 4 - hsl s.heap := by rw [hσ.2.1, hσ.2.2.2.1 4 (by decide)]
  have hR : RM g s (headSpec (ws_ yJ1_sub cJ1_sub 3 (Option.some Jvm.ClassFile.FieldType.int)) ({ frames := 1, cells := σ.2 3 - σ.2 0, slots := σ.2 4 - σ.2 1, locals := 40 })).room (1) (40) := ⟨⟨Nat.le_refl _, Nat.le_refl _⟩, Nat.le_of_eq e3.symm, Nat.le_of_eq e4.symm⟩
  generalize (headSpec (ws_ yJ1_sub cJ1_sub 3 (Option.some Jvm.ClassFile.FieldType.int)) ({ frames := 1, cells := σ.2 3 - σ.2 0, slots := σ.2 4 - σ.2 1, locals := 40 })).room = R at hR ⊢
  rw [e3, e4]
  have hI : CI g A s σ s.heap [] := ⟨hσ, va_S.rf, Nat.le_refl _⟩
  have hl := lv_entry ([.int x0, .int x1, .int x2]) (n := 3) (Nat.le_of_ble_eq_true rfl)
  rw [lg_entry_eq]
  generalize (lg_sl ([.int x0, .int x1, .int x2]) ++ List.replicate (3 - (lg_sl ([.int x0, .int x1, .int x2])).length) Slot.unset).toArray = ls at hl ⊢
  have hl : lv_has ls 3 [(0, .int x0), (1, .int x1), (2, .int x2)] := hl
  obtain ⟨z, hz⟩ : ∃ z, z = (v, σ1) := ⟨_, rfl⟩
  rw [← hz] at h
  rw [show v = z.1 by rw [hz], show σ1 = z.2 by rw [hz]]
  clear hz v σ1
  refine W.narrow ?_
  unfold m_J1_sub at h
  refine lv_iload_n C.x C.b dJ1_sub_0 rfl (lv_at hl 0 rfl) ?_
  refine lv_iload_n C.x C.b dJ1_sub_1 rfl (lv_at hl 1 rfl) ?_
  refine lv_isub C.x C.b dJ1_sub_2 ?_
  refine tw_lt h (fun u_1 h => ?_)
  refine lv_dup C.x C.b dJ1_sub_3 rfl ?_
  refine lv_istore_n (i := 0) (lv' := [(0, .int u_1), (1, .int x1), (2, .int x2)]) C.x C.b dJ1_sub_4 rfl hl (by decide) rfl (fun ls hl => ?_)
  refine lv_if_ge (tgt := 12) C.x C.b dJ1_sub_5 (by decide) (fun c_2 => ?_) (fun c_2 => ?_)
  · have h := ip c_2 h
    refine lv_iload_n C.x C.b dJ1_sub_12 rfl (lv_at hl 0 rfl) ?_
    exact cw_iret C hI h dJ1_sub_13
  · have h := iN c_2 h
    refine lv_iload_n C.x C.b dJ1_sub_8 rfl (lv_at hl 0 rfl) ?_
    refine lv_iload_n C.x C.b dJ1_sub_9 rfl (lv_at hl 2 rfl) ?_
    refine lv_iadd C.x C.b dJ1_sub_10 ?_
    refine tw_lt h (fun x0_3 h => ?_)
    refine lv_istore_n (i := 0) (lv' := [(0, .int x0_3), (1, .int x1), (2, .int x2)]) C.x C.b dJ1_sub_11 rfl hl (by decide) rfl (fun ls hl => ?_)
    refine lv_iload_n C.x C.b dJ1_sub_12 rfl (lv_at hl 0 rfl) ?_
    exact cw_iret C hI h dJ1_sub_13

theorem k_J1_size (l : Launch) (g : cG) (A : Nat → Prop) (o : Nat) (σ : cS) (v : Int32) (σ1 : cS) (h : m_J1_size o σ = some (v, σ1)) : Met l yJ1_size (ws_ yJ1_size cJ1_size 1 (Option.some Jvm.ClassFile.FieldType.int)) ({ frames := 2, cells := σ.2 3 - σ.2 0, slots := σ.2 4 - σ.2 1, locals := 62 }) (CPc g A [.ref o] σ) (CQ g A (some (.int v)) σ1) (σ.2 3 - σ.2 0) (σ.2 4 - σ.2 1) A := by
  refine Met.ofW (cc := cJ1_size) (maxL := 1) (ret := (Option.some Jvm.ClassFile.FieldType.int)) (by decide) rfl ?_
  intro p e s m args below meth c s₁ B hml hv
  obtain ⟨rfl, hw, hσ⟩ := hv
  have hts := atoms_spec (ws := (ws_ yJ1_size cJ1_size 1 (Option.some Jvm.ClassFile.FieldType.int))) B.pre
  have C : CX p m meth c s ([.ref o] : List Value).toArray cJ1_size 1 (Option.some Jvm.ClassFile.FieldType.int) RJ1 := ⟨⟨B.exec, B.bytes, hml, findClass_of_methodNamed B.named, fun w h => hts w (List.mem_cons_of_mem _ h)⟩, B.returns, B.notSynchronized⟩
  have e3 : σ.2 3 - σ.2 0 = g.2.2.1 3 - s.heap.size := by rw [hσ.1, hσ.2.2.2.1 3 (by decide)]
  have e4 : σ.2 4 - σ.2 1 = g.2.2.1 4 - hsl s.heap := by rw [hσ.2.1, hσ.2.2.2.1 4 (by decide)]
  have hR : RM g s (headSpec (ws_ yJ1_size cJ1_size 1 (Option.some Jvm.ClassFile.FieldType.int)) ({ frames := 2, cells := σ.2 3 - σ.2 0, slots := σ.2 4 - σ.2 1, locals := 62 })).room (2) (62) := ⟨⟨Nat.le_refl _, Nat.le_refl _⟩, Nat.le_of_eq e3.symm, Nat.le_of_eq e4.symm⟩
  generalize (headSpec (ws_ yJ1_size cJ1_size 1 (Option.some Jvm.ClassFile.FieldType.int)) ({ frames := 2, cells := σ.2 3 - σ.2 0, slots := σ.2 4 - σ.2 1, locals := 62 })).room = R at hR ⊢
  rw [e3, e4]
  have hI : CI g A s σ s.heap [] := ⟨hσ, va_S.rf, Nat.le_refl _⟩
  have hl := lv_entry ([.ref o]) (n := 1) (Nat.le_of_ble_eq_true rfl)
  rw [lg_entry_eq]
  generalize (lg_sl ([.ref o]) ++ List.replicate (1 - (lg_sl ([.ref o])).length) Slot.unset).toArray = ls at hl ⊢
  have hl : lv_has ls 1 [(0, .ref o)] := hl
  obtain ⟨z, hz⟩ : ∃ z, z = (v, σ1) := ⟨_, rfl⟩
  rw [← hz] at h
  rw [show v = z.1 by rw [hz], show σ1 = z.2 by rw [hz]]
  clear hz v σ1
  refine W.narrow ?_
  unfold m_J1_size at h
  refine r_aload_n (x := some o) C.x C.b dJ1_size_0 rfl (lv_at hl 0 rfl) ?_
  refine cw_gI (r := some o) 10 2 C hw hI h (by decide) rfl in_J1 (by decide) (C.t _ q188) (fun _ h9 => h9) dJ1_size_1 (fun v_1 h => ?_)
  refine r_aload_n (x := some o) C.x C.b dJ1_size_4 rfl (lv_at hl 0 rfl) ?_
  refine cw_gI (r := some o) 10 1 C hw hI h (by decide) rfl in_J1 (by decide) (C.t _ q187) (fun _ h9 => h9) dJ1_size_5 (fun v_2 h => ?_)
  refine r_aload_n (x := some o) C.x C.b dJ1_size_8 rfl (lv_at hl 0 rfl) ?_
  refine cw_gR (r := some o) 10 0 C hw hI h (by decide) rfl in_J1 (by decide) (C.t _ q186) (fun _ h9 => h9) dJ1_size_9 (fun v_3 h => ?_)
  refine cw_aL (r := v_3) C hw hI h dJ1_size_12 (fun v_4 h => ?_)
  refine cw_callS (y := yJ1_sub) (bytes := cJ1_sub) (maxL := 3) (fun v => some (.int v)) [.int v_1, .int v_2, .int v_4] C hw hR hI hl.1 h (fun vv ss ee => k_J1_sub l g A v_1 v_2 v_4 σ vv ss ee) (va_cwS 3 C.t (lw_S q1525 q1526 q128 q1527) rfl rfl rfl (by decide +kernel) ⟨Nat.le_trans (Nat.le_of_ble_eq_true rfl) hR.f, Nat.le_trans (Nat.le_of_ble_eq_true rfl) hR.lo⟩) rfl rfl (Nat.le_of_ble_eq_true rfl) dJ1_size_13 (fun v_5 σ_6 H locs h hI => ?_)
  exact cw_iret C hI h dJ1_size_16

theorem k_J1_newCapacity (l : Launch) (g : cG) (A : Nat → Prop) (o : Nat) (x1 : Int32) (x2 : Int32) (σ : cS) (v : Int32) (σ1 : cS) (h : m_J1_newCapacity o x1 x2 σ = some (v, σ1)) : Met l yJ1_newCapacity (ws_ yJ1_newCapacity cJ1_newCapacity 5 (Option.some Jvm.ClassFile.FieldType.int)) ({ frames := 1, cells := σ.2 3 - σ.2 0, slots := σ.2 4 - σ.2 1, locals := 40 }) (CPc g A [.ref o, .int x1, .int x2] σ) (CQ g A (some (.int v)) σ1) (σ.2 3 - σ.2 0) (σ.2 4 - σ.2 1) A := by
  refine Met.ofW (cc := cJ1_newCapacity) (maxL := 5) (ret := (Option.some Jvm.ClassFile.FieldType.int)) (by decide) rfl ?_
  intro p e s m args below meth c s₁ B hml hv
  obtain ⟨rfl, hw, hσ⟩ := hv
  have hts := atoms_spec (ws := (ws_ yJ1_newCapacity cJ1_newCapacity 5 (Option.some Jvm.ClassFile.FieldType.int))) B.pre
  have C : CX p m meth c s ([.ref o, .int x1, .int x2] : List Value).toArray cJ1_newCapacity 5 (Option.some Jvm.ClassFile.FieldType.int) RJ1 := ⟨⟨B.exec, B.bytes, hml, findClass_of_methodNamed B.named, fun w h => hts w (List.mem_cons_of_mem _ h)⟩, B.returns, B.notSynchronized⟩
  have e3 : σ.2 3 - σ.2 0 = g.2.2.1 3 - s.heap.size := by rw [hσ.1, hσ.2.2.2.1 3 (by decide)]
  have e4 : σ.2 4 - σ.2 1 = g.2.2.1 4 - hsl s.heap := by rw [hσ.2.1, hσ.2.2.2.1 4 (by decide)]
  have hR : RM g s (headSpec (ws_ yJ1_newCapacity cJ1_newCapacity 5 (Option.some Jvm.ClassFile.FieldType.int)) ({ frames := 1, cells := σ.2 3 - σ.2 0, slots := σ.2 4 - σ.2 1, locals := 40 })).room (1) (40) := ⟨⟨Nat.le_refl _, Nat.le_refl _⟩, Nat.le_of_eq e3.symm, Nat.le_of_eq e4.symm⟩
  generalize (headSpec (ws_ yJ1_newCapacity cJ1_newCapacity 5 (Option.some Jvm.ClassFile.FieldType.int)) ({ frames := 1, cells := σ.2 3 - σ.2 0, slots := σ.2 4 - σ.2 1, locals := 40 })).room = R at hR ⊢
  rw [e3, e4]
  have hI : CI g A s σ s.heap [] := ⟨hσ, va_S.rf, Nat.le_refl _⟩
  have hl := lv_entry ([.ref o, .int x1, .int x2]) (n := 5) (Nat.le_of_ble_eq_true rfl)
  rw [lg_entry_eq]
  generalize (lg_sl ([.ref o, .int x1, .int x2]) ++ List.replicate (5 - (lg_sl ([.ref o, .int x1, .int x2])).length) Slot.unset).toArray = ls at hl ⊢
  have hl : lv_has ls 5 [(0, .ref o), (1, .int x1), (2, .int x2)] := hl
  obtain ⟨z, hz⟩ : ∃ z, z = (v, σ1) := ⟨_, rfl⟩
  rw [← hz] at h
  rw [show v = z.1 by rw [hz], show σ1 = z.2 by rw [hz]]
  clear hz v σ1
  refine W.narrow ?_
  unfold m_J1_newCapacity at h
  refine r_aload_n (x := some o) C.x C.b dJ1_newCapacity_0 rfl (lv_at hl 0 rfl) ?_
  refine cw_gR (r := some o) 10 0 C hw hI h (by decide) rfl in_J1 (by decide) (C.t _ q186) (fun _ h9 => h9) dJ1_newCapacity_1 (fun v_1 h => ?_)
  refine cw_aL (r := v_1) C hw hI h dJ1_newCapacity_4 (fun v_2 h => ?_)
  refine lv_istore_n (i := 3) (lv' := [(3, .int v_2), (0, .ref o), (1, .int x1), (2, .int x2)]) C.x C.b dJ1_newCapacity_5 rfl hl (by decide) rfl (fun ls hl => ?_)
  refine lv_iload_n C.x C.b dJ1_newCapacity_6 rfl (lv_at hl 0 rfl) ?_
  refine lv_iload_n C.x C.b dJ1_newCapacity_7 rfl (lv_at hl 2 rfl) ?_
  refine lv_iadd C.x C.b dJ1_newCapacity_8 ?_
  refine tw_lt h (fun u_3 h => ?_)
  refine lv_dup C.x C.b dJ1_newCapacity_9 rfl ?_
  refine lv_istore (i := 4) (lv' := [(4, .int u_3), (3, .int v_2), (0, .ref o), (1, .int x1), (2, .int x2)]) C.x C.b dJ1_newCapacity_10 hl (by decide) rfl (fun ls hl => ?_)
  refine lv_ldc C.x C.b C.o (C.t _ q1979) dJ1_newCapacity_12 ?_
  refine lv_isub C.x C.b dJ1_newCapacity_14 ?_
  refine lv_if_le (tgt := 36) C.x C.b dJ1_newCapacity_15 (by decide) (fun c_4 => ?_) (fun c_4 => ?_)
  · have h := ip c_4 h
    refine lv_iload_n C.x C.b dJ1_newCapacity_36 rfl (lv_at hl 3 rfl) ?_
    refine lv_iload_n C.x C.b dJ1_newCapacity_37 rfl (lv_at hl 4 rfl) ?_
    refine lv_icmp_le (tgt := 44) C.x C.b dJ1_newCapacity_38 (by decide) (fun c_5 => ?_) (fun c_5 => ?_)
    · have h := ip c_5 h
      refine lv_iload_n C.x C.b dJ1_newCapacity_44 rfl (lv_at hl 1 rfl) ?_
      refine lv_iload_n C.x C.b dJ1_newCapacity_45 rfl (lv_at hl 4 rfl) ?_
      refine lv_iadd C.x C.b dJ1_newCapacity_46 ?_
      refine lv_ldc C.x C.b C.o (C.t _ q1979) dJ1_newCapacity_47 ?_
      refine lv_isub C.x C.b dJ1_newCapacity_49 ?_
      refine lv_if_ge (tgt := 59) C.x C.b dJ1_newCapacity_50 (by decide) (fun c_6 => ?_) (fun c_6 => ?_)
      · have h := ip c_6 h
        refine lv_ldc C.x C.b C.o (C.t _ q1979) dJ1_newCapacity_59 ?_
        exact cw_iret C hI h dJ1_newCapacity_61
      · have h := iN c_6 h
        refine lv_iload_n C.x C.b dJ1_newCapacity_53 rfl (lv_at hl 1 rfl) ?_
        refine lv_iload_n C.x C.b dJ1_newCapacity_54 rfl (lv_at hl 4 rfl) ?_
        refine lv_iadd C.x C.b dJ1_newCapacity_55 ?_
        refine lv_goto (tgt := 61) C.x C.b dJ1_newCapacity_56 (by decide) ?_
        exact cw_iret C hI h dJ1_newCapacity_61
    · have h := iN c_5 h
      refine lv_iload C.x C.b dJ1_newCapacity_41 (lv_at hl 0 rfl) ?_
      exact cw_iret C hI h dJ1_newCapacity_43
  · have h := iN c_4 h
    refine lv_iload C.x C.b dJ1_newCapacity_18 (lv_at hl 0 rfl) ?_
    refine lv_if_ge (tgt := 33) C.x C.b dJ1_newCapacity_20 (by decide) (fun c_7 => ?_) (fun c_7 => ?_)
    · have h := ip c_7 h
      refine lv_ldc C.x C.b C.o (C.t _ q1987) dJ1_newCapacity_33 ?_
      exact cw_iret C hI h dJ1_newCapacity_35
    · have h := iN c_7 h
      cases h

theorem w_J1_grow_145 {z : Int32 × cS} {o : Nat} (C : CX p m meth c s args cJ1_grow 9 (Option.none : Option Jvm.ClassFile.FieldType) RJ1) (hw : WKc g A s s.heap) (hR : RM g s R (3) (84))  : ∀ (n : Nat) (x5 : Option Nat) (x7 : Int32) (x8 : Int32) (σ : cS) (H : Heap) (locs : List Loc) (ls : Array Slot), b_J1_grow_145 o n x5 x7 x8 σ = some z → CI g A s σ H locs → lv_has ls 9 [(0, .ref o), (5, va_rf x5), (7, .int x7), (8, .int x8)] → W p l e R s m args below meth c H locs (H.size - s.heap.size) (hsl H - hsl s.heap) (MQ below (CQ g A (none) z.2) args s (g.2.2.1 3 - s.heap.size) (g.2.2.1 4 - hsl s.heap) A) (F0 m 145 ls []) := by
  intro n
  induction n with
  | zero =>
    intro x5 x7 x8 σ H locs ls h
    cases h
  | succ n ih =>
    intro x5 x7 x8 σ H locs ls h hI hl
    rw [b_J1_grow_145] at h
    refine lv_iload C.x C.b dJ1_grow_145 (lv_at hl 2 rfl) ?_
    refine lv_iload C.x C.b dJ1_grow_147 (lv_at hl 3 rfl) ?_
    refine lv_icmp_ge (tgt := 164) C.x C.b dJ1_grow_149 (by decide) (fun c_1 => ?_) (fun c_1 => ?_)
    · have h := ip c_1 h
      exact cw_vret C hI h dJ1_grow_164
    · have h := iN c_1 h
      refine r_aload (x := x5) C.x C.b dJ1_grow_152 (lv_at hl 1 rfl) ?_
      refine lv_iload C.x C.b dJ1_grow_154 (lv_at hl 2 rfl) ?_
      refine lv_null C.x C.b dJ1_grow_156 ?_
      refine cw_rst (r := x5) (x := none) C hw hI h dJ1_grow_157 (fun σ_2 H locs h hI => ?_)
      obtain ⟨x7_3, e_, h⟩ := nm_s h
      refine lv_iinc (v := x7_3) (lv' := [(7, .int x7_3), (0, .ref o), (5, va_rf x5), (8, .int x8)]) C.x C.b dJ1_grow_158 hl (k := 2) rfl e_.symm (by decide) (by first | (simp [List.filter, cat_rf, cat_i, cat_a, cat_n, cat_l, cat_f, cat_d]; done) | (simp [List.filter, cat_rf, cat_i, cat_a, cat_n, cat_l, cat_f, cat_d]; rfl)) (fun ls hl => ?_)
      refine lv_goto (tgt := 145) C.x C.b dJ1_grow_161 (by decide) ?_
      exact ih x5 x7_3 x8 _ _ _ _ h hI (lv_sub hl [1, 2, 0, 3] rfl)

theorem w_J1_grow_96 {z : Int32 × cS} {o : Nat} (C : CX p m meth c s args cJ1_grow 9 (Option.none : Option Jvm.ClassFile.FieldType) RJ1) (hw : WKc g A s s.heap) (hR : RM g s R (3) (84))  : ∀ (x2 : Int32) (x3 : Int32) (x5 : Option Nat) (σ : cS) (H : Heap) (locs : List Loc) (ls : Array Slot), b_J1_grow_96 o x2 x3 x5 σ = some z → CI g A s σ H locs → lv_has ls 9 [(0, .ref o), (2, .int x2), (3, .int x3), (5, va_rf x5)] → W p l e R s m args below meth c H locs (H.size - s.heap.size) (hsl H - hsl s.heap) (MQ below (CQ g A (none) z.2) args s (g.2.2.1 3 - s.heap.size) (g.2.2.1 4 - hsl s.heap) A) (F0 m 96 ls []) := by
  intro x2 x3 x5 σ H locs ls h hI hl
  unfold b_J1_grow_96 at h
  refine lv_iload_n C.x C.b dJ1_grow_96 rfl (lv_at hl 2 rfl) ?_
  refine lv_iload_n C.x C.b dJ1_grow_97 rfl (lv_at hl 1 rfl) ?_
  refine lv_isub C.x C.b dJ1_grow_98 ?_
  refine tw_lt h (fun x6_1 h => ?_)
  refine lv_istore (i := 6) (lv' := [(6, .int x6_1), (0, .ref o), (2, .int x2), (3, .int x3), (5, va_rf x5)]) C.x C.b dJ1_grow_99 hl (by decide) (by first | (simp [List.filter, cat_rf, cat_i, cat_a, cat_n, cat_l, cat_f, cat_d]; done) | (simp [List.filter, cat_rf, cat_i, cat_a, cat_n, cat_l, cat_f, cat_d]; rfl)) (fun ls hl => ?_)
  refine r_aload (x := x5) C.x C.b dJ1_grow_101 (lv_at hl 4 rfl) ?_
  refine r_aload_n (x := some o) C.x C.b dJ1_grow_103 rfl (lv_at hl 1 rfl) ?_
  refine cw_gI (r := some o) 10 1 C hw hI h (by decide) rfl in_J1 (by decide) (C.t _ q187) (fun _ h9 => h9) dJ1_grow_104 (fun v_2 h => ?_)
  refine r_aload (x := x5) C.x C.b dJ1_grow_107 (lv_at hl 4 rfl) ?_
  refine r_aload_n (x := some o) C.x C.b dJ1_grow_109 rfl (lv_at hl 1 rfl) ?_
  refine cw_gI (r := some o) 10 1 C hw hI h (by decide) rfl in_J1 (by decide) (C.t _ q187) (fun _ h9 => h9) dJ1_grow_110 (fun v_3 h => ?_)
  refine lv_iload C.x C.b dJ1_grow_113 (lv_at hl 0 rfl) ?_
  refine lv_iadd C.x C.b dJ1_grow_115 ?_
  refine lv_iload_n C.x C.b dJ1_grow_116 rfl (lv_at hl 2 rfl) ?_
  refine r_aload_n (x := some o) C.x C.b dJ1_grow_117 rfl (lv_at hl 1 rfl) ?_
  refine cw_gI (r := some o) 10 1 C hw hI h (by decide) rfl in_J1 (by decide) (C.t _ q187) (fun _ h9 => h9) dJ1_grow_118 (fun v_4 h => ?_)
  refine lv_isub C.x C.b dJ1_grow_121 ?_
  refine cw_cpR (src := x5) (dst := x5) C hw hR hI hl.1 h q1989 (by decide) (by decide) (Nat.le_of_ble_eq_true rfl) dJ1_grow_122 (fun σ_5 H locs h hI => ?_)
  refine r_aload_n (x := some o) C.x C.b dJ1_grow_125 rfl (lv_at hl 1 rfl) ?_
  refine cw_gI (r := some o) 10 1 C hw hI h (by decide) rfl in_J1 (by decide) (C.t _ q187) (fun _ h9 => h9) dJ1_grow_126 (fun v_6 h => ?_)
  refine lv_istore (i := 7) (lv' := [(7, .int v_6), (6, .int x6_1), (0, .ref o), (2, .int x2), (3, .int x3), (5, va_rf x5)]) C.x C.b dJ1_grow_129 hl (by decide) (by first | (simp [List.filter, cat_rf, cat_i, cat_a, cat_n, cat_l, cat_f, cat_d]; done) | (simp [List.filter, cat_rf, cat_i, cat_a, cat_n, cat_l, cat_f, cat_d]; rfl)) (fun ls hl => ?_)
  refine r_aload_n (x := some o) C.x C.b dJ1_grow_131 rfl (lv_at hl 2 rfl) ?_
  refine lv_dup C.x C.b dJ1_grow_132 rfl ?_
  refine cw_gI (r := some o) 10 1 C hw hI h (by decide) rfl in_J1 (by decide) (C.t _ q187) (fun _ h9 => h9) dJ1_grow_133 (fun v_7 h => ?_)
  refine lv_iload C.x C.b dJ1_grow_136 (lv_at hl 1 rfl) ?_
  refine lv_iadd C.x C.b dJ1_grow_138 ?_
  refine tw_lt h (fun u_8 h => ?_)
  refine lv_dup_x1 C.x C.b dJ1_grow_139 rfl rfl ?_
  refine cw_pO (r := some o) (v := (.int u_8)) (ty := .int) 10 1 C hw hI h (by decide) rfl in_J1 tyJ1 tyJ1_ok nmJ1 (by decide) (C.t _ q187) (fun _ h9 => h9) (Or.inl rfl) (by decide +kernel) rfl rfl dJ1_grow_140 (fun σ_9 H locs h hI => ?_)
  refine lv_istore (i := 8) (lv' := [(8, .int u_8), (7, .int v_6), (6, .int x6_1), (0, .ref o), (2, .int x2), (3, .int x3), (5, va_rf x5)]) C.x C.b dJ1_grow_143 hl (by decide) (by first | (simp [List.filter, cat_rf, cat_i, cat_a, cat_n, cat_l, cat_f, cat_d]; done) | (simp [List.filter, cat_rf, cat_i, cat_a, cat_n, cat_l, cat_f, cat_d]; rfl)) (fun ls hl => ?_)
  exact w_J1_grow_145 C hw hR _ x5 v_6 u_8 _ _ _ _ h hI (lv_sub hl [3, 6, 1, 0] rfl)

theorem w_J1_grow_49 {z : Int32 × cS} {o : Nat} (C : CX p m meth c s args cJ1_grow 9 (Option.none : Option Jvm.ClassFile.FieldType) RJ1) (hw : WKc g A s s.heap) (hR : RM g s R (3) (84))  : ∀ (x2 : Int32) (x3 : Int32) (σ : cS) (H : Heap) (locs : List Loc) (ls : Array Slot), b_J1_grow_49 o x2 x3 σ = some z → CI g A s σ H locs → lv_has ls 9 [(0, .ref o), (2, .int x2), (3, .int x3)] → W p l e R s m args below meth c H locs (H.size - s.heap.size) (hsl H - hsl s.heap) (MQ below (CQ g A (none) z.2) args s (g.2.2.1 3 - s.heap.size) (g.2.2.1 4 - hsl s.heap) A) (F0 m 49 ls []) := by
  intro x2 x3 σ H locs ls h hI hl
  unfold b_J1_grow_49 at h
  refine r_aload_n (x := some o) C.x C.b dJ1_grow_49 rfl (lv_at hl 0 rfl) ?_
  refine r_aload_n (x := some o) C.x C.b dJ1_grow_50 rfl (lv_at hl 0 rfl) ?_
  refine cw_gR (r := some o) 10 0 C hw hI h (by decide) rfl in_J1 (by decide) (C.t _ q186) (fun _ h9 => h9) dJ1_grow_51 (fun v_1 h => ?_)
  refine lv_iload_n C.x C.b dJ1_grow_54 rfl (lv_at hl 2 rfl) ?_
  refine cw_callS (y := yJ9_copyOf_2) (bytes := cJ9_copyOf_2) (maxL := 2) (fun v => some (va_rf v)) [va_rf v_1, .int x3] C hw hR hI hl.1 h (fun vv ss ee => k_J9_copyOf_2 l g A v_1 x3 σ vv ss ee) (va_cwS 2 C.t (lw_S q1988 q1058 q139 q1059) rfl rfl rfl (by decide +kernel) ⟨Nat.le_trans (Nat.le_of_ble_eq_true rfl) hR.f, Nat.le_trans (Nat.le_of_ble_eq_true rfl) hR.lo⟩) rfl rfl (Nat.le_of_ble_eq_true rfl) dJ1_grow_55 (fun v_2 σ_3 H locs h hI => ?_)
  refine lv_dup_x1 C.x C.b dJ1_grow_58 (cat_rf _) rfl ?_
  refine cw_pO (r := some o) (v := (va_rf v_2)) (ty := (.array (.object "java/lang/Object"))) 10 0 C hw hI h (by decide) rfl in_J1 tyJ1 tyJ1_ok nmJ1 (by decide) (C.t _ q186) (fun _ h9 => h9) (Or.inl rfl) (by decide +kernel) (nar_a _ _) (fits_a _ _) dJ1_grow_59 (fun σ_4 H locs h hI => ?_)
  refine r_astore (i := 5) (x := v_2) (lv' := [(5, va_rf v_2), (0, .ref o), (2, .int x2), (3, .int x3)]) C.x C.b dJ1_grow_62 hl (by decide) (by rfl) (fun ls hl => ?_)
  refine r_aload_n (x := some o) C.x C.b dJ1_grow_64 rfl (lv_at hl 1 rfl) ?_
  refine cw_gI (r := some o) 10 2 C hw hI h (by decide) rfl in_J1 (by decide) (C.t _ q188) (fun _ h9 => h9) dJ1_grow_65 (fun v_5 h => ?_)
  refine r_aload_n (x := some o) C.x C.b dJ1_grow_68 rfl (lv_at hl 1 rfl) ?_
  refine cw_gI (r := some o) 10 1 C hw hI h (by decide) rfl in_J1 (by decide) (C.t _ q187) (fun _ h9 => h9) dJ1_grow_69 (fun v_6 h => ?_)
  refine lv_icmp_lt (tgt := 96) C.x C.b dJ1_grow_72 (by decide) (fun c_7 => ?_) (fun c_7 => ?_)
  · have h := ip c_7 h
    exact w_J1_grow_96 C hw hR x2 x3 v_2 _ _ _ _ h hI (lv_sub hl [1, 2, 3, 0] rfl)
  · have h := iN c_7 h
    refine r_aload_n (x := some o) C.x C.b dJ1_grow_75 rfl (lv_at hl 1 rfl) ?_
    refine cw_gI (r := some o) 10 2 C hw hI h (by decide) rfl in_J1 (by decide) (C.t _ q188) (fun _ h9 => h9) dJ1_grow_76 (fun v_8 h => ?_)
    refine r_aload_n (x := some o) C.x C.b dJ1_grow_79 rfl (lv_at hl 1 rfl) ?_
    refine cw_gI (r := some o) 10 1 C hw hI h (by decide) rfl in_J1 (by decide) (C.t _ q187) (fun _ h9 => h9) dJ1_grow_80 (fun v_9 h => ?_)
    refine lv_icmp_ne (tgt := 164) C.x C.b dJ1_grow_83 (by decide) (fun c_10 => ?_) (fun c_10 => ?_)
    · have h := iN c_10 h
      exact cw_vret C hI h dJ1_grow_164
    · have h := ip c_10 h
      refine r_aload (x := v_2) C.x C.b dJ1_grow_86 (lv_at hl 0 rfl) ?_
      refine r_aload_n (x := some o) C.x C.b dJ1_grow_88 rfl (lv_at hl 1 rfl) ?_
      refine cw_gI (r := some o) 10 1 C hw hI h (by decide) rfl in_J1 (by decide) (C.t _ q187) (fun _ h9 => h9) dJ1_grow_89 (fun v_11 h => ?_)
      refine cw_rld (r := v_2) C hw hI h dJ1_grow_92 (fun v_12 h => ?_)
      refine r_ifnull (x := v_12) (tgt := 164) C.x C.b dJ1_grow_93 (by decide) (fun c_13 => ?_) (fun c_13 => ?_)
      · have h := ip c_13 h
        exact cw_vret C hI h dJ1_grow_164
      · have h := iN c_13 h
        exact w_J1_grow_96 C hw hR x2 x3 v_2 _ _ _ _ h hI (lv_sub hl [1, 2, 3, 0] rfl)

theorem w_J1_grow_41 {z : Int32 × cS} {o : Nat} (C : CX p m meth c s args cJ1_grow 9 (Option.none : Option Jvm.ClassFile.FieldType) RJ1) (hw : WKc g A s s.heap) (hR : RM g s R (3) (84))  : ∀ (x1 : Int32) (x2 : Int32) (x4 : Int32) (σ : cS) (H : Heap) (locs : List Loc) (ls : Array Slot), b_J1_grow_41 o x1 x2 x4 σ = some z → CI g A s σ H locs → lv_has ls 9 [(0, .ref o), (1, .int x1), (2, .int x2), (4, .int x4)] → W p l e R s m args below meth c H locs (H.size - s.heap.size) (hsl H - hsl s.heap) (MQ below (CQ g A (none) z.2) args s (g.2.2.1 3 - s.heap.size) (g.2.2.1 4 - hsl s.heap) A) (F0 m 41 ls []) := by
  intro x1 x2 x4 σ H locs ls h hI hl
  unfold b_J1_grow_41 at h
  refine r_aload_n (x := some o) C.x C.b dJ1_grow_41 rfl (lv_at hl 0 rfl) ?_
  refine lv_iload_n C.x C.b dJ1_grow_42 rfl (lv_at hl 1 rfl) ?_
  refine lv_iload C.x C.b dJ1_grow_43 (lv_at hl 3 rfl) ?_
  refine cw_callV (y := yJ1_newCapacity) (bytes := cJ1_newCapacity) (maxL := 5) (r := some o) (f := fun a_3 => m_J1_newCapacity a_3 x1 x4 σ) 10 (fun v => some (.int v)) [.int x1, .int x4] C hw hR hI hl.1 h (by decide) rfl (fun aa vv ss ee => k_J1_newCapacity l g A aa x1 x4 σ vv ss ee) (cwV 2 C.t (lw_V q1980 q1982 qs52 q128 q1983) rfl rfl rfl (by decide +kernel) ⟨Nat.le_trans (Nat.le_of_ble_eq_true rfl) hR.f, Nat.le_trans (Nat.le_of_ble_eq_true rfl) hR.lo⟩) rfl rfl (Nat.le_of_ble_eq_true rfl) dJ1_grow_45 (fun v_1 σ_2 H locs h hI => ?_)
  refine lv_istore_n (i := 3) (lv' := [(3, .int v_1), (0, .ref o), (1, .int x1), (2, .int x2), (4, .int x4)]) C.x C.b dJ1_grow_48 rfl hl (by decide) rfl (fun ls hl => ?_)
  exact w_J1_grow_49 C hw hR x2 v_1 _ _ _ _ h hI (lv_sub hl [1, 3, 0] rfl)

theorem w_J1_grow_21 {z : Int32 × cS} {o : Nat} (C : CX p m meth c s args cJ1_grow 9 (Option.none : Option Jvm.ClassFile.FieldType) RJ1) (hw : WKc g A s s.heap) (hR : RM g s R (3) (84))  : ∀ (x1 : Int32) (x2 : Int32) (s0 : Int32) (σ : cS) (H : Heap) (locs : List Loc) (ls : Array Slot), b_J1_grow_21 o x1 x2 s0 σ = some z → CI g A s σ H locs → lv_has ls 9 [(0, .ref o), (1, .int x1), (2, .int x2)] → W p l e R s m args below meth c H locs (H.size - s.heap.size) (hsl H - hsl s.heap) (MQ below (CQ g A (none) z.2) args s (g.2.2.1 3 - s.heap.size) (g.2.2.1 4 - hsl s.heap) A) (F0 m 21 ls [.int s0]) := by
  intro x1 x2 s0 σ H locs ls h hI hl
  unfold b_J1_grow_21 at h
  refine lv_istore (i := 4) (lv' := [(4, .int s0), (0, .ref o), (1, .int x1), (2, .int x2)]) C.x C.b dJ1_grow_21 hl (by decide) rfl (fun ls hl => ?_)
  refine lv_iload C.x C.b dJ1_grow_23 (lv_at hl 0 rfl) ?_
  refine lv_iload_n C.x C.b dJ1_grow_25 rfl (lv_at hl 2 rfl) ?_
  refine lv_icmp_lt (tgt := 41) C.x C.b dJ1_grow_26 (by decide) (fun c_1 => ?_) (fun c_1 => ?_)
  · have h := ip c_1 h
    exact w_J1_grow_41 C hw hR x1 x2 s0 _ _ _ _ h hI (lv_sub hl [1, 2, 3, 0] rfl)
  · have h := iN c_1 h
    refine lv_iload_n C.x C.b dJ1_grow_29 rfl (lv_at hl 3 rfl) ?_
    refine lv_iload C.x C.b dJ1_grow_30 (lv_at hl 0 rfl) ?_
    refine lv_iadd C.x C.b dJ1_grow_32 ?_
    refine tw_lt h (fun u_2 h => ?_)
    refine lv_dup C.x C.b dJ1_grow_33 rfl ?_
    refine lv_istore_n (i := 3) (lv' := [(3, .int u_2), (4, .int s0), (0, .ref o), (1, .int x1), (2, .int x2)]) C.x C.b dJ1_grow_34 rfl hl (by decide) rfl (fun ls hl => ?_)
    refine lv_ldc C.x C.b C.o (C.t _ q1979) dJ1_grow_35 ?_
    refine lv_isub C.x C.b dJ1_grow_37 ?_
    refine lv_if_le (tgt := 49) C.x C.b dJ1_grow_38 (by decide) (fun c_3 => ?_) (fun c_3 => ?_)
    · have h := ip c_3 h
      exact w_J1_grow_49 C hw hR x2 u_2 _ _ _ _ h hI (lv_sub hl [2, 4, 0] rfl)
    · have h := iN c_3 h
      exact w_J1_grow_41 C hw hR x1 x2 s0 _ _ _ _ h hI (lv_sub hl [2, 3, 4, 1] rfl)

theorem k_J1_grow (l : Launch) (g : cG) (A : Nat → Prop) (o : Nat) (x1 : Int32) (σ : cS) (v : Int32) (σ1 : cS) (h : m_J1_grow o x1 σ = some (v, σ1)) : Met l yJ1_grow (ws_ yJ1_grow cJ1_grow 9 (Option.none : Option Jvm.ClassFile.FieldType)) ({ frames := 3, cells := σ.2 3 - σ.2 0, slots := σ.2 4 - σ.2 1, locals := 84 }) (CPc g A [.ref o, .int x1] σ) (CQ g A (none) σ1) (σ.2 3 - σ.2 0) (σ.2 4 - σ.2 1) A := by
  refine Met.ofW (cc := cJ1_grow) (maxL := 9) (ret := (Option.none : Option Jvm.ClassFile.FieldType)) (by decide) rfl ?_
  intro p e s m args below meth c s₁ B hml hv
  obtain ⟨rfl, hw, hσ⟩ := hv
  have hts := atoms_spec (ws := (ws_ yJ1_grow cJ1_grow 9 (Option.none : Option Jvm.ClassFile.FieldType))) B.pre
  have C : CX p m meth c s ([.ref o, .int x1] : List Value).toArray cJ1_grow 9 (Option.none : Option Jvm.ClassFile.FieldType) RJ1 := ⟨⟨B.exec, B.bytes, hml, findClass_of_methodNamed B.named, fun w h => hts w (List.mem_cons_of_mem _ h)⟩, B.returns, B.notSynchronized⟩
  have e3 : σ.2 3 - σ.2 0 = g.2.2.1 3 - s.heap.size := by rw [hσ.1, hσ.2.2.2.1 3 (by decide)]
  have e4 : σ.2 4 - σ.2 1 = g.2.2.1 4 - hsl s.heap := by rw [hσ.2.1, hσ.2.2.2.1 4 (by decide)]
  have hR : RM g s (headSpec (ws_ yJ1_grow cJ1_grow 9 (Option.none : Option Jvm.ClassFile.FieldType)) ({ frames := 3, cells := σ.2 3 - σ.2 0, slots := σ.2 4 - σ.2 1, locals := 84 })).room (3) (84) := ⟨⟨Nat.le_refl _, Nat.le_refl _⟩, Nat.le_of_eq e3.symm, Nat.le_of_eq e4.symm⟩
  generalize (headSpec (ws_ yJ1_grow cJ1_grow 9 (Option.none : Option Jvm.ClassFile.FieldType)) ({ frames := 3, cells := σ.2 3 - σ.2 0, slots := σ.2 4 - σ.2 1, locals := 84 })).room = R at hR ⊢
  rw [e3, e4]
  have hI : CI g A s σ s.heap [] := ⟨hσ, va_S.rf, Nat.le_refl _⟩
  have hl := lv_entry ([.ref o, .int x1]) (n := 9) (Nat.le_of_ble_eq_true rfl)
  rw [lg_entry_eq]
  generalize (lg_sl ([.ref o, .int x1]) ++ List.replicate (9 - (lg_sl ([.ref o, .int x1])).length) Slot.unset).toArray = ls at hl ⊢
  have hl : lv_has ls 9 [(0, .ref o), (1, .int x1)] := hl
  obtain ⟨z, hz⟩ : ∃ z, z = (v, σ1) := ⟨_, rfl⟩
  rw [← hz] at h
  rw [show σ1 = z.2 by rw [hz]]
  clear hz v σ1
  refine W.narrow ?_
  unfold m_J1_grow at h
  refine r_aload_n (x := some o) C.x C.b dJ1_grow_0 rfl (lv_at hl 0 rfl) ?_
  refine cw_gR (r := some o) 10 0 C hw hI h (by decide) rfl in_J1 (by decide) (C.t _ q186) (fun _ h9 => h9) dJ1_grow_1 (fun v_1 h => ?_)
  refine cw_aL (r := v_1) C hw hI h dJ1_grow_4 (fun v_2 h => ?_)
  refine lv_istore_n (i := 2) (lv' := [(2, .int v_2), (0, .ref o), (1, .int x1)]) C.x C.b dJ1_grow_5 rfl hl (by decide) rfl (fun ls hl => ?_)
  refine lv_iload_n C.x C.b dJ1_grow_6 rfl (lv_at hl 0 rfl) ?_
  refine lv_bipush (v := 64) C.x C.b dJ1_grow_7 (by decide) ?_
  refine lv_icmp_ge (tgt := 18) C.x C.b dJ1_grow_9 (by decide) (fun c_3 => ?_) (fun c_3 => ?_)
  · have h := ip c_3 h
    refine lv_iload_n C.x C.b dJ1_grow_18 rfl (lv_at hl 0 rfl) ?_
    refine lv_iconst (v := 1) C.x C.b dJ1_grow_19 (by decide) ?_
    refine lv_ishr C.x C.b dJ1_grow_20 ?_
    exact w_J1_grow_21 C hw hR x1 v_2 (v_2 >>> (1 &&& 31)) _ _ _ _ h hI (lv_sub hl [1, 2, 0] rfl)
  · have h := iN c_3 h
    refine lv_iload_n C.x C.b dJ1_grow_12 rfl (lv_at hl 0 rfl) ?_
    refine lv_iconst (v := 2) C.x C.b dJ1_grow_13 (by decide) ?_
    refine lv_iadd C.x C.b dJ1_grow_14 ?_
    refine lv_goto (tgt := 21) C.x C.b dJ1_grow_15 (by decide) ?_
    exact w_J1_grow_21 C hw hR x1 v_2 (v_2 + 2) _ _ _ _ h hI (lv_sub hl [1, 2, 0] rfl)

theorem k_J1_inc (l : Launch) (g : cG) (A : Nat → Prop) (x0 : Int32) (x1 : Int32) (σ : cS) (v : Int32) (σ1 : cS) (h : m_J1_inc x0 x1 σ = some (v, σ1)) : Met l yJ1_inc (ws_ yJ1_inc cJ1_inc 2 (Option.some Jvm.ClassFile.FieldType.int)) ({ frames := 1, cells := σ.2 3 - σ.2 0, slots := σ.2 4 - σ.2 1, locals := 40 }) (CPc g A [.int x0, .int x1] σ) (CQ g A (some (.int v)) σ1) (σ.2 3 - σ.2 0) (σ.2 4 - σ.2 1) A := by
  refine Met.ofW (cc := cJ1_inc) (maxL := 2) (ret := (Option.some Jvm.ClassFile.FieldType.int)) (by decide) rfl ?_
  intro p e s m args below meth c s₁ B hml hv
  obtain ⟨rfl, hw, hσ⟩ := hv
  have hts := atoms_spec (ws := (ws_ yJ1_inc cJ1_inc 2 (Option.some Jvm.ClassFile.FieldType.int))) B.pre
  have C : CX p m meth c s ([.int x0, .int x1] : List Value).toArray cJ1_inc 2 (Option.some Jvm.ClassFile.FieldType.int) RJ1 := ⟨⟨B.exec, B.bytes, hml, findClass_of_methodNamed B.named, fun w h => hts w (List.mem_cons_of_mem _ h)⟩, B.returns, B.notSynchronized⟩
  have e3 : σ.2 3 - σ.2 0 = g.2.2.1 3 - s.heap.size := by rw [hσ.1, hσ.2.2.2.1 3 (by decide)]
  have e4 : σ.2 4 - σ.2 1 = g.2.2.1 4 - hsl s.heap := by rw [hσ.2.1, hσ.2.2.2.1 4 (by decide)]
  have hR : RM g s (headSpec (ws_ yJ1_inc cJ1_inc 2 (Option.some Jvm.ClassFile.FieldType.int)) ({ frames := 1, cells := σ.2 3 - σ.2 0, slots := σ.2 4 - σ.2 1, locals := 40 })).room (1) (40) := ⟨⟨Nat.le_refl _, Nat.le_refl _⟩, Nat.le_of_eq e3.symm, Nat.le_of_eq e4.symm⟩
  generalize (headSpec (ws_ yJ1_inc cJ1_inc 2 (Option.some Jvm.ClassFile.FieldType.int)) ({ frames := 1, cells := σ.2 3 - σ.2 0, slots := σ.2 4 - σ.2 1, locals := 40 })).room = R at hR ⊢
  rw [e3, e4]
  have hI : CI g A s σ s.heap [] := ⟨hσ, va_S.rf, Nat.le_refl _⟩
  have hl := lv_entry ([.int x0, .int x1]) (n := 2) (Nat.le_of_ble_eq_true rfl)
  rw [lg_entry_eq]
  generalize (lg_sl ([.int x0, .int x1]) ++ List.replicate (2 - (lg_sl ([.int x0, .int x1])).length) Slot.unset).toArray = ls at hl ⊢
  have hl : lv_has ls 2 [(0, .int x0), (1, .int x1)] := hl
  obtain ⟨z, hz⟩ : ∃ z, z = (v, σ1) := ⟨_, rfl⟩
  rw [← hz] at h
  rw [show v = z.1 by rw [hz], show σ1 = z.2 by rw [hz]]
  clear hz v σ1
  refine W.narrow ?_
  unfold m_J1_inc at h
  obtain ⟨x0_1, e_, h⟩ := nm_s h
  refine lv_iinc (v := x0_1) (lv' := [(0, .int x0_1), (1, .int x1)]) C.x C.b dJ1_inc_0 hl (k := 0) rfl e_.symm (by decide) rfl (fun ls hl => ?_)
  refine lv_iload_n C.x C.b dJ1_inc_3 rfl (lv_at hl 0 rfl) ?_
  refine lv_iload_n C.x C.b dJ1_inc_4 rfl (lv_at hl 1 rfl) ?_
  refine lv_icmp_lt (tgt := 10) C.x C.b dJ1_inc_5 (by decide) (fun c_2 => ?_) (fun c_2 => ?_)
  · have h := ip c_2 h
    refine lv_iload_n C.x C.b dJ1_inc_10 rfl (lv_at hl 0 rfl) ?_
    exact cw_iret C hI h dJ1_inc_11
  · have h := iN c_2 h
    refine lv_iconst (v := 0) C.x C.b dJ1_inc_8 (by decide) ?_
    refine lv_istore_n (i := 0) (lv' := [(0, .int 0), (1, .int x1)]) C.x C.b dJ1_inc_9 rfl hl (by decide) rfl (fun ls hl => ?_)
    refine lv_iload_n C.x C.b dJ1_inc_10 rfl (lv_at hl 0 rfl) ?_
    exact cw_iret C hI h dJ1_inc_11

theorem k_J1_addLast (l : Launch) (g : cG) (A : Nat → Prop) (o : Nat) (x1 : Option Nat) (σ : cS) (v : Int32) (σ1 : cS) (h : m_J1_addLast o x1 σ = some (v, σ1)) : Met l yJ1_addLast (ws_ yJ1_addLast cJ1_addLast 3 (Option.none : Option Jvm.ClassFile.FieldType)) ({ frames := 4, cells := σ.2 3 - σ.2 0, slots := σ.2 4 - σ.2 1, locals := 112 }) (CPc g A [.ref o, va_rf x1] σ) (CQ g A (none) σ1) (σ.2 3 - σ.2 0) (σ.2 4 - σ.2 1) A := by
  refine Met.ofW (cc := cJ1_addLast) (maxL := 3) (ret := (Option.none : Option Jvm.ClassFile.FieldType)) (by decide) rfl ?_
  intro p e s m args below meth c s₁ B hml hv
  obtain ⟨rfl, hw, hσ⟩ := hv
  have hts := atoms_spec (ws := (ws_ yJ1_addLast cJ1_addLast 3 (Option.none : Option Jvm.ClassFile.FieldType))) B.pre
  have C : CX p m meth c s ([.ref o, va_rf x1] : List Value).toArray cJ1_addLast 3 (Option.none : Option Jvm.ClassFile.FieldType) RJ1 := ⟨⟨B.exec, B.bytes, hml, findClass_of_methodNamed B.named, fun w h => hts w (List.mem_cons_of_mem _ h)⟩, B.returns, B.notSynchronized⟩
  have e3 : σ.2 3 - σ.2 0 = g.2.2.1 3 - s.heap.size := by rw [hσ.1, hσ.2.2.2.1 3 (by decide)]
  have e4 : σ.2 4 - σ.2 1 = g.2.2.1 4 - hsl s.heap := by rw [hσ.2.1, hσ.2.2.2.1 4 (by decide)]
  have hR : RM g s (headSpec (ws_ yJ1_addLast cJ1_addLast 3 (Option.none : Option Jvm.ClassFile.FieldType)) ({ frames := 4, cells := σ.2 3 - σ.2 0, slots := σ.2 4 - σ.2 1, locals := 112 })).room (4) (112) := ⟨⟨Nat.le_refl _, Nat.le_refl _⟩, Nat.le_of_eq e3.symm, Nat.le_of_eq e4.symm⟩
  generalize (headSpec (ws_ yJ1_addLast cJ1_addLast 3 (Option.none : Option Jvm.ClassFile.FieldType)) ({ frames := 4, cells := σ.2 3 - σ.2 0, slots := σ.2 4 - σ.2 1, locals := 112 })).room = R at hR ⊢
  rw [e3, e4]
  have hI : CI g A s σ s.heap [] := ⟨hσ, va_S.rf, Nat.le_refl _⟩
  have hlen : (lg_sl ([.ref o, va_rf x1])).length ≤ 3 := by rcases x1 with _ | x1 <;> exact Nat.le_of_ble_eq_true rfl
  have hl := lv_entry ([.ref o, va_rf x1]) (n := 3) hlen
  rw [lg_entry_eq]
  generalize (lg_sl ([.ref o, va_rf x1]) ++ List.replicate (3 - (lg_sl ([.ref o, va_rf x1])).length) Slot.unset).toArray = ls at hl ⊢
  have hl : lv_has ls 3 [(0, .ref o), (1, va_rf x1)] := by clear hI hw h hσ e3 e4 hR C hts B; rcases x1 with _ | x1 <;> exact hl
  obtain ⟨z, hz⟩ : ∃ z, z = (v, σ1) := ⟨_, rfl⟩
  rw [← hz] at h
  rw [show σ1 = z.2 by rw [hz]]
  clear hz v σ1
  refine W.narrow ?_
  unfold m_J1_addLast at h
  refine r_aload_n (x := x1) C.x C.b dJ1_addLast_0 rfl (lv_at hl 1 rfl) ?_
  refine r_ifnonnull (x := x1) (tgt := 12) C.x C.b dJ1_addLast_1 (by decide) (fun c_1 => ?_) (fun c_1 => ?_)
  · have h := iN c_1 h
    refine r_aload_n (x := some o) C.x C.b dJ1_addLast_12 rfl (lv_at hl 0 rfl) ?_
    refine cw_gR (r := some o) 10 0 C hw hI h (by decide) rfl in_J1 (by decide) (C.t _ q186) (fun _ h9 => h9) dJ1_addLast_13 (fun v_2 h => ?_)
    refine r_astore_n (i := 2) (x := v_2) (lv' := [(2, va_rf v_2), (0, .ref o), (1, va_rf x1)]) C.x C.b dJ1_addLast_16 rfl hl (by decide) (by first | (simp [List.filter, cat_rf, cat_i, cat_a, cat_n, cat_l, cat_f, cat_d]; done) | (simp [List.filter, cat_rf, cat_i, cat_a, cat_n, cat_l, cat_f, cat_d]; rfl)) (fun ls hl => ?_)
    refine r_aload_n (x := v_2) C.x C.b dJ1_addLast_17 rfl (lv_at hl 0 rfl) ?_
    refine r_aload_n (x := some o) C.x C.b dJ1_addLast_18 rfl (lv_at hl 1 rfl) ?_
    refine cw_gI (r := some o) 10 2 C hw hI h (by decide) rfl in_J1 (by decide) (C.t _ q188) (fun _ h9 => h9) dJ1_addLast_19 (fun v_3 h => ?_)
    refine r_aload_n (x := x1) C.x C.b dJ1_addLast_22 rfl (lv_at hl 2 rfl) ?_
    refine cw_rst (r := v_2) (x := x1) C hw hI h dJ1_addLast_23 (fun σ_4 H locs h hI => ?_)
    refine r_aload_n (x := some o) C.x C.b dJ1_addLast_24 rfl (lv_at hl 1 rfl) ?_
    refine cw_gI (r := some o) 10 1 C hw hI h (by decide) rfl in_J1 (by decide) (C.t _ q187) (fun _ h9 => h9) dJ1_addLast_25 (fun v_5 h => ?_)
    refine r_aload_n (x := some o) C.x C.b dJ1_addLast_28 rfl (lv_at hl 1 rfl) ?_
    refine r_aload_n (x := some o) C.x C.b dJ1_addLast_29 rfl (lv_at hl 1 rfl) ?_
    refine cw_gI (r := some o) 10 2 C hw hI h (by decide) rfl in_J1 (by decide) (C.t _ q188) (fun _ h9 => h9) dJ1_addLast_30 (fun v_6 h => ?_)
    refine r_aload_n (x := v_2) C.x C.b dJ1_addLast_33 rfl (lv_at hl 0 rfl) ?_
    refine cw_aL (r := v_2) C hw hI h dJ1_addLast_34 (fun v_7 h => ?_)
    refine cw_callS (y := yJ1_inc) (bytes := cJ1_inc) (maxL := 2) (fun v => some (.int v)) [.int v_6, .int v_7] C hw hR hI hl.1 h (fun vv ss ee => k_J1_inc l g A v_6 v_7 σ_4 vv ss ee) (va_cwS 2 C.t (lw_S q1972 q1973 q128 q1974) rfl rfl rfl (by decide +kernel) ⟨Nat.le_trans (Nat.le_of_ble_eq_true rfl) hR.f, Nat.le_trans (Nat.le_of_ble_eq_true rfl) hR.lo⟩) rfl rfl (Nat.le_of_ble_eq_true rfl) dJ1_addLast_35 (fun v_8 σ_9 H locs h hI => ?_)
    refine lv_dup_x1 C.x C.b dJ1_addLast_38 rfl rfl ?_
    refine cw_pO (r := some o) (v := (.int v_8)) (ty := .int) 10 2 C hw hI h (by decide) rfl in_J1 tyJ1 tyJ1_ok nmJ1 (by decide) (C.t _ q188) (fun _ h9 => h9) (Or.inl rfl) (by decide +kernel) rfl rfl dJ1_addLast_39 (fun σ_10 H locs h hI => ?_)
    refine lv_icmp_ne (tgt := 50) C.x C.b dJ1_addLast_42 (by decide) (fun c_11 => ?_) (fun c_11 => ?_)
    · have h := iN c_11 h
      exact cw_vret C hI h dJ1_addLast_50
    · have h := ip c_11 h
      refine r_aload_n (x := some o) C.x C.b dJ1_addLast_45 rfl (lv_at hl 1 rfl) ?_
      refine lv_iconst (v := 1) C.x C.b dJ1_addLast_46 (by decide) ?_
      refine cw_callV (y := yJ1_grow) (bytes := cJ1_grow) (maxL := 9) (r := some o) (f := fun a_13 => m_J1_grow a_13 1 σ_10) 10 (fun _ => none) [.int 1] C hw hR hI hl.1 h (by decide) rfl (fun aa vv ss ee => k_J1_grow l g A aa 1 σ_10 vv ss ee) (cwV 1 C.t (lw_V q1975 q1977 qs51 q128 q1978) rfl rfl rfl (by decide +kernel) ⟨Nat.le_trans (Nat.le_of_ble_eq_true rfl) hR.f, Nat.le_trans (Nat.le_of_ble_eq_true rfl) hR.lo⟩) rfl rfl (Nat.le_of_ble_eq_true rfl) dJ1_addLast_47 (fun _ σ_12 H locs h hI => ?_)
      exact cw_vret C hI h dJ1_addLast_50
  · have h := ip c_1 h
    cases h

end
