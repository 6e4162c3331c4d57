/-! THE CLASS' WALKS 3: printed by gencl.py -/
section
variable {p : Program} {l : Launch} {e : Env} {R : Room} {s : State} {m : MethodId} {args : Array Value} {below : List Frame} {meth : Method} {c : Code} {g : cG} {A : Nat → Prop}
set_option maxRecDepth 100000
theorem k_J14_bitCount (l : Launch) (g : cG) (A : Nat → Prop) (x0 : Int32) (σ : cS) (v : Int32) (σ1 : cS) (h : m_J14_bitCount x0 σ = some (v, σ1)) : Met l yJ14_bitCount (ws_ yJ14_bitCount cJ14_bitCount 1 (Option.some Jvm.ClassFile.FieldType.int)) ({ frames := 1, cells := σ.2 3 - σ.2 0, slots := σ.2 4 - σ.2 1, locals := 40 }) (CPc g A [.int x0] σ) (CQ g A (some (.int v)) σ1) (σ.2 3 - σ.2 0) (σ.2 4 - σ.2 1) A := by
  refine Met.ofW (cc := cJ14_bitCount) (maxL := 1) (ret := (Option.some Jvm.ClassFile.FieldType.int)) (by decide) rfl ?_
  intro p e s m args below meth c s₁ B hml hv
  obtain ⟨rfl, hw, hσ⟩ := hv
  have hts := atoms_spec (ws := (ws_ yJ14_bitCount cJ14_bitCount 1 (Option.some Jvm.ClassFile.FieldType.int))) B.pre
  have C : CX p m meth c s ([.int x0] : List Value).toArray cJ14_bitCount 1 (Option.some Jvm.ClassFile.FieldType.int) RJ14 := ⟨⟨B.exec, B.bytes, hml, findClass_of_methodNamed B.named, fun w h => hts w (List.mem_cons_of_mem _ h)⟩, B.returns, B.notSynchronized⟩
  have e3 : σ.2 3 - σ.2 0 = g.2.2.1 3 - s.heap.size := by rw [hσ.1, hσ.2.2.2.1 3 (by decide)]
  have e4 : σ.2 4 - σ.2 1 = g.2.2.1 4 - hsl s.heap := by rw [hσ.2.1, hσ.2.2.2.1 4 (by decide)]
  have hR : RM g s (headSpec (ws_ yJ14_bitCount cJ14_bitCount 1 (Option.some Jvm.ClassFile.FieldType.int)) ({ frames := 1, cells := σ.2 3 - σ.2 0, slots := σ.2 4 - σ.2 1, locals := 40 })).room (1) (40) := ⟨⟨Nat.le_refl _, Nat.le_refl _⟩, Nat.le_of_eq e3.symm, Nat.le_of_eq e4.symm⟩
  generalize (headSpec (ws_ yJ14_bitCount cJ14_bitCount 1 (Option.some Jvm.ClassFile.FieldType.int)) ({ frames := 1, cells := σ.2 3 - σ.2 0, slots := σ.2 4 - σ.2 1, locals := 40 })).room = R at hR ⊢
  rw [e3, e4]
  have hI : CI g A s σ s.heap [] := ⟨hσ, va_S.rf, Nat.le_refl _⟩
  have hl := lv_entry ([.int x0]) (n := 1) (Nat.le_of_ble_eq_true rfl)
  rw [lg_entry_eq]
  generalize (lg_sl ([.int x0]) ++ List.replicate (1 - (lg_sl ([.int x0])).length) Slot.unset).toArray = ls at hl ⊢
  have hl : lv_has ls 1 [(0, .int x0)] := hl
  obtain ⟨z, hz⟩ : ∃ z, z = (v, σ1) := ⟨_, rfl⟩
  rw [← hz] at h
  rw [show v = z.1 by rw [hz], show σ1 = z.2 by rw [hz]]
  clear hz v σ1
  refine W.narrow ?_
  unfold m_J14_bitCount at h
  refine lv_iload_n C.x C.b dJ14_bitCount_0 rfl (lv_at hl 0 rfl) ?_
  refine lv_iload_n C.x C.b dJ14_bitCount_1 rfl (lv_at hl 0 rfl) ?_
  refine lv_iconst (v := 1) C.x C.b dJ14_bitCount_2 (by decide) ?_
  refine lv_iushr C.x C.b dJ14_bitCount_3 rfl ?_
  refine lv_ldcw C.x C.b C.o (C.t _ q1796) dJ14_bitCount_4 ?_
  refine lv_iand C.x C.b dJ14_bitCount_7 ?_
  refine lv_isub C.x C.b dJ14_bitCount_8 ?_
  refine tw_lt h (fun x0_1 h => ?_)
  refine lv_istore_n (i := 0) (lv' := [(0, .int x0_1)]) C.x C.b dJ14_bitCount_9 rfl hl (by decide) rfl (fun ls hl => ?_)
  refine lv_iload_n C.x C.b dJ14_bitCount_10 rfl (lv_at hl 0 rfl) ?_
  refine lv_ldcw C.x C.b C.o (C.t _ q1797) dJ14_bitCount_11 ?_
  refine lv_iand C.x C.b dJ14_bitCount_14 ?_
  refine lv_iload_n C.x C.b dJ14_bitCount_15 rfl (lv_at hl 0 rfl) ?_
  refine lv_iconst (v := 2) C.x C.b dJ14_bitCount_16 (by decide) ?_
  refine lv_iushr C.x C.b dJ14_bitCount_17 rfl ?_
  refine lv_ldcw C.x C.b C.o (C.t _ q1797) dJ14_bitCount_18 ?_
  refine lv_iand C.x C.b dJ14_bitCount_21 ?_
  refine lv_iadd C.x C.b dJ14_bitCount_22 ?_
  refine tw_lt h (fun x0_2 h => ?_)
  refine lv_istore_n (i := 0) (lv' := [(0, .int x0_2)]) C.x C.b dJ14_bitCount_23 rfl hl (by decide) rfl (fun ls hl => ?_)
  refine lv_iload_n C.x C.b dJ14_bitCount_24 rfl (lv_at hl 0 rfl) ?_
  refine lv_iload_n C.x C.b dJ14_bitCount_25 rfl (lv_at hl 0 rfl) ?_
  refine lv_iconst (v := 4) C.x C.b dJ14_bitCount_26 (by decide) ?_
  refine lv_iushr C.x C.b dJ14_bitCount_27 rfl ?_
  refine lv_iadd C.x C.b dJ14_bitCount_28 ?_
  refine lv_ldcw C.x C.b C.o (C.t _ q1798) dJ14_bitCount_29 ?_
  refine lv_iand C.x C.b dJ14_bitCount_32 ?_
  refine tw_lt h (fun x0_3 h => ?_)
  refine lv_istore_n (i := 0) (lv' := [(0, .int x0_3)]) C.x C.b dJ14_bitCount_33 rfl hl (by decide) rfl (fun ls hl => ?_)
  refine lv_iload_n C.x C.b dJ14_bitCount_34 rfl (lv_at hl 0 rfl) ?_
  refine lv_iload_n C.x C.b dJ14_bitCount_35 rfl (lv_at hl 0 rfl) ?_
  refine lv_bipush (v := 8) C.x C.b dJ14_bitCount_36 (by decide) ?_
  refine lv_iushr C.x C.b dJ14_bitCount_38 rfl ?_
  refine lv_iadd C.x C.b dJ14_bitCount_39 ?_
  refine tw_lt h (fun x0_4 h => ?_)
  refine lv_istore_n (i := 0) (lv' := [(0, .int x0_4)]) C.x C.b dJ14_bitCount_40 rfl hl (by decide) rfl (fun ls hl => ?_)
  refine lv_iload_n C.x C.b dJ14_bitCount_41 rfl (lv_at hl 0 rfl) ?_
  refine lv_iload_n C.x C.b dJ14_bitCount_42 rfl (lv_at hl 0 rfl) ?_
  refine lv_bipush (v := 16) C.x C.b dJ14_bitCount_43 (by decide) ?_
  refine lv_iushr C.x C.b dJ14_bitCount_45 rfl ?_
  refine lv_iadd C.x C.b dJ14_bitCount_46 ?_
  refine tw_lt h (fun x0_5 h => ?_)
  refine lv_istore_n (i := 0) (lv' := [(0, .int x0_5)]) C.x C.b dJ14_bitCount_47 rfl hl (by decide) rfl (fun ls hl => ?_)
  refine lv_iload_n C.x C.b dJ14_bitCount_48 rfl (lv_at hl 0 rfl) ?_
  refine lv_bipush (v := 63) C.x C.b dJ14_bitCount_49 (by decide) ?_
  refine lv_iand C.x C.b dJ14_bitCount_51 ?_
  exact cw_iret C hI h dJ14_bitCount_52

theorem k_J1_init (l : Launch) (g : cG) (A : Nat → Prop) (o : Nat) (σ : cS) (v : Int32) (σ1 : cS) (h : m_J1_init o σ = some (v, σ1)) : Met l yJ1_init (ws_ yJ1_init cJ1_init 1 (Option.none : Option Jvm.ClassFile.FieldType)) ({ frames := 2, cells := σ.2 3 - σ.2 0, slots := σ.2 4 - σ.2 1, locals := 60 }) (CPc g A [.ref o] σ) (CQ g A (none) σ1) (σ.2 3 - σ.2 0) (σ.2 4 - σ.2 1) A := by
  refine Met.ofW (cc := cJ1_init) (maxL := 1) (ret := (Option.none : Option Jvm.ClassFile.FieldType)) (by decide) rfl ?_
  intro p e s m args below meth c s₁ B hml hv
  obtain ⟨rfl, hw, hσ⟩ := hv
  have hts := atoms_spec (ws := (ws_ yJ1_init cJ1_init 1 (Option.none : Option Jvm.ClassFile.FieldType))) B.pre
  have C : CX p m meth c s ([.ref o] : List Value).toArray cJ1_init 1 (Option.none : Option Jvm.ClassFile.FieldType) RJ1 := ⟨⟨B.exec, B.bytes, hml, findClass_of_methodNamed B.named, fun w h => hts w (List.mem_cons_of_mem _ h)⟩, B.returns, B.notSynchronized⟩
  have hin : meth.name = "<init>" := (name_of_methodNamed B.named B.method).1
  have e3 : σ.2 3 - σ.2 0 = g.2.2.1 3 - s.heap.size := by rw [hσ.1, hσ.2.2.2.1 3 (by decide)]
  have e4 : σ.2 4 - σ.2 1 = g.2.2.1 4 - hsl s.heap := by rw [hσ.2.1, hσ.2.2.2.1 4 (by decide)]
  have hR : RM g s (headSpec (ws_ yJ1_init cJ1_init 1 (Option.none : Option Jvm.ClassFile.FieldType)) ({ frames := 2, cells := σ.2 3 - σ.2 0, slots := σ.2 4 - σ.2 1, locals := 60 })).room (2) (60) := ⟨⟨Nat.le_refl _, Nat.le_refl _⟩, Nat.le_of_eq e3.symm, Nat.le_of_eq e4.symm⟩
  generalize (headSpec (ws_ yJ1_init cJ1_init 1 (Option.none : Option Jvm.ClassFile.FieldType)) ({ frames := 2, cells := σ.2 3 - σ.2 0, slots := σ.2 4 - σ.2 1, locals := 60 })).room = R at hR ⊢
  rw [e3, e4]
  have hI : CI g A s σ s.heap [] := ⟨hσ, va_S.rf, Nat.le_refl _⟩
  have hl := lv_entry ([.ref o]) (n := 1) (Nat.le_of_ble_eq_true rfl)
  rw [lg_entry_eq]
  generalize (lg_sl ([.ref o]) ++ List.replicate (1 - (lg_sl ([.ref o])).length) Slot.unset).toArray = ls at hl ⊢
  have hl : lv_has ls 1 [(0, .ref o)] := hl
  obtain ⟨z, hz⟩ : ∃ z, z = (v, σ1) := ⟨_, rfl⟩
  rw [← hz] at h
  rw [show σ1 = z.2 by rw [hz]]
  clear hz v σ1
  refine W.narrow ?_
  unfold m_J1_init at h
  refine r_aload_n (x := some o) C.x C.b dJ1_init_0 rfl (lv_at hl 0 rfl) ?_
  refine cw_callI (y := yJ0_init) (bytes := cJ0_init) (maxL := 1) (b := o) [] C hw hR hI hl.1 h (fun vv ss ee => k_J0_init l g A o σ vv ss ee) (cwI 0 C.t (lw_meth q182) rfl rfl rfl (C.t _ q127) (C.t _ q180) (C.t _ q181) rfl (by decide +kernel) ⟨Nat.le_trans (Nat.le_of_ble_eq_true rfl) hR.f, Nat.le_trans (Nat.le_of_ble_eq_true rfl) hR.lo⟩) rfl rfl (Nat.le_of_ble_eq_true rfl) dJ1_init_1 (fun σ_1 _ H locs h hI => ?_)
  refine r_aload_n (x := some o) C.x C.b dJ1_init_4 rfl (lv_at hl 0 rfl) ?_
  refine lv_bipush (v := 17) C.x C.b dJ1_init_5 (by decide) ?_
  refine cw_nAr (kind := 2) (E := "java/lang/Object") C hw hR hI h (by decide) rfl (by simp) q184 dJ1_init_7 (fun q_2 σ_3 H locs h hI => ?_)
  refine cw_pO (r := some o) (v := (va_rf (some q_2))) (ty := (.array (.object "java/lang/Object"))) 10 0 C hw hI h (by decide) rfl in_J1 tyJ1 tyJ1_ok nmJ1 (by decide) (C.t _ q186) (fun _ h9 => h9) (Or.inl rfl) (by decide +kernel) (nar_a _ _) (fits_a _ _) dJ1_init_10 (fun σ_4 H locs h hI => ?_)
  exact cw_vret C hI h dJ1_init_13

theorem w_J1_circularClear_12 {z : Int32 × cS} (C : CX p m meth c s args cJ1_circularClear 4 (Option.none : Option Jvm.ClassFile.FieldType) RJ1) (hw : WKc g A s s.heap) (hR : RM g s R (1) (40))  : ∀ (n : Nat) (x0 : Option Nat) (x1 : Int32) (x2 : Int32) (x3 : Int32) (σ : cS) (H : Heap) (locs : List Loc) (ls : Array Slot), b_J1_circularClear_12 n x0 x1 x2 x3 σ = some z → CI g A s σ H locs → lv_has ls 4 [(0, va_rf x0), (1, .int x1), (2, .int x2), (3, .int x3)] → W p l e R s m args below meth c H locs (H.size - s.heap.size) (hsl H - hsl s.heap) (MQ below (CQ g A (none) z.2) args s (g.2.2.1 3 - s.heap.size) (g.2.2.1 4 - hsl s.heap) A) (F0 m 12 ls []) := by
  intro n
  induction n with
  | zero =>
    intro x0 x1 x2 x3 σ H locs ls h
    cases h
  | succ n ih =>
    intro x0 x1 x2 x3 σ H locs ls h hI hl
    rw [b_J1_circularClear_12] at h
    refine lv_iload_n C.x C.b dJ1_circularClear_12 rfl (lv_at hl 1 rfl) ?_
    refine lv_iload_n C.x C.b dJ1_circularClear_13 rfl (lv_at hl 3 rfl) ?_
    refine lv_icmp_ge (tgt := 27) C.x C.b dJ1_circularClear_14 (by decide) (fun c_1 => ?_) (fun c_1 => ?_)
    · have h := ip c_1 h
      refine lv_iload_n C.x C.b dJ1_circularClear_27 rfl (lv_at hl 3 rfl) ?_
      refine lv_iload_n C.x C.b dJ1_circularClear_28 rfl (lv_at hl 2 rfl) ?_
      refine lv_icmp_ne (tgt := 35) C.x C.b dJ1_circularClear_29 (by decide) (fun c_2 => ?_) (fun c_2 => ?_)
      · have h := iN c_2 h
        refine lv_iconst (v := 0) C.x C.b dJ1_circularClear_35 (by decide) ?_
        refine lv_istore_n (i := 1) (lv' := [(1, .int 0), (0, va_rf x0), (2, .int x2), (3, .int x3)]) C.x C.b dJ1_circularClear_36 rfl hl (by decide) (by first | (simp [List.filter, cat_rf, cat_i, cat_a, cat_n, cat_l, cat_f, cat_d]; done) | (simp [List.filter, cat_rf, cat_i, cat_a, cat_n, cat_l, cat_f, cat_d]; rfl)) (fun ls hl => ?_)
        refine lv_iload_n C.x C.b dJ1_circularClear_37 rfl (lv_at hl 2 rfl) ?_
        refine lv_istore_n (i := 3) (lv' := [(3, .int x2), (1, .int 0), (0, va_rf x0), (2, .int x2)]) C.x C.b dJ1_circularClear_38 rfl hl (by decide) (by first | (simp [List.filter, cat_rf, cat_i, cat_a, cat_n, cat_l, cat_f, cat_d]; done) | (simp [List.filter, cat_rf, cat_i, cat_a, cat_n, cat_l, cat_f, cat_d]; rfl)) (fun ls hl => ?_)
        refine lv_goto (tgt := 12) C.x C.b dJ1_circularClear_39 (by decide) ?_
        exact ih x0 0 x2 x2 _ _ _ _ h hI (lv_sub hl [2, 1, 3, 0] rfl)
      · have h := ip c_2 h
        refine lv_goto (tgt := 42) C.x C.b dJ1_circularClear_32 (by decide) ?_
        exact cw_vret C hI h dJ1_circularClear_42
    · have h := iN c_1 h
      refine r_aload_n (x := x0) C.x C.b dJ1_circularClear_17 rfl (lv_at hl 0 rfl) ?_
      refine lv_iload_n C.x C.b dJ1_circularClear_18 rfl (lv_at hl 1 rfl) ?_
      refine lv_null C.x C.b dJ1_circularClear_19 ?_
      refine cw_rst (r := x0) (x := none) C hw hI h dJ1_circularClear_20 (fun σ_3 H locs h hI => ?_)
      obtain ⟨x1_4, e_, h⟩ := nm_s h
      refine lv_iinc (v := x1_4) (lv' := [(1, .int x1_4), (0, va_rf x0), (2, .int x2), (3, .int x3)]) C.x C.b dJ1_circularClear_21 hl (k := 1) rfl e_.symm (by decide) (by first | (simp [List.filter, cat_rf, cat_i, cat_a, cat_n, cat_l, cat_f, cat_d]; done) | (simp [List.filter, cat_rf, cat_i, cat_a, cat_n, cat_l, cat_f, cat_d]; rfl)) (fun ls hl => ?_)
      refine lv_goto (tgt := 12) C.x C.b dJ1_circularClear_24 (by decide) ?_
      exact ih x0 x1_4 x2 x3 _ _ _ _ h hI (lv_sub hl [1, 0, 2, 3] rfl)

theorem k_J1_circularClear (l : Launch) (g : cG) (A : Nat → Prop) (x0 : Option Nat) (x1 : Int32) (x2 : Int32) (σ : cS) (v : Int32) (σ1 : cS) (h : m_J1_circularClear x0 x1 x2 σ = some (v, σ1)) : Met l yJ1_circularClear (ws_ yJ1_circularClear cJ1_circularClear 4 (Option.none : Option Jvm.ClassFile.FieldType)) ({ frames := 1, cells := σ.2 3 - σ.2 0, slots := σ.2 4 - σ.2 1, locals := 40 }) (CPc g A [va_rf x0, .int x1, .int x2] σ) (CQ g A (none) σ1) (σ.2 3 - σ.2 0) (σ.2 4 - σ.2 1) A := by
  refine Met.ofW (cc := cJ1_circularClear) (maxL := 4) (ret := (Option.none : Option Jvm.ClassFile.FieldType)) (by decide) rfl ?_
  intro p e s m args below meth c s₁ B hml hv
  obtain ⟨rfl, hw, hσ⟩ := hv
  have hts := atoms_spec (ws := (ws_ yJ1_circularClear cJ1_circularClear 4 (Option.none : Option Jvm.ClassFile.FieldType))) B.pre
  have C : CX p m meth c s ([va_rf x0, .int x1, .int x2] : List Value).toArray cJ1_circularClear 4 (Option.none : Option Jvm.ClassFile.FieldType) RJ1 := ⟨⟨B.exec, B.bytes, hml, findClass_of_methodNamed B.named, fun w h => hts w (List.mem_cons_of_mem _ h)⟩, B.returns, B.notSynchronized⟩
  have e3 : σ.2 3 - σ.2 0 = g.2.2.1 3 - s.heap.size := by rw [hσ.1, hσ.2.2.2.1 3 (by decide)]
  have e4 : σ.2 4 - σ.2 1 = g.2.2.1 4 - hsl s.heap := by rw [hσ.2.1, hσ.2.2.2.1 4 (by decide)]
  have hR : RM g s (headSpec (ws_ yJ1_circularClear cJ1_circularClear 4 (Option.none : Option Jvm.ClassFile.FieldType)) ({ frames := 1, cells := σ.2 3 - σ.2 0, slots := σ.2 4 - σ.2 1, locals := 40 })).room (1) (40) := ⟨⟨Nat.le_refl _, Nat.le_refl _⟩, Nat.le_of_eq e3.symm, Nat.le_of_eq e4.symm⟩
  generalize (headSpec (ws_ yJ1_circularClear cJ1_circularClear 4 (Option.none : Option Jvm.ClassFile.FieldType)) ({ frames := 1, cells := σ.2 3 - σ.2 0, slots := σ.2 4 - σ.2 1, locals := 40 })).room = R at hR ⊢
  rw [e3, e4]
  have hI : CI g A s σ s.heap [] := ⟨hσ, va_S.rf, Nat.le_refl _⟩
  have hlen : (lg_sl ([va_rf x0, .int x1, .int x2])).length ≤ 4 := by rcases x0 with _ | x0 <;> exact Nat.le_of_ble_eq_true rfl
  have hl := lv_entry ([va_rf x0, .int x1, .int x2]) (n := 4) hlen
  rw [lg_entry_eq]
  generalize (lg_sl ([va_rf x0, .int x1, .int x2]) ++ List.replicate (4 - (lg_sl ([va_rf x0, .int x1, .int x2])).length) Slot.unset).toArray = ls at hl ⊢
  have hl : lv_has ls 4 [(0, va_rf x0), (1, .int x1), (2, .int x2)] := by clear hI hw h hσ e3 e4 hR C hts B; rcases x0 with _ | x0 <;> exact hl
  obtain ⟨z, hz⟩ : ∃ z, z = (v, σ1) := ⟨_, rfl⟩
  rw [← hz] at h
  rw [show σ1 = z.2 by rw [hz]]
  clear hz v σ1
  refine W.narrow ?_
  unfold m_J1_circularClear at h
  refine lv_iload_n C.x C.b dJ1_circularClear_0 rfl (lv_at hl 1 rfl) ?_
  refine lv_iload_n C.x C.b dJ1_circularClear_1 rfl (lv_at hl 2 rfl) ?_
  refine lv_icmp_gt (tgt := 9) C.x C.b dJ1_circularClear_2 (by decide) (fun c_1 => ?_) (fun c_1 => ?_)
  · have h := ip c_1 h
    refine r_aload_n (x := x0) C.x C.b dJ1_circularClear_9 rfl (lv_at hl 0 rfl) ?_
    refine cw_aL (r := x0) C hw hI h dJ1_circularClear_10 (fun v_2 h => ?_)
    refine lv_istore_n (i := 3) (lv' := [(3, .int v_2), (0, va_rf x0), (1, .int x1), (2, .int x2)]) C.x C.b dJ1_circularClear_11 rfl hl (by decide) (by first | (simp [List.filter, cat_rf, cat_i, cat_a, cat_n, cat_l, cat_f, cat_d]; done) | (simp [List.filter, cat_rf, cat_i, cat_a, cat_n, cat_l, cat_f, cat_d]; rfl)) (fun ls hl => ?_)
    exact w_J1_circularClear_12 C hw hR _ x0 x1 x2 v_2 _ _ _ _ h hI (lv_sub hl [1, 2, 3, 0] rfl)
  · have h := iN c_1 h
    refine lv_iload_n C.x C.b dJ1_circularClear_5 rfl (lv_at hl 2 rfl) ?_
    refine lv_goto (tgt := 11) C.x C.b dJ1_circularClear_6 (by decide) ?_
    refine lv_istore_n (i := 3) (lv' := [(3, .int x2), (0, va_rf x0), (1, .int x1), (2, .int x2)]) C.x C.b dJ1_circularClear_11 rfl hl (by decide) (by first | (simp [List.filter, cat_rf, cat_i, cat_a, cat_n, cat_l, cat_f, cat_d]; done) | (simp [List.filter, cat_rf, cat_i, cat_a, cat_n, cat_l, cat_f, cat_d]; rfl)) (fun ls hl => ?_)
    exact w_J1_circularClear_12 C hw hR _ x0 x1 x2 x2 _ _ _ _ h hI (lv_sub hl [1, 2, 3, 0] rfl)

theorem k_J1_clear (l : Launch) (g : cG) (A : Nat → Prop) (o : Nat) (σ : cS) (v : Int32) (σ1 : cS) (h : m_J1_clear o σ = some (v, σ1)) : Met l yJ1_clear (ws_ yJ1_clear cJ1_clear 1 (Option.none : Option Jvm.ClassFile.FieldType)) ({ frames := 2, cells := σ.2 3 - σ.2 0, slots := σ.2 4 - σ.2 1, locals := 63 }) (CPc g A [.ref o] σ) (CQ g A (none) σ1) (σ.2 3 - σ.2 0) (σ.2 4 - σ.2 1) A := by
  refine Met.ofW (cc := cJ1_clear) (maxL := 1) (ret := (Option.none : Option Jvm.ClassFile.FieldType)) (by decide) rfl ?_
  intro p e s m args below meth c s₁ B hml hv
  obtain ⟨rfl, hw, hσ⟩ := hv
  have hts := atoms_spec (ws := (ws_ yJ1_clear cJ1_clear 1 (Option.none : Option Jvm.ClassFile.FieldType))) B.pre
  have C : CX p m meth c s ([.ref o] : List Value).toArray cJ1_clear 1 (Option.none : Option Jvm.ClassFile.FieldType) RJ1 := ⟨⟨B.exec, B.bytes, hml, findClass_of_methodNamed B.named, fun w h => hts w (List.mem_cons_of_mem _ h)⟩, B.returns, B.notSynchronized⟩
  have e3 : σ.2 3 - σ.2 0 = g.2.2.1 3 - s.heap.size := by rw [hσ.1, hσ.2.2.2.1 3 (by decide)]
  have e4 : σ.2 4 - σ.2 1 = g.2.2.1 4 - hsl s.heap := by rw [hσ.2.1, hσ.2.2.2.1 4 (by decide)]
  have hR : RM g s (headSpec (ws_ yJ1_clear cJ1_clear 1 (Option.none : Option Jvm.ClassFile.FieldType)) ({ frames := 2, cells := σ.2 3 - σ.2 0, slots := σ.2 4 - σ.2 1, locals := 63 })).room (2) (63) := ⟨⟨Nat.le_refl _, Nat.le_refl _⟩, Nat.le_of_eq e3.symm, Nat.le_of_eq e4.symm⟩
  generalize (headSpec (ws_ yJ1_clear cJ1_clear 1 (Option.none : Option Jvm.ClassFile.FieldType)) ({ frames := 2, cells := σ.2 3 - σ.2 0, slots := σ.2 4 - σ.2 1, locals := 63 })).room = R at hR ⊢
  rw [e3, e4]
  have hI : CI g A s σ s.heap [] := ⟨hσ, va_S.rf, Nat.le_refl _⟩
  have hl := lv_entry ([.ref o]) (n := 1) (Nat.le_of_ble_eq_true rfl)
  rw [lg_entry_eq]
  generalize (lg_sl ([.ref o]) ++ List.replicate (1 - (lg_sl ([.ref o])).length) Slot.unset).toArray = ls at hl ⊢
  have hl : lv_has ls 1 [(0, .ref o)] := hl
  obtain ⟨z, hz⟩ : ∃ z, z = (v, σ1) := ⟨_, rfl⟩
  rw [← hz] at h
  rw [show σ1 = z.2 by rw [hz]]
  clear hz v σ1
  refine W.narrow ?_
  unfold m_J1_clear at h
  refine r_aload_n (x := some o) C.x C.b dJ1_clear_0 rfl (lv_at hl 0 rfl) ?_
  refine cw_gR (r := some o) 10 0 C hw hI h (by decide) rfl in_J1 (by decide) (C.t _ q186) (fun _ h9 => h9) dJ1_clear_1 (fun v_1 h => ?_)
  refine r_aload_n (x := some o) C.x C.b dJ1_clear_4 rfl (lv_at hl 0 rfl) ?_
  refine cw_gI (r := some o) 10 1 C hw hI h (by decide) rfl in_J1 (by decide) (C.t _ q187) (fun _ h9 => h9) dJ1_clear_5 (fun v_2 h => ?_)
  refine r_aload_n (x := some o) C.x C.b dJ1_clear_8 rfl (lv_at hl 0 rfl) ?_
  refine cw_gI (r := some o) 10 2 C hw hI h (by decide) rfl in_J1 (by decide) (C.t _ q188) (fun _ h9 => h9) dJ1_clear_9 (fun v_3 h => ?_)
  refine cw_callS (y := yJ1_circularClear) (bytes := cJ1_circularClear) (maxL := 4) (fun _ => none) [va_rf v_1, .int v_2, .int v_3] C hw hR hI hl.1 h (fun vv ss ee => k_J1_circularClear l g A v_1 v_2 v_3 σ vv ss ee) (va_cwS 3 C.t (lw_S q1153 q1154 q128 q1155) rfl rfl rfl (by decide +kernel) ⟨Nat.le_trans (Nat.le_of_ble_eq_true rfl) hR.f, Nat.le_trans (Nat.le_of_ble_eq_true rfl) hR.lo⟩) rfl rfl (Nat.le_of_ble_eq_true rfl) dJ1_clear_12 (fun _ σ_4 H locs h hI => ?_)
  refine r_aload_n (x := some o) C.x C.b dJ1_clear_15 rfl (lv_at hl 0 rfl) ?_
  refine r_aload_n (x := some o) C.x C.b dJ1_clear_16 rfl (lv_at hl 0 rfl) ?_
  refine lv_iconst (v := 0) C.x C.b dJ1_clear_17 (by decide) ?_
  refine lv_dup_x1 C.x C.b dJ1_clear_18 rfl rfl ?_
  refine cw_pO (r := some o) (v := (.int 0)) (ty := .int) 10 2 C hw hI h (by decide) rfl in_J1 tyJ1 tyJ1_ok nmJ1 (by decide) (C.t _ q188) (fun _ h9 => h9) (Or.inl rfl) (by decide +kernel) rfl rfl dJ1_clear_19 (fun σ_5 H locs h hI => ?_)
  refine cw_pO (r := some o) (v := (.int 0)) (ty := .int) 10 1 C hw hI h (by decide) rfl in_J1 tyJ1 tyJ1_ok nmJ1 (by decide) (C.t _ q187) (fun _ h9 => h9) (Or.inl rfl) (by decide +kernel) rfl rfl dJ1_clear_22 (fun σ_6 H locs h hI => ?_)
  exact cw_vret C hI h dJ1_clear_25

theorem k_J1_isEmpty (l : Launch) (g : cG) (A : Nat → Prop) (o : Nat) (σ : cS) (v : Int32) (σ1 : cS) (h : m_J1_isEmpty o σ = some (v, σ1)) : Met l yJ1_isEmpty (ws_ yJ1_isEmpty cJ1_isEmpty 1 (Option.some Jvm.ClassFile.FieldType.boolean)) ({ frames := 1, cells := σ.2 3 - σ.2 0, slots := σ.2 4 - σ.2 1, locals := 40 }) (CPc g A [.ref o] σ) (CQ g A (some (.int v)) σ1) (σ.2 3 - σ.2 0) (σ.2 4 - σ.2 1) A := by
  refine Met.ofW (cc := cJ1_isEmpty) (maxL := 1) (ret := (Option.some Jvm.ClassFile.FieldType.boolean)) (by decide) rfl ?_
  intro p e s m args below meth c s₁ B hml hv
  obtain ⟨rfl, hw, hσ⟩ := hv
  have hts := atoms_spec (ws := (ws_ yJ1_isEmpty cJ1_isEmpty 1 (Option.some Jvm.ClassFile.FieldType.boolean))) B.pre
  have C : CX p m meth c s ([.ref o] : List Value).toArray cJ1_isEmpty 1 (Option.some Jvm.ClassFile.FieldType.boolean) RJ1 := ⟨⟨B.exec, B.bytes, hml, findClass_of_methodNamed B.named, fun w h => hts w (List.mem_cons_of_mem _ h)⟩, B.returns, B.notSynchronized⟩
  have e3 : σ.2 3 - σ.2 0 = g.2.2.1 3 - s.heap.size := by rw [hσ.1, hσ.2.2.2.1 3 (by decide)]
  have e4 : σ.2 4 - σ.2 1 = g.2.2.1 4 - hsl s.heap := by rw [hσ.2.1, hσ.2.2.2.1 4 (by decide)]
  have hR : RM g s (headSpec (ws_ yJ1_isEmpty cJ1_isEmpty 1 (Option.some Jvm.ClassFile.FieldType.boolean)) ({ frames := 1, cells := σ.2 3 - σ.2 0, slots := σ.2 4 - σ.2 1, locals := 40 })).room (1) (40) := ⟨⟨Nat.le_refl _, Nat.le_refl _⟩, Nat.le_of_eq e3.symm, Nat.le_of_eq e4.symm⟩
  generalize (headSpec (ws_ yJ1_isEmpty cJ1_isEmpty 1 (Option.some Jvm.ClassFile.FieldType.boolean)) ({ frames := 1, cells := σ.2 3 - σ.2 0, slots := σ.2 4 - σ.2 1, locals := 40 })).room = R at hR ⊢
  rw [e3, e4]
  have hI : CI g A s σ s.heap [] := ⟨hσ, va_S.rf, Nat.le_refl _⟩
  have hl := lv_entry ([.ref o]) (n := 1) (Nat.le_of_ble_eq_true rfl)
  rw [lg_entry_eq]
  generalize (lg_sl ([.ref o]) ++ List.replicate (1 - (lg_sl ([.ref o])).length) Slot.unset).toArray = ls at hl ⊢
  have hl : lv_has ls 1 [(0, .ref o)] := hl
  obtain ⟨z, hz⟩ : ∃ z, z = (v, σ1) := ⟨_, rfl⟩
  rw [← hz] at h
  rw [show v = z.1 by rw [hz], show σ1 = z.2 by rw [hz]]
  clear hz v σ1
  refine W.narrow ?_
  unfold m_J1_isEmpty at h
  refine r_aload_n (x := some o) C.x C.b dJ1_isEmpty_0 rfl (lv_at hl 0 rfl) ?_
  refine cw_gI (r := some o) 10 1 C hw hI h (by decide) rfl in_J1 (by decide) (C.t _ q187) (fun _ h9 => h9) dJ1_isEmpty_1 (fun v_1 h => ?_)
  refine r_aload_n (x := some o) C.x C.b dJ1_isEmpty_4 rfl (lv_at hl 0 rfl) ?_
  refine cw_gI (r := some o) 10 2 C hw hI h (by decide) rfl in_J1 (by decide) (C.t _ q188) (fun _ h9 => h9) dJ1_isEmpty_5 (fun v_2 h => ?_)
  refine lv_icmp_ne (tgt := 15) C.x C.b dJ1_isEmpty_8 (by decide) (fun c_3 => ?_) (fun c_3 => ?_)
  · have h := iN c_3 h
    refine lv_iconst (v := 0) C.x C.b dJ1_isEmpty_15 (by decide) ?_
    exact cw_zret C hI h dJ1_isEmpty_16
  · have h := ip c_3 h
    refine lv_iconst (v := 1) C.x C.b dJ1_isEmpty_11 (by decide) ?_
    refine lv_goto (tgt := 16) C.x C.b dJ1_isEmpty_12 (by decide) ?_
    exact cw_zret C hI h dJ1_isEmpty_16

theorem k_J1_dec (l : Launch) (g : cG) (A : Nat → Prop) (x0 : Int32) (x1 : Int32) (σ : cS) (v : Int32) (σ1 : cS) (h : m_J1_dec x0 x1 σ = some (v, σ1)) : Met l yJ1_dec (ws_ yJ1_dec cJ1_dec 2 (Option.some Jvm.ClassFile.FieldType.int)) ({ frames := 1, cells := σ.2 3 - σ.2 0, slots := σ.2 4 - σ.2 1, locals := 40 }) (CPc g A [.int x0, .int x1] σ) (CQ g A (some (.int v)) σ1) (σ.2 3 - σ.2 0) (σ.2 4 - σ.2 1) A := by
  refine Met.ofW (cc := cJ1_dec) (maxL := 2) (ret := (Option.some Jvm.ClassFile.FieldType.int)) (by decide) rfl ?_
  intro p e s m args below meth c s₁ B hml hv
  obtain ⟨rfl, hw, hσ⟩ := hv
  have hts := atoms_spec (ws := (ws_ yJ1_dec cJ1_dec 2 (Option.some Jvm.ClassFile.FieldType.int))) B.pre
  have C : CX p m meth c s ([.int x0, .int x1] : List Value).toArray cJ1_dec 2 (Option.some Jvm.ClassFile.FieldType.int) RJ1 := ⟨⟨B.exec, B.bytes, hml, findClass_of_methodNamed B.named, fun w h => hts w (List.mem_cons_of_mem _ h)⟩, B.returns, B.notSynchronized⟩
  have e3 : σ.2 3 - σ.2 0 = g.2.2.1 3 - s.heap.size := by rw [hσ.1, hσ.2.2.2.1 3 (by decide)]
  have e4 : σ.2 4 - σ.2 1 = g.2.2.1 4 - hsl s.heap := by rw [hσ.2.1, hσ.2.2.2.1 4 (by decide)]
  have hR : RM g s (headSpec (ws_ yJ1_dec cJ1_dec 2 (Option.some Jvm.ClassFile.FieldType.int)) ({ frames := 1, cells := σ.2 3 - σ.2 0, slots := σ.2 4 - σ.2 1, locals := 40 })).room (1) (40) := ⟨⟨Nat.le_refl _, Nat.le_refl _⟩, Nat.le_of_eq e3.symm, Nat.le_of_eq e4.symm⟩
  generalize (headSpec (ws_ yJ1_dec cJ1_dec 2 (Option.some Jvm.ClassFile.FieldType.int)) ({ frames := 1, cells := σ.2 3 - σ.2 0, slots := σ.2 4 - σ.2 1, locals := 40 })).room = R at hR ⊢
  rw [e3, e4]
  have hI : CI g A s σ s.heap [] := ⟨hσ, va_S.rf, Nat.le_refl _⟩
  have hl := lv_entry ([.int x0, .int x1]) (n := 2) (Nat.le_of_ble_eq_true rfl)
  rw [lg_entry_eq]
  generalize (lg_sl ([.int x0, .int x1]) ++ List.replicate (2 - (lg_sl ([.int x0, .int x1])).length) Slot.unset).toArray = ls at hl ⊢
  have hl : lv_has ls 2 [(0, .int x0), (1, .int x1)] := hl
  obtain ⟨z, hz⟩ : ∃ z, z = (v, σ1) := ⟨_, rfl⟩
  rw [← hz] at h
  rw [show v = z.1 by rw [hz], show σ1 = z.2 by rw [hz]]
  clear hz v σ1
  refine W.narrow ?_
  unfold m_J1_dec at h
  obtain ⟨x0_1, e_, h⟩ := nm_s h
  refine lv_iinc (v := x0_1) (lv' := [(0, .int x0_1), (1, .int x1)]) C.x C.b dJ1_dec_0 hl (k := 0) rfl e_.symm (by decide) rfl (fun ls hl => ?_)
  refine lv_iload_n C.x C.b dJ1_dec_3 rfl (lv_at hl 0 rfl) ?_
  refine lv_if_ge (tgt := 11) C.x C.b dJ1_dec_4 (by decide) (fun c_2 => ?_) (fun c_2 => ?_)
  · have h := ip c_2 h
    refine lv_iload_n C.x C.b dJ1_dec_11 rfl (lv_at hl 0 rfl) ?_
    exact cw_iret C hI h dJ1_dec_12
  · have h := iN c_2 h
    refine lv_iload_n C.x C.b dJ1_dec_7 rfl (lv_at hl 1 rfl) ?_
    refine lv_iconst (v := 1) C.x C.b dJ1_dec_8 (by decide) ?_
    refine lv_isub C.x C.b dJ1_dec_9 ?_
    refine tw_lt h (fun x0_3 h => ?_)
    refine lv_istore_n (i := 0) (lv' := [(0, .int x0_3), (1, .int x1)]) C.x C.b dJ1_dec_10 rfl hl (by decide) rfl (fun ls hl => ?_)
    refine lv_iload_n C.x C.b dJ1_dec_11 rfl (lv_at hl 0 rfl) ?_
    exact cw_iret C hI h dJ1_dec_12

theorem k_J1_elementAt (l : Launch) (g : cG) (A : Nat → Prop) (x0 : Option Nat) (x1 : Int32) (σ : cS) (v : Option Nat) (σ1 : cS) (h : m_J1_elementAt x0 x1 σ = some (v, σ1)) : Met l yJ1_elementAt (ws_ yJ1_elementAt cJ1_elementAt 2 (Option.some (Jvm.ClassFile.FieldType.object "java/lang/Object"))) ({ frames := 1, cells := σ.2 3 - σ.2 0, slots := σ.2 4 - σ.2 1, locals := 40 }) (CPc g A [va_rf x0, .int x1] σ) (CQ g A (some (va_rf v)) σ1) (σ.2 3 - σ.2 0) (σ.2 4 - σ.2 1) A := by
  refine Met.ofW (cc := cJ1_elementAt) (maxL := 2) (ret := (Option.some (Jvm.ClassFile.FieldType.object "java/lang/Object"))) (by decide) rfl ?_
  intro p e s m args below meth c s₁ B hml hv
  obtain ⟨rfl, hw, hσ⟩ := hv
  have hts := atoms_spec (ws := (ws_ yJ1_elementAt cJ1_elementAt 2 (Option.some (Jvm.ClassFile.FieldType.object "java/lang/Object")))) B.pre
  have C : CX p m meth c s ([va_rf x0, .int x1] : List Value).toArray cJ1_elementAt 2 (Option.some (Jvm.ClassFile.FieldType.object "java/lang/Object")) RJ1 := ⟨⟨B.exec, B.bytes, hml, findClass_of_methodNamed B.named, fun w h => hts w (List.mem_cons_of_mem _ h)⟩, B.returns, B.notSynchronized⟩
  have e3 : σ.2 3 - σ.2 0 = g.2.2.1 3 - s.heap.size := by rw [hσ.1, hσ.2.2.2.1 3 (by decide)]
  have e4 : σ.2 4 - σ.2 1 = g.2.2.1 4 - hsl s.heap := by rw [hσ.2.1, hσ.2.2.2.1 4 (by decide)]
  have hR : RM g s (headSpec (ws_ yJ1_elementAt cJ1_elementAt 2 (Option.some (Jvm.ClassFile.FieldType.object "java/lang/Object"))) ({ frames := 1, cells := σ.2 3 - σ.2 0, slots := σ.2 4 - σ.2 1, locals := 40 })).room (1) (40) := ⟨⟨Nat.le_refl _, Nat.le_refl _⟩, Nat.le_of_eq e3.symm, Nat.le_of_eq e4.symm⟩
  generalize (headSpec (ws_ yJ1_elementAt cJ1_elementAt 2 (Option.some (Jvm.ClassFile.FieldType.object "java/lang/Object"))) ({ frames := 1, cells := σ.2 3 - σ.2 0, slots := σ.2 4 - σ.2 1, locals := 40 })).room = R at hR ⊢
  rw [e3, e4]
  have hI : CI g A s σ s.heap [] := ⟨hσ, va_S.rf, Nat.le_refl _⟩
  have hlen : (lg_sl ([va_rf x0, .int x1])).length ≤ 2 := by rcases x0 with _ | x0 <;> exact Nat.le_of_ble_eq_true rfl
  have hl := lv_entry ([va_rf x0, .int x1]) (n := 2) hlen
  rw [lg_entry_eq]
  generalize (lg_sl ([va_rf x0, .int x1]) ++ List.replicate (2 - (lg_sl ([va_rf x0, .int x1])).length) Slot.unset).toArray = ls at hl ⊢
  have hl : lv_has ls 2 [(0, va_rf x0), (1, .int x1)] := by clear hI hw h hσ e3 e4 hR C hts B; rcases x0 with _ | x0 <;> exact hl
  obtain ⟨z, hz⟩ : ∃ z, z = (v, σ1) := ⟨_, rfl⟩
  rw [← hz] at h
  rw [show v = z.1 by rw [hz], show σ1 = z.2 by rw [hz]]
  clear hz v σ1
  refine W.narrow ?_
  unfold m_J1_elementAt at h
  refine r_aload_n (x := x0) C.x C.b dJ1_elementAt_0 rfl (lv_at hl 0 rfl) ?_
  refine lv_iload_n C.x C.b dJ1_elementAt_1 rfl (lv_at hl 1 rfl) ?_
  refine cw_rld (r := x0) C hw hI h dJ1_elementAt_2 (fun v_1 h => ?_)
  exact cw_aret (x := v_1) C (Or.inl ⟨_, rfl⟩) hI h dJ1_elementAt_3

theorem k_J1_pollLast (l : Launch) (g : cG) (A : Nat → Prop) (o : Nat) (σ : cS) (v : Option Nat) (σ1 : cS) (h : m_J1_pollLast o σ = some (v, σ1)) : Met l yJ1_pollLast (ws_ yJ1_pollLast cJ1_pollLast 4 (Option.some (Jvm.ClassFile.FieldType.object "java/lang/Object"))) ({ frames := 2, cells := σ.2 3 - σ.2 0, slots := σ.2 4 - σ.2 1, locals := 61 }) (CPc g A [.ref o] σ) (CQ g A (some (va_rf v)) σ1) (σ.2 3 - σ.2 0) (σ.2 4 - σ.2 1) A := by
  refine Met.ofW (cc := cJ1_pollLast) (maxL := 4) (ret := (Option.some (Jvm.ClassFile.FieldType.object "java/lang/Object"))) (by decide) rfl ?_
  intro p e s m args below meth c s₁ B hml hv
  obtain ⟨rfl, hw, hσ⟩ := hv
  have hts := atoms_spec (ws := (ws_ yJ1_pollLast cJ1_pollLast 4 (Option.some (Jvm.ClassFile.FieldType.object "java/lang/Object")))) B.pre
  have C : CX p m meth c s ([.ref o] : List Value).toArray cJ1_pollLast 4 (Option.some (Jvm.ClassFile.FieldType.object "java/lang/Object")) RJ1 := ⟨⟨B.exec, B.bytes, hml, findClass_of_methodNamed B.named, fun w h => hts w (List.mem_cons_of_mem _ h)⟩, B.returns, B.notSynchronized⟩
  have e3 : σ.2 3 - σ.2 0 = g.2.2.1 3 - s.heap.size := by rw [hσ.1, hσ.2.2.2.1 3 (by decide)]
  have e4 : σ.2 4 - σ.2 1 = g.2.2.1 4 - hsl s.heap := by rw [hσ.2.1, hσ.2.2.2.1 4 (by decide)]
  have hR : RM g s (headSpec (ws_ yJ1_pollLast cJ1_pollLast 4 (Option.some (Jvm.ClassFile.FieldType.object "java/lang/Object"))) ({ frames := 2, cells := σ.2 3 - σ.2 0, slots := σ.2 4 - σ.2 1, locals := 61 })).room (2) (61) := ⟨⟨Nat.le_refl _, Nat.le_refl _⟩, Nat.le_of_eq e3.symm, Nat.le_of_eq e4.symm⟩
  generalize (headSpec (ws_ yJ1_pollLast cJ1_pollLast 4 (Option.some (Jvm.ClassFile.FieldType.object "java/lang/Object"))) ({ frames := 2, cells := σ.2 3 - σ.2 0, slots := σ.2 4 - σ.2 1, locals := 61 })).room = R at hR ⊢
  rw [e3, e4]
  have hI : CI g A s σ s.heap [] := ⟨hσ, va_S.rf, Nat.le_refl _⟩
  have hl := lv_entry ([.ref o]) (n := 4) (Nat.le_of_ble_eq_true rfl)
  rw [lg_entry_eq]
  generalize (lg_sl ([.ref o]) ++ List.replicate (4 - (lg_sl ([.ref o])).length) Slot.unset).toArray = ls at hl ⊢
  have hl : lv_has ls 4 [(0, .ref o)] := hl
  obtain ⟨z, hz⟩ : ∃ z, z = (v, σ1) := ⟨_, rfl⟩
  rw [← hz] at h
  rw [show v = z.1 by rw [hz], show σ1 = z.2 by rw [hz]]
  clear hz v σ1
  refine W.narrow ?_
  unfold m_J1_pollLast at h
  refine r_aload_n (x := some o) C.x C.b dJ1_pollLast_0 rfl (lv_at hl 0 rfl) ?_
  refine cw_gR (r := some o) 10 0 C hw hI h (by decide) rfl in_J1 (by decide) (C.t _ q186) (fun _ h9 => h9) dJ1_pollLast_1 (fun v_1 h => ?_)
  refine lv_dup C.x C.b dJ1_pollLast_4 (cat_rf _) ?_
  refine r_astore_n (i := 1) (x := v_1) (lv' := [(1, va_rf v_1), (0, .ref o)]) C.x C.b dJ1_pollLast_5 rfl hl (by decide) (by rfl) (fun ls hl => ?_)
  refine r_aload_n (x := some o) C.x C.b dJ1_pollLast_6 rfl (lv_at hl 1 rfl) ?_
  refine cw_gI (r := some o) 10 2 C hw hI h (by decide) rfl in_J1 (by decide) (C.t _ q188) (fun _ h9 => h9) dJ1_pollLast_7 (fun v_2 h => ?_)
  refine r_aload_n (x := v_1) C.x C.b dJ1_pollLast_10 rfl (lv_at hl 0 rfl) ?_
  refine cw_aL (r := v_1) C hw hI h dJ1_pollLast_11 (fun v_3 h => ?_)
  refine cw_callS (y := yJ1_dec) (bytes := cJ1_dec) (maxL := 2) (fun v => some (.int v)) [.int v_2, .int v_3] C hw hR hI hl.1 h (fun vv ss ee => k_J1_dec l g A v_2 v_3 σ vv ss ee) (va_cwS 2 C.t (lw_S q1497 q1498 q128 q1499) rfl rfl rfl (by decide +kernel) ⟨Nat.le_trans (Nat.le_of_ble_eq_true rfl) hR.f, Nat.le_trans (Nat.le_of_ble_eq_true rfl) hR.lo⟩) rfl rfl (Nat.le_of_ble_eq_true rfl) dJ1_pollLast_12 (fun v_4 σ_5 H locs h hI => ?_)
  refine lv_dup C.x C.b dJ1_pollLast_15 rfl ?_
  refine lv_istore_n (i := 2) (lv' := [(2, .int v_4), (1, va_rf v_1), (0, .ref o)]) C.x C.b dJ1_pollLast_16 rfl hl (by decide) (by first | (simp [List.filter, cat_rf, cat_i, cat_a, cat_n, cat_l, cat_f, cat_d]; done) | (simp [List.filter, cat_rf, cat_i, cat_a, cat_n, cat_l, cat_f, cat_d]; rfl)) (fun ls hl => ?_)
  refine cw_callS (y := yJ1_elementAt) (bytes := cJ1_elementAt) (maxL := 2) (fun v => some (va_rf v)) [va_rf v_1, .int v_4] C hw hR hI hl.1 h (fun vv ss ee => k_J1_elementAt l g A v_1 v_4 σ_5 vv ss ee) (va_cwS 2 C.t (lw_S q1500 q1501 q128 q1502) rfl rfl rfl (by decide +kernel) ⟨Nat.le_trans (Nat.le_of_ble_eq_true rfl) hR.f, Nat.le_trans (Nat.le_of_ble_eq_true rfl) hR.lo⟩) rfl rfl (Nat.le_of_ble_eq_true rfl) dJ1_pollLast_17 (fun v_6 σ_7 H locs h hI => ?_)
  refine r_astore_n (i := 3) (x := v_6) (lv' := [(3, va_rf v_6), (2, .int v_4), (1, va_rf v_1), (0, .ref o)]) C.x C.b dJ1_pollLast_20 rfl hl (by decide) (by first | (simp [List.filter, cat_rf, cat_i, cat_a, cat_n, cat_l, cat_f, cat_d]; done) | (simp [List.filter, cat_rf, cat_i, cat_a, cat_n, cat_l, cat_f, cat_d]; rfl)) (fun ls hl => ?_)
  refine r_aload_n (x := v_6) C.x C.b dJ1_pollLast_21 rfl (lv_at hl 0 rfl) ?_
  refine r_ifnull (x := v_6) (tgt := 34) C.x C.b dJ1_pollLast_22 (by decide) (fun c_8 => ?_) (fun c_8 => ?_)
  · have h := ip c_8 h
    refine r_aload_n (x := v_6) C.x C.b dJ1_pollLast_34 rfl (lv_at hl 0 rfl) ?_
    exact cw_aret (x := v_6) C (Or.inl ⟨_, rfl⟩) hI h dJ1_pollLast_35
  · have h := iN c_8 h
    refine r_aload_n (x := v_1) C.x C.b dJ1_pollLast_25 rfl (lv_at hl 2 rfl) ?_
    refine r_aload_n (x := some o) C.x C.b dJ1_pollLast_26 rfl (lv_at hl 3 rfl) ?_
    refine lv_iload_n C.x C.b dJ1_pollLast_27 rfl (lv_at hl 1 rfl) ?_
    refine lv_dup_x1 C.x C.b dJ1_pollLast_28 rfl rfl ?_
    refine cw_pO (r := some o) (v := (.int v_4)) (ty := .int) 10 2 C hw hI h (by decide) rfl in_J1 tyJ1 tyJ1_ok nmJ1 (by decide) (C.t _ q188) (fun _ h9 => h9) (Or.inl rfl) (by decide +kernel) rfl rfl dJ1_pollLast_29 (fun σ_9 H locs h hI => ?_)
    refine lv_null C.x C.b dJ1_pollLast_32 ?_
    refine cw_rst (r := v_1) (x := none) C hw hI h dJ1_pollLast_33 (fun σ_10 H locs h hI => ?_)
    refine r_aload_n (x := v_6) C.x C.b dJ1_pollLast_34 rfl (lv_at hl 0 rfl) ?_
    exact cw_aret (x := v_6) C (Or.inl ⟨_, rfl⟩) hI h dJ1_pollLast_35

theorem k_J1_removeLast (l : Launch) (g : cG) (A : Nat → Prop) (o : Nat) (σ : cS) (v : Option Nat) (σ1 : cS) (h : m_J1_removeLast o σ = some (v, σ1)) : Met l yJ1_removeLast (ws_ yJ1_removeLast cJ1_removeLast 2 (Option.some (Jvm.ClassFile.FieldType.object "java/lang/Object"))) ({ frames := 3, cells := σ.2 3 - σ.2 0, slots := σ.2 4 - σ.2 1, locals := 84 }) (CPc g A [.ref o] σ) (CQ g A (some (va_rf v)) σ1) (σ.2 3 - σ.2 0) (σ.2 4 - σ.2 1) A := by
  refine Met.ofW (cc := cJ1_removeLast) (maxL := 2) (ret := (Option.some (Jvm.ClassFile.FieldType.object "java/lang/Object"))) (by decide) rfl ?_
  intro p e s m args below meth c s₁ B hml hv
  obtain ⟨rfl, hw, hσ⟩ := hv
  have hts := atoms_spec (ws := (ws_ yJ1_removeLast cJ1_removeLast 2 (Option.some (Jvm.ClassFile.FieldType.object "java/lang/Object")))) B.pre
  have C : CX p m meth c s ([.ref o] : List Value).toArray cJ1_removeLast 2 (Option.some (Jvm.ClassFile.FieldType.object "java/lang/Object")) RJ1 := ⟨⟨B.exec, B.bytes, hml, findClass_of_methodNamed B.named, fun w h => hts w (List.mem_cons_of_mem _ h)⟩, B.returns, B.notSynchronized⟩
  have e3 : σ.2 3 - σ.2 0 = g.2.2.1 3 - s.heap.size := by rw [hσ.1, hσ.2.2.2.1 3 (by decide)]
  have e4 : σ.2 4 - σ.2 1 = g.2.2.1 4 - hsl s.heap := by rw [hσ.2.1, hσ.2.2.2.1 4 (by decide)]
  have hR : RM g s (headSpec (ws_ yJ1_removeLast cJ1_removeLast 2 (Option.some (Jvm.ClassFile.FieldType.object "java/lang/Object"))) ({ frames := 3, cells := σ.2 3 - σ.2 0, slots := σ.2 4 - σ.2 1, locals := 84 })).room (3) (84) := ⟨⟨Nat.le_refl _, Nat.le_refl _⟩, Nat.le_of_eq e3.symm, Nat.le_of_eq e4.symm⟩
  generalize (headSpec (ws_ yJ1_removeLast cJ1_removeLast 2 (Option.some (Jvm.ClassFile.FieldType.object "java/lang/Object"))) ({ frames := 3, cells := σ.2 3 - σ.2 0, slots := σ.2 4 - σ.2 1, locals := 84 })).room = R at hR ⊢
  rw [e3, e4]
  have hI : CI g A s σ s.heap [] := ⟨hσ, va_S.rf, Nat.le_refl _⟩
  have hl := lv_entry ([.ref o]) (n := 2) (Nat.le_of_ble_eq_true rfl)
  rw [lg_entry_eq]
  generalize (lg_sl ([.ref o]) ++ List.replicate (2 - (lg_sl ([.ref o])).length) Slot.unset).toArray = ls at hl ⊢
  have hl : lv_has ls 2 [(0, .ref o)] := hl
  obtain ⟨z, hz⟩ : ∃ z, z = (v, σ1) := ⟨_, rfl⟩
  rw [← hz] at h
  rw [show v = z.1 by rw [hz], show σ1 = z.2 by rw [hz]]
  clear hz v σ1
  refine W.narrow ?_
  unfold m_J1_removeLast at h
  refine r_aload_n (x := some o) C.x C.b dJ1_removeLast_0 rfl (lv_at hl 0 rfl) ?_
  refine cw_callV (y := yJ1_pollLast) (bytes := cJ1_pollLast) (maxL := 4) (r := some o) (f := fun a_3 => m_J1_pollLast a_3 σ) 10 (fun v => some (va_rf v)) [] C hw hR hI hl.1 h (by decide) rfl (fun aa vv ss ee => k_J1_pollLast l g A aa σ vv ss ee) (cwV 0 C.t (lw_V q1493 q1494 q1495 q128 q1496) rfl rfl rfl (by decide +kernel) ⟨Nat.le_trans (Nat.le_of_ble_eq_true rfl) hR.f, Nat.le_trans (Nat.le_of_ble_eq_true rfl) hR.lo⟩) rfl rfl (Nat.le_of_ble_eq_true rfl) dJ1_removeLast_1 (fun v_1 σ_2 H locs h hI => ?_)
  refine r_astore_n (i := 1) (x := v_1) (lv' := [(1, va_rf v_1), (0, .ref o)]) C.x C.b dJ1_removeLast_4 rfl hl (by decide) (by rfl) (fun ls hl => ?_)
  refine r_aload_n (x := v_1) C.x C.b dJ1_removeLast_5 rfl (lv_at hl 0 rfl) ?_
  refine r_ifnonnull (x := v_1) (tgt := 17) C.x C.b dJ1_removeLast_6 (by decide) (fun c_4 => ?_) (fun c_4 => ?_)
  · have h := iN c_4 h
    refine r_aload_n (x := v_1) C.x C.b dJ1_removeLast_17 rfl (lv_at hl 0 rfl) ?_
    exact cw_aret (x := v_1) C (Or.inl ⟨_, rfl⟩) hI h dJ1_removeLast_18
  · have h := ip c_4 h
    cases h

end
