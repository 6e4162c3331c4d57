/-! THE CLASS' WALKS 12: printed by gencl.py -/
section
variable {p : Program} {l : Launch} {e : Env} {R : Room} {s : State} {m : MethodId} {args : Array Value} {below : List Frame} {meth : Method} {c : Code} {g : cG} {A : Nat → Prop}
set_option maxRecDepth 100000
theorem k_J4_indexOf (l : Launch) (g : cG) (A : Nat → Prop) (o : Nat) (x1 : Int32) (σ : cS) (v : Int32) (σ1 : cS) (h : m_J4_indexOf o x1 σ = some (v, σ1)) : Met l yJ4_indexOf (ws_ yJ4_indexOf cJ4_indexOf 2 (Option.some Jvm.ClassFile.FieldType.int)) ({ frames := 4, cells := σ.2 3 - σ.2 0, slots := σ.2 4 - σ.2 1, locals := 110 }) (CPc g A [.ref o, .int x1] σ) (CQ g A (some (.int v)) σ1) (σ.2 3 - σ.2 0) (σ.2 4 - σ.2 1) A := by
  refine Met.ofW (cc := cJ4_indexOf) (maxL := 2) (ret := (Option.some Jvm.ClassFile.FieldType.int)) (by decide) rfl ?_
  intro p e s m args below meth c s₁ B hml hv
  obtain ⟨rfl, hw, hσ⟩ := hv
  have hts := atoms_spec (ws := (ws_ yJ4_indexOf cJ4_indexOf 2 (Option.some Jvm.ClassFile.FieldType.int))) B.pre
  have C : CX p m meth c s ([.ref o, .int x1] : List Value).toArray cJ4_indexOf 2 (Option.some Jvm.ClassFile.FieldType.int) RJ4 := ⟨⟨B.exec, B.bytes, hml, findClass_of_methodNamed B.named, fun w h => hts w (List.mem_cons_of_mem _ h)⟩, B.returns, B.notSynchronized⟩
  have e3 : σ.2 3 - σ.2 0 = g.2.2.1 3 - s.heap.size := by rw [hσ.1, hσ.2.2.2.1 3 (by decide)]
  have e4 : σ.2 4 - σ.2 1 = g.2.2.1 4 - hsl s.heap := by rw [hσ.2.1, hσ.2.2.2.1 4 (by decide)]
  have hR : RM g s (headSpec (ws_ yJ4_indexOf cJ4_indexOf 2 (Option.some Jvm.ClassFile.FieldType.int)) ({ frames := 4, cells := σ.2 3 - σ.2 0, slots := σ.2 4 - σ.2 1, locals := 110 })).room (4) (110) := ⟨⟨Nat.le_refl _, Nat.le_refl _⟩, Nat.le_of_eq e3.symm, Nat.le_of_eq e4.symm⟩
  generalize (headSpec (ws_ yJ4_indexOf cJ4_indexOf 2 (Option.some Jvm.ClassFile.FieldType.int)) ({ frames := 4, cells := σ.2 3 - σ.2 0, slots := σ.2 4 - σ.2 1, locals := 110 })).room = R at hR ⊢
  rw [e3, e4]
  have hI : CI g A s σ s.heap [] := ⟨hσ, va_S.rf, Nat.le_refl _⟩
  have hl := lv_entry ([.ref o, .int x1]) (n := 2) (Nat.le_of_ble_eq_true rfl)
  rw [lg_entry_eq]
  generalize (lg_sl ([.ref o, .int x1]) ++ List.replicate (2 - (lg_sl ([.ref o, .int x1])).length) Slot.unset).toArray = ls at hl ⊢
  have hl : lv_has ls 2 [(0, .ref o), (1, .int x1)] := hl
  obtain ⟨z, hz⟩ : ∃ z, z = (v, σ1) := ⟨_, rfl⟩
  rw [← hz] at h
  rw [show v = z.1 by rw [hz], show σ1 = z.2 by rw [hz]]
  clear hz v σ1
  refine W.narrow ?_
  unfold m_J4_indexOf at h
  refine r_aload_n (x := some o) C.x C.b dJ4_indexOf_0 rfl (lv_at hl 0 rfl) ?_
  refine lv_iload_n C.x C.b dJ4_indexOf_1 rfl (lv_at hl 1 rfl) ?_
  refine lv_iconst (v := 0) C.x C.b dJ4_indexOf_2 (by decide) ?_
  refine cw_callV (y := yJ4_indexOf_2) (bytes := cJ4_indexOf_2) (maxL := 3) (r := some o) (f := fun a_3 => m_J4_indexOf_2 a_3 x1 0 σ) 12 (fun v => some (.int v)) [.int x1, .int 0] C hw hR hI hl.1 h (by decide) rfl (fun aa vv ss ee => k_J4_indexOf_2 l g A aa x1 0 σ vv ss ee) (cwV 2 C.t (lw_V q693 q694 q695 q131 q696) rfl rfl rfl (by decide +kernel) ⟨Nat.le_trans (Nat.le_of_ble_eq_true rfl) hR.f, Nat.le_trans (Nat.le_of_ble_eq_true rfl) hR.lo⟩) rfl rfl (Nat.le_of_ble_eq_true rfl) dJ4_indexOf_3 (fun v_1 σ_2 H locs h hI => ?_)
  exact cw_iret C hI h dJ4_indexOf_6

theorem w_J6_equals_9 {z : Int32 × cS} (C : CX p m meth c s args cJ6_equals 3 (Option.some Jvm.ClassFile.FieldType.boolean) RJ6) (hw : WKc g A s s.heap) (hR : RM g s R (1) (40))  : ∀ (n : Nat) (x0 : Option Nat) (x1 : Option Nat) (x2 : Int32) (σ : cS) (H : Heap) (locs : List Loc) (ls : Array Slot), b_J6_equals_9 n x0 x1 x2 σ = some z → CI g A s σ H locs → lv_has ls 3 [(0, va_rf x0), (1, va_rf x1), (2, .int x2)] → W p l e R s m args below meth c H locs (H.size - s.heap.size) (hsl H - hsl s.heap) (MQ below (CQ g A (some (.int z.1)) z.2) args s (g.2.2.1 3 - s.heap.size) (g.2.2.1 4 - hsl s.heap) A) (F0 m 9 ls []) := by
  intro n
  induction n with
  | zero =>
    intro x0 x1 x2 σ H locs ls h
    cases h
  | succ n ih =>
    intro x0 x1 x2 σ H locs ls h hI hl
    rw [b_J6_equals_9] at h
    refine lv_iload_n C.x C.b dJ6_equals_9 rfl (lv_at hl 2 rfl) ?_
    refine r_aload_n (x := x0) C.x C.b dJ6_equals_10 rfl (lv_at hl 0 rfl) ?_
    refine cw_aL (r := x0) C hw hI h dJ6_equals_11 (fun v_1 h => ?_)
    refine lv_icmp_ge (tgt := 32) C.x C.b dJ6_equals_12 (by decide) (fun c_2 => ?_) (fun c_2 => ?_)
    · have h := ip c_2 h
      refine lv_iconst (v := 1) C.x C.b dJ6_equals_32 (by decide) ?_
      exact cw_zret C hI h dJ6_equals_33
    · have h := iN c_2 h
      refine r_aload_n (x := x0) C.x C.b dJ6_equals_15 rfl (lv_at hl 0 rfl) ?_
      refine lv_iload_n C.x C.b dJ6_equals_16 rfl (lv_at hl 2 rfl) ?_
      refine cw_bld (r := x0) C hw hI h dJ6_equals_17 (fun v_3 h => ?_)
      refine r_aload_n (x := x1) C.x C.b dJ6_equals_18 rfl (lv_at hl 1 rfl) ?_
      refine lv_iload_n C.x C.b dJ6_equals_19 rfl (lv_at hl 2 rfl) ?_
      refine cw_bld (r := x1) C hw hI h dJ6_equals_20 (fun v_4 h => ?_)
      refine lv_icmp_eq (tgt := 26) C.x C.b dJ6_equals_21 (by decide) (fun c_5 => ?_) (fun c_5 => ?_)
      · have h := ip c_5 h
        obtain ⟨x2_6, e_, h⟩ := nm_s h
        refine lv_iinc (v := x2_6) (lv' := [(2, .int x2_6), (0, va_rf x0), (1, va_rf x1)]) C.x C.b dJ6_equals_26 hl (k := 2) rfl e_.symm (by decide) (by first | (simp [List.filter, cat_rf, cat_i, cat_a, cat_n, cat_l, cat_f, cat_d]; done) | (simp [List.filter, cat_rf, cat_i, cat_a, cat_n, cat_l, cat_f, cat_d]; rfl)) (fun ls hl => ?_)
        refine lv_goto (tgt := 9) C.x C.b dJ6_equals_29 (by decide) ?_
        exact ih x0 x1 x2_6 _ _ _ _ h hI (lv_sub hl [1, 2, 0] rfl)
      · have h := iN c_5 h
        refine lv_iconst (v := 0) C.x C.b dJ6_equals_24 (by decide) ?_
        exact cw_zret C hI h dJ6_equals_25

theorem k_J6_equals (l : Launch) (g : cG) (A : Nat → Prop) (x0 : Option Nat) (x1 : Option Nat) (σ : cS) (v : Int32) (σ1 : cS) (h : m_J6_equals x0 x1 σ = some (v, σ1)) : Met l yJ6_equals (ws_ yJ6_equals cJ6_equals 3 (Option.some Jvm.ClassFile.FieldType.boolean)) ({ frames := 1, cells := σ.2 3 - σ.2 0, slots := σ.2 4 - σ.2 1, locals := 40 }) (CPc g A [va_rf x0, va_rf x1] σ) (CQ g A (some (.int v)) σ1) (σ.2 3 - σ.2 0) (σ.2 4 - σ.2 1) A := by
  refine Met.ofW (cc := cJ6_equals) (maxL := 3) (ret := (Option.some Jvm.ClassFile.FieldType.boolean)) (by decide) rfl ?_
  intro p e s m args below meth c s₁ B hml hv
  obtain ⟨rfl, hw, hσ⟩ := hv
  have hts := atoms_spec (ws := (ws_ yJ6_equals cJ6_equals 3 (Option.some Jvm.ClassFile.FieldType.boolean))) B.pre
  have C : CX p m meth c s ([va_rf x0, va_rf x1] : List Value).toArray cJ6_equals 3 (Option.some Jvm.ClassFile.FieldType.boolean) RJ6 := ⟨⟨B.exec, B.bytes, hml, findClass_of_methodNamed B.named, fun w h => hts w (List.mem_cons_of_mem _ h)⟩, B.returns, B.notSynchronized⟩
  have e3 : σ.2 3 - σ.2 0 = g.2.2.1 3 - s.heap.size := by rw [hσ.1, hσ.2.2.2.1 3 (by decide)]
  have e4 : σ.2 4 - σ.2 1 = g.2.2.1 4 - hsl s.heap := by rw [hσ.2.1, hσ.2.2.2.1 4 (by decide)]
  have hR : RM g s (headSpec (ws_ yJ6_equals cJ6_equals 3 (Option.some Jvm.ClassFile.FieldType.boolean)) ({ frames := 1, cells := σ.2 3 - σ.2 0, slots := σ.2 4 - σ.2 1, locals := 40 })).room (1) (40) := ⟨⟨Nat.le_refl _, Nat.le_refl _⟩, Nat.le_of_eq e3.symm, Nat.le_of_eq e4.symm⟩
  generalize (headSpec (ws_ yJ6_equals cJ6_equals 3 (Option.some Jvm.ClassFile.FieldType.boolean)) ({ frames := 1, cells := σ.2 3 - σ.2 0, slots := σ.2 4 - σ.2 1, locals := 40 })).room = R at hR ⊢
  rw [e3, e4]
  have hI : CI g A s σ s.heap [] := ⟨hσ, va_S.rf, Nat.le_refl _⟩
  have hlen : (lg_sl ([va_rf x0, va_rf x1])).length ≤ 3 := by rcases x0 with _ | x0 <;> rcases x1 with _ | x1 <;> exact Nat.le_of_ble_eq_true rfl
  have hl := lv_entry ([va_rf x0, va_rf x1]) (n := 3) hlen
  rw [lg_entry_eq]
  generalize (lg_sl ([va_rf x0, va_rf x1]) ++ List.replicate (3 - (lg_sl ([va_rf x0, va_rf x1])).length) Slot.unset).toArray = ls at hl ⊢
  have hl : lv_has ls 3 [(0, va_rf x0), (1, va_rf x1)] := by clear hI hw h hσ e3 e4 hR C hts B; rcases x0 with _ | x0 <;> rcases x1 with _ | x1 <;> exact hl
  obtain ⟨z, hz⟩ : ∃ z, z = (v, σ1) := ⟨_, rfl⟩
  rw [← hz] at h
  rw [show v = z.1 by rw [hz], show σ1 = z.2 by rw [hz]]
  clear hz v σ1
  refine W.narrow ?_
  unfold m_J6_equals at h
  refine r_aload_n (x := x0) C.x C.b dJ6_equals_0 rfl (lv_at hl 0 rfl) ?_
  refine cw_aL (r := x0) C hw hI h dJ6_equals_1 (fun v_1 h => ?_)
  refine r_aload_n (x := x1) C.x C.b dJ6_equals_2 rfl (lv_at hl 1 rfl) ?_
  refine cw_aL (r := x1) C hw hI h dJ6_equals_3 (fun v_2 h => ?_)
  refine lv_icmp_ne (tgt := 34) C.x C.b dJ6_equals_4 (by decide) (fun c_3 => ?_) (fun c_3 => ?_)
  · have h := iN c_3 h
    refine lv_iconst (v := 0) C.x C.b dJ6_equals_34 (by decide) ?_
    exact cw_zret C hI h dJ6_equals_35
  · have h := ip c_3 h
    refine lv_iconst (v := 0) C.x C.b dJ6_equals_7 (by decide) ?_
    refine lv_istore_n (i := 2) (lv' := [(2, .int 0), (0, va_rf x0), (1, va_rf x1)]) C.x C.b dJ6_equals_8 rfl hl (by decide) (by first | (simp [List.filter, cat_rf, cat_i, cat_a, cat_n, cat_l, cat_f, cat_d]; done) | (simp [List.filter, cat_rf, cat_i, cat_a, cat_n, cat_l, cat_f, cat_d]; rfl)) (fun ls hl => ?_)
    exact w_J6_equals_9 C hw hR _ x0 x1 0 _ _ _ _ h hI (lv_sub hl [1, 2, 0] rfl)

theorem w_J4_equals_36 {z : Int32 × cS} {o : Nat} (C : CX p m meth c s args cJ4_equals 3 (Option.some Jvm.ClassFile.FieldType.boolean) RJ4) (hw : WKc g A s s.heap) (hR : RM g s R (2) (62))  : ∀ (x2 : Option Nat) (σ : cS) (H : Heap) (locs : List Loc) (ls : Array Slot), b_J4_equals_36 o x2 σ = some z → CI g A s σ H locs → lv_has ls 3 [(0, .ref o), (2, va_rf x2)] → W p l e R s m args below meth c H locs (H.size - s.heap.size) (hsl H - hsl s.heap) (MQ below (CQ g A (some (.int z.1)) z.2) args s (g.2.2.1 3 - s.heap.size) (g.2.2.1 4 - hsl s.heap) A) (F0 m 36 ls []) := by
  intro x2 σ H locs ls h hI hl
  unfold b_J4_equals_36 at h
  refine r_aload_n (x := some o) C.x C.b dJ4_equals_36 rfl (lv_at hl 0 rfl) ?_
  refine cw_gR (r := some o) 12 0 C hw hI h (by decide) rfl in_J4 (by decide) (C.t _ q600) (fun _ h9 => h9) dJ4_equals_37 (fun v_1 h => ?_)
  refine r_aload_n (x := x2) C.x C.b dJ4_equals_40 rfl (lv_at hl 1 rfl) ?_
  refine cw_gR (r := x2) 12 0 C hw hI h (by decide) rfl in_J4 (by decide) (C.t _ q600) (fun _ h9 => h9) dJ4_equals_41 (fun v_2 h => ?_)
  refine cw_callS (y := yJ6_equals) (bytes := cJ6_equals) (maxL := 3) (fun v => some (.int v)) [va_rf v_1, va_rf v_2] C hw hR hI hl.1 h (fun vv ss ee => k_J6_equals l g A v_1 v_2 σ vv ss ee) (va_cwS 2 C.t (lw_S q750 q751 q134 q752) rfl rfl rfl (by decide +kernel) ⟨Nat.le_trans (Nat.le_of_ble_eq_true rfl) hR.f, Nat.le_trans (Nat.le_of_ble_eq_true rfl) hR.lo⟩) rfl rfl (Nat.le_of_ble_eq_true rfl) dJ4_equals_44 (fun v_3 σ_4 H locs h hI => ?_)
  refine lv_if_eq (tgt := 54) C.x C.b dJ4_equals_47 (by decide) (fun c_5 => ?_) (fun c_5 => ?_)
  · have h := ip c_5 h
    refine lv_iconst (v := 0) C.x C.b dJ4_equals_54 (by decide) ?_
    exact cw_zret C hI h dJ4_equals_55
  · have h := iN c_5 h
    refine lv_iconst (v := 1) C.x C.b dJ4_equals_50 (by decide) ?_
    refine lv_goto (tgt := 55) C.x C.b dJ4_equals_51 (by decide) ?_
    exact cw_zret C hI h dJ4_equals_55

theorem k_J4_equals (l : Launch) (g : cG) (A : Nat → Prop) (o : Nat) (x1 : Option Nat) (σ : cS) (v : Int32) (σ1 : cS) (h : m_J4_equals o x1 σ = some (v, σ1)) : Met l yJ4_equals (ws_ yJ4_equals cJ4_equals 3 (Option.some Jvm.ClassFile.FieldType.boolean)) ({ frames := 2, cells := σ.2 3 - σ.2 0, slots := σ.2 4 - σ.2 1, locals := 62 }) (CPc g A [.ref o, va_rf x1] σ) (CQ g A (some (.int v)) σ1) (σ.2 3 - σ.2 0) (σ.2 4 - σ.2 1) A := by
  refine Met.ofW (cc := cJ4_equals) (maxL := 3) (ret := (Option.some Jvm.ClassFile.FieldType.boolean)) (by decide) rfl ?_
  intro p e s m args below meth c s₁ B hml hv
  obtain ⟨rfl, hw, hσ⟩ := hv
  have hts := atoms_spec (ws := (ws_ yJ4_equals cJ4_equals 3 (Option.some Jvm.ClassFile.FieldType.boolean))) B.pre
  have C : CX p m meth c s ([.ref o, va_rf x1] : List Value).toArray cJ4_equals 3 (Option.some Jvm.ClassFile.FieldType.boolean) RJ4 := ⟨⟨B.exec, B.bytes, hml, findClass_of_methodNamed B.named, fun w h => hts w (List.mem_cons_of_mem _ h)⟩, B.returns, B.notSynchronized⟩
  have e3 : σ.2 3 - σ.2 0 = g.2.2.1 3 - s.heap.size := by rw [hσ.1, hσ.2.2.2.1 3 (by decide)]
  have e4 : σ.2 4 - σ.2 1 = g.2.2.1 4 - hsl s.heap := by rw [hσ.2.1, hσ.2.2.2.1 4 (by decide)]
  have hR : RM g s (headSpec (ws_ yJ4_equals cJ4_equals 3 (Option.some Jvm.ClassFile.FieldType.boolean)) ({ frames := 2, cells := σ.2 3 - σ.2 0, slots := σ.2 4 - σ.2 1, locals := 62 })).room (2) (62) := ⟨⟨Nat.le_refl _, Nat.le_refl _⟩, Nat.le_of_eq e3.symm, Nat.le_of_eq e4.symm⟩
  generalize (headSpec (ws_ yJ4_equals cJ4_equals 3 (Option.some Jvm.ClassFile.FieldType.boolean)) ({ frames := 2, cells := σ.2 3 - σ.2 0, slots := σ.2 4 - σ.2 1, locals := 62 })).room = R at hR ⊢
  rw [e3, e4]
  have hI : CI g A s σ s.heap [] := ⟨hσ, va_S.rf, Nat.le_refl _⟩
  have hlen : (lg_sl ([.ref o, va_rf x1])).length ≤ 3 := by rcases x1 with _ | x1 <;> exact Nat.le_of_ble_eq_true rfl
  have hl := lv_entry ([.ref o, va_rf x1]) (n := 3) hlen
  rw [lg_entry_eq]
  generalize (lg_sl ([.ref o, va_rf x1]) ++ List.replicate (3 - (lg_sl ([.ref o, va_rf x1])).length) Slot.unset).toArray = ls at hl ⊢
  have hl : lv_has ls 3 [(0, .ref o), (1, va_rf x1)] := by clear hI hw h hσ e3 e4 hR C hts B; rcases x1 with _ | x1 <;> exact hl
  obtain ⟨z, hz⟩ : ∃ z, z = (v, σ1) := ⟨_, rfl⟩
  rw [← hz] at h
  rw [show v = z.1 by rw [hz], show σ1 = z.2 by rw [hz]]
  clear hz v σ1
  refine W.narrow ?_
  unfold m_J4_equals at h
  refine r_aload_n (x := some o) C.x C.b dJ4_equals_0 rfl (lv_at hl 0 rfl) ?_
  refine r_aload_n (x := x1) C.x C.b dJ4_equals_1 rfl (lv_at hl 1 rfl) ?_
  refine lv_acmp_ne (rx := some o) (ry := x1) (tgt := 7) C.x C.b dJ4_equals_2 (by decide) (fun c_1 => ?_) (fun c_1 => ?_)
  · have h := iN c_1 h
    refine r_aload_n (x := x1) C.x C.b dJ4_equals_7 rfl (lv_at hl 1 rfl) ?_
    refine cw_ins (r := x1) 12 C hw hI h (by decide) rfl q749 dJ4_equals_8 (fun h => ?_)
    refine lv_if_eq (tgt := 54) C.x C.b dJ4_equals_11 (by decide) (fun c_3 => ?_) (fun c_3 => ?_)
    · have h := ip c_3 h
      refine lv_iconst (v := 0) C.x C.b dJ4_equals_54 (by decide) ?_
      exact cw_zret C hI h dJ4_equals_55
    · have h := iN c_3 h
      refine r_aload_n (x := x1) C.x C.b dJ4_equals_14 rfl (lv_at hl 1 rfl) ?_
      refine cw_cast (r := x1) 12 C hw hI h (by decide) rfl q749 dJ4_equals_15 (fun h => ?_)
      refine r_astore_n (i := 2) (x := x1) (lv' := [(2, va_rf x1), (0, .ref o), (1, va_rf x1)]) C.x C.b dJ4_equals_18 rfl hl (by decide) (by first | (simp [List.filter, cat_rf, cat_i, cat_a, cat_n, cat_l, cat_f, cat_d]; done) | (simp [List.filter, cat_rf, cat_i, cat_a, cat_n, cat_l, cat_f, cat_d]; rfl)) (fun ls hl => ?_)
      refine va_gets C.x C.b hw.2.1.1 hI.2.1 C.o (C.t _ q252) (fun _ h9 => h9) dJ4_equals_19 ?_
      refine lv_if_eq (tgt := 36) C.x C.b dJ4_equals_22 (by decide) (fun c_4 => ?_) (fun c_4 => ?_)
      · have h := ip c_4 h
        exact w_J4_equals_36 C hw hR x1 _ _ _ _ h hI (lv_sub hl [1, 0] rfl)
      · have h := iN c_4 h
        refine r_aload_n (x := some o) C.x C.b dJ4_equals_25 rfl (lv_at hl 1 rfl) ?_
        refine cw_gI (r := some o) 12 1 C hw hI h (by decide) rfl in_J4 (by decide) (C.t _ q601) (fun _ h9 => h9) dJ4_equals_26 (fun v_5 h => ?_)
        refine r_aload_n (x := x1) C.x C.b dJ4_equals_29 rfl (lv_at hl 0 rfl) ?_
        refine cw_gI (r := x1) 12 1 C hw hI h (by decide) rfl in_J4 (by decide) (C.t _ q601) (fun _ h9 => h9) dJ4_equals_30 (fun v_6 h => ?_)
        refine lv_icmp_ne (tgt := 54) C.x C.b dJ4_equals_33 (by decide) (fun c_7 => ?_) (fun c_7 => ?_)
        · have h := iN c_7 h
          refine lv_iconst (v := 0) C.x C.b dJ4_equals_54 (by decide) ?_
          exact cw_zret C hI h dJ4_equals_55
        · have h := ip c_7 h
          exact w_J4_equals_36 C hw hR x1 _ _ _ _ h hI (lv_sub hl [1, 0] rfl)
  · have h := ip c_1 h
    refine lv_iconst (v := 1) C.x C.b dJ4_equals_5 (by decide) ?_
    exact cw_zret C hI h dJ4_equals_6

theorem w_J15_hashCode_2_8 {z : Int32 × cS} (C : CX p m meth c s args cJ15_hashCode_2 6 (Option.some Jvm.ClassFile.FieldType.int) RJ15) (hw : WKc g A s s.heap) (hR : RM g s R (1) (40))  : ∀ (n : Nat) (x0 : Int32) (x1 : Option Nat) (x4 : Int32) (x5 : Int32) (σ : cS) (H : Heap) (locs : List Loc) (ls : Array Slot), b_J15_hashCode_2_8 n x0 x1 x4 x5 σ = some z → CI g A s σ H locs → lv_has ls 6 [(0, .int x0), (1, va_rf x1), (4, .int x4), (5, .int x5)] → W p l e R s m args below meth c H locs (H.size - s.heap.size) (hsl H - hsl s.heap) (MQ below (CQ g A (some (.int z.1)) z.2) args s (g.2.2.1 3 - s.heap.size) (g.2.2.1 4 - hsl s.heap) A) (F0 m 8 ls []) := by
  intro n
  induction n with
  | zero =>
    intro x0 x1 x4 x5 σ H locs ls h
    cases h
  | succ n ih =>
    intro x0 x1 x4 x5 σ H locs ls h hI hl
    rw [b_J15_hashCode_2_8] at h
    refine lv_iload C.x C.b dJ15_hashCode_2_8 (lv_at hl 3 rfl) ?_
    refine lv_iload C.x C.b dJ15_hashCode_2_10 (lv_at hl 2 rfl) ?_
    refine lv_icmp_ge (tgt := 31) C.x C.b dJ15_hashCode_2_12 (by decide) (fun c_1 => ?_) (fun c_1 => ?_)
    · have h := ip c_1 h
      refine lv_iload_n C.x C.b dJ15_hashCode_2_31 rfl (lv_at hl 0 rfl) ?_
      exact cw_iret C hI h dJ15_hashCode_2_32
    · have h := iN c_1 h
      refine lv_bipush (v := 31) C.x C.b dJ15_hashCode_2_15 (by decide) ?_
      refine lv_iload_n C.x C.b dJ15_hashCode_2_17 rfl (lv_at hl 0 rfl) ?_
      refine lv_imul C.x C.b dJ15_hashCode_2_18 ?_
      refine r_aload_n (x := x1) C.x C.b dJ15_hashCode_2_19 rfl (lv_at hl 1 rfl) ?_
      refine lv_iload C.x C.b dJ15_hashCode_2_20 (lv_at hl 3 rfl) ?_
      refine cw_bld (r := x1) C hw hI h dJ15_hashCode_2_22 (fun v_2 h => ?_)
      refine lv_iadd C.x C.b dJ15_hashCode_2_23 ?_
      refine tw_lt h (fun x0_3 h => ?_)
      refine lv_istore_n (i := 0) (lv' := [(0, .int x0_3), (1, va_rf x1), (4, .int x4), (5, .int x5)]) C.x C.b dJ15_hashCode_2_24 rfl hl (by decide) (by first | (simp [List.filter, cat_rf, cat_i, cat_a, cat_n, cat_l, cat_f, cat_d]; done) | (simp [List.filter, cat_rf, cat_i, cat_a, cat_n, cat_l, cat_f, cat_d]; rfl)) (fun ls hl => ?_)
      obtain ⟨x5_4, e_, h⟩ := nm_s h
      refine lv_iinc (v := x5_4) (lv' := [(5, .int x5_4), (0, .int x0_3), (1, va_rf x1), (4, .int x4)]) C.x C.b dJ15_hashCode_2_25 hl (k := 3) rfl e_.symm (by decide) (by first | (simp [List.filter, cat_rf, cat_i, cat_a, cat_n, cat_l, cat_f, cat_d]; done) | (simp [List.filter, cat_rf, cat_i, cat_a, cat_n, cat_l, cat_f, cat_d]; rfl)) (fun ls hl => ?_)
      refine lv_goto (tgt := 8) C.x C.b dJ15_hashCode_2_28 (by decide) ?_
      exact ih x0_3 x1 x4 x5_4 _ _ _ _ h hI (lv_sub hl [1, 2, 3, 0] rfl)

theorem k_J15_hashCode_2 (l : Launch) (g : cG) (A : Nat → Prop) (x0 : Int32) (x1 : Option Nat) (x2 : Int32) (x3 : Int32) (σ : cS) (v : Int32) (σ1 : cS) (h : m_J15_hashCode_2 x0 x1 x2 x3 σ = some (v, σ1)) : Met l yJ15_hashCode_2 (ws_ yJ15_hashCode_2 cJ15_hashCode_2 6 (Option.some Jvm.ClassFile.FieldType.int)) ({ frames := 1, cells := σ.2 3 - σ.2 0, slots := σ.2 4 - σ.2 1, locals := 40 }) (CPc g A [.int x0, va_rf x1, .int x2, .int x3] σ) (CQ g A (some (.int v)) σ1) (σ.2 3 - σ.2 0) (σ.2 4 - σ.2 1) A := by
  refine Met.ofW (cc := cJ15_hashCode_2) (maxL := 6) (ret := (Option.some Jvm.ClassFile.FieldType.int)) (by decide) rfl ?_
  intro p e s m args below meth c s₁ B hml hv
  obtain ⟨rfl, hw, hσ⟩ := hv
  have hts := atoms_spec (ws := (ws_ yJ15_hashCode_2 cJ15_hashCode_2 6 (Option.some Jvm.ClassFile.FieldType.int))) B.pre
  have C : CX p m meth c s ([.int x0, va_rf x1, .int x2, .int x3] : List Value).toArray cJ15_hashCode_2 6 (Option.some Jvm.ClassFile.FieldType.int) RJ15 := ⟨⟨B.exec, B.bytes, hml, findClass_of_methodNamed B.named, fun w h => hts w (List.mem_cons_of_mem _ h)⟩, B.returns, B.notSynchronized⟩
  have e3 : σ.2 3 - σ.2 0 = g.2.2.1 3 - s.heap.size := by rw [hσ.1, hσ.2.2.2.1 3 (by decide)]
  have e4 : σ.2 4 - σ.2 1 = g.2.2.1 4 - hsl s.heap := by rw [hσ.2.1, hσ.2.2.2.1 4 (by decide)]
  have hR : RM g s (headSpec (ws_ yJ15_hashCode_2 cJ15_hashCode_2 6 (Option.some Jvm.ClassFile.FieldType.int)) ({ frames := 1, cells := σ.2 3 - σ.2 0, slots := σ.2 4 - σ.2 1, locals := 40 })).room (1) (40) := ⟨⟨Nat.le_refl _, Nat.le_refl _⟩, Nat.le_of_eq e3.symm, Nat.le_of_eq e4.symm⟩
  generalize (headSpec (ws_ yJ15_hashCode_2 cJ15_hashCode_2 6 (Option.some Jvm.ClassFile.FieldType.int)) ({ frames := 1, cells := σ.2 3 - σ.2 0, slots := σ.2 4 - σ.2 1, locals := 40 })).room = R at hR ⊢
  rw [e3, e4]
  have hI : CI g A s σ s.heap [] := ⟨hσ, va_S.rf, Nat.le_refl _⟩
  have hlen : (lg_sl ([.int x0, va_rf x1, .int x2, .int x3])).length ≤ 6 := by rcases x1 with _ | x1 <;> exact Nat.le_of_ble_eq_true rfl
  have hl := lv_entry ([.int x0, va_rf x1, .int x2, .int x3]) (n := 6) hlen
  rw [lg_entry_eq]
  generalize (lg_sl ([.int x0, va_rf x1, .int x2, .int x3]) ++ List.replicate (6 - (lg_sl ([.int x0, va_rf x1, .int x2, .int x3])).length) Slot.unset).toArray = ls at hl ⊢
  have hl : lv_has ls 6 [(0, .int x0), (1, va_rf x1), (2, .int x2), (3, .int x3)] := by clear hI hw h hσ e3 e4 hR C hts B; rcases x1 with _ | x1 <;> exact hl
  obtain ⟨z, hz⟩ : ∃ z, z = (v, σ1) := ⟨_, rfl⟩
  rw [← hz] at h
  rw [show v = z.1 by rw [hz], show σ1 = z.2 by rw [hz]]
  clear hz v σ1
  refine W.narrow ?_
  unfold m_J15_hashCode_2 at h
  refine lv_iload_n C.x C.b dJ15_hashCode_2_0 rfl (lv_at hl 2 rfl) ?_
  refine lv_iload_n C.x C.b dJ15_hashCode_2_1 rfl (lv_at hl 3 rfl) ?_
  refine lv_iadd C.x C.b dJ15_hashCode_2_2 ?_
  refine tw_lt h (fun x4_1 h => ?_)
  refine lv_istore (i := 4) (lv' := [(4, .int x4_1), (0, .int x0), (1, va_rf x1), (2, .int x2), (3, .int x3)]) C.x C.b dJ15_hashCode_2_3 hl (by decide) (by first | (simp [List.filter, cat_rf, cat_i, cat_a, cat_n, cat_l, cat_f, cat_d]; done) | (simp [List.filter, cat_rf, cat_i, cat_a, cat_n, cat_l, cat_f, cat_d]; rfl)) (fun ls hl => ?_)
  refine lv_iload_n C.x C.b dJ15_hashCode_2_5 rfl (lv_at hl 3 rfl) ?_
  refine lv_istore (i := 5) (lv' := [(5, .int x2), (4, .int x4_1), (0, .int x0), (1, va_rf x1), (2, .int x2), (3, .int x3)]) C.x C.b dJ15_hashCode_2_6 hl (by decide) (by first | (simp [List.filter, cat_rf, cat_i, cat_a, cat_n, cat_l, cat_f, cat_d]; done) | (simp [List.filter, cat_rf, cat_i, cat_a, cat_n, cat_l, cat_f, cat_d]; rfl)) (fun ls hl => ?_)
  exact w_J15_hashCode_2_8 C hw hR _ x0 x1 x4_1 x2 _ _ _ _ h hI (lv_sub hl [2, 3, 1, 0] rfl)

theorem w_J15_signedHashCode_8 {z : Int32 × cS} (C : CX p m meth c s args cJ15_signedHashCode 6 (Option.some Jvm.ClassFile.FieldType.int) RJ15) (hw : WKc g A s s.heap) (hR : RM g s R (1) (40))  : ∀ (n : Nat) (x0 : Int32) (x1 : Option Nat) (x4 : Int32) (x5 : Int32) (σ : cS) (H : Heap) (locs : List Loc) (ls : Array Slot), b_J15_signedHashCode_8 n x0 x1 x4 x5 σ = some z → CI g A s σ H locs → lv_has ls 6 [(0, .int x0), (1, va_rf x1), (4, .int x4), (5, .int x5)] → W p l e R s m args below meth c H locs (H.size - s.heap.size) (hsl H - hsl s.heap) (MQ below (CQ g A (some (.int z.1)) z.2) args s (g.2.2.1 3 - s.heap.size) (g.2.2.1 4 - hsl s.heap) A) (F0 m 8 ls []) := by
  intro n
  induction n with
  | zero =>
    intro x0 x1 x4 x5 σ H locs ls h
    cases h
  | succ n ih =>
    intro x0 x1 x4 x5 σ H locs ls h hI hl
    rw [b_J15_signedHashCode_8] at h
    refine lv_iload C.x C.b dJ15_signedHashCode_8 (lv_at hl 3 rfl) ?_
    refine lv_iload C.x C.b dJ15_signedHashCode_10 (lv_at hl 2 rfl) ?_
    refine lv_icmp_ge (tgt := 35) C.x C.b dJ15_signedHashCode_12 (by decide) (fun c_1 => ?_) (fun c_1 => ?_)
    · have h := ip c_1 h
      refine lv_iload_n C.x C.b dJ15_signedHashCode_35 rfl (lv_at hl 0 rfl) ?_
      exact cw_iret C hI h dJ15_signedHashCode_36
    · have h := iN c_1 h
      refine lv_bipush (v := 31) C.x C.b dJ15_signedHashCode_15 (by decide) ?_
      refine lv_iload_n C.x C.b dJ15_signedHashCode_17 rfl (lv_at hl 0 rfl) ?_
      refine lv_imul C.x C.b dJ15_signedHashCode_18 ?_
      refine r_aload_n (x := x1) C.x C.b dJ15_signedHashCode_19 rfl (lv_at hl 1 rfl) ?_
      refine lv_iload C.x C.b dJ15_signedHashCode_20 (lv_at hl 3 rfl) ?_
      refine cw_bld (r := x1) C hw hI h dJ15_signedHashCode_22 (fun v_2 h => ?_)
      refine lv_sipush (v := 255) C.x C.b dJ15_signedHashCode_23 (by decide) ?_
      refine lv_iand C.x C.b dJ15_signedHashCode_26 ?_
      refine lv_iadd C.x C.b dJ15_signedHashCode_27 ?_
      refine tw_lt h (fun x0_3 h => ?_)
      refine lv_istore_n (i := 0) (lv' := [(0, .int x0_3), (1, va_rf x1), (4, .int x4), (5, .int x5)]) C.x C.b dJ15_signedHashCode_28 rfl hl (by decide) (by first | (simp [List.filter, cat_rf, cat_i, cat_a, cat_n, cat_l, cat_f, cat_d]; done) | (simp [List.filter, cat_rf, cat_i, cat_a, cat_n, cat_l, cat_f, cat_d]; rfl)) (fun ls hl => ?_)
      obtain ⟨x5_4, e_, h⟩ := nm_s h
      refine lv_iinc (v := x5_4) (lv' := [(5, .int x5_4), (0, .int x0_3), (1, va_rf x1), (4, .int x4)]) C.x C.b dJ15_signedHashCode_29 hl (k := 3) rfl e_.symm (by decide) (by first | (simp [List.filter, cat_rf, cat_i, cat_a, cat_n, cat_l, cat_f, cat_d]; done) | (simp [List.filter, cat_rf, cat_i, cat_a, cat_n, cat_l, cat_f, cat_d]; rfl)) (fun ls hl => ?_)
      refine lv_goto (tgt := 8) C.x C.b dJ15_signedHashCode_32 (by decide) ?_
      exact ih x0_3 x1 x4 x5_4 _ _ _ _ h hI (lv_sub hl [1, 2, 3, 0] rfl)

theorem k_J15_signedHashCode (l : Launch) (g : cG) (A : Nat → Prop) (x0 : Int32) (x1 : Option Nat) (x2 : Int32) (x3 : Int32) (σ : cS) (v : Int32) (σ1 : cS) (h : m_J15_signedHashCode x0 x1 x2 x3 σ = some (v, σ1)) : Met l yJ15_signedHashCode (ws_ yJ15_signedHashCode cJ15_signedHashCode 6 (Option.some Jvm.ClassFile.FieldType.int)) ({ frames := 1, cells := σ.2 3 - σ.2 0, slots := σ.2 4 - σ.2 1, locals := 40 }) (CPc g A [.int x0, va_rf x1, .int x2, .int x3] σ) (CQ g A (some (.int v)) σ1) (σ.2 3 - σ.2 0) (σ.2 4 - σ.2 1) A := by
  refine Met.ofW (cc := cJ15_signedHashCode) (maxL := 6) (ret := (Option.some Jvm.ClassFile.FieldType.int)) (by decide) rfl ?_
  intro p e s m args below meth c s₁ B hml hv
  obtain ⟨rfl, hw, hσ⟩ := hv
  have hts := atoms_spec (ws := (ws_ yJ15_signedHashCode cJ15_signedHashCode 6 (Option.some Jvm.ClassFile.FieldType.int))) B.pre
  have C : CX p m meth c s ([.int x0, va_rf x1, .int x2, .int x3] : List Value).toArray cJ15_signedHashCode 6 (Option.some Jvm.ClassFile.FieldType.int) RJ15 := ⟨⟨B.exec, B.bytes, hml, findClass_of_methodNamed B.named, fun w h => hts w (List.mem_cons_of_mem _ h)⟩, B.returns, B.notSynchronized⟩
  have e3 : σ.2 3 - σ.2 0 = g.2.2.1 3 - s.heap.size := by rw [hσ.1, hσ.2.2.2.1 3 (by decide)]
  have e4 : σ.2 4 - σ.2 1 = g.2.2.1 4 - hsl s.heap := by rw [hσ.2.1, hσ.2.2.2.1 4 (by decide)]
  have hR : RM g s (headSpec (ws_ yJ15_signedHashCode cJ15_signedHashCode 6 (Option.some Jvm.ClassFile.FieldType.int)) ({ frames := 1, cells := σ.2 3 - σ.2 0, slots := σ.2 4 - σ.2 1, locals := 40 })).room (1) (40) := ⟨⟨Nat.le_refl _, Nat.le_refl _⟩, Nat.le_of_eq e3.symm, Nat.le_of_eq e4.symm⟩
  generalize (headSpec (ws_ yJ15_signedHashCode cJ15_signedHashCode 6 (Option.some Jvm.ClassFile.FieldType.int)) ({ frames := 1, cells := σ.2 3 - σ.2 0, slots := σ.2 4 - σ.2 1, locals := 40 })).room = R at hR ⊢
  rw [e3, e4]
  have hI : CI g A s σ s.heap [] := ⟨hσ, va_S.rf, Nat.le_refl _⟩
  have hlen : (lg_sl ([.int x0, va_rf x1, .int x2, .int x3])).length ≤ 6 := by rcases x1 with _ | x1 <;> exact Nat.le_of_ble_eq_true rfl
  have hl := lv_entry ([.int x0, va_rf x1, .int x2, .int x3]) (n := 6) hlen
  rw [lg_entry_eq]
  generalize (lg_sl ([.int x0, va_rf x1, .int x2, .int x3]) ++ List.replicate (6 - (lg_sl ([.int x0, va_rf x1, .int x2, .int x3])).length) Slot.unset).toArray = ls at hl ⊢
  have hl : lv_has ls 6 [(0, .int x0), (1, va_rf x1), (2, .int x2), (3, .int x3)] := by clear hI hw h hσ e3 e4 hR C hts B; rcases x1 with _ | x1 <;> exact hl
  obtain ⟨z, hz⟩ : ∃ z, z = (v, σ1) := ⟨_, rfl⟩
  rw [← hz] at h
  rw [show v = z.1 by rw [hz], show σ1 = z.2 by rw [hz]]
  clear hz v σ1
  refine W.narrow ?_
  unfold m_J15_signedHashCode at h
  refine lv_iload_n C.x C.b dJ15_signedHashCode_0 rfl (lv_at hl 2 rfl) ?_
  refine lv_iload_n C.x C.b dJ15_signedHashCode_1 rfl (lv_at hl 3 rfl) ?_
  refine lv_iadd C.x C.b dJ15_signedHashCode_2 ?_
  refine tw_lt h (fun x4_1 h => ?_)
  refine lv_istore (i := 4) (lv' := [(4, .int x4_1), (0, .int x0), (1, va_rf x1), (2, .int x2), (3, .int x3)]) C.x C.b dJ15_signedHashCode_3 hl (by decide) (by first | (simp [List.filter, cat_rf, cat_i, cat_a, cat_n, cat_l, cat_f, cat_d]; done) | (simp [List.filter, cat_rf, cat_i, cat_a, cat_n, cat_l, cat_f, cat_d]; rfl)) (fun ls hl => ?_)
  refine lv_iload_n C.x C.b dJ15_signedHashCode_5 rfl (lv_at hl 3 rfl) ?_
  refine lv_istore (i := 5) (lv' := [(5, .int x2), (4, .int x4_1), (0, .int x0), (1, va_rf x1), (2, .int x2), (3, .int x3)]) C.x C.b dJ15_signedHashCode_6 hl (by decide) (by first | (simp [List.filter, cat_rf, cat_i, cat_a, cat_n, cat_l, cat_f, cat_d]; done) | (simp [List.filter, cat_rf, cat_i, cat_a, cat_n, cat_l, cat_f, cat_d]; rfl)) (fun ls hl => ?_)
  exact w_J15_signedHashCode_8 C hw hR _ x0 x1 x4_1 x2 _ _ _ _ h hI (lv_sub hl [2, 3, 1, 0] rfl)

theorem w_J15_vectorizedHashCode_129 {z : Int32 × cS} (C : CX p m meth c s args cJ15_vectorizedHashCode 5 (Option.some Jvm.ClassFile.FieldType.int) RJ15) (hw : WKc g A s s.heap) (hR : RM g s R (2) (65))  : ∀ (x4 : Int32) (σ : cS) (H : Heap) (locs : List Loc) (ls : Array Slot), b_J15_vectorizedHashCode_129 x4 σ = some z → CI g A s σ H locs → lv_has ls 5 [(4, .int x4)] → W p l e R s m args below meth c H locs (H.size - s.heap.size) (hsl H - hsl s.heap) (MQ below (CQ g A (some (.int z.1)) z.2) args s (g.2.2.1 3 - s.heap.size) (g.2.2.1 4 - hsl s.heap) A) (F0 m 129 ls []) := by
  intro x4 σ H locs ls h hI hl
  unfold b_J15_vectorizedHashCode_129 at h
  cases h

theorem k_J15_vectorizedHashCode (l : Launch) (g : cG) (A : Nat → Prop) (x0 : Option Nat) (x1 : Int32) (x2 : Int32) (x3 : Int32) (x4 : Int32) (σ : cS) (v : Int32) (σ1 : cS) (h : m_J15_vectorizedHashCode x0 x1 x2 x3 x4 σ = some (v, σ1)) : Met l yJ15_vectorizedHashCode (ws_ yJ15_vectorizedHashCode cJ15_vectorizedHashCode 5 (Option.some Jvm.ClassFile.FieldType.int)) ({ frames := 2, cells := σ.2 3 - σ.2 0, slots := σ.2 4 - σ.2 1, locals := 65 }) (CPc g A [va_rf x0, .int x1, .int x2, .int x3, .int x4] σ) (CQ g A (some (.int v)) σ1) (σ.2 3 - σ.2 0) (σ.2 4 - σ.2 1) A := by
  refine Met.ofW (cc := cJ15_vectorizedHashCode) (maxL := 5) (ret := (Option.some Jvm.ClassFile.FieldType.int)) (by decide) rfl ?_
  intro p e s m args below meth c s₁ B hml hv
  obtain ⟨rfl, hw, hσ⟩ := hv
  have hts := atoms_spec (ws := (ws_ yJ15_vectorizedHashCode cJ15_vectorizedHashCode 5 (Option.some Jvm.ClassFile.FieldType.int))) B.pre
  have C : CX p m meth c s ([va_rf x0, .int x1, .int x2, .int x3, .int x4] : List Value).toArray cJ15_vectorizedHashCode 5 (Option.some Jvm.ClassFile.FieldType.int) RJ15 := ⟨⟨B.exec, B.bytes, hml, findClass_of_methodNamed B.named, fun w h => hts w (List.mem_cons_of_mem _ h)⟩, B.returns, B.notSynchronized⟩
  have e3 : σ.2 3 - σ.2 0 = g.2.2.1 3 - s.heap.size := by rw [hσ.1, hσ.2.2.2.1 3 (by decide)]
  have e4 : σ.2 4 - σ.2 1 = g.2.2.1 4 - hsl s.heap := by rw [hσ.2.1, hσ.2.2.2.1 4 (by decide)]
  have hR : RM g s (headSpec (ws_ yJ15_vectorizedHashCode cJ15_vectorizedHashCode 5 (Option.some Jvm.ClassFile.FieldType.int)) ({ frames := 2, cells := σ.2 3 - σ.2 0, slots := σ.2 4 - σ.2 1, locals := 65 })).room (2) (65) := ⟨⟨Nat.le_refl _, Nat.le_refl _⟩, Nat.le_of_eq e3.symm, Nat.le_of_eq e4.symm⟩
  generalize (headSpec (ws_ yJ15_vectorizedHashCode cJ15_vectorizedHashCode 5 (Option.some Jvm.ClassFile.FieldType.int)) ({ frames := 2, cells := σ.2 3 - σ.2 0, slots := σ.2 4 - σ.2 1, locals := 65 })).room = R at hR ⊢
  rw [e3, e4]
  have hI : CI g A s σ s.heap [] := ⟨hσ, va_S.rf, Nat.le_refl _⟩
  have hlen : (lg_sl ([va_rf x0, .int x1, .int x2, .int x3, .int x4])).length ≤ 5 := by rcases x0 with _ | x0 <;> exact Nat.le_of_ble_eq_true rfl
  have hl := lv_entry ([va_rf x0, .int x1, .int x2, .int x3, .int x4]) (n := 5) hlen
  rw [lg_entry_eq]
  generalize (lg_sl ([va_rf x0, .int x1, .int x2, .int x3, .int x4]) ++ List.replicate (5 - (lg_sl ([va_rf x0, .int x1, .int x2, .int x3, .int x4])).length) Slot.unset).toArray = ls at hl ⊢
  have hl : lv_has ls 5 [(0, va_rf x0), (1, .int x1), (2, .int x2), (3, .int x3), (4, .int x4)] := by clear hI hw h hσ e3 e4 hR C hts B; rcases x0 with _ | x0 <;> exact hl
  obtain ⟨z, hz⟩ : ∃ z, z = (v, σ1) := ⟨_, rfl⟩
  rw [← hz] at h
  rw [show v = z.1 by rw [hz], show σ1 = z.2 by rw [hz]]
  clear hz v σ1
  refine W.narrow ?_
  unfold m_J15_vectorizedHashCode at h
  refine lv_iload C.x C.b dJ15_vectorizedHashCode_0 (lv_at hl 4 rfl) ?_
  by_cases c_1 : x4 = 4
  · have h := ip c_1 h
    refine lv_tableIn (off := 42) (tgt := 44) C.x C.b dJ15_vectorizedHashCode_2 (by rw [c_1]; decide) (by rw [c_1]; decide) (by rw [c_1]; rfl) (by decide) ?_
    refine lv_iload_n C.x C.b dJ15_vectorizedHashCode_44 rfl (lv_at hl 3 rfl) ?_
    refine r_aload_n (x := x0) C.x C.b dJ15_vectorizedHashCode_45 rfl (lv_at hl 0 rfl) ?_
    refine cw_castAB (r := x0) C hw hI h q894 dJ15_vectorizedHashCode_46 (fun h => ?_)
    refine lv_iload_n C.x C.b dJ15_vectorizedHashCode_49 rfl (lv_at hl 1 rfl) ?_
    refine lv_iload_n C.x C.b dJ15_vectorizedHashCode_50 rfl (lv_at hl 2 rfl) ?_
    refine cw_callS (y := yJ15_signedHashCode) (bytes := cJ15_signedHashCode) (maxL := 6) (fun v => some (.int v)) [.int x3, va_rf x0, .int x1, .int x2] C hw hR hI hl.1 h (fun vv ss ee => k_J15_signedHashCode l g A x3 x0 x1 x2 σ vv ss ee) (va_cwS 4 C.t (lw_S q895 q896 q146 q897) rfl rfl rfl (by decide +kernel) ⟨Nat.le_trans (Nat.le_of_ble_eq_true rfl) hR.f, Nat.le_trans (Nat.le_of_ble_eq_true rfl) hR.lo⟩) rfl rfl (Nat.le_of_ble_eq_true rfl) dJ15_vectorizedHashCode_51 (fun v_2 σ_3 H locs h hI => ?_)
    refine lv_goto (tgt := 157) C.x C.b dJ15_vectorizedHashCode_54 (by decide) ?_
    exact cw_iret C hI h dJ15_vectorizedHashCode_157
  have h := iN c_1 h
  by_cases c_4 : x4 = 5
  · have h := ip c_4 h
    refine lv_tableIn (off := 55) (tgt := 57) C.x C.b dJ15_vectorizedHashCode_2 (by rw [c_4]; decide) (by rw [c_4]; decide) (by rw [c_4]; rfl) (by decide) ?_
    refine r_aload_n (x := x0) C.x C.b dJ15_vectorizedHashCode_57 rfl (lv_at hl 0 rfl) ?_
    cases h
  have h := iN c_4 h
  by_cases c_5 : x4 = 8
  · have h := ip c_5 h
    refine lv_tableIn (off := 88) (tgt := 90) C.x C.b dJ15_vectorizedHashCode_2 (by rw [c_5]; decide) (by rw [c_5]; decide) (by rw [c_5]; rfl) (by decide) ?_
    refine lv_iload_n C.x C.b dJ15_vectorizedHashCode_90 rfl (lv_at hl 3 rfl) ?_
    refine r_aload_n (x := x0) C.x C.b dJ15_vectorizedHashCode_91 rfl (lv_at hl 0 rfl) ?_
    refine cw_castAB (r := x0) C hw hI h q894 dJ15_vectorizedHashCode_92 (fun h => ?_)
    refine lv_iload_n C.x C.b dJ15_vectorizedHashCode_95 rfl (lv_at hl 1 rfl) ?_
    refine lv_iload_n C.x C.b dJ15_vectorizedHashCode_96 rfl (lv_at hl 2 rfl) ?_
    refine cw_callS (y := yJ15_hashCode_2) (bytes := cJ15_hashCode_2) (maxL := 6) (fun v => some (.int v)) [.int x3, va_rf x0, .int x1, .int x2] C hw hR hI hl.1 h (fun vv ss ee => k_J15_hashCode_2 l g A x3 x0 x1 x2 σ vv ss ee) (va_cwS 4 C.t (lw_S q918 q919 q146 q920) rfl rfl rfl (by decide +kernel) ⟨Nat.le_trans (Nat.le_of_ble_eq_true rfl) hR.f, Nat.le_trans (Nat.le_of_ble_eq_true rfl) hR.lo⟩) rfl rfl (Nat.le_of_ble_eq_true rfl) dJ15_vectorizedHashCode_97 (fun v_6 σ_7 H locs h hI => ?_)
    refine lv_goto (tgt := 157) C.x C.b dJ15_vectorizedHashCode_100 (by decide) ?_
    exact cw_iret C hI h dJ15_vectorizedHashCode_157
  have h := iN c_5 h
  by_cases c_8 : x4 = 9
  · have h := ip c_8 h
    refine lv_tableIn (off := 101) (tgt := 103) C.x C.b dJ15_vectorizedHashCode_2 (by rw [c_8]; decide) (by rw [c_8]; decide) (by rw [c_8]; rfl) (by decide) ?_
    refine lv_iload_n C.x C.b dJ15_vectorizedHashCode_103 rfl (lv_at hl 3 rfl) ?_
    refine r_aload_n (x := x0) C.x C.b dJ15_vectorizedHashCode_104 rfl (lv_at hl 0 rfl) ?_
    cases h
  have h := iN c_8 h
  by_cases c_9 : x4 = 10
  · have h := ip c_9 h
    refine lv_tableIn (off := 114) (tgt := 116) C.x C.b dJ15_vectorizedHashCode_2 (by rw [c_9]; decide) (by rw [c_9]; decide) (by rw [c_9]; rfl) (by decide) ?_
    refine lv_iload_n C.x C.b dJ15_vectorizedHashCode_116 rfl (lv_at hl 3 rfl) ?_
    refine r_aload_n (x := x0) C.x C.b dJ15_vectorizedHashCode_117 rfl (lv_at hl 0 rfl) ?_
    cases h
  have h := iN c_9 h
  refine tw_tabD (tgt := 129) C.x C.b dJ15_vectorizedHashCode_2 (by decide) (fun j hj => match j, hj with | 0, _ => Or.inr (lv_neT c_1 (by decide)) | 1, _ => Or.inr (lv_neT c_4 (by decide)) | 2, _ => Or.inl rfl | 3, _ => Or.inl rfl | 4, _ => Or.inr (lv_neT c_5 (by decide)) | 5, _ => Or.inr (lv_neT c_8 (by decide)) | 6, _ => Or.inr (lv_neT c_9 (by decide)) | j + 7, hj => absurd hj (Nat.not_lt_of_le (Nat.le_add_left _ _))) (by decide) ?_
  exact w_J15_vectorizedHashCode_129 C hw hR x4 _ _ _ _ h hI (lv_sub hl [4] rfl)

end
