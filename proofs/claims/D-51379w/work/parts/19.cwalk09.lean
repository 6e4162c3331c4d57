/-! THE CLASS' WALKS 9: printed by gencl.py -/
section
variable {p : Program} {l : Launch} {e : Env} {R : Room} {s : State} {m : MethodId} {args : Array Value} {below : List Frame} {meth : Method} {c : Code} {g : cG} {A : Nat → Prop}
set_option maxRecDepth 100000
theorem k_J9_rangeCheck (l : Launch) (g : cG) (A : Nat → Prop) (x0 : Int32) (x1 : Int32) (x2 : Int32) (σ : cS) (v : Int32) (σ1 : cS) (h : m_J9_rangeCheck x0 x1 x2 σ = some (v, σ1)) : Met l yJ9_rangeCheck (ws_ yJ9_rangeCheck cJ9_rangeCheck 3 (Option.none : Option Jvm.ClassFile.FieldType)) ({ frames := 1, cells := σ.2 3 - σ.2 0, slots := σ.2 4 - σ.2 1, locals := 40 }) (CPc g A [.int x0, .int x1, .int x2] σ) (CQ g A (none) σ1) (σ.2 3 - σ.2 0) (σ.2 4 - σ.2 1) A := by
  refine Met.ofW (cc := cJ9_rangeCheck) (maxL := 3) (ret := (Option.none : Option Jvm.ClassFile.FieldType)) (by decide) rfl ?_
  intro p e s m args below meth c s₁ B hml hv
  obtain ⟨rfl, hw, hσ⟩ := hv
  have hts := atoms_spec (ws := (ws_ yJ9_rangeCheck cJ9_rangeCheck 3 (Option.none : Option Jvm.ClassFile.FieldType))) B.pre
  have C : CX p m meth c s ([.int x0, .int x1, .int x2] : List Value).toArray cJ9_rangeCheck 3 (Option.none : Option Jvm.ClassFile.FieldType) RJ9 := ⟨⟨B.exec, B.bytes, hml, findClass_of_methodNamed B.named, fun w h => hts w (List.mem_cons_of_mem _ h)⟩, B.returns, B.notSynchronized⟩
  have e3 : σ.2 3 - σ.2 0 = g.2.2.1 3 - s.heap.size := by rw [hσ.1, hσ.2.2.2.1 3 (by decide)]
  have e4 : σ.2 4 - σ.2 1 = g.2.2.1 4 - hsl s.heap := by rw [hσ.2.1, hσ.2.2.2.1 4 (by decide)]
  have hR : RM g s (headSpec (ws_ yJ9_rangeCheck cJ9_rangeCheck 3 (Option.none : Option Jvm.ClassFile.FieldType)) ({ frames := 1, cells := σ.2 3 - σ.2 0, slots := σ.2 4 - σ.2 1, locals := 40 })).room (1) (40) := ⟨⟨Nat.le_refl _, Nat.le_refl _⟩, Nat.le_of_eq e3.symm, Nat.le_of_eq e4.symm⟩
  generalize (headSpec (ws_ yJ9_rangeCheck cJ9_rangeCheck 3 (Option.none : Option Jvm.ClassFile.FieldType)) ({ frames := 1, cells := σ.2 3 - σ.2 0, slots := σ.2 4 - σ.2 1, locals := 40 })).room = R at hR ⊢
  rw [e3, e4]
  have hI : CI g A s σ s.heap [] := ⟨hσ, va_S.rf, Nat.le_refl _⟩
  have hl := lv_entry ([.int x0, .int x1, .int x2]) (n := 3) (Nat.le_of_ble_eq_true rfl)
  rw [lg_entry_eq]
  generalize (lg_sl ([.int x0, .int x1, .int x2]) ++ List.replicate (3 - (lg_sl ([.int x0, .int x1, .int x2])).length) Slot.unset).toArray = ls at hl ⊢
  have hl : lv_has ls 3 [(0, .int x0), (1, .int x1), (2, .int x2)] := hl
  obtain ⟨z, hz⟩ : ∃ z, z = (v, σ1) := ⟨_, rfl⟩
  rw [← hz] at h
  rw [show σ1 = z.2 by rw [hz]]
  clear hz v σ1
  refine W.narrow ?_
  unfold m_J9_rangeCheck at h
  refine lv_iload_n C.x C.b dJ9_rangeCheck_0 rfl (lv_at hl 1 rfl) ?_
  refine lv_iload_n C.x C.b dJ9_rangeCheck_1 rfl (lv_at hl 2 rfl) ?_
  refine lv_icmp_le (tgt := 46) C.x C.b dJ9_rangeCheck_2 (by decide) (fun c_1 => ?_) (fun c_1 => ?_)
  · have h := ip c_1 h
    refine lv_iload_n C.x C.b dJ9_rangeCheck_46 rfl (lv_at hl 1 rfl) ?_
    refine lv_if_ge (tgt := 59) C.x C.b dJ9_rangeCheck_47 (by decide) (fun c_2 => ?_) (fun c_2 => ?_)
    · have h := ip c_2 h
      refine lv_iload_n C.x C.b dJ9_rangeCheck_59 rfl (lv_at hl 2 rfl) ?_
      refine lv_iload_n C.x C.b dJ9_rangeCheck_60 rfl (lv_at hl 0 rfl) ?_
      refine lv_icmp_le (tgt := 73) C.x C.b dJ9_rangeCheck_61 (by decide) (fun c_3 => ?_) (fun c_3 => ?_)
      · have h := ip c_3 h
        exact cw_vret C hI h dJ9_rangeCheck_73
      · have h := iN c_3 h
        cases h
    · have h := iN c_2 h
      cases h
  · have h := iN c_1 h
    cases h

theorem w_J9_fill_10 {z : Int32 × cS} (C : CX p m meth c s args cJ9_fill 5 (Option.none : Option Jvm.ClassFile.FieldType) RJ9) (hw : WKc g A s s.heap) (hR : RM g s R (2) (62))  : ∀ (n : Nat) (x0 : Option Nat) (x2 : Int32) (x3 : Int32) (x4 : Int32) (σ : cS) (H : Heap) (locs : List Loc) (ls : Array Slot), b_J9_fill_10 n x0 x2 x3 x4 σ = some z → CI g A s σ H locs → lv_has ls 5 [(0, va_rf x0), (2, .int x2), (3, .int x3), (4, .int x4)] → W p l e R s m args below meth c H locs (H.size - s.heap.size) (hsl H - hsl s.heap) (MQ below (CQ g A (none) z.2) args s (g.2.2.1 3 - s.heap.size) (g.2.2.1 4 - hsl s.heap) A) (F0 m 10 ls []) := by
  intro n
  induction n with
  | zero =>
    intro x0 x2 x3 x4 σ H locs ls h
    cases h
  | succ n ih =>
    intro x0 x2 x3 x4 σ H locs ls h hI hl
    rw [b_J9_fill_10] at h
    refine lv_iload C.x C.b dJ9_fill_10 (lv_at hl 3 rfl) ?_
    refine lv_iload_n C.x C.b dJ9_fill_12 rfl (lv_at hl 1 rfl) ?_
    refine lv_icmp_ge (tgt := 27) C.x C.b dJ9_fill_13 (by decide) (fun c_1 => ?_) (fun c_1 => ?_)
    · have h := ip c_1 h
      exact cw_vret C hI h dJ9_fill_27
    · have h := iN c_1 h
      refine r_aload_n (x := x0) C.x C.b dJ9_fill_16 rfl (lv_at hl 0 rfl) ?_
      refine lv_iload C.x C.b dJ9_fill_17 (lv_at hl 3 rfl) ?_
      refine lv_iload_n C.x C.b dJ9_fill_19 rfl (lv_at hl 2 rfl) ?_
      refine cw_bst (r := x0) C hw hI h dJ9_fill_20 (fun σ_2 H locs h hI => ?_)
      obtain ⟨x4_3, e_, h⟩ := nm_s h
      refine lv_iinc (v := x4_3) (lv' := [(4, .int x4_3), (0, va_rf x0), (2, .int x2), (3, .int x3)]) C.x C.b dJ9_fill_21 hl (k := 3) rfl e_.symm (by decide) (by first | (simp [List.filter, cat_rf, cat_i, cat_a, cat_n, cat_l, cat_f, cat_d]; done) | (simp [List.filter, cat_rf, cat_i, cat_a, cat_n, cat_l, cat_f, cat_d]; rfl)) (fun ls hl => ?_)
      refine lv_goto (tgt := 10) C.x C.b dJ9_fill_24 (by decide) ?_
      exact ih x0 x2 x3 x4_3 _ _ _ _ h hI (lv_sub hl [1, 2, 3, 0] rfl)

theorem k_J9_fill (l : Launch) (g : cG) (A : Nat → Prop) (x0 : Option Nat) (x1 : Int32) (x2 : Int32) (x3 : Int32) (σ : cS) (v : Int32) (σ1 : cS) (h : m_J9_fill x0 x1 x2 x3 σ = some (v, σ1)) : Met l yJ9_fill (ws_ yJ9_fill cJ9_fill 5 (Option.none : Option Jvm.ClassFile.FieldType)) ({ frames := 2, cells := σ.2 3 - σ.2 0, slots := σ.2 4 - σ.2 1, locals := 62 }) (CPc g A [va_rf x0, .int x1, .int x2, .int x3] σ) (CQ g A (none) σ1) (σ.2 3 - σ.2 0) (σ.2 4 - σ.2 1) A := by
  refine Met.ofW (cc := cJ9_fill) (maxL := 5) (ret := (Option.none : Option Jvm.ClassFile.FieldType)) (by decide) rfl ?_
  intro p e s m args below meth c s₁ B hml hv
  obtain ⟨rfl, hw, hσ⟩ := hv
  have hts := atoms_spec (ws := (ws_ yJ9_fill cJ9_fill 5 (Option.none : Option Jvm.ClassFile.FieldType))) B.pre
  have C : CX p m meth c s ([va_rf x0, .int x1, .int x2, .int x3] : List Value).toArray cJ9_fill 5 (Option.none : Option Jvm.ClassFile.FieldType) RJ9 := ⟨⟨B.exec, B.bytes, hml, findClass_of_methodNamed B.named, fun w h => hts w (List.mem_cons_of_mem _ h)⟩, B.returns, B.notSynchronized⟩
  have e3 : σ.2 3 - σ.2 0 = g.2.2.1 3 - s.heap.size := by rw [hσ.1, hσ.2.2.2.1 3 (by decide)]
  have e4 : σ.2 4 - σ.2 1 = g.2.2.1 4 - hsl s.heap := by rw [hσ.2.1, hσ.2.2.2.1 4 (by decide)]
  have hR : RM g s (headSpec (ws_ yJ9_fill cJ9_fill 5 (Option.none : Option Jvm.ClassFile.FieldType)) ({ frames := 2, cells := σ.2 3 - σ.2 0, slots := σ.2 4 - σ.2 1, locals := 62 })).room (2) (62) := ⟨⟨Nat.le_refl _, Nat.le_refl _⟩, Nat.le_of_eq e3.symm, Nat.le_of_eq e4.symm⟩
  generalize (headSpec (ws_ yJ9_fill cJ9_fill 5 (Option.none : Option Jvm.ClassFile.FieldType)) ({ frames := 2, cells := σ.2 3 - σ.2 0, slots := σ.2 4 - σ.2 1, locals := 62 })).room = R at hR ⊢
  rw [e3, e4]
  have hI : CI g A s σ s.heap [] := ⟨hσ, va_S.rf, Nat.le_refl _⟩
  have hlen : (lg_sl ([va_rf x0, .int x1, .int x2, .int x3])).length ≤ 5 := by rcases x0 with _ | x0 <;> exact Nat.le_of_ble_eq_true rfl
  have hl := lv_entry ([va_rf x0, .int x1, .int x2, .int x3]) (n := 5) hlen
  rw [lg_entry_eq]
  generalize (lg_sl ([va_rf x0, .int x1, .int x2, .int x3]) ++ List.replicate (5 - (lg_sl ([va_rf x0, .int x1, .int x2, .int x3])).length) Slot.unset).toArray = ls at hl ⊢
  have hl : lv_has ls 5 [(0, va_rf x0), (1, .int x1), (2, .int x2), (3, .int x3)] := by clear hI hw h hσ e3 e4 hR C hts B; rcases x0 with _ | x0 <;> exact hl
  obtain ⟨z, hz⟩ : ∃ z, z = (v, σ1) := ⟨_, rfl⟩
  rw [← hz] at h
  rw [show σ1 = z.2 by rw [hz]]
  clear hz v σ1
  refine W.narrow ?_
  unfold m_J9_fill at h
  refine r_aload_n (x := x0) C.x C.b dJ9_fill_0 rfl (lv_at hl 0 rfl) ?_
  refine cw_aL (r := x0) C hw hI h dJ9_fill_1 (fun v_1 h => ?_)
  refine lv_iload_n C.x C.b dJ9_fill_2 rfl (lv_at hl 1 rfl) ?_
  refine lv_iload_n C.x C.b dJ9_fill_3 rfl (lv_at hl 2 rfl) ?_
  refine cw_callS (y := yJ9_rangeCheck) (bytes := cJ9_rangeCheck) (maxL := 3) (fun _ => none) [.int v_1, .int x1, .int x2] C hw hR hI hl.1 h (fun vv ss ee => k_J9_rangeCheck l g A v_1 x1 x2 σ vv ss ee) (va_cwS 3 C.t (lw_S q1680 q1681 q139 q1682) rfl rfl rfl (by decide +kernel) ⟨Nat.le_trans (Nat.le_of_ble_eq_true rfl) hR.f, Nat.le_trans (Nat.le_of_ble_eq_true rfl) hR.lo⟩) rfl rfl (Nat.le_of_ble_eq_true rfl) dJ9_fill_4 (fun _ σ_2 H locs h hI => ?_)
  refine lv_iload_n C.x C.b dJ9_fill_7 rfl (lv_at hl 1 rfl) ?_
  refine lv_istore (i := 4) (lv' := [(4, .int x1), (0, va_rf x0), (1, .int x1), (2, .int x2), (3, .int x3)]) C.x C.b dJ9_fill_8 hl (by decide) (by first | (simp [List.filter, cat_rf, cat_i, cat_a, cat_n, cat_l, cat_f, cat_d]; done) | (simp [List.filter, cat_rf, cat_i, cat_a, cat_n, cat_l, cat_f, cat_d]; rfl)) (fun ls hl => ?_)
  exact w_J9_fill_10 C hw hR _ x0 x2 x3 x1 _ _ _ _ h hI (lv_sub hl [1, 3, 4, 0] rfl)

theorem k_J6_fillNull (l : Launch) (g : cG) (A : Nat → Prop) (x0 : Option Nat) (x1 : Int32) (x2 : Int32) (σ : cS) (v : Int32) (σ1 : cS) (h : m_J6_fillNull x0 x1 x2 σ = some (v, σ1)) : Met l yJ6_fillNull (ws_ yJ6_fillNull cJ6_fillNull 3 (Option.none : Option Jvm.ClassFile.FieldType)) ({ frames := 3, cells := σ.2 3 - σ.2 0, slots := σ.2 4 - σ.2 1, locals := 86 }) (CPc g A [va_rf x0, .int x1, .int x2] σ) (CQ g A (none) σ1) (σ.2 3 - σ.2 0) (σ.2 4 - σ.2 1) A := by
  refine Met.ofW (cc := cJ6_fillNull) (maxL := 3) (ret := (Option.none : Option Jvm.ClassFile.FieldType)) (by decide) rfl ?_
  intro p e s m args below meth c s₁ B hml hv
  obtain ⟨rfl, hw, hσ⟩ := hv
  have hts := atoms_spec (ws := (ws_ yJ6_fillNull cJ6_fillNull 3 (Option.none : Option Jvm.ClassFile.FieldType))) B.pre
  have C : CX p m meth c s ([va_rf x0, .int x1, .int x2] : List Value).toArray cJ6_fillNull 3 (Option.none : Option Jvm.ClassFile.FieldType) RJ6 := ⟨⟨B.exec, B.bytes, hml, findClass_of_methodNamed B.named, fun w h => hts w (List.mem_cons_of_mem _ h)⟩, B.returns, B.notSynchronized⟩
  have e3 : σ.2 3 - σ.2 0 = g.2.2.1 3 - s.heap.size := by rw [hσ.1, hσ.2.2.2.1 3 (by decide)]
  have e4 : σ.2 4 - σ.2 1 = g.2.2.1 4 - hsl s.heap := by rw [hσ.2.1, hσ.2.2.2.1 4 (by decide)]
  have hR : RM g s (headSpec (ws_ yJ6_fillNull cJ6_fillNull 3 (Option.none : Option Jvm.ClassFile.FieldType)) ({ frames := 3, cells := σ.2 3 - σ.2 0, slots := σ.2 4 - σ.2 1, locals := 86 })).room (3) (86) := ⟨⟨Nat.le_refl _, Nat.le_refl _⟩, Nat.le_of_eq e3.symm, Nat.le_of_eq e4.symm⟩
  generalize (headSpec (ws_ yJ6_fillNull cJ6_fillNull 3 (Option.none : Option Jvm.ClassFile.FieldType)) ({ frames := 3, cells := σ.2 3 - σ.2 0, slots := σ.2 4 - σ.2 1, locals := 86 })).room = R at hR ⊢
  rw [e3, e4]
  have hI : CI g A s σ s.heap [] := ⟨hσ, va_S.rf, Nat.le_refl _⟩
  have hlen : (lg_sl ([va_rf x0, .int x1, .int x2])).length ≤ 3 := by rcases x0 with _ | x0 <;> exact Nat.le_of_ble_eq_true rfl
  have hl := lv_entry ([va_rf x0, .int x1, .int x2]) (n := 3) hlen
  rw [lg_entry_eq]
  generalize (lg_sl ([va_rf x0, .int x1, .int x2]) ++ List.replicate (3 - (lg_sl ([va_rf x0, .int x1, .int x2])).length) Slot.unset).toArray = ls at hl ⊢
  have hl : lv_has ls 3 [(0, va_rf x0), (1, .int x1), (2, .int x2)] := by clear hI hw h hσ e3 e4 hR C hts B; rcases x0 with _ | x0 <;> exact hl
  obtain ⟨z, hz⟩ : ∃ z, z = (v, σ1) := ⟨_, rfl⟩
  rw [← hz] at h
  rw [show σ1 = z.2 by rw [hz]]
  clear hz v σ1
  refine W.narrow ?_
  unfold m_J6_fillNull at h
  refine r_aload_n (x := x0) C.x C.b dJ6_fillNull_0 rfl (lv_at hl 0 rfl) ?_
  refine lv_iload_n C.x C.b dJ6_fillNull_1 rfl (lv_at hl 1 rfl) ?_
  refine lv_iload_n C.x C.b dJ6_fillNull_2 rfl (lv_at hl 2 rfl) ?_
  refine lv_iconst (v := 0) C.x C.b dJ6_fillNull_3 (by decide) ?_
  refine cw_callS (y := yJ9_fill) (bytes := cJ9_fill) (maxL := 5) (fun _ => none) [va_rf x0, .int x1, .int x2, .int 0] C hw hR hI hl.1 h (fun vv ss ee => k_J9_fill l g A x0 x1 x2 0 σ vv ss ee) (va_cwS 4 C.t (lw_S q1677 q1678 q139 q1679) rfl rfl rfl (by decide +kernel) ⟨Nat.le_trans (Nat.le_of_ble_eq_true rfl) hR.f, Nat.le_trans (Nat.le_of_ble_eq_true rfl) hR.lo⟩) rfl rfl (Nat.le_of_ble_eq_true rfl) dJ6_fillNull_4 (fun _ σ_1 H locs h hI => ?_)
  exact cw_vret C hI h dJ6_fillNull_7

theorem w_J2_setLength_76 {z : Int32 × cS} {o : Nat} (C : CX p m meth c s args cJ2_setLength 2 (Option.none : Option Jvm.ClassFile.FieldType) RJ2) (hw : WKc g A s s.heap) (hR : RM g s R (4) (110))  : ∀ (x1 : Int32) (σ : cS) (H : Heap) (locs : List Loc) (ls : Array Slot), b_J2_setLength_76 o x1 σ = some z → CI g A s σ H locs → lv_has ls 2 [(0, .ref o), (1, .int x1)] → W p l e R s m args below meth c H locs (H.size - s.heap.size) (hsl H - hsl s.heap) (MQ below (CQ g A (none) z.2) args s (g.2.2.1 3 - s.heap.size) (g.2.2.1 4 - hsl s.heap) A) (F0 m 76 ls []) := by
  intro x1 σ H locs ls h hI hl
  unfold b_J2_setLength_76 at h
  refine r_aload_n (x := some o) C.x C.b dJ2_setLength_76 rfl (lv_at hl 0 rfl) ?_
  refine lv_iload_n C.x C.b dJ2_setLength_77 rfl (lv_at hl 1 rfl) ?_
  refine cw_pO (r := some o) (v := (.int x1)) (ty := .int) 11 3 C hw hI h (by decide) rfl in_J3 tyJ3 tyJ3_ok nmJ3 (by decide) (C.t _ q220) (fun _ h9 => h9) (Or.inl rfl) (by decide +kernel) rfl rfl dJ2_setLength_78 (fun σ_1 H locs h hI => ?_)
  exact cw_vret C hI h dJ2_setLength_81

theorem k_J2_setLength (l : Launch) (g : cG) (A : Nat → Prop) (o : Nat) (x1 : Int32) (σ : cS) (v : Int32) (σ1 : cS) (h : m_J2_setLength o x1 σ = some (v, σ1)) : Met l yJ2_setLength (ws_ yJ2_setLength cJ2_setLength 2 (Option.none : Option Jvm.ClassFile.FieldType)) ({ frames := 4, cells := σ.2 3 - σ.2 0, slots := σ.2 4 - σ.2 1, locals := 110 }) (CPc g A [.ref o, .int x1] σ) (CQ g A (none) σ1) (σ.2 3 - σ.2 0) (σ.2 4 - σ.2 1) A := by
  refine Met.ofW (cc := cJ2_setLength) (maxL := 2) (ret := (Option.none : Option Jvm.ClassFile.FieldType)) (by decide) rfl ?_
  intro p e s m args below meth c s₁ B hml hv
  obtain ⟨rfl, hw, hσ⟩ := hv
  have hts := atoms_spec (ws := (ws_ yJ2_setLength cJ2_setLength 2 (Option.none : Option Jvm.ClassFile.FieldType))) B.pre
  have C : CX p m meth c s ([.ref o, .int x1] : List Value).toArray cJ2_setLength 2 (Option.none : Option Jvm.ClassFile.FieldType) RJ2 := ⟨⟨B.exec, B.bytes, hml, findClass_of_methodNamed B.named, fun w h => hts w (List.mem_cons_of_mem _ h)⟩, B.returns, B.notSynchronized⟩
  have e3 : σ.2 3 - σ.2 0 = g.2.2.1 3 - s.heap.size := by rw [hσ.1, hσ.2.2.2.1 3 (by decide)]
  have e4 : σ.2 4 - σ.2 1 = g.2.2.1 4 - hsl s.heap := by rw [hσ.2.1, hσ.2.2.2.1 4 (by decide)]
  have hR : RM g s (headSpec (ws_ yJ2_setLength cJ2_setLength 2 (Option.none : Option Jvm.ClassFile.FieldType)) ({ frames := 4, cells := σ.2 3 - σ.2 0, slots := σ.2 4 - σ.2 1, locals := 110 })).room (4) (110) := ⟨⟨Nat.le_refl _, Nat.le_refl _⟩, Nat.le_of_eq e3.symm, Nat.le_of_eq e4.symm⟩
  generalize (headSpec (ws_ yJ2_setLength cJ2_setLength 2 (Option.none : Option Jvm.ClassFile.FieldType)) ({ frames := 4, cells := σ.2 3 - σ.2 0, slots := σ.2 4 - σ.2 1, locals := 110 })).room = R at hR ⊢
  rw [e3, e4]
  have hI : CI g A s σ s.heap [] := ⟨hσ, va_S.rf, Nat.le_refl _⟩
  have hl := lv_entry ([.ref o, .int x1]) (n := 2) (Nat.le_of_ble_eq_true rfl)
  rw [lg_entry_eq]
  generalize (lg_sl ([.ref o, .int x1]) ++ List.replicate (2 - (lg_sl ([.ref o, .int x1])).length) Slot.unset).toArray = ls at hl ⊢
  have hl : lv_has ls 2 [(0, .ref o), (1, .int x1)] := hl
  obtain ⟨z, hz⟩ : ∃ z, z = (v, σ1) := ⟨_, rfl⟩
  rw [← hz] at h
  rw [show σ1 = z.2 by rw [hz]]
  clear hz v σ1
  refine W.narrow ?_
  unfold m_J2_setLength at h
  refine lv_iload_n C.x C.b dJ2_setLength_0 rfl (lv_at hl 1 rfl) ?_
  refine lv_if_ge (tgt := 13) C.x C.b dJ2_setLength_1 (by decide) (fun c_1 => ?_) (fun c_1 => ?_)
  · have h := ip c_1 h
    refine r_aload_n (x := some o) C.x C.b dJ2_setLength_13 rfl (lv_at hl 0 rfl) ?_
    refine lv_iload_n C.x C.b dJ2_setLength_14 rfl (lv_at hl 1 rfl) ?_
    refine cw_callV (y := yJ2_ensureCapacityInternal) (bytes := cJ2_ensureCapacityInternal) (maxL := 3) (r := some o) (f := fun a_3 => m_J2_ensureCapacityInternal a_3 x1 σ) 11 (fun _ => none) [.int x1] C hw hR hI hl.1 h (by decide) rfl (fun aa vv ss ee => k_J2_ensureCapacityInternal l g A aa x1 σ vv ss ee) (cwG 1 C.t (lw_meth q456) rfl rfl rfl (C.t _ q129) (C.t _ q453) (C.t _ q455) (sel_privS (C.t _ q199) (C.t _ q455) (va_Nw.use rfl (hw.2.2.2.2.2.2.2.2.2.2.2.2.2.2.2.1.2.1 _ (List.mem_of_getElem? (i := 0) rfl))) (by decide +kernel) (C.t _ q489) rfl) (by decide +kernel) ⟨Nat.le_trans (Nat.le_of_ble_eq_true rfl) hR.f, Nat.le_trans (Nat.le_of_ble_eq_true rfl) hR.lo⟩) rfl rfl (Nat.le_of_ble_eq_true rfl) dJ2_setLength_15 (fun _ σ_2 H locs h hI => ?_)
    refine r_aload_n (x := some o) C.x C.b dJ2_setLength_18 rfl (lv_at hl 0 rfl) ?_
    refine cw_gI (r := some o) 11 3 C hw hI h (by decide) rfl in_J3 (by decide) (C.t _ q220) (fun _ h9 => h9) dJ2_setLength_19 (fun v_4 h => ?_)
    refine lv_iload_n C.x C.b dJ2_setLength_22 rfl (lv_at hl 1 rfl) ?_
    refine lv_icmp_ge (tgt := 63) C.x C.b dJ2_setLength_23 (by decide) (fun c_5 => ?_) (fun c_5 => ?_)
    · have h := ip c_5 h
      refine r_aload_n (x := some o) C.x C.b dJ2_setLength_63 rfl (lv_at hl 0 rfl) ?_
      refine cw_gI (r := some o) 11 3 C hw hI h (by decide) rfl in_J3 (by decide) (C.t _ q220) (fun _ h9 => h9) dJ2_setLength_64 (fun v_6 h => ?_)
      refine lv_iload_n C.x C.b dJ2_setLength_67 rfl (lv_at hl 1 rfl) ?_
      refine lv_icmp_le (tgt := 76) C.x C.b dJ2_setLength_68 (by decide) (fun c_7 => ?_) (fun c_7 => ?_)
      · have h := ip c_7 h
        exact w_J2_setLength_76 C hw hR x1 _ _ _ _ h hI (lv_sub hl [0, 1] rfl)
      · have h := iN c_7 h
        refine r_aload_n (x := some o) C.x C.b dJ2_setLength_71 rfl (lv_at hl 0 rfl) ?_
        refine lv_iconst (v := 1) C.x C.b dJ2_setLength_72 (by decide) ?_
        have hz := gd_s h
        have h := hz.2
        refine cw_pO (r := some o) (v := (.int 1)) (ty := .boolean) 11 2 C hw hI h (by decide) rfl in_J3 tyJ3 tyJ3_ok nmJ3 (by decide) (C.t _ q218) (fun _ h9 => h9) (Or.inl rfl) (by decide +kernel) (nar_z hz.1) (fit_z hz.1) dJ2_setLength_73 (fun σ_8 H locs h hI => ?_)
        exact w_J2_setLength_76 C hw hR x1 _ _ _ _ h hI (lv_sub hl [0, 1] rfl)
    · have h := iN c_5 h
      refine r_aload_n (x := some o) C.x C.b dJ2_setLength_26 rfl (lv_at hl 0 rfl) ?_
      refine cw_callV (y := yJ2_isLatin1) (bytes := cJ2_isLatin1) (maxL := 1) (r := some o) (f := fun a_11 => m_J2_isLatin1 a_11 σ_2) 11 (fun v => some (.int v)) [] C hw hR hI hl.1 h (by decide) rfl (fun aa vv ss ee => k_J2_isLatin1 l g A aa σ_2 vv ss ee) (cwG 0 C.t (lw_meth q490) rfl rfl rfl (C.t _ q129) (C.t _ q486) (C.t _ q487) (C.t _ q489) (by decide +kernel) ⟨Nat.le_trans (Nat.le_of_ble_eq_true rfl) hR.f, Nat.le_trans (Nat.le_of_ble_eq_true rfl) hR.lo⟩) rfl rfl (Nat.le_of_ble_eq_true rfl) dJ2_setLength_27 (fun v_9 σ_10 H locs h hI => ?_)
      refine lv_if_eq (tgt := 48) C.x C.b dJ2_setLength_30 (by decide) (fun c_12 => ?_) (fun c_12 => ?_)
      · have h := ip c_12 h
        refine r_aload_n (x := some o) C.x C.b dJ2_setLength_48 rfl (lv_at hl 0 rfl) ?_
        refine cw_gR (r := some o) 11 0 C hw hI h (by decide) rfl in_J3 (by decide) (C.t _ q216) (fun _ h9 => h9) dJ2_setLength_49 (fun v_13 h => ?_)
        refine r_aload_n (x := some o) C.x C.b dJ2_setLength_52 rfl (lv_at hl 0 rfl) ?_
        refine cw_gI (r := some o) 11 3 C hw hI h (by decide) rfl in_J3 (by decide) (C.t _ q220) (fun _ h9 => h9) dJ2_setLength_53 (fun v_14 h => ?_)
        refine lv_iload_n C.x C.b dJ2_setLength_56 rfl (lv_at hl 1 rfl) ?_
        cases h
      · have h := iN c_12 h
        refine r_aload_n (x := some o) C.x C.b dJ2_setLength_33 rfl (lv_at hl 0 rfl) ?_
        refine cw_gR (r := some o) 11 0 C hw hI h (by decide) rfl in_J3 (by decide) (C.t _ q216) (fun _ h9 => h9) dJ2_setLength_34 (fun v_15 h => ?_)
        refine r_aload_n (x := some o) C.x C.b dJ2_setLength_37 rfl (lv_at hl 0 rfl) ?_
        refine cw_gI (r := some o) 11 3 C hw hI h (by decide) rfl in_J3 (by decide) (C.t _ q220) (fun _ h9 => h9) dJ2_setLength_38 (fun v_16 h => ?_)
        refine lv_iload_n C.x C.b dJ2_setLength_41 rfl (lv_at hl 1 rfl) ?_
        refine cw_callS (y := yJ6_fillNull) (bytes := cJ6_fillNull) (maxL := 3) (fun _ => none) [va_rf v_15, .int v_16, .int x1] C hw hR hI hl.1 h (fun vv ss ee => k_J6_fillNull l g A v_15 v_16 x1 σ_10 vv ss ee) (va_cwS 3 C.t (lw_S q1674 q1675 q134 q1676) rfl rfl rfl (by decide +kernel) ⟨Nat.le_trans (Nat.le_of_ble_eq_true rfl) hR.f, Nat.le_trans (Nat.le_of_ble_eq_true rfl) hR.lo⟩) rfl rfl (Nat.le_of_ble_eq_true rfl) dJ2_setLength_42 (fun _ σ_17 H locs h hI => ?_)
        refine lv_goto (tgt := 76) C.x C.b dJ2_setLength_45 (by decide) ?_
        exact w_J2_setLength_76 C hw hR x1 _ _ _ _ h hI (lv_sub hl [0, 1] rfl)
  · have h := iN c_1 h
    cases h

theorem k_J3_init (l : Launch) (g : cG) (A : Nat → Prop) (o : Nat) (σ : cS) (v : Int32) (σ1 : cS) (h : m_J3_init o σ = some (v, σ1)) : Met l yJ3_init (ws_ yJ3_init cJ3_init 1 (Option.none : Option Jvm.ClassFile.FieldType)) ({ frames := 2, cells := σ.2 3 - σ.2 0, slots := σ.2 4 - σ.2 1, locals := 61 }) (CPc g A [.ref o] σ) (CQ g A (none) σ1) (σ.2 3 - σ.2 0) (σ.2 4 - σ.2 1) A := by
  refine Met.ofW (cc := cJ3_init) (maxL := 1) (ret := (Option.none : Option Jvm.ClassFile.FieldType)) (by decide) rfl ?_
  intro p e s m args below meth c s₁ B hml hv
  obtain ⟨rfl, hw, hσ⟩ := hv
  have hts := atoms_spec (ws := (ws_ yJ3_init cJ3_init 1 (Option.none : Option Jvm.ClassFile.FieldType))) B.pre
  have C : CX p m meth c s ([.ref o] : List Value).toArray cJ3_init 1 (Option.none : Option Jvm.ClassFile.FieldType) RJ3 := ⟨⟨B.exec, B.bytes, hml, findClass_of_methodNamed B.named, fun w h => hts w (List.mem_cons_of_mem _ h)⟩, B.returns, B.notSynchronized⟩
  have hin : meth.name = "<init>" := (name_of_methodNamed B.named B.method).1
  have e3 : σ.2 3 - σ.2 0 = g.2.2.1 3 - s.heap.size := by rw [hσ.1, hσ.2.2.2.1 3 (by decide)]
  have e4 : σ.2 4 - σ.2 1 = g.2.2.1 4 - hsl s.heap := by rw [hσ.2.1, hσ.2.2.2.1 4 (by decide)]
  have hR : RM g s (headSpec (ws_ yJ3_init cJ3_init 1 (Option.none : Option Jvm.ClassFile.FieldType)) ({ frames := 2, cells := σ.2 3 - σ.2 0, slots := σ.2 4 - σ.2 1, locals := 61 })).room (2) (61) := ⟨⟨Nat.le_refl _, Nat.le_refl _⟩, Nat.le_of_eq e3.symm, Nat.le_of_eq e4.symm⟩
  generalize (headSpec (ws_ yJ3_init cJ3_init 1 (Option.none : Option Jvm.ClassFile.FieldType)) ({ frames := 2, cells := σ.2 3 - σ.2 0, slots := σ.2 4 - σ.2 1, locals := 61 })).room = R at hR ⊢
  rw [e3, e4]
  have hI : CI g A s σ s.heap [] := ⟨hσ, va_S.rf, Nat.le_refl _⟩
  have hl := lv_entry ([.ref o]) (n := 1) (Nat.le_of_ble_eq_true rfl)
  rw [lg_entry_eq]
  generalize (lg_sl ([.ref o]) ++ List.replicate (1 - (lg_sl ([.ref o])).length) Slot.unset).toArray = ls at hl ⊢
  have hl : lv_has ls 1 [(0, .ref o)] := hl
  obtain ⟨z, hz⟩ : ∃ z, z = (v, σ1) := ⟨_, rfl⟩
  rw [← hz] at h
  rw [show σ1 = z.2 by rw [hz]]
  clear hz v σ1
  refine W.narrow ?_
  unfold m_J3_init at h
  refine r_aload_n (x := some o) C.x C.b dJ3_init_0 rfl (lv_at hl 0 rfl) ?_
  refine lv_bipush (v := 16) C.x C.b dJ3_init_1 (by decide) ?_
  refine cw_callI (y := yJ2_init) (bytes := cJ2_init) (maxL := 2) (b := o) [.int 16] C hw hR hI hl.1 h (fun vv ss ee => k_J2_init l g A o 16 σ vv ss ee) (cwI 1 C.t (lw_meth q205) rfl rfl rfl (C.t _ q129) (C.t _ q203) (C.t _ q204) rfl (by decide +kernel) ⟨Nat.le_trans (Nat.le_of_ble_eq_true rfl) hR.f, Nat.le_trans (Nat.le_of_ble_eq_true rfl) hR.lo⟩) rfl rfl (Nat.le_of_ble_eq_true rfl) dJ3_init_3 (fun σ_1 _ H locs h hI => ?_)
  exact cw_vret C hI h dJ3_init_6

theorem k_J3_charAt (l : Launch) (g : cG) (A : Nat → Prop) (o : Nat) (x1 : Int32) (σ : cS) (v : Int32) (σ1 : cS) (h : m_J3_charAt o x1 σ = some (v, σ1)) : Met l yJ3_charAt (ws_ yJ3_charAt cJ3_charAt 2 (Option.some Jvm.ClassFile.FieldType.char)) ({ frames := 4, cells := σ.2 3 - σ.2 0, slots := σ.2 4 - σ.2 1, locals := 107 }) (CPc g A [.ref o, .int x1] σ) (CQ g A (some (.int v)) σ1) (σ.2 3 - σ.2 0) (σ.2 4 - σ.2 1) A := by
  refine Met.ofW (cc := cJ3_charAt) (maxL := 2) (ret := (Option.some Jvm.ClassFile.FieldType.char)) (by decide) rfl ?_
  intro p e s m args below meth c s₁ B hml hv
  obtain ⟨rfl, hw, hσ⟩ := hv
  have hts := atoms_spec (ws := (ws_ yJ3_charAt cJ3_charAt 2 (Option.some Jvm.ClassFile.FieldType.char))) B.pre
  have C : CX p m meth c s ([.ref o, .int x1] : List Value).toArray cJ3_charAt 2 (Option.some Jvm.ClassFile.FieldType.char) RJ3 := ⟨⟨B.exec, B.bytes, hml, findClass_of_methodNamed B.named, fun w h => hts w (List.mem_cons_of_mem _ h)⟩, B.returns, B.notSynchronized⟩
  have e3 : σ.2 3 - σ.2 0 = g.2.2.1 3 - s.heap.size := by rw [hσ.1, hσ.2.2.2.1 3 (by decide)]
  have e4 : σ.2 4 - σ.2 1 = g.2.2.1 4 - hsl s.heap := by rw [hσ.2.1, hσ.2.2.2.1 4 (by decide)]
  have hR : RM g s (headSpec (ws_ yJ3_charAt cJ3_charAt 2 (Option.some Jvm.ClassFile.FieldType.char)) ({ frames := 4, cells := σ.2 3 - σ.2 0, slots := σ.2 4 - σ.2 1, locals := 107 })).room (4) (107) := ⟨⟨Nat.le_refl _, Nat.le_refl _⟩, Nat.le_of_eq e3.symm, Nat.le_of_eq e4.symm⟩
  generalize (headSpec (ws_ yJ3_charAt cJ3_charAt 2 (Option.some Jvm.ClassFile.FieldType.char)) ({ frames := 4, cells := σ.2 3 - σ.2 0, slots := σ.2 4 - σ.2 1, locals := 107 })).room = R at hR ⊢
  rw [e3, e4]
  have hI : CI g A s σ s.heap [] := ⟨hσ, va_S.rf, Nat.le_refl _⟩
  have hl := lv_entry ([.ref o, .int x1]) (n := 2) (Nat.le_of_ble_eq_true rfl)
  rw [lg_entry_eq]
  generalize (lg_sl ([.ref o, .int x1]) ++ List.replicate (2 - (lg_sl ([.ref o, .int x1])).length) Slot.unset).toArray = ls at hl ⊢
  have hl : lv_has ls 2 [(0, .ref o), (1, .int x1)] := hl
  obtain ⟨z, hz⟩ : ∃ z, z = (v, σ1) := ⟨_, rfl⟩
  rw [← hz] at h
  rw [show v = z.1 by rw [hz], show σ1 = z.2 by rw [hz]]
  clear hz v σ1
  refine W.narrow ?_
  unfold m_J3_charAt at h
  refine r_aload_n (x := some o) C.x C.b dJ3_charAt_0 rfl (lv_at hl 0 rfl) ?_
  refine lv_iload_n C.x C.b dJ3_charAt_1 rfl (lv_at hl 1 rfl) ?_
  refine cw_callSU (y := yJ2_charAt) (bytes := cJ2_charAt) (maxL := 5) (r := some o) (f := fun a_3 => m_J2_charAt a_3 x1 σ) 11 (fun v => some (.int v)) [.int x1] C hw hR hI hl.1 h (by decide) rfl (fun aa vv ss ee => k_J2_charAt l g A aa x1 σ vv ss ee) (va_cwSU 1 C.t (lw_app (mem5 q347 q2692 q229 q348 q129) (lw_meth q349)) rfl rfl rfl (by decide +kernel) ⟨Nat.le_trans (Nat.le_of_ble_eq_true rfl) hR.f, Nat.le_trans (Nat.le_of_ble_eq_true rfl) hR.lo⟩) rfl rfl (Nat.le_of_ble_eq_true rfl) dJ3_charAt_2 (fun v_1 σ_2 H locs h hI => ?_)
  exact cw_cret C hI h dJ3_charAt_5

theorem k_J3_append (l : Launch) (g : cG) (A : Nat → Prop) (o : Nat) (x1 : Int32) (σ : cS) (v : Option Nat) (σ1 : cS) (h : m_J3_append o x1 σ = some (v, σ1)) : Met l yJ3_append (ws_ yJ3_append cJ3_append 2 (Option.some (Jvm.ClassFile.FieldType.object "java/lang/StringBuilder"))) ({ frames := 5, cells := σ.2 3 - σ.2 0, slots := σ.2 4 - σ.2 1, locals := 133 }) (CPc g A [.ref o, .int x1] σ) (CQ g A (some (va_rf v)) σ1) (σ.2 3 - σ.2 0) (σ.2 4 - σ.2 1) A := by
  refine Met.ofW (cc := cJ3_append) (maxL := 2) (ret := (Option.some (Jvm.ClassFile.FieldType.object "java/lang/StringBuilder"))) (by decide) rfl ?_
  intro p e s m args below meth c s₁ B hml hv
  obtain ⟨rfl, hw, hσ⟩ := hv
  have hts := atoms_spec (ws := (ws_ yJ3_append cJ3_append 2 (Option.some (Jvm.ClassFile.FieldType.object "java/lang/StringBuilder")))) B.pre
  have C : CX p m meth c s ([.ref o, .int x1] : List Value).toArray cJ3_append 2 (Option.some (Jvm.ClassFile.FieldType.object "java/lang/StringBuilder")) RJ3 := ⟨⟨B.exec, B.bytes, hml, findClass_of_methodNamed B.named, fun w h => hts w (List.mem_cons_of_mem _ h)⟩, B.returns, B.notSynchronized⟩
  have e3 : σ.2 3 - σ.2 0 = g.2.2.1 3 - s.heap.size := by rw [hσ.1, hσ.2.2.2.1 3 (by decide)]
  have e4 : σ.2 4 - σ.2 1 = g.2.2.1 4 - hsl s.heap := by rw [hσ.2.1, hσ.2.2.2.1 4 (by decide)]
  have hR : RM g s (headSpec (ws_ yJ3_append cJ3_append 2 (Option.some (Jvm.ClassFile.FieldType.object "java/lang/StringBuilder"))) ({ frames := 5, cells := σ.2 3 - σ.2 0, slots := σ.2 4 - σ.2 1, locals := 133 })).room (5) (133) := ⟨⟨Nat.le_refl _, Nat.le_refl _⟩, Nat.le_of_eq e3.symm, Nat.le_of_eq e4.symm⟩
  generalize (headSpec (ws_ yJ3_append cJ3_append 2 (Option.some (Jvm.ClassFile.FieldType.object "java/lang/StringBuilder"))) ({ frames := 5, cells := σ.2 3 - σ.2 0, slots := σ.2 4 - σ.2 1, locals := 133 })).room = R at hR ⊢
  rw [e3, e4]
  have hI : CI g A s σ s.heap [] := ⟨hσ, va_S.rf, Nat.le_refl _⟩
  have hl := lv_entry ([.ref o, .int x1]) (n := 2) (Nat.le_of_ble_eq_true rfl)
  rw [lg_entry_eq]
  generalize (lg_sl ([.ref o, .int x1]) ++ List.replicate (2 - (lg_sl ([.ref o, .int x1])).length) Slot.unset).toArray = ls at hl ⊢
  have hl : lv_has ls 2 [(0, .ref o), (1, .int x1)] := hl
  obtain ⟨z, hz⟩ : ∃ z, z = (v, σ1) := ⟨_, rfl⟩
  rw [← hz] at h
  rw [show v = z.1 by rw [hz], show σ1 = z.2 by rw [hz]]
  clear hz v σ1
  refine W.narrow ?_
  unfold m_J3_append at h
  refine r_aload_n (x := some o) C.x C.b dJ3_append_0 rfl (lv_at hl 0 rfl) ?_
  refine lv_iload_n C.x C.b dJ3_append_1 rfl (lv_at hl 1 rfl) ?_
  refine cw_callSU (y := yJ2_append) (bytes := cJ2_append) (maxL := 4) (r := some o) (f := fun a_3 => m_J2_append a_3 x1 σ) 11 (fun v => some (va_rf v)) [.int x1] C hw hR hI hl.1 h (by decide) rfl (fun aa vv ss ee => k_J2_append l g A aa x1 σ vv ss ee) (va_cwSU 1 C.t (lw_app (mem5 q447 q2694 q229 q448 q129) (lw_meth q449)) rfl rfl rfl (by decide +kernel) ⟨Nat.le_trans (Nat.le_of_ble_eq_true rfl) hR.f, Nat.le_trans (Nat.le_of_ble_eq_true rfl) hR.lo⟩) rfl rfl (Nat.le_of_ble_eq_true rfl) dJ3_append_2 (fun v_1 σ_2 H locs h hI => ?_)
  refine lv_pop C.x C.b dJ3_append_5 (cat_rf _) ?_
  refine r_aload_n (x := some o) C.x C.b dJ3_append_6 rfl (lv_at hl 0 rfl) ?_
  exact cw_aret (x := some o) C (Or.inl ⟨_, rfl⟩) hI h dJ3_append_7

theorem k_J3_append_2 (l : Launch) (g : cG) (A : Nat → Prop) (o : Nat) (x1 : Option Nat) (σ : cS) (v : Option Nat) (σ1 : cS) (h : m_J3_append_2 o x1 σ = some (v, σ1)) : Met l yJ3_append_2 (ws_ yJ3_append_2 cJ3_append_2 2 (Option.some (Jvm.ClassFile.FieldType.object "java/lang/StringBuilder"))) ({ frames := 6, cells := σ.2 3 - σ.2 0, slots := σ.2 4 - σ.2 1, locals := 154 }) (CPc g A [.ref o, va_rf x1] σ) (CQ g A (some (va_rf v)) σ1) (σ.2 3 - σ.2 0) (σ.2 4 - σ.2 1) A := by
  refine Met.ofW (cc := cJ3_append_2) (maxL := 2) (ret := (Option.some (Jvm.ClassFile.FieldType.object "java/lang/StringBuilder"))) (by decide) rfl ?_
  intro p e s m args below meth c s₁ B hml hv
  obtain ⟨rfl, hw, hσ⟩ := hv
  have hts := atoms_spec (ws := (ws_ yJ3_append_2 cJ3_append_2 2 (Option.some (Jvm.ClassFile.FieldType.object "java/lang/StringBuilder")))) B.pre
  have C : CX p m meth c s ([.ref o, va_rf x1] : List Value).toArray cJ3_append_2 2 (Option.some (Jvm.ClassFile.FieldType.object "java/lang/StringBuilder")) RJ3 := ⟨⟨B.exec, B.bytes, hml, findClass_of_methodNamed B.named, fun w h => hts w (List.mem_cons_of_mem _ h)⟩, B.returns, B.notSynchronized⟩
  have e3 : σ.2 3 - σ.2 0 = g.2.2.1 3 - s.heap.size := by rw [hσ.1, hσ.2.2.2.1 3 (by decide)]
  have e4 : σ.2 4 - σ.2 1 = g.2.2.1 4 - hsl s.heap := by rw [hσ.2.1, hσ.2.2.2.1 4 (by decide)]
  have hR : RM g s (headSpec (ws_ yJ3_append_2 cJ3_append_2 2 (Option.some (Jvm.ClassFile.FieldType.object "java/lang/StringBuilder"))) ({ frames := 6, cells := σ.2 3 - σ.2 0, slots := σ.2 4 - σ.2 1, locals := 154 })).room (6) (154) := ⟨⟨Nat.le_refl _, Nat.le_refl _⟩, Nat.le_of_eq e3.symm, Nat.le_of_eq e4.symm⟩
  generalize (headSpec (ws_ yJ3_append_2 cJ3_append_2 2 (Option.some (Jvm.ClassFile.FieldType.object "java/lang/StringBuilder"))) ({ frames := 6, cells := σ.2 3 - σ.2 0, slots := σ.2 4 - σ.2 1, locals := 154 })).room = R at hR ⊢
  rw [e3, e4]
  have hI : CI g A s σ s.heap [] := ⟨hσ, va_S.rf, Nat.le_refl _⟩
  have hlen : (lg_sl ([.ref o, va_rf x1])).length ≤ 2 := by rcases x1 with _ | x1 <;> exact Nat.le_of_ble_eq_true rfl
  have hl := lv_entry ([.ref o, va_rf x1]) (n := 2) hlen
  rw [lg_entry_eq]
  generalize (lg_sl ([.ref o, va_rf x1]) ++ List.replicate (2 - (lg_sl ([.ref o, va_rf x1])).length) Slot.unset).toArray = ls at hl ⊢
  have hl : lv_has ls 2 [(0, .ref o), (1, va_rf x1)] := by clear hI hw h hσ e3 e4 hR C hts B; rcases x1 with _ | x1 <;> exact hl
  obtain ⟨z, hz⟩ : ∃ z, z = (v, σ1) := ⟨_, rfl⟩
  rw [← hz] at h
  rw [show v = z.1 by rw [hz], show σ1 = z.2 by rw [hz]]
  clear hz v σ1
  refine W.narrow ?_
  unfold m_J3_append_2 at h
  refine r_aload_n (x := some o) C.x C.b dJ3_append_2_0 rfl (lv_at hl 0 rfl) ?_
  refine r_aload_n (x := x1) C.x C.b dJ3_append_2_1 rfl (lv_at hl 1 rfl) ?_
  refine cw_callSU (y := yJ2_append_2) (bytes := cJ2_append_2) (maxL := 3) (r := some o) (f := fun a_3 => m_J2_append_2 a_3 x1 σ) 11 (fun v => some (va_rf v)) [va_rf x1] C hw hR hI hl.1 h (by decide) rfl (fun aa vv ss ee => k_J2_append_2 l g A aa x1 σ vv ss ee) (va_cwSU 1 C.t (lw_app (mem5 q518 q2697 q229 q519 q129) (lw_meth q520)) rfl rfl rfl (by decide +kernel) ⟨Nat.le_trans (Nat.le_of_ble_eq_true rfl) hR.f, Nat.le_trans (Nat.le_of_ble_eq_true rfl) hR.lo⟩) rfl rfl (Nat.le_of_ble_eq_true rfl) dJ3_append_2_2 (fun v_1 σ_2 H locs h hI => ?_)
  refine lv_pop C.x C.b dJ3_append_2_5 (cat_rf _) ?_
  refine r_aload_n (x := some o) C.x C.b dJ3_append_2_6 rfl (lv_at hl 0 rfl) ?_
  exact cw_aret (x := some o) C (Or.inl ⟨_, rfl⟩) hI h dJ3_append_2_7

theorem k_J3_length (l : Launch) (g : cG) (A : Nat → Prop) (o : Nat) (σ : cS) (v : Int32) (σ1 : cS) (h : m_J3_length o σ = some (v, σ1)) : Met l yJ3_length (ws_ yJ3_length cJ3_length 1 (Option.some Jvm.ClassFile.FieldType.int)) ({ frames := 2, cells := σ.2 3 - σ.2 0, slots := σ.2 4 - σ.2 1, locals := 60 }) (CPc g A [.ref o] σ) (CQ g A (some (.int v)) σ1) (σ.2 3 - σ.2 0) (σ.2 4 - σ.2 1) A := by
  refine Met.ofW (cc := cJ3_length) (maxL := 1) (ret := (Option.some Jvm.ClassFile.FieldType.int)) (by decide) rfl ?_
  intro p e s m args below meth c s₁ B hml hv
  obtain ⟨rfl, hw, hσ⟩ := hv
  have hts := atoms_spec (ws := (ws_ yJ3_length cJ3_length 1 (Option.some Jvm.ClassFile.FieldType.int))) B.pre
  have C : CX p m meth c s ([.ref o] : List Value).toArray cJ3_length 1 (Option.some Jvm.ClassFile.FieldType.int) RJ3 := ⟨⟨B.exec, B.bytes, hml, findClass_of_methodNamed B.named, fun w h => hts w (List.mem_cons_of_mem _ h)⟩, B.returns, B.notSynchronized⟩
  have e3 : σ.2 3 - σ.2 0 = g.2.2.1 3 - s.heap.size := by rw [hσ.1, hσ.2.2.2.1 3 (by decide)]
  have e4 : σ.2 4 - σ.2 1 = g.2.2.1 4 - hsl s.heap := by rw [hσ.2.1, hσ.2.2.2.1 4 (by decide)]
  have hR : RM g s (headSpec (ws_ yJ3_length cJ3_length 1 (Option.some Jvm.ClassFile.FieldType.int)) ({ frames := 2, cells := σ.2 3 - σ.2 0, slots := σ.2 4 - σ.2 1, locals := 60 })).room (2) (60) := ⟨⟨Nat.le_refl _, Nat.le_refl _⟩, Nat.le_of_eq e3.symm, Nat.le_of_eq e4.symm⟩
  generalize (headSpec (ws_ yJ3_length cJ3_length 1 (Option.some Jvm.ClassFile.FieldType.int)) ({ frames := 2, cells := σ.2 3 - σ.2 0, slots := σ.2 4 - σ.2 1, locals := 60 })).room = R at hR ⊢
  rw [e3, e4]
  have hI : CI g A s σ s.heap [] := ⟨hσ, va_S.rf, Nat.le_refl _⟩
  have hl := lv_entry ([.ref o]) (n := 1) (Nat.le_of_ble_eq_true rfl)
  rw [lg_entry_eq]
  generalize (lg_sl ([.ref o]) ++ List.replicate (1 - (lg_sl ([.ref o])).length) Slot.unset).toArray = ls at hl ⊢
  have hl : lv_has ls 1 [(0, .ref o)] := hl
  obtain ⟨z, hz⟩ : ∃ z, z = (v, σ1) := ⟨_, rfl⟩
  rw [← hz] at h
  rw [show v = z.1 by rw [hz], show σ1 = z.2 by rw [hz]]
  clear hz v σ1
  refine W.narrow ?_
  unfold m_J3_length at h
  refine r_aload_n (x := some o) C.x C.b dJ3_length_0 rfl (lv_at hl 0 rfl) ?_
  refine cw_callSU (y := yJ2_length) (bytes := cJ2_length) (maxL := 1) (r := some o) (f := fun a_3 => m_J2_length a_3 σ) 11 (fun v => some (.int v)) [] C hw hR hI hl.1 h (by decide) rfl (fun aa vv ss ee => k_J2_length l g A aa σ vv ss ee) (va_cwSU 0 C.t (lw_app (mem5 q586 q582 q229 q581 q129) (lw_meth q587)) rfl rfl rfl (by decide +kernel) ⟨Nat.le_trans (Nat.le_of_ble_eq_true rfl) hR.f, Nat.le_trans (Nat.le_of_ble_eq_true rfl) hR.lo⟩) rfl rfl (Nat.le_of_ble_eq_true rfl) dJ3_length_1 (fun v_1 σ_2 H locs h hI => ?_)
  exact cw_iret C hI h dJ3_length_4

end
