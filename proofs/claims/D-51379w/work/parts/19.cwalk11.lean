/-! THE CLASS' WALKS 11: printed by gencl.py -/
section
variable {p : Program} {l : Launch} {e : Env} {R : Room} {s : State} {m : MethodId} {args : Array Value} {below : List Frame} {meth : Method} {c : Code} {g : cG} {A : Nat → Prop}
set_option maxRecDepth 100000
theorem w_J4_substring_22 {z : Option Nat × cS} {o : Nat} (C : CX p m meth c s args cJ4_substring 5 (Option.some (Jvm.ClassFile.FieldType.object "java/lang/String")) RJ4) (hw : WKc g A s s.heap) (hR : RM g s R (5) (129))  : ∀ (x1 : Int32) (x2 : Int32) (σ : cS) (H : Heap) (locs : List Loc) (ls : Array Slot), b_J4_substring_22 o x1 x2 σ = some z → CI g A s σ H locs → lv_has ls 5 [(0, .ref o), (1, .int x1), (2, .int x2)] → W p l e R s m args below meth c H locs (H.size - s.heap.size) (hsl H - hsl s.heap) (MQ below (CQ g A (some (va_rf z.1)) z.2) args s (g.2.2.1 3 - s.heap.size) (g.2.2.1 4 - hsl s.heap) A) (F0 m 22 ls []) := by
  intro x1 x2 σ H locs ls h hI hl
  unfold b_J4_substring_22 at h
  refine lv_iload_n C.x C.b dJ4_substring_22 rfl (lv_at hl 2 rfl) ?_
  refine lv_iload_n C.x C.b dJ4_substring_23 rfl (lv_at hl 1 rfl) ?_
  refine lv_isub C.x C.b dJ4_substring_24 ?_
  refine tw_lt h (fun x4_1 h => ?_)
  refine lv_istore (i := 4) (lv' := [(4, .int x4_1), (0, .ref o), (1, .int x1), (2, .int x2)]) C.x C.b dJ4_substring_25 hl (by decide) rfl (fun ls hl => ?_)
  refine r_aload_n (x := some o) C.x C.b dJ4_substring_27 rfl (lv_at hl 1 rfl) ?_
  refine cw_callV (y := yJ4_isLatin1) (bytes := cJ4_isLatin1) (maxL := 1) (r := some o) (f := fun a_4 => m_J4_isLatin1 a_4 σ) 12 (fun v => some (.int v)) [] C hw hR hI hl.1 h (by decide) rfl (fun aa vv ss ee => k_J4_isLatin1 l g A aa σ vv ss ee) (cwV 0 C.t (lw_V q307 q308 q309 q131 q310) rfl rfl rfl (by decide +kernel) ⟨Nat.le_trans (Nat.le_of_ble_eq_true rfl) hR.f, Nat.le_trans (Nat.le_of_ble_eq_true rfl) hR.lo⟩) rfl rfl (Nat.le_of_ble_eq_true rfl) dJ4_substring_28 (fun v_2 σ_3 H locs h hI => ?_)
  refine lv_if_eq (tgt := 47) C.x C.b dJ4_substring_31 (by decide) (fun c_5 => ?_) (fun c_5 => ?_)
  · have h := ip c_5 h
    refine r_aload_n (x := some o) C.x C.b dJ4_substring_47 rfl (lv_at hl 1 rfl) ?_
    refine cw_gR (r := some o) 12 0 C hw hI h (by decide) rfl in_J4 (by decide) (C.t _ q600) (fun _ h9 => h9) dJ4_substring_48 (fun v_6 h => ?_)
    refine lv_iload_n C.x C.b dJ4_substring_51 rfl (lv_at hl 2 rfl) ?_
    refine lv_iload C.x C.b dJ4_substring_52 (lv_at hl 0 rfl) ?_
    cases h
  · have h := iN c_5 h
    refine r_aload_n (x := some o) C.x C.b dJ4_substring_34 rfl (lv_at hl 1 rfl) ?_
    refine cw_gR (r := some o) 12 0 C hw hI h (by decide) rfl in_J4 (by decide) (C.t _ q600) (fun _ h9 => h9) dJ4_substring_35 (fun v_7 h => ?_)
    refine lv_iload_n C.x C.b dJ4_substring_38 rfl (lv_at hl 2 rfl) ?_
    refine lv_iload C.x C.b dJ4_substring_39 (lv_at hl 0 rfl) ?_
    refine cw_callS (y := yJ6_newString) (bytes := cJ6_newString) (maxL := 3) (fun v => some (va_rf v)) [va_rf v_7, .int x1, .int x4_1] C hw hR hI hl.1 h (fun vv ss ee => k_J6_newString l g A v_7 x1 x4_1 σ_3 vv ss ee) (va_cwS 3 C.t (lw_S q381 q382 q134 q383) rfl rfl rfl (by decide +kernel) ⟨Nat.le_trans (Nat.le_of_ble_eq_true rfl) hR.f, Nat.le_trans (Nat.le_of_ble_eq_true rfl) hR.lo⟩) rfl rfl (Nat.le_of_ble_eq_true rfl) dJ4_substring_41 (fun v_8 σ_9 H locs h hI => ?_)
    refine lv_goto (tgt := 57) C.x C.b dJ4_substring_44 (by decide) ?_
    exact cw_aret (x := v_8) C (Or.inl ⟨_, rfl⟩) hI h dJ4_substring_57

theorem k_J4_substring (l : Launch) (g : cG) (A : Nat → Prop) (o : Nat) (x1 : Int32) (x2 : Int32) (σ : cS) (v : Option Nat) (σ1 : cS) (h : m_J4_substring o x1 x2 σ = some (v, σ1)) : Met l yJ4_substring (ws_ yJ4_substring cJ4_substring 5 (Option.some (Jvm.ClassFile.FieldType.object "java/lang/String"))) ({ frames := 5, cells := σ.2 3 - σ.2 0, slots := σ.2 4 - σ.2 1, locals := 129 }) (CPc g A [.ref o, .int x1, .int x2] σ) (CQ g A (some (va_rf v)) σ1) (σ.2 3 - σ.2 0) (σ.2 4 - σ.2 1) A := by
  refine Met.ofW (cc := cJ4_substring) (maxL := 5) (ret := (Option.some (Jvm.ClassFile.FieldType.object "java/lang/String"))) (by decide) rfl ?_
  intro p e s m args below meth c s₁ B hml hv
  obtain ⟨rfl, hw, hσ⟩ := hv
  have hts := atoms_spec (ws := (ws_ yJ4_substring cJ4_substring 5 (Option.some (Jvm.ClassFile.FieldType.object "java/lang/String")))) B.pre
  have C : CX p m meth c s ([.ref o, .int x1, .int x2] : List Value).toArray cJ4_substring 5 (Option.some (Jvm.ClassFile.FieldType.object "java/lang/String")) RJ4 := ⟨⟨B.exec, B.bytes, hml, findClass_of_methodNamed B.named, fun w h => hts w (List.mem_cons_of_mem _ h)⟩, B.returns, B.notSynchronized⟩
  have e3 : σ.2 3 - σ.2 0 = g.2.2.1 3 - s.heap.size := by rw [hσ.1, hσ.2.2.2.1 3 (by decide)]
  have e4 : σ.2 4 - σ.2 1 = g.2.2.1 4 - hsl s.heap := by rw [hσ.2.1, hσ.2.2.2.1 4 (by decide)]
  have hR : RM g s (headSpec (ws_ yJ4_substring cJ4_substring 5 (Option.some (Jvm.ClassFile.FieldType.object "java/lang/String"))) ({ frames := 5, cells := σ.2 3 - σ.2 0, slots := σ.2 4 - σ.2 1, locals := 129 })).room (5) (129) := ⟨⟨Nat.le_refl _, Nat.le_refl _⟩, Nat.le_of_eq e3.symm, Nat.le_of_eq e4.symm⟩
  generalize (headSpec (ws_ yJ4_substring cJ4_substring 5 (Option.some (Jvm.ClassFile.FieldType.object "java/lang/String"))) ({ frames := 5, cells := σ.2 3 - σ.2 0, slots := σ.2 4 - σ.2 1, locals := 129 })).room = R at hR ⊢
  rw [e3, e4]
  have hI : CI g A s σ s.heap [] := ⟨hσ, va_S.rf, Nat.le_refl _⟩
  have hl := lv_entry ([.ref o, .int x1, .int x2]) (n := 5) (Nat.le_of_ble_eq_true rfl)
  rw [lg_entry_eq]
  generalize (lg_sl ([.ref o, .int x1, .int x2]) ++ List.replicate (5 - (lg_sl ([.ref o, .int x1, .int x2])).length) Slot.unset).toArray = ls at hl ⊢
  have hl : lv_has ls 5 [(0, .ref o), (1, .int x1), (2, .int x2)] := hl
  obtain ⟨z, hz⟩ : ∃ z, z = (v, σ1) := ⟨_, rfl⟩
  rw [← hz] at h
  rw [show v = z.1 by rw [hz], show σ1 = z.2 by rw [hz]]
  clear hz v σ1
  refine W.narrow ?_
  unfold m_J4_substring at h
  refine r_aload_n (x := some o) C.x C.b dJ4_substring_0 rfl (lv_at hl 0 rfl) ?_
  refine cw_callV (y := yJ4_length) (bytes := cJ4_length) (maxL := 1) (r := some o) (f := fun a_3 => m_J4_length a_3 σ) 12 (fun v => some (.int v)) [] C hw hR hI hl.1 h (by decide) rfl (fun aa vv ss ee => k_J4_length l g A aa σ vv ss ee) (cwV 0 C.t (lw_V q374 q245 q246 q131 q247) rfl rfl rfl (by decide +kernel) ⟨Nat.le_trans (Nat.le_of_ble_eq_true rfl) hR.f, Nat.le_trans (Nat.le_of_ble_eq_true rfl) hR.lo⟩) rfl rfl (Nat.le_of_ble_eq_true rfl) dJ4_substring_1 (fun v_1 σ_2 H locs h hI => ?_)
  refine lv_istore_n (i := 3) (lv' := [(3, .int v_1), (0, .ref o), (1, .int x1), (2, .int x2)]) C.x C.b dJ4_substring_4 rfl hl (by decide) rfl (fun ls hl => ?_)
  refine lv_iload_n C.x C.b dJ4_substring_5 rfl (lv_at hl 2 rfl) ?_
  refine lv_iload_n C.x C.b dJ4_substring_6 rfl (lv_at hl 3 rfl) ?_
  refine lv_iload_n C.x C.b dJ4_substring_7 rfl (lv_at hl 0 rfl) ?_
  refine cw_callS (y := yJ4_checkBoundsBeginEnd) (bytes := cJ4_checkBoundsBeginEnd) (maxL := 3) (fun _ => none) [.int x1, .int x2, .int v_1] C hw hR hI hl.1 h (fun vv ss ee => k_J4_checkBoundsBeginEnd l g A x1 x2 v_1 σ_2 vv ss ee) (va_cwS 3 C.t (lw_S q375 q376 q131 q377) rfl rfl rfl (by decide +kernel) ⟨Nat.le_trans (Nat.le_of_ble_eq_true rfl) hR.f, Nat.le_trans (Nat.le_of_ble_eq_true rfl) hR.lo⟩) rfl rfl (Nat.le_of_ble_eq_true rfl) dJ4_substring_8 (fun _ σ_4 H locs h hI => ?_)
  refine lv_iload_n C.x C.b dJ4_substring_11 rfl (lv_at hl 2 rfl) ?_
  refine lv_if_ne (tgt := 22) C.x C.b dJ4_substring_12 (by decide) (fun c_5 => ?_) (fun c_5 => ?_)
  · have h := iN c_5 h
    exact w_J4_substring_22 C hw hR x1 x2 _ _ _ _ h hI (lv_sub hl [1, 2, 3] rfl)
  · have h := ip c_5 h
    refine lv_iload_n C.x C.b dJ4_substring_15 rfl (lv_at hl 3 rfl) ?_
    refine lv_iload_n C.x C.b dJ4_substring_16 rfl (lv_at hl 0 rfl) ?_
    refine lv_icmp_ne (tgt := 22) C.x C.b dJ4_substring_17 (by decide) (fun c_6 => ?_) (fun c_6 => ?_)
    · have h := iN c_6 h
      exact w_J4_substring_22 C hw hR x1 x2 _ _ _ _ h hI (lv_sub hl [1, 2, 3] rfl)
    · have h := ip c_6 h
      refine r_aload_n (x := some o) C.x C.b dJ4_substring_20 rfl (lv_at hl 1 rfl) ?_
      exact cw_aret (x := some o) C (Or.inl ⟨_, rfl⟩) hI h dJ4_substring_21

theorem k_J4_subSequence (l : Launch) (g : cG) (A : Nat → Prop) (o : Nat) (x1 : Int32) (x2 : Int32) (σ : cS) (v : Option Nat) (σ1 : cS) (h : m_J4_subSequence o x1 x2 σ = some (v, σ1)) : Met l yJ4_subSequence (ws_ yJ4_subSequence cJ4_subSequence 3 (Option.some (Jvm.ClassFile.FieldType.object "java/lang/CharSequence"))) ({ frames := 6, cells := σ.2 3 - σ.2 0, slots := σ.2 4 - σ.2 1, locals := 153 }) (CPc g A [.ref o, .int x1, .int x2] σ) (CQ g A (some (va_rf v)) σ1) (σ.2 3 - σ.2 0) (σ.2 4 - σ.2 1) A := by
  refine Met.ofW (cc := cJ4_subSequence) (maxL := 3) (ret := (Option.some (Jvm.ClassFile.FieldType.object "java/lang/CharSequence"))) (by decide) rfl ?_
  intro p e s m args below meth c s₁ B hml hv
  obtain ⟨rfl, hw, hσ⟩ := hv
  have hts := atoms_spec (ws := (ws_ yJ4_subSequence cJ4_subSequence 3 (Option.some (Jvm.ClassFile.FieldType.object "java/lang/CharSequence")))) B.pre
  have C : CX p m meth c s ([.ref o, .int x1, .int x2] : List Value).toArray cJ4_subSequence 3 (Option.some (Jvm.ClassFile.FieldType.object "java/lang/CharSequence")) RJ4 := ⟨⟨B.exec, B.bytes, hml, findClass_of_methodNamed B.named, fun w h => hts w (List.mem_cons_of_mem _ h)⟩, B.returns, B.notSynchronized⟩
  have e3 : σ.2 3 - σ.2 0 = g.2.2.1 3 - s.heap.size := by rw [hσ.1, hσ.2.2.2.1 3 (by decide)]
  have e4 : σ.2 4 - σ.2 1 = g.2.2.1 4 - hsl s.heap := by rw [hσ.2.1, hσ.2.2.2.1 4 (by decide)]
  have hR : RM g s (headSpec (ws_ yJ4_subSequence cJ4_subSequence 3 (Option.some (Jvm.ClassFile.FieldType.object "java/lang/CharSequence"))) ({ frames := 6, cells := σ.2 3 - σ.2 0, slots := σ.2 4 - σ.2 1, locals := 153 })).room (6) (153) := ⟨⟨Nat.le_refl _, Nat.le_refl _⟩, Nat.le_of_eq e3.symm, Nat.le_of_eq e4.symm⟩
  generalize (headSpec (ws_ yJ4_subSequence cJ4_subSequence 3 (Option.some (Jvm.ClassFile.FieldType.object "java/lang/CharSequence"))) ({ frames := 6, cells := σ.2 3 - σ.2 0, slots := σ.2 4 - σ.2 1, locals := 153 })).room = R at hR ⊢
  rw [e3, e4]
  have hI : CI g A s σ s.heap [] := ⟨hσ, va_S.rf, Nat.le_refl _⟩
  have hl := lv_entry ([.ref o, .int x1, .int x2]) (n := 3) (Nat.le_of_ble_eq_true rfl)
  rw [lg_entry_eq]
  generalize (lg_sl ([.ref o, .int x1, .int x2]) ++ List.replicate (3 - (lg_sl ([.ref o, .int x1, .int x2])).length) Slot.unset).toArray = ls at hl ⊢
  have hl : lv_has ls 3 [(0, .ref o), (1, .int x1), (2, .int x2)] := hl
  obtain ⟨z, hz⟩ : ∃ z, z = (v, σ1) := ⟨_, rfl⟩
  rw [← hz] at h
  rw [show v = z.1 by rw [hz], show σ1 = z.2 by rw [hz]]
  clear hz v σ1
  refine W.narrow ?_
  unfold m_J4_subSequence at h
  refine r_aload_n (x := some o) C.x C.b dJ4_subSequence_0 rfl (lv_at hl 0 rfl) ?_
  refine lv_iload_n C.x C.b dJ4_subSequence_1 rfl (lv_at hl 1 rfl) ?_
  refine lv_iload_n C.x C.b dJ4_subSequence_2 rfl (lv_at hl 2 rfl) ?_
  refine cw_callV (y := yJ4_substring) (bytes := cJ4_substring) (maxL := 5) (r := some o) (f := fun a_3 => m_J4_substring a_3 x1 x2 σ) 12 (fun v => some (va_rf v)) [.int x1, .int x2] C hw hR hI hl.1 h (by decide) rfl (fun aa vv ss ee => k_J4_substring l g A aa x1 x2 σ vv ss ee) (cwV 2 C.t (lw_V q370 q371 q372 q131 q373) rfl rfl rfl (by decide +kernel) ⟨Nat.le_trans (Nat.le_of_ble_eq_true rfl) hR.f, Nat.le_trans (Nat.le_of_ble_eq_true rfl) hR.lo⟩) rfl rfl (Nat.le_of_ble_eq_true rfl) dJ4_subSequence_3 (fun v_1 σ_2 H locs h hI => ?_)
  exact cw_aret (x := v_1) C (Or.inl ⟨_, rfl⟩) hI h dJ4_subSequence_6

theorem w_J7_checkFromIndexSize_15 {z : Int32 × cS} (C : CX p m meth c s args cJ7_checkFromIndexSize 4 (Option.some Jvm.ClassFile.FieldType.int) RJ7) (hw : WKc g A s s.heap) (hR : RM g s R (1) (40))  : ∀ (x0 : Int32) (x1 : Int32) (x2 : Int32) (x3 : Option Nat) (σ : cS) (H : Heap) (locs : List Loc) (ls : Array Slot), b_J7_checkFromIndexSize_15 x0 x1 x2 x3 σ = some z → CI g A s σ H locs → lv_has ls 4 [(0, .int x0), (1, .int x1), (2, .int x2), (3, va_rf x3)] → W p l e R s m args below meth c H locs (H.size - s.heap.size) (hsl H - hsl s.heap) (MQ below (CQ g A (some (.int z.1)) z.2) args s (g.2.2.1 3 - s.heap.size) (g.2.2.1 4 - hsl s.heap) A) (F0 m 15 ls []) := by
  intro x0 x1 x2 x3 σ H locs ls h hI hl
  unfold b_J7_checkFromIndexSize_15 at h
  refine r_aload_n (x := x3) C.x C.b dJ7_checkFromIndexSize_15 rfl (lv_at hl 3 rfl) ?_
  refine lv_iload_n C.x C.b dJ7_checkFromIndexSize_16 rfl (lv_at hl 0 rfl) ?_
  refine lv_iload_n C.x C.b dJ7_checkFromIndexSize_17 rfl (lv_at hl 1 rfl) ?_
  refine lv_iload_n C.x C.b dJ7_checkFromIndexSize_18 rfl (lv_at hl 2 rfl) ?_
  cases h

theorem k_J7_checkFromIndexSize (l : Launch) (g : cG) (A : Nat → Prop) (x0 : Int32) (x1 : Int32) (x2 : Int32) (x3 : Option Nat) (σ : cS) (v : Int32) (σ1 : cS) (h : m_J7_checkFromIndexSize x0 x1 x2 x3 σ = some (v, σ1)) : Met l yJ7_checkFromIndexSize (ws_ yJ7_checkFromIndexSize cJ7_checkFromIndexSize 4 (Option.some Jvm.ClassFile.FieldType.int)) ({ frames := 1, cells := σ.2 3 - σ.2 0, slots := σ.2 4 - σ.2 1, locals := 40 }) (CPc g A [.int x0, .int x1, .int x2, va_rf x3] σ) (CQ g A (some (.int v)) σ1) (σ.2 3 - σ.2 0) (σ.2 4 - σ.2 1) A := by
  refine Met.ofW (cc := cJ7_checkFromIndexSize) (maxL := 4) (ret := (Option.some Jvm.ClassFile.FieldType.int)) (by decide) rfl ?_
  intro p e s m args below meth c s₁ B hml hv
  obtain ⟨rfl, hw, hσ⟩ := hv
  have hts := atoms_spec (ws := (ws_ yJ7_checkFromIndexSize cJ7_checkFromIndexSize 4 (Option.some Jvm.ClassFile.FieldType.int))) B.pre
  have C : CX p m meth c s ([.int x0, .int x1, .int x2, va_rf x3] : List Value).toArray cJ7_checkFromIndexSize 4 (Option.some Jvm.ClassFile.FieldType.int) RJ7 := ⟨⟨B.exec, B.bytes, hml, findClass_of_methodNamed B.named, fun w h => hts w (List.mem_cons_of_mem _ h)⟩, B.returns, B.notSynchronized⟩
  have e3 : σ.2 3 - σ.2 0 = g.2.2.1 3 - s.heap.size := by rw [hσ.1, hσ.2.2.2.1 3 (by decide)]
  have e4 : σ.2 4 - σ.2 1 = g.2.2.1 4 - hsl s.heap := by rw [hσ.2.1, hσ.2.2.2.1 4 (by decide)]
  have hR : RM g s (headSpec (ws_ yJ7_checkFromIndexSize cJ7_checkFromIndexSize 4 (Option.some Jvm.ClassFile.FieldType.int)) ({ frames := 1, cells := σ.2 3 - σ.2 0, slots := σ.2 4 - σ.2 1, locals := 40 })).room (1) (40) := ⟨⟨Nat.le_refl _, Nat.le_refl _⟩, Nat.le_of_eq e3.symm, Nat.le_of_eq e4.symm⟩
  generalize (headSpec (ws_ yJ7_checkFromIndexSize cJ7_checkFromIndexSize 4 (Option.some Jvm.ClassFile.FieldType.int)) ({ frames := 1, cells := σ.2 3 - σ.2 0, slots := σ.2 4 - σ.2 1, locals := 40 })).room = R at hR ⊢
  rw [e3, e4]
  have hI : CI g A s σ s.heap [] := ⟨hσ, va_S.rf, Nat.le_refl _⟩
  have hlen : (lg_sl ([.int x0, .int x1, .int x2, va_rf x3])).length ≤ 4 := by rcases x3 with _ | x3 <;> exact Nat.le_of_ble_eq_true rfl
  have hl := lv_entry ([.int x0, .int x1, .int x2, va_rf x3]) (n := 4) hlen
  rw [lg_entry_eq]
  generalize (lg_sl ([.int x0, .int x1, .int x2, va_rf x3]) ++ List.replicate (4 - (lg_sl ([.int x0, .int x1, .int x2, va_rf x3])).length) Slot.unset).toArray = ls at hl ⊢
  have hl : lv_has ls 4 [(0, .int x0), (1, .int x1), (2, .int x2), (3, va_rf x3)] := by clear hI hw h hσ e3 e4 hR C hts B; rcases x3 with _ | x3 <;> exact hl
  obtain ⟨z, hz⟩ : ∃ z, z = (v, σ1) := ⟨_, rfl⟩
  rw [← hz] at h
  rw [show v = z.1 by rw [hz], show σ1 = z.2 by rw [hz]]
  clear hz v σ1
  refine W.narrow ?_
  unfold m_J7_checkFromIndexSize at h
  refine lv_iload_n C.x C.b dJ7_checkFromIndexSize_0 rfl (lv_at hl 2 rfl) ?_
  refine lv_iload_n C.x C.b dJ7_checkFromIndexSize_1 rfl (lv_at hl 0 rfl) ?_
  refine lv_ior C.x C.b dJ7_checkFromIndexSize_2 ?_
  refine lv_iload_n C.x C.b dJ7_checkFromIndexSize_3 rfl (lv_at hl 1 rfl) ?_
  refine lv_ior C.x C.b dJ7_checkFromIndexSize_4 ?_
  refine lv_if_lt (tgt := 15) C.x C.b dJ7_checkFromIndexSize_5 (by decide) (fun c_1 => ?_) (fun c_1 => ?_)
  · have h := ip c_1 h
    exact w_J7_checkFromIndexSize_15 C hw hR x0 x1 x2 x3 _ _ _ _ h hI (lv_sub hl [0, 1, 2, 3] rfl)
  · have h := iN c_1 h
    refine lv_iload_n C.x C.b dJ7_checkFromIndexSize_8 rfl (lv_at hl 1 rfl) ?_
    refine lv_iload_n C.x C.b dJ7_checkFromIndexSize_9 rfl (lv_at hl 2 rfl) ?_
    refine lv_iload_n C.x C.b dJ7_checkFromIndexSize_10 rfl (lv_at hl 0 rfl) ?_
    refine lv_isub C.x C.b dJ7_checkFromIndexSize_11 ?_
    refine lv_icmp_le (tgt := 23) C.x C.b dJ7_checkFromIndexSize_12 (by decide) (fun c_2 => ?_) (fun c_2 => ?_)
    · have h := ip c_2 h
      refine lv_iload_n C.x C.b dJ7_checkFromIndexSize_23 rfl (lv_at hl 0 rfl) ?_
      exact cw_iret C hI h dJ7_checkFromIndexSize_24
    · have h := iN c_2 h
      exact w_J7_checkFromIndexSize_15 C hw hR x0 x1 x2 x3 _ _ _ _ h hI (lv_sub hl [0, 1, 2, 3] rfl)

theorem k_J4_checkBoundsOffCount (l : Launch) (g : cG) (A : Nat → Prop) (x0 : Int32) (x1 : Int32) (x2 : Int32) (σ : cS) (v : Int32) (σ1 : cS) (h : m_J4_checkBoundsOffCount x0 x1 x2 σ = some (v, σ1)) : Met l yJ4_checkBoundsOffCount (ws_ yJ4_checkBoundsOffCount cJ4_checkBoundsOffCount 3 (Option.some Jvm.ClassFile.FieldType.int)) ({ frames := 2, cells := σ.2 3 - σ.2 0, slots := σ.2 4 - σ.2 1, locals := 63 }) (CPc g A [.int x0, .int x1, .int x2] σ) (CQ g A (some (.int v)) σ1) (σ.2 3 - σ.2 0) (σ.2 4 - σ.2 1) A := by
  refine Met.ofW (cc := cJ4_checkBoundsOffCount) (maxL := 3) (ret := (Option.some Jvm.ClassFile.FieldType.int)) (by decide) rfl ?_
  intro p e s m args below meth c s₁ B hml hv
  obtain ⟨rfl, hw, hσ⟩ := hv
  have hts := atoms_spec (ws := (ws_ yJ4_checkBoundsOffCount cJ4_checkBoundsOffCount 3 (Option.some Jvm.ClassFile.FieldType.int))) B.pre
  have C : CX p m meth c s ([.int x0, .int x1, .int x2] : List Value).toArray cJ4_checkBoundsOffCount 3 (Option.some Jvm.ClassFile.FieldType.int) RJ4 := ⟨⟨B.exec, B.bytes, hml, findClass_of_methodNamed B.named, fun w h => hts w (List.mem_cons_of_mem _ h)⟩, B.returns, B.notSynchronized⟩
  have e3 : σ.2 3 - σ.2 0 = g.2.2.1 3 - s.heap.size := by rw [hσ.1, hσ.2.2.2.1 3 (by decide)]
  have e4 : σ.2 4 - σ.2 1 = g.2.2.1 4 - hsl s.heap := by rw [hσ.2.1, hσ.2.2.2.1 4 (by decide)]
  have hR : RM g s (headSpec (ws_ yJ4_checkBoundsOffCount cJ4_checkBoundsOffCount 3 (Option.some Jvm.ClassFile.FieldType.int)) ({ frames := 2, cells := σ.2 3 - σ.2 0, slots := σ.2 4 - σ.2 1, locals := 63 })).room (2) (63) := ⟨⟨Nat.le_refl _, Nat.le_refl _⟩, Nat.le_of_eq e3.symm, Nat.le_of_eq e4.symm⟩
  generalize (headSpec (ws_ yJ4_checkBoundsOffCount cJ4_checkBoundsOffCount 3 (Option.some Jvm.ClassFile.FieldType.int)) ({ frames := 2, cells := σ.2 3 - σ.2 0, slots := σ.2 4 - σ.2 1, locals := 63 })).room = R at hR ⊢
  rw [e3, e4]
  have hI : CI g A s σ s.heap [] := ⟨hσ, va_S.rf, Nat.le_refl _⟩
  have hl := lv_entry ([.int x0, .int x1, .int x2]) (n := 3) (Nat.le_of_ble_eq_true rfl)
  rw [lg_entry_eq]
  generalize (lg_sl ([.int x0, .int x1, .int x2]) ++ List.replicate (3 - (lg_sl ([.int x0, .int x1, .int x2])).length) Slot.unset).toArray = ls at hl ⊢
  have hl : lv_has ls 3 [(0, .int x0), (1, .int x1), (2, .int x2)] := hl
  obtain ⟨z, hz⟩ : ∃ z, z = (v, σ1) := ⟨_, rfl⟩
  rw [← hz] at h
  rw [show v = z.1 by rw [hz], show σ1 = z.2 by rw [hz]]
  clear hz v σ1
  refine W.narrow ?_
  unfold m_J4_checkBoundsOffCount at h
  refine lv_iload_n C.x C.b dJ4_checkBoundsOffCount_0 rfl (lv_at hl 0 rfl) ?_
  refine lv_iload_n C.x C.b dJ4_checkBoundsOffCount_1 rfl (lv_at hl 1 rfl) ?_
  refine lv_iload_n C.x C.b dJ4_checkBoundsOffCount_2 rfl (lv_at hl 2 rfl) ?_
  refine cw_gstF (ref := "") C hw hI q317 dJ4_checkBoundsOffCount_3 ?_
  refine cw_callS (y := yJ7_checkFromIndexSize) (bytes := cJ7_checkFromIndexSize) (maxL := 4) (fun v => some (.int v)) [.int x0, .int x1, .int x2, va_rf (opk (σ.2 9))] C hw hR hI hl.1 h (fun vv ss ee => k_J7_checkFromIndexSize l g A x0 x1 x2 (opk (σ.2 9)) σ vv ss ee) (va_cwS 4 C.t (lw_S q554 q555 q135 q556) rfl rfl rfl (by decide +kernel) ⟨Nat.le_trans (Nat.le_of_ble_eq_true rfl) hR.f, Nat.le_trans (Nat.le_of_ble_eq_true rfl) hR.lo⟩) rfl rfl (Nat.le_of_ble_eq_true rfl) dJ4_checkBoundsOffCount_6 (fun v_1 σ_2 H locs h hI => ?_)
  exact cw_iret C hI h dJ4_checkBoundsOffCount_9

theorem k_J4_toString (l : Launch) (g : cG) (A : Nat → Prop) (o : Nat) (σ : cS) (v : Option Nat) (σ1 : cS) (h : m_J4_toString o σ = some (v, σ1)) : Met l yJ4_toString (ws_ yJ4_toString cJ4_toString 1 (Option.some (Jvm.ClassFile.FieldType.object "java/lang/String"))) ({ frames := 1, cells := σ.2 3 - σ.2 0, slots := σ.2 4 - σ.2 1, locals := 40 }) (CPc g A [.ref o] σ) (CQ g A (some (va_rf v)) σ1) (σ.2 3 - σ.2 0) (σ.2 4 - σ.2 1) A := by
  refine Met.ofW (cc := cJ4_toString) (maxL := 1) (ret := (Option.some (Jvm.ClassFile.FieldType.object "java/lang/String"))) (by decide) rfl ?_
  intro p e s m args below meth c s₁ B hml hv
  obtain ⟨rfl, hw, hσ⟩ := hv
  have hts := atoms_spec (ws := (ws_ yJ4_toString cJ4_toString 1 (Option.some (Jvm.ClassFile.FieldType.object "java/lang/String")))) B.pre
  have C : CX p m meth c s ([.ref o] : List Value).toArray cJ4_toString 1 (Option.some (Jvm.ClassFile.FieldType.object "java/lang/String")) RJ4 := ⟨⟨B.exec, B.bytes, hml, findClass_of_methodNamed B.named, fun w h => hts w (List.mem_cons_of_mem _ h)⟩, B.returns, B.notSynchronized⟩
  have e3 : σ.2 3 - σ.2 0 = g.2.2.1 3 - s.heap.size := by rw [hσ.1, hσ.2.2.2.1 3 (by decide)]
  have e4 : σ.2 4 - σ.2 1 = g.2.2.1 4 - hsl s.heap := by rw [hσ.2.1, hσ.2.2.2.1 4 (by decide)]
  have hR : RM g s (headSpec (ws_ yJ4_toString cJ4_toString 1 (Option.some (Jvm.ClassFile.FieldType.object "java/lang/String"))) ({ frames := 1, cells := σ.2 3 - σ.2 0, slots := σ.2 4 - σ.2 1, locals := 40 })).room (1) (40) := ⟨⟨Nat.le_refl _, Nat.le_refl _⟩, Nat.le_of_eq e3.symm, Nat.le_of_eq e4.symm⟩
  generalize (headSpec (ws_ yJ4_toString cJ4_toString 1 (Option.some (Jvm.ClassFile.FieldType.object "java/lang/String"))) ({ frames := 1, cells := σ.2 3 - σ.2 0, slots := σ.2 4 - σ.2 1, locals := 40 })).room = R at hR ⊢
  rw [e3, e4]
  have hI : CI g A s σ s.heap [] := ⟨hσ, va_S.rf, Nat.le_refl _⟩
  have hl := lv_entry ([.ref o]) (n := 1) (Nat.le_of_ble_eq_true rfl)
  rw [lg_entry_eq]
  generalize (lg_sl ([.ref o]) ++ List.replicate (1 - (lg_sl ([.ref o])).length) Slot.unset).toArray = ls at hl ⊢
  have hl : lv_has ls 1 [(0, .ref o)] := hl
  obtain ⟨z, hz⟩ : ∃ z, z = (v, σ1) := ⟨_, rfl⟩
  rw [← hz] at h
  rw [show v = z.1 by rw [hz], show σ1 = z.2 by rw [hz]]
  clear hz v σ1
  refine W.narrow ?_
  unfold m_J4_toString at h
  refine r_aload_n (x := some o) C.x C.b dJ4_toString_0 rfl (lv_at hl 0 rfl) ?_
  exact cw_aret (x := some o) C (Or.inl ⟨_, rfl⟩) hI h dJ4_toString_1

theorem k_J6_canEncode (l : Launch) (g : cG) (A : Nat → Prop) (x0 : Int32) (σ : cS) (v : Int32) (σ1 : cS) (h : m_J6_canEncode x0 σ = some (v, σ1)) : Met l yJ6_canEncode (ws_ yJ6_canEncode cJ6_canEncode 1 (Option.some Jvm.ClassFile.FieldType.boolean)) ({ frames := 1, cells := σ.2 3 - σ.2 0, slots := σ.2 4 - σ.2 1, locals := 40 }) (CPc g A [.int x0] σ) (CQ g A (some (.int v)) σ1) (σ.2 3 - σ.2 0) (σ.2 4 - σ.2 1) A := by
  refine Met.ofW (cc := cJ6_canEncode) (maxL := 1) (ret := (Option.some Jvm.ClassFile.FieldType.boolean)) (by decide) rfl ?_
  intro p e s m args below meth c s₁ B hml hv
  obtain ⟨rfl, hw, hσ⟩ := hv
  have hts := atoms_spec (ws := (ws_ yJ6_canEncode cJ6_canEncode 1 (Option.some Jvm.ClassFile.FieldType.boolean))) B.pre
  have C : CX p m meth c s ([.int x0] : List Value).toArray cJ6_canEncode 1 (Option.some Jvm.ClassFile.FieldType.boolean) RJ6 := ⟨⟨B.exec, B.bytes, hml, findClass_of_methodNamed B.named, fun w h => hts w (List.mem_cons_of_mem _ h)⟩, B.returns, B.notSynchronized⟩
  have e3 : σ.2 3 - σ.2 0 = g.2.2.1 3 - s.heap.size := by rw [hσ.1, hσ.2.2.2.1 3 (by decide)]
  have e4 : σ.2 4 - σ.2 1 = g.2.2.1 4 - hsl s.heap := by rw [hσ.2.1, hσ.2.2.2.1 4 (by decide)]
  have hR : RM g s (headSpec (ws_ yJ6_canEncode cJ6_canEncode 1 (Option.some Jvm.ClassFile.FieldType.boolean)) ({ frames := 1, cells := σ.2 3 - σ.2 0, slots := σ.2 4 - σ.2 1, locals := 40 })).room (1) (40) := ⟨⟨Nat.le_refl _, Nat.le_refl _⟩, Nat.le_of_eq e3.symm, Nat.le_of_eq e4.symm⟩
  generalize (headSpec (ws_ yJ6_canEncode cJ6_canEncode 1 (Option.some Jvm.ClassFile.FieldType.boolean)) ({ frames := 1, cells := σ.2 3 - σ.2 0, slots := σ.2 4 - σ.2 1, locals := 40 })).room = R at hR ⊢
  rw [e3, e4]
  have hI : CI g A s σ s.heap [] := ⟨hσ, va_S.rf, Nat.le_refl _⟩
  have hl := lv_entry ([.int x0]) (n := 1) (Nat.le_of_ble_eq_true rfl)
  rw [lg_entry_eq]
  generalize (lg_sl ([.int x0]) ++ List.replicate (1 - (lg_sl ([.int x0])).length) Slot.unset).toArray = ls at hl ⊢
  have hl : lv_has ls 1 [(0, .int x0)] := hl
  obtain ⟨z, hz⟩ : ∃ z, z = (v, σ1) := ⟨_, rfl⟩
  rw [← hz] at h
  rw [show v = z.1 by rw [hz], show σ1 = z.2 by rw [hz]]
  clear hz v σ1
  refine W.narrow ?_
  unfold m_J6_canEncode at h
  refine lv_iload_n C.x C.b dJ6_canEncode_0 rfl (lv_at hl 0 rfl) ?_
  refine lv_if_lt (tgt := 15) C.x C.b dJ6_canEncode_1 (by decide) (fun c_1 => ?_) (fun c_1 => ?_)
  · have h := ip c_1 h
    refine lv_iconst (v := 0) C.x C.b dJ6_canEncode_15 (by decide) ?_
    exact cw_zret C hI h dJ6_canEncode_16
  · have h := iN c_1 h
    refine lv_iload_n C.x C.b dJ6_canEncode_4 rfl (lv_at hl 0 rfl) ?_
    refine lv_sipush (v := 255) C.x C.b dJ6_canEncode_5 (by decide) ?_
    refine lv_icmp_gt (tgt := 15) C.x C.b dJ6_canEncode_8 (by decide) (fun c_2 => ?_) (fun c_2 => ?_)
    · have h := ip c_2 h
      refine lv_iconst (v := 0) C.x C.b dJ6_canEncode_15 (by decide) ?_
      exact cw_zret C hI h dJ6_canEncode_16
    · have h := iN c_2 h
      refine lv_iconst (v := 1) C.x C.b dJ6_canEncode_11 (by decide) ?_
      refine lv_goto (tgt := 16) C.x C.b dJ6_canEncode_12 (by decide) ?_
      exact cw_zret C hI h dJ6_canEncode_16

theorem w_J6_indexOfChar_7 {z : Int32 × cS} (C : CX p m meth c s args cJ6_indexOfChar 6 (Option.some Jvm.ClassFile.FieldType.int) RJ6) (hw : WKc g A s s.heap) (hR : RM g s R (1) (40))  : ∀ (n : Nat) (x0 : Option Nat) (x3 : Int32) (x4 : Int32) (x5 : Int32) (σ : cS) (H : Heap) (locs : List Loc) (ls : Array Slot), b_J6_indexOfChar_7 n x0 x3 x4 x5 σ = some z → CI g A s σ H locs → lv_has ls 6 [(0, va_rf x0), (3, .int x3), (4, .int x4), (5, .int x5)] → W p l e R s m args below meth c H locs (H.size - s.heap.size) (hsl H - hsl s.heap) (MQ below (CQ g A (some (.int z.1)) z.2) args s (g.2.2.1 3 - s.heap.size) (g.2.2.1 4 - hsl s.heap) A) (F0 m 7 ls []) := by
  intro n
  induction n with
  | zero =>
    intro x0 x3 x4 x5 σ H locs ls h
    cases h
  | succ n ih =>
    intro x0 x3 x4 x5 σ H locs ls h hI hl
    rw [b_J6_indexOfChar_7] at h
    refine lv_iload C.x C.b dJ6_indexOfChar_7 (lv_at hl 3 rfl) ?_
    refine lv_iload_n C.x C.b dJ6_indexOfChar_9 rfl (lv_at hl 1 rfl) ?_
    refine lv_icmp_ge (tgt := 31) C.x C.b dJ6_indexOfChar_10 (by decide) (fun c_1 => ?_) (fun c_1 => ?_)
    · have h := ip c_1 h
      refine lv_iconst (v := -1) C.x C.b dJ6_indexOfChar_31 (by decide) ?_
      exact cw_iret C hI h dJ6_indexOfChar_32
    · have h := iN c_1 h
      refine r_aload_n (x := x0) C.x C.b dJ6_indexOfChar_13 rfl (lv_at hl 0 rfl) ?_
      refine lv_iload C.x C.b dJ6_indexOfChar_14 (lv_at hl 3 rfl) ?_
      refine cw_bld (r := x0) C hw hI h dJ6_indexOfChar_16 (fun v_2 h => ?_)
      refine lv_iload C.x C.b dJ6_indexOfChar_17 (lv_at hl 2 rfl) ?_
      refine lv_icmp_ne (tgt := 25) C.x C.b dJ6_indexOfChar_19 (by decide) (fun c_3 => ?_) (fun c_3 => ?_)
      · have h := iN c_3 h
        obtain ⟨x5_4, e_, h⟩ := nm_s h
        refine lv_iinc (v := x5_4) (lv' := [(5, .int x5_4), (0, va_rf x0), (3, .int x3), (4, .int x4)]) C.x C.b dJ6_indexOfChar_25 hl (k := 3) rfl e_.symm (by decide) (by first | (simp [List.filter, cat_rf, cat_i, cat_a, cat_n, cat_l, cat_f, cat_d]; done) | (simp [List.filter, cat_rf, cat_i, cat_a, cat_n, cat_l, cat_f, cat_d]; rfl)) (fun ls hl => ?_)
        refine lv_goto (tgt := 7) C.x C.b dJ6_indexOfChar_28 (by decide) ?_
        exact ih x0 x3 x4 x5_4 _ _ _ _ h hI (lv_sub hl [1, 2, 3, 0] rfl)
      · have h := ip c_3 h
        refine lv_iload C.x C.b dJ6_indexOfChar_22 (lv_at hl 3 rfl) ?_
        exact cw_iret C hI h dJ6_indexOfChar_24

theorem k_J6_indexOfChar (l : Launch) (g : cG) (A : Nat → Prop) (x0 : Option Nat) (x1 : Int32) (x2 : Int32) (x3 : Int32) (σ : cS) (v : Int32) (σ1 : cS) (h : m_J6_indexOfChar x0 x1 x2 x3 σ = some (v, σ1)) : Met l yJ6_indexOfChar (ws_ yJ6_indexOfChar cJ6_indexOfChar 6 (Option.some Jvm.ClassFile.FieldType.int)) ({ frames := 1, cells := σ.2 3 - σ.2 0, slots := σ.2 4 - σ.2 1, locals := 40 }) (CPc g A [va_rf x0, .int x1, .int x2, .int x3] σ) (CQ g A (some (.int v)) σ1) (σ.2 3 - σ.2 0) (σ.2 4 - σ.2 1) A := by
  refine Met.ofW (cc := cJ6_indexOfChar) (maxL := 6) (ret := (Option.some Jvm.ClassFile.FieldType.int)) (by decide) rfl ?_
  intro p e s m args below meth c s₁ B hml hv
  obtain ⟨rfl, hw, hσ⟩ := hv
  have hts := atoms_spec (ws := (ws_ yJ6_indexOfChar cJ6_indexOfChar 6 (Option.some Jvm.ClassFile.FieldType.int))) B.pre
  have C : CX p m meth c s ([va_rf x0, .int x1, .int x2, .int x3] : List Value).toArray cJ6_indexOfChar 6 (Option.some Jvm.ClassFile.FieldType.int) RJ6 := ⟨⟨B.exec, B.bytes, hml, findClass_of_methodNamed B.named, fun w h => hts w (List.mem_cons_of_mem _ h)⟩, B.returns, B.notSynchronized⟩
  have e3 : σ.2 3 - σ.2 0 = g.2.2.1 3 - s.heap.size := by rw [hσ.1, hσ.2.2.2.1 3 (by decide)]
  have e4 : σ.2 4 - σ.2 1 = g.2.2.1 4 - hsl s.heap := by rw [hσ.2.1, hσ.2.2.2.1 4 (by decide)]
  have hR : RM g s (headSpec (ws_ yJ6_indexOfChar cJ6_indexOfChar 6 (Option.some Jvm.ClassFile.FieldType.int)) ({ frames := 1, cells := σ.2 3 - σ.2 0, slots := σ.2 4 - σ.2 1, locals := 40 })).room (1) (40) := ⟨⟨Nat.le_refl _, Nat.le_refl _⟩, Nat.le_of_eq e3.symm, Nat.le_of_eq e4.symm⟩
  generalize (headSpec (ws_ yJ6_indexOfChar cJ6_indexOfChar 6 (Option.some Jvm.ClassFile.FieldType.int)) ({ frames := 1, cells := σ.2 3 - σ.2 0, slots := σ.2 4 - σ.2 1, locals := 40 })).room = R at hR ⊢
  rw [e3, e4]
  have hI : CI g A s σ s.heap [] := ⟨hσ, va_S.rf, Nat.le_refl _⟩
  have hlen : (lg_sl ([va_rf x0, .int x1, .int x2, .int x3])).length ≤ 6 := by rcases x0 with _ | x0 <;> exact Nat.le_of_ble_eq_true rfl
  have hl := lv_entry ([va_rf x0, .int x1, .int x2, .int x3]) (n := 6) hlen
  rw [lg_entry_eq]
  generalize (lg_sl ([va_rf x0, .int x1, .int x2, .int x3]) ++ List.replicate (6 - (lg_sl ([va_rf x0, .int x1, .int x2, .int x3])).length) Slot.unset).toArray = ls at hl ⊢
  have hl : lv_has ls 6 [(0, va_rf x0), (1, .int x1), (2, .int x2), (3, .int x3)] := by clear hI hw h hσ e3 e4 hR C hts B; rcases x0 with _ | x0 <;> exact hl
  obtain ⟨z, hz⟩ : ∃ z, z = (v, σ1) := ⟨_, rfl⟩
  rw [← hz] at h
  rw [show v = z.1 by rw [hz], show σ1 = z.2 by rw [hz]]
  clear hz v σ1
  refine W.narrow ?_
  unfold m_J6_indexOfChar at h
  refine lv_iload_n C.x C.b dJ6_indexOfChar_0 rfl (lv_at hl 1 rfl) ?_
  refine lv_i2b C.x C.b dJ6_indexOfChar_1 rfl ?_
  refine tw_lt h (fun x4_1 h => ?_)
  refine lv_istore (i := 4) (lv' := [(4, .int x4_1), (0, va_rf x0), (1, .int x1), (2, .int x2), (3, .int x3)]) C.x C.b dJ6_indexOfChar_2 hl (by decide) (by first | (simp [List.filter, cat_rf, cat_i, cat_a, cat_n, cat_l, cat_f, cat_d]; done) | (simp [List.filter, cat_rf, cat_i, cat_a, cat_n, cat_l, cat_f, cat_d]; rfl)) (fun ls hl => ?_)
  refine lv_iload_n C.x C.b dJ6_indexOfChar_4 rfl (lv_at hl 3 rfl) ?_
  refine lv_istore (i := 5) (lv' := [(5, .int x2), (4, .int x4_1), (0, va_rf x0), (1, .int x1), (2, .int x2), (3, .int x3)]) C.x C.b dJ6_indexOfChar_5 hl (by decide) (by first | (simp [List.filter, cat_rf, cat_i, cat_a, cat_n, cat_l, cat_f, cat_d]; done) | (simp [List.filter, cat_rf, cat_i, cat_a, cat_n, cat_l, cat_f, cat_d]; rfl)) (fun ls hl => ?_)
  exact w_J6_indexOfChar_7 C hw hR _ x0 x3 x4_1 x2 _ _ _ _ h hI (lv_sub hl [2, 5, 1, 0] rfl)

theorem k_J6_indexOf (l : Launch) (g : cG) (A : Nat → Prop) (x0 : Option Nat) (x1 : Int32) (x2 : Int32) (x3 : Int32) (σ : cS) (v : Int32) (σ1 : cS) (h : m_J6_indexOf x0 x1 x2 x3 σ = some (v, σ1)) : Met l yJ6_indexOf (ws_ yJ6_indexOf cJ6_indexOf 4 (Option.some Jvm.ClassFile.FieldType.int)) ({ frames := 2, cells := σ.2 3 - σ.2 0, slots := σ.2 4 - σ.2 1, locals := 65 }) (CPc g A [va_rf x0, .int x1, .int x2, .int x3] σ) (CQ g A (some (.int v)) σ1) (σ.2 3 - σ.2 0) (σ.2 4 - σ.2 1) A := by
  refine Met.ofW (cc := cJ6_indexOf) (maxL := 4) (ret := (Option.some Jvm.ClassFile.FieldType.int)) (by decide) rfl ?_
  intro p e s m args below meth c s₁ B hml hv
  obtain ⟨rfl, hw, hσ⟩ := hv
  have hts := atoms_spec (ws := (ws_ yJ6_indexOf cJ6_indexOf 4 (Option.some Jvm.ClassFile.FieldType.int))) B.pre
  have C : CX p m meth c s ([va_rf x0, .int x1, .int x2, .int x3] : List Value).toArray cJ6_indexOf 4 (Option.some Jvm.ClassFile.FieldType.int) RJ6 := ⟨⟨B.exec, B.bytes, hml, findClass_of_methodNamed B.named, fun w h => hts w (List.mem_cons_of_mem _ h)⟩, B.returns, B.notSynchronized⟩
  have e3 : σ.2 3 - σ.2 0 = g.2.2.1 3 - s.heap.size := by rw [hσ.1, hσ.2.2.2.1 3 (by decide)]
  have e4 : σ.2 4 - σ.2 1 = g.2.2.1 4 - hsl s.heap := by rw [hσ.2.1, hσ.2.2.2.1 4 (by decide)]
  have hR : RM g s (headSpec (ws_ yJ6_indexOf cJ6_indexOf 4 (Option.some Jvm.ClassFile.FieldType.int)) ({ frames := 2, cells := σ.2 3 - σ.2 0, slots := σ.2 4 - σ.2 1, locals := 65 })).room (2) (65) := ⟨⟨Nat.le_refl _, Nat.le_refl _⟩, Nat.le_of_eq e3.symm, Nat.le_of_eq e4.symm⟩
  generalize (headSpec (ws_ yJ6_indexOf cJ6_indexOf 4 (Option.some Jvm.ClassFile.FieldType.int)) ({ frames := 2, cells := σ.2 3 - σ.2 0, slots := σ.2 4 - σ.2 1, locals := 65 })).room = R at hR ⊢
  rw [e3, e4]
  have hI : CI g A s σ s.heap [] := ⟨hσ, va_S.rf, Nat.le_refl _⟩
  have hlen : (lg_sl ([va_rf x0, .int x1, .int x2, .int x3])).length ≤ 4 := by rcases x0 with _ | x0 <;> exact Nat.le_of_ble_eq_true rfl
  have hl := lv_entry ([va_rf x0, .int x1, .int x2, .int x3]) (n := 4) hlen
  rw [lg_entry_eq]
  generalize (lg_sl ([va_rf x0, .int x1, .int x2, .int x3]) ++ List.replicate (4 - (lg_sl ([va_rf x0, .int x1, .int x2, .int x3])).length) Slot.unset).toArray = ls at hl ⊢
  have hl : lv_has ls 4 [(0, va_rf x0), (1, .int x1), (2, .int x2), (3, .int x3)] := by clear hI hw h hσ e3 e4 hR C hts B; rcases x0 with _ | x0 <;> exact hl
  obtain ⟨z, hz⟩ : ∃ z, z = (v, σ1) := ⟨_, rfl⟩
  rw [← hz] at h
  rw [show v = z.1 by rw [hz], show σ1 = z.2 by rw [hz]]
  clear hz v σ1
  refine W.narrow ?_
  unfold m_J6_indexOf at h
  refine lv_iload_n C.x C.b dJ6_indexOf_0 rfl (lv_at hl 1 rfl) ?_
  refine cw_callS (y := yJ6_canEncode) (bytes := cJ6_canEncode) (maxL := 1) (fun v => some (.int v)) [.int x1] C hw hR hI hl.1 h (fun vv ss ee => k_J6_canEncode l g A x1 σ vv ss ee) (va_cwS 1 C.t (lw_S q700 q701 q134 q702) rfl rfl rfl (by decide +kernel) ⟨Nat.le_trans (Nat.le_of_ble_eq_true rfl) hR.f, Nat.le_trans (Nat.le_of_ble_eq_true rfl) hR.lo⟩) rfl rfl (Nat.le_of_ble_eq_true rfl) dJ6_indexOf_1 (fun v_1 σ_2 H locs h hI => ?_)
  refine lv_if_ne (tgt := 9) C.x C.b dJ6_indexOf_4 (by decide) (fun c_3 => ?_) (fun c_3 => ?_)
  · have h := iN c_3 h
    refine lv_iload_n C.x C.b dJ6_indexOf_9 rfl (lv_at hl 2 rfl) ?_
    refine lv_iconst (v := 0) C.x C.b dJ6_indexOf_10 (by decide) ?_
    refine va_mmax C.x C.b (C.n.trans hl.1.symm) C.o (C.t _ q703) (C.t _ q465) (C.t _ q136) (C.t _ q466) (Nat.le_trans (Nat.le_of_ble_eq_true rfl) hR.f) (Nat.le_trans (Nat.add_le_add_right (room_of (Nat.le_of_ble_eq_true rfl)) 13) (Nat.le_trans (Nat.le_of_ble_eq_true rfl) hR.lo)) (hR.cur hI).1 (hR.cur hI).2 dJ6_indexOf_11 ?_
    refine tw_lt h (fun u_4 h => ?_)
    refine lv_istore_n (i := 2) (lv' := [(2, .int u_4), (0, va_rf x0), (1, .int x1), (3, .int x3)]) C.x C.b dJ6_indexOf_14 rfl hl (by decide) (by first | (simp [List.filter, cat_rf, cat_i, cat_a, cat_n, cat_l, cat_f, cat_d]; done) | (simp [List.filter, cat_rf, cat_i, cat_a, cat_n, cat_l, cat_f, cat_d]; rfl)) (fun ls hl => ?_)
    refine lv_iload_n C.x C.b dJ6_indexOf_15 rfl (lv_at hl 3 rfl) ?_
    refine r_aload_n (x := x0) C.x C.b dJ6_indexOf_16 rfl (lv_at hl 1 rfl) ?_
    refine cw_aL (r := x0) C hw hI h dJ6_indexOf_17 (fun v_5 h => ?_)
    refine va_mmin C.x C.b (C.n.trans hl.1.symm) C.o (C.t _ q704) (C.t _ q351) (C.t _ q136) (C.t _ q352) (Nat.le_trans (Nat.le_of_ble_eq_true rfl) hR.f) (Nat.le_trans (Nat.add_le_add_right (room_of (Nat.le_of_ble_eq_true rfl)) 13) (Nat.le_trans (Nat.le_of_ble_eq_true rfl) hR.lo)) (hR.cur hI).1 (hR.cur hI).2 dJ6_indexOf_18 ?_
    refine tw_lt h (fun u_6 h => ?_)
    refine lv_istore_n (i := 3) (lv' := [(3, .int u_6), (2, .int u_4), (0, va_rf x0), (1, .int x1)]) C.x C.b dJ6_indexOf_21 rfl hl (by decide) (by first | (simp [List.filter, cat_rf, cat_i, cat_a, cat_n, cat_l, cat_f, cat_d]; done) | (simp [List.filter, cat_rf, cat_i, cat_a, cat_n, cat_l, cat_f, cat_d]; rfl)) (fun ls hl => ?_)
    refine lv_iload_n C.x C.b dJ6_indexOf_22 rfl (lv_at hl 1 rfl) ?_
    refine lv_iload_n C.x C.b dJ6_indexOf_23 rfl (lv_at hl 0 rfl) ?_
    refine lv_icmp_lt (tgt := 29) C.x C.b dJ6_indexOf_24 (by decide) (fun c_7 => ?_) (fun c_7 => ?_)
    · have h := ip c_7 h
      refine r_aload_n (x := x0) C.x C.b dJ6_indexOf_29 rfl (lv_at hl 2 rfl) ?_
      refine lv_iload_n C.x C.b dJ6_indexOf_30 rfl (lv_at hl 3 rfl) ?_
      refine lv_iload_n C.x C.b dJ6_indexOf_31 rfl (lv_at hl 1 rfl) ?_
      refine lv_iload_n C.x C.b dJ6_indexOf_32 rfl (lv_at hl 0 rfl) ?_
      refine cw_callS (y := yJ6_indexOfChar) (bytes := cJ6_indexOfChar) (maxL := 6) (fun v => some (.int v)) [va_rf x0, .int x1, .int u_4, .int u_6] C hw hR hI hl.1 h (fun vv ss ee => k_J6_indexOfChar l g A x0 x1 u_4 u_6 σ_2 vv ss ee) (va_cwS 4 C.t (lw_S q705 q706 q134 q707) rfl rfl rfl (by decide +kernel) ⟨Nat.le_trans (Nat.le_of_ble_eq_true rfl) hR.f, Nat.le_trans (Nat.le_of_ble_eq_true rfl) hR.lo⟩) rfl rfl (Nat.le_of_ble_eq_true rfl) dJ6_indexOf_33 (fun v_8 σ_9 H locs h hI => ?_)
      exact cw_iret C hI h dJ6_indexOf_36
    · have h := iN c_7 h
      refine lv_iconst (v := -1) C.x C.b dJ6_indexOf_27 (by decide) ?_
      exact cw_iret C hI h dJ6_indexOf_28
  · have h := ip c_3 h
    refine lv_iconst (v := -1) C.x C.b dJ6_indexOf_7 (by decide) ?_
    exact cw_iret C hI h dJ6_indexOf_8

theorem k_J4_indexOf_2 (l : Launch) (g : cG) (A : Nat → Prop) (o : Nat) (x1 : Int32) (x2 : Int32) (σ : cS) (v : Int32) (σ1 : cS) (h : m_J4_indexOf_2 o x1 x2 σ = some (v, σ1)) : Met l yJ4_indexOf_2 (ws_ yJ4_indexOf_2 cJ4_indexOf_2 3 (Option.some Jvm.ClassFile.FieldType.int)) ({ frames := 3, cells := σ.2 3 - σ.2 0, slots := σ.2 4 - σ.2 1, locals := 88 }) (CPc g A [.ref o, .int x1, .int x2] σ) (CQ g A (some (.int v)) σ1) (σ.2 3 - σ.2 0) (σ.2 4 - σ.2 1) A := by
  refine Met.ofW (cc := cJ4_indexOf_2) (maxL := 3) (ret := (Option.some Jvm.ClassFile.FieldType.int)) (by decide) rfl ?_
  intro p e s m args below meth c s₁ B hml hv
  obtain ⟨rfl, hw, hσ⟩ := hv
  have hts := atoms_spec (ws := (ws_ yJ4_indexOf_2 cJ4_indexOf_2 3 (Option.some Jvm.ClassFile.FieldType.int))) B.pre
  have C : CX p m meth c s ([.ref o, .int x1, .int x2] : List Value).toArray cJ4_indexOf_2 3 (Option.some Jvm.ClassFile.FieldType.int) RJ4 := ⟨⟨B.exec, B.bytes, hml, findClass_of_methodNamed B.named, fun w h => hts w (List.mem_cons_of_mem _ h)⟩, B.returns, B.notSynchronized⟩
  have e3 : σ.2 3 - σ.2 0 = g.2.2.1 3 - s.heap.size := by rw [hσ.1, hσ.2.2.2.1 3 (by decide)]
  have e4 : σ.2 4 - σ.2 1 = g.2.2.1 4 - hsl s.heap := by rw [hσ.2.1, hσ.2.2.2.1 4 (by decide)]
  have hR : RM g s (headSpec (ws_ yJ4_indexOf_2 cJ4_indexOf_2 3 (Option.some Jvm.ClassFile.FieldType.int)) ({ frames := 3, cells := σ.2 3 - σ.2 0, slots := σ.2 4 - σ.2 1, locals := 88 })).room (3) (88) := ⟨⟨Nat.le_refl _, Nat.le_refl _⟩, Nat.le_of_eq e3.symm, Nat.le_of_eq e4.symm⟩
  generalize (headSpec (ws_ yJ4_indexOf_2 cJ4_indexOf_2 3 (Option.some Jvm.ClassFile.FieldType.int)) ({ frames := 3, cells := σ.2 3 - σ.2 0, slots := σ.2 4 - σ.2 1, locals := 88 })).room = R at hR ⊢
  rw [e3, e4]
  have hI : CI g A s σ s.heap [] := ⟨hσ, va_S.rf, Nat.le_refl _⟩
  have hl := lv_entry ([.ref o, .int x1, .int x2]) (n := 3) (Nat.le_of_ble_eq_true rfl)
  rw [lg_entry_eq]
  generalize (lg_sl ([.ref o, .int x1, .int x2]) ++ List.replicate (3 - (lg_sl ([.ref o, .int x1, .int x2])).length) Slot.unset).toArray = ls at hl ⊢
  have hl : lv_has ls 3 [(0, .ref o), (1, .int x1), (2, .int x2)] := hl
  obtain ⟨z, hz⟩ : ∃ z, z = (v, σ1) := ⟨_, rfl⟩
  rw [← hz] at h
  rw [show v = z.1 by rw [hz], show σ1 = z.2 by rw [hz]]
  clear hz v σ1
  refine W.narrow ?_
  unfold m_J4_indexOf_2 at h
  refine r_aload_n (x := some o) C.x C.b dJ4_indexOf_2_0 rfl (lv_at hl 0 rfl) ?_
  refine cw_callV (y := yJ4_isLatin1) (bytes := cJ4_isLatin1) (maxL := 1) (r := some o) (f := fun a_3 => m_J4_isLatin1 a_3 σ) 12 (fun v => some (.int v)) [] C hw hR hI hl.1 h (by decide) rfl (fun aa vv ss ee => k_J4_isLatin1 l g A aa σ vv ss ee) (cwV 0 C.t (lw_V q307 q308 q309 q131 q310) rfl rfl rfl (by decide +kernel) ⟨Nat.le_trans (Nat.le_of_ble_eq_true rfl) hR.f, Nat.le_trans (Nat.le_of_ble_eq_true rfl) hR.lo⟩) rfl rfl (Nat.le_of_ble_eq_true rfl) dJ4_indexOf_2_1 (fun v_1 σ_2 H locs h hI => ?_)
  refine lv_if_eq (tgt := 23) C.x C.b dJ4_indexOf_2_4 (by decide) (fun c_4 => ?_) (fun c_4 => ?_)
  · have h := ip c_4 h
    refine r_aload_n (x := some o) C.x C.b dJ4_indexOf_2_23 rfl (lv_at hl 0 rfl) ?_
    refine cw_gR (r := some o) 12 0 C hw hI h (by decide) rfl in_J4 (by decide) (C.t _ q600) (fun _ h9 => h9) dJ4_indexOf_2_24 (fun v_5 h => ?_)
    refine lv_iload_n C.x C.b dJ4_indexOf_2_27 rfl (lv_at hl 1 rfl) ?_
    refine lv_iload_n C.x C.b dJ4_indexOf_2_28 rfl (lv_at hl 2 rfl) ?_
    refine r_aload_n (x := some o) C.x C.b dJ4_indexOf_2_29 rfl (lv_at hl 0 rfl) ?_
    refine cw_callV (y := yJ4_length) (bytes := cJ4_length) (maxL := 1) (r := some o) (f := fun a_8 => m_J4_length a_8 σ_2) 12 (fun v => some (.int v)) [] C hw hR hI hl.1 h (by decide) rfl (fun aa vv ss ee => k_J4_length l g A aa σ_2 vv ss ee) (cwV 0 C.t (lw_V q374 q245 q246 q131 q247) rfl rfl rfl (by decide +kernel) ⟨Nat.le_trans (Nat.le_of_ble_eq_true rfl) hR.f, Nat.le_trans (Nat.le_of_ble_eq_true rfl) hR.lo⟩) rfl rfl (Nat.le_of_ble_eq_true rfl) dJ4_indexOf_2_30 (fun v_6 σ_7 H locs h hI => ?_)
    cases h
  · have h := iN c_4 h
    refine r_aload_n (x := some o) C.x C.b dJ4_indexOf_2_7 rfl (lv_at hl 0 rfl) ?_
    refine cw_gR (r := some o) 12 0 C hw hI h (by decide) rfl in_J4 (by decide) (C.t _ q600) (fun _ h9 => h9) dJ4_indexOf_2_8 (fun v_9 h => ?_)
    refine lv_iload_n C.x C.b dJ4_indexOf_2_11 rfl (lv_at hl 1 rfl) ?_
    refine lv_iload_n C.x C.b dJ4_indexOf_2_12 rfl (lv_at hl 2 rfl) ?_
    refine r_aload_n (x := some o) C.x C.b dJ4_indexOf_2_13 rfl (lv_at hl 0 rfl) ?_
    refine cw_callV (y := yJ4_length) (bytes := cJ4_length) (maxL := 1) (r := some o) (f := fun a_12 => m_J4_length a_12 σ_2) 12 (fun v => some (.int v)) [] C hw hR hI hl.1 h (by decide) rfl (fun aa vv ss ee => k_J4_length l g A aa σ_2 vv ss ee) (cwV 0 C.t (lw_V q374 q245 q246 q131 q247) rfl rfl rfl (by decide +kernel) ⟨Nat.le_trans (Nat.le_of_ble_eq_true rfl) hR.f, Nat.le_trans (Nat.le_of_ble_eq_true rfl) hR.lo⟩) rfl rfl (Nat.le_of_ble_eq_true rfl) dJ4_indexOf_2_14 (fun v_10 σ_11 H locs h hI => ?_)
    refine cw_callS (y := yJ6_indexOf) (bytes := cJ6_indexOf) (maxL := 4) (fun v => some (.int v)) [va_rf v_9, .int x1, .int x2, .int v_10] C hw hR hI hl.1 h (fun vv ss ee => k_J6_indexOf l g A v_9 x1 x2 v_10 σ_11 vv ss ee) (va_cwS 4 C.t (lw_S q697 q698 q134 q699) rfl rfl rfl (by decide +kernel) ⟨Nat.le_trans (Nat.le_of_ble_eq_true rfl) hR.f, Nat.le_trans (Nat.le_of_ble_eq_true rfl) hR.lo⟩) rfl rfl (Nat.le_of_ble_eq_true rfl) dJ4_indexOf_2_17 (fun v_13 σ_14 H locs h hI => ?_)
    refine lv_goto (tgt := 36) C.x C.b dJ4_indexOf_2_20 (by decide) ?_
    exact cw_iret C hI h dJ4_indexOf_2_36

end
