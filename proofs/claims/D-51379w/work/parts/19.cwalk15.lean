/-! THE CLASS' WALKS 15: printed by gencl.py -/
section
variable {p : Program} {l : Launch} {e : Env} {R : Room} {s : State} {m : MethodId} {args : Array Value} {below : List Frame} {meth : Method} {c : Code} {g : cG} {A : Nat → Prop}
set_option maxRecDepth 100000
theorem k_X12_tightness (l : Launch) (g : cG) (A : Nat → Prop) (o : Nat) (σ : cS) (v : Int32) (σ1 : cS) (h : m_X12_tightness o σ = some (v, σ1)) : Met l yX12_tightness (ws_ yX12_tightness cX12_tightness 1 (Option.some Jvm.ClassFile.FieldType.int)) ({ frames := 1, cells := σ.2 3 - σ.2 0, slots := σ.2 4 - σ.2 1, locals := 40 }) (CPc g A [.ref o] σ) (CQ g A (some (.int v)) σ1) (σ.2 3 - σ.2 0) (σ.2 4 - σ.2 1) A := by
  refine Met.ofW (cc := cX12_tightness) (maxL := 1) (ret := (Option.some Jvm.ClassFile.FieldType.int)) (by decide) rfl ?_
  intro p e s m args below meth c s₁ B hml hv
  obtain ⟨rfl, hw, hσ⟩ := hv
  have hts := atoms_spec (ws := (ws_ yX12_tightness cX12_tightness 1 (Option.some Jvm.ClassFile.FieldType.int))) B.pre
  have C : CX p m meth c s ([.ref o] : List Value).toArray cX12_tightness 1 (Option.some Jvm.ClassFile.FieldType.int) RX12 := ⟨⟨B.exec, B.bytes, hml, findClass_of_methodNamed B.named, fun w h => hts w (List.mem_cons_of_mem _ h)⟩, B.returns, B.notSynchronized⟩
  have e3 : σ.2 3 - σ.2 0 = g.2.2.1 3 - s.heap.size := by rw [hσ.1, hσ.2.2.2.1 3 (by decide)]
  have e4 : σ.2 4 - σ.2 1 = g.2.2.1 4 - hsl s.heap := by rw [hσ.2.1, hσ.2.2.2.1 4 (by decide)]
  have hR : RM g s (headSpec (ws_ yX12_tightness cX12_tightness 1 (Option.some Jvm.ClassFile.FieldType.int)) ({ frames := 1, cells := σ.2 3 - σ.2 0, slots := σ.2 4 - σ.2 1, locals := 40 })).room (1) (40) := ⟨⟨Nat.le_refl _, Nat.le_refl _⟩, Nat.le_of_eq e3.symm, Nat.le_of_eq e4.symm⟩
  generalize (headSpec (ws_ yX12_tightness cX12_tightness 1 (Option.some Jvm.ClassFile.FieldType.int)) ({ frames := 1, cells := σ.2 3 - σ.2 0, slots := σ.2 4 - σ.2 1, locals := 40 })).room = R at hR ⊢
  rw [e3, e4]
  have hI : CI g A s σ s.heap [] := ⟨hσ, va_S.rf, Nat.le_refl _⟩
  have hl := lv_entry ([.ref o]) (n := 1) (Nat.le_of_ble_eq_true rfl)
  rw [lg_entry_eq]
  generalize (lg_sl ([.ref o]) ++ List.replicate (1 - (lg_sl ([.ref o])).length) Slot.unset).toArray = ls at hl ⊢
  have hl : lv_has ls 1 [(0, .ref o)] := hl
  obtain ⟨z, hz⟩ : ∃ z, z = (v, σ1) := ⟨_, rfl⟩
  rw [← hz] at h
  rw [show v = z.1 by rw [hz], show σ1 = z.2 by rw [hz]]
  clear hz v σ1
  refine W.narrow ?_
  unfold m_X12_tightness at h
  refine lv_iconst (v := 2) C.x C.b dX12_tightness_0 (by decide) ?_
  exact cw_iret C hI h dX12_tightness_1

theorem w_X12_writeInside_51 {z : Int32 × cS} {F : Nat → Option Nat → cS → Option (Int32 × cS)} {fF lF : Nat} (hF : HF_write l g A F fF lF) (C : CX p m meth c s args cX12_writeInside 4 (Option.none : Option Jvm.ClassFile.FieldType) RX12) (hw : WKc g A s s.heap) (hR : RM g s R (fF + 7) (lF + 175))  : ∀ (s0 : Option Nat) (s1 : Option Nat) (σ : cS) (H : Heap) (locs : List Loc) (ls : Array Slot), b_X12_writeInside_51 F s0 s1 σ = some z → CI g A s σ H locs → lv_has ls 4 [] → W p l e R s m args below meth c H locs (H.size - s.heap.size) (hsl H - hsl s.heap) (MQ below (CQ g A (none) z.2) args s (g.2.2.1 3 - s.heap.size) (g.2.2.1 4 - hsl s.heap) A) (F0 m 51 ls [va_rf s1, va_rf s0]) := by
  intro s0 s1 σ H locs ls h hI hl
  unfold b_X12_writeInside_51 at h
  refine cw_callV (y := yJ3_append_2) (bytes := cJ3_append_2) (maxL := 2) (r := s0) (f := fun a_3 => m_J3_append_2 a_3 s1 σ) 11 (fun v => some (va_rf v)) [va_rf s1] C hw hR hI hl.1 h (by decide) rfl (fun aa vv ss ee => k_J3_append_2 l g A aa s1 σ vv ss ee) (cwV 1 C.t (lw_V q1918 q515 q516 q130 q517) rfl rfl rfl (by decide +kernel) ⟨Nat.le_trans (Nat.le_add_left_of_le (Nat.le_of_ble_eq_true rfl)) hR.f, Nat.le_trans (Nat.le_add_left_of_le (Nat.le_of_ble_eq_true rfl)) hR.lo⟩) rfl rfl (Nat.le_of_ble_eq_true rfl) dX12_writeInside_51 (fun v_1 σ_2 H locs h hI => ?_)
  refine lv_pop C.x C.b dX12_writeInside_54 (cat_rf _) ?_
  exact cw_vret C hI h dX12_writeInside_55

theorem w_X12_writeInside_28 {z : Int32 × cS} {F : Nat → Option Nat → cS → Option (Int32 × cS)} {fF lF : Nat} (hF : HF_write l g A F fF lF) (C : CX p m meth c s args cX12_writeInside 4 (Option.none : Option Jvm.ClassFile.FieldType) RX12) (hw : WKc g A s s.heap) (hR : RM g s R (fF + 7) (lF + 175))  : ∀ (x0 : Option Nat) (x2 : Option Nat) (x3 : Int32) (s0 : Option Nat) (s1 : Option Nat) (σ : cS) (H : Heap) (locs : List Loc) (ls : Array Slot), b_X12_writeInside_28 F x0 x2 x3 s0 s1 σ = some z → CI g A s σ H locs → lv_has ls 4 [(0, va_rf x0), (2, va_rf x2), (3, .int x3)] → W p l e R s m args below meth c H locs (H.size - s.heap.size) (hsl H - hsl s.heap) (MQ below (CQ g A (none) z.2) args s (g.2.2.1 3 - s.heap.size) (g.2.2.1 4 - hsl s.heap) A) (F0 m 28 ls [va_rf s1, va_rf s0]) := by
  intro x0 x2 x3 s0 s1 σ H locs ls h hI hl
  unfold b_X12_writeInside_28 at h
  refine cw_callV (y := yJ3_append_2) (bytes := cJ3_append_2) (maxL := 2) (r := s0) (f := fun a_3 => m_J3_append_2 a_3 s1 σ) 11 (fun v => some (va_rf v)) [va_rf s1] C hw hR hI hl.1 h (by decide) rfl (fun aa vv ss ee => k_J3_append_2 l g A aa s1 σ vv ss ee) (cwV 1 C.t (lw_V q1918 q515 q516 q130 q517) rfl rfl rfl (by decide +kernel) ⟨Nat.le_trans (Nat.le_add_left_of_le (Nat.le_of_ble_eq_true rfl)) hR.f, Nat.le_trans (Nat.le_add_left_of_le (Nat.le_of_ble_eq_true rfl)) hR.lo⟩) rfl rfl (Nat.le_of_ble_eq_true rfl) dX12_writeInside_28 (fun v_1 σ_2 H locs h hI => ?_)
  refine lv_pop C.x C.b dX12_writeInside_31 (cat_rf _) ?_
  refine r_aload_n (x := x0) C.x C.b dX12_writeInside_32 rfl (lv_at hl 0 rfl) ?_
  refine r_aload_n (x := x2) C.x C.b dX12_writeInside_33 rfl (lv_at hl 1 rfl) ?_
  refine cw_callF (x := ⟨"HeirCases$Guard", "write", "(Ljava/lang/StringBuilder;)V"⟩) (r := x0) (f := fun a_5 => F a_5 x2 σ_2) (fun _ => none) [va_rf x2] C hw hR hI hl.1 h (fun aa vv ss ee => (hF aa x2 σ_2 vv ss ee).elim (fun qq => ⟨4, qq.1, _, yX7_write, cX7_write, 2, (Option.none : Option Jvm.ClassFile.FieldType), _, _, by decide, rfl, qq.2, Or.inl (va_cwF 1 C.t (lw_app (mem4 q1920 q1921 q1923 q155) (lw_meth q1925)) rfl rfl rfl (hw.2.2.2.2.2.2.2.2.2.1 _ (List.mem_of_getElem? (i := 6) rfl)) (by decide +kernel) ⟨Nat.le_trans (by show fF + 1 ≤ fF + 7; omega) hR.f, Nat.le_trans (by show 8 + (2 + 11) + lF ≤ lF + 175; omega) hR.lo⟩)⟩) (fun hh => hh.elim (fun qq => ⟨5, qq.1, _, yX8_write, cX8_write, 3, (Option.none : Option Jvm.ClassFile.FieldType), _, _, by decide, rfl, qq.2, Or.inl (va_cwF 1 C.t (lw_app (mem4 q1920 q1930 q1932 q156) (lw_meth q1934)) rfl rfl rfl (hw.2.2.2.2.2.2.2.2.2.1 _ (List.mem_of_getElem? (i := 8) rfl)) (by decide +kernel) ⟨Nat.le_trans (by show fF + 1 ≤ fF + 7; omega) hR.f, Nat.le_trans (by show 8 + (3 + 11) + lF ≤ lF + 175; omega) hR.lo⟩)⟩) (fun hh => hh.elim (fun qq => ⟨6, qq.1, _, yX5_write, cX5_write, 2, (Option.none : Option Jvm.ClassFile.FieldType), _, _, by decide, rfl, qq.2, Or.inl (va_cwF 1 C.t (lw_app (mem4 q1920 q1891 q1893 q153) (lw_meth q1895)) rfl rfl rfl (hw.2.2.2.2.2.2.2.2.2.1 _ (List.mem_of_getElem? (i := 10) rfl)) (by decide +kernel) ⟨Nat.le_trans (by show fF + 1 ≤ fF + 7; omega) hR.f, Nat.le_trans (by show 8 + (2 + 11) + lF ≤ lF + 175; omega) hR.lo⟩)⟩) (fun qq => ⟨7, qq.1, _, yX6_write, cX6_write, 2, (Option.none : Option Jvm.ClassFile.FieldType), _, _, by decide, rfl, qq.2, Or.inl (va_cwF 1 C.t (lw_app (mem4 q1920 q1884 q1886 q154) (lw_meth q1888)) rfl rfl rfl (hw.2.2.2.2.2.2.2.2.2.1 _ (List.mem_of_getElem? (i := 12) rfl)) (by decide +kernel) ⟨Nat.le_trans (by show fF + 1 ≤ fF + 7; omega) hR.f, Nat.le_trans (by show 8 + (2 + 11) + lF ≤ lF + 175; omega) hR.lo⟩)⟩)))) rfl rfl (Nat.le_of_ble_eq_true rfl) dX12_writeInside_34 (fun _ σ_4 H locs h hI => ?_)
  refine r_aload_n (x := x2) C.x C.b dX12_writeInside_39 rfl (lv_at hl 1 rfl) ?_
  refine lv_iload_n C.x C.b dX12_writeInside_40 rfl (lv_at hl 2 rfl) ?_
  refine lv_if_eq (tgt := 49) C.x C.b dX12_writeInside_41 (by decide) (fun c_6 => ?_) (fun c_6 => ?_)
  · have h := ip c_6 h
    refine cw_ldcS (tx := "") (k := 27) C hw hI (List.mem_of_getElem? (i := 37) rfl) (by decide) dX12_writeInside_49 ?_
    exact w_X12_writeInside_51 hF C hw hR x2 (some (σ_4.2 27)) _ _ _ _ h hI (lv_sub hl [] rfl)
  · have h := iN c_6 h
    refine cw_ldcS (tx := " )") (k := 54) C hw hI (List.mem_of_getElem? (i := 38) rfl) (by decide) dX12_writeInside_44 ?_
    refine lv_goto (tgt := 51) C.x C.b dX12_writeInside_46 (by decide) ?_
    exact w_X12_writeInside_51 hF C hw hR x2 (some (σ_4.2 54)) _ _ _ _ h hI (lv_sub hl [] rfl)

theorem w_X12_writeInside_15 {z : Int32 × cS} {F : Nat → Option Nat → cS → Option (Int32 × cS)} {fF lF : Nat} (hF : HF_write l g A F fF lF) (C : CX p m meth c s args cX12_writeInside 4 (Option.none : Option Jvm.ClassFile.FieldType) RX12) (hw : WKc g A s s.heap) (hR : RM g s R (fF + 7) (lF + 175))  : ∀ (x0 : Option Nat) (x2 : Option Nat) (s0 : Int32) (σ : cS) (H : Heap) (locs : List Loc) (ls : Array Slot), b_X12_writeInside_15 F x0 x2 s0 σ = some z → CI g A s σ H locs → lv_has ls 4 [(0, va_rf x0), (2, va_rf x2)] → W p l e R s m args below meth c H locs (H.size - s.heap.size) (hsl H - hsl s.heap) (MQ below (CQ g A (none) z.2) args s (g.2.2.1 3 - s.heap.size) (g.2.2.1 4 - hsl s.heap) A) (F0 m 15 ls [.int s0]) := by
  intro x0 x2 s0 σ H locs ls h hI hl
  unfold b_X12_writeInside_15 at h
  refine lv_istore_n (i := 3) (lv' := [(3, .int s0), (0, va_rf x0), (2, va_rf x2)]) C.x C.b dX12_writeInside_15 rfl hl (by decide) (by first | (simp [List.filter, cat_rf, cat_i, cat_a, cat_n, cat_l, cat_f, cat_d]; done) | (simp [List.filter, cat_rf, cat_i, cat_a, cat_n, cat_l, cat_f, cat_d]; rfl)) (fun ls hl => ?_)
  refine r_aload_n (x := x2) C.x C.b dX12_writeInside_16 rfl (lv_at hl 2 rfl) ?_
  refine lv_iload_n C.x C.b dX12_writeInside_17 rfl (lv_at hl 0 rfl) ?_
  refine lv_if_eq (tgt := 26) C.x C.b dX12_writeInside_18 (by decide) (fun c_1 => ?_) (fun c_1 => ?_)
  · have h := ip c_1 h
    refine cw_ldcS (tx := "") (k := 27) C hw hI (List.mem_of_getElem? (i := 37) rfl) (by decide) dX12_writeInside_26 ?_
    exact w_X12_writeInside_28 hF C hw hR x0 x2 s0 x2 (some (σ.2 27)) _ _ _ _ h hI (lv_sub hl [1, 2, 0] rfl)
  · have h := iN c_1 h
    refine cw_ldcS (tx := "( ") (k := 53) C hw hI (List.mem_of_getElem? (i := 36) rfl) (by decide) dX12_writeInside_21 ?_
    refine lv_goto (tgt := 28) C.x C.b dX12_writeInside_23 (by decide) ?_
    exact w_X12_writeInside_28 hF C hw hR x0 x2 s0 x2 (some (σ.2 53)) _ _ _ _ h hI (lv_sub hl [1, 2, 0] rfl)

theorem k_X12_writeInside (l : Launch) (g : cG) (A : Nat → Prop) {F : Nat → Option Nat → cS → Option (Int32 × cS)} {fF lF : Nat} (hF : HF_write l g A F fF lF) (x0 : Option Nat) (x1 : Int32) (x2 : Option Nat) (σ : cS) (v : Int32) (σ1 : cS) (h : m_X12_writeInside F x0 x1 x2 σ = some (v, σ1)) : Met l yX12_writeInside (ws_ yX12_writeInside cX12_writeInside 4 (Option.none : Option Jvm.ClassFile.FieldType)) ({ frames := fF + 7, cells := σ.2 3 - σ.2 0, slots := σ.2 4 - σ.2 1, locals := lF + 175 }) (CPc g A [va_rf x0, .int x1, va_rf x2] σ) (CQ g A (none) σ1) (σ.2 3 - σ.2 0) (σ.2 4 - σ.2 1) A := by
  refine Met.ofW (cc := cX12_writeInside) (maxL := 4) (ret := (Option.none : Option Jvm.ClassFile.FieldType)) (by decide) rfl ?_
  intro p e s m args below meth c s₁ B hml hv
  obtain ⟨rfl, hw, hσ⟩ := hv
  have hts := atoms_spec (ws := (ws_ yX12_writeInside cX12_writeInside 4 (Option.none : Option Jvm.ClassFile.FieldType))) B.pre
  have C : CX p m meth c s ([va_rf x0, .int x1, va_rf x2] : List Value).toArray cX12_writeInside 4 (Option.none : Option Jvm.ClassFile.FieldType) RX12 := ⟨⟨B.exec, B.bytes, hml, findClass_of_methodNamed B.named, fun w h => hts w (List.mem_cons_of_mem _ h)⟩, B.returns, B.notSynchronized⟩
  have e3 : σ.2 3 - σ.2 0 = g.2.2.1 3 - s.heap.size := by rw [hσ.1, hσ.2.2.2.1 3 (by decide)]
  have e4 : σ.2 4 - σ.2 1 = g.2.2.1 4 - hsl s.heap := by rw [hσ.2.1, hσ.2.2.2.1 4 (by decide)]
  have hR : RM g s (headSpec (ws_ yX12_writeInside cX12_writeInside 4 (Option.none : Option Jvm.ClassFile.FieldType)) ({ frames := fF + 7, cells := σ.2 3 - σ.2 0, slots := σ.2 4 - σ.2 1, locals := lF + 175 })).room (fF + 7) (lF + 175) := ⟨⟨Nat.le_refl _, Nat.le_refl _⟩, Nat.le_of_eq e3.symm, Nat.le_of_eq e4.symm⟩
  generalize (headSpec (ws_ yX12_writeInside cX12_writeInside 4 (Option.none : Option Jvm.ClassFile.FieldType)) ({ frames := fF + 7, cells := σ.2 3 - σ.2 0, slots := σ.2 4 - σ.2 1, locals := lF + 175 })).room = R at hR ⊢
  rw [e3, e4]
  have hI : CI g A s σ s.heap [] := ⟨hσ, va_S.rf, Nat.le_refl _⟩
  have hlen : (lg_sl ([va_rf x0, .int x1, va_rf x2])).length ≤ 4 := by rcases x0 with _ | x0 <;> rcases x2 with _ | x2 <;> exact Nat.le_of_ble_eq_true rfl
  have hl := lv_entry ([va_rf x0, .int x1, va_rf x2]) (n := 4) hlen
  rw [lg_entry_eq]
  generalize (lg_sl ([va_rf x0, .int x1, va_rf x2]) ++ List.replicate (4 - (lg_sl ([va_rf x0, .int x1, va_rf x2])).length) Slot.unset).toArray = ls at hl ⊢
  have hl : lv_has ls 4 [(0, va_rf x0), (1, .int x1), (2, va_rf x2)] := by clear hI hw h hσ e3 e4 hR C hts B; rcases x0 with _ | x0 <;> rcases x2 with _ | x2 <;> exact hl
  obtain ⟨z, hz⟩ : ∃ z, z = (v, σ1) := ⟨_, rfl⟩
  rw [← hz] at h
  rw [show σ1 = z.2 by rw [hz]]
  clear hz v σ1
  refine W.narrow ?_
  unfold m_X12_writeInside at h
  refine r_aload_n (x := x0) C.x C.b dX12_writeInside_0 rfl (lv_at hl 0 rfl) ?_
  refine cw_callF (x := ⟨"HeirCases$Guard", "tightness", "()I"⟩) (r := x0) (f := fun a_3 => dsp σ [(5, m_X8_tightness a_3 σ), (4, m_X12_tightness a_3 σ), (6, m_X12_tightness a_3 σ), (7, m_X12_tightness a_3 σ)] a_3) (fun v => some (.int v)) [] C hw hR hI hl.1 h (fun aa vv ss ee => dsp_c ee (fun o1 e1 => ⟨5, o1, _, yX8_tightness, cX8_tightness, 1, (Option.some Jvm.ClassFile.FieldType.int), _, _, by decide, rfl, k_X8_tightness l g A aa σ vv ss e1, Or.inl (va_cwF 0 C.t (lw_app (mem4 q1902 q1911 q1913 q156) (lw_meth q1915)) rfl rfl rfl (hw.2.2.2.2.2.2.2.2.2.1 _ (List.mem_of_getElem? (i := 13) rfl)) (by decide +kernel) ⟨Nat.le_trans (Nat.le_add_left_of_le (Nat.le_of_ble_eq_true rfl)) hR.f, Nat.le_trans (Nat.le_add_left_of_le (Nat.le_of_ble_eq_true rfl)) hR.lo⟩)⟩) (fun ee => dsp_c ee (fun o1 e1 => ⟨4, o1, _, yX12_tightness, cX12_tightness, 1, (Option.some Jvm.ClassFile.FieldType.int), _, _, by decide, rfl, k_X12_tightness l g A aa σ vv ss e1, Or.inr ⟨rfl, cw_cwD 0 C.t (lw_meth q1908) rfl rfl rfl (C.t _ q1902) (hw.2.2.2.2.2.2.2.2.2.2.2.2.2.2.2.1.1 _ (by decide)) (hw.2.2.2.2.2.2.2.2.2.1 _ (List.mem_of_getElem? (i := 14) rfl)) (C.t _ q1906) (C.t _ q166) (by decide +kernel) ⟨Nat.le_trans (Nat.le_add_left_of_le (Nat.le_of_ble_eq_true rfl)) hR.f, Nat.le_trans (Nat.le_add_left_of_le (Nat.le_of_ble_eq_true rfl)) hR.lo⟩⟩⟩) (fun ee => dsp_c ee (fun o1 e1 => ⟨6, o1, _, yX12_tightness, cX12_tightness, 1, (Option.some Jvm.ClassFile.FieldType.int), _, _, by decide, rfl, k_X12_tightness l g A aa σ vv ss e1, Or.inr ⟨rfl, cw_cwD 0 C.t (lw_meth q1908) rfl rfl rfl (C.t _ q1902) (hw.2.2.2.2.2.2.2.2.2.2.2.2.2.2.2.1.1 _ (by decide)) (hw.2.2.2.2.2.2.2.2.2.1 _ (List.mem_of_getElem? (i := 15) rfl)) (C.t _ q1906) (C.t _ q166) (by decide +kernel) ⟨Nat.le_trans (Nat.le_add_left_of_le (Nat.le_of_ble_eq_true rfl)) hR.f, Nat.le_trans (Nat.le_add_left_of_le (Nat.le_of_ble_eq_true rfl)) hR.lo⟩⟩⟩) (fun ee => dsp_c ee (fun o1 e1 => ⟨7, o1, _, yX12_tightness, cX12_tightness, 1, (Option.some Jvm.ClassFile.FieldType.int), _, _, by decide, rfl, k_X12_tightness l g A aa σ vv ss e1, Or.inr ⟨rfl, cw_cwD 0 C.t (lw_meth q1908) rfl rfl rfl (C.t _ q1902) (hw.2.2.2.2.2.2.2.2.2.2.2.2.2.2.2.1.1 _ (by decide)) (hw.2.2.2.2.2.2.2.2.2.1 _ (List.mem_of_getElem? (i := 16) rfl)) (C.t _ q1906) (C.t _ q166) (by decide +kernel) ⟨Nat.le_trans (Nat.le_add_left_of_le (Nat.le_of_ble_eq_true rfl)) hR.f, Nat.le_trans (Nat.le_add_left_of_le (Nat.le_of_ble_eq_true rfl)) hR.lo⟩⟩⟩) (fun ee => dsp_n ee))))) rfl rfl (Nat.le_of_ble_eq_true rfl) dX12_writeInside_1 (fun v_1 σ_2 H locs h hI => ?_)
  refine lv_iload_n C.x C.b dX12_writeInside_6 rfl (lv_at hl 1 rfl) ?_
  refine lv_icmp_ge (tgt := 14) C.x C.b dX12_writeInside_7 (by decide) (fun c_4 => ?_) (fun c_4 => ?_)
  · have h := ip c_4 h
    refine lv_iconst (v := 0) C.x C.b dX12_writeInside_14 (by decide) ?_
    exact w_X12_writeInside_15 hF C hw hR x0 x2 0 _ _ _ _ h hI (lv_sub hl [0, 2] rfl)
  · have h := iN c_4 h
    refine lv_iconst (v := 1) C.x C.b dX12_writeInside_10 (by decide) ?_
    refine lv_goto (tgt := 15) C.x C.b dX12_writeInside_11 (by decide) ?_
    exact w_X12_writeInside_15 hF C hw hR x0 x2 1 _ _ _ _ h hI (lv_sub hl [0, 2] rfl)

theorem w_X8_write_37 {z : Int32 × cS} {F : Nat → Option Nat → cS → Option (Int32 × cS)} {fF lF : Nat} (hF : HF_write l g A F fF lF) {o : Nat} (C : CX p m meth c s args cX8_write 3 (Option.none : Option Jvm.ClassFile.FieldType) RX8) (hw : WKc g A s s.heap) (hR : RM g s R (fF + 14) (lF + 600)) {k2 : Option Nat → Int32 → cS → Option (Int32 × cS)} (hk2 : ∀ (x1 : Option Nat) (x2 : Int32) (σ : cS) (H : Heap) (locs : List Loc) (ls : Array Slot), k2 x1 x2 σ = some z → CI g A s σ H locs → lv_has ls 3 [(0, .ref o), (1, va_rf x1), (2, .int x2)] → W p l e R s m args below meth c H locs (H.size - s.heap.size) (hsl H - hsl s.heap) (MQ below (CQ g A (none) z.2) args s (g.2.2.1 3 - s.heap.size) (g.2.2.1 4 - hsl s.heap) A) (F0 m 2 ls [])) : ∀ (x1 : Option Nat) (x2 : Int32) (s0 : Option Nat) (s1 : Option Nat) (σ : cS) (H : Heap) (locs : List Loc) (ls : Array Slot), b_X8_write_37 F o k2 x1 x2 s0 s1 σ = some z → CI g A s σ H locs → lv_has ls 3 [(0, .ref o), (1, va_rf x1), (2, .int x2)] → W p l e R s m args below meth c H locs (H.size - s.heap.size) (hsl H - hsl s.heap) (MQ below (CQ g A (none) z.2) args s (g.2.2.1 3 - s.heap.size) (g.2.2.1 4 - hsl s.heap) A) (F0 m 37 ls [va_rf s1, va_rf s0]) := by
  intro x1 x2 s0 s1 σ H locs ls h hI hl
  unfold b_X8_write_37 at h
  refine cw_callV (y := yJ3_append_2) (bytes := cJ3_append_2) (maxL := 2) (r := s0) (f := fun a_3 => m_J3_append_2 a_3 s1 σ) 11 (fun v => some (va_rf v)) [va_rf s1] C hw hR hI hl.1 h (by decide) rfl (fun aa vv ss ee => k_J3_append_2 l g A aa s1 σ vv ss ee) (cwV 1 C.t (lw_V q1938 q515 q516 q130 q517) rfl rfl rfl (by decide +kernel) ⟨Nat.le_trans (Nat.le_add_left_of_le (Nat.le_of_ble_eq_true rfl)) hR.f, Nat.le_trans (Nat.le_add_left_of_le (Nat.le_of_ble_eq_true rfl)) hR.lo⟩) rfl rfl (Nat.le_of_ble_eq_true rfl) dX8_write_37 (fun v_1 σ_2 H locs h hI => ?_)
  refine lv_pop C.x C.b dX8_write_40 (cat_rf _) ?_
  refine r_aload_n (x := some o) C.x C.b dX8_write_41 rfl (lv_at hl 0 rfl) ?_
  refine cw_gR (r := some o) 5 0 C hw hI h (by decide) rfl in_X8 (by decide) (C.t _ q1032) (fun _ h9 => h9) dX8_write_42 (fun v_4 h => ?_)
  refine lv_iload_n C.x C.b dX8_write_45 rfl (lv_at hl 2 rfl) ?_
  refine cw_callV (y := yJ18_get) (bytes := cJ18_get) (maxL := 2) (r := v_4) (f := fun a_7 => m_J18_get a_7 x2 σ_2) 9 (fun v => some (va_rf v)) [.int x2] C hw hR hI hl.1 h (by decide) rfl (fun aa vv ss ee => k_J18_get l g A aa x2 σ_2 vv ss ee) (cwV 1 C.t (lw_V q1311 q1264 q1265 q152 q1266) rfl rfl rfl (by decide +kernel) ⟨Nat.le_trans (Nat.le_add_left_of_le (Nat.le_of_ble_eq_true rfl)) hR.f, Nat.le_trans (Nat.le_add_left_of_le (Nat.le_of_ble_eq_true rfl)) hR.lo⟩) rfl rfl (Nat.le_of_ble_eq_true rfl) dX8_write_46 (fun v_5 σ_6 H locs h hI => ?_)
  refine cw_castG (r := v_5) C hw hI h q1312 dX8_write_49 (fun h => ?_)
  refine r_aload_n (x := some o) C.x C.b dX8_write_52 rfl (lv_at hl 0 rfl) ?_
  refine cw_callV (y := yX8_tightness) (bytes := cX8_tightness) (maxL := 1) (r := some o) (f := fun a_10 => m_X8_tightness a_10 σ_6) 5 (fun v => some (.int v)) [] C hw hR hI hl.1 h (by decide) rfl (fun aa vv ss ee => k_X8_tightness l g A aa σ_6 vv ss ee) (cwV 0 C.t (lw_V q1939 q1913 q2709 q156 q1915) rfl rfl rfl (by decide +kernel) ⟨Nat.le_trans (Nat.le_add_left_of_le (Nat.le_of_ble_eq_true rfl)) hR.f, Nat.le_trans (Nat.le_add_left_of_le (Nat.le_of_ble_eq_true rfl)) hR.lo⟩) rfl rfl (Nat.le_of_ble_eq_true rfl) dX8_write_53 (fun v_8 σ_9 H locs h hI => ?_)
  refine r_aload_n (x := x1) C.x C.b dX8_write_56 rfl (lv_at hl 1 rfl) ?_
  refine cw_callS (y := yX12_writeInside) (bytes := cX12_writeInside) (maxL := 4) (fun _ => none) [va_rf v_5, .int v_8, va_rf x1] C hw hR hI hl.1 h (fun vv ss ee => k_X12_writeInside l g A hF v_5 v_8 x1 σ_9 vv ss ee) (va_cwS 3 C.t (lw_S q1940 q1899 q166 q1900) rfl rfl rfl (by decide +kernel) ⟨Nat.le_trans (by show fF + 7 + 1 ≤ fF + 14; omega) hR.f, Nat.le_trans (by show 8 + (4 + 11) + (lF + 175) ≤ lF + 600; omega) hR.lo⟩) rfl rfl (Nat.le_of_ble_eq_true rfl) dX8_write_57 (fun _ σ_11 H locs h hI => ?_)
  obtain ⟨x2_12, e_, h⟩ := nm_s h
  refine lv_iinc (v := x2_12) (lv' := [(2, .int x2_12), (0, .ref o), (1, va_rf x1)]) C.x C.b dX8_write_60 hl (k := 2) rfl e_.symm (by decide) (by first | (simp [List.filter, cat_rf, cat_i, cat_a, cat_n, cat_l, cat_f, cat_d]; done) | (simp [List.filter, cat_rf, cat_i, cat_a, cat_n, cat_l, cat_f, cat_d]; rfl)) (fun ls hl => ?_)
  refine lv_goto (tgt := 2) C.x C.b dX8_write_63 (by decide) ?_
  exact hk2 x1 x2_12 _ _ _ _ h hI (lv_sub hl [1, 2, 0] rfl)

theorem w_X8_write_2 {z : Int32 × cS} {F : Nat → Option Nat → cS → Option (Int32 × cS)} {fF lF : Nat} (hF : HF_write l g A F fF lF) {o : Nat} (C : CX p m meth c s args cX8_write 3 (Option.none : Option Jvm.ClassFile.FieldType) RX8) (hw : WKc g A s s.heap) (hR : RM g s R (fF + 14) (lF + 600))  : ∀ (n : Nat) (x1 : Option Nat) (x2 : Int32) (σ : cS) (H : Heap) (locs : List Loc) (ls : Array Slot), b_X8_write_2 F o n x1 x2 σ = some z → CI g A s σ H locs → lv_has ls 3 [(0, .ref o), (1, va_rf x1), (2, .int x2)] → W p l e R s m args below meth c H locs (H.size - s.heap.size) (hsl H - hsl s.heap) (MQ below (CQ g A (none) z.2) args s (g.2.2.1 3 - s.heap.size) (g.2.2.1 4 - hsl s.heap) A) (F0 m 2 ls []) := by
  intro n
  induction n with
  | zero =>
    intro x1 x2 σ H locs ls h
    cases h
  | succ n ih =>
    intro x1 x2 σ H locs ls h hI hl
    rw [b_X8_write_2] at h
    refine lv_iload_n C.x C.b dX8_write_2 rfl (lv_at hl 2 rfl) ?_
    refine r_aload_n (x := some o) C.x C.b dX8_write_3 rfl (lv_at hl 0 rfl) ?_
    refine cw_gR (r := some o) 5 0 C hw hI h (by decide) rfl in_X8 (by decide) (C.t _ q1032) (fun _ h9 => h9) dX8_write_4 (fun v_1 h => ?_)
    refine cw_callV (y := yJ18_size) (bytes := cJ18_size) (maxL := 1) (r := v_1) (f := fun a_4 => m_J18_size a_4 σ) 9 (fun v => some (.int v)) [] C hw hR hI hl.1 h (by decide) rfl (fun aa vv ss ee => k_J18_size l g A aa σ vv ss ee) (cwV 0 C.t (lw_V q1310 q947 q948 q152 q949) rfl rfl rfl (by decide +kernel) ⟨Nat.le_trans (Nat.le_add_left_of_le (Nat.le_of_ble_eq_true rfl)) hR.f, Nat.le_trans (Nat.le_add_left_of_le (Nat.le_of_ble_eq_true rfl)) hR.lo⟩) rfl rfl (Nat.le_of_ble_eq_true rfl) dX8_write_7 (fun v_2 σ_3 H locs h hI => ?_)
    refine lv_icmp_ge (tgt := 66) C.x C.b dX8_write_10 (by decide) (fun c_5 => ?_) (fun c_5 => ?_)
    · have h := ip c_5 h
      exact cw_vret C hI h dX8_write_66
    · have h := iN c_5 h
      refine r_aload_n (x := x1) C.x C.b dX8_write_13 rfl (lv_at hl 1 rfl) ?_
      refine lv_iload_n C.x C.b dX8_write_14 rfl (lv_at hl 2 rfl) ?_
      refine lv_if_ne (tgt := 23) C.x C.b dX8_write_15 (by decide) (fun c_6 => ?_) (fun c_6 => ?_)
      · have h := iN c_6 h
        refine r_aload_n (x := some o) C.x C.b dX8_write_23 rfl (lv_at hl 0 rfl) ?_
        refine cw_gI (r := some o) 5 1 C hw hI h (by decide) rfl in_X8 (by decide) (C.t _ q1034) (fun _ h9 => h9) dX8_write_24 (fun v_7 h => ?_)
        refine lv_if_eq (tgt := 35) C.x C.b dX8_write_27 (by decide) (fun c_8 => ?_) (fun c_8 => ?_)
        · have h := ip c_8 h
          refine cw_ldcS (tx := " or ") (k := 51) C hw hI (List.mem_of_getElem? (i := 33) rfl) (by decide) dX8_write_35 ?_
          exact w_X8_write_37 hF C hw hR (fun y0 y1 σ H locs ls h hI hl => ih y0 y1 σ H locs ls h hI hl) x1 x2 x1 (some (σ_3.2 51)) _ _ _ _ h hI (lv_sub hl [0, 1, 2] rfl)
        · have h := iN c_8 h
          refine cw_ldcS (tx := " and ") (k := 50) C hw hI (List.mem_of_getElem? (i := 32) rfl) (by decide) dX8_write_30 ?_
          refine lv_goto (tgt := 37) C.x C.b dX8_write_32 (by decide) ?_
          exact w_X8_write_37 hF C hw hR (fun y0 y1 σ H locs ls h hI hl => ih y0 y1 σ H locs ls h hI hl) x1 x2 x1 (some (σ_3.2 50)) _ _ _ _ h hI (lv_sub hl [0, 1, 2] rfl)
      · have h := ip c_6 h
        refine cw_ldcS (tx := "") (k := 27) C hw hI (List.mem_of_getElem? (i := 31) rfl) (by decide) dX8_write_18 ?_
        refine lv_goto (tgt := 37) C.x C.b dX8_write_20 (by decide) ?_
        exact w_X8_write_37 hF C hw hR (fun y0 y1 σ H locs ls h hI hl => ih y0 y1 σ H locs ls h hI hl) x1 x2 x1 (some (σ_3.2 27)) _ _ _ _ h hI (lv_sub hl [0, 1, 2] rfl)

theorem k_X8_write (l : Launch) (g : cG) (A : Nat → Prop) {F : Nat → Option Nat → cS → Option (Int32 × cS)} {fF lF : Nat} (hF : HF_write l g A F fF lF) (o : Nat) (x1 : Option Nat) (σ : cS) (v : Int32) (σ1 : cS) (h : m_X8_write F o x1 σ = some (v, σ1)) : Met l yX8_write (ws_ yX8_write cX8_write 3 (Option.none : Option Jvm.ClassFile.FieldType)) ({ frames := fF + 14, cells := σ.2 3 - σ.2 0, slots := σ.2 4 - σ.2 1, locals := lF + 600 }) (CPc g A [.ref o, va_rf x1] σ) (CQ g A (none) σ1) (σ.2 3 - σ.2 0) (σ.2 4 - σ.2 1) A := by
  refine Met.ofW (cc := cX8_write) (maxL := 3) (ret := (Option.none : Option Jvm.ClassFile.FieldType)) (by decide) rfl ?_
  intro p e s m args below meth c s₁ B hml hv
  obtain ⟨rfl, hw, hσ⟩ := hv
  have hts := atoms_spec (ws := (ws_ yX8_write cX8_write 3 (Option.none : Option Jvm.ClassFile.FieldType))) B.pre
  have C : CX p m meth c s ([.ref o, va_rf x1] : List Value).toArray cX8_write 3 (Option.none : Option Jvm.ClassFile.FieldType) RX8 := ⟨⟨B.exec, B.bytes, hml, findClass_of_methodNamed B.named, fun w h => hts w (List.mem_cons_of_mem _ h)⟩, B.returns, B.notSynchronized⟩
  have e3 : σ.2 3 - σ.2 0 = g.2.2.1 3 - s.heap.size := by rw [hσ.1, hσ.2.2.2.1 3 (by decide)]
  have e4 : σ.2 4 - σ.2 1 = g.2.2.1 4 - hsl s.heap := by rw [hσ.2.1, hσ.2.2.2.1 4 (by decide)]
  have hR : RM g s (headSpec (ws_ yX8_write cX8_write 3 (Option.none : Option Jvm.ClassFile.FieldType)) ({ frames := fF + 14, cells := σ.2 3 - σ.2 0, slots := σ.2 4 - σ.2 1, locals := lF + 600 })).room (fF + 14) (lF + 600) := ⟨⟨Nat.le_refl _, Nat.le_refl _⟩, Nat.le_of_eq e3.symm, Nat.le_of_eq e4.symm⟩
  generalize (headSpec (ws_ yX8_write cX8_write 3 (Option.none : Option Jvm.ClassFile.FieldType)) ({ frames := fF + 14, cells := σ.2 3 - σ.2 0, slots := σ.2 4 - σ.2 1, locals := lF + 600 })).room = R at hR ⊢
  rw [e3, e4]
  have hI : CI g A s σ s.heap [] := ⟨hσ, va_S.rf, Nat.le_refl _⟩
  have hlen : (lg_sl ([.ref o, va_rf x1])).length ≤ 3 := by rcases x1 with _ | x1 <;> exact Nat.le_of_ble_eq_true rfl
  have hl := lv_entry ([.ref o, va_rf x1]) (n := 3) hlen
  rw [lg_entry_eq]
  generalize (lg_sl ([.ref o, va_rf x1]) ++ List.replicate (3 - (lg_sl ([.ref o, va_rf x1])).length) Slot.unset).toArray = ls at hl ⊢
  have hl : lv_has ls 3 [(0, .ref o), (1, va_rf x1)] := by clear hI hw h hσ e3 e4 hR C hts B; rcases x1 with _ | x1 <;> exact hl
  obtain ⟨z, hz⟩ : ∃ z, z = (v, σ1) := ⟨_, rfl⟩
  rw [← hz] at h
  rw [show σ1 = z.2 by rw [hz]]
  clear hz v σ1
  refine W.narrow ?_
  unfold m_X8_write at h
  refine lv_iconst (v := 0) C.x C.b dX8_write_0 (by decide) ?_
  refine lv_istore_n (i := 2) (lv' := [(2, .int 0), (0, .ref o), (1, va_rf x1)]) C.x C.b dX8_write_1 rfl hl (by decide) (by first | (simp [List.filter, cat_rf, cat_i, cat_a, cat_n, cat_l, cat_f, cat_d]; done) | (simp [List.filter, cat_rf, cat_i, cat_a, cat_n, cat_l, cat_f, cat_d]; rfl)) (fun ls hl => ?_)
  exact w_X8_write_2 hF C hw hR _ x1 0 _ _ _ _ h hI (lv_sub hl [1, 2, 0] rfl)

theorem k_X5_init (l : Launch) (g : cG) (A : Nat → Prop) (o : Nat) (x1 : Option Nat) (σ : cS) (v : Int32) (σ1 : cS) (h : m_X5_init o x1 σ = some (v, σ1)) : Met l yX5_init (ws_ yX5_init cX5_init 2 (Option.none : Option Jvm.ClassFile.FieldType)) ({ frames := 1, cells := σ.2 3 - σ.2 0, slots := σ.2 4 - σ.2 1, locals := 40 }) (CPc g A [.ref o, va_rf x1] σ) (CQ g A (none) σ1) (σ.2 3 - σ.2 0) (σ.2 4 - σ.2 1) A := by
  refine Met.ofW (cc := cX5_init) (maxL := 2) (ret := (Option.none : Option Jvm.ClassFile.FieldType)) (by decide) rfl ?_
  intro p e s m args below meth c s₁ B hml hv
  obtain ⟨rfl, hw, hσ⟩ := hv
  have hts := atoms_spec (ws := (ws_ yX5_init cX5_init 2 (Option.none : Option Jvm.ClassFile.FieldType))) B.pre
  have C : CX p m meth c s ([.ref o, va_rf x1] : List Value).toArray cX5_init 2 (Option.none : Option Jvm.ClassFile.FieldType) RX5 := ⟨⟨B.exec, B.bytes, hml, findClass_of_methodNamed B.named, fun w h => hts w (List.mem_cons_of_mem _ h)⟩, B.returns, B.notSynchronized⟩
  have hin : meth.name = "<init>" := (name_of_methodNamed B.named B.method).1
  have e3 : σ.2 3 - σ.2 0 = g.2.2.1 3 - s.heap.size := by rw [hσ.1, hσ.2.2.2.1 3 (by decide)]
  have e4 : σ.2 4 - σ.2 1 = g.2.2.1 4 - hsl s.heap := by rw [hσ.2.1, hσ.2.2.2.1 4 (by decide)]
  have hR : RM g s (headSpec (ws_ yX5_init cX5_init 2 (Option.none : Option Jvm.ClassFile.FieldType)) ({ frames := 1, cells := σ.2 3 - σ.2 0, slots := σ.2 4 - σ.2 1, locals := 40 })).room (1) (40) := ⟨⟨Nat.le_refl _, Nat.le_refl _⟩, Nat.le_of_eq e3.symm, Nat.le_of_eq e4.symm⟩
  generalize (headSpec (ws_ yX5_init cX5_init 2 (Option.none : Option Jvm.ClassFile.FieldType)) ({ frames := 1, cells := σ.2 3 - σ.2 0, slots := σ.2 4 - σ.2 1, locals := 40 })).room = R at hR ⊢
  rw [e3, e4]
  have hI : CI g A s σ s.heap [] := ⟨hσ, va_S.rf, Nat.le_refl _⟩
  have hlen : (lg_sl ([.ref o, va_rf x1])).length ≤ 2 := by rcases x1 with _ | x1 <;> exact Nat.le_of_ble_eq_true rfl
  have hl := lv_entry ([.ref o, va_rf x1]) (n := 2) hlen
  rw [lg_entry_eq]
  generalize (lg_sl ([.ref o, va_rf x1]) ++ List.replicate (2 - (lg_sl ([.ref o, va_rf x1])).length) Slot.unset).toArray = ls at hl ⊢
  have hl : lv_has ls 2 [(0, .ref o), (1, va_rf x1)] := by clear hI hw h hσ e3 e4 hR C hts B; rcases x1 with _ | x1 <;> exact hl
  obtain ⟨z, hz⟩ : ∃ z, z = (v, σ1) := ⟨_, rfl⟩
  rw [← hz] at h
  rw [show σ1 = z.2 by rw [hz]]
  clear hz v σ1
  refine W.narrow ?_
  unfold m_X5_init at h
  refine r_aload_n (x := some o) C.x C.b dX5_init_0 rfl (lv_at hl 0 rfl) ?_
  refine r_aload_n (x := x1) C.x C.b dX5_init_1 rfl (lv_at hl 1 rfl) ?_
  refine cw_pO (r := some o) (v := (va_rf x1)) (ty := (.object "HeirCases$Guard")) 6 0 C hw hI h (by decide) rfl in_X5 tyX5 tyX5_ok nmX5 (by decide) (C.t _ q976) (fun _ h9 => h9) (Or.inr ⟨rfl, rfl, hin⟩) (by decide +kernel) (nar_o _ _) (fits_o _ _) dX5_init_2 (fun σ_1 H locs h hI => ?_)
  refine r_aload_n (x := some o) C.x C.b dX5_init_5 rfl (lv_at hl 0 rfl) ?_
  refine cw_obj C hR hl.1 q975 q173 q174 dX5_init_6 (by decide) (by decide) (Nat.le_of_ble_eq_true rfl) ?_
  exact cw_vret C hI h dX5_init_9

theorem k_X5_holds (l : Launch) (g : cG) (A : Nat → Prop) {F : Nat → Option Nat → cS → Option (Int32 × cS)} {fF lF : Nat} (hF : HF_holds l g A F fF lF) (o : Nat) (x1 : Option Nat) (σ : cS) (v : Int32) (σ1 : cS) (h : m_X5_holds F o x1 σ = some (v, σ1)) : Met l yX5_holds (ws_ yX5_holds cX5_holds 2 (Option.some Jvm.ClassFile.FieldType.boolean)) ({ frames := fF + 8, cells := σ.2 3 - σ.2 0, slots := σ.2 4 - σ.2 1, locals := lF + 200 }) (CPc g A [.ref o, va_rf x1] σ) (CQ g A (some (.int v)) σ1) (σ.2 3 - σ.2 0) (σ.2 4 - σ.2 1) A := by
  refine Met.ofW (cc := cX5_holds) (maxL := 2) (ret := (Option.some Jvm.ClassFile.FieldType.boolean)) (by decide) rfl ?_
  intro p e s m args below meth c s₁ B hml hv
  obtain ⟨rfl, hw, hσ⟩ := hv
  have hts := atoms_spec (ws := (ws_ yX5_holds cX5_holds 2 (Option.some Jvm.ClassFile.FieldType.boolean))) B.pre
  have C : CX p m meth c s ([.ref o, va_rf x1] : List Value).toArray cX5_holds 2 (Option.some Jvm.ClassFile.FieldType.boolean) RX5 := ⟨⟨B.exec, B.bytes, hml, findClass_of_methodNamed B.named, fun w h => hts w (List.mem_cons_of_mem _ h)⟩, B.returns, B.notSynchronized⟩
  have e3 : σ.2 3 - σ.2 0 = g.2.2.1 3 - s.heap.size := by rw [hσ.1, hσ.2.2.2.1 3 (by decide)]
  have e4 : σ.2 4 - σ.2 1 = g.2.2.1 4 - hsl s.heap := by rw [hσ.2.1, hσ.2.2.2.1 4 (by decide)]
  have hR : RM g s (headSpec (ws_ yX5_holds cX5_holds 2 (Option.some Jvm.ClassFile.FieldType.boolean)) ({ frames := fF + 8, cells := σ.2 3 - σ.2 0, slots := σ.2 4 - σ.2 1, locals := lF + 200 })).room (fF + 8) (lF + 200) := ⟨⟨Nat.le_refl _, Nat.le_refl _⟩, Nat.le_of_eq e3.symm, Nat.le_of_eq e4.symm⟩
  generalize (headSpec (ws_ yX5_holds cX5_holds 2 (Option.some Jvm.ClassFile.FieldType.boolean)) ({ frames := fF + 8, cells := σ.2 3 - σ.2 0, slots := σ.2 4 - σ.2 1, locals := lF + 200 })).room = R at hR ⊢
  rw [e3, e4]
  have hI : CI g A s σ s.heap [] := ⟨hσ, va_S.rf, Nat.le_refl _⟩
  have hlen : (lg_sl ([.ref o, va_rf x1])).length ≤ 2 := by rcases x1 with _ | x1 <;> exact Nat.le_of_ble_eq_true rfl
  have hl := lv_entry ([.ref o, va_rf x1]) (n := 2) hlen
  rw [lg_entry_eq]
  generalize (lg_sl ([.ref o, va_rf x1]) ++ List.replicate (2 - (lg_sl ([.ref o, va_rf x1])).length) Slot.unset).toArray = ls at hl ⊢
  have hl : lv_has ls 2 [(0, .ref o), (1, va_rf x1)] := by clear hI hw h hσ e3 e4 hR C hts B; rcases x1 with _ | x1 <;> exact hl
  obtain ⟨z, hz⟩ : ∃ z, z = (v, σ1) := ⟨_, rfl⟩
  rw [← hz] at h
  rw [show v = z.1 by rw [hz], show σ1 = z.2 by rw [hz]]
  clear hz v σ1
  refine W.narrow ?_
  unfold m_X5_holds at h
  refine r_aload_n (x := some o) C.x C.b dX5_holds_0 rfl (lv_at hl 0 rfl) ?_
  refine cw_gR (r := some o) 6 0 C hw hI h (by decide) rfl in_X5 (by decide) (C.t _ q976) (fun _ h9 => h9) dX5_holds_1 (fun v_1 h => ?_)
  refine r_aload_n (x := x1) C.x C.b dX5_holds_4 rfl (lv_at hl 1 rfl) ?_
  refine cw_callF (x := ⟨"HeirCases$Guard", "holds", "([I)Z"⟩) (r := v_1) (f := fun a_4 => F a_4 x1 σ) (fun v => some (.int v)) [va_rf x1] C hw hR hI hl.1 h (fun aa vv ss ee => (hF aa x1 σ vv ss ee).elim (fun qq => ⟨4, qq.1, _, yX7_holds, cX7_holds, 2, (Option.some Jvm.ClassFile.FieldType.boolean), _, _, by decide, rfl, qq.2, Or.inl (va_cwF 1 C.t (lw_app (mem4 q1293 q1295 q1297 q155) (lw_meth q1299)) rfl rfl rfl (hw.2.2.2.2.2.2.2.2.2.1 _ (List.mem_of_getElem? (i := 5) rfl)) (by decide +kernel) ⟨Nat.le_trans (by show fF + 1 ≤ fF + 8; omega) hR.f, Nat.le_trans (by show 8 + (2 + 11) + lF ≤ lF + 200; omega) hR.lo⟩)⟩) (fun hh => hh.elim (fun qq => ⟨5, qq.1, _, yX8_holds, cX8_holds, 4, (Option.some Jvm.ClassFile.FieldType.boolean), _, _, by decide, rfl, qq.2, Or.inl (va_cwF 1 C.t (lw_app (mem4 q1293 q1305 q1307 q156) (lw_meth q1309)) rfl rfl rfl (hw.2.2.2.2.2.2.2.2.2.1 _ (List.mem_of_getElem? (i := 7) rfl)) (by decide +kernel) ⟨Nat.le_trans (by show fF + 1 ≤ fF + 8; omega) hR.f, Nat.le_trans (by show 8 + (4 + 11) + lF ≤ lF + 200; omega) hR.lo⟩)⟩) (fun hh => hh.elim (fun qq => ⟨6, qq.1, _, yX5_holds, cX5_holds, 2, (Option.some Jvm.ClassFile.FieldType.boolean), _, _, by decide, rfl, qq.2, Or.inl (va_cwF 1 C.t (lw_app (mem4 q1293 q1287 q1289 q153) (lw_meth q1291)) rfl rfl rfl (hw.2.2.2.2.2.2.2.2.2.1 _ (List.mem_of_getElem? (i := 9) rfl)) (by decide +kernel) ⟨Nat.le_trans (by show fF + 1 ≤ fF + 8; omega) hR.f, Nat.le_trans (by show 8 + (2 + 11) + lF ≤ lF + 200; omega) hR.lo⟩)⟩) (fun qq => ⟨7, qq.1, _, yX6_holds, cX6_holds, 2, (Option.some Jvm.ClassFile.FieldType.boolean), _, _, by decide, rfl, qq.2, Or.inl (va_cwF 1 C.t (lw_app (mem4 q1293 q1281 q1283 q154) (lw_meth q1285)) rfl rfl rfl (hw.2.2.2.2.2.2.2.2.2.1 _ (List.mem_of_getElem? (i := 11) rfl)) (by decide +kernel) ⟨Nat.le_trans (by show fF + 1 ≤ fF + 8; omega) hR.f, Nat.le_trans (by show 8 + (2 + 11) + lF ≤ lF + 200; omega) hR.lo⟩)⟩)))) rfl rfl (Nat.le_of_ble_eq_true rfl) dX5_holds_5 (fun v_2 σ_3 H locs h hI => ?_)
  refine lv_if_ne (tgt := 17) C.x C.b dX5_holds_10 (by decide) (fun c_5 => ?_) (fun c_5 => ?_)
  · have h := iN c_5 h
    refine lv_iconst (v := 0) C.x C.b dX5_holds_17 (by decide) ?_
    exact cw_zret C hI h dX5_holds_18
  · have h := ip c_5 h
    refine lv_iconst (v := 1) C.x C.b dX5_holds_13 (by decide) ?_
    refine lv_goto (tgt := 18) C.x C.b dX5_holds_14 (by decide) ?_
    exact cw_zret C hI h dX5_holds_18

theorem k_X5_write (l : Launch) (g : cG) (A : Nat → Prop) {F : Nat → Option Nat → cS → Option (Int32 × cS)} {fF lF : Nat} (hF : HF_write l g A F fF lF) (o : Nat) (x1 : Option Nat) (σ : cS) (v : Int32) (σ1 : cS) (h : m_X5_write F o x1 σ = some (v, σ1)) : Met l yX5_write (ws_ yX5_write cX5_write 2 (Option.none : Option Jvm.ClassFile.FieldType)) ({ frames := fF + 14, cells := σ.2 3 - σ.2 0, slots := σ.2 4 - σ.2 1, locals := lF + 600 }) (CPc g A [.ref o, va_rf x1] σ) (CQ g A (none) σ1) (σ.2 3 - σ.2 0) (σ.2 4 - σ.2 1) A := by
  refine Met.ofW (cc := cX5_write) (maxL := 2) (ret := (Option.none : Option Jvm.ClassFile.FieldType)) (by decide) rfl ?_
  intro p e s m args below meth c s₁ B hml hv
  obtain ⟨rfl, hw, hσ⟩ := hv
  have hts := atoms_spec (ws := (ws_ yX5_write cX5_write 2 (Option.none : Option Jvm.ClassFile.FieldType))) B.pre
  have C : CX p m meth c s ([.ref o, va_rf x1] : List Value).toArray cX5_write 2 (Option.none : Option Jvm.ClassFile.FieldType) RX5 := ⟨⟨B.exec, B.bytes, hml, findClass_of_methodNamed B.named, fun w h => hts w (List.mem_cons_of_mem _ h)⟩, B.returns, B.notSynchronized⟩
  have e3 : σ.2 3 - σ.2 0 = g.2.2.1 3 - s.heap.size := by rw [hσ.1, hσ.2.2.2.1 3 (by decide)]
  have e4 : σ.2 4 - σ.2 1 = g.2.2.1 4 - hsl s.heap := by rw [hσ.2.1, hσ.2.2.2.1 4 (by decide)]
  have hR : RM g s (headSpec (ws_ yX5_write cX5_write 2 (Option.none : Option Jvm.ClassFile.FieldType)) ({ frames := fF + 14, cells := σ.2 3 - σ.2 0, slots := σ.2 4 - σ.2 1, locals := lF + 600 })).room (fF + 14) (lF + 600) := ⟨⟨Nat.le_refl _, Nat.le_refl _⟩, Nat.le_of_eq e3.symm, Nat.le_of_eq e4.symm⟩
  generalize (headSpec (ws_ yX5_write cX5_write 2 (Option.none : Option Jvm.ClassFile.FieldType)) ({ frames := fF + 14, cells := σ.2 3 - σ.2 0, slots := σ.2 4 - σ.2 1, locals := lF + 600 })).room = R at hR ⊢
  rw [e3, e4]
  have hI : CI g A s σ s.heap [] := ⟨hσ, va_S.rf, Nat.le_refl _⟩
  have hlen : (lg_sl ([.ref o, va_rf x1])).length ≤ 2 := by rcases x1 with _ | x1 <;> exact Nat.le_of_ble_eq_true rfl
  have hl := lv_entry ([.ref o, va_rf x1]) (n := 2) hlen
  rw [lg_entry_eq]
  generalize (lg_sl ([.ref o, va_rf x1]) ++ List.replicate (2 - (lg_sl ([.ref o, va_rf x1])).length) Slot.unset).toArray = ls at hl ⊢
  have hl : lv_has ls 2 [(0, .ref o), (1, va_rf x1)] := by clear hI hw h hσ e3 e4 hR C hts B; rcases x1 with _ | x1 <;> exact hl
  obtain ⟨z, hz⟩ : ∃ z, z = (v, σ1) := ⟨_, rfl⟩
  rw [← hz] at h
  rw [show σ1 = z.2 by rw [hz]]
  clear hz v σ1
  refine W.narrow ?_
  unfold m_X5_write at h
  refine r_aload_n (x := x1) C.x C.b dX5_write_0 rfl (lv_at hl 1 rfl) ?_
  refine cw_ldcS (tx := "not ") (k := 52) C hw hI (List.mem_of_getElem? (i := 35) rfl) (by decide) dX5_write_1 ?_
  refine cw_callV (y := yJ3_append_2) (bytes := cJ3_append_2) (maxL := 2) (r := x1) (f := fun a_3 => m_J3_append_2 a_3 (some (σ.2 52)) σ) 11 (fun v => some (va_rf v)) [.ref (σ.2 52)] C hw hR hI hl.1 h (by decide) rfl (fun aa vv ss ee => k_J3_append_2 l g A aa (some (σ.2 52)) σ vv ss ee) (cwV 1 C.t (lw_V q1897 q515 q516 q130 q517) rfl rfl rfl (by decide +kernel) ⟨Nat.le_trans (Nat.le_add_left_of_le (Nat.le_of_ble_eq_true rfl)) hR.f, Nat.le_trans (Nat.le_add_left_of_le (Nat.le_of_ble_eq_true rfl)) hR.lo⟩) rfl rfl (Nat.le_of_ble_eq_true rfl) dX5_write_3 (fun v_1 σ_2 H locs h hI => ?_)
  refine lv_pop C.x C.b dX5_write_6 (cat_rf _) ?_
  refine r_aload_n (x := some o) C.x C.b dX5_write_7 rfl (lv_at hl 0 rfl) ?_
  refine cw_gR (r := some o) 6 0 C hw hI h (by decide) rfl in_X5 (by decide) (C.t _ q976) (fun _ h9 => h9) dX5_write_8 (fun v_4 h => ?_)
  refine lv_iconst (v := 2) C.x C.b dX5_write_11 (by decide) ?_
  refine r_aload_n (x := x1) C.x C.b dX5_write_12 rfl (lv_at hl 1 rfl) ?_
  refine cw_callS (y := yX12_writeInside) (bytes := cX12_writeInside) (maxL := 4) (fun _ => none) [va_rf v_4, .int 2, va_rf x1] C hw hR hI hl.1 h (fun vv ss ee => k_X12_writeInside l g A hF v_4 2 x1 σ_2 vv ss ee) (va_cwS 3 C.t (lw_S q1898 q1899 q166 q1900) rfl rfl rfl (by decide +kernel) ⟨Nat.le_trans (by show fF + 7 + 1 ≤ fF + 14; omega) hR.f, Nat.le_trans (by show 8 + (4 + 11) + (lF + 175) ≤ lF + 600; omega) hR.lo⟩) rfl rfl (Nat.le_of_ble_eq_true rfl) dX5_write_13 (fun _ σ_5 H locs h hI => ?_)
  exact cw_vret C hI h dX5_write_16

theorem k_X6_init (l : Launch) (g : cG) (A : Nat → Prop) (o : Nat) (σ : cS) (v : Int32) (σ1 : cS) (h : m_X6_init o σ = some (v, σ1)) : Met l yX6_init (ws_ yX6_init cX6_init 1 (Option.none : Option Jvm.ClassFile.FieldType)) ({ frames := 1, cells := σ.2 3 - σ.2 0, slots := σ.2 4 - σ.2 1, locals := 40 }) (CPc g A [.ref o] σ) (CQ g A (none) σ1) (σ.2 3 - σ.2 0) (σ.2 4 - σ.2 1) A := by
  refine Met.ofW (cc := cX6_init) (maxL := 1) (ret := (Option.none : Option Jvm.ClassFile.FieldType)) (by decide) rfl ?_
  intro p e s m args below meth c s₁ B hml hv
  obtain ⟨rfl, hw, hσ⟩ := hv
  have hts := atoms_spec (ws := (ws_ yX6_init cX6_init 1 (Option.none : Option Jvm.ClassFile.FieldType))) B.pre
  have C : CX p m meth c s ([.ref o] : List Value).toArray cX6_init 1 (Option.none : Option Jvm.ClassFile.FieldType) RX6 := ⟨⟨B.exec, B.bytes, hml, findClass_of_methodNamed B.named, fun w h => hts w (List.mem_cons_of_mem _ h)⟩, B.returns, B.notSynchronized⟩
  have hin : meth.name = "<init>" := (name_of_methodNamed B.named B.method).1
  have e3 : σ.2 3 - σ.2 0 = g.2.2.1 3 - s.heap.size := by rw [hσ.1, hσ.2.2.2.1 3 (by decide)]
  have e4 : σ.2 4 - σ.2 1 = g.2.2.1 4 - hsl s.heap := by rw [hσ.2.1, hσ.2.2.2.1 4 (by decide)]
  have hR : RM g s (headSpec (ws_ yX6_init cX6_init 1 (Option.none : Option Jvm.ClassFile.FieldType)) ({ frames := 1, cells := σ.2 3 - σ.2 0, slots := σ.2 4 - σ.2 1, locals := 40 })).room (1) (40) := ⟨⟨Nat.le_refl _, Nat.le_refl _⟩, Nat.le_of_eq e3.symm, Nat.le_of_eq e4.symm⟩
  generalize (headSpec (ws_ yX6_init cX6_init 1 (Option.none : Option Jvm.ClassFile.FieldType)) ({ frames := 1, cells := σ.2 3 - σ.2 0, slots := σ.2 4 - σ.2 1, locals := 40 })).room = R at hR ⊢
  rw [e3, e4]
  have hI : CI g A s σ s.heap [] := ⟨hσ, va_S.rf, Nat.le_refl _⟩
  have hl := lv_entry ([.ref o]) (n := 1) (Nat.le_of_ble_eq_true rfl)
  rw [lg_entry_eq]
  generalize (lg_sl ([.ref o]) ++ List.replicate (1 - (lg_sl ([.ref o])).length) Slot.unset).toArray = ls at hl ⊢
  have hl : lv_has ls 1 [(0, .ref o)] := hl
  obtain ⟨z, hz⟩ : ∃ z, z = (v, σ1) := ⟨_, rfl⟩
  rw [← hz] at h
  rw [show σ1 = z.2 by rw [hz]]
  clear hz v σ1
  refine W.narrow ?_
  unfold m_X6_init at h
  refine r_aload_n (x := some o) C.x C.b dX6_init_0 rfl (lv_at hl 0 rfl) ?_
  refine cw_obj C hR hl.1 q995 q173 q174 dX6_init_1 (by decide) (by decide) (Nat.le_of_ble_eq_true rfl) ?_
  exact cw_vret C hI h dX6_init_4

theorem k_X6_holds (l : Launch) (g : cG) (A : Nat → Prop) {F : Nat → Option Nat → cS → Option (Int32 × cS)} {fF lF : Nat} (hF : HF_holds l g A F fF lF) (o : Nat) (x1 : Option Nat) (σ : cS) (v : Int32) (σ1 : cS) (h : m_X6_holds F o x1 σ = some (v, σ1)) : Met l yX6_holds (ws_ yX6_holds cX6_holds 2 (Option.some Jvm.ClassFile.FieldType.boolean)) ({ frames := fF + 8, cells := σ.2 3 - σ.2 0, slots := σ.2 4 - σ.2 1, locals := lF + 200 }) (CPc g A [.ref o, va_rf x1] σ) (CQ g A (some (.int v)) σ1) (σ.2 3 - σ.2 0) (σ.2 4 - σ.2 1) A := by
  refine Met.ofW (cc := cX6_holds) (maxL := 2) (ret := (Option.some Jvm.ClassFile.FieldType.boolean)) (by decide) rfl ?_
  intro p e s m args below meth c s₁ B hml hv
  obtain ⟨rfl, hw, hσ⟩ := hv
  have hts := atoms_spec (ws := (ws_ yX6_holds cX6_holds 2 (Option.some Jvm.ClassFile.FieldType.boolean))) B.pre
  have C : CX p m meth c s ([.ref o, va_rf x1] : List Value).toArray cX6_holds 2 (Option.some Jvm.ClassFile.FieldType.boolean) RX6 := ⟨⟨B.exec, B.bytes, hml, findClass_of_methodNamed B.named, fun w h => hts w (List.mem_cons_of_mem _ h)⟩, B.returns, B.notSynchronized⟩
  have e3 : σ.2 3 - σ.2 0 = g.2.2.1 3 - s.heap.size := by rw [hσ.1, hσ.2.2.2.1 3 (by decide)]
  have e4 : σ.2 4 - σ.2 1 = g.2.2.1 4 - hsl s.heap := by rw [hσ.2.1, hσ.2.2.2.1 4 (by decide)]
  have hR : RM g s (headSpec (ws_ yX6_holds cX6_holds 2 (Option.some Jvm.ClassFile.FieldType.boolean)) ({ frames := fF + 8, cells := σ.2 3 - σ.2 0, slots := σ.2 4 - σ.2 1, locals := lF + 200 })).room (fF + 8) (lF + 200) := ⟨⟨Nat.le_refl _, Nat.le_refl _⟩, Nat.le_of_eq e3.symm, Nat.le_of_eq e4.symm⟩
  generalize (headSpec (ws_ yX6_holds cX6_holds 2 (Option.some Jvm.ClassFile.FieldType.boolean)) ({ frames := fF + 8, cells := σ.2 3 - σ.2 0, slots := σ.2 4 - σ.2 1, locals := lF + 200 })).room = R at hR ⊢
  rw [e3, e4]
  have hI : CI g A s σ s.heap [] := ⟨hσ, va_S.rf, Nat.le_refl _⟩
  have hlen : (lg_sl ([.ref o, va_rf x1])).length ≤ 2 := by rcases x1 with _ | x1 <;> exact Nat.le_of_ble_eq_true rfl
  have hl := lv_entry ([.ref o, va_rf x1]) (n := 2) hlen
  rw [lg_entry_eq]
  generalize (lg_sl ([.ref o, va_rf x1]) ++ List.replicate (2 - (lg_sl ([.ref o, va_rf x1])).length) Slot.unset).toArray = ls at hl ⊢
  have hl : lv_has ls 2 [(0, .ref o), (1, va_rf x1)] := by clear hI hw h hσ e3 e4 hR C hts B; rcases x1 with _ | x1 <;> exact hl
  obtain ⟨z, hz⟩ : ∃ z, z = (v, σ1) := ⟨_, rfl⟩
  rw [← hz] at h
  rw [show v = z.1 by rw [hz], show σ1 = z.2 by rw [hz]]
  clear hz v σ1
  refine W.narrow ?_
  unfold m_X6_holds at h
  refine lv_iconst (v := 1) C.x C.b dX6_holds_0 (by decide) ?_
  exact cw_zret C hI h dX6_holds_1

theorem kd_holds (l : Launch) (g : cG) (A : Nat → Prop) : ∀ d, HF_holds l g A (dv_holds d) (8 * d) (200 * d) := by
  intro d
  induction d with
  | zero => intro a x1 σ v σ1 h; cases h
  | succ d ih =>
    intro a x1 σ v σ1 h
    unfold dv_holds at h
    by_cases c0 : isO σ a 4 = true
    · rw [if_pos c0] at h
      exact Or.inl ⟨by assumption, k_X7_holds l g A ih a x1 σ v σ1 h⟩
    rw [if_neg c0] at h
    by_cases c1 : isO σ a 5 = true
    · rw [if_pos c1] at h
      exact Or.inr (Or.inl ⟨by assumption, k_X8_holds l g A ih a x1 σ v σ1 h⟩)
    rw [if_neg c1] at h
    by_cases c2 : isO σ a 6 = true
    · rw [if_pos c2] at h
      exact Or.inr (Or.inr (Or.inl ⟨by assumption, k_X5_holds l g A ih a x1 σ v σ1 h⟩))
    rw [if_neg c2] at h
    by_cases c3 : isO σ a 7 = true
    · rw [if_pos c3] at h
      exact Or.inr (Or.inr (Or.inr (⟨by assumption, k_X6_holds l g A ih a x1 σ v σ1 h⟩)))
    rw [if_neg c3] at h
    cases h
theorem kd_holdsD (l : Launch) (g : cG) (A : Nat → Prop) : HF_holds l g A (dv_holds DPC) 256 6400 := kd_holds l g A DPC

theorem k_X6_write (l : Launch) (g : cG) (A : Nat → Prop) {F : Nat → Option Nat → cS → Option (Int32 × cS)} {fF lF : Nat} (hF : HF_write l g A F fF lF) (o : Nat) (x1 : Option Nat) (σ : cS) (v : Int32) (σ1 : cS) (h : m_X6_write F o x1 σ = some (v, σ1)) : Met l yX6_write (ws_ yX6_write cX6_write 2 (Option.none : Option Jvm.ClassFile.FieldType)) ({ frames := fF + 14, cells := σ.2 3 - σ.2 0, slots := σ.2 4 - σ.2 1, locals := lF + 600 }) (CPc g A [.ref o, va_rf x1] σ) (CQ g A (none) σ1) (σ.2 3 - σ.2 0) (σ.2 4 - σ.2 1) A := by
  refine Met.ofW (cc := cX6_write) (maxL := 2) (ret := (Option.none : Option Jvm.ClassFile.FieldType)) (by decide) rfl ?_
  intro p e s m args below meth c s₁ B hml hv
  obtain ⟨rfl, hw, hσ⟩ := hv
  have hts := atoms_spec (ws := (ws_ yX6_write cX6_write 2 (Option.none : Option Jvm.ClassFile.FieldType))) B.pre
  have C : CX p m meth c s ([.ref o, va_rf x1] : List Value).toArray cX6_write 2 (Option.none : Option Jvm.ClassFile.FieldType) RX6 := ⟨⟨B.exec, B.bytes, hml, findClass_of_methodNamed B.named, fun w h => hts w (List.mem_cons_of_mem _ h)⟩, B.returns, B.notSynchronized⟩
  have e3 : σ.2 3 - σ.2 0 = g.2.2.1 3 - s.heap.size := by rw [hσ.1, hσ.2.2.2.1 3 (by decide)]
  have e4 : σ.2 4 - σ.2 1 = g.2.2.1 4 - hsl s.heap := by rw [hσ.2.1, hσ.2.2.2.1 4 (by decide)]
  have hR : RM g s (headSpec (ws_ yX6_write cX6_write 2 (Option.none : Option Jvm.ClassFile.FieldType)) ({ frames := fF + 14, cells := σ.2 3 - σ.2 0, slots := σ.2 4 - σ.2 1, locals := lF + 600 })).room (fF + 14) (lF + 600) := ⟨⟨Nat.le_refl _, Nat.le_refl _⟩, Nat.le_of_eq e3.symm, Nat.le_of_eq e4.symm⟩
  generalize (headSpec (ws_ yX6_write cX6_write 2 (Option.none : Option Jvm.ClassFile.FieldType)) ({ frames := fF + 14, cells := σ.2 3 - σ.2 0, slots := σ.2 4 - σ.2 1, locals := lF + 600 })).room = R at hR ⊢
  rw [e3, e4]
  have hI : CI g A s σ s.heap [] := ⟨hσ, va_S.rf, Nat.le_refl _⟩
  have hlen : (lg_sl ([.ref o, va_rf x1])).length ≤ 2 := by rcases x1 with _ | x1 <;> exact Nat.le_of_ble_eq_true rfl
  have hl := lv_entry ([.ref o, va_rf x1]) (n := 2) hlen
  rw [lg_entry_eq]
  generalize (lg_sl ([.ref o, va_rf x1]) ++ List.replicate (2 - (lg_sl ([.ref o, va_rf x1])).length) Slot.unset).toArray = ls at hl ⊢
  have hl : lv_has ls 2 [(0, .ref o), (1, va_rf x1)] := by clear hI hw h hσ e3 e4 hR C hts B; rcases x1 with _ | x1 <;> exact hl
  obtain ⟨z, hz⟩ : ∃ z, z = (v, σ1) := ⟨_, rfl⟩
  rw [← hz] at h
  rw [show σ1 = z.2 by rw [hz]]
  clear hz v σ1
  refine W.narrow ?_
  unfold m_X6_write at h
  refine r_aload_n (x := x1) C.x C.b dX6_write_0 rfl (lv_at hl 1 rfl) ?_
  refine cw_ldcS (tx := "always") (k := 47) C hw hI (List.mem_of_getElem? (i := 34) rfl) (by decide) dX6_write_1 ?_
  refine cw_callV (y := yJ3_append_2) (bytes := cJ3_append_2) (maxL := 2) (r := x1) (f := fun a_3 => m_J3_append_2 a_3 (some (σ.2 47)) σ) 11 (fun v => some (va_rf v)) [.ref (σ.2 47)] C hw hR hI hl.1 h (by decide) rfl (fun aa vv ss ee => k_J3_append_2 l g A aa (some (σ.2 47)) σ vv ss ee) (cwV 1 C.t (lw_V q1890 q515 q516 q130 q517) rfl rfl rfl (by decide +kernel) ⟨Nat.le_trans (Nat.le_add_left_of_le (Nat.le_of_ble_eq_true rfl)) hR.f, Nat.le_trans (Nat.le_add_left_of_le (Nat.le_of_ble_eq_true rfl)) hR.lo⟩) rfl rfl (Nat.le_of_ble_eq_true rfl) dX6_write_3 (fun v_1 σ_2 H locs h hI => ?_)
  refine lv_pop C.x C.b dX6_write_6 (cat_rf _) ?_
  exact cw_vret C hI h dX6_write_7

theorem kd_write (l : Launch) (g : cG) (A : Nat → Prop) : ∀ d, HF_write l g A (dv_write d) (14 * d) (600 * d) := by
  intro d
  induction d with
  | zero => intro a x1 σ v σ1 h; cases h
  | succ d ih =>
    intro a x1 σ v σ1 h
    unfold dv_write at h
    by_cases c0 : isO σ a 4 = true
    · rw [if_pos c0] at h
      exact Or.inl ⟨by assumption, k_X7_write l g A ih a x1 σ v σ1 h⟩
    rw [if_neg c0] at h
    by_cases c1 : isO σ a 5 = true
    · rw [if_pos c1] at h
      exact Or.inr (Or.inl ⟨by assumption, k_X8_write l g A ih a x1 σ v σ1 h⟩)
    rw [if_neg c1] at h
    by_cases c2 : isO σ a 6 = true
    · rw [if_pos c2] at h
      exact Or.inr (Or.inr (Or.inl ⟨by assumption, k_X5_write l g A ih a x1 σ v σ1 h⟩))
    rw [if_neg c2] at h
    by_cases c3 : isO σ a 7 = true
    · rw [if_pos c3] at h
      exact Or.inr (Or.inr (Or.inr (⟨by assumption, k_X6_write l g A ih a x1 σ v σ1 h⟩)))
    rw [if_neg c3] at h
    cases h
theorem kd_writeD (l : Launch) (g : cG) (A : Nat → Prop) : HF_write l g A (dv_write DPC) 448 19200 := kd_write l g A DPC

theorem k_X3_init (l : Launch) (hl0 : l.stackTraces = false) (g : cG) (A : Nat → Prop) (o : Nat) (x1 : Int32) (x2 : Int32) (σ : cS) (v : Int32) (σ1 : cS) (h : m_X3_init o x1 x2 σ = some (v, σ1)) : Met l yX3_init (ws_ yX3_init cX3_init 3 (Option.none : Option Jvm.ClassFile.FieldType)) ({ frames := 8, cells := σ.2 3 - σ.2 0, slots := σ.2 4 - σ.2 1, locals := 100 }) (CPc g A [.ref o, .int x1, .int x2] σ) (CQ g A (none) σ1) (σ.2 3 - σ.2 0) (σ.2 4 - σ.2 1) A := by
  refine Met.ofW (cc := cX3_init) (maxL := 3) (ret := (Option.none : Option Jvm.ClassFile.FieldType)) (by decide) rfl ?_
  intro p e s m args below meth c s₁ B hml hv
  obtain ⟨rfl, hw, hσ⟩ := hv
  have hts := atoms_spec (ws := (ws_ yX3_init cX3_init 3 (Option.none : Option Jvm.ClassFile.FieldType))) B.pre
  have C : CX p m meth c s ([.ref o, .int x1, .int x2] : List Value).toArray cX3_init 3 (Option.none : Option Jvm.ClassFile.FieldType) RX3 := ⟨⟨B.exec, B.bytes, hml, findClass_of_methodNamed B.named, fun w h => hts w (List.mem_cons_of_mem _ h)⟩, B.returns, B.notSynchronized⟩
  have hin : meth.name = "<init>" := (name_of_methodNamed B.named B.method).1
  have e3 : σ.2 3 - σ.2 0 = g.2.2.1 3 - s.heap.size := by rw [hσ.1, hσ.2.2.2.1 3 (by decide)]
  have e4 : σ.2 4 - σ.2 1 = g.2.2.1 4 - hsl s.heap := by rw [hσ.2.1, hσ.2.2.2.1 4 (by decide)]
  have hR : RM g s (headSpec (ws_ yX3_init cX3_init 3 (Option.none : Option Jvm.ClassFile.FieldType)) ({ frames := 8, cells := σ.2 3 - σ.2 0, slots := σ.2 4 - σ.2 1, locals := 100 })).room (8) (100) := ⟨⟨Nat.le_refl _, Nat.le_refl _⟩, Nat.le_of_eq e3.symm, Nat.le_of_eq e4.symm⟩
  generalize (headSpec (ws_ yX3_init cX3_init 3 (Option.none : Option Jvm.ClassFile.FieldType)) ({ frames := 8, cells := σ.2 3 - σ.2 0, slots := σ.2 4 - σ.2 1, locals := 100 })).room = R at hR ⊢
  rw [e3, e4]
  have hI : CI g A s σ s.heap [] := ⟨hσ, va_S.rf, Nat.le_refl _⟩
  have hl := lv_entry ([.ref o, .int x1, .int x2]) (n := 3) (Nat.le_of_ble_eq_true rfl)
  rw [lg_entry_eq]
  generalize (lg_sl ([.ref o, .int x1, .int x2]) ++ List.replicate (3 - (lg_sl ([.ref o, .int x1, .int x2])).length) Slot.unset).toArray = ls at hl ⊢
  have hl : lv_has ls 3 [(0, .ref o), (1, .int x1), (2, .int x2)] := hl
  obtain ⟨z, hz⟩ : ∃ z, z = (v, σ1) := ⟨_, rfl⟩
  rw [← hz] at h
  rw [show σ1 = z.2 by rw [hz]]
  clear hz v σ1
  refine W.narrow ?_
  unfold m_X3_init at h
  refine r_aload_n (x := some o) C.x C.b dX3_init_0 rfl (lv_at hl 0 rfl) ?_
  refine cw_exI (r := some o) C hw hR hI hl0 hl.1 h (Nat.le_of_ble_eq_true rfl) (Nat.le_of_ble_eq_true rfl) (Nat.le_of_ble_eq_true rfl) dX3_init_1 (fun σ_1 H locs h hI => ?_)
  refine r_aload_n (x := some o) C.x C.b dX3_init_4 rfl (lv_at hl 0 rfl) ?_
  refine lv_iload_n C.x C.b dX3_init_5 rfl (lv_at hl 1 rfl) ?_
  refine cw_pO (r := some o) (v := (.int x1)) (ty := .int) 14 0 C hw hI h (by decide) rfl in_XF tyXF tyXF_ok nmXF (by decide) (C.t _ q769) (fun _ h9 => h9) (Or.inr ⟨rfl, rfl, hin⟩) (by decide +kernel) rfl rfl dX3_init_6 (fun σ_2 H locs h hI => ?_)
  refine r_aload_n (x := some o) C.x C.b dX3_init_9 rfl (lv_at hl 0 rfl) ?_
  refine lv_iload_n C.x C.b dX3_init_10 rfl (lv_at hl 2 rfl) ?_
  refine cw_pO (r := some o) (v := (.int x2)) (ty := .int) 14 1 C hw hI h (by decide) rfl in_XF tyXF tyXF_ok nmXF (by decide) (C.t _ q771) (fun _ h9 => h9) (Or.inr ⟨rfl, rfl, hin⟩) (by decide +kernel) rfl rfl dX3_init_11 (fun σ_3 H locs h hI => ?_)
  exact cw_vret C hI h dX3_init_14

end
