/-! THE CLASS' WALKS 17: printed by gencl.py -/
section
variable {p : Program} {l : Launch} {e : Env} {R : Room} {s : State} {m : MethodId} {args : Array Value} {below : List Frame} {meth : Method} {c : Code} {g : cG} {A : Nat → Prop}
set_option maxRecDepth 100000
theorem w_X2_look_23 {z : (cX (Int32)) × cS} {o : Nat} (C : CX p m meth c s args cX2_look 3 (Option.some Jvm.ClassFile.FieldType.int) RX2) (hx : ∀ x ∈ c.exceptionTable.toList, False) (hl0 : l.stackTraces = false) (hw : WKc g A s s.heap) (hR : RM g s R (10) (143))  : ∀ (σ : cS) (H : Heap) (locs : List Loc) (ls : Array Slot), b_X2_look_23 o σ = some z → CI g A s σ H locs → lv_has ls 3 [(0, .ref o)] → W p l e R s m args below meth c H locs (H.size - s.heap.size) (hsl H - hsl s.heap) (UQ g A (fun v => some (.int v)) z args s (g.2.2.1 3 - s.heap.size) (g.2.2.1 4 - hsl s.heap) below) (F0 m 23 ls []) := by
  intro σ H locs ls h hI hl
  unfold b_X2_look_23 at h
  refine cw_newF C hw hI hR.2.1 hR.2.2 h q753 q754 q149 dX2_look_23 (fun q_1 σ_2 H locs h hI => ?_)
  refine lv_dup C.x C.b dX2_look_26 rfl ?_
  refine r_aload_n (x := some o) C.x C.b dX2_look_27 rfl (lv_at hl 0 rfl) ?_
  refine cw_gI (r := some o) 8 4 C hw hI h (by decide) rfl in_X2 (by decide) (C.t _ q262) (fun _ h9 => h9) dX2_look_28 (fun v_3 h => ?_)
  refine lv_iconst (v := 2) C.x C.b dX2_look_31 (by decide) ?_
  refine cw_callI (y := yX3_init) (bytes := cX3_init) (maxL := 3) (b := q_1) [.int v_3, .int 2] C hw hR hI hl.1 h (fun vv ss ee => k_X3_init l hl0 g A q_1 v_3 2 σ_2 vv ss ee) (cwI 2 C.t (lw_meth q764) rfl rfl rfl (C.t _ q149) (C.t _ q762) (C.t _ q763) rfl (by decide +kernel) ⟨Nat.le_trans (Nat.le_of_ble_eq_true rfl) hR.f, Nat.le_trans (Nat.le_of_ble_eq_true rfl) hR.lo⟩) rfl rfl (Nat.le_of_ble_eq_true rfl) dX2_look_32 (fun σ_4 _ H locs h hI => ?_)
  exact cx_athrow (r := some q_1) C hx hw hI h dX2_look_35

theorem k_X2_look (l : Launch) (hl0 : l.stackTraces = false) (g : cG) (A : Nat → Prop) (o : Nat) (x1 : Int32) (x2 : Int32) (σ : cS) (z : (cX (Int32)) × cS) (h : m_X2_look o x1 x2 σ = some z) : MetX l yX2_look (ws_ yX2_look cX2_look 3 (Option.some Jvm.ClassFile.FieldType.int)) ({ frames := 10, cells := σ.2 3 - σ.2 0, slots := σ.2 4 - σ.2 1, locals := 143 }) g A [.ref o, .int x1, .int x2] σ (fun v => some (.int v)) z (σ.2 3 - σ.2 0) (σ.2 4 - σ.2 1) := by
  refine metx_of (cc := cX2_look) (maxL := 3) (ret := (Option.some Jvm.ClassFile.FieldType.int)) (by decide) rfl ?_
  intro p e s m args below meth c s₁ B hml hx hv
  obtain ⟨rfl, hw, hσ⟩ := hv
  have hts := atoms_spec (ws := (ws_ yX2_look cX2_look 3 (Option.some Jvm.ClassFile.FieldType.int))) B.pre
  have C : CX p m meth c s ([.ref o, .int x1, .int x2] : List Value).toArray cX2_look 3 (Option.some Jvm.ClassFile.FieldType.int) RX2 := ⟨⟨B.exec, B.bytes, hml, findClass_of_methodNamed B.named, fun w h => hts w (List.mem_cons_of_mem _ h)⟩, B.returns, B.notSynchronized⟩
  have e3 : σ.2 3 - σ.2 0 = g.2.2.1 3 - s.heap.size := by rw [hσ.1, hσ.2.2.2.1 3 (by decide)]
  have e4 : σ.2 4 - σ.2 1 = g.2.2.1 4 - hsl s.heap := by rw [hσ.2.1, hσ.2.2.2.1 4 (by decide)]
  have hR : RM g s (headSpec (ws_ yX2_look cX2_look 3 (Option.some Jvm.ClassFile.FieldType.int)) ({ frames := 10, cells := σ.2 3 - σ.2 0, slots := σ.2 4 - σ.2 1, locals := 143 })).room (10) (143) := ⟨⟨Nat.le_refl _, Nat.le_refl _⟩, Nat.le_of_eq e3.symm, Nat.le_of_eq e4.symm⟩
  generalize (headSpec (ws_ yX2_look cX2_look 3 (Option.some Jvm.ClassFile.FieldType.int)) ({ frames := 10, cells := σ.2 3 - σ.2 0, slots := σ.2 4 - σ.2 1, locals := 143 })).room = R at hR ⊢
  rw [e3, e4]
  have hI : CI g A s σ s.heap [] := ⟨hσ, va_S.rf, Nat.le_refl _⟩
  have hl := lv_entry ([.ref o, .int x1, .int x2]) (n := 3) (Nat.le_of_ble_eq_true rfl)
  rw [lg_entry_eq]
  generalize (lg_sl ([.ref o, .int x1, .int x2]) ++ List.replicate (3 - (lg_sl ([.ref o, .int x1, .int x2])).length) Slot.unset).toArray = ls at hl ⊢
  have hl : lv_has ls 3 [(0, .ref o), (1, .int x1), (2, .int x2)] := hl
  refine W.narrow ?_
  unfold m_X2_look at h
  refine r_aload_n (x := some o) C.x C.b dX2_look_0 rfl (lv_at hl 0 rfl) ?_
  refine cw_gst (Cn := "HeirCases$Token") (n := "NUMBER") (d := "LHeirCases$Token;") (k := 13) C hw hI (List.mem_of_getElem? (i := 3) rfl) (by decide) q686 rfl dX2_look_1 ?_
  refine cx_callV (y := yX2_expect) (bytes := cX2_expect) (maxL := 2) (r := some o) (f := fun a_2 => m_X2_expect a_2 (some (σ.2 13)) σ) 8 (fun _ => none) [.ref (σ.2 13)] C hx hw hR hI hl.1 h (by decide) rfl (fun aa uu ee => k_X2_expect l hl0 g A aa (some (σ.2 13)) σ uu ee) (cwV 1 C.t (lw_V q783 q785 qs7 q133 q786) rfl rfl rfl (by decide +kernel) ⟨Nat.le_trans (Nat.le_of_ble_eq_true rfl) hR.f, Nat.le_trans (Nat.le_of_ble_eq_true rfl) hR.lo⟩) rfl rfl (Nat.le_of_ble_eq_true rfl) dX2_look_4 (fun _ σ_1 H locs h hI => ?_)
  refine r_aload_n (x := some o) C.x C.b dX2_look_7 rfl (lv_at hl 0 rfl) ?_
  refine cw_gI (r := some o) 8 7 C hw hI h (by decide) rfl in_X2 (by decide) (C.t _ q265) (fun _ h9 => h9) dX2_look_8 (fun v_3 h => ?_)
  refine lv_iload_n C.x C.b dX2_look_11 rfl (lv_at hl 1 rfl) ?_
  refine lv_icmp_lt (tgt := 23) C.x C.b dX2_look_12 (by decide) (fun c_4 => ?_) (fun c_4 => ?_)
  · have h := ip c_4 h
    exact w_X2_look_23 C hx hl0 hw hR _ _ _ _ h hI (lv_sub hl [0] rfl)
  · have h := iN c_4 h
    refine r_aload_n (x := some o) C.x C.b dX2_look_15 rfl (lv_at hl 0 rfl) ?_
    refine cw_gI (r := some o) 8 7 C hw hI h (by decide) rfl in_X2 (by decide) (C.t _ q265) (fun _ h9 => h9) dX2_look_16 (fun v_5 h => ?_)
    refine lv_iload_n C.x C.b dX2_look_19 rfl (lv_at hl 2 rfl) ?_
    refine lv_icmp_le (tgt := 36) C.x C.b dX2_look_20 (by decide) (fun c_6 => ?_) (fun c_6 => ?_)
    · have h := ip c_6 h
      refine r_aload_n (x := some o) C.x C.b dX2_look_36 rfl (lv_at hl 0 rfl) ?_
      refine cw_gI (r := some o) 8 7 C hw hI h (by decide) rfl in_X2 (by decide) (C.t _ q265) (fun _ h9 => h9) dX2_look_37 (fun v_7 h => ?_)
      exact uq_l h (fun y h => cw_iret C hI h dX2_look_40)
    · have h := iN c_6 h
      exact w_X2_look_23 C hx hl0 hw hR _ _ _ _ h hI (lv_sub hl [0] rfl)

theorem k_X2_number (l : Launch) (hl0 : l.stackTraces = false) (g : cG) (A : Nat → Prop) (o : Nat) (x1 : Int32) (x2 : Int32) (σ : cS) (z : (cX (Int32)) × cS) (h : m_X2_number o x1 x2 σ = some z) : MetX l yX2_number (ws_ yX2_number cX2_number 4 (Option.some Jvm.ClassFile.FieldType.int)) ({ frames := 11, cells := σ.2 3 - σ.2 0, slots := σ.2 4 - σ.2 1, locals := 237 }) g A [.ref o, .int x1, .int x2] σ (fun v => some (.int v)) z (σ.2 3 - σ.2 0) (σ.2 4 - σ.2 1) := by
  refine metx_of (cc := cX2_number) (maxL := 4) (ret := (Option.some Jvm.ClassFile.FieldType.int)) (by decide) rfl ?_
  intro p e s m args below meth c s₁ B hml hx hv
  obtain ⟨rfl, hw, hσ⟩ := hv
  have hts := atoms_spec (ws := (ws_ yX2_number cX2_number 4 (Option.some Jvm.ClassFile.FieldType.int))) B.pre
  have C : CX p m meth c s ([.ref o, .int x1, .int x2] : List Value).toArray cX2_number 4 (Option.some Jvm.ClassFile.FieldType.int) RX2 := ⟨⟨B.exec, B.bytes, hml, findClass_of_methodNamed B.named, fun w h => hts w (List.mem_cons_of_mem _ h)⟩, B.returns, B.notSynchronized⟩
  have e3 : σ.2 3 - σ.2 0 = g.2.2.1 3 - s.heap.size := by rw [hσ.1, hσ.2.2.2.1 3 (by decide)]
  have e4 : σ.2 4 - σ.2 1 = g.2.2.1 4 - hsl s.heap := by rw [hσ.2.1, hσ.2.2.2.1 4 (by decide)]
  have hR : RM g s (headSpec (ws_ yX2_number cX2_number 4 (Option.some Jvm.ClassFile.FieldType.int)) ({ frames := 11, cells := σ.2 3 - σ.2 0, slots := σ.2 4 - σ.2 1, locals := 237 })).room (11) (237) := ⟨⟨Nat.le_refl _, Nat.le_refl _⟩, Nat.le_of_eq e3.symm, Nat.le_of_eq e4.symm⟩
  generalize (headSpec (ws_ yX2_number cX2_number 4 (Option.some Jvm.ClassFile.FieldType.int)) ({ frames := 11, cells := σ.2 3 - σ.2 0, slots := σ.2 4 - σ.2 1, locals := 237 })).room = R at hR ⊢
  rw [e3, e4]
  have hI : CI g A s σ s.heap [] := ⟨hσ, va_S.rf, Nat.le_refl _⟩
  have hl := lv_entry ([.ref o, .int x1, .int x2]) (n := 4) (Nat.le_of_ble_eq_true rfl)
  rw [lg_entry_eq]
  generalize (lg_sl ([.ref o, .int x1, .int x2]) ++ List.replicate (4 - (lg_sl ([.ref o, .int x1, .int x2])).length) Slot.unset).toArray = ls at hl ⊢
  have hl : lv_has ls 4 [(0, .ref o), (1, .int x1), (2, .int x2)] := hl
  refine W.narrow ?_
  unfold m_X2_number at h
  refine r_aload_n (x := some o) C.x C.b dX2_number_0 rfl (lv_at hl 0 rfl) ?_
  refine lv_iload_n C.x C.b dX2_number_1 rfl (lv_at hl 1 rfl) ?_
  refine lv_iload_n C.x C.b dX2_number_2 rfl (lv_at hl 2 rfl) ?_
  refine cx_callV (y := yX2_look) (bytes := cX2_look) (maxL := 3) (r := some o) (f := fun a_3 => m_X2_look a_3 x1 x2 σ) 8 (fun v => some (.int v)) [.int x1, .int x2] C hx hw hR hI hl.1 h (by decide) rfl (fun aa uu ee => k_X2_look l hl0 g A aa x1 x2 σ uu ee) (cwV 2 C.t (lw_V q779 q781 qs6 q133 q782) rfl rfl rfl (by decide +kernel) ⟨Nat.le_trans (Nat.le_of_ble_eq_true rfl) hR.f, Nat.le_trans (Nat.le_of_ble_eq_true rfl) hR.lo⟩) rfl rfl (Nat.le_of_ble_eq_true rfl) dX2_number_3 (fun v_1 σ_2 H locs h hI => ?_)
  refine lv_istore_n (i := 3) (lv' := [(3, .int v_1), (0, .ref o), (1, .int x1), (2, .int x2)]) C.x C.b dX2_number_6 rfl hl (by decide) rfl (fun ls hl => ?_)
  refine r_aload_n (x := some o) C.x C.b dX2_number_7 rfl (lv_at hl 1 rfl) ?_
  refine cw_callV (y := yX2_next) (bytes := cX2_next) (maxL := 1) (r := some o) (f := fun a_5 => m_X2_next a_5 σ_2) 8 (fun _ => none) [] C hw hR hI hl.1 h (by decide) rfl (fun aa vv ss ee => k_X2_next l g A aa σ_2 vv ss ee) (cwV 0 C.t (lw_V q293 q295 qs1 q133 q296) rfl rfl rfl (by decide +kernel) ⟨Nat.le_trans (Nat.le_of_ble_eq_true rfl) hR.f, Nat.le_trans (Nat.le_of_ble_eq_true rfl) hR.lo⟩) rfl rfl (Nat.le_of_ble_eq_true rfl) dX2_number_8 (fun _ σ_4 H locs h hI => ?_)
  refine lv_iload_n C.x C.b dX2_number_11 rfl (lv_at hl 0 rfl) ?_
  exact uq_l h (fun y h => cw_iret C hI h dX2_number_12)

theorem k_X2_isWord (l : Launch) (g : cG) (A : Nat → Prop) (o : Nat) (x1 : Option Nat) (σ : cS) (v : Int32) (σ1 : cS) (h : m_X2_isWord o x1 σ = some (v, σ1)) : Met l yX2_isWord (ws_ yX2_isWord cX2_isWord 2 (Option.some Jvm.ClassFile.FieldType.boolean)) ({ frames := 3, cells := σ.2 3 - σ.2 0, slots := σ.2 4 - σ.2 1, locals := 84 }) (CPc g A [.ref o, va_rf x1] σ) (CQ g A (some (.int v)) σ1) (σ.2 3 - σ.2 0) (σ.2 4 - σ.2 1) A := by
  refine Met.ofW (cc := cX2_isWord) (maxL := 2) (ret := (Option.some Jvm.ClassFile.FieldType.boolean)) (by decide) rfl ?_
  intro p e s m args below meth c s₁ B hml hv
  obtain ⟨rfl, hw, hσ⟩ := hv
  have hts := atoms_spec (ws := (ws_ yX2_isWord cX2_isWord 2 (Option.some Jvm.ClassFile.FieldType.boolean))) B.pre
  have C : CX p m meth c s ([.ref o, va_rf x1] : List Value).toArray cX2_isWord 2 (Option.some Jvm.ClassFile.FieldType.boolean) RX2 := ⟨⟨B.exec, B.bytes, hml, findClass_of_methodNamed B.named, fun w h => hts w (List.mem_cons_of_mem _ h)⟩, B.returns, B.notSynchronized⟩
  have e3 : σ.2 3 - σ.2 0 = g.2.2.1 3 - s.heap.size := by rw [hσ.1, hσ.2.2.2.1 3 (by decide)]
  have e4 : σ.2 4 - σ.2 1 = g.2.2.1 4 - hsl s.heap := by rw [hσ.2.1, hσ.2.2.2.1 4 (by decide)]
  have hR : RM g s (headSpec (ws_ yX2_isWord cX2_isWord 2 (Option.some Jvm.ClassFile.FieldType.boolean)) ({ frames := 3, cells := σ.2 3 - σ.2 0, slots := σ.2 4 - σ.2 1, locals := 84 })).room (3) (84) := ⟨⟨Nat.le_refl _, Nat.le_refl _⟩, Nat.le_of_eq e3.symm, Nat.le_of_eq e4.symm⟩
  generalize (headSpec (ws_ yX2_isWord cX2_isWord 2 (Option.some Jvm.ClassFile.FieldType.boolean)) ({ frames := 3, cells := σ.2 3 - σ.2 0, slots := σ.2 4 - σ.2 1, locals := 84 })).room = R at hR ⊢
  rw [e3, e4]
  have hI : CI g A s σ s.heap [] := ⟨hσ, va_S.rf, Nat.le_refl _⟩
  have hlen : (lg_sl ([.ref o, va_rf x1])).length ≤ 2 := by rcases x1 with _ | x1 <;> exact Nat.le_of_ble_eq_true rfl
  have hl := lv_entry ([.ref o, va_rf x1]) (n := 2) hlen
  rw [lg_entry_eq]
  generalize (lg_sl ([.ref o, va_rf x1]) ++ List.replicate (2 - (lg_sl ([.ref o, va_rf x1])).length) Slot.unset).toArray = ls at hl ⊢
  have hl : lv_has ls 2 [(0, .ref o), (1, va_rf x1)] := by clear hI hw h hσ e3 e4 hR C hts B; rcases x1 with _ | x1 <;> exact hl
  obtain ⟨z, hz⟩ : ∃ z, z = (v, σ1) := ⟨_, rfl⟩
  rw [← hz] at h
  rw [show v = z.1 by rw [hz], show σ1 = z.2 by rw [hz]]
  clear hz v σ1
  refine W.narrow ?_
  unfold m_X2_isWord at h
  refine r_aload_n (x := some o) C.x C.b dX2_isWord_0 rfl (lv_at hl 0 rfl) ?_
  refine cw_gR (r := some o) 8 5 C hw hI h (by decide) rfl in_X2 (by decide) (C.t _ q263) (fun _ h9 => h9) dX2_isWord_1 (fun v_1 h => ?_)
  refine cw_gst (Cn := "HeirCases$Token") (n := "WORD") (d := "LHeirCases$Token;") (k := 12) C hw hI (List.mem_of_getElem? (i := 2) rfl) (by decide) q682 rfl dX2_isWord_4 ?_
  refine lv_acmp_ne (rx := v_1) (ry := some (σ.2 12)) (tgt := 30) C.x C.b dX2_isWord_7 (by decide) (fun c_2 => ?_) (fun c_2 => ?_)
  · have h := iN c_2 h
    refine lv_iconst (v := 0) C.x C.b dX2_isWord_30 (by decide) ?_
    exact cw_zret C hI h dX2_isWord_31
  · have h := ip c_2 h
    refine r_aload_n (x := some o) C.x C.b dX2_isWord_10 rfl (lv_at hl 0 rfl) ?_
    refine cw_gR (r := some o) 8 6 C hw hI h (by decide) rfl in_X2 (by decide) (C.t _ q264) (fun _ h9 => h9) dX2_isWord_11 (fun v_3 h => ?_)
    refine r_aload_n (x := x1) C.x C.b dX2_isWord_14 rfl (lv_at hl 1 rfl) ?_
    refine cw_callF (x := ⟨"java/lang/CharSequence", "toString", "()Ljava/lang/String;"⟩) (r := x1) (f := fun a_6 => dsp σ [(12, m_J4_toString a_6 σ)] a_6) (fun v => some (va_rf v)) [] C hw hR hI hl.1 h (fun aa vv ss ee => dsp_c ee (fun o1 e1 => ⟨12, o1, _, yJ4_toString, cJ4_toString, 1, (Option.some (Jvm.ClassFile.FieldType.object "java/lang/String")), _, _, by decide, rfl, k_J4_toString l g A aa σ vv ss e1, Or.inl (va_cwF 0 C.t (lw_app (mem4 q671 q674 q676 q131) (lw_meth q678)) rfl rfl rfl (hw.2.2.2.2.2.2.2.2.2.1 _ (List.mem_of_getElem? (i := 4) rfl)) (by decide +kernel) ⟨Nat.le_trans (Nat.le_of_ble_eq_true rfl) hR.f, Nat.le_trans (Nat.le_of_ble_eq_true rfl) hR.lo⟩)⟩) (fun ee => dsp_n ee)) rfl rfl (Nat.le_of_ble_eq_true rfl) dX2_isWord_15 (fun v_4 σ_5 H locs h hI => ?_)
    refine cw_callV (y := yJ4_equals) (bytes := cJ4_equals) (maxL := 3) (r := v_3) (f := fun a_9 => m_J4_equals a_9 v_4 σ_5) 12 (fun v => some (.int v)) [va_rf v_4] C hw hR hI hl.1 h (by decide) rfl (fun aa vv ss ee => k_J4_equals l g A aa v_4 σ_5 vv ss ee) (cwV 1 C.t (lw_V q745 q746 q747 q131 q748) rfl rfl rfl (by decide +kernel) ⟨Nat.le_trans (Nat.le_of_ble_eq_true rfl) hR.f, Nat.le_trans (Nat.le_of_ble_eq_true rfl) hR.lo⟩) rfl rfl (Nat.le_of_ble_eq_true rfl) dX2_isWord_20 (fun v_7 σ_8 H locs h hI => ?_)
    refine lv_if_eq (tgt := 30) C.x C.b dX2_isWord_23 (by decide) (fun c_10 => ?_) (fun c_10 => ?_)
    · have h := ip c_10 h
      refine lv_iconst (v := 0) C.x C.b dX2_isWord_30 (by decide) ?_
      exact cw_zret C hI h dX2_isWord_31
    · have h := iN c_10 h
      refine lv_iconst (v := 1) C.x C.b dX2_isWord_26 (by decide) ?_
      refine lv_goto (tgt := 31) C.x C.b dX2_isWord_27 (by decide) ?_
      exact cw_zret C hI h dX2_isWord_31

theorem w_X2_term_35 {z : (cX (Option Nat)) × cS} {F : Nat → Int32 → cS → Option (cX (Option Nat) × cS)} {fF lF : Nat} (hF : HF_factor l g A F fF lF) {o : Nat} (C : CX p m meth c s args cX2_term 4 (Option.some (Jvm.ClassFile.FieldType.object "HeirCases$Guard")) RX2) (hx : ∀ x ∈ c.exceptionTable.toList, False) (hl0 : l.stackTraces = false) (hw : WKc g A s s.heap) (hR : RM g s R (fF + 10) (lF + 237))  : ∀ (n : Nat) (x1 : Int32) (x3 : Option Nat) (σ : cS) (H : Heap) (locs : List Loc) (ls : Array Slot), b_X2_term_35 F o n x1 x3 σ = some z → CI g A s σ H locs → lv_has ls 4 [(0, .ref o), (1, .int x1), (3, va_rf x3)] → W p l e R s m args below meth c H locs (H.size - s.heap.size) (hsl H - hsl s.heap) (UQ g A (fun v => some (va_rf v)) z args s (g.2.2.1 3 - s.heap.size) (g.2.2.1 4 - hsl s.heap) below) (F0 m 35 ls []) := by
  intro n
  induction n with
  | zero =>
    intro x1 x3 σ H locs ls h
    cases h
  | succ n ih =>
    intro x1 x3 σ H locs ls h hI hl
    rw [b_X2_term_35] at h
    refine r_aload_n (x := some o) C.x C.b dX2_term_35 rfl (lv_at hl 0 rfl) ?_
    refine cw_ldcS (tx := "and") (k := 45) C hw hI (List.mem_of_getElem? (i := 26) rfl) (by decide) dX2_term_36 ?_
    refine cw_callV (y := yX2_isWord) (bytes := cX2_isWord) (maxL := 2) (r := some o) (f := fun a_3 => m_X2_isWord a_3 (some (σ.2 45)) σ) 8 (fun v => some (.int v)) [.ref (σ.2 45)] C hw hR hI hl.1 h (by decide) rfl (fun aa vv ss ee => k_X2_isWord l g A aa (some (σ.2 45)) σ vv ss ee) (cwV 1 C.t (lw_V q741 q743 qs5 q133 q744) rfl rfl rfl (by decide +kernel) ⟨Nat.le_trans (Nat.le_add_left_of_le (Nat.le_of_ble_eq_true rfl)) hR.f, Nat.le_trans (Nat.le_add_left_of_le (Nat.le_of_ble_eq_true rfl)) hR.lo⟩) rfl rfl (Nat.le_of_ble_eq_true rfl) dX2_term_38 (fun v_1 σ_2 H locs h hI => ?_)
    refine lv_if_eq (tgt := 64) C.x C.b dX2_term_41 (by decide) (fun c_4 => ?_) (fun c_4 => ?_)
    · have h := ip c_4 h
      refine r_aload_n (x := x3) C.x C.b dX2_term_64 rfl (lv_at hl 2 rfl) ?_
      exact uq_l h (fun y h => cw_aret (x := x3) C (Or.inl ⟨_, rfl⟩) hI h dX2_term_65)
    · have h := iN c_4 h
      refine r_aload_n (x := some o) C.x C.b dX2_term_44 rfl (lv_at hl 0 rfl) ?_
      refine cw_callV (y := yX2_next) (bytes := cX2_next) (maxL := 1) (r := some o) (f := fun a_6 => m_X2_next a_6 σ_2) 8 (fun _ => none) [] C hw hR hI hl.1 h (by decide) rfl (fun aa vv ss ee => k_X2_next l g A aa σ_2 vv ss ee) (cwV 0 C.t (lw_V q293 q295 qs1 q133 q296) rfl rfl rfl (by decide +kernel) ⟨Nat.le_trans (Nat.le_add_left_of_le (Nat.le_of_ble_eq_true rfl)) hR.f, Nat.le_trans (Nat.le_add_left_of_le (Nat.le_of_ble_eq_true rfl)) hR.lo⟩) rfl rfl (Nat.le_of_ble_eq_true rfl) dX2_term_45 (fun _ σ_5 H locs h hI => ?_)
      refine r_aload_n (x := x3) C.x C.b dX2_term_48 rfl (lv_at hl 2 rfl) ?_
      refine cw_gRN (r := x3) (host := "HeirCases") (ref := "HeirCases$Joined") 5 0 C hw hI h (by decide) rfl in_X8 (by decide) (List.mem_of_getElem? (i := 0) rfl) (fun _ h9 => h9) dX2_term_49 (fun v_7 h => ?_)
      refine r_aload_n (x := some o) C.x C.b dX2_term_52 rfl (lv_at hl 0 rfl) ?_
      refine lv_iload_n C.x C.b dX2_term_53 rfl (lv_at hl 1 rfl) ?_
      refine cx_callV (y := yX2_factor) (bytes := cX2_factor) (maxL := 3) (r := some o) (f := fun a_10 => F a_10 x1 σ_5) 8 (fun v => some (va_rf v)) [.int x1] C hx hw hR hI hl.1 h (by decide) rfl (fun aa uu ee => hF aa x1 σ_5 uu ee) (cwV 1 C.t (lw_V q962 q964 qs15 q133 q965) rfl rfl rfl (by decide +kernel) ⟨Nat.le_trans (by show fF + 1 ≤ fF + 10; omega) hR.f, Nat.le_trans (by show 8 + (3 + 11) + lF ≤ lF + 237; omega) hR.lo⟩) rfl rfl (Nat.le_of_ble_eq_true rfl) dX2_term_54 (fun v_8 σ_9 H locs h hI => ?_)
      refine cw_callV (y := yJ18_add) (bytes := cJ18_add) (maxL := 2) (r := v_7) (f := fun a_13 => m_J18_add a_13 v_8 σ_9) 9 (fun v => some (.int v)) [va_rf v_8] C hw hR hI hl.1 h (by decide) rfl (fun aa vv ss ee => k_J18_add l g A aa v_8 σ_9 vv ss ee) (cwV 1 C.t (lw_V q1040 q1041 q1042 q152 q1043) rfl rfl rfl (by decide +kernel) ⟨Nat.le_trans (Nat.le_add_left_of_le (Nat.le_of_ble_eq_true rfl)) hR.f, Nat.le_trans (Nat.le_add_left_of_le (Nat.le_of_ble_eq_true rfl)) hR.lo⟩) rfl rfl (Nat.le_of_ble_eq_true rfl) dX2_term_57 (fun v_11 σ_12 H locs h hI => ?_)
      refine lv_pop C.x C.b dX2_term_60 rfl ?_
      refine lv_goto (tgt := 35) C.x C.b dX2_term_61 (by decide) ?_
      exact ih x1 x3 _ _ _ _ h hI (lv_sub hl [0, 1, 2] rfl)

theorem k_X2_term (l : Launch) (hl0 : l.stackTraces = false) (g : cG) (A : Nat → Prop) {F : Nat → Int32 → cS → Option (cX (Option Nat) × cS)} {fF lF : Nat} (hF : HF_factor l g A F fF lF) (o : Nat) (x1 : Int32) (σ : cS) (z : (cX (Option Nat)) × cS) (h : m_X2_term F o x1 σ = some z) : MetX l yX2_term (ws_ yX2_term cX2_term 4 (Option.some (Jvm.ClassFile.FieldType.object "HeirCases$Guard"))) ({ frames := fF + 10, cells := σ.2 3 - σ.2 0, slots := σ.2 4 - σ.2 1, locals := lF + 237 }) g A [.ref o, .int x1] σ (fun v => some (va_rf v)) z (σ.2 3 - σ.2 0) (σ.2 4 - σ.2 1) := by
  refine metx_of (cc := cX2_term) (maxL := 4) (ret := (Option.some (Jvm.ClassFile.FieldType.object "HeirCases$Guard"))) (by decide) rfl ?_
  intro p e s m args below meth c s₁ B hml hx hv
  obtain ⟨rfl, hw, hσ⟩ := hv
  have hts := atoms_spec (ws := (ws_ yX2_term cX2_term 4 (Option.some (Jvm.ClassFile.FieldType.object "HeirCases$Guard")))) B.pre
  have C : CX p m meth c s ([.ref o, .int x1] : List Value).toArray cX2_term 4 (Option.some (Jvm.ClassFile.FieldType.object "HeirCases$Guard")) RX2 := ⟨⟨B.exec, B.bytes, hml, findClass_of_methodNamed B.named, fun w h => hts w (List.mem_cons_of_mem _ h)⟩, B.returns, B.notSynchronized⟩
  have e3 : σ.2 3 - σ.2 0 = g.2.2.1 3 - s.heap.size := by rw [hσ.1, hσ.2.2.2.1 3 (by decide)]
  have e4 : σ.2 4 - σ.2 1 = g.2.2.1 4 - hsl s.heap := by rw [hσ.2.1, hσ.2.2.2.1 4 (by decide)]
  have hR : RM g s (headSpec (ws_ yX2_term cX2_term 4 (Option.some (Jvm.ClassFile.FieldType.object "HeirCases$Guard"))) ({ frames := fF + 10, cells := σ.2 3 - σ.2 0, slots := σ.2 4 - σ.2 1, locals := lF + 237 })).room (fF + 10) (lF + 237) := ⟨⟨Nat.le_refl _, Nat.le_refl _⟩, Nat.le_of_eq e3.symm, Nat.le_of_eq e4.symm⟩
  generalize (headSpec (ws_ yX2_term cX2_term 4 (Option.some (Jvm.ClassFile.FieldType.object "HeirCases$Guard"))) ({ frames := fF + 10, cells := σ.2 3 - σ.2 0, slots := σ.2 4 - σ.2 1, locals := lF + 237 })).room = R at hR ⊢
  rw [e3, e4]
  have hI : CI g A s σ s.heap [] := ⟨hσ, va_S.rf, Nat.le_refl _⟩
  have hl := lv_entry ([.ref o, .int x1]) (n := 4) (Nat.le_of_ble_eq_true rfl)
  rw [lg_entry_eq]
  generalize (lg_sl ([.ref o, .int x1]) ++ List.replicate (4 - (lg_sl ([.ref o, .int x1])).length) Slot.unset).toArray = ls at hl ⊢
  have hl : lv_has ls 4 [(0, .ref o), (1, .int x1)] := hl
  refine W.narrow ?_
  unfold m_X2_term at h
  refine r_aload_n (x := some o) C.x C.b dX2_term_0 rfl (lv_at hl 0 rfl) ?_
  refine lv_iload_n C.x C.b dX2_term_1 rfl (lv_at hl 1 rfl) ?_
  refine cx_callV (y := yX2_factor) (bytes := cX2_factor) (maxL := 3) (r := some o) (f := fun a_3 => F a_3 x1 σ) 8 (fun v => some (va_rf v)) [.int x1] C hx hw hR hI hl.1 h (by decide) rfl (fun aa uu ee => hF aa x1 σ uu ee) (cwV 1 C.t (lw_V q962 q964 qs15 q133 q965) rfl rfl rfl (by decide +kernel) ⟨Nat.le_trans (by show fF + 1 ≤ fF + 10; omega) hR.f, Nat.le_trans (by show 8 + (3 + 11) + lF ≤ lF + 237; omega) hR.lo⟩) rfl rfl (Nat.le_of_ble_eq_true rfl) dX2_term_2 (fun v_1 σ_2 H locs h hI => ?_)
  refine r_astore_n (i := 2) (x := v_1) (lv' := [(2, va_rf v_1), (0, .ref o), (1, .int x1)]) C.x C.b dX2_term_5 rfl hl (by decide) (by rfl) (fun ls hl => ?_)
  refine r_aload_n (x := some o) C.x C.b dX2_term_6 rfl (lv_at hl 1 rfl) ?_
  refine cw_ldcS (tx := "and") (k := 45) C hw hI (List.mem_of_getElem? (i := 26) rfl) (by decide) dX2_term_7 ?_
  refine cw_callV (y := yX2_isWord) (bytes := cX2_isWord) (maxL := 2) (r := some o) (f := fun a_6 => m_X2_isWord a_6 (some (σ_2.2 45)) σ_2) 8 (fun v => some (.int v)) [.ref (σ_2.2 45)] C hw hR hI hl.1 h (by decide) rfl (fun aa vv ss ee => k_X2_isWord l g A aa (some (σ_2.2 45)) σ_2 vv ss ee) (cwV 1 C.t (lw_V q741 q743 qs5 q133 q744) rfl rfl rfl (by decide +kernel) ⟨Nat.le_trans (Nat.le_add_left_of_le (Nat.le_of_ble_eq_true rfl)) hR.f, Nat.le_trans (Nat.le_add_left_of_le (Nat.le_of_ble_eq_true rfl)) hR.lo⟩) rfl rfl (Nat.le_of_ble_eq_true rfl) dX2_term_9 (fun v_4 σ_5 H locs h hI => ?_)
  refine lv_if_ne (tgt := 17) C.x C.b dX2_term_12 (by decide) (fun c_7 => ?_) (fun c_7 => ?_)
  · have h := iN c_7 h
    refine cw_new (T := TX8) (N := 2) 5 C hw hI hR.2.1 hR.2.2 h (by decide) rfl in_X8 tyX8 tyX8_ok (fun j hj => match j, hj with | 0, _ => rfl | 1, _ => rfl | j + 2, hj => absurd hj (Nat.not_lt_of_le (Nat.le_add_left _ _))) q1024 q1025 q156 dX2_term_17 (fun q_8 σ_9 H locs h hI => ?_)
    refine lv_dup C.x C.b dX2_term_20 rfl ?_
    refine lv_iconst (v := 1) C.x C.b dX2_term_21 (by decide) ?_
    refine cw_callI (y := yX8_init) (bytes := cX8_init) (maxL := 2) (b := q_8) [.int 1] C hw hR hI hl.1 h (fun vv ss ee => k_X8_init l g A q_8 1 σ_9 vv ss ee) (cwI 1 C.t (lw_meth q1028) rfl rfl rfl (C.t _ q156) (C.t _ q1026) (C.t _ q1027) rfl (by decide +kernel) ⟨Nat.le_trans (Nat.le_add_left_of_le (Nat.le_of_ble_eq_true rfl)) hR.f, Nat.le_trans (Nat.le_add_left_of_le (Nat.le_of_ble_eq_true rfl)) hR.lo⟩) rfl rfl (Nat.le_of_ble_eq_true rfl) dX2_term_22 (fun σ_10 _ H locs h hI => ?_)
    refine r_astore_n (i := 3) (x := some q_8) (lv' := [(3, .ref q_8), (2, va_rf v_1), (0, .ref o), (1, .int x1)]) C.x C.b dX2_term_25 rfl hl (by decide) (by first | (simp [List.filter, cat_rf, cat_i, cat_a, cat_n, cat_l, cat_f, cat_d]; done) | (simp [List.filter, cat_rf, cat_i, cat_a, cat_n, cat_l, cat_f, cat_d]; rfl)) (fun ls hl => ?_)
    refine r_aload_n (x := some q_8) C.x C.b dX2_term_26 rfl (lv_at hl 0 rfl) ?_
    refine cw_gRN (r := some q_8) (host := "HeirCases") (ref := "HeirCases$Joined") 5 0 C hw hI h (by decide) rfl in_X8 (by decide) (List.mem_of_getElem? (i := 0) rfl) (fun _ h9 => h9) dX2_term_27 (fun v_11 h => ?_)
    refine r_aload_n (x := v_1) C.x C.b dX2_term_30 rfl (lv_at hl 1 rfl) ?_
    refine cw_callV (y := yJ18_add) (bytes := cJ18_add) (maxL := 2) (r := v_11) (f := fun a_14 => m_J18_add a_14 v_1 σ_10) 9 (fun v => some (.int v)) [va_rf v_1] C hw hR hI hl.1 h (by decide) rfl (fun aa vv ss ee => k_J18_add l g A aa v_1 σ_10 vv ss ee) (cwV 1 C.t (lw_V q1040 q1041 q1042 q152 q1043) rfl rfl rfl (by decide +kernel) ⟨Nat.le_trans (Nat.le_add_left_of_le (Nat.le_of_ble_eq_true rfl)) hR.f, Nat.le_trans (Nat.le_add_left_of_le (Nat.le_of_ble_eq_true rfl)) hR.lo⟩) rfl rfl (Nat.le_of_ble_eq_true rfl) dX2_term_31 (fun v_12 σ_13 H locs h hI => ?_)
    refine lv_pop C.x C.b dX2_term_34 rfl ?_
    exact w_X2_term_35 hF C hx hl0 hw hR _ x1 (some q_8) _ _ _ _ h hI (lv_sub hl [2, 3, 0] rfl)
  · have h := ip c_7 h
    refine r_aload_n (x := v_1) C.x C.b dX2_term_15 rfl (lv_at hl 0 rfl) ?_
    exact uq_l h (fun y h => cw_aret (x := v_1) C (Or.inl ⟨_, rfl⟩) hI h dX2_term_16)

theorem w_X2_guard_35 {z : (cX (Option Nat)) × cS} {F : Nat → Int32 → cS → Option (cX (Option Nat) × cS)} {fF lF : Nat} (hF : HF_factor l g A F fF lF) {o : Nat} (C : CX p m meth c s args cX2_guard 4 (Option.some (Jvm.ClassFile.FieldType.object "HeirCases$Guard")) RX2) (hx : ∀ x ∈ c.exceptionTable.toList, False) (hl0 : l.stackTraces = false) (hw : WKc g A s s.heap) (hR : RM g s R (fF + 11) (lF + 260))  : ∀ (n : Nat) (x1 : Int32) (x3 : Option Nat) (σ : cS) (H : Heap) (locs : List Loc) (ls : Array Slot), b_X2_guard_35 F o n x1 x3 σ = some z → CI g A s σ H locs → lv_has ls 4 [(0, .ref o), (1, .int x1), (3, va_rf x3)] → W p l e R s m args below meth c H locs (H.size - s.heap.size) (hsl H - hsl s.heap) (UQ g A (fun v => some (va_rf v)) z args s (g.2.2.1 3 - s.heap.size) (g.2.2.1 4 - hsl s.heap) below) (F0 m 35 ls []) := by
  intro n
  induction n with
  | zero =>
    intro x1 x3 σ H locs ls h
    cases h
  | succ n ih =>
    intro x1 x3 σ H locs ls h hI hl
    rw [b_X2_guard_35] at h
    refine r_aload_n (x := some o) C.x C.b dX2_guard_35 rfl (lv_at hl 0 rfl) ?_
    refine cw_ldcS (tx := "or") (k := 44) C hw hI (List.mem_of_getElem? (i := 25) rfl) (by decide) dX2_guard_36 ?_
    refine cw_callV (y := yX2_isWord) (bytes := cX2_isWord) (maxL := 2) (r := some o) (f := fun a_3 => m_X2_isWord a_3 (some (σ.2 44)) σ) 8 (fun v => some (.int v)) [.ref (σ.2 44)] C hw hR hI hl.1 h (by decide) rfl (fun aa vv ss ee => k_X2_isWord l g A aa (some (σ.2 44)) σ vv ss ee) (cwV 1 C.t (lw_V q741 q743 qs5 q133 q744) rfl rfl rfl (by decide +kernel) ⟨Nat.le_trans (Nat.le_add_left_of_le (Nat.le_of_ble_eq_true rfl)) hR.f, Nat.le_trans (Nat.le_add_left_of_le (Nat.le_of_ble_eq_true rfl)) hR.lo⟩) rfl rfl (Nat.le_of_ble_eq_true rfl) dX2_guard_38 (fun v_1 σ_2 H locs h hI => ?_)
    refine lv_if_eq (tgt := 64) C.x C.b dX2_guard_41 (by decide) (fun c_4 => ?_) (fun c_4 => ?_)
    · have h := ip c_4 h
      refine r_aload_n (x := x3) C.x C.b dX2_guard_64 rfl (lv_at hl 2 rfl) ?_
      exact uq_l h (fun y h => cw_aret (x := x3) C (Or.inl ⟨_, rfl⟩) hI h dX2_guard_65)
    · have h := iN c_4 h
      refine r_aload_n (x := some o) C.x C.b dX2_guard_44 rfl (lv_at hl 0 rfl) ?_
      refine cw_callV (y := yX2_next) (bytes := cX2_next) (maxL := 1) (r := some o) (f := fun a_6 => m_X2_next a_6 σ_2) 8 (fun _ => none) [] C hw hR hI hl.1 h (by decide) rfl (fun aa vv ss ee => k_X2_next l g A aa σ_2 vv ss ee) (cwV 0 C.t (lw_V q293 q295 qs1 q133 q296) rfl rfl rfl (by decide +kernel) ⟨Nat.le_trans (Nat.le_add_left_of_le (Nat.le_of_ble_eq_true rfl)) hR.f, Nat.le_trans (Nat.le_add_left_of_le (Nat.le_of_ble_eq_true rfl)) hR.lo⟩) rfl rfl (Nat.le_of_ble_eq_true rfl) dX2_guard_45 (fun _ σ_5 H locs h hI => ?_)
      refine r_aload_n (x := x3) C.x C.b dX2_guard_48 rfl (lv_at hl 2 rfl) ?_
      refine cw_gRN (r := x3) (host := "HeirCases") (ref := "HeirCases$Joined") 5 0 C hw hI h (by decide) rfl in_X8 (by decide) (List.mem_of_getElem? (i := 0) rfl) (fun _ h9 => h9) dX2_guard_49 (fun v_7 h => ?_)
      refine r_aload_n (x := some o) C.x C.b dX2_guard_52 rfl (lv_at hl 0 rfl) ?_
      refine lv_iload_n C.x C.b dX2_guard_53 rfl (lv_at hl 1 rfl) ?_
      refine cx_callV (y := yX2_term) (bytes := cX2_term) (maxL := 4) (r := some o) (f := fun a_10 => m_X2_term F a_10 x1 σ_5) 8 (fun v => some (va_rf v)) [.int x1] C hx hw hR hI hl.1 h (by decide) rfl (fun aa uu ee => k_X2_term l hl0 g A hF aa x1 σ_5 uu ee) (cwV 1 C.t (lw_V q958 q960 qs14 q133 q961) rfl rfl rfl (by decide +kernel) ⟨Nat.le_trans (by show fF + 10 + 1 ≤ fF + 11; omega) hR.f, Nat.le_trans (by show 8 + (4 + 11) + (lF + 237) ≤ lF + 260; omega) hR.lo⟩) rfl rfl (Nat.le_of_ble_eq_true rfl) dX2_guard_54 (fun v_8 σ_9 H locs h hI => ?_)
      refine cw_callV (y := yJ18_add) (bytes := cJ18_add) (maxL := 2) (r := v_7) (f := fun a_13 => m_J18_add a_13 v_8 σ_9) 9 (fun v => some (.int v)) [va_rf v_8] C hw hR hI hl.1 h (by decide) rfl (fun aa vv ss ee => k_J18_add l g A aa v_8 σ_9 vv ss ee) (cwV 1 C.t (lw_V q1040 q1041 q1042 q152 q1043) rfl rfl rfl (by decide +kernel) ⟨Nat.le_trans (Nat.le_add_left_of_le (Nat.le_of_ble_eq_true rfl)) hR.f, Nat.le_trans (Nat.le_add_left_of_le (Nat.le_of_ble_eq_true rfl)) hR.lo⟩) rfl rfl (Nat.le_of_ble_eq_true rfl) dX2_guard_57 (fun v_11 σ_12 H locs h hI => ?_)
      refine lv_pop C.x C.b dX2_guard_60 rfl ?_
      refine lv_goto (tgt := 35) C.x C.b dX2_guard_61 (by decide) ?_
      exact ih x1 x3 _ _ _ _ h hI (lv_sub hl [0, 1, 2] rfl)

theorem k_X2_guard (l : Launch) (hl0 : l.stackTraces = false) (g : cG) (A : Nat → Prop) {F : Nat → Int32 → cS → Option (cX (Option Nat) × cS)} {fF lF : Nat} (hF : HF_factor l g A F fF lF) (o : Nat) (x1 : Int32) (σ : cS) (z : (cX (Option Nat)) × cS) (h : m_X2_guard F o x1 σ = some z) : MetX l yX2_guard (ws_ yX2_guard cX2_guard 4 (Option.some (Jvm.ClassFile.FieldType.object "HeirCases$Guard"))) ({ frames := fF + 11, cells := σ.2 3 - σ.2 0, slots := σ.2 4 - σ.2 1, locals := lF + 260 }) g A [.ref o, .int x1] σ (fun v => some (va_rf v)) z (σ.2 3 - σ.2 0) (σ.2 4 - σ.2 1) := by
  refine metx_of (cc := cX2_guard) (maxL := 4) (ret := (Option.some (Jvm.ClassFile.FieldType.object "HeirCases$Guard"))) (by decide) rfl ?_
  intro p e s m args below meth c s₁ B hml hx hv
  obtain ⟨rfl, hw, hσ⟩ := hv
  have hts := atoms_spec (ws := (ws_ yX2_guard cX2_guard 4 (Option.some (Jvm.ClassFile.FieldType.object "HeirCases$Guard")))) B.pre
  have C : CX p m meth c s ([.ref o, .int x1] : List Value).toArray cX2_guard 4 (Option.some (Jvm.ClassFile.FieldType.object "HeirCases$Guard")) RX2 := ⟨⟨B.exec, B.bytes, hml, findClass_of_methodNamed B.named, fun w h => hts w (List.mem_cons_of_mem _ h)⟩, B.returns, B.notSynchronized⟩
  have e3 : σ.2 3 - σ.2 0 = g.2.2.1 3 - s.heap.size := by rw [hσ.1, hσ.2.2.2.1 3 (by decide)]
  have e4 : σ.2 4 - σ.2 1 = g.2.2.1 4 - hsl s.heap := by rw [hσ.2.1, hσ.2.2.2.1 4 (by decide)]
  have hR : RM g s (headSpec (ws_ yX2_guard cX2_guard 4 (Option.some (Jvm.ClassFile.FieldType.object "HeirCases$Guard"))) ({ frames := fF + 11, cells := σ.2 3 - σ.2 0, slots := σ.2 4 - σ.2 1, locals := lF + 260 })).room (fF + 11) (lF + 260) := ⟨⟨Nat.le_refl _, Nat.le_refl _⟩, Nat.le_of_eq e3.symm, Nat.le_of_eq e4.symm⟩
  generalize (headSpec (ws_ yX2_guard cX2_guard 4 (Option.some (Jvm.ClassFile.FieldType.object "HeirCases$Guard"))) ({ frames := fF + 11, cells := σ.2 3 - σ.2 0, slots := σ.2 4 - σ.2 1, locals := lF + 260 })).room = R at hR ⊢
  rw [e3, e4]
  have hI : CI g A s σ s.heap [] := ⟨hσ, va_S.rf, Nat.le_refl _⟩
  have hl := lv_entry ([.ref o, .int x1]) (n := 4) (Nat.le_of_ble_eq_true rfl)
  rw [lg_entry_eq]
  generalize (lg_sl ([.ref o, .int x1]) ++ List.replicate (4 - (lg_sl ([.ref o, .int x1])).length) Slot.unset).toArray = ls at hl ⊢
  have hl : lv_has ls 4 [(0, .ref o), (1, .int x1)] := hl
  refine W.narrow ?_
  unfold m_X2_guard at h
  refine r_aload_n (x := some o) C.x C.b dX2_guard_0 rfl (lv_at hl 0 rfl) ?_
  refine lv_iload_n C.x C.b dX2_guard_1 rfl (lv_at hl 1 rfl) ?_
  refine cx_callV (y := yX2_term) (bytes := cX2_term) (maxL := 4) (r := some o) (f := fun a_3 => m_X2_term F a_3 x1 σ) 8 (fun v => some (va_rf v)) [.int x1] C hx hw hR hI hl.1 h (by decide) rfl (fun aa uu ee => k_X2_term l hl0 g A hF aa x1 σ uu ee) (cwV 1 C.t (lw_V q958 q960 qs14 q133 q961) rfl rfl rfl (by decide +kernel) ⟨Nat.le_trans (by show fF + 10 + 1 ≤ fF + 11; omega) hR.f, Nat.le_trans (by show 8 + (4 + 11) + (lF + 237) ≤ lF + 260; omega) hR.lo⟩) rfl rfl (Nat.le_of_ble_eq_true rfl) dX2_guard_2 (fun v_1 σ_2 H locs h hI => ?_)
  refine r_astore_n (i := 2) (x := v_1) (lv' := [(2, va_rf v_1), (0, .ref o), (1, .int x1)]) C.x C.b dX2_guard_5 rfl hl (by decide) (by rfl) (fun ls hl => ?_)
  refine r_aload_n (x := some o) C.x C.b dX2_guard_6 rfl (lv_at hl 1 rfl) ?_
  refine cw_ldcS (tx := "or") (k := 44) C hw hI (List.mem_of_getElem? (i := 25) rfl) (by decide) dX2_guard_7 ?_
  refine cw_callV (y := yX2_isWord) (bytes := cX2_isWord) (maxL := 2) (r := some o) (f := fun a_6 => m_X2_isWord a_6 (some (σ_2.2 44)) σ_2) 8 (fun v => some (.int v)) [.ref (σ_2.2 44)] C hw hR hI hl.1 h (by decide) rfl (fun aa vv ss ee => k_X2_isWord l g A aa (some (σ_2.2 44)) σ_2 vv ss ee) (cwV 1 C.t (lw_V q741 q743 qs5 q133 q744) rfl rfl rfl (by decide +kernel) ⟨Nat.le_trans (Nat.le_add_left_of_le (Nat.le_of_ble_eq_true rfl)) hR.f, Nat.le_trans (Nat.le_add_left_of_le (Nat.le_of_ble_eq_true rfl)) hR.lo⟩) rfl rfl (Nat.le_of_ble_eq_true rfl) dX2_guard_9 (fun v_4 σ_5 H locs h hI => ?_)
  refine lv_if_ne (tgt := 17) C.x C.b dX2_guard_12 (by decide) (fun c_7 => ?_) (fun c_7 => ?_)
  · have h := iN c_7 h
    refine cw_new (T := TX8) (N := 2) 5 C hw hI hR.2.1 hR.2.2 h (by decide) rfl in_X8 tyX8 tyX8_ok (fun j hj => match j, hj with | 0, _ => rfl | 1, _ => rfl | j + 2, hj => absurd hj (Nat.not_lt_of_le (Nat.le_add_left _ _))) q1024 q1025 q156 dX2_guard_17 (fun q_8 σ_9 H locs h hI => ?_)
    refine lv_dup C.x C.b dX2_guard_20 rfl ?_
    refine lv_iconst (v := 0) C.x C.b dX2_guard_21 (by decide) ?_
    refine cw_callI (y := yX8_init) (bytes := cX8_init) (maxL := 2) (b := q_8) [.int 0] C hw hR hI hl.1 h (fun vv ss ee => k_X8_init l g A q_8 0 σ_9 vv ss ee) (cwI 1 C.t (lw_meth q1028) rfl rfl rfl (C.t _ q156) (C.t _ q1026) (C.t _ q1027) rfl (by decide +kernel) ⟨Nat.le_trans (Nat.le_add_left_of_le (Nat.le_of_ble_eq_true rfl)) hR.f, Nat.le_trans (Nat.le_add_left_of_le (Nat.le_of_ble_eq_true rfl)) hR.lo⟩) rfl rfl (Nat.le_of_ble_eq_true rfl) dX2_guard_22 (fun σ_10 _ H locs h hI => ?_)
    refine r_astore_n (i := 3) (x := some q_8) (lv' := [(3, .ref q_8), (2, va_rf v_1), (0, .ref o), (1, .int x1)]) C.x C.b dX2_guard_25 rfl hl (by decide) (by first | (simp [List.filter, cat_rf, cat_i, cat_a, cat_n, cat_l, cat_f, cat_d]; done) | (simp [List.filter, cat_rf, cat_i, cat_a, cat_n, cat_l, cat_f, cat_d]; rfl)) (fun ls hl => ?_)
    refine r_aload_n (x := some q_8) C.x C.b dX2_guard_26 rfl (lv_at hl 0 rfl) ?_
    refine cw_gRN (r := some q_8) (host := "HeirCases") (ref := "HeirCases$Joined") 5 0 C hw hI h (by decide) rfl in_X8 (by decide) (List.mem_of_getElem? (i := 0) rfl) (fun _ h9 => h9) dX2_guard_27 (fun v_11 h => ?_)
    refine r_aload_n (x := v_1) C.x C.b dX2_guard_30 rfl (lv_at hl 1 rfl) ?_
    refine cw_callV (y := yJ18_add) (bytes := cJ18_add) (maxL := 2) (r := v_11) (f := fun a_14 => m_J18_add a_14 v_1 σ_10) 9 (fun v => some (.int v)) [va_rf v_1] C hw hR hI hl.1 h (by decide) rfl (fun aa vv ss ee => k_J18_add l g A aa v_1 σ_10 vv ss ee) (cwV 1 C.t (lw_V q1040 q1041 q1042 q152 q1043) rfl rfl rfl (by decide +kernel) ⟨Nat.le_trans (Nat.le_add_left_of_le (Nat.le_of_ble_eq_true rfl)) hR.f, Nat.le_trans (Nat.le_add_left_of_le (Nat.le_of_ble_eq_true rfl)) hR.lo⟩) rfl rfl (Nat.le_of_ble_eq_true rfl) dX2_guard_31 (fun v_12 σ_13 H locs h hI => ?_)
    refine lv_pop C.x C.b dX2_guard_34 rfl ?_
    exact w_X2_guard_35 hF C hx hl0 hw hR _ x1 (some q_8) _ _ _ _ h hI (lv_sub hl [2, 3, 0] rfl)
  · have h := ip c_7 h
    refine r_aload_n (x := v_1) C.x C.b dX2_guard_15 rfl (lv_at hl 0 rfl) ?_
    exact uq_l h (fun y h => cw_aret (x := v_1) C (Or.inl ⟨_, rfl⟩) hI h dX2_guard_16)

theorem k_X2_newIn (l : Launch) (hl0 : l.stackTraces = false) (g : cG) (A : Nat → Prop) (o : Nat) (x1 : Int32) (x2 : Int32) (σ : cS) (z : (cX (Int32)) × cS) (h : m_X2_newIn o x1 x2 σ = some z) : MetX l yX2_newIn (ws_ yX2_newIn cX2_newIn 4 (Option.some Jvm.ClassFile.FieldType.int)) ({ frames := 11, cells := σ.2 3 - σ.2 0, slots := σ.2 4 - σ.2 1, locals := 237 }) g A [.ref o, .int x1, .int x2] σ (fun v => some (.int v)) z (σ.2 3 - σ.2 0) (σ.2 4 - σ.2 1) := by
  refine metx_of (cc := cX2_newIn) (maxL := 4) (ret := (Option.some Jvm.ClassFile.FieldType.int)) (by decide) rfl ?_
  intro p e s m args below meth c s₁ B hml hx hv
  obtain ⟨rfl, hw, hσ⟩ := hv
  have hts := atoms_spec (ws := (ws_ yX2_newIn cX2_newIn 4 (Option.some Jvm.ClassFile.FieldType.int))) B.pre
  have C : CX p m meth c s ([.ref o, .int x1, .int x2] : List Value).toArray cX2_newIn 4 (Option.some Jvm.ClassFile.FieldType.int) RX2 := ⟨⟨B.exec, B.bytes, hml, findClass_of_methodNamed B.named, fun w h => hts w (List.mem_cons_of_mem _ h)⟩, B.returns, B.notSynchronized⟩
  have e3 : σ.2 3 - σ.2 0 = g.2.2.1 3 - s.heap.size := by rw [hσ.1, hσ.2.2.2.1 3 (by decide)]
  have e4 : σ.2 4 - σ.2 1 = g.2.2.1 4 - hsl s.heap := by rw [hσ.2.1, hσ.2.2.2.1 4 (by decide)]
  have hR : RM g s (headSpec (ws_ yX2_newIn cX2_newIn 4 (Option.some Jvm.ClassFile.FieldType.int)) ({ frames := 11, cells := σ.2 3 - σ.2 0, slots := σ.2 4 - σ.2 1, locals := 237 })).room (11) (237) := ⟨⟨Nat.le_refl _, Nat.le_refl _⟩, Nat.le_of_eq e3.symm, Nat.le_of_eq e4.symm⟩
  generalize (headSpec (ws_ yX2_newIn cX2_newIn 4 (Option.some Jvm.ClassFile.FieldType.int)) ({ frames := 11, cells := σ.2 3 - σ.2 0, slots := σ.2 4 - σ.2 1, locals := 237 })).room = R at hR ⊢
  rw [e3, e4]
  have hI : CI g A s σ s.heap [] := ⟨hσ, va_S.rf, Nat.le_refl _⟩
  have hl := lv_entry ([.ref o, .int x1, .int x2]) (n := 4) (Nat.le_of_ble_eq_true rfl)
  rw [lg_entry_eq]
  generalize (lg_sl ([.ref o, .int x1, .int x2]) ++ List.replicate (4 - (lg_sl ([.ref o, .int x1, .int x2])).length) Slot.unset).toArray = ls at hl ⊢
  have hl : lv_has ls 4 [(0, .ref o), (1, .int x1), (2, .int x2)] := hl
  refine W.narrow ?_
  unfold m_X2_newIn at h
  refine r_aload_n (x := some o) C.x C.b dX2_newIn_0 rfl (lv_at hl 0 rfl) ?_
  refine lv_iconst (v := 0) C.x C.b dX2_newIn_1 (by decide) ?_
  refine lv_iload_n C.x C.b dX2_newIn_2 rfl (lv_at hl 2 rfl) ?_
  refine cx_callV (y := yX2_look) (bytes := cX2_look) (maxL := 3) (r := some o) (f := fun a_3 => m_X2_look a_3 0 x2 σ) 8 (fun v => some (.int v)) [.int 0, .int x2] C hx hw hR hI hl.1 h (by decide) rfl (fun aa uu ee => k_X2_look l hl0 g A aa 0 x2 σ uu ee) (cwV 2 C.t (lw_V q779 q781 qs6 q133 q782) rfl rfl rfl (by decide +kernel) ⟨Nat.le_trans (Nat.le_of_ble_eq_true rfl) hR.f, Nat.le_trans (Nat.le_of_ble_eq_true rfl) hR.lo⟩) rfl rfl (Nat.le_of_ble_eq_true rfl) dX2_newIn_3 (fun v_1 σ_2 H locs h hI => ?_)
  refine lv_istore_n (i := 3) (lv' := [(3, .int v_1), (0, .ref o), (1, .int x1), (2, .int x2)]) C.x C.b dX2_newIn_6 rfl hl (by decide) rfl (fun ls hl => ?_)
  refine lv_iload_n C.x C.b dX2_newIn_7 rfl (lv_at hl 2 rfl) ?_
  refine lv_iload_n C.x C.b dX2_newIn_8 rfl (lv_at hl 0 rfl) ?_
  refine lv_ishr C.x C.b dX2_newIn_9 ?_
  refine lv_iconst (v := 1) C.x C.b dX2_newIn_10 (by decide) ?_
  refine lv_iand C.x C.b dX2_newIn_11 ?_
  refine lv_iconst (v := 1) C.x C.b dX2_newIn_12 (by decide) ?_
  refine lv_icmp_ne (tgt := 29) C.x C.b dX2_newIn_13 (by decide) (fun c_4 => ?_) (fun c_4 => ?_)
  · have h := iN c_4 h
    refine r_aload_n (x := some o) C.x C.b dX2_newIn_29 rfl (lv_at hl 1 rfl) ?_
    refine cw_callV (y := yX2_next) (bytes := cX2_next) (maxL := 1) (r := some o) (f := fun a_6 => m_X2_next a_6 σ_2) 8 (fun _ => none) [] C hw hR hI hl.1 h (by decide) rfl (fun aa vv ss ee => k_X2_next l g A aa σ_2 vv ss ee) (cwV 0 C.t (lw_V q293 q295 qs1 q133 q296) rfl rfl rfl (by decide +kernel) ⟨Nat.le_trans (Nat.le_of_ble_eq_true rfl) hR.f, Nat.le_trans (Nat.le_of_ble_eq_true rfl) hR.lo⟩) rfl rfl (Nat.le_of_ble_eq_true rfl) dX2_newIn_30 (fun _ σ_5 H locs h hI => ?_)
    refine lv_iload_n C.x C.b dX2_newIn_33 rfl (lv_at hl 0 rfl) ?_
    exact uq_l h (fun y h => cw_iret C hI h dX2_newIn_34)
  · have h := ip c_4 h
    refine cw_newF C hw hI hR.2.1 hR.2.2 h q753 q754 q149 dX2_newIn_16 (fun q_7 σ_8 H locs h hI => ?_)
    refine lv_dup C.x C.b dX2_newIn_19 rfl ?_
    refine r_aload_n (x := some o) C.x C.b dX2_newIn_20 rfl (lv_at hl 1 rfl) ?_
    refine cw_gI (r := some o) 8 4 C hw hI h (by decide) rfl in_X2 (by decide) (C.t _ q262) (fun _ h9 => h9) dX2_newIn_21 (fun v_9 h => ?_)
    refine lv_iconst (v := 3) C.x C.b dX2_newIn_24 (by decide) ?_
    refine cw_callI (y := yX3_init) (bytes := cX3_init) (maxL := 3) (b := q_7) [.int v_9, .int 3] C hw hR hI hl.1 h (fun vv ss ee => k_X3_init l hl0 g A q_7 v_9 3 σ_8 vv ss ee) (cwI 2 C.t (lw_meth q764) rfl rfl rfl (C.t _ q149) (C.t _ q762) (C.t _ q763) rfl (by decide +kernel) ⟨Nat.le_trans (Nat.le_of_ble_eq_true rfl) hR.f, Nat.le_trans (Nat.le_of_ble_eq_true rfl) hR.lo⟩) rfl rfl (Nat.le_of_ble_eq_true rfl) dX2_newIn_25 (fun σ_10 _ H locs h hI => ?_)
    exact cx_athrow (r := some q_7) C hx hw hI h dX2_newIn_28

theorem k_X2_isSign (l : Launch) (g : cG) (A : Nat → Prop) (o : Nat) (x1 : Int32) (σ : cS) (v : Int32) (σ1 : cS) (h : m_X2_isSign o x1 σ = some (v, σ1)) : Met l yX2_isSign (ws_ yX2_isSign cX2_isSign 2 (Option.some Jvm.ClassFile.FieldType.boolean)) ({ frames := 5, cells := σ.2 3 - σ.2 0, slots := σ.2 4 - σ.2 1, locals := 128 }) (CPc g A [.ref o, .int x1] σ) (CQ g A (some (.int v)) σ1) (σ.2 3 - σ.2 0) (σ.2 4 - σ.2 1) A := by
  refine Met.ofW (cc := cX2_isSign) (maxL := 2) (ret := (Option.some Jvm.ClassFile.FieldType.boolean)) (by decide) rfl ?_
  intro p e s m args below meth c s₁ B hml hv
  obtain ⟨rfl, hw, hσ⟩ := hv
  have hts := atoms_spec (ws := (ws_ yX2_isSign cX2_isSign 2 (Option.some Jvm.ClassFile.FieldType.boolean))) B.pre
  have C : CX p m meth c s ([.ref o, .int x1] : List Value).toArray cX2_isSign 2 (Option.some Jvm.ClassFile.FieldType.boolean) RX2 := ⟨⟨B.exec, B.bytes, hml, findClass_of_methodNamed B.named, fun w h => hts w (List.mem_cons_of_mem _ h)⟩, B.returns, B.notSynchronized⟩
  have e3 : σ.2 3 - σ.2 0 = g.2.2.1 3 - s.heap.size := by rw [hσ.1, hσ.2.2.2.1 3 (by decide)]
  have e4 : σ.2 4 - σ.2 1 = g.2.2.1 4 - hsl s.heap := by rw [hσ.2.1, hσ.2.2.2.1 4 (by decide)]
  have hR : RM g s (headSpec (ws_ yX2_isSign cX2_isSign 2 (Option.some Jvm.ClassFile.FieldType.boolean)) ({ frames := 5, cells := σ.2 3 - σ.2 0, slots := σ.2 4 - σ.2 1, locals := 128 })).room (5) (128) := ⟨⟨Nat.le_refl _, Nat.le_refl _⟩, Nat.le_of_eq e3.symm, Nat.le_of_eq e4.symm⟩
  generalize (headSpec (ws_ yX2_isSign cX2_isSign 2 (Option.some Jvm.ClassFile.FieldType.boolean)) ({ frames := 5, cells := σ.2 3 - σ.2 0, slots := σ.2 4 - σ.2 1, locals := 128 })).room = R at hR ⊢
  rw [e3, e4]
  have hI : CI g A s σ s.heap [] := ⟨hσ, va_S.rf, Nat.le_refl _⟩
  have hl := lv_entry ([.ref o, .int x1]) (n := 2) (Nat.le_of_ble_eq_true rfl)
  rw [lg_entry_eq]
  generalize (lg_sl ([.ref o, .int x1]) ++ List.replicate (2 - (lg_sl ([.ref o, .int x1])).length) Slot.unset).toArray = ls at hl ⊢
  have hl : lv_has ls 2 [(0, .ref o), (1, .int x1)] := hl
  obtain ⟨z, hz⟩ : ∃ z, z = (v, σ1) := ⟨_, rfl⟩
  rw [← hz] at h
  rw [show v = z.1 by rw [hz], show σ1 = z.2 by rw [hz]]
  clear hz v σ1
  refine W.narrow ?_
  unfold m_X2_isSign at h
  refine r_aload_n (x := some o) C.x C.b dX2_isSign_0 rfl (lv_at hl 0 rfl) ?_
  refine cw_gR (r := some o) 8 5 C hw hI h (by decide) rfl in_X2 (by decide) (C.t _ q263) (fun _ h9 => h9) dX2_isSign_1 (fun v_1 h => ?_)
  refine cw_gst (Cn := "HeirCases$Token") (n := "SIGN") (d := "LHeirCases$Token;") (k := 11) C hw hI (List.mem_of_getElem? (i := 1) rfl) (by decide) q734 rfl dX2_isSign_4 ?_
  refine lv_acmp_ne (rx := v_1) (ry := some (σ.2 11)) (tgt := 31) C.x C.b dX2_isSign_7 (by decide) (fun c_2 => ?_) (fun c_2 => ?_)
  · have h := iN c_2 h
    refine lv_iconst (v := 0) C.x C.b dX2_isSign_31 (by decide) ?_
    exact cw_zret C hI h dX2_isSign_32
  · have h := ip c_2 h
    refine r_aload_n (x := some o) C.x C.b dX2_isSign_10 rfl (lv_at hl 0 rfl) ?_
    refine cw_gR (r := some o) 8 0 C hw hI h (by decide) rfl in_X2 (by decide) (C.t _ q258) (fun _ h9 => h9) dX2_isSign_11 (fun v_3 h => ?_)
    refine r_aload_n (x := some o) C.x C.b dX2_isSign_14 rfl (lv_at hl 0 rfl) ?_
    refine cw_gI (r := some o) 8 4 C hw hI h (by decide) rfl in_X2 (by decide) (C.t _ q262) (fun _ h9 => h9) dX2_isSign_15 (fun v_4 h => ?_)
    refine cw_callF (x := ⟨"java/lang/CharSequence", "charAt", "(I)C"⟩) (r := v_3) (f := fun a_7 => dsp σ [(12, m_J4_charAt a_7 v_4 σ), (11, m_J3_charAt a_7 v_4 σ)] a_7) (fun v => some (.int v)) [.int v_4] C hw hR hI hl.1 h (fun aa vv ss ee => dsp_c ee (fun o1 e1 => ⟨12, o1, _, yJ4_charAt, cJ4_charAt, 2, (Option.some Jvm.ClassFile.FieldType.char), _, _, by decide, rfl, k_J4_charAt l g A aa v_4 σ vv ss e1, Or.inl (va_cwF 1 C.t (lw_app (mem4 q298 q302 q304 q131) (lw_meth q306)) rfl rfl rfl (hw.2.2.2.2.2.2.2.2.2.1 _ (List.mem_of_getElem? (i := 0) rfl)) (by decide +kernel) ⟨Nat.le_trans (Nat.le_of_ble_eq_true rfl) hR.f, Nat.le_trans (Nat.le_of_ble_eq_true rfl) hR.lo⟩)⟩) (fun ee => dsp_c ee (fun o1 e1 => ⟨11, o1, _, yJ3_charAt, cJ3_charAt, 2, (Option.some Jvm.ClassFile.FieldType.char), _, _, by decide, rfl, k_J3_charAt l g A aa v_4 σ vv ss e1, Or.inl (va_cwF 1 C.t (lw_app (mem4 q298 q342 q344 q130) (lw_meth q346)) rfl rfl rfl (hw.2.2.2.2.2.2.2.2.2.1 _ (List.mem_of_getElem? (i := 1) rfl)) (by decide +kernel) ⟨Nat.le_trans (Nat.le_of_ble_eq_true rfl) hR.f, Nat.le_trans (Nat.le_of_ble_eq_true rfl) hR.lo⟩)⟩) (fun ee => dsp_n ee))) rfl rfl (Nat.le_of_ble_eq_true rfl) dX2_isSign_18 (fun v_5 σ_6 H locs h hI => ?_)
    refine lv_iload_n C.x C.b dX2_isSign_23 rfl (lv_at hl 1 rfl) ?_
    refine lv_icmp_ne (tgt := 31) C.x C.b dX2_isSign_24 (by decide) (fun c_8 => ?_) (fun c_8 => ?_)
    · have h := iN c_8 h
      refine lv_iconst (v := 0) C.x C.b dX2_isSign_31 (by decide) ?_
      exact cw_zret C hI h dX2_isSign_32
    · have h := ip c_8 h
      refine lv_iconst (v := 1) C.x C.b dX2_isSign_27 (by decide) ?_
      refine lv_goto (tgt := 32) C.x C.b dX2_isSign_28 (by decide) ?_
      exact cw_zret C hI h dX2_isSign_32

theorem k_X2_sign (l : Launch) (hl0 : l.stackTraces = false) (g : cG) (A : Nat → Prop) (o : Nat) (x1 : Int32) (σ : cS) (z : (cX (Int32)) × cS) (h : m_X2_sign o x1 σ = some z) : MetX l yX2_sign (ws_ yX2_sign cX2_sign 2 (Option.none : Option Jvm.ClassFile.FieldType)) ({ frames := 10, cells := σ.2 3 - σ.2 0, slots := σ.2 4 - σ.2 1, locals := 237 }) g A [.ref o, .int x1] σ (fun _ => none) z (σ.2 3 - σ.2 0) (σ.2 4 - σ.2 1) := by
  refine metx_of (cc := cX2_sign) (maxL := 2) (ret := (Option.none : Option Jvm.ClassFile.FieldType)) (by decide) rfl ?_
  intro p e s m args below meth c s₁ B hml hx hv
  obtain ⟨rfl, hw, hσ⟩ := hv
  have hts := atoms_spec (ws := (ws_ yX2_sign cX2_sign 2 (Option.none : Option Jvm.ClassFile.FieldType))) B.pre
  have C : CX p m meth c s ([.ref o, .int x1] : List Value).toArray cX2_sign 2 (Option.none : Option Jvm.ClassFile.FieldType) RX2 := ⟨⟨B.exec, B.bytes, hml, findClass_of_methodNamed B.named, fun w h => hts w (List.mem_cons_of_mem _ h)⟩, B.returns, B.notSynchronized⟩
  have e3 : σ.2 3 - σ.2 0 = g.2.2.1 3 - s.heap.size := by rw [hσ.1, hσ.2.2.2.1 3 (by decide)]
  have e4 : σ.2 4 - σ.2 1 = g.2.2.1 4 - hsl s.heap := by rw [hσ.2.1, hσ.2.2.2.1 4 (by decide)]
  have hR : RM g s (headSpec (ws_ yX2_sign cX2_sign 2 (Option.none : Option Jvm.ClassFile.FieldType)) ({ frames := 10, cells := σ.2 3 - σ.2 0, slots := σ.2 4 - σ.2 1, locals := 237 })).room (10) (237) := ⟨⟨Nat.le_refl _, Nat.le_refl _⟩, Nat.le_of_eq e3.symm, Nat.le_of_eq e4.symm⟩
  generalize (headSpec (ws_ yX2_sign cX2_sign 2 (Option.none : Option Jvm.ClassFile.FieldType)) ({ frames := 10, cells := σ.2 3 - σ.2 0, slots := σ.2 4 - σ.2 1, locals := 237 })).room = R at hR ⊢
  rw [e3, e4]
  have hI : CI g A s σ s.heap [] := ⟨hσ, va_S.rf, Nat.le_refl _⟩
  have hl := lv_entry ([.ref o, .int x1]) (n := 2) (Nat.le_of_ble_eq_true rfl)
  rw [lg_entry_eq]
  generalize (lg_sl ([.ref o, .int x1]) ++ List.replicate (2 - (lg_sl ([.ref o, .int x1])).length) Slot.unset).toArray = ls at hl ⊢
  have hl : lv_has ls 2 [(0, .ref o), (1, .int x1)] := hl
  refine W.narrow ?_
  unfold m_X2_sign at h
  refine r_aload_n (x := some o) C.x C.b dX2_sign_0 rfl (lv_at hl 0 rfl) ?_
  refine lv_iload_n C.x C.b dX2_sign_1 rfl (lv_at hl 1 rfl) ?_
  refine cw_callV (y := yX2_isSign) (bytes := cX2_isSign) (maxL := 2) (r := some o) (f := fun a_3 => m_X2_isSign a_3 x1 σ) 8 (fun v => some (.int v)) [.int x1] C hw hR hI hl.1 h (by decide) rfl (fun aa vv ss ee => k_X2_isSign l g A aa x1 σ vv ss ee) (cwV 1 C.t (lw_V q791 q793 qs9 q133 q794) rfl rfl rfl (by decide +kernel) ⟨Nat.le_trans (Nat.le_of_ble_eq_true rfl) hR.f, Nat.le_trans (Nat.le_of_ble_eq_true rfl) hR.lo⟩) rfl rfl (Nat.le_of_ble_eq_true rfl) dX2_sign_2 (fun v_1 σ_2 H locs h hI => ?_)
  refine lv_if_ne (tgt := 21) C.x C.b dX2_sign_5 (by decide) (fun c_4 => ?_) (fun c_4 => ?_)
  · have h := iN c_4 h
    refine r_aload_n (x := some o) C.x C.b dX2_sign_21 rfl (lv_at hl 0 rfl) ?_
    refine cw_callV (y := yX2_next) (bytes := cX2_next) (maxL := 1) (r := some o) (f := fun a_6 => m_X2_next a_6 σ_2) 8 (fun _ => none) [] C hw hR hI hl.1 h (by decide) rfl (fun aa vv ss ee => k_X2_next l g A aa σ_2 vv ss ee) (cwV 0 C.t (lw_V q293 q295 qs1 q133 q296) rfl rfl rfl (by decide +kernel) ⟨Nat.le_trans (Nat.le_of_ble_eq_true rfl) hR.f, Nat.le_trans (Nat.le_of_ble_eq_true rfl) hR.lo⟩) rfl rfl (Nat.le_of_ble_eq_true rfl) dX2_sign_22 (fun _ σ_5 H locs h hI => ?_)
    exact uq_l h (fun y h => cw_vret C hI h dX2_sign_25)
  · have h := ip c_4 h
    refine cw_newF C hw hI hR.2.1 hR.2.2 h q753 q754 q149 dX2_sign_8 (fun q_7 σ_8 H locs h hI => ?_)
    refine lv_dup C.x C.b dX2_sign_11 rfl ?_
    refine r_aload_n (x := some o) C.x C.b dX2_sign_12 rfl (lv_at hl 0 rfl) ?_
    refine cw_gI (r := some o) 8 4 C hw hI h (by decide) rfl in_X2 (by decide) (C.t _ q262) (fun _ h9 => h9) dX2_sign_13 (fun v_9 h => ?_)
    refine lv_iconst (v := 1) C.x C.b dX2_sign_16 (by decide) ?_
    refine cw_callI (y := yX3_init) (bytes := cX3_init) (maxL := 3) (b := q_7) [.int v_9, .int 1] C hw hR hI hl.1 h (fun vv ss ee => k_X3_init l hl0 g A q_7 v_9 1 σ_8 vv ss ee) (cwI 2 C.t (lw_meth q764) rfl rfl rfl (C.t _ q149) (C.t _ q762) (C.t _ q763) rfl (by decide +kernel) ⟨Nat.le_trans (Nat.le_of_ble_eq_true rfl) hR.f, Nat.le_trans (Nat.le_of_ble_eq_true rfl) hR.lo⟩) rfl rfl (Nat.le_of_ble_eq_true rfl) dX2_sign_17 (fun σ_10 _ H locs h hI => ?_)
    exact cx_athrow (r := some q_7) C hx hw hI h dX2_sign_20

end
