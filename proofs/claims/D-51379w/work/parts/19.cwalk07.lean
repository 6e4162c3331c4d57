/-! THE CLASS' WALKS 7: printed by gencl.py -/
section
variable {p : Program} {l : Launch} {e : Env} {R : Room} {s : State} {m : MethodId} {args : Array Value} {below : List Frame} {meth : Method} {c : Code} {g : cG} {A : Nat → Prop}
set_option maxRecDepth 100000
theorem k_J4_coder (l : Launch) (g : cG) (A : Nat → Prop) (o : Nat) (σ : cS) (v : Int32) (σ1 : cS) (h : m_J4_coder o σ = some (v, σ1)) : Met l yJ4_coder (ws_ yJ4_coder cJ4_coder 1 (Option.some Jvm.ClassFile.FieldType.byte)) ({ frames := 1, cells := σ.2 3 - σ.2 0, slots := σ.2 4 - σ.2 1, locals := 40 }) (CPc g A [.ref o] σ) (CQ g A (some (.int v)) σ1) (σ.2 3 - σ.2 0) (σ.2 4 - σ.2 1) A := by
  refine Met.ofW (cc := cJ4_coder) (maxL := 1) (ret := (Option.some Jvm.ClassFile.FieldType.byte)) (by decide) rfl ?_
  intro p e s m args below meth c s₁ B hml hv
  obtain ⟨rfl, hw, hσ⟩ := hv
  have hts := atoms_spec (ws := (ws_ yJ4_coder cJ4_coder 1 (Option.some Jvm.ClassFile.FieldType.byte))) B.pre
  have C : CX p m meth c s ([.ref o] : List Value).toArray cJ4_coder 1 (Option.some Jvm.ClassFile.FieldType.byte) RJ4 := ⟨⟨B.exec, B.bytes, hml, findClass_of_methodNamed B.named, fun w h => hts w (List.mem_cons_of_mem _ h)⟩, B.returns, B.notSynchronized⟩
  have e3 : σ.2 3 - σ.2 0 = g.2.2.1 3 - s.heap.size := by rw [hσ.1, hσ.2.2.2.1 3 (by decide)]
  have e4 : σ.2 4 - σ.2 1 = g.2.2.1 4 - hsl s.heap := by rw [hσ.2.1, hσ.2.2.2.1 4 (by decide)]
  have hR : RM g s (headSpec (ws_ yJ4_coder cJ4_coder 1 (Option.some Jvm.ClassFile.FieldType.byte)) ({ frames := 1, cells := σ.2 3 - σ.2 0, slots := σ.2 4 - σ.2 1, locals := 40 })).room (1) (40) := ⟨⟨Nat.le_refl _, Nat.le_refl _⟩, Nat.le_of_eq e3.symm, Nat.le_of_eq e4.symm⟩
  generalize (headSpec (ws_ yJ4_coder cJ4_coder 1 (Option.some Jvm.ClassFile.FieldType.byte)) ({ frames := 1, cells := σ.2 3 - σ.2 0, slots := σ.2 4 - σ.2 1, locals := 40 })).room = R at hR ⊢
  rw [e3, e4]
  have hI : CI g A s σ s.heap [] := ⟨hσ, va_S.rf, Nat.le_refl _⟩
  have hl := lv_entry ([.ref o]) (n := 1) (Nat.le_of_ble_eq_true rfl)
  rw [lg_entry_eq]
  generalize (lg_sl ([.ref o]) ++ List.replicate (1 - (lg_sl ([.ref o])).length) Slot.unset).toArray = ls at hl ⊢
  have hl : lv_has ls 1 [(0, .ref o)] := hl
  obtain ⟨z, hz⟩ : ∃ z, z = (v, σ1) := ⟨_, rfl⟩
  rw [← hz] at h
  rw [show v = z.1 by rw [hz], show σ1 = z.2 by rw [hz]]
  clear hz v σ1
  refine W.narrow ?_
  unfold m_J4_coder at h
  refine va_gets C.x C.b hw.2.1.1 hI.2.1 C.o (C.t _ q252) (fun _ h9 => h9) dJ4_coder_0 ?_
  refine lv_if_eq (tgt := 13) C.x C.b dJ4_coder_3 (by decide) (fun c_1 => ?_) (fun c_1 => ?_)
  · have h := ip c_1 h
    refine lv_iconst (v := 1) C.x C.b dJ4_coder_13 (by decide) ?_
    exact cw_bret C hI h dJ4_coder_14
  · have h := iN c_1 h
    refine r_aload_n (x := some o) C.x C.b dJ4_coder_6 rfl (lv_at hl 0 rfl) ?_
    refine cw_gI (r := some o) 12 1 C hw hI h (by decide) rfl in_J4 (by decide) (C.t _ q601) (fun _ h9 => h9) dJ4_coder_7 (fun v_2 h => ?_)
    refine lv_goto (tgt := 14) C.x C.b dJ4_coder_10 (by decide) ?_
    exact cw_bret C hI h dJ4_coder_14

theorem k_J2_inflateIfNeededFor (l : Launch) (g : cG) (A : Nat → Prop) (o : Nat) (x1 : Option Nat) (σ : cS) (v : Int32) (σ1 : cS) (h : m_J2_inflateIfNeededFor o x1 σ = some (v, σ1)) : Met l yJ2_inflateIfNeededFor (ws_ yJ2_inflateIfNeededFor cJ2_inflateIfNeededFor 2 (Option.none : Option Jvm.ClassFile.FieldType)) ({ frames := 3, cells := σ.2 3 - σ.2 0, slots := σ.2 4 - σ.2 1, locals := 81 }) (CPc g A [.ref o, va_rf x1] σ) (CQ g A (none) σ1) (σ.2 3 - σ.2 0) (σ.2 4 - σ.2 1) A := by
  refine Met.ofW (cc := cJ2_inflateIfNeededFor) (maxL := 2) (ret := (Option.none : Option Jvm.ClassFile.FieldType)) (by decide) rfl ?_
  intro p e s m args below meth c s₁ B hml hv
  obtain ⟨rfl, hw, hσ⟩ := hv
  have hts := atoms_spec (ws := (ws_ yJ2_inflateIfNeededFor cJ2_inflateIfNeededFor 2 (Option.none : Option Jvm.ClassFile.FieldType))) B.pre
  have C : CX p m meth c s ([.ref o, va_rf x1] : List Value).toArray cJ2_inflateIfNeededFor 2 (Option.none : Option Jvm.ClassFile.FieldType) RJ2 := ⟨⟨B.exec, B.bytes, hml, findClass_of_methodNamed B.named, fun w h => hts w (List.mem_cons_of_mem _ h)⟩, B.returns, B.notSynchronized⟩
  have e3 : σ.2 3 - σ.2 0 = g.2.2.1 3 - s.heap.size := by rw [hσ.1, hσ.2.2.2.1 3 (by decide)]
  have e4 : σ.2 4 - σ.2 1 = g.2.2.1 4 - hsl s.heap := by rw [hσ.2.1, hσ.2.2.2.1 4 (by decide)]
  have hR : RM g s (headSpec (ws_ yJ2_inflateIfNeededFor cJ2_inflateIfNeededFor 2 (Option.none : Option Jvm.ClassFile.FieldType)) ({ frames := 3, cells := σ.2 3 - σ.2 0, slots := σ.2 4 - σ.2 1, locals := 81 })).room (3) (81) := ⟨⟨Nat.le_refl _, Nat.le_refl _⟩, Nat.le_of_eq e3.symm, Nat.le_of_eq e4.symm⟩
  generalize (headSpec (ws_ yJ2_inflateIfNeededFor cJ2_inflateIfNeededFor 2 (Option.none : Option Jvm.ClassFile.FieldType)) ({ frames := 3, cells := σ.2 3 - σ.2 0, slots := σ.2 4 - σ.2 1, locals := 81 })).room = R at hR ⊢
  rw [e3, e4]
  have hI : CI g A s σ s.heap [] := ⟨hσ, va_S.rf, Nat.le_refl _⟩
  have hlen : (lg_sl ([.ref o, va_rf x1])).length ≤ 2 := by rcases x1 with _ | x1 <;> exact Nat.le_of_ble_eq_true rfl
  have hl := lv_entry ([.ref o, va_rf x1]) (n := 2) hlen
  rw [lg_entry_eq]
  generalize (lg_sl ([.ref o, va_rf x1]) ++ List.replicate (2 - (lg_sl ([.ref o, va_rf x1])).length) Slot.unset).toArray = ls at hl ⊢
  have hl : lv_has ls 2 [(0, .ref o), (1, va_rf x1)] := by clear hI hw h hσ e3 e4 hR C hts B; rcases x1 with _ | x1 <;> exact hl
  obtain ⟨z, hz⟩ : ∃ z, z = (v, σ1) := ⟨_, rfl⟩
  rw [← hz] at h
  rw [show σ1 = z.2 by rw [hz]]
  clear hz v σ1
  refine W.narrow ?_
  unfold m_J2_inflateIfNeededFor at h
  refine va_gets C.x C.b hw.2.1.1 hI.2.1 C.o (C.t _ q207) (fun _ h9 => h9) dJ2_inflateIfNeededFor_0 ?_
  refine lv_if_eq (tgt := 21) C.x C.b dJ2_inflateIfNeededFor_3 (by decide) (fun c_1 => ?_) (fun c_1 => ?_)
  · have h := ip c_1 h
    exact cw_vret C hI h dJ2_inflateIfNeededFor_21
  · have h := iN c_1 h
    refine r_aload_n (x := some o) C.x C.b dJ2_inflateIfNeededFor_6 rfl (lv_at hl 0 rfl) ?_
    refine cw_gI (r := some o) 11 1 C hw hI h (by decide) rfl in_J3 (by decide) (C.t _ q217) (fun _ h9 => h9) dJ2_inflateIfNeededFor_7 (fun v_2 h => ?_)
    refine r_aload_n (x := x1) C.x C.b dJ2_inflateIfNeededFor_10 rfl (lv_at hl 1 rfl) ?_
    refine cw_callV (y := yJ4_coder) (bytes := cJ4_coder) (maxL := 1) (r := x1) (f := fun a_5 => m_J4_coder a_5 σ) 12 (fun v => some (.int v)) [] C hw hR hI hl.1 h (by decide) rfl (fun aa vv ss ee => k_J4_coder l g A aa σ vv ss ee) (cwV 0 C.t (lw_V q537 q249 q250 q131 q251) rfl rfl rfl (by decide +kernel) ⟨Nat.le_trans (Nat.le_of_ble_eq_true rfl) hR.f, Nat.le_trans (Nat.le_of_ble_eq_true rfl) hR.lo⟩) rfl rfl (Nat.le_of_ble_eq_true rfl) dJ2_inflateIfNeededFor_11 (fun v_3 σ_4 H locs h hI => ?_)
    refine lv_icmp_eq (tgt := 21) C.x C.b dJ2_inflateIfNeededFor_14 (by decide) (fun c_6 => ?_) (fun c_6 => ?_)
    · have h := ip c_6 h
      exact cw_vret C hI h dJ2_inflateIfNeededFor_21
    · have h := iN c_6 h
      refine r_aload_n (x := some o) C.x C.b dJ2_inflateIfNeededFor_17 rfl (lv_at hl 0 rfl) ?_
      refine cw_callV (y := yJ2_inflate) (bytes := cJ2_inflate) (maxL := 2) (r := some o) (f := fun a_8 => m_J2_inflate a_8 σ_4) 11 (fun _ => none) [] C hw hR hI hl.1 h (by decide) rfl (fun aa vv ss ee => k_J2_inflate l g A aa σ_4 vv ss ee) (cwG 0 C.t (lw_meth q541) rfl rfl rfl (C.t _ q129) (C.t _ q538) (C.t _ q540) (sel_privS (C.t _ q199) (C.t _ q540) (va_Nw.use rfl (hw.2.2.2.2.2.2.2.2.2.2.2.2.2.2.2.1.2.1 _ (List.mem_of_getElem? (i := 5) rfl))) (by decide +kernel) (C.t _ q489) rfl) (by decide +kernel) ⟨Nat.le_trans (Nat.le_of_ble_eq_true rfl) hR.f, Nat.le_trans (Nat.le_of_ble_eq_true rfl) hR.lo⟩) rfl rfl (Nat.le_of_ble_eq_true rfl) dJ2_inflateIfNeededFor_18 (fun _ σ_7 H locs h hI => ?_)
      exact cw_vret C hI h dJ2_inflateIfNeededFor_21

theorem k_J6_inflate (l : Launch) (g : cG) (A : Nat → Prop) (x0 : Option Nat) (x1 : Int32) (x2 : Option Nat) (x3 : Int32) (x4 : Int32) (σ : cS) (v : Int32) (σ1 : cS) (h : m_J6_inflate x0 x1 x2 x3 x4 σ = some (v, σ1)) : Met l yJ6_inflate (ws_ yJ6_inflate cJ6_inflate 5 (Option.none : Option Jvm.ClassFile.FieldType)) ({ frames := 1, cells := σ.2 3 - σ.2 0, slots := σ.2 4 - σ.2 1, locals := 40 }) (CPc g A [va_rf x0, .int x1, va_rf x2, .int x3, .int x4] σ) (CQ g A (none) σ1) (σ.2 3 - σ.2 0) (σ.2 4 - σ.2 1) A := by
  refine Met.ofW (cc := cJ6_inflate) (maxL := 5) (ret := (Option.none : Option Jvm.ClassFile.FieldType)) (by decide) rfl ?_
  intro p e s m args below meth c s₁ B hml hv
  obtain ⟨rfl, hw, hσ⟩ := hv
  have hts := atoms_spec (ws := (ws_ yJ6_inflate cJ6_inflate 5 (Option.none : Option Jvm.ClassFile.FieldType))) B.pre
  have C : CX p m meth c s ([va_rf x0, .int x1, va_rf x2, .int x3, .int x4] : List Value).toArray cJ6_inflate 5 (Option.none : Option Jvm.ClassFile.FieldType) RJ6 := ⟨⟨B.exec, B.bytes, hml, findClass_of_methodNamed B.named, fun w h => hts w (List.mem_cons_of_mem _ h)⟩, B.returns, B.notSynchronized⟩
  have e3 : σ.2 3 - σ.2 0 = g.2.2.1 3 - s.heap.size := by rw [hσ.1, hσ.2.2.2.1 3 (by decide)]
  have e4 : σ.2 4 - σ.2 1 = g.2.2.1 4 - hsl s.heap := by rw [hσ.2.1, hσ.2.2.2.1 4 (by decide)]
  have hR : RM g s (headSpec (ws_ yJ6_inflate cJ6_inflate 5 (Option.none : Option Jvm.ClassFile.FieldType)) ({ frames := 1, cells := σ.2 3 - σ.2 0, slots := σ.2 4 - σ.2 1, locals := 40 })).room (1) (40) := ⟨⟨Nat.le_refl _, Nat.le_refl _⟩, Nat.le_of_eq e3.symm, Nat.le_of_eq e4.symm⟩
  generalize (headSpec (ws_ yJ6_inflate cJ6_inflate 5 (Option.none : Option Jvm.ClassFile.FieldType)) ({ frames := 1, cells := σ.2 3 - σ.2 0, slots := σ.2 4 - σ.2 1, locals := 40 })).room = R at hR ⊢
  rw [e3, e4]
  have hI : CI g A s σ s.heap [] := ⟨hσ, va_S.rf, Nat.le_refl _⟩
  have hlen : (lg_sl ([va_rf x0, .int x1, va_rf x2, .int x3, .int x4])).length ≤ 5 := by rcases x0 with _ | x0 <;> rcases x2 with _ | x2 <;> exact Nat.le_of_ble_eq_true rfl
  have hl := lv_entry ([va_rf x0, .int x1, va_rf x2, .int x3, .int x4]) (n := 5) hlen
  rw [lg_entry_eq]
  generalize (lg_sl ([va_rf x0, .int x1, va_rf x2, .int x3, .int x4]) ++ List.replicate (5 - (lg_sl ([va_rf x0, .int x1, va_rf x2, .int x3, .int x4])).length) Slot.unset).toArray = ls at hl ⊢
  have hl : lv_has ls 5 [(0, va_rf x0), (1, .int x1), (2, va_rf x2), (3, .int x3), (4, .int x4)] := by clear hI hw h hσ e3 e4 hR C hts B; rcases x0 with _ | x0 <;> rcases x2 with _ | x2 <;> exact hl
  obtain ⟨z, hz⟩ : ∃ z, z = (v, σ1) := ⟨_, rfl⟩
  rw [← hz] at h
  rw [show σ1 = z.2 by rw [hz]]
  clear hz v σ1
  refine W.narrow ?_
  unfold m_J6_inflate at h
  refine r_aload_n (x := x0) C.x C.b dJ6_inflate_0 rfl (lv_at hl 0 rfl) ?_
  refine lv_iload_n C.x C.b dJ6_inflate_1 rfl (lv_at hl 1 rfl) ?_
  refine r_aload_n (x := x2) C.x C.b dJ6_inflate_2 rfl (lv_at hl 2 rfl) ?_
  refine lv_iload_n C.x C.b dJ6_inflate_3 rfl (lv_at hl 3 rfl) ?_
  refine lv_iload C.x C.b dJ6_inflate_4 (lv_at hl 4 rfl) ?_
  cases h

theorem k_J4_getBytes (l : Launch) (g : cG) (A : Nat → Prop) (o : Nat) (x1 : Option Nat) (x2 : Int32) (x3 : Int32) (σ : cS) (v : Int32) (σ1 : cS) (h : m_J4_getBytes o x1 x2 x3 σ = some (v, σ1)) : Met l yJ4_getBytes (ws_ yJ4_getBytes cJ4_getBytes 4 (Option.none : Option Jvm.ClassFile.FieldType)) ({ frames := 2, cells := σ.2 3 - σ.2 0, slots := σ.2 4 - σ.2 1, locals := 64 }) (CPc g A [.ref o, va_rf x1, .int x2, .int x3] σ) (CQ g A (none) σ1) (σ.2 3 - σ.2 0) (σ.2 4 - σ.2 1) A := by
  refine Met.ofW (cc := cJ4_getBytes) (maxL := 4) (ret := (Option.none : Option Jvm.ClassFile.FieldType)) (by decide) rfl ?_
  intro p e s m args below meth c s₁ B hml hv
  obtain ⟨rfl, hw, hσ⟩ := hv
  have hts := atoms_spec (ws := (ws_ yJ4_getBytes cJ4_getBytes 4 (Option.none : Option Jvm.ClassFile.FieldType))) B.pre
  have C : CX p m meth c s ([.ref o, va_rf x1, .int x2, .int x3] : List Value).toArray cJ4_getBytes 4 (Option.none : Option Jvm.ClassFile.FieldType) RJ4 := ⟨⟨B.exec, B.bytes, hml, findClass_of_methodNamed B.named, fun w h => hts w (List.mem_cons_of_mem _ h)⟩, B.returns, B.notSynchronized⟩
  have e3 : σ.2 3 - σ.2 0 = g.2.2.1 3 - s.heap.size := by rw [hσ.1, hσ.2.2.2.1 3 (by decide)]
  have e4 : σ.2 4 - σ.2 1 = g.2.2.1 4 - hsl s.heap := by rw [hσ.2.1, hσ.2.2.2.1 4 (by decide)]
  have hR : RM g s (headSpec (ws_ yJ4_getBytes cJ4_getBytes 4 (Option.none : Option Jvm.ClassFile.FieldType)) ({ frames := 2, cells := σ.2 3 - σ.2 0, slots := σ.2 4 - σ.2 1, locals := 64 })).room (2) (64) := ⟨⟨Nat.le_refl _, Nat.le_refl _⟩, Nat.le_of_eq e3.symm, Nat.le_of_eq e4.symm⟩
  generalize (headSpec (ws_ yJ4_getBytes cJ4_getBytes 4 (Option.none : Option Jvm.ClassFile.FieldType)) ({ frames := 2, cells := σ.2 3 - σ.2 0, slots := σ.2 4 - σ.2 1, locals := 64 })).room = R at hR ⊢
  rw [e3, e4]
  have hI : CI g A s σ s.heap [] := ⟨hσ, va_S.rf, Nat.le_refl _⟩
  have hlen : (lg_sl ([.ref o, va_rf x1, .int x2, .int x3])).length ≤ 4 := by rcases x1 with _ | x1 <;> exact Nat.le_of_ble_eq_true rfl
  have hl := lv_entry ([.ref o, va_rf x1, .int x2, .int x3]) (n := 4) hlen
  rw [lg_entry_eq]
  generalize (lg_sl ([.ref o, va_rf x1, .int x2, .int x3]) ++ List.replicate (4 - (lg_sl ([.ref o, va_rf x1, .int x2, .int x3])).length) Slot.unset).toArray = ls at hl ⊢
  have hl : lv_has ls 4 [(0, .ref o), (1, va_rf x1), (2, .int x2), (3, .int x3)] := by clear hI hw h hσ e3 e4 hR C hts B; rcases x1 with _ | x1 <;> exact hl
  obtain ⟨z, hz⟩ : ∃ z, z = (v, σ1) := ⟨_, rfl⟩
  rw [← hz] at h
  rw [show σ1 = z.2 by rw [hz]]
  clear hz v σ1
  refine W.narrow ?_
  unfold m_J4_getBytes at h
  refine r_aload_n (x := some o) C.x C.b dJ4_getBytes_0 rfl (lv_at hl 0 rfl) ?_
  refine cw_callV (y := yJ4_coder) (bytes := cJ4_coder) (maxL := 1) (r := some o) (f := fun a_3 => m_J4_coder a_3 σ) 12 (fun v => some (.int v)) [] C hw hR hI hl.1 h (by decide) rfl (fun aa vv ss ee => k_J4_coder l g A aa σ vv ss ee) (cwV 0 C.t (lw_V q248 q249 q250 q131 q251) rfl rfl rfl (by decide +kernel) ⟨Nat.le_trans (Nat.le_of_ble_eq_true rfl) hR.f, Nat.le_trans (Nat.le_of_ble_eq_true rfl) hR.lo⟩) rfl rfl (Nat.le_of_ble_eq_true rfl) dJ4_getBytes_1 (fun v_1 σ_2 H locs h hI => ?_)
  refine lv_iload_n C.x C.b dJ4_getBytes_4 rfl (lv_at hl 3 rfl) ?_
  refine lv_icmp_ne (tgt := 28) C.x C.b dJ4_getBytes_5 (by decide) (fun c_4 => ?_) (fun c_4 => ?_)
  · have h := iN c_4 h
    refine r_aload_n (x := some o) C.x C.b dJ4_getBytes_28 rfl (lv_at hl 0 rfl) ?_
    refine cw_gR (r := some o) 12 0 C hw hI h (by decide) rfl in_J4 (by decide) (C.t _ q600) (fun _ h9 => h9) dJ4_getBytes_29 (fun v_5 h => ?_)
    refine lv_iconst (v := 0) C.x C.b dJ4_getBytes_32 (by decide) ?_
    refine r_aload_n (x := x1) C.x C.b dJ4_getBytes_33 rfl (lv_at hl 1 rfl) ?_
    refine lv_iload_n C.x C.b dJ4_getBytes_34 rfl (lv_at hl 2 rfl) ?_
    refine r_aload_n (x := some o) C.x C.b dJ4_getBytes_35 rfl (lv_at hl 0 rfl) ?_
    refine cw_gR (r := some o) 12 0 C hw hI h (by decide) rfl in_J4 (by decide) (C.t _ q600) (fun _ h9 => h9) dJ4_getBytes_36 (fun v_6 h => ?_)
    refine cw_aL (r := v_6) C hw hI h dJ4_getBytes_39 (fun v_7 h => ?_)
    refine cw_callS (y := yJ6_inflate) (bytes := cJ6_inflate) (maxL := 5) (fun _ => none) [va_rf v_5, .int 0, va_rf x1, .int x2, .int v_7] C hw hR hI hl.1 h (fun vv ss ee => k_J6_inflate l g A v_5 0 x1 x2 v_7 σ_2 vv ss ee) (va_cwS 5 C.t (lw_S q562 q543 q134 q544) rfl rfl rfl (by decide +kernel) ⟨Nat.le_trans (Nat.le_of_ble_eq_true rfl) hR.f, Nat.le_trans (Nat.le_of_ble_eq_true rfl) hR.lo⟩) rfl rfl (Nat.le_of_ble_eq_true rfl) dJ4_getBytes_40 (fun _ σ_8 H locs h hI => ?_)
    exact cw_vret C hI h dJ4_getBytes_43
  · have h := ip c_4 h
    refine r_aload_n (x := some o) C.x C.b dJ4_getBytes_8 rfl (lv_at hl 0 rfl) ?_
    refine cw_gR (r := some o) 12 0 C hw hI h (by decide) rfl in_J4 (by decide) (C.t _ q600) (fun _ h9 => h9) dJ4_getBytes_9 (fun v_9 h => ?_)
    refine lv_iconst (v := 0) C.x C.b dJ4_getBytes_12 (by decide) ?_
    refine r_aload_n (x := x1) C.x C.b dJ4_getBytes_13 rfl (lv_at hl 1 rfl) ?_
    refine lv_iload_n C.x C.b dJ4_getBytes_14 rfl (lv_at hl 2 rfl) ?_
    refine lv_iload_n C.x C.b dJ4_getBytes_15 rfl (lv_at hl 3 rfl) ?_
    refine lv_ishl C.x C.b dJ4_getBytes_16 ?_
    refine r_aload_n (x := some o) C.x C.b dJ4_getBytes_17 rfl (lv_at hl 0 rfl) ?_
    refine cw_gR (r := some o) 12 0 C hw hI h (by decide) rfl in_J4 (by decide) (C.t _ q600) (fun _ h9 => h9) dJ4_getBytes_18 (fun v_10 h => ?_)
    refine cw_aL (r := v_10) C hw hI h dJ4_getBytes_21 (fun v_11 h => ?_)
    refine cw_cpI (kind := 1) (ty := .byte) (src := v_9) (dst := x1) (Or.inr ⟨rfl, rfl⟩) C hw hR hI hl.1 h q561 (by decide) (by decide) (Nat.le_of_ble_eq_true rfl) dJ4_getBytes_22 (fun σ_12 H locs h hI => ?_)
    refine lv_goto (tgt := 43) C.x C.b dJ4_getBytes_25 (by decide) ?_
    exact cw_vret C hI h dJ4_getBytes_43

theorem k_J2_putStringAt (l : Launch) (g : cG) (A : Nat → Prop) (o : Nat) (x1 : Int32) (x2 : Option Nat) (σ : cS) (v : Int32) (σ1 : cS) (h : m_J2_putStringAt o x1 x2 σ = some (v, σ1)) : Met l yJ2_putStringAt (ws_ yJ2_putStringAt cJ2_putStringAt 3 (Option.none : Option Jvm.ClassFile.FieldType)) ({ frames := 4, cells := σ.2 3 - σ.2 0, slots := σ.2 4 - σ.2 1, locals := 102 }) (CPc g A [.ref o, .int x1, va_rf x2] σ) (CQ g A (none) σ1) (σ.2 3 - σ.2 0) (σ.2 4 - σ.2 1) A := by
  refine Met.ofW (cc := cJ2_putStringAt) (maxL := 3) (ret := (Option.none : Option Jvm.ClassFile.FieldType)) (by decide) rfl ?_
  intro p e s m args below meth c s₁ B hml hv
  obtain ⟨rfl, hw, hσ⟩ := hv
  have hts := atoms_spec (ws := (ws_ yJ2_putStringAt cJ2_putStringAt 3 (Option.none : Option Jvm.ClassFile.FieldType))) B.pre
  have C : CX p m meth c s ([.ref o, .int x1, va_rf x2] : List Value).toArray cJ2_putStringAt 3 (Option.none : Option Jvm.ClassFile.FieldType) RJ2 := ⟨⟨B.exec, B.bytes, hml, findClass_of_methodNamed B.named, fun w h => hts w (List.mem_cons_of_mem _ h)⟩, B.returns, B.notSynchronized⟩
  have e3 : σ.2 3 - σ.2 0 = g.2.2.1 3 - s.heap.size := by rw [hσ.1, hσ.2.2.2.1 3 (by decide)]
  have e4 : σ.2 4 - σ.2 1 = g.2.2.1 4 - hsl s.heap := by rw [hσ.2.1, hσ.2.2.2.1 4 (by decide)]
  have hR : RM g s (headSpec (ws_ yJ2_putStringAt cJ2_putStringAt 3 (Option.none : Option Jvm.ClassFile.FieldType)) ({ frames := 4, cells := σ.2 3 - σ.2 0, slots := σ.2 4 - σ.2 1, locals := 102 })).room (4) (102) := ⟨⟨Nat.le_refl _, Nat.le_refl _⟩, Nat.le_of_eq e3.symm, Nat.le_of_eq e4.symm⟩
  generalize (headSpec (ws_ yJ2_putStringAt cJ2_putStringAt 3 (Option.none : Option Jvm.ClassFile.FieldType)) ({ frames := 4, cells := σ.2 3 - σ.2 0, slots := σ.2 4 - σ.2 1, locals := 102 })).room = R at hR ⊢
  rw [e3, e4]
  have hI : CI g A s σ s.heap [] := ⟨hσ, va_S.rf, Nat.le_refl _⟩
  have hlen : (lg_sl ([.ref o, .int x1, va_rf x2])).length ≤ 3 := by rcases x2 with _ | x2 <;> exact Nat.le_of_ble_eq_true rfl
  have hl := lv_entry ([.ref o, .int x1, va_rf x2]) (n := 3) hlen
  rw [lg_entry_eq]
  generalize (lg_sl ([.ref o, .int x1, va_rf x2]) ++ List.replicate (3 - (lg_sl ([.ref o, .int x1, va_rf x2])).length) Slot.unset).toArray = ls at hl ⊢
  have hl : lv_has ls 3 [(0, .ref o), (1, .int x1), (2, va_rf x2)] := by clear hI hw h hσ e3 e4 hR C hts B; rcases x2 with _ | x2 <;> exact hl
  obtain ⟨z, hz⟩ : ∃ z, z = (v, σ1) := ⟨_, rfl⟩
  rw [← hz] at h
  rw [show σ1 = z.2 by rw [hz]]
  clear hz v σ1
  refine W.narrow ?_
  unfold m_J2_putStringAt at h
  refine r_aload_n (x := some o) C.x C.b dJ2_putStringAt_0 rfl (lv_at hl 0 rfl) ?_
  refine r_aload_n (x := x2) C.x C.b dJ2_putStringAt_1 rfl (lv_at hl 2 rfl) ?_
  refine cw_callV (y := yJ2_inflateIfNeededFor) (bytes := cJ2_inflateIfNeededFor) (maxL := 2) (r := some o) (f := fun a_2 => m_J2_inflateIfNeededFor a_2 x2 σ) 11 (fun _ => none) [va_rf x2] C hw hR hI hl.1 h (by decide) rfl (fun aa vv ss ee => k_J2_inflateIfNeededFor l g A aa x2 σ vv ss ee) (cwG 1 C.t (lw_meth q536) rfl rfl rfl (C.t _ q129) (C.t _ q533) (C.t _ q535) (sel_privS (C.t _ q199) (C.t _ q535) (va_Nw.use rfl (hw.2.2.2.2.2.2.2.2.2.2.2.2.2.2.2.1.2.1 _ (List.mem_of_getElem? (i := 4) rfl))) (by decide +kernel) (C.t _ q489) rfl) (by decide +kernel) ⟨Nat.le_trans (Nat.le_of_ble_eq_true rfl) hR.f, Nat.le_trans (Nat.le_of_ble_eq_true rfl) hR.lo⟩) rfl rfl (Nat.le_of_ble_eq_true rfl) dJ2_putStringAt_2 (fun _ σ_1 H locs h hI => ?_)
  refine r_aload_n (x := x2) C.x C.b dJ2_putStringAt_5 rfl (lv_at hl 2 rfl) ?_
  refine r_aload_n (x := some o) C.x C.b dJ2_putStringAt_6 rfl (lv_at hl 0 rfl) ?_
  refine cw_gR (r := some o) 11 0 C hw hI h (by decide) rfl in_J3 (by decide) (C.t _ q216) (fun _ h9 => h9) dJ2_putStringAt_7 (fun v_3 h => ?_)
  refine lv_iload_n C.x C.b dJ2_putStringAt_10 rfl (lv_at hl 1 rfl) ?_
  refine r_aload_n (x := some o) C.x C.b dJ2_putStringAt_11 rfl (lv_at hl 0 rfl) ?_
  refine cw_gI (r := some o) 11 1 C hw hI h (by decide) rfl in_J3 (by decide) (C.t _ q217) (fun _ h9 => h9) dJ2_putStringAt_12 (fun v_4 h => ?_)
  refine cw_callV (y := yJ4_getBytes) (bytes := cJ4_getBytes) (maxL := 4) (r := x2) (f := fun a_6 => m_J4_getBytes a_6 v_3 x1 v_4 σ_1) 12 (fun _ => none) [va_rf v_3, .int x1, .int v_4] C hw hR hI hl.1 h (by decide) rfl (fun aa vv ss ee => k_J4_getBytes l g A aa v_3 x1 v_4 σ_1 vv ss ee) (cwV 3 C.t (lw_V q557 q558 q559 q131 q560) rfl rfl rfl (by decide +kernel) ⟨Nat.le_trans (Nat.le_of_ble_eq_true rfl) hR.f, Nat.le_trans (Nat.le_of_ble_eq_true rfl) hR.lo⟩) rfl rfl (Nat.le_of_ble_eq_true rfl) dJ2_putStringAt_15 (fun _ σ_5 H locs h hI => ?_)
  exact cw_vret C hI h dJ2_putStringAt_18

theorem k_J4_length (l : Launch) (g : cG) (A : Nat → Prop) (o : Nat) (σ : cS) (v : Int32) (σ1 : cS) (h : m_J4_length o σ = some (v, σ1)) : Met l yJ4_length (ws_ yJ4_length cJ4_length 1 (Option.some Jvm.ClassFile.FieldType.int)) ({ frames := 2, cells := σ.2 3 - σ.2 0, slots := σ.2 4 - σ.2 1, locals := 60 }) (CPc g A [.ref o] σ) (CQ g A (some (.int v)) σ1) (σ.2 3 - σ.2 0) (σ.2 4 - σ.2 1) A := by
  refine Met.ofW (cc := cJ4_length) (maxL := 1) (ret := (Option.some Jvm.ClassFile.FieldType.int)) (by decide) rfl ?_
  intro p e s m args below meth c s₁ B hml hv
  obtain ⟨rfl, hw, hσ⟩ := hv
  have hts := atoms_spec (ws := (ws_ yJ4_length cJ4_length 1 (Option.some Jvm.ClassFile.FieldType.int))) B.pre
  have C : CX p m meth c s ([.ref o] : List Value).toArray cJ4_length 1 (Option.some Jvm.ClassFile.FieldType.int) RJ4 := ⟨⟨B.exec, B.bytes, hml, findClass_of_methodNamed B.named, fun w h => hts w (List.mem_cons_of_mem _ h)⟩, B.returns, B.notSynchronized⟩
  have e3 : σ.2 3 - σ.2 0 = g.2.2.1 3 - s.heap.size := by rw [hσ.1, hσ.2.2.2.1 3 (by decide)]
  have e4 : σ.2 4 - σ.2 1 = g.2.2.1 4 - hsl s.heap := by rw [hσ.2.1, hσ.2.2.2.1 4 (by decide)]
  have hR : RM g s (headSpec (ws_ yJ4_length cJ4_length 1 (Option.some Jvm.ClassFile.FieldType.int)) ({ frames := 2, cells := σ.2 3 - σ.2 0, slots := σ.2 4 - σ.2 1, locals := 60 })).room (2) (60) := ⟨⟨Nat.le_refl _, Nat.le_refl _⟩, Nat.le_of_eq e3.symm, Nat.le_of_eq e4.symm⟩
  generalize (headSpec (ws_ yJ4_length cJ4_length 1 (Option.some Jvm.ClassFile.FieldType.int)) ({ frames := 2, cells := σ.2 3 - σ.2 0, slots := σ.2 4 - σ.2 1, locals := 60 })).room = R at hR ⊢
  rw [e3, e4]
  have hI : CI g A s σ s.heap [] := ⟨hσ, va_S.rf, Nat.le_refl _⟩
  have hl := lv_entry ([.ref o]) (n := 1) (Nat.le_of_ble_eq_true rfl)
  rw [lg_entry_eq]
  generalize (lg_sl ([.ref o]) ++ List.replicate (1 - (lg_sl ([.ref o])).length) Slot.unset).toArray = ls at hl ⊢
  have hl : lv_has ls 1 [(0, .ref o)] := hl
  obtain ⟨z, hz⟩ : ∃ z, z = (v, σ1) := ⟨_, rfl⟩
  rw [← hz] at h
  rw [show v = z.1 by rw [hz], show σ1 = z.2 by rw [hz]]
  clear hz v σ1
  refine W.narrow ?_
  unfold m_J4_length at h
  refine r_aload_n (x := some o) C.x C.b dJ4_length_0 rfl (lv_at hl 0 rfl) ?_
  refine cw_gR (r := some o) 12 0 C hw hI h (by decide) rfl in_J4 (by decide) (C.t _ q600) (fun _ h9 => h9) dJ4_length_1 (fun v_1 h => ?_)
  refine cw_aL (r := v_1) C hw hI h dJ4_length_4 (fun v_2 h => ?_)
  refine r_aload_n (x := some o) C.x C.b dJ4_length_5 rfl (lv_at hl 0 rfl) ?_
  refine cw_callV (y := yJ4_coder) (bytes := cJ4_coder) (maxL := 1) (r := some o) (f := fun a_5 => m_J4_coder a_5 σ) 12 (fun v => some (.int v)) [] C hw hR hI hl.1 h (by decide) rfl (fun aa vv ss ee => k_J4_coder l g A aa σ vv ss ee) (cwV 0 C.t (lw_V q248 q249 q250 q131 q251) rfl rfl rfl (by decide +kernel) ⟨Nat.le_trans (Nat.le_of_ble_eq_true rfl) hR.f, Nat.le_trans (Nat.le_of_ble_eq_true rfl) hR.lo⟩) rfl rfl (Nat.le_of_ble_eq_true rfl) dJ4_length_6 (fun v_3 σ_4 H locs h hI => ?_)
  refine lv_ishr C.x C.b dJ4_length_9 ?_
  exact cw_iret C hI h dJ4_length_10

theorem k_J2_append_2 (l : Launch) (g : cG) (A : Nat → Prop) (o : Nat) (x1 : Option Nat) (σ : cS) (v : Option Nat) (σ1 : cS) (h : m_J2_append_2 o x1 σ = some (v, σ1)) : Met l yJ2_append_2 (ws_ yJ2_append_2 cJ2_append_2 3 (Option.some (Jvm.ClassFile.FieldType.object "java/lang/AbstractStringBuilder"))) ({ frames := 5, cells := σ.2 3 - σ.2 0, slots := σ.2 4 - σ.2 1, locals := 132 }) (CPc g A [.ref o, va_rf x1] σ) (CQ g A (some (va_rf v)) σ1) (σ.2 3 - σ.2 0) (σ.2 4 - σ.2 1) A := by
  refine Met.ofW (cc := cJ2_append_2) (maxL := 3) (ret := (Option.some (Jvm.ClassFile.FieldType.object "java/lang/AbstractStringBuilder"))) (by decide) rfl ?_
  intro p e s m args below meth c s₁ B hml hv
  obtain ⟨rfl, hw, hσ⟩ := hv
  have hts := atoms_spec (ws := (ws_ yJ2_append_2 cJ2_append_2 3 (Option.some (Jvm.ClassFile.FieldType.object "java/lang/AbstractStringBuilder")))) B.pre
  have C : CX p m meth c s ([.ref o, va_rf x1] : List Value).toArray cJ2_append_2 3 (Option.some (Jvm.ClassFile.FieldType.object "java/lang/AbstractStringBuilder")) RJ2 := ⟨⟨B.exec, B.bytes, hml, findClass_of_methodNamed B.named, fun w h => hts w (List.mem_cons_of_mem _ h)⟩, B.returns, B.notSynchronized⟩
  have e3 : σ.2 3 - σ.2 0 = g.2.2.1 3 - s.heap.size := by rw [hσ.1, hσ.2.2.2.1 3 (by decide)]
  have e4 : σ.2 4 - σ.2 1 = g.2.2.1 4 - hsl s.heap := by rw [hσ.2.1, hσ.2.2.2.1 4 (by decide)]
  have hR : RM g s (headSpec (ws_ yJ2_append_2 cJ2_append_2 3 (Option.some (Jvm.ClassFile.FieldType.object "java/lang/AbstractStringBuilder"))) ({ frames := 5, cells := σ.2 3 - σ.2 0, slots := σ.2 4 - σ.2 1, locals := 132 })).room (5) (132) := ⟨⟨Nat.le_refl _, Nat.le_refl _⟩, Nat.le_of_eq e3.symm, Nat.le_of_eq e4.symm⟩
  generalize (headSpec (ws_ yJ2_append_2 cJ2_append_2 3 (Option.some (Jvm.ClassFile.FieldType.object "java/lang/AbstractStringBuilder"))) ({ frames := 5, cells := σ.2 3 - σ.2 0, slots := σ.2 4 - σ.2 1, locals := 132 })).room = R at hR ⊢
  rw [e3, e4]
  have hI : CI g A s σ s.heap [] := ⟨hσ, va_S.rf, Nat.le_refl _⟩
  have hlen : (lg_sl ([.ref o, va_rf x1])).length ≤ 3 := by rcases x1 with _ | x1 <;> exact Nat.le_of_ble_eq_true rfl
  have hl := lv_entry ([.ref o, va_rf x1]) (n := 3) hlen
  rw [lg_entry_eq]
  generalize (lg_sl ([.ref o, va_rf x1]) ++ List.replicate (3 - (lg_sl ([.ref o, va_rf x1])).length) Slot.unset).toArray = ls at hl ⊢
  have hl : lv_has ls 3 [(0, .ref o), (1, va_rf x1)] := by clear hI hw h hσ e3 e4 hR C hts B; rcases x1 with _ | x1 <;> exact hl
  obtain ⟨z, hz⟩ : ∃ z, z = (v, σ1) := ⟨_, rfl⟩
  rw [← hz] at h
  rw [show v = z.1 by rw [hz], show σ1 = z.2 by rw [hz]]
  clear hz v σ1
  refine W.narrow ?_
  unfold m_J2_append_2 at h
  refine r_aload_n (x := x1) C.x C.b dJ2_append_2_0 rfl (lv_at hl 1 rfl) ?_
  refine r_ifnonnull (x := x1) (tgt := 9) C.x C.b dJ2_append_2_1 (by decide) (fun c_1 => ?_) (fun c_1 => ?_)
  · have h := iN c_1 h
    refine r_aload_n (x := x1) C.x C.b dJ2_append_2_9 rfl (lv_at hl 1 rfl) ?_
    refine cw_callV (y := yJ4_length) (bytes := cJ4_length) (maxL := 1) (r := x1) (f := fun a_4 => m_J4_length a_4 σ) 12 (fun v => some (.int v)) [] C hw hR hI hl.1 h (by decide) rfl (fun aa vv ss ee => k_J4_length l g A aa σ vv ss ee) (cwV 0 C.t (lw_V q528 q245 q246 q131 q247) rfl rfl rfl (by decide +kernel) ⟨Nat.le_trans (Nat.le_of_ble_eq_true rfl) hR.f, Nat.le_trans (Nat.le_of_ble_eq_true rfl) hR.lo⟩) rfl rfl (Nat.le_of_ble_eq_true rfl) dJ2_append_2_10 (fun v_2 σ_3 H locs h hI => ?_)
    refine lv_istore_n (i := 2) (lv' := [(2, .int v_2), (0, .ref o), (1, va_rf x1)]) C.x C.b dJ2_append_2_13 rfl hl (by decide) (by first | (simp [List.filter, cat_rf, cat_i, cat_a, cat_n, cat_l, cat_f, cat_d]; done) | (simp [List.filter, cat_rf, cat_i, cat_a, cat_n, cat_l, cat_f, cat_d]; rfl)) (fun ls hl => ?_)
    refine r_aload_n (x := some o) C.x C.b dJ2_append_2_14 rfl (lv_at hl 1 rfl) ?_
    refine r_aload_n (x := some o) C.x C.b dJ2_append_2_15 rfl (lv_at hl 1 rfl) ?_
    refine cw_gI (r := some o) 11 3 C hw hI h (by decide) rfl in_J3 (by decide) (C.t _ q220) (fun _ h9 => h9) dJ2_append_2_16 (fun v_5 h => ?_)
    refine lv_iload_n C.x C.b dJ2_append_2_19 rfl (lv_at hl 0 rfl) ?_
    refine lv_iadd C.x C.b dJ2_append_2_20 ?_
    refine cw_callV (y := yJ2_ensureCapacityInternal) (bytes := cJ2_ensureCapacityInternal) (maxL := 3) (r := some o) (f := fun a_7 => m_J2_ensureCapacityInternal a_7 (v_5 + v_2) σ_3) 11 (fun _ => none) [.int (v_5 + v_2)] C hw hR hI hl.1 h (by decide) rfl (fun aa vv ss ee => k_J2_ensureCapacityInternal l g A aa (v_5 + v_2) σ_3 vv ss ee) (cwG 1 C.t (lw_meth q456) rfl rfl rfl (C.t _ q129) (C.t _ q453) (C.t _ q455) (sel_privS (C.t _ q199) (C.t _ q455) (va_Nw.use rfl (hw.2.2.2.2.2.2.2.2.2.2.2.2.2.2.2.1.2.1 _ (List.mem_of_getElem? (i := 0) rfl))) (by decide +kernel) (C.t _ q489) rfl) (by decide +kernel) ⟨Nat.le_trans (Nat.le_of_ble_eq_true rfl) hR.f, Nat.le_trans (Nat.le_of_ble_eq_true rfl) hR.lo⟩) rfl rfl (Nat.le_of_ble_eq_true rfl) dJ2_append_2_21 (fun _ σ_6 H locs h hI => ?_)
    refine r_aload_n (x := some o) C.x C.b dJ2_append_2_24 rfl (lv_at hl 1 rfl) ?_
    refine r_aload_n (x := some o) C.x C.b dJ2_append_2_25 rfl (lv_at hl 1 rfl) ?_
    refine cw_gI (r := some o) 11 3 C hw hI h (by decide) rfl in_J3 (by decide) (C.t _ q220) (fun _ h9 => h9) dJ2_append_2_26 (fun v_8 h => ?_)
    refine r_aload_n (x := x1) C.x C.b dJ2_append_2_29 rfl (lv_at hl 2 rfl) ?_
    refine cw_callV (y := yJ2_putStringAt) (bytes := cJ2_putStringAt) (maxL := 3) (r := some o) (f := fun a_10 => m_J2_putStringAt a_10 v_8 x1 σ_6) 11 (fun _ => none) [.int v_8, va_rf x1] C hw hR hI hl.1 h (by decide) rfl (fun aa vv ss ee => k_J2_putStringAt l g A aa v_8 x1 σ_6 vv ss ee) (cwG 2 C.t (lw_meth q532) rfl rfl rfl (C.t _ q129) (C.t _ q529) (C.t _ q531) (sel_privS (C.t _ q199) (C.t _ q531) (va_Nw.use rfl (hw.2.2.2.2.2.2.2.2.2.2.2.2.2.2.2.1.2.1 _ (List.mem_of_getElem? (i := 3) rfl))) (by decide +kernel) (C.t _ q489) rfl) (by decide +kernel) ⟨Nat.le_trans (Nat.le_of_ble_eq_true rfl) hR.f, Nat.le_trans (Nat.le_of_ble_eq_true rfl) hR.lo⟩) rfl rfl (Nat.le_of_ble_eq_true rfl) dJ2_append_2_30 (fun _ σ_9 H locs h hI => ?_)
    refine r_aload_n (x := some o) C.x C.b dJ2_append_2_33 rfl (lv_at hl 1 rfl) ?_
    refine lv_dup C.x C.b dJ2_append_2_34 rfl ?_
    refine cw_gI (r := some o) 11 3 C hw hI h (by decide) rfl in_J3 (by decide) (C.t _ q220) (fun _ h9 => h9) dJ2_append_2_35 (fun v_11 h => ?_)
    refine lv_iload_n C.x C.b dJ2_append_2_38 rfl (lv_at hl 0 rfl) ?_
    refine lv_iadd C.x C.b dJ2_append_2_39 ?_
    refine cw_pO (r := some o) (v := (.int (v_11 + v_2))) (ty := .int) 11 3 C hw hI h (by decide) rfl in_J3 tyJ3 tyJ3_ok nmJ3 (by decide) (C.t _ q220) (fun _ h9 => h9) (Or.inl rfl) (by decide +kernel) rfl rfl dJ2_append_2_40 (fun σ_12 H locs h hI => ?_)
    refine r_aload_n (x := some o) C.x C.b dJ2_append_2_43 rfl (lv_at hl 1 rfl) ?_
    exact cw_aret (x := some o) C (Or.inl ⟨_, rfl⟩) hI h dJ2_append_2_44
  · have h := ip c_1 h
    refine r_aload_n (x := some o) C.x C.b dJ2_append_2_4 rfl (lv_at hl 0 rfl) ?_
    refine cw_callV (y := yJ2_appendNull) (bytes := cJ2_appendNull) (maxL := 3) (r := some o) (f := fun a_15 => m_J2_appendNull a_15 σ) 11 (fun v => some (va_rf v)) [] C hw hR hI hl.1 h (by decide) rfl (fun aa vv ss ee => k_J2_appendNull l g A aa σ vv ss ee) (cwG 0 C.t (lw_meth q524) rfl rfl rfl (C.t _ q129) (C.t _ q521) (C.t _ q523) (sel_privS (C.t _ q199) (C.t _ q523) (va_Nw.use rfl (hw.2.2.2.2.2.2.2.2.2.2.2.2.2.2.2.1.2.1 _ (List.mem_of_getElem? (i := 2) rfl))) (by decide +kernel) (C.t _ q489) rfl) (by decide +kernel) ⟨Nat.le_trans (Nat.le_of_ble_eq_true rfl) hR.f, Nat.le_trans (Nat.le_of_ble_eq_true rfl) hR.lo⟩) rfl rfl (Nat.le_of_ble_eq_true rfl) dJ2_append_2_5 (fun v_13 σ_14 H locs h hI => ?_)
    exact cw_aret (x := v_13) C (Or.inl ⟨_, rfl⟩) hI h dJ2_append_2_8

theorem k_J2_getValue (l : Launch) (g : cG) (A : Nat → Prop) (o : Nat) (σ : cS) (v : Option Nat) (σ1 : cS) (h : m_J2_getValue o σ = some (v, σ1)) : Met l yJ2_getValue (ws_ yJ2_getValue cJ2_getValue 1 (Option.some (Jvm.ClassFile.FieldType.array Jvm.ClassFile.FieldType.byte))) ({ frames := 1, cells := σ.2 3 - σ.2 0, slots := σ.2 4 - σ.2 1, locals := 40 }) (CPc g A [.ref o] σ) (CQ g A (some (va_rf v)) σ1) (σ.2 3 - σ.2 0) (σ.2 4 - σ.2 1) A := by
  refine Met.ofW (cc := cJ2_getValue) (maxL := 1) (ret := (Option.some (Jvm.ClassFile.FieldType.array Jvm.ClassFile.FieldType.byte))) (by decide) rfl ?_
  intro p e s m args below meth c s₁ B hml hv
  obtain ⟨rfl, hw, hσ⟩ := hv
  have hts := atoms_spec (ws := (ws_ yJ2_getValue cJ2_getValue 1 (Option.some (Jvm.ClassFile.FieldType.array Jvm.ClassFile.FieldType.byte)))) B.pre
  have C : CX p m meth c s ([.ref o] : List Value).toArray cJ2_getValue 1 (Option.some (Jvm.ClassFile.FieldType.array Jvm.ClassFile.FieldType.byte)) RJ2 := ⟨⟨B.exec, B.bytes, hml, findClass_of_methodNamed B.named, fun w h => hts w (List.mem_cons_of_mem _ h)⟩, B.returns, B.notSynchronized⟩
  have e3 : σ.2 3 - σ.2 0 = g.2.2.1 3 - s.heap.size := by rw [hσ.1, hσ.2.2.2.1 3 (by decide)]
  have e4 : σ.2 4 - σ.2 1 = g.2.2.1 4 - hsl s.heap := by rw [hσ.2.1, hσ.2.2.2.1 4 (by decide)]
  have hR : RM g s (headSpec (ws_ yJ2_getValue cJ2_getValue 1 (Option.some (Jvm.ClassFile.FieldType.array Jvm.ClassFile.FieldType.byte))) ({ frames := 1, cells := σ.2 3 - σ.2 0, slots := σ.2 4 - σ.2 1, locals := 40 })).room (1) (40) := ⟨⟨Nat.le_refl _, Nat.le_refl _⟩, Nat.le_of_eq e3.symm, Nat.le_of_eq e4.symm⟩
  generalize (headSpec (ws_ yJ2_getValue cJ2_getValue 1 (Option.some (Jvm.ClassFile.FieldType.array Jvm.ClassFile.FieldType.byte))) ({ frames := 1, cells := σ.2 3 - σ.2 0, slots := σ.2 4 - σ.2 1, locals := 40 })).room = R at hR ⊢
  rw [e3, e4]
  have hI : CI g A s σ s.heap [] := ⟨hσ, va_S.rf, Nat.le_refl _⟩
  have hl := lv_entry ([.ref o]) (n := 1) (Nat.le_of_ble_eq_true rfl)
  rw [lg_entry_eq]
  generalize (lg_sl ([.ref o]) ++ List.replicate (1 - (lg_sl ([.ref o])).length) Slot.unset).toArray = ls at hl ⊢
  have hl : lv_has ls 1 [(0, .ref o)] := hl
  obtain ⟨z, hz⟩ : ∃ z, z = (v, σ1) := ⟨_, rfl⟩
  rw [← hz] at h
  rw [show v = z.1 by rw [hz], show σ1 = z.2 by rw [hz]]
  clear hz v σ1
  refine W.narrow ?_
  unfold m_J2_getValue at h
  refine r_aload_n (x := some o) C.x C.b dJ2_getValue_0 rfl (lv_at hl 0 rfl) ?_
  refine cw_gR (r := some o) 11 0 C hw hI h (by decide) rfl in_J3 (by decide) (C.t _ q216) (fun _ h9 => h9) dJ2_getValue_1 (fun v_1 h => ?_)
  exact cw_aret (x := v_1) C (Or.inr ⟨_, rfl⟩) hI h dJ2_getValue_4

theorem k_J2_length (l : Launch) (g : cG) (A : Nat → Prop) (o : Nat) (σ : cS) (v : Int32) (σ1 : cS) (h : m_J2_length o σ = some (v, σ1)) : Met l yJ2_length (ws_ yJ2_length cJ2_length 1 (Option.some Jvm.ClassFile.FieldType.int)) ({ frames := 1, cells := σ.2 3 - σ.2 0, slots := σ.2 4 - σ.2 1, locals := 40 }) (CPc g A [.ref o] σ) (CQ g A (some (.int v)) σ1) (σ.2 3 - σ.2 0) (σ.2 4 - σ.2 1) A := by
  refine Met.ofW (cc := cJ2_length) (maxL := 1) (ret := (Option.some Jvm.ClassFile.FieldType.int)) (by decide) rfl ?_
  intro p e s m args below meth c s₁ B hml hv
  obtain ⟨rfl, hw, hσ⟩ := hv
  have hts := atoms_spec (ws := (ws_ yJ2_length cJ2_length 1 (Option.some Jvm.ClassFile.FieldType.int))) B.pre
  have C : CX p m meth c s ([.ref o] : List Value).toArray cJ2_length 1 (Option.some Jvm.ClassFile.FieldType.int) RJ2 := ⟨⟨B.exec, B.bytes, hml, findClass_of_methodNamed B.named, fun w h => hts w (List.mem_cons_of_mem _ h)⟩, B.returns, B.notSynchronized⟩
  have e3 : σ.2 3 - σ.2 0 = g.2.2.1 3 - s.heap.size := by rw [hσ.1, hσ.2.2.2.1 3 (by decide)]
  have e4 : σ.2 4 - σ.2 1 = g.2.2.1 4 - hsl s.heap := by rw [hσ.2.1, hσ.2.2.2.1 4 (by decide)]
  have hR : RM g s (headSpec (ws_ yJ2_length cJ2_length 1 (Option.some Jvm.ClassFile.FieldType.int)) ({ frames := 1, cells := σ.2 3 - σ.2 0, slots := σ.2 4 - σ.2 1, locals := 40 })).room (1) (40) := ⟨⟨Nat.le_refl _, Nat.le_refl _⟩, Nat.le_of_eq e3.symm, Nat.le_of_eq e4.symm⟩
  generalize (headSpec (ws_ yJ2_length cJ2_length 1 (Option.some Jvm.ClassFile.FieldType.int)) ({ frames := 1, cells := σ.2 3 - σ.2 0, slots := σ.2 4 - σ.2 1, locals := 40 })).room = R at hR ⊢
  rw [e3, e4]
  have hI : CI g A s σ s.heap [] := ⟨hσ, va_S.rf, Nat.le_refl _⟩
  have hl := lv_entry ([.ref o]) (n := 1) (Nat.le_of_ble_eq_true rfl)
  rw [lg_entry_eq]
  generalize (lg_sl ([.ref o]) ++ List.replicate (1 - (lg_sl ([.ref o])).length) Slot.unset).toArray = ls at hl ⊢
  have hl : lv_has ls 1 [(0, .ref o)] := hl
  obtain ⟨z, hz⟩ : ∃ z, z = (v, σ1) := ⟨_, rfl⟩
  rw [← hz] at h
  rw [show v = z.1 by rw [hz], show σ1 = z.2 by rw [hz]]
  clear hz v σ1
  refine W.narrow ?_
  unfold m_J2_length at h
  refine r_aload_n (x := some o) C.x C.b dJ2_length_0 rfl (lv_at hl 0 rfl) ?_
  refine cw_gI (r := some o) 11 3 C hw hI h (by decide) rfl in_J3 (by decide) (C.t _ q220) (fun _ h9 => h9) dJ2_length_1 (fun v_1 h => ?_)
  exact cw_iret C hI h dJ2_length_4

theorem k_J4_init_3 (l : Launch) (g : cG) (A : Nat → Prop) (o : Nat) (x1 : Option Nat) (x2 : Int32) (σ : cS) (v : Int32) (σ1 : cS) (h : m_J4_init_3 o x1 x2 σ = some (v, σ1)) : Met l yJ4_init_3 (ws_ yJ4_init_3 cJ4_init_3 3 (Option.none : Option Jvm.ClassFile.FieldType)) ({ frames := 1, cells := σ.2 3 - σ.2 0, slots := σ.2 4 - σ.2 1, locals := 40 }) (CPc g A [.ref o, va_rf x1, .int x2] σ) (CQ g A (none) σ1) (σ.2 3 - σ.2 0) (σ.2 4 - σ.2 1) A := by
  refine Met.ofW (cc := cJ4_init_3) (maxL := 3) (ret := (Option.none : Option Jvm.ClassFile.FieldType)) (by decide) rfl ?_
  intro p e s m args below meth c s₁ B hml hv
  obtain ⟨rfl, hw, hσ⟩ := hv
  have hts := atoms_spec (ws := (ws_ yJ4_init_3 cJ4_init_3 3 (Option.none : Option Jvm.ClassFile.FieldType))) B.pre
  have C : CX p m meth c s ([.ref o, va_rf x1, .int x2] : List Value).toArray cJ4_init_3 3 (Option.none : Option Jvm.ClassFile.FieldType) RJ4 := ⟨⟨B.exec, B.bytes, hml, findClass_of_methodNamed B.named, fun w h => hts w (List.mem_cons_of_mem _ h)⟩, B.returns, B.notSynchronized⟩
  have hin : meth.name = "<init>" := (name_of_methodNamed B.named B.method).1
  have e3 : σ.2 3 - σ.2 0 = g.2.2.1 3 - s.heap.size := by rw [hσ.1, hσ.2.2.2.1 3 (by decide)]
  have e4 : σ.2 4 - σ.2 1 = g.2.2.1 4 - hsl s.heap := by rw [hσ.2.1, hσ.2.2.2.1 4 (by decide)]
  have hR : RM g s (headSpec (ws_ yJ4_init_3 cJ4_init_3 3 (Option.none : Option Jvm.ClassFile.FieldType)) ({ frames := 1, cells := σ.2 3 - σ.2 0, slots := σ.2 4 - σ.2 1, locals := 40 })).room (1) (40) := ⟨⟨Nat.le_refl _, Nat.le_refl _⟩, Nat.le_of_eq e3.symm, Nat.le_of_eq e4.symm⟩
  generalize (headSpec (ws_ yJ4_init_3 cJ4_init_3 3 (Option.none : Option Jvm.ClassFile.FieldType)) ({ frames := 1, cells := σ.2 3 - σ.2 0, slots := σ.2 4 - σ.2 1, locals := 40 })).room = R at hR ⊢
  rw [e3, e4]
  have hI : CI g A s σ s.heap [] := ⟨hσ, va_S.rf, Nat.le_refl _⟩
  have hlen : (lg_sl ([.ref o, va_rf x1, .int x2])).length ≤ 3 := by rcases x1 with _ | x1 <;> exact Nat.le_of_ble_eq_true rfl
  have hl := lv_entry ([.ref o, va_rf x1, .int x2]) (n := 3) hlen
  rw [lg_entry_eq]
  generalize (lg_sl ([.ref o, va_rf x1, .int x2]) ++ List.replicate (3 - (lg_sl ([.ref o, va_rf x1, .int x2])).length) Slot.unset).toArray = ls at hl ⊢
  have hl : lv_has ls 3 [(0, .ref o), (1, va_rf x1), (2, .int x2)] := by clear hI hw h hσ e3 e4 hR C hts B; rcases x1 with _ | x1 <;> exact hl
  obtain ⟨z, hz⟩ : ∃ z, z = (v, σ1) := ⟨_, rfl⟩
  rw [← hz] at h
  rw [show σ1 = z.2 by rw [hz]]
  clear hz v σ1
  refine W.narrow ?_
  unfold m_J4_init_3 at h
  refine r_aload_n (x := some o) C.x C.b dJ4_init_3_0 rfl (lv_at hl 0 rfl) ?_
  refine cw_obj C hR hl.1 q574 q173 q174 dJ4_init_3_1 (by decide) (by decide) (Nat.le_of_ble_eq_true rfl) ?_
  refine r_aload_n (x := some o) C.x C.b dJ4_init_3_4 rfl (lv_at hl 0 rfl) ?_
  refine r_aload_n (x := x1) C.x C.b dJ4_init_3_5 rfl (lv_at hl 1 rfl) ?_
  refine cw_pO (r := some o) (v := (va_rf x1)) (ty := (.array .byte)) 12 0 C hw hI h (by decide) rfl in_J4 tyJ4 tyJ4_ok nmJ4 (by decide) (C.t _ q600) (fun _ h9 => h9) (Or.inr ⟨rfl, rfl, hin⟩) (by decide +kernel) (nar_a _ _) (fits_a _ _) dJ4_init_3_6 (fun σ_1 H locs h hI => ?_)
  refine r_aload_n (x := some o) C.x C.b dJ4_init_3_9 rfl (lv_at hl 0 rfl) ?_
  refine lv_iload_n C.x C.b dJ4_init_3_10 rfl (lv_at hl 2 rfl) ?_
  have hz := gd_s h
  have h := hz.2
  refine cw_pO (r := some o) (v := (.int x2)) (ty := .byte) 12 1 C hw hI h (by decide) rfl in_J4 tyJ4 tyJ4_ok nmJ4 (by decide) (C.t _ q601) (fun _ h9 => h9) (Or.inr ⟨rfl, rfl, hin⟩) (by decide +kernel) (nar_b hz.1) (fit_b hz.1) dJ4_init_3_11 (fun σ_2 H locs h hI => ?_)
  exact cw_vret C hI h dJ4_init_3_14

theorem k_J9_checkLength (l : Launch) (g : cG) (A : Nat → Prop) (x0 : Int32) (x1 : Int32) (σ : cS) (v : Int32) (σ1 : cS) (h : m_J9_checkLength x0 x1 σ = some (v, σ1)) : Met l yJ9_checkLength (ws_ yJ9_checkLength cJ9_checkLength 2 (Option.none : Option Jvm.ClassFile.FieldType)) ({ frames := 1, cells := σ.2 3 - σ.2 0, slots := σ.2 4 - σ.2 1, locals := 40 }) (CPc g A [.int x0, .int x1] σ) (CQ g A (none) σ1) (σ.2 3 - σ.2 0) (σ.2 4 - σ.2 1) A := by
  refine Met.ofW (cc := cJ9_checkLength) (maxL := 2) (ret := (Option.none : Option Jvm.ClassFile.FieldType)) (by decide) rfl ?_
  intro p e s m args below meth c s₁ B hml hv
  obtain ⟨rfl, hw, hσ⟩ := hv
  have hts := atoms_spec (ws := (ws_ yJ9_checkLength cJ9_checkLength 2 (Option.none : Option Jvm.ClassFile.FieldType))) B.pre
  have C : CX p m meth c s ([.int x0, .int x1] : List Value).toArray cJ9_checkLength 2 (Option.none : Option Jvm.ClassFile.FieldType) RJ9 := ⟨⟨B.exec, B.bytes, hml, findClass_of_methodNamed B.named, fun w h => hts w (List.mem_cons_of_mem _ h)⟩, B.returns, B.notSynchronized⟩
  have e3 : σ.2 3 - σ.2 0 = g.2.2.1 3 - s.heap.size := by rw [hσ.1, hσ.2.2.2.1 3 (by decide)]
  have e4 : σ.2 4 - σ.2 1 = g.2.2.1 4 - hsl s.heap := by rw [hσ.2.1, hσ.2.2.2.1 4 (by decide)]
  have hR : RM g s (headSpec (ws_ yJ9_checkLength cJ9_checkLength 2 (Option.none : Option Jvm.ClassFile.FieldType)) ({ frames := 1, cells := σ.2 3 - σ.2 0, slots := σ.2 4 - σ.2 1, locals := 40 })).room (1) (40) := ⟨⟨Nat.le_refl _, Nat.le_refl _⟩, Nat.le_of_eq e3.symm, Nat.le_of_eq e4.symm⟩
  generalize (headSpec (ws_ yJ9_checkLength cJ9_checkLength 2 (Option.none : Option Jvm.ClassFile.FieldType)) ({ frames := 1, cells := σ.2 3 - σ.2 0, slots := σ.2 4 - σ.2 1, locals := 40 })).room = R at hR ⊢
  rw [e3, e4]
  have hI : CI g A s σ s.heap [] := ⟨hσ, va_S.rf, Nat.le_refl _⟩
  have hl := lv_entry ([.int x0, .int x1]) (n := 2) (Nat.le_of_ble_eq_true rfl)
  rw [lg_entry_eq]
  generalize (lg_sl ([.int x0, .int x1]) ++ List.replicate (2 - (lg_sl ([.int x0, .int x1])).length) Slot.unset).toArray = ls at hl ⊢
  have hl : lv_has ls 2 [(0, .int x0), (1, .int x1)] := hl
  obtain ⟨z, hz⟩ : ∃ z, z = (v, σ1) := ⟨_, rfl⟩
  rw [← hz] at h
  rw [show σ1 = z.2 by rw [hz]]
  clear hz v σ1
  refine W.narrow ?_
  unfold m_J9_checkLength at h
  refine lv_iload_n C.x C.b dJ9_checkLength_0 rfl (lv_at hl 1 rfl) ?_
  refine lv_iload_n C.x C.b dJ9_checkLength_1 rfl (lv_at hl 0 rfl) ?_
  refine lv_icmp_ge (tgt := 37) C.x C.b dJ9_checkLength_2 (by decide) (fun c_1 => ?_) (fun c_1 => ?_)
  · have h := ip c_1 h
    exact cw_vret C hI h dJ9_checkLength_37
  · have h := iN c_1 h
    cases h

end
