/-! THE CLASS' WALKS 8: printed by gencl.py -/
section
variable {p : Program} {l : Launch} {e : Env} {R : Room} {s : State} {m : MethodId} {args : Array Value} {below : List Frame} {meth : Method} {c : Code} {g : cG} {A : Nat → Prop}
set_option maxRecDepth 100000
theorem k_J9_copyOfRangeByte (l : Launch) (g : cG) (A : Nat → Prop) (x0 : Option Nat) (x1 : Int32) (x2 : Int32) (σ : cS) (v : Option Nat) (σ1 : cS) (h : m_J9_copyOfRangeByte x0 x1 x2 σ = some (v, σ1)) : Met l yJ9_copyOfRangeByte (ws_ yJ9_copyOfRangeByte cJ9_copyOfRangeByte 5 (Option.some (Jvm.ClassFile.FieldType.array Jvm.ClassFile.FieldType.byte))) ({ frames := 2, cells := σ.2 3 - σ.2 0, slots := σ.2 4 - σ.2 1, locals := 61 }) (CPc g A [va_rf x0, .int x1, .int x2] σ) (CQ g A (some (va_rf v)) σ1) (σ.2 3 - σ.2 0) (σ.2 4 - σ.2 1) A := by
  refine Met.ofW (cc := cJ9_copyOfRangeByte) (maxL := 5) (ret := (Option.some (Jvm.ClassFile.FieldType.array Jvm.ClassFile.FieldType.byte))) (by decide) rfl ?_
  intro p e s m args below meth c s₁ B hml hv
  obtain ⟨rfl, hw, hσ⟩ := hv
  have hts := atoms_spec (ws := (ws_ yJ9_copyOfRangeByte cJ9_copyOfRangeByte 5 (Option.some (Jvm.ClassFile.FieldType.array Jvm.ClassFile.FieldType.byte)))) B.pre
  have C : CX p m meth c s ([va_rf x0, .int x1, .int x2] : List Value).toArray cJ9_copyOfRangeByte 5 (Option.some (Jvm.ClassFile.FieldType.array Jvm.ClassFile.FieldType.byte)) RJ9 := ⟨⟨B.exec, B.bytes, hml, findClass_of_methodNamed B.named, fun w h => hts w (List.mem_cons_of_mem _ h)⟩, B.returns, B.notSynchronized⟩
  have e3 : σ.2 3 - σ.2 0 = g.2.2.1 3 - s.heap.size := by rw [hσ.1, hσ.2.2.2.1 3 (by decide)]
  have e4 : σ.2 4 - σ.2 1 = g.2.2.1 4 - hsl s.heap := by rw [hσ.2.1, hσ.2.2.2.1 4 (by decide)]
  have hR : RM g s (headSpec (ws_ yJ9_copyOfRangeByte cJ9_copyOfRangeByte 5 (Option.some (Jvm.ClassFile.FieldType.array Jvm.ClassFile.FieldType.byte))) ({ frames := 2, cells := σ.2 3 - σ.2 0, slots := σ.2 4 - σ.2 1, locals := 61 })).room (2) (61) := ⟨⟨Nat.le_refl _, Nat.le_refl _⟩, Nat.le_of_eq e3.symm, Nat.le_of_eq e4.symm⟩
  generalize (headSpec (ws_ yJ9_copyOfRangeByte cJ9_copyOfRangeByte 5 (Option.some (Jvm.ClassFile.FieldType.array Jvm.ClassFile.FieldType.byte))) ({ frames := 2, cells := σ.2 3 - σ.2 0, slots := σ.2 4 - σ.2 1, locals := 61 })).room = R at hR ⊢
  rw [e3, e4]
  have hI : CI g A s σ s.heap [] := ⟨hσ, va_S.rf, Nat.le_refl _⟩
  have hlen : (lg_sl ([va_rf x0, .int x1, .int x2])).length ≤ 5 := by rcases x0 with _ | x0 <;> exact Nat.le_of_ble_eq_true rfl
  have hl := lv_entry ([va_rf x0, .int x1, .int x2]) (n := 5) hlen
  rw [lg_entry_eq]
  generalize (lg_sl ([va_rf x0, .int x1, .int x2]) ++ List.replicate (5 - (lg_sl ([va_rf x0, .int x1, .int x2])).length) Slot.unset).toArray = ls at hl ⊢
  have hl : lv_has ls 5 [(0, va_rf x0), (1, .int x1), (2, .int x2)] := by clear hI hw h hσ e3 e4 hR C hts B; rcases x0 with _ | x0 <;> exact hl
  obtain ⟨z, hz⟩ : ∃ z, z = (v, σ1) := ⟨_, rfl⟩
  rw [← hz] at h
  rw [show v = z.1 by rw [hz], show σ1 = z.2 by rw [hz]]
  clear hz v σ1
  refine W.narrow ?_
  unfold m_J9_copyOfRangeByte at h
  refine lv_iload_n C.x C.b dJ9_copyOfRangeByte_0 rfl (lv_at hl 1 rfl) ?_
  refine lv_iload_n C.x C.b dJ9_copyOfRangeByte_1 rfl (lv_at hl 2 rfl) ?_
  refine cw_callS (y := yJ9_checkLength) (bytes := cJ9_checkLength) (maxL := 2) (fun _ => none) [.int x1, .int x2] C hw hR hI hl.1 h (fun vv ss ee => k_J9_checkLength l g A x1 x2 σ vv ss ee) (va_cwS 2 C.t (lw_S q393 q394 q139 q395) rfl rfl rfl (by decide +kernel) ⟨Nat.le_trans (Nat.le_of_ble_eq_true rfl) hR.f, Nat.le_trans (Nat.le_of_ble_eq_true rfl) hR.lo⟩) rfl rfl (Nat.le_of_ble_eq_true rfl) dJ9_copyOfRangeByte_2 (fun _ σ_1 H locs h hI => ?_)
  refine lv_iload_n C.x C.b dJ9_copyOfRangeByte_5 rfl (lv_at hl 2 rfl) ?_
  refine lv_iload_n C.x C.b dJ9_copyOfRangeByte_6 rfl (lv_at hl 1 rfl) ?_
  refine lv_isub C.x C.b dJ9_copyOfRangeByte_7 ?_
  refine tw_lt h (fun x3_2 h => ?_)
  refine lv_istore_n (i := 3) (lv' := [(3, .int x3_2), (0, va_rf x0), (1, .int x1), (2, .int x2)]) C.x C.b dJ9_copyOfRangeByte_8 rfl hl (by decide) (by first | (simp [List.filter, cat_rf, cat_i, cat_a, cat_n, cat_l, cat_f, cat_d]; done) | (simp [List.filter, cat_rf, cat_i, cat_a, cat_n, cat_l, cat_f, cat_d]; rfl)) (fun ls hl => ?_)
  refine lv_iload_n C.x C.b dJ9_copyOfRangeByte_9 rfl (lv_at hl 0 rfl) ?_
  refine cw_nAb C hw hR hI h dJ9_copyOfRangeByte_10 (fun q_3 σ_4 H locs h hI => ?_)
  refine r_astore (i := 4) (x := some q_3) (lv' := [(4, .ref q_3), (3, .int x3_2), (0, va_rf x0), (1, .int x1), (2, .int x2)]) C.x C.b dJ9_copyOfRangeByte_12 hl (by decide) (by first | (simp [List.filter, cat_rf, cat_i, cat_a, cat_n, cat_l, cat_f, cat_d]; done) | (simp [List.filter, cat_rf, cat_i, cat_a, cat_n, cat_l, cat_f, cat_d]; rfl)) (fun ls hl => ?_)
  refine r_aload_n (x := x0) C.x C.b dJ9_copyOfRangeByte_14 rfl (lv_at hl 2 rfl) ?_
  refine lv_iload_n C.x C.b dJ9_copyOfRangeByte_15 rfl (lv_at hl 3 rfl) ?_
  refine r_aload (x := some q_3) C.x C.b dJ9_copyOfRangeByte_16 (lv_at hl 0 rfl) ?_
  refine lv_iconst (v := 0) C.x C.b dJ9_copyOfRangeByte_18 (by decide) ?_
  refine r_aload_n (x := x0) C.x C.b dJ9_copyOfRangeByte_19 rfl (lv_at hl 2 rfl) ?_
  refine cw_aL (r := x0) C hw hI h dJ9_copyOfRangeByte_20 (fun v_5 h => ?_)
  refine lv_iload_n C.x C.b dJ9_copyOfRangeByte_21 rfl (lv_at hl 3 rfl) ?_
  refine lv_isub C.x C.b dJ9_copyOfRangeByte_22 ?_
  refine lv_iload_n C.x C.b dJ9_copyOfRangeByte_23 rfl (lv_at hl 1 rfl) ?_
  refine va_mmin C.x C.b (C.n.trans hl.1.symm) C.o (C.t _ q482) (C.t _ q351) (C.t _ q136) (C.t _ q352) (Nat.le_trans (Nat.le_of_ble_eq_true rfl) hR.f) (Nat.le_trans (Nat.add_le_add_right (room_of (Nat.le_of_ble_eq_true rfl)) 13) (Nat.le_trans (Nat.le_of_ble_eq_true rfl) hR.lo)) (hR.cur hI).1 (hR.cur hI).2 dJ9_copyOfRangeByte_24 ?_
  refine tw_lt h (fun u_6 h => ?_)
  refine cw_cpI (kind := 1) (ty := .byte) (src := x0) (dst := some q_3) (Or.inr ⟨rfl, rfl⟩) C hw hR hI hl.1 h q483 (by decide) (by decide) (Nat.le_of_ble_eq_true rfl) dJ9_copyOfRangeByte_27 (fun σ_7 H locs h hI => ?_)
  refine r_aload (x := some q_3) C.x C.b dJ9_copyOfRangeByte_30 (lv_at hl 0 rfl) ?_
  exact cw_aret (x := some q_3) C (Or.inr ⟨_, rfl⟩) hI h dJ9_copyOfRangeByte_32

theorem w_J9_copyOfRange_10 {z : Option Nat × cS} (C : CX p m meth c s args cJ9_copyOfRange 3 (Option.some (Jvm.ClassFile.FieldType.array Jvm.ClassFile.FieldType.byte)) RJ9) (hw : WKc g A s s.heap) (hR : RM g s R (3) (85))  : ∀ (x0 : Option Nat) (x1 : Int32) (x2 : Int32) (σ : cS) (H : Heap) (locs : List Loc) (ls : Array Slot), b_J9_copyOfRange_10 x0 x1 x2 σ = some z → CI g A s σ H locs → lv_has ls 3 [(0, va_rf x0), (1, .int x1), (2, .int x2)] → W p l e R s m args below meth c H locs (H.size - s.heap.size) (hsl H - hsl s.heap) (MQ below (CQ g A (some (va_rf z.1)) z.2) args s (g.2.2.1 3 - s.heap.size) (g.2.2.1 4 - hsl s.heap) A) (F0 m 10 ls []) := by
  intro x0 x1 x2 σ H locs ls h hI hl
  unfold b_J9_copyOfRange_10 at h
  refine r_aload_n (x := x0) C.x C.b dJ9_copyOfRange_10 rfl (lv_at hl 0 rfl) ?_
  refine lv_iload_n C.x C.b dJ9_copyOfRange_11 rfl (lv_at hl 1 rfl) ?_
  refine lv_iload_n C.x C.b dJ9_copyOfRange_12 rfl (lv_at hl 2 rfl) ?_
  refine cw_callS (y := yJ9_copyOfRangeByte) (bytes := cJ9_copyOfRangeByte) (maxL := 5) (fun v => some (va_rf v)) [va_rf x0, .int x1, .int x2] C hw hR hI hl.1 h (fun vv ss ee => k_J9_copyOfRangeByte l g A x0 x1 x2 σ vv ss ee) (va_cwS 3 C.t (lw_S q390 q391 q139 q392) rfl rfl rfl (by decide +kernel) ⟨Nat.le_trans (Nat.le_of_ble_eq_true rfl) hR.f, Nat.le_trans (Nat.le_of_ble_eq_true rfl) hR.lo⟩) rfl rfl (Nat.le_of_ble_eq_true rfl) dJ9_copyOfRange_13 (fun v_1 σ_2 H locs h hI => ?_)
  exact cw_aret (x := v_1) C (Or.inr ⟨_, rfl⟩) hI h dJ9_copyOfRange_16

theorem k_J9_copyOfRange (l : Launch) (g : cG) (A : Nat → Prop) (x0 : Option Nat) (x1 : Int32) (x2 : Int32) (σ : cS) (v : Option Nat) (σ1 : cS) (h : m_J9_copyOfRange x0 x1 x2 σ = some (v, σ1)) : Met l yJ9_copyOfRange (ws_ yJ9_copyOfRange cJ9_copyOfRange 3 (Option.some (Jvm.ClassFile.FieldType.array Jvm.ClassFile.FieldType.byte))) ({ frames := 3, cells := σ.2 3 - σ.2 0, slots := σ.2 4 - σ.2 1, locals := 85 }) (CPc g A [va_rf x0, .int x1, .int x2] σ) (CQ g A (some (va_rf v)) σ1) (σ.2 3 - σ.2 0) (σ.2 4 - σ.2 1) A := by
  refine Met.ofW (cc := cJ9_copyOfRange) (maxL := 3) (ret := (Option.some (Jvm.ClassFile.FieldType.array Jvm.ClassFile.FieldType.byte))) (by decide) rfl ?_
  intro p e s m args below meth c s₁ B hml hv
  obtain ⟨rfl, hw, hσ⟩ := hv
  have hts := atoms_spec (ws := (ws_ yJ9_copyOfRange cJ9_copyOfRange 3 (Option.some (Jvm.ClassFile.FieldType.array Jvm.ClassFile.FieldType.byte)))) B.pre
  have C : CX p m meth c s ([va_rf x0, .int x1, .int x2] : List Value).toArray cJ9_copyOfRange 3 (Option.some (Jvm.ClassFile.FieldType.array Jvm.ClassFile.FieldType.byte)) RJ9 := ⟨⟨B.exec, B.bytes, hml, findClass_of_methodNamed B.named, fun w h => hts w (List.mem_cons_of_mem _ h)⟩, B.returns, B.notSynchronized⟩
  have e3 : σ.2 3 - σ.2 0 = g.2.2.1 3 - s.heap.size := by rw [hσ.1, hσ.2.2.2.1 3 (by decide)]
  have e4 : σ.2 4 - σ.2 1 = g.2.2.1 4 - hsl s.heap := by rw [hσ.2.1, hσ.2.2.2.1 4 (by decide)]
  have hR : RM g s (headSpec (ws_ yJ9_copyOfRange cJ9_copyOfRange 3 (Option.some (Jvm.ClassFile.FieldType.array Jvm.ClassFile.FieldType.byte))) ({ frames := 3, cells := σ.2 3 - σ.2 0, slots := σ.2 4 - σ.2 1, locals := 85 })).room (3) (85) := ⟨⟨Nat.le_refl _, Nat.le_refl _⟩, Nat.le_of_eq e3.symm, Nat.le_of_eq e4.symm⟩
  generalize (headSpec (ws_ yJ9_copyOfRange cJ9_copyOfRange 3 (Option.some (Jvm.ClassFile.FieldType.array Jvm.ClassFile.FieldType.byte))) ({ frames := 3, cells := σ.2 3 - σ.2 0, slots := σ.2 4 - σ.2 1, locals := 85 })).room = R at hR ⊢
  rw [e3, e4]
  have hI : CI g A s σ s.heap [] := ⟨hσ, va_S.rf, Nat.le_refl _⟩
  have hlen : (lg_sl ([va_rf x0, .int x1, .int x2])).length ≤ 3 := by rcases x0 with _ | x0 <;> exact Nat.le_of_ble_eq_true rfl
  have hl := lv_entry ([va_rf x0, .int x1, .int x2]) (n := 3) hlen
  rw [lg_entry_eq]
  generalize (lg_sl ([va_rf x0, .int x1, .int x2]) ++ List.replicate (3 - (lg_sl ([va_rf x0, .int x1, .int x2])).length) Slot.unset).toArray = ls at hl ⊢
  have hl : lv_has ls 3 [(0, va_rf x0), (1, .int x1), (2, .int x2)] := by clear hI hw h hσ e3 e4 hR C hts B; rcases x0 with _ | x0 <;> exact hl
  obtain ⟨z, hz⟩ : ∃ z, z = (v, σ1) := ⟨_, rfl⟩
  rw [← hz] at h
  rw [show v = z.1 by rw [hz], show σ1 = z.2 by rw [hz]]
  clear hz v σ1
  refine W.narrow ?_
  unfold m_J9_copyOfRange at h
  refine lv_iload_n C.x C.b dJ9_copyOfRange_0 rfl (lv_at hl 1 rfl) ?_
  refine lv_if_ne (tgt := 10) C.x C.b dJ9_copyOfRange_1 (by decide) (fun c_1 => ?_) (fun c_1 => ?_)
  · have h := iN c_1 h
    exact w_J9_copyOfRange_10 C hw hR x0 x1 x2 _ _ _ _ h hI (lv_sub hl [0, 1, 2] rfl)
  · have h := ip c_1 h
    refine lv_iload_n C.x C.b dJ9_copyOfRange_4 rfl (lv_at hl 2 rfl) ?_
    refine r_aload_n (x := x0) C.x C.b dJ9_copyOfRange_5 rfl (lv_at hl 0 rfl) ?_
    refine cw_aL (r := x0) C hw hI h dJ9_copyOfRange_6 (fun v_2 h => ?_)
    refine lv_icmp_eq (tgt := 17) C.x C.b dJ9_copyOfRange_7 (by decide) (fun c_3 => ?_) (fun c_3 => ?_)
    · have h := ip c_3 h
      refine r_aload_n (x := x0) C.x C.b dJ9_copyOfRange_17 rfl (lv_at hl 0 rfl) ?_
      cases h
    · have h := iN c_3 h
      exact w_J9_copyOfRange_10 C hw hR x0 x1 x2 _ _ _ _ h hI (lv_sub hl [0, 1, 2] rfl)

theorem k_J6_newString (l : Launch) (g : cG) (A : Nat → Prop) (x0 : Option Nat) (x1 : Int32) (x2 : Int32) (σ : cS) (v : Option Nat) (σ1 : cS) (h : m_J6_newString x0 x1 x2 σ = some (v, σ1)) : Met l yJ6_newString (ws_ yJ6_newString cJ6_newString 3 (Option.some (Jvm.ClassFile.FieldType.object "java/lang/String"))) ({ frames := 4, cells := σ.2 3 - σ.2 0, slots := σ.2 4 - σ.2 1, locals := 107 }) (CPc g A [va_rf x0, .int x1, .int x2] σ) (CQ g A (some (va_rf v)) σ1) (σ.2 3 - σ.2 0) (σ.2 4 - σ.2 1) A := by
  refine Met.ofW (cc := cJ6_newString) (maxL := 3) (ret := (Option.some (Jvm.ClassFile.FieldType.object "java/lang/String"))) (by decide) rfl ?_
  intro p e s m args below meth c s₁ B hml hv
  obtain ⟨rfl, hw, hσ⟩ := hv
  have hts := atoms_spec (ws := (ws_ yJ6_newString cJ6_newString 3 (Option.some (Jvm.ClassFile.FieldType.object "java/lang/String")))) B.pre
  have C : CX p m meth c s ([va_rf x0, .int x1, .int x2] : List Value).toArray cJ6_newString 3 (Option.some (Jvm.ClassFile.FieldType.object "java/lang/String")) RJ6 := ⟨⟨B.exec, B.bytes, hml, findClass_of_methodNamed B.named, fun w h => hts w (List.mem_cons_of_mem _ h)⟩, B.returns, B.notSynchronized⟩
  have e3 : σ.2 3 - σ.2 0 = g.2.2.1 3 - s.heap.size := by rw [hσ.1, hσ.2.2.2.1 3 (by decide)]
  have e4 : σ.2 4 - σ.2 1 = g.2.2.1 4 - hsl s.heap := by rw [hσ.2.1, hσ.2.2.2.1 4 (by decide)]
  have hR : RM g s (headSpec (ws_ yJ6_newString cJ6_newString 3 (Option.some (Jvm.ClassFile.FieldType.object "java/lang/String"))) ({ frames := 4, cells := σ.2 3 - σ.2 0, slots := σ.2 4 - σ.2 1, locals := 107 })).room (4) (107) := ⟨⟨Nat.le_refl _, Nat.le_refl _⟩, Nat.le_of_eq e3.symm, Nat.le_of_eq e4.symm⟩
  generalize (headSpec (ws_ yJ6_newString cJ6_newString 3 (Option.some (Jvm.ClassFile.FieldType.object "java/lang/String"))) ({ frames := 4, cells := σ.2 3 - σ.2 0, slots := σ.2 4 - σ.2 1, locals := 107 })).room = R at hR ⊢
  rw [e3, e4]
  have hI : CI g A s σ s.heap [] := ⟨hσ, va_S.rf, Nat.le_refl _⟩
  have hlen : (lg_sl ([va_rf x0, .int x1, .int x2])).length ≤ 3 := by rcases x0 with _ | x0 <;> exact Nat.le_of_ble_eq_true rfl
  have hl := lv_entry ([va_rf x0, .int x1, .int x2]) (n := 3) hlen
  rw [lg_entry_eq]
  generalize (lg_sl ([va_rf x0, .int x1, .int x2]) ++ List.replicate (3 - (lg_sl ([va_rf x0, .int x1, .int x2])).length) Slot.unset).toArray = ls at hl ⊢
  have hl : lv_has ls 3 [(0, va_rf x0), (1, .int x1), (2, .int x2)] := by clear hI hw h hσ e3 e4 hR C hts B; rcases x0 with _ | x0 <;> exact hl
  obtain ⟨z, hz⟩ : ∃ z, z = (v, σ1) := ⟨_, rfl⟩
  rw [← hz] at h
  rw [show v = z.1 by rw [hz], show σ1 = z.2 by rw [hz]]
  clear hz v σ1
  refine W.narrow ?_
  unfold m_J6_newString at h
  refine lv_iload_n C.x C.b dJ6_newString_0 rfl (lv_at hl 2 rfl) ?_
  refine lv_if_ne (tgt := 7) C.x C.b dJ6_newString_1 (by decide) (fun c_1 => ?_) (fun c_1 => ?_)
  · have h := iN c_1 h
    refine cw_new (T := TJ4) (N := 4) 12 C hw hI hR.2.1 hR.2.2 h (by decide) rfl in_J4 tyJ4 tyJ4_ok (fun j hj => match j, hj with | 0, _ => rfl | 1, _ => rfl | 2, _ => rfl | 3, _ => rfl | j + 4, hj => absurd hj (Nat.not_lt_of_le (Nat.le_add_left _ _))) q385 q386 q131 dJ6_newString_7 (fun q_2 σ_3 H locs h hI => ?_)
    refine lv_dup C.x C.b dJ6_newString_10 rfl ?_
    refine r_aload_n (x := x0) C.x C.b dJ6_newString_11 rfl (lv_at hl 0 rfl) ?_
    refine lv_iload_n C.x C.b dJ6_newString_12 rfl (lv_at hl 1 rfl) ?_
    refine lv_iload_n C.x C.b dJ6_newString_13 rfl (lv_at hl 1 rfl) ?_
    refine lv_iload_n C.x C.b dJ6_newString_14 rfl (lv_at hl 2 rfl) ?_
    refine lv_iadd C.x C.b dJ6_newString_15 ?_
    refine cw_callS (y := yJ9_copyOfRange) (bytes := cJ9_copyOfRange) (maxL := 3) (fun v => some (va_rf v)) [va_rf x0, .int x1, .int (x1 + x2)] C hw hR hI hl.1 h (fun vv ss ee => k_J9_copyOfRange l g A x0 x1 (x1 + x2) σ_3 vv ss ee) (va_cwS 3 C.t (lw_S q387 q388 q139 q389) rfl rfl rfl (by decide +kernel) ⟨Nat.le_trans (Nat.le_of_ble_eq_true rfl) hR.f, Nat.le_trans (Nat.le_of_ble_eq_true rfl) hR.lo⟩) rfl rfl (Nat.le_of_ble_eq_true rfl) dJ6_newString_16 (fun v_4 σ_5 H locs h hI => ?_)
    refine lv_iconst (v := 0) C.x C.b dJ6_newString_19 (by decide) ?_
    refine cw_callI (y := yJ4_init_3) (bytes := cJ4_init_3) (maxL := 3) (b := q_2) [va_rf v_4, .int 0] C hw hR hI hl.1 h (fun vv ss ee => k_J4_init_3 l g A q_2 v_4 0 σ_5 vv ss ee) (cwI 2 C.t (lw_meth q640) rfl rfl rfl (C.t _ q131) (C.t _ q638) (C.t _ q639) rfl (by decide +kernel) ⟨Nat.le_trans (Nat.le_of_ble_eq_true rfl) hR.f, Nat.le_trans (Nat.le_of_ble_eq_true rfl) hR.lo⟩) rfl rfl (Nat.le_of_ble_eq_true rfl) dJ6_newString_20 (fun σ_6 _ H locs h hI => ?_)
    exact cw_aret (x := some q_2) C (Or.inl ⟨_, rfl⟩) hI h dJ6_newString_23
  · have h := ip c_1 h
    refine cw_ldcS (tx := "") (k := 27) C hw hI (List.mem_of_getElem? (i := 39) rfl) (by decide) dJ6_newString_4 ?_
    exact cw_aret (x := some (σ.2 27)) C (Or.inl ⟨_, rfl⟩) hI h dJ6_newString_6

theorem w_J7_checkFromToIndex_14 {z : Int32 × cS} (C : CX p m meth c s args cJ7_checkFromToIndex 4 (Option.some Jvm.ClassFile.FieldType.int) RJ7) (hw : WKc g A s s.heap) (hR : RM g s R (1) (40))  : ∀ (x0 : Int32) (x1 : Int32) (x2 : Int32) (x3 : Option Nat) (σ : cS) (H : Heap) (locs : List Loc) (ls : Array Slot), b_J7_checkFromToIndex_14 x0 x1 x2 x3 σ = some z → CI g A s σ H locs → lv_has ls 4 [(0, .int x0), (1, .int x1), (2, .int x2), (3, va_rf x3)] → W p l e R s m args below meth c H locs (H.size - s.heap.size) (hsl H - hsl s.heap) (MQ below (CQ g A (some (.int z.1)) z.2) args s (g.2.2.1 3 - s.heap.size) (g.2.2.1 4 - hsl s.heap) A) (F0 m 14 ls []) := by
  intro x0 x1 x2 x3 σ H locs ls h hI hl
  unfold b_J7_checkFromToIndex_14 at h
  refine r_aload_n (x := x3) C.x C.b dJ7_checkFromToIndex_14 rfl (lv_at hl 3 rfl) ?_
  refine lv_iload_n C.x C.b dJ7_checkFromToIndex_15 rfl (lv_at hl 0 rfl) ?_
  refine lv_iload_n C.x C.b dJ7_checkFromToIndex_16 rfl (lv_at hl 1 rfl) ?_
  refine lv_iload_n C.x C.b dJ7_checkFromToIndex_17 rfl (lv_at hl 2 rfl) ?_
  cases h

theorem k_J7_checkFromToIndex (l : Launch) (g : cG) (A : Nat → Prop) (x0 : Int32) (x1 : Int32) (x2 : Int32) (x3 : Option Nat) (σ : cS) (v : Int32) (σ1 : cS) (h : m_J7_checkFromToIndex x0 x1 x2 x3 σ = some (v, σ1)) : Met l yJ7_checkFromToIndex (ws_ yJ7_checkFromToIndex cJ7_checkFromToIndex 4 (Option.some Jvm.ClassFile.FieldType.int)) ({ frames := 1, cells := σ.2 3 - σ.2 0, slots := σ.2 4 - σ.2 1, locals := 40 }) (CPc g A [.int x0, .int x1, .int x2, va_rf x3] σ) (CQ g A (some (.int v)) σ1) (σ.2 3 - σ.2 0) (σ.2 4 - σ.2 1) A := by
  refine Met.ofW (cc := cJ7_checkFromToIndex) (maxL := 4) (ret := (Option.some Jvm.ClassFile.FieldType.int)) (by decide) rfl ?_
  intro p e s m args below meth c s₁ B hml hv
  obtain ⟨rfl, hw, hσ⟩ := hv
  have hts := atoms_spec (ws := (ws_ yJ7_checkFromToIndex cJ7_checkFromToIndex 4 (Option.some Jvm.ClassFile.FieldType.int))) B.pre
  have C : CX p m meth c s ([.int x0, .int x1, .int x2, va_rf x3] : List Value).toArray cJ7_checkFromToIndex 4 (Option.some Jvm.ClassFile.FieldType.int) RJ7 := ⟨⟨B.exec, B.bytes, hml, findClass_of_methodNamed B.named, fun w h => hts w (List.mem_cons_of_mem _ h)⟩, B.returns, B.notSynchronized⟩
  have e3 : σ.2 3 - σ.2 0 = g.2.2.1 3 - s.heap.size := by rw [hσ.1, hσ.2.2.2.1 3 (by decide)]
  have e4 : σ.2 4 - σ.2 1 = g.2.2.1 4 - hsl s.heap := by rw [hσ.2.1, hσ.2.2.2.1 4 (by decide)]
  have hR : RM g s (headSpec (ws_ yJ7_checkFromToIndex cJ7_checkFromToIndex 4 (Option.some Jvm.ClassFile.FieldType.int)) ({ frames := 1, cells := σ.2 3 - σ.2 0, slots := σ.2 4 - σ.2 1, locals := 40 })).room (1) (40) := ⟨⟨Nat.le_refl _, Nat.le_refl _⟩, Nat.le_of_eq e3.symm, Nat.le_of_eq e4.symm⟩
  generalize (headSpec (ws_ yJ7_checkFromToIndex cJ7_checkFromToIndex 4 (Option.some Jvm.ClassFile.FieldType.int)) ({ frames := 1, cells := σ.2 3 - σ.2 0, slots := σ.2 4 - σ.2 1, locals := 40 })).room = R at hR ⊢
  rw [e3, e4]
  have hI : CI g A s σ s.heap [] := ⟨hσ, va_S.rf, Nat.le_refl _⟩
  have hlen : (lg_sl ([.int x0, .int x1, .int x2, va_rf x3])).length ≤ 4 := by rcases x3 with _ | x3 <;> exact Nat.le_of_ble_eq_true rfl
  have hl := lv_entry ([.int x0, .int x1, .int x2, va_rf x3]) (n := 4) hlen
  rw [lg_entry_eq]
  generalize (lg_sl ([.int x0, .int x1, .int x2, va_rf x3]) ++ List.replicate (4 - (lg_sl ([.int x0, .int x1, .int x2, va_rf x3])).length) Slot.unset).toArray = ls at hl ⊢
  have hl : lv_has ls 4 [(0, .int x0), (1, .int x1), (2, .int x2), (3, va_rf x3)] := by clear hI hw h hσ e3 e4 hR C hts B; rcases x3 with _ | x3 <;> exact hl
  obtain ⟨z, hz⟩ : ∃ z, z = (v, σ1) := ⟨_, rfl⟩
  rw [← hz] at h
  rw [show v = z.1 by rw [hz], show σ1 = z.2 by rw [hz]]
  clear hz v σ1
  refine W.narrow ?_
  unfold m_J7_checkFromToIndex at h
  refine lv_iload_n C.x C.b dJ7_checkFromToIndex_0 rfl (lv_at hl 0 rfl) ?_
  refine lv_if_lt (tgt := 14) C.x C.b dJ7_checkFromToIndex_1 (by decide) (fun c_1 => ?_) (fun c_1 => ?_)
  · have h := ip c_1 h
    exact w_J7_checkFromToIndex_14 C hw hR x0 x1 x2 x3 _ _ _ _ h hI (lv_sub hl [0, 1, 2, 3] rfl)
  · have h := iN c_1 h
    refine lv_iload_n C.x C.b dJ7_checkFromToIndex_4 rfl (lv_at hl 0 rfl) ?_
    refine lv_iload_n C.x C.b dJ7_checkFromToIndex_5 rfl (lv_at hl 1 rfl) ?_
    refine lv_icmp_gt (tgt := 14) C.x C.b dJ7_checkFromToIndex_6 (by decide) (fun c_2 => ?_) (fun c_2 => ?_)
    · have h := ip c_2 h
      exact w_J7_checkFromToIndex_14 C hw hR x0 x1 x2 x3 _ _ _ _ h hI (lv_sub hl [0, 1, 2, 3] rfl)
    · have h := iN c_2 h
      refine lv_iload_n C.x C.b dJ7_checkFromToIndex_9 rfl (lv_at hl 1 rfl) ?_
      refine lv_iload_n C.x C.b dJ7_checkFromToIndex_10 rfl (lv_at hl 2 rfl) ?_
      refine lv_icmp_le (tgt := 22) C.x C.b dJ7_checkFromToIndex_11 (by decide) (fun c_3 => ?_) (fun c_3 => ?_)
      · have h := ip c_3 h
        refine lv_iload_n C.x C.b dJ7_checkFromToIndex_22 rfl (lv_at hl 0 rfl) ?_
        exact cw_iret C hI h dJ7_checkFromToIndex_23
      · have h := iN c_3 h
        exact w_J7_checkFromToIndex_14 C hw hR x0 x1 x2 x3 _ _ _ _ h hI (lv_sub hl [0, 1, 2, 3] rfl)

theorem k_J2_substring (l : Launch) (g : cG) (A : Nat → Prop) (o : Nat) (x1 : Int32) (x2 : Int32) (σ : cS) (v : Option Nat) (σ1 : cS) (h : m_J2_substring o x1 x2 σ = some (v, σ1)) : Met l yJ2_substring (ws_ yJ2_substring cJ2_substring 3 (Option.some (Jvm.ClassFile.FieldType.object "java/lang/String"))) ({ frames := 5, cells := σ.2 3 - σ.2 0, slots := σ.2 4 - σ.2 1, locals := 129 }) (CPc g A [.ref o, .int x1, .int x2] σ) (CQ g A (some (va_rf v)) σ1) (σ.2 3 - σ.2 0) (σ.2 4 - σ.2 1) A := by
  refine Met.ofW (cc := cJ2_substring) (maxL := 3) (ret := (Option.some (Jvm.ClassFile.FieldType.object "java/lang/String"))) (by decide) rfl ?_
  intro p e s m args below meth c s₁ B hml hv
  obtain ⟨rfl, hw, hσ⟩ := hv
  have hts := atoms_spec (ws := (ws_ yJ2_substring cJ2_substring 3 (Option.some (Jvm.ClassFile.FieldType.object "java/lang/String")))) B.pre
  have C : CX p m meth c s ([.ref o, .int x1, .int x2] : List Value).toArray cJ2_substring 3 (Option.some (Jvm.ClassFile.FieldType.object "java/lang/String")) RJ2 := ⟨⟨B.exec, B.bytes, hml, findClass_of_methodNamed B.named, fun w h => hts w (List.mem_cons_of_mem _ h)⟩, B.returns, B.notSynchronized⟩
  have e3 : σ.2 3 - σ.2 0 = g.2.2.1 3 - s.heap.size := by rw [hσ.1, hσ.2.2.2.1 3 (by decide)]
  have e4 : σ.2 4 - σ.2 1 = g.2.2.1 4 - hsl s.heap := by rw [hσ.2.1, hσ.2.2.2.1 4 (by decide)]
  have hR : RM g s (headSpec (ws_ yJ2_substring cJ2_substring 3 (Option.some (Jvm.ClassFile.FieldType.object "java/lang/String"))) ({ frames := 5, cells := σ.2 3 - σ.2 0, slots := σ.2 4 - σ.2 1, locals := 129 })).room (5) (129) := ⟨⟨Nat.le_refl _, Nat.le_refl _⟩, Nat.le_of_eq e3.symm, Nat.le_of_eq e4.symm⟩
  generalize (headSpec (ws_ yJ2_substring cJ2_substring 3 (Option.some (Jvm.ClassFile.FieldType.object "java/lang/String"))) ({ frames := 5, cells := σ.2 3 - σ.2 0, slots := σ.2 4 - σ.2 1, locals := 129 })).room = R at hR ⊢
  rw [e3, e4]
  have hI : CI g A s σ s.heap [] := ⟨hσ, va_S.rf, Nat.le_refl _⟩
  have hl := lv_entry ([.ref o, .int x1, .int x2]) (n := 3) (Nat.le_of_ble_eq_true rfl)
  rw [lg_entry_eq]
  generalize (lg_sl ([.ref o, .int x1, .int x2]) ++ List.replicate (3 - (lg_sl ([.ref o, .int x1, .int x2])).length) Slot.unset).toArray = ls at hl ⊢
  have hl : lv_has ls 3 [(0, .ref o), (1, .int x1), (2, .int x2)] := hl
  obtain ⟨z, hz⟩ : ∃ z, z = (v, σ1) := ⟨_, rfl⟩
  rw [← hz] at h
  rw [show v = z.1 by rw [hz], show σ1 = z.2 by rw [hz]]
  clear hz v σ1
  refine W.narrow ?_
  unfold m_J2_substring at h
  refine lv_iload_n C.x C.b dJ2_substring_0 rfl (lv_at hl 1 rfl) ?_
  refine lv_iload_n C.x C.b dJ2_substring_1 rfl (lv_at hl 2 rfl) ?_
  refine r_aload_n (x := some o) C.x C.b dJ2_substring_2 rfl (lv_at hl 0 rfl) ?_
  refine cw_gI (r := some o) 11 3 C hw hI h (by decide) rfl in_J3 (by decide) (C.t _ q220) (fun _ h9 => h9) dJ2_substring_3 (fun v_1 h => ?_)
  refine cw_gstF (ref := "") C hw hI q666 dJ2_substring_6 ?_
  refine cw_callS (y := yJ7_checkFromToIndex) (bytes := cJ7_checkFromToIndex) (maxL := 4) (fun v => some (.int v)) [.int x1, .int x2, .int v_1, va_rf (opk (σ.2 9))] C hw hR hI hl.1 h (fun vv ss ee => k_J7_checkFromToIndex l g A x1 x2 v_1 (opk (σ.2 9)) σ vv ss ee) (va_cwS 4 C.t (lw_S q667 q379 q135 q380) rfl rfl rfl (by decide +kernel) ⟨Nat.le_trans (Nat.le_of_ble_eq_true rfl) hR.f, Nat.le_trans (Nat.le_of_ble_eq_true rfl) hR.lo⟩) rfl rfl (Nat.le_of_ble_eq_true rfl) dJ2_substring_9 (fun v_2 σ_3 H locs h hI => ?_)
  refine lv_pop C.x C.b dJ2_substring_12 rfl ?_
  refine r_aload_n (x := some o) C.x C.b dJ2_substring_13 rfl (lv_at hl 0 rfl) ?_
  refine cw_callV (y := yJ2_isLatin1) (bytes := cJ2_isLatin1) (maxL := 1) (r := some o) (f := fun a_6 => m_J2_isLatin1 a_6 σ_3) 11 (fun v => some (.int v)) [] C hw hR hI hl.1 h (by decide) rfl (fun aa vv ss ee => k_J2_isLatin1 l g A aa σ_3 vv ss ee) (cwG 0 C.t (lw_meth q490) rfl rfl rfl (C.t _ q129) (C.t _ q486) (C.t _ q487) (C.t _ q489) (by decide +kernel) ⟨Nat.le_trans (Nat.le_of_ble_eq_true rfl) hR.f, Nat.le_trans (Nat.le_of_ble_eq_true rfl) hR.lo⟩) rfl rfl (Nat.le_of_ble_eq_true rfl) dJ2_substring_14 (fun v_4 σ_5 H locs h hI => ?_)
  refine lv_if_eq (tgt := 32) C.x C.b dJ2_substring_17 (by decide) (fun c_7 => ?_) (fun c_7 => ?_)
  · have h := ip c_7 h
    refine r_aload_n (x := some o) C.x C.b dJ2_substring_32 rfl (lv_at hl 0 rfl) ?_
    refine cw_gR (r := some o) 11 0 C hw hI h (by decide) rfl in_J3 (by decide) (C.t _ q216) (fun _ h9 => h9) dJ2_substring_33 (fun v_8 h => ?_)
    refine lv_iload_n C.x C.b dJ2_substring_36 rfl (lv_at hl 1 rfl) ?_
    refine lv_iload_n C.x C.b dJ2_substring_37 rfl (lv_at hl 2 rfl) ?_
    refine lv_iload_n C.x C.b dJ2_substring_38 rfl (lv_at hl 1 rfl) ?_
    refine lv_isub C.x C.b dJ2_substring_39 ?_
    cases h
  · have h := iN c_7 h
    refine r_aload_n (x := some o) C.x C.b dJ2_substring_20 rfl (lv_at hl 0 rfl) ?_
    refine cw_gR (r := some o) 11 0 C hw hI h (by decide) rfl in_J3 (by decide) (C.t _ q216) (fun _ h9 => h9) dJ2_substring_21 (fun v_9 h => ?_)
    refine lv_iload_n C.x C.b dJ2_substring_24 rfl (lv_at hl 1 rfl) ?_
    refine lv_iload_n C.x C.b dJ2_substring_25 rfl (lv_at hl 2 rfl) ?_
    refine lv_iload_n C.x C.b dJ2_substring_26 rfl (lv_at hl 1 rfl) ?_
    refine lv_isub C.x C.b dJ2_substring_27 ?_
    refine cw_callS (y := yJ6_newString) (bytes := cJ6_newString) (maxL := 3) (fun v => some (va_rf v)) [va_rf v_9, .int x1, .int (x2 - x1)] C hw hR hI hl.1 h (fun vv ss ee => k_J6_newString l g A v_9 x1 (x2 - x1) σ_5 vv ss ee) (va_cwS 3 C.t (lw_S q668 q382 q134 q383) rfl rfl rfl (by decide +kernel) ⟨Nat.le_trans (Nat.le_of_ble_eq_true rfl) hR.f, Nat.le_trans (Nat.le_of_ble_eq_true rfl) hR.lo⟩) rfl rfl (Nat.le_of_ble_eq_true rfl) dJ2_substring_28 (fun v_10 σ_11 H locs h hI => ?_)
    exact cw_aret (x := v_10) C (Or.inl ⟨_, rfl⟩) hI h dJ2_substring_31

theorem k_J3_substring (l : Launch) (g : cG) (A : Nat → Prop) (o : Nat) (x1 : Int32) (x2 : Int32) (σ : cS) (v : Option Nat) (σ1 : cS) (h : m_J3_substring o x1 x2 σ = some (v, σ1)) : Met l yJ3_substring (ws_ yJ3_substring cJ3_substring 3 (Option.some (Jvm.ClassFile.FieldType.object "java/lang/String"))) ({ frames := 6, cells := σ.2 3 - σ.2 0, slots := σ.2 4 - σ.2 1, locals := 151 }) (CPc g A [.ref o, .int x1, .int x2] σ) (CQ g A (some (va_rf v)) σ1) (σ.2 3 - σ.2 0) (σ.2 4 - σ.2 1) A := by
  refine Met.ofW (cc := cJ3_substring) (maxL := 3) (ret := (Option.some (Jvm.ClassFile.FieldType.object "java/lang/String"))) (by decide) rfl ?_
  intro p e s m args below meth c s₁ B hml hv
  obtain ⟨rfl, hw, hσ⟩ := hv
  have hts := atoms_spec (ws := (ws_ yJ3_substring cJ3_substring 3 (Option.some (Jvm.ClassFile.FieldType.object "java/lang/String")))) B.pre
  have C : CX p m meth c s ([.ref o, .int x1, .int x2] : List Value).toArray cJ3_substring 3 (Option.some (Jvm.ClassFile.FieldType.object "java/lang/String")) RJ3 := ⟨⟨B.exec, B.bytes, hml, findClass_of_methodNamed B.named, fun w h => hts w (List.mem_cons_of_mem _ h)⟩, B.returns, B.notSynchronized⟩
  have e3 : σ.2 3 - σ.2 0 = g.2.2.1 3 - s.heap.size := by rw [hσ.1, hσ.2.2.2.1 3 (by decide)]
  have e4 : σ.2 4 - σ.2 1 = g.2.2.1 4 - hsl s.heap := by rw [hσ.2.1, hσ.2.2.2.1 4 (by decide)]
  have hR : RM g s (headSpec (ws_ yJ3_substring cJ3_substring 3 (Option.some (Jvm.ClassFile.FieldType.object "java/lang/String"))) ({ frames := 6, cells := σ.2 3 - σ.2 0, slots := σ.2 4 - σ.2 1, locals := 151 })).room (6) (151) := ⟨⟨Nat.le_refl _, Nat.le_refl _⟩, Nat.le_of_eq e3.symm, Nat.le_of_eq e4.symm⟩
  generalize (headSpec (ws_ yJ3_substring cJ3_substring 3 (Option.some (Jvm.ClassFile.FieldType.object "java/lang/String"))) ({ frames := 6, cells := σ.2 3 - σ.2 0, slots := σ.2 4 - σ.2 1, locals := 151 })).room = R at hR ⊢
  rw [e3, e4]
  have hI : CI g A s σ s.heap [] := ⟨hσ, va_S.rf, Nat.le_refl _⟩
  have hl := lv_entry ([.ref o, .int x1, .int x2]) (n := 3) (Nat.le_of_ble_eq_true rfl)
  rw [lg_entry_eq]
  generalize (lg_sl ([.ref o, .int x1, .int x2]) ++ List.replicate (3 - (lg_sl ([.ref o, .int x1, .int x2])).length) Slot.unset).toArray = ls at hl ⊢
  have hl : lv_has ls 3 [(0, .ref o), (1, .int x1), (2, .int x2)] := hl
  obtain ⟨z, hz⟩ : ∃ z, z = (v, σ1) := ⟨_, rfl⟩
  rw [← hz] at h
  rw [show v = z.1 by rw [hz], show σ1 = z.2 by rw [hz]]
  clear hz v σ1
  refine W.narrow ?_
  unfold m_J3_substring at h
  refine r_aload_n (x := some o) C.x C.b dJ3_substring_0 rfl (lv_at hl 0 rfl) ?_
  refine lv_iload_n C.x C.b dJ3_substring_1 rfl (lv_at hl 1 rfl) ?_
  refine lv_iload_n C.x C.b dJ3_substring_2 rfl (lv_at hl 2 rfl) ?_
  refine cw_callSU (y := yJ2_substring) (bytes := cJ2_substring) (maxL := 3) (r := some o) (f := fun a_3 => m_J2_substring a_3 x1 x2 σ) 11 (fun v => some (va_rf v)) [.int x1, .int x2] C hw hR hI hl.1 h (by decide) rfl (fun aa vv ss ee => k_J2_substring l g A aa x1 x2 σ vv ss ee) (va_cwSU 2 C.t (lw_app (mem5 q664 q660 q229 q659 q129) (lw_meth q665)) rfl rfl rfl (by decide +kernel) ⟨Nat.le_trans (Nat.le_of_ble_eq_true rfl) hR.f, Nat.le_trans (Nat.le_of_ble_eq_true rfl) hR.lo⟩) rfl rfl (Nat.le_of_ble_eq_true rfl) dJ3_substring_3 (fun v_1 σ_2 H locs h hI => ?_)
  exact cw_aret (x := v_1) C (Or.inl ⟨_, rfl⟩) hI h dJ3_substring_6

theorem k_J2_subSequence (l : Launch) (g : cG) (A : Nat → Prop) (o : Nat) (x1 : Int32) (x2 : Int32) (σ : cS) (v : Option Nat) (σ1 : cS) (h : m_J2_subSequence o x1 x2 σ = some (v, σ1)) : Met l yJ2_subSequence (ws_ yJ2_subSequence cJ2_subSequence 3 (Option.some (Jvm.ClassFile.FieldType.object "java/lang/CharSequence"))) ({ frames := 7, cells := σ.2 3 - σ.2 0, slots := σ.2 4 - σ.2 1, locals := 173 }) (CPc g A [.ref o, .int x1, .int x2] σ) (CQ g A (some (va_rf v)) σ1) (σ.2 3 - σ.2 0) (σ.2 4 - σ.2 1) A := by
  refine Met.ofW (cc := cJ2_subSequence) (maxL := 3) (ret := (Option.some (Jvm.ClassFile.FieldType.object "java/lang/CharSequence"))) (by decide) rfl ?_
  intro p e s m args below meth c s₁ B hml hv
  obtain ⟨rfl, hw, hσ⟩ := hv
  have hts := atoms_spec (ws := (ws_ yJ2_subSequence cJ2_subSequence 3 (Option.some (Jvm.ClassFile.FieldType.object "java/lang/CharSequence")))) B.pre
  have C : CX p m meth c s ([.ref o, .int x1, .int x2] : List Value).toArray cJ2_subSequence 3 (Option.some (Jvm.ClassFile.FieldType.object "java/lang/CharSequence")) RJ2 := ⟨⟨B.exec, B.bytes, hml, findClass_of_methodNamed B.named, fun w h => hts w (List.mem_cons_of_mem _ h)⟩, B.returns, B.notSynchronized⟩
  have e3 : σ.2 3 - σ.2 0 = g.2.2.1 3 - s.heap.size := by rw [hσ.1, hσ.2.2.2.1 3 (by decide)]
  have e4 : σ.2 4 - σ.2 1 = g.2.2.1 4 - hsl s.heap := by rw [hσ.2.1, hσ.2.2.2.1 4 (by decide)]
  have hR : RM g s (headSpec (ws_ yJ2_subSequence cJ2_subSequence 3 (Option.some (Jvm.ClassFile.FieldType.object "java/lang/CharSequence"))) ({ frames := 7, cells := σ.2 3 - σ.2 0, slots := σ.2 4 - σ.2 1, locals := 173 })).room (7) (173) := ⟨⟨Nat.le_refl _, Nat.le_refl _⟩, Nat.le_of_eq e3.symm, Nat.le_of_eq e4.symm⟩
  generalize (headSpec (ws_ yJ2_subSequence cJ2_subSequence 3 (Option.some (Jvm.ClassFile.FieldType.object "java/lang/CharSequence"))) ({ frames := 7, cells := σ.2 3 - σ.2 0, slots := σ.2 4 - σ.2 1, locals := 173 })).room = R at hR ⊢
  rw [e3, e4]
  have hI : CI g A s σ s.heap [] := ⟨hσ, va_S.rf, Nat.le_refl _⟩
  have hl := lv_entry ([.ref o, .int x1, .int x2]) (n := 3) (Nat.le_of_ble_eq_true rfl)
  rw [lg_entry_eq]
  generalize (lg_sl ([.ref o, .int x1, .int x2]) ++ List.replicate (3 - (lg_sl ([.ref o, .int x1, .int x2])).length) Slot.unset).toArray = ls at hl ⊢
  have hl : lv_has ls 3 [(0, .ref o), (1, .int x1), (2, .int x2)] := hl
  obtain ⟨z, hz⟩ : ∃ z, z = (v, σ1) := ⟨_, rfl⟩
  rw [← hz] at h
  rw [show v = z.1 by rw [hz], show σ1 = z.2 by rw [hz]]
  clear hz v σ1
  refine W.narrow ?_
  unfold m_J2_subSequence at h
  refine r_aload_n (x := some o) C.x C.b dJ2_subSequence_0 rfl (lv_at hl 0 rfl) ?_
  refine lv_iload_n C.x C.b dJ2_subSequence_1 rfl (lv_at hl 1 rfl) ?_
  refine lv_iload_n C.x C.b dJ2_subSequence_2 rfl (lv_at hl 2 rfl) ?_
  refine cw_callU (x := yJ2_substring) (owner := "java/lang/AbstractStringBuilder") (y := yJ3_substring) (bytes := cJ3_substring) (maxL := 3) (r := some o) (f := fun a_3 => m_J3_substring a_3 x1 x2 σ) 11 (fun v => some (va_rf v)) [.int x1, .int x2] C hw hR hI hl.1 h (by decide) rfl (fun aa vv ss ee => k_J3_substring l g A aa x1 x2 σ vv ss ee) (va_cwO 2 C.t (lw_app (mem6 q658 q660 q659 q661 q662 q130) (lw_meth q663)) rfl rfl rfl q665 (by decide +kernel) ⟨Nat.le_trans (Nat.le_of_ble_eq_true rfl) hR.f, Nat.le_trans (Nat.le_of_ble_eq_true rfl) hR.lo⟩) rfl rfl (Nat.le_of_ble_eq_true rfl) dJ2_subSequence_3 (fun v_1 σ_2 H locs h hI => ?_)
  exact cw_aret (x := v_1) C (Or.inl ⟨_, rfl⟩) hI h dJ2_subSequence_6

theorem k_J6_canEncode_2 (l : Launch) (g : cG) (A : Nat → Prop) (x0 : Int32) (σ : cS) (v : Int32) (σ1 : cS) (h : m_J6_canEncode_2 x0 σ = some (v, σ1)) : Met l yJ6_canEncode_2 (ws_ yJ6_canEncode_2 cJ6_canEncode_2 1 (Option.some Jvm.ClassFile.FieldType.boolean)) ({ frames := 1, cells := σ.2 3 - σ.2 0, slots := σ.2 4 - σ.2 1, locals := 40 }) (CPc g A [.int x0] σ) (CQ g A (some (.int v)) σ1) (σ.2 3 - σ.2 0) (σ.2 4 - σ.2 1) A := by
  refine Met.ofW (cc := cJ6_canEncode_2) (maxL := 1) (ret := (Option.some Jvm.ClassFile.FieldType.boolean)) (by decide) rfl ?_
  intro p e s m args below meth c s₁ B hml hv
  obtain ⟨rfl, hw, hσ⟩ := hv
  have hts := atoms_spec (ws := (ws_ yJ6_canEncode_2 cJ6_canEncode_2 1 (Option.some Jvm.ClassFile.FieldType.boolean))) B.pre
  have C : CX p m meth c s ([.int x0] : List Value).toArray cJ6_canEncode_2 1 (Option.some Jvm.ClassFile.FieldType.boolean) RJ6 := ⟨⟨B.exec, B.bytes, hml, findClass_of_methodNamed B.named, fun w h => hts w (List.mem_cons_of_mem _ h)⟩, B.returns, B.notSynchronized⟩
  have e3 : σ.2 3 - σ.2 0 = g.2.2.1 3 - s.heap.size := by rw [hσ.1, hσ.2.2.2.1 3 (by decide)]
  have e4 : σ.2 4 - σ.2 1 = g.2.2.1 4 - hsl s.heap := by rw [hσ.2.1, hσ.2.2.2.1 4 (by decide)]
  have hR : RM g s (headSpec (ws_ yJ6_canEncode_2 cJ6_canEncode_2 1 (Option.some Jvm.ClassFile.FieldType.boolean)) ({ frames := 1, cells := σ.2 3 - σ.2 0, slots := σ.2 4 - σ.2 1, locals := 40 })).room (1) (40) := ⟨⟨Nat.le_refl _, Nat.le_refl _⟩, Nat.le_of_eq e3.symm, Nat.le_of_eq e4.symm⟩
  generalize (headSpec (ws_ yJ6_canEncode_2 cJ6_canEncode_2 1 (Option.some Jvm.ClassFile.FieldType.boolean)) ({ frames := 1, cells := σ.2 3 - σ.2 0, slots := σ.2 4 - σ.2 1, locals := 40 })).room = R at hR ⊢
  rw [e3, e4]
  have hI : CI g A s σ s.heap [] := ⟨hσ, va_S.rf, Nat.le_refl _⟩
  have hl := lv_entry ([.int x0]) (n := 1) (Nat.le_of_ble_eq_true rfl)
  rw [lg_entry_eq]
  generalize (lg_sl ([.int x0]) ++ List.replicate (1 - (lg_sl ([.int x0])).length) Slot.unset).toArray = ls at hl ⊢
  have hl : lv_has ls 1 [(0, .int x0)] := hl
  obtain ⟨z, hz⟩ : ∃ z, z = (v, σ1) := ⟨_, rfl⟩
  rw [← hz] at h
  rw [show v = z.1 by rw [hz], show σ1 = z.2 by rw [hz]]
  clear hz v σ1
  refine W.narrow ?_
  unfold m_J6_canEncode_2 at h
  refine lv_iload_n C.x C.b dJ6_canEncode_2_0 rfl (lv_at hl 0 rfl) ?_
  refine lv_sipush (v := 255) C.x C.b dJ6_canEncode_2_1 (by decide) ?_
  refine lv_icmp_gt (tgt := 11) C.x C.b dJ6_canEncode_2_4 (by decide) (fun c_1 => ?_) (fun c_1 => ?_)
  · have h := ip c_1 h
    refine lv_iconst (v := 0) C.x C.b dJ6_canEncode_2_11 (by decide) ?_
    exact cw_zret C hI h dJ6_canEncode_2_12
  · have h := iN c_1 h
    refine lv_iconst (v := 1) C.x C.b dJ6_canEncode_2_7 (by decide) ?_
    refine lv_goto (tgt := 12) C.x C.b dJ6_canEncode_2_8 (by decide) ?_
    exact cw_zret C hI h dJ6_canEncode_2_12

theorem w_J2_append_3_56 {z : Option Nat × cS} {o : Nat} (C : CX p m meth c s args cJ2_append_3 2 (Option.some (Jvm.ClassFile.FieldType.object "java/lang/AbstractStringBuilder")) RJ2) (hw : WKc g A s s.heap) (hR : RM g s R (4) (110))  : ∀ (x1 : Int32) (σ : cS) (H : Heap) (locs : List Loc) (ls : Array Slot), b_J2_append_3_56 o x1 σ = some z → CI g A s σ H locs → lv_has ls 2 [(0, .ref o), (1, .int x1)] → W p l e R s m args below meth c H locs (H.size - s.heap.size) (hsl H - hsl s.heap) (MQ below (CQ g A (some (va_rf z.1)) z.2) args s (g.2.2.1 3 - s.heap.size) (g.2.2.1 4 - hsl s.heap) A) (F0 m 56 ls []) := by
  intro x1 σ H locs ls h hI hl
  unfold b_J2_append_3_56 at h
  refine r_aload_n (x := some o) C.x C.b dJ2_append_3_56 rfl (lv_at hl 0 rfl) ?_
  refine cw_gR (r := some o) 11 0 C hw hI h (by decide) rfl in_J3 (by decide) (C.t _ q216) (fun _ h9 => h9) dJ2_append_3_57 (fun v_1 h => ?_)
  refine r_aload_n (x := some o) C.x C.b dJ2_append_3_60 rfl (lv_at hl 0 rfl) ?_
  refine lv_dup C.x C.b dJ2_append_3_61 rfl ?_
  refine cw_gI (r := some o) 11 3 C hw hI h (by decide) rfl in_J3 (by decide) (C.t _ q220) (fun _ h9 => h9) dJ2_append_3_62 (fun v_2 h => ?_)
  refine lv_dup_x1 C.x C.b dJ2_append_3_65 rfl rfl ?_
  refine lv_iconst (v := 1) C.x C.b dJ2_append_3_66 (by decide) ?_
  refine lv_iadd C.x C.b dJ2_append_3_67 ?_
  refine cw_pO (r := some o) (v := (.int (v_2 + 1))) (ty := .int) 11 3 C hw hI h (by decide) rfl in_J3 tyJ3 tyJ3_ok nmJ3 (by decide) (C.t _ q220) (fun _ h9 => h9) (Or.inl rfl) (by decide +kernel) rfl rfl dJ2_append_3_68 (fun σ_3 H locs h hI => ?_)
  refine lv_iload_n C.x C.b dJ2_append_3_71 rfl (lv_at hl 1 rfl) ?_
  cases h

theorem w_J2_append_3_45 {z : Option Nat × cS} {o : Nat} (C : CX p m meth c s args cJ2_append_3 2 (Option.some (Jvm.ClassFile.FieldType.object "java/lang/AbstractStringBuilder")) RJ2) (hw : WKc g A s s.heap) (hR : RM g s R (4) (110))  : ∀ (x1 : Int32) (σ : cS) (H : Heap) (locs : List Loc) (ls : Array Slot), b_J2_append_3_45 o x1 σ = some z → CI g A s σ H locs → lv_has ls 2 [(0, .ref o), (1, .int x1)] → W p l e R s m args below meth c H locs (H.size - s.heap.size) (hsl H - hsl s.heap) (MQ below (CQ g A (some (va_rf z.1)) z.2) args s (g.2.2.1 3 - s.heap.size) (g.2.2.1 4 - hsl s.heap) A) (F0 m 45 ls []) := by
  intro x1 σ H locs ls h hI hl
  unfold b_J2_append_3_45 at h
  refine r_aload_n (x := some o) C.x C.b dJ2_append_3_45 rfl (lv_at hl 0 rfl) ?_
  refine cw_callV (y := yJ2_isLatin1) (bytes := cJ2_isLatin1) (maxL := 1) (r := some o) (f := fun a_3 => m_J2_isLatin1 a_3 σ) 11 (fun v => some (.int v)) [] C hw hR hI hl.1 h (by decide) rfl (fun aa vv ss ee => k_J2_isLatin1 l g A aa σ vv ss ee) (cwG 0 C.t (lw_meth q490) rfl rfl rfl (C.t _ q129) (C.t _ q486) (C.t _ q487) (C.t _ q489) (by decide +kernel) ⟨Nat.le_trans (Nat.le_of_ble_eq_true rfl) hR.f, Nat.le_trans (Nat.le_of_ble_eq_true rfl) hR.lo⟩) rfl rfl (Nat.le_of_ble_eq_true rfl) dJ2_append_3_46 (fun v_1 σ_2 H locs h hI => ?_)
  refine lv_if_eq (tgt := 56) C.x C.b dJ2_append_3_49 (by decide) (fun c_4 => ?_) (fun c_4 => ?_)
  · have h := ip c_4 h
    exact w_J2_append_3_56 C hw hR x1 _ _ _ _ h hI (lv_sub hl [0, 1] rfl)
  · have h := iN c_4 h
    refine r_aload_n (x := some o) C.x C.b dJ2_append_3_52 rfl (lv_at hl 0 rfl) ?_
    refine cw_callV (y := yJ2_inflate) (bytes := cJ2_inflate) (maxL := 2) (r := some o) (f := fun a_6 => m_J2_inflate a_6 σ_2) 11 (fun _ => none) [] C hw hR hI hl.1 h (by decide) rfl (fun aa vv ss ee => k_J2_inflate l g A aa σ_2 vv ss ee) (cwG 0 C.t (lw_meth q541) rfl rfl rfl (C.t _ q129) (C.t _ q538) (C.t _ q540) (sel_privS (C.t _ q199) (C.t _ q540) (va_Nw.use rfl (hw.2.2.2.2.2.2.2.2.2.2.2.2.2.2.2.1.2.1 _ (List.mem_of_getElem? (i := 5) rfl))) (by decide +kernel) (C.t _ q489) rfl) (by decide +kernel) ⟨Nat.le_trans (Nat.le_of_ble_eq_true rfl) hR.f, Nat.le_trans (Nat.le_of_ble_eq_true rfl) hR.lo⟩) rfl rfl (Nat.le_of_ble_eq_true rfl) dJ2_append_3_53 (fun _ σ_5 H locs h hI => ?_)
    exact w_J2_append_3_56 C hw hR x1 _ _ _ _ h hI (lv_sub hl [0, 1] rfl)

theorem k_J2_append_3 (l : Launch) (g : cG) (A : Nat → Prop) (o : Nat) (x1 : Int32) (σ : cS) (v : Option Nat) (σ1 : cS) (h : m_J2_append_3 o x1 σ = some (v, σ1)) : Met l yJ2_append_3 (ws_ yJ2_append_3 cJ2_append_3 2 (Option.some (Jvm.ClassFile.FieldType.object "java/lang/AbstractStringBuilder"))) ({ frames := 4, cells := σ.2 3 - σ.2 0, slots := σ.2 4 - σ.2 1, locals := 110 }) (CPc g A [.ref o, .int x1] σ) (CQ g A (some (va_rf v)) σ1) (σ.2 3 - σ.2 0) (σ.2 4 - σ.2 1) A := by
  refine Met.ofW (cc := cJ2_append_3) (maxL := 2) (ret := (Option.some (Jvm.ClassFile.FieldType.object "java/lang/AbstractStringBuilder"))) (by decide) rfl ?_
  intro p e s m args below meth c s₁ B hml hv
  obtain ⟨rfl, hw, hσ⟩ := hv
  have hts := atoms_spec (ws := (ws_ yJ2_append_3 cJ2_append_3 2 (Option.some (Jvm.ClassFile.FieldType.object "java/lang/AbstractStringBuilder")))) B.pre
  have C : CX p m meth c s ([.ref o, .int x1] : List Value).toArray cJ2_append_3 2 (Option.some (Jvm.ClassFile.FieldType.object "java/lang/AbstractStringBuilder")) RJ2 := ⟨⟨B.exec, B.bytes, hml, findClass_of_methodNamed B.named, fun w h => hts w (List.mem_cons_of_mem _ h)⟩, B.returns, B.notSynchronized⟩
  have e3 : σ.2 3 - σ.2 0 = g.2.2.1 3 - s.heap.size := by rw [hσ.1, hσ.2.2.2.1 3 (by decide)]
  have e4 : σ.2 4 - σ.2 1 = g.2.2.1 4 - hsl s.heap := by rw [hσ.2.1, hσ.2.2.2.1 4 (by decide)]
  have hR : RM g s (headSpec (ws_ yJ2_append_3 cJ2_append_3 2 (Option.some (Jvm.ClassFile.FieldType.object "java/lang/AbstractStringBuilder"))) ({ frames := 4, cells := σ.2 3 - σ.2 0, slots := σ.2 4 - σ.2 1, locals := 110 })).room (4) (110) := ⟨⟨Nat.le_refl _, Nat.le_refl _⟩, Nat.le_of_eq e3.symm, Nat.le_of_eq e4.symm⟩
  generalize (headSpec (ws_ yJ2_append_3 cJ2_append_3 2 (Option.some (Jvm.ClassFile.FieldType.object "java/lang/AbstractStringBuilder"))) ({ frames := 4, cells := σ.2 3 - σ.2 0, slots := σ.2 4 - σ.2 1, locals := 110 })).room = R at hR ⊢
  rw [e3, e4]
  have hI : CI g A s σ s.heap [] := ⟨hσ, va_S.rf, Nat.le_refl _⟩
  have hl := lv_entry ([.ref o, .int x1]) (n := 2) (Nat.le_of_ble_eq_true rfl)
  rw [lg_entry_eq]
  generalize (lg_sl ([.ref o, .int x1]) ++ List.replicate (2 - (lg_sl ([.ref o, .int x1])).length) Slot.unset).toArray = ls at hl ⊢
  have hl : lv_has ls 2 [(0, .ref o), (1, .int x1)] := hl
  obtain ⟨z, hz⟩ : ∃ z, z = (v, σ1) := ⟨_, rfl⟩
  rw [← hz] at h
  rw [show v = z.1 by rw [hz], show σ1 = z.2 by rw [hz]]
  clear hz v σ1
  refine W.narrow ?_
  unfold m_J2_append_3 at h
  refine r_aload_n (x := some o) C.x C.b dJ2_append_3_0 rfl (lv_at hl 0 rfl) ?_
  refine r_aload_n (x := some o) C.x C.b dJ2_append_3_1 rfl (lv_at hl 0 rfl) ?_
  refine cw_gI (r := some o) 11 3 C hw hI h (by decide) rfl in_J3 (by decide) (C.t _ q220) (fun _ h9 => h9) dJ2_append_3_2 (fun v_1 h => ?_)
  refine lv_iconst (v := 1) C.x C.b dJ2_append_3_5 (by decide) ?_
  refine lv_iadd C.x C.b dJ2_append_3_6 ?_
  refine cw_callV (y := yJ2_ensureCapacityInternal) (bytes := cJ2_ensureCapacityInternal) (maxL := 3) (r := some o) (f := fun a_3 => m_J2_ensureCapacityInternal a_3 (v_1 + 1) σ) 11 (fun _ => none) [.int (v_1 + 1)] C hw hR hI hl.1 h (by decide) rfl (fun aa vv ss ee => k_J2_ensureCapacityInternal l g A aa (v_1 + 1) σ vv ss ee) (cwG 1 C.t (lw_meth q456) rfl rfl rfl (C.t _ q129) (C.t _ q453) (C.t _ q455) (sel_privS (C.t _ q199) (C.t _ q455) (va_Nw.use rfl (hw.2.2.2.2.2.2.2.2.2.2.2.2.2.2.2.1.2.1 _ (List.mem_of_getElem? (i := 0) rfl))) (by decide +kernel) (C.t _ q489) rfl) (by decide +kernel) ⟨Nat.le_trans (Nat.le_of_ble_eq_true rfl) hR.f, Nat.le_trans (Nat.le_of_ble_eq_true rfl) hR.lo⟩) rfl rfl (Nat.le_of_ble_eq_true rfl) dJ2_append_3_7 (fun _ σ_2 H locs h hI => ?_)
  refine r_aload_n (x := some o) C.x C.b dJ2_append_3_10 rfl (lv_at hl 0 rfl) ?_
  refine cw_callV (y := yJ2_isLatin1) (bytes := cJ2_isLatin1) (maxL := 1) (r := some o) (f := fun a_6 => m_J2_isLatin1 a_6 σ_2) 11 (fun v => some (.int v)) [] C hw hR hI hl.1 h (by decide) rfl (fun aa vv ss ee => k_J2_isLatin1 l g A aa σ_2 vv ss ee) (cwG 0 C.t (lw_meth q490) rfl rfl rfl (C.t _ q129) (C.t _ q486) (C.t _ q487) (C.t _ q489) (by decide +kernel) ⟨Nat.le_trans (Nat.le_of_ble_eq_true rfl) hR.f, Nat.le_trans (Nat.le_of_ble_eq_true rfl) hR.lo⟩) rfl rfl (Nat.le_of_ble_eq_true rfl) dJ2_append_3_11 (fun v_4 σ_5 H locs h hI => ?_)
  refine lv_if_eq (tgt := 45) C.x C.b dJ2_append_3_14 (by decide) (fun c_7 => ?_) (fun c_7 => ?_)
  · have h := ip c_7 h
    exact w_J2_append_3_45 C hw hR x1 _ _ _ _ h hI (lv_sub hl [0, 1] rfl)
  · have h := iN c_7 h
    refine lv_iload_n C.x C.b dJ2_append_3_17 rfl (lv_at hl 1 rfl) ?_
    refine cw_callS (y := yJ6_canEncode_2) (bytes := cJ6_canEncode_2) (maxL := 1) (fun v => some (.int v)) [.int x1] C hw hR hI hl.1 h (fun vv ss ee => k_J6_canEncode_2 l g A x1 σ_5 vv ss ee) (va_cwS 1 C.t (lw_S q1204 q1205 q134 q1206) rfl rfl rfl (by decide +kernel) ⟨Nat.le_trans (Nat.le_of_ble_eq_true rfl) hR.f, Nat.le_trans (Nat.le_of_ble_eq_true rfl) hR.lo⟩) rfl rfl (Nat.le_of_ble_eq_true rfl) dJ2_append_3_18 (fun v_8 σ_9 H locs h hI => ?_)
    refine lv_if_eq (tgt := 45) C.x C.b dJ2_append_3_21 (by decide) (fun c_10 => ?_) (fun c_10 => ?_)
    · have h := ip c_10 h
      exact w_J2_append_3_45 C hw hR x1 _ _ _ _ h hI (lv_sub hl [0, 1] rfl)
    · have h := iN c_10 h
      refine r_aload_n (x := some o) C.x C.b dJ2_append_3_24 rfl (lv_at hl 0 rfl) ?_
      refine cw_gR (r := some o) 11 0 C hw hI h (by decide) rfl in_J3 (by decide) (C.t _ q216) (fun _ h9 => h9) dJ2_append_3_25 (fun v_11 h => ?_)
      refine r_aload_n (x := some o) C.x C.b dJ2_append_3_28 rfl (lv_at hl 0 rfl) ?_
      refine lv_dup C.x C.b dJ2_append_3_29 rfl ?_
      refine cw_gI (r := some o) 11 3 C hw hI h (by decide) rfl in_J3 (by decide) (C.t _ q220) (fun _ h9 => h9) dJ2_append_3_30 (fun v_12 h => ?_)
      refine lv_dup_x1 C.x C.b dJ2_append_3_33 rfl rfl ?_
      refine lv_iconst (v := 1) C.x C.b dJ2_append_3_34 (by decide) ?_
      refine lv_iadd C.x C.b dJ2_append_3_35 ?_
      refine cw_pO (r := some o) (v := (.int (v_12 + 1))) (ty := .int) 11 3 C hw hI h (by decide) rfl in_J3 tyJ3 tyJ3_ok nmJ3 (by decide) (C.t _ q220) (fun _ h9 => h9) (Or.inl rfl) (by decide +kernel) rfl rfl dJ2_append_3_36 (fun σ_13 H locs h hI => ?_)
      refine lv_iload_n C.x C.b dJ2_append_3_39 rfl (lv_at hl 1 rfl) ?_
      refine lv_i2b C.x C.b dJ2_append_3_40 rfl ?_
      refine cw_bst (r := v_11) C hw hI h dJ2_append_3_41 (fun σ_14 H locs h hI => ?_)
      refine lv_goto (tgt := 75) C.x C.b dJ2_append_3_42 (by decide) ?_
      refine r_aload_n (x := some o) C.x C.b dJ2_append_3_75 rfl (lv_at hl 0 rfl) ?_
      exact cw_aret (x := some o) C (Or.inl ⟨_, rfl⟩) hI h dJ2_append_3_76

end
