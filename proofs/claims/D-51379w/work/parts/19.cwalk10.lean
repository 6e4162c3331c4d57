/-! THE CLASS' WALKS 10: printed by gencl.py -/
section
variable {p : Program} {l : Launch} {e : Env} {R : Room} {s : State} {m : MethodId} {args : Array Value} {below : List Frame} {meth : Method} {c : Code} {g : cG} {A : Nat → Prop}
set_option maxRecDepth 100000
theorem w_J4_init_2_79 {z : Int32 × cS} {o : Nat} (C : CX p m meth c s args cJ4_init_2 5 (Option.none : Option Jvm.ClassFile.FieldType) RJ4) (hin : meth.name = "<init>") (hw : WKc g A s s.heap) (hR : RM g s R (4) (107))  : ∀ (x3 : Option Nat) (x4 : Int32) (σ : cS) (H : Heap) (locs : List Loc) (ls : Array Slot), b_J4_init_2_79 o x3 x4 σ = some z → CI g A s σ H locs → lv_has ls 5 [(0, .ref o), (3, va_rf x3), (4, .int x4)] → W p l e R s m args below meth c H locs (H.size - s.heap.size) (hsl H - hsl s.heap) (MQ below (CQ g A (none) z.2) args s (g.2.2.1 3 - s.heap.size) (g.2.2.1 4 - hsl s.heap) A) (F0 m 79 ls []) := by
  intro x3 x4 σ H locs ls h hI hl
  unfold b_J4_init_2_79 at h
  refine r_aload_n (x := some o) C.x C.b dJ4_init_2_79 rfl (lv_at hl 0 rfl) ?_
  refine lv_iconst (v := 1) C.x C.b dJ4_init_2_80 (by decide) ?_
  have hz := gd_s h
  have h := hz.2
  refine cw_pO (r := some o) (v := (.int 1)) (ty := .byte) 12 1 C hw hI h (by decide) rfl in_J4 tyJ4 tyJ4_ok nmJ4 (by decide) (C.t _ q601) (fun _ h9 => h9) (Or.inr ⟨rfl, rfl, hin⟩) (by decide +kernel) (nar_b hz.1) (fit_b hz.1) dJ4_init_2_81 (fun σ_1 H locs h hI => ?_)
  refine r_aload_n (x := some o) C.x C.b dJ4_init_2_84 rfl (lv_at hl 0 rfl) ?_
  refine r_aload_n (x := x3) C.x C.b dJ4_init_2_85 rfl (lv_at hl 1 rfl) ?_
  refine lv_iconst (v := 0) C.x C.b dJ4_init_2_86 (by decide) ?_
  refine lv_iload C.x C.b dJ4_init_2_87 (lv_at hl 2 rfl) ?_
  refine lv_iconst (v := 1) C.x C.b dJ4_init_2_89 (by decide) ?_
  refine lv_ishl C.x C.b dJ4_init_2_90 ?_
  refine cw_callS (y := yJ9_copyOfRange) (bytes := cJ9_copyOfRange) (maxL := 3) (fun v => some (va_rf v)) [va_rf x3, .int 0, .int (x4 <<< (1 &&& 31))] C hw hR hI hl.1 h (fun vv ss ee => k_J9_copyOfRange l g A x3 0 (x4 <<< (1 &&& 31)) σ_1 vv ss ee) (va_cwS 3 C.t (lw_S q589 q388 q139 q389) rfl rfl rfl (by decide +kernel) ⟨Nat.le_trans (Nat.le_of_ble_eq_true rfl) hR.f, Nat.le_trans (Nat.le_of_ble_eq_true rfl) hR.lo⟩) rfl rfl (Nat.le_of_ble_eq_true rfl) dJ4_init_2_91 (fun v_2 σ_3 H locs h hI => ?_)
  refine cw_pO (r := some o) (v := (va_rf v_2)) (ty := (.array .byte)) 12 0 C hw hI h (by decide) rfl in_J4 tyJ4 tyJ4_ok nmJ4 (by decide) (C.t _ q600) (fun _ h9 => h9) (Or.inr ⟨rfl, rfl, hin⟩) (by decide +kernel) (nar_a _ _) (fits_a _ _) dJ4_init_2_94 (fun σ_4 H locs h hI => ?_)
  exact cw_vret C hI h dJ4_init_2_97

theorem k_J4_init_2 (l : Launch) (g : cG) (A : Nat → Prop) (o : Nat) (x1 : Option Nat) (x2 : Option Nat) (σ : cS) (v : Int32) (σ1 : cS) (h : m_J4_init_2 o x1 x2 σ = some (v, σ1)) : Met l yJ4_init_2 (ws_ yJ4_init_2 cJ4_init_2 5 (Option.none : Option Jvm.ClassFile.FieldType)) ({ frames := 4, cells := σ.2 3 - σ.2 0, slots := σ.2 4 - σ.2 1, locals := 107 }) (CPc g A [.ref o, va_rf x1, va_rf x2] σ) (CQ g A (none) σ1) (σ.2 3 - σ.2 0) (σ.2 4 - σ.2 1) A := by
  refine Met.ofW (cc := cJ4_init_2) (maxL := 5) (ret := (Option.none : Option Jvm.ClassFile.FieldType)) (by decide) rfl ?_
  intro p e s m args below meth c s₁ B hml hv
  obtain ⟨rfl, hw, hσ⟩ := hv
  have hts := atoms_spec (ws := (ws_ yJ4_init_2 cJ4_init_2 5 (Option.none : Option Jvm.ClassFile.FieldType))) B.pre
  have C : CX p m meth c s ([.ref o, va_rf x1, va_rf x2] : List Value).toArray cJ4_init_2 5 (Option.none : Option Jvm.ClassFile.FieldType) RJ4 := ⟨⟨B.exec, B.bytes, hml, findClass_of_methodNamed B.named, fun w h => hts w (List.mem_cons_of_mem _ h)⟩, B.returns, B.notSynchronized⟩
  have hin : meth.name = "<init>" := (name_of_methodNamed B.named B.method).1
  have e3 : σ.2 3 - σ.2 0 = g.2.2.1 3 - s.heap.size := by rw [hσ.1, hσ.2.2.2.1 3 (by decide)]
  have e4 : σ.2 4 - σ.2 1 = g.2.2.1 4 - hsl s.heap := by rw [hσ.2.1, hσ.2.2.2.1 4 (by decide)]
  have hR : RM g s (headSpec (ws_ yJ4_init_2 cJ4_init_2 5 (Option.none : Option Jvm.ClassFile.FieldType)) ({ frames := 4, cells := σ.2 3 - σ.2 0, slots := σ.2 4 - σ.2 1, locals := 107 })).room (4) (107) := ⟨⟨Nat.le_refl _, Nat.le_refl _⟩, Nat.le_of_eq e3.symm, Nat.le_of_eq e4.symm⟩
  generalize (headSpec (ws_ yJ4_init_2 cJ4_init_2 5 (Option.none : Option Jvm.ClassFile.FieldType)) ({ frames := 4, cells := σ.2 3 - σ.2 0, slots := σ.2 4 - σ.2 1, locals := 107 })).room = R at hR ⊢
  rw [e3, e4]
  have hI : CI g A s σ s.heap [] := ⟨hσ, va_S.rf, Nat.le_refl _⟩
  have hlen : (lg_sl ([.ref o, va_rf x1, va_rf x2])).length ≤ 5 := by rcases x1 with _ | x1 <;> rcases x2 with _ | x2 <;> exact Nat.le_of_ble_eq_true rfl
  have hl := lv_entry ([.ref o, va_rf x1, va_rf x2]) (n := 5) hlen
  rw [lg_entry_eq]
  generalize (lg_sl ([.ref o, va_rf x1, va_rf x2]) ++ List.replicate (5 - (lg_sl ([.ref o, va_rf x1, va_rf x2])).length) Slot.unset).toArray = ls at hl ⊢
  have hl : lv_has ls 5 [(0, .ref o), (1, va_rf x1), (2, va_rf x2)] := by clear hI hw h hσ e3 e4 hR C hts B; rcases x1 with _ | x1 <;> rcases x2 with _ | x2 <;> exact hl
  obtain ⟨z, hz⟩ : ∃ z, z = (v, σ1) := ⟨_, rfl⟩
  rw [← hz] at h
  rw [show σ1 = z.2 by rw [hz]]
  clear hz v σ1
  refine W.narrow ?_
  unfold m_J4_init_2 at h
  refine r_aload_n (x := some o) C.x C.b dJ4_init_2_0 rfl (lv_at hl 0 rfl) ?_
  refine cw_obj C hR hl.1 q574 q173 q174 dJ4_init_2_1 (by decide) (by decide) (Nat.le_of_ble_eq_true rfl) ?_
  refine r_aload_n (x := x1) C.x C.b dJ4_init_2_4 rfl (lv_at hl 1 rfl) ?_
  refine cw_callV (y := yJ2_getValue) (bytes := cJ2_getValue) (maxL := 1) (r := x1) (f := fun a_3 => m_J2_getValue a_3 σ) 11 (fun v => some (va_rf v)) [] C hw hR hI hl.1 h (by decide) rfl (fun aa vv ss ee => k_J2_getValue l g A aa σ vv ss ee) (cwG 0 C.t (lw_meth q579) rfl rfl rfl (C.t _ q129) (C.t _ q575) (C.t _ q576) (C.t _ q578) (by decide +kernel) ⟨Nat.le_trans (Nat.le_of_ble_eq_true rfl) hR.f, Nat.le_trans (Nat.le_of_ble_eq_true rfl) hR.lo⟩) rfl rfl (Nat.le_of_ble_eq_true rfl) dJ4_init_2_5 (fun v_1 σ_2 H locs h hI => ?_)
  refine r_astore_n (i := 3) (x := v_1) (lv' := [(3, va_rf v_1), (0, .ref o), (1, va_rf x1), (2, va_rf x2)]) C.x C.b dJ4_init_2_8 rfl hl (by decide) (by first | (simp [List.filter, cat_rf, cat_i, cat_a, cat_n, cat_l, cat_f, cat_d]; done) | (simp [List.filter, cat_rf, cat_i, cat_a, cat_n, cat_l, cat_f, cat_d]; rfl)) (fun ls hl => ?_)
  refine r_aload_n (x := x1) C.x C.b dJ4_init_2_9 rfl (lv_at hl 2 rfl) ?_
  refine cw_callU (x := yJ2_length) (owner := "java/lang/AbstractStringBuilder") (y := yJ3_length) (bytes := cJ3_length) (maxL := 1) (r := x1) (f := fun a_6 => m_J3_length a_6 σ_2) 11 (fun v => some (.int v)) [] C hw hR hI hl.1 h (by decide) rfl (fun aa vv ss ee => k_J3_length l g A aa σ_2 vv ss ee) (va_cwO 0 C.t (lw_app (mem6 q580 q582 q581 q583 q584 q130) (lw_meth q585)) rfl rfl rfl q587 (by decide +kernel) ⟨Nat.le_trans (Nat.le_of_ble_eq_true rfl) hR.f, Nat.le_trans (Nat.le_of_ble_eq_true rfl) hR.lo⟩) rfl rfl (Nat.le_of_ble_eq_true rfl) dJ4_init_2_10 (fun v_4 σ_5 H locs h hI => ?_)
  refine lv_istore (i := 4) (lv' := [(4, .int v_4), (3, va_rf v_1), (0, .ref o), (1, va_rf x1), (2, va_rf x2)]) C.x C.b dJ4_init_2_13 hl (by decide) (by first | (simp [List.filter, cat_rf, cat_i, cat_a, cat_n, cat_l, cat_f, cat_d]; done) | (simp [List.filter, cat_rf, cat_i, cat_a, cat_n, cat_l, cat_f, cat_d]; rfl)) (fun ls hl => ?_)
  refine r_aload_n (x := x1) C.x C.b dJ4_init_2_15 rfl (lv_at hl 3 rfl) ?_
  refine cw_callV (y := yJ2_isLatin1) (bytes := cJ2_isLatin1) (maxL := 1) (r := x1) (f := fun a_9 => m_J2_isLatin1 a_9 σ_5) 11 (fun v => some (.int v)) [] C hw hR hI hl.1 h (by decide) rfl (fun aa vv ss ee => k_J2_isLatin1 l g A aa σ_5 vv ss ee) (cwG 0 C.t (lw_meth q490) rfl rfl rfl (C.t _ q129) (C.t _ q588) (C.t _ q487) (C.t _ q489) (by decide +kernel) ⟨Nat.le_trans (Nat.le_of_ble_eq_true rfl) hR.f, Nat.le_trans (Nat.le_of_ble_eq_true rfl) hR.lo⟩) rfl rfl (Nat.le_of_ble_eq_true rfl) dJ4_init_2_16 (fun v_7 σ_8 H locs h hI => ?_)
  refine lv_if_eq (tgt := 41) C.x C.b dJ4_init_2_19 (by decide) (fun c_10 => ?_) (fun c_10 => ?_)
  · have h := ip c_10 h
    refine va_gets C.x C.b hw.2.1.1 hI.2.1 C.o (C.t _ q252) (fun _ h9 => h9) dJ4_init_2_41 ?_
    refine lv_if_eq (tgt := 79) C.x C.b dJ4_init_2_44 (by decide) (fun c_11 => ?_) (fun c_11 => ?_)
    · have h := ip c_11 h
      exact w_J4_init_2_79 C hin hw hR v_1 v_4 _ _ _ _ h hI (lv_sub hl [2, 1, 0] rfl)
    · have h := iN c_11 h
      refine r_aload_n (x := x1) C.x C.b dJ4_init_2_47 rfl (lv_at hl 3 rfl) ?_
      refine cw_gI (r := x1) 11 2 C hw hI h (by decide) rfl in_J3 (by decide) (C.t _ q219) (fun _ h9 => h9) dJ4_init_2_48 (fun v_12 h => ?_)
      refine lv_if_eq (tgt := 79) C.x C.b dJ4_init_2_51 (by decide) (fun c_13 => ?_) (fun c_13 => ?_)
      · have h := ip c_13 h
        exact w_J4_init_2_79 C hin hw hR v_1 v_4 _ _ _ _ h hI (lv_sub hl [2, 1, 0] rfl)
      · have h := iN c_13 h
        refine r_aload_n (x := some o) C.x C.b dJ4_init_2_54 rfl (lv_at hl 2 rfl) ?_
        refine r_aload_n (x := v_1) C.x C.b dJ4_init_2_55 rfl (lv_at hl 1 rfl) ?_
        refine lv_iconst (v := 0) C.x C.b dJ4_init_2_56 (by decide) ?_
        refine lv_iload C.x C.b dJ4_init_2_57 (lv_at hl 0 rfl) ?_
        cases h
  · have h := iN c_10 h
    refine r_aload_n (x := some o) C.x C.b dJ4_init_2_22 rfl (lv_at hl 2 rfl) ?_
    refine lv_iconst (v := 0) C.x C.b dJ4_init_2_23 (by decide) ?_
    have hz := gd_s h
    have h := hz.2
    refine cw_pO (r := some o) (v := (.int 0)) (ty := .byte) 12 1 C hw hI h (by decide) rfl in_J4 tyJ4 tyJ4_ok nmJ4 (by decide) (C.t _ q601) (fun _ h9 => h9) (Or.inr ⟨rfl, rfl, hin⟩) (by decide +kernel) (nar_b hz.1) (fit_b hz.1) dJ4_init_2_24 (fun σ_14 H locs h hI => ?_)
    refine r_aload_n (x := some o) C.x C.b dJ4_init_2_27 rfl (lv_at hl 2 rfl) ?_
    refine r_aload_n (x := v_1) C.x C.b dJ4_init_2_28 rfl (lv_at hl 1 rfl) ?_
    refine lv_iconst (v := 0) C.x C.b dJ4_init_2_29 (by decide) ?_
    refine lv_iload C.x C.b dJ4_init_2_30 (lv_at hl 0 rfl) ?_
    refine cw_callS (y := yJ9_copyOfRange) (bytes := cJ9_copyOfRange) (maxL := 3) (fun v => some (va_rf v)) [va_rf v_1, .int 0, .int v_4] C hw hR hI hl.1 h (fun vv ss ee => k_J9_copyOfRange l g A v_1 0 v_4 σ_14 vv ss ee) (va_cwS 3 C.t (lw_S q589 q388 q139 q389) rfl rfl rfl (by decide +kernel) ⟨Nat.le_trans (Nat.le_of_ble_eq_true rfl) hR.f, Nat.le_trans (Nat.le_of_ble_eq_true rfl) hR.lo⟩) rfl rfl (Nat.le_of_ble_eq_true rfl) dJ4_init_2_32 (fun v_15 σ_16 H locs h hI => ?_)
    refine cw_pO (r := some o) (v := (va_rf v_15)) (ty := (.array .byte)) 12 0 C hw hI h (by decide) rfl in_J4 tyJ4 tyJ4_ok nmJ4 (by decide) (C.t _ q600) (fun _ h9 => h9) (Or.inr ⟨rfl, rfl, hin⟩) (by decide +kernel) (nar_a _ _) (fits_a _ _) dJ4_init_2_35 (fun σ_17 H locs h hI => ?_)
    refine lv_goto (tgt := 97) C.x C.b dJ4_init_2_38 (by decide) ?_
    exact cw_vret C hI h dJ4_init_2_97

theorem k_J4_init (l : Launch) (g : cG) (A : Nat → Prop) (o : Nat) (x1 : Option Nat) (σ : cS) (v : Int32) (σ1 : cS) (h : m_J4_init o x1 σ = some (v, σ1)) : Met l yJ4_init (ws_ yJ4_init cJ4_init 2 (Option.none : Option Jvm.ClassFile.FieldType)) ({ frames := 5, cells := σ.2 3 - σ.2 0, slots := σ.2 4 - σ.2 1, locals := 131 }) (CPc g A [.ref o, va_rf x1] σ) (CQ g A (none) σ1) (σ.2 3 - σ.2 0) (σ.2 4 - σ.2 1) A := by
  refine Met.ofW (cc := cJ4_init) (maxL := 2) (ret := (Option.none : Option Jvm.ClassFile.FieldType)) (by decide) rfl ?_
  intro p e s m args below meth c s₁ B hml hv
  obtain ⟨rfl, hw, hσ⟩ := hv
  have hts := atoms_spec (ws := (ws_ yJ4_init cJ4_init 2 (Option.none : Option Jvm.ClassFile.FieldType))) B.pre
  have C : CX p m meth c s ([.ref o, va_rf x1] : List Value).toArray cJ4_init 2 (Option.none : Option Jvm.ClassFile.FieldType) RJ4 := ⟨⟨B.exec, B.bytes, hml, findClass_of_methodNamed B.named, fun w h => hts w (List.mem_cons_of_mem _ h)⟩, B.returns, B.notSynchronized⟩
  have hin : meth.name = "<init>" := (name_of_methodNamed B.named B.method).1
  have e3 : σ.2 3 - σ.2 0 = g.2.2.1 3 - s.heap.size := by rw [hσ.1, hσ.2.2.2.1 3 (by decide)]
  have e4 : σ.2 4 - σ.2 1 = g.2.2.1 4 - hsl s.heap := by rw [hσ.2.1, hσ.2.2.2.1 4 (by decide)]
  have hR : RM g s (headSpec (ws_ yJ4_init cJ4_init 2 (Option.none : Option Jvm.ClassFile.FieldType)) ({ frames := 5, cells := σ.2 3 - σ.2 0, slots := σ.2 4 - σ.2 1, locals := 131 })).room (5) (131) := ⟨⟨Nat.le_refl _, Nat.le_refl _⟩, Nat.le_of_eq e3.symm, Nat.le_of_eq e4.symm⟩
  generalize (headSpec (ws_ yJ4_init cJ4_init 2 (Option.none : Option Jvm.ClassFile.FieldType)) ({ frames := 5, cells := σ.2 3 - σ.2 0, slots := σ.2 4 - σ.2 1, locals := 131 })).room = R at hR ⊢
  rw [e3, e4]
  have hI : CI g A s σ s.heap [] := ⟨hσ, va_S.rf, Nat.le_refl _⟩
  have hlen : (lg_sl ([.ref o, va_rf x1])).length ≤ 2 := by rcases x1 with _ | x1 <;> exact Nat.le_of_ble_eq_true rfl
  have hl := lv_entry ([.ref o, va_rf x1]) (n := 2) hlen
  rw [lg_entry_eq]
  generalize (lg_sl ([.ref o, va_rf x1]) ++ List.replicate (2 - (lg_sl ([.ref o, va_rf x1])).length) Slot.unset).toArray = ls at hl ⊢
  have hl : lv_has ls 2 [(0, .ref o), (1, va_rf x1)] := by clear hI hw h hσ e3 e4 hR C hts B; rcases x1 with _ | x1 <;> exact hl
  obtain ⟨z, hz⟩ : ∃ z, z = (v, σ1) := ⟨_, rfl⟩
  rw [← hz] at h
  rw [show σ1 = z.2 by rw [hz]]
  clear hz v σ1
  refine W.narrow ?_
  unfold m_J4_init at h
  refine r_aload_n (x := some o) C.x C.b dJ4_init_0 rfl (lv_at hl 0 rfl) ?_
  refine r_aload_n (x := x1) C.x C.b dJ4_init_1 rfl (lv_at hl 1 rfl) ?_
  refine lv_null C.x C.b dJ4_init_2 ?_
  refine cw_callI (y := yJ4_init_2) (bytes := cJ4_init_2) (maxL := 5) (b := o) [va_rf x1, .null] C hw hR hI hl.1 h (fun vv ss ee => k_J4_init_2 l g A o x1 none σ vv ss ee) (cwI 2 C.t (lw_meth q573) rfl rfl rfl (C.t _ q131) (C.t _ q571) (C.t _ q572) rfl (by decide +kernel) ⟨Nat.le_trans (Nat.le_of_ble_eq_true rfl) hR.f, Nat.le_trans (Nat.le_of_ble_eq_true rfl) hR.lo⟩) rfl rfl (Nat.le_of_ble_eq_true rfl) dJ4_init_3 (fun σ_1 _ H locs h hI => ?_)
  exact cw_vret C hI h dJ4_init_6

theorem k_J3_toString (l : Launch) (g : cG) (A : Nat → Prop) (o : Nat) (σ : cS) (v : Option Nat) (σ1 : cS) (h : m_J3_toString o σ = some (v, σ1)) : Met l yJ3_toString (ws_ yJ3_toString cJ3_toString 1 (Option.some (Jvm.ClassFile.FieldType.object "java/lang/String"))) ({ frames := 6, cells := σ.2 3 - σ.2 0, slots := σ.2 4 - σ.2 1, locals := 152 }) (CPc g A [.ref o] σ) (CQ g A (some (va_rf v)) σ1) (σ.2 3 - σ.2 0) (σ.2 4 - σ.2 1) A := by
  refine Met.ofW (cc := cJ3_toString) (maxL := 1) (ret := (Option.some (Jvm.ClassFile.FieldType.object "java/lang/String"))) (by decide) rfl ?_
  intro p e s m args below meth c s₁ B hml hv
  obtain ⟨rfl, hw, hσ⟩ := hv
  have hts := atoms_spec (ws := (ws_ yJ3_toString cJ3_toString 1 (Option.some (Jvm.ClassFile.FieldType.object "java/lang/String")))) B.pre
  have C : CX p m meth c s ([.ref o] : List Value).toArray cJ3_toString 1 (Option.some (Jvm.ClassFile.FieldType.object "java/lang/String")) RJ3 := ⟨⟨B.exec, B.bytes, hml, findClass_of_methodNamed B.named, fun w h => hts w (List.mem_cons_of_mem _ h)⟩, B.returns, B.notSynchronized⟩
  have e3 : σ.2 3 - σ.2 0 = g.2.2.1 3 - s.heap.size := by rw [hσ.1, hσ.2.2.2.1 3 (by decide)]
  have e4 : σ.2 4 - σ.2 1 = g.2.2.1 4 - hsl s.heap := by rw [hσ.2.1, hσ.2.2.2.1 4 (by decide)]
  have hR : RM g s (headSpec (ws_ yJ3_toString cJ3_toString 1 (Option.some (Jvm.ClassFile.FieldType.object "java/lang/String"))) ({ frames := 6, cells := σ.2 3 - σ.2 0, slots := σ.2 4 - σ.2 1, locals := 152 })).room (6) (152) := ⟨⟨Nat.le_refl _, Nat.le_refl _⟩, Nat.le_of_eq e3.symm, Nat.le_of_eq e4.symm⟩
  generalize (headSpec (ws_ yJ3_toString cJ3_toString 1 (Option.some (Jvm.ClassFile.FieldType.object "java/lang/String"))) ({ frames := 6, cells := σ.2 3 - σ.2 0, slots := σ.2 4 - σ.2 1, locals := 152 })).room = R at hR ⊢
  rw [e3, e4]
  have hI : CI g A s σ s.heap [] := ⟨hσ, va_S.rf, Nat.le_refl _⟩
  have hl := lv_entry ([.ref o]) (n := 1) (Nat.le_of_ble_eq_true rfl)
  rw [lg_entry_eq]
  generalize (lg_sl ([.ref o]) ++ List.replicate (1 - (lg_sl ([.ref o])).length) Slot.unset).toArray = ls at hl ⊢
  have hl : lv_has ls 1 [(0, .ref o)] := hl
  obtain ⟨z, hz⟩ : ∃ z, z = (v, σ1) := ⟨_, rfl⟩
  rw [← hz] at h
  rw [show v = z.1 by rw [hz], show σ1 = z.2 by rw [hz]]
  clear hz v σ1
  refine W.narrow ?_
  unfold m_J3_toString at h
  refine cw_new (T := TJ4) (N := 4) 12 C hw hI hR.2.1 hR.2.2 h (by decide) rfl in_J4 tyJ4 tyJ4_ok (fun j hj => match j, hj with | 0, _ => rfl | 1, _ => rfl | 2, _ => rfl | 3, _ => rfl | j + 4, hj => absurd hj (Nat.not_lt_of_le (Nat.le_add_left _ _))) q567 q386 q131 dJ3_toString_0 (fun q_1 σ_2 H locs h hI => ?_)
  refine lv_dup C.x C.b dJ3_toString_3 rfl ?_
  refine r_aload_n (x := some o) C.x C.b dJ3_toString_4 rfl (lv_at hl 0 rfl) ?_
  refine cw_callI (y := yJ4_init) (bytes := cJ4_init) (maxL := 2) (b := q_1) [.ref o] C hw hR hI hl.1 h (fun vv ss ee => k_J4_init l g A q_1 (some o) σ_2 vv ss ee) (cwI 1 C.t (lw_meth q570) rfl rfl rfl (C.t _ q131) (C.t _ q568) (C.t _ q569) rfl (by decide +kernel) ⟨Nat.le_trans (Nat.le_of_ble_eq_true rfl) hR.f, Nat.le_trans (Nat.le_of_ble_eq_true rfl) hR.lo⟩) rfl rfl (Nat.le_of_ble_eq_true rfl) dJ3_toString_5 (fun σ_3 _ H locs h hI => ?_)
  exact cw_aret (x := some q_1) C (Or.inl ⟨_, rfl⟩) hI h dJ3_toString_8

theorem k_J3_subSequence (l : Launch) (g : cG) (A : Nat → Prop) (o : Nat) (x1 : Int32) (x2 : Int32) (σ : cS) (v : Option Nat) (σ1 : cS) (h : m_J3_subSequence o x1 x2 σ = some (v, σ1)) : Met l yJ3_subSequence (ws_ yJ3_subSequence cJ3_subSequence 3 (Option.some (Jvm.ClassFile.FieldType.object "java/lang/CharSequence"))) ({ frames := 8, cells := σ.2 3 - σ.2 0, slots := σ.2 4 - σ.2 1, locals := 195 }) (CPc g A [.ref o, .int x1, .int x2] σ) (CQ g A (some (va_rf v)) σ1) (σ.2 3 - σ.2 0) (σ.2 4 - σ.2 1) A := by
  refine Met.ofW (cc := cJ3_subSequence) (maxL := 3) (ret := (Option.some (Jvm.ClassFile.FieldType.object "java/lang/CharSequence"))) (by decide) rfl ?_
  intro p e s m args below meth c s₁ B hml hv
  obtain ⟨rfl, hw, hσ⟩ := hv
  have hts := atoms_spec (ws := (ws_ yJ3_subSequence cJ3_subSequence 3 (Option.some (Jvm.ClassFile.FieldType.object "java/lang/CharSequence")))) B.pre
  have C : CX p m meth c s ([.ref o, .int x1, .int x2] : List Value).toArray cJ3_subSequence 3 (Option.some (Jvm.ClassFile.FieldType.object "java/lang/CharSequence")) RJ3 := ⟨⟨B.exec, B.bytes, hml, findClass_of_methodNamed B.named, fun w h => hts w (List.mem_cons_of_mem _ h)⟩, B.returns, B.notSynchronized⟩
  have e3 : σ.2 3 - σ.2 0 = g.2.2.1 3 - s.heap.size := by rw [hσ.1, hσ.2.2.2.1 3 (by decide)]
  have e4 : σ.2 4 - σ.2 1 = g.2.2.1 4 - hsl s.heap := by rw [hσ.2.1, hσ.2.2.2.1 4 (by decide)]
  have hR : RM g s (headSpec (ws_ yJ3_subSequence cJ3_subSequence 3 (Option.some (Jvm.ClassFile.FieldType.object "java/lang/CharSequence"))) ({ frames := 8, cells := σ.2 3 - σ.2 0, slots := σ.2 4 - σ.2 1, locals := 195 })).room (8) (195) := ⟨⟨Nat.le_refl _, Nat.le_refl _⟩, Nat.le_of_eq e3.symm, Nat.le_of_eq e4.symm⟩
  generalize (headSpec (ws_ yJ3_subSequence cJ3_subSequence 3 (Option.some (Jvm.ClassFile.FieldType.object "java/lang/CharSequence"))) ({ frames := 8, cells := σ.2 3 - σ.2 0, slots := σ.2 4 - σ.2 1, locals := 195 })).room = R at hR ⊢
  rw [e3, e4]
  have hI : CI g A s σ s.heap [] := ⟨hσ, va_S.rf, Nat.le_refl _⟩
  have hl := lv_entry ([.ref o, .int x1, .int x2]) (n := 3) (Nat.le_of_ble_eq_true rfl)
  rw [lg_entry_eq]
  generalize (lg_sl ([.ref o, .int x1, .int x2]) ++ List.replicate (3 - (lg_sl ([.ref o, .int x1, .int x2])).length) Slot.unset).toArray = ls at hl ⊢
  have hl : lv_has ls 3 [(0, .ref o), (1, .int x1), (2, .int x2)] := hl
  obtain ⟨z, hz⟩ : ∃ z, z = (v, σ1) := ⟨_, rfl⟩
  rw [← hz] at h
  rw [show v = z.1 by rw [hz], show σ1 = z.2 by rw [hz]]
  clear hz v σ1
  refine W.narrow ?_
  unfold m_J3_subSequence at h
  refine r_aload_n (x := some o) C.x C.b dJ3_subSequence_0 rfl (lv_at hl 0 rfl) ?_
  refine lv_iload_n C.x C.b dJ3_subSequence_1 rfl (lv_at hl 1 rfl) ?_
  refine lv_iload_n C.x C.b dJ3_subSequence_2 rfl (lv_at hl 2 rfl) ?_
  refine cw_callSU (y := yJ2_subSequence) (bytes := cJ2_subSequence) (maxL := 3) (r := some o) (f := fun a_3 => m_J2_subSequence a_3 x1 x2 σ) 11 (fun v => some (va_rf v)) [.int x1, .int x2] C hw hR hI hl.1 h (by decide) rfl (fun aa vv ss ee => k_J2_subSequence l g A aa x1 x2 σ vv ss ee) (va_cwSU 2 C.t (lw_app (mem5 q655 q2702 q229 q656 q129) (lw_meth q657)) rfl rfl rfl (by decide +kernel) ⟨Nat.le_trans (Nat.le_of_ble_eq_true rfl) hR.f, Nat.le_trans (Nat.le_of_ble_eq_true rfl) hR.lo⟩) rfl rfl (Nat.le_of_ble_eq_true rfl) dJ3_subSequence_3 (fun v_1 σ_2 H locs h hI => ?_)
  exact cw_aret (x := v_1) C (Or.inl ⟨_, rfl⟩) hI h dJ3_subSequence_6

theorem k_J3_append_3 (l : Launch) (g : cG) (A : Nat → Prop) (o : Nat) (x1 : Int32) (σ : cS) (v : Option Nat) (σ1 : cS) (h : m_J3_append_3 o x1 σ = some (v, σ1)) : Met l yJ3_append_3 (ws_ yJ3_append_3 cJ3_append_3 2 (Option.some (Jvm.ClassFile.FieldType.object "java/lang/StringBuilder"))) ({ frames := 5, cells := σ.2 3 - σ.2 0, slots := σ.2 4 - σ.2 1, locals := 131 }) (CPc g A [.ref o, .int x1] σ) (CQ g A (some (va_rf v)) σ1) (σ.2 3 - σ.2 0) (σ.2 4 - σ.2 1) A := by
  refine Met.ofW (cc := cJ3_append_3) (maxL := 2) (ret := (Option.some (Jvm.ClassFile.FieldType.object "java/lang/StringBuilder"))) (by decide) rfl ?_
  intro p e s m args below meth c s₁ B hml hv
  obtain ⟨rfl, hw, hσ⟩ := hv
  have hts := atoms_spec (ws := (ws_ yJ3_append_3 cJ3_append_3 2 (Option.some (Jvm.ClassFile.FieldType.object "java/lang/StringBuilder")))) B.pre
  have C : CX p m meth c s ([.ref o, .int x1] : List Value).toArray cJ3_append_3 2 (Option.some (Jvm.ClassFile.FieldType.object "java/lang/StringBuilder")) RJ3 := ⟨⟨B.exec, B.bytes, hml, findClass_of_methodNamed B.named, fun w h => hts w (List.mem_cons_of_mem _ h)⟩, B.returns, B.notSynchronized⟩
  have e3 : σ.2 3 - σ.2 0 = g.2.2.1 3 - s.heap.size := by rw [hσ.1, hσ.2.2.2.1 3 (by decide)]
  have e4 : σ.2 4 - σ.2 1 = g.2.2.1 4 - hsl s.heap := by rw [hσ.2.1, hσ.2.2.2.1 4 (by decide)]
  have hR : RM g s (headSpec (ws_ yJ3_append_3 cJ3_append_3 2 (Option.some (Jvm.ClassFile.FieldType.object "java/lang/StringBuilder"))) ({ frames := 5, cells := σ.2 3 - σ.2 0, slots := σ.2 4 - σ.2 1, locals := 131 })).room (5) (131) := ⟨⟨Nat.le_refl _, Nat.le_refl _⟩, Nat.le_of_eq e3.symm, Nat.le_of_eq e4.symm⟩
  generalize (headSpec (ws_ yJ3_append_3 cJ3_append_3 2 (Option.some (Jvm.ClassFile.FieldType.object "java/lang/StringBuilder"))) ({ frames := 5, cells := σ.2 3 - σ.2 0, slots := σ.2 4 - σ.2 1, locals := 131 })).room = R at hR ⊢
  rw [e3, e4]
  have hI : CI g A s σ s.heap [] := ⟨hσ, va_S.rf, Nat.le_refl _⟩
  have hl := lv_entry ([.ref o, .int x1]) (n := 2) (Nat.le_of_ble_eq_true rfl)
  rw [lg_entry_eq]
  generalize (lg_sl ([.ref o, .int x1]) ++ List.replicate (2 - (lg_sl ([.ref o, .int x1])).length) Slot.unset).toArray = ls at hl ⊢
  have hl : lv_has ls 2 [(0, .ref o), (1, .int x1)] := hl
  obtain ⟨z, hz⟩ : ∃ z, z = (v, σ1) := ⟨_, rfl⟩
  rw [← hz] at h
  rw [show v = z.1 by rw [hz], show σ1 = z.2 by rw [hz]]
  clear hz v σ1
  refine W.narrow ?_
  unfold m_J3_append_3 at h
  refine r_aload_n (x := some o) C.x C.b dJ3_append_3_0 rfl (lv_at hl 0 rfl) ?_
  refine lv_iload_n C.x C.b dJ3_append_3_1 rfl (lv_at hl 1 rfl) ?_
  refine cw_callSU (y := yJ2_append_3) (bytes := cJ2_append_3) (maxL := 2) (r := some o) (f := fun a_3 => m_J2_append_3 a_3 x1 σ) 11 (fun v => some (va_rf v)) [.int x1] C hw hR hI hl.1 h (by decide) rfl (fun aa vv ss ee => k_J2_append_3 l g A aa x1 σ vv ss ee) (va_cwSU 1 C.t (lw_app (mem5 q1201 q2705 q229 q1202 q129) (lw_meth q1203)) rfl rfl rfl (by decide +kernel) ⟨Nat.le_trans (Nat.le_of_ble_eq_true rfl) hR.f, Nat.le_trans (Nat.le_of_ble_eq_true rfl) hR.lo⟩) rfl rfl (Nat.le_of_ble_eq_true rfl) dJ3_append_3_2 (fun v_1 σ_2 H locs h hI => ?_)
  refine lv_pop C.x C.b dJ3_append_3_5 (cat_rf _) ?_
  refine r_aload_n (x := some o) C.x C.b dJ3_append_3_6 rfl (lv_at hl 0 rfl) ?_
  exact cw_aret (x := some o) C (Or.inl ⟨_, rfl⟩) hI h dJ3_append_3_7

theorem k_J3_setLength (l : Launch) (g : cG) (A : Nat → Prop) (o : Nat) (x1 : Int32) (σ : cS) (v : Int32) (σ1 : cS) (h : m_J3_setLength o x1 σ = some (v, σ1)) : Met l yJ3_setLength (ws_ yJ3_setLength cJ3_setLength 2 (Option.none : Option Jvm.ClassFile.FieldType)) ({ frames := 5, cells := σ.2 3 - σ.2 0, slots := σ.2 4 - σ.2 1, locals := 131 }) (CPc g A [.ref o, .int x1] σ) (CQ g A (none) σ1) (σ.2 3 - σ.2 0) (σ.2 4 - σ.2 1) A := by
  refine Met.ofW (cc := cJ3_setLength) (maxL := 2) (ret := (Option.none : Option Jvm.ClassFile.FieldType)) (by decide) rfl ?_
  intro p e s m args below meth c s₁ B hml hv
  obtain ⟨rfl, hw, hσ⟩ := hv
  have hts := atoms_spec (ws := (ws_ yJ3_setLength cJ3_setLength 2 (Option.none : Option Jvm.ClassFile.FieldType))) B.pre
  have C : CX p m meth c s ([.ref o, .int x1] : List Value).toArray cJ3_setLength 2 (Option.none : Option Jvm.ClassFile.FieldType) RJ3 := ⟨⟨B.exec, B.bytes, hml, findClass_of_methodNamed B.named, fun w h => hts w (List.mem_cons_of_mem _ h)⟩, B.returns, B.notSynchronized⟩
  have e3 : σ.2 3 - σ.2 0 = g.2.2.1 3 - s.heap.size := by rw [hσ.1, hσ.2.2.2.1 3 (by decide)]
  have e4 : σ.2 4 - σ.2 1 = g.2.2.1 4 - hsl s.heap := by rw [hσ.2.1, hσ.2.2.2.1 4 (by decide)]
  have hR : RM g s (headSpec (ws_ yJ3_setLength cJ3_setLength 2 (Option.none : Option Jvm.ClassFile.FieldType)) ({ frames := 5, cells := σ.2 3 - σ.2 0, slots := σ.2 4 - σ.2 1, locals := 131 })).room (5) (131) := ⟨⟨Nat.le_refl _, Nat.le_refl _⟩, Nat.le_of_eq e3.symm, Nat.le_of_eq e4.symm⟩
  generalize (headSpec (ws_ yJ3_setLength cJ3_setLength 2 (Option.none : Option Jvm.ClassFile.FieldType)) ({ frames := 5, cells := σ.2 3 - σ.2 0, slots := σ.2 4 - σ.2 1, locals := 131 })).room = R at hR ⊢
  rw [e3, e4]
  have hI : CI g A s σ s.heap [] := ⟨hσ, va_S.rf, Nat.le_refl _⟩
  have hl := lv_entry ([.ref o, .int x1]) (n := 2) (Nat.le_of_ble_eq_true rfl)
  rw [lg_entry_eq]
  generalize (lg_sl ([.ref o, .int x1]) ++ List.replicate (2 - (lg_sl ([.ref o, .int x1])).length) Slot.unset).toArray = ls at hl ⊢
  have hl : lv_has ls 2 [(0, .ref o), (1, .int x1)] := hl
  obtain ⟨z, hz⟩ : ∃ z, z = (v, σ1) := ⟨_, rfl⟩
  rw [← hz] at h
  rw [show σ1 = z.2 by rw [hz]]
  clear hz v σ1
  refine W.narrow ?_
  unfold m_J3_setLength at h
  refine r_aload_n (x := some o) C.x C.b dJ3_setLength_0 rfl (lv_at hl 0 rfl) ?_
  refine lv_iload_n C.x C.b dJ3_setLength_1 rfl (lv_at hl 1 rfl) ?_
  refine cw_callSU (y := yJ2_setLength) (bytes := cJ2_setLength) (maxL := 2) (r := some o) (f := fun a_2 => m_J2_setLength a_2 x1 σ) 11 (fun _ => none) [.int x1] C hw hR hI hl.1 h (by decide) rfl (fun aa vv ss ee => k_J2_setLength l g A aa x1 σ vv ss ee) (va_cwSU 1 C.t (lw_app (mem5 q1649 q2708 q229 q1650 q129) (lw_meth q1651)) rfl rfl rfl (by decide +kernel) ⟨Nat.le_trans (Nat.le_of_ble_eq_true rfl) hR.f, Nat.le_trans (Nat.le_of_ble_eq_true rfl) hR.lo⟩) rfl rfl (Nat.le_of_ble_eq_true rfl) dJ3_setLength_2 (fun _ σ_1 H locs h hI => ?_)
  exact cw_vret C hI h dJ3_setLength_5

theorem k_J4_isLatin1 (l : Launch) (g : cG) (A : Nat → Prop) (o : Nat) (σ : cS) (v : Int32) (σ1 : cS) (h : m_J4_isLatin1 o σ = some (v, σ1)) : Met l yJ4_isLatin1 (ws_ yJ4_isLatin1 cJ4_isLatin1 1 (Option.some Jvm.ClassFile.FieldType.boolean)) ({ frames := 1, cells := σ.2 3 - σ.2 0, slots := σ.2 4 - σ.2 1, locals := 40 }) (CPc g A [.ref o] σ) (CQ g A (some (.int v)) σ1) (σ.2 3 - σ.2 0) (σ.2 4 - σ.2 1) A := by
  refine Met.ofW (cc := cJ4_isLatin1) (maxL := 1) (ret := (Option.some Jvm.ClassFile.FieldType.boolean)) (by decide) rfl ?_
  intro p e s m args below meth c s₁ B hml hv
  obtain ⟨rfl, hw, hσ⟩ := hv
  have hts := atoms_spec (ws := (ws_ yJ4_isLatin1 cJ4_isLatin1 1 (Option.some Jvm.ClassFile.FieldType.boolean))) B.pre
  have C : CX p m meth c s ([.ref o] : List Value).toArray cJ4_isLatin1 1 (Option.some Jvm.ClassFile.FieldType.boolean) RJ4 := ⟨⟨B.exec, B.bytes, hml, findClass_of_methodNamed B.named, fun w h => hts w (List.mem_cons_of_mem _ h)⟩, B.returns, B.notSynchronized⟩
  have e3 : σ.2 3 - σ.2 0 = g.2.2.1 3 - s.heap.size := by rw [hσ.1, hσ.2.2.2.1 3 (by decide)]
  have e4 : σ.2 4 - σ.2 1 = g.2.2.1 4 - hsl s.heap := by rw [hσ.2.1, hσ.2.2.2.1 4 (by decide)]
  have hR : RM g s (headSpec (ws_ yJ4_isLatin1 cJ4_isLatin1 1 (Option.some Jvm.ClassFile.FieldType.boolean)) ({ frames := 1, cells := σ.2 3 - σ.2 0, slots := σ.2 4 - σ.2 1, locals := 40 })).room (1) (40) := ⟨⟨Nat.le_refl _, Nat.le_refl _⟩, Nat.le_of_eq e3.symm, Nat.le_of_eq e4.symm⟩
  generalize (headSpec (ws_ yJ4_isLatin1 cJ4_isLatin1 1 (Option.some Jvm.ClassFile.FieldType.boolean)) ({ frames := 1, cells := σ.2 3 - σ.2 0, slots := σ.2 4 - σ.2 1, locals := 40 })).room = R at hR ⊢
  rw [e3, e4]
  have hI : CI g A s σ s.heap [] := ⟨hσ, va_S.rf, Nat.le_refl _⟩
  have hl := lv_entry ([.ref o]) (n := 1) (Nat.le_of_ble_eq_true rfl)
  rw [lg_entry_eq]
  generalize (lg_sl ([.ref o]) ++ List.replicate (1 - (lg_sl ([.ref o])).length) Slot.unset).toArray = ls at hl ⊢
  have hl : lv_has ls 1 [(0, .ref o)] := hl
  obtain ⟨z, hz⟩ : ∃ z, z = (v, σ1) := ⟨_, rfl⟩
  rw [← hz] at h
  rw [show v = z.1 by rw [hz], show σ1 = z.2 by rw [hz]]
  clear hz v σ1
  refine W.narrow ?_
  unfold m_J4_isLatin1 at h
  refine va_gets C.x C.b hw.2.1.1 hI.2.1 C.o (C.t _ q252) (fun _ h9 => h9) dJ4_isLatin1_0 ?_
  refine lv_if_eq (tgt := 17) C.x C.b dJ4_isLatin1_3 (by decide) (fun c_1 => ?_) (fun c_1 => ?_)
  · have h := ip c_1 h
    refine lv_iconst (v := 0) C.x C.b dJ4_isLatin1_17 (by decide) ?_
    exact cw_zret C hI h dJ4_isLatin1_18
  · have h := iN c_1 h
    refine r_aload_n (x := some o) C.x C.b dJ4_isLatin1_6 rfl (lv_at hl 0 rfl) ?_
    refine cw_gI (r := some o) 12 1 C hw hI h (by decide) rfl in_J4 (by decide) (C.t _ q601) (fun _ h9 => h9) dJ4_isLatin1_7 (fun v_2 h => ?_)
    refine lv_if_ne (tgt := 17) C.x C.b dJ4_isLatin1_10 (by decide) (fun c_3 => ?_) (fun c_3 => ?_)
    · have h := iN c_3 h
      refine lv_iconst (v := 0) C.x C.b dJ4_isLatin1_17 (by decide) ?_
      exact cw_zret C hI h dJ4_isLatin1_18
    · have h := ip c_3 h
      refine lv_iconst (v := 1) C.x C.b dJ4_isLatin1_13 (by decide) ?_
      refine lv_goto (tgt := 18) C.x C.b dJ4_isLatin1_14 (by decide) ?_
      exact cw_zret C hI h dJ4_isLatin1_18

theorem k_J6_charAt (l : Launch) (g : cG) (A : Nat → Prop) (x0 : Option Nat) (x1 : Int32) (σ : cS) (v : Int32) (σ1 : cS) (h : m_J6_charAt x0 x1 σ = some (v, σ1)) : Met l yJ6_charAt (ws_ yJ6_charAt cJ6_charAt 2 (Option.some Jvm.ClassFile.FieldType.char)) ({ frames := 3, cells := σ.2 3 - σ.2 0, slots := σ.2 4 - σ.2 1, locals := 83 }) (CPc g A [va_rf x0, .int x1] σ) (CQ g A (some (.int v)) σ1) (σ.2 3 - σ.2 0) (σ.2 4 - σ.2 1) A := by
  refine Met.ofW (cc := cJ6_charAt) (maxL := 2) (ret := (Option.some Jvm.ClassFile.FieldType.char)) (by decide) rfl ?_
  intro p e s m args below meth c s₁ B hml hv
  obtain ⟨rfl, hw, hσ⟩ := hv
  have hts := atoms_spec (ws := (ws_ yJ6_charAt cJ6_charAt 2 (Option.some Jvm.ClassFile.FieldType.char))) B.pre
  have C : CX p m meth c s ([va_rf x0, .int x1] : List Value).toArray cJ6_charAt 2 (Option.some Jvm.ClassFile.FieldType.char) RJ6 := ⟨⟨B.exec, B.bytes, hml, findClass_of_methodNamed B.named, fun w h => hts w (List.mem_cons_of_mem _ h)⟩, B.returns, B.notSynchronized⟩
  have e3 : σ.2 3 - σ.2 0 = g.2.2.1 3 - s.heap.size := by rw [hσ.1, hσ.2.2.2.1 3 (by decide)]
  have e4 : σ.2 4 - σ.2 1 = g.2.2.1 4 - hsl s.heap := by rw [hσ.2.1, hσ.2.2.2.1 4 (by decide)]
  have hR : RM g s (headSpec (ws_ yJ6_charAt cJ6_charAt 2 (Option.some Jvm.ClassFile.FieldType.char)) ({ frames := 3, cells := σ.2 3 - σ.2 0, slots := σ.2 4 - σ.2 1, locals := 83 })).room (3) (83) := ⟨⟨Nat.le_refl _, Nat.le_refl _⟩, Nat.le_of_eq e3.symm, Nat.le_of_eq e4.symm⟩
  generalize (headSpec (ws_ yJ6_charAt cJ6_charAt 2 (Option.some Jvm.ClassFile.FieldType.char)) ({ frames := 3, cells := σ.2 3 - σ.2 0, slots := σ.2 4 - σ.2 1, locals := 83 })).room = R at hR ⊢
  rw [e3, e4]
  have hI : CI g A s σ s.heap [] := ⟨hσ, va_S.rf, Nat.le_refl _⟩
  have hlen : (lg_sl ([va_rf x0, .int x1])).length ≤ 2 := by rcases x0 with _ | x0 <;> exact Nat.le_of_ble_eq_true rfl
  have hl := lv_entry ([va_rf x0, .int x1]) (n := 2) hlen
  rw [lg_entry_eq]
  generalize (lg_sl ([va_rf x0, .int x1]) ++ List.replicate (2 - (lg_sl ([va_rf x0, .int x1])).length) Slot.unset).toArray = ls at hl ⊢
  have hl : lv_has ls 2 [(0, va_rf x0), (1, .int x1)] := by clear hI hw h hσ e3 e4 hR C hts B; rcases x0 with _ | x0 <;> exact hl
  obtain ⟨z, hz⟩ : ∃ z, z = (v, σ1) := ⟨_, rfl⟩
  rw [← hz] at h
  rw [show v = z.1 by rw [hz], show σ1 = z.2 by rw [hz]]
  clear hz v σ1
  refine W.narrow ?_
  unfold m_J6_charAt at h
  refine lv_iload_n C.x C.b dJ6_charAt_0 rfl (lv_at hl 1 rfl) ?_
  refine r_aload_n (x := x0) C.x C.b dJ6_charAt_1 rfl (lv_at hl 0 rfl) ?_
  refine cw_aL (r := x0) C hw hI h dJ6_charAt_2 (fun v_1 h => ?_)
  refine cw_callS (y := yJ4_checkIndex) (bytes := cJ4_checkIndex) (maxL := 2) (fun _ => none) [.int x1, .int v_1] C hw hR hI hl.1 h (fun vv ss ee => k_J4_checkIndex l g A x1 v_1 σ vv ss ee) (va_cwS 2 C.t (lw_S q314 q315 q131 q316) rfl rfl rfl (by decide +kernel) ⟨Nat.le_trans (Nat.le_of_ble_eq_true rfl) hR.f, Nat.le_trans (Nat.le_of_ble_eq_true rfl) hR.lo⟩) rfl rfl (Nat.le_of_ble_eq_true rfl) dJ6_charAt_3 (fun _ σ_2 H locs h hI => ?_)
  refine r_aload_n (x := x0) C.x C.b dJ6_charAt_6 rfl (lv_at hl 0 rfl) ?_
  refine lv_iload_n C.x C.b dJ6_charAt_7 rfl (lv_at hl 1 rfl) ?_
  refine cw_bld (r := x0) C hw hI h dJ6_charAt_8 (fun v_3 h => ?_)
  refine lv_sipush (v := 255) C.x C.b dJ6_charAt_9 (by decide) ?_
  refine lv_iand C.x C.b dJ6_charAt_12 ?_
  refine lv_i2c C.x C.b dJ6_charAt_13 rfl ?_
  exact cw_cret C hI h dJ6_charAt_14

theorem k_J4_charAt (l : Launch) (g : cG) (A : Nat → Prop) (o : Nat) (x1 : Int32) (σ : cS) (v : Int32) (σ1 : cS) (h : m_J4_charAt o x1 σ = some (v, σ1)) : Met l yJ4_charAt (ws_ yJ4_charAt cJ4_charAt 2 (Option.some Jvm.ClassFile.FieldType.char)) ({ frames := 4, cells := σ.2 3 - σ.2 0, slots := σ.2 4 - σ.2 1, locals := 104 }) (CPc g A [.ref o, .int x1] σ) (CQ g A (some (.int v)) σ1) (σ.2 3 - σ.2 0) (σ.2 4 - σ.2 1) A := by
  refine Met.ofW (cc := cJ4_charAt) (maxL := 2) (ret := (Option.some Jvm.ClassFile.FieldType.char)) (by decide) rfl ?_
  intro p e s m args below meth c s₁ B hml hv
  obtain ⟨rfl, hw, hσ⟩ := hv
  have hts := atoms_spec (ws := (ws_ yJ4_charAt cJ4_charAt 2 (Option.some Jvm.ClassFile.FieldType.char))) B.pre
  have C : CX p m meth c s ([.ref o, .int x1] : List Value).toArray cJ4_charAt 2 (Option.some Jvm.ClassFile.FieldType.char) RJ4 := ⟨⟨B.exec, B.bytes, hml, findClass_of_methodNamed B.named, fun w h => hts w (List.mem_cons_of_mem _ h)⟩, B.returns, B.notSynchronized⟩
  have e3 : σ.2 3 - σ.2 0 = g.2.2.1 3 - s.heap.size := by rw [hσ.1, hσ.2.2.2.1 3 (by decide)]
  have e4 : σ.2 4 - σ.2 1 = g.2.2.1 4 - hsl s.heap := by rw [hσ.2.1, hσ.2.2.2.1 4 (by decide)]
  have hR : RM g s (headSpec (ws_ yJ4_charAt cJ4_charAt 2 (Option.some Jvm.ClassFile.FieldType.char)) ({ frames := 4, cells := σ.2 3 - σ.2 0, slots := σ.2 4 - σ.2 1, locals := 104 })).room (4) (104) := ⟨⟨Nat.le_refl _, Nat.le_refl _⟩, Nat.le_of_eq e3.symm, Nat.le_of_eq e4.symm⟩
  generalize (headSpec (ws_ yJ4_charAt cJ4_charAt 2 (Option.some Jvm.ClassFile.FieldType.char)) ({ frames := 4, cells := σ.2 3 - σ.2 0, slots := σ.2 4 - σ.2 1, locals := 104 })).room = R at hR ⊢
  rw [e3, e4]
  have hI : CI g A s σ s.heap [] := ⟨hσ, va_S.rf, Nat.le_refl _⟩
  have hl := lv_entry ([.ref o, .int x1]) (n := 2) (Nat.le_of_ble_eq_true rfl)
  rw [lg_entry_eq]
  generalize (lg_sl ([.ref o, .int x1]) ++ List.replicate (2 - (lg_sl ([.ref o, .int x1])).length) Slot.unset).toArray = ls at hl ⊢
  have hl : lv_has ls 2 [(0, .ref o), (1, .int x1)] := hl
  obtain ⟨z, hz⟩ : ∃ z, z = (v, σ1) := ⟨_, rfl⟩
  rw [← hz] at h
  rw [show v = z.1 by rw [hz], show σ1 = z.2 by rw [hz]]
  clear hz v σ1
  refine W.narrow ?_
  unfold m_J4_charAt at h
  refine r_aload_n (x := some o) C.x C.b dJ4_charAt_0 rfl (lv_at hl 0 rfl) ?_
  refine cw_callV (y := yJ4_isLatin1) (bytes := cJ4_isLatin1) (maxL := 1) (r := some o) (f := fun a_3 => m_J4_isLatin1 a_3 σ) 12 (fun v => some (.int v)) [] C hw hR hI hl.1 h (by decide) rfl (fun aa vv ss ee => k_J4_isLatin1 l g A aa σ vv ss ee) (cwV 0 C.t (lw_V q307 q308 q309 q131 q310) rfl rfl rfl (by decide +kernel) ⟨Nat.le_trans (Nat.le_of_ble_eq_true rfl) hR.f, Nat.le_trans (Nat.le_of_ble_eq_true rfl) hR.lo⟩) rfl rfl (Nat.le_of_ble_eq_true rfl) dJ4_charAt_1 (fun v_1 σ_2 H locs h hI => ?_)
  refine lv_if_eq (tgt := 16) C.x C.b dJ4_charAt_4 (by decide) (fun c_4 => ?_) (fun c_4 => ?_)
  · have h := ip c_4 h
    refine r_aload_n (x := some o) C.x C.b dJ4_charAt_16 rfl (lv_at hl 0 rfl) ?_
    refine cw_gR (r := some o) 12 0 C hw hI h (by decide) rfl in_J4 (by decide) (C.t _ q600) (fun _ h9 => h9) dJ4_charAt_17 (fun v_5 h => ?_)
    refine lv_iload_n C.x C.b dJ4_charAt_20 rfl (lv_at hl 1 rfl) ?_
    cases h
  · have h := iN c_4 h
    refine r_aload_n (x := some o) C.x C.b dJ4_charAt_7 rfl (lv_at hl 0 rfl) ?_
    refine cw_gR (r := some o) 12 0 C hw hI h (by decide) rfl in_J4 (by decide) (C.t _ q600) (fun _ h9 => h9) dJ4_charAt_8 (fun v_6 h => ?_)
    refine lv_iload_n C.x C.b dJ4_charAt_11 rfl (lv_at hl 1 rfl) ?_
    refine cw_callS (y := yJ6_charAt) (bytes := cJ6_charAt) (maxL := 2) (fun v => some (.int v)) [va_rf v_6, .int x1] C hw hR hI hl.1 h (fun vv ss ee => k_J6_charAt l g A v_6 x1 σ_2 vv ss ee) (va_cwS 2 C.t (lw_S q311 q312 q134 q313) rfl rfl rfl (by decide +kernel) ⟨Nat.le_trans (Nat.le_of_ble_eq_true rfl) hR.f, Nat.le_trans (Nat.le_of_ble_eq_true rfl) hR.lo⟩) rfl rfl (Nat.le_of_ble_eq_true rfl) dJ4_charAt_12 (fun v_7 σ_8 H locs h hI => ?_)
    exact cw_cret C hI h dJ4_charAt_15

theorem k_J4_checkBoundsBeginEnd (l : Launch) (g : cG) (A : Nat → Prop) (x0 : Int32) (x1 : Int32) (x2 : Int32) (σ : cS) (v : Int32) (σ1 : cS) (h : m_J4_checkBoundsBeginEnd x0 x1 x2 σ = some (v, σ1)) : Met l yJ4_checkBoundsBeginEnd (ws_ yJ4_checkBoundsBeginEnd cJ4_checkBoundsBeginEnd 3 (Option.none : Option Jvm.ClassFile.FieldType)) ({ frames := 2, cells := σ.2 3 - σ.2 0, slots := σ.2 4 - σ.2 1, locals := 63 }) (CPc g A [.int x0, .int x1, .int x2] σ) (CQ g A (none) σ1) (σ.2 3 - σ.2 0) (σ.2 4 - σ.2 1) A := by
  refine Met.ofW (cc := cJ4_checkBoundsBeginEnd) (maxL := 3) (ret := (Option.none : Option Jvm.ClassFile.FieldType)) (by decide) rfl ?_
  intro p e s m args below meth c s₁ B hml hv
  obtain ⟨rfl, hw, hσ⟩ := hv
  have hts := atoms_spec (ws := (ws_ yJ4_checkBoundsBeginEnd cJ4_checkBoundsBeginEnd 3 (Option.none : Option Jvm.ClassFile.FieldType))) B.pre
  have C : CX p m meth c s ([.int x0, .int x1, .int x2] : List Value).toArray cJ4_checkBoundsBeginEnd 3 (Option.none : Option Jvm.ClassFile.FieldType) RJ4 := ⟨⟨B.exec, B.bytes, hml, findClass_of_methodNamed B.named, fun w h => hts w (List.mem_cons_of_mem _ h)⟩, B.returns, B.notSynchronized⟩
  have e3 : σ.2 3 - σ.2 0 = g.2.2.1 3 - s.heap.size := by rw [hσ.1, hσ.2.2.2.1 3 (by decide)]
  have e4 : σ.2 4 - σ.2 1 = g.2.2.1 4 - hsl s.heap := by rw [hσ.2.1, hσ.2.2.2.1 4 (by decide)]
  have hR : RM g s (headSpec (ws_ yJ4_checkBoundsBeginEnd cJ4_checkBoundsBeginEnd 3 (Option.none : Option Jvm.ClassFile.FieldType)) ({ frames := 2, cells := σ.2 3 - σ.2 0, slots := σ.2 4 - σ.2 1, locals := 63 })).room (2) (63) := ⟨⟨Nat.le_refl _, Nat.le_refl _⟩, Nat.le_of_eq e3.symm, Nat.le_of_eq e4.symm⟩
  generalize (headSpec (ws_ yJ4_checkBoundsBeginEnd cJ4_checkBoundsBeginEnd 3 (Option.none : Option Jvm.ClassFile.FieldType)) ({ frames := 2, cells := σ.2 3 - σ.2 0, slots := σ.2 4 - σ.2 1, locals := 63 })).room = R at hR ⊢
  rw [e3, e4]
  have hI : CI g A s σ s.heap [] := ⟨hσ, va_S.rf, Nat.le_refl _⟩
  have hl := lv_entry ([.int x0, .int x1, .int x2]) (n := 3) (Nat.le_of_ble_eq_true rfl)
  rw [lg_entry_eq]
  generalize (lg_sl ([.int x0, .int x1, .int x2]) ++ List.replicate (3 - (lg_sl ([.int x0, .int x1, .int x2])).length) Slot.unset).toArray = ls at hl ⊢
  have hl : lv_has ls 3 [(0, .int x0), (1, .int x1), (2, .int x2)] := hl
  obtain ⟨z, hz⟩ : ∃ z, z = (v, σ1) := ⟨_, rfl⟩
  rw [← hz] at h
  rw [show σ1 = z.2 by rw [hz]]
  clear hz v σ1
  refine W.narrow ?_
  unfold m_J4_checkBoundsBeginEnd at h
  refine lv_iload_n C.x C.b dJ4_checkBoundsBeginEnd_0 rfl (lv_at hl 0 rfl) ?_
  refine lv_iload_n C.x C.b dJ4_checkBoundsBeginEnd_1 rfl (lv_at hl 1 rfl) ?_
  refine lv_iload_n C.x C.b dJ4_checkBoundsBeginEnd_2 rfl (lv_at hl 2 rfl) ?_
  refine cw_gstF (ref := "") C hw hI q317 dJ4_checkBoundsBeginEnd_3 ?_
  refine cw_callS (y := yJ7_checkFromToIndex) (bytes := cJ7_checkFromToIndex) (maxL := 4) (fun v => some (.int v)) [.int x0, .int x1, .int x2, va_rf (opk (σ.2 9))] C hw hR hI hl.1 h (fun vv ss ee => k_J7_checkFromToIndex l g A x0 x1 x2 (opk (σ.2 9)) σ vv ss ee) (va_cwS 4 C.t (lw_S q378 q379 q135 q380) rfl rfl rfl (by decide +kernel) ⟨Nat.le_trans (Nat.le_of_ble_eq_true rfl) hR.f, Nat.le_trans (Nat.le_of_ble_eq_true rfl) hR.lo⟩) rfl rfl (Nat.le_of_ble_eq_true rfl) dJ4_checkBoundsBeginEnd_6 (fun v_1 σ_2 H locs h hI => ?_)
  refine lv_pop C.x C.b dJ4_checkBoundsBeginEnd_9 rfl ?_
  exact cw_vret C hI h dJ4_checkBoundsBeginEnd_10

end
