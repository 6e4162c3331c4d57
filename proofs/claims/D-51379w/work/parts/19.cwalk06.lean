/-! THE CLASS' WALKS 6: printed by gencl.py -/
section
variable {p : Program} {l : Launch} {e : Env} {R : Room} {s : State} {m : MethodId} {args : Array Value} {below : List Frame} {meth : Method} {c : Code} {g : cG} {A : Nat → Prop}
set_option maxRecDepth 100000
theorem w_J14_getChars_104 {z : Int32 × cS} (C : CX p m meth c s args cJ14_getChars 7 (Option.some Jvm.ClassFile.FieldType.int) RJ14) (hw : WKc g A s s.heap) (hR : RM g s R (1) (40))  : ∀ (x2 : Option Nat) (x5 : Int32) (x6 : Int32) (σ : cS) (H : Heap) (locs : List Loc) (ls : Array Slot), b_J14_getChars_104 x2 x5 x6 σ = some z → CI g A s σ H locs → lv_has ls 7 [(2, va_rf x2), (5, .int x5), (6, .int x6)] → W p l e R s m args below meth c H locs (H.size - s.heap.size) (hsl H - hsl s.heap) (MQ below (CQ g A (some (.int z.1)) z.2) args s (g.2.2.1 3 - s.heap.size) (g.2.2.1 4 - hsl s.heap) A) (F0 m 104 ls []) := by
  intro x2 x5 x6 σ H locs ls h hI hl
  unfold b_J14_getChars_104 at h
  refine lv_iload C.x C.b dJ14_getChars_104 (lv_at hl 2 rfl) ?_
  refine lv_if_eq (tgt := 118) C.x C.b dJ14_getChars_106 (by decide) (fun c_1 => ?_) (fun c_1 => ?_)
  · have h := ip c_1 h
    refine lv_iload C.x C.b dJ14_getChars_118 (lv_at hl 1 rfl) ?_
    exact cw_iret C hI h dJ14_getChars_120
  · have h := iN c_1 h
    refine r_aload_n (x := x2) C.x C.b dJ14_getChars_109 rfl (lv_at hl 0 rfl) ?_
    obtain ⟨x5_2, e_, h⟩ := nm_s h
    refine lv_iinc (v := x5_2) (lv' := [(5, .int x5_2), (2, va_rf x2), (6, .int x6)]) C.x C.b dJ14_getChars_110 hl (k := 1) rfl e_.symm (by decide) (by first | (simp [List.filter, cat_rf, cat_i, cat_a, cat_n, cat_l, cat_f, cat_d]; done) | (simp [List.filter, cat_rf, cat_i, cat_a, cat_n, cat_l, cat_f, cat_d]; rfl)) (fun ls hl => ?_)
    refine lv_iload C.x C.b dJ14_getChars_113 (lv_at hl 0 rfl) ?_
    refine lv_bipush (v := 45) C.x C.b dJ14_getChars_115 (by decide) ?_
    refine cw_bst (r := x2) C hw hI h dJ14_getChars_117 (fun σ_3 H locs h hI => ?_)
    refine lv_iload C.x C.b dJ14_getChars_118 (lv_at hl 0 rfl) ?_
    exact cw_iret C hI h dJ14_getChars_120

theorem w_J14_getChars_22 {z : Int32 × cS} (C : CX p m meth c s args cJ14_getChars 7 (Option.some Jvm.ClassFile.FieldType.int) RJ14) (hw : WKc g A s s.heap) (hR : RM g s R (1) (40))  : ∀ (n : Nat) (x0 : Int32) (x2 : Option Nat) (x5 : Int32) (x6 : Int32) (σ : cS) (H : Heap) (locs : List Loc) (ls : Array Slot), b_J14_getChars_22 n x0 x2 x5 x6 σ = some z → CI g A s σ H locs → lv_has ls 7 [(0, .int x0), (2, va_rf x2), (5, .int x5), (6, .int x6)] → W p l e R s m args below meth c H locs (H.size - s.heap.size) (hsl H - hsl s.heap) (MQ below (CQ g A (some (.int z.1)) z.2) args s (g.2.2.1 3 - s.heap.size) (g.2.2.1 4 - hsl s.heap) A) (F0 m 22 ls []) := by
  intro n
  induction n with
  | zero =>
    intro x0 x2 x5 x6 σ H locs ls h
    cases h
  | succ n ih =>
    intro x0 x2 x5 x6 σ H locs ls h hI hl
    rw [b_J14_getChars_22] at h
    refine lv_iload_n C.x C.b dJ14_getChars_22 rfl (lv_at hl 0 rfl) ?_
    refine lv_bipush (v := -100) C.x C.b dJ14_getChars_23 (by decide) ?_
    refine lv_icmp_gt (tgt := 72) C.x C.b dJ14_getChars_25 (by decide) (fun c_1 => ?_) (fun c_1 => ?_)
    · have h := ip c_1 h
      refine r_aload_n (x := x2) C.x C.b dJ14_getChars_72 rfl (lv_at hl 1 rfl) ?_
      obtain ⟨x5_2, e_, h⟩ := nm_s h
      refine lv_iinc (v := x5_2) (lv' := [(5, .int x5_2), (0, .int x0), (2, va_rf x2), (6, .int x6)]) C.x C.b dJ14_getChars_73 hl (k := 2) rfl e_.symm (by decide) (by first | (simp [List.filter, cat_rf, cat_i, cat_a, cat_n, cat_l, cat_f, cat_d]; done) | (simp [List.filter, cat_rf, cat_i, cat_a, cat_n, cat_l, cat_f, cat_d]; rfl)) (fun ls hl => ?_)
      refine lv_iload C.x C.b dJ14_getChars_76 (lv_at hl 0 rfl) ?_
      refine cw_gst (Cn := "java/lang/Integer") (n := "DigitOnes") (d := "[B") (k := 18) C hw hI (List.mem_of_getElem? (i := 8) rfl) (by decide) q494 rfl dJ14_getChars_78 ?_
      refine lv_iload_n C.x C.b dJ14_getChars_81 rfl (lv_at hl 1 rfl) ?_
      refine lv_ineg C.x C.b dJ14_getChars_82 ?_
      refine cw_bld (r := some (σ.2 18)) C hw hI h dJ14_getChars_83 (fun v_3 h => ?_)
      refine cw_bst (r := x2) C hw hI h dJ14_getChars_84 (fun σ_4 H locs h hI => ?_)
      refine lv_iload_n C.x C.b dJ14_getChars_85 rfl (lv_at hl 1 rfl) ?_
      refine lv_bipush (v := -9) C.x C.b dJ14_getChars_86 (by decide) ?_
      refine lv_icmp_ge (tgt := 104) C.x C.b dJ14_getChars_88 (by decide) (fun c_5 => ?_) (fun c_5 => ?_)
      · have h := ip c_5 h
        exact w_J14_getChars_104 C hw hR x2 x5_2 x6 _ _ _ _ h hI (lv_sub hl [2, 0, 3] rfl)
      · have h := iN c_5 h
        refine r_aload_n (x := x2) C.x C.b dJ14_getChars_91 rfl (lv_at hl 2 rfl) ?_
        obtain ⟨x5_6, e_, h⟩ := nm_s h
        refine lv_iinc (v := x5_6) (lv' := [(5, .int x5_6), (0, .int x0), (2, va_rf x2), (6, .int x6)]) C.x C.b dJ14_getChars_92 hl (k := 0) rfl e_.symm (by decide) (by first | (simp [List.filter, cat_rf, cat_i, cat_a, cat_n, cat_l, cat_f, cat_d]; done) | (simp [List.filter, cat_rf, cat_i, cat_a, cat_n, cat_l, cat_f, cat_d]; rfl)) (fun ls hl => ?_)
        refine lv_iload C.x C.b dJ14_getChars_95 (lv_at hl 0 rfl) ?_
        refine cw_gst (Cn := "java/lang/Integer") (n := "DigitTens") (d := "[B") (k := 17) C hw hI (List.mem_of_getElem? (i := 7) rfl) (by decide) q496 rfl dJ14_getChars_97 ?_
        refine lv_iload_n C.x C.b dJ14_getChars_100 rfl (lv_at hl 1 rfl) ?_
        refine lv_ineg C.x C.b dJ14_getChars_101 ?_
        refine cw_bld (r := some (σ_4.2 17)) C hw hI h dJ14_getChars_102 (fun v_7 h => ?_)
        refine cw_bst (r := x2) C hw hI h dJ14_getChars_103 (fun σ_8 H locs h hI => ?_)
        exact w_J14_getChars_104 C hw hR x2 x5_6 x6 _ _ _ _ h hI (lv_sub hl [2, 0, 3] rfl)
    · have h := iN c_1 h
      refine lv_iload_n C.x C.b dJ14_getChars_28 rfl (lv_at hl 0 rfl) ?_
      refine lv_bipush (v := 100) C.x C.b dJ14_getChars_29 (by decide) ?_
      refine lv_idiv C.x C.b dJ14_getChars_31 (by decide) ?_
      refine tw_lt h (fun x3_9 h => ?_)
      refine lv_istore_n (i := 3) (lv' := [(3, .int x3_9), (0, .int x0), (2, va_rf x2), (5, .int x5), (6, .int x6)]) C.x C.b dJ14_getChars_32 rfl hl (by decide) (by first | (simp [List.filter, cat_rf, cat_i, cat_a, cat_n, cat_l, cat_f, cat_d]; done) | (simp [List.filter, cat_rf, cat_i, cat_a, cat_n, cat_l, cat_f, cat_d]; rfl)) (fun ls hl => ?_)
      refine lv_iload_n C.x C.b dJ14_getChars_33 rfl (lv_at hl 0 rfl) ?_
      refine lv_bipush (v := 100) C.x C.b dJ14_getChars_34 (by decide) ?_
      refine lv_imul C.x C.b dJ14_getChars_36 ?_
      refine lv_iload_n C.x C.b dJ14_getChars_37 rfl (lv_at hl 1 rfl) ?_
      refine lv_isub C.x C.b dJ14_getChars_38 ?_
      refine tw_lt h (fun x4_10 h => ?_)
      refine lv_istore (i := 4) (lv' := [(4, .int x4_10), (3, .int x3_9), (0, .int x0), (2, va_rf x2), (5, .int x5), (6, .int x6)]) C.x C.b dJ14_getChars_39 hl (by decide) (by first | (simp [List.filter, cat_rf, cat_i, cat_a, cat_n, cat_l, cat_f, cat_d]; done) | (simp [List.filter, cat_rf, cat_i, cat_a, cat_n, cat_l, cat_f, cat_d]; rfl)) (fun ls hl => ?_)
      refine lv_iload_n C.x C.b dJ14_getChars_41 rfl (lv_at hl 1 rfl) ?_
      refine lv_istore_n (i := 0) (lv' := [(0, .int x3_9), (4, .int x4_10), (3, .int x3_9), (2, va_rf x2), (5, .int x5), (6, .int x6)]) C.x C.b dJ14_getChars_42 rfl hl (by decide) (by first | (simp [List.filter, cat_rf, cat_i, cat_a, cat_n, cat_l, cat_f, cat_d]; done) | (simp [List.filter, cat_rf, cat_i, cat_a, cat_n, cat_l, cat_f, cat_d]; rfl)) (fun ls hl => ?_)
      refine r_aload_n (x := x2) C.x C.b dJ14_getChars_43 rfl (lv_at hl 3 rfl) ?_
      obtain ⟨x5_11, e_, h⟩ := nm_s h
      refine lv_iinc (v := x5_11) (lv' := [(5, .int x5_11), (0, .int x3_9), (4, .int x4_10), (3, .int x3_9), (2, va_rf x2), (6, .int x6)]) C.x C.b dJ14_getChars_44 hl (k := 4) rfl e_.symm (by decide) (by first | (simp [List.filter, cat_rf, cat_i, cat_a, cat_n, cat_l, cat_f, cat_d]; done) | (simp [List.filter, cat_rf, cat_i, cat_a, cat_n, cat_l, cat_f, cat_d]; rfl)) (fun ls hl => ?_)
      refine lv_iload C.x C.b dJ14_getChars_47 (lv_at hl 0 rfl) ?_
      refine cw_gst (Cn := "java/lang/Integer") (n := "DigitOnes") (d := "[B") (k := 18) C hw hI (List.mem_of_getElem? (i := 8) rfl) (by decide) q494 rfl dJ14_getChars_49 ?_
      refine lv_iload C.x C.b dJ14_getChars_52 (lv_at hl 2 rfl) ?_
      refine cw_bld (r := some (σ.2 18)) C hw hI h dJ14_getChars_54 (fun v_12 h => ?_)
      refine cw_bst (r := x2) C hw hI h dJ14_getChars_55 (fun σ_13 H locs h hI => ?_)
      refine r_aload_n (x := x2) C.x C.b dJ14_getChars_56 rfl (lv_at hl 4 rfl) ?_
      obtain ⟨x5_14, e_, h⟩ := nm_s h
      refine lv_iinc (v := x5_14) (lv' := [(5, .int x5_14), (0, .int x3_9), (4, .int x4_10), (3, .int x3_9), (2, va_rf x2), (6, .int x6)]) C.x C.b dJ14_getChars_57 hl (k := 0) rfl e_.symm (by decide) (by first | (simp [List.filter, cat_rf, cat_i, cat_a, cat_n, cat_l, cat_f, cat_d]; done) | (simp [List.filter, cat_rf, cat_i, cat_a, cat_n, cat_l, cat_f, cat_d]; rfl)) (fun ls hl => ?_)
      refine lv_iload C.x C.b dJ14_getChars_60 (lv_at hl 0 rfl) ?_
      refine cw_gst (Cn := "java/lang/Integer") (n := "DigitTens") (d := "[B") (k := 17) C hw hI (List.mem_of_getElem? (i := 7) rfl) (by decide) q496 rfl dJ14_getChars_62 ?_
      refine lv_iload C.x C.b dJ14_getChars_65 (lv_at hl 2 rfl) ?_
      refine cw_bld (r := some (σ_13.2 17)) C hw hI h dJ14_getChars_67 (fun v_15 h => ?_)
      refine cw_bst (r := x2) C hw hI h dJ14_getChars_68 (fun σ_16 H locs h hI => ?_)
      refine lv_goto (tgt := 22) C.x C.b dJ14_getChars_69 (by decide) ?_
      exact ih x3_9 x2 x5_14 x6 _ _ _ _ h hI (lv_sub hl [1, 4, 0, 5] rfl)

theorem w_J14_getChars_12 {z : Int32 × cS} (C : CX p m meth c s args cJ14_getChars 7 (Option.some Jvm.ClassFile.FieldType.int) RJ14) (hw : WKc g A s s.heap) (hR : RM g s R (1) (40))  : ∀ (x0 : Int32) (x2 : Option Nat) (x5 : Int32) (s0 : Int32) (σ : cS) (H : Heap) (locs : List Loc) (ls : Array Slot), b_J14_getChars_12 x0 x2 x5 s0 σ = some z → CI g A s σ H locs → lv_has ls 7 [(0, .int x0), (2, va_rf x2), (5, .int x5)] → W p l e R s m args below meth c H locs (H.size - s.heap.size) (hsl H - hsl s.heap) (MQ below (CQ g A (some (.int z.1)) z.2) args s (g.2.2.1 3 - s.heap.size) (g.2.2.1 4 - hsl s.heap) A) (F0 m 12 ls [.int s0]) := by
  intro x0 x2 x5 s0 σ H locs ls h hI hl
  unfold b_J14_getChars_12 at h
  refine lv_istore (i := 6) (lv' := [(6, .int s0), (0, .int x0), (2, va_rf x2), (5, .int x5)]) C.x C.b dJ14_getChars_12 hl (by decide) (by first | (simp [List.filter, cat_rf, cat_i, cat_a, cat_n, cat_l, cat_f, cat_d]; done) | (simp [List.filter, cat_rf, cat_i, cat_a, cat_n, cat_l, cat_f, cat_d]; rfl)) (fun ls hl => ?_)
  refine lv_iload C.x C.b dJ14_getChars_14 (lv_at hl 0 rfl) ?_
  refine lv_if_ne (tgt := 22) C.x C.b dJ14_getChars_16 (by decide) (fun c_1 => ?_) (fun c_1 => ?_)
  · have h := iN c_1 h
    exact w_J14_getChars_22 C hw hR _ x0 x2 x5 s0 _ _ _ _ h hI (lv_sub hl [1, 2, 3, 0] rfl)
  · have h := ip c_1 h
    refine lv_iload_n C.x C.b dJ14_getChars_19 rfl (lv_at hl 1 rfl) ?_
    refine lv_ineg C.x C.b dJ14_getChars_20 ?_
    refine lv_istore_n (i := 0) (lv' := [(0, .int (-x0)), (6, .int s0), (2, va_rf x2), (5, .int x5)]) C.x C.b dJ14_getChars_21 rfl hl (by decide) (by first | (simp [List.filter, cat_rf, cat_i, cat_a, cat_n, cat_l, cat_f, cat_d]; done) | (simp [List.filter, cat_rf, cat_i, cat_a, cat_n, cat_l, cat_f, cat_d]; rfl)) (fun ls hl => ?_)
    exact w_J14_getChars_22 C hw hR _ (-x0) x2 x5 s0 _ _ _ _ h hI (lv_sub hl [0, 2, 3, 1] rfl)

theorem k_J14_getChars (l : Launch) (g : cG) (A : Nat → Prop) (x0 : Int32) (x1 : Int32) (x2 : Option Nat) (σ : cS) (v : Int32) (σ1 : cS) (h : m_J14_getChars x0 x1 x2 σ = some (v, σ1)) : Met l yJ14_getChars (ws_ yJ14_getChars cJ14_getChars 7 (Option.some Jvm.ClassFile.FieldType.int)) ({ frames := 1, cells := σ.2 3 - σ.2 0, slots := σ.2 4 - σ.2 1, locals := 40 }) (CPc g A [.int x0, .int x1, va_rf x2] σ) (CQ g A (some (.int v)) σ1) (σ.2 3 - σ.2 0) (σ.2 4 - σ.2 1) A := by
  refine Met.ofW (cc := cJ14_getChars) (maxL := 7) (ret := (Option.some Jvm.ClassFile.FieldType.int)) (by decide) rfl ?_
  intro p e s m args below meth c s₁ B hml hv
  obtain ⟨rfl, hw, hσ⟩ := hv
  have hts := atoms_spec (ws := (ws_ yJ14_getChars cJ14_getChars 7 (Option.some Jvm.ClassFile.FieldType.int))) B.pre
  have C : CX p m meth c s ([.int x0, .int x1, va_rf x2] : List Value).toArray cJ14_getChars 7 (Option.some Jvm.ClassFile.FieldType.int) RJ14 := ⟨⟨B.exec, B.bytes, hml, findClass_of_methodNamed B.named, fun w h => hts w (List.mem_cons_of_mem _ h)⟩, B.returns, B.notSynchronized⟩
  have e3 : σ.2 3 - σ.2 0 = g.2.2.1 3 - s.heap.size := by rw [hσ.1, hσ.2.2.2.1 3 (by decide)]
  have e4 : σ.2 4 - σ.2 1 = g.2.2.1 4 - hsl s.heap := by rw [hσ.2.1, hσ.2.2.2.1 4 (by decide)]
  have hR : RM g s (headSpec (ws_ yJ14_getChars cJ14_getChars 7 (Option.some Jvm.ClassFile.FieldType.int)) ({ frames := 1, cells := σ.2 3 - σ.2 0, slots := σ.2 4 - σ.2 1, locals := 40 })).room (1) (40) := ⟨⟨Nat.le_refl _, Nat.le_refl _⟩, Nat.le_of_eq e3.symm, Nat.le_of_eq e4.symm⟩
  generalize (headSpec (ws_ yJ14_getChars cJ14_getChars 7 (Option.some Jvm.ClassFile.FieldType.int)) ({ frames := 1, cells := σ.2 3 - σ.2 0, slots := σ.2 4 - σ.2 1, locals := 40 })).room = R at hR ⊢
  rw [e3, e4]
  have hI : CI g A s σ s.heap [] := ⟨hσ, va_S.rf, Nat.le_refl _⟩
  have hlen : (lg_sl ([.int x0, .int x1, va_rf x2])).length ≤ 7 := by rcases x2 with _ | x2 <;> exact Nat.le_of_ble_eq_true rfl
  have hl := lv_entry ([.int x0, .int x1, va_rf x2]) (n := 7) hlen
  rw [lg_entry_eq]
  generalize (lg_sl ([.int x0, .int x1, va_rf x2]) ++ List.replicate (7 - (lg_sl ([.int x0, .int x1, va_rf x2])).length) Slot.unset).toArray = ls at hl ⊢
  have hl : lv_has ls 7 [(0, .int x0), (1, .int x1), (2, va_rf x2)] := by clear hI hw h hσ e3 e4 hR C hts B; rcases x2 with _ | x2 <;> exact hl
  obtain ⟨z, hz⟩ : ∃ z, z = (v, σ1) := ⟨_, rfl⟩
  rw [← hz] at h
  rw [show v = z.1 by rw [hz], show σ1 = z.2 by rw [hz]]
  clear hz v σ1
  refine W.narrow ?_
  unfold m_J14_getChars at h
  refine lv_iload_n C.x C.b dJ14_getChars_0 rfl (lv_at hl 1 rfl) ?_
  refine lv_istore (i := 5) (lv' := [(5, .int x1), (0, .int x0), (1, .int x1), (2, va_rf x2)]) C.x C.b dJ14_getChars_1 hl (by decide) (by first | (simp [List.filter, cat_rf, cat_i, cat_a, cat_n, cat_l, cat_f, cat_d]; done) | (simp [List.filter, cat_rf, cat_i, cat_a, cat_n, cat_l, cat_f, cat_d]; rfl)) (fun ls hl => ?_)
  refine lv_iload_n C.x C.b dJ14_getChars_3 rfl (lv_at hl 1 rfl) ?_
  refine lv_if_ge (tgt := 11) C.x C.b dJ14_getChars_4 (by decide) (fun c_1 => ?_) (fun c_1 => ?_)
  · have h := ip c_1 h
    refine lv_iconst (v := 0) C.x C.b dJ14_getChars_11 (by decide) ?_
    exact w_J14_getChars_12 C hw hR x0 x2 x1 0 _ _ _ _ h hI (lv_sub hl [1, 3, 0] rfl)
  · have h := iN c_1 h
    refine lv_iconst (v := 1) C.x C.b dJ14_getChars_7 (by decide) ?_
    refine lv_goto (tgt := 12) C.x C.b dJ14_getChars_8 (by decide) ?_
    exact w_J14_getChars_12 C hw hR x0 x2 x1 1 _ _ _ _ h hI (lv_sub hl [1, 3, 0] rfl)

theorem w_J14_stringSize_16 {z : Int32 × cS} (C : CX p m meth c s args cJ14_stringSize 4 (Option.some Jvm.ClassFile.FieldType.int) RJ14) (hw : WKc g A s s.heap) (hR : RM g s R (1) (40))  : ∀ (n : Nat) (x0 : Int32) (x1 : Int32) (x2 : Int32) (x3 : Int32) (σ : cS) (H : Heap) (locs : List Loc) (ls : Array Slot), b_J14_stringSize_16 n x0 x1 x2 x3 σ = some z → CI g A s σ H locs → lv_has ls 4 [(0, .int x0), (1, .int x1), (2, .int x2), (3, .int x3)] → W p l e R s m args below meth c H locs (H.size - s.heap.size) (hsl H - hsl s.heap) (MQ below (CQ g A (some (.int z.1)) z.2) args s (g.2.2.1 3 - s.heap.size) (g.2.2.1 4 - hsl s.heap) A) (F0 m 16 ls []) := by
  intro n
  induction n with
  | zero =>
    intro x0 x1 x2 x3 σ H locs ls h
    cases h
  | succ n ih =>
    intro x0 x1 x2 x3 σ H locs ls h hI hl
    rw [b_J14_stringSize_16] at h
    refine lv_iload_n C.x C.b dJ14_stringSize_16 rfl (lv_at hl 3 rfl) ?_
    refine lv_bipush (v := 10) C.x C.b dJ14_stringSize_17 (by decide) ?_
    refine lv_icmp_ge (tgt := 42) C.x C.b dJ14_stringSize_19 (by decide) (fun c_1 => ?_) (fun c_1 => ?_)
    · have h := ip c_1 h
      refine lv_bipush (v := 10) C.x C.b dJ14_stringSize_42 (by decide) ?_
      refine lv_iload_n C.x C.b dJ14_stringSize_44 rfl (lv_at hl 1 rfl) ?_
      refine lv_iadd C.x C.b dJ14_stringSize_45 ?_
      exact cw_iret C hI h dJ14_stringSize_46
    · have h := iN c_1 h
      refine lv_iload_n C.x C.b dJ14_stringSize_22 rfl (lv_at hl 0 rfl) ?_
      refine lv_iload_n C.x C.b dJ14_stringSize_23 rfl (lv_at hl 2 rfl) ?_
      refine lv_icmp_le (tgt := 31) C.x C.b dJ14_stringSize_24 (by decide) (fun c_2 => ?_) (fun c_2 => ?_)
      · have h := ip c_2 h
        refine lv_bipush (v := 10) C.x C.b dJ14_stringSize_31 (by decide) ?_
        refine lv_iload_n C.x C.b dJ14_stringSize_33 rfl (lv_at hl 2 rfl) ?_
        refine lv_imul C.x C.b dJ14_stringSize_34 ?_
        refine tw_lt h (fun x2_3 h => ?_)
        refine lv_istore_n (i := 2) (lv' := [(2, .int x2_3), (0, .int x0), (1, .int x1), (3, .int x3)]) C.x C.b dJ14_stringSize_35 rfl hl (by decide) rfl (fun ls hl => ?_)
        obtain ⟨x3_4, e_, h⟩ := nm_s h
        refine lv_iinc (v := x3_4) (lv' := [(3, .int x3_4), (2, .int x2_3), (0, .int x0), (1, .int x1)]) C.x C.b dJ14_stringSize_36 hl (k := 3) rfl e_.symm (by decide) rfl (fun ls hl => ?_)
        refine lv_goto (tgt := 16) C.x C.b dJ14_stringSize_39 (by decide) ?_
        exact ih x0 x1 x2_3 x3_4 _ _ _ _ h hI (lv_sub hl [2, 3, 1, 0] rfl)
      · have h := iN c_2 h
        refine lv_iload_n C.x C.b dJ14_stringSize_27 rfl (lv_at hl 3 rfl) ?_
        refine lv_iload_n C.x C.b dJ14_stringSize_28 rfl (lv_at hl 1 rfl) ?_
        refine lv_iadd C.x C.b dJ14_stringSize_29 ?_
        exact cw_iret C hI h dJ14_stringSize_30

theorem k_J14_stringSize (l : Launch) (g : cG) (A : Nat → Prop) (x0 : Int32) (σ : cS) (v : Int32) (σ1 : cS) (h : m_J14_stringSize x0 σ = some (v, σ1)) : Met l yJ14_stringSize (ws_ yJ14_stringSize cJ14_stringSize 4 (Option.some Jvm.ClassFile.FieldType.int)) ({ frames := 1, cells := σ.2 3 - σ.2 0, slots := σ.2 4 - σ.2 1, locals := 40 }) (CPc g A [.int x0] σ) (CQ g A (some (.int v)) σ1) (σ.2 3 - σ.2 0) (σ.2 4 - σ.2 1) A := by
  refine Met.ofW (cc := cJ14_stringSize) (maxL := 4) (ret := (Option.some Jvm.ClassFile.FieldType.int)) (by decide) rfl ?_
  intro p e s m args below meth c s₁ B hml hv
  obtain ⟨rfl, hw, hσ⟩ := hv
  have hts := atoms_spec (ws := (ws_ yJ14_stringSize cJ14_stringSize 4 (Option.some Jvm.ClassFile.FieldType.int))) B.pre
  have C : CX p m meth c s ([.int x0] : List Value).toArray cJ14_stringSize 4 (Option.some Jvm.ClassFile.FieldType.int) RJ14 := ⟨⟨B.exec, B.bytes, hml, findClass_of_methodNamed B.named, fun w h => hts w (List.mem_cons_of_mem _ h)⟩, B.returns, B.notSynchronized⟩
  have e3 : σ.2 3 - σ.2 0 = g.2.2.1 3 - s.heap.size := by rw [hσ.1, hσ.2.2.2.1 3 (by decide)]
  have e4 : σ.2 4 - σ.2 1 = g.2.2.1 4 - hsl s.heap := by rw [hσ.2.1, hσ.2.2.2.1 4 (by decide)]
  have hR : RM g s (headSpec (ws_ yJ14_stringSize cJ14_stringSize 4 (Option.some Jvm.ClassFile.FieldType.int)) ({ frames := 1, cells := σ.2 3 - σ.2 0, slots := σ.2 4 - σ.2 1, locals := 40 })).room (1) (40) := ⟨⟨Nat.le_refl _, Nat.le_refl _⟩, Nat.le_of_eq e3.symm, Nat.le_of_eq e4.symm⟩
  generalize (headSpec (ws_ yJ14_stringSize cJ14_stringSize 4 (Option.some Jvm.ClassFile.FieldType.int)) ({ frames := 1, cells := σ.2 3 - σ.2 0, slots := σ.2 4 - σ.2 1, locals := 40 })).room = R at hR ⊢
  rw [e3, e4]
  have hI : CI g A s σ s.heap [] := ⟨hσ, va_S.rf, Nat.le_refl _⟩
  have hl := lv_entry ([.int x0]) (n := 4) (Nat.le_of_ble_eq_true rfl)
  rw [lg_entry_eq]
  generalize (lg_sl ([.int x0]) ++ List.replicate (4 - (lg_sl ([.int x0])).length) Slot.unset).toArray = ls at hl ⊢
  have hl : lv_has ls 4 [(0, .int x0)] := hl
  obtain ⟨z, hz⟩ : ∃ z, z = (v, σ1) := ⟨_, rfl⟩
  rw [← hz] at h
  rw [show v = z.1 by rw [hz], show σ1 = z.2 by rw [hz]]
  clear hz v σ1
  refine W.narrow ?_
  unfold m_J14_stringSize at h
  refine lv_iconst (v := 1) C.x C.b dJ14_stringSize_0 (by decide) ?_
  refine lv_istore_n (i := 1) (lv' := [(1, .int 1), (0, .int x0)]) C.x C.b dJ14_stringSize_1 rfl hl (by decide) rfl (fun ls hl => ?_)
  refine lv_iload_n C.x C.b dJ14_stringSize_2 rfl (lv_at hl 1 rfl) ?_
  refine lv_if_lt (tgt := 11) C.x C.b dJ14_stringSize_3 (by decide) (fun c_1 => ?_) (fun c_1 => ?_)
  · have h := ip c_1 h
    refine lv_bipush (v := -10) C.x C.b dJ14_stringSize_11 (by decide) ?_
    refine lv_istore_n (i := 2) (lv' := [(2, .int (-10)), (1, .int 1), (0, .int x0)]) C.x C.b dJ14_stringSize_13 rfl hl (by decide) rfl (fun ls hl => ?_)
    refine lv_iconst (v := 1) C.x C.b dJ14_stringSize_14 (by decide) ?_
    refine lv_istore_n (i := 3) (lv' := [(3, .int 1), (2, .int (-10)), (1, .int 1), (0, .int x0)]) C.x C.b dJ14_stringSize_15 rfl hl (by decide) rfl (fun ls hl => ?_)
    exact w_J14_stringSize_16 C hw hR _ x0 1 (-10) 1 _ _ _ _ h hI (lv_sub hl [3, 2, 1, 0] rfl)
  · have h := iN c_1 h
    refine lv_iconst (v := 0) C.x C.b dJ14_stringSize_6 (by decide) ?_
    refine lv_istore_n (i := 1) (lv' := [(1, .int 0), (0, .int x0)]) C.x C.b dJ14_stringSize_7 rfl hl (by decide) rfl (fun ls hl => ?_)
    refine lv_iload_n C.x C.b dJ14_stringSize_8 rfl (lv_at hl 1 rfl) ?_
    refine lv_ineg C.x C.b dJ14_stringSize_9 ?_
    refine lv_istore_n (i := 0) (lv' := [(0, .int (-x0)), (1, .int 0)]) C.x C.b dJ14_stringSize_10 rfl hl (by decide) rfl (fun ls hl => ?_)
    refine lv_bipush (v := -10) C.x C.b dJ14_stringSize_11 (by decide) ?_
    refine lv_istore_n (i := 2) (lv' := [(2, .int (-10)), (0, .int (-x0)), (1, .int 0)]) C.x C.b dJ14_stringSize_13 rfl hl (by decide) rfl (fun ls hl => ?_)
    refine lv_iconst (v := 1) C.x C.b dJ14_stringSize_14 (by decide) ?_
    refine lv_istore_n (i := 3) (lv' := [(3, .int 1), (2, .int (-10)), (0, .int (-x0)), (1, .int 0)]) C.x C.b dJ14_stringSize_15 rfl hl (by decide) rfl (fun ls hl => ?_)
    exact w_J14_stringSize_16 C hw hR _ (-x0) 0 (-10) 1 _ _ _ _ h hI (lv_sub hl [2, 3, 1, 0] rfl)

theorem w_J2_append_48 {z : Option Nat × cS} {o : Nat} (C : CX p m meth c s args cJ2_append 4 (Option.some (Jvm.ClassFile.FieldType.object "java/lang/AbstractStringBuilder")) RJ2) (hw : WKc g A s s.heap) (hR : RM g s R (4) (110))  : ∀ (x3 : Int32) (σ : cS) (H : Heap) (locs : List Loc) (ls : Array Slot), b_J2_append_48 o x3 σ = some z → CI g A s σ H locs → lv_has ls 4 [(0, .ref o), (3, .int x3)] → W p l e R s m args below meth c H locs (H.size - s.heap.size) (hsl H - hsl s.heap) (MQ below (CQ g A (some (va_rf z.1)) z.2) args s (g.2.2.1 3 - s.heap.size) (g.2.2.1 4 - hsl s.heap) A) (F0 m 48 ls []) := by
  intro x3 σ H locs ls h hI hl
  unfold b_J2_append_48 at h
  refine r_aload_n (x := some o) C.x C.b dJ2_append_48 rfl (lv_at hl 0 rfl) ?_
  refine lv_iload_n C.x C.b dJ2_append_49 rfl (lv_at hl 1 rfl) ?_
  refine cw_pO (r := some o) (v := (.int x3)) (ty := .int) 11 3 C hw hI h (by decide) rfl in_J3 tyJ3 tyJ3_ok nmJ3 (by decide) (C.t _ q220) (fun _ h9 => h9) (Or.inl rfl) (by decide +kernel) rfl rfl dJ2_append_50 (fun σ_1 H locs h hI => ?_)
  refine r_aload_n (x := some o) C.x C.b dJ2_append_53 rfl (lv_at hl 0 rfl) ?_
  exact cw_aret (x := some o) C (Or.inl ⟨_, rfl⟩) hI h dJ2_append_54

theorem k_J2_append (l : Launch) (g : cG) (A : Nat → Prop) (o : Nat) (x1 : Int32) (σ : cS) (v : Option Nat) (σ1 : cS) (h : m_J2_append o x1 σ = some (v, σ1)) : Met l yJ2_append (ws_ yJ2_append cJ2_append 4 (Option.some (Jvm.ClassFile.FieldType.object "java/lang/AbstractStringBuilder"))) ({ frames := 4, cells := σ.2 3 - σ.2 0, slots := σ.2 4 - σ.2 1, locals := 110 }) (CPc g A [.ref o, .int x1] σ) (CQ g A (some (va_rf v)) σ1) (σ.2 3 - σ.2 0) (σ.2 4 - σ.2 1) A := by
  refine Met.ofW (cc := cJ2_append) (maxL := 4) (ret := (Option.some (Jvm.ClassFile.FieldType.object "java/lang/AbstractStringBuilder"))) (by decide) rfl ?_
  intro p e s m args below meth c s₁ B hml hv
  obtain ⟨rfl, hw, hσ⟩ := hv
  have hts := atoms_spec (ws := (ws_ yJ2_append cJ2_append 4 (Option.some (Jvm.ClassFile.FieldType.object "java/lang/AbstractStringBuilder")))) B.pre
  have C : CX p m meth c s ([.ref o, .int x1] : List Value).toArray cJ2_append 4 (Option.some (Jvm.ClassFile.FieldType.object "java/lang/AbstractStringBuilder")) RJ2 := ⟨⟨B.exec, B.bytes, hml, findClass_of_methodNamed B.named, fun w h => hts w (List.mem_cons_of_mem _ h)⟩, B.returns, B.notSynchronized⟩
  have e3 : σ.2 3 - σ.2 0 = g.2.2.1 3 - s.heap.size := by rw [hσ.1, hσ.2.2.2.1 3 (by decide)]
  have e4 : σ.2 4 - σ.2 1 = g.2.2.1 4 - hsl s.heap := by rw [hσ.2.1, hσ.2.2.2.1 4 (by decide)]
  have hR : RM g s (headSpec (ws_ yJ2_append cJ2_append 4 (Option.some (Jvm.ClassFile.FieldType.object "java/lang/AbstractStringBuilder"))) ({ frames := 4, cells := σ.2 3 - σ.2 0, slots := σ.2 4 - σ.2 1, locals := 110 })).room (4) (110) := ⟨⟨Nat.le_refl _, Nat.le_refl _⟩, Nat.le_of_eq e3.symm, Nat.le_of_eq e4.symm⟩
  generalize (headSpec (ws_ yJ2_append cJ2_append 4 (Option.some (Jvm.ClassFile.FieldType.object "java/lang/AbstractStringBuilder"))) ({ frames := 4, cells := σ.2 3 - σ.2 0, slots := σ.2 4 - σ.2 1, locals := 110 })).room = R at hR ⊢
  rw [e3, e4]
  have hI : CI g A s σ s.heap [] := ⟨hσ, va_S.rf, Nat.le_refl _⟩
  have hl := lv_entry ([.ref o, .int x1]) (n := 4) (Nat.le_of_ble_eq_true rfl)
  rw [lg_entry_eq]
  generalize (lg_sl ([.ref o, .int x1]) ++ List.replicate (4 - (lg_sl ([.ref o, .int x1])).length) Slot.unset).toArray = ls at hl ⊢
  have hl : lv_has ls 4 [(0, .ref o), (1, .int x1)] := hl
  obtain ⟨z, hz⟩ : ∃ z, z = (v, σ1) := ⟨_, rfl⟩
  rw [← hz] at h
  rw [show v = z.1 by rw [hz], show σ1 = z.2 by rw [hz]]
  clear hz v σ1
  refine W.narrow ?_
  unfold m_J2_append at h
  refine r_aload_n (x := some o) C.x C.b dJ2_append_0 rfl (lv_at hl 0 rfl) ?_
  refine cw_gI (r := some o) 11 3 C hw hI h (by decide) rfl in_J3 (by decide) (C.t _ q220) (fun _ h9 => h9) dJ2_append_1 (fun v_1 h => ?_)
  refine lv_istore_n (i := 2) (lv' := [(2, .int v_1), (0, .ref o), (1, .int x1)]) C.x C.b dJ2_append_4 rfl hl (by decide) rfl (fun ls hl => ?_)
  refine lv_iload_n C.x C.b dJ2_append_5 rfl (lv_at hl 0 rfl) ?_
  refine lv_iload_n C.x C.b dJ2_append_6 rfl (lv_at hl 2 rfl) ?_
  refine cw_callS (y := yJ14_stringSize) (bytes := cJ14_stringSize) (maxL := 4) (fun v => some (.int v)) [.int x1] C hw hR hI hl.1 h (fun vv ss ee => k_J14_stringSize l g A x1 σ vv ss ee) (va_cwS 1 C.t (lw_S q450 q451 q145 q452) rfl rfl rfl (by decide +kernel) ⟨Nat.le_trans (Nat.le_of_ble_eq_true rfl) hR.f, Nat.le_trans (Nat.le_of_ble_eq_true rfl) hR.lo⟩) rfl rfl (Nat.le_of_ble_eq_true rfl) dJ2_append_7 (fun v_2 σ_3 H locs h hI => ?_)
  refine lv_iadd C.x C.b dJ2_append_10 ?_
  refine tw_lt h (fun x3_4 h => ?_)
  refine lv_istore_n (i := 3) (lv' := [(3, .int x3_4), (2, .int v_1), (0, .ref o), (1, .int x1)]) C.x C.b dJ2_append_11 rfl hl (by decide) rfl (fun ls hl => ?_)
  refine r_aload_n (x := some o) C.x C.b dJ2_append_12 rfl (lv_at hl 2 rfl) ?_
  refine lv_iload_n C.x C.b dJ2_append_13 rfl (lv_at hl 0 rfl) ?_
  refine cw_callV (y := yJ2_ensureCapacityInternal) (bytes := cJ2_ensureCapacityInternal) (maxL := 3) (r := some o) (f := fun a_6 => m_J2_ensureCapacityInternal a_6 x3_4 σ_3) 11 (fun _ => none) [.int x3_4] C hw hR hI hl.1 h (by decide) rfl (fun aa vv ss ee => k_J2_ensureCapacityInternal l g A aa x3_4 σ_3 vv ss ee) (cwG 1 C.t (lw_meth q456) rfl rfl rfl (C.t _ q129) (C.t _ q453) (C.t _ q455) (sel_privS (C.t _ q199) (C.t _ q455) (va_Nw.use rfl (hw.2.2.2.2.2.2.2.2.2.2.2.2.2.2.2.1.2.1 _ (List.mem_of_getElem? (i := 0) rfl))) (by decide +kernel) (C.t _ q489) rfl) (by decide +kernel) ⟨Nat.le_trans (Nat.le_of_ble_eq_true rfl) hR.f, Nat.le_trans (Nat.le_of_ble_eq_true rfl) hR.lo⟩) rfl rfl (Nat.le_of_ble_eq_true rfl) dJ2_append_14 (fun _ σ_5 H locs h hI => ?_)
  refine r_aload_n (x := some o) C.x C.b dJ2_append_17 rfl (lv_at hl 2 rfl) ?_
  refine cw_callV (y := yJ2_isLatin1) (bytes := cJ2_isLatin1) (maxL := 1) (r := some o) (f := fun a_9 => m_J2_isLatin1 a_9 σ_5) 11 (fun v => some (.int v)) [] C hw hR hI hl.1 h (by decide) rfl (fun aa vv ss ee => k_J2_isLatin1 l g A aa σ_5 vv ss ee) (cwG 0 C.t (lw_meth q490) rfl rfl rfl (C.t _ q129) (C.t _ q486) (C.t _ q487) (C.t _ q489) (by decide +kernel) ⟨Nat.le_trans (Nat.le_of_ble_eq_true rfl) hR.f, Nat.le_trans (Nat.le_of_ble_eq_true rfl) hR.lo⟩) rfl rfl (Nat.le_of_ble_eq_true rfl) dJ2_append_18 (fun v_7 σ_8 H locs h hI => ?_)
  refine lv_if_eq (tgt := 37) C.x C.b dJ2_append_21 (by decide) (fun c_10 => ?_) (fun c_10 => ?_)
  · have h := ip c_10 h
    refine lv_iload_n C.x C.b dJ2_append_37 rfl (lv_at hl 3 rfl) ?_
    refine lv_iload_n C.x C.b dJ2_append_38 rfl (lv_at hl 1 rfl) ?_
    refine lv_iload_n C.x C.b dJ2_append_39 rfl (lv_at hl 0 rfl) ?_
    refine r_aload_n (x := some o) C.x C.b dJ2_append_40 rfl (lv_at hl 2 rfl) ?_
    refine cw_gR (r := some o) 11 0 C hw hI h (by decide) rfl in_J3 (by decide) (C.t _ q216) (fun _ h9 => h9) dJ2_append_41 (fun v_11 h => ?_)
    cases h
  · have h := iN c_10 h
    refine lv_iload_n C.x C.b dJ2_append_24 rfl (lv_at hl 3 rfl) ?_
    refine lv_iload_n C.x C.b dJ2_append_25 rfl (lv_at hl 0 rfl) ?_
    refine r_aload_n (x := some o) C.x C.b dJ2_append_26 rfl (lv_at hl 2 rfl) ?_
    refine cw_gR (r := some o) 11 0 C hw hI h (by decide) rfl in_J3 (by decide) (C.t _ q216) (fun _ h9 => h9) dJ2_append_27 (fun v_12 h => ?_)
    refine cw_callS (y := yJ14_getChars) (bytes := cJ14_getChars) (maxL := 7) (fun v => some (.int v)) [.int x1, .int x3_4, va_rf v_12] C hw hR hI hl.1 h (fun vv ss ee => k_J14_getChars l g A x1 x3_4 v_12 σ_8 vv ss ee) (va_cwS 3 C.t (lw_S q491 q492 q145 q493) rfl rfl rfl (by decide +kernel) ⟨Nat.le_trans (Nat.le_of_ble_eq_true rfl) hR.f, Nat.le_trans (Nat.le_of_ble_eq_true rfl) hR.lo⟩) rfl rfl (Nat.le_of_ble_eq_true rfl) dJ2_append_30 (fun v_13 σ_14 H locs h hI => ?_)
    refine lv_pop C.x C.b dJ2_append_33 rfl ?_
    refine lv_goto (tgt := 48) C.x C.b dJ2_append_34 (by decide) ?_
    exact w_J2_append_48 C hw hR x3_4 _ _ _ _ h hI (lv_sub hl [2, 0] rfl)

theorem w_J2_appendNull_76 {z : Option Nat × cS} {o : Nat} (C : CX p m meth c s args cJ2_appendNull 3 (Option.some (Jvm.ClassFile.FieldType.object "java/lang/AbstractStringBuilder")) RJ2) (hw : WKc g A s s.heap) (hR : RM g s R (4) (110))  : ∀ (x1 : Int32) (σ : cS) (H : Heap) (locs : List Loc) (ls : Array Slot), b_J2_appendNull_76 o x1 σ = some z → CI g A s σ H locs → lv_has ls 3 [(0, .ref o), (1, .int x1)] → W p l e R s m args below meth c H locs (H.size - s.heap.size) (hsl H - hsl s.heap) (MQ below (CQ g A (some (va_rf z.1)) z.2) args s (g.2.2.1 3 - s.heap.size) (g.2.2.1 4 - hsl s.heap) A) (F0 m 76 ls []) := by
  intro x1 σ H locs ls h hI hl
  unfold b_J2_appendNull_76 at h
  refine r_aload_n (x := some o) C.x C.b dJ2_appendNull_76 rfl (lv_at hl 0 rfl) ?_
  refine lv_iload_n C.x C.b dJ2_appendNull_77 rfl (lv_at hl 1 rfl) ?_
  refine cw_pO (r := some o) (v := (.int x1)) (ty := .int) 11 3 C hw hI h (by decide) rfl in_J3 tyJ3 tyJ3_ok nmJ3 (by decide) (C.t _ q220) (fun _ h9 => h9) (Or.inl rfl) (by decide +kernel) rfl rfl dJ2_appendNull_78 (fun σ_1 H locs h hI => ?_)
  refine r_aload_n (x := some o) C.x C.b dJ2_appendNull_81 rfl (lv_at hl 0 rfl) ?_
  exact cw_aret (x := some o) C (Or.inl ⟨_, rfl⟩) hI h dJ2_appendNull_82

theorem k_J2_appendNull (l : Launch) (g : cG) (A : Nat → Prop) (o : Nat) (σ : cS) (v : Option Nat) (σ1 : cS) (h : m_J2_appendNull o σ = some (v, σ1)) : Met l yJ2_appendNull (ws_ yJ2_appendNull cJ2_appendNull 3 (Option.some (Jvm.ClassFile.FieldType.object "java/lang/AbstractStringBuilder"))) ({ frames := 4, cells := σ.2 3 - σ.2 0, slots := σ.2 4 - σ.2 1, locals := 110 }) (CPc g A [.ref o] σ) (CQ g A (some (va_rf v)) σ1) (σ.2 3 - σ.2 0) (σ.2 4 - σ.2 1) A := by
  refine Met.ofW (cc := cJ2_appendNull) (maxL := 3) (ret := (Option.some (Jvm.ClassFile.FieldType.object "java/lang/AbstractStringBuilder"))) (by decide) rfl ?_
  intro p e s m args below meth c s₁ B hml hv
  obtain ⟨rfl, hw, hσ⟩ := hv
  have hts := atoms_spec (ws := (ws_ yJ2_appendNull cJ2_appendNull 3 (Option.some (Jvm.ClassFile.FieldType.object "java/lang/AbstractStringBuilder")))) B.pre
  have C : CX p m meth c s ([.ref o] : List Value).toArray cJ2_appendNull 3 (Option.some (Jvm.ClassFile.FieldType.object "java/lang/AbstractStringBuilder")) RJ2 := ⟨⟨B.exec, B.bytes, hml, findClass_of_methodNamed B.named, fun w h => hts w (List.mem_cons_of_mem _ h)⟩, B.returns, B.notSynchronized⟩
  have e3 : σ.2 3 - σ.2 0 = g.2.2.1 3 - s.heap.size := by rw [hσ.1, hσ.2.2.2.1 3 (by decide)]
  have e4 : σ.2 4 - σ.2 1 = g.2.2.1 4 - hsl s.heap := by rw [hσ.2.1, hσ.2.2.2.1 4 (by decide)]
  have hR : RM g s (headSpec (ws_ yJ2_appendNull cJ2_appendNull 3 (Option.some (Jvm.ClassFile.FieldType.object "java/lang/AbstractStringBuilder"))) ({ frames := 4, cells := σ.2 3 - σ.2 0, slots := σ.2 4 - σ.2 1, locals := 110 })).room (4) (110) := ⟨⟨Nat.le_refl _, Nat.le_refl _⟩, Nat.le_of_eq e3.symm, Nat.le_of_eq e4.symm⟩
  generalize (headSpec (ws_ yJ2_appendNull cJ2_appendNull 3 (Option.some (Jvm.ClassFile.FieldType.object "java/lang/AbstractStringBuilder"))) ({ frames := 4, cells := σ.2 3 - σ.2 0, slots := σ.2 4 - σ.2 1, locals := 110 })).room = R at hR ⊢
  rw [e3, e4]
  have hI : CI g A s σ s.heap [] := ⟨hσ, va_S.rf, Nat.le_refl _⟩
  have hl := lv_entry ([.ref o]) (n := 3) (Nat.le_of_ble_eq_true rfl)
  rw [lg_entry_eq]
  generalize (lg_sl ([.ref o]) ++ List.replicate (3 - (lg_sl ([.ref o])).length) Slot.unset).toArray = ls at hl ⊢
  have hl : lv_has ls 3 [(0, .ref o)] := hl
  obtain ⟨z, hz⟩ : ∃ z, z = (v, σ1) := ⟨_, rfl⟩
  rw [← hz] at h
  rw [show v = z.1 by rw [hz], show σ1 = z.2 by rw [hz]]
  clear hz v σ1
  refine W.narrow ?_
  unfold m_J2_appendNull at h
  refine r_aload_n (x := some o) C.x C.b dJ2_appendNull_0 rfl (lv_at hl 0 rfl) ?_
  refine r_aload_n (x := some o) C.x C.b dJ2_appendNull_1 rfl (lv_at hl 0 rfl) ?_
  refine cw_gI (r := some o) 11 3 C hw hI h (by decide) rfl in_J3 (by decide) (C.t _ q220) (fun _ h9 => h9) dJ2_appendNull_2 (fun v_1 h => ?_)
  refine lv_iconst (v := 4) C.x C.b dJ2_appendNull_5 (by decide) ?_
  refine lv_iadd C.x C.b dJ2_appendNull_6 ?_
  refine cw_callV (y := yJ2_ensureCapacityInternal) (bytes := cJ2_ensureCapacityInternal) (maxL := 3) (r := some o) (f := fun a_3 => m_J2_ensureCapacityInternal a_3 (v_1 + 4) σ) 11 (fun _ => none) [.int (v_1 + 4)] C hw hR hI hl.1 h (by decide) rfl (fun aa vv ss ee => k_J2_ensureCapacityInternal l g A aa (v_1 + 4) σ vv ss ee) (cwG 1 C.t (lw_meth q456) rfl rfl rfl (C.t _ q129) (C.t _ q453) (C.t _ q455) (sel_privS (C.t _ q199) (C.t _ q455) (va_Nw.use rfl (hw.2.2.2.2.2.2.2.2.2.2.2.2.2.2.2.1.2.1 _ (List.mem_of_getElem? (i := 0) rfl))) (by decide +kernel) (C.t _ q489) rfl) (by decide +kernel) ⟨Nat.le_trans (Nat.le_of_ble_eq_true rfl) hR.f, Nat.le_trans (Nat.le_of_ble_eq_true rfl) hR.lo⟩) rfl rfl (Nat.le_of_ble_eq_true rfl) dJ2_appendNull_7 (fun _ σ_2 H locs h hI => ?_)
  refine r_aload_n (x := some o) C.x C.b dJ2_appendNull_10 rfl (lv_at hl 0 rfl) ?_
  refine cw_gI (r := some o) 11 3 C hw hI h (by decide) rfl in_J3 (by decide) (C.t _ q220) (fun _ h9 => h9) dJ2_appendNull_11 (fun v_4 h => ?_)
  refine lv_istore_n (i := 1) (lv' := [(1, .int v_4), (0, .ref o)]) C.x C.b dJ2_appendNull_14 rfl hl (by decide) rfl (fun ls hl => ?_)
  refine r_aload_n (x := some o) C.x C.b dJ2_appendNull_15 rfl (lv_at hl 1 rfl) ?_
  refine cw_gR (r := some o) 11 0 C hw hI h (by decide) rfl in_J3 (by decide) (C.t _ q216) (fun _ h9 => h9) dJ2_appendNull_16 (fun v_5 h => ?_)
  refine r_astore_n (i := 2) (x := v_5) (lv' := [(2, va_rf v_5), (1, .int v_4), (0, .ref o)]) C.x C.b dJ2_appendNull_19 rfl hl (by decide) (by rfl) (fun ls hl => ?_)
  refine r_aload_n (x := some o) C.x C.b dJ2_appendNull_20 rfl (lv_at hl 2 rfl) ?_
  refine cw_callV (y := yJ2_isLatin1) (bytes := cJ2_isLatin1) (maxL := 1) (r := some o) (f := fun a_8 => m_J2_isLatin1 a_8 σ_2) 11 (fun v => some (.int v)) [] C hw hR hI hl.1 h (by decide) rfl (fun aa vv ss ee => k_J2_isLatin1 l g A aa σ_2 vv ss ee) (cwG 0 C.t (lw_meth q490) rfl rfl rfl (C.t _ q129) (C.t _ q486) (C.t _ q487) (C.t _ q489) (by decide +kernel) ⟨Nat.le_trans (Nat.le_of_ble_eq_true rfl) hR.f, Nat.le_trans (Nat.le_of_ble_eq_true rfl) hR.lo⟩) rfl rfl (Nat.le_of_ble_eq_true rfl) dJ2_appendNull_21 (fun v_6 σ_7 H locs h hI => ?_)
  refine lv_if_eq (tgt := 62) C.x C.b dJ2_appendNull_24 (by decide) (fun c_9 => ?_) (fun c_9 => ?_)
  · have h := ip c_9 h
    refine r_aload_n (x := v_5) C.x C.b dJ2_appendNull_62 rfl (lv_at hl 0 rfl) ?_
    refine lv_iload_n C.x C.b dJ2_appendNull_63 rfl (lv_at hl 1 rfl) ?_
    refine lv_bipush (v := 110) C.x C.b dJ2_appendNull_64 (by decide) ?_
    refine lv_bipush (v := 117) C.x C.b dJ2_appendNull_66 (by decide) ?_
    refine lv_bipush (v := 108) C.x C.b dJ2_appendNull_68 (by decide) ?_
    refine lv_bipush (v := 108) C.x C.b dJ2_appendNull_70 (by decide) ?_
    cases h
  · have h := iN c_9 h
    refine r_aload_n (x := v_5) C.x C.b dJ2_appendNull_27 rfl (lv_at hl 0 rfl) ?_
    refine lv_iload_n C.x C.b dJ2_appendNull_28 rfl (lv_at hl 1 rfl) ?_
    obtain ⟨x1_10, e_, h⟩ := nm_s h
    refine lv_iinc (v := x1_10) (lv' := [(1, .int x1_10), (2, va_rf v_5), (0, .ref o)]) C.x C.b dJ2_appendNull_29 hl (k := 1) rfl e_.symm (by decide) (by first | (simp [List.filter, cat_rf, cat_i, cat_a, cat_n, cat_l, cat_f, cat_d]; done) | (simp [List.filter, cat_rf, cat_i, cat_a, cat_n, cat_l, cat_f, cat_d]; rfl)) (fun ls hl => ?_)
    refine lv_bipush (v := 110) C.x C.b dJ2_appendNull_32 (by decide) ?_
    refine cw_bst (r := v_5) C hw hI h dJ2_appendNull_34 (fun σ_11 H locs h hI => ?_)
    refine r_aload_n (x := v_5) C.x C.b dJ2_appendNull_35 rfl (lv_at hl 1 rfl) ?_
    refine lv_iload_n C.x C.b dJ2_appendNull_36 rfl (lv_at hl 0 rfl) ?_
    obtain ⟨x1_12, e_, h⟩ := nm_s h
    refine lv_iinc (v := x1_12) (lv' := [(1, .int x1_12), (2, va_rf v_5), (0, .ref o)]) C.x C.b dJ2_appendNull_37 hl (k := 0) rfl e_.symm (by decide) (by first | (simp [List.filter, cat_rf, cat_i, cat_a, cat_n, cat_l, cat_f, cat_d]; done) | (simp [List.filter, cat_rf, cat_i, cat_a, cat_n, cat_l, cat_f, cat_d]; rfl)) (fun ls hl => ?_)
    refine lv_bipush (v := 117) C.x C.b dJ2_appendNull_40 (by decide) ?_
    refine cw_bst (r := v_5) C hw hI h dJ2_appendNull_42 (fun σ_13 H locs h hI => ?_)
    refine r_aload_n (x := v_5) C.x C.b dJ2_appendNull_43 rfl (lv_at hl 1 rfl) ?_
    refine lv_iload_n C.x C.b dJ2_appendNull_44 rfl (lv_at hl 0 rfl) ?_
    obtain ⟨x1_14, e_, h⟩ := nm_s h
    refine lv_iinc (v := x1_14) (lv' := [(1, .int x1_14), (2, va_rf v_5), (0, .ref o)]) C.x C.b dJ2_appendNull_45 hl (k := 0) rfl e_.symm (by decide) (by first | (simp [List.filter, cat_rf, cat_i, cat_a, cat_n, cat_l, cat_f, cat_d]; done) | (simp [List.filter, cat_rf, cat_i, cat_a, cat_n, cat_l, cat_f, cat_d]; rfl)) (fun ls hl => ?_)
    refine lv_bipush (v := 108) C.x C.b dJ2_appendNull_48 (by decide) ?_
    refine cw_bst (r := v_5) C hw hI h dJ2_appendNull_50 (fun σ_15 H locs h hI => ?_)
    refine r_aload_n (x := v_5) C.x C.b dJ2_appendNull_51 rfl (lv_at hl 1 rfl) ?_
    refine lv_iload_n C.x C.b dJ2_appendNull_52 rfl (lv_at hl 0 rfl) ?_
    obtain ⟨x1_16, e_, h⟩ := nm_s h
    refine lv_iinc (v := x1_16) (lv' := [(1, .int x1_16), (2, va_rf v_5), (0, .ref o)]) C.x C.b dJ2_appendNull_53 hl (k := 0) rfl e_.symm (by decide) (by first | (simp [List.filter, cat_rf, cat_i, cat_a, cat_n, cat_l, cat_f, cat_d]; done) | (simp [List.filter, cat_rf, cat_i, cat_a, cat_n, cat_l, cat_f, cat_d]; rfl)) (fun ls hl => ?_)
    refine lv_bipush (v := 108) C.x C.b dJ2_appendNull_56 (by decide) ?_
    refine cw_bst (r := v_5) C hw hI h dJ2_appendNull_58 (fun σ_17 H locs h hI => ?_)
    refine lv_goto (tgt := 76) C.x C.b dJ2_appendNull_59 (by decide) ?_
    exact w_J2_appendNull_76 C hw hR x1_16 _ _ _ _ h hI (lv_sub hl [2, 0] rfl)

theorem k_J2_inflate (l : Launch) (g : cG) (A : Nat → Prop) (o : Nat) (σ : cS) (v : Int32) (σ1 : cS) (h : m_J2_inflate o σ = some (v, σ1)) : Met l yJ2_inflate (ws_ yJ2_inflate cJ2_inflate 2 (Option.none : Option Jvm.ClassFile.FieldType)) ({ frames := 2, cells := σ.2 3 - σ.2 0, slots := σ.2 4 - σ.2 1, locals := 60 }) (CPc g A [.ref o] σ) (CQ g A (none) σ1) (σ.2 3 - σ.2 0) (σ.2 4 - σ.2 1) A := by
  refine Met.ofW (cc := cJ2_inflate) (maxL := 2) (ret := (Option.none : Option Jvm.ClassFile.FieldType)) (by decide) rfl ?_
  intro p e s m args below meth c s₁ B hml hv
  obtain ⟨rfl, hw, hσ⟩ := hv
  have hts := atoms_spec (ws := (ws_ yJ2_inflate cJ2_inflate 2 (Option.none : Option Jvm.ClassFile.FieldType))) B.pre
  have C : CX p m meth c s ([.ref o] : List Value).toArray cJ2_inflate 2 (Option.none : Option Jvm.ClassFile.FieldType) RJ2 := ⟨⟨B.exec, B.bytes, hml, findClass_of_methodNamed B.named, fun w h => hts w (List.mem_cons_of_mem _ h)⟩, B.returns, B.notSynchronized⟩
  have e3 : σ.2 3 - σ.2 0 = g.2.2.1 3 - s.heap.size := by rw [hσ.1, hσ.2.2.2.1 3 (by decide)]
  have e4 : σ.2 4 - σ.2 1 = g.2.2.1 4 - hsl s.heap := by rw [hσ.2.1, hσ.2.2.2.1 4 (by decide)]
  have hR : RM g s (headSpec (ws_ yJ2_inflate cJ2_inflate 2 (Option.none : Option Jvm.ClassFile.FieldType)) ({ frames := 2, cells := σ.2 3 - σ.2 0, slots := σ.2 4 - σ.2 1, locals := 60 })).room (2) (60) := ⟨⟨Nat.le_refl _, Nat.le_refl _⟩, Nat.le_of_eq e3.symm, Nat.le_of_eq e4.symm⟩
  generalize (headSpec (ws_ yJ2_inflate cJ2_inflate 2 (Option.none : Option Jvm.ClassFile.FieldType)) ({ frames := 2, cells := σ.2 3 - σ.2 0, slots := σ.2 4 - σ.2 1, locals := 60 })).room = R at hR ⊢
  rw [e3, e4]
  have hI : CI g A s σ s.heap [] := ⟨hσ, va_S.rf, Nat.le_refl _⟩
  have hl := lv_entry ([.ref o]) (n := 2) (Nat.le_of_ble_eq_true rfl)
  rw [lg_entry_eq]
  generalize (lg_sl ([.ref o]) ++ List.replicate (2 - (lg_sl ([.ref o])).length) Slot.unset).toArray = ls at hl ⊢
  have hl : lv_has ls 2 [(0, .ref o)] := hl
  obtain ⟨z, hz⟩ : ∃ z, z = (v, σ1) := ⟨_, rfl⟩
  rw [← hz] at h
  rw [show σ1 = z.2 by rw [hz]]
  clear hz v σ1
  refine W.narrow ?_
  unfold m_J2_inflate at h
  refine r_aload_n (x := some o) C.x C.b dJ2_inflate_0 rfl (lv_at hl 0 rfl) ?_
  refine cw_callV (y := yJ2_isLatin1) (bytes := cJ2_isLatin1) (maxL := 1) (r := some o) (f := fun a_3 => m_J2_isLatin1 a_3 σ) 11 (fun v => some (.int v)) [] C hw hR hI hl.1 h (by decide) rfl (fun aa vv ss ee => k_J2_isLatin1 l g A aa σ vv ss ee) (cwG 0 C.t (lw_meth q490) rfl rfl rfl (C.t _ q129) (C.t _ q486) (C.t _ q487) (C.t _ q489) (by decide +kernel) ⟨Nat.le_trans (Nat.le_of_ble_eq_true rfl) hR.f, Nat.le_trans (Nat.le_of_ble_eq_true rfl) hR.lo⟩) rfl rfl (Nat.le_of_ble_eq_true rfl) dJ2_inflate_1 (fun v_1 σ_2 H locs h hI => ?_)
  refine lv_if_ne (tgt := 8) C.x C.b dJ2_inflate_4 (by decide) (fun c_4 => ?_) (fun c_4 => ?_)
  · have h := iN c_4 h
    refine r_aload_n (x := some o) C.x C.b dJ2_inflate_8 rfl (lv_at hl 0 rfl) ?_
    refine cw_gR (r := some o) 11 0 C hw hI h (by decide) rfl in_J3 (by decide) (C.t _ q216) (fun _ h9 => h9) dJ2_inflate_9 (fun v_5 h => ?_)
    refine cw_aL (r := v_5) C hw hI h dJ2_inflate_12 (fun v_6 h => ?_)
    cases h
  · have h := ip c_4 h
    exact cw_vret C hI h dJ2_inflate_7

end
