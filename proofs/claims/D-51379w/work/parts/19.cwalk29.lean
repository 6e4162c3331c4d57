/-! THE CLASS' WALKS 29: printed by gencl.py -/
section
variable {p : Program} {l : Launch} {e : Env} {R : Room} {s : State} {m : MethodId} {args : Array Value} {below : List Frame} {meth : Method} {c : Code} {g : cG} {A : Nat → Prop}
set_option maxRecDepth 100000
theorem w_X1_patch_21 {z : (cX (Int32)) × cS} {o : Nat} (C : CX p m meth c s args cX1_patch 7 (Option.some Jvm.ClassFile.FieldType.int) RX1) (hnm : s.methodNamed? yX1_patch = some m) (hx : ∀ x ∈ c.exceptionTable.toList, False) (hl0 : l.stackTraces = false) (hw : WKc g A s s.heap) (hR : RM g s R (268) (6688)) {k6 : Int32 → Int32 → Int32 → cS → Option ((cX (Int32)) × cS)} (hk6 : ∀ (x1 : Int32) (x2 : Int32) (x3 : Int32) (σ : cS) (H : Heap) (locs : List Loc) (ls : Array Slot), k6 x1 x2 x3 σ = some z → CI g A s σ H locs → lv_has ls 7 [(0, .ref o), (1, .int x1), (2, .int x2), (3, .int x3)] → W p l e R s m args below meth c H locs (H.size - s.heap.size) (hsl H - hsl s.heap) (UQ g A (fun v => some (.int v)) z args s (g.2.2.1 3 - s.heap.size) (g.2.2.1 4 - hsl s.heap) below) (F0 m 6 ls [])) : ∀ (n : Nat) (x1 : Int32) (x2 : Int32) (x3 : Int32) (x4 : Int32) (σ : cS) (H : Heap) (locs : List Loc) (ls : Array Slot), b_X1_patch_21 o k6 n x1 x2 x3 x4 σ = some z → CI g A s σ H locs → lv_has ls 7 [(0, .ref o), (1, .int x1), (2, .int x2), (3, .int x3), (4, .int x4)] → W p l e R s m args below meth c H locs (H.size - s.heap.size) (hsl H - hsl s.heap) (UQ g A (fun v => some (.int v)) z args s (g.2.2.1 3 - s.heap.size) (g.2.2.1 4 - hsl s.heap) below) (F0 m 21 ls []) := by
  intro n
  induction n with
  | zero =>
    intro x1 x2 x3 x4 σ H locs ls h
    cases h
  | succ n ih =>
    intro x1 x2 x3 x4 σ H locs ls h hI hl
    rw [b_X1_patch_21] at h
    refine lv_iload C.x C.b dX1_patch_21 (lv_at hl 4 rfl) ?_
    refine r_aload_n (x := some o) C.x C.b dX1_patch_23 rfl (lv_at hl 0 rfl) ?_
    refine cw_gR (r := some o) 0 0 C hw hI h (by decide) rfl in_X1 (by decide) (C.t _ q1172) (fun _ h9 => h9) dX1_patch_24 (fun v_1 h => ?_)
    refine cw_gR (r := v_1) 1 0 C hw hI h (by decide) rfl in_X4 (by decide) (C.t _ q839) (fun _ h9 => h9) dX1_patch_27 (fun v_2 h => ?_)
    refine lv_iload_n C.x C.b dX1_patch_30 rfl (lv_at hl 3 rfl) ?_
    refine cw_ild (r := v_2) C hw hI h dX1_patch_31 (fun v_3 h => ?_)
    refine lv_icmp_ge (tgt := 86) C.x C.b dX1_patch_32 (by decide) (fun c_4 => ?_) (fun c_4 => ?_)
    · have h := ip c_4 h
      obtain ⟨x3_5, e_, h⟩ := nm_s h
      refine lv_iinc (v := x3_5) (lv' := [(3, .int x3_5), (0, .ref o), (1, .int x1), (2, .int x2), (4, .int x4)]) C.x C.b dX1_patch_86 hl (k := 3) rfl e_.symm (by decide) rfl (fun ls hl => ?_)
      refine lv_goto (tgt := 6) C.x C.b dX1_patch_89 (by decide) ?_
      exact hk6 x1 x2 x3_5 _ _ _ _ h hI (lv_sub hl [1, 2, 3, 0] rfl)
    · have h := iN c_4 h
      refine cw_new (T := TX7) (N := 4) 4 C hw hI hR.2.1 hR.2.2 h (by decide) rfl in_X7 tyX7 tyX7_ok (fun j hj => match j, hj with | 0, _ => rfl | 1, _ => rfl | 2, _ => rfl | 3, _ => rfl | j + 4, hj => absurd hj (Nat.not_lt_of_le (Nat.le_add_left _ _))) q1388 q999 q155 dX1_patch_35 (fun q_6 σ_7 H locs h hI => ?_)
      refine lv_dup C.x C.b dX1_patch_38 rfl ?_
      refine lv_iload_n C.x C.b dX1_patch_39 rfl (lv_at hl 3 rfl) ?_
      refine lv_bipush (v := 61) C.x C.b dX1_patch_40 (by decide) ?_
      refine lv_iload C.x C.b dX1_patch_42 (lv_at hl 4 rfl) ?_
      refine cw_callI (y := yX7_init) (bytes := cX7_init) (maxL := 4) (b := q_6) [.int x3, .int 61, .int x4] C hw hR hI hl.1 h (fun vv ss ee => k_X7_init l g A q_6 x3 61 x4 σ_7 vv ss ee) (cwI 3 C.t (lw_meth q1002) rfl rfl rfl (C.t _ q155) (C.t _ q1389) (C.t _ q1001) rfl (by decide +kernel) ⟨Nat.le_trans (Nat.le_of_ble_eq_true rfl) hR.f, Nat.le_trans (Nat.le_of_ble_eq_true rfl) hR.lo⟩) rfl rfl (Nat.le_of_ble_eq_true rfl) dX1_patch_44 (fun σ_8 _ H locs h hI => ?_)
      refine r_astore (i := 5) (x := some q_6) (lv' := [(5, .ref q_6), (0, .ref o), (1, .int x1), (2, .int x2), (3, .int x3), (4, .int x4)]) C.x C.b dX1_patch_47 hl (by decide) (by rfl) (fun ls hl => ?_)
      refine r_aload_n (x := some o) C.x C.b dX1_patch_49 rfl (lv_at hl 1 rfl) ?_
      refine r_aload_n (x := some o) C.x C.b dX1_patch_50 rfl (lv_at hl 1 rfl) ?_
      refine r_aload (x := some q_6) C.x C.b dX1_patch_51 (lv_at hl 0 rfl) ?_
      refine cw_lamM (q := lq4) (st := [.ref q_6, .ref o, .ref o]) 4 [.ref o, .ref q_6] C hw hR hI hnm lz4 lo4 h (by decide) (show (fits (.object "HeirCases") (va_rf (some o)) = true ∧ narrow (.object "HeirCases") (va_rf (some o)) = (va_rf (some o))) ∧ (fits (.object "HeirCases$Comparison") (va_rf (some q_6)) = true ∧ narrow (.object "HeirCases$Comparison") (va_rf (some q_6)) = (va_rf (some q_6))) ∧ True from ⟨⟨fits_o _ (some o), nar_o _ (some o)⟩, ⟨⟨fits_o _ (some q_6), nar_o _ (some q_6)⟩, trivial⟩⟩) rfl hl.1 (Nat.le_of_ble_eq_true rfl) rfl (Nat.le_of_ble_eq_true rfl) dX1_patch_53 (fun q_9 σ_10 H locs h hI => ?_)
      refine cx_callV (y := yX1_sum) (bytes := cX1_sum) (maxL := 5) (r := some o) (f := fun a_13 => m_X1_sum a_13 (some q_9) σ_10) 0 (fun v => some (.int v)) [.ref q_9] C hx hw hR hI hl.1 h (by decide) rfl (fun aa uu ee => k_X1_sum l hl0 g A aa (some q_9) σ_10 uu ee) (cwV 1 C.t (lw_V q1398 q1400 qs30 q126 q1401) rfl rfl rfl (by decide +kernel) ⟨Nat.le_trans (Nat.le_of_ble_eq_true rfl) hR.f, Nat.le_trans (Nat.le_of_ble_eq_true rfl) hR.lo⟩) rfl rfl (Nat.le_of_ble_eq_true rfl) dX1_patch_58 (fun v_11 σ_12 H locs h hI => ?_)
      refine lv_istore (i := 6) (lv' := [(6, .int v_11), (5, .ref q_6), (0, .ref o), (1, .int x1), (2, .int x2), (3, .int x3), (4, .int x4)]) C.x C.b dX1_patch_61 hl (by decide) rfl (fun ls hl => ?_)
      refine lv_iload C.x C.b dX1_patch_63 (lv_at hl 0 rfl) ?_
      refine lv_iload_n C.x C.b dX1_patch_65 rfl (lv_at hl 4 rfl) ?_
      refine lv_icmp_le (tgt := 80) C.x C.b dX1_patch_66 (by decide) (fun c_14 => ?_) (fun c_14 => ?_)
      · have h := ip c_14 h
        obtain ⟨x4_15, e_, h⟩ := nm_s h
        refine lv_iinc (v := x4_15) (lv' := [(4, .int x4_15), (6, .int v_11), (5, .ref q_6), (0, .ref o), (1, .int x1), (2, .int x2), (3, .int x3)]) C.x C.b dX1_patch_80 hl (k := 6) rfl e_.symm (by decide) rfl (fun ls hl => ?_)
        refine lv_goto (tgt := 21) C.x C.b dX1_patch_83 (by decide) ?_
        exact ih x1 x2 x3 x4_15 _ _ _ _ h hI (lv_sub hl [3, 4, 5, 6, 0] rfl)
      · have h := iN c_14 h
        refine lv_iload C.x C.b dX1_patch_69 (lv_at hl 0 rfl) ?_
        refine lv_istore_n (i := 2) (lv' := [(2, .int v_11), (6, .int v_11), (5, .ref q_6), (0, .ref o), (1, .int x1), (3, .int x3), (4, .int x4)]) C.x C.b dX1_patch_71 rfl hl (by decide) rfl (fun ls hl => ?_)
        refine lv_bipush (v := 10) C.x C.b dX1_patch_72 (by decide) ?_
        refine lv_iload_n C.x C.b dX1_patch_74 rfl (lv_at hl 5 rfl) ?_
        refine lv_imul C.x C.b dX1_patch_75 ?_
        refine lv_iload C.x C.b dX1_patch_76 (lv_at hl 6 rfl) ?_
        refine lv_iadd C.x C.b dX1_patch_78 ?_
        refine tw_lt h (fun x1_16 h => ?_)
        refine lv_istore_n (i := 1) (lv' := [(1, .int x1_16), (2, .int v_11), (6, .int v_11), (5, .ref q_6), (0, .ref o), (3, .int x3), (4, .int x4)]) C.x C.b dX1_patch_79 rfl hl (by decide) rfl (fun ls hl => ?_)
        obtain ⟨x4_17, e_, h⟩ := nm_s h
        refine lv_iinc (v := x4_17) (lv' := [(4, .int x4_17), (1, .int x1_16), (2, .int v_11), (6, .int v_11), (5, .ref q_6), (0, .ref o), (3, .int x3)]) C.x C.b dX1_patch_80 hl (k := 6) rfl e_.symm (by decide) rfl (fun ls hl => ?_)
        refine lv_goto (tgt := 21) C.x C.b dX1_patch_83 (by decide) ?_
        exact ih x1_16 v_11 x3 x4_17 _ _ _ _ h hI (lv_sub hl [5, 1, 2, 6, 0] rfl)

theorem w_X1_patch_6 {z : (cX (Int32)) × cS} {o : Nat} (C : CX p m meth c s args cX1_patch 7 (Option.some Jvm.ClassFile.FieldType.int) RX1) (hnm : s.methodNamed? yX1_patch = some m) (hx : ∀ x ∈ c.exceptionTable.toList, False) (hl0 : l.stackTraces = false) (hw : WKc g A s s.heap) (hR : RM g s R (268) (6688))  : ∀ (n : Nat) (x1 : Int32) (x2 : Int32) (x3 : Int32) (σ : cS) (H : Heap) (locs : List Loc) (ls : Array Slot), b_X1_patch_6 o n x1 x2 x3 σ = some z → CI g A s σ H locs → lv_has ls 7 [(0, .ref o), (1, .int x1), (2, .int x2), (3, .int x3)] → W p l e R s m args below meth c H locs (H.size - s.heap.size) (hsl H - hsl s.heap) (UQ g A (fun v => some (.int v)) z args s (g.2.2.1 3 - s.heap.size) (g.2.2.1 4 - hsl s.heap) below) (F0 m 6 ls []) := by
  intro n
  induction n with
  | zero =>
    intro x1 x2 x3 σ H locs ls h
    cases h
  | succ n ih =>
    intro x1 x2 x3 σ H locs ls h hI hl
    rw [b_X1_patch_6] at h
    refine lv_iload_n C.x C.b dX1_patch_6 rfl (lv_at hl 3 rfl) ?_
    refine r_aload_n (x := some o) C.x C.b dX1_patch_7 rfl (lv_at hl 0 rfl) ?_
    refine cw_gR (r := some o) 0 0 C hw hI h (by decide) rfl in_X1 (by decide) (C.t _ q1172) (fun _ h9 => h9) dX1_patch_8 (fun v_1 h => ?_)
    refine cw_gR (r := v_1) 1 0 C hw hI h (by decide) rfl in_X4 (by decide) (C.t _ q839) (fun _ h9 => h9) dX1_patch_11 (fun v_2 h => ?_)
    refine cw_aL (r := v_2) C hw hI h dX1_patch_14 (fun v_3 h => ?_)
    refine lv_icmp_ge (tgt := 92) C.x C.b dX1_patch_15 (by decide) (fun c_4 => ?_) (fun c_4 => ?_)
    · have h := ip c_4 h
      refine lv_iload_n C.x C.b dX1_patch_92 rfl (lv_at hl 1 rfl) ?_
      exact uq_l h (fun y h => cw_iret C hI h dX1_patch_93)
    · have h := iN c_4 h
      refine lv_iconst (v := 0) C.x C.b dX1_patch_18 (by decide) ?_
      refine lv_istore (i := 4) (lv' := [(4, .int 0), (0, .ref o), (1, .int x1), (2, .int x2), (3, .int x3)]) C.x C.b dX1_patch_19 hl (by decide) rfl (fun ls hl => ?_)
      exact w_X1_patch_21 C hnm hx hl0 hw hR (fun y0 y1 y2 σ H locs ls h hI hl => ih y0 y1 y2 σ H locs ls h hI hl) _ x1 x2 x3 0 _ _ _ _ h hI (lv_sub hl [1, 2, 3, 4, 0] rfl)

theorem k_X1_patch (l : Launch) (hl0 : l.stackTraces = false) (g : cG) (A : Nat → Prop) (o : Nat) (σ : cS) (z : (cX (Int32)) × cS) (h : m_X1_patch o σ = some z) : MetX l yX1_patch (ws_ yX1_patch cX1_patch 7 (Option.some Jvm.ClassFile.FieldType.int)) ({ frames := 268, cells := σ.2 3 - σ.2 0, slots := σ.2 4 - σ.2 1, locals := 6688 }) g A [.ref o] σ (fun v => some (.int v)) z (σ.2 3 - σ.2 0) (σ.2 4 - σ.2 1) := by
  refine metx_of (cc := cX1_patch) (maxL := 7) (ret := (Option.some Jvm.ClassFile.FieldType.int)) (by decide) rfl ?_
  intro p e s m args below meth c s₁ B hml hx hv
  obtain ⟨rfl, hw, hσ⟩ := hv
  have hts := atoms_spec (ws := (ws_ yX1_patch cX1_patch 7 (Option.some Jvm.ClassFile.FieldType.int))) B.pre
  have C : CX p m meth c s ([.ref o] : List Value).toArray cX1_patch 7 (Option.some Jvm.ClassFile.FieldType.int) RX1 := ⟨⟨B.exec, B.bytes, hml, findClass_of_methodNamed B.named, fun w h => hts w (List.mem_cons_of_mem _ h)⟩, B.returns, B.notSynchronized⟩
  have hnm : s.methodNamed? yX1_patch = some m := B.named
  have e3 : σ.2 3 - σ.2 0 = g.2.2.1 3 - s.heap.size := by rw [hσ.1, hσ.2.2.2.1 3 (by decide)]
  have e4 : σ.2 4 - σ.2 1 = g.2.2.1 4 - hsl s.heap := by rw [hσ.2.1, hσ.2.2.2.1 4 (by decide)]
  have hR : RM g s (headSpec (ws_ yX1_patch cX1_patch 7 (Option.some Jvm.ClassFile.FieldType.int)) ({ frames := 268, cells := σ.2 3 - σ.2 0, slots := σ.2 4 - σ.2 1, locals := 6688 })).room (268) (6688) := ⟨⟨Nat.le_refl _, Nat.le_refl _⟩, Nat.le_of_eq e3.symm, Nat.le_of_eq e4.symm⟩
  generalize (headSpec (ws_ yX1_patch cX1_patch 7 (Option.some Jvm.ClassFile.FieldType.int)) ({ frames := 268, cells := σ.2 3 - σ.2 0, slots := σ.2 4 - σ.2 1, locals := 6688 })).room = R at hR ⊢
  rw [e3, e4]
  have hI : CI g A s σ s.heap [] := ⟨hσ, va_S.rf, Nat.le_refl _⟩
  have hl := lv_entry ([.ref o]) (n := 7) (Nat.le_of_ble_eq_true rfl)
  rw [lg_entry_eq]
  generalize (lg_sl ([.ref o]) ++ List.replicate (7 - (lg_sl ([.ref o])).length) Slot.unset).toArray = ls at hl ⊢
  have hl : lv_has ls 7 [(0, .ref o)] := hl
  refine W.narrow ?_
  unfold m_X1_patch at h
  refine lv_iconst (v := -1) C.x C.b dX1_patch_0 (by decide) ?_
  refine lv_istore_n (i := 1) (lv' := [(1, .int (-1)), (0, .ref o)]) C.x C.b dX1_patch_1 rfl hl (by decide) rfl (fun ls hl => ?_)
  refine lv_iconst (v := 0) C.x C.b dX1_patch_2 (by decide) ?_
  refine lv_istore_n (i := 2) (lv' := [(2, .int 0), (1, .int (-1)), (0, .ref o)]) C.x C.b dX1_patch_3 rfl hl (by decide) rfl (fun ls hl => ?_)
  refine lv_iconst (v := 0) C.x C.b dX1_patch_4 (by decide) ?_
  refine lv_istore_n (i := 3) (lv' := [(3, .int 0), (2, .int 0), (1, .int (-1)), (0, .ref o)]) C.x C.b dX1_patch_5 rfl hl (by decide) rfl (fun ls hl => ?_)
  exact w_X1_patch_6 C hnm hx hl0 hw hR _ (-1) 0 0 _ _ _ _ h hI (lv_sub hl [3, 2, 1, 0] rfl)

theorem w_X1_overSettled_14 {z : (cX (Int32)) × cS} {o : Nat} (C : CX p m meth c s args cX1_overSettled 7 (Option.some Jvm.ClassFile.FieldType.int) RX1) (hx : ∀ x ∈ c.exceptionTable.toList, False) (hl0 : l.stackTraces = false) (hw : WKc g A s s.heap) (hR : RM g s R (267) (6664))  : ∀ (n : Nat) (x1 : Option Nat) (x2 : Int32) (x3 : Int32) (x4 : Int32) (x5 : Int32) (σ : cS) (H : Heap) (locs : List Loc) (ls : Array Slot), b_X1_overSettled_14 o n x1 x2 x3 x4 x5 σ = some z → CI g A s σ H locs → lv_has ls 7 [(0, .ref o), (1, va_rf x1), (2, .int x2), (3, .int x3), (4, .int x4), (5, .int x5)] → W p l e R s m args below meth c H locs (H.size - s.heap.size) (hsl H - hsl s.heap) (UQ g A (fun v => some (.int v)) z args s (g.2.2.1 3 - s.heap.size) (g.2.2.1 4 - hsl s.heap) below) (F0 m 14 ls []) := by
  intro n
  induction n with
  | zero =>
    intro x1 x2 x3 x4 x5 σ H locs ls h
    cases h
  | succ n ih =>
    intro x1 x2 x3 x4 x5 σ H locs ls h hI hl
    rw [b_X1_overSettled_14] at h
    refine lv_iload C.x C.b dX1_overSettled_14 (lv_at hl 5 rfl) ?_
    refine lv_iload C.x C.b dX1_overSettled_16 (lv_at hl 4 rfl) ?_
    refine lv_icmp_ge (tgt := 74) C.x C.b dX1_overSettled_18 (by decide) (fun c_1 => ?_) (fun c_1 => ?_)
    · have h := ip c_1 h
      refine lv_iload_n C.x C.b dX1_overSettled_74 rfl (lv_at hl 3 rfl) ?_
      exact uq_l h (fun y h => cw_iret C hI h dX1_overSettled_75)
    · have h := iN c_1 h
      refine r_aload_n (x := some o) C.x C.b dX1_overSettled_21 rfl (lv_at hl 0 rfl) ?_
      refine cw_gR (r := some o) 0 0 C hw hI h (by decide) rfl in_X1 (by decide) (C.t _ q1172) (fun _ h9 => h9) dX1_overSettled_22 (fun v_2 h => ?_)
      refine lv_iload C.x C.b dX1_overSettled_25 (lv_at hl 5 rfl) ?_
      refine cw_callV (y := yX4_look) (bytes := cX4_look) (maxL := 2) (r := v_2) (f := fun a_5 => m_X4_look a_5 x5 σ) 1 (fun v => some (va_rf v)) [.int x5] C hw hR hI hl.1 h (by decide) rfl (fun aa vv ss ee => k_X4_look l g A aa x5 σ vv ss ee) (cwV 1 C.t (lw_V q1383 q1223 q1224 q150 q1225) rfl rfl rfl (by decide +kernel) ⟨Nat.le_trans (Nat.le_of_ble_eq_true rfl) hR.f, Nat.le_trans (Nat.le_of_ble_eq_true rfl) hR.lo⟩) rfl rfl (Nat.le_of_ble_eq_true rfl) dX1_overSettled_27 (fun v_3 σ_4 H locs h hI => ?_)
      refine cw_gI (r := v_3) 3 3 C hw hI h (by decide) rfl in_X11 (by decide) (C.t _ q1247) (fun _ h9 => h9) dX1_overSettled_30 (fun v_6 h => ?_)
      refine lv_if_ne (tgt := 68) C.x C.b dX1_overSettled_33 (by decide) (fun c_7 => ?_) (fun c_7 => ?_)
      · have h := iN c_7 h
        obtain ⟨x5_8, e_, h⟩ := nm_s h
        refine lv_iinc (v := x5_8) (lv' := [(5, .int x5_8), (0, .ref o), (1, va_rf x1), (2, .int x2), (3, .int x3), (4, .int x4)]) C.x C.b dX1_overSettled_68 hl (k := 5) rfl e_.symm (by decide) (by first | (simp [List.filter, cat_rf, cat_i, cat_a, cat_n, cat_l, cat_f, cat_d]; done) | (simp [List.filter, cat_rf, cat_i, cat_a, cat_n, cat_l, cat_f, cat_d]; rfl)) (fun ls hl => ?_)
        refine lv_goto (tgt := 14) C.x C.b dX1_overSettled_71 (by decide) ?_
        exact ih x1 x2 x3 x4 x5_8 _ _ _ _ h hI (lv_sub hl [1, 2, 3, 4, 5, 0] rfl)
      · have h := ip c_7 h
        refine r_aload_n (x := x1) C.x C.b dX1_overSettled_36 rfl (lv_at hl 1 rfl) ?_
        refine lv_iload C.x C.b dX1_overSettled_37 (lv_at hl 5 rfl) ?_
        refine cw_callL (r := x1) (F := fun a_11 => dL_of a_11 x5 σ_4) (fun v => some (.int v)) [.int x5] hI h ?_ rfl (fun v_9 σ_10 H locs h hI => ?_)
        · intro aa vv ss er ee
          unfold dL_of at ee
          by_cases hO4 : isO σ_4 aa 64 = true
          · rw [if_pos hO4] at ee
            obtain ⟨fs, ha, ee⟩ := gL_s ee
            obtain ⟨c0, hc0, ee⟩ := kR_s ee
            obtain ⟨c1, hc1, ee⟩ := kR_s ee
            obtain ⟨bb, fsb, rfl, hbb, ee⟩ := nn_s ee
            obtain ⟨cellO, hcO, hoO, hfO⟩ := cw_recv (ci := 0) (Cn := "HeirCases") hw hI hbb (by decide) rfl
            exact cw_lamC (q := lq4) (n := 4) (x := ⟨"HeirCases$OfCase", "of", "(I)I"⟩) (y := yX1_lambda_patch_10) (as := [.ref bb, va_rf c1, .int x5]) (As := [.int x5]) (bytesY := cX1_lambda_patch_10) (maxLY := 3) (retY := (Option.some Jvm.ClassFile.FieldType.int)) (F_ := 267) (L_ := 6664) C hw hR hI hl.1 lz4 lo4 ha lx4 (by decide) (C.t _ q1403) (k_X1_lambda_patch_10 l g A bb c1 x5 σ_4 vv ss ee) (lw_meth q1392) rfl rfl rfl q126 (Nat.le_of_ble_eq_true rfl) (Nat.le_of_ble_eq_true rfl) (fun R' s' a' below' methk ck Q' ls' hb hF hl kk => lv_aload_n C.x hb ld4_0 rfl (lv_at hl 0 rfl) (cw_lget C.x hb (hF 0 (17, 16) rfl) (lam_cell (n := 4) hI ha) (by simp) (arr_at hc0) ld4_1 (lv_aload_n C.x hb ld4_4 rfl (lv_at hl 0 rfl) (cw_lget C.x hb (hF 1 (19, 18) rfl) (lam_cell (n := 4) hI ha) (by simp) (arr_at hc1) ld4_5 (lv_iload_n C.x hb ld4_8 rfl (lv_at hl 1 rfl) (kk)))))) (lamT_V (q := lq4) (n := 4) (o := bb) (cB := 0) (as := [va_rf c1, .int x5]) C.t (hw.2.2.2.2.2.2.2.2.2.2.2.2.2.2.2.1.2.2.1 _ _ lz4) lo4 ly4 (by decide +kernel) rfl q1392 q1391 qs28 q126 rfl ld4_9 hcO hoO hfO) (Or.inr ⟨vv, .int, rfl, rfl, rfl, Or.inl rfl, ld4_12⟩) (Nat.le_of_ble_eq_true rfl) rfl rfl (Nat.le_of_ble_eq_true rfl) dX1_overSettled_39
          rw [if_neg hO4] at ee
          by_cases hO5 : isO σ_4 aa 65 = true
          · rw [if_pos hO5] at ee
            obtain ⟨fs, ha, ee⟩ := gL_s ee
            obtain ⟨c0, hc0, ee⟩ := kR_s ee
            obtain ⟨bb, fsb, rfl, hbb, ee⟩ := nn_s ee
            obtain ⟨cellO, hcO, hoO, hfO⟩ := cw_recv (ci := 0) (Cn := "HeirCases") hw hI hbb (by decide) rfl
            exact cw_lamC (q := lq5) (n := 5) (x := ⟨"HeirCases$OfCase", "of", "(I)I"⟩) (y := yX1_lambda_dearest_11) (as := [.ref bb, .int x5]) (As := [.int x5]) (bytesY := cX1_lambda_dearest_11) (maxLY := 2) (retY := (Option.some Jvm.ClassFile.FieldType.int)) (F_ := 267) (L_ := 6664) C hw hR hI hl.1 lz5 lo5 ha lx5 (by decide) (C.t _ q1403) (k_X1_lambda_dearest_11 l g A bb x5 σ_4 vv ss ee) (lw_meth q1412) rfl rfl rfl q126 (Nat.le_of_ble_eq_true rfl) (Nat.le_of_ble_eq_true rfl) (fun R' s' a' below' methk ck Q' ls' hb hF hl kk => lv_aload_n C.x hb ld5_0 rfl (lv_at hl 0 rfl) (cw_lget C.x hb (hF 0 (15, 14) rfl) (lam_cell (n := 5) hI ha) (by simp) (arr_at hc0) ld5_1 (lv_iload_n C.x hb ld5_4 rfl (lv_at hl 1 rfl) (kk)))) (lamT_V (q := lq5) (n := 5) (o := bb) (cB := 0) (as := [.int x5]) C.t (hw.2.2.2.2.2.2.2.2.2.2.2.2.2.2.2.1.2.2.1 _ _ lz5) lo5 ly5 (by decide +kernel) rfl q1412 q1411 qs31 q126 rfl ld5_5 hcO hoO hfO) (Or.inr ⟨vv, .int, rfl, rfl, rfl, Or.inl rfl, ld5_8⟩) (Nat.le_of_ble_eq_true rfl) rfl rfl (Nat.le_of_ble_eq_true rfl) dX1_overSettled_39
          rw [if_neg hO5] at ee
          by_cases hO6 : isO σ_4 aa 66 = true
          · rw [if_pos hO6] at ee
            obtain ⟨fs, ha, ee⟩ := gL_s ee
            obtain ⟨c0, hc0, ee⟩ := kR_s ee
            obtain ⟨bb, fsb, rfl, hbb, ee⟩ := nn_s ee
            obtain ⟨cellO, hcO, hoO, hfO⟩ := cw_recv (ci := 0) (Cn := "HeirCases") hw hI hbb (by decide) rfl
            exact cw_lamC (q := lq6) (n := 6) (x := ⟨"HeirCases$OfCase", "of", "(I)I"⟩) (y := yX1_left) (as := [.ref bb, .int x5]) (As := [.int x5]) (bytesY := cX1_left) (maxLY := 4) (retY := (Option.some Jvm.ClassFile.FieldType.int)) (F_ := 267) (L_ := 6664) C hw hR hI hl.1 lz6 lo6 ha lx6 (by decide) (C.t _ q1403) (k_X1_left l g A bb x5 σ_4 vv ss ee) (lw_meth q1440) rfl rfl rfl q126 (Nat.le_of_ble_eq_true rfl) (Nat.le_of_ble_eq_true rfl) (fun R' s' a' below' methk ck Q' ls' hb hF hl kk => lv_aload_n C.x hb ld6_0 rfl (lv_at hl 0 rfl) (cw_lget C.x hb (hF 0 (15, 14) rfl) (lam_cell (n := 6) hI ha) (by simp) (arr_at hc0) ld6_1 (lv_iload_n C.x hb ld6_4 rfl (lv_at hl 1 rfl) (kk)))) (lamT_V (q := lq6) (n := 6) (o := bb) (cB := 0) (as := [.int x5]) C.t (hw.2.2.2.2.2.2.2.2.2.2.2.2.2.2.2.1.2.2.1 _ _ lz6) lo6 ly6 (by decide +kernel) rfl q1440 q1439 qs34 q126 rfl ld6_5 hcO hoO hfO) (Or.inr ⟨vv, .int, rfl, rfl, rfl, Or.inl rfl, ld6_8⟩) (Nat.le_of_ble_eq_true rfl) rfl rfl (Nat.le_of_ble_eq_true rfl) dX1_overSettled_39
          rw [if_neg hO6] at ee
          by_cases hO7 : isO σ_4 aa 67 = true
          · rw [if_pos hO7] at ee
            obtain ⟨fs, ha, ee⟩ := gL_s ee
            obtain ⟨c0, hc0, ee⟩ := kR_s ee
            obtain ⟨bb, fsb, rfl, hbb, ee⟩ := nn_s ee
            obtain ⟨cellO, hcO, hoO, hfO⟩ := cw_recv (ci := 0) (Cn := "HeirCases") hw hI hbb (by decide) rfl
            exact cw_lamC (q := lq7) (n := 7) (x := ⟨"HeirCases$OfCase", "of", "(I)I"⟩) (y := yX1_lambda_meanDuties_12) (as := [.ref bb, .int x5]) (As := [.int x5]) (bytesY := cX1_lambda_meanDuties_12) (maxLY := 2) (retY := (Option.some Jvm.ClassFile.FieldType.int)) (F_ := 267) (L_ := 6664) C hw hR hI hl.1 lz7 lo7 ha lx7 (by decide) (C.t _ q1403) (k_X1_lambda_meanDuties_12 l g A bb x5 σ_4 vv ss ee) (lw_meth q1453) rfl rfl rfl q126 (Nat.le_of_ble_eq_true rfl) (Nat.le_of_ble_eq_true rfl) (fun R' s' a' below' methk ck Q' ls' hb hF hl kk => lv_aload_n C.x hb ld7_0 rfl (lv_at hl 0 rfl) (cw_lget C.x hb (hF 0 (15, 14) rfl) (lam_cell (n := 7) hI ha) (by simp) (arr_at hc0) ld7_1 (lv_iload_n C.x hb ld7_4 rfl (lv_at hl 1 rfl) (kk)))) (lamT_V (q := lq7) (n := 7) (o := bb) (cB := 0) (as := [.int x5]) C.t (hw.2.2.2.2.2.2.2.2.2.2.2.2.2.2.2.1.2.2.1 _ _ lz7) lo7 ly7 (by decide +kernel) rfl q1453 q1452 qs35 q126 rfl ld7_5 hcO hoO hfO) (Or.inr ⟨vv, .int, rfl, rfl, rfl, Or.inl rfl, ld7_8⟩) (Nat.le_of_ble_eq_true rfl) rfl rfl (Nat.le_of_ble_eq_true rfl) dX1_overSettled_39
          rw [if_neg hO7] at ee
          by_cases hO8 : isO σ_4 aa 68 = true
          · rw [if_pos hO8] at ee
            obtain ⟨fs, ha, ee⟩ := gL_s ee
            obtain ⟨c0, hc0, ee⟩ := kR_s ee
            obtain ⟨c1, hc1, ee⟩ := kI_s ee
            obtain ⟨bb, fsb, rfl, hbb, ee⟩ := nn_s ee
            obtain ⟨cellO, hcO, hoO, hfO⟩ := cw_recv (ci := 0) (Cn := "HeirCases") hw hI hbb (by decide) rfl
            exact cw_lamC (q := lq8) (n := 8) (x := ⟨"HeirCases$OfCase", "of", "(I)I"⟩) (y := yX1_lambda_heir_0) (as := [.ref bb, .int c1, .int x5]) (As := [.int x5]) (bytesY := cX1_lambda_heir_0) (maxLY := 3) (retY := (Option.some Jvm.ClassFile.FieldType.int)) (F_ := 267) (L_ := 6664) C hw hR hI hl.1 lz8 lo8 ha lx8 (by decide) (C.t _ q1403) (k_X1_lambda_heir_0 l g A bb c1 x5 σ_4 vv ss ee) (lw_meth q1574) rfl rfl rfl q126 (Nat.le_of_ble_eq_true rfl) (Nat.le_of_ble_eq_true rfl) (fun R' s' a' below' methk ck Q' ls' hb hF hl kk => lv_aload_n C.x hb ld8_0 rfl (lv_at hl 0 rfl) (cw_lget C.x hb (hF 0 (17, 16) rfl) (lam_cell (n := 8) hI ha) (by simp) (arr_at hc0) ld8_1 (lv_aload_n C.x hb ld8_4 rfl (lv_at hl 0 rfl) (cw_lget C.x hb (hF 1 (19, 18) rfl) (lam_cell (n := 8) hI ha) (by simp) (arr_at hc1) ld8_5 (lv_iload_n C.x hb ld8_8 rfl (lv_at hl 1 rfl) (kk)))))) (lamT_V (q := lq8) (n := 8) (o := bb) (cB := 0) (as := [.int c1, .int x5]) C.t (hw.2.2.2.2.2.2.2.2.2.2.2.2.2.2.2.1.2.2.1 _ _ lz8) lo8 ly8 (by decide +kernel) rfl q1574 q1573 qs37 q126 rfl ld8_9 hcO hoO hfO) (Or.inr ⟨vv, .int, rfl, rfl, rfl, Or.inl rfl, ld8_12⟩) (Nat.le_of_ble_eq_true rfl) rfl rfl (Nat.le_of_ble_eq_true rfl) dX1_overSettled_39
          rw [if_neg hO8] at ee
          by_cases hO9 : isO σ_4 aa 69 = true
          · rw [if_pos hO9] at ee
            obtain ⟨fs, ha, ee⟩ := gL_s ee
            obtain ⟨c0, hc0, ee⟩ := kR_s ee
            obtain ⟨c1, hc1, ee⟩ := kI_s ee
            obtain ⟨bb, fsb, rfl, hbb, ee⟩ := nn_s ee
            obtain ⟨cellO, hcO, hoO, hfO⟩ := cw_recv (ci := 0) (Cn := "HeirCases") hw hI hbb (by decide) rfl
            exact cw_lamC (q := lq9) (n := 9) (x := ⟨"HeirCases$OfCase", "of", "(I)I"⟩) (y := yX1_lambda_heir_1) (as := [.ref bb, .int c1, .int x5]) (As := [.int x5]) (bytesY := cX1_lambda_heir_1) (maxLY := 3) (retY := (Option.some Jvm.ClassFile.FieldType.int)) (F_ := 267) (L_ := 6664) C hw hR hI hl.1 lz9 lo9 ha lx9 (by decide) (C.t _ q1403) (k_X1_lambda_heir_1 l g A bb c1 x5 σ_4 vv ss ee) (lw_meth q1577) rfl rfl rfl q126 (Nat.le_of_ble_eq_true rfl) (Nat.le_of_ble_eq_true rfl) (fun R' s' a' below' methk ck Q' ls' hb hF hl kk => lv_aload_n C.x hb ld9_0 rfl (lv_at hl 0 rfl) (cw_lget C.x hb (hF 0 (17, 16) rfl) (lam_cell (n := 9) hI ha) (by simp) (arr_at hc0) ld9_1 (lv_aload_n C.x hb ld9_4 rfl (lv_at hl 0 rfl) (cw_lget C.x hb (hF 1 (19, 18) rfl) (lam_cell (n := 9) hI ha) (by simp) (arr_at hc1) ld9_5 (lv_iload_n C.x hb ld9_8 rfl (lv_at hl 1 rfl) (kk)))))) (lamT_V (q := lq9) (n := 9) (o := bb) (cB := 0) (as := [.int c1, .int x5]) C.t (hw.2.2.2.2.2.2.2.2.2.2.2.2.2.2.2.1.2.2.1 _ _ lz9) lo9 ly9 (by decide +kernel) rfl q1577 q1576 qs38 q126 rfl ld9_9 hcO hoO hfO) (Or.inr ⟨vv, .int, rfl, rfl, rfl, Or.inl rfl, ld9_12⟩) (Nat.le_of_ble_eq_true rfl) rfl rfl (Nat.le_of_ble_eq_true rfl) dX1_overSettled_39
          rw [if_neg hO9] at ee
          by_cases hO10 : isO σ_4 aa 70 = true
          · rw [if_pos hO10] at ee
            obtain ⟨fs, ha, ee⟩ := gL_s ee
            obtain ⟨c0, hc0, ee⟩ := kR_s ee
            obtain ⟨c1, hc1, ee⟩ := kI_s ee
            obtain ⟨bb, fsb, rfl, hbb, ee⟩ := nn_s ee
            obtain ⟨cellO, hcO, hoO, hfO⟩ := cw_recv (ci := 0) (Cn := "HeirCases") hw hI hbb (by decide) rfl
            exact cw_lamC (q := lq10) (n := 10) (x := ⟨"HeirCases$OfCase", "of", "(I)I"⟩) (y := yX1_lambda_rule_2) (as := [.ref bb, .int c1, .int x5]) (As := [.int x5]) (bytesY := cX1_lambda_rule_2) (maxLY := 3) (retY := (Option.some Jvm.ClassFile.FieldType.int)) (F_ := 267) (L_ := 6664) C hw hR hI hl.1 lz10 lo10 ha lx10 (by decide) (C.t _ q1403) (k_X1_lambda_rule_2 l g A bb c1 x5 σ_4 vv ss ee) (lw_meth q1590) rfl rfl rfl q126 (Nat.le_of_ble_eq_true rfl) (Nat.le_of_ble_eq_true rfl) (fun R' s' a' below' methk ck Q' ls' hb hF hl kk => lv_aload_n C.x hb ld10_0 rfl (lv_at hl 0 rfl) (cw_lget C.x hb (hF 0 (17, 16) rfl) (lam_cell (n := 10) hI ha) (by simp) (arr_at hc0) ld10_1 (lv_aload_n C.x hb ld10_4 rfl (lv_at hl 0 rfl) (cw_lget C.x hb (hF 1 (19, 18) rfl) (lam_cell (n := 10) hI ha) (by simp) (arr_at hc1) ld10_5 (lv_iload_n C.x hb ld10_8 rfl (lv_at hl 1 rfl) (kk)))))) (lamT_V (q := lq10) (n := 10) (o := bb) (cB := 0) (as := [.int c1, .int x5]) C.t (hw.2.2.2.2.2.2.2.2.2.2.2.2.2.2.2.1.2.2.1 _ _ lz10) lo10 ly10 (by decide +kernel) rfl q1590 q1589 qs40 q126 rfl ld10_9 hcO hoO hfO) (Or.inr ⟨vv, .int, rfl, rfl, rfl, Or.inl rfl, ld10_12⟩) (Nat.le_of_ble_eq_true rfl) rfl rfl (Nat.le_of_ble_eq_true rfl) dX1_overSettled_39
          rw [if_neg hO10] at ee
          by_cases hO11 : isO σ_4 aa 71 = true
          · rw [if_pos hO11] at ee
            obtain ⟨fs, ha, ee⟩ := gL_s ee
            obtain ⟨c0, hc0, ee⟩ := kR_s ee
            obtain ⟨c1, hc1, ee⟩ := kI_s ee
            obtain ⟨bb, fsb, rfl, hbb, ee⟩ := nn_s ee
            obtain ⟨cellO, hcO, hoO, hfO⟩ := cw_recv (ci := 0) (Cn := "HeirCases") hw hI hbb (by decide) rfl
            exact cw_lamC (q := lq11) (n := 11) (x := ⟨"HeirCases$OfCase", "of", "(I)I"⟩) (y := yX1_lambda_rule_3) (as := [.ref bb, .int c1, .int x5]) (As := [.int x5]) (bytesY := cX1_lambda_rule_3) (maxLY := 3) (retY := (Option.some Jvm.ClassFile.FieldType.int)) (F_ := 267) (L_ := 6664) C hw hR hI hl.1 lz11 lo11 ha lx11 (by decide) (C.t _ q1403) (k_X1_lambda_rule_3 l g A bb c1 x5 σ_4 vv ss ee) (lw_meth q1593) rfl rfl rfl q126 (Nat.le_of_ble_eq_true rfl) (Nat.le_of_ble_eq_true rfl) (fun R' s' a' below' methk ck Q' ls' hb hF hl kk => lv_aload_n C.x hb ld11_0 rfl (lv_at hl 0 rfl) (cw_lget C.x hb (hF 0 (17, 16) rfl) (lam_cell (n := 11) hI ha) (by simp) (arr_at hc0) ld11_1 (lv_aload_n C.x hb ld11_4 rfl (lv_at hl 0 rfl) (cw_lget C.x hb (hF 1 (19, 18) rfl) (lam_cell (n := 11) hI ha) (by simp) (arr_at hc1) ld11_5 (lv_iload_n C.x hb ld11_8 rfl (lv_at hl 1 rfl) (kk)))))) (lamT_V (q := lq11) (n := 11) (o := bb) (cB := 0) (as := [.int c1, .int x5]) C.t (hw.2.2.2.2.2.2.2.2.2.2.2.2.2.2.2.1.2.2.1 _ _ lz11) lo11 ly11 (by decide +kernel) rfl q1593 q1592 qs41 q126 rfl ld11_9 hcO hoO hfO) (Or.inr ⟨vv, .int, rfl, rfl, rfl, Or.inl rfl, ld11_12⟩) (Nat.le_of_ble_eq_true rfl) rfl rfl (Nat.le_of_ble_eq_true rfl) dX1_overSettled_39
          rw [if_neg hO11] at ee
          by_cases hO12 : isO σ_4 aa 72 = true
          · rw [if_pos hO12] at ee
            obtain ⟨fs, ha, ee⟩ := gL_s ee
            obtain ⟨c0, hc0, ee⟩ := kR_s ee
            obtain ⟨c1, hc1, ee⟩ := kI_s ee
            obtain ⟨bb, fsb, rfl, hbb, ee⟩ := nn_s ee
            obtain ⟨cellO, hcO, hoO, hfO⟩ := cw_recv (ci := 0) (Cn := "HeirCases") hw hI hbb (by decide) rfl
            exact cw_lamC (q := lq12) (n := 12) (x := ⟨"HeirCases$OfCase", "of", "(I)I"⟩) (y := yX1_lambda_rule_4) (as := [.ref bb, .int c1, .int x5]) (As := [.int x5]) (bytesY := cX1_lambda_rule_4) (maxLY := 3) (retY := (Option.some Jvm.ClassFile.FieldType.int)) (F_ := 267) (L_ := 6664) C hw hR hI hl.1 lz12 lo12 ha lx12 (by decide) (C.t _ q1403) (k_X1_lambda_rule_4 l g A bb c1 x5 σ_4 vv ss ee) (lw_meth q1596) rfl rfl rfl q126 (Nat.le_of_ble_eq_true rfl) (Nat.le_of_ble_eq_true rfl) (fun R' s' a' below' methk ck Q' ls' hb hF hl kk => lv_aload_n C.x hb ld12_0 rfl (lv_at hl 0 rfl) (cw_lget C.x hb (hF 0 (17, 16) rfl) (lam_cell (n := 12) hI ha) (by simp) (arr_at hc0) ld12_1 (lv_aload_n C.x hb ld12_4 rfl (lv_at hl 0 rfl) (cw_lget C.x hb (hF 1 (19, 18) rfl) (lam_cell (n := 12) hI ha) (by simp) (arr_at hc1) ld12_5 (lv_iload_n C.x hb ld12_8 rfl (lv_at hl 1 rfl) (kk)))))) (lamT_V (q := lq12) (n := 12) (o := bb) (cB := 0) (as := [.int c1, .int x5]) C.t (hw.2.2.2.2.2.2.2.2.2.2.2.2.2.2.2.1.2.2.1 _ _ lz12) lo12 ly12 (by decide +kernel) rfl q1596 q1595 qs42 q126 rfl ld12_9 hcO hoO hfO) (Or.inr ⟨vv, .int, rfl, rfl, rfl, Or.inl rfl, ld12_12⟩) (Nat.le_of_ble_eq_true rfl) rfl rfl (Nat.le_of_ble_eq_true rfl) dX1_overSettled_39
          rw [if_neg hO12] at ee
          by_cases hO13 : isO σ_4 aa 73 = true
          · rw [if_pos hO13] at ee
            obtain ⟨fs, ha, ee⟩ := gL_s ee
            obtain ⟨c0, hc0, ee⟩ := kR_s ee
            obtain ⟨c1, hc1, ee⟩ := kI_s ee
            obtain ⟨c2, hc2, ee⟩ := kI_s ee
            obtain ⟨bb, fsb, rfl, hbb, ee⟩ := nn_s ee
            have ee := unx_s ee
            obtain ⟨cellO, hcO, hoO, hfO⟩ := cw_recv (ci := 0) (Cn := "HeirCases") hw hI hbb (by decide) rfl
            exact cw_lamC (q := lq13) (n := 13) (x := ⟨"HeirCases$OfCase", "of", "(I)I"⟩) (y := yX1_lambda_isWider_5) (as := [.ref bb, .int c1, .int c2, .int x5]) (As := [.int x5]) (bytesY := cX1_lambda_isWider_5) (maxLY := 4) (retY := (Option.some Jvm.ClassFile.FieldType.int)) (F_ := 267) (L_ := 6664) C hw hR hI hl.1 lz13 lo13 ha lx13 (by decide) (C.t _ q1403) (k_X1_lambda_isWider_5 l hl0 g A bb c1 c2 x5 σ_4 (.inl vv, ss) ee) (lw_meth q1817) rfl rfl rfl q126 (Nat.le_of_ble_eq_true rfl) (Nat.le_of_ble_eq_true rfl) (fun R' s' a' below' methk ck Q' ls' hb hF hl kk => lv_aload_n C.x hb ld13_0 rfl (lv_at hl 0 rfl) (cw_lget C.x hb (hF 0 (18, 17) rfl) (lam_cell (n := 13) hI ha) (by simp) (arr_at hc0) ld13_1 (lv_aload_n C.x hb ld13_4 rfl (lv_at hl 0 rfl) (cw_lget C.x hb (hF 1 (20, 19) rfl) (lam_cell (n := 13) hI ha) (by simp) (arr_at hc1) ld13_5 (lv_aload_n C.x hb ld13_8 rfl (lv_at hl 0 rfl) (cw_lget C.x hb (hF 2 (22, 21) rfl) (lam_cell (n := 13) hI ha) (by simp) (arr_at hc2) ld13_9 (lv_iload_n C.x hb ld13_12 rfl (lv_at hl 1 rfl) (kk)))))))) (lamT_V (q := lq13) (n := 13) (o := bb) (cB := 0) (as := [.int c1, .int c2, .int x5]) C.t (hw.2.2.2.2.2.2.2.2.2.2.2.2.2.2.2.1.2.2.1 _ _ lz13) lo13 ly13 (by decide +kernel) rfl q1817 q1816 qs46 q126 rfl ld13_13 hcO hoO hfO) (Or.inr ⟨vv, .int, rfl, rfl, rfl, Or.inl rfl, ld13_16⟩) (Nat.le_of_ble_eq_true rfl) rfl rfl (Nat.le_of_ble_eq_true rfl) dX1_overSettled_39
          rw [if_neg hO13] at ee
          by_cases hO14 : isO σ_4 aa 74 = true
          · rw [if_pos hO14] at ee
            obtain ⟨fs, ha, ee⟩ := gL_s ee
            obtain ⟨c0, hc0, ee⟩ := kR_s ee
            obtain ⟨c1, hc1, ee⟩ := kI_s ee
            obtain ⟨c2, hc2, ee⟩ := kI_s ee
            obtain ⟨bb, fsb, rfl, hbb, ee⟩ := nn_s ee
            have ee := unx_s ee
            obtain ⟨cellO, hcO, hoO, hfO⟩ := cw_recv (ci := 0) (Cn := "HeirCases") hw hI hbb (by decide) rfl
            exact cw_lamC (q := lq14) (n := 14) (x := ⟨"HeirCases$OfCase", "of", "(I)I"⟩) (y := yX1_lambda_common_6) (as := [.ref bb, .int c1, .int c2, .int x5]) (As := [.int x5]) (bytesY := cX1_lambda_common_6) (maxLY := 4) (retY := (Option.some Jvm.ClassFile.FieldType.int)) (F_ := 267) (L_ := 6664) C hw hR hI hl.1 lz14 lo14 ha lx14 (by decide) (C.t _ q1403) (k_X1_lambda_common_6 l hl0 g A bb c1 c2 x5 σ_4 (.inl vv, ss) ee) (lw_meth q1828) rfl rfl rfl q126 (Nat.le_of_ble_eq_true rfl) (Nat.le_of_ble_eq_true rfl) (fun R' s' a' below' methk ck Q' ls' hb hF hl kk => lv_aload_n C.x hb ld14_0 rfl (lv_at hl 0 rfl) (cw_lget C.x hb (hF 0 (18, 17) rfl) (lam_cell (n := 14) hI ha) (by simp) (arr_at hc0) ld14_1 (lv_aload_n C.x hb ld14_4 rfl (lv_at hl 0 rfl) (cw_lget C.x hb (hF 1 (20, 19) rfl) (lam_cell (n := 14) hI ha) (by simp) (arr_at hc1) ld14_5 (lv_aload_n C.x hb ld14_8 rfl (lv_at hl 0 rfl) (cw_lget C.x hb (hF 2 (22, 21) rfl) (lam_cell (n := 14) hI ha) (by simp) (arr_at hc2) ld14_9 (lv_iload_n C.x hb ld14_12 rfl (lv_at hl 1 rfl) (kk)))))))) (lamT_V (q := lq14) (n := 14) (o := bb) (cB := 0) (as := [.int c1, .int c2, .int x5]) C.t (hw.2.2.2.2.2.2.2.2.2.2.2.2.2.2.2.1.2.2.1 _ _ lz14) lo14 ly14 (by decide +kernel) rfl q1828 q1827 qs47 q126 rfl ld14_13 hcO hoO hfO) (Or.inr ⟨vv, .int, rfl, rfl, rfl, Or.inl rfl, ld14_16⟩) (Nat.le_of_ble_eq_true rfl) rfl rfl (Nat.le_of_ble_eq_true rfl) dX1_overSettled_39
          rw [if_neg hO14] at ee
          cases ee
        · refine lv_istore (i := 6) (lv' := [(6, .int v_9), (0, .ref o), (1, va_rf x1), (2, .int x2), (3, .int x3), (4, .int x4), (5, .int x5)]) C.x C.b dX1_overSettled_44 hl (by decide) (by first | (simp [List.filter, cat_rf, cat_i, cat_a, cat_n, cat_l, cat_f, cat_d]; done) | (simp [List.filter, cat_rf, cat_i, cat_a, cat_n, cat_l, cat_f, cat_d]; rfl)) (fun ls hl => ?_)
          refine lv_iload_n C.x C.b dX1_overSettled_46 rfl (lv_at hl 4 rfl) ?_
          refine lv_iconst (v := -1) C.x C.b dX1_overSettled_47 (by decide) ?_
          refine lv_icmp_eq (tgt := 61) C.x C.b dX1_overSettled_48 (by decide) (fun c_12 => ?_) (fun c_12 => ?_)
          · have h := ip c_12 h
            refine lv_iload C.x C.b dX1_overSettled_61 (lv_at hl 0 rfl) ?_
            refine lv_goto (tgt := 67) C.x C.b dX1_overSettled_63 (by decide) ?_
            refine lv_istore_n (i := 3) (lv' := [(3, .int v_9), (6, .int v_9), (0, .ref o), (1, va_rf x1), (2, .int x2), (4, .int x4), (5, .int x5)]) C.x C.b dX1_overSettled_67 rfl hl (by decide) (by first | (simp [List.filter, cat_rf, cat_i, cat_a, cat_n, cat_l, cat_f, cat_d]; done) | (simp [List.filter, cat_rf, cat_i, cat_a, cat_n, cat_l, cat_f, cat_d]; rfl)) (fun ls hl => ?_)
            obtain ⟨x5_13, e_, h⟩ := nm_s h
            refine lv_iinc (v := x5_13) (lv' := [(5, .int x5_13), (3, .int v_9), (6, .int v_9), (0, .ref o), (1, va_rf x1), (2, .int x2), (4, .int x4)]) C.x C.b dX1_overSettled_68 hl (k := 6) rfl e_.symm (by decide) (by first | (simp [List.filter, cat_rf, cat_i, cat_a, cat_n, cat_l, cat_f, cat_d]; done) | (simp [List.filter, cat_rf, cat_i, cat_a, cat_n, cat_l, cat_f, cat_d]; rfl)) (fun ls hl => ?_)
            refine lv_goto (tgt := 14) C.x C.b dX1_overSettled_71 (by decide) ?_
            exact ih x1 x2 v_9 x4 x5_13 _ _ _ _ h hI (lv_sub hl [3, 4, 5, 1, 6, 0] rfl)
          · have h := iN c_12 h
            refine lv_iload_n C.x C.b dX1_overSettled_51 rfl (lv_at hl 3 rfl) ?_
            refine lv_iload C.x C.b dX1_overSettled_52 (lv_at hl 0 rfl) ?_
            refine lv_imul C.x C.b dX1_overSettled_54 ?_
            refine lv_iload_n C.x C.b dX1_overSettled_55 rfl (lv_at hl 3 rfl) ?_
            refine lv_iload_n C.x C.b dX1_overSettled_56 rfl (lv_at hl 4 rfl) ?_
            refine lv_imul C.x C.b dX1_overSettled_57 ?_
            refine lv_icmp_le (tgt := 66) C.x C.b dX1_overSettled_58 (by decide) (fun c_14 => ?_) (fun c_14 => ?_)
            · have h := ip c_14 h
              refine lv_iload_n C.x C.b dX1_overSettled_66 rfl (lv_at hl 4 rfl) ?_
              refine lv_istore_n (i := 3) (lv' := [(3, .int x3), (6, .int v_9), (0, .ref o), (1, va_rf x1), (2, .int x2), (4, .int x4), (5, .int x5)]) C.x C.b dX1_overSettled_67 rfl hl (by decide) (by first | (simp [List.filter, cat_rf, cat_i, cat_a, cat_n, cat_l, cat_f, cat_d]; done) | (simp [List.filter, cat_rf, cat_i, cat_a, cat_n, cat_l, cat_f, cat_d]; rfl)) (fun ls hl => ?_)
              obtain ⟨x5_15, e_, h⟩ := nm_s h
              refine lv_iinc (v := x5_15) (lv' := [(5, .int x5_15), (3, .int x3), (6, .int v_9), (0, .ref o), (1, va_rf x1), (2, .int x2), (4, .int x4)]) C.x C.b dX1_overSettled_68 hl (k := 6) rfl e_.symm (by decide) (by first | (simp [List.filter, cat_rf, cat_i, cat_a, cat_n, cat_l, cat_f, cat_d]; done) | (simp [List.filter, cat_rf, cat_i, cat_a, cat_n, cat_l, cat_f, cat_d]; rfl)) (fun ls hl => ?_)
              refine lv_goto (tgt := 14) C.x C.b dX1_overSettled_71 (by decide) ?_
              exact ih x1 x2 x3 x4 x5_15 _ _ _ _ h hI (lv_sub hl [3, 4, 5, 1, 6, 0] rfl)
            · have h := iN c_14 h
              refine lv_iload C.x C.b dX1_overSettled_61 (lv_at hl 0 rfl) ?_
              refine lv_goto (tgt := 67) C.x C.b dX1_overSettled_63 (by decide) ?_
              refine lv_istore_n (i := 3) (lv' := [(3, .int v_9), (6, .int v_9), (0, .ref o), (1, va_rf x1), (2, .int x2), (4, .int x4), (5, .int x5)]) C.x C.b dX1_overSettled_67 rfl hl (by decide) (by first | (simp [List.filter, cat_rf, cat_i, cat_a, cat_n, cat_l, cat_f, cat_d]; done) | (simp [List.filter, cat_rf, cat_i, cat_a, cat_n, cat_l, cat_f, cat_d]; rfl)) (fun ls hl => ?_)
              obtain ⟨x5_16, e_, h⟩ := nm_s h
              refine lv_iinc (v := x5_16) (lv' := [(5, .int x5_16), (3, .int v_9), (6, .int v_9), (0, .ref o), (1, va_rf x1), (2, .int x2), (4, .int x4)]) C.x C.b dX1_overSettled_68 hl (k := 6) rfl e_.symm (by decide) (by first | (simp [List.filter, cat_rf, cat_i, cat_a, cat_n, cat_l, cat_f, cat_d]; done) | (simp [List.filter, cat_rf, cat_i, cat_a, cat_n, cat_l, cat_f, cat_d]; rfl)) (fun ls hl => ?_)
              refine lv_goto (tgt := 14) C.x C.b dX1_overSettled_71 (by decide) ?_
              exact ih x1 x2 v_9 x4 x5_16 _ _ _ _ h hI (lv_sub hl [3, 4, 5, 1, 6, 0] rfl)

theorem k_X1_overSettled (l : Launch) (hl0 : l.stackTraces = false) (g : cG) (A : Nat → Prop) (o : Nat) (x1 : Option Nat) (x2 : Int32) (σ : cS) (z : (cX (Int32)) × cS) (h : m_X1_overSettled o x1 x2 σ = some z) : MetX l yX1_overSettled (ws_ yX1_overSettled cX1_overSettled 7 (Option.some Jvm.ClassFile.FieldType.int)) ({ frames := 267, cells := σ.2 3 - σ.2 0, slots := σ.2 4 - σ.2 1, locals := 6664 }) g A [.ref o, va_rf x1, .int x2] σ (fun v => some (.int v)) z (σ.2 3 - σ.2 0) (σ.2 4 - σ.2 1) := by
  refine metx_of (cc := cX1_overSettled) (maxL := 7) (ret := (Option.some Jvm.ClassFile.FieldType.int)) (by decide) rfl ?_
  intro p e s m args below meth c s₁ B hml hx hv
  obtain ⟨rfl, hw, hσ⟩ := hv
  have hts := atoms_spec (ws := (ws_ yX1_overSettled cX1_overSettled 7 (Option.some Jvm.ClassFile.FieldType.int))) B.pre
  have C : CX p m meth c s ([.ref o, va_rf x1, .int x2] : List Value).toArray cX1_overSettled 7 (Option.some Jvm.ClassFile.FieldType.int) RX1 := ⟨⟨B.exec, B.bytes, hml, findClass_of_methodNamed B.named, fun w h => hts w (List.mem_cons_of_mem _ h)⟩, B.returns, B.notSynchronized⟩
  have e3 : σ.2 3 - σ.2 0 = g.2.2.1 3 - s.heap.size := by rw [hσ.1, hσ.2.2.2.1 3 (by decide)]
  have e4 : σ.2 4 - σ.2 1 = g.2.2.1 4 - hsl s.heap := by rw [hσ.2.1, hσ.2.2.2.1 4 (by decide)]
  have hR : RM g s (headSpec (ws_ yX1_overSettled cX1_overSettled 7 (Option.some Jvm.ClassFile.FieldType.int)) ({ frames := 267, cells := σ.2 3 - σ.2 0, slots := σ.2 4 - σ.2 1, locals := 6664 })).room (267) (6664) := ⟨⟨Nat.le_refl _, Nat.le_refl _⟩, Nat.le_of_eq e3.symm, Nat.le_of_eq e4.symm⟩
  generalize (headSpec (ws_ yX1_overSettled cX1_overSettled 7 (Option.some Jvm.ClassFile.FieldType.int)) ({ frames := 267, cells := σ.2 3 - σ.2 0, slots := σ.2 4 - σ.2 1, locals := 6664 })).room = R at hR ⊢
  rw [e3, e4]
  have hI : CI g A s σ s.heap [] := ⟨hσ, va_S.rf, Nat.le_refl _⟩
  have hlen : (lg_sl ([.ref o, va_rf x1, .int x2])).length ≤ 7 := by rcases x1 with _ | x1 <;> exact Nat.le_of_ble_eq_true rfl
  have hl := lv_entry ([.ref o, va_rf x1, .int x2]) (n := 7) hlen
  rw [lg_entry_eq]
  generalize (lg_sl ([.ref o, va_rf x1, .int x2]) ++ List.replicate (7 - (lg_sl ([.ref o, va_rf x1, .int x2])).length) Slot.unset).toArray = ls at hl ⊢
  have hl : lv_has ls 7 [(0, .ref o), (1, va_rf x1), (2, .int x2)] := by clear hI hw h hσ e3 e4 hR C hts B; rcases x1 with _ | x1 <;> exact hl
  refine W.narrow ?_
  unfold m_X1_overSettled at h
  refine lv_iconst (v := -1) C.x C.b dX1_overSettled_0 (by decide) ?_
  refine lv_istore_n (i := 3) (lv' := [(3, .int (-1)), (0, .ref o), (1, va_rf x1), (2, .int x2)]) C.x C.b dX1_overSettled_1 rfl hl (by decide) (by first | (simp [List.filter, cat_rf, cat_i, cat_a, cat_n, cat_l, cat_f, cat_d]; done) | (simp [List.filter, cat_rf, cat_i, cat_a, cat_n, cat_l, cat_f, cat_d]; rfl)) (fun ls hl => ?_)
  refine r_aload_n (x := some o) C.x C.b dX1_overSettled_2 rfl (lv_at hl 1 rfl) ?_
  refine cw_gR (r := some o) 0 0 C hw hI h (by decide) rfl in_X1 (by decide) (C.t _ q1172) (fun _ h9 => h9) dX1_overSettled_3 (fun v_1 h => ?_)
  refine cw_callV (y := yX4_cases) (bytes := cX4_cases) (maxL := 3) (r := v_1) (f := fun a_4 => m_X4_cases a_4 σ) 1 (fun v => some (.int v)) [] C hw hR hI hl.1 h (by decide) rfl (fun aa vv ss ee => k_X4_cases l g A aa σ vv ss ee) (cwV 0 C.t (lw_V q1382 q833 q834 q150 q835) rfl rfl rfl (by decide +kernel) ⟨Nat.le_trans (Nat.le_of_ble_eq_true rfl) hR.f, Nat.le_trans (Nat.le_of_ble_eq_true rfl) hR.lo⟩) rfl rfl (Nat.le_of_ble_eq_true rfl) dX1_overSettled_6 (fun v_2 σ_3 H locs h hI => ?_)
  refine lv_istore (i := 4) (lv' := [(4, .int v_2), (3, .int (-1)), (0, .ref o), (1, va_rf x1), (2, .int x2)]) C.x C.b dX1_overSettled_9 hl (by decide) (by first | (simp [List.filter, cat_rf, cat_i, cat_a, cat_n, cat_l, cat_f, cat_d]; done) | (simp [List.filter, cat_rf, cat_i, cat_a, cat_n, cat_l, cat_f, cat_d]; rfl)) (fun ls hl => ?_)
  refine lv_iconst (v := 0) C.x C.b dX1_overSettled_11 (by decide) ?_
  refine lv_istore (i := 5) (lv' := [(5, .int 0), (4, .int v_2), (3, .int (-1)), (0, .ref o), (1, va_rf x1), (2, .int x2)]) C.x C.b dX1_overSettled_12 hl (by decide) (by first | (simp [List.filter, cat_rf, cat_i, cat_a, cat_n, cat_l, cat_f, cat_d]; done) | (simp [List.filter, cat_rf, cat_i, cat_a, cat_n, cat_l, cat_f, cat_d]; rfl)) (fun ls hl => ?_)
  exact w_X1_overSettled_14 C hx hl0 hw hR _ x1 x2 (-1) v_2 0 _ _ _ _ h hI (lv_sub hl [3, 4, 5, 2, 1, 0] rfl)

theorem w_X1_dearest_22 {z : (cX (Int32)) × cS} {o : Nat} (C : CX p m meth c s args cX1_dearest 4 (Option.some Jvm.ClassFile.FieldType.int) RX1) (hnm : s.methodNamed? yX1_dearest = some m) (hx : ∀ x ∈ c.exceptionTable.toList, False) (hl0 : l.stackTraces = false) (hw : WKc g A s s.heap) (hR : RM g s R (268) (6690))  : ∀ (n : Nat) (x1 : Int32) (x2 : Int32) (x3 : Int32) (σ : cS) (H : Heap) (locs : List Loc) (ls : Array Slot), b_X1_dearest_22 o n x1 x2 x3 σ = some z → CI g A s σ H locs → lv_has ls 4 [(0, .ref o), (1, .int x1), (2, .int x2), (3, .int x3)] → W p l e R s m args below meth c H locs (H.size - s.heap.size) (hsl H - hsl s.heap) (UQ g A (fun v => some (.int v)) z args s (g.2.2.1 3 - s.heap.size) (g.2.2.1 4 - hsl s.heap) below) (F0 m 22 ls []) := by
  intro n
  induction n with
  | zero =>
    intro x1 x2 x3 σ H locs ls h
    cases h
  | succ n ih =>
    intro x1 x2 x3 σ H locs ls h hI hl
    rw [b_X1_dearest_22] at h
    refine lv_iload_n C.x C.b dX1_dearest_22 rfl (lv_at hl 3 rfl) ?_
    refine lv_iload_n C.x C.b dX1_dearest_23 rfl (lv_at hl 2 rfl) ?_
    refine lv_icmp_ge (tgt := 61) C.x C.b dX1_dearest_24 (by decide) (fun c_1 => ?_) (fun c_1 => ?_)
    · have h := ip c_1 h
      refine lv_iconst (v := -1) C.x C.b dX1_dearest_61 (by decide) ?_
      exact uq_l h (fun y h => cw_iret C hI h dX1_dearest_62)
    · have h := iN c_1 h
      refine r_aload_n (x := some o) C.x C.b dX1_dearest_27 rfl (lv_at hl 0 rfl) ?_
      refine cw_gR (r := some o) 0 0 C hw hI h (by decide) rfl in_X1 (by decide) (C.t _ q1172) (fun _ h9 => h9) dX1_dearest_28 (fun v_2 h => ?_)
      refine lv_iload_n C.x C.b dX1_dearest_31 rfl (lv_at hl 3 rfl) ?_
      refine cw_callV (y := yX4_look) (bytes := cX4_look) (maxL := 2) (r := v_2) (f := fun a_5 => m_X4_look a_5 x3 σ) 1 (fun v => some (va_rf v)) [.int x3] C hw hR hI hl.1 h (by decide) rfl (fun aa vv ss ee => k_X4_look l g A aa x3 σ vv ss ee) (cwV 1 C.t (lw_V q1383 q1223 q1224 q150 q1225) rfl rfl rfl (by decide +kernel) ⟨Nat.le_trans (Nat.le_of_ble_eq_true rfl) hR.f, Nat.le_trans (Nat.le_of_ble_eq_true rfl) hR.lo⟩) rfl rfl (Nat.le_of_ble_eq_true rfl) dX1_dearest_32 (fun v_3 σ_4 H locs h hI => ?_)
      refine cw_gI (r := v_3) 3 3 C hw hI h (by decide) rfl in_X11 (by decide) (C.t _ q1247) (fun _ h9 => h9) dX1_dearest_35 (fun v_6 h => ?_)
      refine lv_if_ne (tgt := 55) C.x C.b dX1_dearest_38 (by decide) (fun c_7 => ?_) (fun c_7 => ?_)
      · have h := iN c_7 h
        obtain ⟨x3_8, e_, h⟩ := nm_s h
        refine lv_iinc (v := x3_8) (lv' := [(3, .int x3_8), (0, .ref o), (1, .int x1), (2, .int x2)]) C.x C.b dX1_dearest_55 hl (k := 3) rfl e_.symm (by decide) rfl (fun ls hl => ?_)
        refine lv_goto (tgt := 22) C.x C.b dX1_dearest_58 (by decide) ?_
        exact ih x1 x2 x3_8 _ _ _ _ h hI (lv_sub hl [1, 2, 3, 0] rfl)
      · have h := ip c_7 h
        refine r_aload_n (x := some o) C.x C.b dX1_dearest_41 rfl (lv_at hl 0 rfl) ?_
        refine cw_gR (r := some o) 0 0 C hw hI h (by decide) rfl in_X1 (by decide) (C.t _ q1172) (fun _ h9 => h9) dX1_dearest_42 (fun v_9 h => ?_)
        refine lv_iload_n C.x C.b dX1_dearest_45 rfl (lv_at hl 3 rfl) ?_
        refine cw_callV (y := yX4_duties) (bytes := cX4_duties) (maxL := 4) (r := v_9) (f := fun a_12 => m_X4_duties a_12 x3 σ_4) 1 (fun v => some (.int v)) [.int x3] C hw hR hI hl.1 h (by decide) rfl (fun aa vv ss ee => k_X4_duties l g A aa x3 σ_4 vv ss ee) (cwV 1 C.t (lw_V q1413 q1414 q1415 q150 q1416) rfl rfl rfl (by decide +kernel) ⟨Nat.le_trans (Nat.le_of_ble_eq_true rfl) hR.f, Nat.le_trans (Nat.le_of_ble_eq_true rfl) hR.lo⟩) rfl rfl (Nat.le_of_ble_eq_true rfl) dX1_dearest_46 (fun v_10 σ_11 H locs h hI => ?_)
        refine lv_iload_n C.x C.b dX1_dearest_49 rfl (lv_at hl 1 rfl) ?_
        refine lv_icmp_ne (tgt := 55) C.x C.b dX1_dearest_50 (by decide) (fun c_13 => ?_) (fun c_13 => ?_)
        · have h := iN c_13 h
          obtain ⟨x3_14, e_, h⟩ := nm_s h
          refine lv_iinc (v := x3_14) (lv' := [(3, .int x3_14), (0, .ref o), (1, .int x1), (2, .int x2)]) C.x C.b dX1_dearest_55 hl (k := 3) rfl e_.symm (by decide) rfl (fun ls hl => ?_)
          refine lv_goto (tgt := 22) C.x C.b dX1_dearest_58 (by decide) ?_
          exact ih x1 x2 x3_14 _ _ _ _ h hI (lv_sub hl [1, 2, 3, 0] rfl)
        · have h := ip c_13 h
          refine lv_iload_n C.x C.b dX1_dearest_53 rfl (lv_at hl 3 rfl) ?_
          exact uq_l h (fun y h => cw_iret C hI h dX1_dearest_54)

theorem k_X1_dearest (l : Launch) (hl0 : l.stackTraces = false) (g : cG) (A : Nat → Prop) (o : Nat) (σ : cS) (z : (cX (Int32)) × cS) (h : m_X1_dearest o σ = some z) : MetX l yX1_dearest (ws_ yX1_dearest cX1_dearest 4 (Option.some Jvm.ClassFile.FieldType.int)) ({ frames := 268, cells := σ.2 3 - σ.2 0, slots := σ.2 4 - σ.2 1, locals := 6690 }) g A [.ref o] σ (fun v => some (.int v)) z (σ.2 3 - σ.2 0) (σ.2 4 - σ.2 1) := by
  refine metx_of (cc := cX1_dearest) (maxL := 4) (ret := (Option.some Jvm.ClassFile.FieldType.int)) (by decide) rfl ?_
  intro p e s m args below meth c s₁ B hml hx hv
  obtain ⟨rfl, hw, hσ⟩ := hv
  have hts := atoms_spec (ws := (ws_ yX1_dearest cX1_dearest 4 (Option.some Jvm.ClassFile.FieldType.int))) B.pre
  have C : CX p m meth c s ([.ref o] : List Value).toArray cX1_dearest 4 (Option.some Jvm.ClassFile.FieldType.int) RX1 := ⟨⟨B.exec, B.bytes, hml, findClass_of_methodNamed B.named, fun w h => hts w (List.mem_cons_of_mem _ h)⟩, B.returns, B.notSynchronized⟩
  have hnm : s.methodNamed? yX1_dearest = some m := B.named
  have e3 : σ.2 3 - σ.2 0 = g.2.2.1 3 - s.heap.size := by rw [hσ.1, hσ.2.2.2.1 3 (by decide)]
  have e4 : σ.2 4 - σ.2 1 = g.2.2.1 4 - hsl s.heap := by rw [hσ.2.1, hσ.2.2.2.1 4 (by decide)]
  have hR : RM g s (headSpec (ws_ yX1_dearest cX1_dearest 4 (Option.some Jvm.ClassFile.FieldType.int)) ({ frames := 268, cells := σ.2 3 - σ.2 0, slots := σ.2 4 - σ.2 1, locals := 6690 })).room (268) (6690) := ⟨⟨Nat.le_refl _, Nat.le_refl _⟩, Nat.le_of_eq e3.symm, Nat.le_of_eq e4.symm⟩
  generalize (headSpec (ws_ yX1_dearest cX1_dearest 4 (Option.some Jvm.ClassFile.FieldType.int)) ({ frames := 268, cells := σ.2 3 - σ.2 0, slots := σ.2 4 - σ.2 1, locals := 6690 })).room = R at hR ⊢
  rw [e3, e4]
  have hI : CI g A s σ s.heap [] := ⟨hσ, va_S.rf, Nat.le_refl _⟩
  have hl := lv_entry ([.ref o]) (n := 4) (Nat.le_of_ble_eq_true rfl)
  rw [lg_entry_eq]
  generalize (lg_sl ([.ref o]) ++ List.replicate (4 - (lg_sl ([.ref o])).length) Slot.unset).toArray = ls at hl ⊢
  have hl : lv_has ls 4 [(0, .ref o)] := hl
  refine W.narrow ?_
  unfold m_X1_dearest at h
  refine r_aload_n (x := some o) C.x C.b dX1_dearest_0 rfl (lv_at hl 0 rfl) ?_
  refine r_aload_n (x := some o) C.x C.b dX1_dearest_1 rfl (lv_at hl 0 rfl) ?_
  refine cw_lamM (q := lq5) (st := [.ref o, .ref o]) 5 [.ref o] C hw hR hI hnm lz5 lo5 h (by decide) (show (fits (.object "HeirCases") (va_rf (some o)) = true ∧ narrow (.object "HeirCases") (va_rf (some o)) = (va_rf (some o))) ∧ True from ⟨⟨fits_o _ (some o), nar_o _ (some o)⟩, trivial⟩) rfl hl.1 (Nat.le_of_ble_eq_true rfl) rfl (Nat.le_of_ble_eq_true rfl) dX1_dearest_2 (fun q_1 σ_2 H locs h hI => ?_)
  refine lv_iconst (v := 1) C.x C.b dX1_dearest_7 (by decide) ?_
  refine cx_callV (y := yX1_overSettled) (bytes := cX1_overSettled) (maxL := 7) (r := some o) (f := fun a_5 => m_X1_overSettled a_5 (some q_1) 1 σ_2) 0 (fun v => some (.int v)) [.ref q_1, .int 1] C hx hw hR hI hl.1 h (by decide) rfl (fun aa uu ee => k_X1_overSettled l hl0 g A aa (some q_1) 1 σ_2 uu ee) (cwV 2 C.t (lw_V q1430 q1432 qs33 q126 q1433) rfl rfl rfl (by decide +kernel) ⟨Nat.le_trans (Nat.le_of_ble_eq_true rfl) hR.f, Nat.le_trans (Nat.le_of_ble_eq_true rfl) hR.lo⟩) rfl rfl (Nat.le_of_ble_eq_true rfl) dX1_dearest_8 (fun v_3 σ_4 H locs h hI => ?_)
  refine lv_istore_n (i := 1) (lv' := [(1, .int v_3), (0, .ref o)]) C.x C.b dX1_dearest_11 rfl hl (by decide) rfl (fun ls hl => ?_)
  refine r_aload_n (x := some o) C.x C.b dX1_dearest_12 rfl (lv_at hl 1 rfl) ?_
  refine cw_gR (r := some o) 0 0 C hw hI h (by decide) rfl in_X1 (by decide) (C.t _ q1172) (fun _ h9 => h9) dX1_dearest_13 (fun v_6 h => ?_)
  refine cw_callV (y := yX4_cases) (bytes := cX4_cases) (maxL := 3) (r := v_6) (f := fun a_9 => m_X4_cases a_9 σ_4) 1 (fun v => some (.int v)) [] C hw hR hI hl.1 h (by decide) rfl (fun aa vv ss ee => k_X4_cases l g A aa σ_4 vv ss ee) (cwV 0 C.t (lw_V q1382 q833 q834 q150 q835) rfl rfl rfl (by decide +kernel) ⟨Nat.le_trans (Nat.le_of_ble_eq_true rfl) hR.f, Nat.le_trans (Nat.le_of_ble_eq_true rfl) hR.lo⟩) rfl rfl (Nat.le_of_ble_eq_true rfl) dX1_dearest_16 (fun v_7 σ_8 H locs h hI => ?_)
  refine lv_istore_n (i := 2) (lv' := [(2, .int v_7), (1, .int v_3), (0, .ref o)]) C.x C.b dX1_dearest_19 rfl hl (by decide) rfl (fun ls hl => ?_)
  refine lv_iconst (v := 0) C.x C.b dX1_dearest_20 (by decide) ?_
  refine lv_istore_n (i := 3) (lv' := [(3, .int 0), (2, .int v_7), (1, .int v_3), (0, .ref o)]) C.x C.b dX1_dearest_21 rfl hl (by decide) rfl (fun ls hl => ?_)
  exact w_X1_dearest_22 C hnm hx hl0 hw hR _ v_3 v_7 0 _ _ _ _ h hI (lv_sub hl [3, 2, 1, 0] rfl)

theorem k_X1_gap (l : Launch) (hl0 : l.stackTraces = false) (g : cG) (A : Nat → Prop) (o : Nat) (σ : cS) (z : (cX (Int32)) × cS) (h : m_X1_gap o σ = some z) : MetX l yX1_gap (ws_ yX1_gap cX1_gap 1 (Option.some Jvm.ClassFile.FieldType.int)) ({ frames := 268, cells := σ.2 3 - σ.2 0, slots := σ.2 4 - σ.2 1, locals := 6688 }) g A [.ref o] σ (fun v => some (.int v)) z (σ.2 3 - σ.2 0) (σ.2 4 - σ.2 1) := by
  refine metx_of (cc := cX1_gap) (maxL := 1) (ret := (Option.some Jvm.ClassFile.FieldType.int)) (by decide) rfl ?_
  intro p e s m args below meth c s₁ B hml hx hv
  obtain ⟨rfl, hw, hσ⟩ := hv
  have hts := atoms_spec (ws := (ws_ yX1_gap cX1_gap 1 (Option.some Jvm.ClassFile.FieldType.int))) B.pre
  have C : CX p m meth c s ([.ref o] : List Value).toArray cX1_gap 1 (Option.some Jvm.ClassFile.FieldType.int) RX1 := ⟨⟨B.exec, B.bytes, hml, findClass_of_methodNamed B.named, fun w h => hts w (List.mem_cons_of_mem _ h)⟩, B.returns, B.notSynchronized⟩
  have hnm : s.methodNamed? yX1_gap = some m := B.named
  have e3 : σ.2 3 - σ.2 0 = g.2.2.1 3 - s.heap.size := by rw [hσ.1, hσ.2.2.2.1 3 (by decide)]
  have e4 : σ.2 4 - σ.2 1 = g.2.2.1 4 - hsl s.heap := by rw [hσ.2.1, hσ.2.2.2.1 4 (by decide)]
  have hR : RM g s (headSpec (ws_ yX1_gap cX1_gap 1 (Option.some Jvm.ClassFile.FieldType.int)) ({ frames := 268, cells := σ.2 3 - σ.2 0, slots := σ.2 4 - σ.2 1, locals := 6688 })).room (268) (6688) := ⟨⟨Nat.le_refl _, Nat.le_refl _⟩, Nat.le_of_eq e3.symm, Nat.le_of_eq e4.symm⟩
  generalize (headSpec (ws_ yX1_gap cX1_gap 1 (Option.some Jvm.ClassFile.FieldType.int)) ({ frames := 268, cells := σ.2 3 - σ.2 0, slots := σ.2 4 - σ.2 1, locals := 6688 })).room = R at hR ⊢
  rw [e3, e4]
  have hI : CI g A s σ s.heap [] := ⟨hσ, va_S.rf, Nat.le_refl _⟩
  have hl := lv_entry ([.ref o]) (n := 1) (Nat.le_of_ble_eq_true rfl)
  rw [lg_entry_eq]
  generalize (lg_sl ([.ref o]) ++ List.replicate (1 - (lg_sl ([.ref o])).length) Slot.unset).toArray = ls at hl ⊢
  have hl : lv_has ls 1 [(0, .ref o)] := hl
  refine W.narrow ?_
  unfold m_X1_gap at h
  refine r_aload_n (x := some o) C.x C.b dX1_gap_0 rfl (lv_at hl 0 rfl) ?_
  refine r_aload_n (x := some o) C.x C.b dX1_gap_1 rfl (lv_at hl 0 rfl) ?_
  refine cw_lamM (q := lq6) (st := [.ref o, .ref o]) 6 [.ref o] C hw hR hI hnm lz6 lo6 h (by decide) (show (fits (.object "HeirCases") (va_rf (some o)) = true ∧ narrow (.object "HeirCases") (va_rf (some o)) = (va_rf (some o))) ∧ True from ⟨⟨fits_o _ (some o), nar_o _ (some o)⟩, trivial⟩) rfl hl.1 (Nat.le_of_ble_eq_true rfl) rfl (Nat.le_of_ble_eq_true rfl) dX1_gap_2 (fun q_1 σ_2 H locs h hI => ?_)
  refine cx_callV (y := yX1_sum) (bytes := cX1_sum) (maxL := 5) (r := some o) (f := fun a_5 => m_X1_sum a_5 (some q_1) σ_2) 0 (fun v => some (.int v)) [.ref q_1] C hx hw hR hI hl.1 h (by decide) rfl (fun aa uu ee => k_X1_sum l hl0 g A aa (some q_1) σ_2 uu ee) (cwV 1 C.t (lw_V q1398 q1400 qs30 q126 q1401) rfl rfl rfl (by decide +kernel) ⟨Nat.le_trans (Nat.le_of_ble_eq_true rfl) hR.f, Nat.le_trans (Nat.le_of_ble_eq_true rfl) hR.lo⟩) rfl rfl (Nat.le_of_ble_eq_true rfl) dX1_gap_7 (fun v_3 σ_4 H locs h hI => ?_)
  exact uq_l h (fun y h => cw_iret C hI h dX1_gap_10)

end
