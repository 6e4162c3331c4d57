/-! THE CLASS' WALKS 32: printed by gencl.py -/
section
variable {p : Program} {l : Launch} {e : Env} {R : Room} {s : State} {m : MethodId} {args : Array Value} {below : List Frame} {meth : Method} {c : Code} {g : cG} {A : Nat → Prop}
set_option maxRecDepth 100000
theorem w_X1_size_150 {z : (cX (Int32)) × cS} {o : Nat} (C : CX p m meth c s args cX1_size 2 (Option.some Jvm.ClassFile.FieldType.int) RX1) (hx : ∀ x ∈ c.exceptionTable.toList, False) (hl0 : l.stackTraces = false) (hw : WKc g A s s.heap) (hR : RM g s R (260) (6495))  : ∀ (x1 : Int32) (σ : cS) (H : Heap) (locs : List Loc) (ls : Array Slot), b_X1_size_150 o x1 σ = some z → CI g A s σ H locs → lv_has ls 2 [(0, .ref o), (1, .int x1)] → W p l e R s m args below meth c H locs (H.size - s.heap.size) (hsl H - hsl s.heap) (UQ g A (fun v => some (.int v)) z args s (g.2.2.1 3 - s.heap.size) (g.2.2.1 4 - hsl s.heap) below) (F0 m 150 ls []) := by
  intro x1 σ H locs ls h hI hl
  unfold b_X1_size_150 at h
  refine r_aload_n (x := some o) C.x C.b dX1_size_150 rfl (lv_at hl 0 rfl) ?_
  refine cw_gR (r := some o) 0 0 C hw hI h (by decide) rfl in_X1 (by decide) (C.t _ q1172) (fun _ h9 => h9) dX1_size_151 (fun v_1 h => ?_)
  refine lv_iload_n C.x C.b dX1_size_154 rfl (lv_at hl 1 rfl) ?_
  refine lv_bipush (v := 7) C.x C.b dX1_size_155 (by decide) ?_
  refine lv_isub C.x C.b dX1_size_157 ?_
  refine cw_callV (y := yX4_withVerdict) (bytes := cX4_withVerdict) (maxL := 5) (r := v_1) (f := fun a_4 => m_X4_withVerdict a_4 (x1 - 7) σ) 1 (fun v => some (.int v)) [.int (x1 - 7)] C hw hR hI hl.1 h (by decide) rfl (fun aa vv ss ee => k_X4_withVerdict l g A aa (x1 - 7) σ vv ss ee) (cwV 1 C.t (lw_V q1446 q1219 q1220 q150 q1221) rfl rfl rfl (by decide +kernel) ⟨Nat.le_trans (Nat.le_of_ble_eq_true rfl) hR.f, Nat.le_trans (Nat.le_of_ble_eq_true rfl) hR.lo⟩) rfl rfl (Nat.le_of_ble_eq_true rfl) dX1_size_158 (fun v_2 σ_3 H locs h hI => ?_)
  refine lv_goto (tgt := 191) C.x C.b dX1_size_161 (by decide) ?_
  exact uq_l h (fun y h => cw_iret C hI h dX1_size_191)

theorem k_X1_size (l : Launch) (hl0 : l.stackTraces = false) (g : cG) (A : Nat → Prop) (o : Nat) (x1 : Int32) (σ : cS) (z : (cX (Int32)) × cS) (h : m_X1_size o x1 σ = some z) : MetX l yX1_size (ws_ yX1_size cX1_size 2 (Option.some Jvm.ClassFile.FieldType.int)) ({ frames := 260, cells := σ.2 3 - σ.2 0, slots := σ.2 4 - σ.2 1, locals := 6495 }) g A [.ref o, .int x1] σ (fun v => some (.int v)) z (σ.2 3 - σ.2 0) (σ.2 4 - σ.2 1) := by
  refine metx_of (cc := cX1_size) (maxL := 2) (ret := (Option.some Jvm.ClassFile.FieldType.int)) (by decide) rfl ?_
  intro p e s m args below meth c s₁ B hml hx hv
  obtain ⟨rfl, hw, hσ⟩ := hv
  have hts := atoms_spec (ws := (ws_ yX1_size cX1_size 2 (Option.some Jvm.ClassFile.FieldType.int))) B.pre
  have C : CX p m meth c s ([.ref o, .int x1] : List Value).toArray cX1_size 2 (Option.some Jvm.ClassFile.FieldType.int) RX1 := ⟨⟨B.exec, B.bytes, hml, findClass_of_methodNamed B.named, fun w h => hts w (List.mem_cons_of_mem _ h)⟩, B.returns, B.notSynchronized⟩
  have e3 : σ.2 3 - σ.2 0 = g.2.2.1 3 - s.heap.size := by rw [hσ.1, hσ.2.2.2.1 3 (by decide)]
  have e4 : σ.2 4 - σ.2 1 = g.2.2.1 4 - hsl s.heap := by rw [hσ.2.1, hσ.2.2.2.1 4 (by decide)]
  have hR : RM g s (headSpec (ws_ yX1_size cX1_size 2 (Option.some Jvm.ClassFile.FieldType.int)) ({ frames := 260, cells := σ.2 3 - σ.2 0, slots := σ.2 4 - σ.2 1, locals := 6495 })).room (260) (6495) := ⟨⟨Nat.le_refl _, Nat.le_refl _⟩, Nat.le_of_eq e3.symm, Nat.le_of_eq e4.symm⟩
  generalize (headSpec (ws_ yX1_size cX1_size 2 (Option.some Jvm.ClassFile.FieldType.int)) ({ frames := 260, cells := σ.2 3 - σ.2 0, slots := σ.2 4 - σ.2 1, locals := 6495 })).room = R at hR ⊢
  rw [e3, e4]
  have hI : CI g A s σ s.heap [] := ⟨hσ, va_S.rf, Nat.le_refl _⟩
  have hl := lv_entry ([.ref o, .int x1]) (n := 2) (Nat.le_of_ble_eq_true rfl)
  rw [lg_entry_eq]
  generalize (lg_sl ([.ref o, .int x1]) ++ List.replicate (2 - (lg_sl ([.ref o, .int x1])).length) Slot.unset).toArray = ls at hl ⊢
  have hl : lv_has ls 2 [(0, .ref o), (1, .int x1)] := hl
  refine W.narrow ?_
  unfold m_X1_size at h
  refine lv_iload_n C.x C.b dX1_size_0 rfl (lv_at hl 1 rfl) ?_
  refine lv_iconst (v := 0) C.x C.b dX1_size_1 (by decide) ?_
  refine lv_bipush (v := 13) C.x C.b dX1_size_2 (by decide) ?_
  refine cx_callS (y := yX1_check) (bytes := cX1_check) (maxL := 3) (fun _ => none) [.int x1, .int 0, .int 13] C hx hw hR hI hl.1 h (fun uu ee => k_X1_check l hl0 g A x1 0 13 σ uu ee) (va_cwS 3 C.t (lw_S q1537 q1538 q126 q1539) rfl rfl rfl (by decide +kernel) ⟨Nat.le_trans (Nat.le_of_ble_eq_true rfl) hR.f, Nat.le_trans (Nat.le_of_ble_eq_true rfl) hR.lo⟩) rfl rfl (Nat.le_of_ble_eq_true rfl) dX1_size_4 (fun _ σ_1 H locs h hI => ?_)
  refine lv_iload_n C.x C.b dX1_size_7 rfl (lv_at hl 1 rfl) ?_
  by_cases c_2 : x1 = 0
  · have h := ip c_2 h
    refine lv_tableIn (off := 68) (tgt := 76) C.x C.b dX1_size_8 (by rw [c_2]; decide) (by rw [c_2]; decide) (by rw [c_2]; rfl) (by decide) ?_
    refine r_aload_n (x := some o) C.x C.b dX1_size_76 rfl (lv_at hl 0 rfl) ?_
    refine cw_gR (r := some o) 0 0 C hw hI h (by decide) rfl in_X1 (by decide) (C.t _ q1172) (fun _ h9 => h9) dX1_size_77 (fun v_3 h => ?_)
    refine cw_gR (r := v_3) 1 0 C hw hI h (by decide) rfl in_X4 (by decide) (C.t _ q839) (fun _ h9 => h9) dX1_size_80 (fun v_4 h => ?_)
    refine cw_aL (r := v_4) C hw hI h dX1_size_83 (fun v_5 h => ?_)
    refine lv_goto (tgt := 191) C.x C.b dX1_size_84 (by decide) ?_
    exact uq_l h (fun y h => cw_iret C hI h dX1_size_191)
  have h := iN c_2 h
  by_cases c_6 : x1 = 1
  · have h := ip c_6 h
    refine lv_tableIn (off := 79) (tgt := 87) C.x C.b dX1_size_8 (by rw [c_6]; decide) (by rw [c_6]; decide) (by rw [c_6]; rfl) (by decide) ?_
    refine r_aload_n (x := some o) C.x C.b dX1_size_87 rfl (lv_at hl 0 rfl) ?_
    refine cw_gR (r := some o) 0 0 C hw hI h (by decide) rfl in_X1 (by decide) (C.t _ q1172) (fun _ h9 => h9) dX1_size_88 (fun v_7 h => ?_)
    refine cw_gI (r := v_7) 1 1 C hw hI h (by decide) rfl in_X4 (by decide) (C.t _ q842) (fun _ h9 => h9) dX1_size_91 (fun v_8 h => ?_)
    refine lv_goto (tgt := 191) C.x C.b dX1_size_94 (by decide) ?_
    exact uq_l h (fun y h => cw_iret C hI h dX1_size_191)
  have h := iN c_6 h
  by_cases c_9 : x1 = 2
  · have h := ip c_9 h
    refine lv_tableIn (off := 89) (tgt := 97) C.x C.b dX1_size_8 (by rw [c_9]; decide) (by rw [c_9]; decide) (by rw [c_9]; rfl) (by decide) ?_
    refine r_aload_n (x := some o) C.x C.b dX1_size_97 rfl (lv_at hl 0 rfl) ?_
    refine cw_gR (r := some o) 0 0 C hw hI h (by decide) rfl in_X1 (by decide) (C.t _ q1172) (fun _ h9 => h9) dX1_size_98 (fun v_10 h => ?_)
    refine cw_gR (r := v_10) 1 4 C hw hI h (by decide) rfl in_X4 (by decide) (C.t _ q851) (fun _ h9 => h9) dX1_size_101 (fun v_11 h => ?_)
    refine cw_callV (y := yJ18_size) (bytes := cJ18_size) (maxL := 1) (r := v_11) (f := fun a_14 => m_J18_size a_14 σ_1) 9 (fun v => some (.int v)) [] C hw hR hI hl.1 h (by decide) rfl (fun aa vv ss ee => k_J18_size l g A aa σ_1 vv ss ee) (cwV 0 C.t (lw_V q1339 q947 q948 q152 q949) rfl rfl rfl (by decide +kernel) ⟨Nat.le_trans (Nat.le_of_ble_eq_true rfl) hR.f, Nat.le_trans (Nat.le_of_ble_eq_true rfl) hR.lo⟩) rfl rfl (Nat.le_of_ble_eq_true rfl) dX1_size_104 (fun v_12 σ_13 H locs h hI => ?_)
    refine lv_goto (tgt := 191) C.x C.b dX1_size_107 (by decide) ?_
    exact uq_l h (fun y h => cw_iret C hI h dX1_size_191)
  have h := iN c_9 h
  by_cases c_15 : x1 = 3
  · have h := ip c_15 h
    refine lv_tableIn (off := 102) (tgt := 110) C.x C.b dX1_size_8 (by rw [c_15]; decide) (by rw [c_15]; decide) (by rw [c_15]; rfl) (by decide) ?_
    refine r_aload_n (x := some o) C.x C.b dX1_size_110 rfl (lv_at hl 0 rfl) ?_
    refine cw_gR (r := some o) 0 0 C hw hI h (by decide) rfl in_X1 (by decide) (C.t _ q1172) (fun _ h9 => h9) dX1_size_111 (fun v_16 h => ?_)
    refine cw_callV (y := yX4_cases) (bytes := cX4_cases) (maxL := 3) (r := v_16) (f := fun a_19 => m_X4_cases a_19 σ_1) 1 (fun v => some (.int v)) [] C hw hR hI hl.1 h (by decide) rfl (fun aa vv ss ee => k_X4_cases l g A aa σ_1 vv ss ee) (cwV 0 C.t (lw_V q1382 q833 q834 q150 q835) rfl rfl rfl (by decide +kernel) ⟨Nat.le_trans (Nat.le_of_ble_eq_true rfl) hR.f, Nat.le_trans (Nat.le_of_ble_eq_true rfl) hR.lo⟩) rfl rfl (Nat.le_of_ble_eq_true rfl) dX1_size_114 (fun v_17 σ_18 H locs h hI => ?_)
    refine lv_goto (tgt := 191) C.x C.b dX1_size_117 (by decide) ?_
    exact uq_l h (fun y h => cw_iret C hI h dX1_size_191)
  have h := iN c_15 h
  by_cases c_20 : x1 = 4
  · have h := ip c_20 h
    refine lv_tableIn (off := 112) (tgt := 120) C.x C.b dX1_size_8 (by rw [c_20]; decide) (by rw [c_20]; decide) (by rw [c_20]; rfl) (by decide) ?_
    refine r_aload_n (x := some o) C.x C.b dX1_size_120 rfl (lv_at hl 0 rfl) ?_
    refine cw_gR (r := some o) 0 0 C hw hI h (by decide) rfl in_X1 (by decide) (C.t _ q1172) (fun _ h9 => h9) dX1_size_121 (fun v_21 h => ?_)
    refine cw_gI (r := v_21) 1 6 C hw hI h (by decide) rfl in_X4 (by decide) (C.t _ q855) (fun _ h9 => h9) dX1_size_124 (fun v_22 h => ?_)
    refine lv_goto (tgt := 191) C.x C.b dX1_size_127 (by decide) ?_
    exact uq_l h (fun y h => cw_iret C hI h dX1_size_191)
  have h := iN c_20 h
  by_cases c_23 : x1 = 5
  · have h := ip c_23 h
    refine lv_tableIn (off := 122) (tgt := 130) C.x C.b dX1_size_8 (by rw [c_23]; decide) (by rw [c_23]; decide) (by rw [c_23]; rfl) (by decide) ?_
    refine r_aload_n (x := some o) C.x C.b dX1_size_130 rfl (lv_at hl 0 rfl) ?_
    refine cw_gR (r := some o) 0 0 C hw hI h (by decide) rfl in_X1 (by decide) (C.t _ q1172) (fun _ h9 => h9) dX1_size_131 (fun v_24 h => ?_)
    refine cw_gI (r := v_24) 1 7 C hw hI h (by decide) rfl in_X4 (by decide) (C.t _ q858) (fun _ h9 => h9) dX1_size_134 (fun v_25 h => ?_)
    refine lv_goto (tgt := 191) C.x C.b dX1_size_137 (by decide) ?_
    exact uq_l h (fun y h => cw_iret C hI h dX1_size_191)
  have h := iN c_23 h
  by_cases c_26 : x1 = 6
  · have h := ip c_26 h
    refine lv_tableIn (off := 132) (tgt := 140) C.x C.b dX1_size_8 (by rw [c_26]; decide) (by rw [c_26]; decide) (by rw [c_26]; rfl) (by decide) ?_
    refine r_aload_n (x := some o) C.x C.b dX1_size_140 rfl (lv_at hl 0 rfl) ?_
    refine cw_gR (r := some o) 0 0 C hw hI h (by decide) rfl in_X1 (by decide) (C.t _ q1172) (fun _ h9 => h9) dX1_size_141 (fun v_27 h => ?_)
    refine cw_gI (r := v_27) 1 8 C hw hI h (by decide) rfl in_X4 (by decide) (C.t _ q860) (fun _ h9 => h9) dX1_size_144 (fun v_28 h => ?_)
    refine lv_goto (tgt := 191) C.x C.b dX1_size_147 (by decide) ?_
    exact uq_l h (fun y h => cw_iret C hI h dX1_size_191)
  have h := iN c_26 h
  by_cases c_29 : x1 = 7
  · have h := ip c_29 h
    refine lv_tableIn (off := 142) (tgt := 150) C.x C.b dX1_size_8 (by rw [c_29]; decide) (by rw [c_29]; decide) (by rw [c_29]; rfl) (by decide) ?_
    exact w_X1_size_150 C hx hl0 hw hR x1 _ _ _ _ h hI (lv_sub hl [0, 1] rfl)
  have h := iN c_29 h
  by_cases c_30 : x1 = 8
  · have h := ip c_30 h
    refine lv_tableIn (off := 142) (tgt := 150) C.x C.b dX1_size_8 (by rw [c_30]; decide) (by rw [c_30]; decide) (by rw [c_30]; rfl) (by decide) ?_
    exact w_X1_size_150 C hx hl0 hw hR x1 _ _ _ _ h hI (lv_sub hl [0, 1] rfl)
  have h := iN c_30 h
  by_cases c_31 : x1 = 9
  · have h := ip c_31 h
    refine lv_tableIn (off := 142) (tgt := 150) C.x C.b dX1_size_8 (by rw [c_31]; decide) (by rw [c_31]; decide) (by rw [c_31]; rfl) (by decide) ?_
    exact w_X1_size_150 C hx hl0 hw hR x1 _ _ _ _ h hI (lv_sub hl [0, 1] rfl)
  have h := iN c_31 h
  by_cases c_32 : x1 = 10
  · have h := ip c_32 h
    refine lv_tableIn (off := 142) (tgt := 150) C.x C.b dX1_size_8 (by rw [c_32]; decide) (by rw [c_32]; decide) (by rw [c_32]; rfl) (by decide) ?_
    exact w_X1_size_150 C hx hl0 hw hR x1 _ _ _ _ h hI (lv_sub hl [0, 1] rfl)
  have h := iN c_32 h
  by_cases c_33 : x1 = 11
  · have h := ip c_33 h
    refine lv_tableIn (off := 156) (tgt := 164) C.x C.b dX1_size_8 (by rw [c_33]; decide) (by rw [c_33]; decide) (by rw [c_33]; rfl) (by decide) ?_
    refine r_aload_n (x := some o) C.x C.b dX1_size_164 rfl (lv_at hl 0 rfl) ?_
    refine cw_gR (r := some o) 0 1 C hw hI h (by decide) rfl in_X1 (by decide) (C.t _ q1173) (fun _ h9 => h9) dX1_size_165 (fun v_34 h => ?_)
    refine cw_callV (y := yJ1_size) (bytes := cJ1_size) (maxL := 1) (r := v_34) (f := fun a_37 => m_J1_size a_37 σ_1) 10 (fun v => some (.int v)) [] C hw hR hI hl.1 h (by decide) rfl (fun aa vv ss ee => k_J1_size l g A aa σ_1 vv ss ee) (cwV 0 C.t (lw_V q1521 q1522 q1523 q128 q1524) rfl rfl rfl (by decide +kernel) ⟨Nat.le_trans (Nat.le_of_ble_eq_true rfl) hR.f, Nat.le_trans (Nat.le_of_ble_eq_true rfl) hR.lo⟩) rfl rfl (Nat.le_of_ble_eq_true rfl) dX1_size_168 (fun v_35 σ_36 H locs h hI => ?_)
    refine lv_goto (tgt := 191) C.x C.b dX1_size_171 (by decide) ?_
    exact uq_l h (fun y h => cw_iret C hI h dX1_size_191)
  have h := iN c_33 h
  by_cases c_38 : x1 = 12
  · have h := ip c_38 h
    refine lv_tableIn (off := 166) (tgt := 174) C.x C.b dX1_size_8 (by rw [c_38]; decide) (by rw [c_38]; decide) (by rw [c_38]; rfl) (by decide) ?_
    refine r_aload_n (x := some o) C.x C.b dX1_size_174 rfl (lv_at hl 0 rfl) ?_
    refine cw_gR (r := some o) 0 3 C hw hI h (by decide) rfl in_X1 (by decide) (C.t _ q1175) (fun _ h9 => h9) dX1_size_175 (fun v_39 h => ?_)
    refine cw_callV (y := yJ3_length) (bytes := cJ3_length) (maxL := 1) (r := v_39) (f := fun a_42 => m_J3_length a_42 σ_1) 11 (fun v => some (.int v)) [] C hw hR hI hl.1 h (by decide) rfl (fun aa vv ss ee => k_J3_length l g A aa σ_1 vv ss ee) (cwV 0 C.t (lw_V q1192 q584 q2704 q130 q585) rfl rfl rfl (by decide +kernel) ⟨Nat.le_trans (Nat.le_of_ble_eq_true rfl) hR.f, Nat.le_trans (Nat.le_of_ble_eq_true rfl) hR.lo⟩) rfl rfl (Nat.le_of_ble_eq_true rfl) dX1_size_178 (fun v_40 σ_41 H locs h hI => ?_)
    refine lv_goto (tgt := 191) C.x C.b dX1_size_181 (by decide) ?_
    exact uq_l h (fun y h => cw_iret C hI h dX1_size_191)
  have h := iN c_38 h
  refine tw_tabD (tgt := 184) C.x C.b dX1_size_8 (by decide) (fun j hj => match j, hj with | 0, _ => Or.inr (lv_neT c_2 (by decide)) | 1, _ => Or.inr (lv_neT c_6 (by decide)) | 2, _ => Or.inr (lv_neT c_9 (by decide)) | 3, _ => Or.inr (lv_neT c_15 (by decide)) | 4, _ => Or.inr (lv_neT c_20 (by decide)) | 5, _ => Or.inr (lv_neT c_23 (by decide)) | 6, _ => Or.inr (lv_neT c_26 (by decide)) | 7, _ => Or.inr (lv_neT c_29 (by decide)) | 8, _ => Or.inr (lv_neT c_30 (by decide)) | 9, _ => Or.inr (lv_neT c_31 (by decide)) | 10, _ => Or.inr (lv_neT c_32 (by decide)) | 11, _ => Or.inr (lv_neT c_33 (by decide)) | 12, _ => Or.inr (lv_neT c_38 (by decide)) | j + 13, hj => absurd hj (Nat.not_lt_of_le (Nat.le_add_left _ _))) (by decide) ?_
  refine r_aload_n (x := some o) C.x C.b dX1_size_184 rfl (lv_at hl 0 rfl) ?_
  refine cw_gR (r := some o) 0 4 C hw hI h (by decide) rfl in_X1 (by decide) (C.t _ q1176) (fun _ h9 => h9) dX1_size_185 (fun v_43 h => ?_)
  refine cw_callV (y := yJ3_length) (bytes := cJ3_length) (maxL := 1) (r := v_43) (f := fun a_46 => m_J3_length a_46 σ_1) 11 (fun v => some (.int v)) [] C hw hR hI hl.1 h (by decide) rfl (fun aa vv ss ee => k_J3_length l g A aa σ_1 vv ss ee) (cwV 0 C.t (lw_V q1192 q584 q2704 q130 q585) rfl rfl rfl (by decide +kernel) ⟨Nat.le_trans (Nat.le_of_ble_eq_true rfl) hR.f, Nat.le_trans (Nat.le_of_ble_eq_true rfl) hR.lo⟩) rfl rfl (Nat.le_of_ble_eq_true rfl) dX1_size_188 (fun v_44 σ_45 H locs h hI => ?_)
  exact uq_l h (fun y h => cw_iret C hI h dX1_size_191)

theorem k_X1_verdict (l : Launch) (hl0 : l.stackTraces = false) (g : cG) (A : Nat → Prop) (o : Nat) (x1 : Int32) (σ : cS) (z : (cX (Int32)) × cS) (h : m_X1_verdict o x1 σ = some z) : MetX l yX1_verdict (ws_ yX1_verdict cX1_verdict 2 (Option.some Jvm.ClassFile.FieldType.int)) ({ frames := 259, cells := σ.2 3 - σ.2 0, slots := σ.2 4 - σ.2 1, locals := 6471 }) g A [.ref o, .int x1] σ (fun v => some (.int v)) z (σ.2 3 - σ.2 0) (σ.2 4 - σ.2 1) := by
  refine metx_of (cc := cX1_verdict) (maxL := 2) (ret := (Option.some Jvm.ClassFile.FieldType.int)) (by decide) rfl ?_
  intro p e s m args below meth c s₁ B hml hx hv
  obtain ⟨rfl, hw, hσ⟩ := hv
  have hts := atoms_spec (ws := (ws_ yX1_verdict cX1_verdict 2 (Option.some Jvm.ClassFile.FieldType.int))) B.pre
  have C : CX p m meth c s ([.ref o, .int x1] : List Value).toArray cX1_verdict 2 (Option.some Jvm.ClassFile.FieldType.int) RX1 := ⟨⟨B.exec, B.bytes, hml, findClass_of_methodNamed B.named, fun w h => hts w (List.mem_cons_of_mem _ h)⟩, B.returns, B.notSynchronized⟩
  have e3 : σ.2 3 - σ.2 0 = g.2.2.1 3 - s.heap.size := by rw [hσ.1, hσ.2.2.2.1 3 (by decide)]
  have e4 : σ.2 4 - σ.2 1 = g.2.2.1 4 - hsl s.heap := by rw [hσ.2.1, hσ.2.2.2.1 4 (by decide)]
  have hR : RM g s (headSpec (ws_ yX1_verdict cX1_verdict 2 (Option.some Jvm.ClassFile.FieldType.int)) ({ frames := 259, cells := σ.2 3 - σ.2 0, slots := σ.2 4 - σ.2 1, locals := 6471 })).room (259) (6471) := ⟨⟨Nat.le_refl _, Nat.le_refl _⟩, Nat.le_of_eq e3.symm, Nat.le_of_eq e4.symm⟩
  generalize (headSpec (ws_ yX1_verdict cX1_verdict 2 (Option.some Jvm.ClassFile.FieldType.int)) ({ frames := 259, cells := σ.2 3 - σ.2 0, slots := σ.2 4 - σ.2 1, locals := 6471 })).room = R at hR ⊢
  rw [e3, e4]
  have hI : CI g A s σ s.heap [] := ⟨hσ, va_S.rf, Nat.le_refl _⟩
  have hl := lv_entry ([.ref o, .int x1]) (n := 2) (Nat.le_of_ble_eq_true rfl)
  rw [lg_entry_eq]
  generalize (lg_sl ([.ref o, .int x1]) ++ List.replicate (2 - (lg_sl ([.ref o, .int x1])).length) Slot.unset).toArray = ls at hl ⊢
  have hl : lv_has ls 2 [(0, .ref o), (1, .int x1)] := hl
  refine W.narrow ?_
  unfold m_X1_verdict at h
  refine r_aload_n (x := some o) C.x C.b dX1_verdict_0 rfl (lv_at hl 0 rfl) ?_
  refine lv_iload_n C.x C.b dX1_verdict_1 rfl (lv_at hl 1 rfl) ?_
  refine cx_callV (y := yX1_checkCase) (bytes := cX1_checkCase) (maxL := 2) (r := some o) (f := fun a_2 => m_X1_checkCase a_2 x1 σ) 0 (fun _ => none) [.int x1] C hx hw hR hI hl.1 h (by decide) rfl (fun aa uu ee => k_X1_checkCase l hl0 g A aa x1 σ uu ee) (cwV 1 C.t (lw_V q1627 q1629 qs44 q126 q1630) rfl rfl rfl (by decide +kernel) ⟨Nat.le_trans (Nat.le_of_ble_eq_true rfl) hR.f, Nat.le_trans (Nat.le_of_ble_eq_true rfl) hR.lo⟩) rfl rfl (Nat.le_of_ble_eq_true rfl) dX1_verdict_2 (fun _ σ_1 H locs h hI => ?_)
  refine r_aload_n (x := some o) C.x C.b dX1_verdict_5 rfl (lv_at hl 0 rfl) ?_
  refine cw_gR (r := some o) 0 0 C hw hI h (by decide) rfl in_X1 (by decide) (C.t _ q1172) (fun _ h9 => h9) dX1_verdict_6 (fun v_3 h => ?_)
  refine lv_iload_n C.x C.b dX1_verdict_9 rfl (lv_at hl 1 rfl) ?_
  refine cw_callV (y := yX4_look) (bytes := cX4_look) (maxL := 2) (r := v_3) (f := fun a_6 => m_X4_look a_6 x1 σ_1) 1 (fun v => some (va_rf v)) [.int x1] C hw hR hI hl.1 h (by decide) rfl (fun aa vv ss ee => k_X4_look l g A aa x1 σ_1 vv ss ee) (cwV 1 C.t (lw_V q1383 q1223 q1224 q150 q1225) rfl rfl rfl (by decide +kernel) ⟨Nat.le_trans (Nat.le_of_ble_eq_true rfl) hR.f, Nat.le_trans (Nat.le_of_ble_eq_true rfl) hR.lo⟩) rfl rfl (Nat.le_of_ble_eq_true rfl) dX1_verdict_10 (fun v_4 σ_5 H locs h hI => ?_)
  refine cw_gI (r := v_4) 3 3 C hw hI h (by decide) rfl in_X11 (by decide) (C.t _ q1247) (fun _ h9 => h9) dX1_verdict_13 (fun v_7 h => ?_)
  exact uq_l h (fun y h => cw_iret C hI h dX1_verdict_16)

end
