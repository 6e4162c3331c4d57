/-! THE TWIN's WALKS 4: printed by gentw.py -/
section
variable {p : Program} {l : Launch} {e : Env} {R : Room} {s : State} {m : MethodId} {args : Array Value} {below : List Frame} {meth : Method} {c : Code} {g : twG} {A : Nat → Prop}
set_option maxRecDepth 100000
theorem wT_writePart_84 {fF lF : Nat} {z : Int32 × twS} (C : CX p m meth c s args cX10_writePart 6 none RX10) (hw : WKt twL g A s s.heap) (hRf : fF + 193 ≤ R.frames) (hRl : lF + 4248 ≤ R.locals) {F : Int32 → Int32 → Int32 → twS → Option (Int32 × twS)} (hF : ∀ (y0 : Int32) (y1 : Int32) (y2 : Int32) (σ : twS) (v : Int32) (σ1 : twS), F y0 y1 y2 σ = some (v, σ1) → Met l yX10_writePart (ws_ yX10_writePart cX10_writePart 6 none) ({ frames := fF, cells := 0, slots := 0, locals := lF }) (TPc twL g A [.ref g.2.2.2.1, .int y0, .int y1, .int y2] (fun _ => True) σ) (TQ g A (none) σ1) 0 0 A) : ∀ (x1 : Int32) (x2 : Int32) (x4 : Int32) (x5 : Int32) (σ : twS) (H : Heap) (locs : List Loc) (ls : Array Slot), bT_writePart_84 F x1 x2 x4 x5 σ = some z → TI g A σ H → va_S A s.heap H locs → lv_has ls 6 [(0, .ref g.2.2.2.1), (1, .int x1), (2, .int x2), (4, .int x4), (5, .int x5)] → W p l e R s m args below meth c H locs 0 0 (MQ below (TQ g A (none) z.2) args s 0 0 A) (F0 m 84 ls []) := by
  intro x1 x2 x4 x5 σ H locs ls h hσ hS hl
  unfold bT_writePart_84 at h
  refine lv_aload_n C.x C.b dX10_writePart_84 rfl (lv_at hl 0 rfl) ?_
  refine lv_iload_n C.x C.b dX10_writePart_85 rfl (lv_at hl 1 rfl) ?_
  refine lv_aload_n C.x C.b dX10_writePart_86 rfl (lv_at hl 0 rfl) ?_
  refine lv_iload_n C.x C.b dX10_writePart_87 rfl (lv_at hl 1 rfl) ?_
  refine lv_iload_n C.x C.b dX10_writePart_88 rfl (lv_at hl 2 rfl) ?_
  refine lv_iconst (v := 1) C.x C.b dX10_writePart_89 (by decide) ?_
  refine lv_isub C.x C.b dX10_writePart_90 ?_
  refine tw_call (y := yX10_beginOf) (bytes := cX10_beginOf) (maxL := 5) (fun v => some (.int v)) [.int x1, .int (x2 - 1)] (fun _ => True)  C hw XB.tt (fun _ _ _ => trivial) hσ hS hl.1 h (fun vv ss ee => kT_beginOf l g A DP x1 (x2 - 1) σ vv ss ee) (cwV 2 C.t (lw_V q2606 q2608 qs119 q159 q2609) rfl rfl rfl (by decide +kernel) ⟨Nat.le_trans (Nat.le_add_left_of_le (Nat.le_of_ble_eq_true rfl)) hRf, Nat.le_trans (Nat.le_add_left_of_le (Nat.le_of_ble_eq_true rfl)) hRl⟩) rfl rfl (Nat.le_of_ble_eq_true rfl) dX10_writePart_91 (fun v_1 σ_2 H locs h hσ hS => ?_)
  refine lv_iconst (v := 1) C.x C.b dX10_writePart_94 (by decide) ?_
  refine lv_isub C.x C.b dX10_writePart_95 ?_
  refine lv_iload C.x C.b dX10_writePart_96 (lv_at hl 3 rfl) ?_
  refine tw_call (y := yX10_writePart) (bytes := cX10_writePart) (maxL := 6) (fun _ => none) [.int x1, .int (v_1 - 1), .int x4] (fun _ => True)  C hw XB.tt (fun _ _ _ => trivial) hσ hS hl.1 h (fun vv ss ee => hF x1 (v_1 - 1) x4 σ_2 vv ss ee) (cwV 3 C.t (lw_V q2581 q2583 qs114 q159 q2584) rfl rfl rfl (by decide +kernel) ⟨Nat.le_trans (show fF + 1 ≤ fF + 193 by omega) hRf, Nat.le_trans (show 8 + (6 + 11) + (lF) ≤ lF + 4248 by omega) hRl⟩) rfl rfl (Nat.le_of_ble_eq_true rfl) dX10_writePart_98 (fun _ σ_3 H locs h hσ hS => ?_)
  refine lv_aload_n C.x C.b dX10_writePart_101 rfl (lv_at hl 0 rfl) ?_
  refine lv_iload C.x C.b dX10_writePart_102 (lv_at hl 3 rfl) ?_
  refine lv_iconst (v := 2) C.x C.b dX10_writePart_104 (by decide) ?_
  refine lv_icmp_ne (tgt := 113) C.x C.b dX10_writePart_105 (by decide) (fun c_4 => ?_) (fun c_4 => ?_)
  · have h := iN c_4 h
    obtain ⟨aS_215, rS_215, kS_215⟩ := hw.2.2 _ (List.mem_of_getElem? (i := 7) (rfl : twL[7]? = some (215, "or", tS_215)))
    refine va_ldcS C.x C.b C.o rS_215 dX10_writePart_113 ?_
    refine tw_call (y := yX10_writeToken) (bytes := cX10_writeToken) (maxL := 3) (fun _ => none) [.ref aS_215] (fun U => StrC A tS_215 aS_215 U U.heap)  C hw (XB.str A _ _) (fun U hU hW => StrC.at kS_215 hS hU hW) hσ hS hl.1 h (fun vv ss ee => kT_writeToken l g A tS_215 aS_215 σ_3 vv ss ee) (cwV 1 C.t (lw_V q2590 q2592 qs116 q159 q2593) rfl rfl rfl (by decide +kernel) ⟨Nat.le_trans (Nat.le_add_left_of_le (Nat.le_of_ble_eq_true rfl)) hRf, Nat.le_trans (Nat.le_add_left_of_le (Nat.le_of_ble_eq_true rfl)) hRl⟩) rfl rfl (Nat.le_of_ble_eq_true rfl) dX10_writePart_115 (fun _ σ_5 H locs h hσ hS => ?_)
    refine lv_aload_n C.x C.b dX10_writePart_118 rfl (lv_at hl 0 rfl) ?_
    refine lv_iload_n C.x C.b dX10_writePart_119 rfl (lv_at hl 1 rfl) ?_
    refine lv_iload_n C.x C.b dX10_writePart_120 rfl (lv_at hl 2 rfl) ?_
    refine lv_iconst (v := 1) C.x C.b dX10_writePart_121 (by decide) ?_
    refine lv_isub C.x C.b dX10_writePart_122 ?_
    refine lv_iload C.x C.b dX10_writePart_123 (lv_at hl 3 rfl) ?_
    refine tw_call (y := yX10_writePart) (bytes := cX10_writePart) (maxL := 6) (fun _ => none) [.int x1, .int (x2 - 1), .int x4] (fun _ => True)  C hw XB.tt (fun _ _ _ => trivial) hσ hS hl.1 h (fun vv ss ee => hF x1 (x2 - 1) x4 σ_5 vv ss ee) (cwV 3 C.t (lw_V q2581 q2583 qs114 q159 q2584) rfl rfl rfl (by decide +kernel) ⟨Nat.le_trans (show fF + 1 ≤ fF + 193 by omega) hRf, Nat.le_trans (show 8 + (6 + 11) + (lF) ≤ lF + 4248 by omega) hRl⟩) rfl rfl (Nat.le_of_ble_eq_true rfl) dX10_writePart_125 (fun _ σ_6 H locs h hσ hS => ?_)
    refine lv_iload C.x C.b dX10_writePart_128 (lv_at hl 4 rfl) ?_
    refine lv_if_eq (tgt := 140) C.x C.b dX10_writePart_130 (by decide) (fun c_7 => ?_) (fun c_7 => ?_)
    · have h := ip c_7 h
      exact tw_vret C hσ hS h dX10_writePart_140
    · have h := iN c_7 h
      refine lv_aload_n C.x C.b dX10_writePart_133 rfl (lv_at hl 0 rfl) ?_
      obtain ⟨aS_390, rS_390, kS_390⟩ := hw.2.2 _ (List.mem_of_getElem? (i := 24) (rfl : twL[24]? = some (390, ")", tS_390)))
      refine tw_ldcwS C.x C.b C.o rS_390 dX10_writePart_134 ?_
      refine tw_call (y := yX10_writeToken) (bytes := cX10_writeToken) (maxL := 3) (fun _ => none) [.ref aS_390] (fun U => StrC A tS_390 aS_390 U U.heap)  C hw (XB.str A _ _) (fun U hU hW => StrC.at kS_390 hS hU hW) hσ hS hl.1 h (fun vv ss ee => kT_writeToken l g A tS_390 aS_390 σ_6 vv ss ee) (cwV 1 C.t (lw_V q2590 q2592 qs116 q159 q2593) rfl rfl rfl (by decide +kernel) ⟨Nat.le_trans (Nat.le_add_left_of_le (Nat.le_of_ble_eq_true rfl)) hRf, Nat.le_trans (Nat.le_add_left_of_le (Nat.le_of_ble_eq_true rfl)) hRl⟩) rfl rfl (Nat.le_of_ble_eq_true rfl) dX10_writePart_137 (fun _ σ_8 H locs h hσ hS => ?_)
      exact tw_vret C hσ hS h dX10_writePart_140
  · have h := ip c_4 h
    obtain ⟨aS_210, rS_210, kS_210⟩ := hw.2.2 _ (List.mem_of_getElem? (i := 6) (rfl : twL[6]? = some (210, "and", tS_210)))
    refine va_ldcS C.x C.b C.o rS_210 dX10_writePart_108 ?_
    refine lv_goto (tgt := 115) C.x C.b dX10_writePart_110 (by decide) ?_
    refine tw_call (y := yX10_writeToken) (bytes := cX10_writeToken) (maxL := 3) (fun _ => none) [.ref aS_210] (fun U => StrC A tS_210 aS_210 U U.heap)  C hw (XB.str A _ _) (fun U hU hW => StrC.at kS_210 hS hU hW) hσ hS hl.1 h (fun vv ss ee => kT_writeToken l g A tS_210 aS_210 σ_3 vv ss ee) (cwV 1 C.t (lw_V q2590 q2592 qs116 q159 q2593) rfl rfl rfl (by decide +kernel) ⟨Nat.le_trans (Nat.le_add_left_of_le (Nat.le_of_ble_eq_true rfl)) hRf, Nat.le_trans (Nat.le_add_left_of_le (Nat.le_of_ble_eq_true rfl)) hRl⟩) rfl rfl (Nat.le_of_ble_eq_true rfl) dX10_writePart_115 (fun _ σ_9 H locs h hσ hS => ?_)
    refine lv_aload_n C.x C.b dX10_writePart_118 rfl (lv_at hl 0 rfl) ?_
    refine lv_iload_n C.x C.b dX10_writePart_119 rfl (lv_at hl 1 rfl) ?_
    refine lv_iload_n C.x C.b dX10_writePart_120 rfl (lv_at hl 2 rfl) ?_
    refine lv_iconst (v := 1) C.x C.b dX10_writePart_121 (by decide) ?_
    refine lv_isub C.x C.b dX10_writePart_122 ?_
    refine lv_iload C.x C.b dX10_writePart_123 (lv_at hl 3 rfl) ?_
    refine tw_call (y := yX10_writePart) (bytes := cX10_writePart) (maxL := 6) (fun _ => none) [.int x1, .int (x2 - 1), .int x4] (fun _ => True)  C hw XB.tt (fun _ _ _ => trivial) hσ hS hl.1 h (fun vv ss ee => hF x1 (x2 - 1) x4 σ_9 vv ss ee) (cwV 3 C.t (lw_V q2581 q2583 qs114 q159 q2584) rfl rfl rfl (by decide +kernel) ⟨Nat.le_trans (show fF + 1 ≤ fF + 193 by omega) hRf, Nat.le_trans (show 8 + (6 + 11) + (lF) ≤ lF + 4248 by omega) hRl⟩) rfl rfl (Nat.le_of_ble_eq_true rfl) dX10_writePart_125 (fun _ σ_10 H locs h hσ hS => ?_)
    refine lv_iload C.x C.b dX10_writePart_128 (lv_at hl 4 rfl) ?_
    refine lv_if_eq (tgt := 140) C.x C.b dX10_writePart_130 (by decide) (fun c_11 => ?_) (fun c_11 => ?_)
    · have h := ip c_11 h
      exact tw_vret C hσ hS h dX10_writePart_140
    · have h := iN c_11 h
      refine lv_aload_n C.x C.b dX10_writePart_133 rfl (lv_at hl 0 rfl) ?_
      obtain ⟨aS_390, rS_390, kS_390⟩ := hw.2.2 _ (List.mem_of_getElem? (i := 24) (rfl : twL[24]? = some (390, ")", tS_390)))
      refine tw_ldcwS C.x C.b C.o rS_390 dX10_writePart_134 ?_
      refine tw_call (y := yX10_writeToken) (bytes := cX10_writeToken) (maxL := 3) (fun _ => none) [.ref aS_390] (fun U => StrC A tS_390 aS_390 U U.heap)  C hw (XB.str A _ _) (fun U hU hW => StrC.at kS_390 hS hU hW) hσ hS hl.1 h (fun vv ss ee => kT_writeToken l g A tS_390 aS_390 σ_10 vv ss ee) (cwV 1 C.t (lw_V q2590 q2592 qs116 q159 q2593) rfl rfl rfl (by decide +kernel) ⟨Nat.le_trans (Nat.le_add_left_of_le (Nat.le_of_ble_eq_true rfl)) hRf, Nat.le_trans (Nat.le_add_left_of_le (Nat.le_of_ble_eq_true rfl)) hRl⟩) rfl rfl (Nat.le_of_ble_eq_true rfl) dX10_writePart_137 (fun _ σ_12 H locs h hσ hS => ?_)
      exact tw_vret C hσ hS h dX10_writePart_140

theorem wT_writePart_70 {fF lF : Nat} {z : Int32 × twS} (C : CX p m meth c s args cX10_writePart 6 none RX10) (hw : WKt twL g A s s.heap) (hRf : fF + 193 ≤ R.frames) (hRl : lF + 4248 ≤ R.locals) {F : Int32 → Int32 → Int32 → twS → Option (Int32 × twS)} (hF : ∀ (y0 : Int32) (y1 : Int32) (y2 : Int32) (σ : twS) (v : Int32) (σ1 : twS), F y0 y1 y2 σ = some (v, σ1) → Met l yX10_writePart (ws_ yX10_writePart cX10_writePart 6 none) ({ frames := fF, cells := 0, slots := 0, locals := lF }) (TPc twL g A [.ref g.2.2.2.1, .int y0, .int y1, .int y2] (fun _ => True) σ) (TQ g A (none) σ1) 0 0 A) : ∀ (x1 : Int32) (x2 : Int32) (x4 : Int32) (s0 : Int32) (σ : twS) (H : Heap) (locs : List Loc) (ls : Array Slot), bT_writePart_70 F x1 x2 x4 s0 σ = some z → TI g A σ H → va_S A s.heap H locs → lv_has ls 6 [(0, .ref g.2.2.2.1), (1, .int x1), (2, .int x2), (4, .int x4)] → W p l e R s m args below meth c H locs 0 0 (MQ below (TQ g A (none) z.2) args s 0 0 A) (F0 m 70 ls [.int s0]) := by
  intro x1 x2 x4 s0 σ H locs ls h hσ hS hl
  unfold bT_writePart_70 at h
  refine lv_istore (lv' := [(5, .int s0), (0, .ref g.2.2.2.1), (1, .int x1), (2, .int x2), (4, .int x4)]) C.x C.b dX10_writePart_70 hl (by decide) rfl (fun ls hl => ?_)
  refine lv_iload C.x C.b dX10_writePart_72 (lv_at hl 0 rfl) ?_
  refine lv_if_eq (tgt := 84) C.x C.b dX10_writePart_74 (by decide) (fun c_1 => ?_) (fun c_1 => ?_)
  · have h := ip c_1 h
    exact wT_writePart_84 C hw hRf hRl hF _ _ _ _ _ _ _ _ h hσ hS (lv_sub hl [1, 2, 3, 4, 0] rfl)
  · have h := iN c_1 h
    refine lv_aload_n C.x C.b dX10_writePart_77 rfl (lv_at hl 1 rfl) ?_
    obtain ⟨aS_388, rS_388, kS_388⟩ := hw.2.2 _ (List.mem_of_getElem? (i := 23) (rfl : twL[23]? = some (388, "(", tS_388)))
    refine tw_ldcwS C.x C.b C.o rS_388 dX10_writePart_78 ?_
    refine tw_call (y := yX10_writeToken) (bytes := cX10_writeToken) (maxL := 3) (fun _ => none) [.ref aS_388] (fun U => StrC A tS_388 aS_388 U U.heap)  C hw (XB.str A _ _) (fun U hU hW => StrC.at kS_388 hS hU hW) hσ hS hl.1 h (fun vv ss ee => kT_writeToken l g A tS_388 aS_388 σ vv ss ee) (cwV 1 C.t (lw_V q2590 q2592 qs116 q159 q2593) rfl rfl rfl (by decide +kernel) ⟨Nat.le_trans (Nat.le_add_left_of_le (Nat.le_of_ble_eq_true rfl)) hRf, Nat.le_trans (Nat.le_add_left_of_le (Nat.le_of_ble_eq_true rfl)) hRl⟩) rfl rfl (Nat.le_of_ble_eq_true rfl) dX10_writePart_81 (fun _ σ_2 H locs h hσ hS => ?_)
    exact wT_writePart_84 C hw hRf hRl hF _ _ _ _ _ _ _ _ h hσ hS (lv_sub hl [1, 2, 3, 4, 0] rfl)

theorem kO_writePart (l : Launch) (g : twG) (A : Nat → Prop) {F : Int32 → Int32 → Int32 → twS → Option (Int32 × twS)} {fF lF : Nat} (hF : ∀ (y0 : Int32) (y1 : Int32) (y2 : Int32) (σ : twS) (v : Int32) (σ1 : twS), F y0 y1 y2 σ = some (v, σ1) → Met l yX10_writePart (ws_ yX10_writePart cX10_writePart 6 none) ({ frames := fF, cells := 0, slots := 0, locals := lF }) (TPc twL g A [.ref g.2.2.2.1, .int y0, .int y1, .int y2] (fun _ => True) σ) (TQ g A (none) σ1) 0 0 A) (x1 : Int32) (x2 : Int32) (x3 : Int32) (σ : twS) (v : Int32) (σ1 : twS) (h : mO_writePart F x1 x2 x3 σ = some (v, σ1)) : Met l yX10_writePart (ws_ yX10_writePart cX10_writePart 6 none) ({ frames := fF + 193, cells := 0, slots := 0, locals := lF + 4248 }) (TPc twL g A [.ref g.2.2.2.1, .int x1, .int x2, .int x3] (fun _ => True) σ) (TQ g A (none) σ1) 0 0 A := by
  refine Met.ofW (cc := cX10_writePart) (maxL := 6) (ret := none) (by decide) rfl ?_
  intro p e s m args below meth c s₁ B hml hv
  obtain ⟨rfl, hw, hX, hσ⟩ := hv
  have hts := atoms_spec (ws := (ws_ yX10_writePart cX10_writePart 6 none)) B.pre
  have C : CX p m meth c s ([.ref g.2.2.2.1, .int x1, .int x2, .int x3] : List Value).toArray cX10_writePart 6 none RX10 := ⟨⟨B.exec, B.bytes, hml, findClass_of_methodNamed B.named, fun w h => hts w (List.mem_cons_of_mem _ h)⟩, B.returns, B.notSynchronized⟩
  have hRf : fF + 193 ≤ (headSpec (ws_ yX10_writePart cX10_writePart 6 none) ({ frames := fF + 193, cells := 0, slots := 0, locals := lF + 4248 })).room.frames := Nat.le_refl _
  have hRl : lF + 4248 ≤ (headSpec (ws_ yX10_writePart cX10_writePart 6 none) ({ frames := fF + 193, cells := 0, slots := 0, locals := lF + 4248 })).room.locals := Nat.le_refl _
  generalize (headSpec (ws_ yX10_writePart cX10_writePart 6 none) ({ frames := fF + 193, cells := 0, slots := 0, locals := lF + 4248 })).room = R at hRf hRl ⊢
  have hS : va_S A s.heap s.heap [] := va_S.rf
  have hl := lv_entry ([.ref g.2.2.2.1, .int x1, .int x2, .int x3]) (n := 6) (Nat.le_of_ble_eq_true rfl)
  rw [lg_entry_eq]
  generalize (lg_sl ([.ref g.2.2.2.1, .int x1, .int x2, .int x3]) ++ List.replicate (6 - (lg_sl ([.ref g.2.2.2.1, .int x1, .int x2, .int x3])).length) Slot.unset).toArray = ls at hl ⊢
  have hl : lv_has ls 6 [(0, .ref g.2.2.2.1), (1, .int x1), (2, .int x2), (3, .int x3)] := hl
  obtain ⟨z, hz⟩ : ∃ z, z = (v, σ1) := ⟨_, rfl⟩
  rw [← hz] at h
  rw [show σ1 = z.2 by rw [hz]]
  clear hz v σ1
  unfold mO_writePart at h
  refine lv_aload_n C.x C.b dX10_writePart_0 rfl (lv_at hl 0 rfl) ?_
  refine lv_iload_n C.x C.b dX10_writePart_1 rfl (lv_at hl 1 rfl) ?_
  refine lv_iconst (v := 1) C.x C.b dX10_writePart_2 (by decide) ?_
  refine lv_iload_n C.x C.b dX10_writePart_3 rfl (lv_at hl 2 rfl) ?_
  refine lv_iadd C.x C.b dX10_writePart_4 ?_
  refine tw_call (y := yX10_of) (bytes := cX10_of) (maxL := 3) (fun v => some (.int v)) [.int x1, .int (1 + x2)] (fun _ => True)  C hw XB.tt (fun _ _ _ => trivial) hσ hS hl.1 h (fun vv ss ee => kT_of l g A x1 (1 + x2) σ vv ss ee) (cwV 2 C.t (lw_V q2346 q2348 qs85 q159 q2349) rfl rfl rfl (by decide +kernel) ⟨Nat.le_trans (Nat.le_add_left_of_le (Nat.le_of_ble_eq_true rfl)) hRf, Nat.le_trans (Nat.le_add_left_of_le (Nat.le_of_ble_eq_true rfl)) hRl⟩) rfl rfl (Nat.le_of_ble_eq_true rfl) dX10_writePart_5 (fun v_1 σ_2 H locs h hσ hS => ?_)
  refine lv_istore (lv' := [(4, .int v_1), (0, .ref g.2.2.2.1), (1, .int x1), (2, .int x2), (3, .int x3)]) C.x C.b dX10_writePart_8 hl (by decide) rfl (fun ls hl => ?_)
  refine lv_iload C.x C.b dX10_writePart_10 (lv_at hl 0 rfl) ?_
  refine lv_bipush (v := 10) C.x C.b dX10_writePart_12 (by decide) ?_
  refine lv_icmp_lt (tgt := 24) C.x C.b dX10_writePart_14 (by decide) (fun c_3 => ?_) (fun c_3 => ?_)
  · have h := ip c_3 h
    refine lv_iload C.x C.b dX10_writePart_24 (lv_at hl 0 rfl) ?_
    refine lv_iconst (v := 4) C.x C.b dX10_writePart_26 (by decide) ?_
    refine lv_icmp_ne (tgt := 37) C.x C.b dX10_writePart_27 (by decide) (fun c_4 => ?_) (fun c_4 => ?_)
    · have h := iN c_4 h
      refine lv_iload C.x C.b dX10_writePart_37 (lv_at hl 0 rfl) ?_
      refine lv_iconst (v := 1) C.x C.b dX10_writePart_39 (by decide) ?_
      refine lv_icmp_ne (tgt := 59) C.x C.b dX10_writePart_40 (by decide) (fun c_5 => ?_) (fun c_5 => ?_)
      · have h := iN c_5 h
        refine lv_iload_n C.x C.b dX10_writePart_59 rfl (lv_at hl 4 rfl) ?_
        refine lv_iload C.x C.b dX10_writePart_60 (lv_at hl 0 rfl) ?_
        refine lv_icmp_ge (tgt := 69) C.x C.b dX10_writePart_62 (by decide) (fun c_6 => ?_) (fun c_6 => ?_)
        · have h := ip c_6 h
          refine lv_iconst (v := 0) C.x C.b dX10_writePart_69 (by decide) ?_
          exact wT_writePart_70 C hw hRf hRl hF _ _ _ _ _ _ _ _ h hσ hS (lv_sub hl [1, 2, 3, 0] rfl)
        · have h := iN c_6 h
          refine lv_iconst (v := 1) C.x C.b dX10_writePart_65 (by decide) ?_
          refine lv_goto (tgt := 70) C.x C.b dX10_writePart_66 (by decide) ?_
          exact wT_writePart_70 C hw hRf hRl hF _ _ _ _ _ _ _ _ h hσ hS (lv_sub hl [1, 2, 3, 0] rfl)
      · have h := ip c_5 h
        refine lv_aload_n C.x C.b dX10_writePart_43 rfl (lv_at hl 1 rfl) ?_
        obtain ⟨aS_188, rS_188, kS_188⟩ := hw.2.2 _ (List.mem_of_getElem? (i := 4) (rfl : twL[4]? = some (188, "not", tS_188)))
        refine va_ldcS C.x C.b C.o rS_188 dX10_writePart_44 ?_
        refine tw_call (y := yX10_writeToken) (bytes := cX10_writeToken) (maxL := 3) (fun _ => none) [.ref aS_188] (fun U => StrC A tS_188 aS_188 U U.heap)  C hw (XB.str A _ _) (fun U hU hW => StrC.at kS_188 hS hU hW) hσ hS hl.1 h (fun vv ss ee => kT_writeToken l g A tS_188 aS_188 σ_2 vv ss ee) (cwV 1 C.t (lw_V q2590 q2592 qs116 q159 q2593) rfl rfl rfl (by decide +kernel) ⟨Nat.le_trans (Nat.le_add_left_of_le (Nat.le_of_ble_eq_true rfl)) hRf, Nat.le_trans (Nat.le_add_left_of_le (Nat.le_of_ble_eq_true rfl)) hRl⟩) rfl rfl (Nat.le_of_ble_eq_true rfl) dX10_writePart_46 (fun _ σ_7 H locs h hσ hS => ?_)
        refine lv_aload_n C.x C.b dX10_writePart_49 rfl (lv_at hl 1 rfl) ?_
        refine lv_iload_n C.x C.b dX10_writePart_50 rfl (lv_at hl 2 rfl) ?_
        refine lv_iload_n C.x C.b dX10_writePart_51 rfl (lv_at hl 3 rfl) ?_
        refine lv_iconst (v := 1) C.x C.b dX10_writePart_52 (by decide) ?_
        refine lv_isub C.x C.b dX10_writePart_53 ?_
        refine lv_iconst (v := 1) C.x C.b dX10_writePart_54 (by decide) ?_
        refine tw_call (y := yX10_writePart) (bytes := cX10_writePart) (maxL := 6) (fun _ => none) [.int x1, .int (x2 - 1), .int 1] (fun _ => True)  C hw XB.tt (fun _ _ _ => trivial) hσ hS hl.1 h (fun vv ss ee => hF x1 (x2 - 1) 1 σ_7 vv ss ee) (cwV 3 C.t (lw_V q2581 q2583 qs114 q159 q2584) rfl rfl rfl (by decide +kernel) ⟨Nat.le_trans (show fF + 1 ≤ fF + 193 by omega) hRf, Nat.le_trans (show 8 + (6 + 11) + (lF) ≤ lF + 4248 by omega) hRl⟩) rfl rfl (Nat.le_of_ble_eq_true rfl) dX10_writePart_55 (fun _ σ_8 H locs h hσ hS => ?_)
        exact tw_vret C hσ hS h dX10_writePart_58
    · have h := ip c_4 h
      refine lv_aload_n C.x C.b dX10_writePart_30 rfl (lv_at hl 1 rfl) ?_
      obtain ⟨aS_205, rS_205, kS_205⟩ := hw.2.2 _ (List.mem_of_getElem? (i := 5) (rfl : twL[5]? = some (205, "always", tS_205)))
      refine va_ldcS C.x C.b C.o rS_205 dX10_writePart_31 ?_
      refine tw_call (y := yX10_writeToken) (bytes := cX10_writeToken) (maxL := 3) (fun _ => none) [.ref aS_205] (fun U => StrC A tS_205 aS_205 U U.heap)  C hw (XB.str A _ _) (fun U hU hW => StrC.at kS_205 hS hU hW) hσ hS hl.1 h (fun vv ss ee => kT_writeToken l g A tS_205 aS_205 σ_2 vv ss ee) (cwV 1 C.t (lw_V q2590 q2592 qs116 q159 q2593) rfl rfl rfl (by decide +kernel) ⟨Nat.le_trans (Nat.le_add_left_of_le (Nat.le_of_ble_eq_true rfl)) hRf, Nat.le_trans (Nat.le_add_left_of_le (Nat.le_of_ble_eq_true rfl)) hRl⟩) rfl rfl (Nat.le_of_ble_eq_true rfl) dX10_writePart_33 (fun _ σ_9 H locs h hσ hS => ?_)
      exact tw_vret C hσ hS h dX10_writePart_36
  · have h := iN c_3 h
    refine lv_aload_n C.x C.b dX10_writePart_17 rfl (lv_at hl 1 rfl) ?_
    refine lv_iload C.x C.b dX10_writePart_18 (lv_at hl 0 rfl) ?_
    refine tw_call (y := yX10_writeCompare) (bytes := cX10_writeCompare) (maxL := 3) (fun _ => none) [.int v_1] (fun _ => True)  C hw XB.tt (fun _ _ _ => trivial) hσ hS hl.1 h (fun vv ss ee => kT_writeCompare l g A v_1 σ_2 vv ss ee) (cwV 1 C.t (lw_V q2585 q2587 qs115 q159 q2588) rfl rfl rfl (by decide +kernel) ⟨Nat.le_trans (Nat.le_add_left_of_le (Nat.le_of_ble_eq_true rfl)) hRf, Nat.le_trans (Nat.le_add_left_of_le (Nat.le_of_ble_eq_true rfl)) hRl⟩) rfl rfl (Nat.le_of_ble_eq_true rfl) dX10_writePart_20 (fun _ σ_10 H locs h hσ hS => ?_)
    exact tw_vret C hσ hS h dX10_writePart_23

theorem kT_writePart (l : Launch) (g : twG) (A : Nat → Prop) : ∀ (d : Nat) (x1 : Int32) (x2 : Int32) (x3 : Int32) (σ : twS) (v : Int32) (σ1 : twS) (h : mT_writePart d x1 x2 x3 σ = some (v, σ1)), Met l yX10_writePart (ws_ yX10_writePart cX10_writePart 6 none) ({ frames := 193 * d, cells := 0, slots := 0, locals := 4248 * d }) (TPc twL g A [.ref g.2.2.2.1, .int x1, .int x2, .int x3] (fun _ => True) σ) (TQ g A (none) σ1) 0 0 A := by
  intro d
  induction d with
  | zero =>
    intro x1 x2 x3 σ v σ1 h
    cases h
  | succ d ih =>
    intro x1 x2 x3 σ v σ1 h
    exact kO_writePart l g A (F := mT_writePart d) (fF := 193 * d) (lF := 4248 * d) ih x1 x2 x3 σ v σ1 h

theorem wT_writeParts_39 {z : Int32 × twS} (C : CX p m meth c s args cX10_writeParts 4 none RX10) (hw : WKt twL g A s s.heap) (hRf : 129 ≤ R.frames) (hRl : 2901 ≤ R.locals) {k4 : Int32 → Int32 → Int32 → twS → Option (Int32 × twS)} (hk4 : ∀ (x1 : Int32) (x2 : Int32) (x3 : Int32) (σ : twS) (H : Heap) (locs : List Loc) (ls : Array Slot), k4 x1 x2 x3 σ = some z → TI g A σ H → va_S A s.heap H locs → lv_has ls 4 [(0, .ref g.2.2.2.1), (1, .int x1), (2, .int x2), (3, .int x3)] → W p l e R s m args below meth c H locs 0 0 (MQ below (TQ g A (none) z.2) args s 0 0 A) (F0 m 4 ls [])) : ∀ (x1 : Int32) (x3 : Int32) (σ : twS) (H : Heap) (locs : List Loc) (ls : Array Slot), bT_writeParts_39 k4 x1 x3 σ = some z → TI g A σ H → va_S A s.heap H locs → lv_has ls 4 [(0, .ref g.2.2.2.1), (1, .int x1), (3, .int x3)] → W p l e R s m args below meth c H locs 0 0 (MQ below (TQ g A (none) z.2) args s 0 0 A) (F0 m 39 ls []) := by
  intro x1 x3 σ H locs ls h hσ hS hl
  unfold bT_writeParts_39 at h
  refine lv_iconst (v := 1) C.x C.b dX10_writeParts_39 (by decide) ?_
  refine lv_istore_n (lv' := [(2, .int 1), (0, .ref g.2.2.2.1), (1, .int x1), (3, .int x3)]) C.x C.b dX10_writeParts_40 rfl hl (by decide) rfl (fun ls hl => ?_)
  refine lv_aload_n C.x C.b dX10_writeParts_41 rfl (lv_at hl 1 rfl) ?_
  obtain ⟨aS_370, rS_370, kS_370⟩ := hw.2.2 _ (List.mem_of_getElem? (i := 19) (rfl : twL[19]? = some (370, "", tS_370)))
  refine tw_ldcwS C.x C.b C.o rS_370 dX10_writeParts_42 ?_
  refine tw_call (y := yX10_writeToken) (bytes := cX10_writeToken) (maxL := 3) (fun _ => none) [.ref aS_370] (fun U => StrC A tS_370 aS_370 U U.heap)  C hw (XB.str A _ _) (fun U hU hW => StrC.at kS_370 hS hU hW) hσ hS hl.1 h (fun vv ss ee => kT_writeToken l g A tS_370 aS_370 σ vv ss ee) (cwV 1 C.t (lw_V q2590 q2592 qs116 q159 q2593) rfl rfl rfl (by decide +kernel) ⟨Nat.le_trans (Nat.le_of_ble_eq_true rfl) hRf, Nat.le_trans (Nat.le_of_ble_eq_true rfl) hRl⟩) rfl rfl (Nat.le_of_ble_eq_true rfl) dX10_writeParts_45 (fun _ σ_1 H locs h hσ hS => ?_)
  refine lv_aload_n C.x C.b dX10_writeParts_48 rfl (lv_at hl 1 rfl) ?_
  refine lv_iload_n C.x C.b dX10_writeParts_49 rfl (lv_at hl 3 rfl) ?_
  refine tw_call (y := yX10_writeNumber) (bytes := cX10_writeNumber) (maxL := 2) (fun _ => none) [.int x3] (fun _ => True)  C hw XB.tt (fun _ _ _ => trivial) hσ hS hl.1 h (fun vv ss ee => kT_writeNumber l g A DP x3 σ_1 vv ss ee) (cwV 1 C.t (lw_V q2601 q2603 qs118 q159 q2604) rfl rfl rfl (by decide +kernel) ⟨Nat.le_trans (Nat.le_of_ble_eq_true rfl) hRf, Nat.le_trans (Nat.le_of_ble_eq_true rfl) hRl⟩) rfl rfl (Nat.le_of_ble_eq_true rfl) dX10_writeParts_50 (fun _ σ_2 H locs h hσ hS => ?_)
  refine lv_aload_n C.x C.b dX10_writeParts_53 rfl (lv_at hl 1 rfl) ?_
  obtain ⟨aS_370, rS_370, kS_370⟩ := hw.2.2 _ (List.mem_of_getElem? (i := 19) (rfl : twL[19]? = some (370, "", tS_370)))
  refine tw_ldcwS C.x C.b C.o rS_370 dX10_writeParts_54 ?_
  refine tw_call (y := yX10_writeToken) (bytes := cX10_writeToken) (maxL := 3) (fun _ => none) [.ref aS_370] (fun U => StrC A tS_370 aS_370 U U.heap)  C hw (XB.str A _ _) (fun U hU hW => StrC.at kS_370 hS hU hW) hσ hS hl.1 h (fun vv ss ee => kT_writeToken l g A tS_370 aS_370 σ_2 vv ss ee) (cwV 1 C.t (lw_V q2590 q2592 qs116 q159 q2593) rfl rfl rfl (by decide +kernel) ⟨Nat.le_trans (Nat.le_of_ble_eq_true rfl) hRf, Nat.le_trans (Nat.le_of_ble_eq_true rfl) hRl⟩) rfl rfl (Nat.le_of_ble_eq_true rfl) dX10_writeParts_57 (fun _ σ_3 H locs h hσ hS => ?_)
  refine lv_aload_n C.x C.b dX10_writeParts_60 rfl (lv_at hl 1 rfl) ?_
  refine lv_aload_n C.x C.b dX10_writeParts_61 rfl (lv_at hl 1 rfl) ?_
  refine lv_iload_n C.x C.b dX10_writeParts_62 rfl (lv_at hl 2 rfl) ?_
  refine lv_iload_n C.x C.b dX10_writeParts_63 rfl (lv_at hl 3 rfl) ?_
  refine lv_iconst (v := 0) C.x C.b dX10_writeParts_64 (by decide) ?_
  refine tw_call (y := yX10_shareTold) (bytes := cX10_shareTold) (maxL := 5) (fun v => some (.int v)) [.int x1, .int x3, .int 0] (fun _ => True)  C hw XB.tt (fun _ _ _ => trivial) hσ hS hl.1 h (fun vv ss ee => kT_shareTold l g A x1 x3 0 σ_3 vv ss ee) (cwV 3 C.t (lw_V q2459 q2461 qs107 q159 q2462) rfl rfl rfl (by decide +kernel) ⟨Nat.le_trans (Nat.le_of_ble_eq_true rfl) hRf, Nat.le_trans (Nat.le_of_ble_eq_true rfl) hRl⟩) rfl rfl (Nat.le_of_ble_eq_true rfl) dX10_writeParts_65 (fun v_4 σ_5 H locs h hσ hS => ?_)
  refine tw_call (y := yX10_writeNumber) (bytes := cX10_writeNumber) (maxL := 2) (fun _ => none) [.int v_4] (fun _ => True)  C hw XB.tt (fun _ _ _ => trivial) hσ hS hl.1 h (fun vv ss ee => kT_writeNumber l g A DP v_4 σ_5 vv ss ee) (cwV 1 C.t (lw_V q2601 q2603 qs118 q159 q2604) rfl rfl rfl (by decide +kernel) ⟨Nat.le_trans (Nat.le_of_ble_eq_true rfl) hRf, Nat.le_trans (Nat.le_of_ble_eq_true rfl) hRl⟩) rfl rfl (Nat.le_of_ble_eq_true rfl) dX10_writeParts_68 (fun _ σ_6 H locs h hσ hS => ?_)
  refine lv_aload_n C.x C.b dX10_writeParts_71 rfl (lv_at hl 1 rfl) ?_
  refine lv_bipush (v := 47) C.x C.b dX10_writeParts_72 (by decide) ?_
  refine tw_call (y := yX10_write) (bytes := cX10_write) (maxL := 2) (fun _ => none) [.int 47] (fun _ => True)  C hw XB.tt (fun _ _ _ => trivial) hσ hS hl.1 h (fun vv ss ee => kT_write l g A 47 σ_6 vv ss ee) (cwV 1 C.t (lw_V q2594 q2596 qs117 q159 q2597) rfl rfl rfl (by decide +kernel) ⟨Nat.le_trans (Nat.le_of_ble_eq_true rfl) hRf, Nat.le_trans (Nat.le_of_ble_eq_true rfl) hRl⟩) rfl rfl (Nat.le_of_ble_eq_true rfl) dX10_writeParts_74 (fun _ σ_7 H locs h hσ hS => ?_)
  refine lv_aload_n C.x C.b dX10_writeParts_77 rfl (lv_at hl 1 rfl) ?_
  refine lv_aload_n C.x C.b dX10_writeParts_78 rfl (lv_at hl 1 rfl) ?_
  refine lv_iload_n C.x C.b dX10_writeParts_79 rfl (lv_at hl 2 rfl) ?_
  refine lv_iload_n C.x C.b dX10_writeParts_80 rfl (lv_at hl 3 rfl) ?_
  refine lv_iconst (v := 1) C.x C.b dX10_writeParts_81 (by decide) ?_
  refine tw_call (y := yX10_shareTold) (bytes := cX10_shareTold) (maxL := 5) (fun v => some (.int v)) [.int x1, .int x3, .int 1] (fun _ => True)  C hw XB.tt (fun _ _ _ => trivial) hσ hS hl.1 h (fun vv ss ee => kT_shareTold l g A x1 x3 1 σ_7 vv ss ee) (cwV 3 C.t (lw_V q2459 q2461 qs107 q159 q2462) rfl rfl rfl (by decide +kernel) ⟨Nat.le_trans (Nat.le_of_ble_eq_true rfl) hRf, Nat.le_trans (Nat.le_of_ble_eq_true rfl) hRl⟩) rfl rfl (Nat.le_of_ble_eq_true rfl) dX10_writeParts_82 (fun v_8 σ_9 H locs h hσ hS => ?_)
  refine tw_call (y := yX10_writeNumber) (bytes := cX10_writeNumber) (maxL := 2) (fun _ => none) [.int v_8] (fun _ => True)  C hw XB.tt (fun _ _ _ => trivial) hσ hS hl.1 h (fun vv ss ee => kT_writeNumber l g A DP v_8 σ_9 vv ss ee) (cwV 1 C.t (lw_V q2601 q2603 qs118 q159 q2604) rfl rfl rfl (by decide +kernel) ⟨Nat.le_trans (Nat.le_of_ble_eq_true rfl) hRf, Nat.le_trans (Nat.le_of_ble_eq_true rfl) hRl⟩) rfl rfl (Nat.le_of_ble_eq_true rfl) dX10_writeParts_85 (fun _ σ_10 H locs h hσ hS => ?_)
  obtain ⟨x3_11, e_, h⟩ := nm_s h
  refine lv_iinc (v := x3_11) (lv' := [(3, .int x3_11), (2, .int 1), (0, .ref g.2.2.2.1), (1, .int x1)]) C.x C.b dX10_writeParts_88 hl (k := 3) rfl e_.symm (by decide) rfl (fun ls hl => ?_)
  refine lv_goto (tgt := 4) C.x C.b dX10_writeParts_91 (by decide) ?_
  exact hk4 _ _ _ _ _ _ _ h hσ hS (lv_sub hl [2, 3, 1, 0] rfl)

theorem wT_writeParts_4 {z : Int32 × twS} (C : CX p m meth c s args cX10_writeParts 4 none RX10) (hw : WKt twL g A s s.heap) (hRf : 129 ≤ R.frames) (hRl : 2901 ≤ R.locals) : ∀ (n : Nat) (x1 : Int32) (x2 : Int32) (x3 : Int32) (σ : twS) (H : Heap) (locs : List Loc) (ls : Array Slot), bT_writeParts_4 n x1 x2 x3 σ = some z → TI g A σ H → va_S A s.heap H locs → lv_has ls 4 [(0, .ref g.2.2.2.1), (1, .int x1), (2, .int x2), (3, .int x3)] → W p l e R s m args below meth c H locs 0 0 (MQ below (TQ g A (none) z.2) args s 0 0 A) (F0 m 4 ls []) := by
  intro n
  induction n with
  | zero =>
    intro x1 x2 x3 σ H locs ls h
    cases h
  | succ n ih =>
    intro x1 x2 x3 σ H locs ls h hσ hS hl
    rw [bT_writeParts_4] at h
    refine lv_iload_n C.x C.b dX10_writeParts_4 rfl (lv_at hl 3 rfl) ?_
    refine lv_aload_n C.x C.b dX10_writeParts_5 rfl (lv_at hl 0 rfl) ?_
    refine tw_gf0 C hw hσ q2215 dX10_writeParts_6 ?_
    refine lv_iconst (v := 5) C.x C.b dX10_writeParts_9 (by decide) ?_
    refine tw_ld0 C hw hσ h dX10_writeParts_10 (fun v_1 h => ?_)
    refine lv_icmp_ge (tgt := 94) C.x C.b dX10_writeParts_11 (by decide) (fun c_2 => ?_) (fun c_2 => ?_)
    · have h := ip c_2 h
      refine lv_iload_n C.x C.b dX10_writeParts_94 rfl (lv_at hl 2 rfl) ?_
      refine lv_if_ne (tgt := 104) C.x C.b dX10_writeParts_95 (by decide) (fun c_3 => ?_) (fun c_3 => ?_)
      · have h := iN c_3 h
        exact tw_vret C hσ hS h dX10_writeParts_104
      · have h := ip c_3 h
        refine lv_aload_n C.x C.b dX10_writeParts_98 rfl (lv_at hl 0 rfl) ?_
        obtain ⟨aS_219, rS_219, kS_219⟩ := hw.2.2 _ (List.mem_of_getElem? (i := 8) (rfl : twL[8]? = some (219, "nothing", tS_219)))
        refine va_ldcS C.x C.b C.o rS_219 dX10_writeParts_99 ?_
        refine tw_call (y := yX10_writeToken) (bytes := cX10_writeToken) (maxL := 3) (fun _ => none) [.ref aS_219] (fun U => StrC A tS_219 aS_219 U U.heap)  C hw (XB.str A _ _) (fun U hU hW => StrC.at kS_219 hS hU hW) hσ hS hl.1 h (fun vv ss ee => kT_writeToken l g A tS_219 aS_219 σ vv ss ee) (cwV 1 C.t (lw_V q2590 q2592 qs116 q159 q2593) rfl rfl rfl (by decide +kernel) ⟨Nat.le_trans (Nat.le_of_ble_eq_true rfl) hRf, Nat.le_trans (Nat.le_of_ble_eq_true rfl) hRl⟩) rfl rfl (Nat.le_of_ble_eq_true rfl) dX10_writeParts_101 (fun _ σ_4 H locs h hσ hS => ?_)
        exact tw_vret C hσ hS h dX10_writeParts_104
    · have h := iN c_2 h
      refine lv_aload_n C.x C.b dX10_writeParts_14 rfl (lv_at hl 0 rfl) ?_
      refine lv_iload_n C.x C.b dX10_writeParts_15 rfl (lv_at hl 1 rfl) ?_
      refine lv_bipush (v := 29) C.x C.b dX10_writeParts_16 (by decide) ?_
      refine lv_iload_n C.x C.b dX10_writeParts_18 rfl (lv_at hl 3 rfl) ?_
      refine lv_iadd C.x C.b dX10_writeParts_19 ?_
      refine tw_call (y := yX10_of) (bytes := cX10_of) (maxL := 3) (fun v => some (.int v)) [.int x1, .int (29 + x3)] (fun _ => True)  C hw XB.tt (fun _ _ _ => trivial) hσ hS hl.1 h (fun vv ss ee => kT_of l g A x1 (29 + x3) σ vv ss ee) (cwV 2 C.t (lw_V q2346 q2348 qs85 q159 q2349) rfl rfl rfl (by decide +kernel) ⟨Nat.le_trans (Nat.le_of_ble_eq_true rfl) hRf, Nat.le_trans (Nat.le_of_ble_eq_true rfl) hRl⟩) rfl rfl (Nat.le_of_ble_eq_true rfl) dX10_writeParts_20 (fun v_5 σ_6 H locs h hσ hS => ?_)
      refine lv_if_ne (tgt := 29) C.x C.b dX10_writeParts_23 (by decide) (fun c_7 => ?_) (fun c_7 => ?_)
      · have h := iN c_7 h
        refine lv_iload_n C.x C.b dX10_writeParts_29 rfl (lv_at hl 2 rfl) ?_
        refine lv_if_eq (tgt := 39) C.x C.b dX10_writeParts_30 (by decide) (fun c_8 => ?_) (fun c_8 => ?_)
        · have h := ip c_8 h
          exact wT_writeParts_39 C hw hRf hRl (fun y0 y1 y2 σ H locs ls h hσ hS hl => ih y0 y1 y2 σ H locs ls h hσ hS hl) _ _ _ _ _ _ h hσ hS (lv_sub hl [0, 1, 3] rfl)
        · have h := iN c_8 h
          refine lv_aload_n C.x C.b dX10_writeParts_33 rfl (lv_at hl 0 rfl) ?_
          refine lv_bipush (v := 44) C.x C.b dX10_writeParts_34 (by decide) ?_
          refine tw_call (y := yX10_write) (bytes := cX10_write) (maxL := 2) (fun _ => none) [.int 44] (fun _ => True)  C hw XB.tt (fun _ _ _ => trivial) hσ hS hl.1 h (fun vv ss ee => kT_write l g A 44 σ_6 vv ss ee) (cwV 1 C.t (lw_V q2594 q2596 qs117 q159 q2597) rfl rfl rfl (by decide +kernel) ⟨Nat.le_trans (Nat.le_of_ble_eq_true rfl) hRf, Nat.le_trans (Nat.le_of_ble_eq_true rfl) hRl⟩) rfl rfl (Nat.le_of_ble_eq_true rfl) dX10_writeParts_36 (fun _ σ_9 H locs h hσ hS => ?_)
          exact wT_writeParts_39 C hw hRf hRl (fun y0 y1 y2 σ H locs ls h hσ hS hl => ih y0 y1 y2 σ H locs ls h hσ hS hl) _ _ _ _ _ _ h hσ hS (lv_sub hl [0, 1, 3] rfl)
      · have h := ip c_7 h
        refine lv_goto (tgt := 88) C.x C.b dX10_writeParts_26 (by decide) ?_
        obtain ⟨x3_10, e_, h⟩ := nm_s h
        refine lv_iinc (v := x3_10) (lv' := [(3, .int x3_10), (0, .ref g.2.2.2.1), (1, .int x1), (2, .int x2)]) C.x C.b dX10_writeParts_88 hl (k := 3) rfl e_.symm (by decide) rfl (fun ls hl => ?_)
        refine lv_goto (tgt := 4) C.x C.b dX10_writeParts_91 (by decide) ?_
        exact ih _ _ _ _ _ _ _ h hσ hS (lv_sub hl [1, 2, 3, 0] rfl)

theorem kT_writeParts (l : Launch) (g : twG) (A : Nat → Prop) (x1 : Int32) (σ : twS) (v : Int32) (σ1 : twS) (h : mT_writeParts x1 σ = some (v, σ1)) : Met l yX10_writeParts (ws_ yX10_writeParts cX10_writeParts 4 none) ({ frames := 129, cells := 0, slots := 0, locals := 2901 }) (TPc twL g A [.ref g.2.2.2.1, .int x1] (fun _ => True) σ) (TQ g A (none) σ1) 0 0 A := by
  refine Met.ofW (cc := cX10_writeParts) (maxL := 4) (ret := none) (by decide) rfl ?_
  intro p e s m args below meth c s₁ B hml hv
  obtain ⟨rfl, hw, hX, hσ⟩ := hv
  have hts := atoms_spec (ws := (ws_ yX10_writeParts cX10_writeParts 4 none)) B.pre
  have C : CX p m meth c s ([.ref g.2.2.2.1, .int x1] : List Value).toArray cX10_writeParts 4 none RX10 := ⟨⟨B.exec, B.bytes, hml, findClass_of_methodNamed B.named, fun w h => hts w (List.mem_cons_of_mem _ h)⟩, B.returns, B.notSynchronized⟩
  have hRf : 129 ≤ (headSpec (ws_ yX10_writeParts cX10_writeParts 4 none) ({ frames := 129, cells := 0, slots := 0, locals := 2901 })).room.frames := Nat.le_refl _
  have hRl : 2901 ≤ (headSpec (ws_ yX10_writeParts cX10_writeParts 4 none) ({ frames := 129, cells := 0, slots := 0, locals := 2901 })).room.locals := Nat.le_refl _
  generalize (headSpec (ws_ yX10_writeParts cX10_writeParts 4 none) ({ frames := 129, cells := 0, slots := 0, locals := 2901 })).room = R at hRf hRl ⊢
  have hS : va_S A s.heap s.heap [] := va_S.rf
  have hl := lv_entry ([.ref g.2.2.2.1, .int x1]) (n := 4) (Nat.le_of_ble_eq_true rfl)
  rw [lg_entry_eq]
  generalize (lg_sl ([.ref g.2.2.2.1, .int x1]) ++ List.replicate (4 - (lg_sl ([.ref g.2.2.2.1, .int x1])).length) Slot.unset).toArray = ls at hl ⊢
  have hl : lv_has ls 4 [(0, .ref g.2.2.2.1), (1, .int x1)] := hl
  obtain ⟨z, hz⟩ : ∃ z, z = (v, σ1) := ⟨_, rfl⟩
  rw [← hz] at h
  rw [show σ1 = z.2 by rw [hz]]
  clear hz v σ1
  unfold mT_writeParts at h
  refine lv_iconst (v := 0) C.x C.b dX10_writeParts_0 (by decide) ?_
  refine lv_istore_n (lv' := [(2, .int 0), (0, .ref g.2.2.2.1), (1, .int x1)]) C.x C.b dX10_writeParts_1 rfl hl (by decide) rfl (fun ls hl => ?_)
  refine lv_iconst (v := 0) C.x C.b dX10_writeParts_2 (by decide) ?_
  refine lv_istore_n (lv' := [(3, .int 0), (2, .int 0), (0, .ref g.2.2.2.1), (1, .int x1)]) C.x C.b dX10_writeParts_3 rfl hl (by decide) rfl (fun ls hl => ?_)
  exact wT_writeParts_4 C hw hRf hRl _ _ _ _ _ _ _ _ h hσ hS (lv_sub hl [2, 3, 1, 0] rfl)

theorem wT_writeRule_71 {z : Int32 × twS} (C : CX p m meth c s args cX10_writeRule 3 (some .int) RX10) (hw : WKt twL g A s s.heap) (hRf : 12353 ≤ R.frames) (hRl : 271897 ≤ R.locals) : ∀ (n : Nat) (x1 : Int32) (x2 : Int32) (σ : twS) (H : Heap) (locs : List Loc) (ls : Array Slot), bT_writeRule_71 n x1 x2 σ = some z → TI g A σ H → va_S A s.heap H locs → lv_has ls 3 [(0, .ref g.2.2.2.1), (1, .int x1), (2, .int x2)] → W p l e R s m args below meth c H locs 0 0 (MQ below (TQ g A (some (.int z.1)) z.2) args s 0 0 A) (F0 m 71 ls []) := by
  intro n
  induction n with
  | zero =>
    intro x1 x2 σ H locs ls h
    cases h
  | succ n ih =>
    intro x1 x2 σ H locs ls h hσ hS hl
    rw [bT_writeRule_71] at h
    refine lv_iload_n C.x C.b dX10_writeRule_71 rfl (lv_at hl 2 rfl) ?_
    refine lv_aload_n C.x C.b dX10_writeRule_72 rfl (lv_at hl 0 rfl) ?_
    refine tw_gf0 C hw hσ q2215 dX10_writeRule_73 ?_
    refine lv_bipush (v := 17) C.x C.b dX10_writeRule_76 (by decide) ?_
    refine tw_ld0 C hw hσ h dX10_writeRule_78 (fun v_1 h => ?_)
    refine lv_icmp_ge (tgt := 114) C.x C.b dX10_writeRule_79 (by decide) (fun c_2 => ?_) (fun c_2 => ?_)
    · have h := ip c_2 h
      refine lv_aload_n C.x C.b dX10_writeRule_114 rfl (lv_at hl 0 rfl) ?_
      refine tw_gf12 C hw hσ q2227 dX10_writeRule_115 ?_
      exact tw_iret C hσ hS h dX10_writeRule_118
    · have h := iN c_2 h
      refine lv_aload_n C.x C.b dX10_writeRule_82 rfl (lv_at hl 0 rfl) ?_
      refine lv_iload_n C.x C.b dX10_writeRule_83 rfl (lv_at hl 1 rfl) ?_
      refine lv_bipush (v := 33) C.x C.b dX10_writeRule_84 (by decide) ?_
      refine tw_call (y := yX10_of) (bytes := cX10_of) (maxL := 3) (fun v => some (.int v)) [.int x1, .int 33] (fun _ => True)  C hw XB.tt (fun _ _ _ => trivial) hσ hS hl.1 h (fun vv ss ee => kT_of l g A x1 33 σ vv ss ee) (cwV 2 C.t (lw_V q2346 q2348 qs85 q159 q2349) rfl rfl rfl (by decide +kernel) ⟨Nat.le_trans (Nat.le_of_ble_eq_true rfl) hRf, Nat.le_trans (Nat.le_of_ble_eq_true rfl) hRl⟩) rfl rfl (Nat.le_of_ble_eq_true rfl) dX10_writeRule_86 (fun v_3 σ_4 H locs h hσ hS => ?_)
      refine lv_iload_n C.x C.b dX10_writeRule_89 rfl (lv_at hl 2 rfl) ?_
      refine tw_callS (y := yX10_has) (bytes := cX10_has) (maxL := 2) (fun v => some (.int v)) [.int v_3, .int x2] C hw hσ hS hl.1 h (fun vv ss ee => kT_has l g A v_3 x2 σ_4 vv ss ee) (va_cwS 2 C.t (lw_S q2199 q2200 q159 q2201) rfl rfl rfl (by decide +kernel) ⟨Nat.le_trans (Nat.le_of_ble_eq_true rfl) hRf, Nat.le_trans (Nat.le_of_ble_eq_true rfl) hRl⟩) rfl rfl (Nat.le_of_ble_eq_true rfl) dX10_writeRule_90 (fun v_5 σ_6 H locs h hσ hS => ?_)
      refine lv_if_eq (tgt := 108) C.x C.b dX10_writeRule_93 (by decide) (fun c_7 => ?_) (fun c_7 => ?_)
      · have h := ip c_7 h
        obtain ⟨x2_8, e_, h⟩ := nm_s h
        refine lv_iinc (v := x2_8) (lv' := [(2, .int x2_8), (0, .ref g.2.2.2.1), (1, .int x1)]) C.x C.b dX10_writeRule_108 hl (k := 2) rfl e_.symm (by decide) rfl (fun ls hl => ?_)
        refine lv_goto (tgt := 71) C.x C.b dX10_writeRule_111 (by decide) ?_
        exact ih _ _ _ _ _ _ h hσ hS (lv_sub hl [1, 2, 0] rfl)
      · have h := iN c_7 h
        refine lv_aload_n C.x C.b dX10_writeRule_96 rfl (lv_at hl 0 rfl) ?_
        obtain ⟨aS_370, rS_370, kS_370⟩ := hw.2.2 _ (List.mem_of_getElem? (i := 19) (rfl : twL[19]? = some (370, "", tS_370)))
        refine tw_ldcwS C.x C.b C.o rS_370 dX10_writeRule_97 ?_
        refine tw_call (y := yX10_writeToken) (bytes := cX10_writeToken) (maxL := 3) (fun _ => none) [.ref aS_370] (fun U => StrC A tS_370 aS_370 U U.heap)  C hw (XB.str A _ _) (fun U hU hW => StrC.at kS_370 hS hU hW) hσ hS hl.1 h (fun vv ss ee => kT_writeToken l g A tS_370 aS_370 σ_6 vv ss ee) (cwV 1 C.t (lw_V q2590 q2592 qs116 q159 q2593) rfl rfl rfl (by decide +kernel) ⟨Nat.le_trans (Nat.le_of_ble_eq_true rfl) hRf, Nat.le_trans (Nat.le_of_ble_eq_true rfl) hRl⟩) rfl rfl (Nat.le_of_ble_eq_true rfl) dX10_writeRule_100 (fun _ σ_9 H locs h hσ hS => ?_)
        refine lv_aload_n C.x C.b dX10_writeRule_103 rfl (lv_at hl 0 rfl) ?_
        refine lv_iload_n C.x C.b dX10_writeRule_104 rfl (lv_at hl 2 rfl) ?_
        refine tw_call (y := yX10_writeNumber) (bytes := cX10_writeNumber) (maxL := 2) (fun _ => none) [.int x2] (fun _ => True)  C hw XB.tt (fun _ _ _ => trivial) hσ hS hl.1 h (fun vv ss ee => kT_writeNumber l g A DP x2 σ_9 vv ss ee) (cwV 1 C.t (lw_V q2601 q2603 qs118 q159 q2604) rfl rfl rfl (by decide +kernel) ⟨Nat.le_trans (Nat.le_of_ble_eq_true rfl) hRf, Nat.le_trans (Nat.le_of_ble_eq_true rfl) hRl⟩) rfl rfl (Nat.le_of_ble_eq_true rfl) dX10_writeRule_105 (fun _ σ_10 H locs h hσ hS => ?_)
        obtain ⟨x2_11, e_, h⟩ := nm_s h
        refine lv_iinc (v := x2_11) (lv' := [(2, .int x2_11), (0, .ref g.2.2.2.1), (1, .int x1)]) C.x C.b dX10_writeRule_108 hl (k := 2) rfl e_.symm (by decide) rfl (fun ls hl => ?_)
        refine lv_goto (tgt := 71) C.x C.b dX10_writeRule_111 (by decide) ?_
        exact ih _ _ _ _ _ _ h hσ hS (lv_sub hl [1, 2, 0] rfl)

theorem wT_writeRule_14 {z : Int32 × twS} (C : CX p m meth c s args cX10_writeRule 3 (some .int) RX10) (hw : WKt twL g A s s.heap) (hRf : 12353 ≤ R.frames) (hRl : 271897 ≤ R.locals) : ∀ (x1 : Int32) (s1 : Int32) (σ : twS) (H : Heap) (locs : List Loc) (ls : Array Slot), bT_writeRule_14 x1 s1 σ = some z → TI g A σ H → va_S A s.heap H locs → lv_has ls 3 [(0, .ref g.2.2.2.1), (1, .int x1)] → W p l e R s m args below meth c H locs 0 0 (MQ below (TQ g A (some (.int z.1)) z.2) args s 0 0 A) (F0 m 14 ls [.int s1, .ref g.2.2.2.1]) := by
  intro x1 s1 σ H locs ls h hσ hS hl
  unfold bT_writeRule_14 at h
  refine tw_call (y := yX10_throwsOne) (bytes := cX10_throwsOne) (maxL := 2) (fun v => some (.int v)) [.int s1] (fun _ => True)  C hw XB.tt (fun _ _ _ => trivial) hσ hS hl.1 h (fun vv ss ee => kT_throwsOne l g A s1 σ vv ss ee) (cwV 1 C.t (lw_V q2314 q2316 qs79 q159 q2317) rfl rfl rfl (by decide +kernel) ⟨Nat.le_trans (Nat.le_of_ble_eq_true rfl) hRf, Nat.le_trans (Nat.le_of_ble_eq_true rfl) hRl⟩) rfl rfl (Nat.le_of_ble_eq_true rfl) dX10_writeRule_14 (fun v_1 σ_2 H locs h hσ hS => ?_)
  refine lv_if_eq (tgt := 22) C.x C.b dX10_writeRule_17 (by decide) (fun c_3 => ?_) (fun c_3 => ?_)
  · have h := ip c_3 h
    refine lv_aload_n C.x C.b dX10_writeRule_22 rfl (lv_at hl 0 rfl) ?_
    refine lv_iconst (v := 0) C.x C.b dX10_writeRule_23 (by decide) ?_
    refine tw_pf12 C hw hσ hS q2227 dX10_writeRule_24 (fun H locs hσ hS => ?_)
    obtain ⟨σ_4, e_, h⟩ := nm_s h
    rw [← e_] at hσ
    clear e_
    refine lv_aload_n C.x C.b dX10_writeRule_27 rfl (lv_at hl 0 rfl) ?_
    refine lv_iload_n C.x C.b dX10_writeRule_28 rfl (lv_at hl 1 rfl) ?_
    refine lv_aload_n C.x C.b dX10_writeRule_29 rfl (lv_at hl 0 rfl) ?_
    refine lv_iload_n C.x C.b dX10_writeRule_30 rfl (lv_at hl 1 rfl) ?_
    refine lv_iconst (v := 0) C.x C.b dX10_writeRule_31 (by decide) ?_
    refine tw_call (y := yX10_of) (bytes := cX10_of) (maxL := 3) (fun v => some (.int v)) [.int x1, .int 0] (fun _ => True)  C hw XB.tt (fun _ _ _ => trivial) hσ hS hl.1 h (fun vv ss ee => kT_of l g A x1 0 σ_4 vv ss ee) (cwV 2 C.t (lw_V q2346 q2348 qs85 q159 q2349) rfl rfl rfl (by decide +kernel) ⟨Nat.le_trans (Nat.le_of_ble_eq_true rfl) hRf, Nat.le_trans (Nat.le_of_ble_eq_true rfl) hRl⟩) rfl rfl (Nat.le_of_ble_eq_true rfl) dX10_writeRule_32 (fun v_5 σ_6 H locs h hσ hS => ?_)
    refine lv_iconst (v := 1) C.x C.b dX10_writeRule_35 (by decide) ?_
    refine lv_isub C.x C.b dX10_writeRule_36 ?_
    refine lv_bipush (v := 9) C.x C.b dX10_writeRule_37 (by decide) ?_
    refine tw_call (y := yX10_writePart) (bytes := cX10_writePart) (maxL := 6) (fun _ => none) [.int x1, .int (v_5 - 1), .int 9] (fun _ => True)  C hw XB.tt (fun _ _ _ => trivial) hσ hS hl.1 h (fun vv ss ee => kT_writePart l g A DP x1 (v_5 - 1) 9 σ_6 vv ss ee) (cwV 3 C.t (lw_V q2581 q2583 qs114 q159 q2584) rfl rfl rfl (by decide +kernel) ⟨Nat.le_trans (Nat.le_of_ble_eq_true rfl) hRf, Nat.le_trans (Nat.le_of_ble_eq_true rfl) hRl⟩) rfl rfl (Nat.le_of_ble_eq_true rfl) dX10_writeRule_39 (fun _ σ_7 H locs h hσ hS => ?_)
    refine lv_aload_n C.x C.b dX10_writeRule_42 rfl (lv_at hl 0 rfl) ?_
    obtain ⟨aS_226, rS_226, kS_226⟩ := hw.2.2 _ (List.mem_of_getElem? (i := 10) (rfl : twL[10]? = some (226, "gives", tS_226)))
    refine va_ldcS C.x C.b C.o rS_226 dX10_writeRule_43 ?_
    refine tw_call (y := yX10_writeToken) (bytes := cX10_writeToken) (maxL := 3) (fun _ => none) [.ref aS_226] (fun U => StrC A tS_226 aS_226 U U.heap)  C hw (XB.str A _ _) (fun U hU hW => StrC.at kS_226 hS hU hW) hσ hS hl.1 h (fun vv ss ee => kT_writeToken l g A tS_226 aS_226 σ_7 vv ss ee) (cwV 1 C.t (lw_V q2590 q2592 qs116 q159 q2593) rfl rfl rfl (by decide +kernel) ⟨Nat.le_trans (Nat.le_of_ble_eq_true rfl) hRf, Nat.le_trans (Nat.le_of_ble_eq_true rfl) hRl⟩) rfl rfl (Nat.le_of_ble_eq_true rfl) dX10_writeRule_45 (fun _ σ_8 H locs h hσ hS => ?_)
    refine lv_aload_n C.x C.b dX10_writeRule_48 rfl (lv_at hl 0 rfl) ?_
    refine lv_iload_n C.x C.b dX10_writeRule_49 rfl (lv_at hl 1 rfl) ?_
    refine tw_call (y := yX10_writeParts) (bytes := cX10_writeParts) (maxL := 4) (fun _ => none) [.int x1] (fun _ => True)  C hw XB.tt (fun _ _ _ => trivial) hσ hS hl.1 h (fun vv ss ee => kT_writeParts l g A x1 σ_8 vv ss ee) (cwV 1 C.t (lw_V q2611 q2613 qs120 q159 q2614) rfl rfl rfl (by decide +kernel) ⟨Nat.le_trans (Nat.le_of_ble_eq_true rfl) hRf, Nat.le_trans (Nat.le_of_ble_eq_true rfl) hRl⟩) rfl rfl (Nat.le_of_ble_eq_true rfl) dX10_writeRule_50 (fun _ σ_9 H locs h hσ hS => ?_)
    refine lv_aload_n C.x C.b dX10_writeRule_53 rfl (lv_at hl 0 rfl) ?_
    refine lv_iload_n C.x C.b dX10_writeRule_54 rfl (lv_at hl 1 rfl) ?_
    refine lv_bipush (v := 33) C.x C.b dX10_writeRule_55 (by decide) ?_
    refine tw_call (y := yX10_of) (bytes := cX10_of) (maxL := 3) (fun v => some (.int v)) [.int x1, .int 33] (fun _ => True)  C hw XB.tt (fun _ _ _ => trivial) hσ hS hl.1 h (fun vv ss ee => kT_of l g A x1 33 σ_9 vv ss ee) (cwV 2 C.t (lw_V q2346 q2348 qs85 q159 q2349) rfl rfl rfl (by decide +kernel) ⟨Nat.le_trans (Nat.le_of_ble_eq_true rfl) hRf, Nat.le_trans (Nat.le_of_ble_eq_true rfl) hRl⟩) rfl rfl (Nat.le_of_ble_eq_true rfl) dX10_writeRule_57 (fun v_10 σ_11 H locs h hσ hS => ?_)
    refine lv_if_eq (tgt := 69) C.x C.b dX10_writeRule_60 (by decide) (fun c_12 => ?_) (fun c_12 => ?_)
    · have h := ip c_12 h
      refine lv_iconst (v := 0) C.x C.b dX10_writeRule_69 (by decide) ?_
      refine lv_istore_n (lv' := [(2, .int 0), (0, .ref g.2.2.2.1), (1, .int x1)]) C.x C.b dX10_writeRule_70 rfl hl (by decide) rfl (fun ls hl => ?_)
      exact wT_writeRule_71 C hw hRf hRl _ _ _ _ _ _ _ h hσ hS (lv_sub hl [1, 2, 0] rfl)
    · have h := iN c_12 h
      refine lv_aload_n C.x C.b dX10_writeRule_63 rfl (lv_at hl 0 rfl) ?_
      obtain ⟨aS_224, rS_224, kS_224⟩ := hw.2.2 _ (List.mem_of_getElem? (i := 9) (rfl : twL[9]? = some (224, "over", tS_224)))
      refine va_ldcS C.x C.b C.o rS_224 dX10_writeRule_64 ?_
      refine tw_call (y := yX10_writeToken) (bytes := cX10_writeToken) (maxL := 3) (fun _ => none) [.ref aS_224] (fun U => StrC A tS_224 aS_224 U U.heap)  C hw (XB.str A _ _) (fun U hU hW => StrC.at kS_224 hS hU hW) hσ hS hl.1 h (fun vv ss ee => kT_writeToken l g A tS_224 aS_224 σ_11 vv ss ee) (cwV 1 C.t (lw_V q2590 q2592 qs116 q159 q2593) rfl rfl rfl (by decide +kernel) ⟨Nat.le_trans (Nat.le_of_ble_eq_true rfl) hRf, Nat.le_trans (Nat.le_of_ble_eq_true rfl) hRl⟩) rfl rfl (Nat.le_of_ble_eq_true rfl) dX10_writeRule_66 (fun _ σ_13 H locs h hσ hS => ?_)
      refine lv_iconst (v := 0) C.x C.b dX10_writeRule_69 (by decide) ?_
      refine lv_istore_n (lv' := [(2, .int 0), (0, .ref g.2.2.2.1), (1, .int x1)]) C.x C.b dX10_writeRule_70 rfl hl (by decide) rfl (fun ls hl => ?_)
      exact wT_writeRule_71 C hw hRf hRl _ _ _ _ _ _ _ h hσ hS (lv_sub hl [1, 2, 0] rfl)
  · have h := iN c_3 h
    refine lv_iconst (v := 0) C.x C.b dX10_writeRule_20 (by decide) ?_
    exact tw_iret C hσ hS h dX10_writeRule_21

theorem kT_writeRule (l : Launch) (g : twG) (A : Nat → Prop) (x1 : Int32) (σ : twS) (v : Int32) (σ1 : twS) (h : mT_writeRule x1 σ = some (v, σ1)) : Met l yX10_writeRule (ws_ yX10_writeRule cX10_writeRule 3 (some .int)) ({ frames := 12353, cells := 0, slots := 0, locals := 271897 }) (TPc twL g A [.ref g.2.2.2.1, .int x1] (fun _ => True) σ) (TQ g A (some (.int v)) σ1) 0 0 A := by
  refine Met.ofW (cc := cX10_writeRule) (maxL := 3) (ret := (some .int)) (by decide) rfl ?_
  intro p e s m args below meth c s₁ B hml hv
  obtain ⟨rfl, hw, hX, hσ⟩ := hv
  have hts := atoms_spec (ws := (ws_ yX10_writeRule cX10_writeRule 3 (some .int))) B.pre
  have C : CX p m meth c s ([.ref g.2.2.2.1, .int x1] : List Value).toArray cX10_writeRule 3 (some .int) RX10 := ⟨⟨B.exec, B.bytes, hml, findClass_of_methodNamed B.named, fun w h => hts w (List.mem_cons_of_mem _ h)⟩, B.returns, B.notSynchronized⟩
  have hRf : 12353 ≤ (headSpec (ws_ yX10_writeRule cX10_writeRule 3 (some .int)) ({ frames := 12353, cells := 0, slots := 0, locals := 271897 })).room.frames := Nat.le_refl _
  have hRl : 271897 ≤ (headSpec (ws_ yX10_writeRule cX10_writeRule 3 (some .int)) ({ frames := 12353, cells := 0, slots := 0, locals := 271897 })).room.locals := Nat.le_refl _
  generalize (headSpec (ws_ yX10_writeRule cX10_writeRule 3 (some .int)) ({ frames := 12353, cells := 0, slots := 0, locals := 271897 })).room = R at hRf hRl ⊢
  have hS : va_S A s.heap s.heap [] := va_S.rf
  have hl := lv_entry ([.ref g.2.2.2.1, .int x1]) (n := 3) (Nat.le_of_ble_eq_true rfl)
  rw [lg_entry_eq]
  generalize (lg_sl ([.ref g.2.2.2.1, .int x1]) ++ List.replicate (3 - (lg_sl ([.ref g.2.2.2.1, .int x1])).length) Slot.unset).toArray = ls at hl ⊢
  have hl : lv_has ls 3 [(0, .ref g.2.2.2.1), (1, .int x1)] := hl
  obtain ⟨z, hz⟩ : ∃ z, z = (v, σ1) := ⟨_, rfl⟩
  rw [← hz] at h
  rw [show v = z.1 by rw [hz], show σ1 = z.2 by rw [hz]]
  clear hz v σ1
  unfold mT_writeRule at h
  refine lv_aload_n C.x C.b dX10_writeRule_0 rfl (lv_at hl 0 rfl) ?_
  refine lv_aload_n C.x C.b dX10_writeRule_1 rfl (lv_at hl 0 rfl) ?_
  refine lv_iload_n C.x C.b dX10_writeRule_2 rfl (lv_at hl 1 rfl) ?_
  refine tw_call (y := yX10_isRule) (bytes := cX10_isRule) (maxL := 2) (fun v => some (.int v)) [.int x1] (fun _ => True)  C hw XB.tt (fun _ _ _ => trivial) hσ hS hl.1 h (fun vv ss ee => kT_isRule l g A x1 σ vv ss ee) (cwV 1 C.t (lw_V q2435 q2437 qs102 q159 q2438) rfl rfl rfl (by decide +kernel) ⟨Nat.le_trans (Nat.le_of_ble_eq_true rfl) hRf, Nat.le_trans (Nat.le_of_ble_eq_true rfl) hRl⟩) rfl rfl (Nat.le_of_ble_eq_true rfl) dX10_writeRule_3 (fun v_1 σ_2 H locs h hσ hS => ?_)
  refine lv_if_ne (tgt := 13) C.x C.b dX10_writeRule_6 (by decide) (fun c_3 => ?_) (fun c_3 => ?_)
  · have h := iN c_3 h
    refine lv_iconst (v := 0) C.x C.b dX10_writeRule_13 (by decide) ?_
    exact wT_writeRule_14 C hw hRf hRl _ _ _ _ _ _ h hσ hS (lv_sub hl [0, 1] rfl)
  · have h := ip c_3 h
    refine lv_iconst (v := 1) C.x C.b dX10_writeRule_9 (by decide) ?_
    refine lv_goto (tgt := 14) C.x C.b dX10_writeRule_10 (by decide) ?_
    exact wT_writeRule_14 C hw hRf hRl _ _ _ _ _ _ h hσ hS (lv_sub hl [0, 1] rfl)

theorem wT_writeVerdicts_73 {z : Int32 × twS} (C : CX p m meth c s args cX10_writeVerdicts 4 (some .int) RX10) (hw : WKt twL g A s s.heap) (hRf : 7 ≤ R.frames) (hRl : 156 ≤ R.locals) {k21 : Int32 → Int32 → twS → Option (Int32 × twS)} (hk21 : ∀ (x1 : Int32) (x2 : Int32) (σ : twS) (H : Heap) (locs : List Loc) (ls : Array Slot), k21 x1 x2 σ = some z → TI g A σ H → va_S A s.heap H locs → lv_has ls 4 [(0, .ref g.2.2.2.1), (1, .int x1), (2, .int x2)] → W p l e R s m args below meth c H locs 0 0 (MQ below (TQ g A (some (.int z.1)) z.2) args s 0 0 A) (F0 m 21 ls [])) : ∀ (x1 : Int32) (x2 : Int32) (s1 : Int32) (σ : twS) (H : Heap) (locs : List Loc) (ls : Array Slot), bT_writeVerdicts_73 k21 x1 x2 s1 σ = some z → TI g A σ H → va_S A s.heap H locs → lv_has ls 4 [(0, .ref g.2.2.2.1), (1, .int x1), (2, .int x2)] → W p l e R s m args below meth c H locs 0 0 (MQ below (TQ g A (some (.int z.1)) z.2) args s 0 0 A) (F0 m 73 ls [.int s1, .ref g.2.2.2.1]) := by
  intro x1 x2 s1 σ H locs ls h hσ hS hl
  unfold bT_writeVerdicts_73 at h
  refine tw_call (y := yX10_write) (bytes := cX10_write) (maxL := 2) (fun _ => none) [.int s1] (fun _ => True)  C hw XB.tt (fun _ _ _ => trivial) hσ hS hl.1 h (fun vv ss ee => kT_write l g A s1 σ vv ss ee) (cwV 1 C.t (lw_V q2594 q2596 qs117 q159 q2597) rfl rfl rfl (by decide +kernel) ⟨Nat.le_trans (Nat.le_of_ble_eq_true rfl) hRf, Nat.le_trans (Nat.le_of_ble_eq_true rfl) hRl⟩) rfl rfl (Nat.le_of_ble_eq_true rfl) dX10_writeVerdicts_73 (fun _ σ_1 H locs h hσ hS => ?_)
  obtain ⟨x2_2, e_, h⟩ := nm_s h
  refine lv_iinc (v := x2_2) (lv' := [(2, .int x2_2), (0, .ref g.2.2.2.1), (1, .int x1)]) C.x C.b dX10_writeVerdicts_76 hl (k := 2) rfl e_.symm (by decide) rfl (fun ls hl => ?_)
  refine lv_goto (tgt := 21) C.x C.b dX10_writeVerdicts_79 (by decide) ?_
  exact hk21 _ _ _ _ _ _ h hσ hS (lv_sub hl [1, 2, 0] rfl)

theorem wT_writeVerdicts_21 {z : Int32 × twS} (C : CX p m meth c s args cX10_writeVerdicts 4 (some .int) RX10) (hw : WKt twL g A s s.heap) (hRf : 7 ≤ R.frames) (hRl : 156 ≤ R.locals) : ∀ (n : Nat) (x1 : Int32) (x2 : Int32) (σ : twS) (H : Heap) (locs : List Loc) (ls : Array Slot), bT_writeVerdicts_21 n x1 x2 σ = some z → TI g A σ H → va_S A s.heap H locs → lv_has ls 4 [(0, .ref g.2.2.2.1), (1, .int x1), (2, .int x2)] → W p l e R s m args below meth c H locs 0 0 (MQ below (TQ g A (some (.int z.1)) z.2) args s 0 0 A) (F0 m 21 ls []) := by
  intro n
  induction n with
  | zero =>
    intro x1 x2 σ H locs ls h
    cases h
  | succ n ih =>
    intro x1 x2 σ H locs ls h hσ hS hl
    rw [bT_writeVerdicts_21] at h
    refine lv_iload_n C.x C.b dX10_writeVerdicts_21 rfl (lv_at hl 2 rfl) ?_
    refine lv_iload_n C.x C.b dX10_writeVerdicts_22 rfl (lv_at hl 1 rfl) ?_
    refine lv_icmp_ge (tgt := 82) C.x C.b dX10_writeVerdicts_23 (by decide) (fun c_1 => ?_) (fun c_1 => ?_)
    · have h := ip c_1 h
      refine lv_aload_n C.x C.b dX10_writeVerdicts_82 rfl (lv_at hl 0 rfl) ?_
      refine tw_gf12 C hw hσ q2227 dX10_writeVerdicts_83 ?_
      exact tw_iret C hσ hS h dX10_writeVerdicts_86
    · have h := iN c_1 h
      refine lv_aload_n C.x C.b dX10_writeVerdicts_26 rfl (lv_at hl 0 rfl) ?_
      refine lv_aload_n C.x C.b dX10_writeVerdicts_27 rfl (lv_at hl 0 rfl) ?_
      refine tw_gf15 C hw hσ q2230 dX10_writeVerdicts_28 ?_
      refine lv_iload_n C.x C.b dX10_writeVerdicts_31 rfl (lv_at hl 2 rfl) ?_
      refine tw_ld15 C hw hσ h dX10_writeVerdicts_32 (fun v_2 h => ?_)
      refine tw_call (y := yX10_verdictOf) (bytes := cX10_verdictOf) (maxL := 3) (fun v => some (.int v)) [.int v_2] (fun _ => True)  C hw XB.tt (fun _ _ _ => trivial) hσ hS hl.1 h (fun vv ss ee => kT_verdictOf l g A v_2 σ vv ss ee) (cwV 1 C.t (lw_V q2363 q2365 qs89 q159 q2366) rfl rfl rfl (by decide +kernel) ⟨Nat.le_trans (Nat.le_of_ble_eq_true rfl) hRf, Nat.le_trans (Nat.le_of_ble_eq_true rfl) hRl⟩) rfl rfl (Nat.le_of_ble_eq_true rfl) dX10_writeVerdicts_33 (fun v_3 σ_4 H locs h hσ hS => ?_)
      refine lv_istore_n (lv' := [(3, .int v_3), (0, .ref g.2.2.2.1), (1, .int x1), (2, .int x2)]) C.x C.b dX10_writeVerdicts_36 rfl hl (by decide) rfl (fun ls hl => ?_)
      refine lv_aload_n C.x C.b dX10_writeVerdicts_37 rfl (lv_at hl 1 rfl) ?_
      refine lv_iload_n C.x C.b dX10_writeVerdicts_38 rfl (lv_at hl 0 rfl) ?_
      refine lv_if_ne (tgt := 61) C.x C.b dX10_writeVerdicts_39 (by decide) (fun c_5 => ?_) (fun c_5 => ?_)
      · have h := iN c_5 h
        refine lv_iload_n C.x C.b dX10_writeVerdicts_61 rfl (lv_at hl 0 rfl) ?_
        refine lv_iconst (v := 3) C.x C.b dX10_writeVerdicts_62 (by decide) ?_
        refine lv_icmp_ne (tgt := 71) C.x C.b dX10_writeVerdicts_63 (by decide) (fun c_6 => ?_) (fun c_6 => ?_)
        · have h := iN c_6 h
          refine lv_bipush (v := 63) C.x C.b dX10_writeVerdicts_71 (by decide) ?_
          exact wT_writeVerdicts_73 C hw hRf hRl (fun y0 y1 σ H locs ls h hσ hS hl => ih y0 y1 σ H locs ls h hσ hS hl) _ _ _ _ _ _ _ h hσ hS (lv_sub hl [1, 2, 3] rfl)
        · have h := ip c_6 h
          refine lv_bipush (v := 33) C.x C.b dX10_writeVerdicts_66 (by decide) ?_
          refine lv_goto (tgt := 73) C.x C.b dX10_writeVerdicts_68 (by decide) ?_
          exact wT_writeVerdicts_73 C hw hRf hRl (fun y0 y1 σ H locs ls h hσ hS hl => ih y0 y1 σ H locs ls h hσ hS hl) _ _ _ _ _ _ _ h hσ hS (lv_sub hl [1, 2, 3] rfl)
      · have h := ip c_5 h
        refine lv_bipush (v := 48) C.x C.b dX10_writeVerdicts_42 (by decide) ?_
        refine lv_aload_n C.x C.b dX10_writeVerdicts_44 rfl (lv_at hl 1 rfl) ?_
        refine lv_aload_n C.x C.b dX10_writeVerdicts_45 rfl (lv_at hl 1 rfl) ?_
        refine tw_gf15 C hw hσ q2230 dX10_writeVerdicts_46 ?_
        refine lv_iload_n C.x C.b dX10_writeVerdicts_49 rfl (lv_at hl 3 rfl) ?_
        refine tw_ld15 C hw hσ h dX10_writeVerdicts_50 (fun v_7 h => ?_)
        refine tw_call (y := yX10_settles) (bytes := cX10_settles) (maxL := 2) (fun v => some (.int v)) [.int v_7] (fun _ => True)  C hw XB.tt (fun _ _ _ => trivial) hσ hS hl.1 h (fun vv ss ee => kT_settles l g A v_7 σ_4 vv ss ee) (cwV 1 C.t (lw_V q2414 q2416 qs98 q159 q2417) rfl rfl rfl (by decide +kernel) ⟨Nat.le_trans (Nat.le_of_ble_eq_true rfl) hRf, Nat.le_trans (Nat.le_of_ble_eq_true rfl) hRl⟩) rfl rfl (Nat.le_of_ble_eq_true rfl) dX10_writeVerdicts_51 (fun v_8 σ_9 H locs h hσ hS => ?_)
        refine lv_bipush (v := 10) C.x C.b dX10_writeVerdicts_54 (by decide) ?_
        refine lv_irem C.x C.b dX10_writeVerdicts_56 (by decide) ?_
        refine lv_iadd C.x C.b dX10_writeVerdicts_57 ?_
        refine lv_goto (tgt := 73) C.x C.b dX10_writeVerdicts_58 (by decide) ?_
        exact wT_writeVerdicts_73 C hw hRf hRl (fun y0 y1 σ H locs ls h hσ hS hl => ih y0 y1 σ H locs ls h hσ hS hl) _ _ _ _ _ _ _ h hσ hS (lv_sub hl [1, 2, 3] rfl)

theorem kT_writeVerdicts (l : Launch) (g : twG) (A : Nat → Prop) (σ : twS) (v : Int32) (σ1 : twS) (h : mT_writeVerdicts σ = some (v, σ1)) : Met l yX10_writeVerdicts (ws_ yX10_writeVerdicts cX10_writeVerdicts 4 (some .int)) ({ frames := 7, cells := 0, slots := 0, locals := 156 }) (TPc twL g A [.ref g.2.2.2.1] (fun _ => True) σ) (TQ g A (some (.int v)) σ1) 0 0 A := by
  refine Met.ofW (cc := cX10_writeVerdicts) (maxL := 4) (ret := (some .int)) (by decide) rfl ?_
  intro p e s m args below meth c s₁ B hml hv
  obtain ⟨rfl, hw, hX, hσ⟩ := hv
  have hts := atoms_spec (ws := (ws_ yX10_writeVerdicts cX10_writeVerdicts 4 (some .int))) B.pre
  have C : CX p m meth c s ([.ref g.2.2.2.1] : List Value).toArray cX10_writeVerdicts 4 (some .int) RX10 := ⟨⟨B.exec, B.bytes, hml, findClass_of_methodNamed B.named, fun w h => hts w (List.mem_cons_of_mem _ h)⟩, B.returns, B.notSynchronized⟩
  have hRf : 7 ≤ (headSpec (ws_ yX10_writeVerdicts cX10_writeVerdicts 4 (some .int)) ({ frames := 7, cells := 0, slots := 0, locals := 156 })).room.frames := Nat.le_refl _
  have hRl : 156 ≤ (headSpec (ws_ yX10_writeVerdicts cX10_writeVerdicts 4 (some .int)) ({ frames := 7, cells := 0, slots := 0, locals := 156 })).room.locals := Nat.le_refl _
  generalize (headSpec (ws_ yX10_writeVerdicts cX10_writeVerdicts 4 (some .int)) ({ frames := 7, cells := 0, slots := 0, locals := 156 })).room = R at hRf hRl ⊢
  have hS : va_S A s.heap s.heap [] := va_S.rf
  have hl := lv_entry ([.ref g.2.2.2.1]) (n := 4) (Nat.le_of_ble_eq_true rfl)
  rw [lg_entry_eq]
  generalize (lg_sl ([.ref g.2.2.2.1]) ++ List.replicate (4 - (lg_sl ([.ref g.2.2.2.1])).length) Slot.unset).toArray = ls at hl ⊢
  have hl : lv_has ls 4 [(0, .ref g.2.2.2.1)] := hl
  obtain ⟨z, hz⟩ : ∃ z, z = (v, σ1) := ⟨_, rfl⟩
  rw [← hz] at h
  rw [show v = z.1 by rw [hz], show σ1 = z.2 by rw [hz]]
  clear hz v σ1
  unfold mT_writeVerdicts at h
  refine lv_aload_n C.x C.b dX10_writeVerdicts_0 rfl (lv_at hl 0 rfl) ?_
  refine lv_iconst (v := 0) C.x C.b dX10_writeVerdicts_1 (by decide) ?_
  refine tw_pf13 C hw hσ hS q2228 dX10_writeVerdicts_2 (fun H locs hσ hS => ?_)
  obtain ⟨σ_1, e_, h⟩ := nm_s h
  rw [← e_] at hσ
  clear e_
  refine lv_aload_n C.x C.b dX10_writeVerdicts_5 rfl (lv_at hl 0 rfl) ?_
  refine tw_call (y := yX10_setsOut) (bytes := cX10_setsOut) (maxL := 4) (fun _ => none) [] (fun _ => True)  C hw XB.tt (fun _ _ _ => trivial) hσ hS hl.1 h (fun vv ss ee => kT_setsOut l g A σ_1 vv ss ee) (cwV 0 C.t (lw_V q2338 q2340 qs83 q159 q2341) rfl rfl rfl (by decide +kernel) ⟨Nat.le_trans (Nat.le_of_ble_eq_true rfl) hRf, Nat.le_trans (Nat.le_of_ble_eq_true rfl) hRl⟩) rfl rfl (Nat.le_of_ble_eq_true rfl) dX10_writeVerdicts_6 (fun _ σ_2 H locs h hσ hS => ?_)
  refine lv_aload_n C.x C.b dX10_writeVerdicts_9 rfl (lv_at hl 0 rfl) ?_
  refine lv_iconst (v := 0) C.x C.b dX10_writeVerdicts_10 (by decide) ?_
  refine tw_pf12 C hw hσ hS q2227 dX10_writeVerdicts_11 (fun H locs hσ hS => ?_)
  obtain ⟨σ_3, e_, h⟩ := nm_s h
  rw [← e_] at hσ
  clear e_
  refine lv_aload_n C.x C.b dX10_writeVerdicts_14 rfl (lv_at hl 0 rfl) ?_
  refine tw_call (y := yX10_cases) (bytes := cX10_cases) (maxL := 3) (fun v => some (.int v)) [] (fun _ => True)  C hw XB.tt (fun _ _ _ => trivial) hσ hS hl.1 h (fun vv ss ee => kT_cases l g A σ_3 vv ss ee) (cwV 0 C.t (lw_V q2334 q2336 qs82 q159 q2337) rfl rfl rfl (by decide +kernel) ⟨Nat.le_trans (Nat.le_of_ble_eq_true rfl) hRf, Nat.le_trans (Nat.le_of_ble_eq_true rfl) hRl⟩) rfl rfl (Nat.le_of_ble_eq_true rfl) dX10_writeVerdicts_15 (fun v_4 σ_5 H locs h hσ hS => ?_)
  refine lv_istore_n (lv' := [(1, .int v_4), (0, .ref g.2.2.2.1)]) C.x C.b dX10_writeVerdicts_18 rfl hl (by decide) rfl (fun ls hl => ?_)
  refine lv_iconst (v := 0) C.x C.b dX10_writeVerdicts_19 (by decide) ?_
  refine lv_istore_n (lv' := [(2, .int 0), (1, .int v_4), (0, .ref g.2.2.2.1)]) C.x C.b dX10_writeVerdicts_20 rfl hl (by decide) rfl (fun ls hl => ?_)
  exact wT_writeVerdicts_21 C hw hRf hRl _ _ _ _ _ _ _ h hσ hS (lv_sub hl [2, 1, 0] rfl)

theorem kT_reportAt (l : Launch) (g : twG) (A : Nat → Prop) (x1 : Int32) (σ : twS) (v : Int32) (σ1 : twS) (h : mT_reportAt x1 σ = some (v, σ1)) : Met l yX10_reportAt (ws_ yX10_reportAt cX10_reportAt 2 (some .char)) ({ frames := 2, cells := 0, slots := 0, locals := 46 }) (TPc twL g A [.ref g.2.2.2.1, .int x1] (fun _ => True) σ) (TQ g A (some (.int v)) σ1) 0 0 A := by
  refine Met.ofW (cc := cX10_reportAt) (maxL := 2) (ret := (some .char)) (by decide) rfl ?_
  intro p e s m args below meth c s₁ B hml hv
  obtain ⟨rfl, hw, hX, hσ⟩ := hv
  have hts := atoms_spec (ws := (ws_ yX10_reportAt cX10_reportAt 2 (some .char))) B.pre
  have C : CX p m meth c s ([.ref g.2.2.2.1, .int x1] : List Value).toArray cX10_reportAt 2 (some .char) RX10 := ⟨⟨B.exec, B.bytes, hml, findClass_of_methodNamed B.named, fun w h => hts w (List.mem_cons_of_mem _ h)⟩, B.returns, B.notSynchronized⟩
  have hRf : 2 ≤ (headSpec (ws_ yX10_reportAt cX10_reportAt 2 (some .char)) ({ frames := 2, cells := 0, slots := 0, locals := 46 })).room.frames := Nat.le_refl _
  have hRl : 46 ≤ (headSpec (ws_ yX10_reportAt cX10_reportAt 2 (some .char)) ({ frames := 2, cells := 0, slots := 0, locals := 46 })).room.locals := Nat.le_refl _
  generalize (headSpec (ws_ yX10_reportAt cX10_reportAt 2 (some .char)) ({ frames := 2, cells := 0, slots := 0, locals := 46 })).room = R at hRf hRl ⊢
  have hS : va_S A s.heap s.heap [] := va_S.rf
  have hl := lv_entry ([.ref g.2.2.2.1, .int x1]) (n := 2) (Nat.le_of_ble_eq_true rfl)
  rw [lg_entry_eq]
  generalize (lg_sl ([.ref g.2.2.2.1, .int x1]) ++ List.replicate (2 - (lg_sl ([.ref g.2.2.2.1, .int x1])).length) Slot.unset).toArray = ls at hl ⊢
  have hl : lv_has ls 2 [(0, .ref g.2.2.2.1), (1, .int x1)] := hl
  obtain ⟨z, hz⟩ : ∃ z, z = (v, σ1) := ⟨_, rfl⟩
  rw [← hz] at h
  rw [show v = z.1 by rw [hz], show σ1 = z.2 by rw [hz]]
  clear hz v σ1
  unfold mT_reportAt at h
  refine lv_aload_n C.x C.b dX10_reportAt_0 rfl (lv_at hl 0 rfl) ?_
  refine lv_iconst (v := 0) C.x C.b dX10_reportAt_1 (by decide) ?_
  refine tw_pf13 C hw hσ hS q2228 dX10_reportAt_2 (fun H locs hσ hS => ?_)
  obtain ⟨σ_1, e_, h⟩ := nm_s h
  rw [← e_] at hσ
  clear e_
  refine lv_iload_n C.x C.b dX10_reportAt_5 rfl (lv_at hl 1 rfl) ?_
  refine lv_iconst (v := 0) C.x C.b dX10_reportAt_6 (by decide) ?_
  refine lv_aload_n C.x C.b dX10_reportAt_7 rfl (lv_at hl 0 rfl) ?_
  refine tw_gf12 C hw hσ q2227 dX10_reportAt_8 ?_
  refine lv_iconst (v := 1) C.x C.b dX10_reportAt_11 (by decide) ?_
  refine lv_isub C.x C.b dX10_reportAt_12 ?_
  refine tw_callS (y := yX10_in) (bytes := cX10_in) (maxL := 3) (fun v => some (.int v)) [.int x1, .int 0, .int ((σ_1.2 12) - 1)] C hw hσ hS hl.1 h (fun vv ss ee => kT_in l g A x1 0 ((σ_1.2 12) - 1) σ_1 vv ss ee) (va_cwS 3 C.t (lw_S q2136 q2137 q159 q2138) rfl rfl rfl (by decide +kernel) ⟨Nat.le_trans (Nat.le_of_ble_eq_true rfl) hRf, Nat.le_trans (Nat.le_of_ble_eq_true rfl) hRl⟩) rfl rfl (Nat.le_of_ble_eq_true rfl) dX10_reportAt_13 (fun v_2 σ_3 H locs h hσ hS => ?_)
  refine lv_if_eq (tgt := 28) C.x C.b dX10_reportAt_16 (by decide) (fun c_4 => ?_) (fun c_4 => ?_)
  · have h := ip c_4 h
    refine lv_iconst (v := 0) C.x C.b dX10_reportAt_28 (by decide) ?_
    exact tw_cret C hσ hS h dX10_reportAt_29
  · have h := iN c_4 h
    refine lv_aload_n C.x C.b dX10_reportAt_19 rfl (lv_at hl 0 rfl) ?_
    refine tw_gf11 C hw hσ q2226 dX10_reportAt_20 ?_
    refine lv_iload_n C.x C.b dX10_reportAt_23 rfl (lv_at hl 1 rfl) ?_
    refine tw_ld11 C hw hσ h dX10_reportAt_24 (fun v_5 h => ?_)
    refine lv_goto (tgt := 29) C.x C.b dX10_reportAt_25 (by decide) ?_
    exact tw_cret C hσ hS h dX10_reportAt_29

theorem wT_begins_2 {z : Int32 × twS} (C : CX p m meth c s args cX10_begins 2 none RX10) (hw : WKt twL g A s s.heap) (hRf : 1 ≤ R.frames) (hRl : 24 ≤ R.locals) : ∀ (n : Nat) (x1 : Int32) (σ : twS) (H : Heap) (locs : List Loc) (ls : Array Slot), bT_begins_2 n x1 σ = some z → TI g A σ H → va_S A s.heap H locs → lv_has ls 2 [(0, .ref g.2.2.2.1), (1, .int x1)] → W p l e R s m args below meth c H locs 0 0 (MQ below (TQ g A (none) z.2) args s 0 0 A) (F0 m 2 ls []) := by
  intro n
  induction n with
  | zero =>
    intro x1 σ H locs ls h
    cases h
  | succ n ih =>
    intro x1 σ H locs ls h hσ hS hl
    rw [bT_begins_2] at h
    refine lv_iload_n C.x C.b dX10_begins_2 rfl (lv_at hl 1 rfl) ?_
    refine lv_sipush (v := 358) C.x C.b dX10_begins_3 (by decide) ?_
    refine lv_icmp_ge (tgt := 27) C.x C.b dX10_begins_6 (by decide) (fun c_1 => ?_) (fun c_1 => ?_)
    · have h := ip c_1 h
      exact tw_vret C hσ hS h dX10_begins_27
    · have h := iN c_1 h
      refine lv_aload_n C.x C.b dX10_begins_9 rfl (lv_at hl 0 rfl) ?_
      refine tw_gf1 C hw hσ q2216 dX10_begins_10 ?_
      refine lv_iload_n C.x C.b dX10_begins_13 rfl (lv_at hl 1 rfl) ?_
      refine lv_aload_n C.x C.b dX10_begins_14 rfl (lv_at hl 0 rfl) ?_
      refine tw_gf0 C hw hσ q2215 dX10_begins_15 ?_
      refine lv_iload_n C.x C.b dX10_begins_18 rfl (lv_at hl 1 rfl) ?_
      refine tw_ld0 C hw hσ h dX10_begins_19 (fun v_2 h => ?_)
      refine tw_st1 C hw hσ hS h dX10_begins_20 (fun σ_3 H locs h hσ hS => ?_)
      obtain ⟨x1_4, e_, h⟩ := nm_s h
      refine lv_iinc (v := x1_4) (lv' := [(1, .int x1_4), (0, .ref g.2.2.2.1)]) C.x C.b dX10_begins_21 hl (k := 1) rfl e_.symm (by decide) rfl (fun ls hl => ?_)
      refine lv_goto (tgt := 2) C.x C.b dX10_begins_24 (by decide) ?_
      exact ih _ _ _ _ _ h hσ hS (lv_sub hl [1, 0] rfl)

theorem kT_begins (l : Launch) (g : twG) (A : Nat → Prop) (σ : twS) (v : Int32) (σ1 : twS) (h : mT_begins σ = some (v, σ1)) : Met l yX10_begins (ws_ yX10_begins cX10_begins 2 none) ({ frames := 1, cells := 0, slots := 0, locals := 24 }) (TPc twL g A [.ref g.2.2.2.1] (fun _ => True) σ) (TQ g A (none) σ1) 0 0 A := by
  refine Met.ofW (cc := cX10_begins) (maxL := 2) (ret := none) (by decide) rfl ?_
  intro p e s m args below meth c s₁ B hml hv
  obtain ⟨rfl, hw, hX, hσ⟩ := hv
  have hts := atoms_spec (ws := (ws_ yX10_begins cX10_begins 2 none)) B.pre
  have C : CX p m meth c s ([.ref g.2.2.2.1] : List Value).toArray cX10_begins 2 none RX10 := ⟨⟨B.exec, B.bytes, hml, findClass_of_methodNamed B.named, fun w h => hts w (List.mem_cons_of_mem _ h)⟩, B.returns, B.notSynchronized⟩
  have hRf : 1 ≤ (headSpec (ws_ yX10_begins cX10_begins 2 none) ({ frames := 1, cells := 0, slots := 0, locals := 24 })).room.frames := Nat.le_refl _
  have hRl : 24 ≤ (headSpec (ws_ yX10_begins cX10_begins 2 none) ({ frames := 1, cells := 0, slots := 0, locals := 24 })).room.locals := Nat.le_refl _
  generalize (headSpec (ws_ yX10_begins cX10_begins 2 none) ({ frames := 1, cells := 0, slots := 0, locals := 24 })).room = R at hRf hRl ⊢
  have hS : va_S A s.heap s.heap [] := va_S.rf
  have hl := lv_entry ([.ref g.2.2.2.1]) (n := 2) (Nat.le_of_ble_eq_true rfl)
  rw [lg_entry_eq]
  generalize (lg_sl ([.ref g.2.2.2.1]) ++ List.replicate (2 - (lg_sl ([.ref g.2.2.2.1])).length) Slot.unset).toArray = ls at hl ⊢
  have hl : lv_has ls 2 [(0, .ref g.2.2.2.1)] := hl
  obtain ⟨z, hz⟩ : ∃ z, z = (v, σ1) := ⟨_, rfl⟩
  rw [← hz] at h
  rw [show σ1 = z.2 by rw [hz]]
  clear hz v σ1
  unfold mT_begins at h
  refine lv_iconst (v := 0) C.x C.b dX10_begins_0 (by decide) ?_
  refine lv_istore_n (lv' := [(1, .int 0), (0, .ref g.2.2.2.1)]) C.x C.b dX10_begins_1 rfl hl (by decide) rfl (fun ls hl => ?_)
  exact wT_begins_2 C hw hRf hRl _ _ _ _ _ _ h hσ hS (lv_sub hl [1, 0] rfl)

theorem wT_remember_54 {z : Int32 × twS} (C : CX p m meth c s args cX10_remember 2 none RX10) (hw : WKt twL g A s s.heap) (hRf : 1 ≤ R.frames) (hRl : 24 ≤ R.locals) : ∀ (n : Nat) (x1 : Int32) (σ : twS) (H : Heap) (locs : List Loc) (ls : Array Slot), bT_remember_54 n x1 σ = some z → TI g A σ H → va_S A s.heap H locs → lv_has ls 2 [(0, .ref g.2.2.2.1), (1, .int x1)] → W p l e R s m args below meth c H locs 0 0 (MQ below (TQ g A (none) z.2) args s 0 0 A) (F0 m 54 ls []) := by
  intro n
  induction n with
  | zero =>
    intro x1 σ H locs ls h
    cases h
  | succ n ih =>
    intro x1 σ H locs ls h hσ hS hl
    rw [bT_remember_54] at h
    refine lv_iload_n C.x C.b dX10_remember_54 rfl (lv_at hl 1 rfl) ?_
    refine lv_sipush (v := 358) C.x C.b dX10_remember_55 (by decide) ?_
    refine lv_icmp_ge (tgt := 88) C.x C.b dX10_remember_58 (by decide) (fun c_1 => ?_) (fun c_1 => ?_)
    · have h := ip c_1 h
      refine lv_aload_n C.x C.b dX10_remember_88 rfl (lv_at hl 0 rfl) ?_
      refine lv_dup C.x C.b dX10_remember_89 rfl ?_
      refine tw_gf5 C hw hσ q2220 dX10_remember_90 ?_
      refine lv_iconst (v := 1) C.x C.b dX10_remember_93 (by decide) ?_
      refine lv_iadd C.x C.b dX10_remember_94 ?_
      refine tw_pf5 C hw hσ hS q2220 dX10_remember_95 (fun H locs hσ hS => ?_)
      obtain ⟨σ_2, e_, h⟩ := nm_s h
      rw [← e_] at hσ
      clear e_
      exact tw_vret C hσ hS h dX10_remember_98
    · have h := iN c_1 h
      refine lv_aload_n C.x C.b dX10_remember_61 rfl (lv_at hl 0 rfl) ?_
      refine tw_gf3 C hw hσ q2218 dX10_remember_62 ?_
      refine lv_sipush (v := 358) C.x C.b dX10_remember_65 (by decide) ?_
      refine lv_aload_n C.x C.b dX10_remember_68 rfl (lv_at hl 0 rfl) ?_
      refine tw_gf5 C hw hσ q2220 dX10_remember_69 ?_
      refine lv_imul C.x C.b dX10_remember_72 ?_
      refine lv_iload_n C.x C.b dX10_remember_73 rfl (lv_at hl 1 rfl) ?_
      refine lv_iadd C.x C.b dX10_remember_74 ?_
      refine lv_aload_n C.x C.b dX10_remember_75 rfl (lv_at hl 0 rfl) ?_
      refine tw_gf1 C hw hσ q2216 dX10_remember_76 ?_
      refine lv_iload_n C.x C.b dX10_remember_79 rfl (lv_at hl 1 rfl) ?_
      refine tw_ld1 C hw hσ h dX10_remember_80 (fun v_3 h => ?_)
      refine tw_st3 C hw hσ hS h dX10_remember_81 (fun σ_4 H locs h hσ hS => ?_)
      obtain ⟨x1_5, e_, h⟩ := nm_s h
      refine lv_iinc (v := x1_5) (lv' := [(1, .int x1_5), (0, .ref g.2.2.2.1)]) C.x C.b dX10_remember_82 hl (k := 1) rfl e_.symm (by decide) rfl (fun ls hl => ?_)
      refine lv_goto (tgt := 54) C.x C.b dX10_remember_85 (by decide) ?_
      exact ih _ _ _ _ _ h hσ hS (lv_sub hl [1, 0] rfl)

theorem wT_remember_13 {z : Int32 × twS} (C : CX p m meth c s args cX10_remember 2 none RX10) (hw : WKt twL g A s s.heap) (hRf : 1 ≤ R.frames) (hRl : 24 ≤ R.locals) : ∀ (n : Nat) (x1 : Int32) (σ : twS) (H : Heap) (locs : List Loc) (ls : Array Slot), bT_remember_13 n x1 σ = some z → TI g A σ H → va_S A s.heap H locs → lv_has ls 2 [(0, .ref g.2.2.2.1), (1, .int x1)] → W p l e R s m args below meth c H locs 0 0 (MQ below (TQ g A (none) z.2) args s 0 0 A) (F0 m 13 ls []) := by
  intro n
  induction n with
  | zero =>
    intro x1 σ H locs ls h
    cases h
  | succ n ih =>
    intro x1 σ H locs ls h hσ hS hl
    rw [bT_remember_13] at h
    refine lv_iload_n C.x C.b dX10_remember_13 rfl (lv_at hl 1 rfl) ?_
    refine lv_sipush (v := 2864) C.x C.b dX10_remember_14 (by decide) ?_
    refine lv_icmp_ge (tgt := 42) C.x C.b dX10_remember_17 (by decide) (fun c_1 => ?_) (fun c_1 => ?_)
    · have h := ip c_1 h
      refine lv_aload_n C.x C.b dX10_remember_42 rfl (lv_at hl 0 rfl) ?_
      refine lv_dup C.x C.b dX10_remember_43 rfl ?_
      refine tw_gf5 C hw hσ q2220 dX10_remember_44 ?_
      refine lv_iconst (v := 1) C.x C.b dX10_remember_47 (by decide) ?_
      refine lv_isub C.x C.b dX10_remember_48 ?_
      refine tw_pf5 C hw hσ hS q2220 dX10_remember_49 (fun H locs hσ hS => ?_)
      obtain ⟨σ_2, e_, h⟩ := nm_s h
      rw [← e_] at hσ
      clear e_
      refine lv_iconst (v := 0) C.x C.b dX10_remember_52 (by decide) ?_
      refine lv_istore_n (lv' := [(1, .int 0), (0, .ref g.2.2.2.1)]) C.x C.b dX10_remember_53 rfl hl (by decide) rfl (fun ls hl => ?_)
      exact wT_remember_54 C hw hRf hRl _ _ _ _ _ _ h hσ hS (lv_sub hl [1, 0] rfl)
    · have h := iN c_1 h
      refine lv_aload_n C.x C.b dX10_remember_20 rfl (lv_at hl 0 rfl) ?_
      refine tw_gf3 C hw hσ q2218 dX10_remember_21 ?_
      refine lv_iload_n C.x C.b dX10_remember_24 rfl (lv_at hl 1 rfl) ?_
      refine lv_sipush (v := 358) C.x C.b dX10_remember_25 (by decide) ?_
      refine lv_isub C.x C.b dX10_remember_28 ?_
      refine lv_aload_n C.x C.b dX10_remember_29 rfl (lv_at hl 0 rfl) ?_
      refine tw_gf3 C hw hσ q2218 dX10_remember_30 ?_
      refine lv_iload_n C.x C.b dX10_remember_33 rfl (lv_at hl 1 rfl) ?_
      refine tw_ld3 C hw hσ h dX10_remember_34 (fun v_3 h => ?_)
      refine tw_st3 C hw hσ hS h dX10_remember_35 (fun σ_4 H locs h hσ hS => ?_)
      obtain ⟨x1_5, e_, h⟩ := nm_s h
      refine lv_iinc (v := x1_5) (lv' := [(1, .int x1_5), (0, .ref g.2.2.2.1)]) C.x C.b dX10_remember_36 hl (k := 1) rfl e_.symm (by decide) rfl (fun ls hl => ?_)
      refine lv_goto (tgt := 13) C.x C.b dX10_remember_39 (by decide) ?_
      exact ih _ _ _ _ _ h hσ hS (lv_sub hl [1, 0] rfl)

theorem kT_remember (l : Launch) (g : twG) (A : Nat → Prop) (σ : twS) (v : Int32) (σ1 : twS) (h : mT_remember σ = some (v, σ1)) : Met l yX10_remember (ws_ yX10_remember cX10_remember 2 none) ({ frames := 1, cells := 0, slots := 0, locals := 24 }) (TPc twL g A [.ref g.2.2.2.1] (fun _ => True) σ) (TQ g A (none) σ1) 0 0 A := by
  refine Met.ofW (cc := cX10_remember) (maxL := 2) (ret := none) (by decide) rfl ?_
  intro p e s m args below meth c s₁ B hml hv
  obtain ⟨rfl, hw, hX, hσ⟩ := hv
  have hts := atoms_spec (ws := (ws_ yX10_remember cX10_remember 2 none)) B.pre
  have C : CX p m meth c s ([.ref g.2.2.2.1] : List Value).toArray cX10_remember 2 none RX10 := ⟨⟨B.exec, B.bytes, hml, findClass_of_methodNamed B.named, fun w h => hts w (List.mem_cons_of_mem _ h)⟩, B.returns, B.notSynchronized⟩
  have hRf : 1 ≤ (headSpec (ws_ yX10_remember cX10_remember 2 none) ({ frames := 1, cells := 0, slots := 0, locals := 24 })).room.frames := Nat.le_refl _
  have hRl : 24 ≤ (headSpec (ws_ yX10_remember cX10_remember 2 none) ({ frames := 1, cells := 0, slots := 0, locals := 24 })).room.locals := Nat.le_refl _
  generalize (headSpec (ws_ yX10_remember cX10_remember 2 none) ({ frames := 1, cells := 0, slots := 0, locals := 24 })).room = R at hRf hRl ⊢
  have hS : va_S A s.heap s.heap [] := va_S.rf
  have hl := lv_entry ([.ref g.2.2.2.1]) (n := 2) (Nat.le_of_ble_eq_true rfl)
  rw [lg_entry_eq]
  generalize (lg_sl ([.ref g.2.2.2.1]) ++ List.replicate (2 - (lg_sl ([.ref g.2.2.2.1])).length) Slot.unset).toArray = ls at hl ⊢
  have hl : lv_has ls 2 [(0, .ref g.2.2.2.1)] := hl
  obtain ⟨z, hz⟩ : ∃ z, z = (v, σ1) := ⟨_, rfl⟩
  rw [← hz] at h
  rw [show σ1 = z.2 by rw [hz]]
  clear hz v σ1
  unfold mT_remember at h
  refine lv_aload_n C.x C.b dX10_remember_0 rfl (lv_at hl 0 rfl) ?_
  refine tw_gf5 C hw hσ q2220 dX10_remember_1 ?_
  refine lv_bipush (v := 8) C.x C.b dX10_remember_4 (by decide) ?_
  refine lv_icmp_ne (tgt := 52) C.x C.b dX10_remember_6 (by decide) (fun c_1 => ?_) (fun c_1 => ?_)
  · have h := iN c_1 h
    refine lv_iconst (v := 0) C.x C.b dX10_remember_52 (by decide) ?_
    refine lv_istore_n (lv' := [(1, .int 0), (0, .ref g.2.2.2.1)]) C.x C.b dX10_remember_53 rfl hl (by decide) rfl (fun ls hl => ?_)
    exact wT_remember_54 C hw hRf hRl _ _ _ _ _ _ h hσ hS (lv_sub hl [1, 0] rfl)
  · have h := ip c_1 h
    refine lv_sipush (v := 358) C.x C.b dX10_remember_9 (by decide) ?_
    refine lv_istore_n (lv' := [(1, .int 358), (0, .ref g.2.2.2.1)]) C.x C.b dX10_remember_12 rfl hl (by decide) rfl (fun ls hl => ?_)
    exact wT_remember_13 C hw hRf hRl _ _ _ _ _ _ h hσ hS (lv_sub hl [1, 0] rfl)

theorem wT_addRule_86 {z : Int32 × twS} (C : CX p m meth c s args cX10_addRule 3 (some .int) RX10) (hw : WKt twL g A s s.heap) (hRf : 521 ≤ R.frames) (hRl : 13931 ≤ R.locals) : ∀ (n : Nat) (x2 : Int32) (σ : twS) (H : Heap) (locs : List Loc) (ls : Array Slot), bT_addRule_86 n x2 σ = some z → TI g A σ H → va_S A s.heap H locs → lv_has ls 3 [(0, .ref g.2.2.2.1), (2, .int x2)] → W p l e R s m args below meth c H locs 0 0 (MQ below (TQ g A (some (.int z.1)) z.2) args s 0 0 A) (F0 m 86 ls []) := by
  intro n
  induction n with
  | zero =>
    intro x2 σ H locs ls h
    cases h
  | succ n ih =>
    intro x2 σ H locs ls h hσ hS hl
    rw [bT_addRule_86] at h
    refine lv_iload_n C.x C.b dX10_addRule_86 rfl (lv_at hl 1 rfl) ?_
    refine lv_sipush (v := 358) C.x C.b dX10_addRule_87 (by decide) ?_
    refine lv_icmp_ge (tgt := 111) C.x C.b dX10_addRule_90 (by decide) (fun c_1 => ?_) (fun c_1 => ?_)
    · have h := ip c_1 h
      refine lv_bipush (v := -2) C.x C.b dX10_addRule_111 (by decide) ?_
      refine lv_aload_n C.x C.b dX10_addRule_113 rfl (lv_at hl 0 rfl) ?_
      refine tw_gf20 C hw hσ q2235 dX10_addRule_114 ?_
      refine lv_isub C.x C.b dX10_addRule_117 ?_
      exact tw_iret C hσ hS h dX10_addRule_118
    · have h := iN c_1 h
      refine lv_aload_n C.x C.b dX10_addRule_93 rfl (lv_at hl 0 rfl) ?_
      refine tw_gf0 C hw hσ q2215 dX10_addRule_94 ?_
      refine lv_iload_n C.x C.b dX10_addRule_97 rfl (lv_at hl 1 rfl) ?_
      refine lv_aload_n C.x C.b dX10_addRule_98 rfl (lv_at hl 0 rfl) ?_
      refine tw_gf1 C hw hσ q2216 dX10_addRule_99 ?_
      refine lv_iload_n C.x C.b dX10_addRule_102 rfl (lv_at hl 1 rfl) ?_
      refine tw_ld1 C hw hσ h dX10_addRule_103 (fun v_2 h => ?_)
      refine tw_st0 C hw hσ hS h dX10_addRule_104 (fun σ_3 H locs h hσ hS => ?_)
      obtain ⟨x2_4, e_, h⟩ := nm_s h
      refine lv_iinc (v := x2_4) (lv' := [(2, .int x2_4), (0, .ref g.2.2.2.1)]) C.x C.b dX10_addRule_105 hl (k := 1) rfl e_.symm (by decide) rfl (fun ls hl => ?_)
      refine lv_goto (tgt := 86) C.x C.b dX10_addRule_108 (by decide) ?_
      exact ih _ _ _ _ _ h hσ hS (lv_sub hl [1, 0] rfl)

theorem wT_addRule_78 {z : Int32 × twS} (C : CX p m meth c s args cX10_addRule 3 (some .int) RX10) (hw : WKt twL g A s s.heap) (hRf : 521 ≤ R.frames) (hRl : 13931 ≤ R.locals) : ∀ (σ : twS) (H : Heap) (locs : List Loc) (ls : Array Slot), bT_addRule_78 σ = some z → TI g A σ H → va_S A s.heap H locs → lv_has ls 3 [(0, .ref g.2.2.2.1)] → W p l e R s m args below meth c H locs 0 0 (MQ below (TQ g A (some (.int z.1)) z.2) args s 0 0 A) (F0 m 78 ls []) := by
  intro σ H locs ls h hσ hS hl
  unfold bT_addRule_78 at h
  refine lv_aload_n C.x C.b dX10_addRule_78 rfl (lv_at hl 0 rfl) ?_
  refine lv_iconst (v := 1) C.x C.b dX10_addRule_79 (by decide) ?_
  refine tw_call (y := yX10_fail) (bytes := cX10_fail) (maxL := 2) (fun v => some (.int v)) [.int 1] (fun _ => True)  C hw XB.tt (fun _ _ _ => trivial) hσ hS hl.1 h (fun vv ss ee => kT_fail l g A 1 σ vv ss ee) (cwV 1 C.t (lw_V q2128 q2130 qs62 q159 q2131) rfl rfl rfl (by decide +kernel) ⟨Nat.le_trans (Nat.le_of_ble_eq_true rfl) hRf, Nat.le_trans (Nat.le_of_ble_eq_true rfl) hRl⟩) rfl rfl (Nat.le_of_ble_eq_true rfl) dX10_addRule_80 (fun v_1 σ_2 H locs h hσ hS => ?_)
  refine lv_pop C.x C.b dX10_addRule_83 rfl ?_
  refine lv_iconst (v := 0) C.x C.b dX10_addRule_84 (by decide) ?_
  refine lv_istore_n (lv' := [(2, .int 0), (0, .ref g.2.2.2.1)]) C.x C.b dX10_addRule_85 rfl hl (by decide) rfl (fun ls hl => ?_)
  exact wT_addRule_86 C hw hRf hRl _ _ _ _ _ _ h hσ hS (lv_sub hl [1, 0] rfl)

theorem wT_addRule_18 {z : Int32 × twS} (C : CX p m meth c s args cX10_addRule 3 (some .int) RX10) (hw : WKt twL g A s s.heap) (hRf : 521 ≤ R.frames) (hRl : 13931 ≤ R.locals) : ∀ (x1 : Int32) (s1 : Int32) (σ : twS) (H : Heap) (locs : List Loc) (ls : Array Slot), bT_addRule_18 x1 s1 σ = some z → TI g A σ H → va_S A s.heap H locs → lv_has ls 3 [(0, .ref g.2.2.2.1), (1, .int x1)] → W p l e R s m args below meth c H locs 0 0 (MQ below (TQ g A (some (.int z.1)) z.2) args s 0 0 A) (F0 m 18 ls [.int s1, .ref g.2.2.2.1]) := by
  intro x1 s1 σ H locs ls h hσ hS hl
  unfold bT_addRule_18 at h
  refine tw_call (y := yX10_throwsOne) (bytes := cX10_throwsOne) (maxL := 2) (fun v => some (.int v)) [.int s1] (fun _ => True)  C hw XB.tt (fun _ _ _ => trivial) hσ hS hl.1 h (fun vv ss ee => kT_throwsOne l g A s1 σ vv ss ee) (cwV 1 C.t (lw_V q2314 q2316 qs79 q159 q2317) rfl rfl rfl (by decide +kernel) ⟨Nat.le_trans (Nat.le_of_ble_eq_true rfl) hRf, Nat.le_trans (Nat.le_of_ble_eq_true rfl) hRl⟩) rfl rfl (Nat.le_of_ble_eq_true rfl) dX10_addRule_18 (fun v_1 σ_2 H locs h hσ hS => ?_)
  refine lv_if_eq (tgt := 26) C.x C.b dX10_addRule_21 (by decide) (fun c_3 => ?_) (fun c_3 => ?_)
  · have h := ip c_3 h
    refine lv_aload_n C.x C.b dX10_addRule_26 rfl (lv_at hl 0 rfl) ?_
    refine lv_iload_n C.x C.b dX10_addRule_27 rfl (lv_at hl 1 rfl) ?_
    refine tw_call (y := yX10_takes) (bytes := cX10_takes) (maxL := 3) (fun _ => none) [.int x1] (fun _ => True)  C hw XB.tt (fun _ _ _ => trivial) hσ hS hl.1 h (fun vv ss ee => kT_takes l g A x1 σ_2 vv ss ee) (cwV 1 C.t (lw_V q2318 q2320 qs80 q159 q2321) rfl rfl rfl (by decide +kernel) ⟨Nat.le_trans (Nat.le_of_ble_eq_true rfl) hRf, Nat.le_trans (Nat.le_of_ble_eq_true rfl) hRl⟩) rfl rfl (Nat.le_of_ble_eq_true rfl) dX10_addRule_28 (fun _ σ_4 H locs h hσ hS => ?_)
    refine lv_aload_n C.x C.b dX10_addRule_31 rfl (lv_at hl 0 rfl) ?_
    refine tw_gf0 C hw hσ q2215 dX10_addRule_32 ?_
    refine lv_bipush (v := 17) C.x C.b dX10_addRule_35 (by decide) ?_
    refine tw_ld0 C hw hσ h dX10_addRule_37 (fun v_5 h => ?_)
    refine lv_bipush (v := 10) C.x C.b dX10_addRule_38 (by decide) ?_
    refine lv_icmp_ne (tgt := 46) C.x C.b dX10_addRule_40 (by decide) (fun c_6 => ?_) (fun c_6 => ?_)
    · have h := iN c_6 h
      refine lv_aload_n C.x C.b dX10_addRule_46 rfl (lv_at hl 0 rfl) ?_
      refine tw_call (y := yX10_begins) (bytes := cX10_begins) (maxL := 2) (fun _ => none) [] (fun _ => True)  C hw XB.tt (fun _ _ _ => trivial) hσ hS hl.1 h (fun vv ss ee => kT_begins l g A σ_4 vv ss ee) (cwV 0 C.t (lw_V q2627 q2629 qs121 q159 q2630) rfl rfl rfl (by decide +kernel) ⟨Nat.le_trans (Nat.le_of_ble_eq_true rfl) hRf, Nat.le_trans (Nat.le_of_ble_eq_true rfl) hRl⟩) rfl rfl (Nat.le_of_ble_eq_true rfl) dX10_addRule_47 (fun _ σ_7 H locs h hσ hS => ?_)
      refine lv_aload_n C.x C.b dX10_addRule_50 rfl (lv_at hl 0 rfl) ?_
      refine lv_iconst (v := 0) C.x C.b dX10_addRule_51 (by decide) ?_
      refine tw_pf20 C hw hσ hS q2235 dX10_addRule_52 (fun H locs hσ hS => ?_)
      obtain ⟨σ_8, e_, h⟩ := nm_s h
      rw [← e_] at hσ
      clear e_
      refine lv_aload_n C.x C.b dX10_addRule_55 rfl (lv_at hl 0 rfl) ?_
      refine lv_iconst (v := 0) C.x C.b dX10_addRule_56 (by decide) ?_
      refine tw_pf18 C hw hσ hS q2233 dX10_addRule_57 (fun H locs hσ hS => ?_)
      obtain ⟨σ_9, e_, h⟩ := nm_s h
      rw [← e_] at hσ
      clear e_
      refine lv_aload_n C.x C.b dX10_addRule_60 rfl (lv_at hl 0 rfl) ?_
      refine tw_call (y := yX10_next) (bytes := cX10_next) (maxL := 2) (fun _ => none) [] (fun _ => True)  C hw XB.tt (fun _ _ _ => trivial) hσ hS hl.1 h (fun vv ss ee => kT_next l g A σ_9 vv ss ee) (cwV 0 C.t (lw_V q2104 q2106 qs57 q159 q2107) rfl rfl rfl (by decide +kernel) ⟨Nat.le_trans (Nat.le_of_ble_eq_true rfl) hRf, Nat.le_trans (Nat.le_of_ble_eq_true rfl) hRl⟩) rfl rfl (Nat.le_of_ble_eq_true rfl) dX10_addRule_61 (fun _ σ_10 H locs h hσ hS => ?_)
      refine lv_aload_n C.x C.b dX10_addRule_64 rfl (lv_at hl 0 rfl) ?_
      refine tw_call (y := yX10_readsRule) (bytes := cX10_readsRule) (maxL := 2) (fun v => some (.int v)) [] (fun _ => True)  C hw XB.tt (fun _ _ _ => trivial) hσ hS hl.1 h (fun vv ss ee => kT_readsRule l g A σ_10 vv ss ee) (cwV 0 C.t (lw_V q2154 q2156 qs67 q159 q2157) rfl rfl rfl (by decide +kernel) ⟨Nat.le_trans (Nat.le_of_ble_eq_true rfl) hRf, Nat.le_trans (Nat.le_of_ble_eq_true rfl) hRl⟩) rfl rfl (Nat.le_of_ble_eq_true rfl) dX10_addRule_65 (fun v_11 σ_12 H locs h hσ hS => ?_)
      refine lv_if_eq (tgt := 78) C.x C.b dX10_addRule_68 (by decide) (fun c_13 => ?_) (fun c_13 => ?_)
      · have h := ip c_13 h
        exact wT_addRule_78 C hw hRf hRl _ _ _ _ h hσ hS (lv_sub hl [0] rfl)
      · have h := iN c_13 h
        refine lv_aload_n C.x C.b dX10_addRule_71 rfl (lv_at hl 0 rfl) ?_
        refine tw_gf16 C hw hσ q2231 dX10_addRule_72 ?_
        refine lv_if_eq (tgt := 119) C.x C.b dX10_addRule_75 (by decide) (fun c_14 => ?_) (fun c_14 => ?_)
        · have h := ip c_14 h
          refine lv_aload_n C.x C.b dX10_addRule_119 rfl (lv_at hl 0 rfl) ?_
          refine tw_gf0 C hw hσ q2215 dX10_addRule_120 ?_
          refine lv_bipush (v := 17) C.x C.b dX10_addRule_123 (by decide) ?_
          refine lv_dup2_11 C.x C.b dX10_addRule_125 rfl rfl ?_
          refine tw_ld0 C hw hσ h dX10_addRule_126 (fun v_15 h => ?_)
          refine lv_iconst (v := 1) C.x C.b dX10_addRule_127 (by decide) ?_
          refine lv_iadd C.x C.b dX10_addRule_128 ?_
          refine tw_st0 C hw hσ hS h dX10_addRule_129 (fun σ_16 H locs h hσ hS => ?_)
          refine lv_aload_n C.x C.b dX10_addRule_130 rfl (lv_at hl 0 rfl) ?_
          refine tw_call (y := yX10_remember) (bytes := cX10_remember) (maxL := 2) (fun _ => none) [] (fun _ => True)  C hw XB.tt (fun _ _ _ => trivial) hσ hS hl.1 h (fun vv ss ee => kT_remember l g A σ_16 vv ss ee) (cwV 0 C.t (lw_V q2631 q2633 qs122 q159 q2634) rfl rfl rfl (by decide +kernel) ⟨Nat.le_trans (Nat.le_of_ble_eq_true rfl) hRf, Nat.le_trans (Nat.le_of_ble_eq_true rfl) hRl⟩) rfl rfl (Nat.le_of_ble_eq_true rfl) dX10_addRule_131 (fun _ σ_17 H locs h hσ hS => ?_)
          refine lv_aload_n C.x C.b dX10_addRule_134 rfl (lv_at hl 0 rfl) ?_
          refine tw_gf0 C hw hσ q2215 dX10_addRule_135 ?_
          refine lv_bipush (v := 17) C.x C.b dX10_addRule_138 (by decide) ?_
          refine tw_ld0 C hw hσ h dX10_addRule_140 (fun v_18 h => ?_)
          refine lv_iconst (v := 1) C.x C.b dX10_addRule_141 (by decide) ?_
          refine lv_isub C.x C.b dX10_addRule_142 ?_
          exact tw_iret C hσ hS h dX10_addRule_143
        · have h := iN c_14 h
          exact wT_addRule_78 C hw hRf hRl _ _ _ _ h hσ hS (lv_sub hl [0] rfl)
    · have h := ip c_6 h
      refine lv_bipush (v := -6) C.x C.b dX10_addRule_43 (by decide) ?_
      exact tw_iret C hσ hS h dX10_addRule_45
  · have h := iN c_3 h
    refine lv_iconst (v := 0) C.x C.b dX10_addRule_24 (by decide) ?_
    exact tw_iret C hσ hS h dX10_addRule_25

theorem kT_addRule (l : Launch) (g : twG) (A : Nat → Prop) (x1 : Int32) (σ : twS) (v : Int32) (σ1 : twS) (h : mT_addRule x1 σ = some (v, σ1)) : Met l yX10_addRule (ws_ yX10_addRule cX10_addRule 3 (some .int)) ({ frames := 521, cells := 0, slots := 0, locals := 13931 }) (TPc twL g A [.ref g.2.2.2.1, .int x1] (fun _ => True) σ) (TQ g A (some (.int v)) σ1) 0 0 A := by
  refine Met.ofW (cc := cX10_addRule) (maxL := 3) (ret := (some .int)) (by decide) rfl ?_
  intro p e s m args below meth c s₁ B hml hv
  obtain ⟨rfl, hw, hX, hσ⟩ := hv
  have hts := atoms_spec (ws := (ws_ yX10_addRule cX10_addRule 3 (some .int))) B.pre
  have C : CX p m meth c s ([.ref g.2.2.2.1, .int x1] : List Value).toArray cX10_addRule 3 (some .int) RX10 := ⟨⟨B.exec, B.bytes, hml, findClass_of_methodNamed B.named, fun w h => hts w (List.mem_cons_of_mem _ h)⟩, B.returns, B.notSynchronized⟩
  have hRf : 521 ≤ (headSpec (ws_ yX10_addRule cX10_addRule 3 (some .int)) ({ frames := 521, cells := 0, slots := 0, locals := 13931 })).room.frames := Nat.le_refl _
  have hRl : 13931 ≤ (headSpec (ws_ yX10_addRule cX10_addRule 3 (some .int)) ({ frames := 521, cells := 0, slots := 0, locals := 13931 })).room.locals := Nat.le_refl _
  generalize (headSpec (ws_ yX10_addRule cX10_addRule 3 (some .int)) ({ frames := 521, cells := 0, slots := 0, locals := 13931 })).room = R at hRf hRl ⊢
  have hS : va_S A s.heap s.heap [] := va_S.rf
  have hl := lv_entry ([.ref g.2.2.2.1, .int x1]) (n := 3) (Nat.le_of_ble_eq_true rfl)
  rw [lg_entry_eq]
  generalize (lg_sl ([.ref g.2.2.2.1, .int x1]) ++ List.replicate (3 - (lg_sl ([.ref g.2.2.2.1, .int x1])).length) Slot.unset).toArray = ls at hl ⊢
  have hl : lv_has ls 3 [(0, .ref g.2.2.2.1), (1, .int x1)] := hl
  obtain ⟨z, hz⟩ : ∃ z, z = (v, σ1) := ⟨_, rfl⟩
  rw [← hz] at h
  rw [show v = z.1 by rw [hz], show σ1 = z.2 by rw [hz]]
  clear hz v σ1
  unfold mT_addRule at h
  refine lv_aload_n C.x C.b dX10_addRule_0 rfl (lv_at hl 0 rfl) ?_
  refine lv_iload_n C.x C.b dX10_addRule_1 rfl (lv_at hl 1 rfl) ?_
  refine lv_iconst (v := 0) C.x C.b dX10_addRule_2 (by decide) ?_
  refine lv_aload_n C.x C.b dX10_addRule_3 rfl (lv_at hl 0 rfl) ?_
  refine tw_gf9 C hw hσ q2224 dX10_addRule_4 ?_
  refine tw_callS (y := yX10_in) (bytes := cX10_in) (maxL := 3) (fun v => some (.int v)) [.int x1, .int 0, .int (σ.2 9)] C hw hσ hS hl.1 h (fun vv ss ee => kT_in l g A x1 0 (σ.2 9) σ vv ss ee) (va_cwS 3 C.t (lw_S q2136 q2137 q159 q2138) rfl rfl rfl (by decide +kernel) ⟨Nat.le_trans (Nat.le_of_ble_eq_true rfl) hRf, Nat.le_trans (Nat.le_of_ble_eq_true rfl) hRl⟩) rfl rfl (Nat.le_of_ble_eq_true rfl) dX10_addRule_7 (fun v_1 σ_2 H locs h hσ hS => ?_)
  refine lv_if_ne (tgt := 17) C.x C.b dX10_addRule_10 (by decide) (fun c_3 => ?_) (fun c_3 => ?_)
  · have h := iN c_3 h
    refine lv_iconst (v := 0) C.x C.b dX10_addRule_17 (by decide) ?_
    exact wT_addRule_18 C hw hRf hRl _ _ _ _ _ _ h hσ hS (lv_sub hl [0, 1] rfl)
  · have h := ip c_3 h
    refine lv_iconst (v := 1) C.x C.b dX10_addRule_13 (by decide) ?_
    refine lv_goto (tgt := 18) C.x C.b dX10_addRule_14 (by decide) ?_
    exact wT_addRule_18 C hw hRf hRl _ _ _ _ _ _ h hσ hS (lv_sub hl [0, 1] rfl)

theorem kT_without (l : Launch) (g : twG) (A : Nat → Prop) (x0 : Int32) (x1 : Int32) (σ : twS) (v : Int32) (σ1 : twS) (h : mT_without x0 x1 σ = some (v, σ1)) : Met l yX10_without (ws_ yX10_without cX10_without 2 (some .int)) ({ frames := 1, cells := 0, slots := 0, locals := 24 }) (TPc twL g A [.int x0, .int x1] (fun _ => True) σ) (TQ g A (some (.int v)) σ1) 0 0 A := by
  refine Met.ofW (cc := cX10_without) (maxL := 2) (ret := (some .int)) (by decide) rfl ?_
  intro p e s m args below meth c s₁ B hml hv
  obtain ⟨rfl, hw, hX, hσ⟩ := hv
  have hts := atoms_spec (ws := (ws_ yX10_without cX10_without 2 (some .int))) B.pre
  have C : CX p m meth c s ([.int x0, .int x1] : List Value).toArray cX10_without 2 (some .int) RX10 := ⟨⟨B.exec, B.bytes, hml, findClass_of_methodNamed B.named, fun w h => hts w (List.mem_cons_of_mem _ h)⟩, B.returns, B.notSynchronized⟩
  have hRf : 1 ≤ (headSpec (ws_ yX10_without cX10_without 2 (some .int)) ({ frames := 1, cells := 0, slots := 0, locals := 24 })).room.frames := Nat.le_refl _
  have hRl : 24 ≤ (headSpec (ws_ yX10_without cX10_without 2 (some .int)) ({ frames := 1, cells := 0, slots := 0, locals := 24 })).room.locals := Nat.le_refl _
  generalize (headSpec (ws_ yX10_without cX10_without 2 (some .int)) ({ frames := 1, cells := 0, slots := 0, locals := 24 })).room = R at hRf hRl ⊢
  have hS : va_S A s.heap s.heap [] := va_S.rf
  have hl := lv_entry ([.int x0, .int x1]) (n := 2) (Nat.le_of_ble_eq_true rfl)
  rw [lg_entry_eq]
  generalize (lg_sl ([.int x0, .int x1]) ++ List.replicate (2 - (lg_sl ([.int x0, .int x1])).length) Slot.unset).toArray = ls at hl ⊢
  have hl : lv_has ls 2 [(0, .int x0), (1, .int x1)] := hl
  obtain ⟨z, hz⟩ : ∃ z, z = (v, σ1) := ⟨_, rfl⟩
  rw [← hz] at h
  rw [show v = z.1 by rw [hz], show σ1 = z.2 by rw [hz]]
  clear hz v σ1
  unfold mT_without at h
  refine lv_iload_n C.x C.b dX10_without_0 rfl (lv_at hl 0 rfl) ?_
  refine lv_iconst (v := 1) C.x C.b dX10_without_1 (by decide) ?_
  refine lv_iload_n C.x C.b dX10_without_2 rfl (lv_at hl 1 rfl) ?_
  refine lv_ishl C.x C.b dX10_without_3 ?_
  refine lv_iconst (v := 1) C.x C.b dX10_without_4 (by decide) ?_
  refine lv_isub C.x C.b dX10_without_5 ?_
  refine lv_iand C.x C.b dX10_without_6 ?_
  refine lv_iload_n C.x C.b dX10_without_7 rfl (lv_at hl 0 rfl) ?_
  refine lv_iload_n C.x C.b dX10_without_8 rfl (lv_at hl 1 rfl) ?_
  refine lv_iconst (v := 1) C.x C.b dX10_without_9 (by decide) ?_
  refine lv_iadd C.x C.b dX10_without_10 ?_
  refine lv_ishr C.x C.b dX10_without_11 ?_
  refine lv_iload_n C.x C.b dX10_without_12 rfl (lv_at hl 1 rfl) ?_
  refine lv_ishl C.x C.b dX10_without_13 ?_
  refine lv_ior C.x C.b dX10_without_14 ?_
  exact tw_iret C hσ hS h dX10_without_15

theorem wT_dropRule_66 {z : Int32 × twS} (C : CX p m meth c s args cX10_dropRule 3 (some .int) RX10) (hw : WKt twL g A s s.heap) (hRf : 3 ≤ R.frames) (hRl : 67 ≤ R.locals) {k31 : Int32 → Int32 → twS → Option (Int32 × twS)} (hk31 : ∀ (x1 : Int32) (x2 : Int32) (σ : twS) (H : Heap) (locs : List Loc) (ls : Array Slot), k31 x1 x2 σ = some z → TI g A σ H → va_S A s.heap H locs → lv_has ls 3 [(0, .ref g.2.2.2.1), (1, .int x1), (2, .int x2)] → W p l e R s m args below meth c H locs 0 0 (MQ below (TQ g A (some (.int z.1)) z.2) args s 0 0 A) (F0 m 31 ls [])) : ∀ (x1 : Int32) (x2 : Int32) (s1 : Int32) (s2 : Int32) (σ : twS) (H : Heap) (locs : List Loc) (ls : Array Slot), bT_dropRule_66 k31 x1 x2 s1 s2 σ = some z → TI g A σ H → va_S A s.heap H locs → lv_has ls 3 [(0, .ref g.2.2.2.1), (1, .int x1), (2, .int x2)] → W p l e R s m args below meth c H locs 0 0 (MQ below (TQ g A (some (.int z.1)) z.2) args s 0 0 A) (F0 m 66 ls [.int s2, .int s1, .ref (g.2.2.2.2 0)]) := by
  intro x1 x2 s1 s2 σ H locs ls h hσ hS hl
  unfold bT_dropRule_66 at h
  refine tw_st0 C hw hσ hS h dX10_dropRule_66 (fun σ_1 H locs h hσ hS => ?_)
  obtain ⟨x2_2, e_, h⟩ := nm_s h
  refine lv_iinc (v := x2_2) (lv' := [(2, .int x2_2), (0, .ref g.2.2.2.1), (1, .int x1)]) C.x C.b dX10_dropRule_67 hl (k := 2) rfl e_.symm (by decide) rfl (fun ls hl => ?_)
  refine lv_goto (tgt := 31) C.x C.b dX10_dropRule_70 (by decide) ?_
  exact hk31 _ _ _ _ _ _ h hσ hS (lv_sub hl [1, 2, 0] rfl)

theorem wT_dropRule_86 {z : Int32 × twS} (C : CX p m meth c s args cX10_dropRule 3 (some .int) RX10) (hw : WKt twL g A s s.heap) (hRf : 3 ≤ R.frames) (hRl : 67 ≤ R.locals) : ∀ (n : Nat) (x1 : Int32) (x2 : Int32) (σ : twS) (H : Heap) (locs : List Loc) (ls : Array Slot), bT_dropRule_86 n x1 x2 σ = some z → TI g A σ H → va_S A s.heap H locs → lv_has ls 3 [(0, .ref g.2.2.2.1), (1, .int x1), (2, .int x2)] → W p l e R s m args below meth c H locs 0 0 (MQ below (TQ g A (some (.int z.1)) z.2) args s 0 0 A) (F0 m 86 ls []) := by
  intro n
  induction n with
  | zero =>
    intro x1 x2 σ H locs ls h
    cases h
  | succ n ih =>
    intro x1 x2 σ H locs ls h hσ hS hl
    rw [bT_dropRule_86] at h
    refine lv_iload_n C.x C.b dX10_dropRule_86 rfl (lv_at hl 2 rfl) ?_
    refine lv_aload_n C.x C.b dX10_dropRule_87 rfl (lv_at hl 0 rfl) ?_
    refine tw_gf0 C hw hσ q2215 dX10_dropRule_88 ?_
    refine lv_bipush (v := 17) C.x C.b dX10_dropRule_91 (by decide) ?_
    refine tw_ld0 C hw hσ h dX10_dropRule_93 (fun v_1 h => ?_)
    refine lv_icmp_ge (tgt := 126) C.x C.b dX10_dropRule_94 (by decide) (fun c_2 => ?_) (fun c_2 => ?_)
    · have h := ip c_2 h
      refine lv_aload_n C.x C.b dX10_dropRule_126 rfl (lv_at hl 0 rfl) ?_
      refine tw_call (y := yX10_remember) (bytes := cX10_remember) (maxL := 2) (fun _ => none) [] (fun _ => True)  C hw XB.tt (fun _ _ _ => trivial) hσ hS hl.1 h (fun vv ss ee => kT_remember l g A σ vv ss ee) (cwV 0 C.t (lw_V q2631 q2633 qs122 q159 q2634) rfl rfl rfl (by decide +kernel) ⟨Nat.le_trans (Nat.le_of_ble_eq_true rfl) hRf, Nat.le_trans (Nat.le_of_ble_eq_true rfl) hRl⟩) rfl rfl (Nat.le_of_ble_eq_true rfl) dX10_dropRule_127 (fun _ σ_3 H locs h hσ hS => ?_)
      refine lv_aload_n C.x C.b dX10_dropRule_130 rfl (lv_at hl 0 rfl) ?_
      refine tw_gf0 C hw hσ q2215 dX10_dropRule_131 ?_
      refine lv_bipush (v := 17) C.x C.b dX10_dropRule_134 (by decide) ?_
      refine tw_ld0 C hw hσ h dX10_dropRule_136 (fun v_4 h => ?_)
      exact tw_iret C hσ hS h dX10_dropRule_137
    · have h := iN c_2 h
      refine lv_aload_n C.x C.b dX10_dropRule_97 rfl (lv_at hl 0 rfl) ?_
      refine tw_gf0 C hw hσ q2215 dX10_dropRule_98 ?_
      refine lv_iload_n C.x C.b dX10_dropRule_101 rfl (lv_at hl 2 rfl) ?_
      refine tw_callS (y := yX10_rule0) (bytes := cX10_rule0) (maxL := 1) (fun v => some (.int v)) [.int x2] C hw hσ hS hl.1 h (fun vv ss ee => kT_rule0 l g A x2 σ vv ss ee) (va_cwS 1 C.t (lw_S q2158 q2159 q159 q2160) rfl rfl rfl (by decide +kernel) ⟨Nat.le_trans (Nat.le_of_ble_eq_true rfl) hRf, Nat.le_trans (Nat.le_of_ble_eq_true rfl) hRl⟩) rfl rfl (Nat.le_of_ble_eq_true rfl) dX10_dropRule_102 (fun v_5 σ_6 H locs h hσ hS => ?_)
      refine lv_bipush (v := 33) C.x C.b dX10_dropRule_105 (by decide) ?_
      refine lv_iadd C.x C.b dX10_dropRule_107 ?_
      refine lv_aload_n C.x C.b dX10_dropRule_108 rfl (lv_at hl 0 rfl) ?_
      refine lv_iload_n C.x C.b dX10_dropRule_109 rfl (lv_at hl 2 rfl) ?_
      refine lv_bipush (v := 33) C.x C.b dX10_dropRule_110 (by decide) ?_
      refine tw_call (y := yX10_of) (bytes := cX10_of) (maxL := 3) (fun v => some (.int v)) [.int x2, .int 33] (fun _ => True)  C hw XB.tt (fun _ _ _ => trivial) hσ hS hl.1 h (fun vv ss ee => kT_of l g A x2 33 σ_6 vv ss ee) (cwV 2 C.t (lw_V q2346 q2348 qs85 q159 q2349) rfl rfl rfl (by decide +kernel) ⟨Nat.le_trans (Nat.le_of_ble_eq_true rfl) hRf, Nat.le_trans (Nat.le_of_ble_eq_true rfl) hRl⟩) rfl rfl (Nat.le_of_ble_eq_true rfl) dX10_dropRule_112 (fun v_7 σ_8 H locs h hσ hS => ?_)
      refine lv_iload_n C.x C.b dX10_dropRule_115 rfl (lv_at hl 1 rfl) ?_
      refine tw_callS (y := yX10_without) (bytes := cX10_without) (maxL := 2) (fun v => some (.int v)) [.int v_7, .int x1] C hw hσ hS hl.1 h (fun vv ss ee => kT_without l g A v_7 x1 σ_8 vv ss ee) (va_cwS 2 C.t (lw_S q2639 q2640 q159 q2641) rfl rfl rfl (by decide +kernel) ⟨Nat.le_trans (Nat.le_of_ble_eq_true rfl) hRf, Nat.le_trans (Nat.le_of_ble_eq_true rfl) hRl⟩) rfl rfl (Nat.le_of_ble_eq_true rfl) dX10_dropRule_116 (fun v_9 σ_10 H locs h hσ hS => ?_)
      refine tw_st0 C hw hσ hS h dX10_dropRule_119 (fun σ_11 H locs h hσ hS => ?_)
      obtain ⟨x2_12, e_, h⟩ := nm_s h
      refine lv_iinc (v := x2_12) (lv' := [(2, .int x2_12), (0, .ref g.2.2.2.1), (1, .int x1)]) C.x C.b dX10_dropRule_120 hl (k := 2) rfl e_.symm (by decide) rfl (fun ls hl => ?_)
      refine lv_goto (tgt := 86) C.x C.b dX10_dropRule_123 (by decide) ?_
      exact ih _ _ _ _ _ _ h hσ hS (lv_sub hl [1, 2, 0] rfl)

theorem wT_dropRule_31 {z : Int32 × twS} (C : CX p m meth c s args cX10_dropRule 3 (some .int) RX10) (hw : WKt twL g A s s.heap) (hRf : 3 ≤ R.frames) (hRl : 67 ≤ R.locals) : ∀ (n : Nat) (x1 : Int32) (x2 : Int32) (σ : twS) (H : Heap) (locs : List Loc) (ls : Array Slot), bT_dropRule_31 n x1 x2 σ = some z → TI g A σ H → va_S A s.heap H locs → lv_has ls 3 [(0, .ref g.2.2.2.1), (1, .int x1), (2, .int x2)] → W p l e R s m args below meth c H locs 0 0 (MQ below (TQ g A (some (.int z.1)) z.2) args s 0 0 A) (F0 m 31 ls []) := by
  intro n
  induction n with
  | zero =>
    intro x1 x2 σ H locs ls h
    cases h
  | succ n ih =>
    intro x1 x2 σ H locs ls h hσ hS hl
    rw [bT_dropRule_31] at h
    refine lv_iload_n C.x C.b dX10_dropRule_31 rfl (lv_at hl 2 rfl) ?_
    refine lv_sipush (v := 358) C.x C.b dX10_dropRule_32 (by decide) ?_
    refine lv_icmp_ge (tgt := 73) C.x C.b dX10_dropRule_35 (by decide) (fun c_1 => ?_) (fun c_1 => ?_)
    · have h := ip c_1 h
      refine lv_aload_n C.x C.b dX10_dropRule_73 rfl (lv_at hl 0 rfl) ?_
      refine tw_gf0 C hw hσ q2215 dX10_dropRule_74 ?_
      refine lv_bipush (v := 17) C.x C.b dX10_dropRule_77 (by decide) ?_
      refine lv_dup2_11 C.x C.b dX10_dropRule_79 rfl rfl ?_
      refine tw_ld0 C hw hσ h dX10_dropRule_80 (fun v_2 h => ?_)
      refine lv_iconst (v := 1) C.x C.b dX10_dropRule_81 (by decide) ?_
      refine lv_isub C.x C.b dX10_dropRule_82 ?_
      refine tw_st0 C hw hσ hS h dX10_dropRule_83 (fun σ_3 H locs h hσ hS => ?_)
      refine lv_iconst (v := 0) C.x C.b dX10_dropRule_84 (by decide) ?_
      refine lv_istore_n (lv' := [(2, .int 0), (0, .ref g.2.2.2.1), (1, .int x1)]) C.x C.b dX10_dropRule_85 rfl hl (by decide) rfl (fun ls hl => ?_)
      exact wT_dropRule_86 C hw hRf hRl _ _ _ _ _ _ _ h hσ hS (lv_sub hl [1, 2, 0] rfl)
    · have h := iN c_1 h
      refine lv_aload_n C.x C.b dX10_dropRule_38 rfl (lv_at hl 0 rfl) ?_
      refine tw_gf0 C hw hσ q2215 dX10_dropRule_39 ?_
      refine lv_iload_n C.x C.b dX10_dropRule_42 rfl (lv_at hl 2 rfl) ?_
      refine lv_iload_n C.x C.b dX10_dropRule_43 rfl (lv_at hl 2 rfl) ?_
      refine lv_bipush (v := 34) C.x C.b dX10_dropRule_44 (by decide) ?_
      refine lv_iadd C.x C.b dX10_dropRule_46 ?_
      refine lv_sipush (v := 358) C.x C.b dX10_dropRule_47 (by decide) ?_
      refine lv_icmp_ge (tgt := 65) C.x C.b dX10_dropRule_50 (by decide) (fun c_4 => ?_) (fun c_4 => ?_)
      · have h := ip c_4 h
        refine lv_iconst (v := 0) C.x C.b dX10_dropRule_65 (by decide) ?_
        exact wT_dropRule_66 C hw hRf hRl (fun y0 y1 σ H locs ls h hσ hS hl => ih y0 y1 σ H locs ls h hσ hS hl) _ _ _ _ _ _ _ _ h hσ hS (lv_sub hl [0, 1, 2] rfl)
      · have h := iN c_4 h
        refine lv_aload_n C.x C.b dX10_dropRule_53 rfl (lv_at hl 0 rfl) ?_
        refine tw_gf0 C hw hσ q2215 dX10_dropRule_54 ?_
        refine lv_iload_n C.x C.b dX10_dropRule_57 rfl (lv_at hl 2 rfl) ?_
        refine lv_bipush (v := 34) C.x C.b dX10_dropRule_58 (by decide) ?_
        refine lv_iadd C.x C.b dX10_dropRule_60 ?_
        refine tw_ld0 C hw hσ h dX10_dropRule_61 (fun v_5 h => ?_)
        refine lv_goto (tgt := 66) C.x C.b dX10_dropRule_62 (by decide) ?_
        exact wT_dropRule_66 C hw hRf hRl (fun y0 y1 σ H locs ls h hσ hS hl => ih y0 y1 σ H locs ls h hσ hS hl) _ _ _ _ _ _ _ _ h hσ hS (lv_sub hl [0, 1, 2] rfl)

theorem wT_dropRule_14 {z : Int32 × twS} (C : CX p m meth c s args cX10_dropRule 3 (some .int) RX10) (hw : WKt twL g A s s.heap) (hRf : 3 ≤ R.frames) (hRl : 67 ≤ R.locals) : ∀ (x1 : Int32) (s1 : Int32) (σ : twS) (H : Heap) (locs : List Loc) (ls : Array Slot), bT_dropRule_14 x1 s1 σ = some z → TI g A σ H → va_S A s.heap H locs → lv_has ls 3 [(0, .ref g.2.2.2.1), (1, .int x1)] → W p l e R s m args below meth c H locs 0 0 (MQ below (TQ g A (some (.int z.1)) z.2) args s 0 0 A) (F0 m 14 ls [.int s1, .ref g.2.2.2.1]) := by
  intro x1 s1 σ H locs ls h hσ hS hl
  unfold bT_dropRule_14 at h
  refine tw_call (y := yX10_throwsOne) (bytes := cX10_throwsOne) (maxL := 2) (fun v => some (.int v)) [.int s1] (fun _ => True)  C hw XB.tt (fun _ _ _ => trivial) hσ hS hl.1 h (fun vv ss ee => kT_throwsOne l g A s1 σ vv ss ee) (cwV 1 C.t (lw_V q2314 q2316 qs79 q159 q2317) rfl rfl rfl (by decide +kernel) ⟨Nat.le_trans (Nat.le_of_ble_eq_true rfl) hRf, Nat.le_trans (Nat.le_of_ble_eq_true rfl) hRl⟩) rfl rfl (Nat.le_of_ble_eq_true rfl) dX10_dropRule_14 (fun v_1 σ_2 H locs h hσ hS => ?_)
  refine lv_if_eq (tgt := 22) C.x C.b dX10_dropRule_17 (by decide) (fun c_3 => ?_) (fun c_3 => ?_)
  · have h := ip c_3 h
    refine lv_aload_n C.x C.b dX10_dropRule_22 rfl (lv_at hl 0 rfl) ?_
    refine tw_call (y := yX10_begins) (bytes := cX10_begins) (maxL := 2) (fun _ => none) [] (fun _ => True)  C hw XB.tt (fun _ _ _ => trivial) hσ hS hl.1 h (fun vv ss ee => kT_begins l g A σ_2 vv ss ee) (cwV 0 C.t (lw_V q2627 q2629 qs121 q159 q2630) rfl rfl rfl (by decide +kernel) ⟨Nat.le_trans (Nat.le_of_ble_eq_true rfl) hRf, Nat.le_trans (Nat.le_of_ble_eq_true rfl) hRl⟩) rfl rfl (Nat.le_of_ble_eq_true rfl) dX10_dropRule_23 (fun _ σ_4 H locs h hσ hS => ?_)
    refine lv_iload_n C.x C.b dX10_dropRule_26 rfl (lv_at hl 1 rfl) ?_
    refine tw_callS (y := yX10_rule0) (bytes := cX10_rule0) (maxL := 1) (fun v => some (.int v)) [.int x1] C hw hσ hS hl.1 h (fun vv ss ee => kT_rule0 l g A x1 σ_4 vv ss ee) (va_cwS 1 C.t (lw_S q2158 q2159 q159 q2160) rfl rfl rfl (by decide +kernel) ⟨Nat.le_trans (Nat.le_of_ble_eq_true rfl) hRf, Nat.le_trans (Nat.le_of_ble_eq_true rfl) hRl⟩) rfl rfl (Nat.le_of_ble_eq_true rfl) dX10_dropRule_27 (fun v_5 σ_6 H locs h hσ hS => ?_)
    refine lv_istore_n (lv' := [(2, .int v_5), (0, .ref g.2.2.2.1), (1, .int x1)]) C.x C.b dX10_dropRule_30 rfl hl (by decide) rfl (fun ls hl => ?_)
    exact wT_dropRule_31 C hw hRf hRl _ _ _ _ _ _ _ h hσ hS (lv_sub hl [1, 2, 0] rfl)
  · have h := iN c_3 h
    refine lv_iconst (v := 0) C.x C.b dX10_dropRule_20 (by decide) ?_
    exact tw_iret C hσ hS h dX10_dropRule_21

theorem kT_dropRule (l : Launch) (g : twG) (A : Nat → Prop) (x1 : Int32) (σ : twS) (v : Int32) (σ1 : twS) (h : mT_dropRule x1 σ = some (v, σ1)) : Met l yX10_dropRule (ws_ yX10_dropRule cX10_dropRule 3 (some .int)) ({ frames := 3, cells := 0, slots := 0, locals := 67 }) (TPc twL g A [.ref g.2.2.2.1, .int x1] (fun _ => True) σ) (TQ g A (some (.int v)) σ1) 0 0 A := by
  refine Met.ofW (cc := cX10_dropRule) (maxL := 3) (ret := (some .int)) (by decide) rfl ?_
  intro p e s m args below meth c s₁ B hml hv
  obtain ⟨rfl, hw, hX, hσ⟩ := hv
  have hts := atoms_spec (ws := (ws_ yX10_dropRule cX10_dropRule 3 (some .int))) B.pre
  have C : CX p m meth c s ([.ref g.2.2.2.1, .int x1] : List Value).toArray cX10_dropRule 3 (some .int) RX10 := ⟨⟨B.exec, B.bytes, hml, findClass_of_methodNamed B.named, fun w h => hts w (List.mem_cons_of_mem _ h)⟩, B.returns, B.notSynchronized⟩
  have hRf : 3 ≤ (headSpec (ws_ yX10_dropRule cX10_dropRule 3 (some .int)) ({ frames := 3, cells := 0, slots := 0, locals := 67 })).room.frames := Nat.le_refl _
  have hRl : 67 ≤ (headSpec (ws_ yX10_dropRule cX10_dropRule 3 (some .int)) ({ frames := 3, cells := 0, slots := 0, locals := 67 })).room.locals := Nat.le_refl _
  generalize (headSpec (ws_ yX10_dropRule cX10_dropRule 3 (some .int)) ({ frames := 3, cells := 0, slots := 0, locals := 67 })).room = R at hRf hRl ⊢
  have hS : va_S A s.heap s.heap [] := va_S.rf
  have hl := lv_entry ([.ref g.2.2.2.1, .int x1]) (n := 3) (Nat.le_of_ble_eq_true rfl)
  rw [lg_entry_eq]
  generalize (lg_sl ([.ref g.2.2.2.1, .int x1]) ++ List.replicate (3 - (lg_sl ([.ref g.2.2.2.1, .int x1])).length) Slot.unset).toArray = ls at hl ⊢
  have hl : lv_has ls 3 [(0, .ref g.2.2.2.1), (1, .int x1)] := hl
  obtain ⟨z, hz⟩ : ∃ z, z = (v, σ1) := ⟨_, rfl⟩
  rw [← hz] at h
  rw [show v = z.1 by rw [hz], show σ1 = z.2 by rw [hz]]
  clear hz v σ1
  unfold mT_dropRule at h
  refine lv_aload_n C.x C.b dX10_dropRule_0 rfl (lv_at hl 0 rfl) ?_
  refine lv_aload_n C.x C.b dX10_dropRule_1 rfl (lv_at hl 0 rfl) ?_
  refine lv_iload_n C.x C.b dX10_dropRule_2 rfl (lv_at hl 1 rfl) ?_
  refine tw_call (y := yX10_isRule) (bytes := cX10_isRule) (maxL := 2) (fun v => some (.int v)) [.int x1] (fun _ => True)  C hw XB.tt (fun _ _ _ => trivial) hσ hS hl.1 h (fun vv ss ee => kT_isRule l g A x1 σ vv ss ee) (cwV 1 C.t (lw_V q2435 q2437 qs102 q159 q2438) rfl rfl rfl (by decide +kernel) ⟨Nat.le_trans (Nat.le_of_ble_eq_true rfl) hRf, Nat.le_trans (Nat.le_of_ble_eq_true rfl) hRl⟩) rfl rfl (Nat.le_of_ble_eq_true rfl) dX10_dropRule_3 (fun v_1 σ_2 H locs h hσ hS => ?_)
  refine lv_if_ne (tgt := 13) C.x C.b dX10_dropRule_6 (by decide) (fun c_3 => ?_) (fun c_3 => ?_)
  · have h := iN c_3 h
    refine lv_iconst (v := 0) C.x C.b dX10_dropRule_13 (by decide) ?_
    exact wT_dropRule_14 C hw hRf hRl _ _ _ _ _ _ h hσ hS (lv_sub hl [0, 1] rfl)
  · have h := ip c_3 h
    refine lv_iconst (v := 1) C.x C.b dX10_dropRule_9 (by decide) ?_
    refine lv_goto (tgt := 14) C.x C.b dX10_dropRule_10 (by decide) ?_
    exact wT_dropRule_14 C hw hRf hRl _ _ _ _ _ _ h hσ hS (lv_sub hl [0, 1] rfl)

theorem wT_setOver_82 {z : Int32 × twS} (C : CX p m meth c s args cX10_setOver 5 (some .int) RX10) (hw : WKt twL g A s s.heap) (hRf : 3 ≤ R.frames) (hRl : 67 ≤ R.locals) : ∀ (x1 : Int32) (s1 : Int32) (s2 : Int32) (σ : twS) (H : Heap) (locs : List Loc) (ls : Array Slot), bT_setOver_82 x1 s1 s2 σ = some z → TI g A σ H → va_S A s.heap H locs → lv_has ls 5 [(0, .ref g.2.2.2.1), (1, .int x1)] → W p l e R s m args below meth c H locs 0 0 (MQ below (TQ g A (some (.int z.1)) z.2) args s 0 0 A) (F0 m 82 ls [.int s2, .int s1, .ref (g.2.2.2.2 0)]) := by
  intro x1 s1 s2 σ H locs ls h hσ hS hl
  unfold bT_setOver_82 at h
  refine tw_st0 C hw hσ hS h dX10_setOver_82 (fun σ_1 H locs h hσ hS => ?_)
  refine lv_aload_n C.x C.b dX10_setOver_83 rfl (lv_at hl 0 rfl) ?_
  refine tw_call (y := yX10_remember) (bytes := cX10_remember) (maxL := 2) (fun _ => none) [] (fun _ => True)  C hw XB.tt (fun _ _ _ => trivial) hσ hS hl.1 h (fun vv ss ee => kT_remember l g A σ_1 vv ss ee) (cwV 0 C.t (lw_V q2631 q2633 qs122 q159 q2634) rfl rfl rfl (by decide +kernel) ⟨Nat.le_trans (Nat.le_of_ble_eq_true rfl) hRf, Nat.le_trans (Nat.le_of_ble_eq_true rfl) hRl⟩) rfl rfl (Nat.le_of_ble_eq_true rfl) dX10_setOver_84 (fun _ σ_2 H locs h hσ hS => ?_)
  refine lv_aload_n C.x C.b dX10_setOver_87 rfl (lv_at hl 0 rfl) ?_
  refine lv_iload_n C.x C.b dX10_setOver_88 rfl (lv_at hl 1 rfl) ?_
  refine lv_bipush (v := 33) C.x C.b dX10_setOver_89 (by decide) ?_
  refine tw_call (y := yX10_of) (bytes := cX10_of) (maxL := 3) (fun v => some (.int v)) [.int x1, .int 33] (fun _ => True)  C hw XB.tt (fun _ _ _ => trivial) hσ hS hl.1 h (fun vv ss ee => kT_of l g A x1 33 σ_2 vv ss ee) (cwV 2 C.t (lw_V q2346 q2348 qs85 q159 q2349) rfl rfl rfl (by decide +kernel) ⟨Nat.le_trans (Nat.le_of_ble_eq_true rfl) hRf, Nat.le_trans (Nat.le_of_ble_eq_true rfl) hRl⟩) rfl rfl (Nat.le_of_ble_eq_true rfl) dX10_setOver_91 (fun v_3 σ_4 H locs h hσ hS => ?_)
  refine tw_callS (y := yX10_bits) (bytes := cX10_bits) (maxL := 3) (fun v => some (.int v)) [.int v_3] C hw hσ hS hl.1 h (fun vv ss ee => kT_bits l g A v_3 σ_4 vv ss ee) (va_cwS 1 C.t (lw_S q2494 q2495 q159 q2496) rfl rfl rfl (by decide +kernel) ⟨Nat.le_trans (Nat.le_of_ble_eq_true rfl) hRf, Nat.le_trans (Nat.le_of_ble_eq_true rfl) hRl⟩) rfl rfl (Nat.le_of_ble_eq_true rfl) dX10_setOver_94 (fun v_5 σ_6 H locs h hσ hS => ?_)
  exact tw_iret C hσ hS h dX10_setOver_97

theorem wT_setOver_22 {z : Int32 × twS} (C : CX p m meth c s args cX10_setOver 5 (some .int) RX10) (hw : WKt twL g A s s.heap) (hRf : 3 ≤ R.frames) (hRl : 67 ≤ R.locals) : ∀ (x1 : Int32) (x2 : Int32) (x3 : Int32) (s1 : Int32) (σ : twS) (H : Heap) (locs : List Loc) (ls : Array Slot), bT_setOver_22 x1 x2 x3 s1 σ = some z → TI g A σ H → va_S A s.heap H locs → lv_has ls 5 [(0, .ref g.2.2.2.1), (1, .int x1), (2, .int x2), (3, .int x3)] → W p l e R s m args below meth c H locs 0 0 (MQ below (TQ g A (some (.int z.1)) z.2) args s 0 0 A) (F0 m 22 ls [.int s1, .ref g.2.2.2.1]) := by
  intro x1 x2 x3 s1 σ H locs ls h hσ hS hl
  unfold bT_setOver_22 at h
  refine tw_call (y := yX10_throwsOne) (bytes := cX10_throwsOne) (maxL := 2) (fun v => some (.int v)) [.int s1] (fun _ => True)  C hw XB.tt (fun _ _ _ => trivial) hσ hS hl.1 h (fun vv ss ee => kT_throwsOne l g A s1 σ vv ss ee) (cwV 1 C.t (lw_V q2314 q2316 qs79 q159 q2317) rfl rfl rfl (by decide +kernel) ⟨Nat.le_trans (Nat.le_of_ble_eq_true rfl) hRf, Nat.le_trans (Nat.le_of_ble_eq_true rfl) hRl⟩) rfl rfl (Nat.le_of_ble_eq_true rfl) dX10_setOver_22 (fun v_1 σ_2 H locs h hσ hS => ?_)
  refine lv_if_eq (tgt := 30) C.x C.b dX10_setOver_25 (by decide) (fun c_3 => ?_) (fun c_3 => ?_)
  · have h := ip c_3 h
    refine lv_iload_n C.x C.b dX10_setOver_30 rfl (lv_at hl 1 rfl) ?_
    refine lv_iload_n C.x C.b dX10_setOver_31 rfl (lv_at hl 2 rfl) ?_
    refine lv_icmp_ne (tgt := 37) C.x C.b dX10_setOver_32 (by decide) (fun c_4 => ?_) (fun c_4 => ?_)
    · have h := iN c_4 h
      refine lv_aload_n C.x C.b dX10_setOver_37 rfl (lv_at hl 0 rfl) ?_
      refine tw_call (y := yX10_begins) (bytes := cX10_begins) (maxL := 2) (fun _ => none) [] (fun _ => True)  C hw XB.tt (fun _ _ _ => trivial) hσ hS hl.1 h (fun vv ss ee => kT_begins l g A σ_2 vv ss ee) (cwV 0 C.t (lw_V q2627 q2629 qs121 q159 q2630) rfl rfl rfl (by decide +kernel) ⟨Nat.le_trans (Nat.le_of_ble_eq_true rfl) hRf, Nat.le_trans (Nat.le_of_ble_eq_true rfl) hRl⟩) rfl rfl (Nat.le_of_ble_eq_true rfl) dX10_setOver_38 (fun _ σ_5 H locs h hσ hS => ?_)
      refine lv_aload_n C.x C.b dX10_setOver_41 rfl (lv_at hl 0 rfl) ?_
      refine lv_iload_n C.x C.b dX10_setOver_42 rfl (lv_at hl 1 rfl) ?_
      refine lv_bipush (v := 33) C.x C.b dX10_setOver_43 (by decide) ?_
      refine tw_call (y := yX10_of) (bytes := cX10_of) (maxL := 3) (fun v => some (.int v)) [.int x1, .int 33] (fun _ => True)  C hw XB.tt (fun _ _ _ => trivial) hσ hS hl.1 h (fun vv ss ee => kT_of l g A x1 33 σ_5 vv ss ee) (cwV 2 C.t (lw_V q2346 q2348 qs85 q159 q2349) rfl rfl rfl (by decide +kernel) ⟨Nat.le_trans (Nat.le_of_ble_eq_true rfl) hRf, Nat.le_trans (Nat.le_of_ble_eq_true rfl) hRl⟩) rfl rfl (Nat.le_of_ble_eq_true rfl) dX10_setOver_45 (fun v_6 σ_7 H locs h hσ hS => ?_)
      refine lv_iconst (v := 1) C.x C.b dX10_setOver_48 (by decide) ?_
      refine lv_iload_n C.x C.b dX10_setOver_49 rfl (lv_at hl 2 rfl) ?_
      refine lv_ishl C.x C.b dX10_setOver_50 ?_
      refine lv_iconst (v := -1) C.x C.b dX10_setOver_51 (by decide) ?_
      refine lv_ixor C.x C.b dX10_setOver_52 ?_
      refine lv_iand C.x C.b dX10_setOver_53 ?_
      refine tw_lt h (fun x4_8 h => ?_)
      refine lv_istore (lv' := [(4, .int x4_8), (0, .ref g.2.2.2.1), (1, .int x1), (2, .int x2), (3, .int x3)]) C.x C.b dX10_setOver_54 hl (by decide) rfl (fun ls hl => ?_)
      refine lv_aload_n C.x C.b dX10_setOver_56 rfl (lv_at hl 1 rfl) ?_
      refine tw_gf0 C hw hσ q2215 dX10_setOver_57 ?_
      refine lv_iload_n C.x C.b dX10_setOver_60 rfl (lv_at hl 2 rfl) ?_
      refine tw_callS (y := yX10_rule0) (bytes := cX10_rule0) (maxL := 1) (fun v => some (.int v)) [.int x1] C hw hσ hS hl.1 h (fun vv ss ee => kT_rule0 l g A x1 σ_7 vv ss ee) (va_cwS 1 C.t (lw_S q2158 q2159 q159 q2160) rfl rfl rfl (by decide +kernel) ⟨Nat.le_trans (Nat.le_of_ble_eq_true rfl) hRf, Nat.le_trans (Nat.le_of_ble_eq_true rfl) hRl⟩) rfl rfl (Nat.le_of_ble_eq_true rfl) dX10_setOver_61 (fun v_9 σ_10 H locs h hσ hS => ?_)
      refine lv_bipush (v := 33) C.x C.b dX10_setOver_64 (by decide) ?_
      refine lv_iadd C.x C.b dX10_setOver_66 ?_
      refine lv_iload_n C.x C.b dX10_setOver_67 rfl (lv_at hl 4 rfl) ?_
      refine lv_if_eq (tgt := 80) C.x C.b dX10_setOver_68 (by decide) (fun c_11 => ?_) (fun c_11 => ?_)
      · have h := ip c_11 h
        refine lv_iload C.x C.b dX10_setOver_80 (lv_at hl 0 rfl) ?_
        exact wT_setOver_82 C hw hRf hRl _ _ _ _ _ _ _ h hσ hS (lv_sub hl [1, 2] rfl)
      · have h := iN c_11 h
        refine lv_iload C.x C.b dX10_setOver_71 (lv_at hl 0 rfl) ?_
        refine lv_iconst (v := 1) C.x C.b dX10_setOver_73 (by decide) ?_
        refine lv_iload_n C.x C.b dX10_setOver_74 rfl (lv_at hl 3 rfl) ?_
        refine lv_ishl C.x C.b dX10_setOver_75 ?_
        refine lv_ior C.x C.b dX10_setOver_76 ?_
        refine lv_goto (tgt := 82) C.x C.b dX10_setOver_77 (by decide) ?_
        exact wT_setOver_82 C hw hRf hRl _ _ _ _ _ _ _ h hσ hS (lv_sub hl [1, 2] rfl)
    · have h := ip c_4 h
      refine lv_iconst (v := -1) C.x C.b dX10_setOver_35 (by decide) ?_
      exact tw_iret C hσ hS h dX10_setOver_36
  · have h := iN c_3 h
    refine lv_iconst (v := 0) C.x C.b dX10_setOver_28 (by decide) ?_
    exact tw_iret C hσ hS h dX10_setOver_29

theorem kT_setOver (l : Launch) (g : twG) (A : Nat → Prop) (x1 : Int32) (x2 : Int32) (x3 : Int32) (σ : twS) (v : Int32) (σ1 : twS) (h : mT_setOver x1 x2 x3 σ = some (v, σ1)) : Met l yX10_setOver (ws_ yX10_setOver cX10_setOver 5 (some .int)) ({ frames := 3, cells := 0, slots := 0, locals := 67 }) (TPc twL g A [.ref g.2.2.2.1, .int x1, .int x2, .int x3] (fun _ => True) σ) (TQ g A (some (.int v)) σ1) 0 0 A := by
  refine Met.ofW (cc := cX10_setOver) (maxL := 5) (ret := (some .int)) (by decide) rfl ?_
  intro p e s m args below meth c s₁ B hml hv
  obtain ⟨rfl, hw, hX, hσ⟩ := hv
  have hts := atoms_spec (ws := (ws_ yX10_setOver cX10_setOver 5 (some .int))) B.pre
  have C : CX p m meth c s ([.ref g.2.2.2.1, .int x1, .int x2, .int x3] : List Value).toArray cX10_setOver 5 (some .int) RX10 := ⟨⟨B.exec, B.bytes, hml, findClass_of_methodNamed B.named, fun w h => hts w (List.mem_cons_of_mem _ h)⟩, B.returns, B.notSynchronized⟩
  have hRf : 3 ≤ (headSpec (ws_ yX10_setOver cX10_setOver 5 (some .int)) ({ frames := 3, cells := 0, slots := 0, locals := 67 })).room.frames := Nat.le_refl _
  have hRl : 67 ≤ (headSpec (ws_ yX10_setOver cX10_setOver 5 (some .int)) ({ frames := 3, cells := 0, slots := 0, locals := 67 })).room.locals := Nat.le_refl _
  generalize (headSpec (ws_ yX10_setOver cX10_setOver 5 (some .int)) ({ frames := 3, cells := 0, slots := 0, locals := 67 })).room = R at hRf hRl ⊢
  have hS : va_S A s.heap s.heap [] := va_S.rf
  have hl := lv_entry ([.ref g.2.2.2.1, .int x1, .int x2, .int x3]) (n := 5) (Nat.le_of_ble_eq_true rfl)
  rw [lg_entry_eq]
  generalize (lg_sl ([.ref g.2.2.2.1, .int x1, .int x2, .int x3]) ++ List.replicate (5 - (lg_sl ([.ref g.2.2.2.1, .int x1, .int x2, .int x3])).length) Slot.unset).toArray = ls at hl ⊢
  have hl : lv_has ls 5 [(0, .ref g.2.2.2.1), (1, .int x1), (2, .int x2), (3, .int x3)] := hl
  obtain ⟨z, hz⟩ : ∃ z, z = (v, σ1) := ⟨_, rfl⟩
  rw [← hz] at h
  rw [show v = z.1 by rw [hz], show σ1 = z.2 by rw [hz]]
  clear hz v σ1
  unfold mT_setOver at h
  refine lv_aload_n C.x C.b dX10_setOver_0 rfl (lv_at hl 0 rfl) ?_
  refine lv_aload_n C.x C.b dX10_setOver_1 rfl (lv_at hl 0 rfl) ?_
  refine lv_iload_n C.x C.b dX10_setOver_2 rfl (lv_at hl 1 rfl) ?_
  refine tw_call (y := yX10_isRule) (bytes := cX10_isRule) (maxL := 2) (fun v => some (.int v)) [.int x1] (fun _ => True)  C hw XB.tt (fun _ _ _ => trivial) hσ hS hl.1 h (fun vv ss ee => kT_isRule l g A x1 σ vv ss ee) (cwV 1 C.t (lw_V q2435 q2437 qs102 q159 q2438) rfl rfl rfl (by decide +kernel) ⟨Nat.le_trans (Nat.le_of_ble_eq_true rfl) hRf, Nat.le_trans (Nat.le_of_ble_eq_true rfl) hRl⟩) rfl rfl (Nat.le_of_ble_eq_true rfl) dX10_setOver_3 (fun v_1 σ_2 H locs h hσ hS => ?_)
  refine lv_if_eq (tgt := 17) C.x C.b dX10_setOver_6 (by decide) (fun c_3 => ?_) (fun c_3 => ?_)
  · have h := ip c_3 h
    refine lv_iconst (v := 1) C.x C.b dX10_setOver_17 (by decide) ?_
    refine lv_goto (tgt := 22) C.x C.b dX10_setOver_18 (by decide) ?_
    exact wT_setOver_22 C hw hRf hRl _ _ _ _ _ _ _ _ h hσ hS (lv_sub hl [0, 1, 2, 3] rfl)
  · have h := iN c_3 h
    refine lv_aload_n C.x C.b dX10_setOver_9 rfl (lv_at hl 0 rfl) ?_
    refine lv_iload_n C.x C.b dX10_setOver_10 rfl (lv_at hl 2 rfl) ?_
    refine tw_call (y := yX10_isRule) (bytes := cX10_isRule) (maxL := 2) (fun v => some (.int v)) [.int x2] (fun _ => True)  C hw XB.tt (fun _ _ _ => trivial) hσ hS hl.1 h (fun vv ss ee => kT_isRule l g A x2 σ_2 vv ss ee) (cwV 1 C.t (lw_V q2435 q2437 qs102 q159 q2438) rfl rfl rfl (by decide +kernel) ⟨Nat.le_trans (Nat.le_of_ble_eq_true rfl) hRf, Nat.le_trans (Nat.le_of_ble_eq_true rfl) hRl⟩) rfl rfl (Nat.le_of_ble_eq_true rfl) dX10_setOver_11 (fun v_4 σ_5 H locs h hσ hS => ?_)
    refine lv_if_ne (tgt := 21) C.x C.b dX10_setOver_14 (by decide) (fun c_6 => ?_) (fun c_6 => ?_)
    · have h := iN c_6 h
      refine lv_iconst (v := 0) C.x C.b dX10_setOver_21 (by decide) ?_
      exact wT_setOver_22 C hw hRf hRl _ _ _ _ _ _ _ _ h hσ hS (lv_sub hl [0, 1, 2, 3] rfl)
    · have h := ip c_6 h
      refine lv_iconst (v := 1) C.x C.b dX10_setOver_17 (by decide) ?_
      refine lv_goto (tgt := 22) C.x C.b dX10_setOver_18 (by decide) ?_
      exact wT_setOver_22 C hw hRf hRl _ _ _ _ _ _ _ _ h hσ hS (lv_sub hl [0, 1, 2, 3] rfl)

theorem wT_sharesOf_4 {z : Int32 × twS} (C : CX p m meth c s args cX10_sharesOf 4 (some .int) RX10) (hw : WKt twL g A s s.heap) (hRf : 3 ≤ R.frames) (hRl : 66 ≤ R.locals) : ∀ (n : Nat) (x1 : Int32) (x2 : Int32) (x3 : Int32) (σ : twS) (H : Heap) (locs : List Loc) (ls : Array Slot), bT_sharesOf_4 n x1 x2 x3 σ = some z → TI g A σ H → va_S A s.heap H locs → lv_has ls 4 [(0, .ref g.2.2.2.1), (1, .int x1), (2, .int x2), (3, .int x3)] → W p l e R s m args below meth c H locs 0 0 (MQ below (TQ g A (some (.int z.1)) z.2) args s 0 0 A) (F0 m 4 ls []) := by
  intro n
  induction n with
  | zero =>
    intro x1 x2 x3 σ H locs ls h
    cases h
  | succ n ih =>
    intro x1 x2 x3 σ H locs ls h hσ hS hl
    rw [bT_sharesOf_4] at h
    refine lv_iload_n C.x C.b dX10_sharesOf_4 rfl (lv_at hl 3 rfl) ?_
    refine lv_iconst (v := 4) C.x C.b dX10_sharesOf_5 (by decide) ?_
    refine lv_icmp_ge (tgt := 27) C.x C.b dX10_sharesOf_6 (by decide) (fun c_1 => ?_) (fun c_1 => ?_)
    · have h := ip c_1 h
      refine lv_iload_n C.x C.b dX10_sharesOf_27 rfl (lv_at hl 2 rfl) ?_
      exact tw_iret C hσ hS h dX10_sharesOf_28
    · have h := iN c_1 h
      refine lv_iload_n C.x C.b dX10_sharesOf_9 rfl (lv_at hl 2 rfl) ?_
      refine lv_aload_n C.x C.b dX10_sharesOf_10 rfl (lv_at hl 0 rfl) ?_
      refine lv_iload_n C.x C.b dX10_sharesOf_11 rfl (lv_at hl 1 rfl) ?_
      refine lv_bipush (v := 29) C.x C.b dX10_sharesOf_12 (by decide) ?_
      refine lv_iload_n C.x C.b dX10_sharesOf_14 rfl (lv_at hl 3 rfl) ?_
      refine lv_iadd C.x C.b dX10_sharesOf_15 ?_
      refine tw_call (y := yX10_of) (bytes := cX10_of) (maxL := 3) (fun v => some (.int v)) [.int x1, .int (29 + x3)] (fun _ => True)  C hw XB.tt (fun _ _ _ => trivial) hσ hS hl.1 h (fun vv ss ee => kT_of l g A x1 (29 + x3) σ vv ss ee) (cwV 2 C.t (lw_V q2346 q2348 qs85 q159 q2349) rfl rfl rfl (by decide +kernel) ⟨Nat.le_trans (Nat.le_of_ble_eq_true rfl) hRf, Nat.le_trans (Nat.le_of_ble_eq_true rfl) hRl⟩) rfl rfl (Nat.le_of_ble_eq_true rfl) dX10_sharesOf_16 (fun v_2 σ_3 H locs h hσ hS => ?_)
      refine lv_iadd C.x C.b dX10_sharesOf_19 ?_
      refine tw_lt h (fun x2_4 h => ?_)
      refine lv_istore_n (lv' := [(2, .int x2_4), (0, .ref g.2.2.2.1), (1, .int x1), (3, .int x3)]) C.x C.b dX10_sharesOf_20 rfl hl (by decide) rfl (fun ls hl => ?_)
      obtain ⟨x3_5, e_, h⟩ := nm_s h
      refine lv_iinc (v := x3_5) (lv' := [(3, .int x3_5), (2, .int x2_4), (0, .ref g.2.2.2.1), (1, .int x1)]) C.x C.b dX10_sharesOf_21 hl (k := 3) rfl e_.symm (by decide) rfl (fun ls hl => ?_)
      refine lv_goto (tgt := 4) C.x C.b dX10_sharesOf_24 (by decide) ?_
      exact ih _ _ _ _ _ _ _ h hσ hS (lv_sub hl [2, 3, 1, 0] rfl)

theorem kT_sharesOf (l : Launch) (g : twG) (A : Nat → Prop) (x1 : Int32) (σ : twS) (v : Int32) (σ1 : twS) (h : mT_sharesOf x1 σ = some (v, σ1)) : Met l yX10_sharesOf (ws_ yX10_sharesOf cX10_sharesOf 4 (some .int)) ({ frames := 3, cells := 0, slots := 0, locals := 66 }) (TPc twL g A [.ref g.2.2.2.1, .int x1] (fun _ => True) σ) (TQ g A (some (.int v)) σ1) 0 0 A := by
  refine Met.ofW (cc := cX10_sharesOf) (maxL := 4) (ret := (some .int)) (by decide) rfl ?_
  intro p e s m args below meth c s₁ B hml hv
  obtain ⟨rfl, hw, hX, hσ⟩ := hv
  have hts := atoms_spec (ws := (ws_ yX10_sharesOf cX10_sharesOf 4 (some .int))) B.pre
  have C : CX p m meth c s ([.ref g.2.2.2.1, .int x1] : List Value).toArray cX10_sharesOf 4 (some .int) RX10 := ⟨⟨B.exec, B.bytes, hml, findClass_of_methodNamed B.named, fun w h => hts w (List.mem_cons_of_mem _ h)⟩, B.returns, B.notSynchronized⟩
  have hRf : 3 ≤ (headSpec (ws_ yX10_sharesOf cX10_sharesOf 4 (some .int)) ({ frames := 3, cells := 0, slots := 0, locals := 66 })).room.frames := Nat.le_refl _
  have hRl : 66 ≤ (headSpec (ws_ yX10_sharesOf cX10_sharesOf 4 (some .int)) ({ frames := 3, cells := 0, slots := 0, locals := 66 })).room.locals := Nat.le_refl _
  generalize (headSpec (ws_ yX10_sharesOf cX10_sharesOf 4 (some .int)) ({ frames := 3, cells := 0, slots := 0, locals := 66 })).room = R at hRf hRl ⊢
  have hS : va_S A s.heap s.heap [] := va_S.rf
  have hl := lv_entry ([.ref g.2.2.2.1, .int x1]) (n := 4) (Nat.le_of_ble_eq_true rfl)
  rw [lg_entry_eq]
  generalize (lg_sl ([.ref g.2.2.2.1, .int x1]) ++ List.replicate (4 - (lg_sl ([.ref g.2.2.2.1, .int x1])).length) Slot.unset).toArray = ls at hl ⊢
  have hl : lv_has ls 4 [(0, .ref g.2.2.2.1), (1, .int x1)] := hl
  obtain ⟨z, hz⟩ : ∃ z, z = (v, σ1) := ⟨_, rfl⟩
  rw [← hz] at h
  rw [show v = z.1 by rw [hz], show σ1 = z.2 by rw [hz]]
  clear hz v σ1
  unfold mT_sharesOf at h
  refine lv_iconst (v := 0) C.x C.b dX10_sharesOf_0 (by decide) ?_
  refine lv_istore_n (lv' := [(2, .int 0), (0, .ref g.2.2.2.1), (1, .int x1)]) C.x C.b dX10_sharesOf_1 rfl hl (by decide) rfl (fun ls hl => ?_)
  refine lv_iconst (v := 0) C.x C.b dX10_sharesOf_2 (by decide) ?_
  refine lv_istore_n (lv' := [(3, .int 0), (2, .int 0), (0, .ref g.2.2.2.1), (1, .int x1)]) C.x C.b dX10_sharesOf_3 rfl hl (by decide) rfl (fun ls hl => ?_)
  exact wT_sharesOf_4 C hw hRf hRl _ _ _ _ _ _ _ _ h hσ hS (lv_sub hl [2, 3, 1, 0] rfl)

theorem wT_setShare_122 {z : Int32 × twS} (C : CX p m meth c s args cX10_setShare 8 (some .int) RX10) (hw : WKt twL g A s s.heap) (hRf : 4 ≤ R.frames) (hRl : 89 ≤ R.locals) : ∀ (n : Nat) (x1 : Int32) (x6 : Int32) (x7 : Int32) (σ : twS) (H : Heap) (locs : List Loc) (ls : Array Slot), bT_setShare_122 n x1 x6 x7 σ = some z → TI g A σ H → va_S A s.heap H locs → lv_has ls 8 [(0, .ref g.2.2.2.1), (1, .int x1), (6, .int x6), (7, .int x7)] → W p l e R s m args below meth c H locs 0 0 (MQ below (TQ g A (some (.int z.1)) z.2) args s 0 0 A) (F0 m 122 ls []) := by
  intro n
  induction n with
  | zero =>
    intro x1 x6 x7 σ H locs ls h
    cases h
  | succ n ih =>
    intro x1 x6 x7 σ H locs ls h hσ hS hl
    rw [bT_setShare_122] at h
    refine lv_iload C.x C.b dX10_setShare_122 (lv_at hl 3 rfl) ?_
    refine lv_iconst (v := 4) C.x C.b dX10_setShare_124 (by decide) ?_
    refine lv_icmp_ge (tgt := 157) C.x C.b dX10_setShare_125 (by decide) (fun c_1 => ?_) (fun c_1 => ?_)
    · have h := ip c_1 h
      refine lv_iload C.x C.b dX10_setShare_157 (lv_at hl 2 rfl) ?_
      exact tw_iret C hσ hS h dX10_setShare_159
    · have h := iN c_1 h
      refine lv_iload C.x C.b dX10_setShare_128 (lv_at hl 2 rfl) ?_
      refine lv_aload_n C.x C.b dX10_setShare_130 rfl (lv_at hl 0 rfl) ?_
      refine lv_iload_n C.x C.b dX10_setShare_131 rfl (lv_at hl 1 rfl) ?_
      refine lv_bipush (v := 29) C.x C.b dX10_setShare_132 (by decide) ?_
      refine lv_iload C.x C.b dX10_setShare_134 (lv_at hl 3 rfl) ?_
      refine lv_iadd C.x C.b dX10_setShare_136 ?_
      refine tw_call (y := yX10_of) (bytes := cX10_of) (maxL := 3) (fun v => some (.int v)) [.int x1, .int (29 + x7)] (fun _ => True)  C hw XB.tt (fun _ _ _ => trivial) hσ hS hl.1 h (fun vv ss ee => kT_of l g A x1 (29 + x7) σ vv ss ee) (cwV 2 C.t (lw_V q2346 q2348 qs85 q159 q2349) rfl rfl rfl (by decide +kernel) ⟨Nat.le_trans (Nat.le_of_ble_eq_true rfl) hRf, Nat.le_trans (Nat.le_of_ble_eq_true rfl) hRl⟩) rfl rfl (Nat.le_of_ble_eq_true rfl) dX10_setShare_137 (fun v_2 σ_3 H locs h hσ hS => ?_)
      refine lv_if_le (tgt := 147) C.x C.b dX10_setShare_140 (by decide) (fun c_4 => ?_) (fun c_4 => ?_)
      · have h := ip c_4 h
        refine lv_iconst (v := 0) C.x C.b dX10_setShare_147 (by decide) ?_
        refine lv_iadd C.x C.b dX10_setShare_148 ?_
        refine tw_lt h (fun x6_5 h => ?_)
        refine lv_istore (lv' := [(6, .int x6_5), (0, .ref g.2.2.2.1), (1, .int x1), (7, .int x7)]) C.x C.b dX10_setShare_149 hl (by decide) rfl (fun ls hl => ?_)
        obtain ⟨x7_6, e_, h⟩ := nm_s h
        refine lv_iinc (v := x7_6) (lv' := [(7, .int x7_6), (6, .int x6_5), (0, .ref g.2.2.2.1), (1, .int x1)]) C.x C.b dX10_setShare_151 hl (k := 3) rfl e_.symm (by decide) rfl (fun ls hl => ?_)
        refine lv_goto (tgt := 122) C.x C.b dX10_setShare_154 (by decide) ?_
        exact ih _ _ _ _ _ _ _ h hσ hS (lv_sub hl [2, 3, 1, 0] rfl)
      · have h := iN c_4 h
        refine lv_iconst (v := 1) C.x C.b dX10_setShare_143 (by decide) ?_
        refine lv_goto (tgt := 148) C.x C.b dX10_setShare_144 (by decide) ?_
        refine lv_iadd C.x C.b dX10_setShare_148 ?_
        refine tw_lt h (fun x6_7 h => ?_)
        refine lv_istore (lv' := [(6, .int x6_7), (0, .ref g.2.2.2.1), (1, .int x1), (7, .int x7)]) C.x C.b dX10_setShare_149 hl (by decide) rfl (fun ls hl => ?_)
        obtain ⟨x7_8, e_, h⟩ := nm_s h
        refine lv_iinc (v := x7_8) (lv' := [(7, .int x7_8), (6, .int x6_7), (0, .ref g.2.2.2.1), (1, .int x1)]) C.x C.b dX10_setShare_151 hl (k := 3) rfl e_.symm (by decide) rfl (fun ls hl => ?_)
        refine lv_goto (tgt := 122) C.x C.b dX10_setShare_154 (by decide) ?_
        exact ih _ _ _ _ _ _ _ h hσ hS (lv_sub hl [2, 3, 1, 0] rfl)

theorem wT_setShare_48 {z : Int32 × twS} (C : CX p m meth c s args cX10_setShare 8 (some .int) RX10) (hw : WKt twL g A s s.heap) (hRf : 4 ≤ R.frames) (hRl : 89 ≤ R.locals) : ∀ (x1 : Int32) (x2 : Int32) (x3 : Int32) (x4 : Int32) (s1 : Int32) (s2 : Int32) (σ : twS) (H : Heap) (locs : List Loc) (ls : Array Slot), bT_setShare_48 x1 x2 x3 x4 s1 s2 σ = some z → TI g A σ H → va_S A s.heap H locs → lv_has ls 8 [(0, .ref g.2.2.2.1), (1, .int x1), (2, .int x2), (3, .int x3), (4, .int x4)] → W p l e R s m args below meth c H locs 0 0 (MQ below (TQ g A (some (.int z.1)) z.2) args s 0 0 A) (F0 m 48 ls [.int s2, .int s1, .ref g.2.2.2.1]) := by
  intro x1 x2 x3 x4 s1 s2 σ H locs ls h hσ hS hl
  unfold bT_setShare_48 at h
  refine tw_call (y := yX10_throwsOne_2) (bytes := cX10_throwsOne_2) (maxL := 3) (fun v => some (.int v)) [.int s1, .int s2] (fun _ => True)  C hw XB.tt (fun _ _ _ => trivial) hσ hS hl.1 h (fun vv ss ee => kT_throwsOne_2 l g A s1 s2 σ vv ss ee) (cwV 2 C.t (lw_V q2394 q2396 qs94 q159 q2397) rfl rfl rfl (by decide +kernel) ⟨Nat.le_trans (Nat.le_of_ble_eq_true rfl) hRf, Nat.le_trans (Nat.le_of_ble_eq_true rfl) hRl⟩) rfl rfl (Nat.le_of_ble_eq_true rfl) dX10_setShare_48 (fun v_1 σ_2 H locs h hσ hS => ?_)
  refine lv_if_eq (tgt := 56) C.x C.b dX10_setShare_51 (by decide) (fun c_3 => ?_) (fun c_3 => ?_)
  · have h := ip c_3 h
    refine lv_iload_n C.x C.b dX10_setShare_56 rfl (lv_at hl 3 rfl) ?_
    refine lv_sipush (v := 27720) C.x C.b dX10_setShare_57 (by decide) ?_
    refine lv_imul C.x C.b dX10_setShare_60 ?_
    refine lv_iload C.x C.b dX10_setShare_61 (lv_at hl 4 rfl) ?_
    have hz := nz_s h
    have h := hz.2
    refine lv_idiv C.x C.b dX10_setShare_63 hz.1 ?_
    refine tw_lt h (fun x5_4 h => ?_)
    refine lv_istore (lv' := [(5, .int x5_4), (0, .ref g.2.2.2.1), (1, .int x1), (2, .int x2), (3, .int x3), (4, .int x4)]) C.x C.b dX10_setShare_64 hl (by decide) rfl (fun ls hl => ?_)
    refine lv_aload_n C.x C.b dX10_setShare_66 rfl (lv_at hl 1 rfl) ?_
    refine lv_iload_n C.x C.b dX10_setShare_67 rfl (lv_at hl 2 rfl) ?_
    refine tw_call (y := yX10_sharesOf) (bytes := cX10_sharesOf) (maxL := 4) (fun v => some (.int v)) [.int x1] (fun _ => True)  C hw XB.tt (fun _ _ _ => trivial) hσ hS hl.1 h (fun vv ss ee => kT_sharesOf l g A x1 σ_2 vv ss ee) (cwV 1 C.t (lw_V q2650 q2652 qs123 q159 q2653) rfl rfl rfl (by decide +kernel) ⟨Nat.le_trans (Nat.le_of_ble_eq_true rfl) hRf, Nat.le_trans (Nat.le_of_ble_eq_true rfl) hRl⟩) rfl rfl (Nat.le_of_ble_eq_true rfl) dX10_setShare_68 (fun v_5 σ_6 H locs h hσ hS => ?_)
    refine lv_aload_n C.x C.b dX10_setShare_71 rfl (lv_at hl 1 rfl) ?_
    refine lv_iload_n C.x C.b dX10_setShare_72 rfl (lv_at hl 2 rfl) ?_
    refine lv_bipush (v := 29) C.x C.b dX10_setShare_73 (by decide) ?_
    refine lv_iload_n C.x C.b dX10_setShare_75 rfl (lv_at hl 3 rfl) ?_
    refine lv_iadd C.x C.b dX10_setShare_76 ?_
    refine tw_call (y := yX10_of) (bytes := cX10_of) (maxL := 3) (fun v => some (.int v)) [.int x1, .int (29 + x2)] (fun _ => True)  C hw XB.tt (fun _ _ _ => trivial) hσ hS hl.1 h (fun vv ss ee => kT_of l g A x1 (29 + x2) σ_6 vv ss ee) (cwV 2 C.t (lw_V q2346 q2348 qs85 q159 q2349) rfl rfl rfl (by decide +kernel) ⟨Nat.le_trans (Nat.le_of_ble_eq_true rfl) hRf, Nat.le_trans (Nat.le_of_ble_eq_true rfl) hRl⟩) rfl rfl (Nat.le_of_ble_eq_true rfl) dX10_setShare_77 (fun v_7 σ_8 H locs h hσ hS => ?_)
    refine lv_isub C.x C.b dX10_setShare_80 ?_
    refine lv_iload C.x C.b dX10_setShare_81 (lv_at hl 0 rfl) ?_
    refine lv_iadd C.x C.b dX10_setShare_83 ?_
    refine lv_sipush (v := 27720) C.x C.b dX10_setShare_84 (by decide) ?_
    refine lv_icmp_le (tgt := 92) C.x C.b dX10_setShare_87 (by decide) (fun c_9 => ?_) (fun c_9 => ?_)
    · have h := ip c_9 h
      refine lv_aload_n C.x C.b dX10_setShare_92 rfl (lv_at hl 1 rfl) ?_
      refine tw_call (y := yX10_begins) (bytes := cX10_begins) (maxL := 2) (fun _ => none) [] (fun _ => True)  C hw XB.tt (fun _ _ _ => trivial) hσ hS hl.1 h (fun vv ss ee => kT_begins l g A σ_8 vv ss ee) (cwV 0 C.t (lw_V q2627 q2629 qs121 q159 q2630) rfl rfl rfl (by decide +kernel) ⟨Nat.le_trans (Nat.le_of_ble_eq_true rfl) hRf, Nat.le_trans (Nat.le_of_ble_eq_true rfl) hRl⟩) rfl rfl (Nat.le_of_ble_eq_true rfl) dX10_setShare_93 (fun _ σ_10 H locs h hσ hS => ?_)
      refine lv_aload_n C.x C.b dX10_setShare_96 rfl (lv_at hl 1 rfl) ?_
      refine tw_gf0 C hw hσ q2215 dX10_setShare_97 ?_
      refine lv_iload_n C.x C.b dX10_setShare_100 rfl (lv_at hl 2 rfl) ?_
      refine tw_callS (y := yX10_rule0) (bytes := cX10_rule0) (maxL := 1) (fun v => some (.int v)) [.int x1] C hw hσ hS hl.1 h (fun vv ss ee => kT_rule0 l g A x1 σ_10 vv ss ee) (va_cwS 1 C.t (lw_S q2158 q2159 q159 q2160) rfl rfl rfl (by decide +kernel) ⟨Nat.le_trans (Nat.le_of_ble_eq_true rfl) hRf, Nat.le_trans (Nat.le_of_ble_eq_true rfl) hRl⟩) rfl rfl (Nat.le_of_ble_eq_true rfl) dX10_setShare_101 (fun v_11 σ_12 H locs h hσ hS => ?_)
      refine lv_bipush (v := 29) C.x C.b dX10_setShare_104 (by decide) ?_
      refine lv_iadd C.x C.b dX10_setShare_106 ?_
      refine lv_iload_n C.x C.b dX10_setShare_107 rfl (lv_at hl 3 rfl) ?_
      refine lv_iadd C.x C.b dX10_setShare_108 ?_
      refine lv_iload C.x C.b dX10_setShare_109 (lv_at hl 0 rfl) ?_
      refine tw_st0 C hw hσ hS h dX10_setShare_111 (fun σ_13 H locs h hσ hS => ?_)
      refine lv_aload_n C.x C.b dX10_setShare_112 rfl (lv_at hl 1 rfl) ?_
      refine tw_call (y := yX10_remember) (bytes := cX10_remember) (maxL := 2) (fun _ => none) [] (fun _ => True)  C hw XB.tt (fun _ _ _ => trivial) hσ hS hl.1 h (fun vv ss ee => kT_remember l g A σ_13 vv ss ee) (cwV 0 C.t (lw_V q2631 q2633 qs122 q159 q2634) rfl rfl rfl (by decide +kernel) ⟨Nat.le_trans (Nat.le_of_ble_eq_true rfl) hRf, Nat.le_trans (Nat.le_of_ble_eq_true rfl) hRl⟩) rfl rfl (Nat.le_of_ble_eq_true rfl) dX10_setShare_113 (fun _ σ_14 H locs h hσ hS => ?_)
      refine lv_iconst (v := 0) C.x C.b dX10_setShare_116 (by decide) ?_
      refine lv_istore (lv' := [(6, .int 0), (5, .int x5_4), (0, .ref g.2.2.2.1), (1, .int x1), (2, .int x2), (3, .int x3), (4, .int x4)]) C.x C.b dX10_setShare_117 hl (by decide) rfl (fun ls hl => ?_)
      refine lv_iconst (v := 0) C.x C.b dX10_setShare_119 (by decide) ?_
      refine lv_istore (lv' := [(7, .int 0), (6, .int 0), (5, .int x5_4), (0, .ref g.2.2.2.1), (1, .int x1), (2, .int x2), (3, .int x3), (4, .int x4)]) C.x C.b dX10_setShare_120 hl (by decide) rfl (fun ls hl => ?_)
      exact wT_setShare_122 C hw hRf hRl _ _ _ _ _ _ _ _ h hσ hS (lv_sub hl [3, 4, 1, 0] rfl)
    · have h := iN c_9 h
      refine lv_iconst (v := -1) C.x C.b dX10_setShare_90 (by decide) ?_
      exact tw_iret C hσ hS h dX10_setShare_91
  · have h := iN c_3 h
    refine lv_iconst (v := 0) C.x C.b dX10_setShare_54 (by decide) ?_
    exact tw_iret C hσ hS h dX10_setShare_55

theorem wT_setShare_22 {z : Int32 × twS} (C : CX p m meth c s args cX10_setShare 8 (some .int) RX10) (hw : WKt twL g A s s.heap) (hRf : 4 ≤ R.frames) (hRl : 89 ≤ R.locals) : ∀ (x1 : Int32) (x2 : Int32) (x3 : Int32) (x4 : Int32) (s1 : Int32) (σ : twS) (H : Heap) (locs : List Loc) (ls : Array Slot), bT_setShare_22 x1 x2 x3 x4 s1 σ = some z → TI g A σ H → va_S A s.heap H locs → lv_has ls 8 [(0, .ref g.2.2.2.1), (1, .int x1), (2, .int x2), (3, .int x3), (4, .int x4)] → W p l e R s m args below meth c H locs 0 0 (MQ below (TQ g A (some (.int z.1)) z.2) args s 0 0 A) (F0 m 22 ls [.int s1, .ref g.2.2.2.1]) := by
  intro x1 x2 x3 x4 s1 σ H locs ls h hσ hS hl
  unfold bT_setShare_22 at h
  refine lv_iload_n C.x C.b dX10_setShare_22 rfl (lv_at hl 3 rfl) ?_
  refine lv_iconst (v := 0) C.x C.b dX10_setShare_23 (by decide) ?_
  refine lv_bipush (v := 12) C.x C.b dX10_setShare_24 (by decide) ?_
  refine tw_callS (y := yX10_in) (bytes := cX10_in) (maxL := 3) (fun v => some (.int v)) [.int x3, .int 0, .int 12] C hw hσ hS hl.1 h (fun vv ss ee => kT_in l g A x3 0 12 σ vv ss ee) (va_cwS 3 C.t (lw_S q2136 q2137 q159 q2138) rfl rfl rfl (by decide +kernel) ⟨Nat.le_trans (Nat.le_of_ble_eq_true rfl) hRf, Nat.le_trans (Nat.le_of_ble_eq_true rfl) hRl⟩) rfl rfl (Nat.le_of_ble_eq_true rfl) dX10_setShare_26 (fun v_1 σ_2 H locs h hσ hS => ?_)
  refine lv_if_eq (tgt := 43) C.x C.b dX10_setShare_29 (by decide) (fun c_3 => ?_) (fun c_3 => ?_)
  · have h := ip c_3 h
    refine lv_iconst (v := 1) C.x C.b dX10_setShare_43 (by decide) ?_
    refine lv_goto (tgt := 48) C.x C.b dX10_setShare_44 (by decide) ?_
    exact wT_setShare_48 C hw hRf hRl _ _ _ _ _ _ _ _ _ _ h hσ hS (lv_sub hl [0, 1, 2, 3, 4] rfl)
  · have h := iN c_3 h
    refine lv_iload C.x C.b dX10_setShare_32 (lv_at hl 4 rfl) ?_
    refine lv_iconst (v := 1) C.x C.b dX10_setShare_34 (by decide) ?_
    refine lv_bipush (v := 12) C.x C.b dX10_setShare_35 (by decide) ?_
    refine tw_callS (y := yX10_in) (bytes := cX10_in) (maxL := 3) (fun v => some (.int v)) [.int x4, .int 1, .int 12] C hw hσ hS hl.1 h (fun vv ss ee => kT_in l g A x4 1 12 σ_2 vv ss ee) (va_cwS 3 C.t (lw_S q2136 q2137 q159 q2138) rfl rfl rfl (by decide +kernel) ⟨Nat.le_trans (Nat.le_of_ble_eq_true rfl) hRf, Nat.le_trans (Nat.le_of_ble_eq_true rfl) hRl⟩) rfl rfl (Nat.le_of_ble_eq_true rfl) dX10_setShare_37 (fun v_4 σ_5 H locs h hσ hS => ?_)
    refine lv_if_ne (tgt := 47) C.x C.b dX10_setShare_40 (by decide) (fun c_6 => ?_) (fun c_6 => ?_)
    · have h := iN c_6 h
      refine lv_iconst (v := 0) C.x C.b dX10_setShare_47 (by decide) ?_
      exact wT_setShare_48 C hw hRf hRl _ _ _ _ _ _ _ _ _ _ h hσ hS (lv_sub hl [0, 1, 2, 3, 4] rfl)
    · have h := ip c_6 h
      refine lv_iconst (v := 1) C.x C.b dX10_setShare_43 (by decide) ?_
      refine lv_goto (tgt := 48) C.x C.b dX10_setShare_44 (by decide) ?_
      exact wT_setShare_48 C hw hRf hRl _ _ _ _ _ _ _ _ _ _ h hσ hS (lv_sub hl [0, 1, 2, 3, 4] rfl)

theorem kT_setShare (l : Launch) (g : twG) (A : Nat → Prop) (x1 : Int32) (x2 : Int32) (x3 : Int32) (x4 : Int32) (σ : twS) (v : Int32) (σ1 : twS) (h : mT_setShare x1 x2 x3 x4 σ = some (v, σ1)) : Met l yX10_setShare (ws_ yX10_setShare cX10_setShare 8 (some .int)) ({ frames := 4, cells := 0, slots := 0, locals := 89 }) (TPc twL g A [.ref g.2.2.2.1, .int x1, .int x2, .int x3, .int x4] (fun _ => True) σ) (TQ g A (some (.int v)) σ1) 0 0 A := by
  refine Met.ofW (cc := cX10_setShare) (maxL := 8) (ret := (some .int)) (by decide) rfl ?_
  intro p e s m args below meth c s₁ B hml hv
  obtain ⟨rfl, hw, hX, hσ⟩ := hv
  have hts := atoms_spec (ws := (ws_ yX10_setShare cX10_setShare 8 (some .int))) B.pre
  have C : CX p m meth c s ([.ref g.2.2.2.1, .int x1, .int x2, .int x3, .int x4] : List Value).toArray cX10_setShare 8 (some .int) RX10 := ⟨⟨B.exec, B.bytes, hml, findClass_of_methodNamed B.named, fun w h => hts w (List.mem_cons_of_mem _ h)⟩, B.returns, B.notSynchronized⟩
  have hRf : 4 ≤ (headSpec (ws_ yX10_setShare cX10_setShare 8 (some .int)) ({ frames := 4, cells := 0, slots := 0, locals := 89 })).room.frames := Nat.le_refl _
  have hRl : 89 ≤ (headSpec (ws_ yX10_setShare cX10_setShare 8 (some .int)) ({ frames := 4, cells := 0, slots := 0, locals := 89 })).room.locals := Nat.le_refl _
  generalize (headSpec (ws_ yX10_setShare cX10_setShare 8 (some .int)) ({ frames := 4, cells := 0, slots := 0, locals := 89 })).room = R at hRf hRl ⊢
  have hS : va_S A s.heap s.heap [] := va_S.rf
  have hl := lv_entry ([.ref g.2.2.2.1, .int x1, .int x2, .int x3, .int x4]) (n := 8) (Nat.le_of_ble_eq_true rfl)
  rw [lg_entry_eq]
  generalize (lg_sl ([.ref g.2.2.2.1, .int x1, .int x2, .int x3, .int x4]) ++ List.replicate (8 - (lg_sl ([.ref g.2.2.2.1, .int x1, .int x2, .int x3, .int x4])).length) Slot.unset).toArray = ls at hl ⊢
  have hl : lv_has ls 8 [(0, .ref g.2.2.2.1), (1, .int x1), (2, .int x2), (3, .int x3), (4, .int x4)] := hl
  obtain ⟨z, hz⟩ : ∃ z, z = (v, σ1) := ⟨_, rfl⟩
  rw [← hz] at h
  rw [show v = z.1 by rw [hz], show σ1 = z.2 by rw [hz]]
  clear hz v σ1
  unfold mT_setShare at h
  refine lv_aload_n C.x C.b dX10_setShare_0 rfl (lv_at hl 0 rfl) ?_
  refine lv_aload_n C.x C.b dX10_setShare_1 rfl (lv_at hl 0 rfl) ?_
  refine lv_iload_n C.x C.b dX10_setShare_2 rfl (lv_at hl 1 rfl) ?_
  refine tw_call (y := yX10_isRule) (bytes := cX10_isRule) (maxL := 2) (fun v => some (.int v)) [.int x1] (fun _ => True)  C hw XB.tt (fun _ _ _ => trivial) hσ hS hl.1 h (fun vv ss ee => kT_isRule l g A x1 σ vv ss ee) (cwV 1 C.t (lw_V q2435 q2437 qs102 q159 q2438) rfl rfl rfl (by decide +kernel) ⟨Nat.le_trans (Nat.le_of_ble_eq_true rfl) hRf, Nat.le_trans (Nat.le_of_ble_eq_true rfl) hRl⟩) rfl rfl (Nat.le_of_ble_eq_true rfl) dX10_setShare_3 (fun v_1 σ_2 H locs h hσ hS => ?_)
  refine lv_if_eq (tgt := 17) C.x C.b dX10_setShare_6 (by decide) (fun c_3 => ?_) (fun c_3 => ?_)
  · have h := ip c_3 h
    refine lv_iconst (v := 1) C.x C.b dX10_setShare_17 (by decide) ?_
    refine lv_goto (tgt := 22) C.x C.b dX10_setShare_18 (by decide) ?_
    exact wT_setShare_22 C hw hRf hRl _ _ _ _ _ _ _ _ _ h hσ hS (lv_sub hl [0, 1, 2, 3, 4] rfl)
  · have h := iN c_3 h
    refine lv_aload_n C.x C.b dX10_setShare_9 rfl (lv_at hl 0 rfl) ?_
    refine lv_iload_n C.x C.b dX10_setShare_10 rfl (lv_at hl 2 rfl) ?_
    refine tw_call (y := yX10_isHeir) (bytes := cX10_isHeir) (maxL := 2) (fun v => some (.int v)) [.int x2] (fun _ => True)  C hw XB.tt (fun _ _ _ => trivial) hσ hS hl.1 h (fun vv ss ee => kT_isHeir l g A x2 σ_2 vv ss ee) (cwV 1 C.t (lw_V q2402 q2404 qs95 q159 q2405) rfl rfl rfl (by decide +kernel) ⟨Nat.le_trans (Nat.le_of_ble_eq_true rfl) hRf, Nat.le_trans (Nat.le_of_ble_eq_true rfl) hRl⟩) rfl rfl (Nat.le_of_ble_eq_true rfl) dX10_setShare_11 (fun v_4 σ_5 H locs h hσ hS => ?_)
    refine lv_if_ne (tgt := 21) C.x C.b dX10_setShare_14 (by decide) (fun c_6 => ?_) (fun c_6 => ?_)
    · have h := iN c_6 h
      refine lv_iconst (v := 0) C.x C.b dX10_setShare_21 (by decide) ?_
      exact wT_setShare_22 C hw hRf hRl _ _ _ _ _ _ _ _ _ h hσ hS (lv_sub hl [0, 1, 2, 3, 4] rfl)
    · have h := ip c_6 h
      refine lv_iconst (v := 1) C.x C.b dX10_setShare_17 (by decide) ?_
      refine lv_goto (tgt := 22) C.x C.b dX10_setShare_18 (by decide) ?_
      exact wT_setShare_22 C hw hRf hRl _ _ _ _ _ _ _ _ _ h hσ hS (lv_sub hl [0, 1, 2, 3, 4] rfl)

theorem kT_sets (l : Launch) (g : twG) (A : Nat → Prop) (x1 : Int32) (x2 : Int32) (σ : twS) (v : Int32) (σ1 : twS) (h : mT_sets x1 x2 σ = some (v, σ1)) : Met l yX10_sets (ws_ yX10_sets cX10_sets 4 (some .int)) ({ frames := 2, cells := 0, slots := 0, locals := 45 }) (TPc twL g A [.ref g.2.2.2.1, .int x1, .int x2] (fun _ => True) σ) (TQ g A (some (.int v)) σ1) 0 0 A := by
  refine Met.ofW (cc := cX10_sets) (maxL := 4) (ret := (some .int)) (by decide) rfl ?_
  intro p e s m args below meth c s₁ B hml hv
  obtain ⟨rfl, hw, hX, hσ⟩ := hv
  have hts := atoms_spec (ws := (ws_ yX10_sets cX10_sets 4 (some .int))) B.pre
  have C : CX p m meth c s ([.ref g.2.2.2.1, .int x1, .int x2] : List Value).toArray cX10_sets 4 (some .int) RX10 := ⟨⟨B.exec, B.bytes, hml, findClass_of_methodNamed B.named, fun w h => hts w (List.mem_cons_of_mem _ h)⟩, B.returns, B.notSynchronized⟩
  have hRf : 2 ≤ (headSpec (ws_ yX10_sets cX10_sets 4 (some .int)) ({ frames := 2, cells := 0, slots := 0, locals := 45 })).room.frames := Nat.le_refl _
  have hRl : 45 ≤ (headSpec (ws_ yX10_sets cX10_sets 4 (some .int)) ({ frames := 2, cells := 0, slots := 0, locals := 45 })).room.locals := Nat.le_refl _
  generalize (headSpec (ws_ yX10_sets cX10_sets 4 (some .int)) ({ frames := 2, cells := 0, slots := 0, locals := 45 })).room = R at hRf hRl ⊢
  have hS : va_S A s.heap s.heap [] := va_S.rf
  have hl := lv_entry ([.ref g.2.2.2.1, .int x1, .int x2]) (n := 4) (Nat.le_of_ble_eq_true rfl)
  rw [lg_entry_eq]
  generalize (lg_sl ([.ref g.2.2.2.1, .int x1, .int x2]) ++ List.replicate (4 - (lg_sl ([.ref g.2.2.2.1, .int x1, .int x2])).length) Slot.unset).toArray = ls at hl ⊢
  have hl : lv_has ls 4 [(0, .ref g.2.2.2.1), (1, .int x1), (2, .int x2)] := hl
  obtain ⟨z, hz⟩ : ∃ z, z = (v, σ1) := ⟨_, rfl⟩
  rw [← hz] at h
  rw [show v = z.1 by rw [hz], show σ1 = z.2 by rw [hz]]
  clear hz v σ1
  unfold mT_sets at h
  refine lv_aload_n C.x C.b dX10_sets_0 rfl (lv_at hl 0 rfl) ?_
  refine tw_call (y := yX10_begins) (bytes := cX10_begins) (maxL := 2) (fun _ => none) [] (fun _ => True)  C hw XB.tt (fun _ _ _ => trivial) hσ hS hl.1 h (fun vv ss ee => kT_begins l g A σ vv ss ee) (cwV 0 C.t (lw_V q2627 q2629 qs121 q159 q2630) rfl rfl rfl (by decide +kernel) ⟨Nat.le_trans (Nat.le_of_ble_eq_true rfl) hRf, Nat.le_trans (Nat.le_of_ble_eq_true rfl) hRl⟩) rfl rfl (Nat.le_of_ble_eq_true rfl) dX10_sets_1 (fun _ σ_1 H locs h hσ hS => ?_)
  refine lv_aload_n C.x C.b dX10_sets_4 rfl (lv_at hl 0 rfl) ?_
  refine tw_gf0 C hw hσ q2215 dX10_sets_5 ?_
  refine lv_iload_n C.x C.b dX10_sets_8 rfl (lv_at hl 1 rfl) ?_
  refine tw_ld0 C hw hσ h dX10_sets_9 (fun v_2 h => ?_)
  refine lv_istore_n (lv' := [(3, .int v_2), (0, .ref g.2.2.2.1), (1, .int x1), (2, .int x2)]) C.x C.b dX10_sets_10 rfl hl (by decide) rfl (fun ls hl => ?_)
  refine lv_aload_n C.x C.b dX10_sets_11 rfl (lv_at hl 1 rfl) ?_
  refine tw_gf0 C hw hσ q2215 dX10_sets_12 ?_
  refine lv_iload_n C.x C.b dX10_sets_15 rfl (lv_at hl 2 rfl) ?_
  refine lv_iload_n C.x C.b dX10_sets_16 rfl (lv_at hl 3 rfl) ?_
  refine tw_st0 C hw hσ hS h dX10_sets_17 (fun σ_3 H locs h hσ hS => ?_)
  refine lv_aload_n C.x C.b dX10_sets_18 rfl (lv_at hl 1 rfl) ?_
  refine tw_call (y := yX10_remember) (bytes := cX10_remember) (maxL := 2) (fun _ => none) [] (fun _ => True)  C hw XB.tt (fun _ _ _ => trivial) hσ hS hl.1 h (fun vv ss ee => kT_remember l g A σ_3 vv ss ee) (cwV 0 C.t (lw_V q2631 q2633 qs122 q159 q2634) rfl rfl rfl (by decide +kernel) ⟨Nat.le_trans (Nat.le_of_ble_eq_true rfl) hRf, Nat.le_trans (Nat.le_of_ble_eq_true rfl) hRl⟩) rfl rfl (Nat.le_of_ble_eq_true rfl) dX10_sets_19 (fun _ σ_4 H locs h hσ hS => ?_)
  refine lv_iload_n C.x C.b dX10_sets_22 rfl (lv_at hl 0 rfl) ?_
  exact tw_iret C hσ hS h dX10_sets_23

theorem wT_setHeir_50 {z : Int32 × twS} (C : CX p m meth c s args cX10_setHeir 5 (some .int) RX10) (hw : WKt twL g A s s.heap) (hRf : 3 ≤ R.frames) (hRl : 68 ≤ R.locals) : ∀ (x1 : Int32) (x2 : Int32) (x3 : Int32) (x4 : Int32) (s1 : Int32) (σ : twS) (H : Heap) (locs : List Loc) (ls : Array Slot), bT_setHeir_50 x1 x2 x3 x4 s1 σ = some z → TI g A σ H → va_S A s.heap H locs → lv_has ls 5 [(0, .ref g.2.2.2.1), (1, .int x1), (2, .int x2), (3, .int x3), (4, .int x4)] → W p l e R s m args below meth c H locs 0 0 (MQ below (TQ g A (some (.int z.1)) z.2) args s 0 0 A) (F0 m 50 ls [.int s1, .ref g.2.2.2.1]) := by
  intro x1 x2 x3 x4 s1 σ H locs ls h hσ hS hl
  unfold bT_setHeir_50 at h
  refine lv_iload C.x C.b dX10_setHeir_50 (lv_at hl 4 rfl) ?_
  refine tw_call (y := yX10_throwsOne_2) (bytes := cX10_throwsOne_2) (maxL := 3) (fun v => some (.int v)) [.int s1, .int x4] (fun _ => True)  C hw XB.tt (fun _ _ _ => trivial) hσ hS hl.1 h (fun vv ss ee => kT_throwsOne_2 l g A s1 x4 σ vv ss ee) (cwV 2 C.t (lw_V q2394 q2396 qs94 q159 q2397) rfl rfl rfl (by decide +kernel) ⟨Nat.le_trans (Nat.le_of_ble_eq_true rfl) hRf, Nat.le_trans (Nat.le_of_ble_eq_true rfl) hRl⟩) rfl rfl (Nat.le_of_ble_eq_true rfl) dX10_setHeir_52 (fun v_1 σ_2 H locs h hσ hS => ?_)
  refine lv_if_eq (tgt := 62) C.x C.b dX10_setHeir_55 (by decide) (fun c_3 => ?_) (fun c_3 => ?_)
  · have h := ip c_3 h
    refine lv_aload_n C.x C.b dX10_setHeir_62 rfl (lv_at hl 0 rfl) ?_
    refine lv_bipush (v := 9) C.x C.b dX10_setHeir_63 (by decide) ?_
    refine lv_iconst (v := 2) C.x C.b dX10_setHeir_65 (by decide) ?_
    refine lv_iload_n C.x C.b dX10_setHeir_66 rfl (lv_at hl 1 rfl) ?_
    refine lv_imul C.x C.b dX10_setHeir_67 ?_
    refine lv_iadd C.x C.b dX10_setHeir_68 ?_
    refine lv_iload_n C.x C.b dX10_setHeir_69 rfl (lv_at hl 2 rfl) ?_
    refine lv_iadd C.x C.b dX10_setHeir_70 ?_
    refine lv_iload_n C.x C.b dX10_setHeir_71 rfl (lv_at hl 3 rfl) ?_
    refine tw_call (y := yX10_sets) (bytes := cX10_sets) (maxL := 4) (fun v => some (.int v)) [.int ((9 + (2 * x1)) + x2), .int x3] (fun _ => True)  C hw XB.tt (fun _ _ _ => trivial) hσ hS hl.1 h (fun vv ss ee => kT_sets l g A ((9 + (2 * x1)) + x2) x3 σ_2 vv ss ee) (cwV 2 C.t (lw_V q2658 q2660 qs124 q159 q2661) rfl rfl rfl (by decide +kernel) ⟨Nat.le_trans (Nat.le_of_ble_eq_true rfl) hRf, Nat.le_trans (Nat.le_of_ble_eq_true rfl) hRl⟩) rfl rfl (Nat.le_of_ble_eq_true rfl) dX10_setHeir_72 (fun v_4 σ_5 H locs h hσ hS => ?_)
    exact tw_iret C hσ hS h dX10_setHeir_75
  · have h := iN c_3 h
    refine lv_iconst (v := 0) C.x C.b dX10_setHeir_58 (by decide) ?_
    refine lv_goto (tgt := 75) C.x C.b dX10_setHeir_59 (by decide) ?_
    exact tw_iret C hσ hS h dX10_setHeir_75

theorem wT_setHeir_34 {z : Int32 × twS} (C : CX p m meth c s args cX10_setHeir 5 (some .int) RX10) (hw : WKt twL g A s s.heap) (hRf : 3 ≤ R.frames) (hRl : 68 ≤ R.locals) : ∀ (x1 : Int32) (x2 : Int32) (x3 : Int32) (s0 : Int32) (σ : twS) (H : Heap) (locs : List Loc) (ls : Array Slot), bT_setHeir_34 x1 x2 x3 s0 σ = some z → TI g A σ H → va_S A s.heap H locs → lv_has ls 5 [(0, .ref g.2.2.2.1), (1, .int x1), (2, .int x2), (3, .int x3)] → W p l e R s m args below meth c H locs 0 0 (MQ below (TQ g A (some (.int z.1)) z.2) args s 0 0 A) (F0 m 34 ls [.int s0]) := by
  intro x1 x2 x3 s0 σ H locs ls h hσ hS hl
  unfold bT_setHeir_34 at h
  refine lv_istore (lv' := [(4, .int s0), (0, .ref g.2.2.2.1), (1, .int x1), (2, .int x2), (3, .int x3)]) C.x C.b dX10_setHeir_34 hl (by decide) rfl (fun ls hl => ?_)
  refine lv_aload_n C.x C.b dX10_setHeir_36 rfl (lv_at hl 1 rfl) ?_
  refine lv_aload_n C.x C.b dX10_setHeir_37 rfl (lv_at hl 1 rfl) ?_
  refine lv_iload_n C.x C.b dX10_setHeir_38 rfl (lv_at hl 2 rfl) ?_
  refine tw_call (y := yX10_isHeir) (bytes := cX10_isHeir) (maxL := 2) (fun v => some (.int v)) [.int x1] (fun _ => True)  C hw XB.tt (fun _ _ _ => trivial) hσ hS hl.1 h (fun vv ss ee => kT_isHeir l g A x1 σ vv ss ee) (cwV 1 C.t (lw_V q2402 q2404 qs95 q159 q2405) rfl rfl rfl (by decide +kernel) ⟨Nat.le_trans (Nat.le_of_ble_eq_true rfl) hRf, Nat.le_trans (Nat.le_of_ble_eq_true rfl) hRl⟩) rfl rfl (Nat.le_of_ble_eq_true rfl) dX10_setHeir_39 (fun v_1 σ_2 H locs h hσ hS => ?_)
  refine lv_if_ne (tgt := 49) C.x C.b dX10_setHeir_42 (by decide) (fun c_3 => ?_) (fun c_3 => ?_)
  · have h := iN c_3 h
    refine lv_iconst (v := 0) C.x C.b dX10_setHeir_49 (by decide) ?_
    exact wT_setHeir_50 C hw hRf hRl _ _ _ _ _ _ _ _ _ h hσ hS (lv_sub hl [1, 2, 3, 4, 0] rfl)
  · have h := ip c_3 h
    refine lv_iconst (v := 1) C.x C.b dX10_setHeir_45 (by decide) ?_
    refine lv_goto (tgt := 50) C.x C.b dX10_setHeir_46 (by decide) ?_
    exact wT_setHeir_50 C hw hRf hRl _ _ _ _ _ _ _ _ _ h hσ hS (lv_sub hl [1, 2, 3, 4, 0] rfl)

theorem wT_setHeir_23 {z : Int32 × twS} (C : CX p m meth c s args cX10_setHeir 5 (some .int) RX10) (hw : WKt twL g A s s.heap) (hRf : 3 ≤ R.frames) (hRl : 68 ≤ R.locals) : ∀ (x1 : Int32) (x2 : Int32) (x3 : Int32) (s0 : Int32) (s1 : Int32) (s2 : Int32) (σ : twS) (H : Heap) (locs : List Loc) (ls : Array Slot), bT_setHeir_23 x1 x2 x3 s0 s1 s2 σ = some z → TI g A σ H → va_S A s.heap H locs → lv_has ls 5 [(0, .ref g.2.2.2.1), (1, .int x1), (2, .int x2), (3, .int x3)] → W p l e R s m args below meth c H locs 0 0 (MQ below (TQ g A (some (.int z.1)) z.2) args s 0 0 A) (F0 m 23 ls [.int s2, .int s1, .int s0]) := by
  intro x1 x2 x3 s0 s1 s2 σ H locs ls h hσ hS hl
  unfold bT_setHeir_23 at h
  refine tw_callS (y := yX10_in) (bytes := cX10_in) (maxL := 3) (fun v => some (.int v)) [.int s0, .int s1, .int s2] C hw hσ hS hl.1 h (fun vv ss ee => kT_in l g A s0 s1 s2 σ vv ss ee) (va_cwS 3 C.t (lw_S q2136 q2137 q159 q2138) rfl rfl rfl (by decide +kernel) ⟨Nat.le_trans (Nat.le_of_ble_eq_true rfl) hRf, Nat.le_trans (Nat.le_of_ble_eq_true rfl) hRl⟩) rfl rfl (Nat.le_of_ble_eq_true rfl) dX10_setHeir_23 (fun v_1 σ_2 H locs h hσ hS => ?_)
  refine lv_if_ne (tgt := 33) C.x C.b dX10_setHeir_26 (by decide) (fun c_3 => ?_) (fun c_3 => ?_)
  · have h := iN c_3 h
    refine lv_iconst (v := 0) C.x C.b dX10_setHeir_33 (by decide) ?_
    exact wT_setHeir_34 C hw hRf hRl _ _ _ _ _ _ _ _ h hσ hS (lv_sub hl [0, 1, 2, 3] rfl)
  · have h := ip c_3 h
    refine lv_iconst (v := 1) C.x C.b dX10_setHeir_29 (by decide) ?_
    refine lv_goto (tgt := 34) C.x C.b dX10_setHeir_30 (by decide) ?_
    exact wT_setHeir_34 C hw hRf hRl _ _ _ _ _ _ _ _ h hσ hS (lv_sub hl [0, 1, 2, 3] rfl)

theorem kT_setHeir (l : Launch) (g : twG) (A : Nat → Prop) (x1 : Int32) (x2 : Int32) (x3 : Int32) (σ : twS) (v : Int32) (σ1 : twS) (h : mT_setHeir x1 x2 x3 σ = some (v, σ1)) : Met l yX10_setHeir (ws_ yX10_setHeir cX10_setHeir 5 (some .int)) ({ frames := 3, cells := 0, slots := 0, locals := 68 }) (TPc twL g A [.ref g.2.2.2.1, .int x1, .int x2, .int x3] (fun _ => True) σ) (TQ g A (some (.int v)) σ1) 0 0 A := by
  refine Met.ofW (cc := cX10_setHeir) (maxL := 5) (ret := (some .int)) (by decide) rfl ?_
  intro p e s m args below meth c s₁ B hml hv
  obtain ⟨rfl, hw, hX, hσ⟩ := hv
  have hts := atoms_spec (ws := (ws_ yX10_setHeir cX10_setHeir 5 (some .int))) B.pre
  have C : CX p m meth c s ([.ref g.2.2.2.1, .int x1, .int x2, .int x3] : List Value).toArray cX10_setHeir 5 (some .int) RX10 := ⟨⟨B.exec, B.bytes, hml, findClass_of_methodNamed B.named, fun w h => hts w (List.mem_cons_of_mem _ h)⟩, B.returns, B.notSynchronized⟩
  have hRf : 3 ≤ (headSpec (ws_ yX10_setHeir cX10_setHeir 5 (some .int)) ({ frames := 3, cells := 0, slots := 0, locals := 68 })).room.frames := Nat.le_refl _
  have hRl : 68 ≤ (headSpec (ws_ yX10_setHeir cX10_setHeir 5 (some .int)) ({ frames := 3, cells := 0, slots := 0, locals := 68 })).room.locals := Nat.le_refl _
  generalize (headSpec (ws_ yX10_setHeir cX10_setHeir 5 (some .int)) ({ frames := 3, cells := 0, slots := 0, locals := 68 })).room = R at hRf hRl ⊢
  have hS : va_S A s.heap s.heap [] := va_S.rf
  have hl := lv_entry ([.ref g.2.2.2.1, .int x1, .int x2, .int x3]) (n := 5) (Nat.le_of_ble_eq_true rfl)
  rw [lg_entry_eq]
  generalize (lg_sl ([.ref g.2.2.2.1, .int x1, .int x2, .int x3]) ++ List.replicate (5 - (lg_sl ([.ref g.2.2.2.1, .int x1, .int x2, .int x3])).length) Slot.unset).toArray = ls at hl ⊢
  have hl : lv_has ls 5 [(0, .ref g.2.2.2.1), (1, .int x1), (2, .int x2), (3, .int x3)] := hl
  obtain ⟨z, hz⟩ : ∃ z, z = (v, σ1) := ⟨_, rfl⟩
  rw [← hz] at h
  rw [show v = z.1 by rw [hz], show σ1 = z.2 by rw [hz]]
  clear hz v σ1
  unfold mT_setHeir at h
  refine lv_iload_n C.x C.b dX10_setHeir_0 rfl (lv_at hl 2 rfl) ?_
  refine lv_iconst (v := 0) C.x C.b dX10_setHeir_1 (by decide) ?_
  refine lv_iconst (v := 1) C.x C.b dX10_setHeir_2 (by decide) ?_
  refine tw_callS (y := yX10_in) (bytes := cX10_in) (maxL := 3) (fun v => some (.int v)) [.int x2, .int 0, .int 1] C hw hσ hS hl.1 h (fun vv ss ee => kT_in l g A x2 0 1 σ vv ss ee) (va_cwS 3 C.t (lw_S q2136 q2137 q159 q2138) rfl rfl rfl (by decide +kernel) ⟨Nat.le_trans (Nat.le_of_ble_eq_true rfl) hRf, Nat.le_trans (Nat.le_of_ble_eq_true rfl) hRl⟩) rfl rfl (Nat.le_of_ble_eq_true rfl) dX10_setHeir_3 (fun v_1 σ_2 H locs h hσ hS => ?_)
  refine lv_if_eq (tgt := 29) C.x C.b dX10_setHeir_6 (by decide) (fun c_3 => ?_) (fun c_3 => ?_)
  · have h := ip c_3 h
    refine lv_iconst (v := 1) C.x C.b dX10_setHeir_29 (by decide) ?_
    refine lv_goto (tgt := 34) C.x C.b dX10_setHeir_30 (by decide) ?_
    exact wT_setHeir_34 C hw hRf hRl _ _ _ _ _ _ _ _ h hσ hS (lv_sub hl [0, 1, 2, 3] rfl)
  · have h := iN c_3 h
    refine lv_iload_n C.x C.b dX10_setHeir_9 rfl (lv_at hl 3 rfl) ?_
    refine lv_iconst (v := 0) C.x C.b dX10_setHeir_10 (by decide) ?_
    refine lv_iload_n C.x C.b dX10_setHeir_11 rfl (lv_at hl 2 rfl) ?_
    refine lv_if_ne (tgt := 21) C.x C.b dX10_setHeir_12 (by decide) (fun c_4 => ?_) (fun c_4 => ?_)
    · have h := iN c_4 h
      refine lv_bipush (v := 60) C.x C.b dX10_setHeir_21 (by decide) ?_
      exact wT_setHeir_23 C hw hRf hRl _ _ _ _ _ _ _ _ _ _ h hσ hS (lv_sub hl [0, 1, 2, 3] rfl)
    · have h := ip c_4 h
      refine lv_sipush (v := 9999) C.x C.b dX10_setHeir_15 (by decide) ?_
      refine lv_goto (tgt := 23) C.x C.b dX10_setHeir_18 (by decide) ?_
      exact wT_setHeir_23 C hw hRf hRl _ _ _ _ _ _ _ _ _ _ h hσ hS (lv_sub hl [0, 1, 2, 3] rfl)

theorem wT_setRest_14 {z : Int32 × twS} (C : CX p m meth c s args cX10_setRest 2 (some .int) RX10) (hw : WKt twL g A s s.heap) (hRf : 3 ≤ R.frames) (hRl : 68 ≤ R.locals) : ∀ (x1 : Int32) (s1 : Int32) (σ : twS) (H : Heap) (locs : List Loc) (ls : Array Slot), bT_setRest_14 x1 s1 σ = some z → TI g A σ H → va_S A s.heap H locs → lv_has ls 2 [(0, .ref g.2.2.2.1), (1, .int x1)] → W p l e R s m args below meth c H locs 0 0 (MQ below (TQ g A (some (.int z.1)) z.2) args s 0 0 A) (F0 m 14 ls [.int s1, .ref g.2.2.2.1]) := by
  intro x1 s1 σ H locs ls h hσ hS hl
  unfold bT_setRest_14 at h
  refine tw_call (y := yX10_throwsOne) (bytes := cX10_throwsOne) (maxL := 2) (fun v => some (.int v)) [.int s1] (fun _ => True)  C hw XB.tt (fun _ _ _ => trivial) hσ hS hl.1 h (fun vv ss ee => kT_throwsOne l g A s1 σ vv ss ee) (cwV 1 C.t (lw_V q2314 q2316 qs79 q159 q2317) rfl rfl rfl (by decide +kernel) ⟨Nat.le_trans (Nat.le_of_ble_eq_true rfl) hRf, Nat.le_trans (Nat.le_of_ble_eq_true rfl) hRl⟩) rfl rfl (Nat.le_of_ble_eq_true rfl) dX10_setRest_14 (fun v_1 σ_2 H locs h hσ hS => ?_)
  refine lv_if_eq (tgt := 24) C.x C.b dX10_setRest_17 (by decide) (fun c_3 => ?_) (fun c_3 => ?_)
  · have h := ip c_3 h
    refine lv_aload_n C.x C.b dX10_setRest_24 rfl (lv_at hl 0 rfl) ?_
    refine lv_bipush (v := 6) C.x C.b dX10_setRest_25 (by decide) ?_
    refine lv_iload_n C.x C.b dX10_setRest_27 rfl (lv_at hl 1 rfl) ?_
    refine tw_call (y := yX10_sets) (bytes := cX10_sets) (maxL := 4) (fun v => some (.int v)) [.int 6, .int x1] (fun _ => True)  C hw XB.tt (fun _ _ _ => trivial) hσ hS hl.1 h (fun vv ss ee => kT_sets l g A 6 x1 σ_2 vv ss ee) (cwV 2 C.t (lw_V q2658 q2660 qs124 q159 q2661) rfl rfl rfl (by decide +kernel) ⟨Nat.le_trans (Nat.le_of_ble_eq_true rfl) hRf, Nat.le_trans (Nat.le_of_ble_eq_true rfl) hRl⟩) rfl rfl (Nat.le_of_ble_eq_true rfl) dX10_setRest_28 (fun v_4 σ_5 H locs h hσ hS => ?_)
    exact tw_iret C hσ hS h dX10_setRest_31
  · have h := iN c_3 h
    refine lv_iconst (v := 0) C.x C.b dX10_setRest_20 (by decide) ?_
    refine lv_goto (tgt := 31) C.x C.b dX10_setRest_21 (by decide) ?_
    exact tw_iret C hσ hS h dX10_setRest_31

theorem kT_setRest (l : Launch) (g : twG) (A : Nat → Prop) (x1 : Int32) (σ : twS) (v : Int32) (σ1 : twS) (h : mT_setRest x1 σ = some (v, σ1)) : Met l yX10_setRest (ws_ yX10_setRest cX10_setRest 2 (some .int)) ({ frames := 3, cells := 0, slots := 0, locals := 68 }) (TPc twL g A [.ref g.2.2.2.1, .int x1] (fun _ => True) σ) (TQ g A (some (.int v)) σ1) 0 0 A := by
  refine Met.ofW (cc := cX10_setRest) (maxL := 2) (ret := (some .int)) (by decide) rfl ?_
  intro p e s m args below meth c s₁ B hml hv
  obtain ⟨rfl, hw, hX, hσ⟩ := hv
  have hts := atoms_spec (ws := (ws_ yX10_setRest cX10_setRest 2 (some .int))) B.pre
  have C : CX p m meth c s ([.ref g.2.2.2.1, .int x1] : List Value).toArray cX10_setRest 2 (some .int) RX10 := ⟨⟨B.exec, B.bytes, hml, findClass_of_methodNamed B.named, fun w h => hts w (List.mem_cons_of_mem _ h)⟩, B.returns, B.notSynchronized⟩
  have hRf : 3 ≤ (headSpec (ws_ yX10_setRest cX10_setRest 2 (some .int)) ({ frames := 3, cells := 0, slots := 0, locals := 68 })).room.frames := Nat.le_refl _
  have hRl : 68 ≤ (headSpec (ws_ yX10_setRest cX10_setRest 2 (some .int)) ({ frames := 3, cells := 0, slots := 0, locals := 68 })).room.locals := Nat.le_refl _
  generalize (headSpec (ws_ yX10_setRest cX10_setRest 2 (some .int)) ({ frames := 3, cells := 0, slots := 0, locals := 68 })).room = R at hRf hRl ⊢
  have hS : va_S A s.heap s.heap [] := va_S.rf
  have hl := lv_entry ([.ref g.2.2.2.1, .int x1]) (n := 2) (Nat.le_of_ble_eq_true rfl)
  rw [lg_entry_eq]
  generalize (lg_sl ([.ref g.2.2.2.1, .int x1]) ++ List.replicate (2 - (lg_sl ([.ref g.2.2.2.1, .int x1])).length) Slot.unset).toArray = ls at hl ⊢
  have hl : lv_has ls 2 [(0, .ref g.2.2.2.1), (1, .int x1)] := hl
  obtain ⟨z, hz⟩ : ∃ z, z = (v, σ1) := ⟨_, rfl⟩
  rw [← hz] at h
  rw [show v = z.1 by rw [hz], show σ1 = z.2 by rw [hz]]
  clear hz v σ1
  unfold mT_setRest at h
  refine lv_aload_n C.x C.b dX10_setRest_0 rfl (lv_at hl 0 rfl) ?_
  refine lv_aload_n C.x C.b dX10_setRest_1 rfl (lv_at hl 0 rfl) ?_
  refine lv_iload_n C.x C.b dX10_setRest_2 rfl (lv_at hl 1 rfl) ?_
  refine tw_call (y := yX10_isHeir) (bytes := cX10_isHeir) (maxL := 2) (fun v => some (.int v)) [.int x1] (fun _ => True)  C hw XB.tt (fun _ _ _ => trivial) hσ hS hl.1 h (fun vv ss ee => kT_isHeir l g A x1 σ vv ss ee) (cwV 1 C.t (lw_V q2402 q2404 qs95 q159 q2405) rfl rfl rfl (by decide +kernel) ⟨Nat.le_trans (Nat.le_of_ble_eq_true rfl) hRf, Nat.le_trans (Nat.le_of_ble_eq_true rfl) hRl⟩) rfl rfl (Nat.le_of_ble_eq_true rfl) dX10_setRest_3 (fun v_1 σ_2 H locs h hσ hS => ?_)
  refine lv_if_ne (tgt := 13) C.x C.b dX10_setRest_6 (by decide) (fun c_3 => ?_) (fun c_3 => ?_)
  · have h := iN c_3 h
    refine lv_iconst (v := 0) C.x C.b dX10_setRest_13 (by decide) ?_
    exact wT_setRest_14 C hw hRf hRl _ _ _ _ _ _ h hσ hS (lv_sub hl [0, 1] rfl)
  · have h := ip c_3 h
    refine lv_iconst (v := 1) C.x C.b dX10_setRest_9 (by decide) ?_
    refine lv_goto (tgt := 14) C.x C.b dX10_setRest_10 (by decide) ?_
    exact wT_setRest_14 C hw hRf hRl _ _ _ _ _ _ h hσ hS (lv_sub hl [0, 1] rfl)

theorem wT_setEstate_17 {z : Int32 × twS} (C : CX p m meth c s args cX10_setEstate 2 (some .int) RX10) (hw : WKt twL g A s s.heap) (hRf : 3 ≤ R.frames) (hRl : 68 ≤ R.locals) : ∀ (x1 : Int32) (s1 : Int32) (σ : twS) (H : Heap) (locs : List Loc) (ls : Array Slot), bT_setEstate_17 x1 s1 σ = some z → TI g A σ H → va_S A s.heap H locs → lv_has ls 2 [(0, .ref g.2.2.2.1), (1, .int x1)] → W p l e R s m args below meth c H locs 0 0 (MQ below (TQ g A (some (.int z.1)) z.2) args s 0 0 A) (F0 m 17 ls [.int s1, .ref g.2.2.2.1]) := by
  intro x1 s1 σ H locs ls h hσ hS hl
  unfold bT_setEstate_17 at h
  refine tw_call (y := yX10_throwsOne) (bytes := cX10_throwsOne) (maxL := 2) (fun v => some (.int v)) [.int s1] (fun _ => True)  C hw XB.tt (fun _ _ _ => trivial) hσ hS hl.1 h (fun vv ss ee => kT_throwsOne l g A s1 σ vv ss ee) (cwV 1 C.t (lw_V q2314 q2316 qs79 q159 q2317) rfl rfl rfl (by decide +kernel) ⟨Nat.le_trans (Nat.le_of_ble_eq_true rfl) hRf, Nat.le_trans (Nat.le_of_ble_eq_true rfl) hRl⟩) rfl rfl (Nat.le_of_ble_eq_true rfl) dX10_setEstate_17 (fun v_1 σ_2 H locs h hσ hS => ?_)
  refine lv_if_eq (tgt := 27) C.x C.b dX10_setEstate_20 (by decide) (fun c_3 => ?_) (fun c_3 => ?_)
  · have h := ip c_3 h
    refine lv_aload_n C.x C.b dX10_setEstate_27 rfl (lv_at hl 0 rfl) ?_
    refine lv_bipush (v := 7) C.x C.b dX10_setEstate_28 (by decide) ?_
    refine lv_iload_n C.x C.b dX10_setEstate_30 rfl (lv_at hl 1 rfl) ?_
    refine tw_call (y := yX10_sets) (bytes := cX10_sets) (maxL := 4) (fun v => some (.int v)) [.int 7, .int x1] (fun _ => True)  C hw XB.tt (fun _ _ _ => trivial) hσ hS hl.1 h (fun vv ss ee => kT_sets l g A 7 x1 σ_2 vv ss ee) (cwV 2 C.t (lw_V q2658 q2660 qs124 q159 q2661) rfl rfl rfl (by decide +kernel) ⟨Nat.le_trans (Nat.le_of_ble_eq_true rfl) hRf, Nat.le_trans (Nat.le_of_ble_eq_true rfl) hRl⟩) rfl rfl (Nat.le_of_ble_eq_true rfl) dX10_setEstate_31 (fun v_4 σ_5 H locs h hσ hS => ?_)
    exact tw_iret C hσ hS h dX10_setEstate_34
  · have h := iN c_3 h
    refine lv_iconst (v := 0) C.x C.b dX10_setEstate_23 (by decide) ?_
    refine lv_goto (tgt := 34) C.x C.b dX10_setEstate_24 (by decide) ?_
    exact tw_iret C hσ hS h dX10_setEstate_34

theorem kT_setEstate (l : Launch) (g : twG) (A : Nat → Prop) (x1 : Int32) (σ : twS) (v : Int32) (σ1 : twS) (h : mT_setEstate x1 σ = some (v, σ1)) : Met l yX10_setEstate (ws_ yX10_setEstate cX10_setEstate 2 (some .int)) ({ frames := 3, cells := 0, slots := 0, locals := 68 }) (TPc twL g A [.ref g.2.2.2.1, .int x1] (fun _ => True) σ) (TQ g A (some (.int v)) σ1) 0 0 A := by
  refine Met.ofW (cc := cX10_setEstate) (maxL := 2) (ret := (some .int)) (by decide) rfl ?_
  intro p e s m args below meth c s₁ B hml hv
  obtain ⟨rfl, hw, hX, hσ⟩ := hv
  have hts := atoms_spec (ws := (ws_ yX10_setEstate cX10_setEstate 2 (some .int))) B.pre
  have C : CX p m meth c s ([.ref g.2.2.2.1, .int x1] : List Value).toArray cX10_setEstate 2 (some .int) RX10 := ⟨⟨B.exec, B.bytes, hml, findClass_of_methodNamed B.named, fun w h => hts w (List.mem_cons_of_mem _ h)⟩, B.returns, B.notSynchronized⟩
  have hRf : 3 ≤ (headSpec (ws_ yX10_setEstate cX10_setEstate 2 (some .int)) ({ frames := 3, cells := 0, slots := 0, locals := 68 })).room.frames := Nat.le_refl _
  have hRl : 68 ≤ (headSpec (ws_ yX10_setEstate cX10_setEstate 2 (some .int)) ({ frames := 3, cells := 0, slots := 0, locals := 68 })).room.locals := Nat.le_refl _
  generalize (headSpec (ws_ yX10_setEstate cX10_setEstate 2 (some .int)) ({ frames := 3, cells := 0, slots := 0, locals := 68 })).room = R at hRf hRl ⊢
  have hS : va_S A s.heap s.heap [] := va_S.rf
  have hl := lv_entry ([.ref g.2.2.2.1, .int x1]) (n := 2) (Nat.le_of_ble_eq_true rfl)
  rw [lg_entry_eq]
  generalize (lg_sl ([.ref g.2.2.2.1, .int x1]) ++ List.replicate (2 - (lg_sl ([.ref g.2.2.2.1, .int x1])).length) Slot.unset).toArray = ls at hl ⊢
  have hl : lv_has ls 2 [(0, .ref g.2.2.2.1), (1, .int x1)] := hl
  obtain ⟨z, hz⟩ : ∃ z, z = (v, σ1) := ⟨_, rfl⟩
  rw [← hz] at h
  rw [show v = z.1 by rw [hz], show σ1 = z.2 by rw [hz]]
  clear hz v σ1
  unfold mT_setEstate at h
  refine lv_aload_n C.x C.b dX10_setEstate_0 rfl (lv_at hl 0 rfl) ?_
  refine lv_iload_n C.x C.b dX10_setEstate_1 rfl (lv_at hl 1 rfl) ?_
  refine lv_iconst (v := 0) C.x C.b dX10_setEstate_2 (by decide) ?_
  refine lv_sipush (v := 9999) C.x C.b dX10_setEstate_3 (by decide) ?_
  refine tw_callS (y := yX10_in) (bytes := cX10_in) (maxL := 3) (fun v => some (.int v)) [.int x1, .int 0, .int 9999] C hw hσ hS hl.1 h (fun vv ss ee => kT_in l g A x1 0 9999 σ vv ss ee) (va_cwS 3 C.t (lw_S q2136 q2137 q159 q2138) rfl rfl rfl (by decide +kernel) ⟨Nat.le_trans (Nat.le_of_ble_eq_true rfl) hRf, Nat.le_trans (Nat.le_of_ble_eq_true rfl) hRl⟩) rfl rfl (Nat.le_of_ble_eq_true rfl) dX10_setEstate_6 (fun v_1 σ_2 H locs h hσ hS => ?_)
  refine lv_if_ne (tgt := 16) C.x C.b dX10_setEstate_9 (by decide) (fun c_3 => ?_) (fun c_3 => ?_)
  · have h := iN c_3 h
    refine lv_iconst (v := 0) C.x C.b dX10_setEstate_16 (by decide) ?_
    exact wT_setEstate_17 C hw hRf hRl _ _ _ _ _ _ h hσ hS (lv_sub hl [0, 1] rfl)
  · have h := ip c_3 h
    refine lv_iconst (v := 1) C.x C.b dX10_setEstate_12 (by decide) ?_
    refine lv_goto (tgt := 17) C.x C.b dX10_setEstate_13 (by decide) ?_
    exact wT_setEstate_17 C hw hRf hRl _ _ _ _ _ _ h hσ hS (lv_sub hl [0, 1] rfl)

theorem wT_setValue_58 {z : Int32 × twS} (C : CX p m meth c s args cX10_setValue 5 (some .int) RX10) (hw : WKt twL g A s s.heap) (hRf : 3 ≤ R.frames) (hRl : 68 ≤ R.locals) : ∀ (n : Nat) (x1 : Int32) (x2 : Int32) (x3 : Int32) (x4 : Int32) (σ : twS) (H : Heap) (locs : List Loc) (ls : Array Slot), bT_setValue_58 n x1 x2 x3 x4 σ = some z → TI g A σ H → va_S A s.heap H locs → lv_has ls 5 [(0, .ref g.2.2.2.1), (1, .int x1), (2, .int x2), (3, .int x3), (4, .int x4)] → W p l e R s m args below meth c H locs 0 0 (MQ below (TQ g A (some (.int z.1)) z.2) args s 0 0 A) (F0 m 58 ls []) := by
  intro n
  induction n with
  | zero =>
    intro x1 x2 x3 x4 σ H locs ls h
    cases h
  | succ n ih =>
    intro x1 x2 x3 x4 σ H locs ls h hσ hS hl
    rw [bT_setValue_58] at h
    refine lv_iload C.x C.b dX10_setValue_58 (lv_at hl 4 rfl) ?_
    refine lv_iload_n C.x C.b dX10_setValue_60 rfl (lv_at hl 1 rfl) ?_
    refine lv_icmp_ge (tgt := 82) C.x C.b dX10_setValue_61 (by decide) (fun c_1 => ?_) (fun c_1 => ?_)
    · have h := ip c_1 h
      refine lv_aload_n C.x C.b dX10_setValue_82 rfl (lv_at hl 0 rfl) ?_
      refine lv_bipush (v := 8) C.x C.b dX10_setValue_83 (by decide) ?_
      refine lv_aload_n C.x C.b dX10_setValue_85 rfl (lv_at hl 0 rfl) ?_
      refine tw_gf0 C hw hσ q2215 dX10_setValue_86 ?_
      refine lv_bipush (v := 8) C.x C.b dX10_setValue_89 (by decide) ?_
      refine tw_ld0 C hw hσ h dX10_setValue_91 (fun v_2 h => ?_)
      refine lv_iload_n C.x C.b dX10_setValue_92 rfl (lv_at hl 3 rfl) ?_
      refine lv_iload_n C.x C.b dX10_setValue_93 rfl (lv_at hl 2 rfl) ?_
      refine lv_aload_n C.x C.b dX10_setValue_94 rfl (lv_at hl 0 rfl) ?_
      refine lv_aload_n C.x C.b dX10_setValue_95 rfl (lv_at hl 0 rfl) ?_
      refine tw_gf0 C hw hσ q2215 dX10_setValue_96 ?_
      refine lv_bipush (v := 8) C.x C.b dX10_setValue_99 (by decide) ?_
      refine tw_ld0 C hw hσ h dX10_setValue_101 (fun v_3 h => ?_)
      refine lv_iload_n C.x C.b dX10_setValue_102 rfl (lv_at hl 1 rfl) ?_
      refine tw_call (y := yX10_valueOf) (bytes := cX10_valueOf) (maxL := 5) (fun v => some (.int v)) [.int v_3, .int x1] (fun _ => True)  C hw XB.tt (fun _ _ _ => trivial) hσ hS hl.1 h (fun vv ss ee => kT_valueOf l g A v_3 x1 σ vv ss ee) (cwV 2 C.t (lw_V q2355 q2357 qs87 q159 q2358) rfl rfl rfl (by decide +kernel) ⟨Nat.le_trans (Nat.le_of_ble_eq_true rfl) hRf, Nat.le_trans (Nat.le_of_ble_eq_true rfl) hRl⟩) rfl rfl (Nat.le_of_ble_eq_true rfl) dX10_setValue_103 (fun v_4 σ_5 H locs h hσ hS => ?_)
      refine lv_isub C.x C.b dX10_setValue_106 ?_
      refine lv_imul C.x C.b dX10_setValue_107 ?_
      refine lv_iadd C.x C.b dX10_setValue_108 ?_
      refine tw_call (y := yX10_sets) (bytes := cX10_sets) (maxL := 4) (fun v => some (.int v)) [.int 8, .int (v_2 + (x3 * (x2 - v_4)))] (fun _ => True)  C hw XB.tt (fun _ _ _ => trivial) hσ hS hl.1 h (fun vv ss ee => kT_sets l g A 8 (v_2 + (x3 * (x2 - v_4))) σ_5 vv ss ee) (cwV 2 C.t (lw_V q2658 q2660 qs124 q159 q2661) rfl rfl rfl (by decide +kernel) ⟨Nat.le_trans (Nat.le_of_ble_eq_true rfl) hRf, Nat.le_trans (Nat.le_of_ble_eq_true rfl) hRl⟩) rfl rfl (Nat.le_of_ble_eq_true rfl) dX10_setValue_109 (fun v_6 σ_7 H locs h hσ hS => ?_)
      refine lv_pop C.x C.b dX10_setValue_112 rfl ?_
      refine lv_aload_n C.x C.b dX10_setValue_113 rfl (lv_at hl 0 rfl) ?_
      refine tw_gf0 C hw hσ q2215 dX10_setValue_114 ?_
      refine lv_bipush (v := 8) C.x C.b dX10_setValue_117 (by decide) ?_
      refine tw_ld0 C hw hσ h dX10_setValue_119 (fun v_8 h => ?_)
      exact tw_iret C hσ hS h dX10_setValue_120
    · have h := iN c_1 h
      refine lv_iload_n C.x C.b dX10_setValue_64 rfl (lv_at hl 3 rfl) ?_
      refine lv_aload_n C.x C.b dX10_setValue_65 rfl (lv_at hl 0 rfl) ?_
      refine tw_gf0 C hw hσ q2215 dX10_setValue_66 ?_
      refine lv_iconst (v := 1) C.x C.b dX10_setValue_69 (by decide) ?_
      refine lv_iload C.x C.b dX10_setValue_70 (lv_at hl 4 rfl) ?_
      refine lv_iadd C.x C.b dX10_setValue_72 ?_
      refine tw_ld0 C hw hσ h dX10_setValue_73 (fun v_9 h => ?_)
      refine lv_imul C.x C.b dX10_setValue_74 ?_
      refine tw_lt h (fun x3_10 h => ?_)
      refine lv_istore_n (lv' := [(3, .int x3_10), (0, .ref g.2.2.2.1), (1, .int x1), (2, .int x2), (4, .int x4)]) C.x C.b dX10_setValue_75 rfl hl (by decide) rfl (fun ls hl => ?_)
      obtain ⟨x4_11, e_, h⟩ := nm_s h
      refine lv_iinc (v := x4_11) (lv' := [(4, .int x4_11), (3, .int x3_10), (0, .ref g.2.2.2.1), (1, .int x1), (2, .int x2)]) C.x C.b dX10_setValue_76 hl (k := 4) rfl e_.symm (by decide) rfl (fun ls hl => ?_)
      refine lv_goto (tgt := 58) C.x C.b dX10_setValue_79 (by decide) ?_
      exact ih _ _ _ _ _ _ _ _ h hσ hS (lv_sub hl [2, 3, 4, 1, 0] rfl)

theorem wT_setValue_45 {z : Int32 × twS} (C : CX p m meth c s args cX10_setValue 5 (some .int) RX10) (hw : WKt twL g A s s.heap) (hRf : 3 ≤ R.frames) (hRl : 68 ≤ R.locals) : ∀ (x1 : Int32) (x2 : Int32) (s1 : Int32) (s2 : Int32) (σ : twS) (H : Heap) (locs : List Loc) (ls : Array Slot), bT_setValue_45 x1 x2 s1 s2 σ = some z → TI g A σ H → va_S A s.heap H locs → lv_has ls 5 [(0, .ref g.2.2.2.1), (1, .int x1), (2, .int x2)] → W p l e R s m args below meth c H locs 0 0 (MQ below (TQ g A (some (.int z.1)) z.2) args s 0 0 A) (F0 m 45 ls [.int s2, .int s1, .ref g.2.2.2.1]) := by
  intro x1 x2 s1 s2 σ H locs ls h hσ hS hl
  unfold bT_setValue_45 at h
  refine tw_call (y := yX10_throwsOne_2) (bytes := cX10_throwsOne_2) (maxL := 3) (fun v => some (.int v)) [.int s1, .int s2] (fun _ => True)  C hw XB.tt (fun _ _ _ => trivial) hσ hS hl.1 h (fun vv ss ee => kT_throwsOne_2 l g A s1 s2 σ vv ss ee) (cwV 2 C.t (lw_V q2394 q2396 qs94 q159 q2397) rfl rfl rfl (by decide +kernel) ⟨Nat.le_trans (Nat.le_of_ble_eq_true rfl) hRf, Nat.le_trans (Nat.le_of_ble_eq_true rfl) hRl⟩) rfl rfl (Nat.le_of_ble_eq_true rfl) dX10_setValue_45 (fun v_1 σ_2 H locs h hσ hS => ?_)
  refine lv_if_eq (tgt := 53) C.x C.b dX10_setValue_48 (by decide) (fun c_3 => ?_) (fun c_3 => ?_)
  · have h := ip c_3 h
    refine lv_iconst (v := 1) C.x C.b dX10_setValue_53 (by decide) ?_
    refine lv_istore_n (lv' := [(3, .int 1), (0, .ref g.2.2.2.1), (1, .int x1), (2, .int x2)]) C.x C.b dX10_setValue_54 rfl hl (by decide) rfl (fun ls hl => ?_)
    refine lv_iconst (v := 0) C.x C.b dX10_setValue_55 (by decide) ?_
    refine lv_istore (lv' := [(4, .int 0), (3, .int 1), (0, .ref g.2.2.2.1), (1, .int x1), (2, .int x2)]) C.x C.b dX10_setValue_56 hl (by decide) rfl (fun ls hl => ?_)
    exact wT_setValue_58 C hw hRf hRl _ _ _ _ _ _ _ _ _ h hσ hS (lv_sub hl [2, 3, 4, 1, 0] rfl)
  · have h := iN c_3 h
    refine lv_iconst (v := 0) C.x C.b dX10_setValue_51 (by decide) ?_
    exact tw_iret C hσ hS h dX10_setValue_52

theorem wT_setValue_44 {z : Int32 × twS} (C : CX p m meth c s args cX10_setValue 5 (some .int) RX10) (hw : WKt twL g A s s.heap) (hRf : 3 ≤ R.frames) (hRl : 68 ≤ R.locals) : ∀ (x1 : Int32) (x2 : Int32) (s1 : Int32) (σ : twS) (H : Heap) (locs : List Loc) (ls : Array Slot), bT_setValue_44 x1 x2 s1 σ = some z → TI g A σ H → va_S A s.heap H locs → lv_has ls 5 [(0, .ref g.2.2.2.1), (1, .int x1), (2, .int x2)] → W p l e R s m args below meth c H locs 0 0 (MQ below (TQ g A (some (.int z.1)) z.2) args s 0 0 A) (F0 m 44 ls [.int s1, .ref g.2.2.2.1]) := by
  intro x1 x2 s1 σ H locs ls h hσ hS hl
  unfold bT_setValue_44 at h
  refine lv_iconst (v := 0) C.x C.b dX10_setValue_44 (by decide) ?_
  exact wT_setValue_45 C hw hRf hRl _ _ _ _ _ _ _ _ h hσ hS (lv_sub hl [0, 1, 2] rfl)

theorem wT_setValue_14 {z : Int32 × twS} (C : CX p m meth c s args cX10_setValue 5 (some .int) RX10) (hw : WKt twL g A s s.heap) (hRf : 3 ≤ R.frames) (hRl : 68 ≤ R.locals) : ∀ (x1 : Int32) (x2 : Int32) (s1 : Int32) (σ : twS) (H : Heap) (locs : List Loc) (ls : Array Slot), bT_setValue_14 x1 x2 s1 σ = some z → TI g A σ H → va_S A s.heap H locs → lv_has ls 5 [(0, .ref g.2.2.2.1), (1, .int x1), (2, .int x2)] → W p l e R s m args below meth c H locs 0 0 (MQ below (TQ g A (some (.int z.1)) z.2) args s 0 0 A) (F0 m 14 ls [.int s1, .ref g.2.2.2.1]) := by
  intro x1 x2 s1 σ H locs ls h hσ hS hl
  unfold bT_setValue_14 at h
  refine lv_aload_n C.x C.b dX10_setValue_14 rfl (lv_at hl 0 rfl) ?_
  refine lv_iload_n C.x C.b dX10_setValue_15 rfl (lv_at hl 1 rfl) ?_
  refine tw_call (y := yX10_isFact) (bytes := cX10_isFact) (maxL := 2) (fun v => some (.int v)) [.int x1] (fun _ => True)  C hw XB.tt (fun _ _ _ => trivial) hσ hS hl.1 h (fun vv ss ee => kT_isFact l g A x1 σ vv ss ee) (cwV 1 C.t (lw_V q2183 q2185 qs73 q159 q2186) rfl rfl rfl (by decide +kernel) ⟨Nat.le_trans (Nat.le_of_ble_eq_true rfl) hRf, Nat.le_trans (Nat.le_of_ble_eq_true rfl) hRl⟩) rfl rfl (Nat.le_of_ble_eq_true rfl) dX10_setValue_16 (fun v_1 σ_2 H locs h hσ hS => ?_)
  refine lv_if_eq (tgt := 44) C.x C.b dX10_setValue_19 (by decide) (fun c_3 => ?_) (fun c_3 => ?_)
  · have h := ip c_3 h
    exact wT_setValue_44 C hw hRf hRl _ _ _ _ _ _ _ h hσ hS (lv_sub hl [0, 1, 2] rfl)
  · have h := iN c_3 h
    refine lv_iload_n C.x C.b dX10_setValue_22 rfl (lv_at hl 2 rfl) ?_
    refine lv_iconst (v := 0) C.x C.b dX10_setValue_23 (by decide) ?_
    refine lv_aload_n C.x C.b dX10_setValue_24 rfl (lv_at hl 0 rfl) ?_
    refine tw_gf0 C hw hσ q2215 dX10_setValue_25 ?_
    refine lv_iconst (v := 1) C.x C.b dX10_setValue_28 (by decide) ?_
    refine lv_iload_n C.x C.b dX10_setValue_29 rfl (lv_at hl 1 rfl) ?_
    refine lv_iadd C.x C.b dX10_setValue_30 ?_
    refine tw_ld0 C hw hσ h dX10_setValue_31 (fun v_4 h => ?_)
    refine lv_iconst (v := 1) C.x C.b dX10_setValue_32 (by decide) ?_
    refine lv_isub C.x C.b dX10_setValue_33 ?_
    refine tw_callS (y := yX10_in) (bytes := cX10_in) (maxL := 3) (fun v => some (.int v)) [.int x2, .int 0, .int (v_4 - 1)] C hw hσ hS hl.1 h (fun vv ss ee => kT_in l g A x2 0 (v_4 - 1) σ_2 vv ss ee) (va_cwS 3 C.t (lw_S q2136 q2137 q159 q2138) rfl rfl rfl (by decide +kernel) ⟨Nat.le_trans (Nat.le_of_ble_eq_true rfl) hRf, Nat.le_trans (Nat.le_of_ble_eq_true rfl) hRl⟩) rfl rfl (Nat.le_of_ble_eq_true rfl) dX10_setValue_34 (fun v_5 σ_6 H locs h hσ hS => ?_)
    refine lv_if_ne (tgt := 44) C.x C.b dX10_setValue_37 (by decide) (fun c_7 => ?_) (fun c_7 => ?_)
    · have h := iN c_7 h
      exact wT_setValue_44 C hw hRf hRl _ _ _ _ _ _ _ h hσ hS (lv_sub hl [0, 1, 2] rfl)
    · have h := ip c_7 h
      refine lv_iconst (v := 1) C.x C.b dX10_setValue_40 (by decide) ?_
      refine lv_goto (tgt := 45) C.x C.b dX10_setValue_41 (by decide) ?_
      exact wT_setValue_45 C hw hRf hRl _ _ _ _ _ _ _ _ h hσ hS (lv_sub hl [0, 1, 2] rfl)

theorem kT_setValue (l : Launch) (g : twG) (A : Nat → Prop) (x1 : Int32) (x2 : Int32) (σ : twS) (v : Int32) (σ1 : twS) (h : mT_setValue x1 x2 σ = some (v, σ1)) : Met l yX10_setValue (ws_ yX10_setValue cX10_setValue 5 (some .int)) ({ frames := 3, cells := 0, slots := 0, locals := 68 }) (TPc twL g A [.ref g.2.2.2.1, .int x1, .int x2] (fun _ => True) σ) (TQ g A (some (.int v)) σ1) 0 0 A := by
  refine Met.ofW (cc := cX10_setValue) (maxL := 5) (ret := (some .int)) (by decide) rfl ?_
  intro p e s m args below meth c s₁ B hml hv
  obtain ⟨rfl, hw, hX, hσ⟩ := hv
  have hts := atoms_spec (ws := (ws_ yX10_setValue cX10_setValue 5 (some .int))) B.pre
  have C : CX p m meth c s ([.ref g.2.2.2.1, .int x1, .int x2] : List Value).toArray cX10_setValue 5 (some .int) RX10 := ⟨⟨B.exec, B.bytes, hml, findClass_of_methodNamed B.named, fun w h => hts w (List.mem_cons_of_mem _ h)⟩, B.returns, B.notSynchronized⟩
  have hRf : 3 ≤ (headSpec (ws_ yX10_setValue cX10_setValue 5 (some .int)) ({ frames := 3, cells := 0, slots := 0, locals := 68 })).room.frames := Nat.le_refl _
  have hRl : 68 ≤ (headSpec (ws_ yX10_setValue cX10_setValue 5 (some .int)) ({ frames := 3, cells := 0, slots := 0, locals := 68 })).room.locals := Nat.le_refl _
  generalize (headSpec (ws_ yX10_setValue cX10_setValue 5 (some .int)) ({ frames := 3, cells := 0, slots := 0, locals := 68 })).room = R at hRf hRl ⊢
  have hS : va_S A s.heap s.heap [] := va_S.rf
  have hl := lv_entry ([.ref g.2.2.2.1, .int x1, .int x2]) (n := 5) (Nat.le_of_ble_eq_true rfl)
  rw [lg_entry_eq]
  generalize (lg_sl ([.ref g.2.2.2.1, .int x1, .int x2]) ++ List.replicate (5 - (lg_sl ([.ref g.2.2.2.1, .int x1, .int x2])).length) Slot.unset).toArray = ls at hl ⊢
  have hl : lv_has ls 5 [(0, .ref g.2.2.2.1), (1, .int x1), (2, .int x2)] := hl
  obtain ⟨z, hz⟩ : ∃ z, z = (v, σ1) := ⟨_, rfl⟩
  rw [← hz] at h
  rw [show v = z.1 by rw [hz], show σ1 = z.2 by rw [hz]]
  clear hz v σ1
  unfold mT_setValue at h
  refine lv_aload_n C.x C.b dX10_setValue_0 rfl (lv_at hl 0 rfl) ?_
  refine lv_aload_n C.x C.b dX10_setValue_1 rfl (lv_at hl 0 rfl) ?_
  refine lv_iload_n C.x C.b dX10_setValue_2 rfl (lv_at hl 1 rfl) ?_
  refine tw_call (y := yX10_isFact) (bytes := cX10_isFact) (maxL := 2) (fun v => some (.int v)) [.int x1] (fun _ => True)  C hw XB.tt (fun _ _ _ => trivial) hσ hS hl.1 h (fun vv ss ee => kT_isFact l g A x1 σ vv ss ee) (cwV 1 C.t (lw_V q2183 q2185 qs73 q159 q2186) rfl rfl rfl (by decide +kernel) ⟨Nat.le_trans (Nat.le_of_ble_eq_true rfl) hRf, Nat.le_trans (Nat.le_of_ble_eq_true rfl) hRl⟩) rfl rfl (Nat.le_of_ble_eq_true rfl) dX10_setValue_3 (fun v_1 σ_2 H locs h hσ hS => ?_)
  refine lv_if_ne (tgt := 13) C.x C.b dX10_setValue_6 (by decide) (fun c_3 => ?_) (fun c_3 => ?_)
  · have h := iN c_3 h
    refine lv_iconst (v := 0) C.x C.b dX10_setValue_13 (by decide) ?_
    exact wT_setValue_14 C hw hRf hRl _ _ _ _ _ _ _ h hσ hS (lv_sub hl [0, 1, 2] rfl)
  · have h := ip c_3 h
    refine lv_iconst (v := 1) C.x C.b dX10_setValue_9 (by decide) ?_
    refine lv_goto (tgt := 14) C.x C.b dX10_setValue_10 (by decide) ?_
    exact wT_setValue_14 C hw hRf hRl _ _ _ _ _ _ _ h hσ hS (lv_sub hl [0, 1, 2] rfl)

theorem wT_undo_26 {z : Int32 × twS} (C : CX p m meth c s args cX10_undo 2 (some .int) RX10) (hw : WKt twL g A s s.heap) (hRf : 1 ≤ R.frames) (hRl : 24 ≤ R.locals) : ∀ (n : Nat) (x1 : Int32) (σ : twS) (H : Heap) (locs : List Loc) (ls : Array Slot), bT_undo_26 n x1 σ = some z → TI g A σ H → va_S A s.heap H locs → lv_has ls 2 [(0, .ref g.2.2.2.1), (1, .int x1)] → W p l e R s m args below meth c H locs 0 0 (MQ below (TQ g A (some (.int z.1)) z.2) args s 0 0 A) (F0 m 26 ls []) := by
  intro n
  induction n with
  | zero =>
    intro x1 σ H locs ls h
    cases h
  | succ n ih =>
    intro x1 σ H locs ls h hσ hS hl
    rw [bT_undo_26] at h
    refine lv_iload_n C.x C.b dX10_undo_26 rfl (lv_at hl 1 rfl) ?_
    refine lv_sipush (v := 358) C.x C.b dX10_undo_27 (by decide) ?_
    refine lv_icmp_ge (tgt := 60) C.x C.b dX10_undo_30 (by decide) (fun c_1 => ?_) (fun c_1 => ?_)
    · have h := ip c_1 h
      refine lv_aload_n C.x C.b dX10_undo_60 rfl (lv_at hl 0 rfl) ?_
      refine tw_gf5 C hw hσ q2220 dX10_undo_61 ?_
      exact tw_iret C hσ hS h dX10_undo_64
    · have h := iN c_1 h
      refine lv_aload_n C.x C.b dX10_undo_33 rfl (lv_at hl 0 rfl) ?_
      refine tw_gf0 C hw hσ q2215 dX10_undo_34 ?_
      refine lv_iload_n C.x C.b dX10_undo_37 rfl (lv_at hl 1 rfl) ?_
      refine lv_aload_n C.x C.b dX10_undo_38 rfl (lv_at hl 0 rfl) ?_
      refine tw_gf3 C hw hσ q2218 dX10_undo_39 ?_
      refine lv_sipush (v := 358) C.x C.b dX10_undo_42 (by decide) ?_
      refine lv_aload_n C.x C.b dX10_undo_45 rfl (lv_at hl 0 rfl) ?_
      refine tw_gf5 C hw hσ q2220 dX10_undo_46 ?_
      refine lv_imul C.x C.b dX10_undo_49 ?_
      refine lv_iload_n C.x C.b dX10_undo_50 rfl (lv_at hl 1 rfl) ?_
      refine lv_iadd C.x C.b dX10_undo_51 ?_
      refine tw_ld3 C hw hσ h dX10_undo_52 (fun v_2 h => ?_)
      refine tw_st0 C hw hσ hS h dX10_undo_53 (fun σ_3 H locs h hσ hS => ?_)
      obtain ⟨x1_4, e_, h⟩ := nm_s h
      refine lv_iinc (v := x1_4) (lv' := [(1, .int x1_4), (0, .ref g.2.2.2.1)]) C.x C.b dX10_undo_54 hl (k := 1) rfl e_.symm (by decide) rfl (fun ls hl => ?_)
      refine lv_goto (tgt := 26) C.x C.b dX10_undo_57 (by decide) ?_
      exact ih _ _ _ _ _ h hσ hS (lv_sub hl [1, 0] rfl)

theorem kT_undo (l : Launch) (g : twG) (A : Nat → Prop) (σ : twS) (v : Int32) (σ1 : twS) (h : mT_undo σ = some (v, σ1)) : Met l yX10_undo (ws_ yX10_undo cX10_undo 2 (some .int)) ({ frames := 1, cells := 0, slots := 0, locals := 24 }) (TPc twL g A [.ref g.2.2.2.1] (fun _ => True) σ) (TQ g A (some (.int v)) σ1) 0 0 A := by
  refine Met.ofW (cc := cX10_undo) (maxL := 2) (ret := (some .int)) (by decide) rfl ?_
  intro p e s m args below meth c s₁ B hml hv
  obtain ⟨rfl, hw, hX, hσ⟩ := hv
  have hts := atoms_spec (ws := (ws_ yX10_undo cX10_undo 2 (some .int))) B.pre
  have C : CX p m meth c s ([.ref g.2.2.2.1] : List Value).toArray cX10_undo 2 (some .int) RX10 := ⟨⟨B.exec, B.bytes, hml, findClass_of_methodNamed B.named, fun w h => hts w (List.mem_cons_of_mem _ h)⟩, B.returns, B.notSynchronized⟩
  have hRf : 1 ≤ (headSpec (ws_ yX10_undo cX10_undo 2 (some .int)) ({ frames := 1, cells := 0, slots := 0, locals := 24 })).room.frames := Nat.le_refl _
  have hRl : 24 ≤ (headSpec (ws_ yX10_undo cX10_undo 2 (some .int)) ({ frames := 1, cells := 0, slots := 0, locals := 24 })).room.locals := Nat.le_refl _
  generalize (headSpec (ws_ yX10_undo cX10_undo 2 (some .int)) ({ frames := 1, cells := 0, slots := 0, locals := 24 })).room = R at hRf hRl ⊢
  have hS : va_S A s.heap s.heap [] := va_S.rf
  have hl := lv_entry ([.ref g.2.2.2.1]) (n := 2) (Nat.le_of_ble_eq_true rfl)
  rw [lg_entry_eq]
  generalize (lg_sl ([.ref g.2.2.2.1]) ++ List.replicate (2 - (lg_sl ([.ref g.2.2.2.1])).length) Slot.unset).toArray = ls at hl ⊢
  have hl : lv_has ls 2 [(0, .ref g.2.2.2.1)] := hl
  obtain ⟨z, hz⟩ : ∃ z, z = (v, σ1) := ⟨_, rfl⟩
  rw [← hz] at h
  rw [show v = z.1 by rw [hz], show σ1 = z.2 by rw [hz]]
  clear hz v σ1
  unfold mT_undo at h
  refine lv_aload_n C.x C.b dX10_undo_0 rfl (lv_at hl 0 rfl) ?_
  refine lv_iconst (v := 0) C.x C.b dX10_undo_1 (by decide) ?_
  refine tw_pf13 C hw hσ hS q2228 dX10_undo_2 (fun H locs hσ hS => ?_)
  obtain ⟨σ_1, e_, h⟩ := nm_s h
  rw [← e_] at hσ
  clear e_
  refine lv_aload_n C.x C.b dX10_undo_5 rfl (lv_at hl 0 rfl) ?_
  refine tw_gf5 C hw hσ q2220 dX10_undo_6 ?_
  refine lv_if_ne (tgt := 14) C.x C.b dX10_undo_9 (by decide) (fun c_2 => ?_) (fun c_2 => ?_)
  · have h := iN c_2 h
    refine lv_aload_n C.x C.b dX10_undo_14 rfl (lv_at hl 0 rfl) ?_
    refine lv_dup C.x C.b dX10_undo_15 rfl ?_
    refine tw_gf5 C hw hσ q2220 dX10_undo_16 ?_
    refine lv_iconst (v := 1) C.x C.b dX10_undo_19 (by decide) ?_
    refine lv_isub C.x C.b dX10_undo_20 ?_
    refine tw_pf5 C hw hσ hS q2220 dX10_undo_21 (fun H locs hσ hS => ?_)
    obtain ⟨σ_3, e_, h⟩ := nm_s h
    rw [← e_] at hσ
    clear e_
    refine lv_iconst (v := 0) C.x C.b dX10_undo_24 (by decide) ?_
    refine lv_istore_n (lv' := [(1, .int 0), (0, .ref g.2.2.2.1)]) C.x C.b dX10_undo_25 rfl hl (by decide) rfl (fun ls hl => ?_)
    exact wT_undo_26 C hw hRf hRl _ _ _ _ _ _ h hσ hS (lv_sub hl [1, 0] rfl)
  · have h := ip c_2 h
    refine lv_iconst (v := -1) C.x C.b dX10_undo_12 (by decide) ?_
    exact tw_iret C hσ hS h dX10_undo_13

theorem wT_saveSnapshot_55 {z : Int32 × twS} (C : CX p m meth c s args cX10_saveSnapshot 4 (some .boolean) RX10) (hw : WKt twL g A s s.heap) (hRf : 2 ≤ R.frames) (hRl : 46 ≤ R.locals) : ∀ (n : Nat) (x1 : Int32) (x2 : Int32) (x3 : Int32) (σ : twS) (H : Heap) (locs : List Loc) (ls : Array Slot), bT_saveSnapshot_55 n x1 x2 x3 σ = some z → TI g A σ H → va_S A s.heap H locs → lv_has ls 4 [(0, .ref g.2.2.2.1), (1, .int x1), (2, .int x2), (3, .int x3)] → W p l e R s m args below meth c H locs 0 0 (MQ below (TQ g A (some (.int z.1)) z.2) args s 0 0 A) (F0 m 55 ls []) := by
  intro n
  induction n with
  | zero =>
    intro x1 x2 x3 σ H locs ls h
    cases h
  | succ n ih =>
    intro x1 x2 x3 σ H locs ls h hσ hS hl
    rw [bT_saveSnapshot_55] at h
    refine lv_iload_n C.x C.b dX10_saveSnapshot_55 rfl (lv_at hl 3 rfl) ?_
    refine lv_sipush (v := 358) C.x C.b dX10_saveSnapshot_56 (by decide) ?_
    refine lv_icmp_ge (tgt := 86) C.x C.b dX10_saveSnapshot_59 (by decide) (fun c_1 => ?_) (fun c_1 => ?_)
    · have h := ip c_1 h
      refine lv_iload_n C.x C.b dX10_saveSnapshot_86 rfl (lv_at hl 2 rfl) ?_
      exact tw_zret C hσ hS h dX10_saveSnapshot_87
    · have h := iN c_1 h
      refine lv_aload_n C.x C.b dX10_saveSnapshot_62 rfl (lv_at hl 0 rfl) ?_
      refine tw_gf4 C hw hσ q2219 dX10_saveSnapshot_63 ?_
      refine lv_sipush (v := 358) C.x C.b dX10_saveSnapshot_66 (by decide) ?_
      refine lv_iload_n C.x C.b dX10_saveSnapshot_69 rfl (lv_at hl 1 rfl) ?_
      refine lv_imul C.x C.b dX10_saveSnapshot_70 ?_
      refine lv_iload_n C.x C.b dX10_saveSnapshot_71 rfl (lv_at hl 3 rfl) ?_
      refine lv_iadd C.x C.b dX10_saveSnapshot_72 ?_
      refine lv_aload_n C.x C.b dX10_saveSnapshot_73 rfl (lv_at hl 0 rfl) ?_
      refine tw_gf0 C hw hσ q2215 dX10_saveSnapshot_74 ?_
      refine lv_iload_n C.x C.b dX10_saveSnapshot_77 rfl (lv_at hl 3 rfl) ?_
      refine tw_ld0 C hw hσ h dX10_saveSnapshot_78 (fun v_2 h => ?_)
      refine tw_st4 C hw hσ hS h dX10_saveSnapshot_79 (fun σ_3 H locs h hσ hS => ?_)
      obtain ⟨x3_4, e_, h⟩ := nm_s h
      refine lv_iinc (v := x3_4) (lv' := [(3, .int x3_4), (0, .ref g.2.2.2.1), (1, .int x1), (2, .int x2)]) C.x C.b dX10_saveSnapshot_80 hl (k := 3) rfl e_.symm (by decide) rfl (fun ls hl => ?_)
      refine lv_goto (tgt := 55) C.x C.b dX10_saveSnapshot_83 (by decide) ?_
      exact ih _ _ _ _ _ _ _ h hσ hS (lv_sub hl [1, 2, 3, 0] rfl)

theorem wT_saveSnapshot_40 {z : Int32 × twS} (C : CX p m meth c s args cX10_saveSnapshot 4 (some .boolean) RX10) (hw : WKt twL g A s s.heap) (hRf : 2 ≤ R.frames) (hRl : 46 ≤ R.locals) : ∀ (x1 : Int32) (s0 : Int32) (σ : twS) (H : Heap) (locs : List Loc) (ls : Array Slot), bT_saveSnapshot_40 x1 s0 σ = some z → TI g A σ H → va_S A s.heap H locs → lv_has ls 4 [(0, .ref g.2.2.2.1), (1, .int x1)] → W p l e R s m args below meth c H locs 0 0 (MQ below (TQ g A (some (.int z.1)) z.2) args s 0 0 A) (F0 m 40 ls [.int s0]) := by
  intro x1 s0 σ H locs ls h hσ hS hl
  unfold bT_saveSnapshot_40 at h
  refine lv_istore_n (lv' := [(2, .int s0), (0, .ref g.2.2.2.1), (1, .int x1)]) C.x C.b dX10_saveSnapshot_40 rfl hl (by decide) rfl (fun ls hl => ?_)
  refine lv_aload_n C.x C.b dX10_saveSnapshot_41 rfl (lv_at hl 1 rfl) ?_
  refine lv_dup C.x C.b dX10_saveSnapshot_42 rfl ?_
  refine tw_gf6 C hw hσ q2221 dX10_saveSnapshot_43 ?_
  refine lv_iconst (v := 1) C.x C.b dX10_saveSnapshot_46 (by decide) ?_
  refine lv_iload_n C.x C.b dX10_saveSnapshot_47 rfl (lv_at hl 2 rfl) ?_
  refine lv_ishl C.x C.b dX10_saveSnapshot_48 ?_
  refine lv_ior C.x C.b dX10_saveSnapshot_49 ?_
  refine tw_pf6 C hw hσ hS q2221 dX10_saveSnapshot_50 (fun H locs hσ hS => ?_)
  obtain ⟨σ_1, e_, h⟩ := nm_s h
  rw [← e_] at hσ
  clear e_
  refine lv_iconst (v := 0) C.x C.b dX10_saveSnapshot_53 (by decide) ?_
  refine lv_istore_n (lv' := [(3, .int 0), (2, .int s0), (0, .ref g.2.2.2.1), (1, .int x1)]) C.x C.b dX10_saveSnapshot_54 rfl hl (by decide) rfl (fun ls hl => ?_)
  exact wT_saveSnapshot_55 C hw hRf hRl _ _ _ _ _ _ _ _ h hσ hS (lv_sub hl [2, 3, 1, 0] rfl)

theorem wT_saveSnapshot_15 {z : Int32 × twS} (C : CX p m meth c s args cX10_saveSnapshot 4 (some .boolean) RX10) (hw : WKt twL g A s s.heap) (hRf : 2 ≤ R.frames) (hRl : 46 ≤ R.locals) : ∀ (x1 : Int32) (s1 : Int32) (σ : twS) (H : Heap) (locs : List Loc) (ls : Array Slot), bT_saveSnapshot_15 x1 s1 σ = some z → TI g A σ H → va_S A s.heap H locs → lv_has ls 4 [(0, .ref g.2.2.2.1), (1, .int x1)] → W p l e R s m args below meth c H locs 0 0 (MQ below (TQ g A (some (.int z.1)) z.2) args s 0 0 A) (F0 m 15 ls [.int s1, .ref g.2.2.2.1]) := by
  intro x1 s1 σ H locs ls h hσ hS hl
  unfold bT_saveSnapshot_15 at h
  refine tw_call (y := yX10_throwsOne) (bytes := cX10_throwsOne) (maxL := 2) (fun v => some (.int v)) [.int s1] (fun _ => True)  C hw XB.tt (fun _ _ _ => trivial) hσ hS hl.1 h (fun vv ss ee => kT_throwsOne l g A s1 σ vv ss ee) (cwV 1 C.t (lw_V q2314 q2316 qs79 q159 q2317) rfl rfl rfl (by decide +kernel) ⟨Nat.le_trans (Nat.le_of_ble_eq_true rfl) hRf, Nat.le_trans (Nat.le_of_ble_eq_true rfl) hRl⟩) rfl rfl (Nat.le_of_ble_eq_true rfl) dX10_saveSnapshot_15 (fun v_1 σ_2 H locs h hσ hS => ?_)
  refine lv_if_eq (tgt := 23) C.x C.b dX10_saveSnapshot_18 (by decide) (fun c_3 => ?_) (fun c_3 => ?_)
  · have h := ip c_3 h
    refine lv_aload_n C.x C.b dX10_saveSnapshot_23 rfl (lv_at hl 0 rfl) ?_
    refine tw_gf6 C hw hσ q2221 dX10_saveSnapshot_24 ?_
    refine lv_iload_n C.x C.b dX10_saveSnapshot_27 rfl (lv_at hl 1 rfl) ?_
    refine lv_ishr C.x C.b dX10_saveSnapshot_28 ?_
    refine lv_iconst (v := 1) C.x C.b dX10_saveSnapshot_29 (by decide) ?_
    refine lv_iand C.x C.b dX10_saveSnapshot_30 ?_
    refine lv_iconst (v := 1) C.x C.b dX10_saveSnapshot_31 (by decide) ?_
    refine lv_icmp_ne (tgt := 39) C.x C.b dX10_saveSnapshot_32 (by decide) (fun c_4 => ?_) (fun c_4 => ?_)
    · have h := iN c_4 h
      refine lv_iconst (v := 0) C.x C.b dX10_saveSnapshot_39 (by decide) ?_
      exact wT_saveSnapshot_40 C hw hRf hRl _ _ _ _ _ _ h hσ hS (lv_sub hl [0, 1] rfl)
    · have h := ip c_4 h
      refine lv_iconst (v := 1) C.x C.b dX10_saveSnapshot_35 (by decide) ?_
      refine lv_goto (tgt := 40) C.x C.b dX10_saveSnapshot_36 (by decide) ?_
      exact wT_saveSnapshot_40 C hw hRf hRl _ _ _ _ _ _ h hσ hS (lv_sub hl [0, 1] rfl)
  · have h := iN c_3 h
    refine lv_iconst (v := 0) C.x C.b dX10_saveSnapshot_21 (by decide) ?_
    exact tw_zret C hσ hS h dX10_saveSnapshot_22

theorem kT_saveSnapshot (l : Launch) (g : twG) (A : Nat → Prop) (x1 : Int32) (σ : twS) (v : Int32) (σ1 : twS) (h : mT_saveSnapshot x1 σ = some (v, σ1)) : Met l yX10_saveSnapshot (ws_ yX10_saveSnapshot cX10_saveSnapshot 4 (some .boolean)) ({ frames := 2, cells := 0, slots := 0, locals := 46 }) (TPc twL g A [.ref g.2.2.2.1, .int x1] (fun _ => True) σ) (TQ g A (some (.int v)) σ1) 0 0 A := by
  refine Met.ofW (cc := cX10_saveSnapshot) (maxL := 4) (ret := (some .boolean)) (by decide) rfl ?_
  intro p e s m args below meth c s₁ B hml hv
  obtain ⟨rfl, hw, hX, hσ⟩ := hv
  have hts := atoms_spec (ws := (ws_ yX10_saveSnapshot cX10_saveSnapshot 4 (some .boolean))) B.pre
  have C : CX p m meth c s ([.ref g.2.2.2.1, .int x1] : List Value).toArray cX10_saveSnapshot 4 (some .boolean) RX10 := ⟨⟨B.exec, B.bytes, hml, findClass_of_methodNamed B.named, fun w h => hts w (List.mem_cons_of_mem _ h)⟩, B.returns, B.notSynchronized⟩
  have hRf : 2 ≤ (headSpec (ws_ yX10_saveSnapshot cX10_saveSnapshot 4 (some .boolean)) ({ frames := 2, cells := 0, slots := 0, locals := 46 })).room.frames := Nat.le_refl _
  have hRl : 46 ≤ (headSpec (ws_ yX10_saveSnapshot cX10_saveSnapshot 4 (some .boolean)) ({ frames := 2, cells := 0, slots := 0, locals := 46 })).room.locals := Nat.le_refl _
  generalize (headSpec (ws_ yX10_saveSnapshot cX10_saveSnapshot 4 (some .boolean)) ({ frames := 2, cells := 0, slots := 0, locals := 46 })).room = R at hRf hRl ⊢
  have hS : va_S A s.heap s.heap [] := va_S.rf
  have hl := lv_entry ([.ref g.2.2.2.1, .int x1]) (n := 4) (Nat.le_of_ble_eq_true rfl)
  rw [lg_entry_eq]
  generalize (lg_sl ([.ref g.2.2.2.1, .int x1]) ++ List.replicate (4 - (lg_sl ([.ref g.2.2.2.1, .int x1])).length) Slot.unset).toArray = ls at hl ⊢
  have hl : lv_has ls 4 [(0, .ref g.2.2.2.1), (1, .int x1)] := hl
  obtain ⟨z, hz⟩ : ∃ z, z = (v, σ1) := ⟨_, rfl⟩
  rw [← hz] at h
  rw [show v = z.1 by rw [hz], show σ1 = z.2 by rw [hz]]
  clear hz v σ1
  unfold mT_saveSnapshot at h
  refine lv_aload_n C.x C.b dX10_saveSnapshot_0 rfl (lv_at hl 0 rfl) ?_
  refine lv_iload_n C.x C.b dX10_saveSnapshot_1 rfl (lv_at hl 1 rfl) ?_
  refine lv_iconst (v := 0) C.x C.b dX10_saveSnapshot_2 (by decide) ?_
  refine lv_iconst (v := 1) C.x C.b dX10_saveSnapshot_3 (by decide) ?_
  refine tw_callS (y := yX10_in) (bytes := cX10_in) (maxL := 3) (fun v => some (.int v)) [.int x1, .int 0, .int 1] C hw hσ hS hl.1 h (fun vv ss ee => kT_in l g A x1 0 1 σ vv ss ee) (va_cwS 3 C.t (lw_S q2136 q2137 q159 q2138) rfl rfl rfl (by decide +kernel) ⟨Nat.le_trans (Nat.le_of_ble_eq_true rfl) hRf, Nat.le_trans (Nat.le_of_ble_eq_true rfl) hRl⟩) rfl rfl (Nat.le_of_ble_eq_true rfl) dX10_saveSnapshot_4 (fun v_1 σ_2 H locs h hσ hS => ?_)
  refine lv_if_ne (tgt := 14) C.x C.b dX10_saveSnapshot_7 (by decide) (fun c_3 => ?_) (fun c_3 => ?_)
  · have h := iN c_3 h
    refine lv_iconst (v := 0) C.x C.b dX10_saveSnapshot_14 (by decide) ?_
    exact wT_saveSnapshot_15 C hw hRf hRl _ _ _ _ _ _ h hσ hS (lv_sub hl [0, 1] rfl)
  · have h := ip c_3 h
    refine lv_iconst (v := 1) C.x C.b dX10_saveSnapshot_10 (by decide) ?_
    refine lv_goto (tgt := 15) C.x C.b dX10_saveSnapshot_11 (by decide) ?_
    exact wT_saveSnapshot_15 C hw hRf hRl _ _ _ _ _ _ h hσ hS (lv_sub hl [0, 1] rfl)

theorem wT_restoreSnapshot_47 {z : Int32 × twS} (C : CX p m meth c s args cX10_restoreSnapshot 4 (some .int) RX10) (hw : WKt twL g A s s.heap) (hRf : 2 ≤ R.frames) (hRl : 46 ≤ R.locals) : ∀ (n : Nat) (x1 : Int32) (x3 : Int32) (σ : twS) (H : Heap) (locs : List Loc) (ls : Array Slot), bT_restoreSnapshot_47 n x1 x3 σ = some z → TI g A σ H → va_S A s.heap H locs → lv_has ls 4 [(0, .ref g.2.2.2.1), (1, .int x1), (3, .int x3)] → W p l e R s m args below meth c H locs 0 0 (MQ below (TQ g A (some (.int z.1)) z.2) args s 0 0 A) (F0 m 47 ls []) := by
  intro n
  induction n with
  | zero =>
    intro x1 x3 σ H locs ls h
    cases h
  | succ n ih =>
    intro x1 x3 σ H locs ls h hσ hS hl
    rw [bT_restoreSnapshot_47] at h
    refine lv_iload_n C.x C.b dX10_restoreSnapshot_47 rfl (lv_at hl 2 rfl) ?_
    refine lv_sipush (v := 358) C.x C.b dX10_restoreSnapshot_48 (by decide) ?_
    refine lv_icmp_ge (tgt := 78) C.x C.b dX10_restoreSnapshot_51 (by decide) (fun c_1 => ?_) (fun c_1 => ?_)
    · have h := ip c_1 h
      refine lv_aload_n C.x C.b dX10_restoreSnapshot_78 rfl (lv_at hl 0 rfl) ?_
      refine lv_iconst (v := 0) C.x C.b dX10_restoreSnapshot_79 (by decide) ?_
      refine tw_pf5 C hw hσ hS q2220 dX10_restoreSnapshot_80 (fun H locs hσ hS => ?_)
      obtain ⟨σ_2, e_, h⟩ := nm_s h
      rw [← e_] at hσ
      clear e_
      refine lv_aload_n C.x C.b dX10_restoreSnapshot_83 rfl (lv_at hl 0 rfl) ?_
      refine tw_gf0 C hw hσ q2215 dX10_restoreSnapshot_84 ?_
      refine lv_bipush (v := 17) C.x C.b dX10_restoreSnapshot_87 (by decide) ?_
      refine tw_ld0 C hw hσ h dX10_restoreSnapshot_89 (fun v_3 h => ?_)
      exact tw_iret C hσ hS h dX10_restoreSnapshot_90
    · have h := iN c_1 h
      refine lv_aload_n C.x C.b dX10_restoreSnapshot_54 rfl (lv_at hl 0 rfl) ?_
      refine tw_gf0 C hw hσ q2215 dX10_restoreSnapshot_55 ?_
      refine lv_iload_n C.x C.b dX10_restoreSnapshot_58 rfl (lv_at hl 2 rfl) ?_
      refine lv_aload_n C.x C.b dX10_restoreSnapshot_59 rfl (lv_at hl 0 rfl) ?_
      refine tw_gf4 C hw hσ q2219 dX10_restoreSnapshot_60 ?_
      refine lv_sipush (v := 358) C.x C.b dX10_restoreSnapshot_63 (by decide) ?_
      refine lv_iload_n C.x C.b dX10_restoreSnapshot_66 rfl (lv_at hl 1 rfl) ?_
      refine lv_imul C.x C.b dX10_restoreSnapshot_67 ?_
      refine lv_iload_n C.x C.b dX10_restoreSnapshot_68 rfl (lv_at hl 2 rfl) ?_
      refine lv_iadd C.x C.b dX10_restoreSnapshot_69 ?_
      refine tw_ld4 C hw hσ h dX10_restoreSnapshot_70 (fun v_4 h => ?_)
      refine tw_st0 C hw hσ hS h dX10_restoreSnapshot_71 (fun σ_5 H locs h hσ hS => ?_)
      obtain ⟨x3_6, e_, h⟩ := nm_s h
      refine lv_iinc (v := x3_6) (lv' := [(3, .int x3_6), (0, .ref g.2.2.2.1), (1, .int x1)]) C.x C.b dX10_restoreSnapshot_72 hl (k := 2) rfl e_.symm (by decide) rfl (fun ls hl => ?_)
      refine lv_goto (tgt := 47) C.x C.b dX10_restoreSnapshot_75 (by decide) ?_
      exact ih _ _ _ _ _ _ h hσ hS (lv_sub hl [1, 2, 0] rfl)

theorem wT_restoreSnapshot_37 {z : Int32 × twS} (C : CX p m meth c s args cX10_restoreSnapshot 4 (some .int) RX10) (hw : WKt twL g A s s.heap) (hRf : 2 ≤ R.frames) (hRl : 46 ≤ R.locals) : ∀ (x1 : Int32) (s1 : Int32) (s2 : Int32) (σ : twS) (H : Heap) (locs : List Loc) (ls : Array Slot), bT_restoreSnapshot_37 x1 s1 s2 σ = some z → TI g A σ H → va_S A s.heap H locs → lv_has ls 4 [(0, .ref g.2.2.2.1), (1, .int x1)] → W p l e R s m args below meth c H locs 0 0 (MQ below (TQ g A (some (.int z.1)) z.2) args s 0 0 A) (F0 m 37 ls [.int s2, .int s1, .ref g.2.2.2.1]) := by
  intro x1 s1 s2 σ H locs ls h hσ hS hl
  unfold bT_restoreSnapshot_37 at h
  refine tw_call (y := yX10_throwsOne_2) (bytes := cX10_throwsOne_2) (maxL := 3) (fun v => some (.int v)) [.int s1, .int s2] (fun _ => True)  C hw XB.tt (fun _ _ _ => trivial) hσ hS hl.1 h (fun vv ss ee => kT_throwsOne_2 l g A s1 s2 σ vv ss ee) (cwV 2 C.t (lw_V q2394 q2396 qs94 q159 q2397) rfl rfl rfl (by decide +kernel) ⟨Nat.le_trans (Nat.le_of_ble_eq_true rfl) hRf, Nat.le_trans (Nat.le_of_ble_eq_true rfl) hRl⟩) rfl rfl (Nat.le_of_ble_eq_true rfl) dX10_restoreSnapshot_37 (fun v_1 σ_2 H locs h hσ hS => ?_)
  refine lv_if_eq (tgt := 45) C.x C.b dX10_restoreSnapshot_40 (by decide) (fun c_3 => ?_) (fun c_3 => ?_)
  · have h := ip c_3 h
    refine lv_iconst (v := 0) C.x C.b dX10_restoreSnapshot_45 (by decide) ?_
    refine lv_istore_n (lv' := [(3, .int 0), (0, .ref g.2.2.2.1), (1, .int x1)]) C.x C.b dX10_restoreSnapshot_46 rfl hl (by decide) rfl (fun ls hl => ?_)
    exact wT_restoreSnapshot_47 C hw hRf hRl _ _ _ _ _ _ _ h hσ hS (lv_sub hl [1, 2, 0] rfl)
  · have h := iN c_3 h
    refine lv_iconst (v := 0) C.x C.b dX10_restoreSnapshot_43 (by decide) ?_
    exact tw_iret C hσ hS h dX10_restoreSnapshot_44

theorem wT_restoreSnapshot_36 {z : Int32 × twS} (C : CX p m meth c s args cX10_restoreSnapshot 4 (some .int) RX10) (hw : WKt twL g A s s.heap) (hRf : 2 ≤ R.frames) (hRl : 46 ≤ R.locals) : ∀ (x1 : Int32) (s1 : Int32) (σ : twS) (H : Heap) (locs : List Loc) (ls : Array Slot), bT_restoreSnapshot_36 x1 s1 σ = some z → TI g A σ H → va_S A s.heap H locs → lv_has ls 4 [(0, .ref g.2.2.2.1), (1, .int x1)] → W p l e R s m args below meth c H locs 0 0 (MQ below (TQ g A (some (.int z.1)) z.2) args s 0 0 A) (F0 m 36 ls [.int s1, .ref g.2.2.2.1]) := by
  intro x1 s1 σ H locs ls h hσ hS hl
  unfold bT_restoreSnapshot_36 at h
  refine lv_iconst (v := 0) C.x C.b dX10_restoreSnapshot_36 (by decide) ?_
  exact wT_restoreSnapshot_37 C hw hRf hRl _ _ _ _ _ _ _ h hσ hS (lv_sub hl [0, 1] rfl)

theorem wT_restoreSnapshot_17 {z : Int32 × twS} (C : CX p m meth c s args cX10_restoreSnapshot 4 (some .int) RX10) (hw : WKt twL g A s s.heap) (hRf : 2 ≤ R.frames) (hRl : 46 ≤ R.locals) : ∀ (x1 : Int32) (x2 : Int32) (s1 : Int32) (σ : twS) (H : Heap) (locs : List Loc) (ls : Array Slot), bT_restoreSnapshot_17 x1 x2 s1 σ = some z → TI g A σ H → va_S A s.heap H locs → lv_has ls 4 [(0, .ref g.2.2.2.1), (1, .int x1), (2, .int x2)] → W p l e R s m args below meth c H locs 0 0 (MQ below (TQ g A (some (.int z.1)) z.2) args s 0 0 A) (F0 m 17 ls [.int s1, .ref g.2.2.2.1]) := by
  intro x1 x2 s1 σ H locs ls h hσ hS hl
  unfold bT_restoreSnapshot_17 at h
  refine lv_iload_n C.x C.b dX10_restoreSnapshot_17 rfl (lv_at hl 2 rfl) ?_
  refine lv_if_eq (tgt := 36) C.x C.b dX10_restoreSnapshot_18 (by decide) (fun c_1 => ?_) (fun c_1 => ?_)
  · have h := ip c_1 h
    exact wT_restoreSnapshot_36 C hw hRf hRl _ _ _ _ _ _ h hσ hS (lv_sub hl [0, 1] rfl)
  · have h := iN c_1 h
    refine lv_aload_n C.x C.b dX10_restoreSnapshot_21 rfl (lv_at hl 0 rfl) ?_
    refine tw_gf6 C hw hσ q2221 dX10_restoreSnapshot_22 ?_
    refine lv_iload_n C.x C.b dX10_restoreSnapshot_25 rfl (lv_at hl 1 rfl) ?_
    refine lv_ishr C.x C.b dX10_restoreSnapshot_26 ?_
    refine lv_iconst (v := 1) C.x C.b dX10_restoreSnapshot_27 (by decide) ?_
    refine lv_iand C.x C.b dX10_restoreSnapshot_28 ?_
    refine lv_if_ne (tgt := 36) C.x C.b dX10_restoreSnapshot_29 (by decide) (fun c_2 => ?_) (fun c_2 => ?_)
    · have h := iN c_2 h
      exact wT_restoreSnapshot_36 C hw hRf hRl _ _ _ _ _ _ h hσ hS (lv_sub hl [0, 1] rfl)
    · have h := ip c_2 h
      refine lv_iconst (v := 1) C.x C.b dX10_restoreSnapshot_32 (by decide) ?_
      refine lv_goto (tgt := 37) C.x C.b dX10_restoreSnapshot_33 (by decide) ?_
      exact wT_restoreSnapshot_37 C hw hRf hRl _ _ _ _ _ _ _ h hσ hS (lv_sub hl [0, 1] rfl)

theorem kT_restoreSnapshot (l : Launch) (g : twG) (A : Nat → Prop) (x1 : Int32) (σ : twS) (v : Int32) (σ1 : twS) (h : mT_restoreSnapshot x1 σ = some (v, σ1)) : Met l yX10_restoreSnapshot (ws_ yX10_restoreSnapshot cX10_restoreSnapshot 4 (some .int)) ({ frames := 2, cells := 0, slots := 0, locals := 46 }) (TPc twL g A [.ref g.2.2.2.1, .int x1] (fun _ => True) σ) (TQ g A (some (.int v)) σ1) 0 0 A := by
  refine Met.ofW (cc := cX10_restoreSnapshot) (maxL := 4) (ret := (some .int)) (by decide) rfl ?_
  intro p e s m args below meth c s₁ B hml hv
  obtain ⟨rfl, hw, hX, hσ⟩ := hv
  have hts := atoms_spec (ws := (ws_ yX10_restoreSnapshot cX10_restoreSnapshot 4 (some .int))) B.pre
  have C : CX p m meth c s ([.ref g.2.2.2.1, .int x1] : List Value).toArray cX10_restoreSnapshot 4 (some .int) RX10 := ⟨⟨B.exec, B.bytes, hml, findClass_of_methodNamed B.named, fun w h => hts w (List.mem_cons_of_mem _ h)⟩, B.returns, B.notSynchronized⟩
  have hRf : 2 ≤ (headSpec (ws_ yX10_restoreSnapshot cX10_restoreSnapshot 4 (some .int)) ({ frames := 2, cells := 0, slots := 0, locals := 46 })).room.frames := Nat.le_refl _
  have hRl : 46 ≤ (headSpec (ws_ yX10_restoreSnapshot cX10_restoreSnapshot 4 (some .int)) ({ frames := 2, cells := 0, slots := 0, locals := 46 })).room.locals := Nat.le_refl _
  generalize (headSpec (ws_ yX10_restoreSnapshot cX10_restoreSnapshot 4 (some .int)) ({ frames := 2, cells := 0, slots := 0, locals := 46 })).room = R at hRf hRl ⊢
  have hS : va_S A s.heap s.heap [] := va_S.rf
  have hl := lv_entry ([.ref g.2.2.2.1, .int x1]) (n := 4) (Nat.le_of_ble_eq_true rfl)
  rw [lg_entry_eq]
  generalize (lg_sl ([.ref g.2.2.2.1, .int x1]) ++ List.replicate (4 - (lg_sl ([.ref g.2.2.2.1, .int x1])).length) Slot.unset).toArray = ls at hl ⊢
  have hl : lv_has ls 4 [(0, .ref g.2.2.2.1), (1, .int x1)] := hl
  obtain ⟨z, hz⟩ : ∃ z, z = (v, σ1) := ⟨_, rfl⟩
  rw [← hz] at h
  rw [show v = z.1 by rw [hz], show σ1 = z.2 by rw [hz]]
  clear hz v σ1
  unfold mT_restoreSnapshot at h
  refine lv_iload_n C.x C.b dX10_restoreSnapshot_0 rfl (lv_at hl 1 rfl) ?_
  refine lv_iconst (v := 0) C.x C.b dX10_restoreSnapshot_1 (by decide) ?_
  refine lv_iconst (v := 1) C.x C.b dX10_restoreSnapshot_2 (by decide) ?_
  refine tw_callS (y := yX10_in) (bytes := cX10_in) (maxL := 3) (fun v => some (.int v)) [.int x1, .int 0, .int 1] C hw hσ hS hl.1 h (fun vv ss ee => kT_in l g A x1 0 1 σ vv ss ee) (va_cwS 3 C.t (lw_S q2136 q2137 q159 q2138) rfl rfl rfl (by decide +kernel) ⟨Nat.le_trans (Nat.le_of_ble_eq_true rfl) hRf, Nat.le_trans (Nat.le_of_ble_eq_true rfl) hRl⟩) rfl rfl (Nat.le_of_ble_eq_true rfl) dX10_restoreSnapshot_3 (fun v_1 σ_2 H locs h hσ hS => ?_)
  refine lv_istore_n (lv' := [(2, .int v_1), (0, .ref g.2.2.2.1), (1, .int x1)]) C.x C.b dX10_restoreSnapshot_6 rfl hl (by decide) rfl (fun ls hl => ?_)
  refine lv_aload_n C.x C.b dX10_restoreSnapshot_7 rfl (lv_at hl 1 rfl) ?_
  refine lv_iload_n C.x C.b dX10_restoreSnapshot_8 rfl (lv_at hl 0 rfl) ?_
  refine lv_if_ne (tgt := 16) C.x C.b dX10_restoreSnapshot_9 (by decide) (fun c_3 => ?_) (fun c_3 => ?_)
  · have h := iN c_3 h
    refine lv_iconst (v := 0) C.x C.b dX10_restoreSnapshot_16 (by decide) ?_
    exact wT_restoreSnapshot_17 C hw hRf hRl _ _ _ _ _ _ _ h hσ hS (lv_sub hl [1, 2, 0] rfl)
  · have h := ip c_3 h
    refine lv_iconst (v := 1) C.x C.b dX10_restoreSnapshot_12 (by decide) ?_
    refine lv_goto (tgt := 17) C.x C.b dX10_restoreSnapshot_13 (by decide) ?_
    exact wT_restoreSnapshot_17 C hw hRf hRl _ _ _ _ _ _ _ h hσ hS (lv_sub hl [1, 2, 0] rfl)

theorem wT_checksum_49 {z : Int64 × twS} (C : CX p m meth c s args cX10_checksum 5 (some .long) RX10) (hw : WKt twL g A s s.heap) (hRf : 66 ≤ R.frames) (hRl : 1581 ≤ R.locals) {k36 : Int64 → Int32 → twS → Option (Int64 × twS)} (hk36 : ∀ (x1 : Int64) (x3 : Int32) (σ : twS) (H : Heap) (locs : List Loc) (ls : Array Slot), k36 x1 x3 σ = some z → TI g A σ H → va_S A s.heap H locs → lv_has ls 5 [(0, .ref g.2.2.2.1), (1, .long x1), (3, .int x3)] → W p l e R s m args below meth c H locs 0 0 (MQ below (TQ g A (some (.long z.1)) z.2) args s 0 0 A) (F0 m 36 ls [])) : ∀ (n : Nat) (x1 : Int64) (x3 : Int32) (x4 : Int32) (σ : twS) (H : Heap) (locs : List Loc) (ls : Array Slot), bT_checksum_49 k36 n x1 x3 x4 σ = some z → TI g A σ H → va_S A s.heap H locs → lv_has ls 5 [(0, .ref g.2.2.2.1), (1, .long x1), (3, .int x3), (4, .int x4)] → W p l e R s m args below meth c H locs 0 0 (MQ below (TQ g A (some (.long z.1)) z.2) args s 0 0 A) (F0 m 49 ls []) := by
  intro n
  induction n with
  | zero =>
    intro x1 x3 x4 σ H locs ls h
    cases h
  | succ n ih =>
    intro x1 x3 x4 σ H locs ls h hσ hS hl
    rw [bT_checksum_49] at h
    refine lv_iload C.x C.b dX10_checksum_49 (lv_at hl 3 rfl) ?_
    refine lv_bipush (v := 7) C.x C.b dX10_checksum_51 (by decide) ?_
    refine lv_icmp_ge (tgt := 77) C.x C.b dX10_checksum_53 (by decide) (fun c_1 => ?_) (fun c_1 => ?_)
    · have h := ip c_1 h
      obtain ⟨x3_2, e_, h⟩ := nm_s h
      refine lv_iinc (v := x3_2) (lv' := [(3, .int x3_2), (0, .ref g.2.2.2.1), (1, .long x1), (4, .int x4)]) C.x C.b dX10_checksum_77 hl (k := 2) rfl e_.symm (by decide) rfl (fun ls hl => ?_)
      refine lv_goto (tgt := 36) C.x C.b dX10_checksum_80 (by decide) ?_
      exact hk36 _ _ _ _ _ _ h hσ hS (lv_sub hl [1, 2, 0] rfl)
    · have h := iN c_1 h
      refine lv_ldc2 C.x C.b C.o (C.t _ q2690) dX10_checksum_56 ?_
      refine lv_lload_n C.x C.b dX10_checksum_59 rfl (lv_at hl 1 rfl) ?_
      refine lv_lmul C.x C.b dX10_checksum_60 ?_
      refine lv_aload_n C.x C.b dX10_checksum_61 rfl (lv_at hl 0 rfl) ?_
      refine lv_iload_n C.x C.b dX10_checksum_62 rfl (lv_at hl 2 rfl) ?_
      refine lv_iload C.x C.b dX10_checksum_63 (lv_at hl 3 rfl) ?_
      refine tw_call (y := yX10_heirTold) (bytes := cX10_heirTold) (maxL := 3) (fun v => some (.int v)) [.int x3, .int x4] (fun _ => True)  C hw XB.tt (fun _ _ _ => trivial) hσ hS hl.1 h (fun vv ss ee => kT_heirTold l g A x3 x4 σ vv ss ee) (cwV 2 C.t (lw_V q2406 q2408 qs96 q159 q2409) rfl rfl rfl (by decide +kernel) ⟨Nat.le_trans (Nat.le_of_ble_eq_true rfl) hRf, Nat.le_trans (Nat.le_of_ble_eq_true rfl) hRl⟩) rfl rfl (Nat.le_of_ble_eq_true rfl) dX10_checksum_65 (fun v_3 σ_4 H locs h hσ hS => ?_)
      refine lv_i2l C.x C.b dX10_checksum_68 rfl ?_
      refine lv_ladd C.x C.b dX10_checksum_69 ?_
      refine tw_ltL h (fun x1_5 h => ?_)
      refine lv_lstore_n (lv' := [(1, .long x1_5), (0, .ref g.2.2.2.1), (3, .int x3), (4, .int x4)]) C.x C.b dX10_checksum_70 rfl hl (by decide) rfl (fun ls hl => ?_)
      obtain ⟨x4_6, e_, h⟩ := nm_s h
      refine lv_iinc (v := x4_6) (lv' := [(4, .int x4_6), (1, .long x1_5), (0, .ref g.2.2.2.1), (3, .int x3)]) C.x C.b dX10_checksum_71 hl (k := 3) rfl e_.symm (by decide) rfl (fun ls hl => ?_)
      refine lv_goto (tgt := 49) C.x C.b dX10_checksum_74 (by decide) ?_
      exact ih _ _ _ _ _ _ _ h hσ hS (lv_sub hl [2, 1, 3, 0] rfl)

theorem wT_checksum_130 {z : Int64 × twS} (C : CX p m meth c s args cX10_checksum 5 (some .long) RX10) (hw : WKt twL g A s s.heap) (hRf : 66 ≤ R.frames) (hRl : 1581 ≤ R.locals) {k85 : Int64 → Int32 → twS → Option (Int64 × twS)} (hk85 : ∀ (x1 : Int64) (x3 : Int32) (σ : twS) (H : Heap) (locs : List Loc) (ls : Array Slot), k85 x1 x3 σ = some z → TI g A σ H → va_S A s.heap H locs → lv_has ls 5 [(0, .ref g.2.2.2.1), (1, .long x1), (3, .int x3)] → W p l e R s m args below meth c H locs 0 0 (MQ below (TQ g A (some (.long z.1)) z.2) args s 0 0 A) (F0 m 85 ls [])) : ∀ (n : Nat) (x1 : Int64) (x3 : Int32) (x4 : Int32) (σ : twS) (H : Heap) (locs : List Loc) (ls : Array Slot), bT_checksum_130 k85 n x1 x3 x4 σ = some z → TI g A σ H → va_S A s.heap H locs → lv_has ls 5 [(0, .ref g.2.2.2.1), (1, .long x1), (3, .int x3), (4, .int x4)] → W p l e R s m args below meth c H locs 0 0 (MQ below (TQ g A (some (.long z.1)) z.2) args s 0 0 A) (F0 m 130 ls []) := by
  intro n
  induction n with
  | zero =>
    intro x1 x3 x4 σ H locs ls h
    cases h
  | succ n ih =>
    intro x1 x3 x4 σ H locs ls h hσ hS hl
    rw [bT_checksum_130] at h
    refine lv_iload C.x C.b dX10_checksum_130 (lv_at hl 3 rfl) ?_
    refine lv_aload_n C.x C.b dX10_checksum_132 rfl (lv_at hl 0 rfl) ?_
    refine tw_gf0 C hw hσ q2215 dX10_checksum_133 ?_
    refine lv_iconst (v := 5) C.x C.b dX10_checksum_136 (by decide) ?_
    refine tw_ld0 C hw hσ h dX10_checksum_137 (fun v_1 h => ?_)
    refine lv_icmp_ge (tgt := 179) C.x C.b dX10_checksum_138 (by decide) (fun c_2 => ?_) (fun c_2 => ?_)
    · have h := ip c_2 h
      obtain ⟨x3_3, e_, h⟩ := nm_s h
      refine lv_iinc (v := x3_3) (lv' := [(3, .int x3_3), (0, .ref g.2.2.2.1), (1, .long x1), (4, .int x4)]) C.x C.b dX10_checksum_179 hl (k := 2) rfl e_.symm (by decide) rfl (fun ls hl => ?_)
      refine lv_goto (tgt := 85) C.x C.b dX10_checksum_182 (by decide) ?_
      exact hk85 _ _ _ _ _ _ h hσ hS (lv_sub hl [1, 2, 0] rfl)
    · have h := iN c_2 h
      refine lv_ldc2 C.x C.b C.o (C.t _ q2690) dX10_checksum_141 ?_
      refine lv_lload_n C.x C.b dX10_checksum_144 rfl (lv_at hl 1 rfl) ?_
      refine lv_lmul C.x C.b dX10_checksum_145 ?_
      refine lv_aload_n C.x C.b dX10_checksum_146 rfl (lv_at hl 0 rfl) ?_
      refine lv_iload_n C.x C.b dX10_checksum_147 rfl (lv_at hl 2 rfl) ?_
      refine lv_iload C.x C.b dX10_checksum_148 (lv_at hl 3 rfl) ?_
      refine lv_iconst (v := 0) C.x C.b dX10_checksum_150 (by decide) ?_
      refine tw_call (y := yX10_shareTold) (bytes := cX10_shareTold) (maxL := 5) (fun v => some (.int v)) [.int x3, .int x4, .int 0] (fun _ => True)  C hw XB.tt (fun _ _ _ => trivial) hσ hS hl.1 h (fun vv ss ee => kT_shareTold l g A x3 x4 0 σ vv ss ee) (cwV 3 C.t (lw_V q2459 q2461 qs107 q159 q2462) rfl rfl rfl (by decide +kernel) ⟨Nat.le_trans (Nat.le_of_ble_eq_true rfl) hRf, Nat.le_trans (Nat.le_of_ble_eq_true rfl) hRl⟩) rfl rfl (Nat.le_of_ble_eq_true rfl) dX10_checksum_151 (fun v_4 σ_5 H locs h hσ hS => ?_)
      refine lv_i2l C.x C.b dX10_checksum_154 rfl ?_
      refine lv_ladd C.x C.b dX10_checksum_155 ?_
      refine tw_ltL h (fun x1_6 h => ?_)
      refine lv_lstore_n (lv' := [(1, .long x1_6), (0, .ref g.2.2.2.1), (3, .int x3), (4, .int x4)]) C.x C.b dX10_checksum_156 rfl hl (by decide) rfl (fun ls hl => ?_)
      refine lv_ldc2 C.x C.b C.o (C.t _ q2690) dX10_checksum_157 ?_
      refine lv_lload_n C.x C.b dX10_checksum_160 rfl (lv_at hl 0 rfl) ?_
      refine lv_lmul C.x C.b dX10_checksum_161 ?_
      refine lv_aload_n C.x C.b dX10_checksum_162 rfl (lv_at hl 1 rfl) ?_
      refine lv_iload_n C.x C.b dX10_checksum_163 rfl (lv_at hl 2 rfl) ?_
      refine lv_iload C.x C.b dX10_checksum_164 (lv_at hl 3 rfl) ?_
      refine lv_iconst (v := 1) C.x C.b dX10_checksum_166 (by decide) ?_
      refine tw_call (y := yX10_shareTold) (bytes := cX10_shareTold) (maxL := 5) (fun v => some (.int v)) [.int x3, .int x4, .int 1] (fun _ => True)  C hw XB.tt (fun _ _ _ => trivial) hσ hS hl.1 h (fun vv ss ee => kT_shareTold l g A x3 x4 1 σ_5 vv ss ee) (cwV 3 C.t (lw_V q2459 q2461 qs107 q159 q2462) rfl rfl rfl (by decide +kernel) ⟨Nat.le_trans (Nat.le_of_ble_eq_true rfl) hRf, Nat.le_trans (Nat.le_of_ble_eq_true rfl) hRl⟩) rfl rfl (Nat.le_of_ble_eq_true rfl) dX10_checksum_167 (fun v_7 σ_8 H locs h hσ hS => ?_)
      refine lv_i2l C.x C.b dX10_checksum_170 rfl ?_
      refine lv_ladd C.x C.b dX10_checksum_171 ?_
      refine tw_ltL h (fun x1_9 h => ?_)
      refine lv_lstore_n (lv' := [(1, .long x1_9), (0, .ref g.2.2.2.1), (3, .int x3), (4, .int x4)]) C.x C.b dX10_checksum_172 rfl hl (by decide) rfl (fun ls hl => ?_)
      obtain ⟨x4_10, e_, h⟩ := nm_s h
      refine lv_iinc (v := x4_10) (lv' := [(4, .int x4_10), (1, .long x1_9), (0, .ref g.2.2.2.1), (3, .int x3)]) C.x C.b dX10_checksum_173 hl (k := 3) rfl e_.symm (by decide) rfl (fun ls hl => ?_)
      refine lv_goto (tgt := 130) C.x C.b dX10_checksum_176 (by decide) ?_
      exact ih _ _ _ _ _ _ _ h hσ hS (lv_sub hl [2, 1, 3, 0] rfl)

theorem wT_checksum_99 {z : Int64 × twS} (C : CX p m meth c s args cX10_checksum 5 (some .long) RX10) (hw : WKt twL g A s s.heap) (hRf : 66 ≤ R.frames) (hRl : 1581 ≤ R.locals) {k85 : Int64 → Int32 → twS → Option (Int64 × twS)} (hk85 : ∀ (x1 : Int64) (x3 : Int32) (σ : twS) (H : Heap) (locs : List Loc) (ls : Array Slot), k85 x1 x3 σ = some z → TI g A σ H → va_S A s.heap H locs → lv_has ls 5 [(0, .ref g.2.2.2.1), (1, .long x1), (3, .int x3)] → W p l e R s m args below meth c H locs 0 0 (MQ below (TQ g A (some (.long z.1)) z.2) args s 0 0 A) (F0 m 85 ls [])) : ∀ (n : Nat) (x1 : Int64) (x3 : Int32) (x4 : Int32) (σ : twS) (H : Heap) (locs : List Loc) (ls : Array Slot), bT_checksum_99 k85 n x1 x3 x4 σ = some z → TI g A σ H → va_S A s.heap H locs → lv_has ls 5 [(0, .ref g.2.2.2.1), (1, .long x1), (3, .int x3), (4, .int x4)] → W p l e R s m args below meth c H locs 0 0 (MQ below (TQ g A (some (.long z.1)) z.2) args s 0 0 A) (F0 m 99 ls []) := by
  intro n
  induction n with
  | zero =>
    intro x1 x3 x4 σ H locs ls h
    cases h
  | succ n ih =>
    intro x1 x3 x4 σ H locs ls h hσ hS hl
    rw [bT_checksum_99] at h
    refine lv_iload C.x C.b dX10_checksum_99 (lv_at hl 3 rfl) ?_
    refine lv_bipush (v := 6) C.x C.b dX10_checksum_101 (by decide) ?_
    refine lv_icmp_ge (tgt := 127) C.x C.b dX10_checksum_103 (by decide) (fun c_1 => ?_) (fun c_1 => ?_)
    · have h := ip c_1 h
      refine lv_iconst (v := 0) C.x C.b dX10_checksum_127 (by decide) ?_
      refine lv_istore (lv' := [(4, .int 0), (0, .ref g.2.2.2.1), (1, .long x1), (3, .int x3)]) C.x C.b dX10_checksum_128 hl (by decide) rfl (fun ls hl => ?_)
      exact wT_checksum_130 C hw hRf hRl hk85 _ _ _ _ _ _ _ _ h hσ hS (lv_sub hl [1, 2, 3, 0] rfl)
    · have h := iN c_1 h
      refine lv_ldc2 C.x C.b C.o (C.t _ q2690) dX10_checksum_106 ?_
      refine lv_lload_n C.x C.b dX10_checksum_109 rfl (lv_at hl 1 rfl) ?_
      refine lv_lmul C.x C.b dX10_checksum_110 ?_
      refine lv_aload_n C.x C.b dX10_checksum_111 rfl (lv_at hl 0 rfl) ?_
      refine lv_iload_n C.x C.b dX10_checksum_112 rfl (lv_at hl 2 rfl) ?_
      refine lv_iload C.x C.b dX10_checksum_113 (lv_at hl 3 rfl) ?_
      refine tw_call (y := yX10_ruleTold) (bytes := cX10_ruleTold) (maxL := 3) (fun v => some (.int v)) [.int x3, .int x4] (fun _ => True)  C hw XB.tt (fun _ _ _ => trivial) hσ hS hl.1 h (fun vv ss ee => kT_ruleTold l g A x3 x4 σ vv ss ee) (cwV 2 C.t (lw_V q2439 q2441 qs103 q159 q2442) rfl rfl rfl (by decide +kernel) ⟨Nat.le_trans (Nat.le_of_ble_eq_true rfl) hRf, Nat.le_trans (Nat.le_of_ble_eq_true rfl) hRl⟩) rfl rfl (Nat.le_of_ble_eq_true rfl) dX10_checksum_115 (fun v_2 σ_3 H locs h hσ hS => ?_)
      refine lv_i2l C.x C.b dX10_checksum_118 rfl ?_
      refine lv_ladd C.x C.b dX10_checksum_119 ?_
      refine tw_ltL h (fun x1_4 h => ?_)
      refine lv_lstore_n (lv' := [(1, .long x1_4), (0, .ref g.2.2.2.1), (3, .int x3), (4, .int x4)]) C.x C.b dX10_checksum_120 rfl hl (by decide) rfl (fun ls hl => ?_)
      obtain ⟨x4_5, e_, h⟩ := nm_s h
      refine lv_iinc (v := x4_5) (lv' := [(4, .int x4_5), (1, .long x1_4), (0, .ref g.2.2.2.1), (3, .int x3)]) C.x C.b dX10_checksum_121 hl (k := 3) rfl e_.symm (by decide) rfl (fun ls hl => ?_)
      refine lv_goto (tgt := 99) C.x C.b dX10_checksum_124 (by decide) ?_
      exact ih _ _ _ _ _ _ _ h hσ hS (lv_sub hl [2, 1, 3, 0] rfl)

theorem wT_checksum_197 {z : Int64 × twS} (C : CX p m meth c s args cX10_checksum 5 (some .long) RX10) (hw : WKt twL g A s s.heap) (hRf : 66 ≤ R.frames) (hRl : 1581 ≤ R.locals) : ∀ (n : Nat) (x1 : Int64) (x3 : Int32) (x4 : Int32) (σ : twS) (H : Heap) (locs : List Loc) (ls : Array Slot), bT_checksum_197 n x1 x3 x4 σ = some z → TI g A σ H → va_S A s.heap H locs → lv_has ls 5 [(0, .ref g.2.2.2.1), (1, .long x1), (3, .int x3), (4, .int x4)] → W p l e R s m args below meth c H locs 0 0 (MQ below (TQ g A (some (.long z.1)) z.2) args s 0 0 A) (F0 m 197 ls []) := by
  intro n
  induction n with
  | zero =>
    intro x1 x3 x4 σ H locs ls h
    cases h
  | succ n ih =>
    intro x1 x3 x4 σ H locs ls h hσ hS hl
    rw [bT_checksum_197] at h
    refine lv_iload C.x C.b dX10_checksum_197 (lv_at hl 3 rfl) ?_
    refine lv_iload_n C.x C.b dX10_checksum_199 rfl (lv_at hl 2 rfl) ?_
    refine lv_icmp_ge (tgt := 247) C.x C.b dX10_checksum_200 (by decide) (fun c_1 => ?_) (fun c_1 => ?_)
    · have h := ip c_1 h
      refine lv_lload_n C.x C.b dX10_checksum_247 rfl (lv_at hl 1 rfl) ?_
      exact tw_lret C hσ hS h dX10_checksum_248
    · have h := iN c_1 h
      refine lv_ldc2 C.x C.b C.o (C.t _ q2690) dX10_checksum_203 ?_
      refine lv_lload_n C.x C.b dX10_checksum_206 rfl (lv_at hl 1 rfl) ?_
      refine lv_lmul C.x C.b dX10_checksum_207 ?_
      refine lv_aload_n C.x C.b dX10_checksum_208 rfl (lv_at hl 0 rfl) ?_
      refine lv_aload_n C.x C.b dX10_checksum_209 rfl (lv_at hl 0 rfl) ?_
      refine tw_gf15 C hw hσ q2230 dX10_checksum_210 ?_
      refine lv_iload C.x C.b dX10_checksum_213 (lv_at hl 3 rfl) ?_
      refine tw_ld15 C hw hσ h dX10_checksum_215 (fun v_2 h => ?_)
      refine tw_call (y := yX10_verdictOf) (bytes := cX10_verdictOf) (maxL := 3) (fun v => some (.int v)) [.int v_2] (fun _ => True)  C hw XB.tt (fun _ _ _ => trivial) hσ hS hl.1 h (fun vv ss ee => kT_verdictOf l g A v_2 σ vv ss ee) (cwV 1 C.t (lw_V q2363 q2365 qs89 q159 q2366) rfl rfl rfl (by decide +kernel) ⟨Nat.le_trans (Nat.le_of_ble_eq_true rfl) hRf, Nat.le_trans (Nat.le_of_ble_eq_true rfl) hRl⟩) rfl rfl (Nat.le_of_ble_eq_true rfl) dX10_checksum_216 (fun v_3 σ_4 H locs h hσ hS => ?_)
      refine lv_i2l C.x C.b dX10_checksum_219 rfl ?_
      refine lv_ladd C.x C.b dX10_checksum_220 ?_
      refine tw_ltL h (fun x1_5 h => ?_)
      refine lv_lstore_n (lv' := [(1, .long x1_5), (0, .ref g.2.2.2.1), (3, .int x3), (4, .int x4)]) C.x C.b dX10_checksum_221 rfl hl (by decide) rfl (fun ls hl => ?_)
      refine lv_ldc2 C.x C.b C.o (C.t _ q2690) dX10_checksum_222 ?_
      refine lv_lload_n C.x C.b dX10_checksum_225 rfl (lv_at hl 0 rfl) ?_
      refine lv_lmul C.x C.b dX10_checksum_226 ?_
      refine lv_aload_n C.x C.b dX10_checksum_227 rfl (lv_at hl 1 rfl) ?_
      refine lv_aload_n C.x C.b dX10_checksum_228 rfl (lv_at hl 1 rfl) ?_
      refine tw_gf15 C hw hσ q2230 dX10_checksum_229 ?_
      refine lv_iload C.x C.b dX10_checksum_232 (lv_at hl 3 rfl) ?_
      refine tw_ld15 C hw hσ h dX10_checksum_234 (fun v_6 h => ?_)
      refine tw_call (y := yX10_settles) (bytes := cX10_settles) (maxL := 2) (fun v => some (.int v)) [.int v_6] (fun _ => True)  C hw XB.tt (fun _ _ _ => trivial) hσ hS hl.1 h (fun vv ss ee => kT_settles l g A v_6 σ_4 vv ss ee) (cwV 1 C.t (lw_V q2414 q2416 qs98 q159 q2417) rfl rfl rfl (by decide +kernel) ⟨Nat.le_trans (Nat.le_of_ble_eq_true rfl) hRf, Nat.le_trans (Nat.le_of_ble_eq_true rfl) hRl⟩) rfl rfl (Nat.le_of_ble_eq_true rfl) dX10_checksum_235 (fun v_7 σ_8 H locs h hσ hS => ?_)
      refine lv_i2l C.x C.b dX10_checksum_238 rfl ?_
      refine lv_ladd C.x C.b dX10_checksum_239 ?_
      refine tw_ltL h (fun x1_9 h => ?_)
      refine lv_lstore_n (lv' := [(1, .long x1_9), (0, .ref g.2.2.2.1), (3, .int x3), (4, .int x4)]) C.x C.b dX10_checksum_240 rfl hl (by decide) rfl (fun ls hl => ?_)
      obtain ⟨x4_10, e_, h⟩ := nm_s h
      refine lv_iinc (v := x4_10) (lv' := [(4, .int x4_10), (1, .long x1_9), (0, .ref g.2.2.2.1), (3, .int x3)]) C.x C.b dX10_checksum_241 hl (k := 3) rfl e_.symm (by decide) rfl (fun ls hl => ?_)
      refine lv_goto (tgt := 197) C.x C.b dX10_checksum_244 (by decide) ?_
      exact ih _ _ _ _ _ _ _ h hσ hS (lv_sub hl [2, 1, 3, 0] rfl)

theorem wT_checksum_85 {z : Int64 × twS} (C : CX p m meth c s args cX10_checksum 5 (some .long) RX10) (hw : WKt twL g A s s.heap) (hRf : 66 ≤ R.frames) (hRl : 1581 ≤ R.locals) : ∀ (n : Nat) (x1 : Int64) (x3 : Int32) (σ : twS) (H : Heap) (locs : List Loc) (ls : Array Slot), bT_checksum_85 n x1 x3 σ = some z → TI g A σ H → va_S A s.heap H locs → lv_has ls 5 [(0, .ref g.2.2.2.1), (1, .long x1), (3, .int x3)] → W p l e R s m args below meth c H locs 0 0 (MQ below (TQ g A (some (.long z.1)) z.2) args s 0 0 A) (F0 m 85 ls []) := by
  intro n
  induction n with
  | zero =>
    intro x1 x3 σ H locs ls h
    cases h
  | succ n ih =>
    intro x1 x3 σ H locs ls h hσ hS hl
    rw [bT_checksum_85] at h
    refine lv_iload_n C.x C.b dX10_checksum_85 rfl (lv_at hl 2 rfl) ?_
    refine lv_aload_n C.x C.b dX10_checksum_86 rfl (lv_at hl 0 rfl) ?_
    refine tw_gf0 C hw hσ q2215 dX10_checksum_87 ?_
    refine lv_bipush (v := 17) C.x C.b dX10_checksum_90 (by decide) ?_
    refine tw_ld0 C hw hσ h dX10_checksum_92 (fun v_1 h => ?_)
    refine lv_icmp_ge (tgt := 185) C.x C.b dX10_checksum_93 (by decide) (fun c_2 => ?_) (fun c_2 => ?_)
    · have h := ip c_2 h
      refine lv_aload_n C.x C.b dX10_checksum_185 rfl (lv_at hl 0 rfl) ?_
      refine tw_call (y := yX10_setsOut) (bytes := cX10_setsOut) (maxL := 4) (fun _ => none) [] (fun _ => True)  C hw XB.tt (fun _ _ _ => trivial) hσ hS hl.1 h (fun vv ss ee => kT_setsOut l g A σ vv ss ee) (cwV 0 C.t (lw_V q2338 q2340 qs83 q159 q2341) rfl rfl rfl (by decide +kernel) ⟨Nat.le_trans (Nat.le_of_ble_eq_true rfl) hRf, Nat.le_trans (Nat.le_of_ble_eq_true rfl) hRl⟩) rfl rfl (Nat.le_of_ble_eq_true rfl) dX10_checksum_186 (fun _ σ_3 H locs h hσ hS => ?_)
      refine lv_aload_n C.x C.b dX10_checksum_189 rfl (lv_at hl 0 rfl) ?_
      refine tw_call (y := yX10_cases) (bytes := cX10_cases) (maxL := 3) (fun v => some (.int v)) [] (fun _ => True)  C hw XB.tt (fun _ _ _ => trivial) hσ hS hl.1 h (fun vv ss ee => kT_cases l g A σ_3 vv ss ee) (cwV 0 C.t (lw_V q2334 q2336 qs82 q159 q2337) rfl rfl rfl (by decide +kernel) ⟨Nat.le_trans (Nat.le_of_ble_eq_true rfl) hRf, Nat.le_trans (Nat.le_of_ble_eq_true rfl) hRl⟩) rfl rfl (Nat.le_of_ble_eq_true rfl) dX10_checksum_190 (fun v_4 σ_5 H locs h hσ hS => ?_)
      refine lv_istore_n (lv' := [(3, .int v_4), (0, .ref g.2.2.2.1), (1, .long x1)]) C.x C.b dX10_checksum_193 rfl hl (by decide) rfl (fun ls hl => ?_)
      refine lv_iconst (v := 0) C.x C.b dX10_checksum_194 (by decide) ?_
      refine lv_istore (lv' := [(4, .int 0), (3, .int v_4), (0, .ref g.2.2.2.1), (1, .long x1)]) C.x C.b dX10_checksum_195 hl (by decide) rfl (fun ls hl => ?_)
      exact wT_checksum_197 C hw hRf hRl _ _ _ _ _ _ _ _ h hσ hS (lv_sub hl [2, 3, 1, 0] rfl)
    · have h := iN c_2 h
      refine lv_iconst (v := 0) C.x C.b dX10_checksum_96 (by decide) ?_
      refine lv_istore (lv' := [(4, .int 0), (0, .ref g.2.2.2.1), (1, .long x1), (3, .int x3)]) C.x C.b dX10_checksum_97 hl (by decide) rfl (fun ls hl => ?_)
      exact wT_checksum_99 C hw hRf hRl (fun y0 y1 σ H locs ls h hσ hS hl => ih y0 y1 σ H locs ls h hσ hS hl) _ _ _ _ _ _ _ _ h hσ hS (lv_sub hl [1, 2, 3, 0] rfl)

theorem wT_checksum_36 {z : Int64 × twS} (C : CX p m meth c s args cX10_checksum 5 (some .long) RX10) (hw : WKt twL g A s s.heap) (hRf : 66 ≤ R.frames) (hRl : 1581 ≤ R.locals) : ∀ (n : Nat) (x1 : Int64) (x3 : Int32) (σ : twS) (H : Heap) (locs : List Loc) (ls : Array Slot), bT_checksum_36 n x1 x3 σ = some z → TI g A σ H → va_S A s.heap H locs → lv_has ls 5 [(0, .ref g.2.2.2.1), (1, .long x1), (3, .int x3)] → W p l e R s m args below meth c H locs 0 0 (MQ below (TQ g A (some (.long z.1)) z.2) args s 0 0 A) (F0 m 36 ls []) := by
  intro n
  induction n with
  | zero =>
    intro x1 x3 σ H locs ls h
    cases h
  | succ n ih =>
    intro x1 x3 σ H locs ls h hσ hS hl
    rw [bT_checksum_36] at h
    refine lv_iload_n C.x C.b dX10_checksum_36 rfl (lv_at hl 2 rfl) ?_
    refine lv_aload_n C.x C.b dX10_checksum_37 rfl (lv_at hl 0 rfl) ?_
    refine tw_gf0 C hw hσ q2215 dX10_checksum_38 ?_
    refine lv_iconst (v := 5) C.x C.b dX10_checksum_41 (by decide) ?_
    refine tw_ld0 C hw hσ h dX10_checksum_42 (fun v_1 h => ?_)
    refine lv_icmp_ge (tgt := 83) C.x C.b dX10_checksum_43 (by decide) (fun c_2 => ?_) (fun c_2 => ?_)
    · have h := ip c_2 h
      refine lv_iconst (v := 0) C.x C.b dX10_checksum_83 (by decide) ?_
      refine lv_istore_n (lv' := [(3, .int 0), (0, .ref g.2.2.2.1), (1, .long x1)]) C.x C.b dX10_checksum_84 rfl hl (by decide) rfl (fun ls hl => ?_)
      exact wT_checksum_85 C hw hRf hRl _ _ _ _ _ _ _ h hσ hS (lv_sub hl [1, 2, 0] rfl)
    · have h := iN c_2 h
      refine lv_iconst (v := 0) C.x C.b dX10_checksum_46 (by decide) ?_
      refine lv_istore (lv' := [(4, .int 0), (0, .ref g.2.2.2.1), (1, .long x1), (3, .int x3)]) C.x C.b dX10_checksum_47 hl (by decide) rfl (fun ls hl => ?_)
      exact wT_checksum_49 C hw hRf hRl (fun y0 y1 σ H locs ls h hσ hS hl => ih y0 y1 σ H locs ls h hσ hS hl) _ _ _ _ _ _ _ _ h hσ hS (lv_sub hl [1, 2, 3, 0] rfl)

theorem wT_checksum_9 {z : Int64 × twS} (C : CX p m meth c s args cX10_checksum 5 (some .long) RX10) (hw : WKt twL g A s s.heap) (hRf : 66 ≤ R.frames) (hRl : 1581 ≤ R.locals) : ∀ (n : Nat) (x1 : Int64) (x3 : Int32) (σ : twS) (H : Heap) (locs : List Loc) (ls : Array Slot), bT_checksum_9 n x1 x3 σ = some z → TI g A σ H → va_S A s.heap H locs → lv_has ls 5 [(0, .ref g.2.2.2.1), (1, .long x1), (3, .int x3)] → W p l e R s m args below meth c H locs 0 0 (MQ below (TQ g A (some (.long z.1)) z.2) args s 0 0 A) (F0 m 9 ls []) := by
  intro n
  induction n with
  | zero =>
    intro x1 x3 σ H locs ls h
    cases h
  | succ n ih =>
    intro x1 x3 σ H locs ls h hσ hS hl
    rw [bT_checksum_9] at h
    refine lv_iload_n C.x C.b dX10_checksum_9 rfl (lv_at hl 2 rfl) ?_
    refine lv_bipush (v := 11) C.x C.b dX10_checksum_10 (by decide) ?_
    refine lv_icmp_ge (tgt := 34) C.x C.b dX10_checksum_12 (by decide) (fun c_1 => ?_) (fun c_1 => ?_)
    · have h := ip c_1 h
      refine lv_iconst (v := 0) C.x C.b dX10_checksum_34 (by decide) ?_
      refine lv_istore_n (lv' := [(3, .int 0), (0, .ref g.2.2.2.1), (1, .long x1)]) C.x C.b dX10_checksum_35 rfl hl (by decide) rfl (fun ls hl => ?_)
      exact wT_checksum_36 C hw hRf hRl _ _ _ _ _ _ _ h hσ hS (lv_sub hl [1, 2, 0] rfl)
    · have h := iN c_1 h
      refine lv_ldc2 C.x C.b C.o (C.t _ q2690) dX10_checksum_15 ?_
      refine lv_lload_n C.x C.b dX10_checksum_18 rfl (lv_at hl 1 rfl) ?_
      refine lv_lmul C.x C.b dX10_checksum_19 ?_
      refine lv_aload_n C.x C.b dX10_checksum_20 rfl (lv_at hl 0 rfl) ?_
      refine lv_iload_n C.x C.b dX10_checksum_21 rfl (lv_at hl 2 rfl) ?_
      refine tw_call (y := yX10_sizeOf) (bytes := cX10_sizeOf) (maxL := 2) (fun v => some (.int v)) [.int x3] (fun _ => True)  C hw XB.tt (fun _ _ _ => trivial) hσ hS hl.1 h (fun vv ss ee => kT_sizeOf l g A x3 σ vv ss ee) (cwV 1 C.t (lw_V q2330 q2332 qs81 q159 q2333) rfl rfl rfl (by decide +kernel) ⟨Nat.le_trans (Nat.le_of_ble_eq_true rfl) hRf, Nat.le_trans (Nat.le_of_ble_eq_true rfl) hRl⟩) rfl rfl (Nat.le_of_ble_eq_true rfl) dX10_checksum_22 (fun v_2 σ_3 H locs h hσ hS => ?_)
      refine lv_i2l C.x C.b dX10_checksum_25 rfl ?_
      refine lv_ladd C.x C.b dX10_checksum_26 ?_
      refine tw_ltL h (fun x1_4 h => ?_)
      refine lv_lstore_n (lv' := [(1, .long x1_4), (0, .ref g.2.2.2.1), (3, .int x3)]) C.x C.b dX10_checksum_27 rfl hl (by decide) rfl (fun ls hl => ?_)
      obtain ⟨x3_5, e_, h⟩ := nm_s h
      refine lv_iinc (v := x3_5) (lv' := [(3, .int x3_5), (1, .long x1_4), (0, .ref g.2.2.2.1)]) C.x C.b dX10_checksum_28 hl (k := 2) rfl e_.symm (by decide) rfl (fun ls hl => ?_)
      refine lv_goto (tgt := 9) C.x C.b dX10_checksum_31 (by decide) ?_
      exact ih _ _ _ _ _ _ h hσ hS (lv_sub hl [2, 1, 0] rfl)

theorem kT_checksum (l : Launch) (g : twG) (A : Nat → Prop) (σ : twS) (v : Int64) (σ1 : twS) (h : mT_checksum σ = some (v, σ1)) : Met l yX10_checksum (ws_ yX10_checksum cX10_checksum 5 (some .long)) ({ frames := 66, cells := 0, slots := 0, locals := 1581 }) (TPc twL g A [.ref g.2.2.2.1] (fun _ => True) σ) (TQ g A (some (.long v)) σ1) 0 0 A := by
  refine Met.ofW (cc := cX10_checksum) (maxL := 5) (ret := (some .long)) (by decide) rfl ?_
  intro p e s m args below meth c s₁ B hml hv
  obtain ⟨rfl, hw, hX, hσ⟩ := hv
  have hts := atoms_spec (ws := (ws_ yX10_checksum cX10_checksum 5 (some .long))) B.pre
  have C : CX p m meth c s ([.ref g.2.2.2.1] : List Value).toArray cX10_checksum 5 (some .long) RX10 := ⟨⟨B.exec, B.bytes, hml, findClass_of_methodNamed B.named, fun w h => hts w (List.mem_cons_of_mem _ h)⟩, B.returns, B.notSynchronized⟩
  have hRf : 66 ≤ (headSpec (ws_ yX10_checksum cX10_checksum 5 (some .long)) ({ frames := 66, cells := 0, slots := 0, locals := 1581 })).room.frames := Nat.le_refl _
  have hRl : 1581 ≤ (headSpec (ws_ yX10_checksum cX10_checksum 5 (some .long)) ({ frames := 66, cells := 0, slots := 0, locals := 1581 })).room.locals := Nat.le_refl _
  generalize (headSpec (ws_ yX10_checksum cX10_checksum 5 (some .long)) ({ frames := 66, cells := 0, slots := 0, locals := 1581 })).room = R at hRf hRl ⊢
  have hS : va_S A s.heap s.heap [] := va_S.rf
  have hl := lv_entry ([.ref g.2.2.2.1]) (n := 5) (Nat.le_of_ble_eq_true rfl)
  rw [lg_entry_eq]
  generalize (lg_sl ([.ref g.2.2.2.1]) ++ List.replicate (5 - (lg_sl ([.ref g.2.2.2.1])).length) Slot.unset).toArray = ls at hl ⊢
  have hl : lv_has ls 5 [(0, .ref g.2.2.2.1)] := hl
  obtain ⟨z, hz⟩ : ∃ z, z = (v, σ1) := ⟨_, rfl⟩
  rw [← hz] at h
  rw [show v = z.1 by rw [hz], show σ1 = z.2 by rw [hz]]
  clear hz v σ1
  unfold mT_checksum at h
  refine lv_aload_n C.x C.b dX10_checksum_0 rfl (lv_at hl 0 rfl) ?_
  refine lv_iconst (v := 0) C.x C.b dX10_checksum_1 (by decide) ?_
  refine tw_pf13 C hw hσ hS q2228 dX10_checksum_2 (fun H locs hσ hS => ?_)
  obtain ⟨σ_1, e_, h⟩ := nm_s h
  rw [← e_] at hσ
  clear e_
  refine lv_lconst (v := 0) C.x C.b dX10_checksum_5 (by decide) ?_
  refine lv_lstore_n (lv' := [(1, .long 0), (0, .ref g.2.2.2.1)]) C.x C.b dX10_checksum_6 rfl hl (by decide) rfl (fun ls hl => ?_)
  refine lv_iconst (v := 0) C.x C.b dX10_checksum_7 (by decide) ?_
  refine lv_istore_n (lv' := [(3, .int 0), (1, .long 0), (0, .ref g.2.2.2.1)]) C.x C.b dX10_checksum_8 rfl hl (by decide) rfl (fun ls hl => ?_)
  exact wT_checksum_9 C hw hRf hRl _ _ _ _ _ _ _ h hσ hS (lv_sub hl [2, 1, 0] rfl)

end
