/-! THE TWIN's WALKS 3: printed by gentw.py -/
section
variable {p : Program} {l : Launch} {e : Env} {R : Room} {s : State} {m : MethodId} {args : Array Value} {below : List Frame} {meth : Method} {c : Code} {g : twG} {A : Nat → Prop}
set_option maxRecDepth 100000
theorem wT_applies_27 {z : Int32 × twS} (C : CX p m meth c s args cX10_applies 3 (some .boolean) RX10) (hw : WKt twL g A s s.heap) (hRf : 4 ≤ R.frames) (hRl : 99 ≤ R.locals) : ∀ (x1 : Int32) (x2 : Int32) (s1 : Int32) (s2 : Int32) (σ : twS) (H : Heap) (locs : List Loc) (ls : Array Slot), bT_applies_27 x1 x2 s1 s2 σ = some z → TI g A σ H → va_S A s.heap H locs → lv_has ls 3 [(0, .ref g.2.2.2.1), (1, .int x1), (2, .int x2)] → W p l e R s m args below meth c H locs 0 0 (MQ below (TQ g A (some (.int z.1)) z.2) args s 0 0 A) (F0 m 27 ls [.int s2, .int s1, .ref g.2.2.2.1]) := by
  intro x1 x2 s1 s2 σ H locs ls h hσ hS hl
  unfold bT_applies_27 at h
  refine tw_call (y := yX10_throwsOne_2) (bytes := cX10_throwsOne_2) (maxL := 3) (fun v => some (.int v)) [.int s1, .int s2] (fun _ => True)  C hw XB.tt (fun _ _ _ => trivial) hσ hS hl.1 h (fun vv ss ee => kT_throwsOne_2 l g A s1 s2 σ vv ss ee) (cwV 2 C.t (lw_V q2394 q2396 qs94 q159 q2397) rfl rfl rfl (by decide +kernel) ⟨Nat.le_trans (Nat.le_of_ble_eq_true rfl) hRf, Nat.le_trans (Nat.le_of_ble_eq_true rfl) hRl⟩) rfl rfl (Nat.le_of_ble_eq_true rfl) dX10_applies_27 (fun v_1 σ_2 H locs h hσ hS => ?_)
  refine lv_if_ne (tgt := 46) C.x C.b dX10_applies_30 (by decide) (fun c_3 => ?_) (fun c_3 => ?_)
  · have h := iN c_3 h
    refine lv_iconst (v := 0) C.x C.b dX10_applies_46 (by decide) ?_
    exact tw_zret C hσ hS h dX10_applies_47
  · have h := ip c_3 h
    refine lv_aload_n C.x C.b dX10_applies_33 rfl (lv_at hl 0 rfl) ?_
    refine lv_iload_n C.x C.b dX10_applies_34 rfl (lv_at hl 2 rfl) ?_
    refine lv_iload_n C.x C.b dX10_applies_35 rfl (lv_at hl 1 rfl) ?_
    refine tw_call (y := yX10_holds) (bytes := cX10_holds) (maxL := 6) (fun v => some (.int v)) [.int x2, .int x1] (fun _ => True)  C hw XB.tt (fun _ _ _ => trivial) hσ hS hl.1 h (fun vv ss ee => kT_holds l g A x2 x1 σ_2 vv ss ee) (cwV 2 C.t (lw_V q2342 q2344 qs84 q159 q2345) rfl rfl rfl (by decide +kernel) ⟨Nat.le_trans (Nat.le_of_ble_eq_true rfl) hRf, Nat.le_trans (Nat.le_of_ble_eq_true rfl) hRl⟩) rfl rfl (Nat.le_of_ble_eq_true rfl) dX10_applies_36 (fun v_4 σ_5 H locs h hσ hS => ?_)
    refine lv_if_eq (tgt := 46) C.x C.b dX10_applies_39 (by decide) (fun c_6 => ?_) (fun c_6 => ?_)
    · have h := ip c_6 h
      refine lv_iconst (v := 0) C.x C.b dX10_applies_46 (by decide) ?_
      exact tw_zret C hσ hS h dX10_applies_47
    · have h := iN c_6 h
      refine lv_iconst (v := 1) C.x C.b dX10_applies_42 (by decide) ?_
      refine lv_goto (tgt := 47) C.x C.b dX10_applies_43 (by decide) ?_
      exact tw_zret C hσ hS h dX10_applies_47

theorem wT_applies_14 {z : Int32 × twS} (C : CX p m meth c s args cX10_applies 3 (some .boolean) RX10) (hw : WKt twL g A s s.heap) (hRf : 4 ≤ R.frames) (hRl : 99 ≤ R.locals) : ∀ (x1 : Int32) (x2 : Int32) (s1 : Int32) (σ : twS) (H : Heap) (locs : List Loc) (ls : Array Slot), bT_applies_14 x1 x2 s1 σ = some z → TI g A σ H → va_S A s.heap H locs → lv_has ls 3 [(0, .ref g.2.2.2.1), (1, .int x1), (2, .int x2)] → W p l e R s m args below meth c H locs 0 0 (MQ below (TQ g A (some (.int z.1)) z.2) args s 0 0 A) (F0 m 14 ls [.int s1, .ref g.2.2.2.1]) := by
  intro x1 x2 s1 σ H locs ls h hσ hS hl
  unfold bT_applies_14 at h
  refine lv_aload_n C.x C.b dX10_applies_14 rfl (lv_at hl 0 rfl) ?_
  refine lv_iload_n C.x C.b dX10_applies_15 rfl (lv_at hl 2 rfl) ?_
  refine tw_call (y := yX10_isRule) (bytes := cX10_isRule) (maxL := 2) (fun v => some (.int v)) [.int x2] (fun _ => True)  C hw XB.tt (fun _ _ _ => trivial) hσ hS hl.1 h (fun vv ss ee => kT_isRule l g A x2 σ vv ss ee) (cwV 1 C.t (lw_V q2435 q2437 qs102 q159 q2438) rfl rfl rfl (by decide +kernel) ⟨Nat.le_trans (Nat.le_of_ble_eq_true rfl) hRf, Nat.le_trans (Nat.le_of_ble_eq_true rfl) hRl⟩) rfl rfl (Nat.le_of_ble_eq_true rfl) dX10_applies_16 (fun v_1 σ_2 H locs h hσ hS => ?_)
  refine lv_if_ne (tgt := 26) C.x C.b dX10_applies_19 (by decide) (fun c_3 => ?_) (fun c_3 => ?_)
  · have h := iN c_3 h
    refine lv_iconst (v := 0) C.x C.b dX10_applies_26 (by decide) ?_
    exact wT_applies_27 C hw hRf hRl _ _ _ _ _ _ _ _ h hσ hS (lv_sub hl [0, 1, 2] rfl)
  · have h := ip c_3 h
    refine lv_iconst (v := 1) C.x C.b dX10_applies_22 (by decide) ?_
    refine lv_goto (tgt := 27) C.x C.b dX10_applies_23 (by decide) ?_
    exact wT_applies_27 C hw hRf hRl _ _ _ _ _ _ _ _ h hσ hS (lv_sub hl [0, 1, 2] rfl)

theorem kT_applies (l : Launch) (g : twG) (A : Nat → Prop) (x1 : Int32) (x2 : Int32) (σ : twS) (v : Int32) (σ1 : twS) (h : mT_applies x1 x2 σ = some (v, σ1)) : Met l yX10_applies (ws_ yX10_applies cX10_applies 3 (some .boolean)) ({ frames := 4, cells := 0, slots := 0, locals := 99 }) (TPc twL g A [.ref g.2.2.2.1, .int x1, .int x2] (fun _ => True) σ) (TQ g A (some (.int v)) σ1) 0 0 A := by
  refine Met.ofW (cc := cX10_applies) (maxL := 3) (ret := (some .boolean)) (by decide) rfl ?_
  intro p e s m args below meth c s₁ B hml hv
  obtain ⟨rfl, hw, hX, hσ⟩ := hv
  have hts := atoms_spec (ws := (ws_ yX10_applies cX10_applies 3 (some .boolean))) B.pre
  have C : CX p m meth c s ([.ref g.2.2.2.1, .int x1, .int x2] : List Value).toArray cX10_applies 3 (some .boolean) RX10 := ⟨⟨B.exec, B.bytes, hml, findClass_of_methodNamed B.named, fun w h => hts w (List.mem_cons_of_mem _ h)⟩, B.returns, B.notSynchronized⟩
  have hRf : 4 ≤ (headSpec (ws_ yX10_applies cX10_applies 3 (some .boolean)) ({ frames := 4, cells := 0, slots := 0, locals := 99 })).room.frames := Nat.le_refl _
  have hRl : 99 ≤ (headSpec (ws_ yX10_applies cX10_applies 3 (some .boolean)) ({ frames := 4, cells := 0, slots := 0, locals := 99 })).room.locals := Nat.le_refl _
  generalize (headSpec (ws_ yX10_applies cX10_applies 3 (some .boolean)) ({ frames := 4, cells := 0, slots := 0, locals := 99 })).room = R at hRf hRl ⊢
  have hS : va_S A s.heap s.heap [] := va_S.rf
  have hl := lv_entry ([.ref g.2.2.2.1, .int x1, .int x2]) (n := 3) (Nat.le_of_ble_eq_true rfl)
  rw [lg_entry_eq]
  generalize (lg_sl ([.ref g.2.2.2.1, .int x1, .int x2]) ++ List.replicate (3 - (lg_sl ([.ref g.2.2.2.1, .int x1, .int x2])).length) Slot.unset).toArray = ls at hl ⊢
  have hl : lv_has ls 3 [(0, .ref g.2.2.2.1), (1, .int x1), (2, .int x2)] := hl
  obtain ⟨z, hz⟩ : ∃ z, z = (v, σ1) := ⟨_, rfl⟩
  rw [← hz] at h
  rw [show v = z.1 by rw [hz], show σ1 = z.2 by rw [hz]]
  clear hz v σ1
  unfold mT_applies at h
  refine lv_aload_n C.x C.b dX10_applies_0 rfl (lv_at hl 0 rfl) ?_
  refine lv_aload_n C.x C.b dX10_applies_1 rfl (lv_at hl 0 rfl) ?_
  refine lv_iload_n C.x C.b dX10_applies_2 rfl (lv_at hl 1 rfl) ?_
  refine tw_call (y := yX10_isCase) (bytes := cX10_isCase) (maxL := 2) (fun v => some (.int v)) [.int x1] (fun _ => True)  C hw XB.tt (fun _ _ _ => trivial) hσ hS hl.1 h (fun vv ss ee => kT_isCase l g A x1 σ vv ss ee) (cwV 1 C.t (lw_V q2390 q2392 qs93 q159 q2393) rfl rfl rfl (by decide +kernel) ⟨Nat.le_trans (Nat.le_of_ble_eq_true rfl) hRf, Nat.le_trans (Nat.le_of_ble_eq_true rfl) hRl⟩) rfl rfl (Nat.le_of_ble_eq_true rfl) dX10_applies_3 (fun v_1 σ_2 H locs h hσ hS => ?_)
  refine lv_if_ne (tgt := 13) C.x C.b dX10_applies_6 (by decide) (fun c_3 => ?_) (fun c_3 => ?_)
  · have h := iN c_3 h
    refine lv_iconst (v := 0) C.x C.b dX10_applies_13 (by decide) ?_
    exact wT_applies_14 C hw hRf hRl _ _ _ _ _ _ _ h hσ hS (lv_sub hl [0, 1, 2] rfl)
  · have h := ip c_3 h
    refine lv_iconst (v := 1) C.x C.b dX10_applies_9 (by decide) ?_
    refine lv_goto (tgt := 14) C.x C.b dX10_applies_10 (by decide) ?_
    exact wT_applies_14 C hw hRf hRl _ _ _ _ _ _ _ h hσ hS (lv_sub hl [0, 1, 2] rfl)

theorem wT_applying_14 {z : Int32 × twS} (C : CX p m meth c s args cX10_applying 2 (some .int) RX10) (hw : WKt twL g A s s.heap) (hRf : 5 ≤ R.frames) (hRl : 122 ≤ R.locals) : ∀ (x1 : Int32) (s1 : Int32) (σ : twS) (H : Heap) (locs : List Loc) (ls : Array Slot), bT_applying_14 x1 s1 σ = some z → TI g A σ H → va_S A s.heap H locs → lv_has ls 2 [(0, .ref g.2.2.2.1), (1, .int x1)] → W p l e R s m args below meth c H locs 0 0 (MQ below (TQ g A (some (.int z.1)) z.2) args s 0 0 A) (F0 m 14 ls [.int s1, .ref g.2.2.2.1]) := by
  intro x1 s1 σ H locs ls h hσ hS hl
  unfold bT_applying_14 at h
  refine tw_call (y := yX10_throwsOne) (bytes := cX10_throwsOne) (maxL := 2) (fun v => some (.int v)) [.int s1] (fun _ => True)  C hw XB.tt (fun _ _ _ => trivial) hσ hS hl.1 h (fun vv ss ee => kT_throwsOne l g A s1 σ vv ss ee) (cwV 1 C.t (lw_V q2314 q2316 qs79 q159 q2317) rfl rfl rfl (by decide +kernel) ⟨Nat.le_trans (Nat.le_of_ble_eq_true rfl) hRf, Nat.le_trans (Nat.le_of_ble_eq_true rfl) hRl⟩) rfl rfl (Nat.le_of_ble_eq_true rfl) dX10_applying_14 (fun v_1 σ_2 H locs h hσ hS => ?_)
  refine lv_if_eq (tgt := 24) C.x C.b dX10_applying_17 (by decide) (fun c_3 => ?_) (fun c_3 => ?_)
  · have h := ip c_3 h
    refine lv_aload_n C.x C.b dX10_applying_24 rfl (lv_at hl 0 rfl) ?_
    refine lv_iload_n C.x C.b dX10_applying_25 rfl (lv_at hl 1 rfl) ?_
    refine tw_call (y := yX10_setOf) (bytes := cX10_setOf) (maxL := 4) (fun v => some (.int v)) [.int x1] (fun _ => True)  C hw XB.tt (fun _ _ _ => trivial) hσ hS hl.1 h (fun vv ss ee => kT_setOf l g A x1 σ_2 vv ss ee) (cwV 1 C.t (lw_V q2410 q2412 qs97 q159 q2413) rfl rfl rfl (by decide +kernel) ⟨Nat.le_trans (Nat.le_of_ble_eq_true rfl) hRf, Nat.le_trans (Nat.le_of_ble_eq_true rfl) hRl⟩) rfl rfl (Nat.le_of_ble_eq_true rfl) dX10_applying_26 (fun v_4 σ_5 H locs h hσ hS => ?_)
    exact tw_iret C hσ hS h dX10_applying_29
  · have h := iN c_3 h
    refine lv_iconst (v := 0) C.x C.b dX10_applying_20 (by decide) ?_
    refine lv_goto (tgt := 29) C.x C.b dX10_applying_21 (by decide) ?_
    exact tw_iret C hσ hS h dX10_applying_29

theorem kT_applying (l : Launch) (g : twG) (A : Nat → Prop) (x1 : Int32) (σ : twS) (v : Int32) (σ1 : twS) (h : mT_applying x1 σ = some (v, σ1)) : Met l yX10_applying (ws_ yX10_applying cX10_applying 2 (some .int)) ({ frames := 5, cells := 0, slots := 0, locals := 122 }) (TPc twL g A [.ref g.2.2.2.1, .int x1] (fun _ => True) σ) (TQ g A (some (.int v)) σ1) 0 0 A := by
  refine Met.ofW (cc := cX10_applying) (maxL := 2) (ret := (some .int)) (by decide) rfl ?_
  intro p e s m args below meth c s₁ B hml hv
  obtain ⟨rfl, hw, hX, hσ⟩ := hv
  have hts := atoms_spec (ws := (ws_ yX10_applying cX10_applying 2 (some .int))) B.pre
  have C : CX p m meth c s ([.ref g.2.2.2.1, .int x1] : List Value).toArray cX10_applying 2 (some .int) RX10 := ⟨⟨B.exec, B.bytes, hml, findClass_of_methodNamed B.named, fun w h => hts w (List.mem_cons_of_mem _ h)⟩, B.returns, B.notSynchronized⟩
  have hRf : 5 ≤ (headSpec (ws_ yX10_applying cX10_applying 2 (some .int)) ({ frames := 5, cells := 0, slots := 0, locals := 122 })).room.frames := Nat.le_refl _
  have hRl : 122 ≤ (headSpec (ws_ yX10_applying cX10_applying 2 (some .int)) ({ frames := 5, cells := 0, slots := 0, locals := 122 })).room.locals := Nat.le_refl _
  generalize (headSpec (ws_ yX10_applying cX10_applying 2 (some .int)) ({ frames := 5, cells := 0, slots := 0, locals := 122 })).room = R at hRf hRl ⊢
  have hS : va_S A s.heap s.heap [] := va_S.rf
  have hl := lv_entry ([.ref g.2.2.2.1, .int x1]) (n := 2) (Nat.le_of_ble_eq_true rfl)
  rw [lg_entry_eq]
  generalize (lg_sl ([.ref g.2.2.2.1, .int x1]) ++ List.replicate (2 - (lg_sl ([.ref g.2.2.2.1, .int x1])).length) Slot.unset).toArray = ls at hl ⊢
  have hl : lv_has ls 2 [(0, .ref g.2.2.2.1), (1, .int x1)] := hl
  obtain ⟨z, hz⟩ : ∃ z, z = (v, σ1) := ⟨_, rfl⟩
  rw [← hz] at h
  rw [show v = z.1 by rw [hz], show σ1 = z.2 by rw [hz]]
  clear hz v σ1
  unfold mT_applying at h
  refine lv_aload_n C.x C.b dX10_applying_0 rfl (lv_at hl 0 rfl) ?_
  refine lv_aload_n C.x C.b dX10_applying_1 rfl (lv_at hl 0 rfl) ?_
  refine lv_iload_n C.x C.b dX10_applying_2 rfl (lv_at hl 1 rfl) ?_
  refine tw_call (y := yX10_isCase) (bytes := cX10_isCase) (maxL := 2) (fun v => some (.int v)) [.int x1] (fun _ => True)  C hw XB.tt (fun _ _ _ => trivial) hσ hS hl.1 h (fun vv ss ee => kT_isCase l g A x1 σ vv ss ee) (cwV 1 C.t (lw_V q2390 q2392 qs93 q159 q2393) rfl rfl rfl (by decide +kernel) ⟨Nat.le_trans (Nat.le_of_ble_eq_true rfl) hRf, Nat.le_trans (Nat.le_of_ble_eq_true rfl) hRl⟩) rfl rfl (Nat.le_of_ble_eq_true rfl) dX10_applying_3 (fun v_1 σ_2 H locs h hσ hS => ?_)
  refine lv_if_ne (tgt := 13) C.x C.b dX10_applying_6 (by decide) (fun c_3 => ?_) (fun c_3 => ?_)
  · have h := iN c_3 h
    refine lv_iconst (v := 0) C.x C.b dX10_applying_13 (by decide) ?_
    exact wT_applying_14 C hw hRf hRl _ _ _ _ _ _ h hσ hS (lv_sub hl [0, 1] rfl)
  · have h := ip c_3 h
    refine lv_iconst (v := 1) C.x C.b dX10_applying_9 (by decide) ?_
    refine lv_goto (tgt := 14) C.x C.b dX10_applying_10 (by decide) ?_
    exact wT_applying_14 C hw hRf hRl _ _ _ _ _ _ h hσ hS (lv_sub hl [0, 1] rfl)

theorem wT_verdict_14 {z : Int32 × twS} (C : CX p m meth c s args cX10_verdict 2 (some .int) RX10) (hw : WKt twL g A s s.heap) (hRf : 6 ≤ R.frames) (hRl : 135 ≤ R.locals) : ∀ (x1 : Int32) (s1 : Int32) (σ : twS) (H : Heap) (locs : List Loc) (ls : Array Slot), bT_verdict_14 x1 s1 σ = some z → TI g A σ H → va_S A s.heap H locs → lv_has ls 2 [(0, .ref g.2.2.2.1), (1, .int x1)] → W p l e R s m args below meth c H locs 0 0 (MQ below (TQ g A (some (.int z.1)) z.2) args s 0 0 A) (F0 m 14 ls [.int s1, .ref g.2.2.2.1]) := by
  intro x1 s1 σ H locs ls h hσ hS hl
  unfold bT_verdict_14 at h
  refine tw_call (y := yX10_throwsOne) (bytes := cX10_throwsOne) (maxL := 2) (fun v => some (.int v)) [.int s1] (fun _ => True)  C hw XB.tt (fun _ _ _ => trivial) hσ hS hl.1 h (fun vv ss ee => kT_throwsOne l g A s1 σ vv ss ee) (cwV 1 C.t (lw_V q2314 q2316 qs79 q159 q2317) rfl rfl rfl (by decide +kernel) ⟨Nat.le_trans (Nat.le_of_ble_eq_true rfl) hRf, Nat.le_trans (Nat.le_of_ble_eq_true rfl) hRl⟩) rfl rfl (Nat.le_of_ble_eq_true rfl) dX10_verdict_14 (fun v_1 σ_2 H locs h hσ hS => ?_)
  refine lv_if_eq (tgt := 24) C.x C.b dX10_verdict_17 (by decide) (fun c_3 => ?_) (fun c_3 => ?_)
  · have h := ip c_3 h
    refine lv_aload_n C.x C.b dX10_verdict_24 rfl (lv_at hl 0 rfl) ?_
    refine lv_aload_n C.x C.b dX10_verdict_25 rfl (lv_at hl 0 rfl) ?_
    refine lv_iload_n C.x C.b dX10_verdict_26 rfl (lv_at hl 1 rfl) ?_
    refine tw_call (y := yX10_setOf) (bytes := cX10_setOf) (maxL := 4) (fun v => some (.int v)) [.int x1] (fun _ => True)  C hw XB.tt (fun _ _ _ => trivial) hσ hS hl.1 h (fun vv ss ee => kT_setOf l g A x1 σ_2 vv ss ee) (cwV 1 C.t (lw_V q2410 q2412 qs97 q159 q2413) rfl rfl rfl (by decide +kernel) ⟨Nat.le_trans (Nat.le_of_ble_eq_true rfl) hRf, Nat.le_trans (Nat.le_of_ble_eq_true rfl) hRl⟩) rfl rfl (Nat.le_of_ble_eq_true rfl) dX10_verdict_27 (fun v_4 σ_5 H locs h hσ hS => ?_)
    refine tw_call (y := yX10_verdictOf) (bytes := cX10_verdictOf) (maxL := 3) (fun v => some (.int v)) [.int v_4] (fun _ => True)  C hw XB.tt (fun _ _ _ => trivial) hσ hS hl.1 h (fun vv ss ee => kT_verdictOf l g A v_4 σ_5 vv ss ee) (cwV 1 C.t (lw_V q2363 q2365 qs89 q159 q2366) rfl rfl rfl (by decide +kernel) ⟨Nat.le_trans (Nat.le_of_ble_eq_true rfl) hRf, Nat.le_trans (Nat.le_of_ble_eq_true rfl) hRl⟩) rfl rfl (Nat.le_of_ble_eq_true rfl) dX10_verdict_30 (fun v_6 σ_7 H locs h hσ hS => ?_)
    exact tw_iret C hσ hS h dX10_verdict_33
  · have h := iN c_3 h
    refine lv_iconst (v := 0) C.x C.b dX10_verdict_20 (by decide) ?_
    refine lv_goto (tgt := 33) C.x C.b dX10_verdict_21 (by decide) ?_
    exact tw_iret C hσ hS h dX10_verdict_33

theorem kT_verdict (l : Launch) (g : twG) (A : Nat → Prop) (x1 : Int32) (σ : twS) (v : Int32) (σ1 : twS) (h : mT_verdict x1 σ = some (v, σ1)) : Met l yX10_verdict (ws_ yX10_verdict cX10_verdict 2 (some .int)) ({ frames := 6, cells := 0, slots := 0, locals := 135 }) (TPc twL g A [.ref g.2.2.2.1, .int x1] (fun _ => True) σ) (TQ g A (some (.int v)) σ1) 0 0 A := by
  refine Met.ofW (cc := cX10_verdict) (maxL := 2) (ret := (some .int)) (by decide) rfl ?_
  intro p e s m args below meth c s₁ B hml hv
  obtain ⟨rfl, hw, hX, hσ⟩ := hv
  have hts := atoms_spec (ws := (ws_ yX10_verdict cX10_verdict 2 (some .int))) B.pre
  have C : CX p m meth c s ([.ref g.2.2.2.1, .int x1] : List Value).toArray cX10_verdict 2 (some .int) RX10 := ⟨⟨B.exec, B.bytes, hml, findClass_of_methodNamed B.named, fun w h => hts w (List.mem_cons_of_mem _ h)⟩, B.returns, B.notSynchronized⟩
  have hRf : 6 ≤ (headSpec (ws_ yX10_verdict cX10_verdict 2 (some .int)) ({ frames := 6, cells := 0, slots := 0, locals := 135 })).room.frames := Nat.le_refl _
  have hRl : 135 ≤ (headSpec (ws_ yX10_verdict cX10_verdict 2 (some .int)) ({ frames := 6, cells := 0, slots := 0, locals := 135 })).room.locals := Nat.le_refl _
  generalize (headSpec (ws_ yX10_verdict cX10_verdict 2 (some .int)) ({ frames := 6, cells := 0, slots := 0, locals := 135 })).room = R at hRf hRl ⊢
  have hS : va_S A s.heap s.heap [] := va_S.rf
  have hl := lv_entry ([.ref g.2.2.2.1, .int x1]) (n := 2) (Nat.le_of_ble_eq_true rfl)
  rw [lg_entry_eq]
  generalize (lg_sl ([.ref g.2.2.2.1, .int x1]) ++ List.replicate (2 - (lg_sl ([.ref g.2.2.2.1, .int x1])).length) Slot.unset).toArray = ls at hl ⊢
  have hl : lv_has ls 2 [(0, .ref g.2.2.2.1), (1, .int x1)] := hl
  obtain ⟨z, hz⟩ : ∃ z, z = (v, σ1) := ⟨_, rfl⟩
  rw [← hz] at h
  rw [show v = z.1 by rw [hz], show σ1 = z.2 by rw [hz]]
  clear hz v σ1
  unfold mT_verdict at h
  refine lv_aload_n C.x C.b dX10_verdict_0 rfl (lv_at hl 0 rfl) ?_
  refine lv_aload_n C.x C.b dX10_verdict_1 rfl (lv_at hl 0 rfl) ?_
  refine lv_iload_n C.x C.b dX10_verdict_2 rfl (lv_at hl 1 rfl) ?_
  refine tw_call (y := yX10_isCase) (bytes := cX10_isCase) (maxL := 2) (fun v => some (.int v)) [.int x1] (fun _ => True)  C hw XB.tt (fun _ _ _ => trivial) hσ hS hl.1 h (fun vv ss ee => kT_isCase l g A x1 σ vv ss ee) (cwV 1 C.t (lw_V q2390 q2392 qs93 q159 q2393) rfl rfl rfl (by decide +kernel) ⟨Nat.le_trans (Nat.le_of_ble_eq_true rfl) hRf, Nat.le_trans (Nat.le_of_ble_eq_true rfl) hRl⟩) rfl rfl (Nat.le_of_ble_eq_true rfl) dX10_verdict_3 (fun v_1 σ_2 H locs h hσ hS => ?_)
  refine lv_if_ne (tgt := 13) C.x C.b dX10_verdict_6 (by decide) (fun c_3 => ?_) (fun c_3 => ?_)
  · have h := iN c_3 h
    refine lv_iconst (v := 0) C.x C.b dX10_verdict_13 (by decide) ?_
    exact wT_verdict_14 C hw hRf hRl _ _ _ _ _ _ h hσ hS (lv_sub hl [0, 1] rfl)
  · have h := ip c_3 h
    refine lv_iconst (v := 1) C.x C.b dX10_verdict_9 (by decide) ?_
    refine lv_goto (tgt := 14) C.x C.b dX10_verdict_10 (by decide) ?_
    exact wT_verdict_14 C hw hRf hRl _ _ _ _ _ _ h hσ hS (lv_sub hl [0, 1] rfl)

theorem wT_settledBy_14 {z : Int32 × twS} (C : CX p m meth c s args cX10_settledBy 2 (some .int) RX10) (hw : WKt twL g A s s.heap) (hRf : 7 ≤ R.frames) (hRl : 156 ≤ R.locals) : ∀ (x1 : Int32) (s1 : Int32) (σ : twS) (H : Heap) (locs : List Loc) (ls : Array Slot), bT_settledBy_14 x1 s1 σ = some z → TI g A σ H → va_S A s.heap H locs → lv_has ls 2 [(0, .ref g.2.2.2.1), (1, .int x1)] → W p l e R s m args below meth c H locs 0 0 (MQ below (TQ g A (some (.int z.1)) z.2) args s 0 0 A) (F0 m 14 ls [.int s1, .ref g.2.2.2.1]) := by
  intro x1 s1 σ H locs ls h hσ hS hl
  unfold bT_settledBy_14 at h
  refine tw_call (y := yX10_throwsOne) (bytes := cX10_throwsOne) (maxL := 2) (fun v => some (.int v)) [.int s1] (fun _ => True)  C hw XB.tt (fun _ _ _ => trivial) hσ hS hl.1 h (fun vv ss ee => kT_throwsOne l g A s1 σ vv ss ee) (cwV 1 C.t (lw_V q2314 q2316 qs79 q159 q2317) rfl rfl rfl (by decide +kernel) ⟨Nat.le_trans (Nat.le_of_ble_eq_true rfl) hRf, Nat.le_trans (Nat.le_of_ble_eq_true rfl) hRl⟩) rfl rfl (Nat.le_of_ble_eq_true rfl) dX10_settledBy_14 (fun v_1 σ_2 H locs h hσ hS => ?_)
  refine lv_if_eq (tgt := 24) C.x C.b dX10_settledBy_17 (by decide) (fun c_3 => ?_) (fun c_3 => ?_)
  · have h := ip c_3 h
    refine lv_aload_n C.x C.b dX10_settledBy_24 rfl (lv_at hl 0 rfl) ?_
    refine lv_aload_n C.x C.b dX10_settledBy_25 rfl (lv_at hl 0 rfl) ?_
    refine lv_iload_n C.x C.b dX10_settledBy_26 rfl (lv_at hl 1 rfl) ?_
    refine tw_call (y := yX10_setOf) (bytes := cX10_setOf) (maxL := 4) (fun v => some (.int v)) [.int x1] (fun _ => True)  C hw XB.tt (fun _ _ _ => trivial) hσ hS hl.1 h (fun vv ss ee => kT_setOf l g A x1 σ_2 vv ss ee) (cwV 1 C.t (lw_V q2410 q2412 qs97 q159 q2413) rfl rfl rfl (by decide +kernel) ⟨Nat.le_trans (Nat.le_of_ble_eq_true rfl) hRf, Nat.le_trans (Nat.le_of_ble_eq_true rfl) hRl⟩) rfl rfl (Nat.le_of_ble_eq_true rfl) dX10_settledBy_27 (fun v_4 σ_5 H locs h hσ hS => ?_)
    refine tw_call (y := yX10_settles) (bytes := cX10_settles) (maxL := 2) (fun v => some (.int v)) [.int v_4] (fun _ => True)  C hw XB.tt (fun _ _ _ => trivial) hσ hS hl.1 h (fun vv ss ee => kT_settles l g A v_4 σ_5 vv ss ee) (cwV 1 C.t (lw_V q2414 q2416 qs98 q159 q2417) rfl rfl rfl (by decide +kernel) ⟨Nat.le_trans (Nat.le_of_ble_eq_true rfl) hRf, Nat.le_trans (Nat.le_of_ble_eq_true rfl) hRl⟩) rfl rfl (Nat.le_of_ble_eq_true rfl) dX10_settledBy_30 (fun v_6 σ_7 H locs h hσ hS => ?_)
    exact tw_iret C hσ hS h dX10_settledBy_33
  · have h := iN c_3 h
    refine lv_iconst (v := 0) C.x C.b dX10_settledBy_20 (by decide) ?_
    refine lv_goto (tgt := 33) C.x C.b dX10_settledBy_21 (by decide) ?_
    exact tw_iret C hσ hS h dX10_settledBy_33

theorem kT_settledBy (l : Launch) (g : twG) (A : Nat → Prop) (x1 : Int32) (σ : twS) (v : Int32) (σ1 : twS) (h : mT_settledBy x1 σ = some (v, σ1)) : Met l yX10_settledBy (ws_ yX10_settledBy cX10_settledBy 2 (some .int)) ({ frames := 7, cells := 0, slots := 0, locals := 156 }) (TPc twL g A [.ref g.2.2.2.1, .int x1] (fun _ => True) σ) (TQ g A (some (.int v)) σ1) 0 0 A := by
  refine Met.ofW (cc := cX10_settledBy) (maxL := 2) (ret := (some .int)) (by decide) rfl ?_
  intro p e s m args below meth c s₁ B hml hv
  obtain ⟨rfl, hw, hX, hσ⟩ := hv
  have hts := atoms_spec (ws := (ws_ yX10_settledBy cX10_settledBy 2 (some .int))) B.pre
  have C : CX p m meth c s ([.ref g.2.2.2.1, .int x1] : List Value).toArray cX10_settledBy 2 (some .int) RX10 := ⟨⟨B.exec, B.bytes, hml, findClass_of_methodNamed B.named, fun w h => hts w (List.mem_cons_of_mem _ h)⟩, B.returns, B.notSynchronized⟩
  have hRf : 7 ≤ (headSpec (ws_ yX10_settledBy cX10_settledBy 2 (some .int)) ({ frames := 7, cells := 0, slots := 0, locals := 156 })).room.frames := Nat.le_refl _
  have hRl : 156 ≤ (headSpec (ws_ yX10_settledBy cX10_settledBy 2 (some .int)) ({ frames := 7, cells := 0, slots := 0, locals := 156 })).room.locals := Nat.le_refl _
  generalize (headSpec (ws_ yX10_settledBy cX10_settledBy 2 (some .int)) ({ frames := 7, cells := 0, slots := 0, locals := 156 })).room = R at hRf hRl ⊢
  have hS : va_S A s.heap s.heap [] := va_S.rf
  have hl := lv_entry ([.ref g.2.2.2.1, .int x1]) (n := 2) (Nat.le_of_ble_eq_true rfl)
  rw [lg_entry_eq]
  generalize (lg_sl ([.ref g.2.2.2.1, .int x1]) ++ List.replicate (2 - (lg_sl ([.ref g.2.2.2.1, .int x1])).length) Slot.unset).toArray = ls at hl ⊢
  have hl : lv_has ls 2 [(0, .ref g.2.2.2.1), (1, .int x1)] := hl
  obtain ⟨z, hz⟩ : ∃ z, z = (v, σ1) := ⟨_, rfl⟩
  rw [← hz] at h
  rw [show v = z.1 by rw [hz], show σ1 = z.2 by rw [hz]]
  clear hz v σ1
  unfold mT_settledBy at h
  refine lv_aload_n C.x C.b dX10_settledBy_0 rfl (lv_at hl 0 rfl) ?_
  refine lv_aload_n C.x C.b dX10_settledBy_1 rfl (lv_at hl 0 rfl) ?_
  refine lv_iload_n C.x C.b dX10_settledBy_2 rfl (lv_at hl 1 rfl) ?_
  refine tw_call (y := yX10_isCase) (bytes := cX10_isCase) (maxL := 2) (fun v => some (.int v)) [.int x1] (fun _ => True)  C hw XB.tt (fun _ _ _ => trivial) hσ hS hl.1 h (fun vv ss ee => kT_isCase l g A x1 σ vv ss ee) (cwV 1 C.t (lw_V q2390 q2392 qs93 q159 q2393) rfl rfl rfl (by decide +kernel) ⟨Nat.le_trans (Nat.le_of_ble_eq_true rfl) hRf, Nat.le_trans (Nat.le_of_ble_eq_true rfl) hRl⟩) rfl rfl (Nat.le_of_ble_eq_true rfl) dX10_settledBy_3 (fun v_1 σ_2 H locs h hσ hS => ?_)
  refine lv_if_ne (tgt := 13) C.x C.b dX10_settledBy_6 (by decide) (fun c_3 => ?_) (fun c_3 => ?_)
  · have h := iN c_3 h
    refine lv_iconst (v := 0) C.x C.b dX10_settledBy_13 (by decide) ?_
    exact wT_settledBy_14 C hw hRf hRl _ _ _ _ _ _ h hσ hS (lv_sub hl [0, 1] rfl)
  · have h := ip c_3 h
    refine lv_iconst (v := 1) C.x C.b dX10_settledBy_9 (by decide) ?_
    refine lv_goto (tgt := 14) C.x C.b dX10_settledBy_10 (by decide) ?_
    exact wT_settledBy_14 C hw hRf hRl _ _ _ _ _ _ h hσ hS (lv_sub hl [0, 1] rfl)

theorem wT_throwsOne_3_26 {z : Int32 × twS} (C : CX p m meth c s args cX10_throwsOne_3 4 (some .boolean) RX10) (hw : WKt twL g A s s.heap) (hRf : 1 ≤ R.frames) (hRl : 24 ≤ R.locals) : ∀ (x1 : Int32) (x2 : Int32) (x3 : Int32) (s1 : Int32) (σ : twS) (H : Heap) (locs : List Loc) (ls : Array Slot), bT_throwsOne_3_26 x1 x2 x3 s1 σ = some z → TI g A σ H → va_S A s.heap H locs → lv_has ls 4 [(0, .ref g.2.2.2.1), (1, .int x1), (2, .int x2), (3, .int x3)] → W p l e R s m args below meth c H locs 0 0 (MQ below (TQ g A (some (.int z.1)) z.2) args s 0 0 A) (F0 m 26 ls [.int s1, .ref g.2.2.2.1]) := by
  intro x1 x2 x3 s1 σ H locs ls h hσ hS hl
  unfold bT_throwsOne_3_26 at h
  refine tw_pf13 C hw hσ hS q2228 dX10_throwsOne_3_26 (fun H locs hσ hS => ?_)
  obtain ⟨σ_1, e_, h⟩ := nm_s h
  rw [← e_] at hσ
  clear e_
  refine lv_iload_n C.x C.b dX10_throwsOne_3_29 rfl (lv_at hl 1 rfl) ?_
  refine lv_if_ne (tgt := 41) C.x C.b dX10_throwsOne_3_30 (by decide) (fun c_2 => ?_) (fun c_2 => ?_)
  · have h := iN c_2 h
    refine lv_iconst (v := 1) C.x C.b dX10_throwsOne_3_41 (by decide) ?_
    refine lv_goto (tgt := 46) C.x C.b dX10_throwsOne_3_42 (by decide) ?_
    exact tw_zret C hσ hS h dX10_throwsOne_3_46
  · have h := ip c_2 h
    refine lv_iload_n C.x C.b dX10_throwsOne_3_33 rfl (lv_at hl 2 rfl) ?_
    refine lv_if_ne (tgt := 41) C.x C.b dX10_throwsOne_3_34 (by decide) (fun c_3 => ?_) (fun c_3 => ?_)
    · have h := iN c_3 h
      refine lv_iconst (v := 1) C.x C.b dX10_throwsOne_3_41 (by decide) ?_
      refine lv_goto (tgt := 46) C.x C.b dX10_throwsOne_3_42 (by decide) ?_
      exact tw_zret C hσ hS h dX10_throwsOne_3_46
    · have h := ip c_3 h
      refine lv_iload_n C.x C.b dX10_throwsOne_3_37 rfl (lv_at hl 3 rfl) ?_
      refine lv_if_eq (tgt := 45) C.x C.b dX10_throwsOne_3_38 (by decide) (fun c_4 => ?_) (fun c_4 => ?_)
      · have h := ip c_4 h
        refine lv_iconst (v := 0) C.x C.b dX10_throwsOne_3_45 (by decide) ?_
        exact tw_zret C hσ hS h dX10_throwsOne_3_46
      · have h := iN c_4 h
        refine lv_iconst (v := 1) C.x C.b dX10_throwsOne_3_41 (by decide) ?_
        refine lv_goto (tgt := 46) C.x C.b dX10_throwsOne_3_42 (by decide) ?_
        exact tw_zret C hσ hS h dX10_throwsOne_3_46

theorem kT_throwsOne_3 (l : Launch) (g : twG) (A : Nat → Prop) (x1 : Int32) (x2 : Int32) (x3 : Int32) (σ : twS) (v : Int32) (σ1 : twS) (h : mT_throwsOne_3 x1 x2 x3 σ = some (v, σ1)) : Met l yX10_throwsOne_3 (ws_ yX10_throwsOne_3 cX10_throwsOne_3 4 (some .boolean)) ({ frames := 1, cells := 0, slots := 0, locals := 24 }) (TPc twL g A [.ref g.2.2.2.1, .int x1, .int x2, .int x3] (fun _ => True) σ) (TQ g A (some (.int v)) σ1) 0 0 A := by
  refine Met.ofW (cc := cX10_throwsOne_3) (maxL := 4) (ret := (some .boolean)) (by decide) rfl ?_
  intro p e s m args below meth c s₁ B hml hv
  obtain ⟨rfl, hw, hX, hσ⟩ := hv
  have hts := atoms_spec (ws := (ws_ yX10_throwsOne_3 cX10_throwsOne_3 4 (some .boolean))) B.pre
  have C : CX p m meth c s ([.ref g.2.2.2.1, .int x1, .int x2, .int x3] : List Value).toArray cX10_throwsOne_3 4 (some .boolean) RX10 := ⟨⟨B.exec, B.bytes, hml, findClass_of_methodNamed B.named, fun w h => hts w (List.mem_cons_of_mem _ h)⟩, B.returns, B.notSynchronized⟩
  have hRf : 1 ≤ (headSpec (ws_ yX10_throwsOne_3 cX10_throwsOne_3 4 (some .boolean)) ({ frames := 1, cells := 0, slots := 0, locals := 24 })).room.frames := Nat.le_refl _
  have hRl : 24 ≤ (headSpec (ws_ yX10_throwsOne_3 cX10_throwsOne_3 4 (some .boolean)) ({ frames := 1, cells := 0, slots := 0, locals := 24 })).room.locals := Nat.le_refl _
  generalize (headSpec (ws_ yX10_throwsOne_3 cX10_throwsOne_3 4 (some .boolean)) ({ frames := 1, cells := 0, slots := 0, locals := 24 })).room = R at hRf hRl ⊢
  have hS : va_S A s.heap s.heap [] := va_S.rf
  have hl := lv_entry ([.ref g.2.2.2.1, .int x1, .int x2, .int x3]) (n := 4) (Nat.le_of_ble_eq_true rfl)
  rw [lg_entry_eq]
  generalize (lg_sl ([.ref g.2.2.2.1, .int x1, .int x2, .int x3]) ++ List.replicate (4 - (lg_sl ([.ref g.2.2.2.1, .int x1, .int x2, .int x3])).length) Slot.unset).toArray = ls at hl ⊢
  have hl : lv_has ls 4 [(0, .ref g.2.2.2.1), (1, .int x1), (2, .int x2), (3, .int x3)] := hl
  obtain ⟨z, hz⟩ : ∃ z, z = (v, σ1) := ⟨_, rfl⟩
  rw [← hz] at h
  rw [show v = z.1 by rw [hz], show σ1 = z.2 by rw [hz]]
  clear hz v σ1
  unfold mT_throwsOne_3 at h
  refine lv_aload_n C.x C.b dX10_throwsOne_3_0 rfl (lv_at hl 0 rfl) ?_
  refine lv_iload_n C.x C.b dX10_throwsOne_3_1 rfl (lv_at hl 1 rfl) ?_
  refine lv_if_eq (tgt := 9) C.x C.b dX10_throwsOne_3_2 (by decide) (fun c_1 => ?_) (fun c_1 => ?_)
  · have h := ip c_1 h
    refine lv_iload_n C.x C.b dX10_throwsOne_3_9 rfl (lv_at hl 2 rfl) ?_
    refine lv_if_eq (tgt := 17) C.x C.b dX10_throwsOne_3_10 (by decide) (fun c_2 => ?_) (fun c_2 => ?_)
    · have h := ip c_2 h
      refine lv_iload_n C.x C.b dX10_throwsOne_3_17 rfl (lv_at hl 3 rfl) ?_
      refine lv_if_eq (tgt := 25) C.x C.b dX10_throwsOne_3_18 (by decide) (fun c_3 => ?_) (fun c_3 => ?_)
      · have h := ip c_3 h
        refine lv_iconst (v := 0) C.x C.b dX10_throwsOne_3_25 (by decide) ?_
        exact wT_throwsOne_3_26 C hw hRf hRl _ _ _ _ _ _ _ _ h hσ hS (lv_sub hl [0, 1, 2, 3] rfl)
      · have h := iN c_3 h
        refine lv_iconst (v := 3) C.x C.b dX10_throwsOne_3_21 (by decide) ?_
        refine lv_goto (tgt := 26) C.x C.b dX10_throwsOne_3_22 (by decide) ?_
        exact wT_throwsOne_3_26 C hw hRf hRl _ _ _ _ _ _ _ _ h hσ hS (lv_sub hl [0, 1, 2, 3] rfl)
    · have h := iN c_2 h
      refine lv_iconst (v := 2) C.x C.b dX10_throwsOne_3_13 (by decide) ?_
      refine lv_goto (tgt := 26) C.x C.b dX10_throwsOne_3_14 (by decide) ?_
      exact wT_throwsOne_3_26 C hw hRf hRl _ _ _ _ _ _ _ _ h hσ hS (lv_sub hl [0, 1, 2, 3] rfl)
  · have h := iN c_1 h
    refine lv_iconst (v := 1) C.x C.b dX10_throwsOne_3_5 (by decide) ?_
    refine lv_goto (tgt := 26) C.x C.b dX10_throwsOne_3_6 (by decide) ?_
    exact wT_throwsOne_3_26 C hw hRf hRl _ _ _ _ _ _ _ _ h hσ hS (lv_sub hl [0, 1, 2, 3] rfl)

theorem kT_reason (l : Launch) (g : twG) (A : Nat → Prop) (x1 : Int32) (x2 : Int32) (σ : twS) (v : Int32) (σ1 : twS) (h : mT_reason x1 x2 σ = some (v, σ1)) : Met l yX10_reason (ws_ yX10_reason cX10_reason 4 (some .int)) ({ frames := 7, cells := 0, slots := 0, locals := 156 }) (TPc twL g A [.ref g.2.2.2.1, .int x1, .int x2] (fun _ => True) σ) (TQ g A (some (.int v)) σ1) 0 0 A := by
  refine Met.ofW (cc := cX10_reason) (maxL := 4) (ret := (some .int)) (by decide) rfl ?_
  intro p e s m args below meth c s₁ B hml hv
  obtain ⟨rfl, hw, hX, hσ⟩ := hv
  have hts := atoms_spec (ws := (ws_ yX10_reason cX10_reason 4 (some .int))) B.pre
  have C : CX p m meth c s ([.ref g.2.2.2.1, .int x1, .int x2] : List Value).toArray cX10_reason 4 (some .int) RX10 := ⟨⟨B.exec, B.bytes, hml, findClass_of_methodNamed B.named, fun w h => hts w (List.mem_cons_of_mem _ h)⟩, B.returns, B.notSynchronized⟩
  have hRf : 7 ≤ (headSpec (ws_ yX10_reason cX10_reason 4 (some .int)) ({ frames := 7, cells := 0, slots := 0, locals := 156 })).room.frames := Nat.le_refl _
  have hRl : 156 ≤ (headSpec (ws_ yX10_reason cX10_reason 4 (some .int)) ({ frames := 7, cells := 0, slots := 0, locals := 156 })).room.locals := Nat.le_refl _
  generalize (headSpec (ws_ yX10_reason cX10_reason 4 (some .int)) ({ frames := 7, cells := 0, slots := 0, locals := 156 })).room = R at hRf hRl ⊢
  have hS : va_S A s.heap s.heap [] := va_S.rf
  have hl := lv_entry ([.ref g.2.2.2.1, .int x1, .int x2]) (n := 4) (Nat.le_of_ble_eq_true rfl)
  rw [lg_entry_eq]
  generalize (lg_sl ([.ref g.2.2.2.1, .int x1, .int x2]) ++ List.replicate (4 - (lg_sl ([.ref g.2.2.2.1, .int x1, .int x2])).length) Slot.unset).toArray = ls at hl ⊢
  have hl : lv_has ls 4 [(0, .ref g.2.2.2.1), (1, .int x1), (2, .int x2)] := hl
  obtain ⟨z, hz⟩ : ∃ z, z = (v, σ1) := ⟨_, rfl⟩
  rw [← hz] at h
  rw [show v = z.1 by rw [hz], show σ1 = z.2 by rw [hz]]
  clear hz v σ1
  unfold mT_reason at h
  refine lv_aload_n C.x C.b dX10_reason_0 rfl (lv_at hl 0 rfl) ?_
  refine lv_iload_n C.x C.b dX10_reason_1 rfl (lv_at hl 1 rfl) ?_
  refine tw_call (y := yX10_unbeaten) (bytes := cX10_unbeaten) (maxL := 4) (fun v => some (.int v)) [.int x1] (fun _ => True)  C hw XB.tt (fun _ _ _ => trivial) hσ hS hl.1 h (fun vv ss ee => kT_unbeaten l g A x1 σ vv ss ee) (cwV 1 C.t (lw_V q2367 q2369 qs90 q159 q2370) rfl rfl rfl (by decide +kernel) ⟨Nat.le_trans (Nat.le_of_ble_eq_true rfl) hRf, Nat.le_trans (Nat.le_of_ble_eq_true rfl) hRl⟩) rfl rfl (Nat.le_of_ble_eq_true rfl) dX10_reason_2 (fun v_1 σ_2 H locs h hσ hS => ?_)
  refine lv_istore_n (lv' := [(3, .int v_1), (0, .ref g.2.2.2.1), (1, .int x1), (2, .int x2)]) C.x C.b dX10_reason_5 rfl hl (by decide) rfl (fun ls hl => ?_)
  refine lv_iload_n C.x C.b dX10_reason_6 rfl (lv_at hl 2 rfl) ?_
  refine lv_iload_n C.x C.b dX10_reason_7 rfl (lv_at hl 3 rfl) ?_
  refine tw_callS (y := yX10_has) (bytes := cX10_has) (maxL := 2) (fun v => some (.int v)) [.int x1, .int x2] C hw hσ hS hl.1 h (fun vv ss ee => kT_has l g A x1 x2 σ_2 vv ss ee) (va_cwS 2 C.t (lw_S q2199 q2200 q159 q2201) rfl rfl rfl (by decide +kernel) ⟨Nat.le_trans (Nat.le_of_ble_eq_true rfl) hRf, Nat.le_trans (Nat.le_of_ble_eq_true rfl) hRl⟩) rfl rfl (Nat.le_of_ble_eq_true rfl) dX10_reason_8 (fun v_3 σ_4 H locs h hσ hS => ?_)
  refine lv_if_ne (tgt := 16) C.x C.b dX10_reason_11 (by decide) (fun c_5 => ?_) (fun c_5 => ?_)
  · have h := iN c_5 h
    refine lv_iload_n C.x C.b dX10_reason_16 rfl (lv_at hl 0 rfl) ?_
    refine lv_iload_n C.x C.b dX10_reason_17 rfl (lv_at hl 3 rfl) ?_
    refine tw_callS (y := yX10_has) (bytes := cX10_has) (maxL := 2) (fun v => some (.int v)) [.int v_1, .int x2] C hw hσ hS hl.1 h (fun vv ss ee => kT_has l g A v_1 x2 σ_4 vv ss ee) (va_cwS 2 C.t (lw_S q2199 q2200 q159 q2201) rfl rfl rfl (by decide +kernel) ⟨Nat.le_trans (Nat.le_of_ble_eq_true rfl) hRf, Nat.le_trans (Nat.le_of_ble_eq_true rfl) hRl⟩) rfl rfl (Nat.le_of_ble_eq_true rfl) dX10_reason_18 (fun v_6 σ_7 H locs h hσ hS => ?_)
    refine lv_if_ne (tgt := 26) C.x C.b dX10_reason_21 (by decide) (fun c_8 => ?_) (fun c_8 => ?_)
    · have h := iN c_8 h
      refine lv_aload_n C.x C.b dX10_reason_26 rfl (lv_at hl 1 rfl) ?_
      refine lv_iload_n C.x C.b dX10_reason_27 rfl (lv_at hl 0 rfl) ?_
      refine lv_iload_n C.x C.b dX10_reason_28 rfl (lv_at hl 3 rfl) ?_
      refine tw_call (y := yX10_other) (bytes := cX10_other) (maxL := 4) (fun v => some (.int v)) [.int v_1, .int x2] (fun _ => True)  C hw XB.tt (fun _ _ _ => trivial) hσ hS hl.1 h (fun vv ss ee => kT_other l g A v_1 x2 σ_7 vv ss ee) (cwV 2 C.t (lw_V q2374 q2376 qs91 q159 q2377) rfl rfl rfl (by decide +kernel) ⟨Nat.le_trans (Nat.le_of_ble_eq_true rfl) hRf, Nat.le_trans (Nat.le_of_ble_eq_true rfl) hRl⟩) rfl rfl (Nat.le_of_ble_eq_true rfl) dX10_reason_29 (fun v_9 σ_10 H locs h hσ hS => ?_)
      refine lv_iconst (v := -1) C.x C.b dX10_reason_32 (by decide) ?_
      refine lv_icmp_eq (tgt := 38) C.x C.b dX10_reason_33 (by decide) (fun c_11 => ?_) (fun c_11 => ?_)
      · have h := ip c_11 h
        refine lv_aload_n C.x C.b dX10_reason_38 rfl (lv_at hl 1 rfl) ?_
        refine lv_iload_n C.x C.b dX10_reason_39 rfl (lv_at hl 2 rfl) ?_
        refine tw_call (y := yX10_settles) (bytes := cX10_settles) (maxL := 2) (fun v => some (.int v)) [.int x1] (fun _ => True)  C hw XB.tt (fun _ _ _ => trivial) hσ hS hl.1 h (fun vv ss ee => kT_settles l g A x1 σ_10 vv ss ee) (cwV 1 C.t (lw_V q2414 q2416 qs98 q159 q2417) rfl rfl rfl (by decide +kernel) ⟨Nat.le_trans (Nat.le_of_ble_eq_true rfl) hRf, Nat.le_trans (Nat.le_of_ble_eq_true rfl) hRl⟩) rfl rfl (Nat.le_of_ble_eq_true rfl) dX10_reason_40 (fun v_12 σ_13 H locs h hσ hS => ?_)
        refine lv_iload_n C.x C.b dX10_reason_43 rfl (lv_at hl 3 rfl) ?_
        refine lv_icmp_ne (tgt := 51) C.x C.b dX10_reason_44 (by decide) (fun c_14 => ?_) (fun c_14 => ?_)
        · have h := iN c_14 h
          refine lv_iconst (v := 4) C.x C.b dX10_reason_51 (by decide) ?_
          exact tw_iret C hσ hS h dX10_reason_52
        · have h := ip c_14 h
          refine lv_iconst (v := 0) C.x C.b dX10_reason_47 (by decide) ?_
          refine lv_goto (tgt := 52) C.x C.b dX10_reason_48 (by decide) ?_
          exact tw_iret C hσ hS h dX10_reason_52
      · have h := iN c_11 h
        refine lv_iconst (v := 3) C.x C.b dX10_reason_36 (by decide) ?_
        exact tw_iret C hσ hS h dX10_reason_37
    · have h := ip c_8 h
      refine lv_iconst (v := 2) C.x C.b dX10_reason_24 (by decide) ?_
      exact tw_iret C hσ hS h dX10_reason_25
  · have h := ip c_5 h
    refine lv_iconst (v := 1) C.x C.b dX10_reason_14 (by decide) ?_
    exact tw_iret C hσ hS h dX10_reason_15

theorem wT_bits_4 {z : Int32 × twS} (C : CX p m meth c s args cX10_bits 3 (some .int) RX10) (hw : WKt twL g A s s.heap) (hRf : 1 ≤ R.frames) (hRl : 24 ≤ R.locals) : ∀ (n : Nat) (x1 : Int32) (x2 : Int32) (σ : twS) (H : Heap) (locs : List Loc) (ls : Array Slot), bT_bits_4 n x1 x2 σ = some z → TI g A σ H → va_S A s.heap H locs → lv_has ls 3 [(1, .int x1), (2, .int x2)] → W p l e R s m args below meth c H locs 0 0 (MQ below (TQ g A (some (.int z.1)) z.2) args s 0 0 A) (F0 m 4 ls []) := by
  intro n
  induction n with
  | zero =>
    intro x1 x2 σ H locs ls h
    cases h
  | succ n ih =>
    intro x1 x2 σ H locs ls h hσ hS hl
    rw [bT_bits_4] at h
    refine lv_iload_n C.x C.b dX10_bits_4 rfl (lv_at hl 1 rfl) ?_
    refine lv_if_le (tgt := 21) C.x C.b dX10_bits_5 (by decide) (fun c_1 => ?_) (fun c_1 => ?_)
    · have h := ip c_1 h
      refine lv_iload_n C.x C.b dX10_bits_21 rfl (lv_at hl 0 rfl) ?_
      exact tw_iret C hσ hS h dX10_bits_22
    · have h := iN c_1 h
      refine lv_iload_n C.x C.b dX10_bits_8 rfl (lv_at hl 0 rfl) ?_
      refine lv_iload_n C.x C.b dX10_bits_9 rfl (lv_at hl 1 rfl) ?_
      refine lv_iconst (v := 2) C.x C.b dX10_bits_10 (by decide) ?_
      refine lv_irem C.x C.b dX10_bits_11 (by decide) ?_
      refine lv_iadd C.x C.b dX10_bits_12 ?_
      refine tw_lt h (fun x1_2 h => ?_)
      refine lv_istore_n (lv' := [(1, .int x1_2), (2, .int x2)]) C.x C.b dX10_bits_13 rfl hl (by decide) rfl (fun ls hl => ?_)
      refine lv_iload_n C.x C.b dX10_bits_14 rfl (lv_at hl 1 rfl) ?_
      refine lv_iconst (v := 2) C.x C.b dX10_bits_15 (by decide) ?_
      refine lv_idiv C.x C.b dX10_bits_16 (by decide) ?_
      refine tw_lt h (fun x2_3 h => ?_)
      refine lv_istore_n (lv' := [(2, .int x2_3), (1, .int x1_2)]) C.x C.b dX10_bits_17 rfl hl (by decide) rfl (fun ls hl => ?_)
      refine lv_goto (tgt := 4) C.x C.b dX10_bits_18 (by decide) ?_
      exact ih _ _ _ _ _ _ h hσ hS (lv_sub hl [1, 0] rfl)

theorem kT_bits (l : Launch) (g : twG) (A : Nat → Prop) (x0 : Int32) (σ : twS) (v : Int32) (σ1 : twS) (h : mT_bits x0 σ = some (v, σ1)) : Met l yX10_bits (ws_ yX10_bits cX10_bits 3 (some .int)) ({ frames := 1, cells := 0, slots := 0, locals := 24 }) (TPc twL g A [.int x0] (fun _ => True) σ) (TQ g A (some (.int v)) σ1) 0 0 A := by
  refine Met.ofW (cc := cX10_bits) (maxL := 3) (ret := (some .int)) (by decide) rfl ?_
  intro p e s m args below meth c s₁ B hml hv
  obtain ⟨rfl, hw, hX, hσ⟩ := hv
  have hts := atoms_spec (ws := (ws_ yX10_bits cX10_bits 3 (some .int))) B.pre
  have C : CX p m meth c s ([.int x0] : List Value).toArray cX10_bits 3 (some .int) RX10 := ⟨⟨B.exec, B.bytes, hml, findClass_of_methodNamed B.named, fun w h => hts w (List.mem_cons_of_mem _ h)⟩, B.returns, B.notSynchronized⟩
  have hRf : 1 ≤ (headSpec (ws_ yX10_bits cX10_bits 3 (some .int)) ({ frames := 1, cells := 0, slots := 0, locals := 24 })).room.frames := Nat.le_refl _
  have hRl : 24 ≤ (headSpec (ws_ yX10_bits cX10_bits 3 (some .int)) ({ frames := 1, cells := 0, slots := 0, locals := 24 })).room.locals := Nat.le_refl _
  generalize (headSpec (ws_ yX10_bits cX10_bits 3 (some .int)) ({ frames := 1, cells := 0, slots := 0, locals := 24 })).room = R at hRf hRl ⊢
  have hS : va_S A s.heap s.heap [] := va_S.rf
  have hl := lv_entry ([.int x0]) (n := 3) (Nat.le_of_ble_eq_true rfl)
  rw [lg_entry_eq]
  generalize (lg_sl ([.int x0]) ++ List.replicate (3 - (lg_sl ([.int x0])).length) Slot.unset).toArray = ls at hl ⊢
  have hl : lv_has ls 3 [(0, .int x0)] := hl
  obtain ⟨z, hz⟩ : ∃ z, z = (v, σ1) := ⟨_, rfl⟩
  rw [← hz] at h
  rw [show v = z.1 by rw [hz], show σ1 = z.2 by rw [hz]]
  clear hz v σ1
  unfold mT_bits at h
  refine lv_iconst (v := 0) C.x C.b dX10_bits_0 (by decide) ?_
  refine lv_istore_n (lv' := [(1, .int 0), (0, .int x0)]) C.x C.b dX10_bits_1 rfl hl (by decide) rfl (fun ls hl => ?_)
  refine lv_iload_n C.x C.b dX10_bits_2 rfl (lv_at hl 1 rfl) ?_
  refine lv_istore_n (lv' := [(2, .int x0), (1, .int 0), (0, .int x0)]) C.x C.b dX10_bits_3 rfl hl (by decide) rfl (fun ls hl => ?_)
  exact wT_bits_4 C hw hRf hRl _ _ _ _ _ _ _ h hσ hS (lv_sub hl [1, 0] rfl)

theorem wT_why_41 {z : Int32 × twS} (C : CX p m meth c s args cX10_why 6 (some .int) RX10) (hw : WKt twL g A s s.heap) (hRf : 8 ≤ R.frames) (hRl : 179 ≤ R.locals) : ∀ (x1 : Int32) (x2 : Int32) (x3 : Int32) (s1 : Int32) (s2 : Int32) (s3 : Int32) (σ : twS) (H : Heap) (locs : List Loc) (ls : Array Slot), bT_why_41 x1 x2 x3 s1 s2 s3 σ = some z → TI g A σ H → va_S A s.heap H locs → lv_has ls 6 [(0, .ref g.2.2.2.1), (1, .int x1), (2, .int x2), (3, .int x3)] → W p l e R s m args below meth c H locs 0 0 (MQ below (TQ g A (some (.int z.1)) z.2) args s 0 0 A) (F0 m 41 ls [.int s3, .int s2, .int s1, .ref g.2.2.2.1]) := by
  intro x1 x2 x3 s1 s2 s3 σ H locs ls h hσ hS hl
  unfold bT_why_41 at h
  refine tw_call (y := yX10_throwsOne_3) (bytes := cX10_throwsOne_3) (maxL := 4) (fun v => some (.int v)) [.int s1, .int s2, .int s3] (fun _ => True)  C hw XB.tt (fun _ _ _ => trivial) hσ hS hl.1 h (fun vv ss ee => kT_throwsOne_3 l g A s1 s2 s3 σ vv ss ee) (cwV 3 C.t (lw_V q2486 q2488 qs108 q159 q2489) rfl rfl rfl (by decide +kernel) ⟨Nat.le_trans (Nat.le_of_ble_eq_true rfl) hRf, Nat.le_trans (Nat.le_of_ble_eq_true rfl) hRl⟩) rfl rfl (Nat.le_of_ble_eq_true rfl) dX10_why_41 (fun v_1 σ_2 H locs h hσ hS => ?_)
  refine lv_if_eq (tgt := 49) C.x C.b dX10_why_44 (by decide) (fun c_3 => ?_) (fun c_3 => ?_)
  · have h := ip c_3 h
    refine lv_aload_n C.x C.b dX10_why_49 rfl (lv_at hl 0 rfl) ?_
    refine lv_iload_n C.x C.b dX10_why_50 rfl (lv_at hl 1 rfl) ?_
    refine tw_call (y := yX10_setOf) (bytes := cX10_setOf) (maxL := 4) (fun v => some (.int v)) [.int x1] (fun _ => True)  C hw XB.tt (fun _ _ _ => trivial) hσ hS hl.1 h (fun vv ss ee => kT_setOf l g A x1 σ_2 vv ss ee) (cwV 1 C.t (lw_V q2410 q2412 qs97 q159 q2413) rfl rfl rfl (by decide +kernel) ⟨Nat.le_trans (Nat.le_of_ble_eq_true rfl) hRf, Nat.le_trans (Nat.le_of_ble_eq_true rfl) hRl⟩) rfl rfl (Nat.le_of_ble_eq_true rfl) dX10_why_51 (fun v_4 σ_5 H locs h hσ hS => ?_)
    refine lv_istore (lv' := [(4, .int v_4), (0, .ref g.2.2.2.1), (1, .int x1), (2, .int x2), (3, .int x3)]) C.x C.b dX10_why_54 hl (by decide) rfl (fun ls hl => ?_)
    refine lv_aload_n C.x C.b dX10_why_56 rfl (lv_at hl 1 rfl) ?_
    refine lv_iload C.x C.b dX10_why_57 (lv_at hl 0 rfl) ?_
    refine lv_iload_n C.x C.b dX10_why_59 rfl (lv_at hl 3 rfl) ?_
    refine tw_call (y := yX10_reason) (bytes := cX10_reason) (maxL := 4) (fun v => some (.int v)) [.int v_4, .int x2] (fun _ => True)  C hw XB.tt (fun _ _ _ => trivial) hσ hS hl.1 h (fun vv ss ee => kT_reason l g A v_4 x2 σ_5 vv ss ee) (cwV 2 C.t (lw_V q2490 q2492 qs109 q159 q2493) rfl rfl rfl (by decide +kernel) ⟨Nat.le_trans (Nat.le_of_ble_eq_true rfl) hRf, Nat.le_trans (Nat.le_of_ble_eq_true rfl) hRl⟩) rfl rfl (Nat.le_of_ble_eq_true rfl) dX10_why_60 (fun v_6 σ_7 H locs h hσ hS => ?_)
    refine lv_istore (lv' := [(5, .int v_6), (4, .int v_4), (0, .ref g.2.2.2.1), (1, .int x1), (2, .int x2), (3, .int x3)]) C.x C.b dX10_why_63 hl (by decide) rfl (fun ls hl => ?_)
    refine lv_iload_n C.x C.b dX10_why_65 rfl (lv_at hl 5 rfl) ?_
    refine lv_if_ne (tgt := 72) C.x C.b dX10_why_66 (by decide) (fun c_8 => ?_) (fun c_8 => ?_)
    · have h := iN c_8 h
      refine lv_iload C.x C.b dX10_why_72 (lv_at hl 0 rfl) ?_
      by_cases c_9 : v_6 = 1
      · have h := ip c_9 h
        refine lv_tableIn (off := 30) (tgt := 104) C.x C.b dX10_why_74 (by rw [c_9]; decide) (by rw [c_9]; decide) (by rw [c_9]; rfl) (by decide) ?_
        refine lv_aload_n C.x C.b dX10_why_104 rfl (lv_at hl 2 rfl) ?_
        refine lv_iload_n C.x C.b dX10_why_105 rfl (lv_at hl 3 rfl) ?_
        refine lv_iconst (v := 0) C.x C.b dX10_why_106 (by decide) ?_
        refine tw_call (y := yX10_valueOf) (bytes := cX10_valueOf) (maxL := 5) (fun v => some (.int v)) [.int x1, .int 0] (fun _ => True)  C hw XB.tt (fun _ _ _ => trivial) hσ hS hl.1 h (fun vv ss ee => kT_valueOf l g A x1 0 σ_7 vv ss ee) (cwV 2 C.t (lw_V q2355 q2357 qs87 q159 q2358) rfl rfl rfl (by decide +kernel) ⟨Nat.le_trans (Nat.le_of_ble_eq_true rfl) hRf, Nat.le_trans (Nat.le_of_ble_eq_true rfl) hRl⟩) rfl rfl (Nat.le_of_ble_eq_true rfl) dX10_why_107 (fun v_10 σ_11 H locs h hσ hS => ?_)
        exact tw_iret C hσ hS h dX10_why_110
      have h := iN c_9 h
      by_cases c_12 : v_6 = 2
      · have h := ip c_12 h
        refine lv_tableIn (off := 37) (tgt := 111) C.x C.b dX10_why_74 (by rw [c_12]; decide) (by rw [c_12]; decide) (by rw [c_12]; rfl) (by decide) ?_
        refine lv_iload C.x C.b dX10_why_111 (lv_at hl 1 rfl) ?_
        refine lv_aload_n C.x C.b dX10_why_113 rfl (lv_at hl 2 rfl) ?_
        refine lv_iload_n C.x C.b dX10_why_114 rfl (lv_at hl 4 rfl) ?_
        refine tw_call (y := yX10_overIt) (bytes := cX10_overIt) (maxL := 4) (fun v => some (.int v)) [.int x2] (fun _ => True)  C hw XB.tt (fun _ _ _ => trivial) hσ hS hl.1 h (fun vv ss ee => kT_overIt l g A x2 σ_7 vv ss ee) (cwV 1 C.t (lw_V q2447 q2449 qs105 q159 q2450) rfl rfl rfl (by decide +kernel) ⟨Nat.le_trans (Nat.le_of_ble_eq_true rfl) hRf, Nat.le_trans (Nat.le_of_ble_eq_true rfl) hRl⟩) rfl rfl (Nat.le_of_ble_eq_true rfl) dX10_why_115 (fun v_13 σ_14 H locs h hσ hS => ?_)
        refine lv_iand C.x C.b dX10_why_118 ?_
        refine tw_callS (y := yX10_least) (bytes := cX10_least) (maxL := 2) (fun v => some (.int v)) [.int (v_4 &&& v_13)] C hw hσ hS hl.1 h (fun vv ss ee => kT_least l g A (v_4 &&& v_13) σ_14 vv ss ee) (va_cwS 1 C.t (lw_S q2371 q2372 q159 q2373) rfl rfl rfl (by decide +kernel) ⟨Nat.le_trans (Nat.le_of_ble_eq_true rfl) hRf, Nat.le_trans (Nat.le_of_ble_eq_true rfl) hRl⟩) rfl rfl (Nat.le_of_ble_eq_true rfl) dX10_why_119 (fun v_15 σ_16 H locs h hσ hS => ?_)
        exact tw_iret C hσ hS h dX10_why_122
      have h := iN c_12 h
      by_cases c_17 : v_6 = 3
      · have h := ip c_17 h
        refine lv_tableIn (off := 49) (tgt := 123) C.x C.b dX10_why_74 (by rw [c_17]; decide) (by rw [c_17]; decide) (by rw [c_17]; rfl) (by decide) ?_
        refine lv_aload_n C.x C.b dX10_why_123 rfl (lv_at hl 2 rfl) ?_
        refine lv_aload_n C.x C.b dX10_why_124 rfl (lv_at hl 2 rfl) ?_
        refine lv_iload C.x C.b dX10_why_125 (lv_at hl 1 rfl) ?_
        refine tw_call (y := yX10_unbeaten) (bytes := cX10_unbeaten) (maxL := 4) (fun v => some (.int v)) [.int v_4] (fun _ => True)  C hw XB.tt (fun _ _ _ => trivial) hσ hS hl.1 h (fun vv ss ee => kT_unbeaten l g A v_4 σ_7 vv ss ee) (cwV 1 C.t (lw_V q2367 q2369 qs90 q159 q2370) rfl rfl rfl (by decide +kernel) ⟨Nat.le_trans (Nat.le_of_ble_eq_true rfl) hRf, Nat.le_trans (Nat.le_of_ble_eq_true rfl) hRl⟩) rfl rfl (Nat.le_of_ble_eq_true rfl) dX10_why_127 (fun v_18 σ_19 H locs h hσ hS => ?_)
        refine lv_iload_n C.x C.b dX10_why_130 rfl (lv_at hl 4 rfl) ?_
        refine tw_call (y := yX10_other) (bytes := cX10_other) (maxL := 4) (fun v => some (.int v)) [.int v_18, .int x2] (fun _ => True)  C hw XB.tt (fun _ _ _ => trivial) hσ hS hl.1 h (fun vv ss ee => kT_other l g A v_18 x2 σ_19 vv ss ee) (cwV 2 C.t (lw_V q2374 q2376 qs91 q159 q2377) rfl rfl rfl (by decide +kernel) ⟨Nat.le_trans (Nat.le_of_ble_eq_true rfl) hRf, Nat.le_trans (Nat.le_of_ble_eq_true rfl) hRl⟩) rfl rfl (Nat.le_of_ble_eq_true rfl) dX10_why_131 (fun v_20 σ_21 H locs h hσ hS => ?_)
        exact tw_iret C hσ hS h dX10_why_134
      have h := iN c_17 h
      by_cases c_22 : v_6 = 4
      · have h := ip c_22 h
        refine lv_tableIn (off := 61) (tgt := 135) C.x C.b dX10_why_74 (by rw [c_22]; decide) (by rw [c_22]; decide) (by rw [c_22]; rfl) (by decide) ?_
        refine lv_aload_n C.x C.b dX10_why_135 rfl (lv_at hl 2 rfl) ?_
        refine lv_iload C.x C.b dX10_why_136 (lv_at hl 1 rfl) ?_
        refine tw_call (y := yX10_settles) (bytes := cX10_settles) (maxL := 2) (fun v => some (.int v)) [.int v_4] (fun _ => True)  C hw XB.tt (fun _ _ _ => trivial) hσ hS hl.1 h (fun vv ss ee => kT_settles l g A v_4 σ_7 vv ss ee) (cwV 1 C.t (lw_V q2414 q2416 qs98 q159 q2417) rfl rfl rfl (by decide +kernel) ⟨Nat.le_trans (Nat.le_of_ble_eq_true rfl) hRf, Nat.le_trans (Nat.le_of_ble_eq_true rfl) hRl⟩) rfl rfl (Nat.le_of_ble_eq_true rfl) dX10_why_138 (fun v_23 σ_24 H locs h hσ hS => ?_)
        exact tw_iret C hσ hS h dX10_why_141
      have h := iN c_22 h
      refine tw_tabD (tgt := 142) C.x C.b dX10_why_74 (by decide) (fun j hj => match j, hj with | 0, _ => Or.inr (lv_neT c_9 (by decide)) | 1, _ => Or.inr (lv_neT c_12 (by decide)) | 2, _ => Or.inr (lv_neT c_17 (by decide)) | 3, _ => Or.inr (lv_neT c_22 (by decide)) | j + 4, hj => absurd hj (Nat.not_lt_of_le (Nat.le_add_left _ _))) (by decide) ?_
      refine lv_iload C.x C.b dX10_why_142 (lv_at hl 1 rfl) ?_
      refine tw_callS (y := yX10_bits) (bytes := cX10_bits) (maxL := 3) (fun v => some (.int v)) [.int v_4] C hw hσ hS hl.1 h (fun vv ss ee => kT_bits l g A v_4 σ_7 vv ss ee) (va_cwS 1 C.t (lw_S q2494 q2495 q159 q2496) rfl rfl rfl (by decide +kernel) ⟨Nat.le_trans (Nat.le_of_ble_eq_true rfl) hRf, Nat.le_trans (Nat.le_of_ble_eq_true rfl) hRl⟩) rfl rfl (Nat.le_of_ble_eq_true rfl) dX10_why_144 (fun v_25 σ_26 H locs h hσ hS => ?_)
      exact tw_iret C hσ hS h dX10_why_147
    · have h := ip c_8 h
      refine lv_iload C.x C.b dX10_why_69 (lv_at hl 0 rfl) ?_
      exact tw_iret C hσ hS h dX10_why_71
  · have h := iN c_3 h
    refine lv_iconst (v := 0) C.x C.b dX10_why_47 (by decide) ?_
    exact tw_iret C hσ hS h dX10_why_48

theorem wT_why_27 {z : Int32 × twS} (C : CX p m meth c s args cX10_why 6 (some .int) RX10) (hw : WKt twL g A s s.heap) (hRf : 8 ≤ R.frames) (hRl : 179 ≤ R.locals) : ∀ (x1 : Int32) (x2 : Int32) (x3 : Int32) (s1 : Int32) (s2 : Int32) (σ : twS) (H : Heap) (locs : List Loc) (ls : Array Slot), bT_why_27 x1 x2 x3 s1 s2 σ = some z → TI g A σ H → va_S A s.heap H locs → lv_has ls 6 [(0, .ref g.2.2.2.1), (1, .int x1), (2, .int x2), (3, .int x3)] → W p l e R s m args below meth c H locs 0 0 (MQ below (TQ g A (some (.int z.1)) z.2) args s 0 0 A) (F0 m 27 ls [.int s2, .int s1, .ref g.2.2.2.1]) := by
  intro x1 x2 x3 s1 s2 σ H locs ls h hσ hS hl
  unfold bT_why_27 at h
  refine lv_iload_n C.x C.b dX10_why_27 rfl (lv_at hl 3 rfl) ?_
  refine lv_iconst (v := 0) C.x C.b dX10_why_28 (by decide) ?_
  refine lv_iconst (v := 1) C.x C.b dX10_why_29 (by decide) ?_
  refine tw_callS (y := yX10_in) (bytes := cX10_in) (maxL := 3) (fun v => some (.int v)) [.int x3, .int 0, .int 1] C hw hσ hS hl.1 h (fun vv ss ee => kT_in l g A x3 0 1 σ vv ss ee) (va_cwS 3 C.t (lw_S q2136 q2137 q159 q2138) rfl rfl rfl (by decide +kernel) ⟨Nat.le_trans (Nat.le_of_ble_eq_true rfl) hRf, Nat.le_trans (Nat.le_of_ble_eq_true rfl) hRl⟩) rfl rfl (Nat.le_of_ble_eq_true rfl) dX10_why_30 (fun v_1 σ_2 H locs h hσ hS => ?_)
  refine lv_if_ne (tgt := 40) C.x C.b dX10_why_33 (by decide) (fun c_3 => ?_) (fun c_3 => ?_)
  · have h := iN c_3 h
    refine lv_iconst (v := 0) C.x C.b dX10_why_40 (by decide) ?_
    exact wT_why_41 C hw hRf hRl _ _ _ _ _ _ _ _ _ _ h hσ hS (lv_sub hl [0, 1, 2, 3] rfl)
  · have h := ip c_3 h
    refine lv_iconst (v := 1) C.x C.b dX10_why_36 (by decide) ?_
    refine lv_goto (tgt := 41) C.x C.b dX10_why_37 (by decide) ?_
    exact wT_why_41 C hw hRf hRl _ _ _ _ _ _ _ _ _ _ h hσ hS (lv_sub hl [0, 1, 2, 3] rfl)

theorem wT_why_14 {z : Int32 × twS} (C : CX p m meth c s args cX10_why 6 (some .int) RX10) (hw : WKt twL g A s s.heap) (hRf : 8 ≤ R.frames) (hRl : 179 ≤ R.locals) : ∀ (x1 : Int32) (x2 : Int32) (x3 : Int32) (s1 : Int32) (σ : twS) (H : Heap) (locs : List Loc) (ls : Array Slot), bT_why_14 x1 x2 x3 s1 σ = some z → TI g A σ H → va_S A s.heap H locs → lv_has ls 6 [(0, .ref g.2.2.2.1), (1, .int x1), (2, .int x2), (3, .int x3)] → W p l e R s m args below meth c H locs 0 0 (MQ below (TQ g A (some (.int z.1)) z.2) args s 0 0 A) (F0 m 14 ls [.int s1, .ref g.2.2.2.1]) := by
  intro x1 x2 x3 s1 σ H locs ls h hσ hS hl
  unfold bT_why_14 at h
  refine lv_aload_n C.x C.b dX10_why_14 rfl (lv_at hl 0 rfl) ?_
  refine lv_iload_n C.x C.b dX10_why_15 rfl (lv_at hl 2 rfl) ?_
  refine tw_call (y := yX10_isRule) (bytes := cX10_isRule) (maxL := 2) (fun v => some (.int v)) [.int x2] (fun _ => True)  C hw XB.tt (fun _ _ _ => trivial) hσ hS hl.1 h (fun vv ss ee => kT_isRule l g A x2 σ vv ss ee) (cwV 1 C.t (lw_V q2435 q2437 qs102 q159 q2438) rfl rfl rfl (by decide +kernel) ⟨Nat.le_trans (Nat.le_of_ble_eq_true rfl) hRf, Nat.le_trans (Nat.le_of_ble_eq_true rfl) hRl⟩) rfl rfl (Nat.le_of_ble_eq_true rfl) dX10_why_16 (fun v_1 σ_2 H locs h hσ hS => ?_)
  refine lv_if_ne (tgt := 26) C.x C.b dX10_why_19 (by decide) (fun c_3 => ?_) (fun c_3 => ?_)
  · have h := iN c_3 h
    refine lv_iconst (v := 0) C.x C.b dX10_why_26 (by decide) ?_
    exact wT_why_27 C hw hRf hRl _ _ _ _ _ _ _ _ _ h hσ hS (lv_sub hl [0, 1, 2, 3] rfl)
  · have h := ip c_3 h
    refine lv_iconst (v := 1) C.x C.b dX10_why_22 (by decide) ?_
    refine lv_goto (tgt := 27) C.x C.b dX10_why_23 (by decide) ?_
    exact wT_why_27 C hw hRf hRl _ _ _ _ _ _ _ _ _ h hσ hS (lv_sub hl [0, 1, 2, 3] rfl)

theorem kT_why (l : Launch) (g : twG) (A : Nat → Prop) (x1 : Int32) (x2 : Int32) (x3 : Int32) (σ : twS) (v : Int32) (σ1 : twS) (h : mT_why x1 x2 x3 σ = some (v, σ1)) : Met l yX10_why (ws_ yX10_why cX10_why 6 (some .int)) ({ frames := 8, cells := 0, slots := 0, locals := 179 }) (TPc twL g A [.ref g.2.2.2.1, .int x1, .int x2, .int x3] (fun _ => True) σ) (TQ g A (some (.int v)) σ1) 0 0 A := by
  refine Met.ofW (cc := cX10_why) (maxL := 6) (ret := (some .int)) (by decide) rfl ?_
  intro p e s m args below meth c s₁ B hml hv
  obtain ⟨rfl, hw, hX, hσ⟩ := hv
  have hts := atoms_spec (ws := (ws_ yX10_why cX10_why 6 (some .int))) B.pre
  have C : CX p m meth c s ([.ref g.2.2.2.1, .int x1, .int x2, .int x3] : List Value).toArray cX10_why 6 (some .int) RX10 := ⟨⟨B.exec, B.bytes, hml, findClass_of_methodNamed B.named, fun w h => hts w (List.mem_cons_of_mem _ h)⟩, B.returns, B.notSynchronized⟩
  have hRf : 8 ≤ (headSpec (ws_ yX10_why cX10_why 6 (some .int)) ({ frames := 8, cells := 0, slots := 0, locals := 179 })).room.frames := Nat.le_refl _
  have hRl : 179 ≤ (headSpec (ws_ yX10_why cX10_why 6 (some .int)) ({ frames := 8, cells := 0, slots := 0, locals := 179 })).room.locals := Nat.le_refl _
  generalize (headSpec (ws_ yX10_why cX10_why 6 (some .int)) ({ frames := 8, cells := 0, slots := 0, locals := 179 })).room = R at hRf hRl ⊢
  have hS : va_S A s.heap s.heap [] := va_S.rf
  have hl := lv_entry ([.ref g.2.2.2.1, .int x1, .int x2, .int x3]) (n := 6) (Nat.le_of_ble_eq_true rfl)
  rw [lg_entry_eq]
  generalize (lg_sl ([.ref g.2.2.2.1, .int x1, .int x2, .int x3]) ++ List.replicate (6 - (lg_sl ([.ref g.2.2.2.1, .int x1, .int x2, .int x3])).length) Slot.unset).toArray = ls at hl ⊢
  have hl : lv_has ls 6 [(0, .ref g.2.2.2.1), (1, .int x1), (2, .int x2), (3, .int x3)] := hl
  obtain ⟨z, hz⟩ : ∃ z, z = (v, σ1) := ⟨_, rfl⟩
  rw [← hz] at h
  rw [show v = z.1 by rw [hz], show σ1 = z.2 by rw [hz]]
  clear hz v σ1
  unfold mT_why at h
  refine lv_aload_n C.x C.b dX10_why_0 rfl (lv_at hl 0 rfl) ?_
  refine lv_aload_n C.x C.b dX10_why_1 rfl (lv_at hl 0 rfl) ?_
  refine lv_iload_n C.x C.b dX10_why_2 rfl (lv_at hl 1 rfl) ?_
  refine tw_call (y := yX10_isCase) (bytes := cX10_isCase) (maxL := 2) (fun v => some (.int v)) [.int x1] (fun _ => True)  C hw XB.tt (fun _ _ _ => trivial) hσ hS hl.1 h (fun vv ss ee => kT_isCase l g A x1 σ vv ss ee) (cwV 1 C.t (lw_V q2390 q2392 qs93 q159 q2393) rfl rfl rfl (by decide +kernel) ⟨Nat.le_trans (Nat.le_of_ble_eq_true rfl) hRf, Nat.le_trans (Nat.le_of_ble_eq_true rfl) hRl⟩) rfl rfl (Nat.le_of_ble_eq_true rfl) dX10_why_3 (fun v_1 σ_2 H locs h hσ hS => ?_)
  refine lv_if_ne (tgt := 13) C.x C.b dX10_why_6 (by decide) (fun c_3 => ?_) (fun c_3 => ?_)
  · have h := iN c_3 h
    refine lv_iconst (v := 0) C.x C.b dX10_why_13 (by decide) ?_
    exact wT_why_14 C hw hRf hRl _ _ _ _ _ _ _ _ h hσ hS (lv_sub hl [0, 1, 2, 3] rfl)
  · have h := ip c_3 h
    refine lv_iconst (v := 1) C.x C.b dX10_why_9 (by decide) ?_
    refine lv_goto (tgt := 14) C.x C.b dX10_why_10 (by decide) ?_
    exact wT_why_14 C hw hRf hRl _ _ _ _ _ _ _ _ h hσ hS (lv_sub hl [0, 1, 2, 3] rfl)

theorem wT_example_38 {z : Int32 × twS} (C : CX p m meth c s args cX10_example 6 (some .int) RX10) (hw : WKt twL g A s s.heap) (hRf : 6 ≤ R.frames) (hRl : 135 ≤ R.locals) : ∀ (n : Nat) (x1 : Int32) (x3 : Int32) (x4 : Int32) (x5 : Int32) (σ : twS) (H : Heap) (locs : List Loc) (ls : Array Slot), bT_example_38 n x1 x3 x4 x5 σ = some z → TI g A σ H → va_S A s.heap H locs → lv_has ls 6 [(0, .ref g.2.2.2.1), (1, .int x1), (3, .int x3), (4, .int x4), (5, .int x5)] → W p l e R s m args below meth c H locs 0 0 (MQ below (TQ g A (some (.int z.1)) z.2) args s 0 0 A) (F0 m 38 ls []) := by
  intro n
  induction n with
  | zero =>
    intro x1 x3 x4 x5 σ H locs ls h
    cases h
  | succ n ih =>
    intro x1 x3 x4 x5 σ H locs ls h hσ hS hl
    rw [bT_example_38] at h
    refine lv_iload C.x C.b dX10_example_38 (lv_at hl 4 rfl) ?_
    refine lv_iload C.x C.b dX10_example_40 (lv_at hl 3 rfl) ?_
    refine lv_icmp_ge (tgt := 76) C.x C.b dX10_example_42 (by decide) (fun c_1 => ?_) (fun c_1 => ?_)
    · have h := ip c_1 h
      refine lv_iconst (v := -1) C.x C.b dX10_example_76 (by decide) ?_
      exact tw_iret C hσ hS h dX10_example_77
    · have h := iN c_1 h
      refine lv_aload_n C.x C.b dX10_example_45 rfl (lv_at hl 0 rfl) ?_
      refine lv_aload_n C.x C.b dX10_example_46 rfl (lv_at hl 0 rfl) ?_
      refine tw_gf15 C hw hσ q2230 dX10_example_47 ?_
      refine lv_iload C.x C.b dX10_example_50 (lv_at hl 4 rfl) ?_
      refine tw_ld15 C hw hσ h dX10_example_52 (fun v_2 h => ?_)
      refine tw_call (y := yX10_verdictOf) (bytes := cX10_verdictOf) (maxL := 3) (fun v => some (.int v)) [.int v_2] (fun _ => True)  C hw XB.tt (fun _ _ _ => trivial) hσ hS hl.1 h (fun vv ss ee => kT_verdictOf l g A v_2 σ vv ss ee) (cwV 1 C.t (lw_V q2363 q2365 qs89 q159 q2366) rfl rfl rfl (by decide +kernel) ⟨Nat.le_trans (Nat.le_of_ble_eq_true rfl) hRf, Nat.le_trans (Nat.le_of_ble_eq_true rfl) hRl⟩) rfl rfl (Nat.le_of_ble_eq_true rfl) dX10_example_53 (fun v_3 σ_4 H locs h hσ hS => ?_)
      refine lv_iload_n C.x C.b dX10_example_56 rfl (lv_at hl 1 rfl) ?_
      refine lv_icmp_ne (tgt := 70) C.x C.b dX10_example_57 (by decide) (fun c_5 => ?_) (fun c_5 => ?_)
      · have h := iN c_5 h
        obtain ⟨x5_6, e_, h⟩ := nm_s h
        refine lv_iinc (v := x5_6) (lv' := [(5, .int x5_6), (0, .ref g.2.2.2.1), (1, .int x1), (3, .int x3), (4, .int x4)]) C.x C.b dX10_example_70 hl (k := 4) rfl e_.symm (by decide) rfl (fun ls hl => ?_)
        refine lv_goto (tgt := 38) C.x C.b dX10_example_73 (by decide) ?_
        exact ih _ _ _ _ _ _ _ _ h hσ hS (lv_sub hl [1, 2, 3, 4, 0] rfl)
      · have h := ip c_5 h
        refine lv_iload_n C.x C.b dX10_example_60 rfl (lv_at hl 2 rfl) ?_
        refine lv_if_ne (tgt := 67) C.x C.b dX10_example_61 (by decide) (fun c_7 => ?_) (fun c_7 => ?_)
        · have h := iN c_7 h
          obtain ⟨x3_8, e_, h⟩ := nm_s h
          refine lv_iinc (v := x3_8) (lv' := [(3, .int x3_8), (0, .ref g.2.2.2.1), (1, .int x1), (4, .int x4), (5, .int x5)]) C.x C.b dX10_example_67 hl (k := 2) rfl e_.symm (by decide) rfl (fun ls hl => ?_)
          obtain ⟨x5_9, e_, h⟩ := nm_s h
          refine lv_iinc (v := x5_9) (lv' := [(5, .int x5_9), (3, .int x3_8), (0, .ref g.2.2.2.1), (1, .int x1), (4, .int x4)]) C.x C.b dX10_example_70 hl (k := 4) rfl e_.symm (by decide) rfl (fun ls hl => ?_)
          refine lv_goto (tgt := 38) C.x C.b dX10_example_73 (by decide) ?_
          exact ih _ _ _ _ _ _ _ _ h hσ hS (lv_sub hl [2, 3, 1, 4, 0] rfl)
        · have h := ip c_7 h
          refine lv_iload C.x C.b dX10_example_64 (lv_at hl 4 rfl) ?_
          exact tw_iret C hσ hS h dX10_example_66

theorem wT_example_15 {z : Int32 × twS} (C : CX p m meth c s args cX10_example 6 (some .int) RX10) (hw : WKt twL g A s s.heap) (hRf : 6 ≤ R.frames) (hRl : 135 ≤ R.locals) : ∀ (x1 : Int32) (x2 : Int32) (s1 : Int32) (σ : twS) (H : Heap) (locs : List Loc) (ls : Array Slot), bT_example_15 x1 x2 s1 σ = some z → TI g A σ H → va_S A s.heap H locs → lv_has ls 6 [(0, .ref g.2.2.2.1), (1, .int x1), (2, .int x2)] → W p l e R s m args below meth c H locs 0 0 (MQ below (TQ g A (some (.int z.1)) z.2) args s 0 0 A) (F0 m 15 ls [.int s1, .ref g.2.2.2.1]) := by
  intro x1 x2 s1 σ H locs ls h hσ hS hl
  unfold bT_example_15 at h
  refine tw_call (y := yX10_throwsOne) (bytes := cX10_throwsOne) (maxL := 2) (fun v => some (.int v)) [.int s1] (fun _ => True)  C hw XB.tt (fun _ _ _ => trivial) hσ hS hl.1 h (fun vv ss ee => kT_throwsOne l g A s1 σ vv ss ee) (cwV 1 C.t (lw_V q2314 q2316 qs79 q159 q2317) rfl rfl rfl (by decide +kernel) ⟨Nat.le_trans (Nat.le_of_ble_eq_true rfl) hRf, Nat.le_trans (Nat.le_of_ble_eq_true rfl) hRl⟩) rfl rfl (Nat.le_of_ble_eq_true rfl) dX10_example_15 (fun v_1 σ_2 H locs h hσ hS => ?_)
  refine lv_if_eq (tgt := 23) C.x C.b dX10_example_18 (by decide) (fun c_3 => ?_) (fun c_3 => ?_)
  · have h := ip c_3 h
    refine lv_aload_n C.x C.b dX10_example_23 rfl (lv_at hl 0 rfl) ?_
    refine tw_call (y := yX10_setsOut) (bytes := cX10_setsOut) (maxL := 4) (fun _ => none) [] (fun _ => True)  C hw XB.tt (fun _ _ _ => trivial) hσ hS hl.1 h (fun vv ss ee => kT_setsOut l g A σ_2 vv ss ee) (cwV 0 C.t (lw_V q2338 q2340 qs83 q159 q2341) rfl rfl rfl (by decide +kernel) ⟨Nat.le_trans (Nat.le_of_ble_eq_true rfl) hRf, Nat.le_trans (Nat.le_of_ble_eq_true rfl) hRl⟩) rfl rfl (Nat.le_of_ble_eq_true rfl) dX10_example_24 (fun _ σ_4 H locs h hσ hS => ?_)
    refine lv_iload_n C.x C.b dX10_example_27 rfl (lv_at hl 2 rfl) ?_
    refine lv_istore_n (lv' := [(3, .int x2), (0, .ref g.2.2.2.1), (1, .int x1), (2, .int x2)]) C.x C.b dX10_example_28 rfl hl (by decide) rfl (fun ls hl => ?_)
    refine lv_aload_n C.x C.b dX10_example_29 rfl (lv_at hl 1 rfl) ?_
    refine tw_call (y := yX10_cases) (bytes := cX10_cases) (maxL := 3) (fun v => some (.int v)) [] (fun _ => True)  C hw XB.tt (fun _ _ _ => trivial) hσ hS hl.1 h (fun vv ss ee => kT_cases l g A σ_4 vv ss ee) (cwV 0 C.t (lw_V q2334 q2336 qs82 q159 q2337) rfl rfl rfl (by decide +kernel) ⟨Nat.le_trans (Nat.le_of_ble_eq_true rfl) hRf, Nat.le_trans (Nat.le_of_ble_eq_true rfl) hRl⟩) rfl rfl (Nat.le_of_ble_eq_true rfl) dX10_example_30 (fun v_5 σ_6 H locs h hσ hS => ?_)
    refine lv_istore (lv' := [(4, .int v_5), (3, .int x2), (0, .ref g.2.2.2.1), (1, .int x1), (2, .int x2)]) C.x C.b dX10_example_33 hl (by decide) rfl (fun ls hl => ?_)
    refine lv_iconst (v := 0) C.x C.b dX10_example_35 (by decide) ?_
    refine lv_istore (lv' := [(5, .int 0), (4, .int v_5), (3, .int x2), (0, .ref g.2.2.2.1), (1, .int x1), (2, .int x2)]) C.x C.b dX10_example_36 hl (by decide) rfl (fun ls hl => ?_)
    exact wT_example_38 C hw hRf hRl _ _ _ _ _ _ _ _ _ h hσ hS (lv_sub hl [3, 4, 2, 1, 0] rfl)
  · have h := iN c_3 h
    refine lv_iconst (v := 0) C.x C.b dX10_example_21 (by decide) ?_
    exact tw_iret C hσ hS h dX10_example_22

theorem kT_example (l : Launch) (g : twG) (A : Nat → Prop) (x1 : Int32) (x2 : Int32) (σ : twS) (v : Int32) (σ1 : twS) (h : mT_example x1 x2 σ = some (v, σ1)) : Met l yX10_example (ws_ yX10_example cX10_example 6 (some .int)) ({ frames := 6, cells := 0, slots := 0, locals := 135 }) (TPc twL g A [.ref g.2.2.2.1, .int x1, .int x2] (fun _ => True) σ) (TQ g A (some (.int v)) σ1) 0 0 A := by
  refine Met.ofW (cc := cX10_example) (maxL := 6) (ret := (some .int)) (by decide) rfl ?_
  intro p e s m args below meth c s₁ B hml hv
  obtain ⟨rfl, hw, hX, hσ⟩ := hv
  have hts := atoms_spec (ws := (ws_ yX10_example cX10_example 6 (some .int))) B.pre
  have C : CX p m meth c s ([.ref g.2.2.2.1, .int x1, .int x2] : List Value).toArray cX10_example 6 (some .int) RX10 := ⟨⟨B.exec, B.bytes, hml, findClass_of_methodNamed B.named, fun w h => hts w (List.mem_cons_of_mem _ h)⟩, B.returns, B.notSynchronized⟩
  have hRf : 6 ≤ (headSpec (ws_ yX10_example cX10_example 6 (some .int)) ({ frames := 6, cells := 0, slots := 0, locals := 135 })).room.frames := Nat.le_refl _
  have hRl : 135 ≤ (headSpec (ws_ yX10_example cX10_example 6 (some .int)) ({ frames := 6, cells := 0, slots := 0, locals := 135 })).room.locals := Nat.le_refl _
  generalize (headSpec (ws_ yX10_example cX10_example 6 (some .int)) ({ frames := 6, cells := 0, slots := 0, locals := 135 })).room = R at hRf hRl ⊢
  have hS : va_S A s.heap s.heap [] := va_S.rf
  have hl := lv_entry ([.ref g.2.2.2.1, .int x1, .int x2]) (n := 6) (Nat.le_of_ble_eq_true rfl)
  rw [lg_entry_eq]
  generalize (lg_sl ([.ref g.2.2.2.1, .int x1, .int x2]) ++ List.replicate (6 - (lg_sl ([.ref g.2.2.2.1, .int x1, .int x2])).length) Slot.unset).toArray = ls at hl ⊢
  have hl : lv_has ls 6 [(0, .ref g.2.2.2.1), (1, .int x1), (2, .int x2)] := hl
  obtain ⟨z, hz⟩ : ∃ z, z = (v, σ1) := ⟨_, rfl⟩
  rw [← hz] at h
  rw [show v = z.1 by rw [hz], show σ1 = z.2 by rw [hz]]
  clear hz v σ1
  unfold mT_example at h
  refine lv_aload_n C.x C.b dX10_example_0 rfl (lv_at hl 0 rfl) ?_
  refine lv_iload_n C.x C.b dX10_example_1 rfl (lv_at hl 1 rfl) ?_
  refine lv_iconst (v := 0) C.x C.b dX10_example_2 (by decide) ?_
  refine lv_iconst (v := 3) C.x C.b dX10_example_3 (by decide) ?_
  refine tw_callS (y := yX10_in) (bytes := cX10_in) (maxL := 3) (fun v => some (.int v)) [.int x1, .int 0, .int 3] C hw hσ hS hl.1 h (fun vv ss ee => kT_in l g A x1 0 3 σ vv ss ee) (va_cwS 3 C.t (lw_S q2136 q2137 q159 q2138) rfl rfl rfl (by decide +kernel) ⟨Nat.le_trans (Nat.le_of_ble_eq_true rfl) hRf, Nat.le_trans (Nat.le_of_ble_eq_true rfl) hRl⟩) rfl rfl (Nat.le_of_ble_eq_true rfl) dX10_example_4 (fun v_1 σ_2 H locs h hσ hS => ?_)
  refine lv_if_ne (tgt := 14) C.x C.b dX10_example_7 (by decide) (fun c_3 => ?_) (fun c_3 => ?_)
  · have h := iN c_3 h
    refine lv_iconst (v := 0) C.x C.b dX10_example_14 (by decide) ?_
    exact wT_example_15 C hw hRf hRl _ _ _ _ _ _ _ h hσ hS (lv_sub hl [0, 1, 2] rfl)
  · have h := ip c_3 h
    refine lv_iconst (v := 1) C.x C.b dX10_example_10 (by decide) ?_
    refine lv_goto (tgt := 15) C.x C.b dX10_example_11 (by decide) ?_
    exact wT_example_15 C hw hRf hRl _ _ _ _ _ _ _ h hσ hS (lv_sub hl [0, 1, 2] rfl)

theorem kT_gaps (l : Launch) (g : twG) (A : Nat → Prop) (x1 : Int32) (σ : twS) (v : Int32) (σ1 : twS) (h : mT_gaps x1 σ = some (v, σ1)) : Met l yX10_gaps (ws_ yX10_gaps cX10_gaps 2 (some .int)) ({ frames := 7, cells := 0, slots := 0, locals := 161 }) (TPc twL g A [.ref g.2.2.2.1, .int x1] (fun _ => True) σ) (TQ g A (some (.int v)) σ1) 0 0 A := by
  refine Met.ofW (cc := cX10_gaps) (maxL := 2) (ret := (some .int)) (by decide) rfl ?_
  intro p e s m args below meth c s₁ B hml hv
  obtain ⟨rfl, hw, hX, hσ⟩ := hv
  have hts := atoms_spec (ws := (ws_ yX10_gaps cX10_gaps 2 (some .int))) B.pre
  have C : CX p m meth c s ([.ref g.2.2.2.1, .int x1] : List Value).toArray cX10_gaps 2 (some .int) RX10 := ⟨⟨B.exec, B.bytes, hml, findClass_of_methodNamed B.named, fun w h => hts w (List.mem_cons_of_mem _ h)⟩, B.returns, B.notSynchronized⟩
  have hRf : 7 ≤ (headSpec (ws_ yX10_gaps cX10_gaps 2 (some .int)) ({ frames := 7, cells := 0, slots := 0, locals := 161 })).room.frames := Nat.le_refl _
  have hRl : 161 ≤ (headSpec (ws_ yX10_gaps cX10_gaps 2 (some .int)) ({ frames := 7, cells := 0, slots := 0, locals := 161 })).room.locals := Nat.le_refl _
  generalize (headSpec (ws_ yX10_gaps cX10_gaps 2 (some .int)) ({ frames := 7, cells := 0, slots := 0, locals := 161 })).room = R at hRf hRl ⊢
  have hS : va_S A s.heap s.heap [] := va_S.rf
  have hl := lv_entry ([.ref g.2.2.2.1, .int x1]) (n := 2) (Nat.le_of_ble_eq_true rfl)
  rw [lg_entry_eq]
  generalize (lg_sl ([.ref g.2.2.2.1, .int x1]) ++ List.replicate (2 - (lg_sl ([.ref g.2.2.2.1, .int x1])).length) Slot.unset).toArray = ls at hl ⊢
  have hl : lv_has ls 2 [(0, .ref g.2.2.2.1), (1, .int x1)] := hl
  obtain ⟨z, hz⟩ : ∃ z, z = (v, σ1) := ⟨_, rfl⟩
  rw [← hz] at h
  rw [show v = z.1 by rw [hz], show σ1 = z.2 by rw [hz]]
  clear hz v σ1
  unfold mT_gaps at h
  refine lv_aload_n C.x C.b dX10_gaps_0 rfl (lv_at hl 0 rfl) ?_
  refine lv_iconst (v := 1) C.x C.b dX10_gaps_1 (by decide) ?_
  refine lv_iload_n C.x C.b dX10_gaps_2 rfl (lv_at hl 1 rfl) ?_
  refine tw_call (y := yX10_many) (bytes := cX10_many) (maxL := 7) (fun v => some (.int v)) [.int 1, .int x1] (fun _ => True)  C hw XB.tt (fun _ _ _ => trivial) hσ hS hl.1 h (fun vv ss ee => kT_many l g A 1 x1 σ vv ss ee) (cwV 2 C.t (lw_V q2359 q2361 qs88 q159 q2362) rfl rfl rfl (by decide +kernel) ⟨Nat.le_trans (Nat.le_of_ble_eq_true rfl) hRf, Nat.le_trans (Nat.le_of_ble_eq_true rfl) hRl⟩) rfl rfl (Nat.le_of_ble_eq_true rfl) dX10_gaps_3 (fun v_1 σ_2 H locs h hσ hS => ?_)
  refine lv_aload_n C.x C.b dX10_gaps_6 rfl (lv_at hl 0 rfl) ?_
  refine lv_iconst (v := 2) C.x C.b dX10_gaps_7 (by decide) ?_
  refine lv_iload_n C.x C.b dX10_gaps_8 rfl (lv_at hl 1 rfl) ?_
  refine tw_call (y := yX10_many) (bytes := cX10_many) (maxL := 7) (fun v => some (.int v)) [.int 2, .int x1] (fun _ => True)  C hw XB.tt (fun _ _ _ => trivial) hσ hS hl.1 h (fun vv ss ee => kT_many l g A 2 x1 σ_2 vv ss ee) (cwV 2 C.t (lw_V q2359 q2361 qs88 q159 q2362) rfl rfl rfl (by decide +kernel) ⟨Nat.le_trans (Nat.le_of_ble_eq_true rfl) hRf, Nat.le_trans (Nat.le_of_ble_eq_true rfl) hRl⟩) rfl rfl (Nat.le_of_ble_eq_true rfl) dX10_gaps_9 (fun v_3 σ_4 H locs h hσ hS => ?_)
  refine lv_iadd C.x C.b dX10_gaps_12 ?_
  exact tw_iret C hσ hS h dX10_gaps_13

theorem kT_isClosed (l : Launch) (g : twG) (A : Nat → Prop) (σ : twS) (v : Int32) (σ1 : twS) (h : mT_isClosed σ = some (v, σ1)) : Met l yX10_isClosed (ws_ yX10_isClosed cX10_isClosed 1 (some .boolean)) ({ frames := 8, cells := 0, slots := 0, locals := 182 }) (TPc twL g A [.ref g.2.2.2.1] (fun _ => True) σ) (TQ g A (some (.int v)) σ1) 0 0 A := by
  refine Met.ofW (cc := cX10_isClosed) (maxL := 1) (ret := (some .boolean)) (by decide) rfl ?_
  intro p e s m args below meth c s₁ B hml hv
  obtain ⟨rfl, hw, hX, hσ⟩ := hv
  have hts := atoms_spec (ws := (ws_ yX10_isClosed cX10_isClosed 1 (some .boolean))) B.pre
  have C : CX p m meth c s ([.ref g.2.2.2.1] : List Value).toArray cX10_isClosed 1 (some .boolean) RX10 := ⟨⟨B.exec, B.bytes, hml, findClass_of_methodNamed B.named, fun w h => hts w (List.mem_cons_of_mem _ h)⟩, B.returns, B.notSynchronized⟩
  have hRf : 8 ≤ (headSpec (ws_ yX10_isClosed cX10_isClosed 1 (some .boolean)) ({ frames := 8, cells := 0, slots := 0, locals := 182 })).room.frames := Nat.le_refl _
  have hRl : 182 ≤ (headSpec (ws_ yX10_isClosed cX10_isClosed 1 (some .boolean)) ({ frames := 8, cells := 0, slots := 0, locals := 182 })).room.locals := Nat.le_refl _
  generalize (headSpec (ws_ yX10_isClosed cX10_isClosed 1 (some .boolean)) ({ frames := 8, cells := 0, slots := 0, locals := 182 })).room = R at hRf hRl ⊢
  have hS : va_S A s.heap s.heap [] := va_S.rf
  have hl := lv_entry ([.ref g.2.2.2.1]) (n := 1) (Nat.le_of_ble_eq_true rfl)
  rw [lg_entry_eq]
  generalize (lg_sl ([.ref g.2.2.2.1]) ++ List.replicate (1 - (lg_sl ([.ref g.2.2.2.1])).length) Slot.unset).toArray = ls at hl ⊢
  have hl : lv_has ls 1 [(0, .ref g.2.2.2.1)] := hl
  obtain ⟨z, hz⟩ : ∃ z, z = (v, σ1) := ⟨_, rfl⟩
  rw [← hz] at h
  rw [show v = z.1 by rw [hz], show σ1 = z.2 by rw [hz]]
  clear hz v σ1
  unfold mT_isClosed at h
  refine lv_aload_n C.x C.b dX10_isClosed_0 rfl (lv_at hl 0 rfl) ?_
  refine lv_iconst (v := 0) C.x C.b dX10_isClosed_1 (by decide) ?_
  refine tw_pf13 C hw hσ hS q2228 dX10_isClosed_2 (fun H locs hσ hS => ?_)
  obtain ⟨σ_1, e_, h⟩ := nm_s h
  rw [← e_] at hσ
  clear e_
  refine lv_aload_n C.x C.b dX10_isClosed_5 rfl (lv_at hl 0 rfl) ?_
  refine tw_call (y := yX10_setsOut) (bytes := cX10_setsOut) (maxL := 4) (fun _ => none) [] (fun _ => True)  C hw XB.tt (fun _ _ _ => trivial) hσ hS hl.1 h (fun vv ss ee => kT_setsOut l g A σ_1 vv ss ee) (cwV 0 C.t (lw_V q2338 q2340 qs83 q159 q2341) rfl rfl rfl (by decide +kernel) ⟨Nat.le_trans (Nat.le_of_ble_eq_true rfl) hRf, Nat.le_trans (Nat.le_of_ble_eq_true rfl) hRl⟩) rfl rfl (Nat.le_of_ble_eq_true rfl) dX10_isClosed_6 (fun _ σ_2 H locs h hσ hS => ?_)
  refine lv_aload_n C.x C.b dX10_isClosed_9 rfl (lv_at hl 0 rfl) ?_
  refine lv_iconst (v := -1) C.x C.b dX10_isClosed_10 (by decide) ?_
  refine tw_call (y := yX10_gaps) (bytes := cX10_gaps) (maxL := 2) (fun v => some (.int v)) [.int (-1)] (fun _ => True)  C hw XB.tt (fun _ _ _ => trivial) hσ hS hl.1 h (fun vv ss ee => kT_gaps l g A (-1) σ_2 vv ss ee) (cwV 1 C.t (lw_V q2505 q2507 qs110 q159 q2508) rfl rfl rfl (by decide +kernel) ⟨Nat.le_trans (Nat.le_of_ble_eq_true rfl) hRf, Nat.le_trans (Nat.le_of_ble_eq_true rfl) hRl⟩) rfl rfl (Nat.le_of_ble_eq_true rfl) dX10_isClosed_11 (fun v_3 σ_4 H locs h hσ hS => ?_)
  refine lv_if_ne (tgt := 21) C.x C.b dX10_isClosed_14 (by decide) (fun c_5 => ?_) (fun c_5 => ?_)
  · have h := iN c_5 h
    refine lv_iconst (v := 0) C.x C.b dX10_isClosed_21 (by decide) ?_
    exact tw_zret C hσ hS h dX10_isClosed_22
  · have h := ip c_5 h
    refine lv_iconst (v := 1) C.x C.b dX10_isClosed_17 (by decide) ?_
    refine lv_goto (tgt := 22) C.x C.b dX10_isClosed_18 (by decide) ?_
    exact tw_zret C hσ hS h dX10_isClosed_22

theorem wT_isWider_45 {z : Int32 × twS} (C : CX p m meth c s args cX10_isWider 6 (some .boolean) RX10) (hw : WKt twL g A s s.heap) (hRf : 5 ≤ R.frames) (hRl : 122 ≤ R.locals) : ∀ (n : Nat) (x1 : Int32) (x2 : Int32) (x3 : Int32) (x4 : Int32) (x5 : Int32) (σ : twS) (H : Heap) (locs : List Loc) (ls : Array Slot), bT_isWider_45 n x1 x2 x3 x4 x5 σ = some z → TI g A σ H → va_S A s.heap H locs → lv_has ls 6 [(0, .ref g.2.2.2.1), (1, .int x1), (2, .int x2), (3, .int x3), (4, .int x4), (5, .int x5)] → W p l e R s m args below meth c H locs 0 0 (MQ below (TQ g A (some (.int z.1)) z.2) args s 0 0 A) (F0 m 45 ls []) := by
  intro n
  induction n with
  | zero =>
    intro x1 x2 x3 x4 x5 σ H locs ls h
    cases h
  | succ n ih =>
    intro x1 x2 x3 x4 x5 σ H locs ls h hσ hS hl
    rw [bT_isWider_45] at h
    refine lv_iload C.x C.b dX10_isWider_45 (lv_at hl 5 rfl) ?_
    refine lv_iload C.x C.b dX10_isWider_47 (lv_at hl 4 rfl) ?_
    refine lv_icmp_ge (tgt := 96) C.x C.b dX10_isWider_49 (by decide) (fun c_1 => ?_) (fun c_1 => ?_)
    · have h := ip c_1 h
      refine lv_iload_n C.x C.b dX10_isWider_96 rfl (lv_at hl 3 rfl) ?_
      exact tw_zret C hσ hS h dX10_isWider_97
    · have h := iN c_1 h
      refine lv_iload_n C.x C.b dX10_isWider_52 rfl (lv_at hl 3 rfl) ?_
      refine lv_if_eq (tgt := 88) C.x C.b dX10_isWider_53 (by decide) (fun c_2 => ?_) (fun c_2 => ?_)
      · have h := ip c_2 h
        refine lv_iconst (v := 0) C.x C.b dX10_isWider_88 (by decide) ?_
        refine lv_istore_n (lv' := [(3, .int 0), (0, .ref g.2.2.2.1), (1, .int x1), (2, .int x2), (4, .int x4), (5, .int x5)]) C.x C.b dX10_isWider_89 rfl hl (by decide) rfl (fun ls hl => ?_)
        obtain ⟨x5_3, e_, h⟩ := nm_s h
        refine lv_iinc (v := x5_3) (lv' := [(5, .int x5_3), (3, .int 0), (0, .ref g.2.2.2.1), (1, .int x1), (2, .int x2), (4, .int x4)]) C.x C.b dX10_isWider_90 hl (k := 5) rfl e_.symm (by decide) rfl (fun ls hl => ?_)
        refine lv_goto (tgt := 45) C.x C.b dX10_isWider_93 (by decide) ?_
        exact ih _ _ _ _ _ _ _ _ _ h hσ hS (lv_sub hl [2, 3, 4, 1, 5, 0] rfl)
      · have h := iN c_2 h
        refine lv_aload_n C.x C.b dX10_isWider_56 rfl (lv_at hl 0 rfl) ?_
        refine tw_gf15 C hw hσ q2230 dX10_isWider_57 ?_
        refine lv_iload C.x C.b dX10_isWider_60 (lv_at hl 5 rfl) ?_
        refine tw_ld15 C hw hσ h dX10_isWider_62 (fun v_4 h => ?_)
        refine lv_iload_n C.x C.b dX10_isWider_63 rfl (lv_at hl 2 rfl) ?_
        refine tw_callS (y := yX10_has) (bytes := cX10_has) (maxL := 2) (fun v => some (.int v)) [.int v_4, .int x2] C hw hσ hS hl.1 h (fun vv ss ee => kT_has l g A v_4 x2 σ vv ss ee) (va_cwS 2 C.t (lw_S q2199 q2200 q159 q2201) rfl rfl rfl (by decide +kernel) ⟨Nat.le_trans (Nat.le_of_ble_eq_true rfl) hRf, Nat.le_trans (Nat.le_of_ble_eq_true rfl) hRl⟩) rfl rfl (Nat.le_of_ble_eq_true rfl) dX10_isWider_64 (fun v_5 σ_6 H locs h hσ hS => ?_)
        refine lv_if_eq (tgt := 84) C.x C.b dX10_isWider_67 (by decide) (fun c_7 => ?_) (fun c_7 => ?_)
        · have h := ip c_7 h
          refine lv_iconst (v := 1) C.x C.b dX10_isWider_84 (by decide) ?_
          refine lv_goto (tgt := 89) C.x C.b dX10_isWider_85 (by decide) ?_
          refine lv_istore_n (lv' := [(3, .int 1), (0, .ref g.2.2.2.1), (1, .int x1), (2, .int x2), (4, .int x4), (5, .int x5)]) C.x C.b dX10_isWider_89 rfl hl (by decide) rfl (fun ls hl => ?_)
          obtain ⟨x5_8, e_, h⟩ := nm_s h
          refine lv_iinc (v := x5_8) (lv' := [(5, .int x5_8), (3, .int 1), (0, .ref g.2.2.2.1), (1, .int x1), (2, .int x2), (4, .int x4)]) C.x C.b dX10_isWider_90 hl (k := 5) rfl e_.symm (by decide) rfl (fun ls hl => ?_)
          refine lv_goto (tgt := 45) C.x C.b dX10_isWider_93 (by decide) ?_
          exact ih _ _ _ _ _ _ _ _ _ h hσ hS (lv_sub hl [2, 3, 4, 1, 5, 0] rfl)
        · have h := iN c_7 h
          refine lv_aload_n C.x C.b dX10_isWider_70 rfl (lv_at hl 0 rfl) ?_
          refine tw_gf15 C hw hσ q2230 dX10_isWider_71 ?_
          refine lv_iload C.x C.b dX10_isWider_74 (lv_at hl 5 rfl) ?_
          refine tw_ld15 C hw hσ h dX10_isWider_76 (fun v_9 h => ?_)
          refine lv_iload_n C.x C.b dX10_isWider_77 rfl (lv_at hl 1 rfl) ?_
          refine tw_callS (y := yX10_has) (bytes := cX10_has) (maxL := 2) (fun v => some (.int v)) [.int v_9, .int x1] C hw hσ hS hl.1 h (fun vv ss ee => kT_has l g A v_9 x1 σ_6 vv ss ee) (va_cwS 2 C.t (lw_S q2199 q2200 q159 q2201) rfl rfl rfl (by decide +kernel) ⟨Nat.le_trans (Nat.le_of_ble_eq_true rfl) hRf, Nat.le_trans (Nat.le_of_ble_eq_true rfl) hRl⟩) rfl rfl (Nat.le_of_ble_eq_true rfl) dX10_isWider_78 (fun v_10 σ_11 H locs h hσ hS => ?_)
          refine lv_if_eq (tgt := 88) C.x C.b dX10_isWider_81 (by decide) (fun c_12 => ?_) (fun c_12 => ?_)
          · have h := ip c_12 h
            refine lv_iconst (v := 0) C.x C.b dX10_isWider_88 (by decide) ?_
            refine lv_istore_n (lv' := [(3, .int 0), (0, .ref g.2.2.2.1), (1, .int x1), (2, .int x2), (4, .int x4), (5, .int x5)]) C.x C.b dX10_isWider_89 rfl hl (by decide) rfl (fun ls hl => ?_)
            obtain ⟨x5_13, e_, h⟩ := nm_s h
            refine lv_iinc (v := x5_13) (lv' := [(5, .int x5_13), (3, .int 0), (0, .ref g.2.2.2.1), (1, .int x1), (2, .int x2), (4, .int x4)]) C.x C.b dX10_isWider_90 hl (k := 5) rfl e_.symm (by decide) rfl (fun ls hl => ?_)
            refine lv_goto (tgt := 45) C.x C.b dX10_isWider_93 (by decide) ?_
            exact ih _ _ _ _ _ _ _ _ _ h hσ hS (lv_sub hl [2, 3, 4, 1, 5, 0] rfl)
          · have h := iN c_12 h
            refine lv_iconst (v := 1) C.x C.b dX10_isWider_84 (by decide) ?_
            refine lv_goto (tgt := 89) C.x C.b dX10_isWider_85 (by decide) ?_
            refine lv_istore_n (lv' := [(3, .int 1), (0, .ref g.2.2.2.1), (1, .int x1), (2, .int x2), (4, .int x4), (5, .int x5)]) C.x C.b dX10_isWider_89 rfl hl (by decide) rfl (fun ls hl => ?_)
            obtain ⟨x5_14, e_, h⟩ := nm_s h
            refine lv_iinc (v := x5_14) (lv' := [(5, .int x5_14), (3, .int 1), (0, .ref g.2.2.2.1), (1, .int x1), (2, .int x2), (4, .int x4)]) C.x C.b dX10_isWider_90 hl (k := 5) rfl e_.symm (by decide) rfl (fun ls hl => ?_)
            refine lv_goto (tgt := 45) C.x C.b dX10_isWider_93 (by decide) ?_
            exact ih _ _ _ _ _ _ _ _ _ h hσ hS (lv_sub hl [2, 3, 4, 1, 5, 0] rfl)

theorem wT_isWider_22 {z : Int32 × twS} (C : CX p m meth c s args cX10_isWider 6 (some .boolean) RX10) (hw : WKt twL g A s s.heap) (hRf : 5 ≤ R.frames) (hRl : 122 ≤ R.locals) : ∀ (x1 : Int32) (x2 : Int32) (s1 : Int32) (σ : twS) (H : Heap) (locs : List Loc) (ls : Array Slot), bT_isWider_22 x1 x2 s1 σ = some z → TI g A σ H → va_S A s.heap H locs → lv_has ls 6 [(0, .ref g.2.2.2.1), (1, .int x1), (2, .int x2)] → W p l e R s m args below meth c H locs 0 0 (MQ below (TQ g A (some (.int z.1)) z.2) args s 0 0 A) (F0 m 22 ls [.int s1, .ref g.2.2.2.1]) := by
  intro x1 x2 s1 σ H locs ls h hσ hS hl
  unfold bT_isWider_22 at h
  refine tw_call (y := yX10_throwsOne) (bytes := cX10_throwsOne) (maxL := 2) (fun v => some (.int v)) [.int s1] (fun _ => True)  C hw XB.tt (fun _ _ _ => trivial) hσ hS hl.1 h (fun vv ss ee => kT_throwsOne l g A s1 σ vv ss ee) (cwV 1 C.t (lw_V q2314 q2316 qs79 q159 q2317) rfl rfl rfl (by decide +kernel) ⟨Nat.le_trans (Nat.le_of_ble_eq_true rfl) hRf, Nat.le_trans (Nat.le_of_ble_eq_true rfl) hRl⟩) rfl rfl (Nat.le_of_ble_eq_true rfl) dX10_isWider_22 (fun v_1 σ_2 H locs h hσ hS => ?_)
  refine lv_if_eq (tgt := 30) C.x C.b dX10_isWider_25 (by decide) (fun c_3 => ?_) (fun c_3 => ?_)
  · have h := ip c_3 h
    refine lv_aload_n C.x C.b dX10_isWider_30 rfl (lv_at hl 0 rfl) ?_
    refine tw_call (y := yX10_setsOut) (bytes := cX10_setsOut) (maxL := 4) (fun _ => none) [] (fun _ => True)  C hw XB.tt (fun _ _ _ => trivial) hσ hS hl.1 h (fun vv ss ee => kT_setsOut l g A σ_2 vv ss ee) (cwV 0 C.t (lw_V q2338 q2340 qs83 q159 q2341) rfl rfl rfl (by decide +kernel) ⟨Nat.le_trans (Nat.le_of_ble_eq_true rfl) hRf, Nat.le_trans (Nat.le_of_ble_eq_true rfl) hRl⟩) rfl rfl (Nat.le_of_ble_eq_true rfl) dX10_isWider_31 (fun _ σ_4 H locs h hσ hS => ?_)
    refine lv_iconst (v := 1) C.x C.b dX10_isWider_34 (by decide) ?_
    refine lv_istore_n (lv' := [(3, .int 1), (0, .ref g.2.2.2.1), (1, .int x1), (2, .int x2)]) C.x C.b dX10_isWider_35 rfl hl (by decide) rfl (fun ls hl => ?_)
    refine lv_aload_n C.x C.b dX10_isWider_36 rfl (lv_at hl 1 rfl) ?_
    refine tw_call (y := yX10_cases) (bytes := cX10_cases) (maxL := 3) (fun v => some (.int v)) [] (fun _ => True)  C hw XB.tt (fun _ _ _ => trivial) hσ hS hl.1 h (fun vv ss ee => kT_cases l g A σ_4 vv ss ee) (cwV 0 C.t (lw_V q2334 q2336 qs82 q159 q2337) rfl rfl rfl (by decide +kernel) ⟨Nat.le_trans (Nat.le_of_ble_eq_true rfl) hRf, Nat.le_trans (Nat.le_of_ble_eq_true rfl) hRl⟩) rfl rfl (Nat.le_of_ble_eq_true rfl) dX10_isWider_37 (fun v_5 σ_6 H locs h hσ hS => ?_)
    refine lv_istore (lv' := [(4, .int v_5), (3, .int 1), (0, .ref g.2.2.2.1), (1, .int x1), (2, .int x2)]) C.x C.b dX10_isWider_40 hl (by decide) rfl (fun ls hl => ?_)
    refine lv_iconst (v := 0) C.x C.b dX10_isWider_42 (by decide) ?_
    refine lv_istore (lv' := [(5, .int 0), (4, .int v_5), (3, .int 1), (0, .ref g.2.2.2.1), (1, .int x1), (2, .int x2)]) C.x C.b dX10_isWider_43 hl (by decide) rfl (fun ls hl => ?_)
    exact wT_isWider_45 C hw hRf hRl _ _ _ _ _ _ _ _ _ _ h hσ hS (lv_sub hl [3, 4, 5, 2, 1, 0] rfl)
  · have h := iN c_3 h
    refine lv_iconst (v := 0) C.x C.b dX10_isWider_28 (by decide) ?_
    exact tw_zret C hσ hS h dX10_isWider_29

theorem kT_isWider (l : Launch) (g : twG) (A : Nat → Prop) (x1 : Int32) (x2 : Int32) (σ : twS) (v : Int32) (σ1 : twS) (h : mT_isWider x1 x2 σ = some (v, σ1)) : Met l yX10_isWider (ws_ yX10_isWider cX10_isWider 6 (some .boolean)) ({ frames := 5, cells := 0, slots := 0, locals := 122 }) (TPc twL g A [.ref g.2.2.2.1, .int x1, .int x2] (fun _ => True) σ) (TQ g A (some (.int v)) σ1) 0 0 A := by
  refine Met.ofW (cc := cX10_isWider) (maxL := 6) (ret := (some .boolean)) (by decide) rfl ?_
  intro p e s m args below meth c s₁ B hml hv
  obtain ⟨rfl, hw, hX, hσ⟩ := hv
  have hts := atoms_spec (ws := (ws_ yX10_isWider cX10_isWider 6 (some .boolean))) B.pre
  have C : CX p m meth c s ([.ref g.2.2.2.1, .int x1, .int x2] : List Value).toArray cX10_isWider 6 (some .boolean) RX10 := ⟨⟨B.exec, B.bytes, hml, findClass_of_methodNamed B.named, fun w h => hts w (List.mem_cons_of_mem _ h)⟩, B.returns, B.notSynchronized⟩
  have hRf : 5 ≤ (headSpec (ws_ yX10_isWider cX10_isWider 6 (some .boolean)) ({ frames := 5, cells := 0, slots := 0, locals := 122 })).room.frames := Nat.le_refl _
  have hRl : 122 ≤ (headSpec (ws_ yX10_isWider cX10_isWider 6 (some .boolean)) ({ frames := 5, cells := 0, slots := 0, locals := 122 })).room.locals := Nat.le_refl _
  generalize (headSpec (ws_ yX10_isWider cX10_isWider 6 (some .boolean)) ({ frames := 5, cells := 0, slots := 0, locals := 122 })).room = R at hRf hRl ⊢
  have hS : va_S A s.heap s.heap [] := va_S.rf
  have hl := lv_entry ([.ref g.2.2.2.1, .int x1, .int x2]) (n := 6) (Nat.le_of_ble_eq_true rfl)
  rw [lg_entry_eq]
  generalize (lg_sl ([.ref g.2.2.2.1, .int x1, .int x2]) ++ List.replicate (6 - (lg_sl ([.ref g.2.2.2.1, .int x1, .int x2])).length) Slot.unset).toArray = ls at hl ⊢
  have hl : lv_has ls 6 [(0, .ref g.2.2.2.1), (1, .int x1), (2, .int x2)] := hl
  obtain ⟨z, hz⟩ : ∃ z, z = (v, σ1) := ⟨_, rfl⟩
  rw [← hz] at h
  rw [show v = z.1 by rw [hz], show σ1 = z.2 by rw [hz]]
  clear hz v σ1
  unfold mT_isWider at h
  refine lv_aload_n C.x C.b dX10_isWider_0 rfl (lv_at hl 0 rfl) ?_
  refine lv_aload_n C.x C.b dX10_isWider_1 rfl (lv_at hl 0 rfl) ?_
  refine lv_iload_n C.x C.b dX10_isWider_2 rfl (lv_at hl 1 rfl) ?_
  refine tw_call (y := yX10_isRule) (bytes := cX10_isRule) (maxL := 2) (fun v => some (.int v)) [.int x1] (fun _ => True)  C hw XB.tt (fun _ _ _ => trivial) hσ hS hl.1 h (fun vv ss ee => kT_isRule l g A x1 σ vv ss ee) (cwV 1 C.t (lw_V q2435 q2437 qs102 q159 q2438) rfl rfl rfl (by decide +kernel) ⟨Nat.le_trans (Nat.le_of_ble_eq_true rfl) hRf, Nat.le_trans (Nat.le_of_ble_eq_true rfl) hRl⟩) rfl rfl (Nat.le_of_ble_eq_true rfl) dX10_isWider_3 (fun v_1 σ_2 H locs h hσ hS => ?_)
  refine lv_if_eq (tgt := 17) C.x C.b dX10_isWider_6 (by decide) (fun c_3 => ?_) (fun c_3 => ?_)
  · have h := ip c_3 h
    refine lv_iconst (v := 1) C.x C.b dX10_isWider_17 (by decide) ?_
    refine lv_goto (tgt := 22) C.x C.b dX10_isWider_18 (by decide) ?_
    exact wT_isWider_22 C hw hRf hRl _ _ _ _ _ _ _ h hσ hS (lv_sub hl [0, 1, 2] rfl)
  · have h := iN c_3 h
    refine lv_aload_n C.x C.b dX10_isWider_9 rfl (lv_at hl 0 rfl) ?_
    refine lv_iload_n C.x C.b dX10_isWider_10 rfl (lv_at hl 2 rfl) ?_
    refine tw_call (y := yX10_isRule) (bytes := cX10_isRule) (maxL := 2) (fun v => some (.int v)) [.int x2] (fun _ => True)  C hw XB.tt (fun _ _ _ => trivial) hσ hS hl.1 h (fun vv ss ee => kT_isRule l g A x2 σ_2 vv ss ee) (cwV 1 C.t (lw_V q2435 q2437 qs102 q159 q2438) rfl rfl rfl (by decide +kernel) ⟨Nat.le_trans (Nat.le_of_ble_eq_true rfl) hRf, Nat.le_trans (Nat.le_of_ble_eq_true rfl) hRl⟩) rfl rfl (Nat.le_of_ble_eq_true rfl) dX10_isWider_11 (fun v_4 σ_5 H locs h hσ hS => ?_)
    refine lv_if_ne (tgt := 21) C.x C.b dX10_isWider_14 (by decide) (fun c_6 => ?_) (fun c_6 => ?_)
    · have h := iN c_6 h
      refine lv_iconst (v := 0) C.x C.b dX10_isWider_21 (by decide) ?_
      exact wT_isWider_22 C hw hRf hRl _ _ _ _ _ _ _ h hσ hS (lv_sub hl [0, 1, 2] rfl)
    · have h := ip c_6 h
      refine lv_iconst (v := 1) C.x C.b dX10_isWider_17 (by decide) ?_
      refine lv_goto (tgt := 22) C.x C.b dX10_isWider_18 (by decide) ?_
      exact wT_isWider_22 C hw hRf hRl _ _ _ _ _ _ _ h hσ hS (lv_sub hl [0, 1, 2] rfl)

theorem wT_common_45 {z : Int32 × twS} (C : CX p m meth c s args cX10_common 6 (some .int) RX10) (hw : WKt twL g A s s.heap) (hRf : 5 ≤ R.frames) (hRl : 122 ≤ R.locals) : ∀ (n : Nat) (x1 : Int32) (x2 : Int32) (x3 : Int32) (x4 : Int32) (x5 : Int32) (σ : twS) (H : Heap) (locs : List Loc) (ls : Array Slot), bT_common_45 n x1 x2 x3 x4 x5 σ = some z → TI g A σ H → va_S A s.heap H locs → lv_has ls 6 [(0, .ref g.2.2.2.1), (1, .int x1), (2, .int x2), (3, .int x3), (4, .int x4), (5, .int x5)] → W p l e R s m args below meth c H locs 0 0 (MQ below (TQ g A (some (.int z.1)) z.2) args s 0 0 A) (F0 m 45 ls []) := by
  intro n
  induction n with
  | zero =>
    intro x1 x2 x3 x4 x5 σ H locs ls h
    cases h
  | succ n ih =>
    intro x1 x2 x3 x4 x5 σ H locs ls h hσ hS hl
    rw [bT_common_45] at h
    refine lv_iload C.x C.b dX10_common_45 (lv_at hl 5 rfl) ?_
    refine lv_iload C.x C.b dX10_common_47 (lv_at hl 4 rfl) ?_
    refine lv_icmp_ge (tgt := 94) C.x C.b dX10_common_49 (by decide) (fun c_1 => ?_) (fun c_1 => ?_)
    · have h := ip c_1 h
      refine lv_iload_n C.x C.b dX10_common_94 rfl (lv_at hl 3 rfl) ?_
      exact tw_iret C hσ hS h dX10_common_95
    · have h := iN c_1 h
      refine lv_iload_n C.x C.b dX10_common_52 rfl (lv_at hl 3 rfl) ?_
      refine lv_aload_n C.x C.b dX10_common_53 rfl (lv_at hl 0 rfl) ?_
      refine tw_gf15 C hw hσ q2230 dX10_common_54 ?_
      refine lv_iload C.x C.b dX10_common_57 (lv_at hl 5 rfl) ?_
      refine tw_ld15 C hw hσ h dX10_common_59 (fun v_2 h => ?_)
      refine lv_iload_n C.x C.b dX10_common_60 rfl (lv_at hl 1 rfl) ?_
      refine tw_callS (y := yX10_has) (bytes := cX10_has) (maxL := 2) (fun v => some (.int v)) [.int v_2, .int x1] C hw hσ hS hl.1 h (fun vv ss ee => kT_has l g A v_2 x1 σ vv ss ee) (va_cwS 2 C.t (lw_S q2199 q2200 q159 q2201) rfl rfl rfl (by decide +kernel) ⟨Nat.le_trans (Nat.le_of_ble_eq_true rfl) hRf, Nat.le_trans (Nat.le_of_ble_eq_true rfl) hRl⟩) rfl rfl (Nat.le_of_ble_eq_true rfl) dX10_common_61 (fun v_3 σ_4 H locs h hσ hS => ?_)
      refine lv_if_eq (tgt := 85) C.x C.b dX10_common_64 (by decide) (fun c_5 => ?_) (fun c_5 => ?_)
      · have h := ip c_5 h
        refine lv_iconst (v := 0) C.x C.b dX10_common_85 (by decide) ?_
        refine lv_iadd C.x C.b dX10_common_86 ?_
        refine tw_lt h (fun x3_6 h => ?_)
        refine lv_istore_n (lv' := [(3, .int x3_6), (0, .ref g.2.2.2.1), (1, .int x1), (2, .int x2), (4, .int x4), (5, .int x5)]) C.x C.b dX10_common_87 rfl hl (by decide) rfl (fun ls hl => ?_)
        obtain ⟨x5_7, e_, h⟩ := nm_s h
        refine lv_iinc (v := x5_7) (lv' := [(5, .int x5_7), (3, .int x3_6), (0, .ref g.2.2.2.1), (1, .int x1), (2, .int x2), (4, .int x4)]) C.x C.b dX10_common_88 hl (k := 5) rfl e_.symm (by decide) rfl (fun ls hl => ?_)
        refine lv_goto (tgt := 45) C.x C.b dX10_common_91 (by decide) ?_
        exact ih _ _ _ _ _ _ _ _ _ h hσ hS (lv_sub hl [2, 3, 4, 1, 5, 0] rfl)
      · have h := iN c_5 h
        refine lv_aload_n C.x C.b dX10_common_67 rfl (lv_at hl 0 rfl) ?_
        refine tw_gf15 C hw hσ q2230 dX10_common_68 ?_
        refine lv_iload C.x C.b dX10_common_71 (lv_at hl 5 rfl) ?_
        refine tw_ld15 C hw hσ h dX10_common_73 (fun v_8 h => ?_)
        refine lv_iload_n C.x C.b dX10_common_74 rfl (lv_at hl 2 rfl) ?_
        refine tw_callS (y := yX10_has) (bytes := cX10_has) (maxL := 2) (fun v => some (.int v)) [.int v_8, .int x2] C hw hσ hS hl.1 h (fun vv ss ee => kT_has l g A v_8 x2 σ_4 vv ss ee) (va_cwS 2 C.t (lw_S q2199 q2200 q159 q2201) rfl rfl rfl (by decide +kernel) ⟨Nat.le_trans (Nat.le_of_ble_eq_true rfl) hRf, Nat.le_trans (Nat.le_of_ble_eq_true rfl) hRl⟩) rfl rfl (Nat.le_of_ble_eq_true rfl) dX10_common_75 (fun v_9 σ_10 H locs h hσ hS => ?_)
        refine lv_if_eq (tgt := 85) C.x C.b dX10_common_78 (by decide) (fun c_11 => ?_) (fun c_11 => ?_)
        · have h := ip c_11 h
          refine lv_iconst (v := 0) C.x C.b dX10_common_85 (by decide) ?_
          refine lv_iadd C.x C.b dX10_common_86 ?_
          refine tw_lt h (fun x3_12 h => ?_)
          refine lv_istore_n (lv' := [(3, .int x3_12), (0, .ref g.2.2.2.1), (1, .int x1), (2, .int x2), (4, .int x4), (5, .int x5)]) C.x C.b dX10_common_87 rfl hl (by decide) rfl (fun ls hl => ?_)
          obtain ⟨x5_13, e_, h⟩ := nm_s h
          refine lv_iinc (v := x5_13) (lv' := [(5, .int x5_13), (3, .int x3_12), (0, .ref g.2.2.2.1), (1, .int x1), (2, .int x2), (4, .int x4)]) C.x C.b dX10_common_88 hl (k := 5) rfl e_.symm (by decide) rfl (fun ls hl => ?_)
          refine lv_goto (tgt := 45) C.x C.b dX10_common_91 (by decide) ?_
          exact ih _ _ _ _ _ _ _ _ _ h hσ hS (lv_sub hl [2, 3, 4, 1, 5, 0] rfl)
        · have h := iN c_11 h
          refine lv_iconst (v := 1) C.x C.b dX10_common_81 (by decide) ?_
          refine lv_goto (tgt := 86) C.x C.b dX10_common_82 (by decide) ?_
          refine lv_iadd C.x C.b dX10_common_86 ?_
          refine tw_lt h (fun x3_14 h => ?_)
          refine lv_istore_n (lv' := [(3, .int x3_14), (0, .ref g.2.2.2.1), (1, .int x1), (2, .int x2), (4, .int x4), (5, .int x5)]) C.x C.b dX10_common_87 rfl hl (by decide) rfl (fun ls hl => ?_)
          obtain ⟨x5_15, e_, h⟩ := nm_s h
          refine lv_iinc (v := x5_15) (lv' := [(5, .int x5_15), (3, .int x3_14), (0, .ref g.2.2.2.1), (1, .int x1), (2, .int x2), (4, .int x4)]) C.x C.b dX10_common_88 hl (k := 5) rfl e_.symm (by decide) rfl (fun ls hl => ?_)
          refine lv_goto (tgt := 45) C.x C.b dX10_common_91 (by decide) ?_
          exact ih _ _ _ _ _ _ _ _ _ h hσ hS (lv_sub hl [2, 3, 4, 1, 5, 0] rfl)

theorem wT_common_22 {z : Int32 × twS} (C : CX p m meth c s args cX10_common 6 (some .int) RX10) (hw : WKt twL g A s s.heap) (hRf : 5 ≤ R.frames) (hRl : 122 ≤ R.locals) : ∀ (x1 : Int32) (x2 : Int32) (s1 : Int32) (σ : twS) (H : Heap) (locs : List Loc) (ls : Array Slot), bT_common_22 x1 x2 s1 σ = some z → TI g A σ H → va_S A s.heap H locs → lv_has ls 6 [(0, .ref g.2.2.2.1), (1, .int x1), (2, .int x2)] → W p l e R s m args below meth c H locs 0 0 (MQ below (TQ g A (some (.int z.1)) z.2) args s 0 0 A) (F0 m 22 ls [.int s1, .ref g.2.2.2.1]) := by
  intro x1 x2 s1 σ H locs ls h hσ hS hl
  unfold bT_common_22 at h
  refine tw_call (y := yX10_throwsOne) (bytes := cX10_throwsOne) (maxL := 2) (fun v => some (.int v)) [.int s1] (fun _ => True)  C hw XB.tt (fun _ _ _ => trivial) hσ hS hl.1 h (fun vv ss ee => kT_throwsOne l g A s1 σ vv ss ee) (cwV 1 C.t (lw_V q2314 q2316 qs79 q159 q2317) rfl rfl rfl (by decide +kernel) ⟨Nat.le_trans (Nat.le_of_ble_eq_true rfl) hRf, Nat.le_trans (Nat.le_of_ble_eq_true rfl) hRl⟩) rfl rfl (Nat.le_of_ble_eq_true rfl) dX10_common_22 (fun v_1 σ_2 H locs h hσ hS => ?_)
  refine lv_if_eq (tgt := 30) C.x C.b dX10_common_25 (by decide) (fun c_3 => ?_) (fun c_3 => ?_)
  · have h := ip c_3 h
    refine lv_aload_n C.x C.b dX10_common_30 rfl (lv_at hl 0 rfl) ?_
    refine tw_call (y := yX10_setsOut) (bytes := cX10_setsOut) (maxL := 4) (fun _ => none) [] (fun _ => True)  C hw XB.tt (fun _ _ _ => trivial) hσ hS hl.1 h (fun vv ss ee => kT_setsOut l g A σ_2 vv ss ee) (cwV 0 C.t (lw_V q2338 q2340 qs83 q159 q2341) rfl rfl rfl (by decide +kernel) ⟨Nat.le_trans (Nat.le_of_ble_eq_true rfl) hRf, Nat.le_trans (Nat.le_of_ble_eq_true rfl) hRl⟩) rfl rfl (Nat.le_of_ble_eq_true rfl) dX10_common_31 (fun _ σ_4 H locs h hσ hS => ?_)
    refine lv_iconst (v := 0) C.x C.b dX10_common_34 (by decide) ?_
    refine lv_istore_n (lv' := [(3, .int 0), (0, .ref g.2.2.2.1), (1, .int x1), (2, .int x2)]) C.x C.b dX10_common_35 rfl hl (by decide) rfl (fun ls hl => ?_)
    refine lv_aload_n C.x C.b dX10_common_36 rfl (lv_at hl 1 rfl) ?_
    refine tw_call (y := yX10_cases) (bytes := cX10_cases) (maxL := 3) (fun v => some (.int v)) [] (fun _ => True)  C hw XB.tt (fun _ _ _ => trivial) hσ hS hl.1 h (fun vv ss ee => kT_cases l g A σ_4 vv ss ee) (cwV 0 C.t (lw_V q2334 q2336 qs82 q159 q2337) rfl rfl rfl (by decide +kernel) ⟨Nat.le_trans (Nat.le_of_ble_eq_true rfl) hRf, Nat.le_trans (Nat.le_of_ble_eq_true rfl) hRl⟩) rfl rfl (Nat.le_of_ble_eq_true rfl) dX10_common_37 (fun v_5 σ_6 H locs h hσ hS => ?_)
    refine lv_istore (lv' := [(4, .int v_5), (3, .int 0), (0, .ref g.2.2.2.1), (1, .int x1), (2, .int x2)]) C.x C.b dX10_common_40 hl (by decide) rfl (fun ls hl => ?_)
    refine lv_iconst (v := 0) C.x C.b dX10_common_42 (by decide) ?_
    refine lv_istore (lv' := [(5, .int 0), (4, .int v_5), (3, .int 0), (0, .ref g.2.2.2.1), (1, .int x1), (2, .int x2)]) C.x C.b dX10_common_43 hl (by decide) rfl (fun ls hl => ?_)
    exact wT_common_45 C hw hRf hRl _ _ _ _ _ _ _ _ _ _ h hσ hS (lv_sub hl [3, 4, 5, 2, 1, 0] rfl)
  · have h := iN c_3 h
    refine lv_iconst (v := 0) C.x C.b dX10_common_28 (by decide) ?_
    exact tw_iret C hσ hS h dX10_common_29

theorem kT_common (l : Launch) (g : twG) (A : Nat → Prop) (x1 : Int32) (x2 : Int32) (σ : twS) (v : Int32) (σ1 : twS) (h : mT_common x1 x2 σ = some (v, σ1)) : Met l yX10_common (ws_ yX10_common cX10_common 6 (some .int)) ({ frames := 5, cells := 0, slots := 0, locals := 122 }) (TPc twL g A [.ref g.2.2.2.1, .int x1, .int x2] (fun _ => True) σ) (TQ g A (some (.int v)) σ1) 0 0 A := by
  refine Met.ofW (cc := cX10_common) (maxL := 6) (ret := (some .int)) (by decide) rfl ?_
  intro p e s m args below meth c s₁ B hml hv
  obtain ⟨rfl, hw, hX, hσ⟩ := hv
  have hts := atoms_spec (ws := (ws_ yX10_common cX10_common 6 (some .int))) B.pre
  have C : CX p m meth c s ([.ref g.2.2.2.1, .int x1, .int x2] : List Value).toArray cX10_common 6 (some .int) RX10 := ⟨⟨B.exec, B.bytes, hml, findClass_of_methodNamed B.named, fun w h => hts w (List.mem_cons_of_mem _ h)⟩, B.returns, B.notSynchronized⟩
  have hRf : 5 ≤ (headSpec (ws_ yX10_common cX10_common 6 (some .int)) ({ frames := 5, cells := 0, slots := 0, locals := 122 })).room.frames := Nat.le_refl _
  have hRl : 122 ≤ (headSpec (ws_ yX10_common cX10_common 6 (some .int)) ({ frames := 5, cells := 0, slots := 0, locals := 122 })).room.locals := Nat.le_refl _
  generalize (headSpec (ws_ yX10_common cX10_common 6 (some .int)) ({ frames := 5, cells := 0, slots := 0, locals := 122 })).room = R at hRf hRl ⊢
  have hS : va_S A s.heap s.heap [] := va_S.rf
  have hl := lv_entry ([.ref g.2.2.2.1, .int x1, .int x2]) (n := 6) (Nat.le_of_ble_eq_true rfl)
  rw [lg_entry_eq]
  generalize (lg_sl ([.ref g.2.2.2.1, .int x1, .int x2]) ++ List.replicate (6 - (lg_sl ([.ref g.2.2.2.1, .int x1, .int x2])).length) Slot.unset).toArray = ls at hl ⊢
  have hl : lv_has ls 6 [(0, .ref g.2.2.2.1), (1, .int x1), (2, .int x2)] := hl
  obtain ⟨z, hz⟩ : ∃ z, z = (v, σ1) := ⟨_, rfl⟩
  rw [← hz] at h
  rw [show v = z.1 by rw [hz], show σ1 = z.2 by rw [hz]]
  clear hz v σ1
  unfold mT_common at h
  refine lv_aload_n C.x C.b dX10_common_0 rfl (lv_at hl 0 rfl) ?_
  refine lv_aload_n C.x C.b dX10_common_1 rfl (lv_at hl 0 rfl) ?_
  refine lv_iload_n C.x C.b dX10_common_2 rfl (lv_at hl 1 rfl) ?_
  refine tw_call (y := yX10_isRule) (bytes := cX10_isRule) (maxL := 2) (fun v => some (.int v)) [.int x1] (fun _ => True)  C hw XB.tt (fun _ _ _ => trivial) hσ hS hl.1 h (fun vv ss ee => kT_isRule l g A x1 σ vv ss ee) (cwV 1 C.t (lw_V q2435 q2437 qs102 q159 q2438) rfl rfl rfl (by decide +kernel) ⟨Nat.le_trans (Nat.le_of_ble_eq_true rfl) hRf, Nat.le_trans (Nat.le_of_ble_eq_true rfl) hRl⟩) rfl rfl (Nat.le_of_ble_eq_true rfl) dX10_common_3 (fun v_1 σ_2 H locs h hσ hS => ?_)
  refine lv_if_eq (tgt := 17) C.x C.b dX10_common_6 (by decide) (fun c_3 => ?_) (fun c_3 => ?_)
  · have h := ip c_3 h
    refine lv_iconst (v := 1) C.x C.b dX10_common_17 (by decide) ?_
    refine lv_goto (tgt := 22) C.x C.b dX10_common_18 (by decide) ?_
    exact wT_common_22 C hw hRf hRl _ _ _ _ _ _ _ h hσ hS (lv_sub hl [0, 1, 2] rfl)
  · have h := iN c_3 h
    refine lv_aload_n C.x C.b dX10_common_9 rfl (lv_at hl 0 rfl) ?_
    refine lv_iload_n C.x C.b dX10_common_10 rfl (lv_at hl 2 rfl) ?_
    refine tw_call (y := yX10_isRule) (bytes := cX10_isRule) (maxL := 2) (fun v => some (.int v)) [.int x2] (fun _ => True)  C hw XB.tt (fun _ _ _ => trivial) hσ hS hl.1 h (fun vv ss ee => kT_isRule l g A x2 σ_2 vv ss ee) (cwV 1 C.t (lw_V q2435 q2437 qs102 q159 q2438) rfl rfl rfl (by decide +kernel) ⟨Nat.le_trans (Nat.le_of_ble_eq_true rfl) hRf, Nat.le_trans (Nat.le_of_ble_eq_true rfl) hRl⟩) rfl rfl (Nat.le_of_ble_eq_true rfl) dX10_common_11 (fun v_4 σ_5 H locs h hσ hS => ?_)
    refine lv_if_ne (tgt := 21) C.x C.b dX10_common_14 (by decide) (fun c_6 => ?_) (fun c_6 => ?_)
    · have h := iN c_6 h
      refine lv_iconst (v := 0) C.x C.b dX10_common_21 (by decide) ?_
      exact wT_common_22 C hw hRf hRl _ _ _ _ _ _ _ h hσ hS (lv_sub hl [0, 1, 2] rfl)
    · have h := ip c_6 h
      refine lv_iconst (v := 1) C.x C.b dX10_common_17 (by decide) ?_
      refine lv_goto (tgt := 22) C.x C.b dX10_common_18 (by decide) ?_
      exact wT_common_22 C hw hRf hRl _ _ _ _ _ _ _ h hσ hS (lv_sub hl [0, 1, 2] rfl)

theorem wT_needed_26 {z : Int32 × twS} (C : CX p m meth c s args cX10_needed 4 (some .int) RX10) (hw : WKt twL g A s s.heap) (hRf : 8 ≤ R.frames) (hRl : 182 ≤ R.locals) : ∀ (n : Nat) (x1 : Int32) (x2 : Int32) (x3 : Int32) (σ : twS) (H : Heap) (locs : List Loc) (ls : Array Slot), bT_needed_26 n x1 x2 x3 σ = some z → TI g A σ H → va_S A s.heap H locs → lv_has ls 4 [(0, .ref g.2.2.2.1), (1, .int x1), (2, .int x2), (3, .int x3)] → W p l e R s m args below meth c H locs 0 0 (MQ below (TQ g A (some (.int z.1)) z.2) args s 0 0 A) (F0 m 26 ls []) := by
  intro n
  induction n with
  | zero =>
    intro x1 x2 x3 σ H locs ls h
    cases h
  | succ n ih =>
    intro x1 x2 x3 σ H locs ls h hσ hS hl
    rw [bT_needed_26] at h
    refine lv_iload_n C.x C.b dX10_needed_26 rfl (lv_at hl 3 rfl) ?_
    refine lv_aload_n C.x C.b dX10_needed_27 rfl (lv_at hl 0 rfl) ?_
    refine tw_gf0 C hw hσ q2215 dX10_needed_28 ?_
    refine lv_bipush (v := 17) C.x C.b dX10_needed_31 (by decide) ?_
    refine tw_ld0 C hw hσ h dX10_needed_33 (fun v_1 h => ?_)
    refine lv_icmp_ge (tgt := 69) C.x C.b dX10_needed_34 (by decide) (fun c_2 => ?_) (fun c_2 => ?_)
    · have h := ip c_2 h
      refine lv_iload_n C.x C.b dX10_needed_69 rfl (lv_at hl 2 rfl) ?_
      exact tw_iret C hσ hS h dX10_needed_70
    · have h := iN c_2 h
      refine lv_iload_n C.x C.b dX10_needed_37 rfl (lv_at hl 2 rfl) ?_
      refine lv_aload_n C.x C.b dX10_needed_38 rfl (lv_at hl 0 rfl) ?_
      refine lv_iload_n C.x C.b dX10_needed_39 rfl (lv_at hl 3 rfl) ?_
      refine tw_call (y := yX10_gaps) (bytes := cX10_gaps) (maxL := 2) (fun v => some (.int v)) [.int x3] (fun _ => True)  C hw XB.tt (fun _ _ _ => trivial) hσ hS hl.1 h (fun vv ss ee => kT_gaps l g A x3 σ vv ss ee) (cwV 1 C.t (lw_V q2505 q2507 qs110 q159 q2508) rfl rfl rfl (by decide +kernel) ⟨Nat.le_trans (Nat.le_of_ble_eq_true rfl) hRf, Nat.le_trans (Nat.le_of_ble_eq_true rfl) hRl⟩) rfl rfl (Nat.le_of_ble_eq_true rfl) dX10_needed_40 (fun v_3 σ_4 H locs h hσ hS => ?_)
      refine lv_aload_n C.x C.b dX10_needed_43 rfl (lv_at hl 0 rfl) ?_
      refine lv_iconst (v := 3) C.x C.b dX10_needed_44 (by decide) ?_
      refine lv_iload_n C.x C.b dX10_needed_45 rfl (lv_at hl 3 rfl) ?_
      refine tw_call (y := yX10_many) (bytes := cX10_many) (maxL := 7) (fun v => some (.int v)) [.int 3, .int x3] (fun _ => True)  C hw XB.tt (fun _ _ _ => trivial) hσ hS hl.1 h (fun vv ss ee => kT_many l g A 3 x3 σ_4 vv ss ee) (cwV 2 C.t (lw_V q2359 q2361 qs88 q159 q2362) rfl rfl rfl (by decide +kernel) ⟨Nat.le_trans (Nat.le_of_ble_eq_true rfl) hRf, Nat.le_trans (Nat.le_of_ble_eq_true rfl) hRl⟩) rfl rfl (Nat.le_of_ble_eq_true rfl) dX10_needed_46 (fun v_5 σ_6 H locs h hσ hS => ?_)
      refine lv_iadd C.x C.b dX10_needed_49 ?_
      refine lv_iload_n C.x C.b dX10_needed_50 rfl (lv_at hl 1 rfl) ?_
      refine lv_icmp_le (tgt := 60) C.x C.b dX10_needed_51 (by decide) (fun c_7 => ?_) (fun c_7 => ?_)
      · have h := ip c_7 h
        refine lv_iconst (v := 0) C.x C.b dX10_needed_60 (by decide) ?_
        refine lv_ior C.x C.b dX10_needed_61 ?_
        refine tw_lt h (fun x2_8 h => ?_)
        refine lv_istore_n (lv' := [(2, .int x2_8), (0, .ref g.2.2.2.1), (1, .int x1), (3, .int x3)]) C.x C.b dX10_needed_62 rfl hl (by decide) rfl (fun ls hl => ?_)
        obtain ⟨x3_9, e_, h⟩ := nm_s h
        refine lv_iinc (v := x3_9) (lv' := [(3, .int x3_9), (2, .int x2_8), (0, .ref g.2.2.2.1), (1, .int x1)]) C.x C.b dX10_needed_63 hl (k := 3) rfl e_.symm (by decide) rfl (fun ls hl => ?_)
        refine lv_goto (tgt := 26) C.x C.b dX10_needed_66 (by decide) ?_
        exact ih _ _ _ _ _ _ _ h hσ hS (lv_sub hl [2, 3, 1, 0] rfl)
      · have h := iN c_7 h
        refine lv_iconst (v := 1) C.x C.b dX10_needed_54 (by decide) ?_
        refine lv_iload_n C.x C.b dX10_needed_55 rfl (lv_at hl 3 rfl) ?_
        refine lv_ishl C.x C.b dX10_needed_56 ?_
        refine lv_goto (tgt := 61) C.x C.b dX10_needed_57 (by decide) ?_
        refine lv_ior C.x C.b dX10_needed_61 ?_
        refine tw_lt h (fun x2_10 h => ?_)
        refine lv_istore_n (lv' := [(2, .int x2_10), (0, .ref g.2.2.2.1), (1, .int x1), (3, .int x3)]) C.x C.b dX10_needed_62 rfl hl (by decide) rfl (fun ls hl => ?_)
        obtain ⟨x3_11, e_, h⟩ := nm_s h
        refine lv_iinc (v := x3_11) (lv' := [(3, .int x3_11), (2, .int x2_10), (0, .ref g.2.2.2.1), (1, .int x1)]) C.x C.b dX10_needed_63 hl (k := 3) rfl e_.symm (by decide) rfl (fun ls hl => ?_)
        refine lv_goto (tgt := 26) C.x C.b dX10_needed_66 (by decide) ?_
        exact ih _ _ _ _ _ _ _ h hσ hS (lv_sub hl [2, 3, 1, 0] rfl)

theorem kT_needed (l : Launch) (g : twG) (A : Nat → Prop) (σ : twS) (v : Int32) (σ1 : twS) (h : mT_needed σ = some (v, σ1)) : Met l yX10_needed (ws_ yX10_needed cX10_needed 4 (some .int)) ({ frames := 8, cells := 0, slots := 0, locals := 182 }) (TPc twL g A [.ref g.2.2.2.1] (fun _ => True) σ) (TQ g A (some (.int v)) σ1) 0 0 A := by
  refine Met.ofW (cc := cX10_needed) (maxL := 4) (ret := (some .int)) (by decide) rfl ?_
  intro p e s m args below meth c s₁ B hml hv
  obtain ⟨rfl, hw, hX, hσ⟩ := hv
  have hts := atoms_spec (ws := (ws_ yX10_needed cX10_needed 4 (some .int))) B.pre
  have C : CX p m meth c s ([.ref g.2.2.2.1] : List Value).toArray cX10_needed 4 (some .int) RX10 := ⟨⟨B.exec, B.bytes, hml, findClass_of_methodNamed B.named, fun w h => hts w (List.mem_cons_of_mem _ h)⟩, B.returns, B.notSynchronized⟩
  have hRf : 8 ≤ (headSpec (ws_ yX10_needed cX10_needed 4 (some .int)) ({ frames := 8, cells := 0, slots := 0, locals := 182 })).room.frames := Nat.le_refl _
  have hRl : 182 ≤ (headSpec (ws_ yX10_needed cX10_needed 4 (some .int)) ({ frames := 8, cells := 0, slots := 0, locals := 182 })).room.locals := Nat.le_refl _
  generalize (headSpec (ws_ yX10_needed cX10_needed 4 (some .int)) ({ frames := 8, cells := 0, slots := 0, locals := 182 })).room = R at hRf hRl ⊢
  have hS : va_S A s.heap s.heap [] := va_S.rf
  have hl := lv_entry ([.ref g.2.2.2.1]) (n := 4) (Nat.le_of_ble_eq_true rfl)
  rw [lg_entry_eq]
  generalize (lg_sl ([.ref g.2.2.2.1]) ++ List.replicate (4 - (lg_sl ([.ref g.2.2.2.1])).length) Slot.unset).toArray = ls at hl ⊢
  have hl : lv_has ls 4 [(0, .ref g.2.2.2.1)] := hl
  obtain ⟨z, hz⟩ : ∃ z, z = (v, σ1) := ⟨_, rfl⟩
  rw [← hz] at h
  rw [show v = z.1 by rw [hz], show σ1 = z.2 by rw [hz]]
  clear hz v σ1
  unfold mT_needed at h
  refine lv_aload_n C.x C.b dX10_needed_0 rfl (lv_at hl 0 rfl) ?_
  refine lv_iconst (v := 0) C.x C.b dX10_needed_1 (by decide) ?_
  refine tw_pf13 C hw hσ hS q2228 dX10_needed_2 (fun H locs hσ hS => ?_)
  obtain ⟨σ_1, e_, h⟩ := nm_s h
  rw [← e_] at hσ
  clear e_
  refine lv_aload_n C.x C.b dX10_needed_5 rfl (lv_at hl 0 rfl) ?_
  refine tw_call (y := yX10_setsOut) (bytes := cX10_setsOut) (maxL := 4) (fun _ => none) [] (fun _ => True)  C hw XB.tt (fun _ _ _ => trivial) hσ hS hl.1 h (fun vv ss ee => kT_setsOut l g A σ_1 vv ss ee) (cwV 0 C.t (lw_V q2338 q2340 qs83 q159 q2341) rfl rfl rfl (by decide +kernel) ⟨Nat.le_trans (Nat.le_of_ble_eq_true rfl) hRf, Nat.le_trans (Nat.le_of_ble_eq_true rfl) hRl⟩) rfl rfl (Nat.le_of_ble_eq_true rfl) dX10_needed_6 (fun _ σ_2 H locs h hσ hS => ?_)
  refine lv_aload_n C.x C.b dX10_needed_9 rfl (lv_at hl 0 rfl) ?_
  refine lv_iconst (v := -1) C.x C.b dX10_needed_10 (by decide) ?_
  refine tw_call (y := yX10_gaps) (bytes := cX10_gaps) (maxL := 2) (fun v => some (.int v)) [.int (-1)] (fun _ => True)  C hw XB.tt (fun _ _ _ => trivial) hσ hS hl.1 h (fun vv ss ee => kT_gaps l g A (-1) σ_2 vv ss ee) (cwV 1 C.t (lw_V q2505 q2507 qs110 q159 q2508) rfl rfl rfl (by decide +kernel) ⟨Nat.le_trans (Nat.le_of_ble_eq_true rfl) hRf, Nat.le_trans (Nat.le_of_ble_eq_true rfl) hRl⟩) rfl rfl (Nat.le_of_ble_eq_true rfl) dX10_needed_11 (fun v_3 σ_4 H locs h hσ hS => ?_)
  refine lv_aload_n C.x C.b dX10_needed_14 rfl (lv_at hl 0 rfl) ?_
  refine lv_iconst (v := 3) C.x C.b dX10_needed_15 (by decide) ?_
  refine lv_iconst (v := -1) C.x C.b dX10_needed_16 (by decide) ?_
  refine tw_call (y := yX10_many) (bytes := cX10_many) (maxL := 7) (fun v => some (.int v)) [.int 3, .int (-1)] (fun _ => True)  C hw XB.tt (fun _ _ _ => trivial) hσ hS hl.1 h (fun vv ss ee => kT_many l g A 3 (-1) σ_4 vv ss ee) (cwV 2 C.t (lw_V q2359 q2361 qs88 q159 q2362) rfl rfl rfl (by decide +kernel) ⟨Nat.le_trans (Nat.le_of_ble_eq_true rfl) hRf, Nat.le_trans (Nat.le_of_ble_eq_true rfl) hRl⟩) rfl rfl (Nat.le_of_ble_eq_true rfl) dX10_needed_17 (fun v_5 σ_6 H locs h hσ hS => ?_)
  refine lv_iadd C.x C.b dX10_needed_20 ?_
  refine tw_lt h (fun x1_7 h => ?_)
  refine lv_istore_n (lv' := [(1, .int x1_7), (0, .ref g.2.2.2.1)]) C.x C.b dX10_needed_21 rfl hl (by decide) rfl (fun ls hl => ?_)
  refine lv_iconst (v := 0) C.x C.b dX10_needed_22 (by decide) ?_
  refine lv_istore_n (lv' := [(2, .int 0), (1, .int x1_7), (0, .ref g.2.2.2.1)]) C.x C.b dX10_needed_23 rfl hl (by decide) rfl (fun ls hl => ?_)
  refine lv_iconst (v := 0) C.x C.b dX10_needed_24 (by decide) ?_
  refine lv_istore_n (lv' := [(3, .int 0), (2, .int 0), (1, .int x1_7), (0, .ref g.2.2.2.1)]) C.x C.b dX10_needed_25 rfl hl (by decide) rfl (fun ls hl => ?_)
  exact wT_needed_26 C hw hRf hRl _ _ _ _ _ _ _ _ h hσ hS (lv_sub hl [3, 2, 1, 0] rfl)

theorem wT_idle_9 {z : Int32 × twS} (C : CX p m meth c s args cX10_idle 3 (some .int) RX10) (hw : WKt twL g A s s.heap) (hRf : 8 ≤ R.frames) (hRl : 183 ≤ R.locals) : ∀ (n : Nat) (x1 : Int32) (x2 : Int32) (σ : twS) (H : Heap) (locs : List Loc) (ls : Array Slot), bT_idle_9 n x1 x2 σ = some z → TI g A σ H → va_S A s.heap H locs → lv_has ls 3 [(0, .ref g.2.2.2.1), (1, .int x1), (2, .int x2)] → W p l e R s m args below meth c H locs 0 0 (MQ below (TQ g A (some (.int z.1)) z.2) args s 0 0 A) (F0 m 9 ls []) := by
  intro n
  induction n with
  | zero =>
    intro x1 x2 σ H locs ls h
    cases h
  | succ n ih =>
    intro x1 x2 σ H locs ls h hσ hS hl
    rw [bT_idle_9] at h
    refine lv_iload_n C.x C.b dX10_idle_9 rfl (lv_at hl 2 rfl) ?_
    refine lv_aload_n C.x C.b dX10_idle_10 rfl (lv_at hl 0 rfl) ?_
    refine tw_gf0 C hw hσ q2215 dX10_idle_11 ?_
    refine lv_bipush (v := 17) C.x C.b dX10_idle_14 (by decide) ?_
    refine tw_ld0 C hw hσ h dX10_idle_16 (fun v_1 h => ?_)
    refine lv_icmp_ge (tgt := 45) C.x C.b dX10_idle_17 (by decide) (fun c_2 => ?_) (fun c_2 => ?_)
    · have h := ip c_2 h
      refine lv_iload_n C.x C.b dX10_idle_45 rfl (lv_at hl 1 rfl) ?_
      exact tw_iret C hσ hS h dX10_idle_46
    · have h := iN c_2 h
      refine lv_iload_n C.x C.b dX10_idle_20 rfl (lv_at hl 1 rfl) ?_
      refine lv_aload_n C.x C.b dX10_idle_21 rfl (lv_at hl 0 rfl) ?_
      refine lv_iload_n C.x C.b dX10_idle_22 rfl (lv_at hl 2 rfl) ?_
      refine lv_iconst (v := 1) C.x C.b dX10_idle_23 (by decide) ?_
      refine tw_call (y := yX10_manyOf) (bytes := cX10_manyOf) (maxL := 8) (fun v => some (.int v)) [.int x2, .int 1] (fun _ => True)  C hw XB.tt (fun _ _ _ => trivial) hσ hS hl.1 h (fun vv ss ee => kT_manyOf l g A x2 1 σ vv ss ee) (cwV 2 C.t (lw_V q2451 q2453 qs106 q159 q2454) rfl rfl rfl (by decide +kernel) ⟨Nat.le_trans (Nat.le_of_ble_eq_true rfl) hRf, Nat.le_trans (Nat.le_of_ble_eq_true rfl) hRl⟩) rfl rfl (Nat.le_of_ble_eq_true rfl) dX10_idle_24 (fun v_3 σ_4 H locs h hσ hS => ?_)
      refine lv_if_ne (tgt := 36) C.x C.b dX10_idle_27 (by decide) (fun c_5 => ?_) (fun c_5 => ?_)
      · have h := iN c_5 h
        refine lv_iconst (v := 0) C.x C.b dX10_idle_36 (by decide) ?_
        refine lv_ior C.x C.b dX10_idle_37 ?_
        refine tw_lt h (fun x1_6 h => ?_)
        refine lv_istore_n (lv' := [(1, .int x1_6), (0, .ref g.2.2.2.1), (2, .int x2)]) C.x C.b dX10_idle_38 rfl hl (by decide) rfl (fun ls hl => ?_)
        obtain ⟨x2_7, e_, h⟩ := nm_s h
        refine lv_iinc (v := x2_7) (lv' := [(2, .int x2_7), (1, .int x1_6), (0, .ref g.2.2.2.1)]) C.x C.b dX10_idle_39 hl (k := 2) rfl e_.symm (by decide) rfl (fun ls hl => ?_)
        refine lv_goto (tgt := 9) C.x C.b dX10_idle_42 (by decide) ?_
        exact ih _ _ _ _ _ _ h hσ hS (lv_sub hl [2, 1, 0] rfl)
      · have h := ip c_5 h
        refine lv_iconst (v := 1) C.x C.b dX10_idle_30 (by decide) ?_
        refine lv_iload_n C.x C.b dX10_idle_31 rfl (lv_at hl 2 rfl) ?_
        refine lv_ishl C.x C.b dX10_idle_32 ?_
        refine lv_goto (tgt := 37) C.x C.b dX10_idle_33 (by decide) ?_
        refine lv_ior C.x C.b dX10_idle_37 ?_
        refine tw_lt h (fun x1_8 h => ?_)
        refine lv_istore_n (lv' := [(1, .int x1_8), (0, .ref g.2.2.2.1), (2, .int x2)]) C.x C.b dX10_idle_38 rfl hl (by decide) rfl (fun ls hl => ?_)
        obtain ⟨x2_9, e_, h⟩ := nm_s h
        refine lv_iinc (v := x2_9) (lv' := [(2, .int x2_9), (1, .int x1_8), (0, .ref g.2.2.2.1)]) C.x C.b dX10_idle_39 hl (k := 2) rfl e_.symm (by decide) rfl (fun ls hl => ?_)
        refine lv_goto (tgt := 9) C.x C.b dX10_idle_42 (by decide) ?_
        exact ih _ _ _ _ _ _ h hσ hS (lv_sub hl [2, 1, 0] rfl)

theorem kT_idle (l : Launch) (g : twG) (A : Nat → Prop) (σ : twS) (v : Int32) (σ1 : twS) (h : mT_idle σ = some (v, σ1)) : Met l yX10_idle (ws_ yX10_idle cX10_idle 3 (some .int)) ({ frames := 8, cells := 0, slots := 0, locals := 183 }) (TPc twL g A [.ref g.2.2.2.1] (fun _ => True) σ) (TQ g A (some (.int v)) σ1) 0 0 A := by
  refine Met.ofW (cc := cX10_idle) (maxL := 3) (ret := (some .int)) (by decide) rfl ?_
  intro p e s m args below meth c s₁ B hml hv
  obtain ⟨rfl, hw, hX, hσ⟩ := hv
  have hts := atoms_spec (ws := (ws_ yX10_idle cX10_idle 3 (some .int))) B.pre
  have C : CX p m meth c s ([.ref g.2.2.2.1] : List Value).toArray cX10_idle 3 (some .int) RX10 := ⟨⟨B.exec, B.bytes, hml, findClass_of_methodNamed B.named, fun w h => hts w (List.mem_cons_of_mem _ h)⟩, B.returns, B.notSynchronized⟩
  have hRf : 8 ≤ (headSpec (ws_ yX10_idle cX10_idle 3 (some .int)) ({ frames := 8, cells := 0, slots := 0, locals := 183 })).room.frames := Nat.le_refl _
  have hRl : 183 ≤ (headSpec (ws_ yX10_idle cX10_idle 3 (some .int)) ({ frames := 8, cells := 0, slots := 0, locals := 183 })).room.locals := Nat.le_refl _
  generalize (headSpec (ws_ yX10_idle cX10_idle 3 (some .int)) ({ frames := 8, cells := 0, slots := 0, locals := 183 })).room = R at hRf hRl ⊢
  have hS : va_S A s.heap s.heap [] := va_S.rf
  have hl := lv_entry ([.ref g.2.2.2.1]) (n := 3) (Nat.le_of_ble_eq_true rfl)
  rw [lg_entry_eq]
  generalize (lg_sl ([.ref g.2.2.2.1]) ++ List.replicate (3 - (lg_sl ([.ref g.2.2.2.1])).length) Slot.unset).toArray = ls at hl ⊢
  have hl : lv_has ls 3 [(0, .ref g.2.2.2.1)] := hl
  obtain ⟨z, hz⟩ : ∃ z, z = (v, σ1) := ⟨_, rfl⟩
  rw [← hz] at h
  rw [show v = z.1 by rw [hz], show σ1 = z.2 by rw [hz]]
  clear hz v σ1
  unfold mT_idle at h
  refine lv_aload_n C.x C.b dX10_idle_0 rfl (lv_at hl 0 rfl) ?_
  refine lv_iconst (v := 0) C.x C.b dX10_idle_1 (by decide) ?_
  refine tw_pf13 C hw hσ hS q2228 dX10_idle_2 (fun H locs hσ hS => ?_)
  obtain ⟨σ_1, e_, h⟩ := nm_s h
  rw [← e_] at hσ
  clear e_
  refine lv_iconst (v := 0) C.x C.b dX10_idle_5 (by decide) ?_
  refine lv_istore_n (lv' := [(1, .int 0), (0, .ref g.2.2.2.1)]) C.x C.b dX10_idle_6 rfl hl (by decide) rfl (fun ls hl => ?_)
  refine lv_iconst (v := 0) C.x C.b dX10_idle_7 (by decide) ?_
  refine lv_istore_n (lv' := [(2, .int 0), (1, .int 0), (0, .ref g.2.2.2.1)]) C.x C.b dX10_idle_8 rfl hl (by decide) rfl (fun ls hl => ?_)
  exact wT_idle_9 C hw hRf hRl _ _ _ _ _ _ _ h hσ hS (lv_sub hl [2, 1, 0] rfl)

theorem wT_gapsWithout_14 {z : Int32 × twS} (C : CX p m meth c s args cX10_gapsWithout 2 (some .int) RX10) (hw : WKt twL g A s s.heap) (hRf : 8 ≤ R.frames) (hRl : 182 ≤ R.locals) : ∀ (x1 : Int32) (s1 : Int32) (σ : twS) (H : Heap) (locs : List Loc) (ls : Array Slot), bT_gapsWithout_14 x1 s1 σ = some z → TI g A σ H → va_S A s.heap H locs → lv_has ls 2 [(0, .ref g.2.2.2.1), (1, .int x1)] → W p l e R s m args below meth c H locs 0 0 (MQ below (TQ g A (some (.int z.1)) z.2) args s 0 0 A) (F0 m 14 ls [.int s1, .ref g.2.2.2.1]) := by
  intro x1 s1 σ H locs ls h hσ hS hl
  unfold bT_gapsWithout_14 at h
  refine tw_call (y := yX10_throwsOne) (bytes := cX10_throwsOne) (maxL := 2) (fun v => some (.int v)) [.int s1] (fun _ => True)  C hw XB.tt (fun _ _ _ => trivial) hσ hS hl.1 h (fun vv ss ee => kT_throwsOne l g A s1 σ vv ss ee) (cwV 1 C.t (lw_V q2314 q2316 qs79 q159 q2317) rfl rfl rfl (by decide +kernel) ⟨Nat.le_trans (Nat.le_of_ble_eq_true rfl) hRf, Nat.le_trans (Nat.le_of_ble_eq_true rfl) hRl⟩) rfl rfl (Nat.le_of_ble_eq_true rfl) dX10_gapsWithout_14 (fun v_1 σ_2 H locs h hσ hS => ?_)
  refine lv_if_eq (tgt := 22) C.x C.b dX10_gapsWithout_17 (by decide) (fun c_3 => ?_) (fun c_3 => ?_)
  · have h := ip c_3 h
    refine lv_aload_n C.x C.b dX10_gapsWithout_22 rfl (lv_at hl 0 rfl) ?_
    refine tw_call (y := yX10_setsOut) (bytes := cX10_setsOut) (maxL := 4) (fun _ => none) [] (fun _ => True)  C hw XB.tt (fun _ _ _ => trivial) hσ hS hl.1 h (fun vv ss ee => kT_setsOut l g A σ_2 vv ss ee) (cwV 0 C.t (lw_V q2338 q2340 qs83 q159 q2341) rfl rfl rfl (by decide +kernel) ⟨Nat.le_trans (Nat.le_of_ble_eq_true rfl) hRf, Nat.le_trans (Nat.le_of_ble_eq_true rfl) hRl⟩) rfl rfl (Nat.le_of_ble_eq_true rfl) dX10_gapsWithout_23 (fun _ σ_4 H locs h hσ hS => ?_)
    refine lv_aload_n C.x C.b dX10_gapsWithout_26 rfl (lv_at hl 0 rfl) ?_
    refine lv_iload_n C.x C.b dX10_gapsWithout_27 rfl (lv_at hl 1 rfl) ?_
    refine tw_call (y := yX10_gaps) (bytes := cX10_gaps) (maxL := 2) (fun v => some (.int v)) [.int x1] (fun _ => True)  C hw XB.tt (fun _ _ _ => trivial) hσ hS hl.1 h (fun vv ss ee => kT_gaps l g A x1 σ_4 vv ss ee) (cwV 1 C.t (lw_V q2505 q2507 qs110 q159 q2508) rfl rfl rfl (by decide +kernel) ⟨Nat.le_trans (Nat.le_of_ble_eq_true rfl) hRf, Nat.le_trans (Nat.le_of_ble_eq_true rfl) hRl⟩) rfl rfl (Nat.le_of_ble_eq_true rfl) dX10_gapsWithout_28 (fun v_5 σ_6 H locs h hσ hS => ?_)
    exact tw_iret C hσ hS h dX10_gapsWithout_31
  · have h := iN c_3 h
    refine lv_iconst (v := 0) C.x C.b dX10_gapsWithout_20 (by decide) ?_
    exact tw_iret C hσ hS h dX10_gapsWithout_21

theorem kT_gapsWithout (l : Launch) (g : twG) (A : Nat → Prop) (x1 : Int32) (σ : twS) (v : Int32) (σ1 : twS) (h : mT_gapsWithout x1 σ = some (v, σ1)) : Met l yX10_gapsWithout (ws_ yX10_gapsWithout cX10_gapsWithout 2 (some .int)) ({ frames := 8, cells := 0, slots := 0, locals := 182 }) (TPc twL g A [.ref g.2.2.2.1, .int x1] (fun _ => True) σ) (TQ g A (some (.int v)) σ1) 0 0 A := by
  refine Met.ofW (cc := cX10_gapsWithout) (maxL := 2) (ret := (some .int)) (by decide) rfl ?_
  intro p e s m args below meth c s₁ B hml hv
  obtain ⟨rfl, hw, hX, hσ⟩ := hv
  have hts := atoms_spec (ws := (ws_ yX10_gapsWithout cX10_gapsWithout 2 (some .int))) B.pre
  have C : CX p m meth c s ([.ref g.2.2.2.1, .int x1] : List Value).toArray cX10_gapsWithout 2 (some .int) RX10 := ⟨⟨B.exec, B.bytes, hml, findClass_of_methodNamed B.named, fun w h => hts w (List.mem_cons_of_mem _ h)⟩, B.returns, B.notSynchronized⟩
  have hRf : 8 ≤ (headSpec (ws_ yX10_gapsWithout cX10_gapsWithout 2 (some .int)) ({ frames := 8, cells := 0, slots := 0, locals := 182 })).room.frames := Nat.le_refl _
  have hRl : 182 ≤ (headSpec (ws_ yX10_gapsWithout cX10_gapsWithout 2 (some .int)) ({ frames := 8, cells := 0, slots := 0, locals := 182 })).room.locals := Nat.le_refl _
  generalize (headSpec (ws_ yX10_gapsWithout cX10_gapsWithout 2 (some .int)) ({ frames := 8, cells := 0, slots := 0, locals := 182 })).room = R at hRf hRl ⊢
  have hS : va_S A s.heap s.heap [] := va_S.rf
  have hl := lv_entry ([.ref g.2.2.2.1, .int x1]) (n := 2) (Nat.le_of_ble_eq_true rfl)
  rw [lg_entry_eq]
  generalize (lg_sl ([.ref g.2.2.2.1, .int x1]) ++ List.replicate (2 - (lg_sl ([.ref g.2.2.2.1, .int x1])).length) Slot.unset).toArray = ls at hl ⊢
  have hl : lv_has ls 2 [(0, .ref g.2.2.2.1), (1, .int x1)] := hl
  obtain ⟨z, hz⟩ : ∃ z, z = (v, σ1) := ⟨_, rfl⟩
  rw [← hz] at h
  rw [show v = z.1 by rw [hz], show σ1 = z.2 by rw [hz]]
  clear hz v σ1
  unfold mT_gapsWithout at h
  refine lv_aload_n C.x C.b dX10_gapsWithout_0 rfl (lv_at hl 0 rfl) ?_
  refine lv_aload_n C.x C.b dX10_gapsWithout_1 rfl (lv_at hl 0 rfl) ?_
  refine lv_iload_n C.x C.b dX10_gapsWithout_2 rfl (lv_at hl 1 rfl) ?_
  refine tw_call (y := yX10_isRule) (bytes := cX10_isRule) (maxL := 2) (fun v => some (.int v)) [.int x1] (fun _ => True)  C hw XB.tt (fun _ _ _ => trivial) hσ hS hl.1 h (fun vv ss ee => kT_isRule l g A x1 σ vv ss ee) (cwV 1 C.t (lw_V q2435 q2437 qs102 q159 q2438) rfl rfl rfl (by decide +kernel) ⟨Nat.le_trans (Nat.le_of_ble_eq_true rfl) hRf, Nat.le_trans (Nat.le_of_ble_eq_true rfl) hRl⟩) rfl rfl (Nat.le_of_ble_eq_true rfl) dX10_gapsWithout_3 (fun v_1 σ_2 H locs h hσ hS => ?_)
  refine lv_if_ne (tgt := 13) C.x C.b dX10_gapsWithout_6 (by decide) (fun c_3 => ?_) (fun c_3 => ?_)
  · have h := iN c_3 h
    refine lv_iconst (v := 0) C.x C.b dX10_gapsWithout_13 (by decide) ?_
    exact wT_gapsWithout_14 C hw hRf hRl _ _ _ _ _ _ h hσ hS (lv_sub hl [0, 1] rfl)
  · have h := ip c_3 h
    refine lv_iconst (v := 1) C.x C.b dX10_gapsWithout_9 (by decide) ?_
    refine lv_goto (tgt := 14) C.x C.b dX10_gapsWithout_10 (by decide) ?_
    exact wT_gapsWithout_14 C hw hRf hRl _ _ _ _ _ _ h hσ hS (lv_sub hl [0, 1] rfl)

theorem wT_clashesIf_67 {z : Int32 × twS} (C : CX p m meth c s args cX10_clashesIf 5 (some .int) RX10) (hw : WKt twL g A s s.heap) (hRf : 7 ≤ R.frames) (hRl : 161 ≤ R.locals) : ∀ (x1 : Int32) (x3 : Int32) (s1 : Int32) (s2 : Int32) (σ : twS) (H : Heap) (locs : List Loc) (ls : Array Slot), bT_clashesIf_67 x1 x3 s1 s2 σ = some z → TI g A σ H → va_S A s.heap H locs → lv_has ls 5 [(0, .ref g.2.2.2.1), (1, .int x1), (3, .int x3)] → W p l e R s m args below meth c H locs 0 0 (MQ below (TQ g A (some (.int z.1)) z.2) args s 0 0 A) (F0 m 67 ls [.int s2, .int s1, .ref (g.2.2.2.2 0)]) := by
  intro x1 x3 s1 s2 σ H locs ls h hσ hS hl
  unfold bT_clashesIf_67 at h
  refine tw_st0 C hw hσ hS h dX10_clashesIf_67 (fun σ_1 H locs h hσ hS => ?_)
  refine lv_aload_n C.x C.b dX10_clashesIf_68 rfl (lv_at hl 0 rfl) ?_
  refine lv_iconst (v := 3) C.x C.b dX10_clashesIf_69 (by decide) ?_
  refine lv_iconst (v := -1) C.x C.b dX10_clashesIf_70 (by decide) ?_
  refine tw_call (y := yX10_many) (bytes := cX10_many) (maxL := 7) (fun v => some (.int v)) [.int 3, .int (-1)] (fun _ => True)  C hw XB.tt (fun _ _ _ => trivial) hσ hS hl.1 h (fun vv ss ee => kT_many l g A 3 (-1) σ_1 vv ss ee) (cwV 2 C.t (lw_V q2359 q2361 qs88 q159 q2362) rfl rfl rfl (by decide +kernel) ⟨Nat.le_trans (Nat.le_of_ble_eq_true rfl) hRf, Nat.le_trans (Nat.le_of_ble_eq_true rfl) hRl⟩) rfl rfl (Nat.le_of_ble_eq_true rfl) dX10_clashesIf_71 (fun v_2 σ_3 H locs h hσ hS => ?_)
  refine lv_istore (lv' := [(4, .int v_2), (0, .ref g.2.2.2.1), (1, .int x1), (3, .int x3)]) C.x C.b dX10_clashesIf_74 hl (by decide) rfl (fun ls hl => ?_)
  refine lv_aload_n C.x C.b dX10_clashesIf_76 rfl (lv_at hl 1 rfl) ?_
  refine tw_gf0 C hw hσ q2215 dX10_clashesIf_77 ?_
  refine lv_iload_n C.x C.b dX10_clashesIf_80 rfl (lv_at hl 2 rfl) ?_
  refine tw_callS (y := yX10_rule0) (bytes := cX10_rule0) (maxL := 1) (fun v => some (.int v)) [.int x1] C hw hσ hS hl.1 h (fun vv ss ee => kT_rule0 l g A x1 σ_3 vv ss ee) (va_cwS 1 C.t (lw_S q2158 q2159 q159 q2160) rfl rfl rfl (by decide +kernel) ⟨Nat.le_trans (Nat.le_of_ble_eq_true rfl) hRf, Nat.le_trans (Nat.le_of_ble_eq_true rfl) hRl⟩) rfl rfl (Nat.le_of_ble_eq_true rfl) dX10_clashesIf_81 (fun v_4 σ_5 H locs h hσ hS => ?_)
  refine lv_bipush (v := 33) C.x C.b dX10_clashesIf_84 (by decide) ?_
  refine lv_iadd C.x C.b dX10_clashesIf_86 ?_
  refine lv_iload_n C.x C.b dX10_clashesIf_87 rfl (lv_at hl 3 rfl) ?_
  refine tw_st0 C hw hσ hS h dX10_clashesIf_88 (fun σ_6 H locs h hσ hS => ?_)
  refine lv_iload C.x C.b dX10_clashesIf_89 (lv_at hl 0 rfl) ?_
  exact tw_iret C hσ hS h dX10_clashesIf_91

theorem wT_clashesIf_22 {z : Int32 × twS} (C : CX p m meth c s args cX10_clashesIf 5 (some .int) RX10) (hw : WKt twL g A s s.heap) (hRf : 7 ≤ R.frames) (hRl : 161 ≤ R.locals) : ∀ (x1 : Int32) (x2 : Int32) (s1 : Int32) (σ : twS) (H : Heap) (locs : List Loc) (ls : Array Slot), bT_clashesIf_22 x1 x2 s1 σ = some z → TI g A σ H → va_S A s.heap H locs → lv_has ls 5 [(0, .ref g.2.2.2.1), (1, .int x1), (2, .int x2)] → W p l e R s m args below meth c H locs 0 0 (MQ below (TQ g A (some (.int z.1)) z.2) args s 0 0 A) (F0 m 22 ls [.int s1, .ref g.2.2.2.1]) := by
  intro x1 x2 s1 σ H locs ls h hσ hS hl
  unfold bT_clashesIf_22 at h
  refine tw_call (y := yX10_throwsOne) (bytes := cX10_throwsOne) (maxL := 2) (fun v => some (.int v)) [.int s1] (fun _ => True)  C hw XB.tt (fun _ _ _ => trivial) hσ hS hl.1 h (fun vv ss ee => kT_throwsOne l g A s1 σ vv ss ee) (cwV 1 C.t (lw_V q2314 q2316 qs79 q159 q2317) rfl rfl rfl (by decide +kernel) ⟨Nat.le_trans (Nat.le_of_ble_eq_true rfl) hRf, Nat.le_trans (Nat.le_of_ble_eq_true rfl) hRl⟩) rfl rfl (Nat.le_of_ble_eq_true rfl) dX10_clashesIf_22 (fun v_1 σ_2 H locs h hσ hS => ?_)
  refine lv_if_eq (tgt := 30) C.x C.b dX10_clashesIf_25 (by decide) (fun c_3 => ?_) (fun c_3 => ?_)
  · have h := ip c_3 h
    refine lv_aload_n C.x C.b dX10_clashesIf_30 rfl (lv_at hl 0 rfl) ?_
    refine tw_call (y := yX10_setsOut) (bytes := cX10_setsOut) (maxL := 4) (fun _ => none) [] (fun _ => True)  C hw XB.tt (fun _ _ _ => trivial) hσ hS hl.1 h (fun vv ss ee => kT_setsOut l g A σ_2 vv ss ee) (cwV 0 C.t (lw_V q2338 q2340 qs83 q159 q2341) rfl rfl rfl (by decide +kernel) ⟨Nat.le_trans (Nat.le_of_ble_eq_true rfl) hRf, Nat.le_trans (Nat.le_of_ble_eq_true rfl) hRl⟩) rfl rfl (Nat.le_of_ble_eq_true rfl) dX10_clashesIf_31 (fun _ σ_4 H locs h hσ hS => ?_)
    refine lv_aload_n C.x C.b dX10_clashesIf_34 rfl (lv_at hl 0 rfl) ?_
    refine lv_iload_n C.x C.b dX10_clashesIf_35 rfl (lv_at hl 1 rfl) ?_
    refine lv_bipush (v := 33) C.x C.b dX10_clashesIf_36 (by decide) ?_
    refine tw_call (y := yX10_of) (bytes := cX10_of) (maxL := 3) (fun v => some (.int v)) [.int x1, .int 33] (fun _ => True)  C hw XB.tt (fun _ _ _ => trivial) hσ hS hl.1 h (fun vv ss ee => kT_of l g A x1 33 σ_4 vv ss ee) (cwV 2 C.t (lw_V q2346 q2348 qs85 q159 q2349) rfl rfl rfl (by decide +kernel) ⟨Nat.le_trans (Nat.le_of_ble_eq_true rfl) hRf, Nat.le_trans (Nat.le_of_ble_eq_true rfl) hRl⟩) rfl rfl (Nat.le_of_ble_eq_true rfl) dX10_clashesIf_38 (fun v_5 σ_6 H locs h hσ hS => ?_)
    refine lv_istore_n (lv' := [(3, .int v_5), (0, .ref g.2.2.2.1), (1, .int x1), (2, .int x2)]) C.x C.b dX10_clashesIf_41 rfl hl (by decide) rfl (fun ls hl => ?_)
    refine lv_aload_n C.x C.b dX10_clashesIf_42 rfl (lv_at hl 1 rfl) ?_
    refine tw_gf0 C hw hσ q2215 dX10_clashesIf_43 ?_
    refine lv_iload_n C.x C.b dX10_clashesIf_46 rfl (lv_at hl 2 rfl) ?_
    refine tw_callS (y := yX10_rule0) (bytes := cX10_rule0) (maxL := 1) (fun v => some (.int v)) [.int x1] C hw hσ hS hl.1 h (fun vv ss ee => kT_rule0 l g A x1 σ_6 vv ss ee) (va_cwS 1 C.t (lw_S q2158 q2159 q159 q2160) rfl rfl rfl (by decide +kernel) ⟨Nat.le_trans (Nat.le_of_ble_eq_true rfl) hRf, Nat.le_trans (Nat.le_of_ble_eq_true rfl) hRl⟩) rfl rfl (Nat.le_of_ble_eq_true rfl) dX10_clashesIf_47 (fun v_7 σ_8 H locs h hσ hS => ?_)
    refine lv_bipush (v := 33) C.x C.b dX10_clashesIf_50 (by decide) ?_
    refine lv_iadd C.x C.b dX10_clashesIf_52 ?_
    refine lv_iload_n C.x C.b dX10_clashesIf_53 rfl (lv_at hl 2 rfl) ?_
    refine lv_iload_n C.x C.b dX10_clashesIf_54 rfl (lv_at hl 3 rfl) ?_
    refine lv_icmp_ne (tgt := 62) C.x C.b dX10_clashesIf_55 (by decide) (fun c_9 => ?_) (fun c_9 => ?_)
    · have h := iN c_9 h
      refine lv_iload_n C.x C.b dX10_clashesIf_62 rfl (lv_at hl 0 rfl) ?_
      refine lv_iconst (v := 1) C.x C.b dX10_clashesIf_63 (by decide) ?_
      refine lv_iload_n C.x C.b dX10_clashesIf_64 rfl (lv_at hl 3 rfl) ?_
      refine lv_ishl C.x C.b dX10_clashesIf_65 ?_
      refine lv_ixor C.x C.b dX10_clashesIf_66 ?_
      exact wT_clashesIf_67 C hw hRf hRl _ _ _ _ _ _ _ _ h hσ hS (lv_sub hl [1, 2, 0] rfl)
    · have h := ip c_9 h
      refine lv_iload_n C.x C.b dX10_clashesIf_58 rfl (lv_at hl 0 rfl) ?_
      refine lv_goto (tgt := 67) C.x C.b dX10_clashesIf_59 (by decide) ?_
      exact wT_clashesIf_67 C hw hRf hRl _ _ _ _ _ _ _ _ h hσ hS (lv_sub hl [1, 2, 0] rfl)
  · have h := iN c_3 h
    refine lv_iconst (v := 0) C.x C.b dX10_clashesIf_28 (by decide) ?_
    exact tw_iret C hσ hS h dX10_clashesIf_29

theorem kT_clashesIf (l : Launch) (g : twG) (A : Nat → Prop) (x1 : Int32) (x2 : Int32) (σ : twS) (v : Int32) (σ1 : twS) (h : mT_clashesIf x1 x2 σ = some (v, σ1)) : Met l yX10_clashesIf (ws_ yX10_clashesIf cX10_clashesIf 5 (some .int)) ({ frames := 7, cells := 0, slots := 0, locals := 161 }) (TPc twL g A [.ref g.2.2.2.1, .int x1, .int x2] (fun _ => True) σ) (TQ g A (some (.int v)) σ1) 0 0 A := by
  refine Met.ofW (cc := cX10_clashesIf) (maxL := 5) (ret := (some .int)) (by decide) rfl ?_
  intro p e s m args below meth c s₁ B hml hv
  obtain ⟨rfl, hw, hX, hσ⟩ := hv
  have hts := atoms_spec (ws := (ws_ yX10_clashesIf cX10_clashesIf 5 (some .int))) B.pre
  have C : CX p m meth c s ([.ref g.2.2.2.1, .int x1, .int x2] : List Value).toArray cX10_clashesIf 5 (some .int) RX10 := ⟨⟨B.exec, B.bytes, hml, findClass_of_methodNamed B.named, fun w h => hts w (List.mem_cons_of_mem _ h)⟩, B.returns, B.notSynchronized⟩
  have hRf : 7 ≤ (headSpec (ws_ yX10_clashesIf cX10_clashesIf 5 (some .int)) ({ frames := 7, cells := 0, slots := 0, locals := 161 })).room.frames := Nat.le_refl _
  have hRl : 161 ≤ (headSpec (ws_ yX10_clashesIf cX10_clashesIf 5 (some .int)) ({ frames := 7, cells := 0, slots := 0, locals := 161 })).room.locals := Nat.le_refl _
  generalize (headSpec (ws_ yX10_clashesIf cX10_clashesIf 5 (some .int)) ({ frames := 7, cells := 0, slots := 0, locals := 161 })).room = R at hRf hRl ⊢
  have hS : va_S A s.heap s.heap [] := va_S.rf
  have hl := lv_entry ([.ref g.2.2.2.1, .int x1, .int x2]) (n := 5) (Nat.le_of_ble_eq_true rfl)
  rw [lg_entry_eq]
  generalize (lg_sl ([.ref g.2.2.2.1, .int x1, .int x2]) ++ List.replicate (5 - (lg_sl ([.ref g.2.2.2.1, .int x1, .int x2])).length) Slot.unset).toArray = ls at hl ⊢
  have hl : lv_has ls 5 [(0, .ref g.2.2.2.1), (1, .int x1), (2, .int x2)] := hl
  obtain ⟨z, hz⟩ : ∃ z, z = (v, σ1) := ⟨_, rfl⟩
  rw [← hz] at h
  rw [show v = z.1 by rw [hz], show σ1 = z.2 by rw [hz]]
  clear hz v σ1
  unfold mT_clashesIf at h
  refine lv_aload_n C.x C.b dX10_clashesIf_0 rfl (lv_at hl 0 rfl) ?_
  refine lv_aload_n C.x C.b dX10_clashesIf_1 rfl (lv_at hl 0 rfl) ?_
  refine lv_iload_n C.x C.b dX10_clashesIf_2 rfl (lv_at hl 1 rfl) ?_
  refine tw_call (y := yX10_isRule) (bytes := cX10_isRule) (maxL := 2) (fun v => some (.int v)) [.int x1] (fun _ => True)  C hw XB.tt (fun _ _ _ => trivial) hσ hS hl.1 h (fun vv ss ee => kT_isRule l g A x1 σ vv ss ee) (cwV 1 C.t (lw_V q2435 q2437 qs102 q159 q2438) rfl rfl rfl (by decide +kernel) ⟨Nat.le_trans (Nat.le_of_ble_eq_true rfl) hRf, Nat.le_trans (Nat.le_of_ble_eq_true rfl) hRl⟩) rfl rfl (Nat.le_of_ble_eq_true rfl) dX10_clashesIf_3 (fun v_1 σ_2 H locs h hσ hS => ?_)
  refine lv_if_eq (tgt := 17) C.x C.b dX10_clashesIf_6 (by decide) (fun c_3 => ?_) (fun c_3 => ?_)
  · have h := ip c_3 h
    refine lv_iconst (v := 1) C.x C.b dX10_clashesIf_17 (by decide) ?_
    refine lv_goto (tgt := 22) C.x C.b dX10_clashesIf_18 (by decide) ?_
    exact wT_clashesIf_22 C hw hRf hRl _ _ _ _ _ _ _ h hσ hS (lv_sub hl [0, 1, 2] rfl)
  · have h := iN c_3 h
    refine lv_aload_n C.x C.b dX10_clashesIf_9 rfl (lv_at hl 0 rfl) ?_
    refine lv_iload_n C.x C.b dX10_clashesIf_10 rfl (lv_at hl 2 rfl) ?_
    refine tw_call (y := yX10_isRule) (bytes := cX10_isRule) (maxL := 2) (fun v => some (.int v)) [.int x2] (fun _ => True)  C hw XB.tt (fun _ _ _ => trivial) hσ hS hl.1 h (fun vv ss ee => kT_isRule l g A x2 σ_2 vv ss ee) (cwV 1 C.t (lw_V q2435 q2437 qs102 q159 q2438) rfl rfl rfl (by decide +kernel) ⟨Nat.le_trans (Nat.le_of_ble_eq_true rfl) hRf, Nat.le_trans (Nat.le_of_ble_eq_true rfl) hRl⟩) rfl rfl (Nat.le_of_ble_eq_true rfl) dX10_clashesIf_11 (fun v_4 σ_5 H locs h hσ hS => ?_)
    refine lv_if_ne (tgt := 21) C.x C.b dX10_clashesIf_14 (by decide) (fun c_6 => ?_) (fun c_6 => ?_)
    · have h := iN c_6 h
      refine lv_iconst (v := 0) C.x C.b dX10_clashesIf_21 (by decide) ?_
      exact wT_clashesIf_22 C hw hRf hRl _ _ _ _ _ _ _ h hσ hS (lv_sub hl [0, 1, 2] rfl)
    · have h := ip c_6 h
      refine lv_iconst (v := 1) C.x C.b dX10_clashesIf_17 (by decide) ?_
      refine lv_goto (tgt := 22) C.x C.b dX10_clashesIf_18 (by decide) ?_
      exact wT_clashesIf_22 C hw hRf hRl _ _ _ _ _ _ _ h hσ hS (lv_sub hl [0, 1, 2] rfl)

theorem wT_gapsWith_44 {z : Int32 × twS} (C : CX p m meth c s args cX10_gapsWith 7 (some .int) RX10) (hw : WKt twL g A s s.heap) (hRf : 6 ≤ R.frames) (hRl : 135 ≤ R.locals) {k11 : Int32 → Int32 → Int32 → Int32 → Int32 → twS → Option (Int32 × twS)} (hk11 : ∀ (x1 : Int32) (x2 : Int32) (x3 : Int32) (x4 : Int32) (x5 : Int32) (σ : twS) (H : Heap) (locs : List Loc) (ls : Array Slot), k11 x1 x2 x3 x4 x5 σ = some z → TI g A σ H → va_S A s.heap H locs → lv_has ls 7 [(0, .ref g.2.2.2.1), (1, .int x1), (2, .int x2), (3, .int x3), (4, .int x4), (5, .int x5)] → W p l e R s m args below meth c H locs 0 0 (MQ below (TQ g A (some (.int z.1)) z.2) args s 0 0 A) (F0 m 11 ls [])) : ∀ (x1 : Int32) (x2 : Int32) (x4 : Int32) (x5 : Int32) (s0 : Int32) (σ : twS) (H : Heap) (locs : List Loc) (ls : Array Slot), bT_gapsWith_44 k11 x1 x2 x4 x5 s0 σ = some z → TI g A σ H → va_S A s.heap H locs → lv_has ls 7 [(0, .ref g.2.2.2.1), (1, .int x1), (2, .int x2), (4, .int x4), (5, .int x5)] → W p l e R s m args below meth c H locs 0 0 (MQ below (TQ g A (some (.int z.1)) z.2) args s 0 0 A) (F0 m 44 ls [.int s0]) := by
  intro x1 x2 x4 x5 s0 σ H locs ls h hσ hS hl
  unfold bT_gapsWith_44 at h
  refine lv_aload_n C.x C.b dX10_gapsWith_44 rfl (lv_at hl 0 rfl) ?_
  refine lv_iload C.x C.b dX10_gapsWith_45 (lv_at hl 4 rfl) ?_
  refine lv_iload_n C.x C.b dX10_gapsWith_47 rfl (lv_at hl 1 rfl) ?_
  refine tw_call (y := yX10_valueOf) (bytes := cX10_valueOf) (maxL := 5) (fun v => some (.int v)) [.int x5, .int x1] (fun _ => True)  C hw XB.tt (fun _ _ _ => trivial) hσ hS hl.1 h (fun vv ss ee => kT_valueOf l g A x5 x1 σ vv ss ee) (cwV 2 C.t (lw_V q2355 q2357 qs87 q159 q2358) rfl rfl rfl (by decide +kernel) ⟨Nat.le_trans (Nat.le_of_ble_eq_true rfl) hRf, Nat.le_trans (Nat.le_of_ble_eq_true rfl) hRl⟩) rfl rfl (Nat.le_of_ble_eq_true rfl) dX10_gapsWith_48 (fun v_1 σ_2 H locs h hσ hS => ?_)
  refine lv_iload_n C.x C.b dX10_gapsWith_51 rfl (lv_at hl 2 rfl) ?_
  refine lv_icmp_ne (tgt := 59) C.x C.b dX10_gapsWith_52 (by decide) (fun c_3 => ?_) (fun c_3 => ?_)
  · have h := iN c_3 h
    refine lv_iconst (v := 0) C.x C.b dX10_gapsWith_59 (by decide) ?_
    refine lv_iadd C.x C.b dX10_gapsWith_60 ?_
    refine tw_lt h (fun x3_4 h => ?_)
    refine lv_istore_n (lv' := [(3, .int x3_4), (0, .ref g.2.2.2.1), (1, .int x1), (2, .int x2), (4, .int x4), (5, .int x5)]) C.x C.b dX10_gapsWith_61 rfl hl (by decide) rfl (fun ls hl => ?_)
    obtain ⟨x5_5, e_, h⟩ := nm_s h
    refine lv_iinc (v := x5_5) (lv' := [(5, .int x5_5), (3, .int x3_4), (0, .ref g.2.2.2.1), (1, .int x1), (2, .int x2), (4, .int x4)]) C.x C.b dX10_gapsWith_62 hl (k := 5) rfl e_.symm (by decide) rfl (fun ls hl => ?_)
    refine lv_goto (tgt := 11) C.x C.b dX10_gapsWith_65 (by decide) ?_
    exact hk11 _ _ _ _ _ _ _ _ _ h hσ hS (lv_sub hl [2, 3, 4, 1, 5, 0] rfl)
  · have h := ip c_3 h
    refine lv_iconst (v := 1) C.x C.b dX10_gapsWith_55 (by decide) ?_
    refine lv_goto (tgt := 60) C.x C.b dX10_gapsWith_56 (by decide) ?_
    refine lv_iadd C.x C.b dX10_gapsWith_60 ?_
    refine tw_lt h (fun x3_6 h => ?_)
    refine lv_istore_n (lv' := [(3, .int x3_6), (0, .ref g.2.2.2.1), (1, .int x1), (2, .int x2), (4, .int x4), (5, .int x5)]) C.x C.b dX10_gapsWith_61 rfl hl (by decide) rfl (fun ls hl => ?_)
    obtain ⟨x5_7, e_, h⟩ := nm_s h
    refine lv_iinc (v := x5_7) (lv' := [(5, .int x5_7), (3, .int x3_6), (0, .ref g.2.2.2.1), (1, .int x1), (2, .int x2), (4, .int x4)]) C.x C.b dX10_gapsWith_62 hl (k := 5) rfl e_.symm (by decide) rfl (fun ls hl => ?_)
    refine lv_goto (tgt := 11) C.x C.b dX10_gapsWith_65 (by decide) ?_
    exact hk11 _ _ _ _ _ _ _ _ _ h hσ hS (lv_sub hl [2, 3, 4, 1, 5, 0] rfl)

theorem wT_gapsWith_11 {z : Int32 × twS} (C : CX p m meth c s args cX10_gapsWith 7 (some .int) RX10) (hw : WKt twL g A s s.heap) (hRf : 6 ≤ R.frames) (hRl : 135 ≤ R.locals) : ∀ (n : Nat) (x1 : Int32) (x2 : Int32) (x3 : Int32) (x4 : Int32) (x5 : Int32) (σ : twS) (H : Heap) (locs : List Loc) (ls : Array Slot), bT_gapsWith_11 n x1 x2 x3 x4 x5 σ = some z → TI g A σ H → va_S A s.heap H locs → lv_has ls 7 [(0, .ref g.2.2.2.1), (1, .int x1), (2, .int x2), (3, .int x3), (4, .int x4), (5, .int x5)] → W p l e R s m args below meth c H locs 0 0 (MQ below (TQ g A (some (.int z.1)) z.2) args s 0 0 A) (F0 m 11 ls []) := by
  intro n
  induction n with
  | zero =>
    intro x1 x2 x3 x4 x5 σ H locs ls h
    cases h
  | succ n ih =>
    intro x1 x2 x3 x4 x5 σ H locs ls h hσ hS hl
    rw [bT_gapsWith_11] at h
    refine lv_iload C.x C.b dX10_gapsWith_11 (lv_at hl 5 rfl) ?_
    refine lv_iload C.x C.b dX10_gapsWith_13 (lv_at hl 4 rfl) ?_
    refine lv_icmp_ge (tgt := 68) C.x C.b dX10_gapsWith_15 (by decide) (fun c_1 => ?_) (fun c_1 => ?_)
    · have h := ip c_1 h
      refine lv_iload_n C.x C.b dX10_gapsWith_68 rfl (lv_at hl 3 rfl) ?_
      exact tw_iret C hσ hS h dX10_gapsWith_69
    · have h := iN c_1 h
      refine lv_aload_n C.x C.b dX10_gapsWith_18 rfl (lv_at hl 0 rfl) ?_
      refine lv_aload_n C.x C.b dX10_gapsWith_19 rfl (lv_at hl 0 rfl) ?_
      refine tw_gf15 C hw hσ q2230 dX10_gapsWith_20 ?_
      refine lv_iload C.x C.b dX10_gapsWith_23 (lv_at hl 5 rfl) ?_
      refine tw_ld15 C hw hσ h dX10_gapsWith_25 (fun v_2 h => ?_)
      refine tw_call (y := yX10_verdictOf) (bytes := cX10_verdictOf) (maxL := 3) (fun v => some (.int v)) [.int v_2] (fun _ => True)  C hw XB.tt (fun _ _ _ => trivial) hσ hS hl.1 h (fun vv ss ee => kT_verdictOf l g A v_2 σ vv ss ee) (cwV 1 C.t (lw_V q2363 q2365 qs89 q159 q2366) rfl rfl rfl (by decide +kernel) ⟨Nat.le_trans (Nat.le_of_ble_eq_true rfl) hRf, Nat.le_trans (Nat.le_of_ble_eq_true rfl) hRl⟩) rfl rfl (Nat.le_of_ble_eq_true rfl) dX10_gapsWith_26 (fun v_3 σ_4 H locs h hσ hS => ?_)
      refine lv_istore (lv' := [(6, .int v_3), (0, .ref g.2.2.2.1), (1, .int x1), (2, .int x2), (3, .int x3), (4, .int x4), (5, .int x5)]) C.x C.b dX10_gapsWith_29 hl (by decide) rfl (fun ls hl => ?_)
      refine lv_iload_n C.x C.b dX10_gapsWith_31 rfl (lv_at hl 4 rfl) ?_
      refine lv_iload C.x C.b dX10_gapsWith_32 (lv_at hl 0 rfl) ?_
      refine lv_iconst (v := 1) C.x C.b dX10_gapsWith_34 (by decide) ?_
      refine lv_icmp_eq (tgt := 44) C.x C.b dX10_gapsWith_35 (by decide) (fun c_5 => ?_) (fun c_5 => ?_)
      · have h := ip c_5 h
        exact wT_gapsWith_44 C hw hRf hRl (fun y0 y1 y2 y3 y4 σ H locs ls h hσ hS hl => ih y0 y1 y2 y3 y4 σ H locs ls h hσ hS hl) _ _ _ _ _ _ _ _ _ h hσ hS (lv_sub hl [1, 2, 3, 5, 6] rfl)
      · have h := iN c_5 h
        refine lv_iload C.x C.b dX10_gapsWith_38 (lv_at hl 0 rfl) ?_
        refine lv_iconst (v := 2) C.x C.b dX10_gapsWith_40 (by decide) ?_
        refine lv_icmp_ne (tgt := 59) C.x C.b dX10_gapsWith_41 (by decide) (fun c_6 => ?_) (fun c_6 => ?_)
        · have h := iN c_6 h
          refine lv_iconst (v := 0) C.x C.b dX10_gapsWith_59 (by decide) ?_
          refine lv_iadd C.x C.b dX10_gapsWith_60 ?_
          refine tw_lt h (fun x3_7 h => ?_)
          refine lv_istore_n (lv' := [(3, .int x3_7), (6, .int v_3), (0, .ref g.2.2.2.1), (1, .int x1), (2, .int x2), (4, .int x4), (5, .int x5)]) C.x C.b dX10_gapsWith_61 rfl hl (by decide) rfl (fun ls hl => ?_)
          obtain ⟨x5_8, e_, h⟩ := nm_s h
          refine lv_iinc (v := x5_8) (lv' := [(5, .int x5_8), (3, .int x3_7), (6, .int v_3), (0, .ref g.2.2.2.1), (1, .int x1), (2, .int x2), (4, .int x4)]) C.x C.b dX10_gapsWith_62 hl (k := 6) rfl e_.symm (by decide) rfl (fun ls hl => ?_)
          refine lv_goto (tgt := 11) C.x C.b dX10_gapsWith_65 (by decide) ?_
          exact ih _ _ _ _ _ _ _ _ _ h hσ hS (lv_sub hl [3, 4, 5, 1, 6, 0] rfl)
        · have h := ip c_6 h
          exact wT_gapsWith_44 C hw hRf hRl (fun y0 y1 y2 y3 y4 σ H locs ls h hσ hS hl => ih y0 y1 y2 y3 y4 σ H locs ls h hσ hS hl) _ _ _ _ _ _ _ _ _ h hσ hS (lv_sub hl [1, 2, 3, 5, 6] rfl)

theorem kT_gapsWith (l : Launch) (g : twG) (A : Nat → Prop) (x1 : Int32) (x2 : Int32) (σ : twS) (v : Int32) (σ1 : twS) (h : mT_gapsWith x1 x2 σ = some (v, σ1)) : Met l yX10_gapsWith (ws_ yX10_gapsWith cX10_gapsWith 7 (some .int)) ({ frames := 6, cells := 0, slots := 0, locals := 135 }) (TPc twL g A [.ref g.2.2.2.1, .int x1, .int x2] (fun _ => True) σ) (TQ g A (some (.int v)) σ1) 0 0 A := by
  refine Met.ofW (cc := cX10_gapsWith) (maxL := 7) (ret := (some .int)) (by decide) rfl ?_
  intro p e s m args below meth c s₁ B hml hv
  obtain ⟨rfl, hw, hX, hσ⟩ := hv
  have hts := atoms_spec (ws := (ws_ yX10_gapsWith cX10_gapsWith 7 (some .int))) B.pre
  have C : CX p m meth c s ([.ref g.2.2.2.1, .int x1, .int x2] : List Value).toArray cX10_gapsWith 7 (some .int) RX10 := ⟨⟨B.exec, B.bytes, hml, findClass_of_methodNamed B.named, fun w h => hts w (List.mem_cons_of_mem _ h)⟩, B.returns, B.notSynchronized⟩
  have hRf : 6 ≤ (headSpec (ws_ yX10_gapsWith cX10_gapsWith 7 (some .int)) ({ frames := 6, cells := 0, slots := 0, locals := 135 })).room.frames := Nat.le_refl _
  have hRl : 135 ≤ (headSpec (ws_ yX10_gapsWith cX10_gapsWith 7 (some .int)) ({ frames := 6, cells := 0, slots := 0, locals := 135 })).room.locals := Nat.le_refl _
  generalize (headSpec (ws_ yX10_gapsWith cX10_gapsWith 7 (some .int)) ({ frames := 6, cells := 0, slots := 0, locals := 135 })).room = R at hRf hRl ⊢
  have hS : va_S A s.heap s.heap [] := va_S.rf
  have hl := lv_entry ([.ref g.2.2.2.1, .int x1, .int x2]) (n := 7) (Nat.le_of_ble_eq_true rfl)
  rw [lg_entry_eq]
  generalize (lg_sl ([.ref g.2.2.2.1, .int x1, .int x2]) ++ List.replicate (7 - (lg_sl ([.ref g.2.2.2.1, .int x1, .int x2])).length) Slot.unset).toArray = ls at hl ⊢
  have hl : lv_has ls 7 [(0, .ref g.2.2.2.1), (1, .int x1), (2, .int x2)] := hl
  obtain ⟨z, hz⟩ : ∃ z, z = (v, σ1) := ⟨_, rfl⟩
  rw [← hz] at h
  rw [show v = z.1 by rw [hz], show σ1 = z.2 by rw [hz]]
  clear hz v σ1
  unfold mT_gapsWith at h
  refine lv_iconst (v := 0) C.x C.b dX10_gapsWith_0 (by decide) ?_
  refine lv_istore_n (lv' := [(3, .int 0), (0, .ref g.2.2.2.1), (1, .int x1), (2, .int x2)]) C.x C.b dX10_gapsWith_1 rfl hl (by decide) rfl (fun ls hl => ?_)
  refine lv_aload_n C.x C.b dX10_gapsWith_2 rfl (lv_at hl 1 rfl) ?_
  refine tw_call (y := yX10_cases) (bytes := cX10_cases) (maxL := 3) (fun v => some (.int v)) [] (fun _ => True)  C hw XB.tt (fun _ _ _ => trivial) hσ hS hl.1 h (fun vv ss ee => kT_cases l g A σ vv ss ee) (cwV 0 C.t (lw_V q2334 q2336 qs82 q159 q2337) rfl rfl rfl (by decide +kernel) ⟨Nat.le_trans (Nat.le_of_ble_eq_true rfl) hRf, Nat.le_trans (Nat.le_of_ble_eq_true rfl) hRl⟩) rfl rfl (Nat.le_of_ble_eq_true rfl) dX10_gapsWith_3 (fun v_1 σ_2 H locs h hσ hS => ?_)
  refine lv_istore (lv' := [(4, .int v_1), (3, .int 0), (0, .ref g.2.2.2.1), (1, .int x1), (2, .int x2)]) C.x C.b dX10_gapsWith_6 hl (by decide) rfl (fun ls hl => ?_)
  refine lv_iconst (v := 0) C.x C.b dX10_gapsWith_8 (by decide) ?_
  refine lv_istore (lv' := [(5, .int 0), (4, .int v_1), (3, .int 0), (0, .ref g.2.2.2.1), (1, .int x1), (2, .int x2)]) C.x C.b dX10_gapsWith_9 hl (by decide) rfl (fun ls hl => ?_)
  exact wT_gapsWith_11 C hw hRf hRl _ _ _ _ _ _ _ _ _ _ h hσ hS (lv_sub hl [3, 4, 5, 2, 1, 0] rfl)

theorem wT_patch_28 {z : Int32 × twS} (C : CX p m meth c s args cX10_patch 6 (some .int) RX10) (hw : WKt twL g A s s.heap) (hRf : 7 ≤ R.frames) (hRl : 161 ≤ R.locals) {k15 : Int32 → Int32 → Int32 → twS → Option (Int32 × twS)} (hk15 : ∀ (x1 : Int32) (x2 : Int32) (x3 : Int32) (σ : twS) (H : Heap) (locs : List Loc) (ls : Array Slot), k15 x1 x2 x3 σ = some z → TI g A σ H → va_S A s.heap H locs → lv_has ls 6 [(0, .ref g.2.2.2.1), (1, .int x1), (2, .int x2), (3, .int x3)] → W p l e R s m args below meth c H locs 0 0 (MQ below (TQ g A (some (.int z.1)) z.2) args s 0 0 A) (F0 m 15 ls [])) : ∀ (n : Nat) (x1 : Int32) (x2 : Int32) (x3 : Int32) (x4 : Int32) (σ : twS) (H : Heap) (locs : List Loc) (ls : Array Slot), bT_patch_28 k15 n x1 x2 x3 x4 σ = some z → TI g A σ H → va_S A s.heap H locs → lv_has ls 6 [(0, .ref g.2.2.2.1), (1, .int x1), (2, .int x2), (3, .int x3), (4, .int x4)] → W p l e R s m args below meth c H locs 0 0 (MQ below (TQ g A (some (.int z.1)) z.2) args s 0 0 A) (F0 m 28 ls []) := by
  intro n
  induction n with
  | zero =>
    intro x1 x2 x3 x4 σ H locs ls h
    cases h
  | succ n ih =>
    intro x1 x2 x3 x4 σ H locs ls h hσ hS hl
    rw [bT_patch_28] at h
    refine lv_iload C.x C.b dX10_patch_28 (lv_at hl 4 rfl) ?_
    refine lv_aload_n C.x C.b dX10_patch_30 rfl (lv_at hl 0 rfl) ?_
    refine tw_gf0 C hw hσ q2215 dX10_patch_31 ?_
    refine lv_iconst (v := 1) C.x C.b dX10_patch_34 (by decide) ?_
    refine lv_iload_n C.x C.b dX10_patch_35 rfl (lv_at hl 3 rfl) ?_
    refine lv_iadd C.x C.b dX10_patch_36 ?_
    refine tw_ld0 C hw hσ h dX10_patch_37 (fun v_1 h => ?_)
    refine lv_icmp_ge (tgt := 73) C.x C.b dX10_patch_38 (by decide) (fun c_2 => ?_) (fun c_2 => ?_)
    · have h := ip c_2 h
      obtain ⟨x3_3, e_, h⟩ := nm_s h
      refine lv_iinc (v := x3_3) (lv' := [(3, .int x3_3), (0, .ref g.2.2.2.1), (1, .int x1), (2, .int x2), (4, .int x4)]) C.x C.b dX10_patch_73 hl (k := 3) rfl e_.symm (by decide) rfl (fun ls hl => ?_)
      refine lv_goto (tgt := 15) C.x C.b dX10_patch_76 (by decide) ?_
      exact hk15 _ _ _ _ _ _ _ h hσ hS (lv_sub hl [1, 2, 3, 0] rfl)
    · have h := iN c_2 h
      refine lv_aload_n C.x C.b dX10_patch_41 rfl (lv_at hl 0 rfl) ?_
      refine lv_iload_n C.x C.b dX10_patch_42 rfl (lv_at hl 3 rfl) ?_
      refine lv_iload C.x C.b dX10_patch_43 (lv_at hl 4 rfl) ?_
      refine tw_call (y := yX10_gapsWith) (bytes := cX10_gapsWith) (maxL := 7) (fun v => some (.int v)) [.int x3, .int x4] (fun _ => True)  C hw XB.tt (fun _ _ _ => trivial) hσ hS hl.1 h (fun vv ss ee => kT_gapsWith l g A x3 x4 σ vv ss ee) (cwV 2 C.t (lw_V q2537 q2539 qs111 q159 q2540) rfl rfl rfl (by decide +kernel) ⟨Nat.le_trans (Nat.le_of_ble_eq_true rfl) hRf, Nat.le_trans (Nat.le_of_ble_eq_true rfl) hRl⟩) rfl rfl (Nat.le_of_ble_eq_true rfl) dX10_patch_45 (fun v_4 σ_5 H locs h hσ hS => ?_)
      refine lv_istore (lv' := [(5, .int v_4), (0, .ref g.2.2.2.1), (1, .int x1), (2, .int x2), (3, .int x3), (4, .int x4)]) C.x C.b dX10_patch_48 hl (by decide) rfl (fun ls hl => ?_)
      refine lv_iload C.x C.b dX10_patch_50 (lv_at hl 0 rfl) ?_
      refine lv_iload_n C.x C.b dX10_patch_52 rfl (lv_at hl 3 rfl) ?_
      refine lv_icmp_le (tgt := 67) C.x C.b dX10_patch_53 (by decide) (fun c_6 => ?_) (fun c_6 => ?_)
      · have h := ip c_6 h
        obtain ⟨x4_7, e_, h⟩ := nm_s h
        refine lv_iinc (v := x4_7) (lv' := [(4, .int x4_7), (5, .int v_4), (0, .ref g.2.2.2.1), (1, .int x1), (2, .int x2), (3, .int x3)]) C.x C.b dX10_patch_67 hl (k := 5) rfl e_.symm (by decide) rfl (fun ls hl => ?_)
        refine lv_goto (tgt := 28) C.x C.b dX10_patch_70 (by decide) ?_
        exact ih _ _ _ _ _ _ _ _ h hσ hS (lv_sub hl [2, 3, 4, 5, 0] rfl)
      · have h := iN c_6 h
        refine lv_iload C.x C.b dX10_patch_56 (lv_at hl 0 rfl) ?_
        refine lv_istore_n (lv' := [(2, .int v_4), (5, .int v_4), (0, .ref g.2.2.2.1), (1, .int x1), (3, .int x3), (4, .int x4)]) C.x C.b dX10_patch_58 rfl hl (by decide) rfl (fun ls hl => ?_)
        refine lv_bipush (v := 10) C.x C.b dX10_patch_59 (by decide) ?_
        refine lv_iload_n C.x C.b dX10_patch_61 rfl (lv_at hl 4 rfl) ?_
        refine lv_imul C.x C.b dX10_patch_62 ?_
        refine lv_iload C.x C.b dX10_patch_63 (lv_at hl 5 rfl) ?_
        refine lv_iadd C.x C.b dX10_patch_65 ?_
        refine tw_lt h (fun x1_8 h => ?_)
        refine lv_istore_n (lv' := [(1, .int x1_8), (2, .int v_4), (5, .int v_4), (0, .ref g.2.2.2.1), (3, .int x3), (4, .int x4)]) C.x C.b dX10_patch_66 rfl hl (by decide) rfl (fun ls hl => ?_)
        obtain ⟨x4_9, e_, h⟩ := nm_s h
        refine lv_iinc (v := x4_9) (lv' := [(4, .int x4_9), (1, .int x1_8), (2, .int v_4), (5, .int v_4), (0, .ref g.2.2.2.1), (3, .int x3)]) C.x C.b dX10_patch_67 hl (k := 5) rfl e_.symm (by decide) rfl (fun ls hl => ?_)
        refine lv_goto (tgt := 28) C.x C.b dX10_patch_70 (by decide) ?_
        exact ih _ _ _ _ _ _ _ _ h hσ hS (lv_sub hl [4, 1, 2, 5, 0] rfl)

theorem wT_patch_15 {z : Int32 × twS} (C : CX p m meth c s args cX10_patch 6 (some .int) RX10) (hw : WKt twL g A s s.heap) (hRf : 7 ≤ R.frames) (hRl : 161 ≤ R.locals) : ∀ (n : Nat) (x1 : Int32) (x2 : Int32) (x3 : Int32) (σ : twS) (H : Heap) (locs : List Loc) (ls : Array Slot), bT_patch_15 n x1 x2 x3 σ = some z → TI g A σ H → va_S A s.heap H locs → lv_has ls 6 [(0, .ref g.2.2.2.1), (1, .int x1), (2, .int x2), (3, .int x3)] → W p l e R s m args below meth c H locs 0 0 (MQ below (TQ g A (some (.int z.1)) z.2) args s 0 0 A) (F0 m 15 ls []) := by
  intro n
  induction n with
  | zero =>
    intro x1 x2 x3 σ H locs ls h
    cases h
  | succ n ih =>
    intro x1 x2 x3 σ H locs ls h hσ hS hl
    rw [bT_patch_15] at h
    refine lv_iload_n C.x C.b dX10_patch_15 rfl (lv_at hl 3 rfl) ?_
    refine lv_aload_n C.x C.b dX10_patch_16 rfl (lv_at hl 0 rfl) ?_
    refine tw_gf0 C hw hσ q2215 dX10_patch_17 ?_
    refine lv_iconst (v := 0) C.x C.b dX10_patch_20 (by decide) ?_
    refine tw_ld0 C hw hσ h dX10_patch_21 (fun v_1 h => ?_)
    refine lv_icmp_ge (tgt := 79) C.x C.b dX10_patch_22 (by decide) (fun c_2 => ?_) (fun c_2 => ?_)
    · have h := ip c_2 h
      refine lv_iload_n C.x C.b dX10_patch_79 rfl (lv_at hl 1 rfl) ?_
      exact tw_iret C hσ hS h dX10_patch_80
    · have h := iN c_2 h
      refine lv_iconst (v := 0) C.x C.b dX10_patch_25 (by decide) ?_
      refine lv_istore (lv' := [(4, .int 0), (0, .ref g.2.2.2.1), (1, .int x1), (2, .int x2), (3, .int x3)]) C.x C.b dX10_patch_26 hl (by decide) rfl (fun ls hl => ?_)
      exact wT_patch_28 C hw hRf hRl (fun y0 y1 y2 σ H locs ls h hσ hS hl => ih y0 y1 y2 σ H locs ls h hσ hS hl) _ _ _ _ _ _ _ _ _ h hσ hS (lv_sub hl [1, 2, 3, 4, 0] rfl)

theorem kT_patch (l : Launch) (g : twG) (A : Nat → Prop) (σ : twS) (v : Int32) (σ1 : twS) (h : mT_patch σ = some (v, σ1)) : Met l yX10_patch (ws_ yX10_patch cX10_patch 6 (some .int)) ({ frames := 7, cells := 0, slots := 0, locals := 161 }) (TPc twL g A [.ref g.2.2.2.1] (fun _ => True) σ) (TQ g A (some (.int v)) σ1) 0 0 A := by
  refine Met.ofW (cc := cX10_patch) (maxL := 6) (ret := (some .int)) (by decide) rfl ?_
  intro p e s m args below meth c s₁ B hml hv
  obtain ⟨rfl, hw, hX, hσ⟩ := hv
  have hts := atoms_spec (ws := (ws_ yX10_patch cX10_patch 6 (some .int))) B.pre
  have C : CX p m meth c s ([.ref g.2.2.2.1] : List Value).toArray cX10_patch 6 (some .int) RX10 := ⟨⟨B.exec, B.bytes, hml, findClass_of_methodNamed B.named, fun w h => hts w (List.mem_cons_of_mem _ h)⟩, B.returns, B.notSynchronized⟩
  have hRf : 7 ≤ (headSpec (ws_ yX10_patch cX10_patch 6 (some .int)) ({ frames := 7, cells := 0, slots := 0, locals := 161 })).room.frames := Nat.le_refl _
  have hRl : 161 ≤ (headSpec (ws_ yX10_patch cX10_patch 6 (some .int)) ({ frames := 7, cells := 0, slots := 0, locals := 161 })).room.locals := Nat.le_refl _
  generalize (headSpec (ws_ yX10_patch cX10_patch 6 (some .int)) ({ frames := 7, cells := 0, slots := 0, locals := 161 })).room = R at hRf hRl ⊢
  have hS : va_S A s.heap s.heap [] := va_S.rf
  have hl := lv_entry ([.ref g.2.2.2.1]) (n := 6) (Nat.le_of_ble_eq_true rfl)
  rw [lg_entry_eq]
  generalize (lg_sl ([.ref g.2.2.2.1]) ++ List.replicate (6 - (lg_sl ([.ref g.2.2.2.1])).length) Slot.unset).toArray = ls at hl ⊢
  have hl : lv_has ls 6 [(0, .ref g.2.2.2.1)] := hl
  obtain ⟨z, hz⟩ : ∃ z, z = (v, σ1) := ⟨_, rfl⟩
  rw [← hz] at h
  rw [show v = z.1 by rw [hz], show σ1 = z.2 by rw [hz]]
  clear hz v σ1
  unfold mT_patch at h
  refine lv_aload_n C.x C.b dX10_patch_0 rfl (lv_at hl 0 rfl) ?_
  refine lv_iconst (v := 0) C.x C.b dX10_patch_1 (by decide) ?_
  refine tw_pf13 C hw hσ hS q2228 dX10_patch_2 (fun H locs hσ hS => ?_)
  obtain ⟨σ_1, e_, h⟩ := nm_s h
  rw [← e_] at hσ
  clear e_
  refine lv_aload_n C.x C.b dX10_patch_5 rfl (lv_at hl 0 rfl) ?_
  refine tw_call (y := yX10_setsOut) (bytes := cX10_setsOut) (maxL := 4) (fun _ => none) [] (fun _ => True)  C hw XB.tt (fun _ _ _ => trivial) hσ hS hl.1 h (fun vv ss ee => kT_setsOut l g A σ_1 vv ss ee) (cwV 0 C.t (lw_V q2338 q2340 qs83 q159 q2341) rfl rfl rfl (by decide +kernel) ⟨Nat.le_trans (Nat.le_of_ble_eq_true rfl) hRf, Nat.le_trans (Nat.le_of_ble_eq_true rfl) hRl⟩) rfl rfl (Nat.le_of_ble_eq_true rfl) dX10_patch_6 (fun _ σ_2 H locs h hσ hS => ?_)
  refine lv_iconst (v := -1) C.x C.b dX10_patch_9 (by decide) ?_
  refine lv_istore_n (lv' := [(1, .int (-1)), (0, .ref g.2.2.2.1)]) C.x C.b dX10_patch_10 rfl hl (by decide) rfl (fun ls hl => ?_)
  refine lv_iconst (v := 0) C.x C.b dX10_patch_11 (by decide) ?_
  refine lv_istore_n (lv' := [(2, .int 0), (1, .int (-1)), (0, .ref g.2.2.2.1)]) C.x C.b dX10_patch_12 rfl hl (by decide) rfl (fun ls hl => ?_)
  refine lv_iconst (v := 0) C.x C.b dX10_patch_13 (by decide) ?_
  refine lv_istore_n (lv' := [(3, .int 0), (2, .int 0), (1, .int (-1)), (0, .ref g.2.2.2.1)]) C.x C.b dX10_patch_14 rfl hl (by decide) rfl (fun ls hl => ?_)
  exact wT_patch_15 C hw hRf hRl _ _ _ _ _ _ _ _ h hσ hS (lv_sub hl [3, 2, 1, 0] rfl)

theorem wT_apart_5 {z : Int32 × twS} (C : CX p m meth c s args cX10_apart 5 (some .int) RX10) (hw : WKt twL g A s s.heap) (hRf : 2 ≤ R.frames) (hRl : 48 ≤ R.locals) : ∀ (n : Nat) (x1 : Int32) (x2 : Int32) (x3 : Int32) (x4 : Int32) (σ : twS) (H : Heap) (locs : List Loc) (ls : Array Slot), bT_apart_5 n x1 x2 x3 x4 σ = some z → TI g A σ H → va_S A s.heap H locs → lv_has ls 5 [(0, .ref g.2.2.2.1), (1, .int x1), (2, .int x2), (3, .int x3), (4, .int x4)] → W p l e R s m args below meth c H locs 0 0 (MQ below (TQ g A (some (.int z.1)) z.2) args s 0 0 A) (F0 m 5 ls []) := by
  intro n
  induction n with
  | zero =>
    intro x1 x2 x3 x4 σ H locs ls h
    cases h
  | succ n ih =>
    intro x1 x2 x3 x4 σ H locs ls h hσ hS hl
    rw [bT_apart_5] at h
    refine lv_iload C.x C.b dX10_apart_5 (lv_at hl 4 rfl) ?_
    refine lv_aload_n C.x C.b dX10_apart_7 rfl (lv_at hl 0 rfl) ?_
    refine tw_gf0 C hw hσ q2215 dX10_apart_8 ?_
    refine lv_iconst (v := 0) C.x C.b dX10_apart_11 (by decide) ?_
    refine tw_ld0 C hw hσ h dX10_apart_12 (fun v_1 h => ?_)
    refine lv_icmp_ge (tgt := 47) C.x C.b dX10_apart_13 (by decide) (fun c_2 => ?_) (fun c_2 => ?_)
    · have h := ip c_2 h
      refine lv_iload_n C.x C.b dX10_apart_47 rfl (lv_at hl 3 rfl) ?_
      exact tw_iret C hσ hS h dX10_apart_48
    · have h := iN c_2 h
      refine lv_iload_n C.x C.b dX10_apart_16 rfl (lv_at hl 3 rfl) ?_
      refine lv_aload_n C.x C.b dX10_apart_17 rfl (lv_at hl 0 rfl) ?_
      refine lv_iload_n C.x C.b dX10_apart_18 rfl (lv_at hl 1 rfl) ?_
      refine lv_iload C.x C.b dX10_apart_19 (lv_at hl 4 rfl) ?_
      refine tw_call (y := yX10_valueOf) (bytes := cX10_valueOf) (maxL := 5) (fun v => some (.int v)) [.int x1, .int x4] (fun _ => True)  C hw XB.tt (fun _ _ _ => trivial) hσ hS hl.1 h (fun vv ss ee => kT_valueOf l g A x1 x4 σ vv ss ee) (cwV 2 C.t (lw_V q2355 q2357 qs87 q159 q2358) rfl rfl rfl (by decide +kernel) ⟨Nat.le_trans (Nat.le_of_ble_eq_true rfl) hRf, Nat.le_trans (Nat.le_of_ble_eq_true rfl) hRl⟩) rfl rfl (Nat.le_of_ble_eq_true rfl) dX10_apart_21 (fun v_3 σ_4 H locs h hσ hS => ?_)
      refine lv_aload_n C.x C.b dX10_apart_24 rfl (lv_at hl 0 rfl) ?_
      refine lv_iload_n C.x C.b dX10_apart_25 rfl (lv_at hl 2 rfl) ?_
      refine lv_iload C.x C.b dX10_apart_26 (lv_at hl 4 rfl) ?_
      refine tw_call (y := yX10_valueOf) (bytes := cX10_valueOf) (maxL := 5) (fun v => some (.int v)) [.int x2, .int x4] (fun _ => True)  C hw XB.tt (fun _ _ _ => trivial) hσ hS hl.1 h (fun vv ss ee => kT_valueOf l g A x2 x4 σ_4 vv ss ee) (cwV 2 C.t (lw_V q2355 q2357 qs87 q159 q2358) rfl rfl rfl (by decide +kernel) ⟨Nat.le_trans (Nat.le_of_ble_eq_true rfl) hRf, Nat.le_trans (Nat.le_of_ble_eq_true rfl) hRl⟩) rfl rfl (Nat.le_of_ble_eq_true rfl) dX10_apart_28 (fun v_5 σ_6 H locs h hσ hS => ?_)
      refine lv_icmp_ne (tgt := 38) C.x C.b dX10_apart_31 (by decide) (fun c_7 => ?_) (fun c_7 => ?_)
      · have h := iN c_7 h
        refine lv_iconst (v := 1) C.x C.b dX10_apart_38 (by decide) ?_
        refine lv_iadd C.x C.b dX10_apart_39 ?_
        refine tw_lt h (fun x3_8 h => ?_)
        refine lv_istore_n (lv' := [(3, .int x3_8), (0, .ref g.2.2.2.1), (1, .int x1), (2, .int x2), (4, .int x4)]) C.x C.b dX10_apart_40 rfl hl (by decide) rfl (fun ls hl => ?_)
        obtain ⟨x4_9, e_, h⟩ := nm_s h
        refine lv_iinc (v := x4_9) (lv' := [(4, .int x4_9), (3, .int x3_8), (0, .ref g.2.2.2.1), (1, .int x1), (2, .int x2)]) C.x C.b dX10_apart_41 hl (k := 4) rfl e_.symm (by decide) rfl (fun ls hl => ?_)
        refine lv_goto (tgt := 5) C.x C.b dX10_apart_44 (by decide) ?_
        exact ih _ _ _ _ _ _ _ _ h hσ hS (lv_sub hl [2, 3, 4, 1, 0] rfl)
      · have h := ip c_7 h
        refine lv_iconst (v := 0) C.x C.b dX10_apart_34 (by decide) ?_
        refine lv_goto (tgt := 39) C.x C.b dX10_apart_35 (by decide) ?_
        refine lv_iadd C.x C.b dX10_apart_39 ?_
        refine tw_lt h (fun x3_10 h => ?_)
        refine lv_istore_n (lv' := [(3, .int x3_10), (0, .ref g.2.2.2.1), (1, .int x1), (2, .int x2), (4, .int x4)]) C.x C.b dX10_apart_40 rfl hl (by decide) rfl (fun ls hl => ?_)
        obtain ⟨x4_11, e_, h⟩ := nm_s h
        refine lv_iinc (v := x4_11) (lv' := [(4, .int x4_11), (3, .int x3_10), (0, .ref g.2.2.2.1), (1, .int x1), (2, .int x2)]) C.x C.b dX10_apart_41 hl (k := 4) rfl e_.symm (by decide) rfl (fun ls hl => ?_)
        refine lv_goto (tgt := 5) C.x C.b dX10_apart_44 (by decide) ?_
        exact ih _ _ _ _ _ _ _ _ h hσ hS (lv_sub hl [2, 3, 4, 1, 0] rfl)

theorem kT_apart (l : Launch) (g : twG) (A : Nat → Prop) (x1 : Int32) (x2 : Int32) (σ : twS) (v : Int32) (σ1 : twS) (h : mT_apart x1 x2 σ = some (v, σ1)) : Met l yX10_apart (ws_ yX10_apart cX10_apart 5 (some .int)) ({ frames := 2, cells := 0, slots := 0, locals := 48 }) (TPc twL g A [.ref g.2.2.2.1, .int x1, .int x2] (fun _ => True) σ) (TQ g A (some (.int v)) σ1) 0 0 A := by
  refine Met.ofW (cc := cX10_apart) (maxL := 5) (ret := (some .int)) (by decide) rfl ?_
  intro p e s m args below meth c s₁ B hml hv
  obtain ⟨rfl, hw, hX, hσ⟩ := hv
  have hts := atoms_spec (ws := (ws_ yX10_apart cX10_apart 5 (some .int))) B.pre
  have C : CX p m meth c s ([.ref g.2.2.2.1, .int x1, .int x2] : List Value).toArray cX10_apart 5 (some .int) RX10 := ⟨⟨B.exec, B.bytes, hml, findClass_of_methodNamed B.named, fun w h => hts w (List.mem_cons_of_mem _ h)⟩, B.returns, B.notSynchronized⟩
  have hRf : 2 ≤ (headSpec (ws_ yX10_apart cX10_apart 5 (some .int)) ({ frames := 2, cells := 0, slots := 0, locals := 48 })).room.frames := Nat.le_refl _
  have hRl : 48 ≤ (headSpec (ws_ yX10_apart cX10_apart 5 (some .int)) ({ frames := 2, cells := 0, slots := 0, locals := 48 })).room.locals := Nat.le_refl _
  generalize (headSpec (ws_ yX10_apart cX10_apart 5 (some .int)) ({ frames := 2, cells := 0, slots := 0, locals := 48 })).room = R at hRf hRl ⊢
  have hS : va_S A s.heap s.heap [] := va_S.rf
  have hl := lv_entry ([.ref g.2.2.2.1, .int x1, .int x2]) (n := 5) (Nat.le_of_ble_eq_true rfl)
  rw [lg_entry_eq]
  generalize (lg_sl ([.ref g.2.2.2.1, .int x1, .int x2]) ++ List.replicate (5 - (lg_sl ([.ref g.2.2.2.1, .int x1, .int x2])).length) Slot.unset).toArray = ls at hl ⊢
  have hl : lv_has ls 5 [(0, .ref g.2.2.2.1), (1, .int x1), (2, .int x2)] := hl
  obtain ⟨z, hz⟩ : ∃ z, z = (v, σ1) := ⟨_, rfl⟩
  rw [← hz] at h
  rw [show v = z.1 by rw [hz], show σ1 = z.2 by rw [hz]]
  clear hz v σ1
  unfold mT_apart at h
  refine lv_iconst (v := 0) C.x C.b dX10_apart_0 (by decide) ?_
  refine lv_istore_n (lv' := [(3, .int 0), (0, .ref g.2.2.2.1), (1, .int x1), (2, .int x2)]) C.x C.b dX10_apart_1 rfl hl (by decide) rfl (fun ls hl => ?_)
  refine lv_iconst (v := 0) C.x C.b dX10_apart_2 (by decide) ?_
  refine lv_istore (lv' := [(4, .int 0), (3, .int 0), (0, .ref g.2.2.2.1), (1, .int x1), (2, .int x2)]) C.x C.b dX10_apart_3 hl (by decide) rfl (fun ls hl => ?_)
  exact wT_apart_5 C hw hRf hRl _ _ _ _ _ _ _ _ _ h hσ hS (lv_sub hl [2, 3, 4, 1, 0] rfl)

theorem wT_farFrom_36 {z : Int32 × twS} (C : CX p m meth c s args cX10_farFrom 6 (some .int) RX10) (hw : WKt twL g A s s.heap) (hRf : 7 ≤ R.frames) (hRl : 156 ≤ R.locals) : ∀ (n : Nat) (x1 : Int32) (x2 : Int32) (x3 : Int32) (x4 : Int32) (σ : twS) (H : Heap) (locs : List Loc) (ls : Array Slot), bT_farFrom_36 n x1 x2 x3 x4 σ = some z → TI g A σ H → va_S A s.heap H locs → lv_has ls 6 [(0, .ref g.2.2.2.1), (1, .int x1), (2, .int x2), (3, .int x3), (4, .int x4)] → W p l e R s m args below meth c H locs 0 0 (MQ below (TQ g A (some (.int z.1)) z.2) args s 0 0 A) (F0 m 36 ls []) := by
  intro n
  induction n with
  | zero =>
    intro x1 x2 x3 x4 σ H locs ls h
    cases h
  | succ n ih =>
    intro x1 x2 x3 x4 σ H locs ls h hσ hS hl
    rw [bT_farFrom_36] at h
    refine lv_iload C.x C.b dX10_farFrom_36 (lv_at hl 4 rfl) ?_
    refine lv_iload_n C.x C.b dX10_farFrom_38 rfl (lv_at hl 3 rfl) ?_
    refine lv_icmp_ge (tgt := 95) C.x C.b dX10_farFrom_39 (by decide) (fun c_1 => ?_) (fun c_1 => ?_)
    · have h := ip c_1 h
      refine lv_iload_n C.x C.b dX10_farFrom_95 rfl (lv_at hl 2 rfl) ?_
      exact tw_iret C hσ hS h dX10_farFrom_96
    · have h := iN c_1 h
      refine lv_aload_n C.x C.b dX10_farFrom_42 rfl (lv_at hl 0 rfl) ?_
      refine lv_aload_n C.x C.b dX10_farFrom_43 rfl (lv_at hl 0 rfl) ?_
      refine tw_gf15 C hw hσ q2230 dX10_farFrom_44 ?_
      refine lv_iload C.x C.b dX10_farFrom_47 (lv_at hl 4 rfl) ?_
      refine tw_ld15 C hw hσ h dX10_farFrom_49 (fun v_2 h => ?_)
      refine tw_call (y := yX10_settles) (bytes := cX10_settles) (maxL := 2) (fun v => some (.int v)) [.int v_2] (fun _ => True)  C hw XB.tt (fun _ _ _ => trivial) hσ hS hl.1 h (fun vv ss ee => kT_settles l g A v_2 σ vv ss ee) (cwV 1 C.t (lw_V q2414 q2416 qs98 q159 q2417) rfl rfl rfl (by decide +kernel) ⟨Nat.le_trans (Nat.le_of_ble_eq_true rfl) hRf, Nat.le_trans (Nat.le_of_ble_eq_true rfl) hRl⟩) rfl rfl (Nat.le_of_ble_eq_true rfl) dX10_farFrom_50 (fun v_3 σ_4 H locs h hσ hS => ?_)
      refine lv_iload_n C.x C.b dX10_farFrom_53 rfl (lv_at hl 1 rfl) ?_
      refine lv_icmp_ne (tgt := 89) C.x C.b dX10_farFrom_54 (by decide) (fun c_5 => ?_) (fun c_5 => ?_)
      · have h := iN c_5 h
        obtain ⟨x4_6, e_, h⟩ := nm_s h
        refine lv_iinc (v := x4_6) (lv' := [(4, .int x4_6), (0, .ref g.2.2.2.1), (1, .int x1), (2, .int x2), (3, .int x3)]) C.x C.b dX10_farFrom_89 hl (k := 4) rfl e_.symm (by decide) rfl (fun ls hl => ?_)
        refine lv_goto (tgt := 36) C.x C.b dX10_farFrom_92 (by decide) ?_
        exact ih _ _ _ _ _ _ _ _ h hσ hS (lv_sub hl [1, 2, 3, 4, 0] rfl)
      · have h := ip c_5 h
        refine lv_aload_n C.x C.b dX10_farFrom_57 rfl (lv_at hl 0 rfl) ?_
        refine lv_iload C.x C.b dX10_farFrom_58 (lv_at hl 4 rfl) ?_
        refine lv_aload_n C.x C.b dX10_farFrom_60 rfl (lv_at hl 0 rfl) ?_
        refine tw_gf0 C hw hσ q2215 dX10_farFrom_61 ?_
        refine lv_bipush (v := 8) C.x C.b dX10_farFrom_64 (by decide) ?_
        refine tw_ld0 C hw hσ h dX10_farFrom_66 (fun v_7 h => ?_)
        refine tw_call (y := yX10_apart) (bytes := cX10_apart) (maxL := 5) (fun v => some (.int v)) [.int x4, .int v_7] (fun _ => True)  C hw XB.tt (fun _ _ _ => trivial) hσ hS hl.1 h (fun vv ss ee => kT_apart l g A x4 v_7 σ_4 vv ss ee) (cwV 2 C.t (lw_V q2545 q2547 qs112 q159 q2548) rfl rfl rfl (by decide +kernel) ⟨Nat.le_trans (Nat.le_of_ble_eq_true rfl) hRf, Nat.le_trans (Nat.le_of_ble_eq_true rfl) hRl⟩) rfl rfl (Nat.le_of_ble_eq_true rfl) dX10_farFrom_67 (fun v_8 σ_9 H locs h hσ hS => ?_)
        refine lv_istore (lv' := [(5, .int v_8), (0, .ref g.2.2.2.1), (1, .int x1), (2, .int x2), (3, .int x3), (4, .int x4)]) C.x C.b dX10_farFrom_70 hl (by decide) rfl (fun ls hl => ?_)
        refine lv_iload_n C.x C.b dX10_farFrom_72 rfl (lv_at hl 3 rfl) ?_
        refine lv_iconst (v := -1) C.x C.b dX10_farFrom_73 (by decide) ?_
        refine lv_icmp_ne (tgt := 82) C.x C.b dX10_farFrom_74 (by decide) (fun c_10 => ?_) (fun c_10 => ?_)
        · have h := iN c_10 h
          refine lv_iload_n C.x C.b dX10_farFrom_82 rfl (lv_at hl 3 rfl) ?_
          refine lv_iload C.x C.b dX10_farFrom_83 (lv_at hl 0 rfl) ?_
          refine va_mmin C.x C.b (C.n.trans hl.1.symm) C.o (C.t _ q2430) (C.t _ q351) (C.t _ q136) (C.t _ q352) (Nat.le_trans (Nat.le_of_ble_eq_true rfl) hRf) (Nat.le_trans (Nat.le_of_ble_eq_true rfl) hRl) (Nat.zero_le _) (Nat.zero_le _) dX10_farFrom_85 ?_
          refine tw_lt h (fun u_11 h => ?_)
          refine lv_istore_n (lv' := [(2, .int u_11), (5, .int v_8), (0, .ref g.2.2.2.1), (1, .int x1), (3, .int x3), (4, .int x4)]) C.x C.b dX10_farFrom_88 rfl hl (by decide) rfl (fun ls hl => ?_)
          obtain ⟨x4_12, e_, h⟩ := nm_s h
          refine lv_iinc (v := x4_12) (lv' := [(4, .int x4_12), (2, .int u_11), (5, .int v_8), (0, .ref g.2.2.2.1), (1, .int x1), (3, .int x3)]) C.x C.b dX10_farFrom_89 hl (k := 5) rfl e_.symm (by decide) rfl (fun ls hl => ?_)
          refine lv_goto (tgt := 36) C.x C.b dX10_farFrom_92 (by decide) ?_
          exact ih _ _ _ _ _ _ _ _ h hσ hS (lv_sub hl [3, 4, 1, 5, 0] rfl)
        · have h := ip c_10 h
          refine lv_iload C.x C.b dX10_farFrom_77 (lv_at hl 0 rfl) ?_
          refine lv_goto (tgt := 88) C.x C.b dX10_farFrom_79 (by decide) ?_
          refine lv_istore_n (lv' := [(2, .int v_8), (5, .int v_8), (0, .ref g.2.2.2.1), (1, .int x1), (3, .int x3), (4, .int x4)]) C.x C.b dX10_farFrom_88 rfl hl (by decide) rfl (fun ls hl => ?_)
          obtain ⟨x4_13, e_, h⟩ := nm_s h
          refine lv_iinc (v := x4_13) (lv' := [(4, .int x4_13), (2, .int v_8), (5, .int v_8), (0, .ref g.2.2.2.1), (1, .int x1), (3, .int x3)]) C.x C.b dX10_farFrom_89 hl (k := 5) rfl e_.symm (by decide) rfl (fun ls hl => ?_)
          refine lv_goto (tgt := 36) C.x C.b dX10_farFrom_92 (by decide) ?_
          exact ih _ _ _ _ _ _ _ _ h hσ hS (lv_sub hl [3, 4, 1, 5, 0] rfl)

theorem wT_farFrom_14 {z : Int32 × twS} (C : CX p m meth c s args cX10_farFrom 6 (some .int) RX10) (hw : WKt twL g A s s.heap) (hRf : 7 ≤ R.frames) (hRl : 156 ≤ R.locals) : ∀ (x1 : Int32) (s1 : Int32) (σ : twS) (H : Heap) (locs : List Loc) (ls : Array Slot), bT_farFrom_14 x1 s1 σ = some z → TI g A σ H → va_S A s.heap H locs → lv_has ls 6 [(0, .ref g.2.2.2.1), (1, .int x1)] → W p l e R s m args below meth c H locs 0 0 (MQ below (TQ g A (some (.int z.1)) z.2) args s 0 0 A) (F0 m 14 ls [.int s1, .ref g.2.2.2.1]) := by
  intro x1 s1 σ H locs ls h hσ hS hl
  unfold bT_farFrom_14 at h
  refine tw_call (y := yX10_throwsOne) (bytes := cX10_throwsOne) (maxL := 2) (fun v => some (.int v)) [.int s1] (fun _ => True)  C hw XB.tt (fun _ _ _ => trivial) hσ hS hl.1 h (fun vv ss ee => kT_throwsOne l g A s1 σ vv ss ee) (cwV 1 C.t (lw_V q2314 q2316 qs79 q159 q2317) rfl rfl rfl (by decide +kernel) ⟨Nat.le_trans (Nat.le_of_ble_eq_true rfl) hRf, Nat.le_trans (Nat.le_of_ble_eq_true rfl) hRl⟩) rfl rfl (Nat.le_of_ble_eq_true rfl) dX10_farFrom_14 (fun v_1 σ_2 H locs h hσ hS => ?_)
  refine lv_if_eq (tgt := 22) C.x C.b dX10_farFrom_17 (by decide) (fun c_3 => ?_) (fun c_3 => ?_)
  · have h := ip c_3 h
    refine lv_aload_n C.x C.b dX10_farFrom_22 rfl (lv_at hl 0 rfl) ?_
    refine tw_call (y := yX10_setsOut) (bytes := cX10_setsOut) (maxL := 4) (fun _ => none) [] (fun _ => True)  C hw XB.tt (fun _ _ _ => trivial) hσ hS hl.1 h (fun vv ss ee => kT_setsOut l g A σ_2 vv ss ee) (cwV 0 C.t (lw_V q2338 q2340 qs83 q159 q2341) rfl rfl rfl (by decide +kernel) ⟨Nat.le_trans (Nat.le_of_ble_eq_true rfl) hRf, Nat.le_trans (Nat.le_of_ble_eq_true rfl) hRl⟩) rfl rfl (Nat.le_of_ble_eq_true rfl) dX10_farFrom_23 (fun _ σ_4 H locs h hσ hS => ?_)
    refine lv_iconst (v := -1) C.x C.b dX10_farFrom_26 (by decide) ?_
    refine lv_istore_n (lv' := [(2, .int (-1)), (0, .ref g.2.2.2.1), (1, .int x1)]) C.x C.b dX10_farFrom_27 rfl hl (by decide) rfl (fun ls hl => ?_)
    refine lv_aload_n C.x C.b dX10_farFrom_28 rfl (lv_at hl 1 rfl) ?_
    refine tw_call (y := yX10_cases) (bytes := cX10_cases) (maxL := 3) (fun v => some (.int v)) [] (fun _ => True)  C hw XB.tt (fun _ _ _ => trivial) hσ hS hl.1 h (fun vv ss ee => kT_cases l g A σ_4 vv ss ee) (cwV 0 C.t (lw_V q2334 q2336 qs82 q159 q2337) rfl rfl rfl (by decide +kernel) ⟨Nat.le_trans (Nat.le_of_ble_eq_true rfl) hRf, Nat.le_trans (Nat.le_of_ble_eq_true rfl) hRl⟩) rfl rfl (Nat.le_of_ble_eq_true rfl) dX10_farFrom_29 (fun v_5 σ_6 H locs h hσ hS => ?_)
    refine lv_istore_n (lv' := [(3, .int v_5), (2, .int (-1)), (0, .ref g.2.2.2.1), (1, .int x1)]) C.x C.b dX10_farFrom_32 rfl hl (by decide) rfl (fun ls hl => ?_)
    refine lv_iconst (v := 0) C.x C.b dX10_farFrom_33 (by decide) ?_
    refine lv_istore (lv' := [(4, .int 0), (3, .int v_5), (2, .int (-1)), (0, .ref g.2.2.2.1), (1, .int x1)]) C.x C.b dX10_farFrom_34 hl (by decide) rfl (fun ls hl => ?_)
    exact wT_farFrom_36 C hw hRf hRl _ _ _ _ _ _ _ _ _ h hσ hS (lv_sub hl [3, 4, 2, 1, 0] rfl)
  · have h := iN c_3 h
    refine lv_iconst (v := 0) C.x C.b dX10_farFrom_20 (by decide) ?_
    exact tw_iret C hσ hS h dX10_farFrom_21

theorem kT_farFrom (l : Launch) (g : twG) (A : Nat → Prop) (x1 : Int32) (σ : twS) (v : Int32) (σ1 : twS) (h : mT_farFrom x1 σ = some (v, σ1)) : Met l yX10_farFrom (ws_ yX10_farFrom cX10_farFrom 6 (some .int)) ({ frames := 7, cells := 0, slots := 0, locals := 156 }) (TPc twL g A [.ref g.2.2.2.1, .int x1] (fun _ => True) σ) (TQ g A (some (.int v)) σ1) 0 0 A := by
  refine Met.ofW (cc := cX10_farFrom) (maxL := 6) (ret := (some .int)) (by decide) rfl ?_
  intro p e s m args below meth c s₁ B hml hv
  obtain ⟨rfl, hw, hX, hσ⟩ := hv
  have hts := atoms_spec (ws := (ws_ yX10_farFrom cX10_farFrom 6 (some .int))) B.pre
  have C : CX p m meth c s ([.ref g.2.2.2.1, .int x1] : List Value).toArray cX10_farFrom 6 (some .int) RX10 := ⟨⟨B.exec, B.bytes, hml, findClass_of_methodNamed B.named, fun w h => hts w (List.mem_cons_of_mem _ h)⟩, B.returns, B.notSynchronized⟩
  have hRf : 7 ≤ (headSpec (ws_ yX10_farFrom cX10_farFrom 6 (some .int)) ({ frames := 7, cells := 0, slots := 0, locals := 156 })).room.frames := Nat.le_refl _
  have hRl : 156 ≤ (headSpec (ws_ yX10_farFrom cX10_farFrom 6 (some .int)) ({ frames := 7, cells := 0, slots := 0, locals := 156 })).room.locals := Nat.le_refl _
  generalize (headSpec (ws_ yX10_farFrom cX10_farFrom 6 (some .int)) ({ frames := 7, cells := 0, slots := 0, locals := 156 })).room = R at hRf hRl ⊢
  have hS : va_S A s.heap s.heap [] := va_S.rf
  have hl := lv_entry ([.ref g.2.2.2.1, .int x1]) (n := 6) (Nat.le_of_ble_eq_true rfl)
  rw [lg_entry_eq]
  generalize (lg_sl ([.ref g.2.2.2.1, .int x1]) ++ List.replicate (6 - (lg_sl ([.ref g.2.2.2.1, .int x1])).length) Slot.unset).toArray = ls at hl ⊢
  have hl : lv_has ls 6 [(0, .ref g.2.2.2.1), (1, .int x1)] := hl
  obtain ⟨z, hz⟩ : ∃ z, z = (v, σ1) := ⟨_, rfl⟩
  rw [← hz] at h
  rw [show v = z.1 by rw [hz], show σ1 = z.2 by rw [hz]]
  clear hz v σ1
  unfold mT_farFrom at h
  refine lv_aload_n C.x C.b dX10_farFrom_0 rfl (lv_at hl 0 rfl) ?_
  refine lv_aload_n C.x C.b dX10_farFrom_1 rfl (lv_at hl 0 rfl) ?_
  refine lv_iload_n C.x C.b dX10_farFrom_2 rfl (lv_at hl 1 rfl) ?_
  refine tw_call (y := yX10_isRule) (bytes := cX10_isRule) (maxL := 2) (fun v => some (.int v)) [.int x1] (fun _ => True)  C hw XB.tt (fun _ _ _ => trivial) hσ hS hl.1 h (fun vv ss ee => kT_isRule l g A x1 σ vv ss ee) (cwV 1 C.t (lw_V q2435 q2437 qs102 q159 q2438) rfl rfl rfl (by decide +kernel) ⟨Nat.le_trans (Nat.le_of_ble_eq_true rfl) hRf, Nat.le_trans (Nat.le_of_ble_eq_true rfl) hRl⟩) rfl rfl (Nat.le_of_ble_eq_true rfl) dX10_farFrom_3 (fun v_1 σ_2 H locs h hσ hS => ?_)
  refine lv_if_ne (tgt := 13) C.x C.b dX10_farFrom_6 (by decide) (fun c_3 => ?_) (fun c_3 => ?_)
  · have h := iN c_3 h
    refine lv_iconst (v := 0) C.x C.b dX10_farFrom_13 (by decide) ?_
    exact wT_farFrom_14 C hw hRf hRl _ _ _ _ _ _ h hσ hS (lv_sub hl [0, 1] rfl)
  · have h := ip c_3 h
    refine lv_iconst (v := 1) C.x C.b dX10_farFrom_9 (by decide) ?_
    refine lv_goto (tgt := 14) C.x C.b dX10_farFrom_10 (by decide) ?_
    exact wT_farFrom_14 C hw hRf hRl _ _ _ _ _ _ h hσ hS (lv_sub hl [0, 1] rfl)

theorem wT_gets_41 {z : Int32 × twS} (C : CX p m meth c s args cX10_gets 5 (some .int) RX10) (hw : WKt twL g A s s.heap) (hRf : 7 ≤ R.frames) (hRl : 156 ≤ R.locals) : ∀ (x1 : Int32) (x2 : Int32) (x3 : Int32) (s1 : Int32) (s2 : Int32) (s3 : Int32) (σ : twS) (H : Heap) (locs : List Loc) (ls : Array Slot), bT_gets_41 x1 x2 x3 s1 s2 s3 σ = some z → TI g A σ H → va_S A s.heap H locs → lv_has ls 5 [(0, .ref g.2.2.2.1), (1, .int x1), (2, .int x2), (3, .int x3)] → W p l e R s m args below meth c H locs 0 0 (MQ below (TQ g A (some (.int z.1)) z.2) args s 0 0 A) (F0 m 41 ls [.int s3, .int s2, .int s1, .ref g.2.2.2.1]) := by
  intro x1 x2 x3 s1 s2 s3 σ H locs ls h hσ hS hl
  unfold bT_gets_41 at h
  refine tw_call (y := yX10_throwsOne_3) (bytes := cX10_throwsOne_3) (maxL := 4) (fun v => some (.int v)) [.int s1, .int s2, .int s3] (fun _ => True)  C hw XB.tt (fun _ _ _ => trivial) hσ hS hl.1 h (fun vv ss ee => kT_throwsOne_3 l g A s1 s2 s3 σ vv ss ee) (cwV 3 C.t (lw_V q2486 q2488 qs108 q159 q2489) rfl rfl rfl (by decide +kernel) ⟨Nat.le_trans (Nat.le_of_ble_eq_true rfl) hRf, Nat.le_trans (Nat.le_of_ble_eq_true rfl) hRl⟩) rfl rfl (Nat.le_of_ble_eq_true rfl) dX10_gets_41 (fun v_1 σ_2 H locs h hσ hS => ?_)
  refine lv_if_eq (tgt := 49) C.x C.b dX10_gets_44 (by decide) (fun c_3 => ?_) (fun c_3 => ?_)
  · have h := ip c_3 h
    refine lv_aload_n C.x C.b dX10_gets_49 rfl (lv_at hl 0 rfl) ?_
    refine lv_aload_n C.x C.b dX10_gets_50 rfl (lv_at hl 0 rfl) ?_
    refine lv_iload_n C.x C.b dX10_gets_51 rfl (lv_at hl 1 rfl) ?_
    refine tw_call (y := yX10_setOf) (bytes := cX10_setOf) (maxL := 4) (fun v => some (.int v)) [.int x1] (fun _ => True)  C hw XB.tt (fun _ _ _ => trivial) hσ hS hl.1 h (fun vv ss ee => kT_setOf l g A x1 σ_2 vv ss ee) (cwV 1 C.t (lw_V q2410 q2412 qs97 q159 q2413) rfl rfl rfl (by decide +kernel) ⟨Nat.le_trans (Nat.le_of_ble_eq_true rfl) hRf, Nat.le_trans (Nat.le_of_ble_eq_true rfl) hRl⟩) rfl rfl (Nat.le_of_ble_eq_true rfl) dX10_gets_52 (fun v_4 σ_5 H locs h hσ hS => ?_)
    refine tw_call (y := yX10_settles) (bytes := cX10_settles) (maxL := 2) (fun v => some (.int v)) [.int v_4] (fun _ => True)  C hw XB.tt (fun _ _ _ => trivial) hσ hS hl.1 h (fun vv ss ee => kT_settles l g A v_4 σ_5 vv ss ee) (cwV 1 C.t (lw_V q2414 q2416 qs98 q159 q2417) rfl rfl rfl (by decide +kernel) ⟨Nat.le_trans (Nat.le_of_ble_eq_true rfl) hRf, Nat.le_trans (Nat.le_of_ble_eq_true rfl) hRl⟩) rfl rfl (Nat.le_of_ble_eq_true rfl) dX10_gets_55 (fun v_6 σ_7 H locs h hσ hS => ?_)
    refine lv_istore (lv' := [(4, .int v_6), (0, .ref g.2.2.2.1), (1, .int x1), (2, .int x2), (3, .int x3)]) C.x C.b dX10_gets_58 hl (by decide) rfl (fun ls hl => ?_)
    refine lv_iload C.x C.b dX10_gets_60 (lv_at hl 0 rfl) ?_
    refine lv_iconst (v := -1) C.x C.b dX10_gets_62 (by decide) ?_
    refine lv_icmp_ne (tgt := 70) C.x C.b dX10_gets_63 (by decide) (fun c_8 => ?_) (fun c_8 => ?_)
    · have h := iN c_8 h
      refine lv_iload_n C.x C.b dX10_gets_70 rfl (lv_at hl 4 rfl) ?_
      refine lv_if_ne (tgt := 84) C.x C.b dX10_gets_71 (by decide) (fun c_9 => ?_) (fun c_9 => ?_)
      · have h := iN c_9 h
        refine lv_aload_n C.x C.b dX10_gets_84 rfl (lv_at hl 1 rfl) ?_
        refine lv_iload C.x C.b dX10_gets_85 (lv_at hl 0 rfl) ?_
        refine lv_iload_n C.x C.b dX10_gets_87 rfl (lv_at hl 3 rfl) ?_
        refine tw_call (y := yX10_duty) (bytes := cX10_duty) (maxL := 4) (fun v => some (.int v)) [.int v_6, .int x2] (fun _ => True)  C hw XB.tt (fun _ _ _ => trivial) hσ hS hl.1 h (fun vv ss ee => kT_duty l g A v_6 x2 σ_7 vv ss ee) (cwV 2 C.t (lw_V q2422 q2424 qs100 q159 q2425) rfl rfl rfl (by decide +kernel) ⟨Nat.le_trans (Nat.le_of_ble_eq_true rfl) hRf, Nat.le_trans (Nat.le_of_ble_eq_true rfl) hRl⟩) rfl rfl (Nat.le_of_ble_eq_true rfl) dX10_gets_88 (fun v_10 σ_11 H locs h hσ hS => ?_)
        exact tw_iret C hσ hS h dX10_gets_91
      · have h := ip c_9 h
        refine lv_aload_n C.x C.b dX10_gets_74 rfl (lv_at hl 1 rfl) ?_
        refine lv_iload C.x C.b dX10_gets_75 (lv_at hl 0 rfl) ?_
        refine lv_iload_n C.x C.b dX10_gets_77 rfl (lv_at hl 3 rfl) ?_
        refine tw_call (y := yX10_part) (bytes := cX10_part) (maxL := 5) (fun v => some (.int v)) [.int v_6, .int x2] (fun _ => True)  C hw XB.tt (fun _ _ _ => trivial) hσ hS hl.1 h (fun vv ss ee => kT_part l g A v_6 x2 σ_7 vv ss ee) (cwV 2 C.t (lw_V q2418 q2420 qs99 q159 q2421) rfl rfl rfl (by decide +kernel) ⟨Nat.le_trans (Nat.le_of_ble_eq_true rfl) hRf, Nat.le_trans (Nat.le_of_ble_eq_true rfl) hRl⟩) rfl rfl (Nat.le_of_ble_eq_true rfl) dX10_gets_78 (fun v_12 σ_13 H locs h hσ hS => ?_)
        refine lv_goto (tgt := 91) C.x C.b dX10_gets_81 (by decide) ?_
        exact tw_iret C hσ hS h dX10_gets_91
    · have h := ip c_8 h
      refine lv_iconst (v := 0) C.x C.b dX10_gets_66 (by decide) ?_
      refine lv_goto (tgt := 91) C.x C.b dX10_gets_67 (by decide) ?_
      exact tw_iret C hσ hS h dX10_gets_91
  · have h := iN c_3 h
    refine lv_iconst (v := 0) C.x C.b dX10_gets_47 (by decide) ?_
    exact tw_iret C hσ hS h dX10_gets_48

theorem wT_gets_27 {z : Int32 × twS} (C : CX p m meth c s args cX10_gets 5 (some .int) RX10) (hw : WKt twL g A s s.heap) (hRf : 7 ≤ R.frames) (hRl : 156 ≤ R.locals) : ∀ (x1 : Int32) (x2 : Int32) (x3 : Int32) (s1 : Int32) (s2 : Int32) (σ : twS) (H : Heap) (locs : List Loc) (ls : Array Slot), bT_gets_27 x1 x2 x3 s1 s2 σ = some z → TI g A σ H → va_S A s.heap H locs → lv_has ls 5 [(0, .ref g.2.2.2.1), (1, .int x1), (2, .int x2), (3, .int x3)] → W p l e R s m args below meth c H locs 0 0 (MQ below (TQ g A (some (.int z.1)) z.2) args s 0 0 A) (F0 m 27 ls [.int s2, .int s1, .ref g.2.2.2.1]) := by
  intro x1 x2 x3 s1 s2 σ H locs ls h hσ hS hl
  unfold bT_gets_27 at h
  refine lv_iload_n C.x C.b dX10_gets_27 rfl (lv_at hl 3 rfl) ?_
  refine lv_iconst (v := 0) C.x C.b dX10_gets_28 (by decide) ?_
  refine lv_iconst (v := 1) C.x C.b dX10_gets_29 (by decide) ?_
  refine tw_callS (y := yX10_in) (bytes := cX10_in) (maxL := 3) (fun v => some (.int v)) [.int x3, .int 0, .int 1] C hw hσ hS hl.1 h (fun vv ss ee => kT_in l g A x3 0 1 σ vv ss ee) (va_cwS 3 C.t (lw_S q2136 q2137 q159 q2138) rfl rfl rfl (by decide +kernel) ⟨Nat.le_trans (Nat.le_of_ble_eq_true rfl) hRf, Nat.le_trans (Nat.le_of_ble_eq_true rfl) hRl⟩) rfl rfl (Nat.le_of_ble_eq_true rfl) dX10_gets_30 (fun v_1 σ_2 H locs h hσ hS => ?_)
  refine lv_if_ne (tgt := 40) C.x C.b dX10_gets_33 (by decide) (fun c_3 => ?_) (fun c_3 => ?_)
  · have h := iN c_3 h
    refine lv_iconst (v := 0) C.x C.b dX10_gets_40 (by decide) ?_
    exact wT_gets_41 C hw hRf hRl _ _ _ _ _ _ _ _ _ _ h hσ hS (lv_sub hl [0, 1, 2, 3] rfl)
  · have h := ip c_3 h
    refine lv_iconst (v := 1) C.x C.b dX10_gets_36 (by decide) ?_
    refine lv_goto (tgt := 41) C.x C.b dX10_gets_37 (by decide) ?_
    exact wT_gets_41 C hw hRf hRl _ _ _ _ _ _ _ _ _ _ h hσ hS (lv_sub hl [0, 1, 2, 3] rfl)

theorem wT_gets_14 {z : Int32 × twS} (C : CX p m meth c s args cX10_gets 5 (some .int) RX10) (hw : WKt twL g A s s.heap) (hRf : 7 ≤ R.frames) (hRl : 156 ≤ R.locals) : ∀ (x1 : Int32) (x2 : Int32) (x3 : Int32) (s1 : Int32) (σ : twS) (H : Heap) (locs : List Loc) (ls : Array Slot), bT_gets_14 x1 x2 x3 s1 σ = some z → TI g A σ H → va_S A s.heap H locs → lv_has ls 5 [(0, .ref g.2.2.2.1), (1, .int x1), (2, .int x2), (3, .int x3)] → W p l e R s m args below meth c H locs 0 0 (MQ below (TQ g A (some (.int z.1)) z.2) args s 0 0 A) (F0 m 14 ls [.int s1, .ref g.2.2.2.1]) := by
  intro x1 x2 x3 s1 σ H locs ls h hσ hS hl
  unfold bT_gets_14 at h
  refine lv_aload_n C.x C.b dX10_gets_14 rfl (lv_at hl 0 rfl) ?_
  refine lv_iload_n C.x C.b dX10_gets_15 rfl (lv_at hl 2 rfl) ?_
  refine tw_call (y := yX10_isHeir) (bytes := cX10_isHeir) (maxL := 2) (fun v => some (.int v)) [.int x2] (fun _ => True)  C hw XB.tt (fun _ _ _ => trivial) hσ hS hl.1 h (fun vv ss ee => kT_isHeir l g A x2 σ vv ss ee) (cwV 1 C.t (lw_V q2402 q2404 qs95 q159 q2405) rfl rfl rfl (by decide +kernel) ⟨Nat.le_trans (Nat.le_of_ble_eq_true rfl) hRf, Nat.le_trans (Nat.le_of_ble_eq_true rfl) hRl⟩) rfl rfl (Nat.le_of_ble_eq_true rfl) dX10_gets_16 (fun v_1 σ_2 H locs h hσ hS => ?_)
  refine lv_if_ne (tgt := 26) C.x C.b dX10_gets_19 (by decide) (fun c_3 => ?_) (fun c_3 => ?_)
  · have h := iN c_3 h
    refine lv_iconst (v := 0) C.x C.b dX10_gets_26 (by decide) ?_
    exact wT_gets_27 C hw hRf hRl _ _ _ _ _ _ _ _ _ h hσ hS (lv_sub hl [0, 1, 2, 3] rfl)
  · have h := ip c_3 h
    refine lv_iconst (v := 1) C.x C.b dX10_gets_22 (by decide) ?_
    refine lv_goto (tgt := 27) C.x C.b dX10_gets_23 (by decide) ?_
    exact wT_gets_27 C hw hRf hRl _ _ _ _ _ _ _ _ _ h hσ hS (lv_sub hl [0, 1, 2, 3] rfl)

theorem kT_gets (l : Launch) (g : twG) (A : Nat → Prop) (x1 : Int32) (x2 : Int32) (x3 : Int32) (σ : twS) (v : Int32) (σ1 : twS) (h : mT_gets x1 x2 x3 σ = some (v, σ1)) : Met l yX10_gets (ws_ yX10_gets cX10_gets 5 (some .int)) ({ frames := 7, cells := 0, slots := 0, locals := 156 }) (TPc twL g A [.ref g.2.2.2.1, .int x1, .int x2, .int x3] (fun _ => True) σ) (TQ g A (some (.int v)) σ1) 0 0 A := by
  refine Met.ofW (cc := cX10_gets) (maxL := 5) (ret := (some .int)) (by decide) rfl ?_
  intro p e s m args below meth c s₁ B hml hv
  obtain ⟨rfl, hw, hX, hσ⟩ := hv
  have hts := atoms_spec (ws := (ws_ yX10_gets cX10_gets 5 (some .int))) B.pre
  have C : CX p m meth c s ([.ref g.2.2.2.1, .int x1, .int x2, .int x3] : List Value).toArray cX10_gets 5 (some .int) RX10 := ⟨⟨B.exec, B.bytes, hml, findClass_of_methodNamed B.named, fun w h => hts w (List.mem_cons_of_mem _ h)⟩, B.returns, B.notSynchronized⟩
  have hRf : 7 ≤ (headSpec (ws_ yX10_gets cX10_gets 5 (some .int)) ({ frames := 7, cells := 0, slots := 0, locals := 156 })).room.frames := Nat.le_refl _
  have hRl : 156 ≤ (headSpec (ws_ yX10_gets cX10_gets 5 (some .int)) ({ frames := 7, cells := 0, slots := 0, locals := 156 })).room.locals := Nat.le_refl _
  generalize (headSpec (ws_ yX10_gets cX10_gets 5 (some .int)) ({ frames := 7, cells := 0, slots := 0, locals := 156 })).room = R at hRf hRl ⊢
  have hS : va_S A s.heap s.heap [] := va_S.rf
  have hl := lv_entry ([.ref g.2.2.2.1, .int x1, .int x2, .int x3]) (n := 5) (Nat.le_of_ble_eq_true rfl)
  rw [lg_entry_eq]
  generalize (lg_sl ([.ref g.2.2.2.1, .int x1, .int x2, .int x3]) ++ List.replicate (5 - (lg_sl ([.ref g.2.2.2.1, .int x1, .int x2, .int x3])).length) Slot.unset).toArray = ls at hl ⊢
  have hl : lv_has ls 5 [(0, .ref g.2.2.2.1), (1, .int x1), (2, .int x2), (3, .int x3)] := hl
  obtain ⟨z, hz⟩ : ∃ z, z = (v, σ1) := ⟨_, rfl⟩
  rw [← hz] at h
  rw [show v = z.1 by rw [hz], show σ1 = z.2 by rw [hz]]
  clear hz v σ1
  unfold mT_gets at h
  refine lv_aload_n C.x C.b dX10_gets_0 rfl (lv_at hl 0 rfl) ?_
  refine lv_aload_n C.x C.b dX10_gets_1 rfl (lv_at hl 0 rfl) ?_
  refine lv_iload_n C.x C.b dX10_gets_2 rfl (lv_at hl 1 rfl) ?_
  refine tw_call (y := yX10_isCase) (bytes := cX10_isCase) (maxL := 2) (fun v => some (.int v)) [.int x1] (fun _ => True)  C hw XB.tt (fun _ _ _ => trivial) hσ hS hl.1 h (fun vv ss ee => kT_isCase l g A x1 σ vv ss ee) (cwV 1 C.t (lw_V q2390 q2392 qs93 q159 q2393) rfl rfl rfl (by decide +kernel) ⟨Nat.le_trans (Nat.le_of_ble_eq_true rfl) hRf, Nat.le_trans (Nat.le_of_ble_eq_true rfl) hRl⟩) rfl rfl (Nat.le_of_ble_eq_true rfl) dX10_gets_3 (fun v_1 σ_2 H locs h hσ hS => ?_)
  refine lv_if_ne (tgt := 13) C.x C.b dX10_gets_6 (by decide) (fun c_3 => ?_) (fun c_3 => ?_)
  · have h := iN c_3 h
    refine lv_iconst (v := 0) C.x C.b dX10_gets_13 (by decide) ?_
    exact wT_gets_14 C hw hRf hRl _ _ _ _ _ _ _ _ h hσ hS (lv_sub hl [0, 1, 2, 3] rfl)
  · have h := ip c_3 h
    refine lv_iconst (v := 1) C.x C.b dX10_gets_9 (by decide) ?_
    refine lv_goto (tgt := 14) C.x C.b dX10_gets_10 (by decide) ?_
    exact wT_gets_14 C hw hRf hRl _ _ _ _ _ _ _ _ h hσ hS (lv_sub hl [0, 1, 2, 3] rfl)

theorem wT_duties0_4 {z : Int32 × twS} (C : CX p m meth c s args cX10_duties0 4 (some .int) RX10) (hw : WKt twL g A s s.heap) (hRf : 5 ≤ R.frames) (hRl : 113 ≤ R.locals) : ∀ (n : Nat) (x1 : Int32) (x2 : Int32) (x3 : Int32) (σ : twS) (H : Heap) (locs : List Loc) (ls : Array Slot), bT_duties0_4 n x1 x2 x3 σ = some z → TI g A σ H → va_S A s.heap H locs → lv_has ls 4 [(0, .ref g.2.2.2.1), (1, .int x1), (2, .int x2), (3, .int x3)] → W p l e R s m args below meth c H locs 0 0 (MQ below (TQ g A (some (.int z.1)) z.2) args s 0 0 A) (F0 m 4 ls []) := by
  intro n
  induction n with
  | zero =>
    intro x1 x2 x3 σ H locs ls h
    cases h
  | succ n ih =>
    intro x1 x2 x3 σ H locs ls h hσ hS hl
    rw [bT_duties0_4] at h
    refine lv_iload_n C.x C.b dX10_duties0_4 rfl (lv_at hl 3 rfl) ?_
    refine lv_aload_n C.x C.b dX10_duties0_5 rfl (lv_at hl 0 rfl) ?_
    refine tw_gf0 C hw hσ q2215 dX10_duties0_6 ?_
    refine lv_iconst (v := 5) C.x C.b dX10_duties0_9 (by decide) ?_
    refine tw_ld0 C hw hσ h dX10_duties0_10 (fun v_1 h => ?_)
    refine lv_icmp_ge (tgt := 29) C.x C.b dX10_duties0_11 (by decide) (fun c_2 => ?_) (fun c_2 => ?_)
    · have h := ip c_2 h
      refine lv_iload_n C.x C.b dX10_duties0_29 rfl (lv_at hl 2 rfl) ?_
      exact tw_iret C hσ hS h dX10_duties0_30
    · have h := iN c_2 h
      refine lv_iload_n C.x C.b dX10_duties0_14 rfl (lv_at hl 2 rfl) ?_
      refine lv_aload_n C.x C.b dX10_duties0_15 rfl (lv_at hl 0 rfl) ?_
      refine lv_iload_n C.x C.b dX10_duties0_16 rfl (lv_at hl 1 rfl) ?_
      refine lv_iload_n C.x C.b dX10_duties0_17 rfl (lv_at hl 3 rfl) ?_
      refine tw_call (y := yX10_duty) (bytes := cX10_duty) (maxL := 4) (fun v => some (.int v)) [.int x1, .int x3] (fun _ => True)  C hw XB.tt (fun _ _ _ => trivial) hσ hS hl.1 h (fun vv ss ee => kT_duty l g A x1 x3 σ vv ss ee) (cwV 2 C.t (lw_V q2422 q2424 qs100 q159 q2425) rfl rfl rfl (by decide +kernel) ⟨Nat.le_trans (Nat.le_of_ble_eq_true rfl) hRf, Nat.le_trans (Nat.le_of_ble_eq_true rfl) hRl⟩) rfl rfl (Nat.le_of_ble_eq_true rfl) dX10_duties0_18 (fun v_3 σ_4 H locs h hσ hS => ?_)
      refine lv_iadd C.x C.b dX10_duties0_21 ?_
      refine tw_lt h (fun x2_5 h => ?_)
      refine lv_istore_n (lv' := [(2, .int x2_5), (0, .ref g.2.2.2.1), (1, .int x1), (3, .int x3)]) C.x C.b dX10_duties0_22 rfl hl (by decide) rfl (fun ls hl => ?_)
      obtain ⟨x3_6, e_, h⟩ := nm_s h
      refine lv_iinc (v := x3_6) (lv' := [(3, .int x3_6), (2, .int x2_5), (0, .ref g.2.2.2.1), (1, .int x1)]) C.x C.b dX10_duties0_23 hl (k := 3) rfl e_.symm (by decide) rfl (fun ls hl => ?_)
      refine lv_goto (tgt := 4) C.x C.b dX10_duties0_26 (by decide) ?_
      exact ih _ _ _ _ _ _ _ h hσ hS (lv_sub hl [2, 3, 1, 0] rfl)

theorem kT_duties0 (l : Launch) (g : twG) (A : Nat → Prop) (x1 : Int32) (σ : twS) (v : Int32) (σ1 : twS) (h : mT_duties0 x1 σ = some (v, σ1)) : Met l yX10_duties0 (ws_ yX10_duties0 cX10_duties0 4 (some .int)) ({ frames := 5, cells := 0, slots := 0, locals := 113 }) (TPc twL g A [.ref g.2.2.2.1, .int x1] (fun _ => True) σ) (TQ g A (some (.int v)) σ1) 0 0 A := by
  refine Met.ofW (cc := cX10_duties0) (maxL := 4) (ret := (some .int)) (by decide) rfl ?_
  intro p e s m args below meth c s₁ B hml hv
  obtain ⟨rfl, hw, hX, hσ⟩ := hv
  have hts := atoms_spec (ws := (ws_ yX10_duties0 cX10_duties0 4 (some .int))) B.pre
  have C : CX p m meth c s ([.ref g.2.2.2.1, .int x1] : List Value).toArray cX10_duties0 4 (some .int) RX10 := ⟨⟨B.exec, B.bytes, hml, findClass_of_methodNamed B.named, fun w h => hts w (List.mem_cons_of_mem _ h)⟩, B.returns, B.notSynchronized⟩
  have hRf : 5 ≤ (headSpec (ws_ yX10_duties0 cX10_duties0 4 (some .int)) ({ frames := 5, cells := 0, slots := 0, locals := 113 })).room.frames := Nat.le_refl _
  have hRl : 113 ≤ (headSpec (ws_ yX10_duties0 cX10_duties0 4 (some .int)) ({ frames := 5, cells := 0, slots := 0, locals := 113 })).room.locals := Nat.le_refl _
  generalize (headSpec (ws_ yX10_duties0 cX10_duties0 4 (some .int)) ({ frames := 5, cells := 0, slots := 0, locals := 113 })).room = R at hRf hRl ⊢
  have hS : va_S A s.heap s.heap [] := va_S.rf
  have hl := lv_entry ([.ref g.2.2.2.1, .int x1]) (n := 4) (Nat.le_of_ble_eq_true rfl)
  rw [lg_entry_eq]
  generalize (lg_sl ([.ref g.2.2.2.1, .int x1]) ++ List.replicate (4 - (lg_sl ([.ref g.2.2.2.1, .int x1])).length) Slot.unset).toArray = ls at hl ⊢
  have hl : lv_has ls 4 [(0, .ref g.2.2.2.1), (1, .int x1)] := hl
  obtain ⟨z, hz⟩ : ∃ z, z = (v, σ1) := ⟨_, rfl⟩
  rw [← hz] at h
  rw [show v = z.1 by rw [hz], show σ1 = z.2 by rw [hz]]
  clear hz v σ1
  unfold mT_duties0 at h
  refine lv_iconst (v := 0) C.x C.b dX10_duties0_0 (by decide) ?_
  refine lv_istore_n (lv' := [(2, .int 0), (0, .ref g.2.2.2.1), (1, .int x1)]) C.x C.b dX10_duties0_1 rfl hl (by decide) rfl (fun ls hl => ?_)
  refine lv_iconst (v := 0) C.x C.b dX10_duties0_2 (by decide) ?_
  refine lv_istore_n (lv' := [(3, .int 0), (2, .int 0), (0, .ref g.2.2.2.1), (1, .int x1)]) C.x C.b dX10_duties0_3 rfl hl (by decide) rfl (fun ls hl => ?_)
  exact wT_duties0_4 C hw hRf hRl _ _ _ _ _ _ _ _ h hσ hS (lv_sub hl [2, 3, 1, 0] rfl)

theorem wT_duties_14 {z : Int32 × twS} (C : CX p m meth c s args cX10_duties 3 (some .int) RX10) (hw : WKt twL g A s s.heap) (hRf : 7 ≤ R.frames) (hRl : 156 ≤ R.locals) : ∀ (x1 : Int32) (s1 : Int32) (σ : twS) (H : Heap) (locs : List Loc) (ls : Array Slot), bT_duties_14 x1 s1 σ = some z → TI g A σ H → va_S A s.heap H locs → lv_has ls 3 [(0, .ref g.2.2.2.1), (1, .int x1)] → W p l e R s m args below meth c H locs 0 0 (MQ below (TQ g A (some (.int z.1)) z.2) args s 0 0 A) (F0 m 14 ls [.int s1, .ref g.2.2.2.1]) := by
  intro x1 s1 σ H locs ls h hσ hS hl
  unfold bT_duties_14 at h
  refine tw_call (y := yX10_throwsOne) (bytes := cX10_throwsOne) (maxL := 2) (fun v => some (.int v)) [.int s1] (fun _ => True)  C hw XB.tt (fun _ _ _ => trivial) hσ hS hl.1 h (fun vv ss ee => kT_throwsOne l g A s1 σ vv ss ee) (cwV 1 C.t (lw_V q2314 q2316 qs79 q159 q2317) rfl rfl rfl (by decide +kernel) ⟨Nat.le_trans (Nat.le_of_ble_eq_true rfl) hRf, Nat.le_trans (Nat.le_of_ble_eq_true rfl) hRl⟩) rfl rfl (Nat.le_of_ble_eq_true rfl) dX10_duties_14 (fun v_1 σ_2 H locs h hσ hS => ?_)
  refine lv_if_eq (tgt := 22) C.x C.b dX10_duties_17 (by decide) (fun c_3 => ?_) (fun c_3 => ?_)
  · have h := ip c_3 h
    refine lv_aload_n C.x C.b dX10_duties_22 rfl (lv_at hl 0 rfl) ?_
    refine lv_aload_n C.x C.b dX10_duties_23 rfl (lv_at hl 0 rfl) ?_
    refine lv_iload_n C.x C.b dX10_duties_24 rfl (lv_at hl 1 rfl) ?_
    refine tw_call (y := yX10_setOf) (bytes := cX10_setOf) (maxL := 4) (fun v => some (.int v)) [.int x1] (fun _ => True)  C hw XB.tt (fun _ _ _ => trivial) hσ hS hl.1 h (fun vv ss ee => kT_setOf l g A x1 σ_2 vv ss ee) (cwV 1 C.t (lw_V q2410 q2412 qs97 q159 q2413) rfl rfl rfl (by decide +kernel) ⟨Nat.le_trans (Nat.le_of_ble_eq_true rfl) hRf, Nat.le_trans (Nat.le_of_ble_eq_true rfl) hRl⟩) rfl rfl (Nat.le_of_ble_eq_true rfl) dX10_duties_25 (fun v_4 σ_5 H locs h hσ hS => ?_)
    refine tw_call (y := yX10_settles) (bytes := cX10_settles) (maxL := 2) (fun v => some (.int v)) [.int v_4] (fun _ => True)  C hw XB.tt (fun _ _ _ => trivial) hσ hS hl.1 h (fun vv ss ee => kT_settles l g A v_4 σ_5 vv ss ee) (cwV 1 C.t (lw_V q2414 q2416 qs98 q159 q2417) rfl rfl rfl (by decide +kernel) ⟨Nat.le_trans (Nat.le_of_ble_eq_true rfl) hRf, Nat.le_trans (Nat.le_of_ble_eq_true rfl) hRl⟩) rfl rfl (Nat.le_of_ble_eq_true rfl) dX10_duties_28 (fun v_6 σ_7 H locs h hσ hS => ?_)
    refine lv_istore_n (lv' := [(2, .int v_6), (0, .ref g.2.2.2.1), (1, .int x1)]) C.x C.b dX10_duties_31 rfl hl (by decide) rfl (fun ls hl => ?_)
    refine lv_iload_n C.x C.b dX10_duties_32 rfl (lv_at hl 0 rfl) ?_
    refine lv_iconst (v := -1) C.x C.b dX10_duties_33 (by decide) ?_
    refine lv_icmp_ne (tgt := 41) C.x C.b dX10_duties_34 (by decide) (fun c_8 => ?_) (fun c_8 => ?_)
    · have h := iN c_8 h
      refine lv_aload_n C.x C.b dX10_duties_41 rfl (lv_at hl 1 rfl) ?_
      refine lv_iload_n C.x C.b dX10_duties_42 rfl (lv_at hl 0 rfl) ?_
      refine tw_call (y := yX10_duties0) (bytes := cX10_duties0) (maxL := 4) (fun v => some (.int v)) [.int v_6] (fun _ => True)  C hw XB.tt (fun _ _ _ => trivial) hσ hS hl.1 h (fun vv ss ee => kT_duties0 l g A v_6 σ_7 vv ss ee) (cwV 1 C.t (lw_V q2557 q2559 qs113 q159 q2560) rfl rfl rfl (by decide +kernel) ⟨Nat.le_trans (Nat.le_of_ble_eq_true rfl) hRf, Nat.le_trans (Nat.le_of_ble_eq_true rfl) hRl⟩) rfl rfl (Nat.le_of_ble_eq_true rfl) dX10_duties_43 (fun v_9 σ_10 H locs h hσ hS => ?_)
      exact tw_iret C hσ hS h dX10_duties_46
    · have h := ip c_8 h
      refine lv_iconst (v := 0) C.x C.b dX10_duties_37 (by decide) ?_
      refine lv_goto (tgt := 46) C.x C.b dX10_duties_38 (by decide) ?_
      exact tw_iret C hσ hS h dX10_duties_46
  · have h := iN c_3 h
    refine lv_iconst (v := 0) C.x C.b dX10_duties_20 (by decide) ?_
    exact tw_iret C hσ hS h dX10_duties_21

theorem kT_duties (l : Launch) (g : twG) (A : Nat → Prop) (x1 : Int32) (σ : twS) (v : Int32) (σ1 : twS) (h : mT_duties x1 σ = some (v, σ1)) : Met l yX10_duties (ws_ yX10_duties cX10_duties 3 (some .int)) ({ frames := 7, cells := 0, slots := 0, locals := 156 }) (TPc twL g A [.ref g.2.2.2.1, .int x1] (fun _ => True) σ) (TQ g A (some (.int v)) σ1) 0 0 A := by
  refine Met.ofW (cc := cX10_duties) (maxL := 3) (ret := (some .int)) (by decide) rfl ?_
  intro p e s m args below meth c s₁ B hml hv
  obtain ⟨rfl, hw, hX, hσ⟩ := hv
  have hts := atoms_spec (ws := (ws_ yX10_duties cX10_duties 3 (some .int))) B.pre
  have C : CX p m meth c s ([.ref g.2.2.2.1, .int x1] : List Value).toArray cX10_duties 3 (some .int) RX10 := ⟨⟨B.exec, B.bytes, hml, findClass_of_methodNamed B.named, fun w h => hts w (List.mem_cons_of_mem _ h)⟩, B.returns, B.notSynchronized⟩
  have hRf : 7 ≤ (headSpec (ws_ yX10_duties cX10_duties 3 (some .int)) ({ frames := 7, cells := 0, slots := 0, locals := 156 })).room.frames := Nat.le_refl _
  have hRl : 156 ≤ (headSpec (ws_ yX10_duties cX10_duties 3 (some .int)) ({ frames := 7, cells := 0, slots := 0, locals := 156 })).room.locals := Nat.le_refl _
  generalize (headSpec (ws_ yX10_duties cX10_duties 3 (some .int)) ({ frames := 7, cells := 0, slots := 0, locals := 156 })).room = R at hRf hRl ⊢
  have hS : va_S A s.heap s.heap [] := va_S.rf
  have hl := lv_entry ([.ref g.2.2.2.1, .int x1]) (n := 3) (Nat.le_of_ble_eq_true rfl)
  rw [lg_entry_eq]
  generalize (lg_sl ([.ref g.2.2.2.1, .int x1]) ++ List.replicate (3 - (lg_sl ([.ref g.2.2.2.1, .int x1])).length) Slot.unset).toArray = ls at hl ⊢
  have hl : lv_has ls 3 [(0, .ref g.2.2.2.1), (1, .int x1)] := hl
  obtain ⟨z, hz⟩ : ∃ z, z = (v, σ1) := ⟨_, rfl⟩
  rw [← hz] at h
  rw [show v = z.1 by rw [hz], show σ1 = z.2 by rw [hz]]
  clear hz v σ1
  unfold mT_duties at h
  refine lv_aload_n C.x C.b dX10_duties_0 rfl (lv_at hl 0 rfl) ?_
  refine lv_aload_n C.x C.b dX10_duties_1 rfl (lv_at hl 0 rfl) ?_
  refine lv_iload_n C.x C.b dX10_duties_2 rfl (lv_at hl 1 rfl) ?_
  refine tw_call (y := yX10_isCase) (bytes := cX10_isCase) (maxL := 2) (fun v => some (.int v)) [.int x1] (fun _ => True)  C hw XB.tt (fun _ _ _ => trivial) hσ hS hl.1 h (fun vv ss ee => kT_isCase l g A x1 σ vv ss ee) (cwV 1 C.t (lw_V q2390 q2392 qs93 q159 q2393) rfl rfl rfl (by decide +kernel) ⟨Nat.le_trans (Nat.le_of_ble_eq_true rfl) hRf, Nat.le_trans (Nat.le_of_ble_eq_true rfl) hRl⟩) rfl rfl (Nat.le_of_ble_eq_true rfl) dX10_duties_3 (fun v_1 σ_2 H locs h hσ hS => ?_)
  refine lv_if_ne (tgt := 13) C.x C.b dX10_duties_6 (by decide) (fun c_3 => ?_) (fun c_3 => ?_)
  · have h := iN c_3 h
    refine lv_iconst (v := 0) C.x C.b dX10_duties_13 (by decide) ?_
    exact wT_duties_14 C hw hRf hRl _ _ _ _ _ _ h hσ hS (lv_sub hl [0, 1] rfl)
  · have h := ip c_3 h
    refine lv_iconst (v := 1) C.x C.b dX10_duties_9 (by decide) ?_
    refine lv_goto (tgt := 14) C.x C.b dX10_duties_10 (by decide) ?_
    exact wT_duties_14 C hw hRf hRl _ _ _ _ _ _ h hσ hS (lv_sub hl [0, 1] rfl)

theorem wT_dearest_21 {z : Int32 × twS} (C : CX p m meth c s args cX10_dearest 6 (some .int) RX10) (hw : WKt twL g A s s.heap) (hRf : 7 ≤ R.frames) (hRl : 156 ≤ R.locals) : ∀ (n : Nat) (x1 : Int32) (x2 : Int32) (x3 : Int32) (x4 : Int32) (σ : twS) (H : Heap) (locs : List Loc) (ls : Array Slot), bT_dearest_21 n x1 x2 x3 x4 σ = some z → TI g A σ H → va_S A s.heap H locs → lv_has ls 6 [(0, .ref g.2.2.2.1), (1, .int x1), (2, .int x2), (3, .int x3), (4, .int x4)] → W p l e R s m args below meth c H locs 0 0 (MQ below (TQ g A (some (.int z.1)) z.2) args s 0 0 A) (F0 m 21 ls []) := by
  intro n
  induction n with
  | zero =>
    intro x1 x2 x3 x4 σ H locs ls h
    cases h
  | succ n ih =>
    intro x1 x2 x3 x4 σ H locs ls h hσ hS hl
    rw [bT_dearest_21] at h
    refine lv_iload C.x C.b dX10_dearest_21 (lv_at hl 4 rfl) ?_
    refine lv_iload_n C.x C.b dX10_dearest_23 rfl (lv_at hl 3 rfl) ?_
    refine lv_icmp_ge (tgt := 72) C.x C.b dX10_dearest_24 (by decide) (fun c_1 => ?_) (fun c_1 => ?_)
    · have h := ip c_1 h
      refine lv_iload_n C.x C.b dX10_dearest_72 rfl (lv_at hl 1 rfl) ?_
      exact tw_iret C hσ hS h dX10_dearest_73
    · have h := iN c_1 h
      refine lv_aload_n C.x C.b dX10_dearest_27 rfl (lv_at hl 0 rfl) ?_
      refine lv_aload_n C.x C.b dX10_dearest_28 rfl (lv_at hl 0 rfl) ?_
      refine tw_gf15 C hw hσ q2230 dX10_dearest_29 ?_
      refine lv_iload C.x C.b dX10_dearest_32 (lv_at hl 4 rfl) ?_
      refine tw_ld15 C hw hσ h dX10_dearest_34 (fun v_2 h => ?_)
      refine tw_call (y := yX10_settles) (bytes := cX10_settles) (maxL := 2) (fun v => some (.int v)) [.int v_2] (fun _ => True)  C hw XB.tt (fun _ _ _ => trivial) hσ hS hl.1 h (fun vv ss ee => kT_settles l g A v_2 σ vv ss ee) (cwV 1 C.t (lw_V q2414 q2416 qs98 q159 q2417) rfl rfl rfl (by decide +kernel) ⟨Nat.le_trans (Nat.le_of_ble_eq_true rfl) hRf, Nat.le_trans (Nat.le_of_ble_eq_true rfl) hRl⟩) rfl rfl (Nat.le_of_ble_eq_true rfl) dX10_dearest_35 (fun v_3 σ_4 H locs h hσ hS => ?_)
      refine lv_istore (lv' := [(5, .int v_3), (0, .ref g.2.2.2.1), (1, .int x1), (2, .int x2), (3, .int x3), (4, .int x4)]) C.x C.b dX10_dearest_38 hl (by decide) rfl (fun ls hl => ?_)
      refine lv_iload C.x C.b dX10_dearest_40 (lv_at hl 0 rfl) ?_
      refine lv_iconst (v := -1) C.x C.b dX10_dearest_42 (by decide) ?_
      refine lv_icmp_eq (tgt := 66) C.x C.b dX10_dearest_43 (by decide) (fun c_5 => ?_) (fun c_5 => ?_)
      · have h := ip c_5 h
        obtain ⟨x4_6, e_, h⟩ := nm_s h
        refine lv_iinc (v := x4_6) (lv' := [(4, .int x4_6), (5, .int v_3), (0, .ref g.2.2.2.1), (1, .int x1), (2, .int x2), (3, .int x3)]) C.x C.b dX10_dearest_66 hl (k := 5) rfl e_.symm (by decide) rfl (fun ls hl => ?_)
        refine lv_goto (tgt := 21) C.x C.b dX10_dearest_69 (by decide) ?_
        exact ih _ _ _ _ _ _ _ _ h hσ hS (lv_sub hl [2, 3, 4, 5, 0] rfl)
      · have h := iN c_5 h
        refine lv_aload_n C.x C.b dX10_dearest_46 rfl (lv_at hl 1 rfl) ?_
        refine lv_iload C.x C.b dX10_dearest_47 (lv_at hl 0 rfl) ?_
        refine tw_call (y := yX10_duties0) (bytes := cX10_duties0) (maxL := 4) (fun v => some (.int v)) [.int v_3] (fun _ => True)  C hw XB.tt (fun _ _ _ => trivial) hσ hS hl.1 h (fun vv ss ee => kT_duties0 l g A v_3 σ_4 vv ss ee) (cwV 1 C.t (lw_V q2557 q2559 qs113 q159 q2560) rfl rfl rfl (by decide +kernel) ⟨Nat.le_trans (Nat.le_of_ble_eq_true rfl) hRf, Nat.le_trans (Nat.le_of_ble_eq_true rfl) hRl⟩) rfl rfl (Nat.le_of_ble_eq_true rfl) dX10_dearest_49 (fun v_7 σ_8 H locs h hσ hS => ?_)
        refine lv_iload_n C.x C.b dX10_dearest_52 rfl (lv_at hl 3 rfl) ?_
        refine lv_icmp_le (tgt := 66) C.x C.b dX10_dearest_53 (by decide) (fun c_9 => ?_) (fun c_9 => ?_)
        · have h := ip c_9 h
          obtain ⟨x4_10, e_, h⟩ := nm_s h
          refine lv_iinc (v := x4_10) (lv' := [(4, .int x4_10), (5, .int v_3), (0, .ref g.2.2.2.1), (1, .int x1), (2, .int x2), (3, .int x3)]) C.x C.b dX10_dearest_66 hl (k := 5) rfl e_.symm (by decide) rfl (fun ls hl => ?_)
          refine lv_goto (tgt := 21) C.x C.b dX10_dearest_69 (by decide) ?_
          exact ih _ _ _ _ _ _ _ _ h hσ hS (lv_sub hl [2, 3, 4, 5, 0] rfl)
        · have h := iN c_9 h
          refine lv_aload_n C.x C.b dX10_dearest_56 rfl (lv_at hl 1 rfl) ?_
          refine lv_iload C.x C.b dX10_dearest_57 (lv_at hl 0 rfl) ?_
          refine tw_call (y := yX10_duties0) (bytes := cX10_duties0) (maxL := 4) (fun v => some (.int v)) [.int v_3] (fun _ => True)  C hw XB.tt (fun _ _ _ => trivial) hσ hS hl.1 h (fun vv ss ee => kT_duties0 l g A v_3 σ_8 vv ss ee) (cwV 1 C.t (lw_V q2557 q2559 qs113 q159 q2560) rfl rfl rfl (by decide +kernel) ⟨Nat.le_trans (Nat.le_of_ble_eq_true rfl) hRf, Nat.le_trans (Nat.le_of_ble_eq_true rfl) hRl⟩) rfl rfl (Nat.le_of_ble_eq_true rfl) dX10_dearest_59 (fun v_11 σ_12 H locs h hσ hS => ?_)
          refine lv_istore_n (lv' := [(2, .int v_11), (5, .int v_3), (0, .ref g.2.2.2.1), (1, .int x1), (3, .int x3), (4, .int x4)]) C.x C.b dX10_dearest_62 rfl hl (by decide) rfl (fun ls hl => ?_)
          refine lv_iload C.x C.b dX10_dearest_63 (lv_at hl 5 rfl) ?_
          refine lv_istore_n (lv' := [(1, .int x4), (2, .int v_11), (5, .int v_3), (0, .ref g.2.2.2.1), (3, .int x3), (4, .int x4)]) C.x C.b dX10_dearest_65 rfl hl (by decide) rfl (fun ls hl => ?_)
          obtain ⟨x4_13, e_, h⟩ := nm_s h
          refine lv_iinc (v := x4_13) (lv' := [(4, .int x4_13), (1, .int x4), (2, .int v_11), (5, .int v_3), (0, .ref g.2.2.2.1), (3, .int x3)]) C.x C.b dX10_dearest_66 hl (k := 5) rfl e_.symm (by decide) rfl (fun ls hl => ?_)
          refine lv_goto (tgt := 21) C.x C.b dX10_dearest_69 (by decide) ?_
          exact ih _ _ _ _ _ _ _ _ h hσ hS (lv_sub hl [4, 1, 2, 5, 0] rfl)

theorem kT_dearest (l : Launch) (g : twG) (A : Nat → Prop) (σ : twS) (v : Int32) (σ1 : twS) (h : mT_dearest σ = some (v, σ1)) : Met l yX10_dearest (ws_ yX10_dearest cX10_dearest 6 (some .int)) ({ frames := 7, cells := 0, slots := 0, locals := 156 }) (TPc twL g A [.ref g.2.2.2.1] (fun _ => True) σ) (TQ g A (some (.int v)) σ1) 0 0 A := by
  refine Met.ofW (cc := cX10_dearest) (maxL := 6) (ret := (some .int)) (by decide) rfl ?_
  intro p e s m args below meth c s₁ B hml hv
  obtain ⟨rfl, hw, hX, hσ⟩ := hv
  have hts := atoms_spec (ws := (ws_ yX10_dearest cX10_dearest 6 (some .int))) B.pre
  have C : CX p m meth c s ([.ref g.2.2.2.1] : List Value).toArray cX10_dearest 6 (some .int) RX10 := ⟨⟨B.exec, B.bytes, hml, findClass_of_methodNamed B.named, fun w h => hts w (List.mem_cons_of_mem _ h)⟩, B.returns, B.notSynchronized⟩
  have hRf : 7 ≤ (headSpec (ws_ yX10_dearest cX10_dearest 6 (some .int)) ({ frames := 7, cells := 0, slots := 0, locals := 156 })).room.frames := Nat.le_refl _
  have hRl : 156 ≤ (headSpec (ws_ yX10_dearest cX10_dearest 6 (some .int)) ({ frames := 7, cells := 0, slots := 0, locals := 156 })).room.locals := Nat.le_refl _
  generalize (headSpec (ws_ yX10_dearest cX10_dearest 6 (some .int)) ({ frames := 7, cells := 0, slots := 0, locals := 156 })).room = R at hRf hRl ⊢
  have hS : va_S A s.heap s.heap [] := va_S.rf
  have hl := lv_entry ([.ref g.2.2.2.1]) (n := 6) (Nat.le_of_ble_eq_true rfl)
  rw [lg_entry_eq]
  generalize (lg_sl ([.ref g.2.2.2.1]) ++ List.replicate (6 - (lg_sl ([.ref g.2.2.2.1])).length) Slot.unset).toArray = ls at hl ⊢
  have hl : lv_has ls 6 [(0, .ref g.2.2.2.1)] := hl
  obtain ⟨z, hz⟩ : ∃ z, z = (v, σ1) := ⟨_, rfl⟩
  rw [← hz] at h
  rw [show v = z.1 by rw [hz], show σ1 = z.2 by rw [hz]]
  clear hz v σ1
  unfold mT_dearest at h
  refine lv_aload_n C.x C.b dX10_dearest_0 rfl (lv_at hl 0 rfl) ?_
  refine lv_iconst (v := 0) C.x C.b dX10_dearest_1 (by decide) ?_
  refine tw_pf13 C hw hσ hS q2228 dX10_dearest_2 (fun H locs hσ hS => ?_)
  obtain ⟨σ_1, e_, h⟩ := nm_s h
  rw [← e_] at hσ
  clear e_
  refine lv_aload_n C.x C.b dX10_dearest_5 rfl (lv_at hl 0 rfl) ?_
  refine tw_call (y := yX10_setsOut) (bytes := cX10_setsOut) (maxL := 4) (fun _ => none) [] (fun _ => True)  C hw XB.tt (fun _ _ _ => trivial) hσ hS hl.1 h (fun vv ss ee => kT_setsOut l g A σ_1 vv ss ee) (cwV 0 C.t (lw_V q2338 q2340 qs83 q159 q2341) rfl rfl rfl (by decide +kernel) ⟨Nat.le_trans (Nat.le_of_ble_eq_true rfl) hRf, Nat.le_trans (Nat.le_of_ble_eq_true rfl) hRl⟩) rfl rfl (Nat.le_of_ble_eq_true rfl) dX10_dearest_6 (fun _ σ_2 H locs h hσ hS => ?_)
  refine lv_iconst (v := -1) C.x C.b dX10_dearest_9 (by decide) ?_
  refine lv_istore_n (lv' := [(1, .int (-1)), (0, .ref g.2.2.2.1)]) C.x C.b dX10_dearest_10 rfl hl (by decide) rfl (fun ls hl => ?_)
  refine lv_iconst (v := -1) C.x C.b dX10_dearest_11 (by decide) ?_
  refine lv_istore_n (lv' := [(2, .int (-1)), (1, .int (-1)), (0, .ref g.2.2.2.1)]) C.x C.b dX10_dearest_12 rfl hl (by decide) rfl (fun ls hl => ?_)
  refine lv_aload_n C.x C.b dX10_dearest_13 rfl (lv_at hl 2 rfl) ?_
  refine tw_call (y := yX10_cases) (bytes := cX10_cases) (maxL := 3) (fun v => some (.int v)) [] (fun _ => True)  C hw XB.tt (fun _ _ _ => trivial) hσ hS hl.1 h (fun vv ss ee => kT_cases l g A σ_2 vv ss ee) (cwV 0 C.t (lw_V q2334 q2336 qs82 q159 q2337) rfl rfl rfl (by decide +kernel) ⟨Nat.le_trans (Nat.le_of_ble_eq_true rfl) hRf, Nat.le_trans (Nat.le_of_ble_eq_true rfl) hRl⟩) rfl rfl (Nat.le_of_ble_eq_true rfl) dX10_dearest_14 (fun v_3 σ_4 H locs h hσ hS => ?_)
  refine lv_istore_n (lv' := [(3, .int v_3), (2, .int (-1)), (1, .int (-1)), (0, .ref g.2.2.2.1)]) C.x C.b dX10_dearest_17 rfl hl (by decide) rfl (fun ls hl => ?_)
  refine lv_iconst (v := 0) C.x C.b dX10_dearest_18 (by decide) ?_
  refine lv_istore (lv' := [(4, .int 0), (3, .int v_3), (2, .int (-1)), (1, .int (-1)), (0, .ref g.2.2.2.1)]) C.x C.b dX10_dearest_19 hl (by decide) rfl (fun ls hl => ?_)
  exact wT_dearest_21 C hw hRf hRl _ _ _ _ _ _ _ _ _ h hσ hS (lv_sub hl [4, 3, 2, 1, 0] rfl)

theorem wT_gap_58 {z : Int32 × twS} (C : CX p m meth c s args cX10_gap 6 (some .int) RX10) (hw : WKt twL g A s s.heap) (hRf : 7 ≤ R.frames) (hRl : 156 ≤ R.locals) {k18 : Int32 → Int32 → Int32 → twS → Option (Int32 × twS)} (hk18 : ∀ (x1 : Int32) (x2 : Int32) (x3 : Int32) (σ : twS) (H : Heap) (locs : List Loc) (ls : Array Slot), k18 x1 x2 x3 σ = some z → TI g A σ H → va_S A s.heap H locs → lv_has ls 6 [(0, .ref g.2.2.2.1), (1, .int x1), (2, .int x2), (3, .int x3)] → W p l e R s m args below meth c H locs 0 0 (MQ below (TQ g A (some (.int z.1)) z.2) args s 0 0 A) (F0 m 18 ls [])) : ∀ (n : Nat) (x1 : Int32) (x2 : Int32) (x3 : Int32) (x4 : Int32) (x5 : Int32) (σ : twS) (H : Heap) (locs : List Loc) (ls : Array Slot), bT_gap_58 k18 n x1 x2 x3 x4 x5 σ = some z → TI g A σ H → va_S A s.heap H locs → lv_has ls 6 [(0, .ref g.2.2.2.1), (1, .int x1), (2, .int x2), (3, .int x3), (4, .int x4), (5, .int x5)] → W p l e R s m args below meth c H locs 0 0 (MQ below (TQ g A (some (.int z.1)) z.2) args s 0 0 A) (F0 m 58 ls []) := by
  intro n
  induction n with
  | zero =>
    intro x1 x2 x3 x4 x5 σ H locs ls h
    cases h
  | succ n ih =>
    intro x1 x2 x3 x4 x5 σ H locs ls h hσ hS hl
    rw [bT_gap_58] at h
    refine lv_iload C.x C.b dX10_gap_58 (lv_at hl 5 rfl) ?_
    refine lv_aload_n C.x C.b dX10_gap_60 rfl (lv_at hl 0 rfl) ?_
    refine tw_gf0 C hw hσ q2215 dX10_gap_61 ?_
    refine lv_iconst (v := 5) C.x C.b dX10_gap_64 (by decide) ?_
    refine tw_ld0 C hw hσ h dX10_gap_65 (fun v_1 h => ?_)
    refine lv_icmp_ge (tgt := 86) C.x C.b dX10_gap_66 (by decide) (fun c_2 => ?_) (fun c_2 => ?_)
    · have h := ip c_2 h
      obtain ⟨x3_3, e_, h⟩ := nm_s h
      refine lv_iinc (v := x3_3) (lv' := [(3, .int x3_3), (0, .ref g.2.2.2.1), (1, .int x1), (2, .int x2), (4, .int x4), (5, .int x5)]) C.x C.b dX10_gap_86 hl (k := 3) rfl e_.symm (by decide) rfl (fun ls hl => ?_)
      refine lv_goto (tgt := 18) C.x C.b dX10_gap_89 (by decide) ?_
      exact hk18 _ _ _ _ _ _ _ h hσ hS (lv_sub hl [1, 2, 3, 0] rfl)
    · have h := iN c_2 h
      refine lv_iload_n C.x C.b dX10_gap_69 rfl (lv_at hl 1 rfl) ?_
      refine lv_aload_n C.x C.b dX10_gap_70 rfl (lv_at hl 0 rfl) ?_
      refine lv_iload C.x C.b dX10_gap_71 (lv_at hl 4 rfl) ?_
      refine lv_iload C.x C.b dX10_gap_73 (lv_at hl 5 rfl) ?_
      refine tw_call (y := yX10_part) (bytes := cX10_part) (maxL := 5) (fun v => some (.int v)) [.int x4, .int x5] (fun _ => True)  C hw XB.tt (fun _ _ _ => trivial) hσ hS hl.1 h (fun vv ss ee => kT_part l g A x4 x5 σ vv ss ee) (cwV 2 C.t (lw_V q2418 q2420 qs99 q159 q2421) rfl rfl rfl (by decide +kernel) ⟨Nat.le_trans (Nat.le_of_ble_eq_true rfl) hRf, Nat.le_trans (Nat.le_of_ble_eq_true rfl) hRl⟩) rfl rfl (Nat.le_of_ble_eq_true rfl) dX10_gap_75 (fun v_4 σ_5 H locs h hσ hS => ?_)
      refine lv_isub C.x C.b dX10_gap_78 ?_
      refine tw_lt h (fun x1_6 h => ?_)
      refine lv_istore_n (lv' := [(1, .int x1_6), (0, .ref g.2.2.2.1), (2, .int x2), (3, .int x3), (4, .int x4), (5, .int x5)]) C.x C.b dX10_gap_79 rfl hl (by decide) rfl (fun ls hl => ?_)
      obtain ⟨x5_7, e_, h⟩ := nm_s h
      refine lv_iinc (v := x5_7) (lv' := [(5, .int x5_7), (1, .int x1_6), (0, .ref g.2.2.2.1), (2, .int x2), (3, .int x3), (4, .int x4)]) C.x C.b dX10_gap_80 hl (k := 5) rfl e_.symm (by decide) rfl (fun ls hl => ?_)
      refine lv_goto (tgt := 58) C.x C.b dX10_gap_83 (by decide) ?_
      exact ih _ _ _ _ _ _ _ _ _ h hσ hS (lv_sub hl [2, 1, 3, 4, 5, 0] rfl)

theorem wT_gap_18 {z : Int32 × twS} (C : CX p m meth c s args cX10_gap 6 (some .int) RX10) (hw : WKt twL g A s s.heap) (hRf : 7 ≤ R.frames) (hRl : 156 ≤ R.locals) : ∀ (n : Nat) (x1 : Int32) (x2 : Int32) (x3 : Int32) (σ : twS) (H : Heap) (locs : List Loc) (ls : Array Slot), bT_gap_18 n x1 x2 x3 σ = some z → TI g A σ H → va_S A s.heap H locs → lv_has ls 6 [(0, .ref g.2.2.2.1), (1, .int x1), (2, .int x2), (3, .int x3)] → W p l e R s m args below meth c H locs 0 0 (MQ below (TQ g A (some (.int z.1)) z.2) args s 0 0 A) (F0 m 18 ls []) := by
  intro n
  induction n with
  | zero =>
    intro x1 x2 x3 σ H locs ls h
    cases h
  | succ n ih =>
    intro x1 x2 x3 σ H locs ls h hσ hS hl
    rw [bT_gap_18] at h
    refine lv_iload_n C.x C.b dX10_gap_18 rfl (lv_at hl 3 rfl) ?_
    refine lv_iload_n C.x C.b dX10_gap_19 rfl (lv_at hl 2 rfl) ?_
    refine lv_icmp_ge (tgt := 92) C.x C.b dX10_gap_20 (by decide) (fun c_1 => ?_) (fun c_1 => ?_)
    · have h := ip c_1 h
      refine lv_iload_n C.x C.b dX10_gap_92 rfl (lv_at hl 1 rfl) ?_
      exact tw_iret C hσ hS h dX10_gap_93
    · have h := iN c_1 h
      refine lv_aload_n C.x C.b dX10_gap_23 rfl (lv_at hl 0 rfl) ?_
      refine lv_aload_n C.x C.b dX10_gap_24 rfl (lv_at hl 0 rfl) ?_
      refine tw_gf15 C hw hσ q2230 dX10_gap_25 ?_
      refine lv_iload_n C.x C.b dX10_gap_28 rfl (lv_at hl 3 rfl) ?_
      refine tw_ld15 C hw hσ h dX10_gap_29 (fun v_2 h => ?_)
      refine tw_call (y := yX10_settles) (bytes := cX10_settles) (maxL := 2) (fun v => some (.int v)) [.int v_2] (fun _ => True)  C hw XB.tt (fun _ _ _ => trivial) hσ hS hl.1 h (fun vv ss ee => kT_settles l g A v_2 σ vv ss ee) (cwV 1 C.t (lw_V q2414 q2416 qs98 q159 q2417) rfl rfl rfl (by decide +kernel) ⟨Nat.le_trans (Nat.le_of_ble_eq_true rfl) hRf, Nat.le_trans (Nat.le_of_ble_eq_true rfl) hRl⟩) rfl rfl (Nat.le_of_ble_eq_true rfl) dX10_gap_30 (fun v_3 σ_4 H locs h hσ hS => ?_)
      refine lv_istore (lv' := [(4, .int v_3), (0, .ref g.2.2.2.1), (1, .int x1), (2, .int x2), (3, .int x3)]) C.x C.b dX10_gap_33 hl (by decide) rfl (fun ls hl => ?_)
      refine lv_iload_n C.x C.b dX10_gap_35 rfl (lv_at hl 2 rfl) ?_
      refine lv_iload C.x C.b dX10_gap_36 (lv_at hl 0 rfl) ?_
      refine lv_iconst (v := -1) C.x C.b dX10_gap_38 (by decide) ?_
      refine lv_icmp_ne (tgt := 46) C.x C.b dX10_gap_39 (by decide) (fun c_5 => ?_) (fun c_5 => ?_)
      · have h := iN c_5 h
        refine lv_aload_n C.x C.b dX10_gap_46 rfl (lv_at hl 1 rfl) ?_
        refine tw_gf0 C hw hσ q2215 dX10_gap_47 ?_
        refine lv_bipush (v := 7) C.x C.b dX10_gap_50 (by decide) ?_
        refine tw_ld0 C hw hσ h dX10_gap_52 (fun v_6 h => ?_)
        refine lv_iadd C.x C.b dX10_gap_53 ?_
        refine tw_lt h (fun x1_7 h => ?_)
        refine lv_istore_n (lv' := [(1, .int x1_7), (4, .int v_3), (0, .ref g.2.2.2.1), (2, .int x2), (3, .int x3)]) C.x C.b dX10_gap_54 rfl hl (by decide) rfl (fun ls hl => ?_)
        refine lv_iconst (v := 0) C.x C.b dX10_gap_55 (by decide) ?_
        refine lv_istore (lv' := [(5, .int 0), (1, .int x1_7), (4, .int v_3), (0, .ref g.2.2.2.1), (2, .int x2), (3, .int x3)]) C.x C.b dX10_gap_56 hl (by decide) rfl (fun ls hl => ?_)
        exact wT_gap_58 C hw hRf hRl (fun y0 y1 y2 σ H locs ls h hσ hS hl => ih y0 y1 y2 σ H locs ls h hσ hS hl) _ _ _ _ _ _ _ _ _ _ h hσ hS (lv_sub hl [3, 1, 4, 5, 2, 0] rfl)
      · have h := ip c_5 h
        refine lv_iconst (v := 0) C.x C.b dX10_gap_42 (by decide) ?_
        refine lv_goto (tgt := 53) C.x C.b dX10_gap_43 (by decide) ?_
        refine lv_iadd C.x C.b dX10_gap_53 ?_
        refine tw_lt h (fun x1_8 h => ?_)
        refine lv_istore_n (lv' := [(1, .int x1_8), (4, .int v_3), (0, .ref g.2.2.2.1), (2, .int x2), (3, .int x3)]) C.x C.b dX10_gap_54 rfl hl (by decide) rfl (fun ls hl => ?_)
        refine lv_iconst (v := 0) C.x C.b dX10_gap_55 (by decide) ?_
        refine lv_istore (lv' := [(5, .int 0), (1, .int x1_8), (4, .int v_3), (0, .ref g.2.2.2.1), (2, .int x2), (3, .int x3)]) C.x C.b dX10_gap_56 hl (by decide) rfl (fun ls hl => ?_)
        exact wT_gap_58 C hw hRf hRl (fun y0 y1 y2 σ H locs ls h hσ hS hl => ih y0 y1 y2 σ H locs ls h hσ hS hl) _ _ _ _ _ _ _ _ _ _ h hσ hS (lv_sub hl [3, 1, 4, 5, 2, 0] rfl)

theorem kT_gap (l : Launch) (g : twG) (A : Nat → Prop) (σ : twS) (v : Int32) (σ1 : twS) (h : mT_gap σ = some (v, σ1)) : Met l yX10_gap (ws_ yX10_gap cX10_gap 6 (some .int)) ({ frames := 7, cells := 0, slots := 0, locals := 156 }) (TPc twL g A [.ref g.2.2.2.1] (fun _ => True) σ) (TQ g A (some (.int v)) σ1) 0 0 A := by
  refine Met.ofW (cc := cX10_gap) (maxL := 6) (ret := (some .int)) (by decide) rfl ?_
  intro p e s m args below meth c s₁ B hml hv
  obtain ⟨rfl, hw, hX, hσ⟩ := hv
  have hts := atoms_spec (ws := (ws_ yX10_gap cX10_gap 6 (some .int))) B.pre
  have C : CX p m meth c s ([.ref g.2.2.2.1] : List Value).toArray cX10_gap 6 (some .int) RX10 := ⟨⟨B.exec, B.bytes, hml, findClass_of_methodNamed B.named, fun w h => hts w (List.mem_cons_of_mem _ h)⟩, B.returns, B.notSynchronized⟩
  have hRf : 7 ≤ (headSpec (ws_ yX10_gap cX10_gap 6 (some .int)) ({ frames := 7, cells := 0, slots := 0, locals := 156 })).room.frames := Nat.le_refl _
  have hRl : 156 ≤ (headSpec (ws_ yX10_gap cX10_gap 6 (some .int)) ({ frames := 7, cells := 0, slots := 0, locals := 156 })).room.locals := Nat.le_refl _
  generalize (headSpec (ws_ yX10_gap cX10_gap 6 (some .int)) ({ frames := 7, cells := 0, slots := 0, locals := 156 })).room = R at hRf hRl ⊢
  have hS : va_S A s.heap s.heap [] := va_S.rf
  have hl := lv_entry ([.ref g.2.2.2.1]) (n := 6) (Nat.le_of_ble_eq_true rfl)
  rw [lg_entry_eq]
  generalize (lg_sl ([.ref g.2.2.2.1]) ++ List.replicate (6 - (lg_sl ([.ref g.2.2.2.1])).length) Slot.unset).toArray = ls at hl ⊢
  have hl : lv_has ls 6 [(0, .ref g.2.2.2.1)] := hl
  obtain ⟨z, hz⟩ : ∃ z, z = (v, σ1) := ⟨_, rfl⟩
  rw [← hz] at h
  rw [show v = z.1 by rw [hz], show σ1 = z.2 by rw [hz]]
  clear hz v σ1
  unfold mT_gap at h
  refine lv_aload_n C.x C.b dX10_gap_0 rfl (lv_at hl 0 rfl) ?_
  refine lv_iconst (v := 0) C.x C.b dX10_gap_1 (by decide) ?_
  refine tw_pf13 C hw hσ hS q2228 dX10_gap_2 (fun H locs hσ hS => ?_)
  obtain ⟨σ_1, e_, h⟩ := nm_s h
  rw [← e_] at hσ
  clear e_
  refine lv_aload_n C.x C.b dX10_gap_5 rfl (lv_at hl 0 rfl) ?_
  refine tw_call (y := yX10_setsOut) (bytes := cX10_setsOut) (maxL := 4) (fun _ => none) [] (fun _ => True)  C hw XB.tt (fun _ _ _ => trivial) hσ hS hl.1 h (fun vv ss ee => kT_setsOut l g A σ_1 vv ss ee) (cwV 0 C.t (lw_V q2338 q2340 qs83 q159 q2341) rfl rfl rfl (by decide +kernel) ⟨Nat.le_trans (Nat.le_of_ble_eq_true rfl) hRf, Nat.le_trans (Nat.le_of_ble_eq_true rfl) hRl⟩) rfl rfl (Nat.le_of_ble_eq_true rfl) dX10_gap_6 (fun _ σ_2 H locs h hσ hS => ?_)
  refine lv_iconst (v := 0) C.x C.b dX10_gap_9 (by decide) ?_
  refine lv_istore_n (lv' := [(1, .int 0), (0, .ref g.2.2.2.1)]) C.x C.b dX10_gap_10 rfl hl (by decide) rfl (fun ls hl => ?_)
  refine lv_aload_n C.x C.b dX10_gap_11 rfl (lv_at hl 1 rfl) ?_
  refine tw_call (y := yX10_cases) (bytes := cX10_cases) (maxL := 3) (fun v => some (.int v)) [] (fun _ => True)  C hw XB.tt (fun _ _ _ => trivial) hσ hS hl.1 h (fun vv ss ee => kT_cases l g A σ_2 vv ss ee) (cwV 0 C.t (lw_V q2334 q2336 qs82 q159 q2337) rfl rfl rfl (by decide +kernel) ⟨Nat.le_trans (Nat.le_of_ble_eq_true rfl) hRf, Nat.le_trans (Nat.le_of_ble_eq_true rfl) hRl⟩) rfl rfl (Nat.le_of_ble_eq_true rfl) dX10_gap_12 (fun v_3 σ_4 H locs h hσ hS => ?_)
  refine lv_istore_n (lv' := [(2, .int v_3), (1, .int 0), (0, .ref g.2.2.2.1)]) C.x C.b dX10_gap_15 rfl hl (by decide) rfl (fun ls hl => ?_)
  refine lv_iconst (v := 0) C.x C.b dX10_gap_16 (by decide) ?_
  refine lv_istore_n (lv' := [(3, .int 0), (2, .int v_3), (1, .int 0), (0, .ref g.2.2.2.1)]) C.x C.b dX10_gap_17 rfl hl (by decide) rfl (fun ls hl => ?_)
  exact wT_gap_18 C hw hRf hRl _ _ _ _ _ _ _ _ h hσ hS (lv_sub hl [3, 2, 1, 0] rfl)

theorem kT_settledShare (l : Launch) (g : twG) (A : Nat → Prop) (σ : twS) (v : UInt32) (σ1 : twS) (h : mT_settledShare σ = some (v, σ1)) : Met l yX10_settledShare (ws_ yX10_settledShare cX10_settledShare 1 (some .float)) ({ frames := 7, cells := 0, slots := 0, locals := 161 }) (TPc twL g A [.ref g.2.2.2.1] (fun _ => True) σ) (TQ g A (some (.float v)) σ1) 0 0 A := by
  refine Met.ofW (cc := cX10_settledShare) (maxL := 1) (ret := (some .float)) (by decide) rfl ?_
  intro p e s m args below meth c s₁ B hml hv
  obtain ⟨rfl, hw, hX, hσ⟩ := hv
  have hts := atoms_spec (ws := (ws_ yX10_settledShare cX10_settledShare 1 (some .float))) B.pre
  have C : CX p m meth c s ([.ref g.2.2.2.1] : List Value).toArray cX10_settledShare 1 (some .float) RX10 := ⟨⟨B.exec, B.bytes, hml, findClass_of_methodNamed B.named, fun w h => hts w (List.mem_cons_of_mem _ h)⟩, B.returns, B.notSynchronized⟩
  have hRf : 7 ≤ (headSpec (ws_ yX10_settledShare cX10_settledShare 1 (some .float)) ({ frames := 7, cells := 0, slots := 0, locals := 161 })).room.frames := Nat.le_refl _
  have hRl : 161 ≤ (headSpec (ws_ yX10_settledShare cX10_settledShare 1 (some .float)) ({ frames := 7, cells := 0, slots := 0, locals := 161 })).room.locals := Nat.le_refl _
  generalize (headSpec (ws_ yX10_settledShare cX10_settledShare 1 (some .float)) ({ frames := 7, cells := 0, slots := 0, locals := 161 })).room = R at hRf hRl ⊢
  have hS : va_S A s.heap s.heap [] := va_S.rf
  have hl := lv_entry ([.ref g.2.2.2.1]) (n := 1) (Nat.le_of_ble_eq_true rfl)
  rw [lg_entry_eq]
  generalize (lg_sl ([.ref g.2.2.2.1]) ++ List.replicate (1 - (lg_sl ([.ref g.2.2.2.1])).length) Slot.unset).toArray = ls at hl ⊢
  have hl : lv_has ls 1 [(0, .ref g.2.2.2.1)] := hl
  obtain ⟨z, hz⟩ : ∃ z, z = (v, σ1) := ⟨_, rfl⟩
  rw [← hz] at h
  rw [show v = z.1 by rw [hz], show σ1 = z.2 by rw [hz]]
  clear hz v σ1
  unfold mT_settledShare at h
  refine lv_aload_n C.x C.b dX10_settledShare_0 rfl (lv_at hl 0 rfl) ?_
  refine lv_iconst (v := 0) C.x C.b dX10_settledShare_1 (by decide) ?_
  refine tw_pf13 C hw hσ hS q2228 dX10_settledShare_2 (fun H locs hσ hS => ?_)
  obtain ⟨σ_1, e_, h⟩ := nm_s h
  rw [← e_] at hσ
  clear e_
  refine lv_aload_n C.x C.b dX10_settledShare_5 rfl (lv_at hl 0 rfl) ?_
  refine tw_call (y := yX10_setsOut) (bytes := cX10_setsOut) (maxL := 4) (fun _ => none) [] (fun _ => True)  C hw XB.tt (fun _ _ _ => trivial) hσ hS hl.1 h (fun vv ss ee => kT_setsOut l g A σ_1 vv ss ee) (cwV 0 C.t (lw_V q2338 q2340 qs83 q159 q2341) rfl rfl rfl (by decide +kernel) ⟨Nat.le_trans (Nat.le_of_ble_eq_true rfl) hRf, Nat.le_trans (Nat.le_of_ble_eq_true rfl) hRl⟩) rfl rfl (Nat.le_of_ble_eq_true rfl) dX10_settledShare_6 (fun _ σ_2 H locs h hσ hS => ?_)
  refine lv_aload_n C.x C.b dX10_settledShare_9 rfl (lv_at hl 0 rfl) ?_
  refine lv_iconst (v := 0) C.x C.b dX10_settledShare_10 (by decide) ?_
  refine lv_iconst (v := -1) C.x C.b dX10_settledShare_11 (by decide) ?_
  refine tw_call (y := yX10_many) (bytes := cX10_many) (maxL := 7) (fun v => some (.int v)) [.int 0, .int (-1)] (fun _ => True)  C hw XB.tt (fun _ _ _ => trivial) hσ hS hl.1 h (fun vv ss ee => kT_many l g A 0 (-1) σ_2 vv ss ee) (cwV 2 C.t (lw_V q2359 q2361 qs88 q159 q2362) rfl rfl rfl (by decide +kernel) ⟨Nat.le_trans (Nat.le_of_ble_eq_true rfl) hRf, Nat.le_trans (Nat.le_of_ble_eq_true rfl) hRl⟩) rfl rfl (Nat.le_of_ble_eq_true rfl) dX10_settledShare_12 (fun v_3 σ_4 H locs h hσ hS => ?_)
  refine lv_i2f C.x C.b dX10_settledShare_15 ?_
  refine lv_aload_n C.x C.b dX10_settledShare_16 rfl (lv_at hl 0 rfl) ?_
  refine tw_call (y := yX10_cases) (bytes := cX10_cases) (maxL := 3) (fun v => some (.int v)) [] (fun _ => True)  C hw XB.tt (fun _ _ _ => trivial) hσ hS hl.1 h (fun vv ss ee => kT_cases l g A σ_4 vv ss ee) (cwV 0 C.t (lw_V q2334 q2336 qs82 q159 q2337) rfl rfl rfl (by decide +kernel) ⟨Nat.le_trans (Nat.le_of_ble_eq_true rfl) hRf, Nat.le_trans (Nat.le_of_ble_eq_true rfl) hRl⟩) rfl rfl (Nat.le_of_ble_eq_true rfl) dX10_settledShare_17 (fun v_5 σ_6 H locs h hσ hS => ?_)
  refine lv_i2f C.x C.b dX10_settledShare_20 ?_
  have hz := nf32_s h
  have h := hz.2
  refine lv_fdiv C.x C.b dX10_settledShare_21 hz.1 ?_
  exact tw_fret C hσ hS h dX10_settledShare_22

theorem wT_meanDuties_57 {z : UInt64 × twS} (C : CX p m meth c s args cX10_meanDuties 6 (some .double) RX10) (hw : WKt twL g A s s.heap) (hRf : 7 ≤ R.frames) (hRl : 156 ≤ R.locals) {k21 : Int32 → Int32 → Int32 → Int32 → twS → Option (UInt64 × twS)} (hk21 : ∀ (x1 : Int32) (x2 : Int32) (x3 : Int32) (x4 : Int32) (σ : twS) (H : Heap) (locs : List Loc) (ls : Array Slot), k21 x1 x2 x3 x4 σ = some z → TI g A σ H → va_S A s.heap H locs → lv_has ls 6 [(0, .ref g.2.2.2.1), (1, .int x1), (2, .int x2), (3, .int x3), (4, .int x4)] → W p l e R s m args below meth c H locs 0 0 (MQ below (TQ g A (some (.double z.1)) z.2) args s 0 0 A) (F0 m 21 ls [])) : ∀ (x2 : Int32) (x3 : Int32) (x4 : Int32) (x5 : Int32) (s0 : Int32) (s1 : Int32) (σ : twS) (H : Heap) (locs : List Loc) (ls : Array Slot), bT_meanDuties_57 k21 x2 x3 x4 x5 s0 s1 σ = some z → TI g A σ H → va_S A s.heap H locs → lv_has ls 6 [(0, .ref g.2.2.2.1), (2, .int x2), (3, .int x3), (4, .int x4), (5, .int x5)] → W p l e R s m args below meth c H locs 0 0 (MQ below (TQ g A (some (.double z.1)) z.2) args s 0 0 A) (F0 m 57 ls [.int s1, .int s0]) := by
  intro x2 x3 x4 x5 s0 s1 σ H locs ls h hσ hS hl
  unfold bT_meanDuties_57 at h
  refine lv_iadd C.x C.b dX10_meanDuties_57 ?_
  refine tw_lt h (fun x1_1 h => ?_)
  refine lv_istore_n (lv' := [(1, .int x1_1), (0, .ref g.2.2.2.1), (2, .int x2), (3, .int x3), (4, .int x4), (5, .int x5)]) C.x C.b dX10_meanDuties_58 rfl hl (by decide) rfl (fun ls hl => ?_)
  refine lv_iload_n C.x C.b dX10_meanDuties_59 rfl (lv_at hl 2 rfl) ?_
  refine lv_iload C.x C.b dX10_meanDuties_60 (lv_at hl 5 rfl) ?_
  refine lv_iconst (v := -1) C.x C.b dX10_meanDuties_62 (by decide) ?_
  refine lv_icmp_ne (tgt := 70) C.x C.b dX10_meanDuties_63 (by decide) (fun c_2 => ?_) (fun c_2 => ?_)
  · have h := iN c_2 h
    refine lv_iconst (v := 1) C.x C.b dX10_meanDuties_70 (by decide) ?_
    refine lv_iadd C.x C.b dX10_meanDuties_71 ?_
    refine tw_lt h (fun x2_3 h => ?_)
    refine lv_istore_n (lv' := [(2, .int x2_3), (1, .int x1_1), (0, .ref g.2.2.2.1), (3, .int x3), (4, .int x4), (5, .int x5)]) C.x C.b dX10_meanDuties_72 rfl hl (by decide) rfl (fun ls hl => ?_)
    obtain ⟨x4_4, e_, h⟩ := nm_s h
    refine lv_iinc (v := x4_4) (lv' := [(4, .int x4_4), (2, .int x2_3), (1, .int x1_1), (0, .ref g.2.2.2.1), (3, .int x3), (5, .int x5)]) C.x C.b dX10_meanDuties_73 hl (k := 4) rfl e_.symm (by decide) rfl (fun ls hl => ?_)
    refine lv_goto (tgt := 21) C.x C.b dX10_meanDuties_76 (by decide) ?_
    exact hk21 _ _ _ _ _ _ _ _ h hσ hS (lv_sub hl [3, 2, 1, 4, 0] rfl)
  · have h := ip c_2 h
    refine lv_iconst (v := 0) C.x C.b dX10_meanDuties_66 (by decide) ?_
    refine lv_goto (tgt := 71) C.x C.b dX10_meanDuties_67 (by decide) ?_
    refine lv_iadd C.x C.b dX10_meanDuties_71 ?_
    refine tw_lt h (fun x2_5 h => ?_)
    refine lv_istore_n (lv' := [(2, .int x2_5), (1, .int x1_1), (0, .ref g.2.2.2.1), (3, .int x3), (4, .int x4), (5, .int x5)]) C.x C.b dX10_meanDuties_72 rfl hl (by decide) rfl (fun ls hl => ?_)
    obtain ⟨x4_6, e_, h⟩ := nm_s h
    refine lv_iinc (v := x4_6) (lv' := [(4, .int x4_6), (2, .int x2_5), (1, .int x1_1), (0, .ref g.2.2.2.1), (3, .int x3), (5, .int x5)]) C.x C.b dX10_meanDuties_73 hl (k := 4) rfl e_.symm (by decide) rfl (fun ls hl => ?_)
    refine lv_goto (tgt := 21) C.x C.b dX10_meanDuties_76 (by decide) ?_
    exact hk21 _ _ _ _ _ _ _ _ h hσ hS (lv_sub hl [3, 2, 1, 4, 0] rfl)

theorem wT_meanDuties_21 {z : UInt64 × twS} (C : CX p m meth c s args cX10_meanDuties 6 (some .double) RX10) (hw : WKt twL g A s s.heap) (hRf : 7 ≤ R.frames) (hRl : 156 ≤ R.locals) : ∀ (n : Nat) (x1 : Int32) (x2 : Int32) (x3 : Int32) (x4 : Int32) (σ : twS) (H : Heap) (locs : List Loc) (ls : Array Slot), bT_meanDuties_21 n x1 x2 x3 x4 σ = some z → TI g A σ H → va_S A s.heap H locs → lv_has ls 6 [(0, .ref g.2.2.2.1), (1, .int x1), (2, .int x2), (3, .int x3), (4, .int x4)] → W p l e R s m args below meth c H locs 0 0 (MQ below (TQ g A (some (.double z.1)) z.2) args s 0 0 A) (F0 m 21 ls []) := by
  intro n
  induction n with
  | zero =>
    intro x1 x2 x3 x4 σ H locs ls h
    cases h
  | succ n ih =>
    intro x1 x2 x3 x4 σ H locs ls h hσ hS hl
    rw [bT_meanDuties_21] at h
    refine lv_iload C.x C.b dX10_meanDuties_21 (lv_at hl 4 rfl) ?_
    refine lv_iload_n C.x C.b dX10_meanDuties_23 rfl (lv_at hl 3 rfl) ?_
    refine lv_icmp_ge (tgt := 79) C.x C.b dX10_meanDuties_24 (by decide) (fun c_1 => ?_) (fun c_1 => ?_)
    · have h := ip c_1 h
      refine lv_iload_n C.x C.b dX10_meanDuties_79 rfl (lv_at hl 2 rfl) ?_
      refine lv_if_ne (tgt := 87) C.x C.b dX10_meanDuties_80 (by decide) (fun c_2 => ?_) (fun c_2 => ?_)
      · have h := iN c_2 h
        refine lv_iload_n C.x C.b dX10_meanDuties_87 rfl (lv_at hl 1 rfl) ?_
        refine lv_i2d C.x C.b dX10_meanDuties_88 ?_
        refine lv_iload_n C.x C.b dX10_meanDuties_89 rfl (lv_at hl 2 rfl) ?_
        refine lv_i2d C.x C.b dX10_meanDuties_90 ?_
        have hz := nf64_s h
        have h := hz.2
        refine lv_ddiv C.x C.b dX10_meanDuties_91 hz.1 ?_
        exact tw_dret C hσ hS h dX10_meanDuties_92
      · have h := ip c_2 h
        refine lv_dconst0 C.x C.b dX10_meanDuties_83 ?_
        refine lv_goto (tgt := 92) C.x C.b dX10_meanDuties_84 (by decide) ?_
        exact tw_dret C hσ hS h dX10_meanDuties_92
    · have h := iN c_1 h
      refine lv_aload_n C.x C.b dX10_meanDuties_27 rfl (lv_at hl 0 rfl) ?_
      refine lv_aload_n C.x C.b dX10_meanDuties_28 rfl (lv_at hl 0 rfl) ?_
      refine tw_gf15 C hw hσ q2230 dX10_meanDuties_29 ?_
      refine lv_iload C.x C.b dX10_meanDuties_32 (lv_at hl 4 rfl) ?_
      refine tw_ld15 C hw hσ h dX10_meanDuties_34 (fun v_3 h => ?_)
      refine tw_call (y := yX10_settles) (bytes := cX10_settles) (maxL := 2) (fun v => some (.int v)) [.int v_3] (fun _ => True)  C hw XB.tt (fun _ _ _ => trivial) hσ hS hl.1 h (fun vv ss ee => kT_settles l g A v_3 σ vv ss ee) (cwV 1 C.t (lw_V q2414 q2416 qs98 q159 q2417) rfl rfl rfl (by decide +kernel) ⟨Nat.le_trans (Nat.le_of_ble_eq_true rfl) hRf, Nat.le_trans (Nat.le_of_ble_eq_true rfl) hRl⟩) rfl rfl (Nat.le_of_ble_eq_true rfl) dX10_meanDuties_35 (fun v_4 σ_5 H locs h hσ hS => ?_)
      refine lv_istore (lv' := [(5, .int v_4), (0, .ref g.2.2.2.1), (1, .int x1), (2, .int x2), (3, .int x3), (4, .int x4)]) C.x C.b dX10_meanDuties_38 hl (by decide) rfl (fun ls hl => ?_)
      refine lv_iload_n C.x C.b dX10_meanDuties_40 rfl (lv_at hl 2 rfl) ?_
      refine lv_iload C.x C.b dX10_meanDuties_41 (lv_at hl 0 rfl) ?_
      refine lv_iconst (v := -1) C.x C.b dX10_meanDuties_43 (by decide) ?_
      refine lv_icmp_ne (tgt := 51) C.x C.b dX10_meanDuties_44 (by decide) (fun c_6 => ?_) (fun c_6 => ?_)
      · have h := iN c_6 h
        refine lv_aload_n C.x C.b dX10_meanDuties_51 rfl (lv_at hl 1 rfl) ?_
        refine lv_iload C.x C.b dX10_meanDuties_52 (lv_at hl 0 rfl) ?_
        refine tw_call (y := yX10_duties0) (bytes := cX10_duties0) (maxL := 4) (fun v => some (.int v)) [.int v_4] (fun _ => True)  C hw XB.tt (fun _ _ _ => trivial) hσ hS hl.1 h (fun vv ss ee => kT_duties0 l g A v_4 σ_5 vv ss ee) (cwV 1 C.t (lw_V q2557 q2559 qs113 q159 q2560) rfl rfl rfl (by decide +kernel) ⟨Nat.le_trans (Nat.le_of_ble_eq_true rfl) hRf, Nat.le_trans (Nat.le_of_ble_eq_true rfl) hRl⟩) rfl rfl (Nat.le_of_ble_eq_true rfl) dX10_meanDuties_54 (fun v_7 σ_8 H locs h hσ hS => ?_)
        exact wT_meanDuties_57 C hw hRf hRl (fun y0 y1 y2 y3 σ H locs ls h hσ hS hl => ih y0 y1 y2 y3 σ H locs ls h hσ hS hl) _ _ _ _ _ _ _ _ _ _ h hσ hS (lv_sub hl [1, 3, 4, 5, 0] rfl)
      · have h := ip c_6 h
        refine lv_iconst (v := 0) C.x C.b dX10_meanDuties_47 (by decide) ?_
        refine lv_goto (tgt := 57) C.x C.b dX10_meanDuties_48 (by decide) ?_
        exact wT_meanDuties_57 C hw hRf hRl (fun y0 y1 y2 y3 σ H locs ls h hσ hS hl => ih y0 y1 y2 y3 σ H locs ls h hσ hS hl) _ _ _ _ _ _ _ _ _ _ h hσ hS (lv_sub hl [1, 3, 4, 5, 0] rfl)

theorem kT_meanDuties (l : Launch) (g : twG) (A : Nat → Prop) (σ : twS) (v : UInt64) (σ1 : twS) (h : mT_meanDuties σ = some (v, σ1)) : Met l yX10_meanDuties (ws_ yX10_meanDuties cX10_meanDuties 6 (some .double)) ({ frames := 7, cells := 0, slots := 0, locals := 156 }) (TPc twL g A [.ref g.2.2.2.1] (fun _ => True) σ) (TQ g A (some (.double v)) σ1) 0 0 A := by
  refine Met.ofW (cc := cX10_meanDuties) (maxL := 6) (ret := (some .double)) (by decide) rfl ?_
  intro p e s m args below meth c s₁ B hml hv
  obtain ⟨rfl, hw, hX, hσ⟩ := hv
  have hts := atoms_spec (ws := (ws_ yX10_meanDuties cX10_meanDuties 6 (some .double))) B.pre
  have C : CX p m meth c s ([.ref g.2.2.2.1] : List Value).toArray cX10_meanDuties 6 (some .double) RX10 := ⟨⟨B.exec, B.bytes, hml, findClass_of_methodNamed B.named, fun w h => hts w (List.mem_cons_of_mem _ h)⟩, B.returns, B.notSynchronized⟩
  have hRf : 7 ≤ (headSpec (ws_ yX10_meanDuties cX10_meanDuties 6 (some .double)) ({ frames := 7, cells := 0, slots := 0, locals := 156 })).room.frames := Nat.le_refl _
  have hRl : 156 ≤ (headSpec (ws_ yX10_meanDuties cX10_meanDuties 6 (some .double)) ({ frames := 7, cells := 0, slots := 0, locals := 156 })).room.locals := Nat.le_refl _
  generalize (headSpec (ws_ yX10_meanDuties cX10_meanDuties 6 (some .double)) ({ frames := 7, cells := 0, slots := 0, locals := 156 })).room = R at hRf hRl ⊢
  have hS : va_S A s.heap s.heap [] := va_S.rf
  have hl := lv_entry ([.ref g.2.2.2.1]) (n := 6) (Nat.le_of_ble_eq_true rfl)
  rw [lg_entry_eq]
  generalize (lg_sl ([.ref g.2.2.2.1]) ++ List.replicate (6 - (lg_sl ([.ref g.2.2.2.1])).length) Slot.unset).toArray = ls at hl ⊢
  have hl : lv_has ls 6 [(0, .ref g.2.2.2.1)] := hl
  obtain ⟨z, hz⟩ : ∃ z, z = (v, σ1) := ⟨_, rfl⟩
  rw [← hz] at h
  rw [show v = z.1 by rw [hz], show σ1 = z.2 by rw [hz]]
  clear hz v σ1
  unfold mT_meanDuties at h
  refine lv_aload_n C.x C.b dX10_meanDuties_0 rfl (lv_at hl 0 rfl) ?_
  refine lv_iconst (v := 0) C.x C.b dX10_meanDuties_1 (by decide) ?_
  refine tw_pf13 C hw hσ hS q2228 dX10_meanDuties_2 (fun H locs hσ hS => ?_)
  obtain ⟨σ_1, e_, h⟩ := nm_s h
  rw [← e_] at hσ
  clear e_
  refine lv_aload_n C.x C.b dX10_meanDuties_5 rfl (lv_at hl 0 rfl) ?_
  refine tw_call (y := yX10_setsOut) (bytes := cX10_setsOut) (maxL := 4) (fun _ => none) [] (fun _ => True)  C hw XB.tt (fun _ _ _ => trivial) hσ hS hl.1 h (fun vv ss ee => kT_setsOut l g A σ_1 vv ss ee) (cwV 0 C.t (lw_V q2338 q2340 qs83 q159 q2341) rfl rfl rfl (by decide +kernel) ⟨Nat.le_trans (Nat.le_of_ble_eq_true rfl) hRf, Nat.le_trans (Nat.le_of_ble_eq_true rfl) hRl⟩) rfl rfl (Nat.le_of_ble_eq_true rfl) dX10_meanDuties_6 (fun _ σ_2 H locs h hσ hS => ?_)
  refine lv_iconst (v := 0) C.x C.b dX10_meanDuties_9 (by decide) ?_
  refine lv_istore_n (lv' := [(1, .int 0), (0, .ref g.2.2.2.1)]) C.x C.b dX10_meanDuties_10 rfl hl (by decide) rfl (fun ls hl => ?_)
  refine lv_iconst (v := 0) C.x C.b dX10_meanDuties_11 (by decide) ?_
  refine lv_istore_n (lv' := [(2, .int 0), (1, .int 0), (0, .ref g.2.2.2.1)]) C.x C.b dX10_meanDuties_12 rfl hl (by decide) rfl (fun ls hl => ?_)
  refine lv_aload_n C.x C.b dX10_meanDuties_13 rfl (lv_at hl 2 rfl) ?_
  refine tw_call (y := yX10_cases) (bytes := cX10_cases) (maxL := 3) (fun v => some (.int v)) [] (fun _ => True)  C hw XB.tt (fun _ _ _ => trivial) hσ hS hl.1 h (fun vv ss ee => kT_cases l g A σ_2 vv ss ee) (cwV 0 C.t (lw_V q2334 q2336 qs82 q159 q2337) rfl rfl rfl (by decide +kernel) ⟨Nat.le_trans (Nat.le_of_ble_eq_true rfl) hRf, Nat.le_trans (Nat.le_of_ble_eq_true rfl) hRl⟩) rfl rfl (Nat.le_of_ble_eq_true rfl) dX10_meanDuties_14 (fun v_3 σ_4 H locs h hσ hS => ?_)
  refine lv_istore_n (lv' := [(3, .int v_3), (2, .int 0), (1, .int 0), (0, .ref g.2.2.2.1)]) C.x C.b dX10_meanDuties_17 rfl hl (by decide) rfl (fun ls hl => ?_)
  refine lv_iconst (v := 0) C.x C.b dX10_meanDuties_18 (by decide) ?_
  refine lv_istore (lv' := [(4, .int 0), (3, .int v_3), (2, .int 0), (1, .int 0), (0, .ref g.2.2.2.1)]) C.x C.b dX10_meanDuties_19 hl (by decide) rfl (fun ls hl => ?_)
  exact wT_meanDuties_21 C hw hRf hRl _ _ _ _ _ _ _ _ _ h hσ hS (lv_sub hl [4, 3, 2, 1, 0] rfl)

theorem kT_write (l : Launch) (g : twG) (A : Nat → Prop) (x1 : Int32) (σ : twS) (v : Int32) (σ1 : twS) (h : mT_write x1 σ = some (v, σ1)) : Met l yX10_write (ws_ yX10_write cX10_write 2 none) ({ frames := 1, cells := 0, slots := 0, locals := 24 }) (TPc twL g A [.ref g.2.2.2.1, .int x1] (fun _ => True) σ) (TQ g A (none) σ1) 0 0 A := by
  refine Met.ofW (cc := cX10_write) (maxL := 2) (ret := none) (by decide) rfl ?_
  intro p e s m args below meth c s₁ B hml hv
  obtain ⟨rfl, hw, hX, hσ⟩ := hv
  have hts := atoms_spec (ws := (ws_ yX10_write cX10_write 2 none)) B.pre
  have C : CX p m meth c s ([.ref g.2.2.2.1, .int x1] : List Value).toArray cX10_write 2 none RX10 := ⟨⟨B.exec, B.bytes, hml, findClass_of_methodNamed B.named, fun w h => hts w (List.mem_cons_of_mem _ h)⟩, B.returns, B.notSynchronized⟩
  have hRf : 1 ≤ (headSpec (ws_ yX10_write cX10_write 2 none) ({ frames := 1, cells := 0, slots := 0, locals := 24 })).room.frames := Nat.le_refl _
  have hRl : 24 ≤ (headSpec (ws_ yX10_write cX10_write 2 none) ({ frames := 1, cells := 0, slots := 0, locals := 24 })).room.locals := Nat.le_refl _
  generalize (headSpec (ws_ yX10_write cX10_write 2 none) ({ frames := 1, cells := 0, slots := 0, locals := 24 })).room = R at hRf hRl ⊢
  have hS : va_S A s.heap s.heap [] := va_S.rf
  have hl := lv_entry ([.ref g.2.2.2.1, .int x1]) (n := 2) (Nat.le_of_ble_eq_true rfl)
  rw [lg_entry_eq]
  generalize (lg_sl ([.ref g.2.2.2.1, .int x1]) ++ List.replicate (2 - (lg_sl ([.ref g.2.2.2.1, .int x1])).length) Slot.unset).toArray = ls at hl ⊢
  have hl : lv_has ls 2 [(0, .ref g.2.2.2.1), (1, .int x1)] := hl
  obtain ⟨z, hz⟩ : ∃ z, z = (v, σ1) := ⟨_, rfl⟩
  rw [← hz] at h
  rw [show σ1 = z.2 by rw [hz]]
  clear hz v σ1
  unfold mT_write at h
  refine lv_aload_n C.x C.b dX10_write_0 rfl (lv_at hl 0 rfl) ?_
  refine tw_gf11 C hw hσ q2226 dX10_write_1 ?_
  refine lv_aload_n C.x C.b dX10_write_4 rfl (lv_at hl 0 rfl) ?_
  refine tw_gf12 C hw hσ q2227 dX10_write_5 ?_
  refine lv_iload_n C.x C.b dX10_write_8 rfl (lv_at hl 1 rfl) ?_
  refine lv_i2c C.x C.b dX10_write_9 rfl ?_
  refine tw_st11 C hw hσ hS h dX10_write_10 (fun σ_1 H locs h hσ hS => ?_)
  refine lv_aload_n C.x C.b dX10_write_11 rfl (lv_at hl 0 rfl) ?_
  refine lv_dup C.x C.b dX10_write_12 rfl ?_
  refine tw_gf12 C hw hσ q2227 dX10_write_13 ?_
  refine lv_iconst (v := 1) C.x C.b dX10_write_16 (by decide) ?_
  refine lv_iadd C.x C.b dX10_write_17 ?_
  refine tw_pf12 C hw hσ hS q2227 dX10_write_18 (fun H locs hσ hS => ?_)
  obtain ⟨σ_2, e_, h⟩ := nm_s h
  rw [← e_] at hσ
  clear e_
  exact tw_vret C hσ hS h dX10_write_21

theorem wT_writeToken_15 {z : Int32 × twS} (C : CX p m meth c s args cX10_writeToken 3 none RX10) (hw : WKt twL g A s s.heap) (hRf : 5 ≤ R.frames) (hRl : 152 ≤ R.locals) {t1 : List Int32} {a1 : Nat} (k1 : StrC A t1 a1 s s.heap) : ∀ (n : Nat) (x2 : Int32) (σ : twS) (H : Heap) (locs : List Loc) (ls : Array Slot), bT_writeToken_15 t1 n x2 σ = some z → TI g A σ H → va_S A s.heap H locs → lv_has ls 3 [(0, .ref g.2.2.2.1), (1, .ref a1), (2, .int x2)] → W p l e R s m args below meth c H locs 0 0 (MQ below (TQ g A (none) z.2) args s 0 0 A) (F0 m 15 ls []) := by
  intro n
  induction n with
  | zero =>
    intro x2 σ H locs ls h
    cases h
  | succ n ih =>
    intro x2 σ H locs ls h hσ hS hl
    rw [bT_writeToken_15] at h
    refine lv_iload_n C.x C.b dX10_writeToken_15 rfl (lv_at hl 2 rfl) ?_
    refine lv_aload_n C.x C.b dX10_writeToken_16 rfl (lv_at hl 1 rfl) ?_
    refine tw_slen C hw hS k1 hl.1 q2095 (Nat.le_trans (Nat.le_of_ble_eq_true rfl) hRf) (Nat.le_trans (Nat.le_of_ble_eq_true rfl) hRl) (Nat.le_of_ble_eq_true rfl) dX10_writeToken_17 (fun locs hS => ?_)
    refine lv_icmp_ge (tgt := 38) C.x C.b dX10_writeToken_20 (by decide) (fun c_1 => ?_) (fun c_1 => ?_)
    · have h := ip c_1 h
      exact tw_vret C hσ hS h dX10_writeToken_38
    · have h := iN c_1 h
      refine lv_aload_n C.x C.b dX10_writeToken_23 rfl (lv_at hl 0 rfl) ?_
      refine lv_aload_n C.x C.b dX10_writeToken_24 rfl (lv_at hl 1 rfl) ?_
      refine lv_iload_n C.x C.b dX10_writeToken_25 rfl (lv_at hl 2 rfl) ?_
      refine tw_chA C hw hS k1 hl.1 h q2096 (Nat.le_trans (Nat.le_of_ble_eq_true rfl) hRf) (Nat.le_trans (Nat.le_of_ble_eq_true rfl) hRl) (Nat.le_of_ble_eq_true rfl) dX10_writeToken_26 (fun v_2 locs h hS => ?_)
      refine tw_call (y := yX10_write) (bytes := cX10_write) (maxL := 2) (fun _ => none) [.int v_2] (fun _ => True)  C hw XB.tt (fun _ _ _ => trivial) hσ hS hl.1 h (fun vv ss ee => kT_write l g A v_2 σ vv ss ee) (cwV 1 C.t (lw_V q2594 q2596 qs117 q159 q2597) rfl rfl rfl (by decide +kernel) ⟨Nat.le_trans (Nat.le_of_ble_eq_true rfl) hRf, Nat.le_trans (Nat.le_of_ble_eq_true rfl) hRl⟩) rfl rfl (Nat.le_of_ble_eq_true rfl) dX10_writeToken_29 (fun _ σ_3 H locs h hσ hS => ?_)
      obtain ⟨x2_4, e_, h⟩ := nm_s h
      refine lv_iinc (v := x2_4) (lv' := [(2, .int x2_4), (0, .ref g.2.2.2.1), (1, .ref a1)]) C.x C.b dX10_writeToken_32 hl (k := 2) rfl e_.symm (by decide) rfl (fun ls hl => ?_)
      refine lv_goto (tgt := 15) C.x C.b dX10_writeToken_35 (by decide) ?_
      exact ih _ _ _ _ _ h hσ hS (lv_sub hl [1, 2, 0] rfl)

theorem kT_writeToken (l : Launch) (g : twG) (A : Nat → Prop) (t1 : List Int32) (a1 : Nat) (σ : twS) (v : Int32) (σ1 : twS) (h : mT_writeToken t1 σ = some (v, σ1)) : Met l yX10_writeToken (ws_ yX10_writeToken cX10_writeToken 3 none) ({ frames := 5, cells := 0, slots := 0, locals := 152 }) (TPc twL g A [.ref g.2.2.2.1, .ref a1] (fun U => StrC A t1 a1 U U.heap) σ) (TQ g A (none) σ1) 0 0 A := by
  refine Met.ofW (cc := cX10_writeToken) (maxL := 3) (ret := none) (by decide) rfl ?_
  intro p e s m args below meth c s₁ B hml hv
  obtain ⟨rfl, hw, hX, hσ⟩ := hv
  have hts := atoms_spec (ws := (ws_ yX10_writeToken cX10_writeToken 3 none)) B.pre
  have C : CX p m meth c s ([.ref g.2.2.2.1, .ref a1] : List Value).toArray cX10_writeToken 3 none RX10 := ⟨⟨B.exec, B.bytes, hml, findClass_of_methodNamed B.named, fun w h => hts w (List.mem_cons_of_mem _ h)⟩, B.returns, B.notSynchronized⟩
  have hRf : 5 ≤ (headSpec (ws_ yX10_writeToken cX10_writeToken 3 none) ({ frames := 5, cells := 0, slots := 0, locals := 152 })).room.frames := Nat.le_refl _
  have hRl : 152 ≤ (headSpec (ws_ yX10_writeToken cX10_writeToken 3 none) ({ frames := 5, cells := 0, slots := 0, locals := 152 })).room.locals := Nat.le_refl _
  generalize (headSpec (ws_ yX10_writeToken cX10_writeToken 3 none) ({ frames := 5, cells := 0, slots := 0, locals := 152 })).room = R at hRf hRl ⊢
  have hS : va_S A s.heap s.heap [] := va_S.rf
  have hl := lv_entry ([.ref g.2.2.2.1, .ref a1]) (n := 3) (Nat.le_of_ble_eq_true rfl)
  rw [lg_entry_eq]
  generalize (lg_sl ([.ref g.2.2.2.1, .ref a1]) ++ List.replicate (3 - (lg_sl ([.ref g.2.2.2.1, .ref a1])).length) Slot.unset).toArray = ls at hl ⊢
  have hl : lv_has ls 3 [(0, .ref g.2.2.2.1), (1, .ref a1)] := hl
  have k1 := hX
  obtain ⟨z, hz⟩ : ∃ z, z = (v, σ1) := ⟨_, rfl⟩
  rw [← hz] at h
  rw [show σ1 = z.2 by rw [hz]]
  clear hz v σ1
  unfold mT_writeToken at h
  refine lv_aload_n C.x C.b dX10_writeToken_0 rfl (lv_at hl 0 rfl) ?_
  refine tw_gf12 C hw hσ q2227 dX10_writeToken_1 ?_
  refine lv_if_le (tgt := 13) C.x C.b dX10_writeToken_4 (by decide) (fun c_1 => ?_) (fun c_1 => ?_)
  · have h := ip c_1 h
    refine lv_iconst (v := 0) C.x C.b dX10_writeToken_13 (by decide) ?_
    refine lv_istore_n (lv' := [(2, .int 0), (0, .ref g.2.2.2.1), (1, .ref a1)]) C.x C.b dX10_writeToken_14 rfl hl (by decide) rfl (fun ls hl => ?_)
    exact wT_writeToken_15 C hw hRf hRl k1 _ _ _ _ _ _ h hσ hS (lv_sub hl [1, 2, 0] rfl)
  · have h := iN c_1 h
    refine lv_aload_n C.x C.b dX10_writeToken_7 rfl (lv_at hl 0 rfl) ?_
    refine lv_bipush (v := 32) C.x C.b dX10_writeToken_8 (by decide) ?_
    refine tw_call (y := yX10_write) (bytes := cX10_write) (maxL := 2) (fun _ => none) [.int 32] (fun _ => True)  C hw XB.tt (fun _ _ _ => trivial) hσ hS hl.1 h (fun vv ss ee => kT_write l g A 32 σ vv ss ee) (cwV 1 C.t (lw_V q2594 q2596 qs117 q159 q2597) rfl rfl rfl (by decide +kernel) ⟨Nat.le_trans (Nat.le_of_ble_eq_true rfl) hRf, Nat.le_trans (Nat.le_of_ble_eq_true rfl) hRl⟩) rfl rfl (Nat.le_of_ble_eq_true rfl) dX10_writeToken_10 (fun _ σ_2 H locs h hσ hS => ?_)
    refine lv_iconst (v := 0) C.x C.b dX10_writeToken_13 (by decide) ?_
    refine lv_istore_n (lv' := [(2, .int 0), (0, .ref g.2.2.2.1), (1, .ref a1)]) C.x C.b dX10_writeToken_14 rfl hl (by decide) rfl (fun ls hl => ?_)
    exact wT_writeToken_15 C hw hRf hRl k1 _ _ _ _ _ _ h hσ hS (lv_sub hl [1, 2, 0] rfl)

theorem wT_writeNumber_14 {fF lF : Nat} {z : Int32 × twS} (C : CX p m meth c s args cX10_writeNumber 2 none RX10) (hw : WKt twL g A s s.heap) (hRf : fF + 2 ≤ R.frames) (hRl : lF + 45 ≤ R.locals) {F : Int32 → twS → Option (Int32 × twS)} (hF : ∀ (y0 : Int32) (σ : twS) (v : Int32) (σ1 : twS), F y0 σ = some (v, σ1) → Met l yX10_writeNumber (ws_ yX10_writeNumber cX10_writeNumber 2 none) ({ frames := fF, cells := 0, slots := 0, locals := lF }) (TPc twL g A [.ref g.2.2.2.1, .int y0] (fun _ => True) σ) (TQ g A (none) σ1) 0 0 A) : ∀ (x1 : Int32) (σ : twS) (H : Heap) (locs : List Loc) (ls : Array Slot), bT_writeNumber_14 F x1 σ = some z → TI g A σ H → va_S A s.heap H locs → lv_has ls 2 [(0, .ref g.2.2.2.1), (1, .int x1)] → W p l e R s m args below meth c H locs 0 0 (MQ below (TQ g A (none) z.2) args s 0 0 A) (F0 m 14 ls []) := by
  intro x1 σ H locs ls h hσ hS hl
  unfold bT_writeNumber_14 at h
  refine lv_aload_n C.x C.b dX10_writeNumber_14 rfl (lv_at hl 0 rfl) ?_
  refine lv_bipush (v := 48) C.x C.b dX10_writeNumber_15 (by decide) ?_
  refine lv_iload_n C.x C.b dX10_writeNumber_17 rfl (lv_at hl 1 rfl) ?_
  refine lv_bipush (v := 10) C.x C.b dX10_writeNumber_18 (by decide) ?_
  refine lv_irem C.x C.b dX10_writeNumber_20 (by decide) ?_
  refine lv_iadd C.x C.b dX10_writeNumber_21 ?_
  refine tw_call (y := yX10_write) (bytes := cX10_write) (maxL := 2) (fun _ => none) [.int (48 + (x1 - x1 / 10 * 10))] (fun _ => True)  C hw XB.tt (fun _ _ _ => trivial) hσ hS hl.1 h (fun vv ss ee => kT_write l g A (48 + (x1 - x1 / 10 * 10)) σ vv ss ee) (cwV 1 C.t (lw_V q2594 q2596 qs117 q159 q2597) rfl rfl rfl (by decide +kernel) ⟨Nat.le_trans (Nat.le_add_left_of_le (Nat.le_of_ble_eq_true rfl)) hRf, Nat.le_trans (Nat.le_add_left_of_le (Nat.le_of_ble_eq_true rfl)) hRl⟩) rfl rfl (Nat.le_of_ble_eq_true rfl) dX10_writeNumber_22 (fun _ σ_1 H locs h hσ hS => ?_)
  exact tw_vret C hσ hS h dX10_writeNumber_25

theorem kO_writeNumber (l : Launch) (g : twG) (A : Nat → Prop) {F : Int32 → twS → Option (Int32 × twS)} {fF lF : Nat} (hF : ∀ (y0 : Int32) (σ : twS) (v : Int32) (σ1 : twS), F y0 σ = some (v, σ1) → Met l yX10_writeNumber (ws_ yX10_writeNumber cX10_writeNumber 2 none) ({ frames := fF, cells := 0, slots := 0, locals := lF }) (TPc twL g A [.ref g.2.2.2.1, .int y0] (fun _ => True) σ) (TQ g A (none) σ1) 0 0 A) (x1 : Int32) (σ : twS) (v : Int32) (σ1 : twS) (h : mO_writeNumber F x1 σ = some (v, σ1)) : Met l yX10_writeNumber (ws_ yX10_writeNumber cX10_writeNumber 2 none) ({ frames := fF + 2, cells := 0, slots := 0, locals := lF + 45 }) (TPc twL g A [.ref g.2.2.2.1, .int x1] (fun _ => True) σ) (TQ g A (none) σ1) 0 0 A := by
  refine Met.ofW (cc := cX10_writeNumber) (maxL := 2) (ret := none) (by decide) rfl ?_
  intro p e s m args below meth c s₁ B hml hv
  obtain ⟨rfl, hw, hX, hσ⟩ := hv
  have hts := atoms_spec (ws := (ws_ yX10_writeNumber cX10_writeNumber 2 none)) B.pre
  have C : CX p m meth c s ([.ref g.2.2.2.1, .int x1] : List Value).toArray cX10_writeNumber 2 none RX10 := ⟨⟨B.exec, B.bytes, hml, findClass_of_methodNamed B.named, fun w h => hts w (List.mem_cons_of_mem _ h)⟩, B.returns, B.notSynchronized⟩
  have hRf : fF + 2 ≤ (headSpec (ws_ yX10_writeNumber cX10_writeNumber 2 none) ({ frames := fF + 2, cells := 0, slots := 0, locals := lF + 45 })).room.frames := Nat.le_refl _
  have hRl : lF + 45 ≤ (headSpec (ws_ yX10_writeNumber cX10_writeNumber 2 none) ({ frames := fF + 2, cells := 0, slots := 0, locals := lF + 45 })).room.locals := Nat.le_refl _
  generalize (headSpec (ws_ yX10_writeNumber cX10_writeNumber 2 none) ({ frames := fF + 2, cells := 0, slots := 0, locals := lF + 45 })).room = R at hRf hRl ⊢
  have hS : va_S A s.heap s.heap [] := va_S.rf
  have hl := lv_entry ([.ref g.2.2.2.1, .int x1]) (n := 2) (Nat.le_of_ble_eq_true rfl)
  rw [lg_entry_eq]
  generalize (lg_sl ([.ref g.2.2.2.1, .int x1]) ++ List.replicate (2 - (lg_sl ([.ref g.2.2.2.1, .int x1])).length) Slot.unset).toArray = ls at hl ⊢
  have hl : lv_has ls 2 [(0, .ref g.2.2.2.1), (1, .int x1)] := hl
  obtain ⟨z, hz⟩ : ∃ z, z = (v, σ1) := ⟨_, rfl⟩
  rw [← hz] at h
  rw [show σ1 = z.2 by rw [hz]]
  clear hz v σ1
  unfold mO_writeNumber at h
  refine lv_iload_n C.x C.b dX10_writeNumber_0 rfl (lv_at hl 1 rfl) ?_
  refine lv_bipush (v := 9) C.x C.b dX10_writeNumber_1 (by decide) ?_
  refine lv_icmp_le (tgt := 14) C.x C.b dX10_writeNumber_3 (by decide) (fun c_1 => ?_) (fun c_1 => ?_)
  · have h := ip c_1 h
    exact wT_writeNumber_14 C hw hRf hRl hF _ _ _ _ _ h hσ hS (lv_sub hl [0, 1] rfl)
  · have h := iN c_1 h
    refine lv_aload_n C.x C.b dX10_writeNumber_6 rfl (lv_at hl 0 rfl) ?_
    refine lv_iload_n C.x C.b dX10_writeNumber_7 rfl (lv_at hl 1 rfl) ?_
    refine lv_bipush (v := 10) C.x C.b dX10_writeNumber_8 (by decide) ?_
    refine lv_idiv C.x C.b dX10_writeNumber_10 (by decide) ?_
    refine tw_call (y := yX10_writeNumber) (bytes := cX10_writeNumber) (maxL := 2) (fun _ => none) [.int (x1 / 10)] (fun _ => True)  C hw XB.tt (fun _ _ _ => trivial) hσ hS hl.1 h (fun vv ss ee => hF (x1 / 10) σ vv ss ee) (cwV 1 C.t (lw_V q2601 q2603 qs118 q159 q2604) rfl rfl rfl (by decide +kernel) ⟨Nat.le_trans (show fF + 1 ≤ fF + 2 by omega) hRf, Nat.le_trans (show 8 + (2 + 11) + (lF) ≤ lF + 45 by omega) hRl⟩) rfl rfl (Nat.le_of_ble_eq_true rfl) dX10_writeNumber_11 (fun _ σ_2 H locs h hσ hS => ?_)
    exact wT_writeNumber_14 C hw hRf hRl hF _ _ _ _ _ h hσ hS (lv_sub hl [0, 1] rfl)

theorem kT_writeNumber (l : Launch) (g : twG) (A : Nat → Prop) : ∀ (d : Nat) (x1 : Int32) (σ : twS) (v : Int32) (σ1 : twS) (h : mT_writeNumber d x1 σ = some (v, σ1)), Met l yX10_writeNumber (ws_ yX10_writeNumber cX10_writeNumber 2 none) ({ frames := 2 * d, cells := 0, slots := 0, locals := 45 * d }) (TPc twL g A [.ref g.2.2.2.1, .int x1] (fun _ => True) σ) (TQ g A (none) σ1) 0 0 A := by
  intro d
  induction d with
  | zero =>
    intro x1 σ v σ1 h
    cases h
  | succ d ih =>
    intro x1 σ v σ1 h
    exact kO_writeNumber l g A (F := mT_writeNumber d) (fF := 2 * d) (lF := 45 * d) ih x1 σ v σ1 h

theorem kT_writeCompare (l : Launch) (g : twG) (A : Nat → Prop) (x1 : Int32) (σ : twS) (v : Int32) (σ1 : twS) (h : mT_writeCompare x1 σ = some (v, σ1)) : Met l yX10_writeCompare (ws_ yX10_writeCompare cX10_writeCompare 3 none) ({ frames := 129, cells := 0, slots := 0, locals := 2901 }) (TPc twL g A [.ref g.2.2.2.1, .int x1] (fun _ => True) σ) (TQ g A (none) σ1) 0 0 A := by
  refine Met.ofW (cc := cX10_writeCompare) (maxL := 3) (ret := none) (by decide) rfl ?_
  intro p e s m args below meth c s₁ B hml hv
  obtain ⟨rfl, hw, hX, hσ⟩ := hv
  have hts := atoms_spec (ws := (ws_ yX10_writeCompare cX10_writeCompare 3 none)) B.pre
  have C : CX p m meth c s ([.ref g.2.2.2.1, .int x1] : List Value).toArray cX10_writeCompare 3 none RX10 := ⟨⟨B.exec, B.bytes, hml, findClass_of_methodNamed B.named, fun w h => hts w (List.mem_cons_of_mem _ h)⟩, B.returns, B.notSynchronized⟩
  have hRf : 129 ≤ (headSpec (ws_ yX10_writeCompare cX10_writeCompare 3 none) ({ frames := 129, cells := 0, slots := 0, locals := 2901 })).room.frames := Nat.le_refl _
  have hRl : 2901 ≤ (headSpec (ws_ yX10_writeCompare cX10_writeCompare 3 none) ({ frames := 129, cells := 0, slots := 0, locals := 2901 })).room.locals := Nat.le_refl _
  generalize (headSpec (ws_ yX10_writeCompare cX10_writeCompare 3 none) ({ frames := 129, cells := 0, slots := 0, locals := 2901 })).room = R at hRf hRl ⊢
  have hS : va_S A s.heap s.heap [] := va_S.rf
  have hl := lv_entry ([.ref g.2.2.2.1, .int x1]) (n := 3) (Nat.le_of_ble_eq_true rfl)
  rw [lg_entry_eq]
  generalize (lg_sl ([.ref g.2.2.2.1, .int x1]) ++ List.replicate (3 - (lg_sl ([.ref g.2.2.2.1, .int x1])).length) Slot.unset).toArray = ls at hl ⊢
  have hl : lv_has ls 3 [(0, .ref g.2.2.2.1), (1, .int x1)] := hl
  obtain ⟨z, hz⟩ : ∃ z, z = (v, σ1) := ⟨_, rfl⟩
  rw [← hz] at h
  rw [show σ1 = z.2 by rw [hz]]
  clear hz v σ1
  unfold mT_writeCompare at h
  refine lv_iload_n C.x C.b dX10_writeCompare_0 rfl (lv_at hl 1 rfl) ?_
  refine lv_bipush (v := 10) C.x C.b dX10_writeCompare_1 (by decide) ?_
  refine lv_isub C.x C.b dX10_writeCompare_3 ?_
  refine tw_lt h (fun x2_1 h => ?_)
  refine lv_istore_n (lv' := [(2, .int x2_1), (0, .ref g.2.2.2.1), (1, .int x1)]) C.x C.b dX10_writeCompare_4 rfl hl (by decide) rfl (fun ls hl => ?_)
  refine lv_aload_n C.x C.b dX10_writeCompare_5 rfl (lv_at hl 1 rfl) ?_
  obtain ⟨aS_370, rS_370, kS_370⟩ := hw.2.2 _ (List.mem_of_getElem? (i := 19) (rfl : twL[19]? = some (370, "", tS_370)))
  refine tw_ldcwS C.x C.b C.o rS_370 dX10_writeCompare_6 ?_
  refine tw_call (y := yX10_writeToken) (bytes := cX10_writeToken) (maxL := 3) (fun _ => none) [.ref aS_370] (fun U => StrC A tS_370 aS_370 U U.heap)  C hw (XB.str A _ _) (fun U hU hW => StrC.at kS_370 hS hU hW) hσ hS hl.1 h (fun vv ss ee => kT_writeToken l g A tS_370 aS_370 σ vv ss ee) (cwV 1 C.t (lw_V q2590 q2592 qs116 q159 q2593) rfl rfl rfl (by decide +kernel) ⟨Nat.le_trans (Nat.le_of_ble_eq_true rfl) hRf, Nat.le_trans (Nat.le_of_ble_eq_true rfl) hRl⟩) rfl rfl (Nat.le_of_ble_eq_true rfl) dX10_writeCompare_9 (fun _ σ_2 H locs h hσ hS => ?_)
  refine lv_aload_n C.x C.b dX10_writeCompare_12 rfl (lv_at hl 1 rfl) ?_
  refine lv_bipush (v := 97) C.x C.b dX10_writeCompare_13 (by decide) ?_
  refine lv_iload_n C.x C.b dX10_writeCompare_15 rfl (lv_at hl 0 rfl) ?_
  refine lv_bipush (v := 16) C.x C.b dX10_writeCompare_16 (by decide) ?_
  refine lv_idiv C.x C.b dX10_writeCompare_18 (by decide) ?_
  refine lv_iadd C.x C.b dX10_writeCompare_19 ?_
  refine tw_call (y := yX10_write) (bytes := cX10_write) (maxL := 2) (fun _ => none) [.int (97 + (x2_1 / 16))] (fun _ => True)  C hw XB.tt (fun _ _ _ => trivial) hσ hS hl.1 h (fun vv ss ee => kT_write l g A (97 + (x2_1 / 16)) σ_2 vv ss ee) (cwV 1 C.t (lw_V q2594 q2596 qs117 q159 q2597) rfl rfl rfl (by decide +kernel) ⟨Nat.le_trans (Nat.le_of_ble_eq_true rfl) hRf, Nat.le_trans (Nat.le_of_ble_eq_true rfl) hRl⟩) rfl rfl (Nat.le_of_ble_eq_true rfl) dX10_writeCompare_20 (fun _ σ_3 H locs h hσ hS => ?_)
  refine lv_aload_n C.x C.b dX10_writeCompare_23 rfl (lv_at hl 1 rfl) ?_
  refine lv_iload_n C.x C.b dX10_writeCompare_24 rfl (lv_at hl 0 rfl) ?_
  refine lv_iconst (v := 4) C.x C.b dX10_writeCompare_25 (by decide) ?_
  refine lv_idiv C.x C.b dX10_writeCompare_26 (by decide) ?_
  refine lv_iconst (v := 4) C.x C.b dX10_writeCompare_27 (by decide) ?_
  refine lv_irem C.x C.b dX10_writeCompare_28 (by decide) ?_
  refine lv_if_ne (tgt := 38) C.x C.b dX10_writeCompare_29 (by decide) (fun c_4 => ?_) (fun c_4 => ?_)
  · have h := iN c_4 h
    refine lv_iload_n C.x C.b dX10_writeCompare_38 rfl (lv_at hl 0 rfl) ?_
    refine lv_iconst (v := 4) C.x C.b dX10_writeCompare_39 (by decide) ?_
    refine lv_idiv C.x C.b dX10_writeCompare_40 (by decide) ?_
    refine lv_iconst (v := 4) C.x C.b dX10_writeCompare_41 (by decide) ?_
    refine lv_irem C.x C.b dX10_writeCompare_42 (by decide) ?_
    refine lv_iconst (v := 1) C.x C.b dX10_writeCompare_43 (by decide) ?_
    refine lv_icmp_ne (tgt := 53) C.x C.b dX10_writeCompare_44 (by decide) (fun c_5 => ?_) (fun c_5 => ?_)
    · have h := iN c_5 h
      obtain ⟨aS_379, rS_379, kS_379⟩ := hw.2.2 _ (List.mem_of_getElem? (i := 22) (rfl : twL[22]? = some (379, ">", tS_379)))
      refine tw_ldcwS C.x C.b C.o rS_379 dX10_writeCompare_53 ?_
      refine tw_call (y := yX10_writeToken) (bytes := cX10_writeToken) (maxL := 3) (fun _ => none) [.ref aS_379] (fun U => StrC A tS_379 aS_379 U U.heap)  C hw (XB.str A _ _) (fun U hU hW => StrC.at kS_379 hS hU hW) hσ hS hl.1 h (fun vv ss ee => kT_writeToken l g A tS_379 aS_379 σ_3 vv ss ee) (cwV 1 C.t (lw_V q2590 q2592 qs116 q159 q2593) rfl rfl rfl (by decide +kernel) ⟨Nat.le_trans (Nat.le_of_ble_eq_true rfl) hRf, Nat.le_trans (Nat.le_of_ble_eq_true rfl) hRl⟩) rfl rfl (Nat.le_of_ble_eq_true rfl) dX10_writeCompare_56 (fun _ σ_6 H locs h hσ hS => ?_)
      refine lv_aload_n C.x C.b dX10_writeCompare_59 rfl (lv_at hl 1 rfl) ?_
      obtain ⟨aS_370, rS_370, kS_370⟩ := hw.2.2 _ (List.mem_of_getElem? (i := 19) (rfl : twL[19]? = some (370, "", tS_370)))
      refine tw_ldcwS C.x C.b C.o rS_370 dX10_writeCompare_60 ?_
      refine tw_call (y := yX10_writeToken) (bytes := cX10_writeToken) (maxL := 3) (fun _ => none) [.ref aS_370] (fun U => StrC A tS_370 aS_370 U U.heap)  C hw (XB.str A _ _) (fun U hU hW => StrC.at kS_370 hS hU hW) hσ hS hl.1 h (fun vv ss ee => kT_writeToken l g A tS_370 aS_370 σ_6 vv ss ee) (cwV 1 C.t (lw_V q2590 q2592 qs116 q159 q2593) rfl rfl rfl (by decide +kernel) ⟨Nat.le_trans (Nat.le_of_ble_eq_true rfl) hRf, Nat.le_trans (Nat.le_of_ble_eq_true rfl) hRl⟩) rfl rfl (Nat.le_of_ble_eq_true rfl) dX10_writeCompare_63 (fun _ σ_7 H locs h hσ hS => ?_)
      refine lv_aload_n C.x C.b dX10_writeCompare_66 rfl (lv_at hl 1 rfl) ?_
      refine lv_iload_n C.x C.b dX10_writeCompare_67 rfl (lv_at hl 0 rfl) ?_
      refine lv_iconst (v := 4) C.x C.b dX10_writeCompare_68 (by decide) ?_
      refine lv_irem C.x C.b dX10_writeCompare_69 (by decide) ?_
      refine tw_call (y := yX10_writeNumber) (bytes := cX10_writeNumber) (maxL := 2) (fun _ => none) [.int (x2_1 - x2_1 / 4 * 4)] (fun _ => True)  C hw XB.tt (fun _ _ _ => trivial) hσ hS hl.1 h (fun vv ss ee => kT_writeNumber l g A DP (x2_1 - x2_1 / 4 * 4) σ_7 vv ss ee) (cwV 1 C.t (lw_V q2601 q2603 qs118 q159 q2604) rfl rfl rfl (by decide +kernel) ⟨Nat.le_trans (Nat.le_of_ble_eq_true rfl) hRf, Nat.le_trans (Nat.le_of_ble_eq_true rfl) hRl⟩) rfl rfl (Nat.le_of_ble_eq_true rfl) dX10_writeCompare_70 (fun _ σ_8 H locs h hσ hS => ?_)
      exact tw_vret C hσ hS h dX10_writeCompare_73
    · have h := ip c_5 h
      obtain ⟨aS_377, rS_377, kS_377⟩ := hw.2.2 _ (List.mem_of_getElem? (i := 21) (rfl : twL[21]? = some (377, "<", tS_377)))
      refine tw_ldcwS C.x C.b C.o rS_377 dX10_writeCompare_47 ?_
      refine lv_goto (tgt := 56) C.x C.b dX10_writeCompare_50 (by decide) ?_
      refine tw_call (y := yX10_writeToken) (bytes := cX10_writeToken) (maxL := 3) (fun _ => none) [.ref aS_377] (fun U => StrC A tS_377 aS_377 U U.heap)  C hw (XB.str A _ _) (fun U hU hW => StrC.at kS_377 hS hU hW) hσ hS hl.1 h (fun vv ss ee => kT_writeToken l g A tS_377 aS_377 σ_3 vv ss ee) (cwV 1 C.t (lw_V q2590 q2592 qs116 q159 q2593) rfl rfl rfl (by decide +kernel) ⟨Nat.le_trans (Nat.le_of_ble_eq_true rfl) hRf, Nat.le_trans (Nat.le_of_ble_eq_true rfl) hRl⟩) rfl rfl (Nat.le_of_ble_eq_true rfl) dX10_writeCompare_56 (fun _ σ_9 H locs h hσ hS => ?_)
      refine lv_aload_n C.x C.b dX10_writeCompare_59 rfl (lv_at hl 1 rfl) ?_
      obtain ⟨aS_370, rS_370, kS_370⟩ := hw.2.2 _ (List.mem_of_getElem? (i := 19) (rfl : twL[19]? = some (370, "", tS_370)))
      refine tw_ldcwS C.x C.b C.o rS_370 dX10_writeCompare_60 ?_
      refine tw_call (y := yX10_writeToken) (bytes := cX10_writeToken) (maxL := 3) (fun _ => none) [.ref aS_370] (fun U => StrC A tS_370 aS_370 U U.heap)  C hw (XB.str A _ _) (fun U hU hW => StrC.at kS_370 hS hU hW) hσ hS hl.1 h (fun vv ss ee => kT_writeToken l g A tS_370 aS_370 σ_9 vv ss ee) (cwV 1 C.t (lw_V q2590 q2592 qs116 q159 q2593) rfl rfl rfl (by decide +kernel) ⟨Nat.le_trans (Nat.le_of_ble_eq_true rfl) hRf, Nat.le_trans (Nat.le_of_ble_eq_true rfl) hRl⟩) rfl rfl (Nat.le_of_ble_eq_true rfl) dX10_writeCompare_63 (fun _ σ_10 H locs h hσ hS => ?_)
      refine lv_aload_n C.x C.b dX10_writeCompare_66 rfl (lv_at hl 1 rfl) ?_
      refine lv_iload_n C.x C.b dX10_writeCompare_67 rfl (lv_at hl 0 rfl) ?_
      refine lv_iconst (v := 4) C.x C.b dX10_writeCompare_68 (by decide) ?_
      refine lv_irem C.x C.b dX10_writeCompare_69 (by decide) ?_
      refine tw_call (y := yX10_writeNumber) (bytes := cX10_writeNumber) (maxL := 2) (fun _ => none) [.int (x2_1 - x2_1 / 4 * 4)] (fun _ => True)  C hw XB.tt (fun _ _ _ => trivial) hσ hS hl.1 h (fun vv ss ee => kT_writeNumber l g A DP (x2_1 - x2_1 / 4 * 4) σ_10 vv ss ee) (cwV 1 C.t (lw_V q2601 q2603 qs118 q159 q2604) rfl rfl rfl (by decide +kernel) ⟨Nat.le_trans (Nat.le_of_ble_eq_true rfl) hRf, Nat.le_trans (Nat.le_of_ble_eq_true rfl) hRl⟩) rfl rfl (Nat.le_of_ble_eq_true rfl) dX10_writeCompare_70 (fun _ σ_11 H locs h hσ hS => ?_)
      exact tw_vret C hσ hS h dX10_writeCompare_73
  · have h := ip c_4 h
    obtain ⟨aS_375, rS_375, kS_375⟩ := hw.2.2 _ (List.mem_of_getElem? (i := 20) (rfl : twL[20]? = some (375, "=", tS_375)))
    refine tw_ldcwS C.x C.b C.o rS_375 dX10_writeCompare_32 ?_
    refine lv_goto (tgt := 56) C.x C.b dX10_writeCompare_35 (by decide) ?_
    refine tw_call (y := yX10_writeToken) (bytes := cX10_writeToken) (maxL := 3) (fun _ => none) [.ref aS_375] (fun U => StrC A tS_375 aS_375 U U.heap)  C hw (XB.str A _ _) (fun U hU hW => StrC.at kS_375 hS hU hW) hσ hS hl.1 h (fun vv ss ee => kT_writeToken l g A tS_375 aS_375 σ_3 vv ss ee) (cwV 1 C.t (lw_V q2590 q2592 qs116 q159 q2593) rfl rfl rfl (by decide +kernel) ⟨Nat.le_trans (Nat.le_of_ble_eq_true rfl) hRf, Nat.le_trans (Nat.le_of_ble_eq_true rfl) hRl⟩) rfl rfl (Nat.le_of_ble_eq_true rfl) dX10_writeCompare_56 (fun _ σ_12 H locs h hσ hS => ?_)
    refine lv_aload_n C.x C.b dX10_writeCompare_59 rfl (lv_at hl 1 rfl) ?_
    obtain ⟨aS_370, rS_370, kS_370⟩ := hw.2.2 _ (List.mem_of_getElem? (i := 19) (rfl : twL[19]? = some (370, "", tS_370)))
    refine tw_ldcwS C.x C.b C.o rS_370 dX10_writeCompare_60 ?_
    refine tw_call (y := yX10_writeToken) (bytes := cX10_writeToken) (maxL := 3) (fun _ => none) [.ref aS_370] (fun U => StrC A tS_370 aS_370 U U.heap)  C hw (XB.str A _ _) (fun U hU hW => StrC.at kS_370 hS hU hW) hσ hS hl.1 h (fun vv ss ee => kT_writeToken l g A tS_370 aS_370 σ_12 vv ss ee) (cwV 1 C.t (lw_V q2590 q2592 qs116 q159 q2593) rfl rfl rfl (by decide +kernel) ⟨Nat.le_trans (Nat.le_of_ble_eq_true rfl) hRf, Nat.le_trans (Nat.le_of_ble_eq_true rfl) hRl⟩) rfl rfl (Nat.le_of_ble_eq_true rfl) dX10_writeCompare_63 (fun _ σ_13 H locs h hσ hS => ?_)
    refine lv_aload_n C.x C.b dX10_writeCompare_66 rfl (lv_at hl 1 rfl) ?_
    refine lv_iload_n C.x C.b dX10_writeCompare_67 rfl (lv_at hl 0 rfl) ?_
    refine lv_iconst (v := 4) C.x C.b dX10_writeCompare_68 (by decide) ?_
    refine lv_irem C.x C.b dX10_writeCompare_69 (by decide) ?_
    refine tw_call (y := yX10_writeNumber) (bytes := cX10_writeNumber) (maxL := 2) (fun _ => none) [.int (x2_1 - x2_1 / 4 * 4)] (fun _ => True)  C hw XB.tt (fun _ _ _ => trivial) hσ hS hl.1 h (fun vv ss ee => kT_writeNumber l g A DP (x2_1 - x2_1 / 4 * 4) σ_13 vv ss ee) (cwV 1 C.t (lw_V q2601 q2603 qs118 q159 q2604) rfl rfl rfl (by decide +kernel) ⟨Nat.le_trans (Nat.le_of_ble_eq_true rfl) hRf, Nat.le_trans (Nat.le_of_ble_eq_true rfl) hRl⟩) rfl rfl (Nat.le_of_ble_eq_true rfl) dX10_writeCompare_70 (fun _ σ_14 H locs h hσ hS => ?_)
    exact tw_vret C hσ hS h dX10_writeCompare_73

theorem kO_beginOf (l : Launch) (g : twG) (A : Nat → Prop) {F : Int32 → Int32 → twS → Option (Int32 × twS)} {fF lF : Nat} (hF : ∀ (y0 : Int32) (y1 : Int32) (σ : twS) (v : Int32) (σ1 : twS), F y0 y1 σ = some (v, σ1) → Met l yX10_beginOf (ws_ yX10_beginOf cX10_beginOf 5 (some .int)) ({ frames := fF, cells := 0, slots := 0, locals := lF }) (TPc twL g A [.ref g.2.2.2.1, .int y0, .int y1] (fun _ => True) σ) (TQ g A (some (.int v)) σ1) 0 0 A) (x1 : Int32) (x2 : Int32) (σ : twS) (v : Int32) (σ1 : twS) (h : mO_beginOf F x1 x2 σ = some (v, σ1)) : Met l yX10_beginOf (ws_ yX10_beginOf cX10_beginOf 5 (some .int)) ({ frames := fF + 3, cells := 0, slots := 0, locals := lF + 66 }) (TPc twL g A [.ref g.2.2.2.1, .int x1, .int x2] (fun _ => True) σ) (TQ g A (some (.int v)) σ1) 0 0 A := by
  refine Met.ofW (cc := cX10_beginOf) (maxL := 5) (ret := (some .int)) (by decide) rfl ?_
  intro p e s m args below meth c s₁ B hml hv
  obtain ⟨rfl, hw, hX, hσ⟩ := hv
  have hts := atoms_spec (ws := (ws_ yX10_beginOf cX10_beginOf 5 (some .int))) B.pre
  have C : CX p m meth c s ([.ref g.2.2.2.1, .int x1, .int x2] : List Value).toArray cX10_beginOf 5 (some .int) RX10 := ⟨⟨B.exec, B.bytes, hml, findClass_of_methodNamed B.named, fun w h => hts w (List.mem_cons_of_mem _ h)⟩, B.returns, B.notSynchronized⟩
  have hRf : fF + 3 ≤ (headSpec (ws_ yX10_beginOf cX10_beginOf 5 (some .int)) ({ frames := fF + 3, cells := 0, slots := 0, locals := lF + 66 })).room.frames := Nat.le_refl _
  have hRl : lF + 66 ≤ (headSpec (ws_ yX10_beginOf cX10_beginOf 5 (some .int)) ({ frames := fF + 3, cells := 0, slots := 0, locals := lF + 66 })).room.locals := Nat.le_refl _
  generalize (headSpec (ws_ yX10_beginOf cX10_beginOf 5 (some .int)) ({ frames := fF + 3, cells := 0, slots := 0, locals := lF + 66 })).room = R at hRf hRl ⊢
  have hS : va_S A s.heap s.heap [] := va_S.rf
  have hl := lv_entry ([.ref g.2.2.2.1, .int x1, .int x2]) (n := 5) (Nat.le_of_ble_eq_true rfl)
  rw [lg_entry_eq]
  generalize (lg_sl ([.ref g.2.2.2.1, .int x1, .int x2]) ++ List.replicate (5 - (lg_sl ([.ref g.2.2.2.1, .int x1, .int x2])).length) Slot.unset).toArray = ls at hl ⊢
  have hl : lv_has ls 5 [(0, .ref g.2.2.2.1), (1, .int x1), (2, .int x2)] := hl
  obtain ⟨z, hz⟩ : ∃ z, z = (v, σ1) := ⟨_, rfl⟩
  rw [← hz] at h
  rw [show v = z.1 by rw [hz], show σ1 = z.2 by rw [hz]]
  clear hz v σ1
  unfold mO_beginOf at h
  refine lv_aload_n C.x C.b dX10_beginOf_0 rfl (lv_at hl 0 rfl) ?_
  refine lv_iload_n C.x C.b dX10_beginOf_1 rfl (lv_at hl 1 rfl) ?_
  refine lv_iconst (v := 1) C.x C.b dX10_beginOf_2 (by decide) ?_
  refine lv_iload_n C.x C.b dX10_beginOf_3 rfl (lv_at hl 2 rfl) ?_
  refine lv_iadd C.x C.b dX10_beginOf_4 ?_
  refine tw_call (y := yX10_of) (bytes := cX10_of) (maxL := 3) (fun v => some (.int v)) [.int x1, .int (1 + x2)] (fun _ => True)  C hw XB.tt (fun _ _ _ => trivial) hσ hS hl.1 h (fun vv ss ee => kT_of l g A x1 (1 + x2) σ vv ss ee) (cwV 2 C.t (lw_V q2346 q2348 qs85 q159 q2349) rfl rfl rfl (by decide +kernel) ⟨Nat.le_trans (Nat.le_add_left_of_le (Nat.le_of_ble_eq_true rfl)) hRf, Nat.le_trans (Nat.le_add_left_of_le (Nat.le_of_ble_eq_true rfl)) hRl⟩) rfl rfl (Nat.le_of_ble_eq_true rfl) dX10_beginOf_5 (fun v_1 σ_2 H locs h hσ hS => ?_)
  refine lv_istore_n (lv' := [(3, .int v_1), (0, .ref g.2.2.2.1), (1, .int x1), (2, .int x2)]) C.x C.b dX10_beginOf_8 rfl hl (by decide) rfl (fun ls hl => ?_)
  refine lv_iload_n C.x C.b dX10_beginOf_9 rfl (lv_at hl 0 rfl) ?_
  refine lv_iconst (v := 4) C.x C.b dX10_beginOf_10 (by decide) ?_
  refine lv_icmp_lt (tgt := 16) C.x C.b dX10_beginOf_11 (by decide) (fun c_3 => ?_) (fun c_3 => ?_)
  · have h := ip c_3 h
    refine lv_aload_n C.x C.b dX10_beginOf_16 rfl (lv_at hl 1 rfl) ?_
    refine lv_iload_n C.x C.b dX10_beginOf_17 rfl (lv_at hl 2 rfl) ?_
    refine lv_iload_n C.x C.b dX10_beginOf_18 rfl (lv_at hl 3 rfl) ?_
    refine lv_iconst (v := 1) C.x C.b dX10_beginOf_19 (by decide) ?_
    refine lv_isub C.x C.b dX10_beginOf_20 ?_
    refine tw_call (y := yX10_beginOf) (bytes := cX10_beginOf) (maxL := 5) (fun v => some (.int v)) [.int x1, .int (x2 - 1)] (fun _ => True)  C hw XB.tt (fun _ _ _ => trivial) hσ hS hl.1 h (fun vv ss ee => hF x1 (x2 - 1) σ_2 vv ss ee) (cwV 2 C.t (lw_V q2606 q2608 qs119 q159 q2609) rfl rfl rfl (by decide +kernel) ⟨Nat.le_trans (show fF + 1 ≤ fF + 3 by omega) hRf, Nat.le_trans (show 8 + (5 + 11) + (lF) ≤ lF + 66 by omega) hRl⟩) rfl rfl (Nat.le_of_ble_eq_true rfl) dX10_beginOf_21 (fun v_4 σ_5 H locs h hσ hS => ?_)
    refine lv_istore (lv' := [(4, .int v_4), (3, .int v_1), (0, .ref g.2.2.2.1), (1, .int x1), (2, .int x2)]) C.x C.b dX10_beginOf_24 hl (by decide) rfl (fun ls hl => ?_)
    refine lv_iload_n C.x C.b dX10_beginOf_26 rfl (lv_at hl 1 rfl) ?_
    refine lv_iconst (v := 1) C.x C.b dX10_beginOf_27 (by decide) ?_
    refine lv_icmp_ne (tgt := 36) C.x C.b dX10_beginOf_28 (by decide) (fun c_6 => ?_) (fun c_6 => ?_)
    · have h := iN c_6 h
      refine lv_aload_n C.x C.b dX10_beginOf_36 rfl (lv_at hl 2 rfl) ?_
      refine lv_iload_n C.x C.b dX10_beginOf_37 rfl (lv_at hl 3 rfl) ?_
      refine lv_iload C.x C.b dX10_beginOf_38 (lv_at hl 0 rfl) ?_
      refine lv_iconst (v := 1) C.x C.b dX10_beginOf_40 (by decide) ?_
      refine lv_isub C.x C.b dX10_beginOf_41 ?_
      refine tw_call (y := yX10_beginOf) (bytes := cX10_beginOf) (maxL := 5) (fun v => some (.int v)) [.int x1, .int (v_4 - 1)] (fun _ => True)  C hw XB.tt (fun _ _ _ => trivial) hσ hS hl.1 h (fun vv ss ee => hF x1 (v_4 - 1) σ_5 vv ss ee) (cwV 2 C.t (lw_V q2606 q2608 qs119 q159 q2609) rfl rfl rfl (by decide +kernel) ⟨Nat.le_trans (show fF + 1 ≤ fF + 3 by omega) hRf, Nat.le_trans (show 8 + (5 + 11) + (lF) ≤ lF + 66 by omega) hRl⟩) rfl rfl (Nat.le_of_ble_eq_true rfl) dX10_beginOf_42 (fun v_7 σ_8 H locs h hσ hS => ?_)
      exact tw_iret C hσ hS h dX10_beginOf_45
    · have h := ip c_6 h
      refine lv_iload C.x C.b dX10_beginOf_31 (lv_at hl 0 rfl) ?_
      refine lv_goto (tgt := 45) C.x C.b dX10_beginOf_33 (by decide) ?_
      exact tw_iret C hσ hS h dX10_beginOf_45
  · have h := iN c_3 h
    refine lv_iload_n C.x C.b dX10_beginOf_14 rfl (lv_at hl 3 rfl) ?_
    exact tw_iret C hσ hS h dX10_beginOf_15

theorem kT_beginOf (l : Launch) (g : twG) (A : Nat → Prop) : ∀ (d : Nat) (x1 : Int32) (x2 : Int32) (σ : twS) (v : Int32) (σ1 : twS) (h : mT_beginOf d x1 x2 σ = some (v, σ1)), Met l yX10_beginOf (ws_ yX10_beginOf cX10_beginOf 5 (some .int)) ({ frames := 3 * d, cells := 0, slots := 0, locals := 66 * d }) (TPc twL g A [.ref g.2.2.2.1, .int x1, .int x2] (fun _ => True) σ) (TQ g A (some (.int v)) σ1) 0 0 A := by
  intro d
  induction d with
  | zero =>
    intro x1 x2 σ v σ1 h
    cases h
  | succ d ih =>
    intro x1 x2 σ v σ1 h
    exact kO_beginOf l g A (F := mT_beginOf d) (fF := 3 * d) (lF := 66 * d) ih x1 x2 σ v σ1 h

end
