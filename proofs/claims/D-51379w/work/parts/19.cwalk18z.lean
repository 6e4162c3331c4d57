/-! A CALL OVER A DEEPER STACK -/
set_option maxRecDepth 100000
section CXG
variable {p : Program} {l : Launch} {e : Env} {R : Room} {s : State} {m : MethodId} {args : Array Value} {below : List Frame} {meth : Method} {c : Code} {H : Heap} {locs : List Loc} {cells slots : Nat} {Q : State → Prop}
variable {cc : ByteArray} {pc : Nat} {ls : Array Slot} {rest : List Value} {g : cG} {A : Nat → Prop} {nL : Nat} {ret : Option FieldType} {own : String} {σ : cS} {F_ L_ : Nat}
variable {y : MethodName} {bytes : ByteArray} {maxL index n : Nat} {ret' : Option FieldType} {ws : List Cond} {rm : Room}
theorem cw_callV8 {α β : Type} {f : Nat → Option (α × cS)} {K : α → cS → Option β} {z : β} {r : Option Nat} {Cn : String} {T : u_T} {N : Nat} (ci : Nat) (toV : α → Option Value) (As : List Value) {st : List Value} (C : CX p m meth c s args cc nL ret own) (hw : WKc g A s s.heap) (hR : RM g s R F_ L_) (hI : CI g A s σ H locs) (hn : ls.size = nL) (h : nn σ r ci (fun a => bd (f a) K) = some z) (h60 : ci < 59) (hc : ccl[ci]? = some (Cn, T, N))
    (hM : ∀ a v σ1, f a = some (v, σ1) → Met l y ws rm (CPc g A (.ref a :: As) σ) (CQ g A (toV v) σ1) (σ.2 3 - σ.2 0) (σ.2 4 - σ.2 1) A) (cw : CallW R s args own Cn index y bytes maxL ret' ws rm (σ.2 3 - σ.2 0) (σ.2 4 - σ.2 1) n)
    (hAs : As.length = n) (hst : st = As.reverse ++ va_rf r :: rest) (hrest : (rest.map fun v => v.category).sum ≤ 8) (hdg : decode cc pc = .ok (.invokevirtual index, 3))
    (kk : ∀ (v : α) (σ1 : cS) (H : Heap) (locs : List Loc), K v σ1 = some z → CI g A s σ1 H locs → W p l e R s m args below meth c H locs (H.size - s.heap.size) (hsl H - hsl s.heap) Q (F0 m (pc + 3) ls ((toV v).toList ++ rest))) : W p l e R s m args below meth c H locs (H.size - s.heap.size) (hsl H - hsl s.heap) Q (F0 m pc ls st) := by
  obtain ⟨a, fs, rfl, h1, h2⟩ := nn_s h
  obtain ⟨v, σ1, e1, h3⟩ := bd_s h2
  refine cw_go (va_runV (As := As) (rest := rest) C.1 (hM a v σ1 e1) cw ⟨CPc.blind, cw_recv hw hI h1 h60 hc, fun U hU hW => ⟨rfl, ?_, ?_⟩⟩ rfl hAs hn hst (by show 2 * 0 + _ ≤ 8; omega) hdg (hR.call hI)) hI (fun H1 locs1 q => kk v σ1 H1 locs1 h3 q)
  · rw [hU]; exact hw.at hI.2.1 hW
  · rw [hU]; exact hI.1
theorem cx_callV8 {α β : Type} {f : Nat → Option (cX α × cS)} {K : α → cS → Option (cX β × cS)} {z : cX β × cS} {r : Option Nat} {Cn : String} {T : u_T} {N : Nat} (ci : Nat) (toV : α → Option Value) {toW : β → Option Value} (As : List Value) {st : List Value} (C : CX p m meth c s args cc nL ret own) (hx : ∀ x ∈ c.exceptionTable.toList, False) (hw : WKc g A s s.heap) (hR : RM g s R F_ L_) (hI : CI g A s σ H locs) (hn : ls.size = nL) (h : nn σ r ci (fun a => bdx (f a) K) = some z) (h60 : ci < 59) (hc : ccl[ci]? = some (Cn, T, N))
    (hM : ∀ a u, f a = some u → MetX l y ws rm g A (.ref a :: As) σ toV u (σ.2 3 - σ.2 0) (σ.2 4 - σ.2 1)) (cw : CallW R s args own Cn index y bytes maxL ret' ws rm (σ.2 3 - σ.2 0) (σ.2 4 - σ.2 1) n)
    (hAs : As.length = n) (hst : st = As.reverse ++ va_rf r :: rest) (hrest : (rest.map fun v => v.category).sum ≤ 8) (hdg : decode cc pc = .ok (.invokevirtual index, 3))
    (kk : ∀ (v : α) (σ1 : cS) (H : Heap) (locs : List Loc), K v σ1 = some z → CI g A s σ1 H locs → W p l e R s m args below meth c H locs (H.size - s.heap.size) (hsl H - hsl s.heap) (UQ g A toW z args s (g.2.2.1 3 - s.heap.size) (g.2.2.1 4 - hsl s.heap) below) (F0 m (pc + 3) ls ((toV v).toList ++ rest))) : W p l e R s m args below meth c H locs (H.size - s.heap.size) (hsl H - hsl s.heap) (UQ g A toW z args s (g.2.2.1 3 - s.heap.size) (g.2.2.1 4 - hsl s.heap) below) (F0 m pc ls st) := by
  obtain ⟨a, fs, rfl, h1, h2⟩ := nn_s h
  rcases bdx_s h2 with ⟨v, σ1, e1, h3⟩ | ⟨e', σ1, e1, hz⟩
  · exact cw_go (va_runV (As := As) (rest := rest) C.1 (hM a _ e1) cw ⟨CPc.blind, cw_recv hw hI h1 h60 hc, fun U hU hW => ⟨rfl, by rw [hU]; exact hw.at hI.2.1 hW, by rw [hU]; exact hI.1⟩⟩ rfl hAs hn hst (by show 2 * 0 + _ ≤ 8; omega) hdg (hR.call hI)) hI (fun H1 locs1 q => kk v σ1 H1 locs1 h3 q)
  · exact cx_out hz (vx_runV (As := As) (rest := rest) C.1 (hM a _ e1) cw ⟨CPc.blind, cw_recv hw hI h1 h60 hc, fun U hU hW => ⟨rfl, by rw [hU]; exact hw.at hI.2.1 hW, by rw [hU]; exact hI.1⟩⟩ rfl hAs hn hst (by show 2 * 0 + _ ≤ 8; omega) hdg (hR.call hI)) hI hx C.k
end CXG
