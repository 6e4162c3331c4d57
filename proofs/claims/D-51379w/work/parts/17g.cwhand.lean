/-! METHODS WITH HANDLERS -/
set_option maxRecDepth 100000
/-- a call whose Fault is caught here -/
def bdc {α β : Type} (f : Option (cX α × cS)) (K : α → cS → Option β) (Kc : Nat → cS → Option β) : Option β := match f with
  | some (.inl v, σ) => K v σ
  | some (.inr e, σ) => if e.1 = 0 then Kc e.2 σ else none
  | none => none
theorem bdc_s {α β : Type} {f : Option (cX α × cS)} {K : α → cS → Option β} {Kc : Nat → cS → Option β} {z : β} (h : bdc f K Kc = some z) : (∃ v σ, f = some (.inl v, σ) ∧ K v σ = some z) ∨ ∃ q σ, f = some (.inr (0, q), σ) ∧ Kc q σ = some z := by
  unfold bdc at h
  split at h
  · next v σ => exact Or.inl ⟨v, σ, rfl, h⟩
  · next e σ =>
    split at h
    · next he =>
      obtain ⟨e1, e2⟩ := e
      dsimp only at he h
      subst he
      exact Or.inr ⟨e2, σ, rfl, h⟩
    · cases h
  · cases h
section CXH
variable {p : Program} {l : Launch} {e : Env} {R : Room} {s : State} {m : MethodId} {args : Array Value} {below : List Frame} {meth : Method} {c : Code} {H : Heap} {locs : List Loc} {cells slots : Nat} {Q : State → Prop}
variable {cc : ByteArray} {pc : Nat} {ls : Array Slot} {rest : List Value} {g : cG} {A : Nat → Prop} {nL : Nat} {ret : Option FieldType} {own : String} {σ : cS} {F_ L_ : Nat}
theorem cx_outP {α : Type} {toV : α → Option Value} {e' : Nat × Nat} {σ1 : cS} {z : cX α × cS} {st : List Value} {mc ms : Nat} (hz : z = (.inr e', σ1)) (hr : vx_Run p l e R s m args below meth c H locs cells slots mc ms (F0 m pc ls st) rest (fun _ _ _ => False) (CXr g A e' σ1) A) (hI : CI g A s σ H locs) (hout : ∀ x ∈ c.exceptionTable.toList, covers x pc = false) (hk : meth.locks = false) :
    W p l e R s m args below meth c H locs cells slots (UQ g A toV z args s (g.2.2.1 3 - s.heap.size) (g.2.2.1 4 - hsl s.heap) below) (F0 m pc ls st) := by
  subst hz
  intro T hT X
  rcases hr T hT X with ⟨v, st₀, t, T', L, h0, X', hL, e1, e2, hF, hgo⟩ | ⟨q, st₀, t, T', L, E, ce, h0, X', hL, e1, e2, ⟨hE, hF0, hF1, ⟨hz, hkp⟩, hs⟩, hce, hv, hcl, st⟩
  · exact hF.elim
  have hends : t.heap.size ≤ g.2.2.1 3 ∧ hsl t.heap ≤ g.2.2.1 4 := by
    by_cases h : e'.1 = 0
    · exact (hF0 h).2.ends
    · exact (hF1 h).ends
  have hS := hI.2.1
  rw [h0] at hz hkp hs
  obtain ⟨tt, a1, b1⟩ := vx_narrow (vx_widen (show T'.heap.size - s.heap.size ≤ g.2.2.1 3 - s.heap.size by rw [e1]; omega) (show hsl T'.heap - hsl s.heap ≤ g.2.2.1 4 - hsl s.heap by rw [e1]; omega)
    (vx_out (pc := pc) (ls := ls) (rest := rest) (E := E) (ce := ce) (Qc := fun _ _ _ _ => False) (XC := CXr g A e' σ1) (free := A) (args := args) (mc := g.2.2.1 3 - s.heap.size) (ms := g.2.2.1 4 - hsl s.heap) (locs := locs ++ L) hout hk (by rw [e1]; exact hce) hv hcl
      (fun t' ht' _ => ⟨hE, fun h => ⟨(hF0 h).1, by rw [ht', e1]; exact (hF0 h).2⟩, fun h => by rw [ht', e1]; exact hF1 h, ⟨by rw [ht', e1]; exact Nat.le_trans hS.1 hz, fun q' h1 h2 => by rw [ht', e1, hkp q' (Nat.lt_of_lt_of_le h1 hS.1) h2]; exact hS.2.1 q' h1 h2⟩, by rw [ht', e1]; exact Nat.le_trans hI.2.2 hs⟩)
      (fun z hz' => (List.mem_append.mp hz').elim (hS.2.2 z) (hL z)) (Nat.le_refl _) (Nat.le_refl _))) T' rfl X'
  exact ⟨tt, st.trans a1, b1⟩
variable {y : MethodName} {bytes : ByteArray} {maxL index n : Nat} {ret' : Option FieldType} {ws : List Cond} {rm : Room} {hh : List (Nat × Nat × Nat × Nat)}
theorem cx_callSP {α β : Type} {f : Option (cX α × cS)} {K : α → cS → Option (cX β × cS)} {z : cX β × cS} (toV : α → Option Value) {toW : β → Option Value} (As : List Value) {st : List Value} (C : CX p m meth c s args cc nL ret own) (hout : ∀ x ∈ c.exceptionTable.toList, covers x pc = false) (hw : WKc g A s s.heap) (hR : RM g s R F_ L_) (hI : CI g A s σ H locs) (hn : ls.size = nL) (h : bdx f K = some z)
    (hM : ∀ u, f = some u → MetX l y ws rm g A As σ toV u (σ.2 3 - σ.2 0) (σ.2 4 - σ.2 1)) (cw : CallB R s args own index y bytes maxL ret' ws rm (σ.2 3 - σ.2 0) (σ.2 4 - σ.2 1) n ∧ (Cond.static y).before args s = true)
    (hAs : As.length = n) (hst : st = As.reverse ++ rest) (hrest : rest.length ≤ 4) (hdg : decode cc pc = .ok (.invokestatic index, 3))
    (kk : ∀ (v : α) (σ1 : cS) (H : Heap) (locs : List Loc), K v σ1 = some z → CI g A s σ1 H locs → W p l e R s m args below meth c H locs (H.size - s.heap.size) (hsl H - hsl s.heap) (UQ g A toW z args s (g.2.2.1 3 - s.heap.size) (g.2.2.1 4 - hsl s.heap) below) (F0 m (pc + 3) ls ((toV v).toList ++ rest))) : W p l e R s m args below meth c H locs (H.size - s.heap.size) (hsl H - hsl s.heap) (UQ g A toW z args s (g.2.2.1 3 - s.heap.size) (g.2.2.1 4 - hsl s.heap) below) (F0 m pc ls st) := by
  rcases bdx_s h with ⟨v, σ1, e1, h3⟩ | ⟨e', σ1, e1, hz⟩
  · exact cw_go (va_runS (As := As) (rest := rest) C.1 (hM _ e1) cw ⟨CPc.blind, fun U hU hW => ⟨rfl, by rw [hU]; exact hw.at hI.2.1 hW, by rw [hU]; exact hI.1⟩⟩ rfl hAs hn hst (by show 2 * 0 + _ ≤ 8; have := room_of hrest; omega) hdg (hR.call hI)) hI (fun H1 locs1 q => kk v σ1 H1 locs1 h3 q)
  · exact cx_outP hz (vx_runS (As := As) (rest := rest) C.1 (hM _ e1) cw ⟨CPc.blind, fun U hU hW => ⟨rfl, by rw [hU]; exact hw.at hI.2.1 hW, by rw [hU]; exact hI.1⟩⟩ rfl hAs hn hst (by show 2 * 0 + _ ≤ 8; have := room_of hrest; omega) hdg (hR.call hI)) hI hout C.k
theorem cw_callVW {α β : Type} {f : Nat → Option (α × cS)} {K : α → cS → Option β} {z : β} {r : Option Nat} {Cn : String} {T : u_T} {N : Nat} (ci : Nat) (toV : α → Option Value) (As : List Value) {st : List Value} (C : CX p m meth c s args cc nL ret own) (hw : WKc g A s s.heap) (hR : RM g s R F_ L_) (hI : CI g A s σ H locs) (hn : ls.size = nL) (h : nn σ r ci (fun a => bd (f a) K) = some z) (h60 : ci < 59) (hc : ccl[ci]? = some (Cn, T, N))
    (hM : ∀ a v σ1, f a = some (v, σ1) → Met l y ws rm (CPc g A (.ref a :: As) σ) (CQ g A (toV v) σ1) (σ.2 3 - σ.2 0) (σ.2 4 - σ.2 1) A) (cw : vx_CVW R s args own Cn index y bytes maxL ret' hh ws rm (σ.2 3 - σ.2 0) (σ.2 4 - σ.2 1) n)
    (hAs : As.length = n) (hst : st = As.reverse ++ va_rf r :: rest) (hrest : rest.length ≤ 4) (hdg : decode cc pc = .ok (.invokevirtual index, 3))
    (kk : ∀ (v : α) (σ1 : cS) (H : Heap) (locs : List Loc), K v σ1 = some z → CI g A s σ1 H locs → W p l e R s m args below meth c H locs (H.size - s.heap.size) (hsl H - hsl s.heap) Q (F0 m (pc + 3) ls ((toV v).toList ++ rest))) : W p l e R s m args below meth c H locs (H.size - s.heap.size) (hsl H - hsl s.heap) Q (F0 m pc ls st) := by
  obtain ⟨a, fs, rfl, h1, h2⟩ := nn_s h
  obtain ⟨v, σ1, e1, h3⟩ := bd_s h2
  refine cw_go (vx_runVW (As := As) (rest := rest) C.1 (hM a v σ1 e1) cw ⟨CPc.blind, cw_recv hw hI h1 h60 hc, fun U hU hW => ⟨rfl, ?_, ?_⟩⟩ rfl hAs hn hst (by show 2 * 0 + _ ≤ 8; have := room_of hrest; omega) hdg (hR.call hI)) hI (fun H1 locs1 q => kk v σ1 H1 locs1 h3 q)
  · rw [hU]; exact hw.at hI.2.1 hW
  · rw [hU]; exact hI.1
/-- the call's Fault goes to a handler -/
theorem cx_callVC {α β : Type} {f : Nat → Option (cX α × cS)} {K : α → cS → Option β} {Kc : Nat → cS → Option β} {z : β} {r : Option Nat} {Cn : String} {T : u_T} {N st0 en hpc ct : Nat} (ci : Nat) (toV : α → Option Value) (As : List Value) {st : List Value} (pre suf : List ExceptionTableEntry) (C : CX p m meth c s args cc nL ret own) (hsplit : c.exceptionTable.toList = pre ++ ⟨st0, en, hpc, ct⟩ :: suf) (hpass : ∀ x ∈ pre, covers x pc = false) (hcov : covers ⟨st0, en, hpc, ct⟩ pc = true) (hct : ct ≠ 0) (hlink : (Cond.classLink own ct "HeirCases$Fault").before args s = true) (hw : WKc g A s s.heap) (hR : RM g s R F_ L_) (hI : CI g A s σ H locs) (hn : ls.size = nL) (h : nn σ r ci (fun a => bdc (f a) K Kc) = some z) (h60 : ci < 59) (hc : ccl[ci]? = some (Cn, T, N))
    (hM : ∀ a u, f a = some u → MetX l y ws rm g A (.ref a :: As) σ toV u (σ.2 3 - σ.2 0) (σ.2 4 - σ.2 1)) (cw : CallW R s args own Cn index y bytes maxL ret' ws rm (σ.2 3 - σ.2 0) (σ.2 4 - σ.2 1) n)
    (hAs : As.length = n) (hst : st = As.reverse ++ va_rf r :: rest) (hrest : rest.length ≤ 4) (hdg : decode cc pc = .ok (.invokevirtual index, 3))
    (kk : ∀ (v : α) (σ1 : cS) (H : Heap) (locs : List Loc), K v σ1 = some z → CI g A s σ1 H locs → W p l e R s m args below meth c H locs (H.size - s.heap.size) (hsl H - hsl s.heap) Q (F0 m (pc + 3) ls ((toV v).toList ++ rest)))
    (kc : ∀ (q0 : Nat) (σ1 : cS) (H : Heap) (locs : List Loc), Kc q0 σ1 = some z → CI g A s σ1 H locs → W p l e R s m args below meth c H locs (H.size - s.heap.size) (hsl H - hsl s.heap) Q (F0 m hpc ls [.ref q0])) : W p l e R s m args below meth c H locs (H.size - s.heap.size) (hsl H - hsl s.heap) Q (F0 m pc ls st) := by
  obtain ⟨a, fs, rfl, h1, h2⟩ := nn_s h
  rcases bdc_s h2 with ⟨v, σ1, e1, h3⟩ | ⟨q0, σ1, e1, h3⟩
  · exact cw_go (va_runV (As := As) (rest := rest) C.1 (hM a _ e1) cw ⟨CPc.blind, cw_recv hw hI h1 h60 hc, fun U hU hW => ⟨rfl, by rw [hU]; exact hw.at hI.2.1 hW, by rw [hU]; exact hI.1⟩⟩ rfl hAs hn hst (by show 2 * 0 + _ ≤ 8; have := room_of hrest; omega) hdg (hR.call hI)) hI (fun H1 locs1 q => kk v σ1 H1 locs1 h3 q)
  · have hr : vx_Run p l e R s m args below meth c H locs (H.size - s.heap.size) (hsl H - hsl s.heap) (σ.2 3 - σ.2 0) (σ.2 4 - σ.2 1) (F0 m pc ls st) rest (fun _ _ _ => False) (CXr g A (0, q0) σ1) A := vx_runV (As := As) (rest := rest) C.1 (hM a _ e1) cw ⟨CPc.blind, cw_recv hw hI h1 h60 hc, fun U hU hW => ⟨rfl, by rw [hU]; exact hw.at hI.2.1 hW, by rw [hU]; exact hI.1⟩⟩ rfl hAs hn hst (by show 2 * 0 + _ ≤ 8; have := room_of hrest; omega) hdg (hR.call hI)
    intro T hT X
    rcases hr T hT X with ⟨v, st₀, t, T', L, h0, X', hL, e2, e3, hF, hgo⟩ | ⟨q, st₀, t, T', L, E, ce, h0, X', hL, e2, e3, ⟨hE, hF0, hF1, ⟨hz, hkp⟩, hs⟩, hce, hv, hcl, st9⟩
    · exact hF.elim
    obtain ⟨rfl, hP⟩ := hF0 rfl
    have hE' : E = "HeirCases$Fault" := hE
    subst hE'
    rw [h0] at hz hkp hs
    have hS := hI.2.1
    have hI1 : CI g A s σ1 T'.heap (locs ++ L) := ⟨by rw [e2]; exact hP, ⟨Nat.le_trans hS.1 (by rw [e2]; exact hz), fun q h1 h2 => by rw [e2, hkp q (Nat.lt_of_lt_of_le h1 hS.1) h2]; exact hS.2.1 q h1 h2, fun q hq => by
      rcases List.mem_append.mp hq with h | h
      · exact hS.2.2 q h
      · exact hL q h⟩, by rw [e2]; exact Nat.le_trans hI.2.2 hs⟩
    obtain ⟨t2, a1, b1⟩ := vx_catch (pc := pc) (ls := ls) (rest := rest) (E := "HeirCases$Fault") (ce := ce) C.o pre ⟨st0, en, hpc, ct⟩ suf hsplit (fun z hz => Or.inl (hpass z hz)) hcov hct hlink (va_Nw.use rfl (hw.2.2.2.2.2.2.1 _ (List.mem_of_getElem? (i := 26) rfl))) (by rw [e2]; exact hce) hv hcl (W.narrow (kc _ σ1 T'.heap (locs ++ L) h3 hI1)) T' rfl X'
    exact ⟨t2, st9.trans a1, b1⟩
end CXH
