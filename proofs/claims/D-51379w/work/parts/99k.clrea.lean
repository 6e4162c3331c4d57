/-! THE PLAIN LAW, the class' side: behind the facts -/
set_option maxRecDepth 1000000
section RDT
variable {o : oW} {σ : cS} {rd tp p fc nt n m q5 : Nat} {L : List Nat} {d : Nat → Nat}
/-- what a whole text's reading gives -/
def AQ (σB : cS) (rd tp : Nat) (L : List Nat) (n m : Nat) (W : Wl) (v : Option Nat) (o' : oW) (σ' : cS) : Prop := ∃ w Lw p' fc nt, v = some w ∧ σB.2 0 ≤ w ∧ RV o' σ' rd tp (.ref w) L p' fc nt n m ∧ WB o' σ' rd w Lw W.1 W.2
theorem rd_tail {oB : oW} {σB : cS} (hB : SI oB σB) (hrB : rd < σB.2 0) (F0 : RF oB σB rd o σ) (V : RV o σ rd tp .null L p fc nt n m) (I : IA σ q5 4 (fun i => d (1 + i))) (oq : (o q5).1 = 0) (hd : FcP d ∧ 1 ≤ d 0) (hk : tkK L p ≠ 2) (f : Nat) : CR (RF oB σB rd) (b_X2_read_16 rd (f + 1) (some q5) (Int32.ofNat (d 0)) σ) (pb (rSign L p 59) fun q1 => pb (rWord L q1 wHrs) fun q2 => pb (rNum L q2 1 4) fun h => pb (rWord L h.2 wRes) fun q3 => pb (rNum L q3 0 (h.1 - 1)) fun r => pb (rSign L r.2 59) fun q4 => rLs L FU (upN (upN d 5 h.1) 6 r.1, fun _ => .null) q4) (AQ σB rd tp L n m) := by
  have d4 := hd.1.2.1
  obtain ⟨wd0, vl0, hx0, -⟩ := V.x
  have et := V.tk (j := 3) (by decide)
  rw [b_X2_read_16, iJ_eqL (by omega) (by decide), if_neg (show ¬ d 0 = OfNat.ofNat 0 by show ¬ d 0 = 0; omega), gR_J hx0 rfl]
  show CR _ (if some (σ.2 (10 + tkI (tkK L p))) = some (σ.2 (10 + 3)) then _ else _) _ _
  rw [ite_pq (et.trans (tk_n2 _)), if_neg hk, V.nn]
  show CR _ (bdx (m_X2_sign rd (Int32.ofNat 59) σ) _) _ _
  -- the values
  refine ((rd_sign V (c := 59) (by decide)).mono F0.k (fun _ _ _ _ F' q => (⟨F', q⟩ : RF o σ rd _ _ ∧ _))).bx (fun _ _ q => q) (fun p1 v1 o1 σ1 e1 F1 hq => ?_)
  obtain ⟨F01, rfl, V1⟩ := hq
  have hS1 := V1.1.1
  have hs1 := hS1.2.1
  have I1 : IA σ1 q5 4 (fun i => d (1 + i)) := I.c F01.1 V.1.1.1 (fun e => by have e' : (o q5).1 = rd + 1 := e; omega)
  obtain ⟨f1, c1, c1f⟩ := id I1
  have q5l := I1.lt hS1.1
  have hR1 := V1.rm (a := 1) (b := 4) (by omega) (by omega)
  have hR1a := hR1.1
  have hR1b := hR1.2
  rw [nA_J (by omega) (by omega) (by omega)]
  generalize hs2 : cN σ1 (.inl (0, d 0, .inl (fun _ => 0))) (d 0) = σ2
  have C2 : Ch (fun _ => False) σ1 σ2 := by rw [← hs2]; exact Ch.rf.cN
  have n2 : σ2.2 0 = σ1.2 0 + 1 ∧ σ2.2 1 = σ1.2 1 + d 0 ∧ ∀ k, 2 ≤ k → σ2.2 k = σ1.2 k := by rw [← hs2]; exact ⟨rfl, rfl, fun k hk => cN_k hk⟩
  have v2 : σ2.1 (σ1.2 0) = some (.inl (0, d 0, .inl (fun _ => 0))) := by rw [← hs2]; exact cN_s
  have a2 := C2.c hS1.1 c1 id
  rw [cpI_L0 a2 v2 (by omega) (Nat.le_refl _) ⟨by decide, by omega⟩ (by rw [n2.2.2 2 (by decide)]; exact hs1) rfl]
  generalize hs3 : cU σ2 (σ1.2 0) _ = σ3
  have C3 : Ch (fun _ => False) σ1 σ3 := by rw [← hs3]; exact C2.cU v2 (Or.inl (Nat.le_refl _))
  have n3 : σ3.2 = σ2.2 := by rw [← hs3]; rfl
  have I3 : IA σ3 (σ1.2 0) (d 0) (fun i => d (1 + i)) := ⟨va_cpy f1 (fun _ => 0) 0 0 (d 0), by rw [← hs3]; exact cU_s, fun i hi => by
    rw [pk_cpy_in (by omega) (by omega), Nat.zero_add, Nat.sub_zero]
    exact c1f i (by omega)⟩
  have V3 : RV o1 σ3 rd tp .null L (tkE L p) fc nt (n + 37) (m + 186) := RV.wr (x := 1) (y := 4) (V1.le (by omega) (by omega)) C3 (fun _ _ e => e.elim) (fun a b h => by
    have h1 := h.1
    have h2 := h.2
    unfold Rm
    rw [n3, n2.1, n2.2.1, n2.2.2 3 (by decide), n2.2.2 4 (by decide)]
    omega)
  have F3 : RF oB σB rd o1 σ3 := F1.w C3 (fun _ _ e => e)
  have ov3 : (o1 (σ1.2 0)).1 = 0 := hS1.fr (Nat.le_refl _)
  generalize σ1.2 0 = vl at I3 ov3 ⊢
  clear hs3 v2 a2 hs2
  -- the heirs
  have s33 : STR σ3 (σ3.2 33) wHrs := (V3.1.2.2.1 13 (by decide)).s
  rw [V3.nn]
  refine ((rd_word V3 s33 (by decide) (by decide)).mono F3.k (fun _ _ _ _ F' q => (⟨F', q⟩ : RF o1 σ3 rd _ _ ∧ _))).bx (fun _ _ q => q) (fun p4 w4 o4 σ4 e4 F4 hq => ?_)
  obtain ⟨F34, rfl, V4⟩ := hq
  rw [V4.nn, rNum_G (k := 5) rfl]
  refine ((rd_number (lo := 1) (k := 5) (hi := 4) V4 (by decide) (by decide)).mono F4.k (fun _ _ _ _ F' q => (⟨F', q⟩ : RF o4 σ4 rd _ _ ∧ _))).bx (fun _ _ q => q) (fun h w5 o5 σ5 e5 F5 hq => ?_)
  obtain ⟨F45, ⟨rfl, hh1, hh2⟩, eh, V5⟩ := hq
  rw [← eh] at V5
  have s34 : STR σ5 (σ5.2 34) wRes := (V5.1.2.2.1 14 (by decide)).s
  rw [V5.nn]
  refine ((rd_word V5 s34 (by decide) (by decide)).mono F5.k (fun _ _ _ _ F' q => (⟨F', q⟩ : RF o5 σ5 rd _ _ ∧ _))).bx (fun _ _ q => q) (fun p6 w6 o6 σ6 e6 F6 hq => ?_)
  obtain ⟨F56, rfl, V6⟩ := hq
  have F36 := F34.trans (F45.trans F56)
  have hS6 := V6.1.1
  have hs6 := hS6.2.1
  have vl6 := I3.lt V3.1.1.1
  have I6 : IA σ6 vl (d 0) (fun i => d (1 + i)) := I3.c F36.1 V3.1.1.1 (fun e => by have e' : (o1 vl).1 = rd + 1 := e; omega)
  have ov6 : (o6 vl).1 = 0 := by rw [F36.2 _ vl6]; exact ov3
  -- the will's object
  have hR6 := V6.rm (a := 1) (b := 9) (by omega) (by omega)
  rw [nO_J hR6.1 hR6.2]
  have hwB : σB.2 0 ≤ σ6.2 0 := F6.1.2.1
  generalize hs7 : cN σ6 (.inr (1, [.null, .int 0, .null, .null, .null, .null, .int 0, .int 0, .int 0])) 9 = σ7
  have C7 : Ch (fun _ => False) σ6 σ7 := by rw [← hs7]; exact Ch.rf.cN
  have w7 : σ7.1 (σ6.2 0) = some wBlank := by rw [← hs7]; exact cN_s
  have n7 : σ7.2 0 = σ6.2 0 + 1 ∧ σ7.2 1 = σ6.2 1 + 9 ∧ ∀ k, 2 ≤ k → σ7.2 k = σ6.2 k := by rw [← hs7]; exact ⟨rfl, rfl, fun k hk => cN_k hk⟩
  clear hs7
  have oo7 : ∀ z, z < σ6.2 0 → oN o6 (σ6.2 0) (σ6.2 0 + 1, 0) z = o6 z := fun z hz => oN_n (by omega)
  have ow7 : oN o6 (σ6.2 0) (σ6.2 0 + 1, 0) (σ6.2 0) = (σ6.2 0 + 1, 0) := oN_s
  have S7 : SI (oN o6 (σ6.2 0) (σ6.2 0 + 1, 0)) σ7 := SI.oN (hS6.ch C7) ⟨by rw [n7.2.2 2 (by decide)]; exact hs6, by rw [w7]; exact fun e => by cases e, by show σ7.1 (σ6.2 0) ≠ none; rw [w7]; exact fun e => by cases e⟩
  generalize oN o6 (σ6.2 0) (σ6.2 0 + 1, 0) = o7 at oo7 ow7 S7
  have V7 : RV o7 σ7 rd tp .null L (tkE L h.2) fc nt (n + 37 + 38 + 38 + 37) (m + 186 + 190 + 190 + 181) := RV.al (x := 1) (y := 9) (V6.le (by omega) (by omega)) C7 oo7 S7 (fun a b h => by
    have h1 := h.1
    have h2 := h.2
    unfold Rm
    rw [n7.1, n7.2.1, n7.2.2 3 (by decide), n7.2.2 4 (by decide)]
    omega)
  have F7 : RF oB σB rd o7 σ7 := F6.trans ⟨C7.mono (fun _ _ e => e.elim), oo7⟩
  have I7 : IA σ7 vl (d 0) (fun i => d (1 + i)) := I6.c C7 hS6.1 id
  have ov7 : (o7 vl).1 = 0 := by rw [oo7 _ (I6.lt hS6.1)]; exact ov6
  have hrw : rd < σ6.2 0 := by omega
  generalize σ6.2 0 = w at w7 ow7 hwB hrw ⊢
  have hsub := J_subI (a := h.1) (b := 1) (by omega) (by decide)
  rw [V7.nn, rNum_G (k := h.1) (by omega)]
  refine ((rd_number (lo := 0) (k := h.1) (hi := Int32.ofNat h.1 - 1) V7 (by decide) hsub).mono F7.k (fun _ _ _ _ F' q => (⟨F', q⟩ : RF o7 σ7 rd _ _ ∧ _))).bx (fun _ _ q => q) (fun r w8 o8 σ8 e8 F8 hq => ?_)
  obtain ⟨F78, ⟨rfl, -, hr⟩, er, V8⟩ := hq
  rw [← er] at V8
  have hS8 := V8.1.1
  have w7l := S7.lt w7
  have w8 : σ8.1 w = some wBlank := F78.1.c S7.1 w7 (fun e => by have e' : (o7 w).1 = rd + 1 := e; rw [ow7] at e'; have e2 : w + 1 = rd + 1 := e'; omega)
  have ow8 : o8 w = (w + 1, 0) := by rw [F78.2 _ w7l]; exact ow7
  have I8 : IA σ8 vl (d 0) (fun i => d (1 + i)) := I7.c F78.1 S7.1 (fun e => by have e' : (o7 vl).1 = rd + 1 := e; omega)
  have ov8 : (o8 vl).1 = 0 := by rw [F78.2 _ (I7.lt S7.1)]; exact ov7
  have hWO : WO (upN (upN d 5 h.1) 6 r.1, fun _ => Term.null) := WO.new hd.1 hd.2 ⟨hh1, by omega⟩ hr
  have hD : ∀ j, j ≠ 5 → j ≠ 6 → upN (upN d 5 h.1) 6 r.1 j = d j := fun j q1 q2 => by rw [upN_ne q2, upN_ne q1]
  have e5 : upN (upN d 5 h.1) 6 r.1 5 = h.1 := by rw [upN_ne (by decide), upN_at]
  have e6 : upN (upN d 5 h.1) 6 r.1 6 = r.1 := upN_at
  have hFc := hd.1.1
  have hR8 := V8.2.2.2.2.2
  have ID : IA σ8 vl (upN (upN d 5 h.1) 6 r.1 0) (fun i => upN (upN d 5 h.1) 6 r.1 (1 + i)) := by
    rw [hD 0 (by decide) (by decide)]
    exact I8.g (fun i hi => (hD _ (by omega) (by omega)).symm)
  obtain ⟨σ9, Lw, e9, W9, f9, ⟨S9, K9⟩, C9, R9, -⟩ := cl_winit (t := fun _ => Term.null) (x := 40 * (L.length - r.2) + 200 + n) (y := 200 * (L.length - r.2) + (L.length - tkE L r.2) + 1000 + m) hWO.1.1 (by rw [e5]; omega) hS8 V8.1.2.1 w8 (hS8.w ow8) ID ov8 (by rw [hD 7 (by decide) (by decide), hFc 7 (by decide)]; rfl) (by rw [hD 8 (by decide) (by decide), hFc 8 (by decide)]; rfl) (fun k hk => by
    rw [hD _ (by omega) (by omega), hD _ (by omega) (by omega), hFc _ (by omega), hFc _ (by omega)]
    obtain rfl | rfl | rfl | rfl : k = 0 ∨ k = 1 ∨ k = 2 ∨ k = 3 := by omega
    all_goals decide) (by rw [hD 17 (by decide) (by decide), hFc 17 (by decide)]; rfl) (hR8.le (by omega) (by omega))
  rw [e5, e6] at e9
  have oo9 : ∀ z, z < σ8.2 0 → oWill o8 w (σ8.2 0) z = o8 z := fun z hz => by
    unfold oWill
    rw [oN_n (by omega), oN_n (by omega), oN_n (by omega), oN_n (by omega)]
    by_cases c : z = w
    · rw [c, oN_s, ow8]
    · rw [oN_n c]
  rw [e9, bd_J]
  have V9 : RV (oWill o8 w (σ8.2 0)) σ9 rd tp .null L r.2 fc nt n m := V8.wo C9 (fun z _ e => ⟨⟨wBlank, by rw [e]; exact w8, Or.inl ⟨1, _, rfl, by decide, by decide, by decide⟩⟩, by rw [e, ow8]; exact Nat.succ_ne_zero _⟩) oo9 S9 R9
  have F9 : RF oB σB rd (oWill o8 w (σ8.2 0)) σ9 := ⟨F8.1.then C9 (fun z hz e => by omega), fun z hz => (oo9 z (Nat.lt_of_lt_of_le hz F8.1.2.1)).trans (F8.2 z hz)⟩
  have B9 : WB (oWill o8 w (σ8.2 0)) σ9 rd w Lw (upN (upN d 5 h.1) 6 r.1) (fun _ => Term.null) := ⟨by omega, W9, f9⟩
  generalize oWill o8 w (σ8.2 0) = o9 at V9 F9 B9
  obtain ⟨wd9, vl9, hx9⟩ := V9.x
  obtain ⟨V10, F10⟩ := V9.setF hx9 (.ref w)
  rw [pO_J hx9.1 (show 2 < 10 by decide) (V9.1.1.w V9.2.2.1), show va_rf (some w) = Value.ref w from rfl, rdF_2]
  generalize cU σ9 rd (.inr (8, rdF tp L.length (.ref w) (Int32.ofNat (tkE L r.2)) (Int32.ofNat (tkO L r.2)) (.ref (σ9.2 (10 + tkI (tkK L r.2)))) (.ref wd9) vl9 (Int32.ofNat fc) (Int32.ofNat nt))) = σ10 at V10 F10 ⊢
  have B10 := B9.g hWO.1.1 V9.1.1 F10
  have F010 := F9.trans F10
  rw [V10.nn]
  show CR _ (bdx (m_X2_sign rd (Int32.ofNat 59) σ10) _) _ _
  refine ((rd_sign V10 (c := 59) (by decide)).mono F010.k (fun _ _ _ _ F' q => (⟨F', q⟩ : RF o9 σ10 rd _ _ ∧ _))).bx (fun _ _ q => q) (fun p11 v11 o11 σ11 e11 F11 hq => ?_)
  obtain ⟨F1011, rfl, V11⟩ := hq
  have B11 := B10.g hWO.1.1 V10.1.1 F1011
  have h7 := V11.2.1.1.1
  refine (rd_ls FU FU (upN (upN d 5 h.1) 6 r.1, fun _ => .null) Lw (tkE L r.2) fc nt o11 σ11 (by show _ < 4096; omega) (by show _ < 4096; omega) hWO ⟨Ch.rf, fun _ _ => rfl⟩ (V11.le (n' := n) (m' := m) (by omega) (by omega)) B11).mono (fun o' σ' G => RG.rf hB F11 G hwB) (fun W' v o' σ' _ hq => ?_)
  obtain ⟨ev, Lw', p', fc', nt', V12, B12⟩ := hq
  exact ⟨w, Lw', p', fc', nt', ev, hwB, V12, B12⟩
theorem rd_read {wd : Nat} (hS : SI o σ) (hK : KA o σ) (hX : TX o σ rd tp L) (ho : o rd = (rd + 1, 0)) (hx : σ.1 rd = some (.inr (8, rdF tp L.length .null 0 0 .null (.ref wd) 0 0 0))) (hR : Rm σ (40 * L.length + 200 + n + 2) (200 * L.length + L.length + 1000 + m + 4)) : CR (RF o σ rd) (m_X2_read rd σ) (rAll L) (AQ σ rd tp L n m) := by
  have hrd := hS.lt hx
  obtain ⟨o1, σ1, e1, V1, F1⟩ := rv_lex (p := 0) (fc := 0) (nt := 0) (n := n) (m := m) hS hK hX ho (Nat.zero_le _) hx (by rw [Nat.sub_zero]; exact hR)
  have h7 := hX.1.1
  have hal : rAll L = pb (rWord L 0 wFac) fun q => pb (rFl L FU d0N q) fun a => pb (rSign L a.2 59) fun q1 => pb (rWord L q1 wHrs) fun q2 => pb (rNum L q2 1 4) fun h => pb (rWord L h.2 wRes) fun q3 => pb (rNum L q3 0 (h.1 - 1)) fun r => pb (rSign L r.2 59) fun q4 => rLs L FU (upN (upN a.1 5 h.1) 6 r.1, fun _ => .null) q4 := by
    unfold rAll rFacts
    simp only [pb_pb, pb_r]
  rw [hal]
  unfold m_X2_read
  rw [nn_J hx, e1, bd_J, V1.nn]
  have s32 : STR σ1 (σ1.2 32) wFac := (V1.1.2.2.1 12 (by decide)).s
  refine ((rd_word V1 s32 (by decide) (by decide)).mono F1.k (fun _ _ _ _ F' q => (⟨F', q⟩ : RF o1 σ1 rd _ _ ∧ _))).bx (fun _ _ q => q) (fun p2 v2 o2 σ2 e2 F2 hq => ?_)
  obtain ⟨F12, rfl, V2⟩ := hq
  have hS2 := V2.1.1
  have hR2 := V2.rm (a := 1) (b := 4) (by omega) (by omega)
  rw [nA_L (n := 4) (by decide) hR2.1 hR2.2]
  generalize hs3 : cN σ2 (.inl (0, 4, .inl (fun _ => 0))) 4 = σ3
  have C3 : Ch (fun _ => False) σ2 σ3 := by rw [← hs3]; exact Ch.rf.cN
  have I3 : IA σ3 (σ2.2 0) 4 (fun i => d0N (1 + i)) := ⟨_, by rw [← hs3]; exact cN_s, fun i hi => by
    obtain rfl | rfl | rfl | rfl : i = 0 ∨ i = 1 ∨ i = 2 ∨ i = 3 := by omega
    all_goals rfl⟩
  have V3 : RV o2 σ3 rd tp .null L (tkE L 0) 0 0 n m := RV.wr (x := 1) (y := 4) (V2.le (by omega) (by omega)) C3 (fun _ _ e => e.elim) (fun a b h => by rw [← hs3]; exact h.cN)
  have F3 : RF o σ rd o2 σ3 := F2.w C3 (fun _ _ e => e)
  have oq : (o2 (σ2.2 0)).1 = 0 := hS2.fr (Nat.le_refl _)
  have hle : σ.2 0 ≤ σ2.2 0 := F2.1.2.1
  have hE := (tkE_le V1.2.2.2.1).2
  show CR _ (b_X2_read_16 rd (4095 + 1) (some (σ2.2 0)) 0 σ3) _ _
  rw [b_X2_read_16, if_pos rfl]
  exact rd_fl hS hle (fun _ _ q => q) (fun f a o' σ' F' V' I' oq' ha hk => rd_tail hS hrd F' V' I' oq' ha hk f) 4095 FU d0N (tkE L 0) o2 σ3 (by omega) (by show _ < 4096; omega) FcP.d0 F3 V3 I3 oq
end RDT
