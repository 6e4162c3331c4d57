/-! THE PLAIN LAW, the class' side: a simple guard is read -/
set_option maxRecDepth 1000000
theorem RF.w {o o1 : oW} {σ σ1 σ2 : cS} {rd : Nat} {M : Nat → Prop} (F : RF o σ rd o1 σ1) (C : Ch M σ1 σ2) (hM : ∀ q, q < σ.2 0 → ¬ M q) : RF o σ rd o1 σ2 := ⟨F.1.then C (fun q hq w => (hM q hq w).elim), F.2⟩
theorem tkI_1 (k : Nat) : (tkI k = 2) = (k = 1) := propext ⟨fun h => by
  unfold tkI at h
  split at h
  · omega
  · split at h
    · assumption
    · split at h
      · omega
      · split at h <;> omega, fun h => by rw [h]; rfl⟩
section SIM
variable {o : oW} {σ : cS} {rd tp p fc nt n m w : Nat} {fr : Value} {L : List Nat} {d : Nat → Nat}
/-- the counts are set -/
theorem RV.set (h : RV o σ rd tp fr L p fc nt n m) {wd vl} (hx : σ.1 rd = some (.inr (8, rdF tp L.length fr (Int32.ofNat (tkE L p)) (Int32.ofNat (tkO L p)) (.ref (σ.2 (10 + tkI (tkK L p)))) (.ref wd) vl (Int32.ofNat fc) (Int32.ofNat nt))) ∧ (tkK L p = 1 → WDc o σ rd wd (wdN L p)) ∧ (tkK L p = 2 → vl = Int32.ofNat (tkV L p))) (fc' nt' : Nat) : RV o (cU σ rd (.inr (8, rdF tp L.length fr (Int32.ofNat (tkE L p)) (Int32.ofNat (tkO L p)) (.ref (σ.2 (10 + tkI (tkK L p)))) (.ref wd) vl (Int32.ofNat fc') (Int32.ofNat nt')))) rd tp fr L p fc' nt' n m ∧ RF o σ rd o (cU σ rd (.inr (8, rdF tp L.length fr (Int32.ofNat (tkE L p)) (Int32.ofNat (tkO L p)) (.ref (σ.2 (10 + tkI (tkK L p)))) (.ref wd) vl (Int32.ofNat fc') (Int32.ofNat nt')))) := by
  obtain ⟨hx, hw, hv⟩ := hx
  obtain ⟨⟨hS, hK⟩, h2, h3, h4, -, h8⟩ := h
  refine ⟨⟨⟨hS.cU hx, hK.cU hS h3 hx⟩, h2.cU hS h3 hx, h3, h4, ⟨wd, vl, cU_s, fun q => ?_, hv⟩, h8⟩, Ch.rf.cU hx (Or.inr (by rw [h3])), fun _ _ => rfl⟩
  obtain ⟨g1, b, y', z, f, g2, g3, g4, g5⟩ := hw q
  exact ⟨g1, b, y', z, f, g2, by rw [cU_n (fun e => by rw [e, h3] at g1; cases g1)]; exact g3, by rw [cU_n (fun e => by rw [e, h3] at g2; cases g2)]; exact g4, g5⟩
theorem RV.isW (h : RV o σ rd tp fr L p fc nt n m) {k : Nat} (hk : k < 35) (h8 : ∀ z, z ∈ txL.getD k [] → z < 256) (hl : (txL.getD k []).length < 2000) : m_X2_isWord rd (some (σ.2 (20 + k))) σ = some (b32 (isW L p (txL.getD k [])), σ) := isWord_J h (h.1.2.2.1 k hk).s h8 hl
def how_c (k : Nat) : (k ∈ [61, 60, 62] ∧ howN k < 3 ∧ sgN (howN k) = k) ∨ (k ∉ [61, 60, 62] ∧ howN k = 3) := by
  by_cases h1 : k = 61
  · rw [h1]; exact Or.inl (by decide)
  · by_cases h2 : k = 60
    · rw [h2]; exact Or.inl (by decide)
    · by_cases h3 : k = 62
      · rw [h3]; exact Or.inl (by decide)
      · refine Or.inr ⟨by simp [h1, h2, h3], ?_⟩
        unfold howN
        rw [if_neg h1, if_neg h2, if_neg h3]
theorem x7_init {q c f a : Nat} {fs : List Value} (hq : σ.1 q = some (.inr (4, fs))) (hl : fs.length = 4) (hw : σ.2 2 ≤ q) (hc : howN c < 3 ∧ sgN (howN c) = c) : m_X7_init q (Int32.ofNat f) (Int32.ofNat c) (Int32.ofNat a) σ = some (0, cU σ q (.inr (4, [.int (Int32.ofNat f), .int (Int32.ofNat c), .int (Int32.ofNat a), .ref (σ.2 (laN (howN c)))]))) := by
  obtain ⟨v0, v1, v2, v3, rfl⟩ : ∃ v0 v1 v2 v3, fs = [v0, v1, v2, v3] := by
    match fs, hl with
    | [a, b, c, d], _ => exact ⟨a, b, c, d, rfl⟩
  have hcc : c = 61 ∨ c = 60 ∨ c = 62 := by
    unfold howN at hc
    by_cases h1 : c = 61
    · exact Or.inl h1
    · by_cases h2 : c = 60
      · exact Or.inr (Or.inl h2)
      · by_cases h3 : c = 62
        · exact Or.inr (Or.inr h3)
        · rw [if_neg h1, if_neg h2, if_neg h3] at hc; omega
  unfold m_X7_init b_X7_init_69
  rw [pO_J hq (by show 0 < 4; decide) hw, gd_J (by rcases hcc with h | h | h <;> rw [h] <;> decide), pO_J cU_s (by show 1 < 4; decide) hw, cU_cU, pO_J cU_s (by show 2 < 4; decide) hw, cU_cU]
  rcases hcc with h | h | h
  · rw [h, if_neg (by decide), if_neg (by decide), pO_J cU_s (by show 3 < 4; decide) hw, cU_cU]; rfl
  · rw [h, if_pos (by decide), pO_J cU_s (by show 3 < 4; decide) hw, cU_cU]; rfl
  · rw [h, if_neg (by decide), if_pos (by decide), pO_J cU_s (by show 3 < 4; decide) hw, cU_cU]; rfl
/-- what a guard's reading gives -/
def GQ (rd tp w : Nat) (L : List Nat) (d : Nat → Nat) (s D n m : Nat) (a : G4) (v : Option Nat) (o' : oW) (σ' : cS) : Prop := ∃ g, v = some g ∧ RV o' σ' rd tp (.ref w) L a.2.1 a.2.2.1 a.2.2.2 n m ∧ GuardC (gX s 0 0 o') σ' d D g a.1
theorem rd_cmp (hF : FOk d) (hV : VW o σ rd w d) {s : Nat} {o0 : oW} {σ0 : cS} (hs : s = σ0.2 0 ∧ 0 < s) (hS0 : SI o0 σ0) (F0 : RF o0 σ0 rd o σ) (h : RV o σ rd tp (.ref w) L p fc nt n m) {f : Nat} (hf : f < d 0) : CR (RF o0 σ0 rd) (gR σ (some rd) 8 5 fun v_8 => if v_8 = (some (σ.2 11)) then gR σ (some rd) 8 0 fun v_10 => gI σ (some rd) 8 4 fun v_11 => icl v_10 (fun a_14 => dsp σ [(12, m_J4_charAt a_14 v_11 σ), (11, m_J3_charAt a_14 v_11 σ)] a_14) fun v_12 σ_13 => b_X2_simple_152 rd (Int32.ofNat f) v_12 σ_13 else b_X2_simple_152 rd (Int32.ofNat f) 59 σ) (if howN (tkK L p) = 3 then .inl (flt L p 1) else pb (rNum L (tkE L p) 0 (d (1 + f) - 1)) fun a => .inr (.arg (10 + 16 * f + 4 * howN (tkK L p) + a.1), a.2, fc, nt)) (GQ rd tp w L d s 1 (n + 70) (m + 370)) := by
  obtain ⟨wd, vl, hx, -⟩ := h.x
  have e := h.tk (j := 1) (by decide)
  have h48 := (h.1.2.2.1 28 (by decide)).s
  have h48b : ∀ z, z ∈ txL.getD 28 [] → z < 256 := by decide
  have hdf := hF.2 f hf
  -- the sign's char
  have main : ∀ c, c < 256 → howN c = howN (tkK L p) → (howN c < 3 → tkK L p = c) → CR (RF o0 σ0 rd) (b_X2_simple_152 rd (Int32.ofNat f) (Int32.ofNat c) σ) (if howN (tkK L p) = 3 then .inl (flt L p 1) else pb (rNum L (tkE L p) 0 (d (1 + f) - 1)) fun a => .inr (.arg (10 + 16 * f + 4 * howN (tkK L p) + a.1), a.2, fc, nt)) (GQ rd tp w L d s 1 (n + 70) (m + 370)) := by
    intro c hc hh hk
    unfold b_X2_simple_152
    show CR _ (nn σ (some (σ.2 (20 + 28))) 12 _) _ _
    rw [h48.nn]
    rcases h48.idx h48b (by decide) hc with ⟨m1, m2⟩ | ⟨i, hi, m1, m2⟩
    · rcases how_c c with ⟨w1, w2⟩ | ⟨w1, w2⟩
      · exact absurd w1 m1
      · rw [m2, bd_J, if_neg (by decide), if_pos (by rw [← hh]; exact w2)]
        exact (rv_flt h (by decide)).mono F0.k (fun _ _ _ _ _ q => q)
    · rcases how_c c with ⟨w1, w2⟩ | ⟨w1, w2⟩
      · have hkc := hk w2.1
        obtain ⟨o1, σ1, e1, V1, F1⟩ := h.next (by
          intro w3
          rw [← hkc, w3] at w1
          exact absurd w1 (by decide))
        rw [m2, bd_J, if_pos (show (0 : Int32) ≤ Int32.ofNat i from by rw [show (0 : Int32) = Int32.ofNat 0 from rfl, J_le (by decide) (by omega)]; exact Nat.zero_le _), if_neg (by omega), h.nn, e1, bd_J]
        have hS1 := V1.1.1
        have hV1 := hV.f h.1.1 F1
        have hR1 := V1.rm (a := 1) (b := 4) (by omega) (by omega)
        rw [nO_J hR1.1 hR1.2]
        generalize hσ2 : cN σ1 (.inr (4, [.int 0, .int 0, .int 0, .null])) 4 = σ2
        have C2 : Ch (fun _ => False) σ1 σ2 := by rw [← hσ2]; exact Ch.rf.cN
        have q2 : σ2.1 (σ1.2 0) = some (.inr (4, [.int 0, .int 0, .int 0, .null])) := by rw [← hσ2]; exact cN_s
        have V2 : RV o1 σ2 rd tp (.ref w) L (tkE L p) fc nt (n + 37) (m + 186) := RV.wr (x := 1) (y := 4) (V1.le (by omega) (by omega)) C2 (fun _ _ w => w.elim) (fun a b hR => by
          rw [← hσ2]
          exact hR.cN)
        have F12 : RF o1 σ1 rd o1 σ2 := RF.rf.w C2 (fun _ _ w => w)
        have hV2 := hV1.f hS1 F12
        obtain ⟨vwr, vwo, vl2, rest, v1, v2, v3⟩ := hV2
        obtain ⟨wd2, vl3, hx2, -⟩ := V2.x
        have hsub := J_subI (a := d (1 + f)) (b := 1) (by omega) (by decide)
        rw [gR_J hx2 rfl, gR_J v1 rfl, v3.ld hf (by have := hF.1; omega), V2.nn]
        have hnum : rNum L (tkE L p) 0 (d (1 + f) - 1) = pb (rIsG L (tkE L p) 0 (d (1 + f))) fun v => .inr (v, tkE L (tkE L p)) := by
          unfold rNum
          rw [rIsG_s (by omega)]
        rw [hnum]
        have N := rd_number (lo := 0) (k := d (1 + f)) (hi := Int32.ofNat (d (1 + f)) - 1) V2 (by decide) hsub
        refine (N.mono (fun o' σ' F => F0.trans (F1.trans (F12.trans F))) (fun _ _ _ _ F q => (⟨F, q⟩ : RF o1 σ2 rd _ _ ∧ _))).bd (fun _ _ w => w) (fun a v o3 σ3 F3 hq => ?_)
        obtain ⟨F23, ⟨rfl, -, ha⟩, ea, V3⟩ := hq
        have oq : (o1 (σ1.2 0)).1 = 0 := hS1.fr (Nat.le_refl _)
        have q3 : σ3.1 (σ1.2 0) = some (.inr (4, [.int 0, .int 0, .int 0, .null])) := F23.1.c V2.1.1.1 q2 (fun w => by have w' : (o1 (σ1.2 0)).1 = rd + 1 := w; omega)
        have hw3 : σ3.2 2 ≤ σ1.2 0 := by rw [F23.1.k (by decide), C2.k (by decide)]; exact hS1.2.1
        have oq3 : (o3 (σ1.2 0)).1 = 0 := by rw [F23.2 _ (V2.1.1.lt q2)]; exact oq
        have hlo : σ0.2 0 ≤ σ1.2 0 := Nat.le_trans F0.1.2.1 F1.1.2.1
        have C3 : Ch (fun q => q = σ1.2 0) σ3 (cU σ3 (σ1.2 0) (.inr (4, [.int (Int32.ofNat f), .int (Int32.ofNat c), .int (Int32.ofNat a.1), .ref (σ3.2 (laN (howN c)))]))) := Ch.rf.cU q3 (Or.inr rfl)
        rw [x7_init q3 rfl hw3 w2, bd_J, xl_J]
        have hd4 := hF.2 f hf
        have sN : (10 + 16 * f + 4 * howN c + a.1 - 10) / 16 = f ∧ (10 + 16 * f + 4 * howN c + a.1 - 10) / 4 % 4 = howN c ∧ (10 + 16 * f + 4 * howN c + a.1 - 10) % 4 = a.1 := by omega
        rw [← hh]
        refine CR.k (F3.w C3 (fun q hq w => by omega)) ⟨σ1.2 0, rfl, ?_, gX_n (by omega) (by omega) (by omega) oq3, Or.inl ⟨_, rfl, ⟨by omega, by rw [sN.1]; exact hf, by rw [sN.2.2, sN.1]; exact ha, by rw [sN.2.1]; omega⟩, ?_⟩⟩
        · show RV o3 _ rd tp (.ref w) L a.2 fc nt _ _
          rw [ea]
          exact RV.wr (x := 0) (y := 0) (V3.le (by omega) (by omega)) C3 (fun q hq w => ⟨.inr (4, [.int 0, .int 0, .int 0, .null]), by rw [w]; exact q3, Or.inl ⟨4, _, rfl, by decide, by decide, by decide⟩⟩) (fun a b hR => hR)
        · rw [cU_s, sN.1, sN.2.1, sN.2.2, w2.2]
          rfl
      · exact absurd m1 w1
  rw [gR_J hx rfl]
  show CR _ (if some (σ.2 (10 + tkI (tkK L p))) = some (σ.2 (10 + 1)) then _ else _) _ _
  rw [ite_pq e]
  by_cases c1 : tkI (tkK L p) = 1
  · obtain ⟨k1, k2⟩ := tkK_sign (tk_sign c1)
    have hb := getD_b h.2.1.1.2 k1
    rw [if_pos c1, gR_J hx rfl, gI_J hx rfl, h.2.1.at k1]
    exact main _ hb (by rw [← k2]) (fun _ => k2)
  · rw [if_neg c1]
    have hk : tkK L p < 4 := Classical.byContradiction fun w => c1 (by
      unfold tkI
      rw [if_neg (by omega), if_neg (by omega), if_neg (by omega), if_neg (by omega)])
    have h3 : howN (tkK L p) = 3 := by
      unfold howN
      rw [if_neg (by omega), if_neg (by omega), if_neg (by omega)]
    exact main 59 (by decide) (by rw [h3]; rfl) (fun w => absurd w (by decide))
end SIM
