/-! THE PLAIN LAW, the class' side: the reader's next token, whole -/
set_option maxRecDepth 1000000
theorem runN_stop {L : List Nat} {p : Nat → Bool} : ∀ j q, runN L p q = j → q + j < L.length → ¬ p (L.getD (q + j) 0) = true := by
  intro j
  induction j with
  | zero =>
    intro q h hl w
    rw [Nat.add_zero] at hl w
    rw [runN_y hl w] at h
    omega
  | succ j ih =>
    intro q h hl
    have hs : p (L.getD q 0) = true := Classical.byContradiction fun w => by
      rw [runN_n (by omega) w] at h
      omega
    rw [runN_y (by omega) hs] at h
    have := ih (q + 1) (by omega) (by omega)
    rw [show q + (j + 1) = q + 1 + j by omega]
    exact this
theorem sgn_15b : ∀ ch, ch < 256 → (decide (sortN ch = 1) || decide (sortN ch = 2) || ((txL.getD 15 []).contains ch && decide (tkI (sortN ch) = 1)) || (!(txL.getD 15 []).contains ch && decide (tkI (sortN ch) = 4))) = true := by decide +kernel
theorem sgn_15 (ch : Nat) (h : ch < 256) (h1 : sortN ch ≠ 1) (h2 : sortN ch ≠ 2) : (ch ∈ txL.getD 15 [] ∧ tkI (sortN ch) = 1) ∨ (ch ∉ txL.getD 15 [] ∧ tkI (sortN ch) = 4) := by
  have := sgn_15b ch h
  rw [decide_eq_false h1, decide_eq_false h2, Bool.false_or, Bool.false_or] at this
  cases hc : (txL.getD 15 []).contains ch with
  | true =>
    rw [hc] at this
    exact Or.inl ⟨List.contains_iff_mem.mp hc, by simpa using this⟩
  | false =>
    rw [hc] at this
    exact Or.inr ⟨fun w => (by rw [List.contains_iff_mem.mpr w] at hc; cases hc), by simpa using this⟩
theorem wdN_b {L : List Nat} {p : Nat} (h8 : ∀ z, z ∈ L → z < 256) : ∀ z, z ∈ wdN L p → z < 256 := fun z hz => h8 z (List.mem_of_mem_drop (List.mem_of_mem_take hz))
section LEX
variable {o : oW} {σ : cS} {rd tp wd p fc nt n m : Nat} {fr tk : Value} {L : List Nat} {at_ fm vl : Int32} {c0 : cE}
theorem KA.cU {e : cE} (hK : KA o σ) (hS : SI o σ) (ho : o rd = (rd + 1, 0)) (hx : σ.1 rd = some c0) : KA o (cU σ rd e) := hK.c ((Ch.rf (L := fun q => q = rd)).cU hx (Or.inr rfl)) hS.1 (fun q _ w => by rw [w, ho]; exact Nat.succ_ne_zero _) (fun _ _ => rfl)
theorem SI.cU {e : cE} (hS : SI o σ) (hx : σ.1 rd = some c0) : SI o (cU σ rd e) := hS.ch ((Ch.rf (L := fun q => q = rd)).cU hx (Or.inr rfl))
theorem rv_fin {vl' : Int32} (hS : SI o σ) (hK : KA o σ) (hX : TX o σ rd tp L) (ho : o rd = (rd + 1, 0)) (hx : σ.1 rd = some c0) (hp : p ≤ L.length) (h1 : tkK L p ≠ 1) (h2 : tkK L p = 2 → vl' = Int32.ofNat (tkV L p)) (hR : Rm σ (40 * (L.length - p) + 200 + n + 2) (200 * (L.length - p) + (L.length - p) + 1000 + m + 4)) {σ' : cS} (he : σ' = cU σ rd (.inr (8, rdF tp L.length fr (Int32.ofNat (tkE L p)) (Int32.ofNat (tkO L p)) (.ref (σ.2 (10 + tkI (tkK L p)))) (.ref wd) vl' (Int32.ofNat fc) (Int32.ofNat nt)))) : RV o σ' rd tp fr L p fc nt n m ∧ RF o σ rd o σ' := by
  subst he
  have := tkE_le hp
  have := tkO_le hp
  exact ⟨⟨⟨hS.cU hx, hK.cU hS ho hx⟩, hX.cU hS ho hx, ho, hp, ⟨wd, vl', cU_s, fun w => absurd w h1, h2⟩, Rm.le (n := 40 * (L.length - p) + 200 + n + 2) (m := 200 * (L.length - p) + (L.length - p) + 1000 + m + 4) hR (by omega) (by omega)⟩, (Ch.rf (L := fun q => (o q).1 = rd + 1)).cU hx (Or.inr (by rw [ho])), fun _ _ => rfl⟩
theorem rv_lex (hS : SI o σ) (hK : KA o σ) (hX : TX o σ rd tp L) (ho : o rd = (rd + 1, 0)) (hp : p ≤ L.length) (hx : σ.1 rd = some (.inr (8, rdF tp L.length fr (Int32.ofNat p) fm tk (.ref wd) vl (Int32.ofNat fc) (Int32.ofNat nt)))) (hR : Rm σ (40 * (L.length - p) + 200 + n + 2) (200 * (L.length - p) + (L.length - p) + 1000 + m + 4)) : ∃ o' σ', m_X2_next rd σ = some (0, σ') ∧ RV o' σ' rd tp fr L p fc nt n m ∧ RF o σ rd o' σ' := by
  have h7 := hX.1.1
  have hO := tkO_le hp
  have hE := tkE_le hp
  unfold m_X2_next
  have e0 := nx_sp (fr := fr) (fm := fm) (tk := tk) (wd := .ref wd) (vl := vl) (fc := Int32.ofNat fc) (nt := Int32.ofNat nt) hS hX ho hx (runN L isSp p) p FU rfl hp (by have := runN_le (L := L) (p := isSp) hp; show _ < 4096; omega)
  rw [cU_id hx] at e0
  rw [e0]
  have eO : p + runN L isSp p = tkO L p := rfl
  rw [eO]
  unfold b_X2_next_60
  rw [gI_J cU_s rfl, rd_p hS ho (by show 4 < 10; decide), rdF_4, gI_J cU_s rfl, gI_J cU_s rfl, iJ_lt (by omega) (by omega)]
  by_cases c : tkO L p < L.length
  · have X1 := hX.cU (e := .inr (8, rdF tp L.length fr (Int32.ofNat (tkO L p)) (Int32.ofNat (tkO L p)) tk (.ref wd) vl (Int32.ofNat fc) (Int32.ofNat nt))) hS ho hx
    have hb := getD_b hX.1.2 c
    have hS1 : tkS L p = sortN (L.getD (tkO L p) 0) := rfl
    have hkk : tkK L p = if tkS L p = 2 ∧ 4 < tkE L p - tkO L p then 3 else tkS L p := by
      unfold tkK
      rw [if_neg (by omega)]
    have hee : tkE L p = if tkS L p = 1 ∨ tkS L p = 2 then tkO L p + 1 + runN L (isS (tkS L p)) (tkO L p + 1) else tkO L p + 1 := by
      unfold tkE
      rw [if_neg (by omega)]
    have w1 := rd_within X1 cU_s (i := tkO L p) (lo := 97) (hi := 122) (by omega) (by decide)
    rw [if_pos c, gI_J cU_s rfl, nn_J cU_s]
    show ∃ o' σ', bd (m_X2_within rd (Int32.ofNat (tkO L p)) (Int32.ofNat 97) (Int32.ofNat 122) _) _ = _ ∧ _
    rw [w1, bd_J, ite_pq (b32_0 _)]
    have s1 := isS_1 (c := L.getD (tkO L p) 0)
    have s2 := isS_2 (c := L.getD (tkO L p) 0)
    by_cases c1 : 97 ≤ L.getD (tkO L p) 0 ∧ L.getD (tkO L p) 0 ≤ 122
    · -- a word
      rw [decide_eq_true c1] at s1
      have t1 : tkS L p = 1 := of_decide_eq_true s1
      rw [t1, if_neg (fun w => absurd w.1 (by decide))] at hkk
      rw [t1, if_pos (Or.inl rfl)] at hee
      have hr : runN L (isS 1) (tkO L p) = tkE L p - tkO L p := by
        rw [runN_y c s1, hee]
        omega
      have hend := tkE_le hp
      have hf : FU = (FU - (tkE L p - tkO L p)) + (tkE L p - tkO L p) := by show 4096 = 4096 - _ + _; omega
      have hlp := nx_le (fr := fr) (fm := Int32.ofNat (tkO L p)) (tk := tk) (wd := .ref wd) (vl := vl) (fc := Int32.ofNat fc) (nt := Int32.ofNat nt) hS hX ho hx (tkE L p - tkO L p) (tkO L p) (FU - (tkE L p - tkO L p)) hr (by omega)
      rw [← hf, show tkO L p + (tkE L p - tkO L p) = tkE L p by omega] at hlp
      rw [decide_eq_true (⟨c, c1⟩ : tkO L p < L.length ∧ 97 ≤ L.getD (tkO L p) 0 ∧ L.getD (tkO L p) 0 ≤ 122), if_neg (by decide), hlp]
      generalize hσa : cU σ rd (.inr (8, rdF tp L.length fr (Int32.ofNat (tkE L p)) (Int32.ofNat (tkO L p)) tk (.ref wd) vl (Int32.ofNat fc) (Int32.ofNat nt))) = σa
      have ga : σa.1 rd = some (.inr (8, rdF tp L.length fr (Int32.ofNat (tkE L p)) (Int32.ofNat (tkO L p)) tk (.ref wd) vl (Int32.ofNat fc) (Int32.ofNat nt))) := by rw [← hσa]; exact cU_s
      have Sa : SI o σa := by rw [← hσa]; exact hS.cU hx
      have Xa : TX o σa rd tp L := by rw [← hσa]; exact hX.cU hS ho hx
      have na : σa.2 = σ.2 := by rw [← hσa]; rfl
      have Ca : Ch (fun q => (o q).1 = rd + 1) σ σa := by rw [← hσa]; exact Ch.rf.cU hx (Or.inr (by rw [ho]))
      obtain ⟨f, hf1⟩ : ∃ f, FU - (tkE L p - tkO L p) = f + 1 := ⟨4095 - (tkE L p - tkO L p), by show 4096 - _ = _; omega⟩
      have w3 := rd_within Xa ga (i := tkE L p) (lo := 97) (hi := 122) (by omega) (by decide)
      have hstop : ¬ (tkE L p < L.length ∧ 97 ≤ L.getD (tkE L p) 0 ∧ L.getD (tkE L p) 0 ≤ 122) := fun w => by
        have := runN_stop (p := isS 1) _ _ hr (by omega)
        rw [show tkO L p + (tkE L p - tkO L p) = tkE L p by omega, isS_1] at this
        exact this (decide_eq_true w.2)
      rw [decide_eq_false hstop] at w3
      have hRa : Rm σa 2 (4 + (tkE L p - tkO L p)) := by
        have r1 := hR.1
        have r2 := hR.2
        unfold Rm
        rw [na]
        omega
      obtain ⟨σb, g, b1, b2, b3, b4, b5, ⟨b6, b7⟩, b8⟩ := Xa.sub Sa (a := tkO L p) (b := tkE L p) (by omega) (by omega) (fun i hi1 hi2 => by
        have := runN_at (L := L) (p := isS 1) (i - tkO L p) (tkO L p) (by omega)
        rw [show tkO L p + (i - tkO L p) = i by omega] at this
        exact of_decide_eq_true this) hRa
      rw [na] at b1 b2 b3 b6 b7 b8
      have gb := b5.c Sa.1 ga id
      have hrd := hS.lt hx
      have Sb : SI o σb := Sa.ch b5
      rw [hf1, b_X2_next_104, gI_J ga rfl, nn_J ga]
      show ∃ o' σ', bd (m_X2_within rd (Int32.ofNat (tkE L p)) (Int32.ofNat 97) (Int32.ofNat 122) _) _ = _ ∧ _
      rw [w3, bd_J, if_pos (show b32 false = 0 from rfl), gR_J ga rfl, gI_J ga rfl, gI_J ga rfl, icl_J, b1, bd_J, icl_J]
      have hts : dsp σb [(12, m_J4_toString (σ.2 0) σb)] (σ.2 0) = some (some (σ.2 0), σb) := by
        show (if isO σb (σ.2 0) 12 = true then m_J4_toString (σ.2 0) σb else _) = _
        rw [isO_J b2, if_pos (by decide)]
        rfl
      rw [hts, bd_J, pO_J gb (by show 6 < 10; decide) (Sb.w ho), rdF_6, rd_p Sb ho (by show 5 < 10; decide), rdF_5]
      have e12 : (cU σb rd (.inr (8, rdF tp L.length fr (Int32.ofNat (tkE L p)) (Int32.ofNat (tkO L p)) tk (va_rf (some (σ.2 0))) vl (Int32.ofNat fc) (Int32.ofNat nt)))).2 12 = σ.2 12 := by
        rw [cU_2, b8 12 (by decide)]
      rw [e12]
      generalize hσc : cU σb rd (.inr (8, rdF tp L.length fr (Int32.ofNat (tkE L p)) (Int32.ofNat (tkO L p)) (va_rf (some (σ.2 12))) (va_rf (some (σ.2 0))) vl (Int32.ofNat fc) (Int32.ofNat nt))) = σc
      have nc : σc.2 = σb.2 := by rw [← hσc]; rfl
      have gc : σc.1 rd = some (.inr (8, rdF tp L.length fr (Int32.ofNat (tkE L p)) (Int32.ofNat (tkO L p)) (.ref (σ.2 12)) (.ref (σ.2 0)) vl (Int32.ofNat fc) (Int32.ofNat nt))) := by rw [← hσc]; exact cU_s
      have gw : σc.1 (σ.2 0) = some (.inr (12, [.ref (σ.2 0 + 1), .int 0, .int 0, .int 0])) := by rw [← hσc, cU_n (by omega)]; exact b2
      have gy : σc.1 (σ.2 0 + 1) = some (.inl (1, tkE L p - tkO L p, .inl g)) := by rw [← hσc, cU_n (by omega)]; exact b3
      have Cc : Ch (fun q => (o q).1 = rd + 1) σ σc := by
        rw [← hσc]
        exact (Ca.then b5 (fun _ _ w => w.elim)).cU gb (Or.inr (by rw [ho]))
      have oo : ∀ q, q < σ.2 0 → oN o (σ.2 0) (rd + 1, 5) q = o q := fun q hq => oN_n (by omega)
      have hS2 := hS.2.1
      have S' : SI (oN o (σ.2 0) (rd + 1, 5)) σc := SI.oN (v := (rd + 1, 5)) (hS.ch Cc) ⟨by rw [nc, b8 2 (by decide)]; exact hS2, by rw [gw]; exact fun w => (by cases w), by show σc.1 rd ≠ none; rw [gc]; exact fun w => (by cases w)⟩
      refine ⟨_, σc, rfl, ⟨⟨S', hK.c Cc hS.1 (fun q _ w => by rw [w]; exact Nat.succ_ne_zero _) oo⟩, hX.c Cc hS.1 (fun q _ w => w) oo, by rw [oo rd hrd]; exact ho, hp, ⟨σ.2 0, vl, ?_, fun _ => ⟨oN_s, σ.2 0 + 1, 0, 0, g, ?_, gw, ?_, fun i hi => ?_, Or.inl rfl, Or.inl rfl⟩, fun w => by omega⟩, ?_⟩, Cc, oo⟩
      · rw [hkk, nc, show 10 + tkI 1 = 12 from rfl, b8 12 (by decide)]
        exact gc
      · rw [oN_n (by omega)]
        exact hS.fr (by omega)
      · rw [wdN_len hp]
        exact gy
      · rw [wdN_len hp] at hi
        rw [b4 i hi, wdN_at hi]
      · have r1 := hR.1
        have r2 := hR.2
        unfold Rm
        rw [nc, b6, b7, b8 3 (by decide), b8 4 (by decide)]
        omega
    · rw [decide_eq_false (fun w => c1 w.2), if_pos rfl, gI_J cU_s rfl, nn_J cU_s]
      rw [decide_eq_false c1] at s1
      have t1 : tkS L p ≠ 1 := of_decide_eq_false s1
      have w2 := rd_within X1 cU_s (i := tkO L p) (lo := 48) (hi := 57) (by omega) (by decide)
      show ∃ o' σ', bd (m_X2_within rd (Int32.ofNat (tkO L p)) (Int32.ofNat 48) (Int32.ofNat 57) _) _ = _ ∧ _
      rw [w2, bd_J, ite_pq (b32_0 _)]
      by_cases c2 : 48 ≤ L.getD (tkO L p) 0 ∧ L.getD (tkO L p) 0 ≤ 57
      · -- a number
        rw [decide_eq_true c2] at s2
        have t2 : tkS L p = 2 := of_decide_eq_true s2
        rw [t2] at hkk
        rw [t2, if_pos (Or.inr rfl)] at hee
        have hr : runN L (isS 2) (tkO L p) = tkE L p - tkO L p := by
          rw [runN_y c s2, hee]
          omega
        have hq : ∀ i, tkO L p ≤ i → i < tkE L p → 48 ≤ L.getD i 0 ∧ L.getD i 0 ≤ 57 := fun i hi1 hi2 => by
          have := runN_at (L := L) (p := isS 2) (i - tkO L p) (tkO L p) (by omega)
          rw [show tkO L p + (i - tkO L p) = i by omega, isS_2] at this
          exact of_decide_eq_true this
        rw [decide_eq_true (⟨c, c2⟩ : tkO L p < L.length ∧ 48 ≤ L.getD (tkO L p) 0 ∧ L.getD (tkO L p) 0 ≤ 57), if_neg (by decide), rd_p hS ho (by show 7 < 10; decide), rdF_7]
        have hf : FU = (FU - (tkE L p - tkO L p)) + (tkE L p - tkO L p) := by show 4096 = 4096 - _ + _; omega
        have hlp := nx_di (fr := fr) (tk := tk) (wd := .ref wd) (fc := Int32.ofNat fc) (nt := Int32.ofNat nt) hS hX ho hx hq (by omega) (tkE L p - tkO L p) (tkO L p) (FU - (tkE L p - tkO L p)) (by omega) (Nat.le_refl _)
        rw [← hf, show tkO L p + (tkE L p - tkO L p) = tkE L p by omega, Nat.sub_self] at hlp
        rw [show (cU σ rd (.inr (8, rdF tp L.length fr (Int32.ofNat (tkO L p)) (Int32.ofNat (tkO L p)) tk (.ref wd) 0 (Int32.ofNat fc) (Int32.ofNat nt)))) = cU σ rd (.inr (8, rdF tp L.length fr (Int32.ofNat (tkO L p)) (Int32.ofNat (tkO L p)) tk (.ref wd) (vlN L (tkO L p) 0) (Int32.ofNat fc) (Int32.ofNat nt))) from rfl, hlp]
        obtain ⟨f, hf1⟩ : ∃ f, FU - (tkE L p - tkO L p) = f + 1 := ⟨4095 - (tkE L p - tkO L p), by show 4096 - _ = _; omega⟩
        have X3 := hX.cU (e := .inr (8, rdF tp L.length fr (Int32.ofNat (tkE L p)) (Int32.ofNat (tkO L p)) tk (.ref wd) (vlN L (tkO L p) (tkE L p - tkO L p)) (Int32.ofNat fc) (Int32.ofNat nt))) hS ho hx
        have w3 := rd_within X3 cU_s (i := tkE L p) (lo := 48) (hi := 57) (by omega) (by decide)
        have hstop : ¬ (tkE L p < L.length ∧ 48 ≤ L.getD (tkE L p) 0 ∧ L.getD (tkE L p) 0 ≤ 57) := fun w => by
          have := runN_stop (p := isS 2) _ _ hr (by omega)
          rw [show tkO L p + (tkE L p - tkO L p) = tkE L p by omega, isS_2] at this
          exact this (decide_eq_true w.2)
        rw [decide_eq_false hstop] at w3
        rw [hf1, b_X2_next_188, gI_J cU_s rfl, nn_J cU_s]
        show ∃ o' σ', bd (m_X2_within rd (Int32.ofNat (tkE L p)) (Int32.ofNat 48) (Int32.ofNat 57) _) _ = _ ∧ _
        rw [w3, bd_J, if_pos (show b32 false = 0 from rfl), gI_J cU_s rfl, gI_J cU_s rfl, J_sub (by omega), iJ_leL (by omega) (by decide)]
        unfold b_X2_next_287
        by_cases c5 : tkE L p - tkO L p ≤ 4
        · rw [if_neg (by omega)] at hkk
          rw [if_pos (show tkE L p - tkO L p ≤ OfNat.ofNat 4 from c5), rd_p hS ho (by show 5 < 10; decide), rdF_5]
          obtain ⟨V, F⟩ := rv_fin (fr := fr) (wd := wd) (vl' := vlN L (tkO L p) (tkE L p - tkO L p)) (fc := fc) (nt := nt) hS hK hX ho hx hp (by omega) (fun _ => by
            unfold vlN tkV
            congr 2
            split <;> omega) hR rfl
          refine ⟨o, _, ?_, V, F⟩
          rw [hkk]
          rfl
        · rw [if_pos ⟨rfl, by omega⟩] at hkk
          rw [if_neg (show ¬ tkE L p - tkO L p ≤ OfNat.ofNat 4 from c5), rd_p hS ho (by show 5 < 10; decide), rdF_5]
          obtain ⟨V, F⟩ := rv_fin (fr := fr) (wd := wd) (vl' := vlN L (tkO L p) (tkE L p - tkO L p)) (fc := fc) (nt := nt) hS hK hX ho hx hp (by omega) (fun w => by omega) hR rfl
          refine ⟨o, _, ?_, V, F⟩
          rw [hkk]
          rfl
      · -- a sign, or nothing of it
        rw [decide_eq_false (fun w => c2 w.2), if_pos rfl]
        rw [decide_eq_false c2] at s2
        have t2 : tkS L p ≠ 2 := of_decide_eq_false s2
        rw [if_neg (by omega)] at hkk hee
        have K1 := hK.cU (e := .inr (8, rdF tp L.length fr (Int32.ofNat (tkO L p)) (Int32.ofNat (tkO L p)) tk (.ref wd) vl (Int32.ofNat fc) (Int32.ofNat nt))) hS ho hx
        have h35 := (K1.2.1 15 (by decide)).s
        have h35b : ∀ z, z ∈ txL.getD 15 [] → z < 256 := by decide
        have hfin : ∀ k, k = tkI (tkK L p) → b_X2_next_324 rd (some rd) (some (σ.2 (10 + k))) (cU σ rd (.inr (8, rdF tp L.length fr (Int32.ofNat (tkO L p)) (Int32.ofNat (tkO L p)) tk (.ref wd) vl (Int32.ofNat fc) (Int32.ofNat nt)))) = some (0, cU σ rd (.inr (8, rdF tp L.length fr (Int32.ofNat (tkE L p)) (Int32.ofNat (tkO L p)) (.ref (σ.2 (10 + tkI (tkK L p)))) (.ref wd) vl (Int32.ofNat fc) (Int32.ofNat nt)))) := by
          intro k hk
          unfold b_X2_next_324
          rw [rd_p hS ho (by show 5 < 10; decide), rdF_5, gI_J cU_s rfl, rd_p hS ho (by show 3 < 10; decide), rdF_3, J_addL, hee, hk]
          rfl
        obtain ⟨V, F⟩ := rv_fin (fr := fr) (wd := wd) (vl' := vl) (fc := fc) (nt := nt) hS hK hX ho hx hp (by omega) (fun w => by omega) hR rfl
        refine ⟨o, _, ?_, V, F⟩
        rw [gR_J cU_s rfl, gI_J cU_s rfl, X1.at c]
        show nn _ (some ((cU σ rd _).2 (20 + 15))) 12 _ = _
        have hsg : (L.getD (tkO L p) 0 ∈ txL.getD 15 [] ∧ tkI (tkK L p) = 1) ∨ (L.getD (tkO L p) 0 ∉ txL.getD 15 [] ∧ tkI (tkK L p) = 4) := by
          have := sgn_15 _ hb t1 t2
          rw [hkk, hS1]
          exact this
        rw [h35.nn]
        rcases h35.idx h35b (by decide) hb with ⟨m1, m2⟩ | ⟨i, hi, m1, m2⟩
        · rw [m2, bd_J, if_pos (by decide)]
          rcases hsg with ⟨w, -⟩ | ⟨-, w⟩
          · exact absurd w m1
          · exact hfin 4 w.symm
        · rw [m2, bd_J, if_neg (by rw [J_nn (by omega)]; exact id)]
          rcases hsg with ⟨-, w⟩ | ⟨w, -⟩
          · exact hfin 1 w.symm
          · exact absurd m1 w
  · -- the end
    have hkk : tkK L p = 0 := by unfold tkK; rw [if_pos (by omega)]
    have hee : tkE L p = tkO L p := by unfold tkE; rw [if_pos (by omega)]
    rw [if_neg c, rd_p hS ho (by show 5 < 10; decide), rdF_5]
    obtain ⟨V, F⟩ := rv_fin (fr := fr) (wd := wd) (vl' := vl) (fc := fc) (nt := nt) hS hK hX ho hx hp (by omega) (fun w => by omega) hR rfl
    refine ⟨o, _, ?_, V, F⟩
    rw [hkk, hee]
    rfl
end LEX
