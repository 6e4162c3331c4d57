/-! THE PLAIN LAW, the class' side: the reader's next token -/
set_option maxRecDepth 1000000
/-- the text that is read -/
def TX (o : oW) (σ : cS) (rd tp : Nat) (L : List Nat) : Prop := (L.length ≤ 700 ∧ ∀ z, z ∈ L → z < 256) ∧ ((SC o σ tp L ∧ ∃ i, i < L.length ∧ sortN (L.getD i 0) ≠ 1) ∨ ∃ (x cap n : Nat) (B : List Nat), x ≠ rd ∧ SBx o σ x 4 tp B cap ∧ B.length < cap ∧ (∀ z, z ∈ B → z < 256) ∧ n ≤ B.length ∧ L = B.take n)
theorem TX.c {o o' : oW} {M : Nat → Prop} {σ σ' : cS} {rd tp : Nat} {L : List Nat} (h : TX o σ rd tp L) (hC : Ch M σ σ') (hW : Wf σ) (hM : ∀ q, q < σ.2 0 → M q → (o q).1 = rd + 1) (ho : ∀ q, q < σ.2 0 → o' q = o q) : TX o' σ' rd tp L := by
  obtain ⟨h1, ⟨h2, h3⟩ | ⟨x, cap, n, B, h2, h3, h4⟩⟩ := h
  · exact ⟨h1, Or.inl ⟨h2.c hC hW (fun q hq w => by rw [hM q hq w]; exact Nat.succ_ne_zero _) ho, h3⟩⟩
  · exact ⟨h1, Or.inr ⟨x, cap, n, B, h2, h3.cc hC hW (fun q hq w => by rw [hM q hq w]; omega) ho, h4⟩⟩
theorem take_getD {B : List Nat} {n i : Nat} (hi : i < n) : (B.take n).getD i 0 = B.getD i 0 := by
  rw [List.getD_eq_getElem?_getD, List.getD_eq_getElem?_getD, List.getElem?_take_of_lt hi]
theorem TX.at {β : Type} {K : Int32 → cS → Option β} {o : oW} {σ : cS} {rd tp : Nat} {L : List Nat} (h : TX o σ rd tp L) {i : Nat} (hi : i < L.length) : (icl (some tp) (fun a => dsp σ [(12, m_J4_charAt a (Int32.ofNat i) σ), (11, m_J3_charAt a (Int32.ofNat i) σ)] a) K) = K (Int32.ofNat (L.getD i 0)) σ := by
  obtain ⟨⟨h0, h8⟩, ⟨h2, h3⟩ | ⟨x, cap, n, B, h2, h3, h4, h5, h6, h7⟩⟩ := h
  · have hs := h2.s
    obtain ⟨b, y, z, f, g1, -⟩ := id hs
    rw [icl_J]
    show bd (if isO σ tp 12 = true then m_J4_charAt tp (Int32.ofNat i) σ else _) K = _
    rw [isO_J g1, if_pos (by decide), hs.at h8 hi (by omega), bd_J]
  · obtain ⟨-, b, f, ml, -, g1, -⟩ := id h3
    rw [icl_J]
    show bd (if isO σ tp 12 = true then m_J4_charAt tp (Int32.ofNat i) σ else if isO σ tp 11 = true then m_J3_charAt tp (Int32.ofNat i) σ else _) K = _
    have hl : L.length ≤ n := by rw [h7, List.length_take]; omega
    rw [isO_J g1, isO_J g1, if_neg (by decide), if_pos (by decide), sb_chAt h3 h5 (i := i) (by omega), bd_J, h7, take_getD (by omega)]
theorem ck_ft {a b n : Nat} {x : Option Nat} {σ : cS} (h : a ≤ b) (h2 : b ≤ n) (h3 : n < 2147483648) : m_J7_checkFromToIndex (Int32.ofNat a) (Int32.ofNat b) (Int32.ofNat n) x σ = some (Int32.ofNat a, σ) := by
  unfold m_J7_checkFromToIndex
  rw [if_neg (by rw [J_nn (by omega)]; exact id), iJ_lt (by omega) (by omega), if_neg (by omega), iJ_le (by omega) (by omega), if_pos h2]
theorem TX.sub {o : oW} {σ : cS} {rd tp : Nat} {L : List Nat} (h : TX o σ rd tp L) (hS : SI o σ) {a b : Nat} (ha : a < b) (hb : b ≤ L.length) (hlet : ∀ i, a ≤ i → i < b → sortN (L.getD i 0) = 1) (hR : Rm σ 2 (4 + (b - a))) : ∃ σ' g, dsp σ [(12, m_J4_subSequence tp (Int32.ofNat a) (Int32.ofNat b) σ), (11, m_J3_subSequence tp (Int32.ofNat a) (Int32.ofNat b) σ)] tp = some (some (σ.2 0), σ') ∧ σ'.1 (σ.2 0) = some (.inr (12, [.ref (σ.2 0 + 1), .int 0, .int 0, .int 0])) ∧ σ'.1 (σ.2 0 + 1) = some (.inl (1, b - a, .inl g)) ∧ (∀ i, i < b - a → g i = (Int32.ofNat (L.getD (a + i) 0)).toInt8.toInt32) ∧ Ch (fun _ => False) σ σ' ∧ (σ'.2 0 = σ.2 0 + 2 ∧ σ'.2 1 = σ.2 1 + 4 + (b - a)) ∧ ∀ k, 2 ≤ k → σ'.2 k = σ.2 k := by
  obtain ⟨⟨h0, h8⟩, ⟨h2, k0, hk0, hk1⟩ | ⟨x, cap, n, B, h2, h3, h4, h5, h6, h7⟩⟩ := h
  · have hs := h2.s
    have hlen := hs.len
    obtain ⟨by_, y, z, f, g1, g2, g3⟩ := id hs
    have hx : ¬ (a = 0 ∧ b = L.length) := fun w => hk1 (hlet k0 (by omega) (by omega))
    obtain ⟨σ', g, e, c1, c2, c3, c4⟩ := cl_news (a := a) (n := b - a) hS g2 (by omega) (by omega) (by omega) (by omega) (fun i hi => by rw [g3 i hi, nar_nar]) hR
    refine ⟨σ', g, ?_, c1, c2, fun i hi => by rw [c3 i hi]; exact g3 _ (by omega), c4⟩
    show (if isO σ tp 12 = true then m_J4_subSequence tp (Int32.ofNat a) (Int32.ofNat b) σ else _) = _
    have h22 : b_J4_substring_22 tp (Int32.ofNat a) (Int32.ofNat b) σ = some (some (σ.2 0), σ') := by
      unfold b_J4_substring_22 m_J4_isLatin1
      rw [J_sub (by omega), lt_J, nn_J g1, if_neg (by decide), gI_J g1 rfl, if_pos rfl, show rz (1 : Int32) σ = some (1, σ) from rfl, bd_J, if_neg (by decide), gR_J g1 rfl, e, bd_J]
    rw [isO_J g1, if_pos (by decide)]
    unfold m_J4_subSequence m_J4_substring m_J4_checkBoundsBeginEnd
    rw [nn_J g1, nn_J g1, hlen, bd_J, ck_ft (by omega) hb (by omega), bd_J, bd_J, iJ_eqL (by omega) (by decide)]
    by_cases c : a = 0
    · rw [if_pos (show a = OfNat.ofNat 0 from c), iJ_eq (by omega) (by omega), if_neg (by omega), h22, bd_J]
    · rw [if_neg (show ¬ a = OfNat.ofNat 0 from c), h22, bd_J]
  · have hlat := sb_lat h3
    obtain ⟨o1, by_, f, ml, o2, g1, g2, g3, g4, g5⟩ := id h3
    have hl : L.length ≤ n := by rw [h7, List.length_take]; omega
    obtain ⟨σ', g, e, c1, c2, c3, c4⟩ := cl_news (a := a) (n := b - a) hS g2 (by omega) (by omega) (by omega) (by omega) g5 hR
    refine ⟨σ', g, ?_, c1, c2, fun i hi => by rw [c3 i hi, h7, take_getD (by omega)]; exact g4 _ (by omega), c4⟩
    show (if isO σ tp 12 = true then m_J4_subSequence tp (Int32.ofNat a) (Int32.ofNat b) σ else if isO σ tp 11 = true then m_J3_subSequence tp (Int32.ofNat a) (Int32.ofNat b) σ else _) = _
    rw [isO_J g1, isO_J g1, if_neg (by decide), if_pos (by decide)]
    unfold m_J3_subSequence m_J2_subSequence m_J3_substring m_J2_substring
    rw [nn_J g1, nn_J g1, nn_J g1, gI_J g1 rfl, ck_ft (by omega) (by omega) (by omega), bd_J, nn_J g1, hlat, bd_J, if_neg (by decide), gR_J g1 rfl, J_sub (by omega), e, bd_J, bd_J, bd_J, bd_J]
/-- the reader's fields -/
def rdF (tp en : Nat) (fr : Value) (at_ fm : Int32) (tk wd : Value) (vl fc nt : Int32) : List Value := [.ref tp, .int (Int32.ofNat en), fr, .int at_, .int fm, tk, wd, .int vl, .int fc, .int nt]
def tkI (k : Nat) : Nat := if k = 0 then 0 else if k = 1 then 2 else if k = 2 then 3 else if k = 3 then 4 else 1
/-- the reader before the token behind p, which it has looked at -/
def RV (o : oW) (σ : cS) (rd tp : Nat) (fr : Value) (L : List Nat) (p fc nt n m : Nat) : Prop := (SI o σ ∧ KA o σ) ∧ TX o σ rd tp L ∧ o rd = (rd + 1, 0) ∧ p ≤ L.length ∧ (∃ (wd : Nat) (vl : Int32), σ.1 rd = some (.inr (8, rdF tp L.length fr (Int32.ofNat (tkE L p)) (Int32.ofNat (tkO L p)) (.ref (σ.2 (10 + tkI (tkK L p)))) (.ref wd) vl (Int32.ofNat fc) (Int32.ofNat nt))) ∧ (tkK L p = 1 → WDc o σ rd wd (wdN L p)) ∧ (tkK L p = 2 → vl = Int32.ofNat (tkV L p))) ∧ Rm σ (40 * (L.length - p) + 200 + n) (200 * (L.length - p) + (L.length - tkE L p) + 1000 + m)
/-- all that may change while a token is read -/
def RF (o : oW) (σ : cS) (rd : Nat) (o' : oW) (σ' : cS) : Prop := Ch (fun q => (o q).1 = rd + 1) σ σ' ∧ ∀ q, q < σ.2 0 → o' q = o q
theorem RF.rf {o : oW} {σ : cS} {rd : Nat} : RF o σ rd o σ := ⟨Ch.rf, fun _ _ => rfl⟩
theorem RF.trans {o1 o2 o3 : oW} {σ1 σ2 σ3 : cS} {rd : Nat} (h : RF o1 σ1 rd o2 σ2) (h' : RF o2 σ2 rd o3 σ3) : RF o1 σ1 rd o3 σ3 := ⟨h.1.then h'.1 (fun q hq w => by rw [h.2 q hq] at w; exact w), fun q hq => (h'.2 q (Nat.lt_of_lt_of_le hq h.1.2.1)).trans (h.2 q hq)⟩
theorem TX.cU {o : oW} {σ : cS} {rd tp : Nat} {L : List Nat} {e e0 : cE} (h : TX o σ rd tp L) (hS : SI o σ) (ho : o rd = (rd + 1, 0)) (hx : σ.1 rd = some e0) : TX o (cU σ rd e) rd tp L := h.c ((Ch.rf (L := fun q => q = rd)).cU hx (Or.inr rfl)) hS.1 (fun q _ w => by rw [w, ho]) (fun _ _ => rfl)
section NXT
variable {o : oW} {σ : cS} {rd tp en : Nat} {fr tk wd v : Value} {L : List Nat} {at_ fm vl fc nt y : Int32} {c0 : cE}
theorem rdF_3 : (rdF tp en fr at_ fm tk wd vl fc nt).set 3 (.int y) = rdF tp en fr y fm tk wd vl fc nt := rfl
theorem rdF_4 : (rdF tp en fr at_ fm tk wd vl fc nt).set 4 (.int y) = rdF tp en fr at_ y tk wd vl fc nt := rfl
theorem rdF_5 : (rdF tp en fr at_ fm tk wd vl fc nt).set 5 v = rdF tp en fr at_ fm v wd vl fc nt := rfl
theorem rdF_6 : (rdF tp en fr at_ fm tk wd vl fc nt).set 6 v = rdF tp en fr at_ fm tk v vl fc nt := rfl
theorem rdF_7 : (rdF tp en fr at_ fm tk wd vl fc nt).set 7 (.int y) = rdF tp en fr at_ fm tk wd y fc nt := rfl
theorem rd_p {β : Type} {K : cS → Option β} {k : Nat} {F : List Value} (hS : SI o σ) (ho : o rd = (rd + 1, 0)) (hk : k < F.length) : pO (cU σ rd (.inr (8, F))) (some rd) 8 k v K = K (cU σ rd (.inr (8, F.set k v))) := by
  rw [pO_J cU_s hk (hS.w ho), cU_cU]
theorem rd_within (h : TX o σ rd tp L) (hx : σ.1 rd = some (.inr (8, rdF tp L.length fr at_ fm tk wd vl fc nt))) {i lo hi : Nat} (hi1 : i ≤ L.length) (hlo : lo < 1000 ∧ hi < 1000) : m_X2_within rd (Int32.ofNat i) (Int32.ofNat lo) (Int32.ofNat hi) σ = some (b32 (decide (i < L.length ∧ lo ≤ L.getD i 0 ∧ L.getD i 0 ≤ hi)), σ) := by
  have h7 := h.1.1
  unfold m_X2_within
  rw [gI_J hx rfl, iJ_le (by omega) (by omega)]
  by_cases c : i < L.length
  · have hb := getD_b h.1.2 c
    rw [if_neg (by omega), gR_J hx rfl, h.at c, iJ_lt (by omega) (by omega)]
    by_cases c1 : L.getD i 0 < lo
    · rw [if_pos c1, decide_eq_false (by omega)]
      rfl
    · rw [if_neg c1, gR_J hx rfl, h.at c, iJ_lt (by omega) (by omega)]
      by_cases c2 : hi < L.getD i 0
      · rw [if_pos c2, decide_eq_false (by omega)]
        rfl
      · rw [if_neg c2, decide_eq_true ⟨c, by omega, by omega⟩]
        rfl
  · rw [if_pos (by omega), decide_eq_false (by omega)]
    rfl
theorem nx_sp (hS : SI o σ) (hX : TX o σ rd tp L) (ho : o rd = (rd + 1, 0)) (hx : σ.1 rd = some c0) : ∀ j k f, runN L isSp k = j → k ≤ L.length → j < f → b_X2_next_0 rd f (cU σ rd (.inr (8, rdF tp L.length fr (Int32.ofNat k) fm tk wd vl fc nt))) = b_X2_next_60 rd (cU σ rd (.inr (8, rdF tp L.length fr (Int32.ofNat (k + j)) fm tk wd vl fc nt))) := by
  have h7 := hX.1.1
  intro j
  induction j with
  | zero =>
    intro k f hr hk hf
    obtain ⟨f, rfl⟩ : ∃ f', f = f' + 1 := ⟨f - 1, by omega⟩
    have X1 := hX.cU (e := .inr (8, rdF tp L.length fr (Int32.ofNat k) fm tk wd vl fc nt)) hS ho hx
    rw [b_X2_next_0, gI_J cU_s rfl, gI_J cU_s rfl, iJ_le (by omega) (by omega)]
    by_cases c : L.length ≤ k
    · rw [if_pos c]
      rfl
    · have hb := getD_b hX.1.2 (i := k) (by omega)
      have hs : ¬ (L.getD k 0 = 32 ∨ L.getD k 0 = 10) := fun w => by
        rw [runN_y (by omega) (decide_eq_true w)] at hr
        omega
      rw [if_neg c, gR_J cU_s rfl, gI_J cU_s rfl, X1.at (by omega), iJ_eqL (by omega) (by decide), if_neg (show ¬ L.getD k 0 = OfNat.ofNat 32 from fun w => hs (Or.inl w)), gR_J cU_s rfl, gI_J cU_s rfl, X1.at (by omega), iJ_eqL (by omega) (by decide), if_neg (show ¬ L.getD k 0 = OfNat.ofNat 10 from fun w => hs (Or.inr w))]
      rfl
  | succ j ih =>
    intro k f hr hk hf
    obtain ⟨f, rfl⟩ : ∃ f', f = f' + 1 := ⟨f - 1, by omega⟩
    have X1 := hX.cU (e := .inr (8, rdF tp L.length fr (Int32.ofNat k) fm tk wd vl fc nt)) hS ho hx
    have c : k < L.length := Classical.byContradiction fun w => by
      rw [runN_end (by omega)] at hr
      omega
    have hb := getD_b hX.1.2 c
    have hs : isSp (L.getD k 0) = true := Classical.byContradiction fun w => by
      rw [runN_n c w] at hr
      omega
    have hr' : runN L isSp (k + 1) = j := by
      rw [runN_y c hs] at hr
      omega
    have st : b_X2_next_47 rd (b_X2_next_0 rd f) (cU σ rd (.inr (8, rdF tp L.length fr (Int32.ofNat k) fm tk wd vl fc nt))) = b_X2_next_60 rd (cU σ rd (.inr (8, rdF tp L.length fr (Int32.ofNat (k + (j + 1))) fm tk wd vl fc nt))) := by
      unfold b_X2_next_47
      rw [gI_J cU_s rfl, rd_p hS ho (by show 3 < 10; decide), rdF_3, J_addL]
      refine (ih (k + 1) f hr' (by omega) (by omega)).trans ?_
      rw [show k + 1 + j = k + (j + 1) by omega]
    rw [b_X2_next_0, gI_J cU_s rfl, gI_J cU_s rfl, iJ_le (by omega) (by omega), if_neg (by omega), gR_J cU_s rfl, gI_J cU_s rfl, X1.at c, iJ_eqL (by omega) (by decide)]
    rcases of_decide_eq_true hs with w | w
    · rw [if_pos (show L.getD k 0 = OfNat.ofNat 32 from w)]
      exact st
    · rw [if_neg (show ¬ L.getD k 0 = OfNat.ofNat 32 from fun w2 => by rw [w] at w2; cases w2), gR_J cU_s rfl, gI_J cU_s rfl, X1.at c, iJ_eqL (by omega) (by decide), if_pos (show L.getD k 0 = OfNat.ofNat 10 from w)]
      exact st
theorem isS_1 {c : Nat} : isS 1 c = decide (97 ≤ c ∧ c ≤ 122) := by
  unfold isS sortN
  by_cases h : 97 ≤ c ∧ c ≤ 122
  · rw [if_pos h, decide_eq_true h]; rfl
  · rw [if_neg h, decide_eq_false h]
    refine decide_eq_false ?_
    split
    · decide
    · split <;> omega
theorem isS_2 {c : Nat} : isS 2 c = decide (48 ≤ c ∧ c ≤ 57) := by
  unfold isS sortN
  by_cases h : 97 ≤ c ∧ c ≤ 122
  · rw [if_pos h, decide_eq_false (show ¬ (48 ≤ c ∧ c ≤ 57) by omega)]; rfl
  · rw [if_neg h]
    by_cases h2 : 48 ≤ c ∧ c ≤ 57
    · rw [if_pos h2, decide_eq_true h2]; rfl
    · rw [if_neg h2, decide_eq_false h2]
      refine decide_eq_false ?_
      split <;> omega
theorem nx_le (hS : SI o σ) (hX : TX o σ rd tp L) (ho : o rd = (rd + 1, 0)) (hx : σ.1 rd = some c0) : ∀ j k f, runN L (isS 1) k = j → k ≤ L.length → b_X2_next_104 rd (f + j) (cU σ rd (.inr (8, rdF tp L.length fr (Int32.ofNat k) fm tk wd vl fc nt))) = b_X2_next_104 rd f (cU σ rd (.inr (8, rdF tp L.length fr (Int32.ofNat (k + j)) fm tk wd vl fc nt))) := by
  have h7 := hX.1.1
  intro j
  induction j with
  | zero => intro k f hr hk; rfl
  | succ j ih =>
    intro k f hr hk
    have X1 := hX.cU (e := .inr (8, rdF tp L.length fr (Int32.ofNat k) fm tk wd vl fc nt)) hS ho hx
    have c : k < L.length := Classical.byContradiction fun w => by
      rw [runN_end (by omega)] at hr
      omega
    have hs : isS 1 (L.getD k 0) = true := Classical.byContradiction fun w => by
      rw [runN_n c w] at hr
      omega
    have hr' : runN L (isS 1) (k + 1) = j := by
      rw [runN_y c hs] at hr
      omega
    rw [isS_1] at hs
    have w := rd_within X1 cU_s (i := k) (lo := 97) (hi := 122) (by omega) (by decide)
    rw [decide_eq_true (⟨c, of_decide_eq_true hs⟩ : k < L.length ∧ 97 ≤ L.getD k 0 ∧ L.getD k 0 ≤ 122)] at w
    show b_X2_next_104 rd ((f + j) + 1) _ = _
    rw [b_X2_next_104, gI_J cU_s rfl, nn_J cU_s]
    show bd (m_X2_within rd (Int32.ofNat k) (Int32.ofNat 97) (Int32.ofNat 122) _) _ = _
    rw [w, bd_J, if_neg (by decide), gI_J cU_s rfl, rd_p hS ho (by show 3 < 10; decide), rdF_3, J_addL]
    refine (ih (k + 1) f hr' (by omega)).trans ?_
    rw [show k + 1 + j = k + (j + 1) by omega]
def vlN (L : List Nat) (q k : Nat) : Int32 := Int32.ofNat (valF L q (if k < 4 then k else 4))
theorem nx_di (hS : SI o σ) (hX : TX o σ rd tp L) (ho : o rd = (rd + 1, 0)) (hx : σ.1 rd = some c0) {q e : Nat} (hq : ∀ i, q ≤ i → i < e → 48 ≤ L.getD i 0 ∧ L.getD i 0 ≤ 57) (he : e ≤ L.length) : ∀ j k f, k + j = e → q ≤ k → b_X2_next_188 rd (f + j) (cU σ rd (.inr (8, rdF tp L.length fr (Int32.ofNat k) (Int32.ofNat q) tk wd (vlN L q (k - q)) fc nt))) = b_X2_next_188 rd f (cU σ rd (.inr (8, rdF tp L.length fr (Int32.ofNat (k + j)) (Int32.ofNat q) tk wd (vlN L q (k + j - q)) fc nt))) := by
  have h7 := hX.1.1
  intro j
  induction j with
  | zero => intro k f hr hk; rfl
  | succ j ih =>
    intro k f hr hk
    have X1 := hX.cU (e := .inr (8, rdF tp L.length fr (Int32.ofNat k) (Int32.ofNat q) tk wd (vlN L q (k - q)) fc nt)) hS ho hx
    have c : k < L.length := by omega
    have hd := hq k hk (by omega)
    have w := rd_within X1 cU_s (i := k) (lo := 48) (hi := 57) (by omega) (by decide)
    rw [decide_eq_true (⟨c, hd⟩ : k < L.length ∧ 48 ≤ L.getD k 0 ∧ L.getD k 0 ≤ 57)] at w
    show b_X2_next_188 rd ((f + j) + 1) _ = _
    rw [b_X2_next_188, gI_J cU_s rfl, nn_J cU_s]
    show bd (m_X2_within rd (Int32.ofNat k) (Int32.ofNat 48) (Int32.ofNat 57) _) _ = _
    rw [w, bd_J, if_neg (by decide), gI_J cU_s rfl, gI_J cU_s rfl, J_sub hk, iJ_leR (by decide) (by omega)]
    have fin : ∀ z, z = vlN L q (k + 1 - q) → b_X2_next_248 rd (b_X2_next_188 rd (f + j)) (some rd) z (cU σ rd (.inr (8, rdF tp L.length fr (Int32.ofNat k) (Int32.ofNat q) tk wd (vlN L q (k - q)) fc nt))) = b_X2_next_188 rd f (cU σ rd (.inr (8, rdF tp L.length fr (Int32.ofNat (k + (j + 1))) (Int32.ofNat q) tk wd (vlN L q (k + (j + 1) - q)) fc nt))) := by
      intro z hz
      unfold b_X2_next_248
      rw [rd_p hS ho (by show 7 < 10; decide), rdF_7, gI_J cU_s rfl, rd_p hS ho (by show 3 < 10; decide), rdF_3, J_addL, hz]
      refine (ih (k + 1) f (by omega) (by omega)).trans ?_
      rw [show k + 1 + j = k + (j + 1) by omega]
    by_cases c4 : 4 ≤ k - q
    · rw [if_pos (show OfNat.ofNat 4 ≤ k - q from c4), gI_J cU_s rfl]
      refine fin _ ?_
      unfold vlN
      rw [if_neg (by omega), if_neg (by omega)]
    · rw [if_neg (show ¬ OfNat.ofNat 4 ≤ k - q from c4), gI_J cU_s rfl, gR_J cU_s rfl, gI_J cU_s rfl, X1.at c]
      refine fin _ ?_
      unfold vlN
      rw [if_pos (by omega)]
      have e4 : (if k + 1 - q < 4 then k + 1 - q else 4) = (k - q) + 1 := by
        by_cases c5 : k + 1 - q < 4
        · rw [if_pos c5]; omega
        · rw [if_neg c5]; omega
      rw [e4]
      have hv := valF_lt (L := L) (o := q) (n := k - q) (fun i hi => hq (q + i) (by omega) (by omega)) (k - q) (Nat.le_refl _)
      have hv2 : valF L q (k - q) < 10 ^ 4 := Nat.lt_of_lt_of_le hv (Nat.pow_le_pow_right (by decide) (by omega))
      show 10 * Int32.ofNat (valF L q (k - q)) + Int32.ofNat (L.getD k 0) - 48 = Int32.ofNat (10 * valF L q (k - q) + L.getD (q + (k - q)) 0 - 48)
      rw [show q + (k - q) = k by omega, show (10 : Int32) = Int32.ofNat 10 from rfl, J_mul, J_add, show (48 : Int32) = Int32.ofNat 48 from rfl, J_sub (by omega)]
end NXT
