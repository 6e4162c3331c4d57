/-! THE PLAIN LAW, the class' side: what the reader asks of a token, and its faults -/
set_option maxRecDepth 1000000
/-- a reader's call: a fault, as the plain reading tells it, or a result -/
def CR {α β : Type} (Fr : oW → cS → Prop) (r : Option (cX β × cS)) (x : PR α) (Q : α → β → oW → cS → Prop) : Prop := match x with
  | .inl e => ∃ o' σ' q a c, r = some (.inr (0, q), σ') ∧ (Fr o' σ' ∧ SI o' σ') ∧ σ'.1 q = some (.inr (14, [.int (Int32.ofNat a), .int (Int32.ofNat c)])) ∧ e = 8 * a + c ∧ a ≤ 700 ∧ c < 8
  | .inr a => ∃ o' σ' v, r = some (.inl v, σ') ∧ Fr o' σ' ∧ Q a v o' σ'
theorem CR.bd {α α' β β' : Type} {Fr Fr' : oW → cS → Prop} {r : Option (cX β × cS)} {x : PR α} {Q : α → β → oW → cS → Prop} {K : β → cS → Option (cX β' × cS)} {f : α → PR α'} {Q' : α' → β' → oW → cS → Prop} (h : CR Fr r x Q) (hf : ∀ o σ, Fr o σ → Fr' o σ) (k : ∀ a v o1 σ1, Fr o1 σ1 → Q a v o1 σ1 → CR Fr' (K v σ1) (f a) Q') : CR Fr' (bdx r K) (pb x f) Q' := by
  cases x with
  | inl e =>
    obtain ⟨o', σ', q, a, c, e1, ⟨e2, e3⟩, e4⟩ := h
    exact ⟨o', σ', q, a, c, by rw [e1, bdx_r], ⟨hf _ _ e2, e3⟩, e4⟩
  | inr a =>
    obtain ⟨o', σ', v, e1, e2, e3⟩ := h
    show CR Fr' (bdx r K) (f a) Q'
    rw [e1, bdx_l]
    exact k a v o' σ' e2 e3
theorem CR.mono {α β : Type} {Fr Fr' : oW → cS → Prop} {r : Option (cX β × cS)} {x : PR α} {Q Q' : α → β → oW → cS → Prop} (h : CR Fr r x Q) (hf : ∀ o σ, Fr o σ → Fr' o σ) (hq : ∀ a v o σ, Fr o σ → Q a v o σ → Q' a v o σ) : CR Fr' r x Q' := by
  cases x with
  | inl e =>
    obtain ⟨o', σ', q, a, c, e1, ⟨e2, e3⟩, e4⟩ := h
    exact ⟨o', σ', q, a, c, e1, ⟨hf _ _ e2, e3⟩, e4⟩
  | inr a =>
    obtain ⟨o', σ', v, e1, e2, e3⟩ := h
    exact ⟨o', σ', v, e1, hf _ _ e2, hq _ _ _ _ e2 e3⟩
theorem CR.k {α β : Type} {Fr : oW → cS → Prop} {a : α} {v : β} {Q : α → β → oW → cS → Prop} {o : oW} {σ : cS} (h : Fr o σ) (hq : Q a v o σ) : CR Fr (some (.inl v, σ)) (.inr a : PR α) Q := ⟨o, σ, v, rfl, h, hq⟩
theorem CR.a {α β : Type} {Fr : oW → cS → Prop} {r : Option (cX β × cS)} {x y : PR α} {Q : α → β → oW → cS → Prop} (h : CR Fr r x Q) (e : x = y) : CR Fr r y Q := e ▸ h
theorem RF.k {o1 o2 : oW} {σ1 σ2 : cS} {rd : Nat} (h : RF o1 σ1 rd o2 σ2) : ∀ o σ, RF o2 σ2 rd o σ → RF o1 σ1 rd o σ := fun _ _ h' => h.trans h'
/-- the number ahead, below n -/
def rIsG (L : List Nat) (p lo n : Nat) : PR Nat := if tkK L p = 2 then (if lo ≤ tkV L p ∧ tkV L p < n then .inr (tkV L p) else .inl (flt L p 2)) else .inl (flt L p 1)
theorem rIsG_s {L : List Nat} {p lo n : Nat} (hn : 1 ≤ n) : rIs L p lo (n - 1) = rIsG L p lo n := by
  unfold rIs rIsG
  have : (lo ≤ tkV L p ∧ tkV L p ≤ n - 1) = (lo ≤ tkV L p ∧ tkV L p < n) := propext ⟨fun w => ⟨w.1, by omega⟩, fun w => ⟨w.1, by omega⟩⟩
  simp only [this]
theorem rIsG_x {L : List Nat} {p n : Nat} : rIsX L p n = rIsG L p 0 n := by
  unfold rIsX rIsG
  have : (0 ≤ tkV L p ∧ tkV L p < n) = (tkV L p < n) := propext ⟨fun w => w.2, fun w => ⟨Nat.zero_le _, w⟩⟩
  simp only [this]
section RDP
variable {o : oW} {σ : cS} {rd tp p fc nt n m : Nat} {fr : Value} {L : List Nat}
theorem RV.x (h : RV o σ rd tp fr L p fc nt n m) : ∃ (wd : Nat) (vl : Int32), σ.1 rd = some (.inr (8, rdF tp L.length fr (Int32.ofNat (tkE L p)) (Int32.ofNat (tkO L p)) (.ref (σ.2 (10 + tkI (tkK L p)))) (.ref wd) vl (Int32.ofNat fc) (Int32.ofNat nt))) ∧ (tkK L p = 1 → WDc o σ rd wd (wdN L p)) ∧ (tkK L p = 2 → vl = Int32.ofNat (tkV L p)) := h.2.2.2.2.1
theorem RV.nn {β : Type} {K : Nat → Option β} (h : RV o σ rd tp fr L p fc nt n m) : nn σ (some rd) 8 K = K rd := by
  obtain ⟨wd, vl, hx, -⟩ := h.x
  exact nn_J hx
theorem RV.rm (h : RV o σ rd tp fr L p fc nt n m) {a b : Nat} (ha : a ≤ 200 + n) (hb : b ≤ 1000 + m) : Rm σ a b := h.2.2.2.2.2.le (by omega) (by omega)
theorem tkI_lt (k : Nat) : tkI k < 5 := by
  unfold tkI
  split
  · decide
  · split
    · decide
    · split
      · decide
      · split <;> decide
theorem RV.tk (h : RV o σ rd tp fr L p fc nt n m) {j : Nat} (hj : j < 5) : (some (σ.2 (10 + tkI (tkK L p))) = some (σ.2 (10 + j))) = (tkI (tkK L p) = j) := propext ⟨fun w => h.1.2.2.2.1 _ _ (tkI_lt _) hj (Option.some.inj w), fun w => by rw [w]⟩
theorem RV.le (h : RV o σ rd tp fr L p fc nt n m) {n' m' : Nat} (hn : n' ≤ n) (hm : m' ≤ m) : RV o σ rd tp fr L p fc nt n' m' := ⟨h.1, h.2.1, h.2.2.1, h.2.2.2.1, h.2.2.2.2.1, h.2.2.2.2.2.le (by omega) (by omega)⟩
theorem rv_flt {β γ : Type} {Q : γ → β → oW → cS → Prop} (h : RV o σ rd tp fr L p fc nt n m) {c : Nat} (hc : c < 8) : CR (RF o σ rd) (nO σ 59 8 [] fun q σ2 => gI σ2 (some rd) 8 4 fun v => bd (m_X3_init q v (Int32.ofNat c) σ2) fun _ σ4 => (thF σ4 (some q) : Option (cX β × cS))) (.inl (flt L p c) : PR γ) Q := by
  obtain ⟨wd, vl, hx, -⟩ := h.x
  have hS := h.1.1
  have hs2 := hS.2.1
  have hrd := hS.lt hx
  have hR := h.rm (a := 1) (b := 8) (by omega) (by omega)
  have h7 := h.2.1.1.1
  have hO := tkO_le h.2.2.2.1
  rw [nO_J hR.1 hR.2, gI_J (by rw [cN_n (by omega)]; exact hx) rfl]
  unfold m_X3_init exI
  dsimp only
  rw [isO_J cN_s, if_pos ⟨by decide, by rw [cN_k (by decide)]; exact hs2⟩, cN_cU]
  have w1 : (cN σ (.inr (14, [.int 0, .int 0])) 8).2 2 ≤ σ.2 0 := by rw [cN_k (by decide)]; exact hs2
  have C1 : Ch (fun _ => False) σ (cN σ (.inr (14, [.int 0, .int 0])) 8) := Ch.rf.cN
  have g1 : (cN σ (.inr (14, [.int 0, .int 0])) 8).1 (σ.2 0) = some (.inr (14, [.int 0, .int 0])) := cN_s
  generalize cN σ (.inr (14, [.int 0, .int 0])) 8 = σ1 at w1 C1 g1 ⊢
  rw [pO_J g1 (by show 0 < 2; decide) w1, pO_J cU_s (by show 1 < 2; decide) w1, cU_cU, bd_J]
  have C : Ch (fun _ => False) σ (cU σ1 (σ.2 0) (.inr (14, [Value.int (Int32.ofNat (tkO L p)), .int (Int32.ofNat c)]))) := C1.cU g1 (Or.inl (Nat.le_refl _))
  refine ⟨o, cU σ1 (σ.2 0) (.inr (14, [Value.int (Int32.ofNat (tkO L p)), .int (Int32.ofNat c)])), σ.2 0, tkO L p, c, ?_, ⟨⟨C.mono (fun _ _ w => w.elim), fun _ _ => rfl⟩, hS.ch C⟩, cU_s, rfl, by omega, hc⟩
  show thF (cU σ1 (σ.2 0) (.inr (14, [Value.int (Int32.ofNat (tkO L p)), .int (Int32.ofNat c)]))) (some (σ.2 0)) = _
  unfold thF
  dsimp only
  rw [isO_J cU_s, if_pos (by decide)]
theorem RV.next (h : RV o σ rd tp fr L p fc nt n m) (hk : tkK L p ≠ 0) : ∃ o' σ', m_X2_next rd σ = some (0, σ') ∧ RV o' σ' rd tp fr L (tkE L p) fc nt (n + 38) (m + 190) ∧ RF o σ rd o' σ' := by
  obtain ⟨wd, vl, hx, -⟩ := h.x
  have hadv := tkE_adv h.2.2.2.1 hk
  have hE := tkE_le h.2.2.2.1
  exact rv_lex h.1.1 h.1.2 h.2.1 h.2.2.1 hE.2 hx (h.2.2.2.2.2.le (by omega) (by omega))
theorem rd_expect (h : RV o σ rd tp fr L p fc nt n m) {j : Nat} (hj : j < 5) : CR (RF o σ rd) (m_X2_expect rd (some (σ.2 (10 + j))) σ) (if tkI (tkK L p) = j then .inr () else .inl (flt L p 1) : PR Unit) fun _ _ o' σ' => o' = o ∧ σ' = σ := by
  obtain ⟨wd, vl, hx, -⟩ := h.x
  unfold m_X2_expect
  rw [gR_J hx rfl, ite_pq (h.tk hj)]
  by_cases c : tkI (tkK L p) = j
  · rw [if_pos c, if_pos c, xl_J]
    exact CR.k RF.rf ⟨rfl, rfl⟩
  · rw [if_neg c, if_neg c]
    exact rv_flt h (by decide)
theorem isWord_J (h : RV o σ rd tp fr L p fc nt n m) {q : Nat} {s : List Nat} (hs : STR σ q s) (h8 : ∀ z, z ∈ s → z < 256) (hl : s.length < 2000) : m_X2_isWord rd (some q) σ = some (b32 (isW L p s), σ) := by
  obtain ⟨wd, vl, hx, hw, -⟩ := h.x
  have e := h.tk (j := 2) (by decide)
  unfold m_X2_isWord isW
  rw [gR_J hx rfl]
  show (if some (σ.2 (10 + tkI (tkK L p))) = some (σ.2 (10 + 2)) then _ else _) = _
  rw [ite_pq e]
  by_cases c : tkK L p = 1
  · have hwd := (hw c).s
    obtain ⟨b, y, z, f, g1, -⟩ := id hs
    have hle := wdN_len h.2.2.2.1
    have hE := tkE_le h.2.2.2.1
    have h7 := h.2.1.1.1
    rw [if_pos (by rw [c]; rfl), gR_J hx rfl, icl_J]
    have hts : dsp σ [(12, m_J4_toString q σ)] q = some (some q, σ) := by
      show (if isO σ q 12 = true then m_J4_toString q σ else _) = _
      rw [isO_J g1, if_pos (by decide)]
      rfl
    rw [hts, bd_J, hwd.nn, hwd.eqs hs (wdN_b h.2.1.1.2) h8 (by omega) hl, bd_J]
    have : decide (tkK L p = 1 ∧ wdN L p = s) = decide (wdN L p = s) := by
      by_cases c2 : wdN L p = s
      · rw [decide_eq_true ⟨c, c2⟩, decide_eq_true c2]
      · rw [decide_eq_false (fun w => c2 w.2), decide_eq_false c2]
    rw [this]
    cases decide (wdN L p = s) <;> rfl
  · rw [if_neg (fun w => c (by
      have : ∀ k, tkI k = 2 → k = 1 := fun k hk => by
        unfold tkI at hk
        split at hk
        · omega
        · split at hk
          · assumption
          · split at hk
            · omega
            · split at hk <;> omega
      exact this _ w)), decide_eq_false (fun w => c w.1)]
    rfl
theorem tk_sign {k : Nat} (h : tkI k = 1) : 4 ≤ k := by
  unfold tkI at h
  split at h
  · omega
  · split at h
    · omega
    · split at h
      · omega
      · split at h <;> omega
theorem tkK_sign (hk : 4 ≤ tkK L p) : tkO L p < L.length ∧ tkK L p = L.getD (tkO L p) 0 := by
  unfold tkK at hk ⊢
  by_cases c : L.length ≤ tkO L p
  · rw [if_pos c] at hk; omega
  · rw [if_neg c] at hk ⊢
    by_cases c2 : tkS L p = 2 ∧ 4 < tkE L p - tkO L p
    · rw [if_pos c2] at hk; omega
    · rw [if_neg c2] at hk ⊢
      refine ⟨by omega, ?_⟩
      unfold tkS at hk ⊢
      rcases sortN_cases (L.getD (tkO L p) 0) with w | w | w | w
      · omega
      · omega
      · omega
      · exact w.1
theorem isSign_J (h : RV o σ rd tp fr L p fc nt n m) {c : Nat} (hc : 4 ≤ c ∧ c < 256) : m_X2_isSign rd (Int32.ofNat c) σ = some (b32 (decide (tkK L p = c)), σ) := by
  obtain ⟨wd, vl, hx, hw, -⟩ := h.x
  have e := h.tk (j := 1) (by decide)
  unfold m_X2_isSign
  rw [gR_J hx rfl]
  show (if some (σ.2 (10 + tkI (tkK L p))) = some (σ.2 (10 + 1)) then _ else _) = _
  rw [ite_pq e]
  by_cases c1 : tkI (tkK L p) = 1
  · obtain ⟨k1, k2⟩ := tkK_sign (tk_sign c1)
    have hb := getD_b h.2.1.1.2 k1
    rw [if_pos c1, gR_J hx rfl, gI_J hx rfl, h.2.1.at k1, iJ_eq (by omega) (by omega), ← k2]
    by_cases c2 : tkK L p = c
    · rw [if_pos c2, decide_eq_true c2]; rfl
    · rw [if_neg c2, decide_eq_false c2]; rfl
  · rw [if_neg c1, decide_eq_false (fun w => c1 (by
      unfold tkI
      rw [if_neg (by omega), if_neg (by omega), if_neg (by omega), if_neg (by omega)]))]
    rfl
theorem rd_word (h : RV o σ rd tp fr L p fc nt n m) {q : Nat} {s : List Nat} (hs : STR σ q s) (h8 : ∀ z, z ∈ s → z < 256) (hl : s.length < 2000) : CR (RF o σ rd) (m_X2_word rd (some q) σ) (rWord L p s) fun p' _ o' σ' => p' = tkE L p ∧ RV o' σ' rd tp fr L (tkE L p) fc nt (n + 38) (m + 190) := by
  unfold m_X2_word rWord
  rw [h.nn, isWord_J h hs h8 hl, bd_J]
  cases c : isW L p s with
  | false =>
    rw [if_pos (show b32 false = 0 from rfl), if_neg (by decide)]
    exact rv_flt h (by decide)
  | true =>
    have hk : tkK L p ≠ 0 := by
      have := (of_decide_eq_true c).1
      omega
    obtain ⟨o', σ', e, V, F⟩ := h.next hk
    rw [if_neg (by decide), if_pos rfl, h.nn, e, bd_J, xl_J]
    exact CR.k F ⟨rfl, V⟩
theorem rd_sign (h : RV o σ rd tp fr L p fc nt n m) {c : Nat} (hc : 4 ≤ c ∧ c < 256) : CR (RF o σ rd) (m_X2_sign rd (Int32.ofNat c) σ) (rSign L p c) fun p' _ o' σ' => p' = tkE L p ∧ RV o' σ' rd tp fr L (tkE L p) fc nt (n + 38) (m + 190) := by
  unfold m_X2_sign rSign
  rw [h.nn, isSign_J h hc, bd_J]
  by_cases c1 : tkK L p = c
  · obtain ⟨o', σ', e, V, F⟩ := h.next (by omega)
    rw [decide_eq_true c1, if_neg (by decide), if_pos c1, h.nn, e, bd_J, xl_J]
    exact CR.k F ⟨rfl, V⟩
  · rw [decide_eq_false c1, if_pos (show b32 false = 0 from rfl), if_neg c1]
    exact rv_flt h (by decide)
theorem tk_n2 (k : Nat) : (tkI k = 3) = (k = 2) := propext ⟨fun h => by
  unfold tkI at h
  split at h
  · omega
  · split at h
    · omega
    · split at h
      · assumption
      · split at h <;> omega, fun h => by rw [h]; rfl⟩
theorem rd_look (h : RV o σ rd tp fr L p fc nt n m) {lo k : Nat} {hi : Int32} (hlo : lo < 1000) (hh : hi.toInt = (k : Int) - 1) : CR (RF o σ rd) (m_X2_look rd (Int32.ofNat lo) hi σ) (rIsG L p lo k) fun a v o' σ' => ((v = Int32.ofNat a ∧ a = tkV L p) ∧ lo ≤ a ∧ a < k) ∧ tkK L p = 2 ∧ o' = o ∧ σ' = σ := by
  obtain ⟨wd, vl, hx, -, hv⟩ := h.x
  unfold m_X2_look b_X2_look_23 rIsG
  have E := rd_expect h (j := 3) (by decide)
  rw [h.nn]
  show CR _ (bdx (m_X2_expect rd (some (σ.2 (10 + 3))) σ) _) _ _
  by_cases c : tkK L p = 2
  · rw [if_pos ((tk_n2 _).mpr c)] at E
    obtain ⟨o', σ', v, e1, -, e2, e3⟩ := E
    have hvl := hv c
    have ht := tkV_lt c
    have hti := J_int (a := tkV L p) (by omega)
    rw [e1, bdx_l, e3, if_pos c, gI_J hx rfl, hvl, iJ_lt (by omega) (by omega)]
    by_cases c1 : tkV L p < lo
    · rw [if_pos c1, if_neg (by omega)]
      exact rv_flt h (by decide)
    · rw [if_neg c1, gI_J hx rfl, hvl]
      by_cases c2 : tkV L p < k
      · rw [if_pos (by
          refine Int32.le_iff_toInt_le.mpr ?_
          omega), gI_J hx rfl, hvl, xl_J, if_pos ⟨by omega, c2⟩]
        exact CR.k RF.rf ⟨⟨⟨rfl, rfl⟩, by omega, c2⟩, c, rfl, rfl⟩
      · rw [if_neg (fun w => c2 (by
          have := Int32.le_iff_toInt_le.mp w
          omega)), if_neg (fun w => c2 w.2)]
        exact rv_flt h (by decide)
  · rw [if_neg (fun w => c ((tk_n2 _).mp w))] at E
    rw [if_neg c]
    obtain ⟨o', σ', q, a, c', e1, e2⟩ := E
    exact ⟨o', σ', q, a, c', by rw [e1, bdx_r], e2⟩
theorem rd_number (h : RV o σ rd tp fr L p fc nt n m) {lo k : Nat} {hi : Int32} (hlo : lo < 1000) (hh : hi.toInt = (k : Int) - 1) : CR (RF o σ rd) (m_X2_number rd (Int32.ofNat lo) hi σ) (pb (rIsG L p lo k) fun v => .inr (v, tkE L p)) fun a v o' σ' => (v = Int32.ofNat a.1 ∧ lo ≤ a.1 ∧ a.1 < k) ∧ a.2 = tkE L p ∧ RV o' σ' rd tp fr L (tkE L p) fc nt (n + 38) (m + 190) := by
  unfold m_X2_number
  rw [h.nn]
  refine (rd_look h hlo hh).bd (fun _ _ w => w) (fun a v o1 σ1 _ hq => ?_)
  obtain ⟨⟨⟨rfl, e1⟩, e2⟩, e3, e4, e5⟩ := hq
  rw [e5]
  obtain ⟨o', σ', e, V, F⟩ := h.next (by omega)
  rw [h.nn, e, bd_J, xl_J]
  exact CR.k F ⟨⟨rfl, e2⟩, rfl, V⟩
theorem rd_newIn (h : RV o σ rd tp fr L p fc nt n m) {k had : Nat} {hi : Int32} (hk : k ≤ 20) (hhad : had < 2147483648) (hh : hi.toInt = (k : Int) - 1) : CR (RF o σ rd) (m_X2_newIn rd (Int32.ofNat had) hi σ) (pb (rIsG L p 0 k) fun v => if had.testBit v = true then .inl (flt L p 3) else .inr v) fun a v o' σ' => (v = Int32.ofNat a ∧ a < k ∧ had.testBit a = false) ∧ RV o' σ' rd tp fr L (tkE L p) fc nt (n + 38) (m + 190) := by
  unfold m_X2_newIn
  rw [h.nn]
  refine (rd_look (lo := 0) h (by decide) hh).bd (fun _ _ w => w) (fun a v o1 σ1 _ hq => ?_)
  obtain ⟨⟨⟨rfl, e1⟩, e2⟩, e3, e4, e5⟩ := hq
  rw [e5, ite_pq (J_bit hhad (by omega))]
  cases c : had.testBit a with
  | true =>
    rw [if_pos rfl, if_pos rfl]
    exact rv_flt h (by decide)
  | false =>
    rw [if_neg (by decide), if_neg (by decide)]
    obtain ⟨o', σ', e, V, F⟩ := h.next (by omega)
    rw [h.nn, e, bd_J, xl_J]
    exact CR.k F ⟨⟨rfl, e2.2, c⟩, V⟩
end RDP
