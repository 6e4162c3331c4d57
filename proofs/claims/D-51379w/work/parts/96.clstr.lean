/-! THE PLAIN LAW, the class' side: words -/
set_option maxRecDepth 1000000
theorem byte_and : ∀ c, c < 256 → ((Int32.ofNat c).toInt8.toInt32 &&& 255) = Int32.ofNat c := by decide +kernel
theorem byte_inj {a b : Nat} (ha : a < 256) (hb : b < 256) (h : (Int32.ofNat a).toInt8.toInt32 = (Int32.ofNat b).toInt8.toInt32) : a = b := by
  have h1 := byte_and a ha
  rw [h, byte_and b hb, J_eq (by omega) (by omega)] at h1
  exact h1.symm
theorem getD_b {s : List Nat} (h8 : ∀ z, z ∈ s → z < 256) {i : Nat} (hi : i < s.length) : s.getD i 0 < 256 := by
  rw [List.getD_eq_getElem?_getD, List.getElem?_eq_getElem hi]
  exact h8 _ (List.getElem_mem _)
theorem eq_loop {σ : cS} {b1 b2 n : Nat} {f1 f2 : Nat → Int32} {s1 s2 : List Nat} (h1 : σ.1 b1 = some (.inl (1, n, .inl f1))) (h2 : σ.1 b2 = some (.inl (1, n, .inl f2))) (l1 : s1.length = n) (l2 : s2.length = n) (e1 : ∀ i, i < n → f1 i = (Int32.ofNat (s1.getD i 0)).toInt8.toInt32) (e2 : ∀ i, i < n → f2 i = (Int32.ofNat (s2.getD i 0)).toInt8.toInt32) (q1 : ∀ z, z ∈ s1 → z < 256) (q2 : ∀ z, z ∈ s2 → z < 256) (hn : n < 2000) : ∀ j k f, k + j = n → j < f → b_J6_equals_9 f (some b1) (some b2) (Int32.ofNat k) σ = some (b32 (decide (s1.drop k = s2.drop k)), σ) := by
  intro j
  induction j with
  | zero =>
    intro k f hk hf
    obtain ⟨f, rfl⟩ : ∃ f', f = f' + 1 := ⟨f - 1, by omega⟩
    rw [b_J6_equals_9, aL_J h1 (by show 1 < 6; decide)]
    dsimp only
    rw [iJ_le (by omega) (by omega), if_pos (by omega), List.drop_eq_nil_of_le (by omega), List.drop_eq_nil_of_le (by omega), decide_eq_true rfl]
    rfl
  | succ j ih =>
    intro k f hk hf
    obtain ⟨f, rfl⟩ : ∃ f', f = f' + 1 := ⟨f - 1, by omega⟩
    rw [b_J6_equals_9, aL_J h1 (by show 1 < 6; decide)]
    dsimp only
    rw [iJ_le (by omega) (by omega), if_neg (by omega), aI_J h1 (by omega) (by omega), aI_J h2 (by omega) (by omega), e1 k (by omega), e2 k (by omega)]
    have d1 := drop_c (L := s1) (q := k) (by omega)
    have d2 := drop_c (L := s2) (q := k) (by omega)
    by_cases c : s1.getD k 0 = s2.getD k 0
    · rw [if_pos (by rw [c]), lt_J, J_addL]
      refine (ih (k + 1) f (by omega) (by omega)).trans ?_
      have : decide (s1.drop (k + 1) = s2.drop (k + 1)) = decide (s1.drop k = s2.drop k) := by
        rw [d1, d2, c]
        simp
      rw [this]
    · rw [if_neg (fun w => c (byte_inj (getD_b q1 (by omega)) (getD_b q2 (by omega)) w))]
      have : decide (s1.drop k = s2.drop k) = false := by
        rw [d1, d2]
        exact decide_eq_false (fun w => c (List.cons.inj w).1)
      rw [this]
      rfl
theorem STR.eqs {σ : cS} {a b : Nat} {s1 s2 : List Nat} (h1 : STR σ a s1) (h2 : STR σ b s2) (q1 : ∀ z, z ∈ s1 → z < 256) (q2 : ∀ z, z ∈ s2 → z < 256) (l1 : s1.length < 2000) (l2 : s2.length < 2000) : m_J4_equals a (some b) σ = some (b32 (decide (s1 = s2)), σ) := by
  obtain ⟨b1, x1, z1, f1, g1, g2, g3⟩ := h1
  obtain ⟨b2, x2, z2, f2, k1, k2, k3⟩ := h2
  have he : m_J6_equals (some b1) (some b2) σ = some (b32 (decide (s1 = s2)), σ) := by
    unfold m_J6_equals
    rw [aL_J g2 (by show 1 < 6; decide), aL_J k2 (by show 1 < 6; decide)]
    dsimp only
    rw [iJ_eq (by omega) (by omega)]
    by_cases c : s1.length = s2.length
    · rw [if_pos c]
      rw [← c] at k2 k3
      exact eq_loop g2 k2 rfl c.symm g3 k3 q1 q2 l1 s1.length 0 FU (Nat.zero_add _) (by show _ < 4096; omega)
    · rw [if_neg c, decide_eq_false (fun w => c (by rw [w]))]
      rfl
  have hb : b_J4_equals_36 a (some b) σ = some (b32 (decide (s1 = s2)), σ) := by
    unfold b_J4_equals_36
    rw [gR_J g1 rfl, gR_J k1 rfl, he, bd_J]
    cases decide (s1 = s2) with
    | true => rw [if_neg (by decide)]; rfl
    | false => rw [if_pos (show b32 false = 0 from rfl)]; rfl
  unfold m_J4_equals
  by_cases c : a = b
  · have e : s1 = s2 := by
      rw [← c, g1] at k1
      have eb : b1 = b2 := by
        have := Sum.inr.inj (Option.some.inj k1)
        have := (Prod.mk.inj this).2
        have := (List.cons.inj this).1
        exact Value.ref.inj this
      rw [← eb, g2] at k2
      have el : s1.length = s2.length ∧ f1 = f2 := by
        have := Sum.inl.inj (Option.some.inj k2)
        have := (Prod.mk.inj this).2
        exact ⟨(Prod.mk.inj this).1, Sum.inl.inj (Prod.mk.inj this).2⟩
      refine List.ext_getElem el.1 (fun i h1 h2 => ?_)
      have w1 := g3 i h1
      have w2 := k3 i h2
      rw [el.2, w2] at w1
      have := byte_inj (getD_b q2 h2) (getD_b q1 h1) w1
      rw [List.getD_eq_getElem?_getD, List.getD_eq_getElem?_getD, List.getElem?_eq_getElem h1, List.getElem?_eq_getElem h2] at this
      exact this.symm
    rw [if_pos (by rw [c]), decide_eq_true e]
    rfl
  · rw [if_neg (fun w => c (Option.some.inj w))]
    unfold ins
    rw [nn_J k1, if_neg (by decide), cst_J k1 (by decide) (by decide), if_neg (by decide), gI_J g1 rfl, gI_J k1 rfl, if_pos rfl]
    exact hb
theorem ix_loop {σ : cS} {b1 n c : Nat} {f1 : Nat → Int32} {s1 : List Nat} (h1 : σ.1 b1 = some (.inl (1, n, .inl f1))) (l1 : s1.length = n) (e1 : ∀ i, i < n → f1 i = (Int32.ofNat (s1.getD i 0)).toInt8.toInt32) (q1 : ∀ z, z ∈ s1 → z < 256) (hc : c < 256) (hn : n < 2000) : ∀ j k f, k + j = n → j < f → (c ∉ s1.drop k ∧ b_J6_indexOfChar_7 f (some b1) (Int32.ofNat n) ((Int32.ofNat c).toInt8.toInt32) (Int32.ofNat k) σ = some (-1, σ)) ∨ ∃ i, i < n ∧ c ∈ s1.drop k ∧ b_J6_indexOfChar_7 f (some b1) (Int32.ofNat n) ((Int32.ofNat c).toInt8.toInt32) (Int32.ofNat k) σ = some (Int32.ofNat i, σ) := by
  intro j
  induction j with
  | zero =>
    intro k f hk hf
    obtain ⟨f, rfl⟩ : ∃ f', f = f' + 1 := ⟨f - 1, by omega⟩
    refine Or.inl ⟨by rw [List.drop_eq_nil_of_le (by omega)]; exact List.not_mem_nil, ?_⟩
    rw [b_J6_indexOfChar_7, iJ_le (by omega) (by omega), if_pos (by omega)]
  | succ j ih =>
    intro k f hk hf
    obtain ⟨f, rfl⟩ : ∃ f', f = f' + 1 := ⟨f - 1, by omega⟩
    have d1 := drop_c (L := s1) (q := k) (by omega)
    rw [b_J6_indexOfChar_7, iJ_le (by omega) (by omega), if_neg (by omega), aI_J h1 (by omega) (by omega), e1 k (by omega)]
    by_cases e : s1.getD k 0 = c
    · rw [if_pos (by rw [e])]
      exact Or.inr ⟨k, by omega, by rw [d1, e]; exact List.mem_cons_self, rfl⟩
    · rw [if_neg (fun w => e (byte_inj (getD_b q1 (by omega)) hc w)), lt_J, J_addL]
      rcases ih (k + 1) f (by omega) (by omega) with ⟨w1, w2⟩ | ⟨i, w0, w1, w2⟩
      · refine Or.inl ⟨?_, w2⟩
        rw [d1]
        exact fun w => by
          rcases List.mem_cons.mp w with q | q
          · exact e q.symm
          · exact w1 q
      · refine Or.inr ⟨i, w0, ?_, w2⟩
        rw [d1]
        exact List.mem_cons_of_mem _ w1
theorem STR.idx {σ : cS} {q c : Nat} {s : List Nat} (h : STR σ q s) (h8 : ∀ z, z ∈ s → z < 256) (hl : s.length < 2000 ∧ 0 < s.length) (hc : c < 256) : (c ∉ s ∧ m_J4_indexOf q (Int32.ofNat c) σ = some (-1, σ)) ∨ ∃ i, i < 2000 ∧ c ∈ s ∧ m_J4_indexOf q (Int32.ofNat c) σ = some (Int32.ofNat i, σ) := by
  have hlen := h.len
  obtain ⟨b, x, z, f, h1, h2, h3⟩ := h
  have e : ∀ v, b_J6_indexOfChar_7 FU (some b) (Int32.ofNat s.length) ((Int32.ofNat c).toInt8.toInt32) 0 σ = some (v, σ) → m_J4_indexOf q (Int32.ofNat c) σ = some (v, σ) := fun v hv => by
    unfold m_J4_indexOf m_J4_indexOf_2 m_J4_isLatin1 m_J6_indexOf m_J6_canEncode m_J6_indexOfChar
    rw [nn_J h1, nn_J h1, if_neg (by decide), gI_J h1 rfl, if_pos rfl, show rz (1 : Int32) σ = some (1, σ) from rfl, bd_J, if_neg (by decide), gR_J h1 rfl, nn_J h1, hlen, bd_J, if_neg (by rw [J_nn (by omega)]; exact id), iJ_ltR (by decide) (by omega), if_neg (by show ¬ 255 < c; omega), show rz (1 : Int32) σ = some (1, σ) from rfl, bd_J, if_neg (by decide), if_neg (by decide), lt_J, aL_J h2 (by show 1 < 6; decide)]
    dsimp only
    rw [if_neg (by rw [J_lt (by omega) (by omega)]; omega), lt_J, show (0 : Int32) = Int32.ofNat 0 from rfl, iJ_lt (by decide) (by omega), if_pos hl.2, lt_J, show b_J6_indexOfChar_7 FU (some b) (Int32.ofNat s.length) (Int32.ofNat c).toInt8.toInt32 (Int32.ofNat 0) σ = _ from hv, bd_J, bd_J, bd_J]
  rcases ix_loop h2 rfl h3 h8 hc hl.1 s.length 0 FU (Nat.zero_add _) (by show _ < 4096; omega) with ⟨w1, w2⟩ | ⟨i, w0, w1, w2⟩
  · exact Or.inl ⟨w1, e _ w2⟩
  · exact Or.inr ⟨i, by omega, w1, e _ w2⟩
/-- String's hash -/
def hsF : List Nat → Int32 → Int32
  | [], h => h
  | c :: r, h => hsF r (31 * h + Int32.ofNat c)
def hsh (s : List Nat) : Int32 := hsF s 0
theorem hs_loop {σ : cS} {b1 n : Nat} {f1 : Nat → Int32} {s1 : List Nat} (h1 : σ.1 b1 = some (.inl (1, n, .inl f1))) (l1 : s1.length = n) (e1 : ∀ i, i < n → f1 i = (Int32.ofNat (s1.getD i 0)).toInt8.toInt32) (q1 : ∀ z, z ∈ s1 → z < 256) (hn : n < 2000) : ∀ j k f (v : Int32), k + j = n → j < f → b_J15_signedHashCode_8 f v (some b1) (Int32.ofNat n) (Int32.ofNat k) σ = some (hsF (s1.drop k) v, σ) := by
  intro j
  induction j with
  | zero =>
    intro k f v hk hf
    obtain ⟨f, rfl⟩ : ∃ f', f = f' + 1 := ⟨f - 1, by omega⟩
    rw [b_J15_signedHashCode_8, iJ_le (by omega) (by omega), if_pos (by omega), List.drop_eq_nil_of_le (by omega)]
    rfl
  | succ j ih =>
    intro k f v hk hf
    obtain ⟨f, rfl⟩ : ∃ f', f = f' + 1 := ⟨f - 1, by omega⟩
    rw [b_J15_signedHashCode_8, iJ_le (by omega) (by omega), if_neg (by omega), aI_J h1 (by omega) (by omega), e1 k (by omega), byte_and _ (getD_b q1 (by omega)), lt_J, lt_J, J_addL]
    rw [drop_c (L := s1) (q := k) (by omega)]
    exact ih (k + 1) f _ (by omega) (by omega)
/-- a word that was read -/
def WDc (o : oW) (σ : cS) (rd q : Nat) (s : List Nat) : Prop := o q = (rd + 1, 5) ∧ ∃ (by_ : Nat) (h z : Int32) (f : Nat → Int32), (o by_).1 = 0 ∧ σ.1 q = some (.inr (12, [.ref by_, .int 0, .int h, .int z])) ∧ σ.1 by_ = some (.inl (1, s.length, .inl f)) ∧ (∀ i, i < s.length → f i = (Int32.ofNat (s.getD i 0)).toInt8.toInt32) ∧ (h = 0 ∨ h = hsh s) ∧ (z = 0 ∨ hsh s = 0)
theorem WDc.s {o : oW} {σ : cS} {rd q : Nat} {s : List Nat} (h : WDc o σ rd q s) : STR σ q s := by
  obtain ⟨-, b, x, z, f, -, h1, h2, h3, -⟩ := h
  exact ⟨b, x, z, f, h1, h2, h3⟩
theorem WDc.hash {o : oW} {σ : cS} {rd q : Nat} {s : List Nat} (h : WDc o σ rd q s) (hS : SI o σ) (h8 : ∀ z, z ∈ s → z < 256) (hl : s.length < 2000) : ∃ σ', m_J4_hashCode q σ = some (hsh s, σ') ∧ WDc o σ' rd q s ∧ Ch (fun p => p = q) σ σ' ∧ σ'.2 = σ.2 := by
  obtain ⟨ho, b, x, z, f, ob, h1, h2, h3, h4, h5⟩ := id h
  unfold m_J4_hashCode
  rw [gI_J h1 rfl]
  by_cases c : x = 0
  · rw [if_pos c, gI_J h1 rfl]
    by_cases c2 : z = 0
    · rw [if_pos c2, nn_J h1]
      have hh : m_J6_hashCode (some b) σ = some (hsh s, σ) := by
        unfold m_J6_hashCode
        rw [aL_J h2 (by show 1 < 6; decide)]
        dsimp only
        rw [iJ_eqL (by omega) (by decide)]
        by_cases c3 : s.length = 0
        · rw [if_pos (show s.length = OfNat.ofNat 0 from c3), List.length_eq_zero_iff.mp c3]
          rfl
        · rw [if_neg (show ¬ s.length = OfNat.ofNat 0 from c3), iJ_eqL (by omega) (by decide)]
          by_cases c4 : s.length = 1
          · rw [if_pos (show s.length = OfNat.ofNat 1 from c4)]
            rw [show aI (β := Int32 × cS) σ (some b) 1 0 = aI σ (some b) 1 (Int32.ofNat 0) from rfl, aI_J h2 (by omega) (by omega), h3 0 (by omega), byte_and _ (getD_b h8 (by omega))]
            obtain ⟨a, ha⟩ := List.length_eq_one_iff.mp c4
            rw [ha]
            show some (Int32.ofNat a, σ) = some (31 * 0 + Int32.ofNat a, σ)
            rw [show (31 : Int32) * 0 = 0 from rfl, Int32.zero_add]
          · rw [if_neg (show ¬ s.length = OfNat.ofNat 1 from c4), aL_J h2 (by show 1 < 6; decide)]
            dsimp only
            unfold m_J15_vectorizedHashCode m_J15_signedHashCode
            have hcst : ∀ {β : Type} (K : Option β), cst σ (some b) [101] K = K := fun K => if_pos (by unfold ckd; rw [h2]; rfl)
            rw [if_pos rfl, hcst, Int32.zero_add, lt_J]
            have := hs_loop h2 rfl h3 h8 hl s.length 0 FU 0 (Nat.zero_add _) (by show _ < 4096; omega)
            rw [show b_J15_signedHashCode_8 FU 0 (some b) (Int32.ofNat s.length) 0 σ = _ from this, bd_J, bd_J]
            rfl
      unfold m_J4_isLatin1 b_J4_hashCode_40
      rw [if_neg (by decide), gI_J h1 rfl, if_pos rfl, show rz (1 : Int32) σ = some (1, σ) from rfl, bd_J, if_neg (by decide), gR_J h1 rfl, hh, bd_J]
      have hne : b ≠ q := fun w => by rw [w, ho] at ob; cases ob
      by_cases c5 : hsh s = 0
      · rw [if_pos c5, gd_J (by decide), pO_J h1 (by show 3 < 4; decide) (hS.w ho)]
        refine ⟨_, rfl, ⟨ho, b, x, 1, f, ob, cU_s, by rw [cU_n hne]; exact h2, h3, h4, Or.inr c5⟩, Ch.rf.cU h1 (Or.inr rfl), rfl⟩
      · rw [if_neg c5, pO_J h1 (by show 2 < 4; decide) (hS.w ho)]
        refine ⟨_, rfl, ⟨ho, b, hsh s, z, f, ob, cU_s, by rw [cU_n hne]; exact h2, h3, Or.inr rfl, h5⟩, Ch.rf.cU h1 (Or.inr rfl), rfl⟩
    · rw [if_neg c2]
      rcases h5 with w | w
      · exact absurd w c2
      · rw [w, ← c]
        exact ⟨σ, by rw [c], h, Ch.rf, rfl⟩
  · rw [if_neg c]
    rcases h4 with w | w
    · exact absurd w c
    · rw [← w]
      exact ⟨σ, rfl, h, Ch.rf, rfl⟩
/-- a part of an array of bytes as a new String -/
theorem cl_news {o : oW} {σ : cS} {b cap a n : Nat} {f : Nat → Int32} (hS : SI o σ) (h : σ.1 b = some (.inl (1, cap, .inl f))) (hc : cap < 2000) (hn : 0 < n) (ha : a + n ≤ cap) (hx : ¬ (a = 0 ∧ n = cap)) (hv : ∀ i, i < cap → (f i).toInt8.toInt32 = f i) (hR : Rm σ 2 (4 + n)) : ∃ σ' g, m_J6_newString (some b) (Int32.ofNat a) (Int32.ofNat n) σ = some (some (σ.2 0), σ') ∧ σ'.1 (σ.2 0) = some (.inr (12, [.ref (σ.2 0 + 1), .int 0, .int 0, .int 0])) ∧ σ'.1 (σ.2 0 + 1) = some (.inl (1, n, .inl g)) ∧ (∀ i, i < n → g i = f (a + i)) ∧ Ch (fun _ => False) σ σ' ∧ (σ'.2 0 = σ.2 0 + 2 ∧ σ'.2 1 = σ.2 1 + 4 + n) ∧ ∀ k, 2 ≤ k → σ'.2 k = σ.2 k := by
  have hb := hS.lt h
  have hs2 := hS.2.1
  have hR1 := hR.1
  have hR2 := hR.2
  unfold m_J6_newString
  rw [iJ_eqL (by omega) (by decide), if_neg (show ¬ n = OfNat.ofNat 0 from fun w => absurd (show n = 0 from w) (by omega)), nO_J (by omega) (by omega)]
  generalize hσ1 : cN σ (.inr (12, [.null, .int 0, .int 0, .int 0])) 4 = σ1
  have n1 : σ1.2 0 = σ.2 0 + 1 ∧ σ1.2 1 = σ.2 1 + 4 ∧ ∀ k, 2 ≤ k → σ1.2 k = σ.2 k := by
    rw [← hσ1]
    exact ⟨rfl, rfl, fun k hk => cN_k hk⟩
  have g1 : σ1.1 b = some (.inl (1, cap, .inl f)) := by rw [← hσ1, cN_n (by omega)]; exact h
  have g0 : σ1.1 (σ.2 0) = some (.inr (12, [.null, .int 0, .int 0, .int 0])) := by rw [← hσ1]; exact cN_s
  generalize hσ2 : cN σ1 (.inl (1, n, .inl (fun _ => 0))) n = σ2
  have n2 : σ2.2 0 = σ.2 0 + 2 ∧ σ2.2 1 = σ.2 1 + 4 + n ∧ ∀ k, 2 ≤ k → σ2.2 k = σ.2 k := by
    rw [← hσ2]
    exact ⟨by rw [cN_0, n1.1], by rw [cN_1, n1.2.1], fun k hk => by rw [cN_k hk, n1.2.2 k hk]⟩
  have k1 : σ2.1 b = some (.inl (1, cap, .inl f)) := by rw [← hσ2, cN_n (by rw [n1.1]; omega)]; exact g1
  have k0 : σ2.1 (σ.2 0) = some (.inr (12, [.null, .int 0, .int 0, .int 0])) := by rw [← hσ2, cN_n (by rw [n1.1]; omega)]; exact g0
  have k2 : σ2.1 (σ.2 0 + 1) = some (.inl (1, n, .inl (fun _ => 0))) := by rw [← hσ2, ← n1.1]; exact cN_s
  have C2 : Ch (fun _ => False) σ σ2 := by rw [← hσ2, ← hσ1]; exact Ch.rf.cN.cN
  have hb10 : b_J9_copyOfRange_10 (some b) (Int32.ofNat a) (Int32.ofNat (a + n)) σ1 = some (some (σ.2 0 + 1), cU σ2 (σ.2 0 + 1) (.inl (1, n, .inl (va_cpy f (fun _ => 0) a 0 n)))) := by
    unfold b_J9_copyOfRange_10 m_J9_copyOfRangeByte m_J9_checkLength
    rw [iJ_le (by omega) (by omega), if_pos (by omega), bd_J, J_sub (by omega), lt_J, show a + n - a = n by omega, nA_J (by omega) (by rw [n1.1, n1.2.2 3 (by decide)]; omega) (by rw [n1.2.1, n1.2.2 4 (by decide)]; omega), hσ2, n1.1, aL_J k1 (by show 1 < 6; decide)]
    dsimp only
    rw [J_sub (by omega), iJ_lt (by omega) (by omega)]
    have e2 : (if n < cap - a then Int32.ofNat n else Int32.ofNat (cap - a)) = Int32.ofNat n := by
      by_cases c : n < cap - a
      · rw [if_pos c]
      · rw [if_neg c, show cap - a = n by omega]
    rw [e2, lt_J]
    have := cpI_J (β := Option Nat × cS) (K := fun σ_7 => some (some (σ.2 0 + 1), σ_7)) k1 k2 (i := a) (j := 0) (n := n) ha (by omega) ⟨by omega, by omega⟩ (by rw [n2.2.2 2 (by decide)]; omega) (Or.inr (fun q hq => hv _ (by omega)))
    rw [show cpI σ2 1 (some b) (Int32.ofNat a) (some (σ.2 0 + 1)) 0 (Int32.ofNat n) (fun σ_7 => some (some (σ.2 0 + 1), σ_7)) = _ from this, bd_J]
  have hcr : m_J9_copyOfRange (some b) (Int32.ofNat a) (Int32.ofNat a + Int32.ofNat n) σ1 = some (some (σ.2 0 + 1), cU σ2 (σ.2 0 + 1) (.inl (1, n, .inl (va_cpy f (fun _ => 0) a 0 n)))) := by
    unfold m_J9_copyOfRange
    rw [J_add, iJ_eqL (by omega) (by decide)]
    by_cases c : a = 0
    · rw [if_pos (show a = OfNat.ofNat 0 from c), aL_J g1 (by show 1 < 6; decide)]
      dsimp only
      rw [iJ_eq (by omega) (by omega), if_neg (by omega)]
      exact hb10
    · rw [if_neg (show ¬ a = OfNat.ofNat 0 from c)]
      exact hb10
  rw [hcr, bd_J]
  unfold m_J4_init_3
  generalize hσ3 : cU σ2 (σ.2 0 + 1) (.inl (1, n, .inl (va_cpy f (fun _ => 0) a 0 n))) = σ3
  have m0 : σ3.1 (σ.2 0) = some (.inr (12, [.null, .int 0, .int 0, .int 0])) := by rw [← hσ3, cU_n (by omega)]; exact k0
  have m1 : σ3.1 (σ.2 0 + 1) = some (.inl (1, n, .inl (va_cpy f (fun _ => 0) a 0 n))) := by rw [← hσ3]; exact cU_s
  have m2 : σ3.2 = σ2.2 := by rw [← hσ3]; rfl
  have C3 : Ch (fun _ => False) σ σ3 := by rw [← hσ3]; exact C2.cU k2 (Or.inl (by omega))
  have hw : σ3.2 2 ≤ σ.2 0 := by rw [m2, n2.2.2 2 (by decide)]; exact hs2
  rw [pO_J m0 (by show 0 < 4; decide) hw, gd_J rfl, pO_J cU_s (by show 1 < 4; decide) hw, cU_cU, bd_J]
  refine ⟨_, _, rfl, cU_s, by rw [cU_n (by omega)]; exact m1, fun i hi => ?_, C3.cU m0 (Or.inl (Nat.le_refl _)), ?_, fun k hk => ?_⟩
  · rw [pk_cpy_in (by omega) (by omega), Nat.sub_zero]
  · rw [cU_2, m2]
    exact ⟨n2.1, n2.2.1⟩
  · rw [cU_2, m2]
    exact n2.2.2 k hk
