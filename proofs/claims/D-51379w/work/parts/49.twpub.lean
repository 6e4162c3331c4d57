/-! THE PLAIN LAW: what each public question answers, and the twin answers so: printed by gen49.py -/
set_option maxRecDepth 100000
def TRs (r : Option (Int32 × twS)) (o : Nat × Int32 × SS) : Prop := ∃ σ', TInv σ' o.2.2 ∧ σ'.2 13 = Int32.ofNat o.1 ∧ r = some (o.2.1, σ')
theorem TRs.t {σ : twS} {S : SS} (hI : TInv σ S) {y : Int32} {k : Nat} (h : y = Int32.ofNat k) : TRs (some (0, twI σ 13 y)) (k, 0, S) := ⟨_, hI.q frP0, by rw [h]; rfl, rfl⟩
theorem TRs.q {σ σ' : twS} {S : SS} (hI : TInv σ S) (f : fr15 (twI σ 13 0) σ') {r : Option (Int32 × twS)} {a : Int32} (h : r = some (a, σ')) : TRs r (0, a, S) := ⟨σ', (hI.q frP0).q f.p, by rw [f.2]; rfl, h⟩
theorem gW_256 {d : Nat → Nat} (hF : FOk d) : ∀ t a, gOk d t → ∀ x, x ∈ gW a t → x < 256 := by
  have hb : ∀ (b : Bool) (s : List Nat), (∀ x, x ∈ s → x < 256) → ∀ x, x ∈ brk b s → x < 256 := by
    intro b s h x hx
    unfold brk at hx
    split at hx
    · simp only [List.mem_cons, List.mem_append, List.not_mem_nil, or_false] at hx
      rcases hx with rfl | rfl | hx | rfl | rfl
      · decide
      · decide
      · exact h x hx
      · decide
      · decide
    · exact h x hx
  intro t
  induction t with
  | arg s =>
    intro a h x hx
    have h74 : s < 74 := gFl_lt hF (.arg s) h s (List.mem_singleton.mpr rfl)
    have hs : sgC s < 256 := by
      unfold sgC
      split
      · decide
      · split <;> decide
    simp only [gW, List.mem_cons, List.not_mem_nil, or_false] at hx
    rcases hx with rfl | rfl | rfl | rfl | rfl
    · omega
    · decide
    · exact hs
    · decide
    · omega
  | null =>
    intro a h x hx
    have : ∀ x, x ∈ [97, 108, 119, 97, 121, 115] → x < 256 := by decide
    exact this x hx
  | length t ih =>
    intro a h x hx
    simp only [gW, List.mem_cons] at hx
    rcases hx with rfl | rfl | rfl | rfl | hx
    · decide
    · decide
    · decide
    · decide
    · exact ih 1 h x hx
  | mul t u ih1 ih2 =>
    intro a h
    refine hb _ _ fun x hx => ?_
    simp only [List.mem_append, List.mem_cons] at hx
    rcases hx with hx | rfl | rfl | rfl | rfl | rfl | hx
    · exact ih1 2 h.1 x hx
    · decide
    · decide
    · decide
    · decide
    · decide
    · exact ih2 2 h.2 x hx
  | add t u ih1 ih2 =>
    intro a h
    refine hb _ _ fun x hx => ?_
    simp only [List.mem_append, List.mem_cons] at hx
    rcases hx with hx | rfl | rfl | rfl | rfl | hx
    · exact ih1 3 h.1 x hx
    · decide
    · decide
    · decide
    · decide
    · exact ih2 3 h.2 x hx
  | _ => intro a h; exact h.elim
theorem decD_256 : ∀ k n x, x ∈ decD k n → x < 256 := by
  intro k
  induction k with
  | zero =>
    intro n x hx
    have : x = 48 + n % 10 := by simpa [decD] using hx
    omega
  | succ k ih =>
    intro n x hx
    unfold decD at hx
    split at hx
    · have : x = 48 + n % 10 := by simpa using hx
      omega
    · rw [List.mem_append] at hx
      rcases hx with hx | hx
      · exact ih _ x hx
      · have : x = 48 + n % 10 := by simpa using hx
        omega
theorem prtF_256 {d : Nat → Nat} {r : Nat} : ∀ k x, x ∈ prtF d r k → x < 256 := by
  intro k
  induction k with
  | zero => intro x hx; cases hx
  | succ k ih =>
    intro x hx
    unfold prtF at hx
    split at hx
    · exact ih x hx
    · simp only [List.mem_append, ptx, List.mem_cons] at hx
      rcases hx with hx | hx | hx | rfl | hx | rfl | hx
      · exact ih x hx
      · split at hx
        · have : x = 32 := by simpa using hx
          omega
        · have : x = 44 ∨ x = 32 := by simpa using hx
          omega
      · exact decD_256 _ _ _ hx
      · decide
      · exact decD_256 _ _ _ hx
      · decide
      · exact decD_256 _ _ _ hx
theorem ovrF_256 {m : Nat} : ∀ k x, x ∈ ovrF m k → x < 256 := by
  intro k
  induction k with
  | zero => intro x hx; cases hx
  | succ k ih =>
    intro x hx
    unfold ovrF at hx
    split at hx
    · simp only [List.mem_append, List.mem_cons] at hx
      rcases hx with hx | rfl | hx
      · exact ih x hx
      · decide
      · exact decD_256 _ _ _ hx
    · exact ih x hx
theorem wrR_256 {d : Nat → Nat} {t : Nat → Term} (hW : WOk d t) {r : Nat} (hr : r < d 17) : ∀ x, x ∈ wrR d t r → x < 256 := by
  intro x hx
  have hG := (hW.2.2.2.2.2.2.2 r hr).1
  have c1 : ∀ x, x ∈ [32, 103, 105, 118, 101, 115] → x < 256 := by decide
  have c2 : ∀ x, x ∈ [32, 110, 111, 116, 104, 105, 110, 103] → x < 256 := by decide
  have c3 : ∀ x, x ∈ [32, 111, 118, 101, 114] → x < 256 := by decide
  unfold wrR at hx
  rw [List.mem_append, List.mem_append, List.mem_append, List.mem_append] at hx
  rcases hx with hx | hx | hx | hx | hx
  · exact gW_256 hW.1 _ _ hG.1.1 x hx
  · exact c1 x hx
  · unfold prtT at hx
    split at hx
    · exact c2 x hx
    · exact prtF_256 _ x hx
  · unfold ovrT at hx
    split at hx
    · cases hx
    · exact c3 x hx
  · exact ovrF_256 _ x hx
def sp_size (x1 : Int32) (S : SS) : Nat × Int32 × SS := if inB x1 14 then (0, Int32.ofNat (sizI S.1.1 S.1.2 S.2.1.length S.2.2.2.1.length S.2.2.2.2.length x1.toNatClampNeg), S) else (1, 0, S)
theorem pt_size {σ : twS} {S : SS} (hI : TInv σ S) (x1 : Int32) : TRs (mT_size x1 σ) (sp_size x1 S) := by
  have hT := hI.1.1
  have hW := hI.1.2.1
  have hT0 : TW S.1.1 (twI σ 13 0) := twI_tw hT
  rw [ck_size hT hW]
  unfold sp_size
  by_cases hc : (inB x1 14) = true
  · rw [if_pos hc, if_pos hc]
    have hc1 := hc
    obtain ⟨k1, h1, rfl⟩ := inB_of hc1
    have c1 : (Int32.ofNat k1).toNatClampNeg = k1 := J_cl (by omega)
    simp only [c1]
    obtain ⟨σ1, f1, e1⟩ := tw_sizeOf hT0 hW (p := S.2.1.length) (b := S.2.2.2.1.length) (r := S.2.2.2.2.length) hI.2.1.2.1 hI.2.2.2.1.2.2.1 hI.2.2.2.2.1.2.1 (w := k1) (by omega)
    refine TRs.q hI f1 ?_
    unfold q_size
    rw [e1, bd_J]
  · rw [if_neg hc, if_neg hc]
    exact TRs.t hI (by rw [Bool.eq_false_iff.mpr hc]; rfl)
def sp_values (x1 : Int32) (S : SS) : Nat × Int32 × SS := if inB x1 (S.1.1 0) then (0, Int32.ofNat (S.1.1 (1 + x1.toNatClampNeg)), S) else (1, 0, S)
theorem pt_values {σ : twS} {S : SS} (hI : TInv σ S) (x1 : Int32) : TRs (mT_values x1 σ) (sp_values x1 S) := by
  have hT := hI.1.1
  have hW := hI.1.2.1
  have hT0 : TW S.1.1 (twI σ 13 0) := twI_tw hT
  have h0 := hW.1.1
  rw [ck_values hT hW]
  unfold sp_values
  by_cases hc : (inB x1 (S.1.1 0)) = true
  · rw [if_pos hc, if_pos hc]
    have hc1 := hc
    obtain ⟨k1, h1, rfl⟩ := inB_of hc1
    have c1 : (Int32.ofNat k1).toNatClampNeg = k1 := J_cl (by omega)
    simp only [c1]
    refine TRs.q hI fr15.rf ?_
    unfold q_values
    rw [J_addR, tw_ald hT0 (by show 1 + k1 < 358; omega)]
  · rw [if_neg hc, if_neg hc]
    exact TRs.t hI (by rw [Bool.eq_false_iff.mpr hc]; rfl)
def sp_valueIn (x1 : Int32) (x2 : Int32) (S : SS) : Nat × Int32 × SS := if inB x1 (casesN S.1.1) && inB x2 (S.1.1 0) then (0, Int32.ofNat (valueN S.1.1 x1.toNatClampNeg x2.toNatClampNeg), S) else (th2 (!inB x1 (casesN S.1.1)) (!inB x2 (S.1.1 0)), 0, S)
theorem pt_valueIn {σ : twS} {S : SS} (hI : TInv σ S) (x1 : Int32) (x2 : Int32) : TRs (mT_valueIn x1 x2 σ) (sp_valueIn x1 x2 S) := by
  have hT := hI.1.1
  have hW := hI.1.2.1
  have hT0 : TW S.1.1 (twI σ 13 0) := twI_tw hT
  have hC := casesN_le hW.1
  have h0 := hW.1.1
  rw [ck_valueIn hT hW]
  unfold sp_valueIn
  by_cases hc : (inB x1 (casesN S.1.1) && inB x2 (S.1.1 0)) = true
  · rw [if_pos hc, if_pos hc]
    obtain ⟨hc1, hc2⟩ := (Bool.and_eq_true _ _).mp hc
    obtain ⟨k1, h1, rfl⟩ := inB_of hc1
    have c1 : (Int32.ofNat k1).toNatClampNeg = k1 := J_cl (by omega)
    obtain ⟨k2, h2, rfl⟩ := inB_of hc2
    have c2 : (Int32.ofNat k2).toNatClampNeg = k2 := J_cl (by omega)
    simp only [c1, c2]
    refine TRs.q hI fr15.rf ?_
    unfold q_valueIn
    rw [tw_valueOf hT0 hW.1 (by omega) h2, bd_J]
  · rw [if_neg hc, if_neg hc]
    exact TRs.t hI rfl
def sp_heir (x1 : Int32) (x2 : Int32) (S : SS) : Nat × Int32 × SS := if inB x1 (S.1.1 5) && inB x2 7 then (0, heirI S.1.1 S.1.2 x1.toNatClampNeg x2.toNatClampNeg, S) else (th2 (!inB x1 (S.1.1 5)) (!inB x2 7), 0, S)
theorem pt_heir {σ : twS} {S : SS} (hI : TInv σ S) (x1 : Int32) (x2 : Int32) : TRs (mT_heir x1 x2 σ) (sp_heir x1 x2 S) := by
  have hT := hI.1.1
  have hW := hI.1.2.1
  have hT0 : TW S.1.1 (twI σ 13 0) := twI_tw hT
  have h5 := hW.h
  rw [ck_heir hT hW]
  unfold sp_heir
  by_cases hc : (inB x1 (S.1.1 5) && inB x2 7) = true
  · rw [if_pos hc, if_pos hc]
    obtain ⟨hc1, hc2⟩ := (Bool.and_eq_true _ _).mp hc
    obtain ⟨k1, h1, rfl⟩ := inB_of hc1
    have c1 : (Int32.ofNat k1).toNatClampNeg = k1 := J_cl (by omega)
    obtain ⟨k2, h2, rfl⟩ := inB_of hc2
    have c2 : (Int32.ofNat k2).toNatClampNeg = k2 := J_cl (by omega)
    simp only [c1, c2]
    obtain ⟨σ1, f1, e1⟩ := tw_heirTold hT0 hW h1 (w := k2) (by omega)
    refine TRs.q hI f1 ?_
    unfold q_heir
    rw [e1, bd_J]
  · rw [if_neg hc, if_neg hc]
    exact TRs.t hI rfl
def sp_rule (x1 : Int32) (x2 : Int32) (S : SS) : Nat × Int32 × SS := if inB x1 (S.1.1 17) && inB x2 6 then (0, Int32.ofNat (rulI S.1.1 S.1.2 x1.toNatClampNeg x2.toNatClampNeg), S) else (th2 (!inB x1 (S.1.1 17)) (!inB x2 6), 0, S)
theorem pt_rule {σ : twS} {S : SS} (hI : TInv σ S) (x1 : Int32) (x2 : Int32) : TRs (mT_rule x1 x2 σ) (sp_rule x1 x2 S) := by
  have hT := hI.1.1
  have hW := hI.1.2.1
  have hT0 : TW S.1.1 (twI σ 13 0) := twI_tw hT
  have h17 := hW.r
  rw [ck_rule hT hW]
  unfold sp_rule
  by_cases hc : (inB x1 (S.1.1 17) && inB x2 6) = true
  · rw [if_pos hc, if_pos hc]
    obtain ⟨hc1, hc2⟩ := (Bool.and_eq_true _ _).mp hc
    obtain ⟨k1, h1, rfl⟩ := inB_of hc1
    have c1 : (Int32.ofNat k1).toNatClampNeg = k1 := J_cl (by omega)
    obtain ⟨k2, h2, rfl⟩ := inB_of hc2
    have c2 : (Int32.ofNat k2).toNatClampNeg = k2 := J_cl (by omega)
    simp only [c1, c2]
    obtain ⟨σ1, f1, e1⟩ := tw_ruleTold hT0 hW h1 (w := k2) (by omega)
    refine TRs.q hI f1 ?_
    unfold q_rule
    rw [e1, bd_J]
  · rw [if_neg hc, if_neg hc]
    exact TRs.t hI rfl
def sp_share (x1 : Int32) (x2 : Int32) (b : Bool) (S : SS) : Nat × Int32 × SS := if inB x1 (S.1.1 17) && inB x2 (S.1.1 5) then (0, Int32.ofNat (shTN S.1.1 x1.toNatClampNeg x2.toNatClampNeg b), S) else (1, 0, S)
theorem pt_share {σ : twS} {S : SS} (hI : TInv σ S) (x1 : Int32) (x2 : Int32) (b : Bool) : TRs (mT_share x1 x2 (b32 b) σ) (sp_share x1 x2 b S) := by
  have hT := hI.1.1
  have hW := hI.1.2.1
  have hT0 : TW S.1.1 (twI σ 13 0) := twI_tw hT
  have h5 := hW.h
  have h17 := hW.r
  rw [ck_share hT hW]
  unfold sp_share
  by_cases hc : (inB x1 (S.1.1 17) && inB x2 (S.1.1 5)) = true
  · rw [if_pos hc, if_pos hc]
    obtain ⟨hc1, hc2⟩ := (Bool.and_eq_true _ _).mp hc
    obtain ⟨k1, h1, rfl⟩ := inB_of hc1
    have c1 : (Int32.ofNat k1).toNatClampNeg = k1 := J_cl (by omega)
    obtain ⟨k2, h2, rfl⟩ := inB_of hc2
    have c2 : (Int32.ofNat k2).toNatClampNeg = k2 := J_cl (by omega)
    simp only [c1, c2]
    refine TRs.q hI fr15.rf ?_
    unfold q_share
    rw [tw_shareTold hT0 hW h1 (by omega), bd_J]
  · rw [if_neg hc, if_neg hc]
    exact TRs.t hI (by rw [Bool.eq_false_iff.mpr hc]; rfl)
def sp_applies (x1 : Int32) (x2 : Int32) (S : SS) : Nat × Int32 × SS := if inB x1 (casesN S.1.1) && inB x2 (S.1.1 17) then (0, b32 (holdsB S.1.1 S.1.2 x2.toNatClampNeg x1.toNatClampNeg), S) else (th2 (!inB x1 (casesN S.1.1)) (!inB x2 (S.1.1 17)), 0, S)
theorem pt_applies {σ : twS} {S : SS} (hI : TInv σ S) (x1 : Int32) (x2 : Int32) : TRs (mT_applies x1 x2 σ) (sp_applies x1 x2 S) := by
  have hT := hI.1.1
  have hW := hI.1.2.1
  have hT0 : TW S.1.1 (twI σ 13 0) := twI_tw hT
  have hC := casesN_le hW.1
  have h17 := hW.r
  rw [ck_applies hT hW]
  unfold sp_applies
  by_cases hc : (inB x1 (casesN S.1.1) && inB x2 (S.1.1 17)) = true
  · rw [if_pos hc, if_pos hc]
    obtain ⟨hc1, hc2⟩ := (Bool.and_eq_true _ _).mp hc
    obtain ⟨k1, h1, rfl⟩ := inB_of hc1
    have c1 : (Int32.ofNat k1).toNatClampNeg = k1 := J_cl (by omega)
    obtain ⟨k2, h2, rfl⟩ := inB_of hc2
    have c2 : (Int32.ofNat k2).toNatClampNeg = k2 := J_cl (by omega)
    simp only [c1, c2]
    obtain ⟨σ1, f1, e1⟩ := tw_holds hT0 hW.1 (r := k2) (n := k1) (by omega) (by omega) (hW.2.2.2.2.2.2.2 k2 h2).1
    refine TRs.q hI f1.to ?_
    unfold q_applies
    rw [e1, bd_J, ite_pq (b32_0 _)]
    cases holdsB S.1.1 S.1.2 k2 k1
    · rw [if_pos rfl]; rfl
    · rw [if_neg (by decide)]; rfl
  · rw [if_neg hc, if_neg hc]
    exact TRs.t hI rfl
def sp_applying (x1 : Int32) (S : SS) : Nat × Int32 × SS := if inB x1 (casesN S.1.1) then (0, Int32.ofNat (setN S.1.1 S.1.2 x1.toNatClampNeg), S) else (1, 0, S)
theorem pt_applying {σ : twS} {S : SS} (hI : TInv σ S) (x1 : Int32) : TRs (mT_applying x1 σ) (sp_applying x1 S) := by
  have hT := hI.1.1
  have hW := hI.1.2.1
  have hT0 : TW S.1.1 (twI σ 13 0) := twI_tw hT
  have hC := casesN_le hW.1
  rw [ck_applying hT hW]
  unfold sp_applying
  by_cases hc : (inB x1 (casesN S.1.1)) = true
  · rw [if_pos hc, if_pos hc]
    have hc1 := hc
    obtain ⟨k1, h1, rfl⟩ := inB_of hc1
    have c1 : (Int32.ofNat k1).toNatClampNeg = k1 := J_cl (by omega)
    simp only [c1]
    obtain ⟨σ1, f1, e1⟩ := tw_setOf hT0 hW (n := k1) (by omega)
    refine TRs.q hI f1.to ?_
    unfold q_applying
    rw [e1, bd_J]
  · rw [if_neg hc, if_neg hc]
    exact TRs.t hI (by rw [Bool.eq_false_iff.mpr hc]; rfl)
def sp_verdict (x1 : Int32) (S : SS) : Nat × Int32 × SS := if inB x1 (casesN S.1.1) then (0, Int32.ofNat (verdN S.1.1 (setN S.1.1 S.1.2 x1.toNatClampNeg)), S) else (1, 0, S)
theorem pt_verdict {σ : twS} {S : SS} (hI : TInv σ S) (x1 : Int32) : TRs (mT_verdict x1 σ) (sp_verdict x1 S) := by
  have hT := hI.1.1
  have hW := hI.1.2.1
  have hT0 : TW S.1.1 (twI σ 13 0) := twI_tw hT
  have hC := casesN_le hW.1
  rw [ck_verdict hT hW]
  unfold sp_verdict
  by_cases hc : (inB x1 (casesN S.1.1)) = true
  · rw [if_pos hc, if_pos hc]
    have hc1 := hc
    obtain ⟨k1, h1, rfl⟩ := inB_of hc1
    have c1 : (Int32.ofNat k1).toNatClampNeg = k1 := J_cl (by omega)
    simp only [c1]
    obtain ⟨σ1, f1, e1⟩ := tw_setOf hT0 hW (n := k1) (by omega)
    refine TRs.q hI f1.to ?_
    unfold q_verdict
    rw [e1, bd_J, tw_verdictOf (f1.tw hT0) hW setN_lt, bd_J]
  · rw [if_neg hc, if_neg hc]
    exact TRs.t hI (by rw [Bool.eq_false_iff.mpr hc]; rfl)
def sp_settledBy (x1 : Int32) (S : SS) : Nat × Int32 × SS := if inB x1 (casesN S.1.1) then (0, o32 (setlN S.1.1 (setN S.1.1 S.1.2 x1.toNatClampNeg)), S) else (1, 0, S)
theorem pt_settledBy {σ : twS} {S : SS} (hI : TInv σ S) (x1 : Int32) : TRs (mT_settledBy x1 σ) (sp_settledBy x1 S) := by
  have hT := hI.1.1
  have hW := hI.1.2.1
  have hT0 : TW S.1.1 (twI σ 13 0) := twI_tw hT
  have hC := casesN_le hW.1
  rw [ck_settledBy hT hW]
  unfold sp_settledBy
  by_cases hc : (inB x1 (casesN S.1.1)) = true
  · rw [if_pos hc, if_pos hc]
    have hc1 := hc
    obtain ⟨k1, h1, rfl⟩ := inB_of hc1
    have c1 : (Int32.ofNat k1).toNatClampNeg = k1 := J_cl (by omega)
    simp only [c1]
    obtain ⟨σ1, f1, e1⟩ := tw_setOf hT0 hW (n := k1) (by omega)
    refine TRs.q hI f1.to ?_
    unfold q_settledBy
    rw [e1, bd_J, tw_settles (f1.tw hT0) hW setN_lt, bd_J]
  · rw [if_neg hc, if_neg hc]
    exact TRs.t hI (by rw [Bool.eq_false_iff.mpr hc]; rfl)
def sp_why (x1 : Int32) (x2 : Int32) (x3 : Int32) (S : SS) : Nat × Int32 × SS := if inB x1 (casesN S.1.1) && inB x2 (S.1.1 17) && inB x3 2 then (0, if x3.toNatClampNeg = 0 then Int32.ofNat (reasN S.1.1 (setN S.1.1 S.1.2 x1.toNatClampNeg) x2.toNatClampNeg) else whyI S.1.1 S.1.2 x1.toNatClampNeg x2.toNatClampNeg, S) else (th3 (!inB x1 (casesN S.1.1)) (!inB x2 (S.1.1 17)) (!inB x3 2), 0, S)
theorem pt_why {σ : twS} {S : SS} (hI : TInv σ S) (x1 : Int32) (x2 : Int32) (x3 : Int32) : TRs (mT_why x1 x2 x3 σ) (sp_why x1 x2 x3 S) := by
  have hT := hI.1.1
  have hW := hI.1.2.1
  have hT0 : TW S.1.1 (twI σ 13 0) := twI_tw hT
  have hC := casesN_le hW.1
  have h17 := hW.r
  rw [ck_why hT hW]
  unfold sp_why
  by_cases hc : (inB x1 (casesN S.1.1) && inB x2 (S.1.1 17) && inB x3 2) = true
  · rw [if_pos hc, if_pos hc]
    obtain ⟨hc12, hc3⟩ := (Bool.and_eq_true _ _).mp hc
    obtain ⟨hc1, hc2⟩ := (Bool.and_eq_true _ _).mp hc12
    obtain ⟨k1, h1, rfl⟩ := inB_of hc1
    have c1 : (Int32.ofNat k1).toNatClampNeg = k1 := J_cl (by omega)
    obtain ⟨k2, h2, rfl⟩ := inB_of hc2
    have c2 : (Int32.ofNat k2).toNatClampNeg = k2 := J_cl (by omega)
    obtain ⟨k3, h3, rfl⟩ := inB_of hc3
    have c3 : (Int32.ofNat k3).toNatClampNeg = k3 := J_cl (by omega)
    simp only [c1, c2, c3]
    obtain ⟨σ1, f1, e1⟩ := tw_why hT0 hW h1 h2 h3
    exact TRs.q hI f1 e1
  · rw [if_neg hc, if_neg hc]
    exact TRs.t hI rfl
def sp_example (x1 : Int32) (x2 : Int32) (S : SS) : Nat × Int32 × SS := if inB x1 4 then (0, exF S.1.1 S.1.2 x1.toNatClampNeg (casesN S.1.1) 0 x2, S) else (1, 0, S)
theorem pt_example {σ : twS} {S : SS} (hI : TInv σ S) (x1 : Int32) (x2 : Int32) : TRs (mT_example x1 x2 σ) (sp_example x1 x2 S) := by
  have hT := hI.1.1
  have hW := hI.1.2.1
  have hT0 : TW S.1.1 (twI σ 13 0) := twI_tw hT
  rw [ck_example hT hW]
  unfold sp_example
  by_cases hc : (inB x1 4) = true
  · rw [if_pos hc, if_pos hc]
    have hc1 := hc
    obtain ⟨k1, h1, rfl⟩ := inB_of hc1
    have c1 : (Int32.ofNat k1).toNatClampNeg = k1 := J_cl (by omega)
    simp only [c1]
    obtain ⟨σ1, f1, hA, e1⟩ := tw_setsOut hT0 hW
    refine TRs.q hI f1 ?_
    unfold q_example
    rw [e1, bd_J, tw_cases (f1.tw hT0) hW.1, bd_J, tw_example (f1.tw hT0) hW hA (by omega)]
  · rw [if_neg hc, if_neg hc]
    exact TRs.t hI (by rw [Bool.eq_false_iff.mpr hc]; rfl)
def sp_isWider (x1 : Int32) (x2 : Int32) (S : SS) : Nat × Int32 × SS := if inB x1 (S.1.1 17) && inB x2 (S.1.1 17) then (0, b32 (allN (fun n => !(setN S.1.1 S.1.2 n).testBit x2.toNatClampNeg || (setN S.1.1 S.1.2 n).testBit x1.toNatClampNeg) (casesN S.1.1)), S) else (1, 0, S)
theorem pt_isWider {σ : twS} {S : SS} (hI : TInv σ S) (x1 : Int32) (x2 : Int32) : TRs (mT_isWider x1 x2 σ) (sp_isWider x1 x2 S) := by
  have hT := hI.1.1
  have hW := hI.1.2.1
  have hT0 : TW S.1.1 (twI σ 13 0) := twI_tw hT
  have h17 := hW.r
  rw [ck_isWider hT hW]
  unfold sp_isWider
  by_cases hc : (inB x1 (S.1.1 17) && inB x2 (S.1.1 17)) = true
  · rw [if_pos hc, if_pos hc]
    obtain ⟨hc1, hc2⟩ := (Bool.and_eq_true _ _).mp hc
    obtain ⟨k1, h1, rfl⟩ := inB_of hc1
    have c1 : (Int32.ofNat k1).toNatClampNeg = k1 := J_cl (by omega)
    obtain ⟨k2, h2, rfl⟩ := inB_of hc2
    have c2 : (Int32.ofNat k2).toNatClampNeg = k2 := J_cl (by omega)
    simp only [c1, c2]
    obtain ⟨σ1, f1, hA, e1⟩ := tw_setsOut hT0 hW
    refine TRs.q hI f1 ?_
    unfold q_isWider
    rw [e1, bd_J, tw_cases (f1.tw hT0) hW.1, bd_J, tw_isWider hW hA (by omega) (by omega)]
  · rw [if_neg hc, if_neg hc]
    exact TRs.t hI (by rw [Bool.eq_false_iff.mpr hc]; rfl)
def sp_common (x1 : Int32) (x2 : Int32) (S : SS) : Nat × Int32 × SS := if inB x1 (S.1.1 17) && inB x2 (S.1.1 17) then (0, Int32.ofNat (cntN (fun n => (setN S.1.1 S.1.2 n).testBit x1.toNatClampNeg && (setN S.1.1 S.1.2 n).testBit x2.toNatClampNeg) (casesN S.1.1)), S) else (1, 0, S)
theorem pt_common {σ : twS} {S : SS} (hI : TInv σ S) (x1 : Int32) (x2 : Int32) : TRs (mT_common x1 x2 σ) (sp_common x1 x2 S) := by
  have hT := hI.1.1
  have hW := hI.1.2.1
  have hT0 : TW S.1.1 (twI σ 13 0) := twI_tw hT
  have h17 := hW.r
  rw [ck_common hT hW]
  unfold sp_common
  by_cases hc : (inB x1 (S.1.1 17) && inB x2 (S.1.1 17)) = true
  · rw [if_pos hc, if_pos hc]
    obtain ⟨hc1, hc2⟩ := (Bool.and_eq_true _ _).mp hc
    obtain ⟨k1, h1, rfl⟩ := inB_of hc1
    have c1 : (Int32.ofNat k1).toNatClampNeg = k1 := J_cl (by omega)
    obtain ⟨k2, h2, rfl⟩ := inB_of hc2
    have c2 : (Int32.ofNat k2).toNatClampNeg = k2 := J_cl (by omega)
    simp only [c1, c2]
    obtain ⟨σ1, f1, hA, e1⟩ := tw_setsOut hT0 hW
    refine TRs.q hI f1 ?_
    unfold q_common
    rw [e1, bd_J, tw_cases (f1.tw hT0) hW.1, bd_J, tw_common hW hA (by omega) (by omega)]
  · rw [if_neg hc, if_neg hc]
    exact TRs.t hI (by rw [Bool.eq_false_iff.mpr hc]; rfl)
def sp_gapsWithout (x1 : Int32) (S : SS) : Nat × Int32 × SS := if inB x1 (S.1.1 17) then (0, Int32.ofNat (gapsN S.1.1 S.1.2 (some x1.toNatClampNeg)), S) else (1, 0, S)
theorem pt_gapsWithout {σ : twS} {S : SS} (hI : TInv σ S) (x1 : Int32) : TRs (mT_gapsWithout x1 σ) (sp_gapsWithout x1 S) := by
  have hT := hI.1.1
  have hW := hI.1.2.1
  have hT0 : TW S.1.1 (twI σ 13 0) := twI_tw hT
  have h17 := hW.r
  rw [ck_gapsWithout hT hW]
  unfold sp_gapsWithout
  by_cases hc : (inB x1 (S.1.1 17)) = true
  · rw [if_pos hc, if_pos hc]
    have hc1 := hc
    obtain ⟨k1, h1, rfl⟩ := inB_of hc1
    have c1 : (Int32.ofNat k1).toNatClampNeg = k1 := J_cl (by omega)
    simp only [c1]
    obtain ⟨σ1, f1, hA, e1⟩ := tw_setsOut hT0 hW
    refine TRs.q hI f1 ?_
    have e2 := tw_gaps (f1.tw hT0) hW hA (but := some k1) (fun r hr => by cases hr; omega)
    rw [show o32 (some k1) = Int32.ofNat k1 from rfl] at e2
    unfold q_gapsWithout
    rw [e1, bd_J, e2, bd_J]
  · rw [if_neg hc, if_neg hc]
    exact TRs.t hI (by rw [Bool.eq_false_iff.mpr hc]; rfl)
def sp_clashesIf (x1 : Int32) (x2 : Int32) (S : SS) : Nat × Int32 × SS := if inB x1 (S.1.1 17) && inB x2 (S.1.1 17) then (0, Int32.ofNat (clashN S.1.1 S.1.2 x1.toNatClampNeg x2.toNatClampNeg), S) else (1, 0, S)
theorem pt_clashesIf {σ : twS} {S : SS} (hI : TInv σ S) (x1 : Int32) (x2 : Int32) : TRs (mT_clashesIf x1 x2 σ) (sp_clashesIf x1 x2 S) := by
  have hT := hI.1.1
  have hW := hI.1.2.1
  have hT0 : TW S.1.1 (twI σ 13 0) := twI_tw hT
  have h17 := hW.r
  rw [ck_clashesIf hT hW]
  unfold sp_clashesIf
  by_cases hc : (inB x1 (S.1.1 17) && inB x2 (S.1.1 17)) = true
  · rw [if_pos hc, if_pos hc]
    obtain ⟨hc1, hc2⟩ := (Bool.and_eq_true _ _).mp hc
    obtain ⟨k1, h1, rfl⟩ := inB_of hc1
    have c1 : (Int32.ofNat k1).toNatClampNeg = k1 := J_cl (by omega)
    obtain ⟨k2, h2, rfl⟩ := inB_of hc2
    have c2 : (Int32.ofNat k2).toNatClampNeg = k2 := J_cl (by omega)
    simp only [c1, c2]
    obtain ⟨σ1, f1, hA, e1⟩ := tw_setsOut hT0 hW
    have hT1 := f1.tw hT0
    have hov : S.1.1 (51 + 34 * k1) < 2 ^ S.1.1 17 := (hW.2.2.2.2.2.2.2 k1 h1).2.2.2
    have h210 := pow10 h17
    have hv : (if k1 = k2 then S.1.1 (51 + 34 * k1) else S.1.1 (51 + 34 * k1) ^^^ 2 ^ k2) < 2 ^ S.1.1 17 := by
      split
      · exact hov
      · exact Nat.xor_lt_two_pow hov (Nat.pow_lt_pow_right (by decide) h2)
    obtain ⟨σ2, f2, e2⟩ := tw_clashes hT1 hW hA h1 hv
    refine TRs.q hI (f1.trans f2) ?_
    have e3 : mT_rule0 (Int32.ofNat k1) σ1 = some (Int32.ofNat (18 + 34 * k1), σ1) := by
      unfold mT_rule0
      rw [J_mulR, J_addR]
    unfold q_clashesIf clashN
    rw [e1, bd_J, show (33 : Int32) = Int32.ofNat 33 from rfl, tw_of hT1 (by omega), bd_J, e3, bd_J, J_add, show 18 + 34 * k1 + 33 = 51 + 34 * k1 by omega, iJ_eq (by omega) (by omega)]
    by_cases c : k1 = k2
    · rw [if_pos c] at e2 ⊢
      rw [if_pos c]
      exact e2
    · rw [if_neg c] at e2 ⊢
      rw [if_neg c, J_shl k2 (by omega), J_xor]
      exact e2
  · rw [if_neg hc, if_neg hc]
    exact TRs.t hI (by rw [Bool.eq_false_iff.mpr hc]; rfl)
def sp_farFrom (x1 : Int32) (S : SS) : Nat × Int32 × SS := if inB x1 (S.1.1 17) then (0, o32 (farF S.1.1 S.1.2 x1.toNatClampNeg (casesN S.1.1)), S) else (1, 0, S)
theorem pt_farFrom {σ : twS} {S : SS} (hI : TInv σ S) (x1 : Int32) : TRs (mT_farFrom x1 σ) (sp_farFrom x1 S) := by
  have hT := hI.1.1
  have hW := hI.1.2.1
  have hT0 : TW S.1.1 (twI σ 13 0) := twI_tw hT
  have h17 := hW.r
  rw [ck_farFrom hT hW]
  unfold sp_farFrom
  by_cases hc : (inB x1 (S.1.1 17)) = true
  · rw [if_pos hc, if_pos hc]
    have hc1 := hc
    obtain ⟨k1, h1, rfl⟩ := inB_of hc1
    have c1 : (Int32.ofNat k1).toNatClampNeg = k1 := J_cl (by omega)
    simp only [c1]
    obtain ⟨σ1, f1, hA, e1⟩ := tw_setsOut hT0 hW
    refine TRs.q hI f1 ?_
    unfold q_farFrom
    rw [e1, bd_J, tw_cases (f1.tw hT0) hW.1, bd_J, tw_farFrom (f1.tw hT0) hW hA (by omega)]
  · rw [if_neg hc, if_neg hc]
    exact TRs.t hI (by rw [Bool.eq_false_iff.mpr hc]; rfl)
def sp_gets (x1 : Int32) (x2 : Int32) (x3 : Int32) (S : SS) : Nat × Int32 × SS := if inB x1 (casesN S.1.1) && inB x2 (S.1.1 5) && inB x3 2 then (0, Int32.ofNat (if x3.toNatClampNeg = 0 then partN S.1.1 (setlN S.1.1 (setN S.1.1 S.1.2 x1.toNatClampNeg)) x2.toNatClampNeg else dutyN S.1.1 (setlN S.1.1 (setN S.1.1 S.1.2 x1.toNatClampNeg)) x2.toNatClampNeg), S) else (th3 (!inB x1 (casesN S.1.1)) (!inB x2 (S.1.1 5)) (!inB x3 2), 0, S)
theorem pt_gets {σ : twS} {S : SS} (hI : TInv σ S) (x1 : Int32) (x2 : Int32) (x3 : Int32) : TRs (mT_gets x1 x2 x3 σ) (sp_gets x1 x2 x3 S) := by
  have hT := hI.1.1
  have hW := hI.1.2.1
  have hT0 : TW S.1.1 (twI σ 13 0) := twI_tw hT
  have hC := casesN_le hW.1
  have h5 := hW.h
  rw [ck_gets hT hW]
  unfold sp_gets
  by_cases hc : (inB x1 (casesN S.1.1) && inB x2 (S.1.1 5) && inB x3 2) = true
  · rw [if_pos hc, if_pos hc]
    obtain ⟨hc12, hc3⟩ := (Bool.and_eq_true _ _).mp hc
    obtain ⟨hc1, hc2⟩ := (Bool.and_eq_true _ _).mp hc12
    obtain ⟨k1, h1, rfl⟩ := inB_of hc1
    have c1 : (Int32.ofNat k1).toNatClampNeg = k1 := J_cl (by omega)
    obtain ⟨k2, h2, rfl⟩ := inB_of hc2
    have c2 : (Int32.ofNat k2).toNatClampNeg = k2 := J_cl (by omega)
    obtain ⟨k3, h3, rfl⟩ := inB_of hc3
    have c3 : (Int32.ofNat k3).toNatClampNeg = k3 := J_cl (by omega)
    simp only [c1, c2, c3]
    obtain ⟨σ1, f1, e1⟩ := tw_setOf hT0 hW (n := k1) (by omega)
    have hT1 := f1.tw hT0
    refine TRs.q hI f1.to ?_
    unfold q_gets
    rw [e1, bd_J, tw_settles hT1 hW setN_lt, bd_J, setl_m1 hW]
    by_cases c : setlN S.1.1 (setN S.1.1 S.1.2 k1) = none
    · rw [if_pos c, c, dutyN_none]
      have e4 : partN S.1.1 none k2 = 0 := rfl
      rw [e4]
      split <;> rfl
    · rw [if_neg c, iJ_eqL (by omega) (by decide)]
      by_cases c3 : k3 = 0
      · rw [if_pos (show k3 = OfNat.ofNat 0 from c3), if_pos c3, tw_part hT1 hW (setl_ok hW) h2, bd_J]
      · rw [if_neg (show ¬ k3 = OfNat.ofNat 0 from c3), if_neg c3, tw_duty hT1 hW (setl_ok hW) h2, bd_J]
  · rw [if_neg hc, if_neg hc]
    exact TRs.t hI rfl
def sp_duties (x1 : Int32) (S : SS) : Nat × Int32 × SS := if inB x1 (casesN S.1.1) then (0, Int32.ofNat (dutsN S.1.1 (setlN S.1.1 (setN S.1.1 S.1.2 x1.toNatClampNeg))), S) else (1, 0, S)
theorem pt_duties {σ : twS} {S : SS} (hI : TInv σ S) (x1 : Int32) : TRs (mT_duties x1 σ) (sp_duties x1 S) := by
  have hT := hI.1.1
  have hW := hI.1.2.1
  have hT0 : TW S.1.1 (twI σ 13 0) := twI_tw hT
  have hC := casesN_le hW.1
  rw [ck_duties hT hW]
  unfold sp_duties
  by_cases hc : (inB x1 (casesN S.1.1)) = true
  · rw [if_pos hc, if_pos hc]
    have hc1 := hc
    obtain ⟨k1, h1, rfl⟩ := inB_of hc1
    have c1 : (Int32.ofNat k1).toNatClampNeg = k1 := J_cl (by omega)
    simp only [c1]
    obtain ⟨σ1, f1, e1⟩ := tw_setOf hT0 hW (n := k1) (by omega)
    have hT1 := f1.tw hT0
    refine TRs.q hI f1.to ?_
    unfold q_duties
    rw [e1, bd_J, tw_settles hT1 hW setN_lt, bd_J, setl_m1 hW]
    by_cases c : setlN S.1.1 (setN S.1.1 S.1.2 k1) = none
    · rw [if_pos c, c, dutsN_none]
      rfl
    · rw [if_neg c, tw_duties0 hT1 hW (setl_ok hW), bd_J]
  · rw [if_neg hc, if_neg hc]
    exact TRs.t hI (by rw [Bool.eq_false_iff.mpr hc]; rfl)
def sp_writeRule (x1 : Int32) (S : SS) : Nat × Int32 × SS := if inB x1 (S.1.1 17) then (0, Int32.ofNat (wrR S.1.1 S.1.2 x1.toNatClampNeg).length, (S.1, S.2.1, S.2.2.1, S.2.2.2.1, wrR S.1.1 S.1.2 x1.toNatClampNeg)) else (1, 0, S)
theorem pt_writeRule {σ : twS} {S : SS} (hI : TInv σ S) (x1 : Int32) : TRs (mT_writeRule x1 σ) (sp_writeRule x1 S) := by
  have hT := hI.1.1
  have hW := hI.1.2.1
  have hT0 : TW S.1.1 (twI σ 13 0) := twI_tw hT
  have h17 := hW.r
  rw [ck_writeRule hT hW]
  unfold sp_writeRule
  by_cases hc : (inB x1 (S.1.1 17)) = true
  · rw [if_pos hc, if_pos hc]
    have hc1 := hc
    obtain ⟨k1, h1, rfl⟩ := inB_of hc1
    have c1 : (Int32.ofNat k1).toNatClampNeg = k1 := J_cl (by omega)
    simp only [c1]
    obtain ⟨σ1, f1, p1, e1⟩ := tw_writeRule hT0 hW h1
    refine ⟨σ1, (hI.q frP0).r f1 p1 (wrR_256 hW h1), ?_, e1⟩
    rw [f1.2 13 (by decide)]
    rfl
  · rw [if_neg hc, if_neg hc]
    exact TRs.t hI (by rw [Bool.eq_false_iff.mpr hc]; rfl)
def sp_isClosed (S : SS) : Nat × Int32 × SS := (0, b32 (decide (gapsN S.1.1 S.1.2 none = 0)), S)
theorem pt_isClosed {σ : twS} {S : SS} (hI : TInv σ S) : TRs (mT_isClosed σ) (sp_isClosed S) := by
  have hW := hI.1.2.1
  obtain ⟨σ1, f1, hA, e1⟩ := tw_setsOut (twI_tw (k := 13) (x := 0) hI.1.1) hW
  refine TRs.q hI f1 ?_
  have hg := gapsN_le (d := S.1.1) (t := S.1.2) hW.1 none
  have e2 := tw_gaps (f1.tw (twI_tw hI.1.1)) hW hA (but := none) (fun _ h => by cases h)
  rw [show o32 none = -1 from rfl] at e2
  unfold mT_isClosed
  rw [lt_J, e1, bd_J, e2, bd_J, iJ_eqL (by omega) (by decide)]
  by_cases c : gapsN S.1.1 S.1.2 none = 0
  · rw [if_pos (show gapsN S.1.1 S.1.2 none = OfNat.ofNat 0 from c), decide_eq_true c]; rfl
  · rw [if_neg (show ¬ gapsN S.1.1 S.1.2 none = OfNat.ofNat 0 from c), decide_eq_false c]; rfl
def sp_needed (S : SS) : Nat × Int32 × SS := (0, Int32.ofNat (setP (fun r => decide (unsN S.1.1 S.1.2 none < unsN S.1.1 S.1.2 (some r))) (S.1.1 17)), S)
theorem pt_needed {σ : twS} {S : SS} (hI : TInv σ S) : TRs (mT_needed σ) (sp_needed S) := by
  have hW := hI.1.2.1
  obtain ⟨σ1, f1, hA, e1⟩ := tw_setsOut (twI_tw (k := 13) (x := 0) hI.1.1) hW
  have hT1 := f1.tw (twI_tw (k := 13) (x := 0) hI.1.1)
  refine TRs.q hI f1 ?_
  have e2 := tw_gaps hT1 hW hA (but := none) (fun _ h => by cases h)
  rw [show o32 none = -1 from rfl] at e2
  have e3 := tw_many hT1 hW hA (v := 3) (by decide) (but := none) (fun _ h => by cases h)
  rw [show o32 none = -1 from rfl] at e3
  have e4 := tw_needed hT1 hW hA
  unfold mT_needed
  rw [lt_J, e1, bd_J, e2, bd_J, show (3 : Int32) = Int32.ofNat 3 from rfl, e3, bd_J, lt_J, J_add]
  exact e4
def sp_idle (S : SS) : Nat × Int32 × SS := (0, Int32.ofNat (setP (fun r => decide (mofN S.1.1 S.1.2 r 1 = 0)) (S.1.1 17)), S)
theorem pt_idle {σ : twS} {S : SS} (hI : TInv σ S) : TRs (mT_idle σ) (sp_idle S) := by
  obtain ⟨σ1, f1, e1⟩ := tw_idle (twI_tw (k := 13) (x := 0) hI.1.1) hI.1.2.1
  refine TRs.q hI f1 ?_
  unfold mT_idle
  rw [lt_J, e1]
def sp_patch (S : SS) : Nat × Int32 × SS := (0, o32 (patF S.1.1 S.1.2 (S.1.1 0)).1, S)
theorem pt_patch {σ : twS} {S : SS} (hI : TInv σ S) : TRs (mT_patch σ) (sp_patch S) := by
  have hW := hI.1.2.1
  obtain ⟨σ1, f1, hA, e1⟩ := tw_setsOut (twI_tw (k := 13) (x := 0) hI.1.1) hW
  refine TRs.q hI f1 ?_
  unfold mT_patch
  rw [lt_J, e1, bd_J, tw_patch (f1.tw (twI_tw hI.1.1)) hW hA]
def sp_dearest (S : SS) : Nat × Int32 × SS := (0, o32 ((deF S.1.1 S.1.2 (casesN S.1.1)).map (·.1)), S)
theorem pt_dearest {σ : twS} {S : SS} (hI : TInv σ S) : TRs (mT_dearest σ) (sp_dearest S) := by
  have hW := hI.1.2.1
  obtain ⟨σ1, f1, hA, e1⟩ := tw_setsOut (twI_tw (k := 13) (x := 0) hI.1.1) hW
  have hT1 := f1.tw (twI_tw (k := 13) (x := 0) hI.1.1)
  refine TRs.q hI f1 ?_
  unfold mT_dearest
  rw [lt_J, e1, bd_J, tw_cases hT1 hW.1, bd_J, tw_dearest hT1 hW hA]
def sp_gap (S : SS) : Nat × Int32 × SS := (0, gapI S.1.1 S.1.2 (casesN S.1.1), S)
theorem pt_gap {σ : twS} {S : SS} (hI : TInv σ S) : TRs (mT_gap σ) (sp_gap S) := by
  have hW := hI.1.2.1
  obtain ⟨σ1, f1, hA, e1⟩ := tw_setsOut (twI_tw (k := 13) (x := 0) hI.1.1) hW
  have hT1 := f1.tw (twI_tw (k := 13) (x := 0) hI.1.1)
  refine TRs.q hI f1 ?_
  unfold mT_gap
  rw [lt_J, e1, bd_J, tw_cases hT1 hW.1, bd_J, tw_gap hT1 hW hA]
theorem pt_settledShare {σ : twS} {S : SS} (hI : TInv σ S) : ∃ σ', TInv σ' S ∧ σ'.2 13 = 0 ∧ mT_settledShare σ = some (shaI S.1.1 S.1.2, σ') := by
  obtain ⟨σ1, f1, e1⟩ := tw_settledShare hI.1.1 hI.1.2.1
  exact ⟨σ1, (hI.q frP0).q f1.p, by rw [f1.2]; rfl, e1⟩
theorem pt_meanDuties {σ : twS} {S : SS} (hI : TInv σ S) : ∃ σ', TInv σ' S ∧ σ'.2 13 = 0 ∧ mT_meanDuties σ = some (meaI S.1.1 S.1.2, σ') := by
  obtain ⟨σ1, f1, e1⟩ := tw_meanDuties hI.1.1 hI.1.2.1
  exact ⟨σ1, (hI.q frP0).q f1.p, by rw [f1.2]; rfl, e1⟩
theorem pt_checksum {σ : twS} {S : SS} (hI : TInv σ S) : ∃ σ', TInv σ' S ∧ σ'.2 13 = 0 ∧ mT_checksum σ = some (ckI S.1.1 S.1.2 S.2.1.length S.2.2.2.1.length S.2.2.2.2.length, σ') := by
  obtain ⟨σ1, f1, e1⟩ := tw_checksum hI.1.1 hI.1.2.1 hI.2.1.2.1 hI.2.2.2.1.2.2.1 hI.2.2.2.2.1.2.1
  exact ⟨σ1, (hI.q frP0).q f1.p, by rw [f1.2]; rfl, e1⟩
theorem vdF_256 {d : Nat → Nat} {t : Nat → Term} (hW : WOk d t) : ∀ k x, x ∈ vdF d t k → x < 256 := by
  intro k
  induction k with
  | zero => intro x hx; cases hx
  | succ k ih =>
    intro x hx
    unfold vdF at hx
    rw [List.mem_append] at hx
    rcases hx with hx | hx
    · exact ih x hx
    · have hx2 : x = vdC d t k := by simpa using hx
      rw [hx2]
      have h17 := hW.r
      unfold vdC
      split
      · next c =>
        obtain ⟨r, hr, hr2⟩ := setl_0 hW c
        rw [hr]
        show 48 + r < 256
        omega
      · split <;> decide
def sp_writeVerdicts (S : SS) : Nat × Int32 × SS := (0, Int32.ofNat (casesN S.1.1), (S.1, S.2.1, S.2.2.1, S.2.2.2.1, vdF S.1.1 S.1.2 (casesN S.1.1)))
theorem pt_writeVerdicts {σ : twS} {S : SS} (hI : TInv σ S) : TRs (mT_writeVerdicts σ) (sp_writeVerdicts S) := by
  obtain ⟨σ1, σ2, f1, f2, p, e⟩ := tw_writeVerdicts hI.1.1 hI.1.2.1
  refine ⟨σ2, ((hI.q frP0).q f1.p).r f2 p (vdF_256 hI.1.2.1 _), ?_, e⟩
  rw [f2.2 13 (by decide), f1.2]
  rfl
def sp_reportAt (x : Int32) (S : SS) : Nat × Int32 × SS := (0, if inB x S.2.2.2.2.length then Int32.ofNat (S.2.2.2.2.getD x.toNatClampNeg 0) else 0, S)
theorem pt_reportAt {σ : twS} {S : SS} (hI : TInv σ S) (x : Int32) : TRs (mT_reportAt x σ) (sp_reportAt x S) := ⟨_, hI.q frP0, rfl, tw_reportAt hI.2.2.2.2.1 hI.2.2.2.2.2 x⟩
