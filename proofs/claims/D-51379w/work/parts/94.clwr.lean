/-! THE PLAIN LAW, the class' side: a guard as a text -/
set_option maxRecDepth 1000000
theorem STR.at {σ : cS} {q i : Nat} {s : List Nat} (h : STR σ q s) (h8 : ∀ z, z ∈ s → z < 256) (hi : i < s.length) (hl : s.length < 2000) : m_J4_charAt q (Int32.ofNat i) σ = some (Int32.ofNat (s.getD i 0), σ) := by
  obtain ⟨b, x, z, f, h1, h2, h3⟩ := h
  have hb : s.getD i 0 < 256 := by
    rw [List.getD_eq_getElem?_getD, List.getElem?_eq_getElem hi]
    exact h8 _ (List.getElem_mem _)
  have hck : m_J4_checkIndex (Int32.ofNat i) (Int32.ofNat s.length) σ = some (0, σ) := by
    unfold m_J4_checkIndex m_J7_checkIndex
    rw [if_neg (by rw [J_nn (by omega)]; exact id), iJ_lt (by omega) (by omega), if_pos hi, bd_J]
  unfold m_J4_charAt m_J4_isLatin1 m_J6_charAt
  rw [nn_J h1, if_neg (by decide), gI_J h1 rfl, if_pos rfl, show rz (1 : Int32) σ = some (1, σ) from rfl, bd_J, if_neg (by decide), gR_J h1 rfl, aL_J h2 (by show 1 < 6; decide)]
  dsimp only
  rw [hck, bd_J, aI_J h2 hi (by omega), h3 i hi, byte_back _ hb, rc_J hb, bd_J, rc_J hb]
def gwa (b : Bool) : Nat := if b then 2 else 3
def jnS (b : Bool) : List Nat := if b then [32, 97, 110, 100, 32] else [32, 111, 114, 32]
def jnW (b : Bool) (ts : Nat → Term) : Nat → List Nat
  | 0 => gW (gwa b) (ts 0)
  | k + 1 => jnW b ts k ++ (jnS b ++ gW (gwa b) (ts (k + 1)))
theorem gW_fold {b : Bool} {ts : Nat → Term} : ∀ k, gW (gwa b) (foldF b ts k) = jnW b ts k := by
  intro k
  induction k with
  | zero => rfl
  | succ k ih =>
    cases b with
    | true =>
      show brk (decide (2 < 2)) (gW 2 (foldF true ts k) ++ 32 :: 97 :: 110 :: 100 :: 32 :: gW 2 (ts (k + 1))) = jnW true ts k ++ ([32, 97, 110, 100, 32] ++ gW 2 (ts (k + 1)))
      rw [← ih]
      rfl
    | false =>
      show brk (decide (3 < 3)) (gW 3 (foldF false ts k) ++ 32 :: 111 :: 114 :: 32 :: gW 3 (ts (k + 1))) = jnW false ts k ++ ([32, 111, 114, 32] ++ gW 3 (ts (k + 1)))
      rw [← ih]
      rfl
theorem gW_foldA {b : Bool} {ts : Nat → Term} {k a : Nat} (hk : 1 ≤ k) : gW a (foldF b ts k) = brk (decide (a < gwa b)) (jnW b ts k) := by
  obtain ⟨k, rfl⟩ : ∃ k', k = k' + 1 := ⟨k - 1, by omega⟩
  cases b with
  | true =>
    show brk (decide (a < 2)) (gW 2 (foldF true ts k) ++ 32 :: 97 :: 110 :: 100 :: 32 :: gW 2 (ts (k + 1))) = _
    rw [show gW 2 (foldF true ts k) = jnW true ts k from gW_fold (b := true) k]
    rfl
  | false =>
    show brk (decide (a < 3)) (gW 3 (foldF false ts k) ++ 32 :: 111 :: 114 :: 32 :: gW 3 (ts (k + 1))) = _
    rw [show gW 3 (foldF false ts k) = jnW false ts k from gW_fold (b := false) k]
    rfl
theorem brk_l {b : Bool} {s : List Nat} : s.length ≤ (brk b s).length := by
  unfold brk
  split
  · show _ ≤ (40 :: 32 :: (s ++ [32, 41])).length
    simp only [List.length_cons, List.length_append]
    omega
  · exact Nat.le_refl _
theorem jnW_l {b : Bool} {ts : Nat → Term} {k : Nat} : ∀ j, (jnW b ts k).length ≤ (jnW b ts (k + j)).length := by
  intro j
  induction j with
  | zero => exact Nat.le_refl _
  | succ j ih =>
    refine Nat.le_trans ih ?_
    show _ ≤ (jnW b ts (k + j) ++ _).length
    rw [List.length_append]
    omega
section GWR
variable {x wa dq sl bu re n m : Nat} {S : SS} {PA : List Nat} {ka L : Nat → Nat}
/-- what has been written -/
def WrO (x : Nat) (S : SS) (wa dq sl bu re : Nat) (PA : List Nat) (ka L : Nat → Nat) (n m : Nat) (o : oW) (σ : cS) (B : List Nat) (r : Option (Int32 × cS)) : Prop := ∃ σ' o', r = some (0, σ') ∧ PB o' σ' x S wa dq sl bu re PA ka L n m B ∧ KG S o σ o' σ'
theorem WrO.then {o o1 : oW} {σ σ1 : cS} {B : List Nat} {r : Option (Int32 × cS)} (h : WrO x S wa dq sl bu re PA ka L n m o1 σ1 B r) (k : KG S o σ o1 σ1) : WrO x S wa dq sl bu re PA ka L n m o σ B r := by
  obtain ⟨σ', o', e, P, g⟩ := h
  exact ⟨σ', o', e, P, k.trans g⟩
theorem WrO.a {o : oW} {σ : cS} {B B' : List Nat} {r : Option (Int32 × cS)} (h : WrO x S wa dq sl bu re PA ka L n m o σ B r) (e : B = B') : WrO x S wa dq sl bu re PA ka L n m o σ B' r := e ▸ h
theorem PB.con {o : oW} {σ : cS} {B : List Nat} (h : PB o σ x S wa dq sl bu re PA ka L n m B) (hO : SFk S) {k : Nat} (hk : k < 35) (h10 : (txL.getD k []).length ≤ 10) (hl : B.length + (txL.getD k []).length ≤ 900) : ∃ σ' o', m_J3_append_2 re (some (σ.2 (20 + k))) σ = some (some re, σ') ∧ PB o' σ' x S wa dq sl bu re PA ka L n m (B ++ txL.getD k []) ∧ KG S o σ o' σ' := h.str hO (h.SK.2.2.1 k hk) h10 hl
/-- how tightly a guard binds: as the text needs it -/
theorem tight {o : oW} {σ : cS} {d : Nat → Nat} {D p : Nat} {tm : Term} (h : GuardC o σ d D p tm) : ∃ T, dsp σ [(5, m_X8_tightness p σ), (4, m_X12_tightness p σ), (6, m_X12_tightness p σ), (7, m_X12_tightness p σ)] p = some (Int32.ofNat T, σ) ∧ T ≤ 2 ∧ ∀ a, a ≤ 2 → gW (3 - a) tm = brk (decide (T < a)) (gW 9 tm) := by
  cases D with
  | zero => exact h.elim
  | succ D =>
    obtain ⟨-, h2⟩ := h
    have nb : ∀ (T a : Nat) (s : List Nat), 2 ≤ T → a ≤ 2 → s = brk (decide (T < a)) s := fun T a s h h' => by
      rw [decide_eq_false (by omega)]
      rfl
    rcases h2 with ⟨s, e, e2, e3⟩ | ⟨e, e3⟩ | ⟨p', u, e, e3, e4⟩ | ⟨b, li, ar, m, r, ts, ⟨e8, e⟩, e3, ⟨-, -, e6⟩, e7⟩
    · refine ⟨2, ?_, Nat.le_refl _, fun a ha => by rw [e]; exact nb 2 a _ (Nat.le_refl _) ha⟩
      show (if isO σ p 5 = true then m_X8_tightness p σ else if isO σ p 4 = true then m_X12_tightness p σ else _) = _
      rw [isO_J e3, isO_J e3, if_neg (by decide), if_pos (by decide)]
      rfl
    · refine ⟨2, ?_, Nat.le_refl _, fun a ha => by rw [e]; exact nb 2 a _ (Nat.le_refl _) ha⟩
      show (if isO σ p 5 = true then m_X8_tightness p σ else if isO σ p 4 = true then m_X12_tightness p σ else if isO σ p 6 = true then m_X12_tightness p σ else if isO σ p 7 = true then m_X12_tightness p σ else _) = _
      rw [isO_J e3, isO_J e3, isO_J e3, isO_J e3, if_neg (by decide), if_neg (by decide), if_neg (by decide), if_pos (by decide)]
      rfl
    · refine ⟨2, ?_, Nat.le_refl _, fun a ha => by rw [e]; exact nb 2 a _ (Nat.le_refl _) ha⟩
      show (if isO σ p 5 = true then m_X8_tightness p σ else if isO σ p 4 = true then m_X12_tightness p σ else if isO σ p 6 = true then m_X12_tightness p σ else _) = _
      rw [isO_J e3, isO_J e3, isO_J e3, if_neg (by decide), if_neg (by decide), if_pos (by decide)]
      rfl
    · refine ⟨if b then 1 else 0, ?_, by cases b <;> decide, fun a ha => ?_⟩
      · show (if isO σ p 5 = true then m_X8_tightness p σ else _) = _
        rw [isO_J e3, if_pos (by decide)]
        unfold m_X8_tightness
        rw [gI_J e3 rfl]
        cases b <;> rfl
      · rw [e, gW_foldA e8.1, gW_foldA e8.1]
        have h9 : brk (decide (9 < gwa b)) (jnW b ts m) = jnW b ts m := by cases b <;> rfl
        rw [h9]
        congr 1
        have : ∀ a, a ≤ 2 → decide (3 - a < gwa b) = decide ((if b then 1 else 0) < a) := by cases b <;> decide
        exact this a ha
theorem w_inside (hO : SFk S) {F : Nat → Option Nat → cS → Option (Int32 × cS)} {D p T : Nat} {tm : Term} {o : oW} {σ : cS} {B : List Nat} (hF : ∀ (o : oW) (σ : cS) (B : List Nat), PB o σ x S wa dq sl bu re PA ka L n m B → GuardC o σ S.1.1 D p tm → (B ++ gW 9 tm).length ≤ 890 → WrO x S wa dq sl bu re PA ka L n m o σ (B ++ gW 9 tm) (F p (some re) σ)) (P : PB o σ x S wa dq sl bu re PA ka L n m B) (h : GuardC o σ S.1.1 D p tm) (hT : T ≤ 2) (hl : (B ++ gW (3 - T) tm).length ≤ 890) : WrO x S wa dq sl bu re PA ka L n m o σ (B ++ gW (3 - T) tm) (m_X12_writeInside F (some p) (Int32.ofNat T) (some re) σ) := by
  obtain ⟨T1, e1, hT1, e2⟩ := tight h
  rw [e2 T hT] at hl ⊢
  unfold m_X12_writeInside b_X12_writeInside_15 b_X12_writeInside_28 b_X12_writeInside_51
  rw [icl_J, e1, bd_J, iJ_le (by omega) (by omega)]
  by_cases c : T ≤ T1
  · rw [decide_eq_false (by omega)] at hl ⊢
    have hl' : B.length + (gW 9 tm).length ≤ 890 := by rw [← List.length_append]; exact hl
    obtain ⟨σ1, o1, r1, P1, g1⟩ := P.con hO (k := 7) (by decide) (by decide) (by show B.length + 0 ≤ 900; omega)
    rw [show B ++ txL.getD 7 [] = B from List.append_nil B] at P1
    obtain ⟨σ2, o2, r2, P2, g2⟩ := hF o1 σ1 B P1 (g1.1 _ _ _ h) hl
    obtain ⟨σ3, o3, r3, P3, g3⟩ := P2.con hO (k := 7) (by decide) (by decide) (by rw [List.length_append]; show B.length + _ + 0 ≤ 900; omega)
    rw [show ∀ Z : List Nat, Z ++ txL.getD 7 [] = Z from List.append_nil] at P3
    rw [if_pos c, if_pos rfl, P.nn]
    show WrO x S wa dq sl bu re PA ka L n m o σ _ (bd (m_J3_append_2 re (some (σ.2 (20 + 7))) σ) _)
    rw [r1, bd_J, icl_J, r2, bd_J, if_pos rfl, P2.nn]
    show WrO x S wa dq sl bu re PA ka L n m o σ _ (bd (m_J3_append_2 re (some (σ2.2 (20 + 7))) σ2) _)
    rw [r3, bd_J]
    exact ⟨σ3, o3, rfl, P3, g1.trans (g2.trans g3)⟩
  · rw [decide_eq_true (by omega)] at hl ⊢
    have hl' : B.length + ((gW 9 tm).length + 4) ≤ 890 := by
      have : (B ++ 40 :: 32 :: (gW 9 tm ++ [32, 41])).length ≤ 890 := hl
      simp only [List.length_append, List.length_cons, List.length_nil] at this
      omega
    obtain ⟨σ1, o1, r1, P1, g1⟩ := P.con hO (k := 33) (by decide) (by decide) (by show B.length + 2 ≤ 900; omega)
    rw [show B ++ txL.getD 33 [] = B ++ [40, 32] from rfl] at P1
    have e10 : (B ++ [40, 32]).length = B.length + 2 := by rw [List.length_append]; rfl
    obtain ⟨σ2, o2, r2, P2, g2⟩ := hF o1 σ1 _ P1 (g1.1 _ _ _ h) (by rw [List.length_append, e10]; omega)
    obtain ⟨σ3, o3, r3, P3, g3⟩ := P2.con hO (k := 34) (by decide) (by decide) (by rw [List.length_append, e10]; show _ + 2 ≤ 900; omega)
    have e11 : B ++ [40, 32] ++ gW 9 tm ++ txL.getD 34 [] = B ++ brk true (gW 9 tm) := by
      show B ++ [40, 32] ++ gW 9 tm ++ [32, 41] = B ++ (40 :: 32 :: (gW 9 tm ++ [32, 41]))
      simp
    rw [e11] at P3
    rw [if_neg c, if_neg (by decide), P.nn]
    show WrO x S wa dq sl bu re PA ka L n m o σ _ (bd (m_J3_append_2 re (some (σ.2 (20 + 33))) σ) _)
    rw [r1, bd_J, icl_J, r2, bd_J, if_neg (by decide), P2.nn]
    show WrO x S wa dq sl bu re PA ka L n m o σ _ (bd (m_J3_append_2 re (some (σ2.2 (20 + 34))) σ2) _)
    rw [r3, bd_J]
    exact ⟨σ3, o3, rfl, P3, g1.trans (g2.trans g3)⟩
theorem cl_write (hO : SFk S) : ∀ D E p tm (o : oW) (σ : cS) (B : List Nat), D ≤ E → PB o σ x S wa dq sl bu re PA ka L n m B → GuardC o σ S.1.1 D p tm → (B ++ gW 9 tm).length ≤ 890 → WrO x S wa dq sl bu re PA ka L n m o σ (B ++ gW 9 tm) (dv_write E p (some re) σ) := by
  have h4 := hO.1.1
  intro D
  induction D with
  | zero => intro E p tm o σ B _ _ h _; exact h.elim
  | succ D ih =>
    intro E p tm o σ B hE P h hl
    obtain ⟨E, rfl⟩ : ∃ E', E = E' + 1 := ⟨E - 1, by omega⟩
    obtain ⟨h0, h2⟩ := id h
    have hS := P.SK.1
    show WrO x S wa dq sl bu re PA ka L n m o σ (B ++ gW 9 tm) (if isO σ p 4 = true then m_X7_write (dv_write E) p (some re) σ else if isO σ p 5 = true then m_X8_write (dv_write E) p (some re) σ else if isO σ p 6 = true then m_X5_write (dv_write E) p (some re) σ else if isO σ p 7 = true then m_X6_write (dv_write E) p (some re) σ else none)
    rcases h2 with ⟨s, e, e2, e3⟩ | ⟨e, e3⟩ | ⟨p', u, e, e3, e4⟩ | ⟨b, li, ar, k, r, ts, ⟨e8, e⟩, e3, ⟨e60, e61, e6⟩, e7⟩
    · obtain ⟨w1, w2, w3, w4⟩ := e2
      rw [isO_J e3, if_pos (by decide), e]
      rw [e] at hl
      have hl' : B.length + 5 ≤ 890 := by rw [List.length_append] at hl; exact hl
      have h49 : STR σ (σ.2 49) [97, 98, 99, 100] := (P.SK.2.2.1 29 (by decide)).s
      have hd : [97, 98, 99, 100].getD ((s - 10) / 16) 0 = 97 + (s - 10) / 16 := by
        have : ∀ i, i < 4 → [97, 98, 99, 100].getD i 0 = 97 + i := by decide
        exact this _ (by omega)
      have hsg : sgN ((s - 10) / 4 % 4) < 256 ∧ sgN ((s - 10) / 4 % 4) = sgC s := by
        unfold sgN sgC
        refine ⟨?_, rfl⟩
        split
        · decide
        · split <;> decide
      have la : ∀ (A : List Nat) (c : Nat), (A ++ [c]).length = A.length + 1 := fun A c => by rw [List.length_append]; rfl
      obtain ⟨σ1, o1, r1, P1, g1⟩ := P.chr hO (c := 97 + (s - 10) / 16) (by omega) (by omega)
      obtain ⟨σ2, o2, r2, P2, g2⟩ := P1.chr hO (c := 32) (by decide) (by rw [la]; omega)
      obtain ⟨σ3, o3, r3, P3, g3⟩ := P2.chr hO (c := sgN ((s - 10) / 4 % 4)) hsg.1 (by rw [la, la]; omega)
      obtain ⟨σ4, o4, r4, P4, g4⟩ := P3.chr hO (c := 32) (by decide) (by rw [la, la, la]; omega)
      obtain ⟨σ5, o5, r5, P5, g5⟩ := P4.int hO (z := (s - 10) % 4) (by omega) (by rw [la, la, la, la]; omega)
      have k2 := (g1.trans g2).2.1 _ _ h0 e3
      have k4 := (g1.trans (g2.trans (g3.trans g4))).2.1 _ _ h0 e3
      unfold m_X7_write
      rw [gI_J e3 rfl, h49.nn, h49.at (by decide) (by show _ < 4; omega) (by decide), bd_J, hd, P.nn, r1, bd_J, P1.nn]
      show WrO x S wa dq sl bu re PA ka L n m o σ _ (bd (m_J3_append_3 re (Int32.ofNat 32) σ1) _)
      rw [r2, bd_J, gI_J k2.2 rfl, P2.nn, r3, bd_J, P3.nn]
      show WrO x S wa dq sl bu re PA ka L n m o σ _ (bd (m_J3_append_3 re (Int32.ofNat 32) σ3) _)
      rw [r4, bd_J, gI_J k4.2 rfl, P4.nn, r5, bd_J]
      refine ⟨σ5, o5, rfl, ?_, g1.trans (g2.trans (g3.trans (g4.trans g5)))⟩
      have ee : B ++ [97 + (s - 10) / 16] ++ [32] ++ [sgN ((s - 10) / 4 % 4)] ++ [32] ++ decN ((s - 10) % 4) = B ++ gW 9 (.arg s) := by
        rw [decN_1 (by omega), hsg.2]
        simp [gW]
      rw [ee] at P5
      exact P5
    · rw [isO_J e3, isO_J e3, isO_J e3, isO_J e3, if_neg (by decide), if_neg (by decide), if_neg (by decide), if_pos (by decide), e]
      rw [e] at hl
      unfold m_X6_write
      have hl' : B.length + 6 ≤ 890 := by rw [List.length_append] at hl; exact hl
      obtain ⟨σ1, o1, r1, P1, g1⟩ := P.con hO (k := 27) (by decide) (by decide) (by show B.length + 6 ≤ 900; omega)
      rw [P.nn]
      show WrO x S wa dq sl bu re PA ka L n m o σ _ (bd (m_J3_append_2 re (some (σ.2 (20 + 27))) σ) _)
      rw [r1, bd_J]
      exact ⟨σ1, o1, rfl, P1, g1⟩
    · rw [isO_J e3, isO_J e3, isO_J e3, if_neg (by decide), if_neg (by decide), if_pos (by decide), e]
      rw [e] at hl
      have eg : B ++ gW 9 (.length u) = B ++ [110, 111, 116, 32] ++ gW (3 - 2) u := by
        show B ++ (110 :: 111 :: 116 :: 32 :: gW 1 u) = _
        simp
      rw [eg] at hl ⊢
      unfold m_X5_write
      have hl' : B.length + 4 ≤ 890 := by rw [List.length_append, List.length_append] at hl; exact Nat.le_trans (Nat.le_add_right _ _) hl
      obtain ⟨σ1, o1, r1, P1, g1⟩ := P.con hO (k := 32) (by decide) (by decide) (by show B.length + 4 ≤ 900; omega)
      have e3' := (g1.2.1 _ _ h0 e3).2
      rw [P.nn]
      show WrO x S wa dq sl bu re PA ka L n m o σ _ (bd (m_J3_append_2 re (some (σ.2 (20 + 32))) σ) _)
      rw [r1, bd_J, gR_J e3' rfl]
      refine WrO.then ?_ g1
      have := w_inside (T := 2) hO (fun o σ B P h hl => ih E p' u o σ B (by omega) P h hl) P1 (g1.1 _ _ _ e4) (by decide) hl
      obtain ⟨σ2, o2, r2, P2, g2⟩ := this
      show WrO x S wa dq sl bu re PA ka L n m o1 σ1 _ (bd (m_X12_writeInside (dv_write E) (some p') (Int32.ofNat 2) (some re) σ1) _)
      rw [r2, bd_J]
      exact ⟨σ2, o2, rfl, P2, g2⟩
    · rw [isO_J e3, isO_J e3, if_neg (by decide), if_pos (by decide)]
      rw [e, gW_foldA e8.1, show brk (decide (9 < gwa b)) (jnW b ts k) = jnW b ts k from by cases b <;> rfl] at hl ⊢
      rw [List.length_append] at hl
      obtain ⟨⟨mc, f1⟩, cap, f, f2, -⟩ := id e6
      unfold m_X8_write
      have loop : ∀ j i g (o1 : oW) (σ1 : cS) (B1 : List Nat), i + j = k + 1 → j < g → KG S o σ o1 σ1 → PB o1 σ1 x S wa dq sl bu re PA ka L n m B1 → ((i = 0 ∧ B1 = B) ∨ (1 ≤ i ∧ B1 = B ++ jnW b ts (i - 1))) → WrO x S wa dq sl bu re PA ka L n m o σ (B ++ jnW b ts k) (b_X8_write_2 (dv_write E) p g (some re) (Int32.ofNat i) σ1) := by
        intro j
        induction j with
        | zero =>
          intro i g o1 σ1 B1 hi hg K1 P1 hB
          obtain ⟨g, rfl⟩ : ∃ g', g = g' + 1 := ⟨g - 1, by omega⟩
          have a3 := (K1.2.1 _ _ h0 e3).2
          have al : AL σ1 li ar (k + 1) r := e6.to (by rw [f1]; exact (K1.2.1 _ _ e60 f1).2) (by rw [f2]; exact (K1.2.1 _ _ e61 f2).2) K1.2.2
          rw [b_X8_write_2, gR_J a3 rfl, al.nn, al.size, bd_J, iJ_le (by omega) (by omega), if_pos (by omega)]
          rcases hB with ⟨q, -⟩ | ⟨-, q⟩
          · omega
          · rw [show i - 1 = k by omega] at q
            rw [← q]
            exact ⟨σ1, o1, rfl, P1, K1⟩
        | succ j ij =>
          intro i g o1 σ1 B1 hi hg K1 P1 hB
          obtain ⟨g, rfl⟩ : ∃ g', g = g' + 1 := ⟨g - 1, by omega⟩
          have a3 := (K1.2.1 _ _ h0 e3).2
          have al : AL σ1 li ar (k + 1) r := e6.to (by rw [f1]; exact (K1.2.1 _ _ e60 f1).2) (by rw [f2]; exact (K1.2.1 _ _ e61 f2).2) K1.2.2
          have mono := jnW_l (b := b) (ts := ts) (k := i) (k - i)
          rw [show i + (k - i) = k by omega] at mono
          -- the rest of a pass
          have body : ∀ (s : Nat), (s < 35 ∧ (txL.getD s []).length ≤ 10) → B1 ++ txL.getD s [] ++ gW (gwa b) (ts i) = B ++ jnW b ts i → WrO x S wa dq sl bu re PA ka L n m o σ (B ++ jnW b ts k) (b_X8_write_37 (dv_write E) p (b_X8_write_2 (dv_write E) p g) (some re) (Int32.ofNat i) (some re) (some (σ1.2 (20 + s))) σ1) := by
            intro s hs es
            have el := congrArg List.length es
            rw [List.length_append, List.length_append, List.length_append] at el
            obtain ⟨σ2, o2, r2, P2, g2⟩ := P1.con hO hs.1 hs.2 (by omega)
            have K2 := K1.trans g2
            have b3 := (K2.2.1 _ _ h0 e3).2
            have bl : AL σ2 li ar (k + 1) r := e6.to (by rw [f1]; exact (K2.2.1 _ _ e60 f1).2) (by rw [f2]; exact (K2.2.1 _ _ e61 f2).2) K2.2.2
            have gi := K2.1 _ _ _ (e7 i (by omega))
            unfold b_X8_write_37
            rw [P1.nn, r2, bd_J, gR_J b3 rfl, bl.nn, bl.get (by omega), bd_J, gi.cst, nn_J b3]
            have ht : m_X8_tightness p σ2 = some (Int32.ofNat (3 - gwa b), σ2) := by
              unfold m_X8_tightness
              rw [gI_J b3 rfl]
              cases b <;> rfl
            have e3a : 3 - (3 - gwa b) = gwa b := by cases b <;> rfl
            have hwi := w_inside (T := 3 - gwa b) hO (fun o σ B P h hl => ih E (r i) (ts i) o σ B (by omega) P h hl) P2 gi (by cases b <;> decide) (by rw [e3a, es, List.length_append]; omega)
            rw [e3a, es] at hwi
            obtain ⟨σ3, o3, r3, P3, g3⟩ := hwi
            rw [ht, bd_J, r3, bd_J, lt_J, J_addL]
            exact ij (i + 1) g o3 σ3 _ (by omega) (by omega) (K2.trans g3) P3 (Or.inr ⟨by omega, rfl⟩)
          rw [b_X8_write_2, gR_J a3 rfl, al.nn, al.size, bd_J, iJ_le (by omega) (by omega), if_neg (by omega), iJ_eqL (by omega) (by decide)]
          by_cases ci : i = 0
          · rw [if_pos (show i = OfNat.ofNat 0 from ci)]
            refine body 7 (by decide) ?_
            rcases hB with ⟨-, q⟩ | ⟨q, -⟩
            · rw [q, ci]
              show B ++ [] ++ gW (gwa b) (ts 0) = B ++ gW (gwa b) (ts 0)
              rw [List.append_nil]
            · omega
          · rw [if_neg (show ¬ i = OfNat.ofNat 0 from ci), gI_J a3 rfl]
            have hB' : B1 = B ++ jnW b ts (i - 1) := by
              rcases hB with ⟨q, -⟩ | ⟨-, q⟩
              · exact absurd q ci
              · exact q
            have ej : jnW b ts i = jnW b ts (i - 1) ++ (jnS b ++ gW (gwa b) (ts i)) := by
              obtain ⟨i, rfl⟩ : ∃ i', i = i' + 1 := ⟨i - 1, by omega⟩
              rfl
            cases b with
            | true =>
              rw [if_neg (by decide)]
              refine body 30 (by decide) ?_
              rw [hB', ej]
              simp [List.append_assoc, jnS]
              rfl
            | false =>
              rw [if_pos (by decide)]
              refine body 31 (by decide) ?_
              rw [hB', ej]
              simp [List.append_assoc, jnS]
              rfl
      exact loop (k + 1) 0 FU o σ B (by omega) (by show k + 1 < 4096; omega) KG.rf P (Or.inl ⟨rfl, rfl⟩)
end GWR
