/-! THE PLAIN LAW, the class' side: undo and snapshots -/
set_option maxRecDepth 100000
section UND
variable {o : oW} {σ σ' : cS} {x wa dq sl bu re : Nat} {S : SS} {PA : List Nat} {ka : Nat → Nat}
/-- the object's own cells change: the wills stay -/
theorem CIx.mo {M : Nat → Prop} (h : CIx o σ x S wa dq sl bu re PA ka) (hS : SI o σ) (C : Ch M σ σ') (hM : ∀ q, q < σ.2 0 → M q → (o q).1 = x + 1) : ∀ p V, FOk V.1 → WX o σ p V → WX o σ' p V := fun p V hV hp => hp.c hV C hS (fun q hq w => by rw [hM q hq w]; have := h.ne hp; omega) (fun _ _ => rfl)
theorem mF_0 {p : Nat} : List.set (mF wa dq sl bu re) 0 (.ref p) = mF p dq sl bu re := rfl
end UND
theorem pc_undo {o : oW} {σ : cS} {x : Nat} {S : SS} (h : CInv o σ x S) (hO : SSok S) : CRp x (m_X1_undo x σ) (sp_undo S).2.1 (sp_undo S).2.2 := by
  obtain ⟨⟨hS, hK⟩, wa, dq, sl, bu, re, PA, ka, hX⟩ := h
  obtain ⟨⟨x1, xc⟩, d1, s1, b1, r1, w1, ⟨p0, p1⟩, k1, n1, n2⟩ := id hX
  have hemp : m_J1_isEmpty dq σ = some (b32 (decide (PA.length = 0)), σ) := by
    obtain ⟨-, da, hd, f, -, h3, -, ⟨h5, h6⟩, -⟩ := d1
    unfold m_J1_isEmpty
    rw [gI_J h3 rfl, gI_J h3 rfl, iJ_eq (by omega) (by omega)]
    by_cases c : PA.length = 0
    · rw [if_pos (by omega), decide_eq_true c]; rfl
    · rw [if_neg (by omega), decide_eq_false c]; rfl
  unfold m_X1_undo sp_undo
  rw [gR_J xc rfl, dq_nn d1, hemp, bd_J, ite_pq (b32_0 _)]
  rcases List.eq_nil_or_concat PA with e | ⟨P0, p, e⟩
  · have e2 : S.2.1 = [] := List.length_eq_zero_iff.mp (by rw [← p0, e]; rfl)
    rw [e, e2, if_neg (by decide)]
    exact ⟨o, σ, rfl, ⟨hS, hK⟩, wa, dq, sl, bu, re, PA, ka, hX⟩
  · rw [List.concat_eq_append] at e
    subst e
    rcases List.eq_nil_or_concat S.2.1 with e2 | ⟨Q0, V, e2⟩
    · rw [e2] at p0; simp at p0
    · rw [List.concat_eq_append] at e2
      have hlen : P0.length = Q0.length := by rw [e2] at p0; simpa using p0
      have hpl : (P0 ++ [p]).length ≠ 0 := by simp
      have wp : WX o σ p V := p1 P0.length p V (by rw [List.getElem?_append_right (Nat.le_refl _), Nat.sub_self]; rfl) (by rw [e2, hlen, List.getElem?_append_right (Nat.le_refl _), Nat.sub_self]; rfl)
      have hVm : V ∈ S.2.1 := by rw [e2]; simp
      obtain ⟨σ1, e1, D1, C1, q1⟩ := dq_last hS d1
      have hM1 : ∀ q, q < σ.2 0 → DqM o x q → (o q).1 = x + 1 := fun q _ w => by rcases w with w | w <;> rw [w]
      have xM : ¬ DqM o x x := fun w => by
        rcases w with w | w <;> · rw [x1] at w; exact absurd (rn w) (by decide)
      have xc1 : σ1.1 x = some (.inr (0, mF wa dq sl bu re)) := C1.c hS.1 xc xM
      have tr1 := hX.mo hS C1 hM1
      obtain ⟨fs, pc⟩ := (tr1 p V (hO.2.2.1 V hVm).1.1 wp).cl
      rw [decide_eq_false hpl, if_pos rfl, gR_J xc rfl, dq_nn d1, e1, bd_J, cst_J pc (by decide) rfl, pO_J xc1 (by show 0 < 5; decide) (by rw [q1]; exact hS.w x1)]
      have C2 : Ch (fun q => (o q).1 = x + 1) σ (cU σ1 x (.inr (0, List.set (mF wa dq sl bu re) 0 (va_rf (some p))))) := (C1.mono hM1).cU xc1 (Or.inr (by rw [x1]))
      have D2 : Ch (fun q => q = x) σ1 (cU σ1 x (.inr (0, List.set (mF wa dq sl bu re) 0 (va_rf (some p))))) := Ch.rf.cU xc1 (Or.inr rfl)
      have xc2 : (cU σ1 x (.inr (0, List.set (mF wa dq sl bu re) 0 (va_rf (some p))))).1 x = some (.inr (0, mF p dq sl bu re)) := cU_s
      generalize cU σ1 x (.inr (0, List.set (mF wa dq sl bu re) 0 (va_rf (some p)))) = σ2 at C2 D2 xc2 ⊢
      have S1 := hS.ch C1
      have nx : ∀ {q k : Nat}, o q = (x + 1, k) → k ≠ 0 → ¬ q = x := fun {q k} hq hk w => by
        rw [w, x1] at hq; exact hk (congrArg Prod.snd hq).symm
      have D3 : DQc o σ2 x dq P0 := by
        obtain ⟨g1, da, hd, f, g2, g3, g4, g5⟩ := D1
        exact ⟨g1, da, hd, f, g2, D2.c S1.1 g3 (nx g1 (by decide)), D2.c S1.1 g4 (nx g2 (by decide)), g5⟩
      have tr2 := hX.mo hS C2 (fun q _ w => w)
      have nd : ∀ {q k : Nat}, o q = (x + 1, k) → k ≠ 1 → k ≠ 2 → ¬ DqM o x q := fun {q k} hq h1 h2 w => by
        rcases w with w | w
        · rw [hq] at w; exact h1 (congrArg Prod.snd w)
        · rw [hq] at w; exact h2 (congrArg Prod.snd w)
      have cc : ∀ {q k : Nat} {e : cE}, o q = (x + 1, k) → 3 ≤ k → σ.1 q = some e → σ2.1 q = some e := fun {q k e} hq hk hc => D2.c S1.1 (C1.c hS.1 hc (nd hq (by omega) (by omega))) (nx hq (by omega))
      have sb : ∀ {k p : Nat} {B : List Nat}, 3 ≤ k → SBc o σ x k p B → SBc o σ2 x k p B := fun {k p B} hk hB => by
        obtain ⟨g1, by_, cap, f, ml, g2, g3, g4, g5⟩ := hB
        exact ⟨g1, by_, cap, f, ml, g2, cc g1 hk g3, cc g2 (by omega) g4, g5⟩
      have hK2 : KA o σ2 := hK.c C2 hS.1 (fun q _ w => by rw [w]; exact Nat.succ_ne_zero _) (fun _ _ => rfl)
      have hnd := List.nodup_append.mp (List.nodup_cons.mp n1).2
      rw [gR_J xc2 rfl, dq_nn D3, dq_size D3, bd_J, e2, List.getLast?_concat, List.dropLast_concat]
      have hl : (Q0 ++ [V]).length - 1 = P0.length := by simp [hlen]
      dsimp only
      rw [hl]
      refine ⟨o, σ2, rfl, ⟨hS.ch C2, hK2⟩, p, dq, sl, bu, re, P0, ka, ⟨⟨x1, xc2⟩, D3, ?_, sb (by decide) b1, sb (by decide) r1, tr2 p V (hO.2.2.1 V hVm).1.1 wp, ⟨hlen, fun j z U hz hU => ?_⟩, fun j U hj hU => tr2 _ U (hO.2.2.2.1 j U hj hU).1.1 (k1 j U hj hU), ?_, fun j U hj hU => ?_⟩⟩
      · obtain ⟨g1, g, g2, g3⟩ := s1
        exact ⟨g1, g, cc g1 (by decide) g2, g3⟩
      · have hzl := (List.getElem?_eq_some_iff.mp hz).1
        have hUl := (List.getElem?_eq_some_iff.mp hU).1
        have hU2 : S.2.1[j]? = some U := by rw [e2, List.getElem?_append_left hUl]; exact hU
        exact tr2 z U (hO.2.2.1 U (List.mem_of_getElem? hU2)).1.1 (p1 j z U (by rw [List.getElem?_append_left hzl]; exact hz) hU2)
      · refine List.nodup_cons.mpr ⟨fun w => ?_, hnd.1⟩
        exact hnd.2.2 p w p (by simp) rfl
      · have h0 := n2 j U hj hU
        intro w
        refine h0 (List.mem_cons.mpr (Or.inr ?_))
        rcases List.mem_cons.mp w with q | q
        · rw [q]; simp
        · exact List.mem_append.mpr (Or.inl q)
theorem pc_saveSnapshot {o : oW} {σ : cS} {x : Nat} {S : SS} (h : CInv o σ x S) (hO : SSok S) (hR : Rm σ 700 3000) (x1 : Int32) : CRs [1] x σ (m_X1_saveSnapshot x x1 σ) S (sp_saveSnapshot x1 S).1 (sp_saveSnapshot x1 S).2.1 (sp_saveSnapshot x1 S).2.2 := by
  have hW := hO.1.1
  obtain ⟨⟨hS, hK⟩, wa, dq, sl, bu, re, PA, ka, L, u, hX, hC, hF⟩ := h.parts
  have xc := hX.1.2
  unfold m_X1_saveSnapshot sp_saveSnapshot
  rw [cz_in (n := 2) (by decide)]
  cases hb : inB x1 2 with
  | false => rw [if_neg (by decide), if_neg (by decide), bdx_t hR]; exact CRs.t (j := 0) hR rfl
  | true =>
    obtain ⟨k, hk, rfl⟩ := inB_of hb
    obtain ⟨s1, g, g2, g3⟩ := id hX.2.2.1
    rw [if_pos (by decide), if_pos (by decide), bdx_l, gR_J xc rfl, aR_J g2 (by decide) hk (by decide), g3 k hk, J_cl (by omega)]
    obtain ⟨σ1, o1, L1, e1, N1, F1, ⟨S1, -⟩, C1, oo, R1⟩ := cl_dup (x := 0) (y := 0) hW hS hK.1 hC (hR.le (by decide) (by decide))
    have hlt : ∀ p V, WX o σ p V → p < σ.2 0 := fun p V hp => by
      obtain ⟨fs, c⟩ := hp.cl
      exact hS.lt c
    generalize hb : σ.2 0 = b at *
    have oo' : ∀ q, q < σ.2 0 → o1 q = o q := fun q hq => oo q (by omega)
    have X1 := hX.al (o' := o1) hO.f hS C1 oo'
    have K1 := hK.c C1 hS.1 (fun _ _ w => w.elim) oo'
    obtain ⟨⟨y1, yc⟩, d1, ⟨q1, gg, q2, q3⟩, b1, r1, w1, ⟨p0, p1⟩, k1, n1, n2⟩ := id X1
    have WXb : WX o1 σ1 b S.1 := ⟨L1, _, N1, FoundC.of F1⟩
    obtain ⟨fsb, bc⟩ := WXb.cl
    have step : ∀ s0 : Int32, s0 = 0 ∨ s0 = 1 → CRs [1] x σ (b_X1_saveSnapshot_20 x (Int32.ofNat k) s0 σ) S 0 s0 (S.1, S.2.1, upK S.2.2.1 k S.1, S.2.2.2) := by
      intro s0 hs0
      unfold b_X1_saveSnapshot_20
      rw [gR_J xc rfl, gR_J xc rfl, nn_J hC.w, e1, bd_J, sR_J q2 (okV_J bc rfl) (by decide) hk (by decide) (S1.w q1)]
      have hr : rz s0 (cU σ1 sl (.inl (3, 2, vR (va_up gg k (some b))))) = some (s0, cU σ1 sl (.inl (3, 2, vR (va_up gg k (some b))))) := by
        rcases hs0 with rfl | rfl <;> rfl
      have C2 : Ch (fun q => q = sl) σ1 (cU σ1 sl (.inl (3, 2, vR (va_up gg k (some b))))) := Ch.rf.cU q2 (Or.inr rfl)
      have sc2 : (cU σ1 sl (.inl (3, 2, vR (va_up gg k (some b))))).1 sl = some (.inl (3, 2, vR (va_up gg k (some b)))) := cU_s
      rw [hr, xl_J]
      generalize cU σ1 sl (.inl (3, 2, vR (va_up gg k (some b)))) = σ2 at C2 sc2 ⊢
      have hM : ∀ q, q < σ1.2 0 → q = sl → (o1 q).1 = x + 1 := fun q _ w => by rw [w, q1]
      have tr := X1.mo S1 C2 hM
      have ns : ∀ {q k : Nat}, o1 q = (x + 1, k) → k ≠ 3 → ¬ q = sl := fun {q k} hq hk w => by
        rw [w, q1] at hq; exact hk (congrArg Prod.snd hq).symm
      have sb : ∀ {k p : Nat} {B : List Nat}, 4 ≤ k → SBc o1 σ1 x k p B → SBc o1 σ2 x k p B := fun {k p B} hk hB => by
        obtain ⟨h1, by_, cap, f, ml, h2, h3, h4, h5⟩ := hB
        exact ⟨h1, by_, cap, f, ml, h2, C2.c S1.1 h3 (ns h1 (by omega)), C2.c S1.1 h4 (ns h2 (by omega)), h5⟩
      refine CRs.k (o' := o1) ⟨⟨S1.ch C2, K1.c C2 S1.1 (fun q hq w => by rw [hM q hq w]; exact Nat.succ_ne_zero _) (fun _ _ => rfl)⟩, wa, dq, sl, bu, re, PA, fun j => if j = k then b else ka j, ⟨⟨y1, C2.c S1.1 yc (ns y1 (by decide))⟩, ?_, ⟨q1, _, sc2, fun j hj => ?_⟩, sb (by decide) b1, sb (by decide) r1, tr wa _ hW.1 w1, ⟨p0, fun j p V hp hV => tr p V (hO.2.2.1 V (List.mem_of_getElem? hV)).1.1 (p1 j p V hp hV)⟩, fun j V hj hV => ?_, n1, fun j V hj hV => ?_⟩⟩
      · obtain ⟨h1, da, hd, f, h2, h3, h4, h5⟩ := d1
        exact ⟨h1, da, hd, f, h2, C2.c S1.1 h3 (ns h1 (by decide)), C2.c S1.1 h4 (ns h2 (by decide)), h5⟩
      · show va_up gg k (some b) j = (upK S.2.2.1 k S.1 j).map fun _ => if j = k then b else ka j
        unfold upK
        by_cases c : j = k
        · rw [c, va_up_self, if_pos rfl, if_pos rfl]; rfl
        · rw [va_up_ne _ _ c, q3 j hj, if_neg c, if_neg c]
      · have hV : upK S.2.2.1 k S.1 j = some V := hV
        unfold upK at hV
        dsimp only
        by_cases c : j = k
        · rw [if_pos c] at hV ⊢
          cases hV
          exact tr b _ hW.1 WXb
        · rw [if_neg c] at hV ⊢
          exact tr _ V (hO.2.2.2.1 j V hj hV).1.1 (k1 j V hj hV)
      · have hV : upK S.2.2.1 k S.1 j = some V := hV
        unfold upK at hV
        dsimp only
        by_cases c : j = k
        · rw [if_pos c]
          intro w
          rcases List.mem_cons.mp w with q | q
          · have := hlt wa _ hX.2.2.2.2.2.1
            omega
          · obtain ⟨i, hi⟩ := List.getElem?_of_mem q
            have hl := (List.getElem?_eq_some_iff.mp hi).1
            have := hlt b _ (hX.2.2.2.2.2.2.1.2 i b _ hi (List.getElem?_eq_getElem (by rw [p0] at hl; exact hl)))
            omega
        · rw [if_neg c] at hV ⊢
          exact n2 j V hj hV
    cases hq : S.2.2.1 k with
    | none => rw [if_pos (show Option.map (fun _ => ka k) (none : Option Wl) = none from rfl)]; exact step 0 (Or.inl rfl)
    | some V => rw [if_neg (fun w => by cases w)]; exact step 1 (Or.inr rfl)
theorem pc_restoreSnapshot {o : oW} {σ : cS} {x : Nat} {S : SS} (h : CInv o σ x S) (hO : SSok S) (hR : Rm σ 700 3000) (x1 : Int32) : CRs [1, 4] x σ (m_X1_restoreSnapshot x x1 σ) S (sp_restoreSnapshot x1 S).1 (sp_restoreSnapshot x1 S).2.1 (sp_restoreSnapshot x1 S).2.2 := by
  obtain ⟨⟨hS, hK⟩, wa, dq, sl, bu, re, PA, ka, L, u, hX, hC, hF⟩ := h.parts
  have xc := hX.1.2
  unfold m_X1_restoreSnapshot sp_restoreSnapshot
  rw [cz_in (n := 2) (by decide)]
  cases hb : inB x1 2 with
  | false => rw [if_neg (by decide), if_neg (by decide), bdx_t hR]; exact CRs.t (j := 0) hR rfl
  | true =>
    obtain ⟨k, hk, rfl⟩ := inB_of hb
    obtain ⟨s1, g, g2, g3⟩ := id hX.2.2.1
    rw [if_pos (by decide), if_pos (by decide), bdx_l, gR_J xc rfl, aR_J g2 (by decide) hk (by decide), g3 k hk, J_cl (by omega)]
    cases hq : S.2.2.1 k with
    | none => rw [if_pos (show Option.map (fun _ => ka k) (none : Option Wl) = none from rfl)]; exact CRs.t (j := 1) hR rfl
    | some V =>
      have hV := hO.2.2.2.1 k V hk hq
      obtain ⟨Lk, uk, Ck, Fk⟩ := hX.2.2.2.2.2.2.2.1 k V hk hq
      obtain ⟨σ1, o1, L1, e1, N1, F1, ⟨S1, -⟩, C1, oo, R1⟩ := cl_dup (x := 0) (y := 0) hV.1 hS hK.1 Ck (hR.le (by decide) (by decide))
      have hlt : ∀ p V, WX o σ p V → p < σ.2 0 := fun p V hp => by
        obtain ⟨fs, c⟩ := hp.cl
        exact hS.lt c
      generalize hb : σ.2 0 = b at *
      have oo' : ∀ q, q < σ.2 0 → o1 q = o q := fun q hq => oo q (by omega)
      have X1 := hX.al (o' := o1) hO.f hS C1 oo'
      have K1 := hK.c C1 hS.1 (fun _ _ w => w.elim) oo'
      obtain ⟨⟨y1, yc⟩, d1, ⟨q1, gg, q2, q3⟩, b1, r1, w1, ⟨p0, p1⟩, k1, n1, n2⟩ := id X1
      have WXb : WX o1 σ1 b V := ⟨L1, _, N1, FoundC.of F1⟩
      have hmap : (some V).map (fun _ => ka k) = some (ka k) := rfl
      rw [hmap, if_neg (fun w => by cases w), gR_J xc rfl, aR_J g2 (by decide) hk (by decide), g3 k hk, hq, hmap, nn_J Ck.w, e1, bd_J, pO_J yc (by show 0 < 5; decide) (S1.w y1)]
      have C2 : Ch (fun q => q = x) σ1 (cU σ1 x (.inr (0, List.set (mF wa dq sl bu re) 0 (va_rf (some b))))) := Ch.rf.cU yc (Or.inr rfl)
      have xc2 : (cU σ1 x (.inr (0, List.set (mF wa dq sl bu re) 0 (va_rf (some b))))).1 x = some (.inr (0, mF b dq sl bu re)) := cU_s
      generalize cU σ1 x (.inr (0, List.set (mF wa dq sl bu re) 0 (va_rf (some b)))) = σ2 at C2 xc2 ⊢
      have nx : ∀ {q k : Nat}, o1 q = (x + 1, k) → k ≠ 0 → ¬ q = x := fun {q k} hq hk w => by
        rw [w, y1] at hq; exact hk (congrArg Prod.snd hq).symm
      have S2 := S1.ch C2
      have D2 : DQc o1 σ2 x dq PA := by
        obtain ⟨h1, da, hd, f, h2, h3, h4, h5⟩ := d1
        exact ⟨h1, da, hd, f, h2, C2.c S1.1 h3 (nx h1 (by decide)), C2.c S1.1 h4 (nx h2 (by decide)), h5⟩
      obtain ⟨σ3, e3, D3, C3, k3⟩ := dq_clear S2 D2
      rw [gR_J xc2 rfl, dq_nn D2, e3, bd_J]
      have hM3 : ∀ q, q < σ2.2 0 → DqM o1 x q → (o1 q).1 = x + 1 := fun q _ w => by rcases w with w | w <;> rw [w]
      have C23 : Ch (fun q => (o1 q).1 = x + 1) σ1 σ3 := (C2.mono (fun q _ w => by rw [w, y1])).trans (C3.mono hM3)
      have tr := X1.mo S1 C23 (fun q _ w => w)
      have xM : ¬ DqM o1 x x := fun w => by
        rcases w with w | w <;> · rw [y1] at w; exact absurd (rn w) (by decide)
      have xc3 : σ3.1 x = some (.inr (0, mF b dq sl bu re)) := C3.c S2.1 xc2 xM
      have nd : ∀ {q k : Nat}, o1 q = (x + 1, k) → k ≠ 1 → k ≠ 2 → ¬ DqM o1 x q := fun {q k} hq h1 h2 w => by
        rcases w with w | w
        · rw [hq] at w; exact h1 (congrArg Prod.snd w)
        · rw [hq] at w; exact h2 (congrArg Prod.snd w)
      have cc : ∀ {q k : Nat} {e : cE}, o1 q = (x + 1, k) → 3 ≤ k → σ1.1 q = some e → σ3.1 q = some e := fun {q k e} hq hk hc => C3.c S2.1 (C2.c S1.1 hc (nx hq (by omega))) (nd hq (by omega) (by omega))
      have sb : ∀ {k p : Nat} {B : List Nat}, 3 ≤ k → SBc o1 σ1 x k p B → SBc o1 σ3 x k p B := fun {k p B} hk hB => by
        obtain ⟨h1, by_, cap, f, ml, h2, h3, h4, h5⟩ := hB
        exact ⟨h1, by_, cap, f, ml, h2, cc h1 hk h3, cc h2 (by omega) h4, h5⟩
      have wb3 := tr b V hV.1.1 WXb
      obtain ⟨L3, u3, N3, F3⟩ := wb3
      rw [gR_J xc3 rfl, gR_J N3.w rfl, N3.l.nn, N3.l.size, bd_J, xl_J]
      refine CRs.k (o' := o1) ⟨⟨S1.ch C23, K1.c C23 S1.1 (fun q _ w => by rw [w]; exact Nat.succ_ne_zero _) (fun _ _ => rfl)⟩, b, dq, sl, bu, re, [], ka, ⟨⟨y1, xc3⟩, D3, ⟨q1, gg, cc q1 (by decide) q2, q3⟩, sb (by decide) b1, sb (by decide) r1, ⟨L3, u3, N3, F3⟩, ⟨rfl, fun j p U hp _ => by simp at hp⟩, fun j U hj hU => tr _ U (hO.2.2.2.1 j U hj hU).1.1 (k1 j U hj hU), by simp, fun j U hj hU => ?_⟩⟩
      have := hlt _ _ (hX.2.2.2.2.2.2.2.1 j U hj hU)
      intro w
      have : ka j = b := by simpa using w
      omega
