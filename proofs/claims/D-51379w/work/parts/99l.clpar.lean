/-! THE PLAIN LAW, the class' side: parse, load -/
set_option maxRecDepth 1000000
theorem sR_L {β : Type} {σ : cS} {a kd n i : Nat} {f : Nat → Option Nat} {x : Option Nat} {K : cS → Option β} (h : σ.1 a = some (.inl (kd, n, vR f))) (hv : okV σ kd x = true) (hk : 2 ≤ kd ∧ kd < 5) (hi : i < n) (hn : n < 2147483648) (hw : σ.2 2 ≤ a) : sR σ (some a) (OfNat.ofNat i) x K = K (cU σ a (.inl (kd, n, vR (va_up f i x)))) := sR_J h hv hk hi hn hw
theorem bdc_l {α β : Type} {v : α} {σ : cS} {K : α → cS → Option β} {Kc : Nat → cS → Option β} : bdc (some ((.inl v : cX α), σ)) K Kc = K v σ := rfl
theorem bdc_r {α β : Type} {q : Nat} {σ : cS} {K : α → cS → Option β} {Kc : Nat → cS → Option β} : bdc (some ((.inr (0, q) : cX α), σ)) K Kc = Kc q σ := if_pos rfl
/-- the object whatever its will is -/
def CIy (o : oW) (σ : cS) (x : Nat) (v0 : Value) (K : Nat → Option Wl) (B R : List Nat) (dq sl bu re : Nat) (PA : List Nat) (ka : Nat → Nat) : Prop := (o x = (x + 1, 0) ∧ σ.1 x = some (.inr (0, [v0, .ref dq, .ref sl, .ref bu, .ref re]))) ∧ DQc o σ x dq PA ∧ SLc o σ x sl K ka ∧ SBc o σ x 4 bu B ∧ SBc o σ x 6 re R
section PRS
variable {o : oW} {σ : cS} {x w wa dq sl bu re u : Nat} {S : SS} {PA : List Nat} {ka L : Nat → Nat} {v0 : Value} {K : Nat → Option Wl} {B R : List Nat}
theorem CIx.y (h : CIx o σ x S wa dq sl bu re PA ka) : CIy o σ x (.ref wa) S.2.2.1 S.2.2.2.1 S.2.2.2.2 dq sl bu re PA ka := ⟨h.1, h.2.1, h.2.2.1, h.2.2.2.1, h.2.2.2.2.1⟩
theorem CIy.al {o' : oW} {σ' : cS} (h : CIy o σ x v0 K B R dq sl bu re PA ka) (hS : SI o σ) (C : Ch (fun _ => False) σ σ') (oo : ∀ q, q < σ.2 0 → o' q = o q) : CIy o' σ' x v0 K B R dq sl bu re PA ka := by
  obtain ⟨⟨x1, xc⟩, d1, s1, b1, r1⟩ := h
  exact ⟨⟨by rw [oo _ (hS.lt xc)]; exact x1, C.c hS.1 xc id⟩, d1.c C hS.1 (fun _ _ e => e.elim) oo, s1.c C hS.1 (fun _ _ e => e.elim) oo, b1.c C hS.1 (fun _ _ e => e.elim) oo, r1.c C hS.1 (fun _ _ e => e.elim) oo⟩
theorem cl_replace {W : Wl} (hS : SI o σ) (hK : KA o σ) (hY : CIy o σ x v0 K B R dq sl bu re PA ka) (hW : WO W) (hw : WX o σ w W) : ∃ σ', m_X1_replaceAll x (some w) σ = some (0, σ') ∧ (SI o σ' ∧ KA o σ') ∧ CIx o σ' x (W, [], kNone, B, R) w dq sl bu re [] ka ∧ Ch (fun q => (o q).1 = x + 1) σ σ' := by
  obtain ⟨⟨x1, xc⟩, d1, s1, b1, r1⟩ := hY
  obtain ⟨s0, g, sc, s3⟩ := s1
  have hxw : x ≠ w := fun e => by
    obtain ⟨fs, wc⟩ := hw.cl
    rw [← e, xc] at wc
    cases wc
  unfold m_X1_replaceAll
  rw [pO_J xc (by show 0 < 5; decide) (hS.w x1), show List.set [v0, .ref dq, .ref sl, .ref bu, .ref re] 0 (va_rf (some w)) = mF w dq sl bu re from rfl]
  have xc2 : (cU σ x (.inr (0, mF w dq sl bu re))).1 x = some (.inr (0, mF w dq sl bu re)) := cU_s
  have C2 : Ch (fun q => q = x) σ (cU σ x (.inr (0, mF w dq sl bu re))) := Ch.rf.cU xc (Or.inr rfl)
  generalize cU σ x (.inr (0, mF w dq sl bu re)) = σ2 at xc2 C2 ⊢
  have S2 := hS.ch C2
  have D2 : DQc o σ2 x dq PA := d1.c2 C2 hS.1 (fun q _ e => by rw [e, x1]; exact ⟨fun h => absurd (rn h) (by decide), fun h => absurd (rn h) (by decide)⟩) (fun _ _ => rfl)
  obtain ⟨σ3, e3, D3, C3, k3⟩ := dq_clear S2 D2
  have nd : ∀ {q k : Nat}, o q = (x + 1, k) → k ≠ 1 → k ≠ 2 → ¬ DqM o x q := fun {q k} hq h1 h2 w => by
    rcases w with w | w
    · rw [hq] at w; exact h1 (congrArg Prod.snd w)
    · rw [hq] at w; exact h2 (congrArg Prod.snd w)
  have xc3 := C3.c S2.1 xc2 (nd x1 (by decide) (by decide))
  have sc3 : σ3.1 sl = some (.inl (3, 2, vR g)) := C3.c S2.1 (C2.c hS.1 sc (ne_role s0 x1 (by decide))) (nd s0 (by decide) (by decide))
  have S3 := S2.ch C3
  have hsw : σ3.2 2 ≤ sl := S3.w s0
  have hne : x ≠ sl := ne_role x1 s0 (by decide)
  rw [gR_J xc2 rfl, dq_nn D2, e3, bd_J, gR_J xc3 rfl, sR_L (i := 0) sc3 rfl (by decide) (by decide) (by decide) hsw]
  have xc4 : (cU σ3 sl (.inl (3, 2, vR (va_up g 0 none)))).1 x = some (.inr (0, mF w dq sl bu re)) := by rw [cU_n hne]; exact xc3
  rw [gR_J xc4 rfl, sR_L (i := 1) cU_s rfl (by decide) (by decide) (by decide) hsw, cU_cU]
  have C4 : Ch (fun q => q = sl) σ3 (cU σ3 sl (.inl (3, 2, vR (va_up (va_up g 0 none) 1 none)))) := Ch.rf.cU sc3 (Or.inr rfl)
  have xc5 : (cU σ3 sl (.inl (3, 2, vR (va_up (va_up g 0 none) 1 none)))).1 x = some (.inr (0, mF w dq sl bu re)) := by rw [cU_n hne]; exact xc3
  have sc5 : (cU σ3 sl (.inl (3, 2, vR (va_up (va_up g 0 none) 1 none)))).1 sl = some (.inl (3, 2, vR (va_up (va_up g 0 none) 1 none))) := cU_s
  generalize cU σ3 sl (.inl (3, 2, vR (va_up (va_up g 0 none) 1 none))) = σ5 at C4 xc5 sc5 ⊢
  have CC : Ch (fun q => o q = (x + 1, 0) ∨ o q = (x + 1, 1) ∨ o q = (x + 1, 2) ∨ o q = (x + 1, 3)) σ σ5 := ((C2.mono (fun q _ e => Or.inl (by rw [e]; exact x1))).trans (C3.mono (fun q _ e => by
    rcases e with e | e
    · exact Or.inr (Or.inl e)
    · exact Or.inr (Or.inr (Or.inl e))))).trans (C4.mono (fun q _ e => Or.inr (Or.inr (Or.inr (by rw [e]; exact s0)))))
  have hM1 : ∀ q, q < σ.2 0 → (o q = (x + 1, 0) ∨ o q = (x + 1, 1) ∨ o q = (x + 1, 2) ∨ o q = (x + 1, 3)) → (o q).1 = x + 1 := fun q _ e => by rcases e with e | e | e | e <;> rw [e]
  have far : ∀ k : Nat, 4 ≤ k → ∀ q, q < σ.2 0 → (o q = (x + 1, 0) ∨ o q = (x + 1, 1) ∨ o q = (x + 1, 2) ∨ o q = (x + 1, 3)) → o q ≠ (x + 1, k) := fun k hk q _ e e2 => by rcases e with e | e | e | e <;> rw [e] at e2 <;> (have := rn e2) <;> omega
  have D5 : DQc o σ5 x dq [] := D3.c2 C4 S3.1 (fun q _ e => by rw [e, s0]; exact ⟨fun h => absurd (rn h) (by decide), fun h => absurd (rn h) (by decide)⟩) (fun _ _ => rfl)
  have W5 : WX o σ5 w W := hw.c hW.1.1 CC hS (fun q hq e => by rw [hM1 q hq e]; omega) (fun _ _ => rfl)
  refine ⟨σ5, rfl, ⟨hS.ch CC, hK.c CC hS.1 (fun q hq e => by rw [hM1 q hq e]; exact Nat.succ_ne_zero _) (fun _ _ => rfl)⟩, ⟨⟨x1, xc5⟩, D5, ⟨s0, _, sc5, fun j hj => ?_⟩, b1.c2 CC hS.1 (fun q hq e => ⟨far 4 (by decide) q hq e, far 5 (by decide) q hq e⟩) (fun _ _ => rfl), r1.c2 CC hS.1 (fun q hq e => ⟨far 6 (by decide) q hq e, far 7 (by decide) q hq e⟩) (fun _ _ => rfl), W5, ⟨rfl, fun j p U hp _ => by simp at hp⟩, fun j U hj hU => by cases hU, by simp, fun j U hj hU => by cases hU⟩, CC.mono hM1⟩
  obtain rfl | rfl : j = 0 ∨ j = 1 := by omega
  · rfl
  · rfl
/-- the buffer is emptied -/
theorem cl_zero (P : PX o σ x S wa dq sl bu re PA ka L u) (hO : SFk S) : ∃ σ', m_J3_setLength bu 0 σ = some (0, σ') ∧ PX o σ' x (bfS S []) wa dq sl bu re PA ka L u := by
  obtain ⟨cap, hb, -⟩ := P.2.1.2.2.2.1.x
  obtain ⟨σ', e, X, S', C, k⟩ := sb_zero P.1.1 hb
  exact ⟨σ', e, P.buf (S := S) hO C (fun q _ w => w) (fun _ _ => rfl) S' X.c⟩
theorem CIx.px (hS : SI o σ) (hK : KA o σ) (h : CIx o σ x S wa dq sl bu re PA ka) : ∃ L u, PX o σ x S wa dq sl bu re PA ka L u := by
  obtain ⟨L, u, w1, w2⟩ := h.2.2.2.2.2.1
  exact ⟨L, u, ⟨hS, hK⟩, h, w1, w2⟩
/-- a reader is made -/
theorem x2_init {q tp en : Nat} (hq : σ.1 q = some (.inr (8, [.null, .int 0, .null, .int 0, .int 0, .null, .null, .int 0, .int 0, .int 0]))) (hw : σ.2 2 ≤ q) : m_X2_init q (some tp) (Int32.ofNat en) σ = some (0, cU σ q (.inr (8, rdF tp en .null 0 0 .null (.ref (σ.2 27)) 0 0 0))) := by
  unfold m_X2_init
  rw [pO_J hq (by show 6 < 10; decide) hw, pO_J cU_s (by show 0 < 10; decide) hw, cU_cU, pO_J cU_s (by show 1 < 10; decide) hw, cU_cU]
  rfl
/-- what is read does not touch what was there -/
theorem RF.fresh {o1 o2 : oW} {σ1 σ2 : cS} {rd : Nat} (hS : SI o σ) (C : Ch (fun _ => False) σ σ1) (oo : ∀ q, q < σ.2 0 → o1 q = o q) (hr : σ.2 0 ≤ rd) (F : RF o1 σ1 rd o2 σ2) : Ch (fun _ => False) σ σ2 ∧ ∀ q, q < σ.2 0 → o2 q = o q := ⟨C.then F.1 (fun q hq e => by
  rw [oo q hq] at e
  have := hS.own e
  omega), fun q hq => (F.2 q (Nat.lt_of_lt_of_le hq C.2.1)).trans (oo q hq)⟩
/-- a reader's state from the start -/
theorem rd_new (hS : SI o σ) (hK : KA o σ) (hR : Rm σ 1 10) : ∃ σ1, Ch (fun _ => False) σ (cN σ (.inr (8, [.null, .int 0, .null, .int 0, .int 0, .null, .null, .int 0, .int 0, .int 0])) 10) ∧ (∀ tp en, m_X2_init (σ.2 0) (some tp) (Int32.ofNat en) (cN σ (.inr (8, [.null, .int 0, .null, .int 0, .int 0, .null, .null, .int 0, .int 0, .int 0])) 10) = some (0, σ1 tp en)) ∧ ∀ tp en, Ch (fun _ => False) σ (σ1 tp en) ∧ (σ1 tp en).1 (σ.2 0) = some (.inr (8, rdF tp en .null 0 0 .null (.ref (σ.2 27)) 0 0 0)) ∧ SI (oN o (σ.2 0) (σ.2 0 + 1, 0)) (σ1 tp en) ∧ KA (oN o (σ.2 0) (σ.2 0 + 1, 0)) (σ1 tp en) ∧ (∀ q, q < σ.2 0 → oN o (σ.2 0) (σ.2 0 + 1, 0) q = o q) ∧ oN o (σ.2 0) (σ.2 0 + 1, 0) (σ.2 0) = (σ.2 0 + 1, 0) ∧ ∀ a b, Rm σ (a + 1) (b + 10) → Rm (σ1 tp en) a b := by
  have hs2 := hS.2.1
  generalize hσa : cN σ (.inr (8, [.null, .int 0, .null, .int 0, .int 0, .null, .null, .int 0, .int 0, .int 0])) 10 = σa
  have Ca : Ch (fun _ => False) σ σa := by rw [← hσa]; exact Ch.rf.cN
  have ga : σa.1 (σ.2 0) = some (.inr (8, [.null, .int 0, .null, .int 0, .int 0, .null, .null, .int 0, .int 0, .int 0])) := by rw [← hσa]; exact cN_s
  have hw : σa.2 2 ≤ σ.2 0 := by rw [Ca.k (by decide)]; exact hs2
  have oo : ∀ q, q < σ.2 0 → oN o (σ.2 0) (σ.2 0 + 1, 0) q = o q := fun q hq => oN_n (by omega)
  refine ⟨fun tp en => cU σa (σ.2 0) (.inr (8, rdF tp en .null 0 0 .null (.ref (σa.2 27)) 0 0 0)), Ca, fun tp en => x2_init ga hw, fun tp en => ?_⟩
  have C1 : Ch (fun _ => False) σ (cU σa (σ.2 0) (.inr (8, rdF tp en .null 0 0 .null (.ref (σa.2 27)) 0 0 0))) := Ca.cU ga (Or.inl (Nat.le_refl _))
  have g1 : (cU σa (σ.2 0) (.inr (8, rdF tp en .null 0 0 .null (.ref (σa.2 27)) 0 0 0))).1 (σ.2 0) = some (.inr (8, rdF tp en .null 0 0 .null (.ref (σa.2 27)) 0 0 0)) := cU_s
  have gn : (cU σa (σ.2 0) (.inr (8, rdF tp en .null 0 0 .null (.ref (σa.2 27)) 0 0 0))).1 (σ.2 0) ≠ none := by rw [g1]; exact fun e => by cases e
  refine ⟨C1, by rw [← Ca.k (k := 27) (by decide)]; exact g1, SI.oN (hS.ch C1) ⟨hw, gn, gn⟩, hK.c C1 hS.1 (fun _ _ e => e.elim) oo, oo, oN_s, fun a b h => ?_⟩
  rw [← hσa]
  exact Rm.cU h.cN
end PRS
theorem bdx_v {α β : Type} {v : α} {σ : cS} {K : α → cS → Option (cX β × cS)} : bdx (some ((.inl v : cX α), σ)) K = K v σ := rfl
theorem pc_parse {o : oW} {σ : cS} {x : Nat} {S : SS} (h : CInv o σ x S) (hO : SSok S) (h20 : S.2.2.2.1.length % 20 = 0) (hR : Rm σ 40000 200000) (x1 : Int32) : CRs [1] x σ (m_X1_parse x x1 σ) S (sp_parse x1 S).1 (sp_parse x1 S).2.1 (sp_parse x1 S).2.2 := by
  obtain ⟨wa, dq, sl, bu, re, PA, ka, L, u, P⟩ := h.px
  obtain ⟨⟨hS, hK⟩, hX, hC, hF⟩ := id P
  have xc := hX.1.2
  have hR7 : Rm σ 700 3000 := hR.le (by decide) (by decide)
  obtain ⟨cap, hb, hcap⟩ := hX.2.2.2.1.x
  have hl := hO.2.2.2.2.1
  have hbl : S.2.2.2.1.length < cap := by
    obtain ⟨-, b, f, ml, -, -, -, ⟨c1, c2⟩, -⟩ := id hb
    omega
  unfold m_X1_parse sp_parse
  rw [gR_J xc rfl, hb.nn, sb_len hb.c, bd_J, cz_in (n := S.2.2.2.1.length + 1) (by rw [J_int (by omega)]; omega)]
  cases hb1 : inB x1 (S.2.2.2.1.length + 1) with
  | false => rw [if_neg (by decide), if_neg (by decide), bdx_t hR7]; exact CRs.t (j := 0) hR7 rfl
  | true =>
    obtain ⟨n, hn, rfl⟩ := inB_of hb1
    obtain ⟨σ1', Ca, ei, hN⟩ := rd_new hS hK (hR.le (by decide) (by decide))
    have hlen : (S.2.2.2.1.take n).length = n := by rw [List.length_take]; omega
    obtain ⟨C1, g1, S1, K1, oo, or1, hRm⟩ := hN bu n
    have xca := Ca.c hS.1 xc id
    rw [if_pos rfl, if_pos rfl, bdx_l, nO_J (by have := hR.1; omega) (by have := hR.2; omega), gR_J xca rfl, ei bu n, bd_J, J_cl (by omega)]
    generalize σ1' bu n = σ1 at C1 g1 S1 K1 hRm ⊢
    rw [nn_J g1]
    have hb' := hb.cc C1 hS.1 (fun _ _ e => e.elim) oo
    have hxr : x ≠ σ.2 0 := by have := hS.lt xc; omega
    have hX1 : TX (oN o (σ.2 0) (σ.2 0 + 1, 0)) σ1 (σ.2 0) bu (S.2.2.2.1.take n) := ⟨⟨by omega, fun z hz => hl.2 z (List.mem_of_mem_take hz)⟩, Or.inr ⟨x, cap, n, S.2.2.2.1, hxr, hb', hbl, hl.2, by omega, rfl⟩⟩
    have RD := rd_read (n := 0) (m := 0) (L := S.2.2.2.1.take n) S1 K1 hX1 or1 (by rw [hlen]; exact g1) (by rw [hlen]; exact (hRm 38000 180000 (hR.le (by decide) (by decide))).le (by omega) (by omega))
    cases hx : rAll (S.2.2.2.1.take n) with
    | inl e =>
      rw [hx] at RD
      obtain ⟨o2, σ2, q, a, c, e1, ⟨F, S2⟩, hq, he, -⟩ := RD
      obtain ⟨C2, oo2⟩ := RF.fresh hS C1 oo (Nat.le_refl _) F
      have P2 := P.al hO C2 oo2 S2
      obtain ⟨σ3, e3, P3⟩ := cl_zero P2 hO.f
      have hb2 := P2.2.1.2.2.2.1
      obtain ⟨cap2, hb3, -⟩ := hb2.x
      rw [e1, bdc_r]
      unfold m_X1_answer
      rw [gI_J hq rfl, gI_J hq rfl, bd_J, gR_J P2.2.1.1.2 rfl, hb3.nn, e3, bd_J, xl_J]
      dsimp only
      rw [he, ← J_add, ← J_mul]
      exact CRs.k (o' := o2) P3.C
    | inr W =>
      rw [hx] at RD
      obtain ⟨o2, σ2, v, e1, F, w, Lw, p', fc, nt, rfl, hw, V, B⟩ := RD
      have hWO := rAll_ok hx
      obtain ⟨C2, oo2⟩ := RF.fresh hS C1 oo (Nat.le_refl _) F
      have P2 := P.al hO C2 oo2 V.1.1
      obtain ⟨σ3, e3, ⟨S3, K3⟩, X3, -⟩ := cl_replace V.1.1 V.1.2 P2.2.1.y hWO ⟨Lw, _, B.2.1, FoundC.of B.2.2⟩
      obtain ⟨L3, u3, P3⟩ := X3.px S3 K3
      have hO3 : SSok (W, [], kNone, S.2.2.2) := ⟨hWO, Nat.zero_le _, (fun _ h => by cases h), (fun j V hj hV => by cases hV), hO.2.2.2.2⟩
      obtain ⟨σ4, e4, P4⟩ := cl_zero P3 hO3.f
      obtain ⟨cap3, hb3, -⟩ := X3.2.2.2.1.x
      rw [e1, bdc_l, nn_J P2.2.1.1.2, e3, bd_J, gR_J X3.1.2 rfl, gR_J P3.2.2.1.w rfl, P3.2.2.1.l.nn, P3.2.2.1.l.size, bd_J, gR_J X3.1.2 rfl, hb3.nn, e4, bd_J, xl_J]
      exact CRs.k (o' := o2) P4.C
/-- a built-in text is read -/
theorem cl_start {o : oW} {σ : cS} {x dq sl bu re k : Nat} {v0 : Value} {K : Nat → Option Wl} {B R PA : List Nat} {ka : Nat → Nat} {W : Wl} (hS : SI o σ) (hK : KA o σ) (hY : CIy o σ x v0 K B R dq sl bu re PA ka) (hk : k < 3) (hx : rAll (biN k) = .inr W) (hR : Rm σ 20000 100000) : ∃ o' σ' w, m_X1_start x (Int32.ofNat k) σ = some (0, σ') ∧ (SI o' σ' ∧ KA o' σ') ∧ CIx o' σ' x (W, [], kNone, B, R) w dq sl bu re [] ka := by
  have bl : (biN k).length ≤ 400 ∧ (∀ z, z ∈ biN k → z < 256) ∧ ∃ i, i < (biN k).length ∧ sortN ((biN k).getD i 0) ≠ 1 := by
    obtain rfl | rfl | rfl : k = 0 ∨ k = 1 ∨ k = 2 := by omega
    · exact ⟨by decide, by decide, 5, by decide, by decide⟩
    · exact ⟨by decide, by decide, 5, by decide, by decide⟩
    · exact ⟨by decide, by decide, 5, by decide, by decide⟩
  have tx : txL.getD k [] = biN k := by
    obtain rfl | rfl | rfl : k = 0 ∨ k = 1 ∨ k = 2 := by omega
    all_goals rfl
  have hbi : m_X1_builtIn (Int32.ofNat k) σ = some (some (σ.2 (20 + k)), σ) := by
    obtain rfl | rfl | rfl : k = 0 ∨ k = 1 ∨ k = 2 := by omega
    all_goals rfl
  obtain ⟨σ1', Ca, ei, hN⟩ := rd_new hS hK (hR.le (by decide) (by decide))
  obtain ⟨C1, g1, S1, K1, oo, or1, hRm⟩ := hN (σ.2 (20 + k)) (biN k).length
  have hsc := hK.2.1 k (by omega)
  rw [tx] at hsc
  have hsa := (hsc.c Ca hS.1 (fun _ _ e => e.elim) (o' := o) (fun _ _ => rfl)).s
  have hY1 := hY.1.2
  unfold m_X1_start
  rw [hbi, bd_J, nO_J (by have := hR.1; omega) (by have := hR.2; omega), hsa.nn, hsa.len, bd_J, ei, bd_J]
  generalize σ1' (σ.2 (20 + k)) (biN k).length = σ1 at C1 g1 S1 K1 hRm ⊢
  have hs1 : SC (oN o (σ.2 0) (σ.2 0 + 1, 0)) σ1 (σ.2 (20 + k)) (biN k) := hsc.c C1 hS.1 (fun _ _ e => e.elim) oo
  have hX1 : TX (oN o (σ.2 0) (σ.2 0 + 1, 0)) σ1 (σ.2 0) (σ.2 (20 + k)) (biN k) := ⟨⟨by omega, bl.2.1⟩, Or.inl ⟨hs1, bl.2.2⟩⟩
  have RD := rd_read (n := 0) (m := 0) (L := biN k) S1 K1 hX1 or1 g1 ((hRm 19000 90000 (hR.le (by decide) (by decide))).le (by omega) (by omega))
  rw [hx] at RD
  obtain ⟨o2, σ2, v, e1, F, w, Lw, p', fc, nt, rfl, hw, V, B2⟩ := RD
  have hWO := rAll_ok hx
  obtain ⟨C2, oo2⟩ := RF.fresh hS C1 oo (Nat.le_refl _) F
  have Y2 := hY.al hS C2 oo2
  obtain ⟨σ3, e3, SK3, X3, -⟩ := cl_replace V.1.1 V.1.2 Y2 hWO ⟨Lw, _, B2.2.1, FoundC.of B2.2.2⟩
  rw [nn_J g1, e1, bdc_l, nn_J Y2.1.2, e3, bd_J]
  exact ⟨o2, σ3, w, rfl, SK3, X3⟩
theorem pc_load {o : oW} {σ : cS} {x : Nat} {S : SS} (h : CInv o σ x S) (hO : SSok S) (hR : Rm σ 40000 200000) (x1 : Int32) : CRs [1] x σ (m_X1_load x x1 σ) S (sp_load x1 S).1 (sp_load x1 S).2.1 (sp_load x1 S).2.2 := by
  obtain ⟨⟨hS, hK⟩, wa, dq, sl, bu, re, PA, ka, L, u, hX, hC, hF⟩ := h.parts
  have xc := hX.1.2
  have hR7 : Rm σ 700 3000 := hR.le (by decide) (by decide)
  unfold m_X1_load sp_load
  rw [cz_in (n := 3) (by decide)]
  cases hb1 : inB x1 3 with
  | false => rw [if_neg (by decide), if_neg (by decide), bdx_t hR7]; exact CRs.t (j := 0) hR7 rfl
  | true =>
    obtain ⟨k, hk, rfl⟩ := inB_of hb1
    obtain ⟨W, hx⟩ := bi_ok hk
    obtain ⟨o2, σ2, w, e2, ⟨S2, K2⟩, X2⟩ := cl_start hS hK hX.y hk hx (hR.le (by decide) (by decide))
    obtain ⟨L2, u2, P2⟩ := X2.px S2 K2
    rw [if_pos rfl, if_pos rfl, bdx_l, nn_J xc, e2, bd_J, gR_J X2.1.2 rfl, gR_J P2.2.2.1.w rfl, P2.2.2.1.l.nn, P2.2.2.1.l.size, bd_J, xl_J, J_cl (by omega), hx]
    exact CRs.k (o' := o2) P2.C
