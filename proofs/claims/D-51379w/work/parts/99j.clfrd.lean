/-! THE PLAIN LAW, the class' side: a whole text is read -/
set_option maxRecDepth 1000000
theorem pb_pb {α β γ : Type} {x : PR α} {f : α → PR β} {g : β → PR γ} : pb (pb x f) g = pb x fun a => pb (f a) g := by cases x <;> rfl
theorem pb_r {α β : Type} {a : α} {f : α → PR β} : pb (.inr a) f = f a := rfl
theorem cpI_L0 {β : Type} {σ : cS} {a b kd n0 n1 n : Nat} {f h : Nat → Int32} {K : cS → Option β} (ha : σ.1 a = some (.inl (kd, n0, .inl f))) (hb : σ.1 b = some (.inl (kd, n1, .inl h))) (h0 : n ≤ n0) (h1 : n ≤ n1) (hn : n0 < 2147483648 ∧ n1 < 2147483648) (hw : σ.2 2 ≤ b) (hv : kd = 0) : cpI σ kd (some a) 0 (some b) 0 (Int32.ofNat n) K = K (cU σ b (.inl (kd, n1, .inl (va_cpy f h 0 0 n)))) := cpI_J (i := 0) (j := 0) ha hb (by omega) (by omega) hn hw (Or.inl hv)
theorem RG.rf {oB o1 o2 : oW} {σB σ1 σ2 : cS} {rd w : Nat} (hB : SI oB σB) (F : RF oB σB rd o1 σ1) (G : RG o1 σ1 rd w o2 σ2) (hw : σB.2 0 ≤ w) : RF oB σB rd o2 σ2 := ⟨F.1.then G.1 (fun q hq e => by
  rcases e with e | e
  · rw [F.2 q hq] at e; exact e
  · rw [F.2 q hq] at e
    have := hB.own e
    omega), fun q hq => (G.2 q (Nat.lt_of_lt_of_le hq F.1.2.1)).trans (F.2 q hq)⟩
theorem rdF_2 {tp en : Nat} {fr fr' tk wd : Value} {at_ fm vl fc nt : Int32} : (rdF tp en fr at_ fm tk wd vl fc nt).set 2 fr' = rdF tp en fr' at_ fm tk wd vl fc nt := rfl
section RDA
variable {o : oW} {σ : cS} {rd tp p fc nt n m q5 : Nat} {fr : Value} {L : List Nat}
theorem RV.setF (h : RV o σ rd tp fr L p fc nt n m) {wd vl} (hx : σ.1 rd = some (.inr (8, rdF tp L.length fr (Int32.ofNat (tkE L p)) (Int32.ofNat (tkO L p)) (.ref (σ.2 (10 + tkI (tkK L p)))) (.ref wd) vl (Int32.ofNat fc) (Int32.ofNat nt))) ∧ (tkK L p = 1 → WDc o σ rd wd (wdN L p)) ∧ (tkK L p = 2 → vl = Int32.ofNat (tkV L p))) (fr' : Value) : RV o (cU σ rd (.inr (8, rdF tp L.length fr' (Int32.ofNat (tkE L p)) (Int32.ofNat (tkO L p)) (.ref (σ.2 (10 + tkI (tkK L p)))) (.ref wd) vl (Int32.ofNat fc) (Int32.ofNat nt)))) rd tp fr' L p fc nt n m ∧ RF o σ rd o (cU σ rd (.inr (8, rdF tp L.length fr' (Int32.ofNat (tkE L p)) (Int32.ofNat (tkO L p)) (.ref (σ.2 (10 + tkI (tkK L p)))) (.ref wd) vl (Int32.ofNat fc) (Int32.ofNat nt)))) := by
  obtain ⟨hx, hw, hv⟩ := hx
  obtain ⟨⟨hS, hK⟩, h2, h3, h4, -, h8⟩ := h
  refine ⟨⟨⟨hS.cU hx, hK.cU hS h3 hx⟩, h2.cU hS h3 hx, h3, h4, ⟨wd, vl, cU_s, fun q => ?_, hv⟩, h8⟩, Ch.rf.cU hx (Or.inr (by rw [h3])), fun _ _ => rfl⟩
  obtain ⟨g1, b, y', z, f, g2, g3, g4, g5⟩ := hw q
  exact ⟨g1, b, y', z, f, g2, by rw [cU_n (fun e => by rw [e, h3] at g1; cases g1)]; exact g3, by rw [cU_n (fun e => by rw [e, h3] at g2; cases g2)]; exact g4, g5⟩
theorem rd_fl {α : Type} {oB : oW} {σB : cS} {Fr : oW → cS → Prop} {X : (Nat → Nat) × Nat → PR α} {Q : α → Option Nat → oW → cS → Prop} (hB : SI oB σB) (hq5 : σB.2 0 ≤ q5) (hfr : ∀ o σ, RF oB σB rd o σ → Fr o σ) (k : ∀ (f : Nat) (a : (Nat → Nat) × Nat) (o' : oW) (σ' : cS), RF oB σB rd o' σ' → RV o' σ' rd tp .null L a.2 fc nt n m → IA σ' q5 4 (fun i => a.1 (1 + i)) → (o' q5).1 = 0 → FcP a.1 ∧ 1 ≤ a.1 0 → tkK L a.2 ≠ 2 → CR Fr (b_X2_read_16 rd (f + 1) (some q5) (Int32.ofNat (a.1 0)) σ') (X a) Q) : ∀ f f' d p (o : oW) (σ : cS), L.length - p < f → L.length - p < f' → FcP d → RF oB σB rd o σ → RV o σ rd tp .null L p fc nt n m → IA σ q5 4 (fun i => d (1 + i)) → (o q5).1 = 0 → CR Fr (b_X2_read_30 rd (b_X2_read_16 rd f) (some q5) (Int32.ofNat (d 0)) σ) (pb (rFl L f' d p) X) Q := by
  intro f
  induction f with
  | zero => intro f' d p o σ h; omega
  | succ f ih =>
    intro f' d p o σ hf hf' hd F0 V I oq
    obtain ⟨f', rfl⟩ : ∃ f'', f' = f'' + 1 := ⟨f' - 1, by omega⟩
    have hS := V.1.1
    have d4 := hd.2.1
    unfold b_X2_read_30
    rw [V.nn]
    have hsp : pb (rFl L (f' + 1) d p) X = pb (rIsG L p 2 5) fun v => pb (if d 0 = 4 then .inl (flt L p 4) else if tkK L (tkE L p) = 2 then rFl L f' (upN (upN d (1 + d 0) v) 0 (d 0 + 1)) (tkE L p) else .inr (upN (upN d (1 + d 0) v) 0 (d 0 + 1), tkE L p)) X := by
      rw [rFl, show rIs L p 2 4 = rIs L p 2 (5 - 1) from rfl, rIsG_s (by decide), pb_pb]
    rw [hsp]
    refine ((rd_look (lo := 2) (k := 5) (hi := 4) V (by decide) (by decide)).mono F0.k (fun _ _ _ _ _ q => q)).bx hfr (fun v v1 o1 σ1 e1 F1 hq => ?_)
    obtain ⟨⟨⟨e2, -⟩, hv⟩, hk2, eo, es⟩ := hq
    rw [es, e2, iJ_eqL (by omega) (by decide)]
    by_cases c : d 0 = 4
    · rw [if_pos (show d 0 = OfNat.ofNat 4 from c), if_pos c]
      exact (rv_flt V (by decide)).mono (fun _ _ F => hfr _ _ (F0.trans F)) (fun _ _ _ _ _ q => q)
    · rw [if_neg (show ¬ d 0 = OfNat.ofNat 4 from c), if_neg c]
      have hw : σ.2 2 ≤ q5 := by
        have := F0.1.k (k := 2) (by decide)
        have := hB.2.1
        omega
      obtain ⟨x2, q2, I2⟩ := I.st (x := v) (show d 0 < 4 by omega) (by decide) hw
      obtain ⟨ff, c2, -⟩ := I
      rw [q2, lt_J, J_addL]
      have C2 : Ch (fun z => z = q5) σ (cU σ q5 x2) := Ch.rf.cU c2 (Or.inr rfl)
      have V2 : RV o (cU σ q5 x2) rd tp .null L p fc nt n m := V.wr (x := 0) (y := 0) C2 (fun z _ e => ⟨_, by rw [e]; exact c2, Or.inr ⟨0, 4, _, rfl, Or.inl rfl⟩⟩) (fun _ _ h => h)
      have F2 : RF oB σB rd o (cU σ q5 x2) := F0.w C2 (fun z hz e => by omega)
      generalize cU σ q5 x2 = σ2 at I2 V2 F2 ⊢
      obtain ⟨o3, σ3, e3, V3, F3⟩ := V2.next (by omega)
      have hadv := tkE_adv V.2.2.2.1 (show tkK L p ≠ 0 by omega)
      have hE := (tkE_le V.2.2.2.1).2
      have e0 : upN (upN d (1 + d 0) v) 0 (d 0 + 1) 0 = d 0 + 1 := upN_at
      have hd2 := hd.up c ⟨hv.1, by omega⟩
      have q5l := I2.lt V2.1.1.1
      have I3 : IA σ3 q5 4 (fun i => upN (upN d (1 + d 0) v) 0 (d 0 + 1) (1 + i)) := (I2.c F3.1 V2.1.1.1 (fun e => by have e' : (o q5).1 = rd + 1 := e; omega)).g (fun i hi => by
        rw [upN_ne (show 1 + i ≠ 0 by omega)]
        by_cases c3 : i = d 0
        · rw [if_pos c3, c3, upN_at]
        · rw [if_neg c3, upN_ne (by omega)])
      have oq3 : (o3 q5).1 = 0 := by rw [F3.2 _ q5l]; exact oq
      rw [V2.nn, e3, bd_J, show d 0 + OfNat.ofNat 1 = upN (upN d (1 + d 0) v) 0 (d 0 + 1) 0 from e0.symm]
      by_cases c4 : tkK L (tkE L p) = 2
      · obtain ⟨wd3, vl3, hx3, -⟩ := V3.x
        have et := V3.tk (j := 3) (by decide)
        rw [if_pos c4, b_X2_read_16, iJ_eqL (by omega) (by decide), if_neg (show ¬ upN (upN d (1 + d 0) v) 0 (d 0 + 1) 0 = OfNat.ofNat 0 by rw [e0]; exact Nat.succ_ne_zero _), gR_J hx3 rfl]
        show CR Fr (if some (σ3.2 (10 + tkI (tkK L (tkE L p)))) = some (σ3.2 (10 + 3)) then _ else _) _ _
        rw [ite_pq (et.trans (tk_n2 _)), if_pos c4]
        exact ih f' _ _ o3 σ3 (by omega) (by omega) hd2 (F2.trans F3) (V3.le (by omega) (by omega)) I3 oq3
      · rw [if_neg c4]
        exact k f (upN (upN d (1 + d 0) v) 0 (d 0 + 1), tkE L p) o3 σ3 (F2.trans F3) (V3.le (by omega) (by omega)) I3 oq3 ⟨hd2, by show 1 ≤ upN (upN d (1 + d 0) v) 0 (d 0 + 1) 0; omega⟩ c4
end RDA
