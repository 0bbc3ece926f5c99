/-! the cave: the component's leaves, its loops -/
/-- there is room for what the text may still bring -/
def XRo (sz : Nat) (S : XS) (t : TK) (K Ks k : Nat) : Prop := xTop S + K + 13 * sz + 12 * k + 14 ≤ xCc S + 13 * t.2.1 ∧ xSl S + Ks + 88 * sz + 87 * k + 6000 ≤ xCs S + 88 * t.2.1
def XOk (g : XC) (r xa sz B0 : Nat) (b : Nat → Nat) (S : XS) (t : TK) (K Ks D : Nat) (res : Option ((XS × Nat) ⊕ XT)) (x : VF × TK) : Prop := ∃ S1 f, res = some (.inl (S1, f)) ∧ XZ g r xa sz B0 b S1 x.2 ∧ XFb r (xTop S) S S1 ∧ FormAt g (fun q => xTop S ≤ q ∧ q < xTop S1) D S1 f x.1 ∧ xTop S1 + 13 * t.2.1 ≤ xTop S + K + 13 * x.2.2.1 ∧ xSl S1 + 88 * t.2.1 ≤ xSl S + Ks + 88 * x.2.2.1
def XOut (g : XC) (r xa sz B0 : Nat) (b : Nat → Nat) (S : XS) (t : TK) (K Ks D : Nat) (res : Option ((XS × Nat) ⊕ XT)) : PR (VF × TK) → Prop
  | .inr x => XOk g r xa sz B0 b S t K Ks D res x
  | .inl e => XErr r S e res
section YC29
variable {g : XC} {N sz r xa B0 k K Ks D : Nat} {b : Nat → Nat} {S S1 : XS} {t t1 : TK} {a : Nat} {E : XS → Nat → Int32 → Option ((XS × Nat) ⊕ XT)} {rec : TK → PR (VF × TK)}
theorem XZ.bds (h : XZ g r xa sz B0 b S t) : sz ≤ 700 ∧ t.2.1 ≤ t.2.2 ∧ t.2.2 ≤ sz ∧ t.1 ≤ 4 := ⟨h.1.2.2.2.2.1, h.2.2.2.2.1.1, h.2.2.2.2.1.2.1, h.2.2.2.2.1.2.2.1⟩
def nmI (b : Nat → Nat) (t : TK) : Int32 := match nmT b t with
  | some i => nI i
  | none => -1
/-- a number from lo to hi -/
def pNum (sz : Nat) (b : Nat → Nat) (lo hi : Nat) (t : TK) : PR (Nat × TK) := if t.1 = 2 then (if t.2.2 - t.2.1 ≤ 4 ∧ lo ≤ lxV b t.2.1 (t.2.2 - t.2.1) ∧ lxV b t.2.1 (t.2.2 - t.2.1) ≤ hi then .inr (lxV b t.2.1 (t.2.2 - t.2.1), nxT sz b t) else .inl (2, t)) else .inl (1, t)
theorem num_lt (h : tkOk sz b t) (h2 : t.1 = 2) (h4 : t.2.2 - t.2.1 ≤ 4) : lxV b t.2.1 (t.2.2 - t.2.1) < 10000 := by
  have hz := h.2.2.2.2.2.1 h2
  have h1 := lxV_lt (b := b) (p := t.2.1) (k := t.2.2 - t.2.1) (fun i hi => cD_t.mp (hz _ (by omega) (by omega)))
  have h3 : (10 : Nat) ^ (t.2.2 - t.2.1) ≤ 10 ^ 4 := Nat.pow_le_pow_right (by decide) h4
  have h5 : (10 : Nat) ^ 4 = 10000 := by decide
  omega
def XNm (g : XC) (r xa sz B0 : Nat) (b : Nat → Nat) (S : XS) (t : TK) (res : Option ((XS × Int32) ⊕ XT)) (same : Bool) : PR (Nat × TK) → Prop
  | .inr x => x.1 < 10000 ∧ t.1 = 2 ∧ if same then res = some (.inl (S, nI x.1)) else ∃ S1, res = some (.inl (S1, nI x.1)) ∧ XZ g r xa sz B0 b S1 x.2 ∧ XFb r (xTop S) S S1 ∧ xTop S1 = xTop S ∧ xSl S1 = xSl S
  | .inl e => XErr r S e res
theorem XZ.numNow (h : XZ g r xa sz B0 b S t) {lo hi : Nat} (hlo : lo < 2 ^ 31) (hhi : hi < 2 ^ 31) (r1 : xTop S + 1 ≤ xCc S) (r2 : xSl S + 7 ≤ xCs S) : XNm g r xa sz B0 b S t (kX_X5_numberNow g N S r (nI lo) (nI hi)) true (pNum sz b lo hi t) := by
  obtain ⟨h7, h21, h22, h4⟩ := h.bds
  have hk := h.2.2.2.2.1
  have hv := h.2.2.1
  unfold pNum
  by_cases h2 : t.1 = 2
  · rw [if_pos h2]
    have hpre : ∀ {R : Option ((XS × Int32) ⊕ XT)}, ((if (4 : Int32) < nI (t.2.2 - t.2.1) then kX_X5_numberNow_53 g N S r r 0 else
      (f_int S 4 r 9).bind fun v7 => if v7 < nI lo then kX_X5_numberNow_53 g N S r r 0 else (f_int S 4 r 9).bind fun v9 => if nI hi < v9 then kX_X5_numberNow_53 g N S r r 0 else kX_X5_numberNow_53 g N S r r 1) = R) → kX_X5_numberNow g N S r (nI lo) (nI hi) = R := fun hR => by
      unfold kX_X5_numberNow
      refine ob1 h.sort (oit (by rw [h2]; rfl) ?_)
      unfold kX_X5_numberNow_14
      refine ob1 h.cls (ot1 (want1 1) (ob1 (h.int (by decide) rfl) (ob1 (h.int (by decide) rfl) ?_)))
      rw [hv.2.2.2.1, hv.2.2.1, sub_nI h21]
      exact hR
    have h53 : XErr r S (2, t) (kX_X5_numberNow_53 g N S r r 0) := by
      unfold kX_X5_numberNow_53
      obtain ⟨S2, w, fs, e1, e2⟩ := want0 (N := N) h 2 r1 r2
      exact ⟨S2, w, fs, ob1 h.cls (ot2 e1), e2⟩
    by_cases h4 : t.2.2 - t.2.1 ≤ 4
    · have hn := num_lt hk h2 h4
      have h9 : f_int S 4 r 9 = some (nI (lxV b t.2.1 (t.2.2 - t.2.1))) := by
        rw [h.int (by decide) rfl, hv.2.2.2.2 h2 h4]
      have e4 : ¬ (4 : Int32) < nI (t.2.2 - t.2.1) := nI_nlt (a := 4) h4 (by omega)
      by_cases hl : lo ≤ lxV b t.2.1 (t.2.2 - t.2.1)
      · have el : ¬ nI (lxV b t.2.1 (t.2.2 - t.2.1)) < nI lo := nI_nlt hl (by omega)
        by_cases hh : lxV b t.2.1 (t.2.2 - t.2.1) ≤ hi
        · rw [if_pos ⟨h4, hl, hh⟩]
          refine ⟨hn, h2, ?_⟩
          rw [if_pos rfl]
          refine hpre (oif e4 (ob1 h9 (oif el (ob1 h9 (oif (nI_nlt hh (by omega)) ?_)))))
          unfold kX_X5_numberNow_53
          exact ob1 h.cls (ot1 (want1 2) (ob1 h9 rfl))
        · rw [if_neg (fun z => hh z.2.2)]
          exact h53.eq (hpre (oif e4 (ob1 h9 (oif el (ob1 h9 (oit (nI_lt (by omega) (by omega)) rfl))))))
      · rw [if_neg (fun z => hl z.2.1)]
        exact h53.eq (hpre (oif e4 (ob1 h9 (oit (nI_lt (by omega) (by omega)) rfl))))
    · rw [if_neg (fun z => h4 z.1)]
      exact h53.eq (hpre (oit (nI_lt (a := 4) (by omega) (by omega)) rfl))
  · rw [if_neg h2]
    obtain ⟨S2, w, fs, e1, e2⟩ := want0 (N := N) h 1 r1 r2
    refine ⟨S2, w, fs, ?_, e2⟩
    unfold kX_X5_numberNow kX_X5_numberNow_14
    exact ob1 h.sort (oif (fun z => h2 ((nI_eq (b := 2) (by omega) (by omega)).mp z)) (ob1 h.cls (ot2 e1)))
theorem XZ.num (hN : 2 ^ 20 < N) (hG : GS g) (h : XZ g r xa sz B0 b S t) {lo hi : Nat} (hlo : lo < 2 ^ 31) (hhi : hi < 2 ^ 31) (r1 : xTop S + 1 ≤ xCc S) (r2 : xSl S + 7 ≤ xCs S) : XNm g r xa sz B0 b S t (kX_X5_number g N S r (nI lo) (nI hi)) false (pNum sz b lo hi t) := by
  have hn := h.numNow (N := N) hlo hhi r1 r2
  have e : pNum sz b lo hi t = .inl (2, t) ∨ pNum sz b lo hi t = .inl (1, t) ∨ ∃ v, pNum sz b lo hi t = .inr (v, nxT sz b t) := by
    unfold pNum
    split
    · split
      · exact Or.inr (Or.inr ⟨_, rfl⟩)
      · exact Or.inl rfl
    · exact Or.inr (Or.inl rfl)
  have herr : ∀ e, XErr r S e (kX_X5_numberNow g N S r (nI lo) (nI hi)) → XErr r S e (kX_X5_number g N S r (nI lo) (nI hi)) := fun e he => by
    obtain ⟨S2, w, fs, e1, e2⟩ := he
    refine ⟨S2, w, fs, ?_, e2⟩
    unfold kX_X5_number
    exact ob1 h.cls (ot2 e1)
  rcases e with e | e | ⟨v, e⟩
  · rw [e] at hn ⊢
    exact herr _ hn
  · rw [e] at hn ⊢
    exact herr _ hn
  · rw [e] at hn ⊢
    obtain ⟨n1, n2, n3⟩ := hn
    rw [if_pos rfl] at n3
    obtain ⟨S1, k1, k2, k3, k4, k5, -⟩ := h.next hN hG
    refine ⟨n1, n2, ?_⟩
    rw [if_neg (by decide)]
    refine ⟨S1, ?_, k2, k3, k4, k5⟩
    unfold kX_X5_number
    exact ob1 h.cls (ot1 n3 (ob1 h.cls (ob1 k1 rfl)))
/-- a new cell beside the reader -/
theorem XZ.new (h : XZ g r xa sz B0 b S t) (n : Nat) (e : GE) (r1 : xTop S + 1 ≤ xCc S) (r2 : xSl S + n ≤ xCs S) : ∃ S1, xNew S n e = some S1 ∧ XZ g r xa sz B0 b S1 t ∧ XFb r (xTop S) S S1 ∧ xTop S1 = xTop S + 1 ∧ xSl S1 = xSl S + n ∧ genAt S1 (xTop S) e := by
  obtain ⟨S1, a1, a2, a3, a4, a5, -⟩ := gp_new (XE.refl (P := fun _ => False) h.2.1) n e r1 r2
  have hrB := h.2.2.2.2.2.1
  have hrt : r < xTop S := by omega
  have hf : XFb r (xTop S) S S1 := XFb.xe a2 (fun q z => absurd z (fun y => y)) hrt hrt
  exact ⟨S1, a1, h.same hf (by omega) (a2.2.2.2.2.2 r hrt (fun z => z)).2.1, hf, a3, a4, a5⟩
/-- a field of a cell above is set -/
theorem XZ.setI (h : XZ g r xa sz B0 b S t) {c i kc : Nat} {fs : List Value} (hg : genAt S c (.inr (kc, fs))) (hc : B0 ≤ c) (hi : i < fs.length) (v : Int32) : ∃ S1, f_putI S kc c i v = some S1 ∧ XZ g r xa sz B0 b S1 t ∧ XFb r c S S1 ∧ xTop S1 = xTop S ∧ xSl S1 = xSl S ∧ genAt S1 c (.inr (kc, fs.set i (.int v))) := by
  obtain ⟨S1, a1, a2, a3, a4, a5, -⟩ := gp_I (XE.refl (P := fun q => q = c) h.2.1) hg (Or.inl rfl) hi v
  have hrB := h.2.2.2.2.2.1
  have hrt : r < xTop S := by omega
  have hf : XFb r c S S1 := XFb.xe a2 (fun q z => by rw [z]; exact Nat.le_refl _) (by omega) hrt
  exact ⟨S1, a1, h.same hf hc (a2.2.2.2.2.2 r hrt (fun z => by omega)).2.1, hf, a3, a4, a5⟩
theorem XZ.setR (h : XZ g r xa sz B0 b S t) {c i kc : Nat} {fs : List Value} (hg : genAt S c (.inr (kc, fs))) (hc : B0 ≤ c) (hi : i < fs.length) (v : Option Nat) : ∃ S1, f_putR S kc c i v = some S1 ∧ XZ g r xa sz B0 b S1 t ∧ XFb r c S S1 ∧ xTop S1 = xTop S ∧ xSl S1 = xSl S ∧ genAt S1 c (.inr (kc, fs.set i (va_rf v))) := by
  obtain ⟨S1, a1, a2, a3, a4, a5, -⟩ := gp_R (XE.refl (P := fun q => q = c) h.2.1) hg (Or.inl rfl) hi v
  have hrB := h.2.2.2.2.2.1
  have hrt : r < xTop S := by omega
  have hf : XFb r c S S1 := XFb.xe a2 (fun q z => by rw [z]; exact Nat.le_refl _) (by omega) hrt
  exact ⟨S1, a1, h.same hf hc (a2.2.2.2.2.2 r hrt (fun z => by omega)).2.1, hf, a3, a4, a5⟩
theorem fb_gen {B q : Nat} {e : GE} (hf : XFb r B S S1) (hg : genAt S q e) (hq : q < xTop S) (h1 : q ≠ r) (h2 : q < B) : genAt S1 q e := by
  obtain ⟨t1, t2, t3, t4, t5, t6⟩ := hf.1.2.2.2.2.2 q hq (fun z => by rcases z with z | z <;> omega)
  exact ⟨t1.trans hg.1, t6.trans hg.2⟩
/-- what an expression below owes -/
def XEx (g : XC) (r xa sz B0 : Nat) (b : Nat → Nat) (k D a : Nat) (E : XS → Nat → Int32 → Option ((XS × Nat) ⊕ XT)) (P : TK → PR (VF × TK)) : Prop := ∀ (S : XS) (t : TK), XZ g r xa sz B0 b S t → xTop S + 13 * sz + 13 + 12 * k + 14 ≤ xCc S + 13 * t.2.1 → xSl S + 88 * sz + 88 + 87 * k + 6000 ≤ xCs S + 88 * t.2.1 → XOut g r xa sz B0 b S t 25 175 D (E S r (nI a)) (P t)
theorem XOk.eq {res res1 : Option ((XS × Nat) ⊕ XT)} {x : VF × TK} (h : XOk g r xa sz B0 b S t K Ks D res x) (he : res1 = res) : XOk g r xa sz B0 b S t K Ks D res1 x := by rw [he]; exact h
theorem x_part (hN : 2 ^ 20 < N) (hG : GS g) (hD : 1 ≤ D) (hE : XEx g r xa sz B0 b k D (a + 1) E rec) (ha : a < 100) (h : XZ g r xa sz B0 b S t) (hr : XRo sz S t 0 0 k) : XOut g r xa sz B0 b S t 0 0 D (kX_X5_part g N E S r (nI a)) (pPart sz b rec t) := by
  obtain ⟨h7, h21, h22, h4⟩ := h.bds
  obtain ⟨r1, r2⟩ := hr
  have hk := h.2.2.2.2.1
  obtain ⟨hrB, hxB, hBt, -, -⟩ := h.2.2.2.2.2.1
  obtain ⟨d, rfl⟩ : ∃ d, D = d + 1 := ⟨D - 1, by omega⟩
  unfold pPart
  by_cases h2 : t.1 = 2
  · rw [if_pos h2]
    have hlt := nxT_lt hk (by omega)
    have e2 : nI t.1 = 2 := by rw [h2]; rfl
    obtain ⟨S1, a1, a2, a3, a4, a5, a6⟩ := h.new 1 (.inr (6, [.int 0])) (by omega) (by omega)
    have hn := a2.num (N := N) hN hG (lo := 0) (hi := 9999) (by decide) (by decide) (by have := a3.1.2.2.2.1; omega) (by have := a3.1.2.2.2.2.1; omega)
    have hpre : ∀ {R : Option ((XS × Nat) ⊕ XT)}, (tbind (kX_X5_number g N S1 r (nI 0) (nI 9999)) fun r23 => (kX_X8_init g N r23.1 (xTop S) r23.2).bind fun w24 => some (.inl (w24, (xTop S)))) = R → kX_X5_part g N E S r (nI a) = R := fun hR => by
      unfold kX_X5_part
      exact ob1 h.sort (oit e2 (ob1 a1 (ob1 a2.cls hR)))
    by_cases h4 : t.2.2 - t.2.1 ≤ 4
    · have hv := num_lt hk h2 h4
      rw [if_pos h4]
      have ep : pNum sz b 0 9999 t = .inr (lxV b t.2.1 (t.2.2 - t.2.1), nxT sz b t) := by
        unfold pNum
        rw [if_pos h2, if_pos ⟨h4, Nat.zero_le _, by omega⟩]
      rw [ep] at hn
      obtain ⟨-, -, hn⟩ := hn
      rw [if_neg (by decide)] at hn
      obtain ⟨S2, b1, b2, b3, b4, b5⟩ := hn
      have g2 := fb_gen b3 a6 (by omega) (by omega) (by omega)
      obtain ⟨S3, c1, c2, c3, c4, c5, c6⟩ := b2.setI g2 hBt (i := 0) (by show 0 < 1; omega) (nI (lxV b t.2.1 (t.2.2 - t.2.1)))
      refine ⟨S3, xTop S, hpre (ot1 b1 ?_), c2, (a3.trans b3 (by omega)).trans c3 (Nat.le_refl _), Or.inl ⟨_, ⟨⟨Nat.le_refl _, by omega⟩, c6⟩, rfl⟩, ?_, ?_⟩
      · unfold kX_X8_init
        exact ob1 (ob1 c1 rfl) rfl
      · show xTop S3 + 13 * t.2.1 ≤ xTop S + 0 + 13 * (nxT sz b t).2.1
        omega
      · show xSl S3 + 88 * t.2.1 ≤ xSl S + 0 + 88 * (nxT sz b t).2.1
        omega
    · rw [if_neg h4]
      have ep : pNum sz b 0 9999 t = .inl (2, t) := by
        unfold pNum
        rw [if_pos h2, if_neg (fun z => h4 z.1)]
      rw [ep] at hn
      have hn : XErr r S1 (2, t) (kX_X5_number g N S1 r (nI 0) (nI 9999)) := hn
      exact (hn.bind.pre a3).eq (hpre rfl)
  · rw [if_neg h2]
    have e2 : ¬ nI t.1 = 2 := fun z => h2 ((nI_eq (b := 2) (by omega) (by omega)).mp z)
    by_cases h40 : sgT b t 40 = true
    · rw [if_pos h40]
      have h0 : t.1 ≠ 0 := by have := (sgT_1 h40).1; omega
      have hlt := nxT_lt hk h0
      obtain ⟨S1, a1, a2, a3, a4, a5, -⟩ := h.next hN hG
      have hc1 := a3.1.2.2.2.1
      have hc2 := a3.1.2.2.2.2.1
      have hEx := hE S1 (nxT sz b t) a2 (by omega) (by omega)
      have hpre : ∀ {R : Option ((XS × Nat) ⊕ XT)}, (tbind (E S1 r (nI (a + 1))) fun r12 =>
      (f_cls r12.1 4 r).bind fun u13 =>
      (kX_X5_isSign g N r12.1 r 41).bind fun w14 =>
      (f_cls w14.1 4 r).bind fun u15 =>
      tbind (kX_X5_want g N w14.1 r w14.2 1) fun r17 =>
      (f_cls r17 4 r).bind fun u18 =>
      (kX_X5_next g N r17 r).bind fun w19 =>
      some (.inl (w19, r12.2))) = R → kX_X5_part g N E S r (nI a) = R := fun hR => by
        unfold kX_X5_part
        refine ob1 h.sort (oif e2 (ob1 h.cls (ob1 (h.s1 (c := 40) (by decide) h40) (oif n10 (ob1 h.cls (ob1 a1 (ob1 a2.cls ?_)))))))
        rw [nI_1]
        exact hR
      cases hv : rec (nxT sz b t) with
      | inl e =>
        rw [hv] at hEx
        have hEx : XErr r S1 e (E S1 r (nI (a + 1))) := hEx
        exact (hEx.bind.pre a3).eq (hpre rfl)
      | inr x =>
        rw [hv] at hEx
        obtain ⟨S2, f, b1, b2, b3, b4, b5, b6⟩ := hEx
        obtain ⟨-, x1, x2, -⟩ := b2.bds
        have hkx := b2.2.2.2.2.1
        have hd1 := b3.1.2.2.2.1
        have hd2 := b3.1.2.2.2.2.1
        have ht2 := b3.1.2.1
        show XOut g r xa sz B0 b S t 0 0 (d + 1) _ (if sgT b x.2 41 = true then .inr (x.1, nxT sz b x.2) else .inl (1, x.2))
        by_cases h41 : sgT b x.2 41 = true
        · rw [if_pos h41]
          have hltx := nxT_lt hkx (by have := (sgT_1 h41).1; omega)
          obtain ⟨S3, c1, c2, c3, c4, c5, -⟩ := b2.next hN hG
          refine ⟨S3, f, hpre (ot1 b1 (ob1 b2.cls (ob1 (b2.s1 (c := 41) (by decide) h41) (ob1 b2.cls (ot1 (want1 1) (ob1 b2.cls (ob1 c1 rfl))))))), c2, (a3.trans b3 (by omega)).trans c3 (by omega), ?_, ?_, ?_⟩
          · refine FormAt.mono (Z := fun q => xTop S1 ≤ q ∧ q < xTop S2) (fun q hq => ⟨by omega, by omega⟩) _ _ _ (FormAt.fr ?_ _ _ _ b4)
            exact (c3.1.fr (fun q hq => ⟨hq.2, fun z => by rcases z with z | z <;> omega⟩)).g
          · show xTop S3 + 13 * t.2.1 ≤ xTop S + 0 + 13 * (nxT sz b x.2).2.1
            omega
          · show xSl S3 + 88 * t.2.1 ≤ xSl S + 0 + 88 * (nxT sz b x.2).2.1
            omega
        · rw [if_neg h41]
          have hw := want0 (N := N) b2 1 (by omega) (by omega)
          obtain ⟨S3, w, fs, e1, e2⟩ := hw
          have : XErr r S2 (1, x.2) (kX_X5_part g N E S r (nI a)) := ⟨S3, w, fs, hpre (ot1 b1 (ob1 b2.cls (ob1 (b2.s0 (c := 41) (by decide) (sg_f h41)) (ob1 b2.cls (ot2 e1))))), e2⟩
          exact this.pre (a3.trans b3 (by omega))
    · rw [if_neg h40]
      have hpre : ∀ {R : Option ((XS × Nat) ⊕ XT)}, ((if nI t.1 = 1 then kX_X5_part_76 g N E S r r 1 else kX_X5_part_76 g N E S r r 0) = R) → kX_X5_part g N E S r (nI a) = R := fun hR => by
        unfold kX_X5_part
        exact ob1 h.sort (oif e2 (ob1 h.cls (ob1 (h.s0 (c := 40) (by decide) (sg_f h40)) (oit rfl (ob1 h.sort hR)))))
      by_cases h1 : t.1 = 1
      · rw [if_pos h1]
        have hlt := nxT_lt hk (by omega)
        obtain ⟨an, f, f1, f2, f3, f4⟩ := h.2.2.2.2.2.2
        have hwh := h.which (N := N) hN hG f3 (m := 6) (k0 := 2) (Nat.le_refl _) (by decide) f4
        have hwh : kX_X5_which g N S r an = some (S, nmI b t) := hwh
        have h76 : ∀ {R : Option ((XS × Nat) ⊕ XT)}, ((if nmI b t = -1 then kX_X5_part_100 g N E S r (nmI b t) r 0 else kX_X5_part_100 g N E S r (nmI b t) r 1) = R) → kX_X5_part g N E S r (nI a) = R := fun hR => by
          refine hpre (oit (by rw [h1]; rfl) ?_)
          unfold kX_X5_part_76
          exact ob1 h.cls (ot1 (want1 1) (ob1 (f_obj_T h.1.1 (by decide) rfl f1) (ob1 h.cls (ob1 hwh hR))))
        cases hm : nmT b t with
        | none =>
          have enm : nmI b t = -1 := by unfold nmI; rw [hm]
          rw [enm] at h76
          obtain ⟨S3, w, fs, e1, e2⟩ := want0 (N := N) h 3 (by omega) (by omega)
          refine ⟨S3, w, fs, h76 (oit rfl ?_), e2⟩
          unfold kX_X5_part_100
          exact ob1 h.cls (ot2 e1)
        | some i =>
          have enm : nmI b t = nI i := by unfold nmI; rw [hm]
          rw [enm] at h76
          obtain ⟨hi6, -, -⟩ := nm_some hm
          obtain ⟨S1, a1, a2, a3, a4, a5, -⟩ := h.next hN hG
          have hc1 := a3.1.2.2.2.1
          have hc2 := a3.1.2.2.2.2.1
          obtain ⟨S2, b1, b2, b3, b4, b5, b6⟩ := a2.new 1 (.inr (7, [.int 0])) (by omega) (by omega)
          obtain ⟨S3, c1, c2, c3, c4, c5, c6⟩ := b2.setI b6 (by omega) (i := 0) (by show 0 < 1; omega) (nI i)
          refine ⟨S3, xTop S1, h76 (oif (nI_m1 (by omega)) ?_), c2, (a3.trans b3 (by omega)).trans c3 (by omega), Or.inr (Or.inl ⟨i, hi6, ⟨⟨by omega, by omega⟩, c6⟩, rfl⟩), ?_, ?_⟩
          · unfold kX_X5_part_100
            refine ob1 h.cls (ot1 (want1 3) (ob1 h.cls (ob1 a1 (ob1 b1 ?_))))
            unfold kX_X9_init
            exact ob1 (ob1 c1 rfl) rfl
          · show xTop S3 + 13 * t.2.1 ≤ xTop S + 0 + 13 * (nxT sz b t).2.1
            omega
          · show xSl S3 + 88 * t.2.1 ≤ xSl S + 0 + 88 * (nxT sz b t).2.1
            omega
      · rw [if_neg h1]
        obtain ⟨S3, w, fs, e1, e2⟩ := want0 (N := N) h 1 (by omega) (by omega)
        refine ⟨S3, w, fs, hpre (oif (fun z => h1 ((nI_eq (b := 1) (by omega) (by omega)).mp z)) ?_), e2⟩
        unfold kX_X5_part_76
        exact ob1 h.cls (ot2 e1)
end YC29
