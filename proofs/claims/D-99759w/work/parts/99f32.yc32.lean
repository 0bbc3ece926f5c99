/-! the cave: nots, tests, expressions of the component -/
section YC32
variable {g : XC} {N sz r xa B0 k K Ks D : Nat} {b : Nat → Nat} {S S0 S1 S2 : XS} {t t0 t1 : TK} {a c : Nat} {E : XS → Nat → Int32 → Option ((XS × Nat) ⊕ XT)} {rec : TK → PR (VF × TK)}
theorem yRep_in {α : Type} (f : α → α) (x : α) : ∀ m, yRep f m (f x) = yRep f (m + 1) x := by
  intro m
  induction m with
  | zero => rfl
  | succ m ih =>
    show f (yRep f m (f x)) = f (yRep f (m + 1) x)
    rw [ih]
/-- the nots go around -/
theorem x_wrap (q : Nat) (hq : q ≤ 6) : ∀ (m j fu D : Nat) (S : XS) (f B : Nat) (ψ : VF), j + m = q → m < fu → B0 ≤ B → B ≤ xTop S → XZ g r xa sz B0 b S t → FormAt g (fun q => B ≤ q ∧ q < xTop S) D S f ψ → xTop S + m ≤ xCc S → xSl S + m ≤ xCs S → ∃ S1 f1, kX_X5_not_94 g N E fu S (nI q) (some f) (nI j) = some (.inl (S1, f1)) ∧ XZ g r xa sz B0 b S1 t ∧ XFb r (xTop S) S S1 ∧ FormAt g (fun q => B ≤ q ∧ q < xTop S1) (D + m) S1 f1 (yRep vNot m ψ) ∧ xTop S1 = xTop S + m ∧ xSl S1 = xSl S + m := by
  intro m
  induction m with
  | zero =>
    intro j fu D S f B ψ hj hfu hB hBt hz hf r1 r2
    obtain ⟨fu, rfl⟩ : ∃ e, fu = e + 1 := ⟨fu - 1, by omega⟩
    refine ⟨S, f, ?_, hz, XFb.refl hz.2.1, hf, rfl, rfl⟩
    rw [kX_X5_not_94]
    exact oit (nI_le (by omega) (by omega)) rfl
  | succ m ih =>
    intro j fu D S f B ψ hj hfu hB hBt hz hf r1 r2
    obtain ⟨fu, rfl⟩ : ∃ e, fu = e + 1 := ⟨fu - 1, by omega⟩
    obtain ⟨hrB, hxB, hBtt, hg1, hg2⟩ := hz.2.2.2.2.2.1
    obtain ⟨S1, a1, a2, a3, a4, a5, a6⟩ := hz.new 1 (.inr (8, [.null])) (by omega) (by omega)
    have c1 := a3.1.2.2.2.1
    have c2 := a3.1.2.2.2.2.1
    obtain ⟨S2, b1, b2, b3, b4, b5, b6⟩ := a2.setR a6 hBtt (i := 0) (by show 0 < 1; omega) (some f)
    have hS : XFb r (xTop S) S S2 := a3.trans b3 (Nat.le_refl _)
    have d1 := hS.1.2.2.2.1
    have d2 := hS.1.2.2.2.2.1
    have hff : FormAt g (fun q => B ≤ q ∧ q < xTop S) D S2 f ψ := FormAt.fr (hS.1.fr (fun q hq => ⟨hq.2, fun z => by rcases z with z | z <;> omega⟩)).g _ _ _ hf
    have hf2 : FormAt g (fun q => B ≤ q ∧ q < xTop S2) (D + 1) S2 (xTop S) (vNot ψ) := Or.inr (Or.inr (Or.inl ⟨f, ψ, ⟨⟨hBt, by omega⟩, b6⟩, FormAt.mono (fun q hq => ⟨hq.1, by omega⟩) _ _ _ hff, rfl⟩))
    obtain ⟨S3, f3, e1, e2, e3, e4, e5, e6⟩ := ih (j + 1) fu (D + 1) S2 (xTop S) B (vNot ψ) (by omega) (by omega) hB (by omega) b2 hf2 (by omega) (by omega)
    rw [yRep_in] at e4
    refine ⟨S3, f3, ?_, e2, hS.trans e3 (by omega), by rw [show D + (m + 1) = D + 1 + m by omega]; exact e4, by omega, by omega⟩
    rw [kX_X5_not_94]
    refine oif (nI_ge (by omega) (by omega)) (ob1 a1 (ob1 (v := f) rfl (ob1 (v := S2) ?_ ?_)))
    · unfold kX_X10_init
      exact ob1 b1 rfl
    · rw [nI_1]
      exact e1
/-- the nots ahead -/
theorem x_nots (hN : 2 ^ 20 < N) (hG : GS g) (x1 : Int32) : ∀ (m k fu : Nat) (S : XS) (t : TK), k + m = 6 → m + 1 ≤ fu → XZ g r xa sz B0 b S t → xTop S + 1 ≤ xCc S → xSl S + 7 ≤ xCs S → match pNots sz b m t with
    | .inr x => ∃ S1 f1, kX_X5_not_2 g N E fu S r x1 (nI k) = kX_X5_not_2 g N E (f1 + 1) S1 r x1 (nI (k + x.1)) ∧ XZ g r xa sz B0 b S1 x.2 ∧ XFb r (xTop S) S S1 ∧ xTop S1 = xTop S ∧ xSl S1 = xSl S
    | .inl e => XErr r S e (kX_X5_not_2 g N E fu S r x1 (nI k)) := by
  intro m
  induction m with
  | zero =>
    intro k fu S t hk hf hz r1 r2
    obtain ⟨fu, rfl⟩ : ∃ e, fu = e + 1 := ⟨fu - 1, by omega⟩
    by_cases hw : wd b t 9 = true
    · have e : pNots sz b 0 t = .inl (2, t) := by rw [pNots, if_pos hw]
      rw [e]
      obtain ⟨S2, w, fs, e1, e2⟩ := want0 (N := N) hz 2 r1 r2
      have hi := hz.is hN hG (k := 9) (by decide)
      rw [if_pos hw] at hi
      refine ⟨S2, w, fs, ?_, e2⟩
      rw [kX_X5_not_2]
      refine ob1 hz.cls (ob1 hi (oif n10 (oit (nI_le (a := 6) (by omega) (by omega)) ?_)))
      unfold kX_X5_not_23
      exact ob1 hz.cls (ot2 e1)
    · have e : pNots sz b 0 t = .inr (0, t) := by rw [pNots, if_neg hw]
      rw [e]
      exact ⟨S, fu, rfl, hz, XFb.refl hz.2.1, rfl, rfl⟩
  | succ m ih =>
    intro k fu S t hk hf hz r1 r2
    obtain ⟨fu, rfl⟩ : ∃ e, fu = e + 1 := ⟨fu - 1, by omega⟩
    by_cases hw : wd b t 9 = true
    · have e : pNots sz b (m + 1) t = pB (pNots sz b m (nxT sz b t)) fun x => .inr (x.1 + 1, x.2) := by rw [pNots, if_pos hw]
      have hi := hz.is hN hG (k := 9) (by decide)
      rw [if_pos hw] at hi
      obtain ⟨S1, a1, a2, a3, a4, a5, -⟩ := hz.next hN hG
      have c1 := a3.1.2.2.2.1
      have c2 := a3.1.2.2.2.2.1
      have hst : kX_X5_not_2 g N E (fu + 1) S r x1 (nI k) = kX_X5_not_2 g N E fu S1 r x1 (nI (k + 1)) := by
        rw [kX_X5_not_2]
        refine ob1 hz.cls (ob1 hi (oif n10 (oif (nI_ge (b := 6) (a := k) (by omega) (by omega)) ?_)))
        unfold kX_X5_not_23
        refine ob1 hz.cls (ot1 (want1 2) (ob1 hz.cls (ob1 a1 ?_)))
        rw [nI_1]
      have := ih (k + 1) fu S1 (nxT sz b t) (by omega) (by omega) a2 (by omega) (by omega)
      rw [hst, e]
      cases hv : pNots sz b m (nxT sz b t) with
      | inl e1 =>
        rw [hv] at this
        have this : XErr r S1 e1 (kX_X5_not_2 g N E fu S1 r x1 (nI (k + 1))) := this
        exact this.pre a3
      | inr x =>
        rw [hv] at this
        obtain ⟨S2, f2, b1, b2, b3, b4, b5⟩ := this
        refine ⟨S2, f2, ?_, b2, a3.trans b3 (by omega), by omega, by omega⟩
        rw [b1]
        show kX_X5_not_2 g N E (f2 + 1) S2 r x1 (nI (k + 1 + x.1)) = kX_X5_not_2 g N E (f2 + 1) S2 r x1 (nI (k + (x.1 + 1)))
        rw [show k + 1 + x.1 = k + (x.1 + 1) by omega]
    · have e : pNots sz b (m + 1) t = .inr (0, t) := by rw [pNots, if_neg hw]
      rw [e]
      exact ⟨S, fu, rfl, hz, XFb.refl hz.2.1, rfl, rfl⟩
/-- a test, ahead of the nots' going around -/
theorem x_cmp (hN : 2 ^ 20 < N) (hG : GS g) (hr : pAdv sz b rec) (h : XLv g r xa sz B0 b k 10 70 D (fun S => kX_X5_sum g N E S r (nI a)) (pSum sz b rec)) (hz : XZ g r xa sz B0 b S t) (hro : XRo sz S t 15 105 k) (hw : wd b t 9 = false) (fu q : Nat) :
    (∃ e, pCmp sz b rec t = .inl e ∧ XErr r S e (kX_X5_not_2 g N E (fu + 1) S r (nI a) (nI q))) ∨ ∃ x S2 f, pCmp sz b rec t = .inr x ∧ kX_X5_not_2 g N E (fu + 1) S r (nI a) (nI q) = kX_X5_not_94 g N E N S2 (nI q) (some f) 0 ∧ XOk g r xa sz B0 b S t 15 105 (D + 1) (some (.inl (S2, f))) x := by
  have h7 := hz.bds.1
  have hi := hz.is (N := N) hN hG (k := 9) (by decide)
  rw [if_neg (by rw [hw]; decide)] at hi
  have e0 : kX_X5_not_2 g N E (fu + 1) S r (nI a) (nI q) = ((xNew S 2 (.inr (5, [.null, .null]))).bind fun S1 => (f_cls S1 4 r).bind fun _ => tbind (kX_X5_sum g N E S1 r (nI a)) fun r4 => (kX_X7_init g N r4.1 (xTop S) r4.2).bind fun w8 => (f_cls w8 4 r).bind fun u9 =>
      (kX_X5_isSign g N w8 r 60).bind fun w10 =>
      if w10.2 = 0 then
        (f_cls w10.1 4 r).bind fun u12 =>
        (kX_X5_isSign g N w10.1 r 61).bind fun w13 =>
        if w13.2 = 0 then
          kX_X5_not_85 g N E w13.1 (nI q) (xTop S)
        else
          kX_X5_not_68 g N E w13.1 r (nI a) (nI q) (xTop S)
      else
        kX_X5_not_68 g N E w10.1 r (nI a) (nI q) (xTop S)) := by
    rw [kX_X5_not_2]
    exact ob1 hz.cls (ob1 hi (oit rfl rfl))
  have eP : pCmp sz b rec t = pB (pSum sz b rec t) (pLoop sz b (opC b) (pSum sz b rec) 1) := rfl
  rw [eP]
  rcases x_begin (N := N) (F := fun w8 => (f_cls w8 4 r).bind fun u9 =>
      (kX_X5_isSign g N w8 r 60).bind fun w10 =>
      if w10.2 = 0 then
        (f_cls w10.1 4 r).bind fun u12 =>
        (kX_X5_isSign g N w10.1 r 61).bind fun w13 =>
        if w13.2 = 0 then
          kX_X5_not_85 g N E w13.1 (nI q) (xTop S)
        else
          kX_X5_not_68 g N E w13.1 r (nI a) (nI q) (xTop S)
      else
        kX_X5_not_68 g N E w10.1 r (nI a) (nI q) (xTop S)) hz hro h (pSum_adv hr) with ⟨e, e1, e2⟩ | ⟨x, S3, e1, e2, e3⟩
  · rw [e1]
    exact Or.inl ⟨e, rfl, e2.eq e0⟩
  · rw [e1]
    have h3 := e2.1
    have e4 := e0.trans e3
    have hk3 := h3.2.2.2.2.1
    have h85 : ∀ (S4 : XS) (x4 : VF × TK), XCh g r xa sz B0 b S t (xTop S) 10 70 D S4 x4.2 x4.1 → ∃ f, kX_X5_not_85 g N E S4 (nI q) (xTop S) = kX_X5_not_94 g N E N S4 (nI q) (some f) 0 ∧ XOk g r xa sz B0 b S t 15 105 (D + 1) (some (.inl (S4, f))) x4 := fun S4 x4 hx => by
      obtain ⟨f, k1, k2⟩ := hx.fin N
      refine ⟨f, ?_, k2⟩
      unfold kX_X5_not_85
      obtain ⟨-, -, -, T, m, Tl, Tb, -, h5, -⟩ := hx
      exact ob1 h5.cls (ob1 k1 rfl)
    show (∃ e, pLoop sz b (opC b) (pSum sz b rec) 1 x = .inl e ∧ _) ∨ ∃ y S2 f, pLoop sz b (opC b) (pSum sz b rec) 1 x = .inr y ∧ _
    cases ho : opC b x.2 with
    | none =>
      have e : pLoop sz b (opC b) (pSum sz b rec) 1 x = .inr x := by
        rw [pLoop, ho]
      rw [e]
      obtain ⟨c1, c2⟩ := opC_n ho
      obtain ⟨f, k1, k2⟩ := h85 S3 x e2
      refine Or.inr ⟨x, S3, f, rfl, e4.trans ?_, k2⟩
      exact ob1 h3.cls (ob1 (h3.s0 (c := 60) (by decide) c1) (oit rfl (ob1 h3.cls (ob1 (h3.s0 (c := 61) (by decide) c2) (oit rfl k1)))))
    | some ch =>
      have e : pLoop sz b (opC b) (pSum sz b rec) 1 x = pB (pSum sz b rec (nxT sz b x.2)) fun y => .inr ((fun w => yBy ch (x.1 w) (y.1 w)), y.2) := by
        rw [pLoop, ho]
        rfl
      rw [e]
      obtain ⟨hs, hc⟩ := opC_s ho
      have hcm : ch ∈ [42, 43, 45, 47, 60, 61] := by rcases hc with rfl | rfl <;> decide
      have hcm8 : ch ∈ [38, 42, 43, 45, 47, 60, 61, 124] := by rcases hc with rfl | rfl <;> decide
      obtain ⟨S4, k1, k2, k3, k4, k5⟩ := h3.sign (N := N) hN hG hcm hs
      have h68 : kX_X5_not_2 g N E (fu + 1) S r (nI a) (nI q) = kX_X5_not_68 g N E S3 r (nI a) (nI q) (xTop S) := by
        refine e4.trans ?_
        rcases hc with rfl | rfl
        · exact ob1 h3.cls (ob1 (h3.s1 (c := 60) (by decide) hs) (oif n10 rfl))
        · exact ob1 h3.cls (ob1 (h3.s0 (c := 60) (by decide) (sg_ne hs (by omega))) (oit rfl (ob1 h3.cls (ob1 (h3.s1 (c := 61) (by decide) hs) (oif n10 rfl)))))
      have e68 : kX_X5_not_68 g N E S3 r (nI a) (nI q) (xTop S) = tbind (kX_X5_sum g N E S4 r (nI a)) fun r5 => (f_cls r5.1 5 (xTop S)).bind fun _ => (kX_X7_add g N r5.1 (xTop S) (nI ch) r5.2).bind fun w7 => kX_X5_not_85 g N E w7 (nI q) (xTop S) := by
        unfold kX_X5_not_68
        exact ob1 h3.cls (ob1 k1 (ob1 k2.cls rfl))
      have hlen := len_sg hk3 hs
      have hroom := e2.room (k := k) (ol := 1) (t1 := nxT sz b x.2) hro k3 k4 k5 hlen (by decide) (by decide)
      have hit := h S4 (nxT sz b x.2) k2 hroom
      cases hv : pSum sz b rec (nxT sz b x.2) with
      | inl e5 =>
        rw [hv] at hit
        have hit : XErr r S4 e5 (kX_X5_sum g N E S4 r (nI a)) := hit
        exact Or.inl ⟨e5, rfl, ((hit.bind.pre k3).eq (h68.trans e68)).pre e2.2.1⟩
      | inr y =>
        rw [hv] at hit
        obtain ⟨S5, f2, b1, b2, b3, b4, b5, b6⟩ := hit
        obtain ⟨-, hay⟩ := pSum_adv hr _ y k2.2.2.2.2.1 hv
        obtain ⟨m1, S6, m2, m3⟩ := e2.step (N := N) (k := k) hro k3 k4 k5 hlen (by decide) (by decide) (by decide) hcm8 b2 b3 b4 b5 b6 (by omega)
        obtain ⟨f, n1, n2⟩ := h85 S6 ((fun w => yBy ch (x.1 w) (y.1 w)), y.2) m3
        exact Or.inr ⟨_, S6, f, rfl, (h68.trans e68).trans (ot1 b1 (ob1 m1 (ob1 m2 n1))), n2⟩
theorem x_not (hN : 2 ^ 20 < N) (hG : GS g) (hr : pAdv sz b rec) (h : XLv g r xa sz B0 b k 10 70 D (fun S => kX_X5_sum g N E S r (nI a)) (pSum sz b rec)) : XLv g r xa sz B0 b k 15 105 (D + 7) (fun S => kX_X5_not g N E S r (nI a)) (pNot sz b rec) := by
  intro S t hz hro
  obtain ⟨h7, h21, h22, -⟩ := hz.bds
  obtain ⟨r1, r2⟩ := hro
  have hn := x_nots (E := E) (N := N) hN hG (nI a) 6 0 N S t rfl (by omega) hz (by omega) (by omega)
  have eX : kX_X5_not g N E S r (nI a) = kX_X5_not_2 g N E N S r (nI a) (nI 0) := rfl
  show XOut g r xa sz B0 b S t 15 105 (D + 7) (kX_X5_not g N E S r (nI a)) (pB (pNots sz b 6 t) fun x => pB (pCmp sz b rec x.2) fun y => .inr (yRep vNot x.1 y.1, y.2))
  rw [eX]
  cases hv : pNots sz b 6 t with
  | inl e =>
    rw [hv] at hn
    exact hn
  | inr x =>
    rw [hv] at hn
    obtain ⟨S1, f1, a1, a2, a3, a4, a5⟩ := hn
    obtain ⟨-, hadv, hq6, hw⟩ := pNots_adv 6 t x hz.2.2.2.2.1 hv
    have c1 := a3.1.2.2.2.1
    have c2 := a3.1.2.2.2.2.1
    rw [Nat.zero_add] at a1
    show XOut g r xa sz B0 b S t 15 105 (D + 7) _ (pB (pCmp sz b rec x.2) fun y => .inr (yRep vNot x.1 y.1, y.2))
    rw [a1]
    rcases x_cmp (N := N) (q := x.1) (fu := f1) hN hG hr h a2 ⟨by omega, by omega⟩ hw with ⟨e, e1, e2⟩ | ⟨y, S2, f, e1, e2, e3⟩
    · rw [e1]
      exact XErr.out rfl (e2.pre a3)
    · rw [e1]
      obtain ⟨S3, f3, z1, z2, z3, z4, z5, z6⟩ := e3
      cases z1
      have d1 := z3.1.2.2.2.1
      have d2 := z3.1.2.2.2.2.1
      obtain ⟨-, y1, y2, -⟩ := z2.bds
      have hB := hz.2.2.2.2.2.1.2.2.1
      have hS1t := z3.1.2.1
      obtain ⟨S4, f4, w1, w2, w3, w4, w5, w6⟩ := x_wrap (N := N) (E := E) x.1 hq6 x.1 0 N (D + 1) S2 f (xTop S) y.1 (by omega) (by omega) hB (by omega) z2 (FormAt.mono (fun q hq => ⟨by omega, hq.2⟩) _ _ _ z4) (by omega) (by omega)
      refine ⟨S4, f4, e2.trans w1, w2, (a3.trans z3 (by omega)).trans w3 (by omega), w4.le (by omega), ?_, ?_⟩
      · show xTop S4 + 13 * t.2.1 ≤ xTop S + 15 + 13 * y.2.2.1
        omega
      · show xSl S4 + 88 * t.2.1 ≤ xSl S + 105 + 88 * y.2.2.1
        omega
/-- expressions nest -/
theorem x_expr (hN : 2 ^ 20 < N) (hG : GS g) : ∀ k n a, a + k = 6 → k < n → XEx g r xa sz B0 b k (11 * k + 1) a (kR_X5_expression g N n) (pExp sz b k) := by
  intro k
  induction k with
  | zero =>
    intro n a ha hn S t hz r1 r2
    obtain ⟨n, rfl⟩ : ∃ e, n = e + 1 := ⟨n - 1, by omega⟩
    have e6 : a = 6 := by omega
    subst e6
    obtain ⟨h7, h21, h22, h4⟩ := hz.bds
    show XOut g r xa sz B0 b S t 25 175 1 (kX_X5_expression g N (kR_X5_expression g N n) S r (nI 6)) (pExp sz b 0 t)
    have h47 : okT b t = true → XErr r S (2, t) (kX_X5_expression_31 g N (kR_X5_expression g N n) S r (nI 6) r 1) := fun _ => by
      obtain ⟨S2, w, fs, e1, e2⟩ := want0 (N := N) hz 2 (by omega) (by omega)
      refine ⟨S2, w, fs, ?_, e2⟩
      unfold kX_X5_expression_31 kX_X5_expression_47
      exact ob1 hz.cls (ot1 (want1 1) (oit (by decide) (ob1 hz.cls (ot2 e1))))
    unfold pExp kX_X5_expression
    by_cases e2 : t.1 = 2
    · have ho : okT b t = true := by unfold okT; rw [e2]; rfl
      rw [if_pos ho]
      exact (h47 ho).eq (ob1 hz.sort (oit (by rw [e2]; rfl) rfl))
    · have n2 : ¬ nI t.1 = 2 := fun z => e2 ((nI_eq (b := 2) (by omega) (by omega)).mp z)
      by_cases e1 : t.1 = 1
      · have ho : okT b t = true := by unfold okT; rw [e1]; rfl
        rw [if_pos ho]
        exact (h47 ho).eq (ob1 hz.sort (oif n2 (ob1 hz.sort (oit (by rw [e1]; rfl) rfl))))
      · have n1 : ¬ nI t.1 = 1 := fun z => e1 ((nI_eq (b := 1) (by omega) (by omega)).mp z)
        have ho : okT b t = sgT b t 40 := by
          unfold okT
          rw [decide_eq_false (by omega), Bool.false_or]
        by_cases e40 : sgT b t 40 = true
        · have ho1 : okT b t = true := ho.trans e40
          rw [if_pos ho1]
          exact (h47 ho1).eq (ob1 hz.sort (oif n2 (ob1 hz.sort (oif n1 (ob1 hz.cls (ob1 (hz.s1 (c := 40) (by decide) e40) (oif n10 rfl)))))))
        · rw [if_neg (by rw [ho]; exact e40)]
          obtain ⟨S2, w, fs, e1, e2⟩ := want0 (N := N) hz 1 (by omega) (by omega)
          refine ⟨S2, w, fs, ob1 hz.sort (oif n2 (ob1 hz.sort (oif n1 (ob1 hz.cls (ob1 (hz.s0 (c := 40) (by decide) (sg_f e40)) (oit rfl ?_)))))), e2⟩
          unfold kX_X5_expression_31
          exact ob1 hz.cls (ot2 e1)
  | succ k ih =>
    intro n a ha hn S t hz r1 r2
    obtain ⟨n, rfl⟩ : ∃ e, n = e + 1 := ⟨n - 1, by omega⟩
    obtain ⟨h7, h21, h22, h4⟩ := hz.bds
    have hro : XRo sz S t 25 175 k := ⟨by omega, by omega⟩
    have hE := ih n (a + 1) (by omega) (by omega)
    have lp : XLv g r xa sz B0 b k 0 0 (11 * k + 1) (fun S => kX_X5_part g N (kR_X5_expression g N n) S r (nI a)) (pPart sz b (pExp sz b k)) := fun S t z1 z2 => x_part hN hG (by omega) hE (by omega) z1 z2
    have ra := pExp_adv (sz := sz) (b := b) k
    have hor := x_or hN hG ra (x_and hN hG ra (x_not hN hG ra (x_sum hN hG ra (x_prod hN hG ra lp)))) hz hro (by omega)
    show XOut g r xa sz B0 b S t 25 175 (11 * (k + 1) + 1) (kX_X5_expression g N (kR_X5_expression g N n) S r (nI a)) (pExp sz b (k + 1) t)
    have h31 : ∀ (hok : okT b t = true), XOut g r xa sz B0 b S t 25 175 (11 * (k + 1) + 1) (kX_X5_expression_31 g N (kR_X5_expression g N n) S r (nI a) r 1) (pExp sz b (k + 1) t) := fun hok => by
      rw [pExp, if_pos hok]
      have e : kX_X5_expression_31 g N (kR_X5_expression g N n) S r (nI a) r 1 = kX_X5_expression_47 g N (kR_X5_expression g N n) S r (nI a) r 1 := by
        unfold kX_X5_expression_31
        exact ob1 hz.cls (ot1 (want1 1) (oif (nI_ge (b := 6) (a := a) (by omega) (by omega)) rfl))
      rw [e]
      rw [show 11 * (k + 1) + 1 = 11 * k + 1 + 1 + 1 + 7 + 1 + 1 by omega]
      exact hor
    by_cases e2 : t.1 = 2
    · have ho : okT b t = true := by unfold okT; rw [e2]; rfl
      have e : kX_X5_expression g N (kR_X5_expression g N n) S r (nI a) = kX_X5_expression_31 g N (kR_X5_expression g N n) S r (nI a) r 1 := by
        unfold kX_X5_expression
        exact ob1 hz.sort (oit (by rw [e2]; rfl) rfl)
      rw [e]
      exact h31 ho
    · have n2 : ¬ nI t.1 = 2 := fun z => e2 ((nI_eq (b := 2) (by omega) (by omega)).mp z)
      by_cases e1 : t.1 = 1
      · have ho : okT b t = true := by unfold okT; rw [e1]; rfl
        have e : kX_X5_expression g N (kR_X5_expression g N n) S r (nI a) = kX_X5_expression_31 g N (kR_X5_expression g N n) S r (nI a) r 1 := by
          unfold kX_X5_expression
          exact ob1 hz.sort (oif n2 (ob1 hz.sort (oit (by rw [e1]; rfl) rfl)))
        rw [e]
        exact h31 ho
      · have n1 : ¬ nI t.1 = 1 := fun z => e1 ((nI_eq (b := 1) (by omega) (by omega)).mp z)
        have ho : okT b t = sgT b t 40 := by
          unfold okT
          rw [decide_eq_false (by omega), Bool.false_or]
        by_cases e40 : sgT b t 40 = true
        · have e : kX_X5_expression g N (kR_X5_expression g N n) S r (nI a) = kX_X5_expression_31 g N (kR_X5_expression g N n) S r (nI a) r 1 := by
            unfold kX_X5_expression
            exact ob1 hz.sort (oif n2 (ob1 hz.sort (oif n1 (ob1 hz.cls (ob1 (hz.s1 (c := 40) (by decide) e40) (oif n10 rfl))))))
          rw [e]
          exact h31 (ho.trans e40)
        · rw [pExp, if_neg (by rw [ho]; exact e40)]
          obtain ⟨S2, w, fs, f1, f2⟩ := want0 (N := N) hz 1 (by omega) (by omega)
          refine ⟨S2, w, fs, ?_, f2⟩
          unfold kX_X5_expression
          refine ob1 hz.sort (oif n2 (ob1 hz.sort (oif n1 (ob1 hz.cls (ob1 (hz.s0 (c := 40) (by decide) (sg_f e40)) (oit rfl ?_))))))
          unfold kX_X5_expression_31
          exact ob1 hz.cls (ot2 f1)
/-- a whole expression of the component -/
theorem x_expression (hN : 2 ^ 20 < N) (hG : GS g) (hz : XZ g r xa sz B0 b S t) (r1 : xTop S + 13 * sz + 100 ≤ xCc S + 13 * t.2.1) (r2 : xSl S + 88 * sz + 7000 ≤ xCs S + 88 * t.2.1) : XOut g r xa sz B0 b S t 25 175 72 (kD_X5_expression g N S r 0) (pExp sz b 6 t) := by
  have h := x_expr (r := r) (xa := xa) (sz := sz) (B0 := B0) (b := b) hN hG 6 8 0 rfl (by decide) S t hz (by omega) (by omega)
  have e : kD_X5_expression g N S r 0 = kR_X5_expression g N 8 S r (nI 0) := rfl
  rw [e]
  cases hv : pExp sz b 6 t with
  | inl e => rw [hv] at h; exact h
  | inr x =>
    rw [hv] at h
    obtain ⟨S1, f, h1, h2, h3, h4, h5, h6⟩ := h
    exact ⟨S1, f, h1, h2, h3, h4.le (by decide), h5, h6⟩
end YC32
