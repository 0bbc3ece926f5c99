/-! the cave: the component's lines, the whole text -/
section YC44
variable {g : XC} {N r xa sz B0 mk nb B1 B : Nat} {b : Nat → Nat} {S S1 S2 : XS} {t t1 : TK} {s : LT} {C : CC}
theorem XLb.bit (h : XLb g r xa sz B0 b mk nb B1 S t s) {w : Nat} (hw : w < 2) : bt (xI S r 10) w = (if w = 0 then s.1.2.2.1.isSome else s.1.2.2.2.isSome) := by
  have h10 := h.2.2.2.2.2.2.1
  have : w = 0 ∨ w = 1 := by omega
  rcases this with rfl | rfl
  · rw [if_pos rfl]; exact h10.1
  · rw [if_neg (by decide)]; exact h10.2
/-- the line's mark is set, the next token -/
theorem xl_mark (hN : 2 ^ 20 < N) (hG : GS g) (h : XLb g r xa sz B0 b mk nb B1 S t s) (hc : XCv g B0 mk B1 S s.1) {w : Nat} (hw : w < 2) (s' : LT) (hs : s'.2.1 = s.2.1) (h10 : s'.1.2.2.1.isSome = (s.1.2.2.1.isSome || decide (w = 0)) ∧ s'.1.2.2.2.isSome = (s.1.2.2.2.isSome || decide (w = 1))) (h11 : s'.2.2 = s.2.2) : ∃ S1 S2, f_putI S 4 r 10 (xI S r 10 ||| ((1 : Int32) <<< (nI w &&& 31))) = some S1 ∧ f_cls S1 4 r = some () ∧ kX_X5_next g N S1 r = some S2 ∧ XLb g r xa sz B0 b mk nb B1 S2 (nxT sz b t) s' ∧ XCv g B0 mk B1 S2 s.1 ∧ XE (fun q => B1 ≤ q) S S2 ∧ xTop S2 = xTop S ∧ xSl S2 = xSl S := by
  have hr := h.bd.1
  have hL : XLb g r xa sz B0 b mk nb B1 (xSetI S r 10 (xI S r 10 ||| ((1 : Int32) <<< (nI w &&& 31)))) t s' := by
    refine h.setI (Or.inl rfl) _ s' hs ⟨?_, ?_⟩ (fun j hj => ?_)
    · rw [xI_self, b_or, bt_one (by omega) (by decide), h.2.2.2.2.2.2.1.1, h10.1]
      congr 1
      exact decide_eq_decide.mpr ⟨fun z => z.symm, fun z => z.symm⟩
    · rw [xI_self, b_or, bt_one (by omega) (by decide), h.2.2.2.2.2.2.1.2, h10.2]
      congr 1
      exact decide_eq_decide.mpr ⟨fun z => z.symm, fun z => z.symm⟩
    · rw [xI_other _ _ _ _ (by decide), h11]
      exact h.2.2.2.2.2.2.2 j hj
  have hC : XCv g B0 mk B1 (xSetI S r 10 (xI S r 10 ||| ((1 : Int32) <<< (nI w &&& 31)))) s.1 := hc.of rfl rfl rfl
  obtain ⟨S2, a1, a2, a3, a4, a5, a6, -⟩ := xl_next hN hG hL hC
  exact ⟨_, S2, f_putI_T h.1.1.1 (by decide) (Or.inl rfl), hL.1.cls, a1, a2, a3, ((setI_fb h.1.2.1 (by decide) _).mono (fun q _ z => by rw [z]; exact hr)).trans a4 (fun _ _ z => z), a5, a6⟩
theorem x_only5 (h : XLb g r xa sz B0 b mk nb B1 S t s) {w : Nat} (hw : w < 2) (hb : bt (xI S r 10) w = true) (r1 : xTop S + 1 ≤ xCc S) (r2 : xSl S + 7 ≤ xCs S) : XErL r B1 S (5, t) (kX_X5_only g N S r (nI w)) := by
  obtain ⟨S3, wx, fs, e1, e2⟩ := want0 (N := N) h.1 5 r1 r2
  have : XErr r S (5, t) (kX_X5_only g N S r (nI w)) := by
    refine ⟨S3, wx, fs, ?_, e2⟩
    unfold kX_X5_only
    have hof := x_of (g := g) (N := N) (c := w) (by omega) (xI S r 10)
    rw [if_pos hb] at hof
    refine ob1 (h.1.int (by decide) rfl) (ob1 hof (oif n10 ?_))
    unfold kX_X5_only_17
    exact ob1 h.1.cls (ot2 e1)
  exact this.lb h
theorem xl_leaks (hN : 2 ^ 20 < N) (hG : GS g) (h : XLb g r xa sz B0 b mk nb B1 S t s) (hc : XCv g B0 mk B1 S s.1) (hR : XRl sz S t) (hl : t.2.1 + 5 ≤ (nxT sz b t).2.1) : (∃ e, pLeaks sz b s t = .inl e ∧ XErL r B1 S e (kX_X5_only g N S r (nI 0))) ∨ ∃ y S1, pLeaks sz b s t = .inr y ∧ kX_X5_only g N S r (nI 0) = some (.inl S1) ∧ XLb g r xa sz B0 b mk nb B1 S1 y.2 y.1 ∧ XCv g B0 mk B1 S1 y.1.1 ∧ XE (fun q => B1 ≤ q) S S1 ∧ xTop S1 + 13 * t.2.1 + 40 ≤ xTop S + 13 * y.2.2.1 ∧ xSl S1 + 88 * t.2.1 + 260 ≤ xSl S + 88 * y.2.2.1 := by
  obtain ⟨r1, r2⟩ := hR
  obtain ⟨h7, htz, -, hkt⟩ := h.bds
  obtain ⟨c1, c2, c3, c4, c5, c6, c7⟩ := h.bd
  unfold pLeaks
  have hbit := h.bit (w := 0) (by decide)
  rw [if_pos rfl] at hbit
  by_cases hi : s.1.2.2.1.isSome = true
  · rw [if_pos hi]
    exact Or.inl ⟨_, rfl, x_only5 h (by decide) (hbit.trans hi) (by omega) (by omega)⟩
  · rw [if_neg hi]
    have hof := x_of (g := g) (N := N) (c := 0) (by decide) (xI S r 10)
    rw [if_neg (by rw [hbit]; exact hi)] at hof
    obtain ⟨S1, S2, a1, a2, a3, a4, a5, a6, a7, a8⟩ := xl_mark hN hG h hc (w := 0) (by decide) (lLeaks s (fun _ => 0)) rfl ⟨by simp [lLeaks], by simp [lLeaks]⟩ rfl
    have ac := a6.2.2.2.1
    have as := a6.2.2.2.2.1
    have hx := x_expression hN hG a4.1 (by omega) (by omega)
    have hpre : ∀ {R : Option (XS ⊕ XT)}, (tbind (kD_X5_expression g N S2 r 0) fun r10 => (f_obj r10.1 4 r 1).bind fun v14 => (f_putR r10.1 3 v14 1 (some r10.2)).bind fun S15 => some (.inl S15)) = R → kX_X5_only g N S r (nI 0) = R := fun hR => by
      unfold kX_X5_only
      refine ob1 (h.1.int (by decide) rfl) (ob1 hof (oit rfl ?_))
      unfold kX_X5_only_17
      exact ob1 h.1.cls (ot1 (want1 5) (ob1 (h.1.int (by decide) rfl) (ob1 a1 (ob1 a2 (ob1 a3 (ob1 a4.1.cls hR))))))
    cases hv : pExp sz b 6 (nxT sz b t) with
    | inl e =>
      rw [hv] at hx
      have hx : XErr r S2 e (kD_X5_expression g N S2 r 0) := hx
      exact Or.inl ⟨e, rfl, ((hx.lb a4).bind.pre a6).eq (hpre rfl)⟩
    | inr x =>
      rw [hv] at hx
      obtain ⟨S3, f, b1, b2, b3, b4, b5, b6⟩ := hx
      have hL3 := a4.fb b3 (by omega) b2
      obtain ⟨S4, d1, d2, d3, d4, d5, d6, d7⟩ := (xl_form hL3 a5 b3 (by omega) b4).1
      have xx := (a6.trans (b3.e1 c1 (by omega)) (fun _ _ z => z)).trans d4 (fun _ _ z => z)
      refine Or.inr ⟨_, S4, rfl, hpre (ot1 b1 (ob1 hL3.made (ob1 d1 rfl))), d2.iso rfl rfl rfl rfl, d3, xx, ?_, ?_⟩
      · show xTop S4 + 13 * t.2.1 + 40 ≤ xTop S + 13 * x.2.2.1
        omega
      · show xSl S4 + 88 * t.2.1 + 260 ≤ xSl S + 88 * x.2.2.1
        omega
theorem xl_frost (hN : 2 ^ 20 < N) (hG : GS g) (h : XLb g r xa sz B0 b mk nb B1 S t s) (hc : XCv g B0 mk B1 S s.1) (hR : XRl sz S t) (hl : t.2.1 + 5 ≤ (nxT sz b t).2.1) : (∃ e, pFrost sz b s t = .inl e ∧ XErL r B1 S e (kX_X5_only g N S r (nI 1))) ∨ ∃ y S1, pFrost sz b s t = .inr y ∧ kX_X5_only g N S r (nI 1) = some (.inl S1) ∧ XLb g r xa sz B0 b mk nb B1 S1 y.2 y.1 ∧ XCv g B0 mk B1 S1 y.1.1 ∧ XE (fun q => B1 ≤ q) S S1 ∧ xTop S1 + 13 * t.2.1 + 40 ≤ xTop S + 13 * y.2.2.1 ∧ xSl S1 + 88 * t.2.1 + 260 ≤ xSl S + 88 * y.2.2.1 := by
  obtain ⟨r1, r2⟩ := hR
  obtain ⟨h7, htz, -, hkt⟩ := h.bds
  obtain ⟨c1, c2, c3, c4, c5, c6, c7⟩ := h.bd
  unfold pFrost
  have hbit := h.bit (w := 1) (by decide)
  rw [if_neg (by decide)] at hbit
  by_cases hi : s.1.2.2.2.isSome = true
  · rw [if_pos hi]
    exact Or.inl ⟨_, rfl, x_only5 h (by decide) (hbit.trans hi) (by omega) (by omega)⟩
  · rw [if_neg hi]
    have hof := x_of (g := g) (N := N) (c := 1) (by decide) (xI S r 10)
    rw [if_neg (by rw [hbit]; exact hi)] at hof
    obtain ⟨S1, S2, a1, a2, a3, a4, a5, a6, a7, a8⟩ := xl_mark hN hG h hc (w := 1) (by decide) (lFrost s (fun _ => 0)) rfl ⟨by simp [lFrost], by simp [lFrost]⟩ rfl
    have ac := a6.2.2.2.1
    have as := a6.2.2.2.2.1
    have hx := x_expression hN hG a4.1 (by omega) (by omega)
    have hpre : ∀ {R : Option (XS ⊕ XT)}, (tbind (kD_X5_expression g N S2 r 0) fun r10 => (f_obj r10.1 4 r 1).bind fun v12 => (f_putR r10.1 3 v12 2 (some r10.2)).bind fun S13 => some (.inl S13)) = R → kX_X5_only g N S r (nI 1) = R := fun hR => by
      unfold kX_X5_only
      refine ob1 (h.1.int (by decide) rfl) (ob1 hof (oit rfl ?_))
      unfold kX_X5_only_17
      exact ob1 h.1.cls (ot1 (want1 5) (ob1 (h.1.int (by decide) rfl) (ob1 a1 (ob1 a2 (ob1 a3 (ob1 a4.1.cls hR))))))
    cases hv : pExp sz b 6 (nxT sz b t) with
    | inl e =>
      rw [hv] at hx
      have hx : XErr r S2 e (kD_X5_expression g N S2 r 0) := hx
      exact Or.inl ⟨e, rfl, ((hx.lb a4).bind.pre a6).eq (hpre rfl)⟩
    | inr x =>
      rw [hv] at hx
      obtain ⟨S3, f, b1, b2, b3, b4, b5, b6⟩ := hx
      have hL3 := a4.fb b3 (by omega) b2
      obtain ⟨S4, d1, d2, d3, d4, d5, d6, d7⟩ := (xl_form hL3 a5 b3 (by omega) b4).2
      have xx := (a6.trans (b3.e1 c1 (by omega)) (fun _ _ z => z)).trans d4 (fun _ _ z => z)
      refine Or.inr ⟨_, S4, rfl, hpre (ot1 b1 (ob1 hL3.made (ob1 d1 rfl))), d2.iso rfl rfl rfl rfl, d3, xx, ?_, ?_⟩
      · show xTop S4 + 13 * t.2.1 + 40 ≤ xTop S + 13 * x.2.2.1
        omega
      · show xSl S4 + 88 * t.2.1 + 260 ≤ xSl S + 88 * x.2.2.1
        omega
theorem XRl.of (h : XRl sz S t) (hE : XE (fun q => B1 ≤ q) S S1) (h1 : xTop S1 + 13 * t.2.1 ≤ xTop S + 13 * t1.2.1) (h2 : xSl S1 + 88 * t.2.1 ≤ xSl S + 88 * t1.2.1) : XRl sz S1 t1 := by
  obtain ⟨r1, r2⟩ := h
  have c1 := hE.2.2.2.1
  have c2 := hE.2.2.2.2.1
  exact ⟨by omega, by omega⟩
/-- the line's end -/
theorem xl_53 (hN : 2 ^ 20 < N) (hG : GS g) (h : XLb g r xa sz B0 b mk nb B1 S t s) (hc : XCv g B0 mk B1 S s.1) (r1 : xTop S + 1 ≤ xCc S) (r2 : xSl S + 7 ≤ xCs S) : XLo g r xa sz B0 b mk nb B1 S t (kX_X5_line_53 g N S r) (if sgT b t 59 = true then .inr (s, nxT sz b t) else .inl (1, t)) := by
  obtain ⟨h7, htz, -, hkt⟩ := h.bds
  by_cases h59 : sgT b t 59 = true
  · rw [if_pos h59]
    obtain ⟨S1, a1, a2, a3, a4, a5, a6, a7⟩ := xl_next hN hG h hc
    have hl := len_sg hkt h59
    refine ⟨S1, ?_, a2, a3, a4, ?_, ?_⟩
    · unfold kX_X5_line_53
      exact ob1 h.1.cls (ob1 (h.1.s1 (c := 59) (by decide) h59) (ob1 h.1.cls (ot1 (want1 1) (ob1 h.1.cls (ob1 a1 rfl)))))
    · show xTop S1 + 13 * t.2.1 ≤ xTop S + 13 * (nxT sz b t).2.1
      omega
    · show xSl S1 + 88 * t.2.1 ≤ xSl S + 88 * (nxT sz b t).2.1
      omega
  · rw [if_neg h59]
    obtain ⟨S3, w, fs, e1, e2⟩ := want0 (N := N) h.1 1 r1 r2
    have : XErr r S (1, t) (kX_X5_line_53 g N S r) := by
      refine ⟨S3, w, fs, ?_, e2⟩
      unfold kX_X5_line_53
      exact ob1 h.1.cls (ob1 (h.1.s0 (c := 59) (by decide) (sg_f h59)) (ob1 h.1.cls (ot2 e1)))
    exact this.lb h
theorem x_line (hN : 2 ^ 20 < N) (hG : GS g) (H : LOk s) (hI : ∀ k, k < 256 → gIv g (gIc g k) = some k ∧ gIc g k < B1) (h : XLb g r xa sz B0 b mk nb B1 S t s) (hc : XCv g B0 mk B1 S s.1) (hR : XRl sz S t) : XLo g r xa sz B0 b mk nb B1 S t (kX_X5_line g N S r) (pLine sz b s t) := by
  have hRR := hR
  obtain ⟨r1, r2⟩ := hRR
  obtain ⟨h7, htz, -, hkt⟩ := h.bds
  obtain ⟨on, fo, o1, o2, o3, o4⟩ := h.2.2.2.1
  have hwh := h.1.which (N := N) hN hG o3 (m := 2) (k0 := 0) (by decide) (by decide) o4
  -- behind a body
  have fin : ∀ (X : Option (XS ⊕ XT)) (P : PR (LT × TK)), XLo g r xa sz B0 b mk nb B1 S t X P → (∀ y, P = .inr y → y.2.2.1 ≤ sz) → XLo g r xa sz B0 b mk nb B1 S t (tbind X fun r5 => kX_X5_line_53 g N r5 r) (pB P fun y => if sgT b y.2 59 = true then .inr (y.1, nxT sz b y.2) else .inl (1, y.2)) := fun X P hP hy => by
    cases P with
    | inl e =>
      have hP : XErL r B1 S e X := hP
      exact hP.bind
    | inr y =>
      obtain ⟨S1, a1, a2, a3, a4, a5, a6⟩ := hP
      have c1 := a4.2.2.2.1
      have c2 := a4.2.2.2.2.1
      have := hy y rfl
      have h53 := xl_53 (N := N) hN hG a2 a3 (by omega) (by omega)
      show XLo g r xa sz B0 b mk nb B1 S t _ (if sgT b y.2 59 = true then .inr (y.1, nxT sz b y.2) else .inl (1, y.2))
      by_cases h59 : sgT b y.2 59 = true
      · rw [if_pos h59] at h53 ⊢
        obtain ⟨S2, b1, b2, b3, b4, b5, b6⟩ := h53
        exact ⟨S2, ot1 a1 b1, b2, b3, a4.trans b4 (fun _ _ z => z), by omega, by omega⟩
      · rw [if_neg h59] at h53 ⊢
        have h53 : XErL r B1 S1 (1, y.2) (kX_X5_line_53 g N S1 r) := h53
        exact (h53.eq (ot1 a1 rfl)).pre a4
  have bnd : ∀ (P : PR (LT × TK)) (X : Option (XS ⊕ XT)), XLo g r xa sz B0 b mk nb B1 S t X P → ∀ y, P = .inr y → y.2.2.1 ≤ sz := fun P X hP y hy => by
    subst hy
    obtain ⟨S1, a1, a2, -⟩ := hP
    exact a2.bds.2.1
  have hpre : ∀ {R : Option (XS ⊕ XT)} (w : Int32), kX_X5_which g N S r on = some (S, w) → (if w = -1 then (f_cls S 4 r).bind fun u5 => (kX_X5_is g N S r (gSk g 6)).bind fun w6 => if w6.2 = 0 then (f_cls w6.1 4 r).bind fun u8 => (kX_X5_is g N w6.1 r (gSk g 12)).bind fun w9 => (f_cls w9.1 4 r).bind fun u10 => tbind (kX_X5_want g N w9.1 r w9.2 1) fun r12 => (f_cls r12 4 r).bind fun u13 => tbind (kX_X5_pipe g N r12 r) fun r15 => kX_X5_line_53 g N r15 r else (f_cls w6.1 4 r).bind fun u16 => tbind (kX_X5_cup g N w6.1 r) fun r18 => kX_X5_line_53 g N r18 r else (f_cls S 4 r).bind fun u19 => tbind (kX_X5_only g N S r w) fun r21 => kX_X5_line_53 g N r21 r) = R → kX_X5_line g N S r = R := fun w hw hR => by
    unfold kX_X5_line
    exact ob1 (f_obj_T h.1.1.1 (by decide) rfl o1) (ob1 h.1.cls (ob1 hw hR))
  unfold pLine pBody
  by_cases w0 : wd b t 0 = true
  · rw [if_pos w0]
    have hfd : (List.range 2).find? (fun i => wd b t (0 + i)) = some 0 := by
      rw [List.find?_range_eq_some]
      exact ⟨w0, by decide, fun j hj => by omega⟩
    rw [hfd] at hwh
    have e : kX_X5_line g N S r = tbind (kX_X5_only g N S r (nI 0)) fun r21 => kX_X5_line_53 g N r21 r := hpre (nI 0) hwh (oif (by decide) (ob1 h.1.cls rfl))
    rw [e]
    have hl := len_wd hkt w0 (n := 5) rfl
    have hX : XLo g r xa sz B0 b mk nb B1 S t (kX_X5_only g N S r (nI 0)) (pLeaks sz b s t) := by
      rcases xl_leaks (N := N) hN hG h hc hR hl with ⟨e, e1, e2⟩ | ⟨y, S1, e1, e2, e3, e4, e5, e6, e7⟩
      · rw [e1]; exact e2
      · rw [e1]; exact ⟨S1, e2, e3, e4, e5, by omega, by omega⟩
    exact fin _ _ hX (bnd _ _ hX)
  · rw [if_neg w0]
    by_cases w1 : wd b t 1 = true
    · rw [if_pos w1]
      have hfd : (List.range 2).find? (fun i => wd b t (0 + i)) = some 1 := by
        rw [List.find?_range_eq_some]
        refine ⟨w1, by decide, fun j hj => ?_⟩
        have : j = 0 := by omega
        subst this
        have : wd b t 0 = false := by simpa using w0
        show (!wd b t (0 + 0)) = true
        rw [this]
        rfl
      rw [hfd] at hwh
      have e : kX_X5_line g N S r = tbind (kX_X5_only g N S r (nI 1)) fun r21 => kX_X5_line_53 g N r21 r := hpre (nI 1) hwh (oif (by decide) (ob1 h.1.cls rfl))
      rw [e]
      have hl := len_wd hkt w1 (n := 5) rfl
      have hX : XLo g r xa sz B0 b mk nb B1 S t (kX_X5_only g N S r (nI 1)) (pFrost sz b s t) := by
        rcases xl_frost (N := N) hN hG h hc hR hl with ⟨e, e1, e2⟩ | ⟨y, S1, e1, e2, e3, e4, e5, e6, e7⟩
        · rw [e1]; exact e2
        · rw [e1]; exact ⟨S1, e2, e3, e4, e5, by omega, by omega⟩
      exact fin _ _ hX (bnd _ _ hX)
    · rw [if_neg w1]
      have hfd : (List.range 2).find? (fun i => wd b t (0 + i)) = none := by
        rw [List.find?_eq_none]
        intro i hi
        have hi := List.mem_range.mp hi
        have : i = 0 ∨ i = 1 := by omega
        rcases this with rfl | rfl
        · exact w0
        · exact w1
      rw [hfd] at hwh
      have i6 := h.1.is (N := N) hN hG (k := 6) (by decide)
      by_cases w6 : wd b t 6 = true
      · rw [if_pos w6]
        rw [if_pos w6] at i6
        have e : kX_X5_line g N S r = tbind (kX_X5_cup g N S r) fun r18 => kX_X5_line_53 g N r18 r := hpre (-1) hwh (oit rfl (ob1 h.1.cls (ob1 i6 (oif n10 (ob1 h.1.cls rfl)))))
        rw [e]
        have hX := x_cup (N := N) hN hG H hI h hc hR (len_wd hkt w6 (n := 3) rfl)
        exact fin _ _ hX (bnd _ _ hX)
      · rw [if_neg w6]
        rw [if_neg w6] at i6
        have i12 := h.1.is (N := N) hN hG (k := 12) (by decide)
        by_cases w12 : wd b t 12 = true
        · rw [if_pos w12]
          rw [if_pos w12] at i12
          have e : kX_X5_line g N S r = tbind (kX_X5_pipe g N S r) fun r18 => kX_X5_line_53 g N r18 r := hpre (-1) hwh (oit rfl (ob1 h.1.cls (ob1 i6 (oit rfl (ob1 h.1.cls (ob1 i12 (ob1 h.1.cls (ot1 (want1 1) (ob1 h.1.cls rfl)))))))))
          rw [e]
          have hX := x_pipe (N := N) hN hG H h hc hR
          exact fin _ _ hX (bnd _ _ hX)
        · rw [if_neg w12]
          rw [if_neg w12] at i12
          obtain ⟨S3, wx, fs, e1, e2⟩ := want0 (N := N) h.1 1 (by omega) (by omega)
          have : XErr r S (1, t) (kX_X5_line g N S r) := ⟨S3, wx, fs, hpre (-1) hwh (oit rfl (ob1 h.1.cls (ob1 i6 (oit rfl (ob1 h.1.cls (ob1 i12 (ob1 h.1.cls (ot2 e1)))))))), e2⟩
          exact this.lb h
def XTx (g : XC) (r xa sz B0 : Nat) (b : Nat → Nat) (mk nb B1 : Nat) (S : XS) (t : TK) (res : Option ((XS × Nat) ⊕ XT)) : PR LT → Prop
  | .inr s => ∃ S1 t1, res = some (.inl (S1, mk)) ∧ XLb g r xa sz B0 b mk nb B1 S1 t1 s ∧ XCv g B0 mk B1 S1 s.1 ∧ XE (fun q => B1 ≤ q) S S1 ∧ xTop S1 + 13 * t.2.1 ≤ xTop S + 13 * sz ∧ xSl S1 + 88 * t.2.1 ≤ xSl S + 88 * sz
  | .inl e => XErL r B1 S e res
theorem x_text (hN : 2 ^ 20 < N) (hG : GS g) (hI : ∀ k, k < 256 → gIv g (gIc g k) = some k ∧ gIc g k < B1) : ∀ (n f : Nat) (s : LT) (t : TK) (S : XS), sz < n + t.2.1 → n < f → LOk s → XLb g r xa sz B0 b mk nb B1 S t s → XCv g B0 mk B1 S s.1 → XRl sz S t → XTx g r xa sz B0 b mk nb B1 S t (kX_X5_read_4 g N f S r) (pText sz b n s t) := by
  intro n
  induction n with
  | zero =>
    intro f s t S hn _ _ h
    have := h.bds.2.1
    omega
  | succ n ih =>
    intro f s t S hn hf H h hc hR
    obtain ⟨f, rfl⟩ : ∃ e, f = e + 1 := ⟨f - 1, by omega⟩
    obtain ⟨h7, htz, h4, hkt⟩ := h.bds
    unfold pText
    by_cases h0 : t.1 = 0
    · rw [if_pos h0]
      refine ⟨S, t, ?_, h, hc, XE.refl h.1.2.1, by omega, by omega⟩
      rw [kX_X5_read_4]
      exact ob1 h.1.sort (oit (by rw [h0]; rfl) (ob1 h.made rfl))
    · rw [if_neg h0]
      have hl := x_line (N := N) hN hG H hI h hc hR
      have e1 : kX_X5_read_4 g N (f + 1) S r = tbind (kX_X5_line g N S r) fun r6 => kX_X5_read_4 g N f r6 r := by
        rw [kX_X5_read_4]
        exact ob1 h.1.sort (oif (nI_ne0 (by omega) (by omega)) (ob1 h.1.cls rfl))
      rw [e1]
      cases hv : pLine sz b s t with
      | inl e =>
        rw [hv] at hl
        have hl : XErL r B1 S e (kX_X5_line g N S r) := hl
        exact hl.bind
      | inr y =>
        rw [hv] at hl
        obtain ⟨S1, a1, a2, a3, a4, a5, a6⟩ := hl
        obtain ⟨b1, b2, b3⟩ := pLine_ok hkt H hv
        have := ih f y.1 y.2 S1 (by omega) (by omega) b1 a2 a3 (hR.of a4 a5 a6)
        show XTx g r xa sz B0 b mk nb B1 S t _ (pText sz b n y.1 y.2)
        rw [show (tbind (kX_X5_line g N S r) fun r6 => kX_X5_read_4 g N f r6 r) = kX_X5_read_4 g N f S1 r from ot1 a1 rfl]
        cases hv2 : pText sz b n y.1 y.2 with
        | inl e =>
          rw [hv2] at this
          have this : XErL r B1 S1 e (kX_X5_read_4 g N f S1 r) := this
          exact this.pre a4
        | inr s2 =>
          rw [hv2] at this
          obtain ⟨S2, t2, u1, u2, u3, u4, u5, u6⟩ := this
          exact ⟨S2, t2, u1, u2, u3, a4.trans u4 (fun _ _ z => z), by omega, by omega⟩
end YC44
