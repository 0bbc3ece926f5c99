/-! the cave: the component's cups and pipes -/
section YC43
variable {g : XC} {N r xa sz B0 mk nb B1 B : Nat} {b : Nat → Nat} {S S1 S2 : XS} {t t1 : TK} {s : LT} {C : CC}
theorem XLb.bds (h : XLb g r xa sz B0 b mk nb B1 S t s) : sz ≤ 700 ∧ t.2.1 ≤ sz ∧ t.1 ≤ 4 ∧ tkOk sz b t := by
  obtain ⟨a1, a2, a3, a4⟩ := h.1.bds
  exact ⟨a1, by omega, a4, h.1.2.2.2.2.1⟩
/-- only so much of what is read matters here -/
theorem XLb.iso {s1 : LT} (h : XLb g r xa sz B0 b mk nb B1 S t s) (h1 : s1.2.1 = s.2.1) (h2 : s1.1.2.2.1.isSome = s.1.2.2.1.isSome) (h3 : s1.1.2.2.2.isSome = s.1.2.2.2.isSome) (h4 : s1.2.2 = s.2.2) : XLb g r xa sz B0 b mk nb B1 S t s1 := by
  obtain ⟨k1, k2, k3, k4, k5, k6, k7, k8⟩ := h
  exact ⟨k1, k2, k3, k4, by rw [h1]; exact k5, k6, by rw [h2, h3]; exact k7, by rw [h4]; exact k8⟩
theorem x_cup (hN : 2 ^ 20 < N) (hG : GS g) (H : LOk s) (hI : ∀ k, k < 256 → gIv g (gIc g k) = some k ∧ gIc g k < B1) (h : XLb g r xa sz B0 b mk nb B1 S t s) (hc : XCv g B0 mk B1 S s.1) (hR : XRl sz S t) (hl : t.2.1 + 3 ≤ (nxT sz b t).2.1) : XLo g r xa sz B0 b mk nb B1 S t (kX_X5_cup g N S r) (pCup sz b s t) := by
  obtain ⟨r1, r2⟩ := hR
  obtain ⟨h7, htz, -, -⟩ := h.bds
  have h9 := H.1
  have hpre : ∀ {R : Option (XS ⊕ XT)}, ((if (9 : Int32) ≤ nI s.1.1 then kX_X5_cup_20 g N S r (nI s.1.1) r 0 else kX_X5_cup_20 g N S r (nI s.1.1) r 1) = R) → kX_X5_cup g N S r = R := fun hR => by
    unfold kX_X5_cup
    exact ob1 h.made (ob1 hc.cls (ob1 hc.cups hR))
  unfold pCup
  by_cases h9c : s.1.1 < 9
  · rw [if_pos h9c]
    obtain ⟨S1, a1, a2, a3, a4, a5, a6, a7⟩ := xl_next hN hG h hc
    have ac := a4.2.2.2.1
    have as := a4.2.2.2.2.1
    have e20 : ∀ {R : Option (XS ⊕ XT)}, (tbind (kX_X5_number g N S1 r (nI 1) (nI 30)) fun r10 =>
  (a_putI r10.1 0 (xRa S1 nb 0) (nI s.1.1) r10.2).bind fun S11 =>
  (f_obj S11 4 r 2).bind fun v12 =>
  (f_obj S11 2 v12 1).bind fun v13 =>
  (f_obj S11 4 r 2).bind fun v14 =>
  (f_obj S11 2 v14 0).bind fun v15 =>
  (a_int S11 0 v15 (nI s.1.1)).bind fun v16 =>
  (f_cls S11 4 r).bind fun u17 =>
  tbind (kX_X5_number g N S11 r (nI 0) (v16 - 1)) fun r19 =>
  (a_putI r19.1 0 v13 (nI s.1.1) r19.2).bind fun S20 =>
  (f_obj S20 4 r 1).bind fun v21 =>
  (f_obj S20 3 v21 0).bind fun v22 =>
  (f_cls S20 4 r).bind fun u23 =>
  tbind (kX_X5_number g N S20 r (nI 0) (nI 20)) fun r25 =>
  (kX_J19_valueOf g N r25.1 r25.2).bind fun w26 =>
  (f_cls w26.1 10 v22).bind fun u27 =>
  (kX_J2_add g N w26.1 v22 w26.2).bind fun w28 =>
  some (.inl w28.1)) = R → kX_X5_cup g N S r = R := fun hR => by
      refine hpre (oif (nI_ge (b := 9) (a := s.1.1) h9c (by omega)) ?_)
      unfold kX_X5_cup_20
      exact ob1 h.1.cls (ot1 (want1 2) (ob1 h.1.cls (ob1 a1 (ob1 a2.begun (ob1 (a2.objA (k := 0) (by decide)) (ob1 a2.1.cls hR))))))
    have hn1 := xl_num (N := N) hN hG a2 a3 (lo := 1) (hi := 30) (by decide) (by decide) (by omega) (by omega)
    rcases hn1 with ⟨e, p1, p2⟩ | ⟨x1, S2, p1, p2, p3, p4, p5, p6, p7, p8, -⟩
    · rw [p1]
      exact (p2.bind.pre a4).eq (e20 rfl)
    · rw [p1]
      obtain ⟨y1, y2, y3, y4⟩ := pNum_ok a2.bds.2.2.2 p1
      obtain ⟨S3, q1, q2, q3, q4, q5, q6, q7⟩ := xl_set p3 p4 (k := 0) (i := s.1.1) (by decide) (by omega) x1.1 (s.1, ysA s.2.1 0 s.1.1 x1.1, s.2.2) rfl ⟨rfl, rfl⟩ rfl
      have qc := ((a4.trans p5 (fun _ _ z => z)).trans q4 (fun _ _ z => z)).2.2.2.1
      have qs := ((a4.trans p5 (fun _ _ z => z)).trans q4 (fun _ _ z => z)).2.2.2.2.1
      have hget : a_int S3 0 (xRa S3 nb 0) (nI s.1.1) = some (nI x1.1) := by
        rw [q2.getA (k := 0) (by decide) (by omega)]
        show some (iI (if (0 : Nat) = 0 ∧ s.1.1 = s.1.1 then (x1.1 : Int) else yA s.2.1 0 s.1.1)) = _
        rw [if_pos ⟨rfl, rfl⟩, iI_nI]
      have em : nI x1.1 - 1 = nI (x1.1 - 1) := by rw [show (1 : Int32) = nI 1 from rfl, sub_nI y3]
      have e21 : ∀ {R : Option (XS ⊕ XT)}, (tbind (kX_X5_number g N S3 r (nI 0) (nI (x1.1 - 1))) fun r19 =>
  (a_putI r19.1 0 (xRa S3 nb 1) (nI s.1.1) r19.2).bind fun S20 =>
  (f_obj S20 4 r 1).bind fun v21 =>
  (f_obj S20 3 v21 0).bind fun v22 =>
  (f_cls S20 4 r).bind fun u23 =>
  tbind (kX_X5_number g N S20 r (nI 0) (nI 20)) fun r25 =>
  (kX_J19_valueOf g N r25.1 r25.2).bind fun w26 =>
  (f_cls w26.1 10 v22).bind fun u27 =>
  (kX_J2_add g N w26.1 v22 w26.2).bind fun w28 =>
  some (.inl w28.1)) = R → kX_X5_cup g N S r = R := fun hR => by
        refine e20 (ot1 p2 ?_)
        rw [← p8]
        refine ob1 q1 (ob1 q2.begun (ob1 (q2.objA (k := 1) (by decide)) (ob1 q2.begun (ob1 (q2.objA (k := 0) (by decide)) (ob1 hget (ob1 q2.1.cls ?_))))))
        rw [em]
        exact hR
      have xq := (a4.trans p5 (fun _ _ z => z)).trans q4 (fun _ _ z => z)
      show XLo g r xa sz B0 b mk nb B1 S t _ (pB (pNum sz b 0 (x1.1 - 1) x1.2) fun f => pB (pNum sz b 0 20 f.2) fun p => .inr (lCup s x1.1 f.1 p.1, p.2))
      rcases xl_num (N := N) hN hG q2 q3 (lo := 0) (hi := x1.1 - 1) (by decide) (by omega) (by omega) (by omega) with ⟨e, u1, u2⟩ | ⟨x2, S4, u1, u2, u3, u4, u5, u6, u7, u8, -⟩
      · rw [u1]
        exact (u2.bind.pre xq).eq (e21 rfl)
      · rw [u1]
        obtain ⟨z1, z2, z3, z4⟩ := pNum_ok q2.bds.2.2.2 u1
        obtain ⟨S5, v1, v2, v3, v4, v5, v6, v7⟩ := xl_set u3 u4 (k := 1) (i := s.1.1) (by decide) (by omega) x2.1 (s.1, ysA (ysA s.2.1 0 s.1.1 x1.1) 1 s.1.1 x2.1, s.2.2) rfl ⟨rfl, rfl⟩ rfl
        have xv := (xq.trans u5 (fun _ _ z => z)).trans v4 (fun _ _ z => z)
        have vc := xv.2.2.2.1
        have vs := xv.2.2.2.2.1
        obtain ⟨ls, hls⟩ : ∃ ls, (∃ f1 f2, genAt S5 mk (.inr (3, [.ref ls, va_rf f1, va_rf f2]))) := by
          obtain ⟨ls, f1, f2, rs, cap, Yl, Zf, w1, -⟩ := v3
          exact ⟨ls, f1, f2, w1⟩
        obtain ⟨f1, f2, hg5⟩ := hls
        have e22 : ∀ {R : Option (XS ⊕ XT)}, (tbind (kX_X5_number g N S5 r (nI 0) (nI 20)) fun r25 =>
  (kX_J19_valueOf g N r25.1 r25.2).bind fun w26 =>
  (f_cls w26.1 10 ls).bind fun u27 =>
  (kX_J2_add g N w26.1 ls w26.2).bind fun w28 =>
  some (.inl w28.1)) = R → kX_X5_cup g N S r = R := fun hR => by
          refine e21 (ot1 u2 ?_)
          rw [← u8]
          exact ob1 v1 (ob1 v2.made (ob1 (g_obj hg5 rfl) (ob1 v2.1.cls hR)))
        show XLo g r xa sz B0 b mk nb B1 S t _ (pB (pNum sz b 0 20 x2.2) fun p => .inr (lCup s x1.1 x2.1 p.1, p.2))
        rcases xl_num (N := N) hN hG v2 v3 (lo := 0) (hi := 20) (by decide) (by decide) (by omega) (by omega) with ⟨e, m1, m2⟩ | ⟨x3, S6, m1, m2, m3, m4, m5, m6, m7, m8, m9⟩
        · rw [m1]
          exact (m2.bind.pre xv).eq (e22 rfl)
        · rw [m1]
          obtain ⟨n1, n2, n3, n4⟩ := pNum_ok v2.bds.2.2.2 m1
          have xm := xv.trans m5 (fun _ _ z => z)
          have mc := xm.2.2.2.1
          have ms := xm.2.2.2.2.1
          obtain ⟨ls2, S7, o1, o2, o3, o4, o5, o6, o7, o8⟩ := xl_spring (N := N) m3 m4 hI (p := x3.1) n4 h9c (lCup s x1.1 x2.1 x3.1) rfl ⟨rfl, rfl⟩ rfl (by omega) (by omega)
          have els : ls2 = ls := Option.some.inj (o1.symm.trans (g_obj (m9 _ hg5) rfl))
          subst els
          refine ⟨S7, e22 (ot1 m2 (ob1 (x_valueOf rfl (by omega)) (ob1 o2 (ob1 o3 rfl)))), o4, o5, xm.trans o6 (fun _ _ z => z), ?_, ?_⟩
          · show xTop S7 + 13 * t.2.1 ≤ xTop S + 13 * x3.2.2.1
            omega
          · show xSl S7 + 88 * t.2.1 ≤ xSl S + 88 * x3.2.2.1
            omega
  · rw [if_neg h9c]
    have hw := want0 (N := N) h.1 2 (by omega) (by omega)
    obtain ⟨S3, w, fs, e1, e2⟩ := hw
    have : XErr r S (2, t) (kX_X5_cup g N S r) := ⟨S3, w, fs, hpre (oit (nI_le (a := 9) (by omega) (by omega)) (by
      unfold kX_X5_cup_20
      exact ob1 h.1.cls (ot2 e1))), e2⟩
    exact this.lb h
theorem xl_cupNow (h : XLb g r xa sz B0 b mk nb B1 S t s) (hc : XCv g B0 mk B1 S C) (h9 : C.1 ≤ 9) (r1 : xTop S + 1 ≤ xCc S) (r2 : xSl S + 7 ≤ xCs S) : (∃ e, pCupN b C.1 t = .inl e ∧ XErL r B1 S e (kX_X5_cupNow g N S r)) ∨ ∃ v, pCupN b C.1 t = .inr v ∧ kX_X5_cupNow g N S r = some (.inl (S, nI v)) := by
  have hn := h.1.numNow (N := N) (lo := 0) (hi := 9999) (by decide) (by decide) r1 r2
  have hk := h.1.2.2.2.2.1
  have herr : ∀ e, XErr r S e (kX_X5_numberNow g N S r (nI 0) (nI 9999)) → XErL r B1 S e (kX_X5_cupNow g N S r) := fun e he => by
    obtain ⟨S2, w, fs, e1, e2⟩ := he
    have : XErr r S e (kX_X5_cupNow g N S r) := ⟨S2, w, fs, by
      unfold kX_X5_cupNow
      exact ob1 h.1.cls (ot2 e1), e2⟩
    exact this.lb h
  unfold pNum at hn
  unfold pCupN
  by_cases h2 : t.1 = 2
  · rw [if_pos h2] at hn ⊢
    by_cases h4 : t.2.2 - t.2.1 ≤ 4
    · have hv := num_lt hk h2 h4
      rw [if_pos ⟨h4, Nat.zero_le _, by omega⟩] at hn
      rw [if_pos h4]
      obtain ⟨-, -, hn⟩ := hn
      rw [if_pos rfl] at hn
      have hpre : ∀ {R : Option ((XS × Int32) ⊕ XT)}, ((if nI C.1 ≤ nI (lxV b t.2.1 (t.2.2 - t.2.1)) then kX_X5_cupNow_26 g N S (nI (lxV b t.2.1 (t.2.2 - t.2.1))) r 0 else kX_X5_cupNow_26 g N S (nI (lxV b t.2.1 (t.2.2 - t.2.1))) r 1) = R) → kX_X5_cupNow g N S r = R := fun hR => by
        unfold kX_X5_cupNow
        exact ob1 h.1.cls (ot1 hn (ob1 h.made (ob1 hc.cls (ob1 hc.cups hR))))
      by_cases hl : lxV b t.2.1 (t.2.2 - t.2.1) < C.1
      · rw [if_pos hl]
        refine Or.inr ⟨_, rfl, hpre (oif (nI_ge hl (by omega)) ?_)⟩
        unfold kX_X5_cupNow_26
        exact ob1 h.1.cls (ot1 (want1 3) rfl)
      · rw [if_neg hl]
        obtain ⟨S3, w, fs, e1, e2⟩ := want0 (N := N) h.1 3 r1 r2
        have : XErr r S (3, t) (kX_X5_cupNow g N S r) := ⟨S3, w, fs, hpre (oit (nI_le (by omega) (by omega)) (by
          unfold kX_X5_cupNow_26
          exact ob1 h.1.cls (ot2 e1))), e2⟩
        exact Or.inl ⟨_, rfl, this.lb h⟩
    · rw [if_neg (fun z => h4 z.1)] at hn
      rw [if_neg h4]
      exact Or.inl ⟨_, rfl, herr _ hn⟩
  · rw [if_neg h2] at hn ⊢
    exact Or.inl ⟨_, rfl, herr _ hn⟩
/-- the end of a pipe's line -/
theorem xl_115 {k : Nat} (hk : k < 9) (h : XLb g r xa sz B0 b mk nb B1 S t s) (hc : XCv g B0 mk B1 S s.1) : ∃ S1, kX_X5_pipe_115 g N S r (nI k) = some (.inl S1) ∧ XLb g r xa sz B0 b mk nb B1 S1 t (s.1, s.2.1, fun j => if j = k then true else s.2.2 j) ∧ XCv g B0 mk B1 S1 s.1 ∧ XE (fun q => B1 ≤ q) S S1 ∧ xTop S1 = xTop S ∧ xSl S1 = xSl S := by
  have h11 := h.2.2.2.2.2.2.2
  have h10 := h.2.2.2.2.2.2.1
  have hr := h.bd.1
  refine ⟨xSetI S r 11 (xI S r 11 ||| ((1 : Int32) <<< (nI k &&& 31))), ?_, h.setI (Or.inr rfl) _ _ rfl ?_ (fun j hj => ?_), hc.of rfl rfl rfl, (setI_fb h.1.2.1 (by decide) _).mono (fun q _ z => by rw [z]; exact hr), rfl, rfl⟩
  · unfold kX_X5_pipe_115
    exact ob1 (h.1.int (by decide) rfl) (ob1 (f_putI_T h.1.1.1 (by decide) (Or.inl rfl)) rfl)
  · rw [xI_other _ _ _ _ (by decide)]
    exact h10
  · rw [xI_self, b_or, bt_one (by omega) (by omega), h11 j hj]
    show (s.2.2 j || decide (j = k)) = if j = k then true else s.2.2 j
    by_cases e : j = k
    · rw [if_pos e, decide_eq_true e, Bool.or_true]
    · rw [if_neg e, decide_eq_false e, Bool.or_false]
theorem x_pipe (hN : 2 ^ 20 < N) (hG : GS g) (H : LOk s) (h : XLb g r xa sz B0 b mk nb B1 S t s) (hc : XCv g B0 mk B1 S s.1) (hR : XRl sz S t) : XLo g r xa sz B0 b mk nb B1 S t (kX_X5_pipe g N S r) (pPipe sz b s t) := by
  obtain ⟨r1, r2⟩ := hR
  obtain ⟨h7, htz, -, hkt⟩ := h.bds
  have h9 := H.1
  obtain ⟨S1, a1, a2, a3, a4, a5, a6, a7⟩ := xl_next hN hG h hc
  have ac := a4.2.2.2.1
  have as := a4.2.2.2.2.1
  have n1 := nxT_ok hkt
  have z1 := hkt.1
  have hpre : ∀ {R : Option (XS ⊕ XT)}, (tbind (kX_X5_cupNow g N S1 r) fun r5 => (f_int r5.1 4 r 11).bind fun v6 => (kX_X1_isOf g N v6 r5.2).bind fun w7 => if w7 = 0 then kX_X5_pipe_26 g N r5.1 r r5.2 r 1 else kX_X5_pipe_26 g N r5.1 r r5.2 r 0) = R → kX_X5_pipe g N S r = R := fun hR => by
    unfold kX_X5_pipe
    exact ob1 h.1.cls (ob1 a1 (ob1 a2.1.cls hR))
  have werr : ∀ {S' : XS} {t' : TK} {s' : LT} {res : Option (XS ⊕ XT)}, XLb g r xa sz B0 b mk nb B1 S' t' s' → xTop S' + 1 ≤ xCc S' → xSl S' + 7 ≤ xCs S' → (∀ w : XT, kX_X5_want g N S' r 0 4 = some (.inr w) → res = some (.inr w)) → XErL r B1 S' (4, t') res := fun {S' t' s' res} hL q1 q2 hres => by
    obtain ⟨S3, w, fs, e1, e2⟩ := want0 (N := N) hL.1 4 q1 q2
    have : XErr r S' (4, t') res := ⟨S3, w, fs, hres _ e1, e2⟩
    exact this.lb hL
  unfold pPipe
  rcases xl_cupNow (N := N) a2 a3 h9 (by omega) (by omega) with ⟨e, p1, p2⟩ | ⟨k, p1, p2⟩
  · rw [p1]
    exact (p2.bind.pre a4).eq (hpre rfl)
  · rw [p1]
    obtain ⟨q1, hk⟩ := pCupN_ok p1
    have hof : kX_X1_isOf g N (xI S1 r 11) (nI k) = some (if s.2.2 k = true then 1 else 0) := by
      rw [x_of (by omega), a2.2.2.2.2.2.2.2 k (by omega)]
    have hp2 : ∀ {R : Option (XS ⊕ XT)}, ((if (if s.2.2 k = true then (1 : Int32) else 0) = 0 then kX_X5_pipe_26 g N S1 r (nI k) r 1 else kX_X5_pipe_26 g N S1 r (nI k) r 0) = R) → kX_X5_pipe g N S r = R := fun hR => hpre (ot1 p2 (ob1 (a2.1.int (by decide) rfl) (ob1 hof hR)))
    show XLo g r xa sz B0 b mk nb B1 S t _ (if s.2.2 k = true then .inl (4, nxT sz b t) else pB (pCupN b s.1.1 (nxT sz b (nxT sz b t))) fun o => if k < o then (if (nxT sz b (nxT sz b (nxT sz b t))).1 = 2 then pB (pCupN b s.1.1 (nxT sz b (nxT sz b (nxT sz b t)))) fun w => if k < w ∧ w ≠ o then .inr (lTwo s k o w, nxT sz b (nxT sz b (nxT sz b (nxT sz b t)))) else .inl (4, nxT sz b (nxT sz b (nxT sz b t))) else .inr (lOne s k o, nxT sz b (nxT sz b (nxT sz b t)))) else .inl (4, nxT sz b (nxT sz b t)))
    by_cases hp : s.2.2 k = true
    · rw [if_pos hp]
      refine XErL.pre (werr a2 (by omega) (by omega) (fun w hw => ?_)) a4
      refine hp2 (oif (by rw [if_pos hp]; decide) ?_)
      unfold kX_X5_pipe_26
      exact ob1 a2.1.cls (ot2 hw)
    · rw [if_neg hp]
      obtain ⟨S2, b1, b2, b3, b4, b5, b6, b7⟩ := xl_next hN hG a2 a3
      have x2 := a4.trans b4 (fun _ _ z => z)
      have bc := x2.2.2.2.1
      have bs := x2.2.2.2.2.1
      have n2 := nxT_ok n1.1
      have z2 := n1.1.1
      have hp3 : ∀ {R : Option (XS ⊕ XT)}, (tbind (kX_X5_cupNow g N S2 r) fun r8 => if r8.2 ≤ nI k then kX_X5_pipe_50 g N r8.1 r (nI k) r8.2 r 0 else kX_X5_pipe_50 g N r8.1 r (nI k) r8.2 r 1) = R → kX_X5_pipe g N S r = R := fun hR => by
        refine hp2 (oit (by rw [if_neg hp]) ?_)
        unfold kX_X5_pipe_26
        exact ob1 a2.1.cls (ot1 (want1 4) (ob1 a2.1.cls (ob1 b1 (ob1 b2.1.cls hR))))
      rcases xl_cupNow (N := N) b2 b3 h9 (by omega) (by omega) with ⟨e, c1, c2⟩ | ⟨o, c1, c2⟩
      · rw [c1]
        exact (c2.bind.pre x2).eq (hp3 rfl)
      · rw [c1]
        obtain ⟨c3, ho⟩ := pCupN_ok c1
        show XLo g r xa sz B0 b mk nb B1 S t _ (if k < o then (if (nxT sz b (nxT sz b (nxT sz b t))).1 = 2 then pB (pCupN b s.1.1 (nxT sz b (nxT sz b (nxT sz b t)))) fun w => if k < w ∧ w ≠ o then .inr (lTwo s k o w, nxT sz b (nxT sz b (nxT sz b (nxT sz b t)))) else .inl (4, nxT sz b (nxT sz b (nxT sz b t))) else .inr (lOne s k o, nxT sz b (nxT sz b (nxT sz b t)))) else .inl (4, nxT sz b (nxT sz b t)))
        by_cases hko : k < o
        · rw [if_pos hko]
          obtain ⟨S3, d1, d2, d3, d4, d5, d6, d7⟩ := xl_next hN hG b2 b3
          obtain ⟨S4, f1, f2, f3, f4, f5, f6, f7⟩ := xl_set d2 d3 (k := 3) (i := k) (by decide) (by omega) o (s.1, ysA s.2.1 3 k o, s.2.2) rfl ⟨rfl, rfl⟩ rfl
          have x4 := (x2.trans d4 (fun _ _ z => z)).trans f4 (fun _ _ z => z)
          have fc := x4.2.2.2.1
          have fs := x4.2.2.2.2.1
          have n3 := nxT_ok n2.1
          have z3 := n2.1.1
          have hp4 : ∀ {R : Option (XS ⊕ XT)}, ((if nI (nxT sz b (nxT sz b (nxT sz b t))).1 = 2 then (f_cls S4 4 r).bind fun u11 => tbind (kX_X5_cupNow g N S4 r) fun r13 => if r13.2 ≤ nI k then kX_X5_pipe_97 g N r13.1 r (nI k) r13.2 r 0 else if r13.2 = nI o then kX_X5_pipe_97 g N r13.1 r (nI k) r13.2 r 0 else kX_X5_pipe_97 g N r13.1 r (nI k) r13.2 r 1 else kX_X5_pipe_115 g N S4 r (nI k)) = R) → kX_X5_pipe g N S r = R := fun hR => by
            refine hp3 (ot1 c2 (oif (nI_ge hko (by omega)) ?_))
            unfold kX_X5_pipe_50
            exact ob1 b2.1.cls (ot1 (want1 4) (ob1 b2.1.cls (ob1 d1 (ob1 d2.begun (ob1 (d2.objA (k := 3) (by decide)) (ob1 f1 (ob1 f2.1.sort hR)))))))
          by_cases h2 : (nxT sz b (nxT sz b (nxT sz b t))).1 = 2
          · rw [if_pos h2]
            have e2 : nI (nxT sz b (nxT sz b (nxT sz b t))).1 = 2 := by rw [h2]; rfl
            rcases xl_cupNow (N := N) f2 f3 h9 (by omega) (by omega) with ⟨e, u1, u2⟩ | ⟨w, u1, u2⟩
            · rw [u1]
              exact (u2.bind.pre x4).eq (hp4 (oit e2 (ob1 f2.1.cls rfl)))
            · rw [u1]
              obtain ⟨u3, hw⟩ := pCupN_ok u1
              show XLo g r xa sz B0 b mk nb B1 S t _ (if k < w ∧ w ≠ o then .inr (lTwo s k o w, nxT sz b (nxT sz b (nxT sz b (nxT sz b t)))) else .inl (4, nxT sz b (nxT sz b (nxT sz b t))))
              have hbad : ∀ wx : XT, kX_X5_want g N S4 r 0 4 = some (.inr wx) → kX_X5_pipe_97 g N S4 r (nI k) (nI w) r 0 = some (.inr wx) := fun wx hwx => by
                unfold kX_X5_pipe_97
                exact ob1 f2.1.cls (ot2 hwx)
              by_cases hkw : k < w
              · have nle : ¬ nI w ≤ nI k := nI_ge hkw (by omega)
                by_cases hwo : w = o
                · rw [if_neg (fun z => z.2 hwo)]
                  exact XErL.pre (werr f2 (by omega) (by omega) (fun wx hwx => hp4 (oit e2 (ob1 f2.1.cls (ot1 u2 (oif nle (oit (by rw [hwo]) (hbad wx hwx)))))))) x4
                · rw [if_pos ⟨hkw, hwo⟩]
                  obtain ⟨S5, g1, g2, g3, g4, g5, g6, g7⟩ := xl_next hN hG f2 f3
                  obtain ⟨S6, i1, i2, i3, i4, i5, i6, i7⟩ := xl_set g2 g3 (k := 4) (i := k) (by decide) (by omega) w (s.1, ysA (ysA s.2.1 3 k o) 4 k w, s.2.2) rfl ⟨rfl, rfl⟩ rfl
                  obtain ⟨S7, j1, j2, j3, j4, j5, j6⟩ := xl_115 (N := N) (k := k) (by omega) i2 i3
                  have n4 := nxT_ok n3.1
                  have z4 := n3.1.1
                  refine ⟨S7, hp4 (oit e2 (ob1 f2.1.cls (ot1 u2 (oif nle (oif (fun z => hwo ((nI_eq (by omega) (by omega)).mp z)) ?_))))), j2, j3, ((x4.trans g4 (fun _ _ z => z)).trans i4 (fun _ _ z => z)).trans j4 (fun _ _ z => z), ?_, ?_⟩
                  · unfold kX_X5_pipe_97
                    exact ob1 f2.1.cls (ot1 (want1 4) (ob1 f2.1.cls (ob1 g1 (ob1 g2.begun (ob1 (g2.objA (k := 4) (by decide)) (ob1 i1 j1))))))
                  · show xTop S7 + 13 * t.2.1 ≤ xTop S + 13 * (nxT sz b (nxT sz b (nxT sz b (nxT sz b t)))).2.1
                    omega
                  · show xSl S7 + 88 * t.2.1 ≤ xSl S + 88 * (nxT sz b (nxT sz b (nxT sz b (nxT sz b t)))).2.1
                    omega
              · rw [if_neg (fun z => hkw z.1)]
                exact XErL.pre (werr f2 (by omega) (by omega) (fun wx hwx => hp4 (oit e2 (ob1 f2.1.cls (ot1 u2 (oit (nI_le (by omega) (by omega)) (hbad wx hwx))))))) x4
          · rw [if_neg h2]
            have e2 : ¬ nI (nxT sz b (nxT sz b (nxT sz b t))).1 = 2 := fun z => h2 ((nI_eq (b := 2) (by have := n3.1.2.2.1; omega) (by omega)).mp z)
            obtain ⟨S7, j1, j2, j3, j4, j5, j6⟩ := xl_115 (N := N) (k := k) (by omega) f2 f3
            refine ⟨S7, hp4 (oif e2 j1), j2, j3, x4.trans j4 (fun _ _ z => z), ?_, ?_⟩
            · show xTop S7 + 13 * t.2.1 ≤ xTop S + 13 * (nxT sz b (nxT sz b (nxT sz b t))).2.1
              omega
            · show xSl S7 + 88 * t.2.1 ≤ xSl S + 88 * (nxT sz b (nxT sz b (nxT sz b t))).2.1
              omega
        · rw [if_neg hko]
          refine XErL.pre (werr b2 (by omega) (by omega) (fun wx hwx => ?_)) x2
          refine hp3 (ot1 c2 (oit (nI_le (by omega) (by omega)) ?_))
          unfold kX_X5_pipe_50
          exact ob1 b2.1.cls (ot2 hwx)
end YC43
