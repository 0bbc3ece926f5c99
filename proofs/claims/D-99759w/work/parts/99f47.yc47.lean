/-! the cave: the operation -/
theorem MOk.err {M : MT} {T : Int} (h : MOk T M) (e : Nat × TK) : MOk T (mErr M e) := by
  obtain ⟨a1, a2, a3, a4, a5, a6, a7, a8⟩ := h
  exact ⟨a1, a2, a3, a4, a5, a6, Nat.zero_le _, fun i hi => absurd hi (Nat.not_lt_zero i)⟩
theorem LOk.m {M : MT} {T : Int} {s : LT} (H : LOk s) (hT : 0 ≤ T) : MOk T (mNew M s) := by
  obtain ⟨b1, b2, b3, b4, b5, b6, b7⟩ := H
  have hN : YN s.1 s.2.1 0 := ⟨b3, fun j hj => (b6 j).2.2 (by omega)⟩
  refine ⟨b1, b2, ⟨hN.le hT, b7 8 (by omega), b7 9 (by omega), b7 10 (by omega), 0, Nat.pow_pos (by decide), b7 7 (by omega)⟩, ⟨by simp [mNew, tA], fun m hm => ?_⟩, ⟨by simp [mNew, tH], fun x hx => ?_⟩, True.intro, Nat.zero_le _, fun i hi => absurd hi (Nat.not_lt_zero i)⟩
  · have hm : m ∈ ([] : List MN) := hm
    cases hm
  · have hx : x ∈ ([] : List HT) := hx
    cases hx
section YC47
variable {g : XC} {N xa oa : Nat} {Z Ya Yh : Nat → Prop} {na ta cv la lh : Nat} {ra rh : List Nat} {M : MT} {S : XS} {n : Nat}
def XCw (g : XC) (xa oa : Nat) (Z Ya Yh : Nat → Prop) (na ta cv la lh : Nat) (ra rh : List Nat) (M : MT) (X : Option ((XS × Int32) ⊕ XT)) : PR LT → Prop
  | .inr s => ∃ S1, X = some (.inl (S1, 0)) ∧ WFr S1 ∧ LOk s ∧ ∃ Z1 Ya1 Yh1 na1 cv1 la1 lh1, CRq g xa oa Z1 Ya1 Yh1 na1 ta cv1 la1 lh1 [] [] (mNew M s) S1
  | .inl e => ∃ S1, X = some (.inl (S1, nI e.1)) ∧ WFr S1 ∧ CRq g xa oa Z Ya Yh na ta cv la lh ra rh (mErr M e) S1
theorem x_cave1 (hN : 2 ^ 20 < N) (h : CRq g xa oa Z Ya Yh na ta cv la lh ra rh M S) (hW : WFr S) (hG : GOk g (xTop S)) (hby : ∀ i, i < tN M → (tT M i).toInt8.toInt32 = tT M i) (h700 : tN M ≤ 700) (hn : n ≤ tN M) (r1 : xTop S + 13900 ≤ xCc S) (r2 : xSl S + 96000 ≤ xCs S) : ∃ m0, LOk (s00 m0) ∧ XCw g xa oa Z Ya Yh na ta cv la lh ra rh M (kX_X1_cave g N S xa (nI n)) (pText n (byT M) (n + 1) (s00 m0) (lxN n (byT M) 0)) := by
  have hx : tyA S 1 xa := h.2.1.1
  have hnum := h.2.2.2.2.2.2.2.2.2.2
  have ht5 : xI S xa 5 = nI (tN M) := hnum.2.1
  have hxt : xa < xTop S := hW.2 xa _ hx.cell
  have htt : ta < xTop S := hW.2 ta _ h.2.1.2.1.cell
  have hoo : oa < xTop S := by
    obtain ⟨f, hf⟩ := h.2.2.2.2.2.2.2.1
    exact hW.2 oa _ (g_cell hf)
  -- the fault is forgotten
  have wI : ∀ (S' : XS) (k : Nat) (v : Int32), WFr S' → XE (fun q => q = xa) S' (xSetI S' xa k v) := fun S' k v hw => by
    refine ⟨⟨hw.1, fun q e he => ?_⟩, Nat.le_refl _, Nat.le_refl _, rfl, rfl, fun q _ hq => ⟨rfl, funext fun j => if_neg (fun z => hq z.1), rfl, rfl, rfl, rfl⟩⟩
    show q < xTop S'
    have h1 : ∃ e, x_cell (xSetI S' xa k v) q = some e := ⟨e, he⟩
    rw [x_cell_some] at h1
    obtain ⟨e2, h2⟩ := x_cell_some (S := S').mpr h1
    exact hw.2 q e2 h2
  have h1 : CRq g xa oa Z Ya Yh na ta cv la lh ra rh (sTF M 0 (tF M)) (xSetI S xa 5 0) := h.xi ⟨fun i hi => absurd hi (Nat.not_lt_zero i), if_pos ⟨rfl, rfl⟩, (if_neg (fun z => absurd z.2 (by decide))).trans hnum.2.2.1, hnum.2.2.2⟩
  have w1 := (wI S 5 0 hW).1
  have h2 : CRq g xa oa Z Ya Yh na ta cv la lh ra rh (sTF M 0 (-1)) (xSetI (xSetI S xa 5 0) xa 6 (-1)) := CRq.xi (M := sTF M 0 (tF M)) h1 ⟨fun i hi => absurd hi (Nat.not_lt_zero i), (if_neg (fun z => absurd z.2 (by decide))).trans (if_pos ⟨rfl, rfl⟩), if_pos ⟨rfl, rfl⟩, hnum.2.2.2⟩
  have w2 := (wI _ 6 (-1) w1).1
  generalize hS4 : xSetI (xSetI S xa 5 0) xa 6 (-1) = S4 at h2 w2
  have t4 : xTop S4 = xTop S := by rw [← hS4]; rfl
  have s4 : xSl S4 = xSl S := by rw [← hS4]; rfl
  have c4 : xCc S4 = xCc S := by rw [← hS4]; rfl
  have k4 : xCs S4 = xCs S := by rw [← hS4]; rfl
  have a4 : xA S4 = xA S := by rw [← hS4]; rfl
  have hx4 : tyA S4 1 xa := h2.2.1.1
  have hGS : GS g := hG.2.2.2.1
  -- the reader
  obtain ⟨S5, S6, mk, nb, B0, m0, b1, b2, b3, b4, b5, b6, b7, b8⟩ := x_reader (b := byT M) (sz := n) hN hGS w2 hx4 (by rw [t4]; exact ⟨hG.1, hG.2.1⟩) (by omega) (fun i hi => by
    obtain ⟨y1, y2, y3⟩ := byte_ok (hby i (by omega))
    rw [a4, hnum.1 i (by omega)]
    exact ⟨y1.symm, y2, y3⟩) (by omega) (by omega)
  refine ⟨m0, b5, ?_⟩
  have b6c := b6.2.2.2.1
  have b6s := b6.2.2.2.2.1
  obtain ⟨S7, d1, d2, d3, d4, d5, d6, -⟩ := xl_next hN hGS b3 b4
  have d4c := d4.2.2.2.1
  have d4s := d4.2.2.2.2.1
  have hI : ∀ k, k < 256 → gIv g (gIc g k) = some k ∧ gIc g k < xTop S4 := fun k hk => ⟨hG.2.2.1 k hk, by rw [t4]; exact hG.2.2.2.2 k hk⟩
  have hxx := x_text (N := N) hN hGS hI (n + 1) N (s00 m0) (nxT n (byT M) (0, 0, 0)) S7 (by omega) (by omega) b5 d2 d3 ⟨by omega, by omega⟩
  have eread : kX_X5_read g N S6 (xTop S4) = kX_X5_read_4 g N N S7 (xTop S4) := by
    unfold kX_X5_read
    exact ob1 b3.1.cls (ob1 d1 rfl)
  have E47 : XE (fun _ => False) S4 S7 := b6.trans d4 (fun q hq z => by omega)
  have epre : ∀ {R : Option ((XS × Int32) ⊕ XT)}, (hbind (kX_X5_read_4 g N N S7 (xTop S4)) (fun u =>
    if u.2.1 = 2 then
      (f_int u.1 4 (xTop S4) 7).bind fun v11 =>
      (f_putI u.1 1 xa 6 v11).bind fun S12 =>
      (f_obj S12 1 xa 7).bind fun v13 =>
      (a_int S12 0 v13 0).bind fun v14 =>
      (a_putI S12 0 v13 0 (v14 + 1)).bind fun S15 =>
      (f_int S15 9 u.2.2 6).bind fun v16 =>
      some (.inl (S15, v16))
    else
    none) <| fun r9 =>
  (f_putR r9.1 1 xa 1 (some r9.2)).bind fun S17 =>
  (f_obj S17 4 (xTop S4) 2).bind fun v18 =>
  (f_putR S17 1 xa 2 (some v18)).bind fun S19 =>
  (xNew S19 3 (.inr (10, [.int 0, .null, .int 0]))).bind fun S20 =>
  (kX_J2_init g N S20 (xTop S19)).bind fun w21 =>
  (f_putR w21 1 xa 8 (some (xTop S19))).bind fun S22 =>
  (xNew S22 3 (.inr (10, [.int 0, .null, .int 0]))).bind fun S23 =>
  (kX_J2_init g N S23 (xTop S22)).bind fun w24 =>
  (f_putR w24 1 xa 9 (some (xTop S22))).bind fun S25 =>
  (f_putR S25 1 xa 10 none).bind fun S26 =>
  some (.inl (S26, 0))) = R → kX_X1_cave g N S xa (nI n) = R := fun hR => by
    unfold kX_X1_cave
    refine oif (nI_pos (by omega)) (ob1 (v := nI (tN M)) (by rw [f_int_T hx (by decide) (Or.inl rfl), ht5]) (oif (nI_nlt hn (by omega)) ?_))
    unfold kX_X1_cave_17
    refine ot1 (x_right1 (by decide)) (ob1 (f_putI_T hx (by decide) (Or.inl rfl)) (ob1 (v := S4) ?_ (ob1 b1 (ob1 b2 (ob1 b3.1.cls ?_)))))
    · rw [← hS4]
      exact f_putI_T (S := xSetI S xa 5 0) hx (by decide) (Or.inl rfl)
    · rw [eread]
      exact hR
  have enx : nxT n (byT M) (0, 0, 0) = lxN n (byT M) 0 := rfl
  rw [enx] at hxx
  cases hv : pText n (byT M) (n + 1) (s00 m0) (lxN n (byT M) 0) with
  | inl e =>
    rw [hv] at hxx
    obtain ⟨S8, w, fs, e1, e2, e3, e4, e5, e6⟩ := hxx
    have E48 : XE (fun _ => False) S4 S8 := E47.trans e2 (fun q hq z => by omega)
    have h8 := h2.ext w2 E48
    have hn8 := h8.2.2.2.2.2.2.2.2.2.2
    have hx8 : tyA S8 1 xa := h8.2.1.1
    have h9 : CRq g xa oa Z Ya Yh na ta cv la lh ra rh (sTF M 0 (nI e.2.2.1)) (xSetI S8 xa 6 (nI e.2.2.1)) := CRq.xi (M := sTF M 0 (-1)) h8 ⟨fun i hi => absurd hi (Nat.not_lt_zero i), (if_neg (fun z => absurd z.2 (by decide))).trans hn8.2.1, if_pos ⟨rfl, rfl⟩, hn8.2.2.2⟩
    have h10 := h9.ref (k := 0)
    have w9 := (wI S8 6 (nI e.2.2.1) E48.1).1
    refine ⟨xSetA (xSetI S8 xa 6 (nI e.2.2.1)) xa 7 (upd (xA (xSetI S8 xa 6 (nI e.2.2.1)) xa 7) 0 (tR M 0 + 1)), epre (oh2 e1 ?_), w9.og w9.1 (Nat.le_refl _) (fun _ => ⟨rfl, rfl⟩), h10⟩
    refine oit rfl (ob1 (v := nI e.2.2.1) (by rw [f_int_T e3 (by decide) (Or.inl rfl), e4]) (ob1 (f_putI_T hx8 (by decide) (Or.inl rfl)) ?_))
    refine x_ref7 h9 (k := 0) (by decide) ?_
    have hg : genAt (xSetA (xSetI S8 xa 6 (nI e.2.2.1)) xa 7 (upd (xA (xSetI S8 xa 6 (nI e.2.2.1)) xa 7) 0 (tR M 0 + 1))) w (.inr (9, fs)) := e5
    exact ob1 (g_int hg e6) rfl
  | inr s =>
    rw [hv] at hxx
    obtain ⟨S8, t1, e1, e2, e3, e4, e5, e6⟩ := hxx
    have E48 : XE (fun _ => False) S4 S8 := E47.trans e4 (fun q hq z => by omega)
    have h8 := h2.ext w2 E48
    have E4c := E48.2.2.2.1
    have E4s := E48.2.2.2.2.1
    have E4t := E48.2.1
    have hs := pText_ok (n + 1) _ _ s (lxN_ok (Nat.zero_le _)).1 b5 hv
    obtain ⟨S9, q1, q2, Z1, q3⟩ := x_newState (N := N) (by rw [t4] at E4t; exact ⟨Nat.lt_of_lt_of_le hG.1 E4t, Nat.lt_of_lt_of_le hG.2.1 E4t⟩) e2 e3 hs h8 ⟨by omega, by omega, by omega⟩ (by omega) (by omega)
    exact ⟨S9, epre (oh1 e1 q1), q2, hs, Z1, _, _, nb, mk, _, _, q3⟩
end YC47
theorem op_cave {g : XC} {N xa oa i : Nat} (hN : 2 ^ 20 < N) (hi : i ≤ 378) : St_cave (yRel g N xa oa i) (yRel g N xa oa (i + 6)) g N xa oa := by
  rintro a0 n sl τ σ ⟨M, Z, Ya, Yh, na, ta, cv, la, lh, ra, rh, hB⟩
  have hB : yBody g N xa oa i n Z Ya Yh na ta cv la lh ra rh M τ σ := hB
  generalize hcc : n + 14000 = cc
  generalize hkk : sl + 97000 = kk
  obtain ⟨hO, hr, hQ, hfr, hS⟩ := y_open hB sl cc kk (by omega) (by omega)
  have hM := hB.2.2.2.2
  have hR := hB.2.2.2.1
  have hG := hB.2.2.1
  have hx := hQ.2.1.1
  have hT : yT i ≤ yT (i + 6) ∧ 0 ≤ yT (i + 6) := by unfold yT; omega
  have hw : ∀ a0, kX_X0_cave (jg g cc kk) N ((n, sl, cc, kk), τ) xa a0 oa = yW yH1 (kX_X1_cave (jg g cc kk) N ((n, sl, cc, kk), τ) xa a0) oa := fun a0 => ob1 (f_cls_T hQ.2.1.1) rfl
  rw [hw]
  have h700 := hM.2.2.2.2.2.2.1
  rcases y_rng 0 (tN M) (by decide) a0 with ⟨k, -, hk, rfl⟩ | h0
  · obtain ⟨m0, H0, hX⟩ := x_cave1 (N := N) (n := k) hN hQ (wf_of hB hQ) hG hM.2.2.2.2.2.2.2 h700 hk (by show n + 13900 ≤ cc; omega) (by show sl + 96000 ≤ kk; omega)
    have hRc := r_cave1 (N := N) (T := yT i) hN hR hM hk H0
    cases hv : pText k (byT M) (k + 1) (s00 m0) (lxN k (byT M) 0) with
    | inl e =>
      rw [hv] at hX hRc
      obtain ⟨S1, x1, x2, x3⟩ := hX
      obtain ⟨σ1, y1, y2, y3⟩ := hRc
      exact fin2 x1 x3 x2 y1 y2 y3 ((hM.le hT.1).err e) hG
    | inr s =>
      rw [hv] at hX hRc
      obtain ⟨S1, x1, x2, x3, Z1, Ya1, Yh1, na1, cv1, la1, lh1, x4⟩ := hX
      obtain ⟨σ1, y1, y2, y3⟩ := hRc
      exact fin2 x1 x4 x2 y1 y2 y3 (x3.m hT.2) hG
  · have h0 : a0 < 0 ∨ nI (tN M) < a0 := h0
    have hm := r_cave0 (N := N) hR h0
    have hxv : kX_X1_cave (jg g cc kk) N ((n, sl, cc, kk), τ) xa a0 = some (.inr (((n, sl, cc, kk), τ), 1, 0)) := by
      have h17 : kX_X1_cave_17 (jg g cc kk) N ((n, sl, cc, kk), τ) xa a0 0 = some (.inr (((n, sl, cc, kk), τ), 1, 0)) := by
        unfold kX_X1_cave_17
        exact ot2 (x_right0 hr)
      have ht5 : xI ((n, sl, cc, kk), τ) xa 5 = nI (tN M) := hQ.2.2.2.2.2.2.2.2.2.2.2.1
      unfold kX_X1_cave
      by_cases hlt : a0 < 0
      · exact oit hlt h17
      · refine oif hlt (ob1 (v := nI (tN M)) (by rw [f_int_T hx (by decide) (Or.inl rfl), ht5]) (oit (h0.resolve_left hlt) h17))
    exact fin_thr (c := cc) (k := kk) hB hxv rfl (KS.refl hQ.2.1.2.2.2.1) hm (mp_s _ _ _) (by decide) (RFr.p00 _ _ _)
