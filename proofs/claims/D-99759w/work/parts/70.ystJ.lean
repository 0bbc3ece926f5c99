/-! plain law: image, restore: the operations -/
section SJ
variable {g : XC} {N xa oa : Nat} {Z Ya Yh : Nat → Prop} {na ta cv la lh : Nat} {ra rh : List Nat} {M : MT} {S S1 S2 : XS}
theorem XR.trans (h : XR xa S S1) (h2 : XR xa S1 S2) : XR xa S S2 := ⟨h.1.trans h2.1 (fun _ _ z => z), h2.2.1.trans h.2.1, h2.2.2.1.trans h.2.2.1, h2.2.2.2.1.trans h.2.2.2.1, h2.2.2.2.2.1.trans h.2.2.2.2.1, h2.2.2.2.2.2.trans h.2.2.2.2.2⟩
theorem XR.ty (h : XR xa S S1) (ht : tyA S 1 xa) : tyA S1 1 xa := ⟨h.2.1.trans ht.1, ht.2⟩
theorem XE.xR {a : Nat} (h : XE (fun _ => False) S S1) (ha : a < xTop S) : xR S1 a = xR S a := (h.2.2.2.2.2 a ha (fun z => z)).2.2.1
/-- a list copied, then held by xa at k -/
theorem x_lset {β : Type} {k kk l : Nat} {rs : List Nat} {Y : Nat → Prop} (hk : k < x_N 1) (hkd : x_kd 1 k = 2) (hkk : kk < x_N 1) (hkkd : x_kd 1 kk = 2) (hW : WFr S) (hty : tyA S 1 xa) (hl : xR S xa kk = some l) (hL : ListAt g Y S l rs) (hsp : gSp g 0 < xTop S ∧ gSp g 1 < xTop S) (hrs : ∀ r ∈ rs, v_any g S r = some ()) (r1 : xTop S + 2 ≤ xCc S) (r2 : xSl S + 3 + rs.length ≤ xCs S) :
    ∃ S1 Y1, (∀ F : XS → Option β, ((xNew S 3 ELn).bind fun S5 => (f_obj S5 1 xa kk).bind fun v6 => (kX_J2_init_2 g N S5 (xTop S) v6).bind fun w7 => (f_putR w7 1 xa k (some (xTop S))).bind F) = F S1) ∧ XR xa S S1 ∧ xTop S1 = xTop S + 2 ∧ xSl S1 = xSl S + 3 + rs.length ∧ xR S1 xa k = some (xTop S) ∧ (∀ j, j ≠ k → xR S1 xa j = xR S xa j) ∧ (∃ cap, ListC g Y1 S1 (xTop S) rs cap) ∧ (∀ q, Y1 q → xTop S ≤ q ∧ q < xTop S1) ∧ ∀ q, Y1 q → ∃ e, x_cell S1 q = some e := by
  have hxa : xa < xTop S := hW.2 xa _ hty.cell
  obtain ⟨S1, Y1, k1, k2, k3, k4, ⟨cap, k5⟩, k6, k7⟩ := x_lcp (N := N) (k := 0) hL hW hsp hrs r1 r2
  have X1 : XR xa S S1 := (XR.refl hW).ext k2 hxa
  have Xn : XR xa S (newS S 3 ELn) := (XR.refl hW).ext (newS_XE hW 3 ELn _) hxa
  have X2 := (XR.refl (xa := xa) k2.1).put k (some (xTop S))
  have hY : ∀ q, Y1 q → q < xTop S1 ∧ q ≠ xa := fun q hq => by
    have := k6 q hq
    omega
  refine ⟨xSetR S1 xa k (some (xTop S)), Y1, fun F => ?_, X1.put k _, k3, k4, if_pos ⟨rfl, rfl⟩, fun j hj => ?_, ⟨cap, X2.list k5 hY⟩, k6, fun q hq => cell_ex (X2.same (hY q hq).1 (hY q hq).2) (k7 q hq)⟩
  · refine ob1 (x_newS (by omega) (by omega)) (ob1 (f_obj_T (Xn.ty hty) hkk hkkd ?_) (ob1 k1 (ob1 (f_putR_T (X1.ty hty) hk hkd) rfl)))
    exact hl
  · exact (if_neg (fun z => hj z.2)).trans (congrFun (k2.xR hxa) j)
theorem x_image (hN : 2 ^ 20 < N) (h : CRq g xa oa Z Ya Yh na ta cv la lh ra rh M S) (hW : WFr S) (hsp : gSp g 0 < xTop S ∧ gSp g 1 < xTop S) (hla : (tA M).length ≤ 40) (hlh : (tH M).length ≤ 8) (r1 : xTop S + 20 ≤ xCc S) (r2 : xSl S + 300 ≤ xCs S) : ∃ S1 Z1 m, kX_X1_image g N S xa = some S1 ∧ CRq g xa oa Z1 Ya Yh na ta cv la lh ra rh (sIm M (some (mBe m (tV M), tA M, tH M))) S1 := by
  have h' := h
  obtain ⟨c1, c2, ⟨c31, c32, c33, c34, c35⟩, c4, c5, c6, c7, c8, ⟨d1, d2, d3, d4, d5, d6, d7⟩, c10, c11⟩ := h
  have hlt : ∀ q, (Z q ∨ Ya q ∨ Yh q) → q < xTop S := fun q hq => by
    obtain ⟨e, he⟩ := c10 q hq
    exact hW.2 q e he
  have hxa : xa < xTop S := hW.2 xa _ c2.1.cell
  have hna : na < xTop S := hW.2 na _ c1.1.2.1.cell
  have hta : ta < xTop S := hW.2 ta _ c2.2.1.cell
  have hoa : oa < xTop S := by
    obtain ⟨f, hf⟩ := c8
    exact hW.2 oa _ (g_cell hf)
  have zZ : ∀ q, Z q → q < xTop S ∧ q ≠ xa := fun q hq => ⟨hlt q (Or.inl hq), (d1 q hq).2.2.1⟩
  have zA : ∀ q, Ya q → q < xTop S ∧ q ≠ xa := fun q hq => ⟨hlt q (Or.inr (Or.inl hq)), (d2 q hq).2.1⟩
  have zH : ∀ q, Yh q → q < xTop S ∧ q ≠ xa := fun q hq => ⟨hlt q (Or.inr (Or.inr hq)), (d3 q hq).1⟩
  have la1 : ra.length ≤ 40 := by rw [c5.2.1]; exact hla
  have lh1 : rh.length ≤ 8 := by rw [c6.2.1]; exact hlh
  obtain ⟨S1, m, k1, k2, k3, k4, k5⟩ := x_copy (g := g) hN hW c1 (by omega) (by omega)
  have X1 : XR xa S S1 := (XR.refl hW).ext k2 hxa
  have X12 := (XR.refl (xa := xa) k2.1).put 10 (some (xTop S))
  have X2 := X1.trans X12
  have cp : xCc S1 = xCc S := k2.2.2.2.1
  have cs : xCs S1 = xCs S := k2.2.2.2.2.1
  have p10 : f_putR S1 1 xa 10 (some (xTop S)) = some (xSetR S1 xa 10 (some (xTop S))) := f_putR_T (X1.ty c2.1) (by decide) (by decide)
  have e10 : xR (xSetR S1 xa 10 (some (xTop S))) xa 10 = some (xTop S) := if_pos ⟨rfl, rfl⟩
  have eo : ∀ j, j ≠ 10 → xR (xSetR S1 xa 10 (some (xTop S))) xa j = xR S xa j := fun j hj => (if_neg (fun z => hj z.2)).trans (congrFun (k2.xR hxa) j)
  have t2 : xTop (xSetR S1 xa 10 (some (xTop S))) = xTop S + 9 := k3
  have s2 : xSl (xSetR S1 xa 10 (some (xTop S))) = xSl S + 88 := k4
  have cp2 : xCc (xSetR S1 xa 10 (some (xTop S))) = xCc S := cp
  have cs2 : xCs (xSetR S1 xa 10 (some (xTop S))) = xCs S := cs
  have n2 : NightAt (xSetR S1 xa 10 (some (xTop S))) (xTop S) xa (mBe m (tV M)) := X12.night (by omega) k5
  generalize xSetR S1 xa 10 (some (xTop S)) = S2 at X12 X2 p10 e10 eo t2 s2 cp2 cs2 n2
  have fZ2 : yFr Z S S2 := X2.fr zZ
  have L2 : ListAt g Ya S2 la ra := c5.1.fr (X2.fr zA).g
  have A2 : NightsAt Z S2 xa ra (tA M) := c5.2.keep X2.1.1.1 X2.2.1 fZ2
  obtain ⟨S3, Y3, q1, q2, q3, q4, q5, q6, ⟨cap3, q7⟩, q8, q9⟩ := x_lset (g := g) (N := N) (β := XS) (k := 11) (kk := 8) (by decide) (by decide) (by decide) (by decide) X2.1.1 (X2.ty c2.1) ((eo 8 (by decide)).trans c34) L2 ⟨by omega, by omega⟩ (nights_any A2) (by omega) (by omega)
  have X3 := X2.trans q2
  have cp3 : xCc S3 = xCc S := X3.1.2.2.2.1
  have cs3 : xCs S3 = xCs S := X3.1.2.2.2.2.1
  have L3 : ListAt g Yh S3 lh rh := c6.1.fr (X3.fr zH).g
  have fZ3 : yFr Z S S3 := X3.fr zZ
  obtain ⟨S4, Y4, u1, u2, u3, u4, u5, u6, ⟨cap4, u7⟩, u8, u9⟩ := x_lset (g := g) (N := N) (β := XS) (k := 12) (kk := 9) (by decide) (by decide) (by decide) (by decide) X3.1.1 (X3.ty c2.1) (((q6 9 (by decide)).trans (eo 9 (by decide))).trans c35) L3 ⟨by omega, by omega⟩ (trips_any (c6.2.keep fZ3)) (by omega) (by omega)
  have X4 := X3.trans u2
  have fZ4 : yFr Z S S4 := X4.fr zZ
  have hR4 : ∀ j, j ≠ 10 → j ≠ 11 → j ≠ 12 → xR S4 xa j = xR S xa j := fun j h1 h2 h3 => (u6 j h3).trans ((q6 j h2).trans (eo j h1))
  have n4 : NightAt S4 (xTop S) xa (mBe m (tV M)) := u2.night (by omega) (q2.night (by omega) n2)
  have hY3 : ∀ q, Y3 q → q < xTop S3 ∧ q ≠ xa := fun q hq => by
    have := q8 q hq
    omega
  have hZ1 : ∀ q, (Z q ∨ (xTop S ≤ q ∧ ∃ e, x_cell S4 q = some e)) → ∃ e, x_cell S4 q = some e := fun q hq => by
    rcases hq with hq | hq
    · exact cell_ex (fZ4 q hq) (c10 q (Or.inl hq))
    · exact hq.2
  have hcell : ∀ q, Y3 q → ∃ e, x_cell S4 q = some e := fun q hq => cell_ex (u2.same (hY3 q hq).1 (hY3 q hq).2) (q9 q hq)
  refine ⟨S4, fun q => Z q ∨ (xTop S ≤ q ∧ ∃ e, x_cell S4 q = some e), m, ?_, ?_⟩
  · unfold kX_X1_image
    refine ob1 (f_obj_T c2.1 (by decide) (by decide) c32) (ob1 (na_cls c1) (ob1 k1 (ob1 p10 ?_)))
    exact (q1 _).trans (u1 _)
  · refine h'.re hW X4 ⟨(hR4 1 (by decide) (by decide) (by decide)).trans c31, (hR4 2 (by decide) (by decide) (by decide)).trans c32, (hR4 3 (by decide) (by decide) (by decide)).trans c33, (hR4 8 (by decide) (by decide) (by decide)).trans c34, (hR4 9 (by decide) (by decide) (by decide)).trans c35⟩ (X4.night hna c1) ⟨c5.1.fr (X4.fr zA).g, (c5.2.keep X4.1.1.1 X4.2.1 fZ4).mono (fun q z => Or.inl z)⟩ ⟨c6.1.fr (X4.fr zH).g, (c6.2.keep fZ4).mono (fun q z => Or.inl z)⟩ ?_ (fun q z => Or.inl z) ⟨fun q hq => ?_, d2, d3, d4, d5, d6, d7⟩ (fun q hq => ?_)
    · refine ⟨xTop S, xTop S2, xTop S3, ra, rh, (u6 10 (by decide)).trans ((q6 10 (by decide)).trans e10), Or.inr ⟨Nat.le_refl _, _, n4.1.2.1.cell⟩, n4, (u6 11 (by decide)).trans q5, ?_, (c5.2.keep X4.1.1.1 X4.2.1 fZ4).mono (fun q z => Or.inl z), u5, ?_, (c6.2.keep fZ4).mono (fun q z => Or.inl z)⟩
      · exact (u2.list q7 hY3).l.mono (fun q hq => Or.inr ⟨by have := q8 q hq; omega, hcell q hq⟩)
      · exact u7.l.mono (fun q hq => Or.inr ⟨by have := u8 q hq; omega, u9 q hq⟩)
    · rcases hq with hq | hq
      · exact d1 q hq
      · have hq1 := hq.1
        exact ⟨fun z => by have := hlt q (Or.inr (Or.inl z)); omega, fun z => by have := hlt q (Or.inr (Or.inr z)); omega, by omega, by omega, by omega, by omega⟩
    · rcases hq with hq | hq | hq
      · exact hZ1 q hq
      · exact cell_ex (X4.same (zA q hq).1 (zA q hq).2) (c10 q (Or.inr (Or.inl hq)))
      · exact cell_ex (X4.same (zH q hq).1 (zH q hq).2) (c10 q (Or.inr (Or.inr hq)))
theorem x_restore (hN : 2 ^ 20 < N) (h : CRq g xa oa Z Ya Yh na ta cv la lh ra rh M S) (hW : WFr S) (hsp : gSp g 0 < xTop S ∧ gSp g 1 < xTop S) {m : MN} {as : List MN} {hs : List HT} (hI : tI M = some (m, as, hs)) (hla : as.length ≤ 40) (hlh : hs.length ≤ 8) (r1 : xTop S + 20 ≤ xCc S) (r2 : xSl S + 300 ≤ xCs S) : ∃ S1 Ya1 Yh1 na1 la1 lh1 ra1 rh1 m1, kX_X1_restore g N S xa = some (S1, 1) ∧ CRq g xa oa Z Ya1 Yh1 na1 ta cv la1 lh1 ra1 rh1 (tC M, mBe m1 m, as, hs, tI M, tT M, tN M, tF M, tR M) S1 := by
  have h' := h
  obtain ⟨c1, c2, ⟨c31, c32, c33, c34, c35⟩, c4, c5, c6, c7, c8, ⟨d1, d2, d3, d4, d5, d6, d7⟩, c10, c11⟩ := h
  have c7' := c7
  unfold ImgAt at c7
  rw [hI] at c7
  obtain ⟨r, l1, l2, b1, b2, i1, i2, i3, i4, i5, i6, i7, i8, i9⟩ := c7
  have hlt : ∀ q, (Z q ∨ Ya q ∨ Yh q) → q < xTop S := fun q hq => by
    obtain ⟨e, he⟩ := c10 q hq
    exact hW.2 q e he
  have hxa : xa < xTop S := hW.2 xa _ c2.1.cell
  have hta : ta < xTop S := hW.2 ta _ c2.2.1.cell
  have hoa : oa < xTop S := by
    obtain ⟨f, hf⟩ := c8
    exact hW.2 oa _ (g_cell hf)
  have zZ : ∀ q, Z q → q < xTop S ∧ q ≠ xa := fun q hq => ⟨hlt q (Or.inl hq), (d1 q hq).2.2.1⟩
  have la1 : b1.length ≤ 40 := by rw [i6.1]; exact hla
  have lh1 : b2.length ≤ 8 := by rw [i9.1]; exact hlh
  obtain ⟨S1, m1, k1, k2, k3, k4, k5⟩ := x_copy (g := g) hN hW i3 (by omega) (by omega)
  have X1 : XR xa S S1 := (XR.refl hW).ext k2 hxa
  have X12 := (XR.refl (xa := xa) k2.1).put 2 (some (xTop S))
  have X2 := X1.trans X12
  have cp : xCc S1 = xCc S := k2.2.2.2.1
  have cs : xCs S1 = xCs S := k2.2.2.2.2.1
  have p2 : f_putR S1 1 xa 2 (some (xTop S)) = some (xSetR S1 xa 2 (some (xTop S))) := f_putR_T (X1.ty c2.1) (by decide) (by decide)
  have e2 : xR (xSetR S1 xa 2 (some (xTop S))) xa 2 = some (xTop S) := if_pos ⟨rfl, rfl⟩
  have eo : ∀ j, j ≠ 2 → xR (xSetR S1 xa 2 (some (xTop S))) xa j = xR S xa j := fun j hj => (if_neg (fun z => hj z.2)).trans (congrFun (k2.xR hxa) j)
  have t2 : xTop (xSetR S1 xa 2 (some (xTop S))) = xTop S + 9 := k3
  have s2 : xSl (xSetR S1 xa 2 (some (xTop S))) = xSl S + 88 := k4
  have cp2 : xCc (xSetR S1 xa 2 (some (xTop S))) = xCc S := cp
  have cs2 : xCs (xSetR S1 xa 2 (some (xTop S))) = xCs S := cs
  have n2 : NightAt (xSetR S1 xa 2 (some (xTop S))) (xTop S) xa (mBe m1 m) := X12.night (by omega) k5
  generalize xSetR S1 xa 2 (some (xTop S)) = S2 at X12 X2 p2 e2 eo t2 s2 cp2 cs2 n2
  have fZ2 : yFr Z S S2 := X2.fr zZ
  have L2 : ListAt g Z S2 l1 b1 := i5.fr fZ2.g
  have A2 : NightsAt Z S2 xa b1 as := i6.keep X2.1.1.1 X2.2.1 fZ2
  obtain ⟨S3, Y3, q1, q2, q3, q4, q5, q6, ⟨cap3, q7⟩, q8, q9⟩ := x_lset (g := g) (N := N) (β := XS × Int32) (k := 8) (kk := 11) (by decide) (by decide) (by decide) (by decide) X2.1.1 (X2.ty c2.1) ((eo 11 (by decide)).trans i4) L2 ⟨by omega, by omega⟩ (nights_any A2) (by omega) (by omega)
  have X3 := X2.trans q2
  have cp3 : xCc S3 = xCc S := X3.1.2.2.2.1
  have cs3 : xCs S3 = xCs S := X3.1.2.2.2.2.1
  have fZ3 : yFr Z S S3 := X3.fr zZ
  have L3 : ListAt g Z S3 l2 b2 := i8.fr fZ3.g
  obtain ⟨S4, Y4, u1, u2, u3, u4, u5, u6, ⟨cap4, u7⟩, u8, u9⟩ := x_lset (g := g) (N := N) (β := XS × Int32) (k := 9) (kk := 12) (by decide) (by decide) (by decide) (by decide) X3.1.1 (X3.ty c2.1) (((q6 12 (by decide)).trans (eo 12 (by decide))).trans i7) L3 ⟨by omega, by omega⟩ (trips_any (i9.keep fZ3)) (by omega) (by omega)
  have X4 := X3.trans u2
  have fZ4 : yFr Z S S4 := X4.fr zZ
  have hR4 : ∀ j, j ≠ 2 → j ≠ 8 → j ≠ 9 → xR S4 xa j = xR S xa j := fun j h1 h2 h3 => (u6 j h3).trans ((q6 j h2).trans (eo j h1))
  have n4 : NightAt S4 (xTop S) xa (mBe m1 m) := u2.night (by omega) (q2.night (by omega) n2)
  have hY3 : ∀ q, Y3 q → q < xTop S3 ∧ q ≠ xa := fun q hq => by
    have := q8 q hq
    omega
  have hcell : ∀ q, Y3 q → ∃ e, x_cell S4 q = some e := fun q hq => cell_ex (u2.same (hY3 q hq).1 (hY3 q hq).2) (q9 q hq)
  refine ⟨S4, Y3, Y4, xTop S, xTop S2, xTop S3, b1, b2, m1, ?_, ?_⟩
  · unfold kX_X1_restore
    refine ob1 (f_ref_T c2.1 (by decide) (by decide)) ?_
    rw [i1]
    refine ob1 (f_ref_T c2.1 (by decide) (by decide)) ?_
    rw [i1]
    refine ob1 rfl (ob1 (na_cls i3) (ob1 k1 (ob1 p2 ?_)))
    exact (q1 _).trans (u1 _)
  · refine h'.re hW X4 ⟨(hR4 1 (by decide) (by decide) (by decide)).trans c31, (u6 2 (by decide)).trans ((q6 2 (by decide)).trans e2), (hR4 3 (by decide) (by decide) (by decide)).trans c33, (u6 8 (by decide)).trans q5, u5⟩ n4 ⟨(u2.list q7 hY3).l, i6.keep X4.1.1.1 X4.2.1 fZ4⟩ ⟨u7.l, i9.keep fZ4⟩ (c7'.keep X4.1.1.1 X4.2.1 (fun j hj => hR4 j (by omega) (by omega) (by omega)) fZ4) (fun q z => z) ⟨fun q hq => ?_, fun q hq => ?_, fun q hq => ?_, d4, by omega, d6, by omega⟩ (fun q hq => ?_)
    · have hq1 := (zZ q hq).1
      exact ⟨fun z => by have := q8 q z; omega, fun z => by have := u8 q z; omega, (d1 q hq).2.2.1, by omega, (d1 q hq).2.2.2.2⟩
    · have := q8 q hq
      exact ⟨fun z => by have := u8 q z; omega, by omega, by omega, by omega, by omega⟩
    · have := u8 q hq
      exact ⟨by omega, by omega, by omega, by omega⟩
    · rcases hq with hq | hq | hq
      · exact cell_ex (fZ4 q hq) (c10 q (Or.inl hq))
      · exact hcell q hq
      · exact u9 q hq
end SJ
theorem op_image {g : XC} {N xa oa i : Nat} (hN : 2 ^ 20 < N) : St_image (yRel g N xa oa i) (yRel g N xa oa (i + 6)) g N xa oa := by
  rintro n sl τ σ ⟨M, Z, Ya, Yh, na, ta, cv, la, lh, ra, rh, hB⟩
  have hB : yBody g N xa oa i n Z Ya Yh na ta cv la lh ra rh M τ σ := hB
  generalize hcc : n + 14000 = cc
  generalize hkk : sl + 97000 = kk
  obtain ⟨-, -, hQ, -, -⟩ := y_open hB sl cc kk (by omega) (by omega)
  have hM := hB.2.2.2.2
  have hG := hB.2.2.1
  have hW := wf_of hB hQ
  have hx := hQ.2.1.1
  obtain ⟨S1, Z1, m, k1, k2⟩ := x_image hN hQ hW ⟨hG.1, hG.2.1⟩ hM.2.2.2.1.1 hM.2.2.2.2.1.1 (by show n + 20 ≤ cc; omega) (by show sl + 300 ≤ kk; omega)
  obtain ⟨σ1, q1, q2⟩ := r_image hN hB.2.2.2.1 hM m
  refine ⟨(), S1, σ1, f_cls_T hx, k1, q1, fun n1 hn hfr => y_end k2 hfr (hG.le hn) q2 ?_⟩
  obtain ⟨b1, b2, b3, b4, b5, b6, b7⟩ := hM.le (T1 := yT (i + 6)) (by unfold yT; omega)
  exact ⟨b1, b2, b3, b4, b5, ⟨b3.be m b1, b4, b5⟩, b7⟩
theorem op_restore {g : XC} {N xa oa i : Nat} (hN : 2 ^ 20 < N) : St_restore (yRel g N xa oa i) (yRel g N xa oa (i + 6)) g N xa oa := by
  rintro n sl τ σ ⟨M, Z, Ya, Yh, na, ta, cv, la, lh, ra, rh, hB⟩
  have hB : yBody g N xa oa i n Z Ya Yh na ta cv la lh ra rh M τ σ := hB
  generalize hcc : n + 14000 = cc
  generalize hkk : sl + 97000 = kk
  obtain ⟨-, -, hQ, -, -⟩ := y_open hB sl cc kk (by omega) (by omega)
  have hM := hB.2.2.2.2
  have hG := hB.2.2.1
  have hW := wf_of hB hQ
  have hx := hQ.2.1.1
  have hMl := hM.le (T1 := yT (i + 6)) (by unfold yT; omega)
  have hR0 : RRel N M (m_put σ 0 0) := hB.2.2.2.1.fr hM.1 (RFr.p0 σ 0)
  have hI := hQ.2.2.2.2.2.2.1
  have hJ := hR0.2.2.2.2.1
  cases hT : tI M with
  | none =>
    unfold ImgAt at hI
    unfold RImg at hJ
    rw [hT] at hI hJ
    refine ⟨(), (((n, sl, cc, kk), τ), 0), m_put σ 0 0, f_cls_T hx, ?_, ?_, fun n1 hn hfr => y_end hQ hfr (hG.le hn) hR0 hMl⟩
    · unfold kX_X1_restore
      refine ob1 (f_ref_T hx (by decide) (by decide)) ?_
      rw [hI]
    · unfold kM_restore
      exact onb rfl (oit hJ rfl)
  | some I =>
    obtain ⟨m, as, hs⟩ := I
    obtain ⟨a1, a2, a3, a4, a5, a6, a7, a8⟩ := hMl
    have a6' := a6
    rw [hT] at a6'
    obtain ⟨e1, ⟨e2, e3⟩, e4, e5⟩ := a6'
    obtain ⟨S1, Ya1, Yh1, na1, la1, lh1, ra1, rh1, m1, k1, k2⟩ := x_restore hN hQ hW ⟨hG.1, hG.2.1⟩ hT e2 e4 (by show n + 20 ≤ cc; omega) (by show sl + 300 ≤ kk; omega)
    obtain ⟨σ1, q1, q2⟩ := r_restore hN hB.2.2.2.1 hM hT m1
    exact ⟨(), (S1, 1), σ1, f_cls_T hx, k1, q1, fun n1 hn hfr => y_end k2 hfr (hG.le hn) q2 ⟨a1, a2, e1.be m1 a1, ⟨e2, e3⟩, ⟨e4, e5⟩, a6, a7, a8⟩⟩
