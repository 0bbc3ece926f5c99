/-! plain law: the state after a night is kept -/
def sA (M : MT) (as : List MN) : MT := (tC M, tV M, as, tH M, tI M, tT M, tN M, tF M, tR M)
def sV (M : MT) (m : MN) : MT := (tC M, m, tA M, tH M, tI M, tT M, tN M, tF M, tR M)
def sR (M : MT) (f : Nat → Int32) : MT := (tC M, tV M, tA M, tH M, tI M, tT M, tN M, tF M, f)
def sH (M : MT) (hs : List HT) : MT := (tC M, tV M, tA M, hs, tI M, tT M, tN M, tF M, tR M)
def sIm (M : MT) (I : MI) : MT := (tC M, tV M, tA M, tH M, I, tT M, tN M, tF M, tR M)
theorem TripsAt.mono {Z Y : Nat → Prop} {S : XS} {rs : List Nat} {hs : List HT} (h : TripsAt Z S rs hs) (hz : ∀ q, Z q → Y q) : TripsAt Y S rs hs := ⟨h.1, fun i r x hr hx => by
  obtain ⟨f, h1, h2⟩ := h.2 i r x hr hx
  exact ⟨f, h1.mono hz, h2⟩⟩
theorem NightsAt.mono {Z Y : Nat → Prop} {S : XS} {xa : Nat} {rs : List Nat} {ms : List MN} (h : NightsAt Z S xa rs ms) (hz : ∀ q, Z q → Y q) : NightsAt Y S xa rs ms := ⟨h.1, fun i r m hr hm => ⟨hz r (h.2 i r m hr hm).1, (h.2 i r m hr hm).2⟩⟩
theorem ImgAt.mono {g : XC} {Z Y : Nat → Prop} {S : XS} {xa : Nat} {I : MI} (h : ImgAt g Z S xa I) (hz : ∀ q, Z q → Y q) : ImgAt g Y S xa I := by
  match I with
  | none => exact h
  | some (m, as, hs) =>
    obtain ⟨r, l1, l2, r1, r2, a1, a2, a3, a4, a5, a6, a7, a8, a9⟩ := h
    exact ⟨r, l1, l2, r1, r2, a1, hz r a2, a3, a4, a5.mono hz, a6.mono hz, a7, a8.mono hz, a9.mono hz⟩
theorem NightsAt.snoc {Z : Nat → Prop} {S : XS} {xa r : Nat} {rs : List Nat} {ms : List MN} {m : MN} (h : NightsAt Z S xa rs ms) (hr : Z r) (hm : NightAt S r xa m) : NightsAt Z S xa (rs ++ [r]) (ms ++ [m]) := by
  refine ⟨by simp [h.1], fun i r1 m1 h1 h2 => ?_⟩
  by_cases e : i < rs.length
  · rw [List.getElem?_append_left e] at h1
    rw [List.getElem?_append_left (by rw [← h.1]; exact e)] at h2
    exact h.2 i r1 m1 h1 h2
  · have e2 : i = rs.length := by
      have := (List.getElem?_eq_some_iff.mp h1).1
      simp at this
      omega
    subst e2
    rw [List.getElem?_append_right (Nat.le_refl _), Nat.sub_self] at h1
    rw [h.1, List.getElem?_append_right (Nat.le_refl _), Nat.sub_self] at h2
    obtain rfl := Option.some.inj h1
    obtain rfl := Option.some.inj h2
    exact ⟨hr, hm⟩
theorem NightsAt.tail {Z : Nat → Prop} {S : XS} {xa : Nat} {rs : List Nat} {ms : List MN} (h : NightsAt Z S xa rs ms) : NightsAt Z S xa rs.tail ms.tail := ⟨by simp [h.1], fun i r m hr hm => h.2 (i + 1) r m (by rw [← hr, List.getElem?_tail]) (by rw [← hm, List.getElem?_tail])⟩
theorem NightsAt.act {Z : Nat → Prop} {S : XS} {xa r : Nat} {rs : List Nat} {ms : List MN} {m : MN} (h : NightsAt Z S xa rs ms) (hr : Z r) (hm : NightAt S r xa m) : NightsAt Z S xa (yLst rs r) (yAct ms m) := by
  unfold yLst yAct
  rw [h.1]
  by_cases e : ms.length = 40
  · rw [if_pos e, if_pos e]
    exact h.tail.snoc hr hm
  · rw [if_neg e, if_neg e]
    exact h.snoc hr hm
section XK2
variable {g : XC} {N xa oa : Nat} {Z Ya Yh : Nat → Prop} {na ta cv la lh : Nat} {ra rh : List Nat} {M : MT} {S : XS}
theorem x_keep (hN : 2 ^ 20 < N) (h : CRq g xa oa Z Ya Yh na ta cv la lh ra rh M S) (hW : WFr S) (hsp : gSp g 0 < xTop S ∧ gSp g 1 < xTop S) (hl : (tA M).length ≤ 40) (r1 : xTop S + 10 ≤ xCc S) (r2 : xSl S + 200 ≤ xCs S) : ∃ S1 Z1 Ya1 m, kX_X1_keep g N S xa = some S1 ∧ WFr S1 ∧ xTop S ≤ xTop S1 ∧ xCc S1 = xCc S ∧ CRq g xa oa Z1 Ya1 Yh na ta cv la lh (yLst ra (xTop S)) rh (sA M (yAct (tA M) (mBe m (tV M)))) S1 := by
  obtain ⟨S1, Ya1, m, k1, k2, k3, k4, k5, k6, k7⟩ := x_keepA (N := N) hN h hW hsp hl r1 r2
  obtain ⟨c1, c2, ⟨c31, c32, c33, c34, c35⟩, c4, c5, c6, c7, c8, c9, c10, c11⟩ := h
  obtain ⟨d1, d2, d3, d4, d5, d6, d7⟩ := c9
  have hlt : ∀ q, (Z q ∨ Ya q ∨ Yh q) → q < xTop S := fun q hq => by
    obtain ⟨e, he⟩ := c10 q hq
    exact hW.2 q e he
  have hxa : xa < xTop S := hW.2 xa _ c2.1.cell
  have hna : na < xTop S := hW.2 na _ c1.1.2.1.cell
  have hta : ta < xTop S := hW.2 ta _ c2.2.1.cell
  have hoa : oa < xTop S := by
    obtain ⟨f, hf⟩ := c8
    exact hW.2 oa _ (g_cell hf)
  have hsm : ∀ q, q < xTop S → ¬ Ya q → tSame S S1 q := k2.2.2.2.2.2
  have sx := hsm xa hxa (fun z => (d2 xa z).2.1 rfl)
  have sn := hsm na hna (fun z => (d2 na z).2.2.1 rfl)
  have st := hsm ta hta (fun z => (d2 ta z).2.2.2.1 rfl)
  have so := hsm oa hoa (fun z => (d2 oa z).2.2.2.2 rfl)
  have hz : ∀ q, Z q → Z q ∨ q = xTop S := fun q z => Or.inl z
  have fZ : yFr Z S S1 := fun q hq => hsm q (hlt q (Or.inl hq)) (d1 q hq).1
  have fH : yFr Yh S S1 := fun q hq => hsm q (hlt q (Or.inr (Or.inr hq))) (fun z => (d2 q z).1 hq)
  have hw1 := k2.1.1
  refine ⟨S1, fun q => Z q ∨ q = xTop S, Ya1, m, k1, k2.1, k2.2.1, k2.2.2.2.1, c1.same hw1 sx sn, c2.keep hw1 sx.1 st.1 st.2.2.1, ⟨by rw [sx.2.2.1]; exact c31, by rw [sx.2.2.1]; exact c32, by rw [sx.2.2.1]; exact c33, by rw [sx.2.2.1]; exact c34, by rw [sx.2.2.1]; exact c35⟩, (c4.fr fZ.g).mono hz, ⟨k4, ?_⟩, ⟨c6.1.fr fH.g, (c6.2.keep fZ).mono hz⟩, (c7.keep hw1 sx.1 (fun j _ => by rw [sx.2.2.1]) fZ).mono hz, ?_, ⟨fun q hq => ?_, fun q hq => ?_, d3, d4, d5, d6, d7⟩, fun q hq => ?_, ?_⟩
  · exact ((c5.2.keep hw1 sx.1 fZ).mono hz).act (Or.inr rfl) k7
  · obtain ⟨f, hf⟩ := c8
    exact ⟨f, so.1.trans hf.1, so.2.2.2.2.2.trans hf.2⟩
  · rcases hq with hq | hq
    · refine ⟨fun z => ?_, (d1 q hq).2⟩
      have hq1 := hlt q (Or.inl hq)
      rcases k5 q z with z2 | z2
      · exact (d1 q hq).1 z2
      · omega
    · subst hq
      refine ⟨fun z => ?_, fun z => ?_, by omega, by omega, by omega, by omega⟩
      · rcases k5 _ z with z2 | z2
        · have := hlt _ (Or.inr (Or.inl z2)); omega
        · omega
      · have := hlt _ (Or.inr (Or.inr z)); omega
  · rcases k5 q hq with hq2 | hq2
    · exact d2 q hq2
    · refine ⟨fun z => ?_, by omega, by omega, by omega, by omega⟩
      have := hlt _ (Or.inr (Or.inr z)); omega
  · rcases hq with (hq | hq) | hq | hq
    · obtain ⟨e, he⟩ := c10 q (Or.inl hq)
      obtain ⟨f1, f2, f3, f4, f5, f6⟩ := fZ q hq
      have he2 : ∃ e, x_cell S q = some e := ⟨e, he⟩
      rw [x_cell_some] at he2 ⊢
      rw [f1, f6]
      exact he2
    · subst hq
      exact ⟨_, k7.1.2.1.cell⟩
    · exact k6 q hq
    · obtain ⟨e, he⟩ := c10 q (Or.inr (Or.inr hq))
      obtain ⟨f1, f2, f3, f4, f5, f6⟩ := fH q hq
      have he2 : ∃ e, x_cell S q = some e := ⟨e, he⟩
      rw [x_cell_some] at he2 ⊢
      rw [f1, f6]
      exact he2
  · obtain ⟨t1, t2, t3, t4⟩ := c11
    exact ⟨fun i hi => by rw [sx.2.2.2.1]; exact t1 i hi, by rw [sx.2.1]; exact t2, by rw [sx.2.1]; exact t3, fun i hi => by rw [sx.2.2.2.1]; exact t4 i hi⟩
/-- the night that is -/
theorem CRq.night (h : CRq g xa oa Z Ya Yh na ta cv la lh ra rh M S) (m : MN) (w : Nat → Int32) : CRq g xa oa Z Ya Yh na ta cv la lh ra rh (sV M m) (nset S na xa m w) := by
  obtain ⟨c1, c2, ⟨c31, c32, c33, c34, c35⟩, c4, c5, c6, c7, c8, c9, c10, c11⟩ := h
  have c9' := c9
  obtain ⟨d1, d2, d3, d4, d5, d6, d7⟩ := c9
  have hfr : ∀ q, q ≠ na → q ≠ xa → tSame S (nset S na xa m w) q := fun q h1 h2 => ⟨rfl, funext fun j => if_neg h1, rfl, funext fun j => (if_neg h1).trans (if_neg (fun z => h2 z.1)), rfl, rfl⟩
  have fZ : yFr Z S (nset S na xa m w) := fun q hq => hfr q (d1 q hq).2.2.2.1 (d1 q hq).2.2.1
  have fA : yFr Ya S (nset S na xa m w) := fun q hq => hfr q (d2 q hq).2.2.1 (d2 q hq).2.1
  have fH : yFr Yh S (nset S na xa m w) := fun q hq => hfr q (d3 q hq).2.1 (d3 q hq).1
  have hw : xWF (nset S na xa m w) := c2.2.2.2.1
  refine ⟨na_self c1.1 w, c2, ⟨c31, c32, c33, c34, c35⟩, c4.fr fZ.g, ⟨c5.1.fr fA.g, c5.2.keep hw rfl fZ⟩, ⟨c6.1.fr fH.g, c6.2.keep fZ⟩, c7.keep hw rfl (fun _ _ => rfl) fZ, c8, c9', fun q hq => ?_, ?_⟩
  · have he2 := c10 q hq
    rw [x_cell_some] at he2 ⊢
    exact he2
  · obtain ⟨t1, t2, t3, t4⟩ := c11
    have hxn : xa ≠ na := fun z => c1.1.2.2.1 z.symm
    have hA : ∀ j, j ≠ 0 → xA (nset S na xa m w) xa j = xA S xa j := fun j hj => (if_neg hxn).trans (if_neg (fun z => hj z.2))
    have hI : xI (nset S na xa m w) xa = xI S xa := funext fun j => if_neg hxn
    exact ⟨fun i hi => by rw [hA 4 (by decide)]; exact t1 i hi, by rw [hI]; exact t2, by rw [hI]; exact t3, fun i hi => by rw [hA 7 (by decide)]; exact t4 i hi⟩
end XK2
