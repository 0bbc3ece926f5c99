/-! plain law: another night, another list of acts in place -/
section SF
variable {g : XC} {N xa oa : Nat} {Z Ya Yh : Nat → Prop} {na ta cv la lh : Nat} {ra rh : List Nat} {M : MT} {S S1 : XS}
theorem CRq.act (h : CRq g xa oa Z Ya Yh na ta cv la lh ra rh M S) (hW : WFr S) (hE : XE Ya S S1) {Ya1 : Nat → Prop} {ra1 : List Nat} {ms : List MN} (hL : ListAt g Ya1 S1 la ra1) (hY : ∀ q, Ya1 q → Ya q) (hX : ∀ q, Ya1 q → ∃ e, x_cell S1 q = some e) (hN : NightsAt Z S xa ra1 ms) : CRq g xa oa Z Ya1 Yh na ta cv la lh ra1 rh (sA M ms) S1 := by
  obtain ⟨c1, c2, ⟨c31, c32, c33, c34, c35⟩, c4, c5, c6, c7, c8, ⟨d1, d2, d3, d4, d5, d6, d7⟩, c10, c11⟩ := h
  have hlt : ∀ q, (Z q ∨ Ya q ∨ Yh q) → q < xTop S := fun q hq => by
    obtain ⟨e, he⟩ := c10 q hq
    exact hW.2 q e he
  have hxa : xa < xTop S := hW.2 xa _ c2.1.cell
  have hna : na < xTop S := hW.2 na _ c1.1.2.1.cell
  have hta : ta < xTop S := hW.2 ta _ c2.2.1.cell
  have hoa : oa < xTop S := by
    obtain ⟨f, hf⟩ := c8
    exact hW.2 oa _ (g_cell hf)
  have hsm : ∀ q, q < xTop S → ¬ Ya q → tSame S S1 q := hE.2.2.2.2.2
  have sx := hsm xa hxa (fun z => (d2 xa z).2.1 rfl)
  have sn := hsm na hna (fun z => (d2 na z).2.2.1 rfl)
  have st := hsm ta hta (fun z => (d2 ta z).2.2.2.1 rfl)
  have so := hsm oa hoa (fun z => (d2 oa z).2.2.2.2 rfl)
  have fZ : yFr Z S S1 := fun q hq => hsm q (hlt q (Or.inl hq)) (d1 q hq).1
  have fH : yFr Yh S S1 := fun q hq => hsm q (hlt q (Or.inr (Or.inr hq))) (fun z => (d2 q z).1 hq)
  have hw1 := hE.1.1
  refine ⟨c1.same hw1 sx sn, c2.keep hw1 sx.1 st.1 st.2.2.1, ⟨by rw [sx.2.2.1]; exact c31, by rw [sx.2.2.1]; exact c32, by rw [sx.2.2.1]; exact c33, by rw [sx.2.2.1]; exact c34, by rw [sx.2.2.1]; exact c35⟩, c4.fr fZ.g, ⟨hL, hN.keep hw1 sx.1 fZ⟩, ⟨c6.1.fr fH.g, c6.2.keep fZ⟩, c7.keep hw1 sx.1 (fun j _ => by rw [sx.2.2.1]) fZ, ?_, ⟨fun q hq => ⟨fun z => (d1 q hq).1 (hY q z), (d1 q hq).2⟩, fun q hq => d2 q (hY q hq), d3, d4, d5, d6, d7⟩, fun q hq => ?_, ?_⟩
  · obtain ⟨f, hf⟩ := c8
    exact ⟨f, so.1.trans hf.1, so.2.2.2.2.2.trans hf.2⟩
  · have key : ∀ q, tSame S S1 q → (∃ e, x_cell S q = some e) → ∃ e, x_cell S1 q = some e := fun q hs he => by
      rw [x_cell_some] at he ⊢
      rw [hs.1, hs.2.2.2.2.2]
      exact he
    rcases hq with hq | hq | hq
    · exact key q (fZ q hq) (c10 q (Or.inl hq))
    · exact hX q hq
    · exact key q (fH q hq) (c10 q (Or.inr (Or.inr hq)))
  · obtain ⟨t1, t2, t3, t4⟩ := c11
    exact ⟨fun i hi => by rw [sx.2.2.2.1]; exact t1 i hi, by rw [sx.2.1]; exact t2, by rw [sx.2.1]; exact t3, fun i hi => by rw [sx.2.2.2.1]; exact t4 i hi⟩
theorem CRq.x2 (h : CRq g xa oa Z Ya Yh na ta cv la lh ra rh M S) {r : Nat} {m : MN} (hm : NightAt S r xa m) (hr : ¬ Z r ∧ ¬ Ya r ∧ ¬ Yh r ∧ r ≠ ta ∧ r ≠ oa) : CRq g xa oa Z Ya Yh r ta cv la lh ra rh (sV M m) (xSetR S xa 2 (some r)) := by
  obtain ⟨c1, c2, ⟨c31, c32, c33, c34, c35⟩, c4, c5, c6, c7, c8, ⟨d1, d2, d3, d4, d5, d6, d7⟩, c10, c11⟩ := h
  have hfr : ∀ q, q ≠ xa → tSame S (xSetR S xa 2 (some r)) q := fun q h2 => ⟨rfl, rfl, funext fun j => if_neg (fun z => h2 z.1), rfl, rfl, rfl⟩
  have fZ : yFr Z S (xSetR S xa 2 (some r)) := fun q hq => hfr q (d1 q hq).2.2.1
  have fA : yFr Ya S (xSetR S xa 2 (some r)) := fun q hq => hfr q (d2 q hq).2.1
  have fH : yFr Yh S (xSetR S xa 2 (some r)) := fun q hq => hfr q (d3 q hq).1
  have hw : xWF (xSetR S xa 2 (some r)) := c2.2.2.2.1
  obtain ⟨e1, e2, e3, e4, e5, e6⟩ := hfr r hm.1.2.2.1
  obtain ⟨g1, g2, g3, g4, g5, g6⟩ := hfr ta c2.2.2.1
  have hR : ∀ j, j ≠ 2 → xR (xSetR S xa 2 (some r)) xa j = xR S xa j := fun j hj => if_neg (fun z => hj z.2)
  refine ⟨hm.keep hw rfl e1 e3 e2 e4, c2.keep hw rfl g1 g3, ⟨(hR 1 (by decide)).trans c31, if_pos ⟨rfl, rfl⟩, (hR 3 (by decide)).trans c33, (hR 8 (by decide)).trans c34, (hR 9 (by decide)).trans c35⟩, c4.fr fZ.g, ⟨c5.1.fr fA.g, c5.2.keep hw rfl fZ⟩, ⟨c6.1.fr fH.g, c6.2.keep fZ⟩, c7.keep hw rfl (fun j hj => hR j (by omega)) fZ, c8, ⟨fun q hq => ⟨(d1 q hq).1, (d1 q hq).2.1, (d1 q hq).2.2.1, fun z => hr.1 (z ▸ hq), (d1 q hq).2.2.2.2⟩, fun q hq => ⟨(d2 q hq).1, (d2 q hq).2.1, fun z => hr.2.1 (z ▸ hq), (d2 q hq).2.2.2⟩, fun q hq => ⟨(d3 q hq).1, fun z => hr.2.2.1 (z ▸ hq), (d3 q hq).2.2⟩, d4, fun z => hr.2.2.2.2 z.symm, d6, hr.2.2.2.1⟩, fun q hq => ?_, c11⟩
  have he := c10 q hq
  rw [x_cell_some] at he ⊢
  exact he
end SF
