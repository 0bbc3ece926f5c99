/-! plain law: new cells and the state; forget -/
section SE
variable {g : XC} {N xa oa : Nat} {Z Ya Yh : Nat → Prop} {na ta cv la lh : Nat} {ra rh : List Nat} {M : MT} {S S1 : XS}
/-- new cells alone change nothing -/
theorem CRq.ext (h : CRq g xa oa Z Ya Yh na ta cv la lh ra rh M S) (hW : WFr S) (hE : XE (fun _ => False) S S1) : CRq g xa oa Z Ya Yh na ta cv la lh ra rh M S1 := by
  have hs : ∀ q, q < xTop S → tSame S S1 q := fun q hq => hE.2.2.2.2.2 q hq (fun z => z)
  have hxa : xa < xTop S := hW.2 xa _ h.2.1.1.cell
  have sx := hs xa hxa
  refine h.keep (n := xTop S) hW.2 ⟨hE.1.1, fun q hq => ?_, fun j _ => by rw [sx.2.1], fun j _ => by rw [sx.2.2.2.1], fun hf => ?_⟩
  · obtain ⟨t1, t2, t3, t4, t5, t6⟩ := hs q hq
    exact ⟨t1, t3, t5, fun _ => t6, fun _ _ => ⟨t2, t4⟩⟩
  · obtain ⟨f, hf⟩ := hf
    obtain ⟨t1, t2, t3, t4, t5, t6⟩ := hs oa (hW.2 oa _ (g_cell hf))
    exact ⟨f, t1.trans hf.1, t6.trans hf.2⟩
/-- another list of what was heard -/
theorem CRq.x9 (h : CRq g xa oa Z Ya Yh na ta cv la lh ra rh M S) {Yh1 : Nat → Prop} {lh1 : Nat} {rh1 : List Nat} {hs : List HT} (hL : ListAt g Yh1 S lh1 rh1) (hT : TripsAt Z S rh1 hs) (hY : ∀ q, Yh1 q → ¬ Z q ∧ ¬ Ya q ∧ q ≠ xa ∧ q ≠ na ∧ q ≠ ta ∧ q ≠ oa ∧ ∃ e, x_cell S q = some e) : CRq g xa oa Z Ya Yh1 na ta cv la lh1 ra rh1 (sH M hs) (xSetR S xa 9 (some lh1)) := by
  obtain ⟨c1, c2, ⟨c31, c32, c33, c34, c35⟩, c4, c5, c6, c7, c8, ⟨d1, d2, d3, d4, d5, d6, d7⟩, c10, c11⟩ := h
  have hfr : ∀ q, q ≠ xa → tSame S (xSetR S xa 9 (some lh1)) q := fun q h2 => ⟨rfl, rfl, funext fun j => if_neg (fun z => h2 z.1), rfl, rfl, rfl⟩
  have fZ : yFr Z S (xSetR S xa 9 (some lh1)) := fun q hq => hfr q (d1 q hq).2.2.1
  have fA : yFr Ya S (xSetR S xa 9 (some lh1)) := fun q hq => hfr q (d2 q hq).2.1
  have fH : yFr Yh1 S (xSetR S xa 9 (some lh1)) := fun q hq => hfr q (hY q hq).2.2.1
  have hw : xWF (xSetR S xa 9 (some lh1)) := c2.2.2.2.1
  obtain ⟨e1, e2, e3, e4, e5, e6⟩ := hfr na c1.1.2.2.1
  obtain ⟨g1, g2, g3, g4, g5, g6⟩ := hfr ta c2.2.2.1
  have hR : ∀ j, j ≠ 9 → xR (xSetR S xa 9 (some lh1)) xa j = xR S xa j := fun j hj => if_neg (fun z => hj z.2)
  refine ⟨c1.keep hw rfl e1 e3 e2 e4, c2.keep hw rfl g1 g3, ⟨(hR 1 (by decide)).trans c31, (hR 2 (by decide)).trans c32, (hR 3 (by decide)).trans c33, (hR 8 (by decide)).trans c34, if_pos ⟨rfl, rfl⟩⟩, c4.fr fZ.g, ⟨c5.1.fr fA.g, c5.2.keep hw rfl fZ⟩, ⟨hL.fr fH.g, hT.keep fZ⟩, c7.keep hw rfl (fun j hj => hR j (by omega)) fZ, c8, ⟨fun q hq => ⟨(d1 q hq).1, fun z => (hY q z).1 hq, (d1 q hq).2.2⟩, fun q hq => ⟨fun z => (hY q z).2.1 hq, (d2 q hq).2⟩, fun q hq => ⟨(hY q hq).2.2.1, (hY q hq).2.2.2.1, (hY q hq).2.2.2.2.1, (hY q hq).2.2.2.2.2.1⟩, d4, d5, d6, d7⟩, fun q hq => ?_, c11⟩
  have he : ∃ e, x_cell S q = some e := by
    rcases hq with hq | hq | hq
    · exact c10 q (Or.inl hq)
    · exact c10 q (Or.inr (Or.inl hq))
    · exact (hY q hq).2.2.2.2.2.2
  rw [x_cell_some] at he ⊢
  exact he
end SE
theorem RRel.forget {N : Nat} {M : MT} {σ : MS} (h : RRel N M σ) (h9 : (tC M).1 ≤ 9) : RRel N (sH M []) (m_put σ 49 0) := by
  obtain ⟨a1, a2, a3, a4, a5, a6, a7, a8, a9, a10⟩ := h
  have hp : ∀ j, j ≠ 49 → (m_put σ 49 0).1 j = σ.1 j := fun j hj => mp_n _ _ _ hj
  refine ⟨?_, a2, ?_, ⟨mp_s _ _ _, fun i x hx => by
    have hx : ([] : List HT)[i]? = some x := hx
    rw [List.getElem?_nil] at hx
    cases hx⟩, ?_, (hp 40 (by decide)).trans a6, (hp 7 (by decide)).trans a7, a8, (hp 9 (by decide)).trans a9, a10⟩
  · unfold RC at a1 ⊢
    rw [hp 1 (by decide), hp 2 (by decide), hp 3 (by decide)]
    exact a1
  · rw [hp 33 (by decide)]
    exact a3
  · unfold RImg at a5 ⊢
    rw [hp 54 (by decide), hp 55 (by decide), hp 56 (by decide)]
    exact a5
theorem op_forget {g : XC} {N xa oa i : Nat} (hN : 2 ^ 20 < N) : St_forget (yRel g N xa oa i) (yRel g N xa oa (i + 6)) g N xa oa := by
  rintro n sl τ σ ⟨M, Z, Ya, Yh, na, ta, cv, la, lh, ra, rh, hB⟩
  have hB : yBody g N xa oa i n Z Ya Yh na ta cv la lh ra rh M τ σ := hB
  generalize hcc : n + 14000 = cc
  generalize hkk : sl + 97000 = kk
  obtain ⟨-, -, hQ, -, -⟩ := y_open hB sl cc kk (by omega) (by omega)
  have hM := hB.2.2.2.2
  have hG := hB.2.2.1
  have hW := wf_of hB hQ
  have hx := hQ.2.1.1
  obtain ⟨S1, k1, k2, k3, k4, k5⟩ := l_new (g := jg g cc kk) (N := N) hW ⟨hG.1, hG.2.1⟩
  have h1 := hQ.ext hW k2
  obtain ⟨mc, ba, k6, -⟩ := k5.2
  have hlt : ∀ q e, x_cell ((n, sl, cc, kk), τ) q = some e → q ≠ xTop ((n, sl, cc, kk), τ) := fun q e he => Nat.ne_of_lt (hW.2 q e he)
  have h2 := h1.x9 (hs := []) k5.l ⟨rfl, fun i r x hr hx => by simp at hr⟩ (fun q hq => by
    rw [hq]
    obtain ⟨-, -, -, -, -, -, -, c8, c9, c10, -⟩ := hQ
    refine ⟨fun z => ?_, fun z => ?_, fun z => ?_, fun z => ?_, fun z => ?_, fun z => ?_, ⟨_, g_cell k6.2⟩⟩
    · obtain ⟨e, he⟩ := c10 _ (Or.inl z)
      exact hlt _ e he rfl
    · obtain ⟨e, he⟩ := c10 _ (Or.inr (Or.inl z))
      exact hlt _ e he rfl
    · exact hlt _ _ hx.cell z.symm
    · exact hlt _ _ hB.1.1.1.2.1.cell z.symm
    · exact hlt _ _ hB.1.2.1.2.1.cell z.symm
    · obtain ⟨f, hf⟩ := c8
      exact hlt _ _ (g_cell hf) z.symm)
  have hR0 : RRel N M (m_put σ 0 0) := hB.2.2.2.1.fr hM.1 (RFr.p0 σ 0)
  refine ⟨(), xSetR S1 xa 9 (some (xTop ((n, sl, cc, kk), τ))), m_put (m_put σ 0 0) 49 0, f_cls_T hx, ?_, rfl, fun n1 hn hfr => ?_⟩
  · unfold kX_X1_forget
    refine ob1 (x_newS (S := ((n, sl, cc, kk), τ)) (n := 3) (e := ELn) (by show n + 1 ≤ cc; omega) (by show sl + 3 ≤ kk; omega)) (ob1 k1 (ob1 (f_putR_T h1.2.1.1 (by decide) (by decide)) rfl))
  · refine y_end h2 hfr (hG.le hn) (hR0.forget hM.1) ?_
    obtain ⟨b1, b2, b3, b4, b5, b6⟩ := hM.le (T1 := yT (i + 6)) (by unfold yT; omega)
    exact ⟨b1, b2, b3, b4, ⟨by simp [sH, tH], fun x hx => by simp [sH, tH] at hx⟩, b6⟩
