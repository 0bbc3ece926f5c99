/-! plain law: what the component keeps -/
theorem x_cell_some {S : XS} {q : Nat} : (∃ e, x_cell S q = some e) ↔ ((xOwn S q).1 = 0 → ∃ e, xG S q = some e) := by
  unfold x_cell
  by_cases h : (xOwn S q).1 = 0
  · rw [if_pos h]
    exact ⟨fun z _ => z, fun z => z h⟩
  · rw [if_neg h]
    refine ⟨fun _ z => absurd z h, fun _ => ?_⟩
    by_cases h2 : (xOwn S q).1 < 10
    · rw [if_pos h2]; exact ⟨_, rfl⟩
    · rw [if_neg h2]; exact ⟨_, rfl⟩
theorem genAt.lt {S : XS} {n q : Nat} {e : GE} (h : genAt S q e) (hf : ∀ q e, x_cell S q = some e → q < n) : q < n := hf q e (g_cell h)
theorem tyA.lt {S : XS} {n c a : Nat} (h : tyA S c a) (hf : ∀ q e, x_cell S q = some e → q < n) : a < n := hf a _ h.cell
/-- all but the tried night, the six values, the seed, the out array is as it was, below n -/
def KS (xa ta oa n : Nat) (S S1 : XS) : Prop := xWF S1 ∧ (∀ q, q < n → xOwn S1 q = xOwn S q ∧ xR S1 q = xR S q ∧ xRa S1 q = xRa S q ∧ (q ≠ oa → xG S1 q = xG S q) ∧ (q ≠ ta → q ≠ xa → xI S1 q = xI S q ∧ xA S1 q = xA S q)) ∧ (∀ j, j ≠ 13 → xI S1 xa j = xI S xa j) ∧ (∀ j, j ≠ 0 → xA S1 xa j = xA S xa j) ∧ ((∃ f, genAt S oa (.inl (2, 1, .inr (.inl f)))) → ∃ f, genAt S1 oa (.inl (2, 1, .inr (.inl f))))
theorem KS.refl {xa ta oa n : Nat} {S : XS} (h : xWF S) : KS xa ta oa n S S := ⟨h, fun _ _ => ⟨rfl, rfl, rfl, fun _ => rfl, fun _ _ => ⟨rfl, rfl⟩⟩, fun _ _ => rfl, fun _ _ => rfl, fun h => h⟩
theorem KS.trans {xa ta oa n : Nat} {S S1 S2 : XS} (h : KS xa ta oa n S S1) (h2 : KS xa ta oa n S1 S2) : KS xa ta oa n S S2 := by
  obtain ⟨-, a2, a3, a4, a5⟩ := h
  obtain ⟨b1, b2, b3, b4, b5⟩ := h2
  refine ⟨b1, fun q hq => ?_, fun j hj => (b3 j hj).trans (a3 j hj), fun j hj => (b4 j hj).trans (a4 j hj), fun z => b5 (a5 z)⟩
  obtain ⟨c1, c2, c3, c4, c5⟩ := a2 q hq
  obtain ⟨d1, d2, d3, d4, d5⟩ := b2 q hq
  exact ⟨d1.trans c1, d2.trans c2, d3.trans c3, fun z => (d4 z).trans (c4 z), fun z1 z2 => ⟨(d5 z1 z2).1.trans (c5 z1 z2).1, (d5 z1 z2).2.trans (c5 z1 z2).2⟩⟩
theorem KS.nset {xa ta oa n : Nat} {S S1 : XS} (h : KS xa ta oa n S S1) (hx : xa ≠ ta) (m : MN) (w : Nat → Int32) : KS xa ta oa n S (nset S1 ta xa m w) := by
  obtain ⟨a1, a2, a3, a4, a5⟩ := h
  refine ⟨a1, fun q hq => ?_, fun j hj => ?_, fun j hj => ?_, a5⟩
  · obtain ⟨c1, c2, c3, c4, c5⟩ := a2 q hq
    refine ⟨c1, c2, c3, c4, fun z1 z2 => ⟨?_, ?_⟩⟩
    · rw [← (c5 z1 z2).1]
      funext j
      exact if_neg z1
    · rw [← (c5 z1 z2).2]
      funext j
      exact (if_neg z1).trans (if_neg (fun z => z2 z.1))
  · rw [← a3 j hj]
    exact if_neg hx
  · rw [← a4 j hj]
    exact (if_neg hx).trans (if_neg (fun z => hj z.2))
/-- a value for the law -/
def oaSet (S : XS) (oa : Nat) (f : Nat → Int64) : XS := xSetG S oa (.inl (2, 1, .inr (.inl f)))
theorem KS.oa {xa ta oa n : Nat} {S S1 : XS} (h : KS xa ta oa n S S1) (ho : xOwn S1 oa = (0, 0, 0)) (f : Nat → Int64) : KS xa ta oa n S (oaSet S1 oa f) := by
  obtain ⟨a1, a2, a3, a4, a5⟩ := h
  refine ⟨a1, fun q hq => ?_, a3, a4, fun _ => ⟨f, ho, if_pos rfl⟩⟩
  obtain ⟨c1, c2, c3, c4, c5⟩ := a2 q hq
  exact ⟨c1, c2, c3, fun z => (if_neg z).trans (c4 z), c5⟩
theorem x_putJ {S : XS} {oa : Nat} {f : Nat → Int64} (h : genAt S oa (.inl (2, 1, .inr (.inl f)))) (v : Int64) : a_putJ S oa 0 v = some (oaSet S oa (vp_updL f 0 v)) := by
  unfold a_putJ
  rw [g_cell h]
  exact if_pos ⟨by rw [h.1], by decide⟩
theorem x_oaGet {S : XS} {oa : Nat} (h : xOwn S oa = (0, 0, 0)) (f : Nat → Int64) (v : Int64) : a_long (oaSet S oa (vp_updL f 0 v)) oa 0 = some v := by
  have hg : genAt (oaSet S oa (vp_updL f 0 v)) oa (.inl (2, 1, .inr (.inl (vp_updL f 0 v)))) := ⟨h, if_pos rfl⟩
  unfold a_long
  rw [g_cell hg]
  show (if ¬ ((0 : Int32) < 0 ∨ 1 ≤ (0 : Int32).toNatClampNeg) then some (vp_updL f 0 v (0 : Int32).toNatClampNeg) else none) = some v
  rw [if_pos (by decide)]
  rfl
theorem NC.keep {S S1 : XS} {a xa : Nat} (h : NC S a xa) (hw : xWF S1) (h1 : xOwn S1 xa = xOwn S xa) (h2 : xOwn S1 a = xOwn S a) (h3 : xR S1 a = xR S a) : NC S1 a xa := by
  obtain ⟨⟨b1, b2⟩, ⟨b3, b4⟩, b5, b6, b7⟩ := h
  exact ⟨⟨h1.trans b1, b2⟩, ⟨h2.trans b3, b4⟩, b5, hw, by rw [h3]; exact b7⟩
theorem NightAt.keep {S S1 : XS} {a xa : Nat} {m : MN} (h : NightAt S a xa m) (hw : xWF S1) (h1 : xOwn S1 xa = xOwn S xa) (h2 : xOwn S1 a = xOwn S a) (h3 : xR S1 a = xR S a) (h4 : xI S1 a = xI S a) (h5 : xA S1 a = xA S a) : NightAt S1 a xa m := ⟨h.1.keep hw h1 h2 h3, h4.trans h.2.1, fun j i => by rw [h5]; exact h.2.2 j i⟩
theorem NightsAt.keep {Z : Nat → Prop} {S S1 : XS} {xa : Nat} {rs : List Nat} {ms : List MN} (h : NightsAt Z S xa rs ms) (hw : xWF S1) (h1 : xOwn S1 xa = xOwn S xa) (hf : yFr Z S S1) : NightsAt Z S1 xa rs ms := by
  refine ⟨h.1, fun i r m hr hm => ?_⟩
  obtain ⟨h2, h3⟩ := h.2 i r m hr hm
  obtain ⟨f1, f2, f3, f4, f5, f6⟩ := hf r h2
  exact ⟨h2, h3.keep hw h1 f1 f3 f2 f4⟩
theorem TripsAt.keep {Z : Nat → Prop} {S S1 : XS} {rs : List Nat} {hs : List HT} (h : TripsAt Z S rs hs) (hf : yFr Z S S1) : TripsAt Z S1 rs hs := by
  refine ⟨h.1, fun i r x hr hx => ?_⟩
  obtain ⟨f, h2, h3⟩ := h.2 i r x hr hx
  exact ⟨f, h2.fr hf.g, h3⟩
theorem ImgAt.keep {g : XC} {Z : Nat → Prop} {S S1 : XS} {xa : Nat} {I : MI} (h : ImgAt g Z S xa I) (hw : xWF S1) (h1 : xOwn S1 xa = xOwn S xa) (h2 : ∀ j, j = 10 ∨ j = 11 ∨ j = 12 → xR S1 xa j = xR S xa j) (hf : yFr Z S S1) : ImgAt g Z S1 xa I := by
  match I with
  | none => exact (h2 10 (by omega)).trans h
  | some (m, as, hs) =>
    obtain ⟨r, l1, l2, r1, r2, a1, a2, a3, a4, a5, a6, a7, a8, a9⟩ := h
    obtain ⟨f1, f2, f3, f4, f5, f6⟩ := hf r a2
    exact ⟨r, l1, l2, r1, r2, (h2 10 (by omega)).trans a1, a2, a3.keep hw h1 f1 f3 f2 f4, (h2 11 (by omega)).trans a4, a5.fr hf.g, a6.keep hw h1 hf, (h2 12 (by omega)).trans a7, a8.fr hf.g, a9.keep hf⟩
section CK
variable {g : XC} {xa oa n : Nat} {Z Ya Yh : Nat → Prop} {na ta cv la lh : Nat} {ra rh : List Nat} {M : MT} {S S1 : XS}
/-- what an operation leaves that only tries -/
theorem CRq.keep (h : CRq g xa oa Z Ya Yh na ta cv la lh ra rh M S) (hfr : ∀ q e, x_cell S q = some e → q < n) (hk : KS xa ta oa n S S1) : CRq g xa oa Z Ya Yh na ta cv la lh ra rh M S1 := by
  obtain ⟨c1, c2, ⟨c31, c32, c33, c34, c35⟩, c4, c5, c6, c7, c8, c9, c10, c11⟩ := h
  obtain ⟨k1, k2, k3, k4, k5⟩ := hk
  have c9' := c9
  obtain ⟨d1, d2, d3, d4, d5, d6, d7⟩ := c9
  have hlt : ∀ q, Z q ∨ Ya q ∨ Yh q → q < n := fun q hq => by
    obtain ⟨e, he⟩ := c10 q hq
    exact hfr q e he
  have hxa : xa < n := c2.1.lt hfr
  have hna : na < n := c1.1.2.1.lt hfr
  have hta : ta < n := c2.2.1.lt hfr
  have hxR : xR S1 xa = xR S xa := (k2 xa hxa).2.1
  have hxO : xOwn S1 xa = xOwn S xa := (k2 xa hxa).1
  have hfrm : ∀ q, q < n → q ≠ ta → q ≠ xa → q ≠ oa → xOwn S1 q = xOwn S q ∧ xI S1 q = xI S q ∧ xR S1 q = xR S q ∧ xA S1 q = xA S q ∧ xRa S1 q = xRa S q ∧ xG S1 q = xG S q := fun q hq z1 z2 z3 => by
    obtain ⟨b1, b2, b3, b4, b5⟩ := k2 q hq
    exact ⟨b1, (b5 z1 z2).1, b2, (b5 z1 z2).2, b3, b4 z3⟩
  have fZ : yFr Z S S1 := fun q hq => hfrm q (hlt q (Or.inl hq)) (d1 q hq).2.2.2.2.1 (d1 q hq).2.2.1 (d1 q hq).2.2.2.2.2
  have fA : yFr Ya S S1 := fun q hq => hfrm q (hlt q (Or.inr (Or.inl hq))) (d2 q hq).2.2.2.1 (d2 q hq).2.1 (d2 q hq).2.2.2.2
  have fH : yFr Yh S S1 := fun q hq => hfrm q (hlt q (Or.inr (Or.inr hq))) (d3 q hq).2.2.1 (d3 q hq).1 (d3 q hq).2.2.2
  obtain ⟨n1, n2, n3, n4, n5, n6⟩ := hfrm na hna d7 c1.1.2.2.1 (fun z => d5 z.symm)
  refine ⟨c1.keep k1 hxO n1 n3 n2 n4, c2.keep k1 hxO (k2 ta hta).1 (k2 ta hta).2.1, ⟨by rw [hxR]; exact c31, by rw [hxR]; exact c32, by rw [hxR]; exact c33, by rw [hxR]; exact c34, by rw [hxR]; exact c35⟩, c4.fr fZ.g, ⟨c5.1.fr fA.g, c5.2.keep k1 hxO fZ⟩, ⟨c6.1.fr fH.g, c6.2.keep fZ⟩, c7.keep k1 hxO (fun j _ => by rw [hxR]) fZ, k5 c8, c9', fun q hq => ?_, ?_⟩
  · have hq1 := c10 q hq
    rw [x_cell_some] at hq1 ⊢
    have hqn := hlt q hq
    rcases hq with hq | hq | hq
    · obtain ⟨f1, f2, f3, f4, f5, f6⟩ := fZ q hq
      rw [f1, f6]; exact hq1
    · obtain ⟨f1, f2, f3, f4, f5, f6⟩ := fA q hq
      rw [f1, f6]; exact hq1
    · obtain ⟨f1, f2, f3, f4, f5, f6⟩ := fH q hq
      rw [f1, f6]; exact hq1
  · obtain ⟨t1, t2, t3, t4⟩ := c11
    exact ⟨fun i hi => by rw [k4 4 (by decide)]; exact t1 i hi, (k3 5 (by decide)).trans t2, (k3 6 (by decide)).trans t3, fun i hi => by rw [k4 7 (by decide)]; exact t4 i hi⟩
end CK
/-! g's caps don't matter -/
theorem ListAt.g {g g1 : XC} {Z : Nat → Prop} {S : XS} {l : Nat} {rs : List Nat} (hg : g1.2.2.2 = g.2.2.2) (h : ListAt g Z S l rs) : ListAt g1 Z S l rs := by
  have e : gSp g1 = gSp g := by unfold gSp; rw [hg]
  unfold ListAt at h ⊢
  rw [e]
  exact h
theorem FormAt.g {g g1 : XC} {Z : Nat → Prop} {S : XS} (hg : g1.2.2.2 = g.2.2.2) : ∀ (d f : Nat) (φ : VF), FormAt g Z d S f φ → FormAt g1 Z d S f φ := by
  intro d
  induction d with
  | zero => intro f φ h; exact h
  | succ d ih =>
    intro f φ h
    rcases h with h | h | ⟨h, ψ, h1, h2, h3⟩ | ⟨ls, sb, f0, ψ0, l, h1, h2, h3, h4, h5, h6⟩
    · exact Or.inl h
    · exact Or.inr (Or.inl h)
    · exact Or.inr (Or.inr (Or.inl ⟨h, ψ, h1, ih _ _ h2, h3⟩))
    · exact Or.inr (Or.inr (Or.inr ⟨ls, sb, f0, ψ0, l, h1, h2.g hg, h3, ih _ _ h4, fun x hx => ih _ _ (h5 x hx), h6⟩))
theorem fOk.g {g g1 : XC} {Z : Nat → Prop} {S : XS} {φ : Option VF} {f : Option Nat} (hg : g1.2.2.2 = g.2.2.2) (h : fOk g Z S φ f) : fOk g1 Z S φ f := by
  cases φ with
  | none => exact h
  | some ψ => obtain ⟨r, h1, h2⟩ := h; exact ⟨r, h1, FormAt.g hg _ _ _ h2⟩
theorem CaveAt.g {g g1 : XC} {Z : Nat → Prop} {S : XS} {cv : Nat} {C : CC} (hg : g1.2.2.2 = g.2.2.2) (h : CaveAt g Z S cv C) : CaveAt g1 Z S cv C := by
  obtain ⟨h0, h1, ls, f1, f2, rs, h2, h3, h4, h5, h6, h7⟩ := h
  have e : gIv g1 = gIv g := by unfold gIv; rw [hg]
  exact ⟨h0, h1, ls, f1, f2, rs, h2, h3.g hg, h4, by rw [e]; exact h5, h6.g hg, h7.g hg⟩
theorem ImgAt.g {g g1 : XC} {Z : Nat → Prop} {S : XS} {xa : Nat} {I : MI} (hg : g1.2.2.2 = g.2.2.2) (h : ImgAt g Z S xa I) : ImgAt g1 Z S xa I := by
  match I with
  | none => exact h
  | some (m, as, hs) =>
    obtain ⟨r, l1, l2, r1, r2, a1, a2, a3, a4, a5, a6, a7, a8, a9⟩ := h
    exact ⟨r, l1, l2, r1, r2, a1, a2, a3, a4, a5.g hg, a6, a7, a8.g hg, a9⟩
theorem CRq.g {g g1 : XC} {xa oa : Nat} {Z Ya Yh : Nat → Prop} {na ta cv la lh : Nat} {ra rh : List Nat} {M : MT} {S : XS} (hg : g1.2.2.2 = g.2.2.2) (h : CRq g xa oa Z Ya Yh na ta cv la lh ra rh M S) : CRq g1 xa oa Z Ya Yh na ta cv la lh ra rh M S := by
  obtain ⟨c1, c2, c3, c4, c5, c6, c7, c8⟩ := h
  exact ⟨c1, c2, c3, c4.g hg, ⟨c5.1.g hg, c5.2⟩, ⟨c6.1.g hg, c6.2⟩, c7.g hg, c8⟩
/-- only the tables matter -/
theorem CRq.tab {g : XC} {xa oa : Nat} {Z Ya Yh : Nat → Prop} {na ta cv la lh : Nat} {ra rh : List Nat} {M : MT} {S S1 : XS} (h : CRq g xa oa Z Ya Yh na ta cv la lh ra rh M S) (hS : S1.2 = S.2) (n : Nat) (hfr : ∀ q e, x_cell S q = some e → q < n) : CRq g xa oa Z Ya Yh na ta cv la lh ra rh M S1 := by
  refine h.keep hfr ⟨?_, fun q _ => ?_, fun j _ => ?_, fun j _ => ?_, ?_⟩
  · have := h.2.1.2.2.2.1
    unfold xWF xOwn xRa at this ⊢
    rw [hS]; exact this
  · unfold xOwn xR xRa xG xI xA
    rw [hS]
    exact ⟨rfl, rfl, rfl, fun _ => rfl, fun _ _ => ⟨rfl, rfl⟩⟩
  · unfold xI; rw [hS]
  · unfold xA; rw [hS]
  · unfold genAt xOwn xG
    rw [hS]
    exact fun h => h
