/-! the cave: the component's loops -/
section YC30
variable {g : XC} {N sz r xa B0 k K Ks D : Nat} {b : Nat → Nat} {S S0 S1 S2 : XS} {t t0 t1 : TK} {a c : Nat} {E : XS → Nat → Int32 → Option ((XS × Nat) ⊕ XT)} {rec : TK → PR (VF × TK)}
/-- a chain under way, from the state S0 at the token t0 -/
def XCh (g : XC) (r xa sz B0 : Nat) (b : Nat → Nat) (S0 : XS) (t0 : TK) (c K Ks D : Nat) (S : XS) (t : TK) (φ : VF) : Prop := XZ g r xa sz B0 b S t ∧ XFb r (xTop S0) S0 S ∧ B0 ≤ xTop S0 ∧ ∃ T m Tl Tb, T ≤ xTop S ∧ ChI g (xTop S0) T c D S φ m Tl Tb ∧ m + t0.2.1 ≤ t.2.1 ∧ xTop S + 13 * t0.2.1 ≤ xTop S0 + (K + 5) + 13 * t.2.1 ∧ xSl S + 16 * m + 88 * t0.2.1 ≤ xSl S0 + 9 + Tl + Tb + Ks + 88 * t.2.1
theorem XCh.fin {φ : VF} (h : XCh g r xa sz B0 b S0 t0 c K Ks D S t φ) (N : Nat) : ∃ f, kX_X7_plain g N S c = some (S, f) ∧ XOk g r xa sz B0 b S0 t0 (K + 5) (Ks + 35) (D + 1) (some (.inl (S, f))) (φ, t) := by
  obtain ⟨h1, h2, h3, T, m, Tl, Tb, h4, h5, h6, h7, h8⟩ := h
  obtain ⟨f, k1, k2⟩ := h5.plain (N := N)
  have ht : Tl + Tb ≤ 26 + 16 * m := by
    obtain ⟨f0, ψ0, l, ls, sb, Yl, Ys, Zf, cl, cb, -, -, -, -, -, -, -, -, -, -, -, z1, z2, z3, z4, z5⟩ := h5
    omega
  refine ⟨f, k1, S, f, rfl, h1, h2, FormAt.mono (fun q hq => ⟨hq.1, by omega⟩) _ _ _ k2, h7, ?_⟩
  show xSl S + 88 * t0.2.1 ≤ xSl S0 + (Ks + 35) + 88 * t.2.1
  omega
theorem XCh.done {φ : VF} (h : XCh g r xa sz B0 b S0 t0 c K Ks D S t φ) {res : Option ((XS × Nat) ⊕ XT)} (hres : res = (kX_X7_plain g N S c).bind fun w => some (.inl (w.1, w.2))) : XOk g r xa sz B0 b S0 t0 (K + 5) (Ks + 35) (D + 1) res (φ, t) := by
  obtain ⟨f, k1, k2⟩ := h.fin N
  exact k2.eq (hres.trans (ob1 k1 rfl))
/-- room for the item behind a sign -/
theorem XCh.room {φ : VF} (h : XCh g r xa sz B0 b S0 t0 c K Ks D S t φ) (hr : XRo sz S0 t0 (K + 5) (Ks + 35) k) (hf : XFb r (xTop S) S S1) (ht : xTop S1 = xTop S) (hs : xSl S1 = xSl S) {ol : Nat} (h1 : t.2.1 + ol ≤ t1.2.1) (hK : K + 2 ≤ 13 * ol) (hKs : Ks + 16 ≤ 88 * ol) : XRo sz S1 t1 K Ks k := by
  obtain ⟨a1, a2, a3, T, m, Tl, Tb, h4, h5, h6, h7, h8⟩ := h
  have htt : Tl + Tb ≤ 26 + 16 * m := by
    obtain ⟨f0, ψ0, l, ls, sb, Yl, Ys, Zf, cl, cb, -, -, -, -, -, -, -, -, -, -, -, z1, z2, z3, z4, z5⟩ := h5
    omega
  have c1 := a2.1.2.2.2.1
  have c2 := a2.1.2.2.2.2.1
  have c3 := hf.1.2.2.2.1
  have c4 := hf.1.2.2.2.2.1
  obtain ⟨r1, r2⟩ := hr
  exact ⟨by omega, by omega⟩
/-- a sign and an item more -/
theorem XCh.step {φ : VF} {ch ol : Nat} {y : VF × TK} {f : Nat} (h : XCh g r xa sz B0 b S0 t0 c K Ks D S t φ) (hr : XRo sz S0 t0 (K + 5) (Ks + 35) k) (hf : XFb r (xTop S) S S1) (htp : xTop S1 = xTop S) (hsl : xSl S1 = xSl S) (h1 : t.2.1 + ol ≤ t1.2.1) (hK : K + 2 ≤ 13 * ol) (hKs : Ks + 16 ≤ 88 * ol) (hol : 1 ≤ ol) (hc : ch ∈ [38, 42, 43, 45, 47, 60, 61, 124])
    (b2 : XZ g r xa sz B0 b S2 y.2) (b3 : XFb r (xTop S1) S1 S2) (b4 : FormAt g (fun q => xTop S1 ≤ q ∧ q < xTop S2) D S2 f y.1) (b5 : xTop S2 + 13 * t1.2.1 ≤ xTop S1 + K + 13 * y.2.2.1) (b6 : xSl S2 + 88 * t1.2.1 ≤ xSl S1 + Ks + 88 * y.2.2.1) (hadv : t1.2.1 ≤ y.2.2.1) :
    f_cls S2 5 c = some () ∧ ∃ S3, kX_X7_add g N S2 c (nI ch) f = some S3 ∧ XCh g r xa sz B0 b S0 t0 c K Ks D S3 y.2 (fun w => yBy ch (φ w) (y.1 w)) := by
  obtain ⟨a1, a2, a3, T, m, Tl, Tb, h4, h5, h6, h7, h8⟩ := h
  have htt : Tl + Tb ≤ 26 + 16 * m := by
    obtain ⟨f0, ψ0, l, ls, sb, Yl, Ys, Zf, cl, cb, -, -, -, -, -, -, -, -, -, -, -, z1, z2, z3, z4, z5⟩ := h5
    omega
  obtain ⟨hrB, hxB, hBt, hg1, hg2⟩ := a1.2.2.2.2.2.1
  have c1 := a2.1.2.2.2.1
  have c2 := a2.1.2.2.2.2.1
  have hS : XFb r (xTop S) S S2 := hf.trans b3 (by omega)
  have c3 := hS.1.2.2.2.1
  have c4 := hS.1.2.2.2.2.1
  have hT2 : xTop S ≤ xTop S2 := hS.1.2.1
  obtain ⟨r1, r2⟩ := hr
  obtain ⟨y7, y1, y2, -⟩ := b2.bds
  have hI := h5.fr hS.1 h4 (fun q z1 z2 z3 => by rcases z3 with z3 | z3 <;> omega)
  obtain ⟨S3, Tl1, Tb1, k1, k2, k3, k4, k5⟩ := hI.add (N := N) (ch := ch) (f := f) (ψ := y.1) b2.2.1 (by omega) ⟨by omega, by omega⟩ hc (FormAt.mono (fun q hq => ⟨by omega, hq.2⟩) _ _ _ b4) (by omega) (by omega) (by omega)
  have hrt : r < xTop S2 := by omega
  have f3 : XFb r (xTop S0) S2 S3 := XFb.xe k2 (fun q z => z) (by omega) hrt
  have hv : xI S3 r = xI S2 r := (k2.2.2.2.2.2 r hrt (fun z => by omega)).2.1
  refine ⟨hI.cls, S3, k1, b2.same f3 a3 hv, (a2.trans hS (by have := a2.1.2.1; omega)).trans f3 (Nat.le_refl _), a3, xTop S3, m + 1, Tl1, Tb1, Nat.le_refl _, k3, by omega, by omega, by omega⟩
/-- a loop of items -/
theorem x_loop {op : TK → Option Nat} {item : TK → PR (VF × TK)} {I : XS → Option ((XS × Nat) ⊕ XT)} {L : Nat → XS → Option ((XS × Nat) ⊕ XT)} {ol : Nat} (hr : XRo sz S0 t0 (K + 5) (Ks + 35) k) (hK : K + 2 ≤ 13 * ol) (hKs : Ks + 16 ≤ 88 * ol) (hol : 1 ≤ ol)
    (hop : ∀ t ch, tkOk sz b t → op t = some ch → ch ∈ [38, 42, 43, 45, 47, 60, 61, 124] ∧ t.2.1 + ol ≤ (nxT sz b t).2.1)
    (h0 : ∀ f S t, XZ g r xa sz B0 b S t → f_cls S 5 c = some () → op t = none → L (f + 1) S = (kX_X7_plain g N S c).bind fun w => some (.inl (w.1, w.2)))
    (h1 : ∀ f S t ch, XZ g r xa sz B0 b S t → op t = some ch → ∃ S1, XZ g r xa sz B0 b S1 (nxT sz b t) ∧ XFb r (xTop S) S S1 ∧ xTop S1 = xTop S ∧ xSl S1 = xSl S ∧ L (f + 1) S = tbind (I S1) fun r5 => (f_cls r5.1 5 c).bind fun _ => (kX_X7_add g N r5.1 c (nI ch) r5.2).bind fun w7 => L f w7)
    (hi : ∀ S t, XZ g r xa sz B0 b S t → XRo sz S t K Ks k → XOut g r xa sz B0 b S t K Ks D (I S) (item t))
    (hadv : pAdv sz b item) : ∀ (n f : Nat) (S : XS) (t : TK) (φ : VF), sz < n + t.2.1 → n ≤ f → XCh g r xa sz B0 b S0 t0 c K Ks D S t φ → XOut g r xa sz B0 b S0 t0 (K + 5) (Ks + 35) (D + 1) (L f S) (pLoop sz b op item n (φ, t)) := by
  intro n
  induction n with
  | zero =>
    intro f S t φ hn hf h
    obtain ⟨-, h21, h22, -⟩ := h.1.bds
    omega
  | succ n ih =>
    intro f S t φ hn hf h
    obtain ⟨f, rfl⟩ : ∃ e, f = e + 1 := ⟨f - 1, by omega⟩
    have hk := h.1.2.2.2.2.1
    have hcls : f_cls S 5 c = some () := by
      obtain ⟨-, -, -, T, m, Tl, Tb, -, h5, -⟩ := h
      exact h5.cls
    cases ho : op t with
    | none =>
      have e : pLoop sz b op item (n + 1) (φ, t) = .inr (φ, t) := by
        unfold pLoop
        dsimp only
        rw [ho]
      rw [e]
      exact h.done (h0 f S t h.1 hcls ho)
    | some ch =>
      have e : pLoop sz b op item (n + 1) (φ, t) = pB (item (nxT sz b t)) fun y => pLoop sz b op item n ((fun w => yBy ch (φ w) (y.1 w)), y.2) := by
        rw [pLoop]
        dsimp only
        rw [ho]
      rw [e]
      obtain ⟨hc, hlen⟩ := hop t ch hk ho
      obtain ⟨S1, a1, a2, a3, a4, a5⟩ := h1 f S t ch h.1 ho
      have hro := h.room hr a2 a3 a4 hlen hK hKs
      have hit := hi S1 (nxT sz b t) a1 hro
      cases hv : item (nxT sz b t) with
      | inl e1 =>
        rw [hv] at hit
        have hit : XErr r S1 e1 (I S1) := hit
        exact ((hit.bind.pre a2).eq a5).pre h.2.1
      | inr y =>
        rw [hv] at hit
        obtain ⟨S2, f2, b1, b2, b3, b4, b5, b6⟩ := hit
        obtain ⟨-, hay⟩ := hadv _ y a1.2.2.2.2.1 hv
        obtain ⟨k1, S3, k2, k3⟩ := h.step (N := N) hr a2 a3 a4 hlen hK hKs hol hc b2 b3 b4 b5 b6 (by omega)
        have := ih f S3 y.2 _ (by omega) (by omega) k3
        rw [show L (f + 1) S = L f S3 from a5.trans (ot1 b1 (ob1 k1 (ob1 k2 rfl)))]
        exact this
/-- a chain begins -/
theorem x_begin {item : TK → PR (VF × TK)} {I : XS → Option ((XS × Nat) ⊕ XT)} {F : XS → Option ((XS × Nat) ⊕ XT)} (h : XZ g r xa sz B0 b S0 t0) (hr : XRo sz S0 t0 (K + 5) (Ks + 35) k)
    (hi : ∀ S t, XZ g r xa sz B0 b S t → XRo sz S t K Ks k → XOut g r xa sz B0 b S t K Ks D (I S) (item t)) (hadv : pAdv sz b item) :
    (∃ e, item t0 = .inl e ∧ XErr r S0 e ((xNew S0 2 (.inr (5, [.null, .null]))).bind fun S1 => (f_cls S1 4 r).bind fun _ => tbind (I S1) fun r4 => (kX_X7_init g N r4.1 (xTop S0) r4.2).bind fun w5 => F w5)) ∨
    ∃ x S3, item t0 = .inr x ∧ XCh g r xa sz B0 b S0 t0 (xTop S0) K Ks D S3 x.2 x.1 ∧ ((xNew S0 2 (.inr (5, [.null, .null]))).bind fun S1 => (f_cls S1 4 r).bind fun _ => tbind (I S1) fun r4 => (kX_X7_init g N r4.1 (xTop S0) r4.2).bind fun w5 => F w5) = F S3 := by
  obtain ⟨r1, r2⟩ := hr
  obtain ⟨hrB, hxB, hBt, hg1, hg2⟩ := h.2.2.2.2.2.1
  obtain ⟨h7, h21, h22, -⟩ := h.bds
  obtain ⟨S1, a1, a2, a3, a4, a5, a6⟩ := h.new 2 (.inr (5, [.null, .null])) (by omega) (by omega)
  have c1 := a3.1.2.2.2.1
  have c2 := a3.1.2.2.2.2.1
  have hit := hi S1 t0 a2 ⟨by omega, by omega⟩
  cases hv : item t0 with
  | inl e =>
    rw [hv] at hit
    have hit : XErr r S1 e (I S1) := hit
    exact Or.inl ⟨e, rfl, (hit.bind.pre a3).eq (ob1 a1 (ob1 a2.cls rfl))⟩
  | inr x =>
    rw [hv] at hit
    obtain ⟨S2, f, b1, b2, b3, b4, b5, b6⟩ := hit
    obtain ⟨-, hax⟩ := hadv t0 x h.2.2.2.2.1 hv
    obtain ⟨-, x1, x2, -⟩ := b2.bds
    have d1 := b3.1.2.2.2.1
    have d2 := b3.1.2.2.2.2.1
    have dt := b3.1.2.1
    have g2 := fb_gen b3 a6 (by omega) (by omega) (by omega)
    obtain ⟨S3, Tl, Tb, k1, k2, k3, k4, k5⟩ := ch_init (N := N) (B := xTop S0) (T := xTop S1) (D := D) (φ := x.1) b2.2.1 g2 (Nat.le_refl _) dt (by omega) ⟨by omega, by omega⟩ b4 (by omega) (by omega)
    have hrt : r < xTop S2 := by omega
    have f3 : XFb r (xTop S0) S2 S3 := XFb.xe k2 (fun q z => by rw [z]; exact Nat.le_refl _) (by omega) hrt
    have hvv : xI S3 r = xI S2 r := (k2.2.2.2.2.2 r hrt (fun z => by omega)).2.1
    exact Or.inr ⟨x, S3, rfl, ⟨b2.same f3 hBt hvv, (a3.trans b3 (by omega)).trans f3 (Nat.le_refl _), hBt, xTop S3, 0, Tl, Tb, Nat.le_refl _, k3, by omega, by omega, by omega⟩, ob1 a1 (ob1 a2.cls (ot1 b1 (ob1 k1 rfl)))⟩
end YC30
