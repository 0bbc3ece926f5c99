/-! the cave: the component's state behind a text -/
section YC46
variable {g : XC} {N xa oa : Nat} {Z Ya Yh : Nat → Prop} {na ta cv la lh : Nat} {ra rh : List Nat} {M : MT} {S S1 : XS} {T : Int}
def sTF (M : MT) (n : Nat) (f : Int32) : MT := (tC M, tV M, tA M, tH M, tI M, tT M, n, f, tR M)
/-- what is fed, the fault's place -/
theorem CRq.xi (h : CRq g xa oa Z Ya Yh na ta cv la lh ra rh M S) {k : Nat} {v : Int32} {n1 : Nat} {f : Int32} (hn : CNum (xSetI S xa k v) xa (sTF M n1 f)) : CRq g xa oa Z Ya Yh na ta cv la lh ra rh (sTF M n1 f) (xSetI S xa k v) := by
  obtain ⟨c1, c2, c3, c4, c5, c6, c7, c8, c9, c10, c11⟩ := h
  have c9' := c9
  obtain ⟨d1, d2, d3, d4, d5, d6, d7⟩ := c9
  have hfr : ∀ q, q ≠ xa → tSame S (xSetI S xa k v) q := fun q h2 => ⟨rfl, funext fun j => if_neg (fun z => h2 z.1), rfl, rfl, rfl, rfl⟩
  have fZ : yFr Z S (xSetI S xa k v) := fun q hq => hfr q (d1 q hq).2.2.1
  have fA : yFr Ya S (xSetI S xa k v) := fun q hq => hfr q (d2 q hq).2.1
  have fH : yFr Yh S (xSetI S xa k v) := fun q hq => hfr q (d3 q hq).1
  have hw : xWF (xSetI S xa k v) := c2.2.2.2.1
  obtain ⟨e1, e2, e3, e4, e5, e6⟩ := hfr na c1.1.2.2.1
  refine ⟨c1.keep hw rfl e1 e3 e2 e4, c2, c3, c4.fr fZ.g, ⟨c5.1.fr fA.g, c5.2.keep hw rfl fZ⟩, ⟨c6.1.fr fH.g, c6.2.keep fZ⟩, c7.keep hw rfl (fun _ _ => rfl) fZ, c8, c9', fun q hq => ?_, hn⟩
  have he2 := c10 q hq
  rw [x_cell_some] at he2 ⊢
  exact he2
/-- what stands, stands in cells -/
theorem FormAt.str {Z : Nat → Prop} : ∀ (d f : Nat) (φ : VF), FormAt g Z d S f φ → FormAt g (fun q => Z q ∧ ∃ e, genAt S q e) d S f φ := by
  intro d
  induction d with
  | zero => intro f φ h; exact h
  | succ d ih =>
    intro f φ h
    have gs : ∀ {q : Nat} {e : GE}, gz Z S q e → gz (fun q => Z q ∧ ∃ e, genAt S q e) S q e := fun hq => ⟨⟨hq.1, _, hq.2⟩, hq.2⟩
    rcases h with ⟨v, h1, h2⟩ | ⟨i, hi, h1, h2⟩ | ⟨h, ψ, h1, h2, h3⟩ | ⟨ls, sb, f0, ψ0, l, h1, ⟨l0, mc, ba, l1, l2⟩, ⟨s0, q, x, n, ff, s1, s2, s3, s4, s5, s6, s7⟩, h4, h5, h6⟩
    · exact Or.inl ⟨v, gs h1, h2⟩
    · exact Or.inr (Or.inl ⟨i, hi, gs h1, h2⟩)
    · exact Or.inr (Or.inr (Or.inl ⟨h, ψ, gs h1, ih _ _ h2, h3⟩))
    · refine Or.inr (Or.inr (Or.inr ⟨ls, sb, f0, ψ0, l, gs h1, ⟨l0, mc, ba, gs l1, ?_⟩, ⟨s0, q, x, n, ff, gs s1, s2, s3, s4, gs s5, s6, s7⟩, ih _ _ h4, fun x hx => ih _ _ (h5 x hx), h6⟩))
      rcases l2 with l2 | ⟨l2, l3, n2, l4, l5, l6⟩
      · exact Or.inl l2
      · exact Or.inr ⟨l2, l3, n2, l4, l5, gs l6⟩
theorem fOk.str {Z : Nat → Prop} {φ : Option VF} {f : Option Nat} (h : fOk g Z S φ f) : fOk g (fun q => Z q ∧ ∃ e, genAt S q e) S φ f := by
  cases φ with
  | none => exact h
  | some ψ => obtain ⟨r, h1, h2⟩ := h; exact ⟨r, h1, FormAt.str _ _ _ h2⟩
/-- the new cave -/
theorem XCv.cave {B0 mk B1 : Nat} {s : LT} (h : XCv g B0 mk B1 S s.1) (H : LOk s) (hb : B1 ≤ mk ∧ B1 ≤ B0 ∧ B0 ≤ xTop S) : CaveAt g (fun q => (B1 ≤ q ∧ q < xTop S) ∧ ∃ e, genAt S q e) S mk s.1 := by
  obtain ⟨ls, f1, f2, rs, cap, Yl, Zf, h1, h2, h3, h4, h5, h6, h7, h8, h9⟩ := h
  have zF : ∀ q, (Zf q ∧ ∃ e, genAt S q e) → ((B1 ≤ q ∧ q < xTop S) ∧ ∃ e, genAt S q e) := fun q hq => ⟨⟨by have := (h8 q hq.1).1; omega, (h8 q hq.1).2⟩, hq.2⟩
  refine ⟨H.1, H.2.1, ls, f1, f2, rs, ⟨⟨⟨hb.1, by omega⟩, _, h1⟩, h1⟩, ?_, h3, h4.1, h5.str.mono zF, h6.str.mono zF⟩
  obtain ⟨l0, mc, ba, l1, l2⟩ := h2
  have zY : ∀ q, Yl q → ∀ {e : GE}, genAt S q e → gz (fun q => (B1 ≤ q ∧ q < xTop S) ∧ ∃ e, genAt S q e) S q e := fun q hq e he => ⟨⟨⟨by rcases (h7 q hq).1 with z | z <;> omega, (h7 q hq).2.1⟩, _, he⟩, he⟩
  refine ⟨l0, mc, ba, zY _ l1.1 l1.2, ?_⟩
  rcases l2 with ⟨z1, -, z3⟩ | ⟨z1, z2, z3, z4, z5⟩
  · exact Or.inl ⟨z1, z3⟩
  · exact Or.inr ⟨z1, z2, cap, z3, z4, zY _ z5.1 z5.2⟩
theorem setR_og (hW : WFr S) (a k : Nat) (v : Option Nat) : XE (fun q => q = a) S (xSetR S a k v) := by
  refine ⟨⟨hW.1, fun q e he => ?_⟩, Nat.le_refl _, Nat.le_refl _, rfl, rfl, fun q _ hq => ⟨rfl, rfl, funext fun j => if_neg (fun z => hq z.1), rfl, rfl, rfl⟩⟩
  show q < xTop S
  have h1 : ∃ e, x_cell (xSetR S a k v) q = some e := ⟨e, he⟩
  rw [x_cell_some] at h1
  obtain ⟨e2, h2⟩ := x_cell_some (S := S).mpr h1
  exact hW.2 q e2 h2
/-- the references of the new state -/
theorem x_newState {B0 mk B1 r sz nb : Nat} {b : Nat → Nat} {t : TK} {s : LT} (hsp : gSp g 0 < xTop S ∧ gSp g 1 < xTop S) (hL : XLb g r xa sz B0 b mk nb B1 S t s) (hc : XCv g B0 mk B1 S s.1) (H : LOk s) (h : CRq g xa oa Z Ya Yh na ta cv la lh ra rh (sTF M 0 (-1)) S) (hlow : xa < B1 ∧ ta < B1 ∧ oa < B1) (r1 : xTop S + 2 ≤ xCc S) (r2 : xSl S + 6 ≤ xCs S) :
    ∃ S1, ((f_putR S 1 xa 1 (some mk)).bind fun S17 =>
  (f_obj S17 4 r 2).bind fun v18 =>
  (f_putR S17 1 xa 2 (some v18)).bind fun S19 =>
  (xNew S19 3 (.inr (10, [.int 0, .null, .int 0]))).bind fun S20 =>
  (kX_J2_init g N S20 (xTop S19)).bind fun w21 =>
  (f_putR w21 1 xa 8 (some (xTop S19))).bind fun S22 =>
  (xNew S22 3 (.inr (10, [.int 0, .null, .int 0]))).bind fun S23 =>
  (kX_J2_init g N S23 (xTop S22)).bind fun w24 =>
  (f_putR w24 1 xa 9 (some (xTop S22))).bind fun S25 =>
  (f_putR S25 1 xa 10 none).bind fun S26 =>
  some (.inl (S26, (0 : Int32)))) = (some (.inl (S1, 0)) : Option ((XS × Int32) ⊕ XT)) ∧ WFr S1 ∧ ∃ Z1, CRq g xa oa Z1 (fun q => q = xTop S) (fun q => q = xTop S + 1) nb ta mk (xTop S) (xTop S + 1) [] [] (mNew M s) S1 := by
  obtain ⟨c1, c2, c3, c4, c5, c6, c7⟩ := hL.bd
  have hb := hL.2.2.2.2.2.1
  have hnb := hL.2.2.2.2.1
  obtain ⟨k1, k2, ⟨k31, k32, k33, k34, k35⟩, k4, k5, k6, k7, k8, k9, k10, k11⟩ := h
  have hW := hL.1.2.1
  have hxa : tyA S 1 xa := k2.1
  have hrx : r ≠ xa := by omega
  -- the cave, the night
  have w1 := setR_og hW xa 1 (some mk)
  have w2 := w1.trans (setR_og w1.1 xa 2 (some nb)) (fun q _ z => z)
  obtain ⟨T1, a1, a2, a3, a4, a5⟩ := l_new (g := g) (N := N) w2.1 (show gSp g 0 < xTop S ∧ gSp g 1 < xTop S from hsp)
  have w3 : XE (fun q => q = xa) S T1 := w2.trans a2 (fun _ _ z => absurd z (fun y => y))
  have w4 := w3.trans (setR_og w3.1 xa 8 (some (xTop S))) (fun q _ z => z)
  have t1 : xTop T1 = xTop S + 1 := a3
  have sl1 : xSl T1 = xSl S + 3 := a4
  have ac := w3.2.2.2.1
  have as := w3.2.2.2.2.1
  have htx : xTop (xSetR T1 xa 8 (some (xTop S))) = xTop T1 := rfl
  obtain ⟨T2, b1, b2, b3, b4, b5⟩ := l_new (g := g) (N := N) w4.1 (show gSp g 0 < xTop T1 ∧ gSp g 1 < xTop T1 by omega)
  have w5 := w4.trans b2 (P1 := fun _ => False) (fun _ _ z => absurd z (fun y => y))
  have t2 : xTop T2 = xTop T1 + 1 := b3
  have w6 := w5.trans (setR_og w5.1 xa 9 (some (xTop T1))) (fun q _ z => z)
  have w7 := w6.trans (setR_og w6.1 xa 10 none) (fun q _ z => z)
  generalize hF : xSetR (xSetR T2 xa 9 (some (xTop T1))) xa 10 none = F at w7
  have hxt : xa < xTop S := by omega
  -- xa's own fields
  have tx1 := a2.2.2.2.2.2 xa hxt (fun z => z)
  have tx2 := b2.2.2.2.2.2 xa (show xa < xTop T1 by omega) (fun z => z)
  have txR : ∀ j, xR F xa j = if j = 10 then none else if j = 9 then some (xTop T1) else if j = 8 then some (xTop S) else if j = 2 then some nb else if j = 1 then some mk else xR S xa j := fun j => by
    rw [← hF]
    show (if xa = xa ∧ j = 10 then none else if xa = xa ∧ j = 9 then some (xTop T1) else xR T2 xa j) = _
    rw [tx2.2.2.1]
    show (if xa = xa ∧ j = 10 then none else if xa = xa ∧ j = 9 then some (xTop T1) else if xa = xa ∧ j = 8 then some (xTop S) else xR T1 xa j) = _
    rw [tx1.2.2.1]
    show (if xa = xa ∧ j = 10 then none else if xa = xa ∧ j = 9 then some (xTop T1) else if xa = xa ∧ j = 8 then some (xTop S) else if xa = xa ∧ j = 2 then some nb else if xa = xa ∧ j = 1 then some mk else xR S xa j) = _
    simp only [true_and]
  have txO : xOwn F xa = xOwn S xa := by
    rw [← hF]
    exact tx2.1.trans tx1.1
  have txI : xI F xa = xI S xa := by
    rw [← hF]
    exact tx2.2.1.trans tx1.2.1
  have txA : xA F xa = xA S xa := by
    rw [← hF]
    exact tx2.2.2.2.1.trans tx1.2.2.2.1
  have sm : ∀ q, q < xTop S → q ≠ xa → tSame S F q := fun q hq hn => w7.2.2.2.2.2 q hq hn
  have sn := sm nb (by omega) (fun z => hnb.1.2.2.1 z)
  have st := sm ta (by omega) k2.2.2.1
  have so := sm oa (by omega) k9.2.2.2.1
  have hC := hc.cave H ⟨hb.2.2.2.1, c2, c3⟩
  have hty : ∀ q, (∃ e, genAt S q e) → q ≠ xa := fun q hq z => by
    obtain ⟨e, he⟩ := hq
    exact ty_gen hxa (z ▸ he)
  have fZ : yFg (fun q => (B1 ≤ q ∧ q < xTop S) ∧ ∃ e, genAt S q e) S F := fun q hq => by
    have := sm q hq.1.2 (hty q hq.2)
    exact ⟨this.1, this.2.2.2.2.2⟩
  have L1 : ListAt g (fun q => q = xTop S) F (xTop S) [] := a5.l.fr (fun q hq => by
    have e1 := b2.2.2.2.2.2 q (show q < xTop T1 by omega) (fun z => z)
    rw [← hF]
    exact ⟨e1.1, e1.2.2.2.2.2⟩)
  have L2 : ListAt g (fun q => q = xTop S + 1) F (xTop S + 1) [] := by
    have e : xTop (xSetR T1 xa 8 (some (xTop S))) = xTop S + 1 := t1
    have := b5.l
    rw [e] at this
    exact this.fr (fun q hq => by rw [← hF]; exact ⟨rfl, rfl⟩)
  refine ⟨F, ?_, w7.1, (fun q => (B1 ≤ q ∧ q < xTop S) ∧ ∃ e, genAt S q e), hnb.keep w7.1.1 txO sn.1 sn.2.2.1 sn.2.1 sn.2.2.2.1, k2.keep w7.1.1 txO st.1 st.2.2.1, ⟨?_, ?_, ?_, ?_, ?_⟩, hC.fr fZ, ⟨L1, rfl, fun i x m hx => by rw [List.getElem?_nil] at hx; cases hx⟩, ⟨L2, rfl, fun i x m hx => by rw [List.getElem?_nil] at hx; cases hx⟩, ?_, ?_, ⟨fun q hq => ⟨?_, ?_, hty q hq.2, fun z => ?_, ?_, ?_⟩, fun q hq => ?_, fun q hq => ?_, k9.2.2.2.1, ?_, k9.2.2.2.2.2.1, ?_⟩, fun q hq => ?_, ?_⟩
  · have hst : ∀ (S' : XS), tyA S' 1 xa → ∀ j v, j < 14 → x_kd 1 j = 2 → f_putR S' 1 xa j v = some (xSetR S' xa j v) := fun S' h1 j v h2 h3 => f_putR_T h1 h2 h3
    have y1 : tyA T1 1 xa := ⟨tx1.1.trans hxa.1, hxa.2⟩
    have y2 : tyA T2 1 xa := ⟨tx2.1.trans y1.1, hxa.2⟩
    have ob : f_obj (xSetR S xa 1 (some mk)) 4 r 2 = some nb := f_obj_T (S := xSetR S xa 1 (some mk)) hL.1.1.1 (by decide) rfl ((if_neg (fun z => hrx z.1)).trans hL.2.2.1)
    refine ob1 (hst S hxa 1 (some mk) (by decide) rfl) (ob1 ob (ob1 (hst (xSetR S xa 1 (some mk)) hxa 2 (some nb) (by decide) rfl) (ob1 (x_newS (S := xSetR (xSetR S xa 1 (some mk)) xa 2 (some nb)) (n := 3) (e := ELn) (by show xTop S + 1 ≤ xCc S; omega) (by show xSl S + 3 ≤ xCs S; omega)) (ob1 a1 (ob1 (hst T1 y1 8 (some (xTop S)) (by decide) rfl) (ob1 (x_newS (S := xSetR T1 xa 8 (some (xTop S))) (n := 3) (e := ELn) (by show xTop T1 + 1 ≤ xCc T1; omega) (by show xSl T1 + 3 ≤ xCs T1; omega)) (ob1 b1 (ob1 (hst T2 y2 9 (some (xTop T1)) (by decide) rfl) (ob1 (hst (xSetR T2 xa 9 (some (xTop T1))) y2 10 none (by decide) rfl) ?_)))))))))
    rw [hF]
  · rw [txR]; rfl
  · rw [txR]; rfl
  · rw [txR]; exact k33
  · rw [txR]; rfl
  · rw [txR, t1]; rfl
  · show xR F xa 10 = none
    rw [txR]; rfl
  · obtain ⟨f, hf⟩ := k8
    exact ⟨f, so.1.trans hf.1, so.2.2.2.2.2.trans hf.2⟩
  · have := hq.1.2
    show ¬ q = xTop S
    omega
  · have := hq.1.2
    show ¬ q = xTop S + 1
    omega
  · obtain ⟨e, he⟩ := hq.2
    exact ty_gen hnb.1.2.1 (z ▸ he)
  · have := hq.1.1
    omega
  · have := hq.1.1
    omega
  · have hq : q = xTop S := hq
    refine ⟨?_, by omega, by omega, by omega, by omega⟩
    show ¬ q = xTop S + 1
    omega
  · have hq : q = xTop S + 1 := hq
    exact ⟨by omega, by omega, by omega, by omega⟩
  · omega
  · omega
  · rcases hq with hq | hq | hq
    · obtain ⟨e, he⟩ := hq.2
      obtain ⟨z1, z2⟩ := fZ q hq
      exact ⟨e, g_cell ⟨z1.trans he.1, z2.trans he.2⟩⟩
    · have hq : q = xTop S := hq
      obtain ⟨-, mc, ba, z1, -⟩ := L1
      rw [hq]
      exact ⟨_, g_cell z1.2⟩
    · have hq : q = xTop S + 1 := hq
      obtain ⟨-, mc, ba, z1, -⟩ := L2
      rw [hq]
      exact ⟨_, g_cell z1.2⟩
  · obtain ⟨q1, q2, q3, q4⟩ := k11
    refine ⟨fun i hi => absurd hi (Nat.not_lt_zero i), ?_, ?_, fun i hi => ?_⟩
    · rw [txI]; exact q2
    · rw [txI]; exact q3
    · rw [txA]; exact q4 i hi
end YC46
