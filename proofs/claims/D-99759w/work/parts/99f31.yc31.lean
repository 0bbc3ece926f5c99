/-! the cave: the component's levels -/
section YC31
variable {g : XC} {N sz r xa B0 k K Ks D : Nat} {b : Nat → Nat} {S S0 S1 S2 : XS} {t t0 t1 : TK} {a c : Nat} {E : XS → Nat → Int32 → Option ((XS × Nat) ⊕ XT)} {rec : TK → PR (VF × TK)}
/-- what a level owes -/
def XLv (g : XC) (r xa sz B0 : Nat) (b : Nat → Nat) (k K Ks D : Nat) (F : XS → Option ((XS × Nat) ⊕ XT)) (P : TK → PR (VF × TK)) : Prop := ∀ S t, XZ g r xa sz B0 b S t → XRo sz S t K Ks k → XOut g r xa sz B0 b S t K Ks D (F S) (P t)
theorem XErr.out {e : Nat × TK} {res : Option ((XS × Nat) ⊕ XT)} {P : PR (VF × TK)} (hP : P = .inl e) (h : XErr r S e res) : XOut g r xa sz B0 b S t K Ks D res P := by rw [hP]; exact h
theorem len_sg {c : Nat} (hk : tkOk sz b t) (h : sgT b t c = true) : t.2.1 + 1 ≤ (nxT sz b t).2.1 := nxT_lt hk (by have := (sgT_1 h).1; omega)
theorem len_wd {j n : Nat} (hk : tkOk sz b t) (h : wd b t j = true) (hn : x_slen.getD j 0 = n) : t.2.1 + n ≤ (nxT sz b t).2.1 := by
  have h1 := (wd_t.mp h).1.2
  have h2 := (nxT_ok hk).2
  have h3 := hk.1
  omega
theorem x_prod (hN : 2 ^ 20 < N) (hG : GS g) (hr : pAdv sz b rec) (h : XLv g r xa sz B0 b k 0 0 D (fun S => kX_X5_part g N E S r (nI a)) (pPart sz b rec)) : XLv g r xa sz B0 b k 5 35 (D + 1) (fun S => kX_X5_product g N E S r (nI a)) (pProd sz b rec) := by
  intro S t hz hro
  have h7 := hz.bds.1
  show XOut g r xa sz B0 b S t 5 35 (D + 1) (kX_X5_product g N E S r (nI a)) (pB (pPart sz b rec t) (pLoop sz b (opM b) (pPart sz b rec) (sz + 1)))
  rcases x_begin (N := N) (F := fun w5 => kX_X5_product_13 g N E N w5 r (nI a) (xTop S)) hz hro h (pPart_adv hr) with ⟨e, e1, e2⟩ | ⟨x, S3, e1, e2, e3⟩
  · rw [e1]
    exact XErr.out rfl e2
  · rw [e1]
    have e3 : kX_X5_product g N E S r (nI a) = kX_X5_product_13 g N E N S3 r (nI a) (xTop S) := e3
    rw [e3]
    refine x_loop (N := N) (I := fun S => kX_X5_part g N E S r (nI a)) (L := fun f w5 => kX_X5_product_13 g N E f w5 r (nI a) (xTop S)) (ol := 1) hro (by decide) (by decide) (by decide) ?_ ?_ ?_ h (pPart_adv hr) (sz + 1) N S3 x.2 x.1 (by omega) (by omega) e2
    · intro t ch hk ho
      obtain ⟨hs, hc⟩ := opM_s ho
      exact ⟨by rcases hc with rfl | rfl <;> decide, len_sg hk hs⟩
    · intro f S1 t1 z1 z2 z3
      obtain ⟨m1, m2⟩ := opM_n z3
      show kX_X5_product_13 g N E (f + 1) S1 r (nI a) (xTop S) = _
      rw [kX_X5_product_13]
      exact ob1 z1.cls (ob1 (z1.s0 (c := 42) (by decide) m1) (oit rfl (ob1 z1.cls (ob1 (z1.s0 (c := 47) (by decide) m2) (oit rfl (ob1 z2 rfl))))))
    · intro f S1 t1 ch z1 z2
      obtain ⟨hs, hc⟩ := opM_s z2
      obtain ⟨S2, k1, k2, k3, k4, k5⟩ := z1.sign hN hG (c := ch) (by rcases hc with rfl | rfl <;> decide) hs
      have h31 : kX_X5_product_31 g N E (kX_X5_product_13 g N E f) S1 r (nI a) (xTop S) = tbind (kX_X5_part g N E S2 r (nI a)) fun r5 => (f_cls r5.1 5 (xTop S)).bind fun _ => (kX_X7_add g N r5.1 (xTop S) (nI ch) r5.2).bind fun w7 => kX_X5_product_13 g N E f w7 r (nI a) (xTop S) := by
        unfold kX_X5_product_31
        exact ob1 z1.cls (ob1 k1 (ob1 k2.cls rfl))
      refine ⟨S2, k2, k3, k4, k5, ?_⟩
      show kX_X5_product_13 g N E (f + 1) S1 r (nI a) (xTop S) = _
      rw [kX_X5_product_13]
      rcases hc with rfl | rfl
      · exact ob1 z1.cls (ob1 (z1.s1 (c := 42) (by decide) hs) (oif n10 h31))
      · exact ob1 z1.cls (ob1 (z1.s0 (c := 42) (by decide) (sg_ne hs (by omega))) (oit rfl (ob1 z1.cls (ob1 (z1.s1 (c := 47) (by decide) hs) (oif n10 h31)))))
theorem x_sum (hN : 2 ^ 20 < N) (hG : GS g) (hr : pAdv sz b rec) (h : XLv g r xa sz B0 b k 5 35 D (fun S => kX_X5_product g N E S r (nI a)) (pProd sz b rec)) : XLv g r xa sz B0 b k 10 70 (D + 1) (fun S => kX_X5_sum g N E S r (nI a)) (pSum sz b rec) := by
  intro S t hz hro
  have h7 := hz.bds.1
  show XOut g r xa sz B0 b S t 10 70 (D + 1) (kX_X5_sum g N E S r (nI a)) (pB (pProd sz b rec t) (pLoop sz b (opS b) (pProd sz b rec) (sz + 1)))
  rcases x_begin (N := N) (F := fun w5 => kX_X5_sum_13 g N E N w5 r (nI a) (xTop S)) hz hro h (pProd_adv hr) with ⟨e, e1, e2⟩ | ⟨x, S3, e1, e2, e3⟩
  · rw [e1]
    exact XErr.out rfl e2
  · rw [e1]
    have e3 : kX_X5_sum g N E S r (nI a) = kX_X5_sum_13 g N E N S3 r (nI a) (xTop S) := e3
    rw [e3]
    refine x_loop (N := N) (I := fun S => kX_X5_product g N E S r (nI a)) (L := fun f w5 => kX_X5_sum_13 g N E f w5 r (nI a) (xTop S)) (ol := 1) hro (by decide) (by decide) (by decide) ?_ ?_ ?_ h (pProd_adv hr) (sz + 1) N S3 x.2 x.1 (by omega) (by omega) e2
    · intro t ch hk ho
      obtain ⟨hs, hc⟩ := opS_s ho
      exact ⟨by rcases hc with rfl | rfl <;> decide, len_sg hk hs⟩
    · intro f S1 t1 z1 z2 z3
      obtain ⟨m1, m2⟩ := opS_n z3
      show kX_X5_sum_13 g N E (f + 1) S1 r (nI a) (xTop S) = _
      rw [kX_X5_sum_13]
      exact ob1 z1.cls (ob1 (z1.s0 (c := 43) (by decide) m1) (oit rfl (ob1 z1.cls (ob1 (z1.s0 (c := 45) (by decide) m2) (oit rfl (ob1 z2 rfl))))))
    · intro f S1 t1 ch z1 z2
      obtain ⟨hs, hc⟩ := opS_s z2
      obtain ⟨S2, k1, k2, k3, k4, k5⟩ := z1.sign hN hG (c := ch) (by rcases hc with rfl | rfl <;> decide) hs
      have h31 : kX_X5_sum_31 g N E (kX_X5_sum_13 g N E f) S1 r (nI a) (xTop S) = tbind (kX_X5_product g N E S2 r (nI a)) fun r5 => (f_cls r5.1 5 (xTop S)).bind fun _ => (kX_X7_add g N r5.1 (xTop S) (nI ch) r5.2).bind fun w7 => kX_X5_sum_13 g N E f w7 r (nI a) (xTop S) := by
        unfold kX_X5_sum_31
        exact ob1 z1.cls (ob1 k1 (ob1 k2.cls rfl))
      refine ⟨S2, k2, k3, k4, k5, ?_⟩
      show kX_X5_sum_13 g N E (f + 1) S1 r (nI a) (xTop S) = _
      rw [kX_X5_sum_13]
      rcases hc with rfl | rfl
      · exact ob1 z1.cls (ob1 (z1.s1 (c := 43) (by decide) hs) (oif n10 h31))
      · exact ob1 z1.cls (ob1 (z1.s0 (c := 43) (by decide) (sg_ne hs (by omega))) (oit rfl (ob1 z1.cls (ob1 (z1.s1 (c := 45) (by decide) hs) (oif n10 h31)))))
theorem x_and (hN : 2 ^ 20 < N) (hG : GS g) (hr : pAdv sz b rec) (h : XLv g r xa sz B0 b k 15 105 D (fun S => kX_X5_not g N E S r (nI a)) (pNot sz b rec)) : XLv g r xa sz B0 b k 20 140 (D + 1) (fun S => kX_X5_and g N E S r (nI a)) (pAnd sz b rec) := by
  intro S t hz hro
  have h7 := hz.bds.1
  show XOut g r xa sz B0 b S t 20 140 (D + 1) (kX_X5_and g N E S r (nI a)) (pB (pNot sz b rec t) (pLoop sz b (opA b) (pNot sz b rec) (sz + 1)))
  rcases x_begin (N := N) (F := fun w5 => kX_X5_and_13 g N E N w5 r (nI a) (xTop S)) hz hro h (pNot_adv hr) with ⟨e, e1, e2⟩ | ⟨x, S3, e1, e2, e3⟩
  · rw [e1]
    exact XErr.out rfl e2
  · rw [e1]
    have e3 : kX_X5_and g N E S r (nI a) = kX_X5_and_13 g N E N S3 r (nI a) (xTop S) := e3
    rw [e3]
    refine x_loop (N := N) (I := fun S => kX_X5_not g N E S r (nI a)) (L := fun f w5 => kX_X5_and_13 g N E f w5 r (nI a) (xTop S)) (ol := 3) hro (by decide) (by decide) (by decide) ?_ ?_ ?_ h (pNot_adv hr) (sz + 1) N S3 x.2 x.1 (by omega) (by omega) e2
    · intro t ch hk ho
      obtain ⟨hs, rfl⟩ := opA_s ho
      exact ⟨by decide, len_wd hk hs rfl⟩
    · intro f S1 t1 z1 z2 z3
      have hw : ¬ wd b t1 10 = true := fun z => by
        unfold opA at z3
        rw [if_pos z] at z3
        cases z3
      show kX_X5_and_13 g N E (f + 1) S1 r (nI a) (xTop S) = _
      rw [kX_X5_and_13]
      exact ob1 z1.cls (ob1 (z1.pass0 hN hG (k := 10) (by decide) hw) (oit rfl (ob1 z2 rfl)))
    · intro f S1 t1 ch z1 z2
      obtain ⟨hs, rfl⟩ := opA_s z2
      obtain ⟨S2, k1, k2, k3, k4, k5⟩ := z1.pass1 hN hG (k := 10) (by decide) hs
      refine ⟨S2, k2, k3, k4, k5, ?_⟩
      show kX_X5_and_13 g N E (f + 1) S1 r (nI a) (xTop S) = _
      rw [kX_X5_and_13]
      exact ob1 z1.cls (ob1 k1 (oif n10 (ob1 k2.cls rfl)))
theorem x_or (hN : 2 ^ 20 < N) (hG : GS g) (hr : pAdv sz b rec) (h : XLv g r xa sz B0 b k 20 140 D (fun S => kX_X5_and g N E S r (nI a)) (pAnd sz b rec)) {S : XS} {t : TK} (hz : XZ g r xa sz B0 b S t) (hro : XRo sz S t 25 175 k) (ha : a < 6) : XOut g r xa sz B0 b S t 25 175 (D + 1) (kX_X5_expression_47 g N E S r (nI a) r 1) (pOr sz b rec t) := by
  have h7 := hz.bds.1
  show XOut g r xa sz B0 b S t 25 175 (D + 1) _ (pB (pAnd sz b rec t) (pLoop sz b (opO b) (pAnd sz b rec) (sz + 1)))
  have e0 : kX_X5_expression_47 g N E S r (nI a) r 1 = ((xNew S 2 (.inr (5, [.null, .null]))).bind fun S1 => (f_cls S1 4 r).bind fun _ => tbind (kX_X5_and g N E S1 r (nI a)) fun r4 => (kX_X7_init g N r4.1 (xTop S) r4.2).bind fun w5 => kX_X5_expression_64 g N E N w5 r (nI a) (xTop S)) := by
    unfold kX_X5_expression_47
    exact ob1 hz.cls (ot1 (want1 2) rfl)
  rcases x_begin (N := N) (F := fun w5 => kX_X5_expression_64 g N E N w5 r (nI a) (xTop S)) hz hro h (pAnd_adv hr) with ⟨e, e1, e2⟩ | ⟨x, S3, e1, e2, e3⟩
  · rw [e1]
    exact XErr.out rfl (e2.eq e0)
  · rw [e1]
    have e3 : kX_X5_expression_47 g N E S r (nI a) r 1 = kX_X5_expression_64 g N E N S3 r (nI a) (xTop S) := e0.trans e3
    rw [e3]
    refine x_loop (N := N) (I := fun S => kX_X5_and g N E S r (nI a)) (L := fun f w5 => kX_X5_expression_64 g N E f w5 r (nI a) (xTop S)) (ol := 2) hro (by decide) (by decide) (by decide) ?_ ?_ ?_ h (pAnd_adv hr) (sz + 1) N S3 x.2 x.1 (by omega) (by omega) e2
    · intro t ch hk ho
      obtain ⟨hs, rfl⟩ := opO_s ho
      exact ⟨by decide, len_wd hk hs rfl⟩
    · intro f S1 t1 z1 z2 z3
      have hw : ¬ wd b t1 11 = true := fun z => by
        unfold opO at z3
        rw [if_pos z] at z3
        cases z3
      show kX_X5_expression_64 g N E (f + 1) S1 r (nI a) (xTop S) = _
      rw [kX_X5_expression_64]
      exact ob1 z1.cls (ob1 (z1.pass0 hN hG (k := 11) (by decide) hw) (oit rfl (ob1 z2 rfl)))
    · intro f S1 t1 ch z1 z2
      obtain ⟨hs, rfl⟩ := opO_s z2
      obtain ⟨S2, k1, k2, k3, k4, k5⟩ := z1.pass1 hN hG (k := 11) (by decide) hs
      refine ⟨S2, k2, k3, k4, k5, ?_⟩
      show kX_X5_expression_64 g N E (f + 1) S1 r (nI a) (xTop S) = _
      rw [kX_X5_expression_64]
      exact ob1 z1.cls (ob1 k1 (oif n10 (ob1 k2.cls rfl)))
end YC31
