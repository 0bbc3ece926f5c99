/-! plain law: led, the operation -/
section OT
variable {g : XC} {N xa oa n : Nat} {Z Ya Yh : Nat → Prop} {na ta cv la lh : Nat} {ra rh : List Nat} {M : MT} {T : Int} {S S0 S1 : XS} {σ s : MS} {C : CC} {V m : MN} {w : Nat → Int32} {c k t l q : Nat} {hs : List HT}
theorem YLL.nset (h : YLL g xa ta oa n S0 C V hs l S q) (hx : xa ≠ ta) (m : MN) (w : Nat → Int32) : YLL g xa ta oa n S0 C V hs l (nset S ta xa m w) q := by
  obtain ⟨h1, ⟨Y, cap, h2, h3⟩, h4, h5, h6⟩ := h
  exact ⟨h1.nset hx m w, ⟨Y, cap, h2.fr (fun _ _ => ⟨rfl, rfl⟩), h3⟩, h4, h5, h6⟩
theorem YLL.eq (h : YLL g xa ta oa n S0 C V hs l S q) {q1 : Nat} (e : gL C V hs q1 = gL C V hs q) : YLL g xa ta oa n S0 C V hs l S q1 := by
  unfold YLL at h ⊢
  rw [e]
  exact h
theorem YLL.skip (h : YLL g xa ta oa n S0 C V hs l S q) (e : ¬ gG C V hs q = true) : YLL g xa ta oa n S0 C V hs l S (q + 1) := h.eq (by rw [gL_s, if_neg e])
theorem gG_no {c t : Nat} (ht : t < 10) (h : gOk C V c t = false) : ¬ gG C V hs (10 * c + t) = true := by
  unfold gG
  rw [(dm10 ht).1, (dm10 ht).2, h, Bool.false_and]
  simp
theorem gL_up {c : Nat} (hc : c < 9) : ∀ j, j ≤ c + 1 → gL C V hs (10 * c + j) = gL C V hs (10 * c) := by
  intro j
  induction j with
  | zero => intro _; rfl
  | succ j ih =>
    intro hj
    show gL C V hs (10 * c + j + 1) = _
    rw [gL_s, if_neg (gG_no (by omega) (by unfold gOk; rw [decide_eq_false (by omega), Bool.false_and])), ih (by omega)]
theorem x_oth (hX : XB g N xa oa n Z Ya Yh na ta cv la lh ra rh M T S0) (hR : RB N M T σ) (K : XS → Nat → Nat → Int32 → Option (XS × Nat)) (hL : YLL g xa ta oa n S0 (tC M) (tV M) (tH M) l S (10 * c + t)) (hc : c < (tC M).1) (h1 : c < t) (ht : t < 10) (f : Nat) : ∃ S1, kX_X1_others_25 g N K (f + 1) S xa l (nI c) (nI t) = kX_X1_others_25 g N K f S1 xa l (nI c) (nI (t + 1)) ∧ YLL g xa ta oa n S0 (tC M) (tV M) (tH M) l S1 (10 * c + t + 1) := by
  have hN := hX.2.2.2.1
  have hT := hX.2.2.2.2.1
  have hM := hX.2.2.1
  have h9 := hM.1
  have hV := hM.2.2.1
  obtain ⟨hO, hH⟩ := hX.ls hL.1
  have hne : xa ≠ ta := hO.1.1.2.2.1.symm
  have hS : nset S ta xa (yMN S ta) (xA S xa 0) = S := nset_yMN hO.1.1.2.2.1
  have hHk : ∀ x ∈ tH M, ∃ j : Nat, 1 ≤ j ∧ j ≤ 40 ∧ x.2.1 = nI j := fun x hx => (hM.2.2.2.2.1.2 x hx).2.1
  generalize yMN S ta = m at hS
  generalize xA S xa 0 = w at hS
  have hnx : ∀ K2 : XS → Nat → Nat → Int32 → Int32 → Option (XS × Nat), ∀ S1, kX_X1_others_106 g N K K2 S1 xa l (nI c) (nI t) = K2 S1 xa l (nI c) (nI (t + 1)) := fun K2 S1 => by
    unfold kX_X1_others_106
    rw [nI_1]
  have hcups : ∀ {R : Option (XS × Nat)} (F : XS × Int32 → Option (XS × Nat)), F (S, nI (tC M).1) = R → ((f_obj S 1 xa 1).bind fun v2 => (f_cls S 3 v2).bind fun _ => (kX_X2_cups g N S v2).bind F) = R := fun {R} F h => by
    have := oc_cups (N := N) (m := m) (w := w) hO (F := F) (R := R) (by rw [hS]; exact h)
    rw [hS] at this
    exact this
  by_cases hin : (tC M).1 ≤ t ∧ t ≤ 8
  · refine ⟨S, ?_, hL.skip (gG_no ht (by unfold gOk; rw [decide_eq_false (by omega), Bool.false_and]))⟩
    rw [kX_X1_others_25]
    refine oif (nI_nlt (a := 9) (by omega) (by omega)) (hcups _ (ob1 (x_inN (a := (tC M).1) (b := 8) rfl rfl hin.1 hin.2 (by decide)) (oif n10 (hnx _ _))))
  · have hd : t = 9 ∨ (c < t ∧ t < (tC M).1) := by omega
    have h0 : kX_X1_in g N (nI t) (nI (tC M).1) 8 = some 0 := x_in0 (by
      by_cases e : t < (tC M).1
      · exact Or.inl (nI_lt e (by omega))
      · exact Or.inr (nI_lt (a := 8) (by omega) (by omega)))
    have hgx : -1 ≤ gX t ∧ gX t < 9 := by unfold gX; split <;> omega
    have hgx2 : -1 ≤ gX t ∧ gX t < 9 := hgx
    have hled := x_isLed (g := g) (N := N) (S := S) (a := na) (xa := xa) hO.2.1 hV.1.1 h9 hc hgx
    have e63 : ∃ S1, kX_X1_others_63 g N K (kX_X1_others_25 g N K f) S xa l (nI c) (nI t) na (nI c) (iI (gX t)) = kX_X1_others_25 g N K f S1 xa l (nI c) (nI (t + 1)) ∧ YLL g xa ta oa n S0 (tC M) (tV M) (tH M) l S1 (10 * c + t + 1) := by
      unfold kX_X1_others_63
      rw [na_cls hO.2.1]
      show ∃ S1, ((kX_X3_isLed g N S na (nI c) (iI (gX t))).bind _) = _ ∧ _
      rw [hled, Option.bind_some]
      by_cases hp : pLed (tV M) c (gX t) = true
      · refine ⟨S, ?_, hL.skip (gG_no ht (by unfold gOk; rw [hp]; simp))⟩
        rw [if_pos hp]
        exact oif n10 (hnx _ _)
      · rw [if_neg hp]
        have hok : gOk (tC M) (tV M) c t = true := by
          unfold gOk
          have : pLed (tV M) c (gX t) = false := by simpa using hp
          rw [decide_eq_true hd, this]
          rfl
        have hY := hV.gN h9 hok m
        have hi := (hr_ind hN hR.1 hM hT hc hok m).1
        have ec : 10 * nI c + nI t = nI (10 * c + t) := by rw [show (10 : Int32) = nI 10 from rfl, ixm, nI_add]
        have x1 := x_leadTo (m := m) (w := w) (c := c) (t := t) hO hN (by omega) ht
        rw [hS] at x1
        obtain ⟨m1, w1, x2⟩ := x_isSo (T := T) (m := mLead (mBe m (tV M)) c (gX t)) (w := w) hH hO hN hHk hY (by omega)
        rw [hi] at x2
        have hL1 := hL.nset hne m1 w1
        have pre : ∀ (R : Option (XS × Nat)) (F : XS × Int32 → Option (XS × Nat)), F (nset S ta xa m1 w1, if hrB (tC M) (tH M) (gN (tV M) c t) 40 = true then 1 else 0) = R → ((f_cls S 1 xa).bind fun u4 => (kX_X1_leadTo g N S xa ((10 * nI c) + nI t)).bind fun w5 => (f_cls w5.1 1 xa).bind fun u6 => (kX_X1_isSo g N w5.1 xa).bind F) = R := fun R F h => by
          rw [ec]
          exact ob1 (f_cls_T hO.1.1.1) (ob1 x1 (ob1 (oc_cls hO) (ob1 x2 h)))
        by_cases hh : hrB (tC M) (tH M) (gN (tV M) c t) 40 = true
        · have hg : gG (tC M) (tV M) (tH M) (10 * c + t) = true := by
            unfold gG
            rw [(dm10 ht).1, (dm10 ht).2, hok, hh]
            rfl
          obtain ⟨S2, a1, a2⟩ := hL1.add (N := N) hX (by omega) hg
          refine ⟨S2, ?_, a2⟩
          obtain ⟨Y, cap, hlc, -⟩ := hL1.2.1
          refine oit rfl (pre _ _ ?_)
          refine oif (show ¬ (if hrB (tC M) (tH M) (gN (tV M) c t) 40 = true then (1 : Int32) else 0) = 0 by rw [if_pos hh]; decide) ?_
          show ((kX_J19_valueOf g N (nset S ta xa m1 w1) ((10 * nI c) + nI t)).bind _) = _
          rw [ec]
          exact ob1 (x_valueOf rfl (by omega)) (ob1 hlc.l.cls (ob1 a1 (hnx _ _)))
        · refine ⟨nset S ta xa m1 w1, ?_, hL1.skip (by
            unfold gG
            rw [(dm10 ht).1, (dm10 ht).2, hok, Bool.true_and]
            exact hh)⟩
          refine oit rfl (pre _ _ ?_)
          exact oit (show (if hrB (tC M) (tH M) (gN (tV M) c t) 40 = true then (1 : Int32) else 0) = 0 by rw [if_neg hh]) (hnx _ _)
    obtain ⟨S1, b1, b2⟩ := e63
    refine ⟨S1, ?_, b2⟩
    rw [kX_X1_others_25]
    refine oif (nI_nlt (a := 9) (by omega) (by omega)) (hcups _ (ob1 h0 (oit rfl (ob1 (f_obj_T hO.1.1.1 (by decide) (by decide) hO.2.2.2.1) ?_))))
    by_cases e9 : t = 9
    · have ex : iI (gX t) = -1 := by unfold gX; rw [if_pos e9]; rfl
      rw [ex] at b1
      exact oit (by rw [e9]; rfl) b1
    · have ex : iI (gX t) = nI t := by unfold gX; rw [if_neg e9, iI_nI]
      rw [ex] at b1
      exact oif (fun z => e9 ((nI_eq (b := 9) (by omega) (by omega)).mp z)) b1
theorem x_others (hX : XB g N xa oa n Z Ya Yh na ta cv la lh ra rh M T S0) (hR : RB N M T σ) : ∃ S1, kX_X1_others g N S0 xa = some (S1, xTop S0) ∧ YLL g xa ta oa n S0 (tC M) (tV M) (tH M) (xTop S0) S1 (10 * (tC M).1) := by
  have hN := hX.2.2.2.1
  have hM := hX.2.2.1
  have h9 := hM.1
  have hG := hX.2.2.2.2.2.2.2
  have hn := hX.2.2.2.2.2.1
  have hcp := hX.2.2.2.2.2.2.1
  have hxa : xa < n := hX.2.1 xa _ hX.1.2.1.1.cell
  have hoa : oa < n := by
    obtain ⟨f, hf⟩ := hX.1.2.2.2.2.2.2.2.1
    exact hX.2.1 oa _ (g_cell hf)
  obtain ⟨S1, k1, k2, k3, k4, k5⟩ := l_new (g := g) (N := N) hX.wf ⟨by have := hG.1; omega, by have := hG.2.1; omega⟩
  have hls0 : YLS xa ta oa n S0 S0 := ⟨KS.refl hX.wf.1, hX.wf, by omega, rfl, rfl⟩
  have h0 : YLL g xa ta oa n S0 (tC M) (tV M) (tH M) (xTop S0) S1 (10 * 0) := ⟨hls0.xe (k2.mono (fun _ _ z => z.elim)) hxa hoa, ⟨_, 0, k5, fun r hr => by omega⟩, by omega, by rw [k3]; show xTop S0 + 1 ≤ n + 1 + 0; omega, by rw [k4]; show xSl S0 + 3 ≤ xSl S0 + 3 + 200 * 0; omega⟩
  unfold kX_X1_others
  rw [show (xNew S0 3 (.inr (10, [.int 0, .null, .int 0]))) = some (newS S0 3 ELn) from x_newS (by omega) (by omega)]
  show ∃ S1, ((kX_J2_init g N (newS S0 3 ELn) (xTop S0)).bind fun w2 => kX_X1_others_10 g N N w2 xa (xTop S0) 0) = some (S1, xTop S0) ∧ _
  rw [k1]
  show ∃ S2, kX_X1_others_10 g N N S1 xa (xTop S0) 0 = some (S2, xTop S0) ∧ _
  refine y_loop (fun f (S : XS) c => kX_X1_others_10 g N f S xa (xTop S0) (nI c)) (tC M).1 (fun S c => YLL g xa ta oa n S0 (tC M) (tV M) (tH M) (xTop S0) S (10 * c)) (fun r => ∃ S2, r = some (S2, xTop S0) ∧ YLL g xa ta oa n S0 (tC M) (tV M) (tH M) (xTop S0) S2 (10 * (tC M).1)) ?_ ?_ (tC M).1 N S1 0 (by omega) (by omega) h0
  · intro f S c hc hL
    right
    have h25 : ∀ K : XS → Nat → Nat → Int32 → Option (XS × Nat), ∃ S2, kX_X1_others_25 g N K N S xa (xTop S0) (nI c) (nI (c + 1)) = K S2 xa (xTop S0) (nI (c + 1)) ∧ YLL g xa ta oa n S0 (tC M) (tV M) (tH M) (xTop S0) S2 (10 * (c + 1)) := fun K => by
      refine y_loop (fun f (S : XS) t => kX_X1_others_25 g N K f S xa (xTop S0) (nI c) (nI t)) 10 (fun S t => c < t ∧ t ≤ 10 ∧ YLL g xa ta oa n S0 (tC M) (tV M) (tH M) (xTop S0) S (10 * c + t)) (fun r => ∃ S2, r = K S2 xa (xTop S0) (nI (c + 1)) ∧ YLL g xa ta oa n S0 (tC M) (tV M) (tH M) (xTop S0) S2 (10 * (c + 1))) ?_ ?_ (10 - (c + 1)) N S (c + 1) (by omega) (by omega) ⟨by omega, by omega, hL.eq (gL_up (by omega) (c + 1) (Nat.le_refl _))⟩
      · rintro f S t ht ⟨a1, a2, a3⟩
        right
        obtain ⟨S2, b1, b2⟩ := x_oth hX hR K a3 hc a1 ht f
        exact ⟨S2, b1, by omega, by omega, b2⟩
      · rintro f S ⟨a1, a2, a3⟩
        refine ⟨S, ?_, a3⟩
        show kX_X1_others_25 g N K (f + 1) S xa (xTop S0) (nI c) (nI 10) = _
        rw [kX_X1_others_25]
        refine oit (by decide) ?_
        rw [nI_1]
    obtain ⟨S2, b1, b2⟩ := h25 (kX_X1_others_10 g N f)
    obtain ⟨hO, hH⟩ := hX.ls hL.1
    have hS : nset S ta xa (yMN S ta) (xA S xa 0) = S := nset_yMN hO.1.1.2.2.1
    refine ⟨S2, ?_, b2⟩
    show kX_X1_others_10 g N (f + 1) S xa (xTop S0) (nI c) = _
    rw [kX_X1_others_10]
    have := oc_cups (N := N) (m := yMN S ta) (w := xA S xa 0) hO (F := fun w3 => if w3.2 ≤ nI c then some (w3.1, xTop S0) else bnd (nI c + 1) fun v5 => kX_X1_others_25 g N (kX_X1_others_10 g N f) N w3.1 xa (xTop S0) (nI c) v5) (R := kX_X1_others_10 g N f S2 xa (xTop S0) (nI (c + 1))) (by
      rw [hS]
      exact oif (nI_ge hc (by omega)) (onb (nI_1 c) b1))
    rw [hS] at this
    exact this
  · intro f S hL
    obtain ⟨hO, hH⟩ := hX.ls hL.1
    have hS : nset S ta xa (yMN S ta) (xA S xa 0) = S := nset_yMN hO.1.1.2.2.1
    refine ⟨S, ?_, hL⟩
    show kX_X1_others_10 g N (f + 1) S xa (xTop S0) (nI (tC M).1) = _
    rw [kX_X1_others_10]
    have := oc_cups (N := N) (m := yMN S ta) (w := xA S xa 0) hO (F := fun w3 => if w3.2 ≤ nI (tC M).1 then some (w3.1, xTop S0) else bnd (nI (tC M).1 + 1) fun v5 => kX_X1_others_25 g N (kX_X1_others_10 g N f) N w3.1 xa (xTop S0) (nI (tC M).1) v5) (R := some (S, xTop S0)) (by
      rw [hS]
      exact oit (nI_le (Nat.le_refl _) (by omega)) rfl)
    rw [hS] at this
    exact this
def gFst : List Nat → Int32
  | [] => -1
  | a :: _ => nI a
theorem gFst_s (l : List Nat) (a : Nat) : gFst (l ++ [a]) = if l = [] then nI a else gFst l := by
  cases l with
  | nil => rfl
  | cons b l => rfl
theorem r_led45 (hR : RB N M T σ) {q : Nat} (hq : q ≤ 1) {s : MS} (hf : RFr σ s) (hz : s.1 0 = 0) : ∃ s1, kM_led_45 N N s (nI q) 0 (-1) 0 = some (s1, if q = 0 then nI (gL (tC M) (tV M) (tH M) (10 * (tC M).1)).length else gFst (gL (tC M) (tV M) (tH M) (10 * (tC M).1))) ∧ RFr σ s1 ∧ s1.1 0 = 0 := by
  have hN := hR.2.2.1
  have h9 := hR.2.1.1
  have hq0 : nI q = 0 ↔ q = 0 := nI_eq (b := 0) (by omega) (by omega)
  have h10 : ∀ s, RFr σ s → 10 * s.1 1 = nI (10 * (tC M).1) := fun s hf => by
    rw [hf.1 1 (by decide), hR.1.1.1, show (10 : Int32) = nI 10 from rfl, ixm]
  refine y_loop (fun f (s : MS) c => kM_led_45 N f s (nI q) (nI (gL (tC M) (tV M) (tH M) c).length) (gFst (gL (tC M) (tV M) (tH M) c)) (nI c)) (10 * (tC M).1) (fun s c => RFr σ s ∧ s.1 0 = 0) (fun r => ∃ s1, r = some (s1, if q = 0 then nI (gL (tC M) (tV M) (tH M) (10 * (tC M).1)).length else gFst (gL (tC M) (tV M) (tH M) (10 * (tC M).1))) ∧ RFr σ s1 ∧ s1.1 0 = 0) ?_ ?_ (10 * (tC M).1) N s 0 (by omega) (by omega) ⟨hf, hz⟩
  · rintro f s c hc ⟨p1, p2⟩
    right
    obtain ⟨d, t, hd, ht, rfl⟩ : ∃ d t, d < (tC M).1 ∧ t < 10 ∧ c = 10 * d + t := ⟨c / 10, c % 10, by omega, by omega, by omega⟩
    obtain ⟨s1, q1, q2, -⟩ := r_isGuess hN hR.1 hR.2.1 hR.2.2.2 p1 hd ht
    have hlen := gL_len (tC M) (tV M) (tH M) (10 * d + t)
    have hm1 : gFst (gL (tC M) (tV M) (tH M) (10 * d + t)) = -1 ↔ gL (tC M) (tV M) (tH M) (10 * d + t) = [] := by
      constructor
      · intro z
        cases hl : gL (tC M) (tV M) (tH M) (10 * d + t) with
        | nil => rfl
        | cons a l =>
          rw [hl] at z
          have : a < 10 * d + t := (gL_mem (C := tC M) (V := tV M) (hs := tH M) (g := 10 * d + t) (by rw [hl]; exact List.mem_cons_self)).1
          exact absurd z (nI_m1 (by omega))
      · intro z; rw [z]; rfl
    refine ⟨s1, ?_, p1.trans q2.r, (q2.1 0 (by decide) (by decide)).trans p2⟩
    show kM_led_45 N (f + 1) s (nI q) (nI (gL (tC M) (tV M) (tH M) (10 * d + t)).length) (gFst (gL (tC M) (tV M) (tH M) (10 * d + t))) (nI (10 * d + t)) = kM_led_45 N f s1 (nI q) (nI (gL (tC M) (tV M) (tH M) (10 * d + t + 1)).length) (gFst (gL (tC M) (tV M) (tH M) (10 * d + t + 1))) (nI (10 * d + t + 1))
    rw [kM_led_45]
    refine oif (by rw [h10 s p1]; exact nI_ge (by omega) (by omega)) (ob1 q1 ?_)
    rw [gL_s]
    unfold kM_led_80
    by_cases hg : gG (tC M) (tV M) (tH M) (10 * d + t) = true
    · rw [if_pos hg, if_pos hg]
      refine oif n10 ?_
      rw [gFst_s, List.length_append]
      by_cases e : gL (tC M) (tV M) (tH M) (10 * d + t) = []
      · refine oit (hm1.mpr e) ?_
        rw [if_pos e, nI_1, nI_1]
        rfl
      · refine oif (fun z => e (hm1.mp z)) ?_
        rw [if_neg e, nI_1, nI_1]
        rfl
    · rw [if_neg hg, if_neg hg]
      refine oit rfl ?_
      rw [nI_1]
  · rintro f s ⟨p1, p2⟩
    refine ⟨s, ?_, p1, p2⟩
    show kM_led_45 N (f + 1) s (nI q) _ _ (nI (10 * (tC M).1)) = _
    rw [kM_led_45]
    refine oit (by rw [h10 s p1]; exact nI_le (Nat.le_refl _) (by omega)) ?_
    by_cases e : q = 0
    · rw [if_pos e]
      exact oit (hq0.mpr e) rfl
    · rw [if_neg e]
      exact oif (fun z => e (hq0.mp z)) rfl
theorem b_led (hX : XB g N xa oa n Z Ya Yh na ta cv la lh ra rh M T S) (hR : RB N M T σ) {q : Nat} (hq : q ≤ 2) : ∃ S1 r, kX_X1_led g N S xa (nI q) = some (.inl (S1, r)) ∧ KS xa ta oa n S S1 ∧ ∃ σ1, kM_led N σ (nI q) = some (σ1, r) ∧ σ1.1 0 = 0 ∧ RFr σ σ1 := by
  have hN := hX.2.2.2.1
  have hT := hX.2.2.2.2.1
  have hM := hX.2.2.1
  have h9 := hM.1
  have hV := hM.2.2.1
  have hO := hX.oc
  have hG := hX.2.2.2.2.2.2.2
  have z0 : (m_put σ 0 0).1 0 = 0 := mp_s _ _ _
  have hq2 : nI q = 2 ↔ q = 2 := nI_eq (b := 2) (by omega) (by omega)
  have hls0 : YLS xa ta oa n S S := ⟨KS.refl hX.wf.1, hX.wf, by rw [← hX.2.2.2.2.2.1]; exact Nat.le_refl _, rfl, rfl⟩
  by_cases e2 : q = 2
  · obtain ⟨m, w, hS⟩ := hX.ns
    obtain ⟨-, hH⟩ := hX.ls hls0
    have hHk : ∀ x ∈ tH M, ∃ j : Nat, 1 ≤ j ∧ j ≤ 40 ∧ x.2.1 = nI j := fun x hx => (hM.2.2.2.2.1.2 x hx).2.1
    have hY := mBe_YN m h9 hV.1.1
    obtain ⟨m1, w1, x2⟩ := x_isSo (T := T) (m := mBe m (tV M)) (w := w) hH hO hN hHk hY (by omega)
    obtain ⟨s2, a1, a2, a3⟩ := r_try hN hR.1 hR.2.1 m (RFr.p0 σ 0)
    have hHr : RHeard (s2.1 49) (s2.2.2 50) (tH M) := by
      rw [a2.1 49 (by decide) (by decide), a2.2.2.1 50 (by decide) (by decide) (by decide) (by decide) (by decide)]
      exact hR.1.2.2.2.1
    obtain ⟨s3, c1, c2, -⟩ := r_isHeard hN hM.2.2.2.2.1.1 hHr a3 (by omega)
    refine ⟨nset S ta xa m1 w1, if hrB (tC M) (tH M) (mBe m (tV M)) 40 = true then 1 else 0, ?_, hX.ks m1 w1, s3, ?_, ?_, (RFr.p0 σ 0).trans (a2.r.trans c2.r)⟩
    · unfold kX_X1_led
      have hbe := oc_be (m := m) (w := w) hO hN
      rw [hS] at hbe
      refine ot1 (x_oneOf1 (b := 2) rfl hq (by decide)) (oit (hq2.mpr e2) (ob1 (f_obj_T hO.1.1.1 (by decide) (by decide) hO.2.2.2.2) (ob1 (f_obj_T hO.1.1.1 (by decide) (by decide) hO.2.2.2.1) (ob1 (f_cls_T hO.1.1.2.1) (ob1 hbe (ob1 (oc_cls hO) (ob1 x2 ?_)))))))
      by_cases e : hrB (tC M) (tH M) (mBe m (tV M)) 40 = true
      · rw [if_pos e]
        exact oif n10 rfl
      · rw [if_neg e]
        exact oit rfl rfl
    · unfold kM_led
      refine onb rfl (ob1 (r_isWhat1 z0 (b := 2) rfl hq (by decide)) (oif n10 (oit (hq2.mpr e2) (ob1 a1 (ob1 c1 ?_)))))
      by_cases e : hrB (tC M) (tH M) (mBe m (tV M)) 40 = true
      · rw [if_pos e]
        exact oif n10 rfl
      · rw [if_neg e]
        exact oit rfl rfl
    · rw [c2.1 0 (by decide) (by decide), a2.1 0 (by decide) (by decide), z0]
  · obtain ⟨S1, k1, k2⟩ := x_others hX hR
    obtain ⟨s1, u1, u2, u3⟩ := r_led45 hR (q := q) (by omega) (RFr.p0 σ 0) z0
    obtain ⟨h1, ⟨Y, cap, h2, h3⟩, h4, h5, h6⟩ := k2
    have hl := h2.l
    have hln : (gIs g (gL (tC M) (tV M) (tH M) (10 * (tC M).1))).length = (gL (tC M) (tV M) (tH M) (10 * (tC M).1)).length := by unfold gIs; rw [List.length_map]
    have hq0 : nI q = 0 ↔ q = 0 := nI_eq (b := 0) (by omega) (by omega)
    refine ⟨S1, if q = 0 then nI (gL (tC M) (tV M) (tH M) (10 * (tC M).1)).length else gFst (gL (tC M) (tV M) (tH M) (10 * (tC M).1)), ?_, h1.1, s1, ?_, u3, u2⟩
    · unfold kX_X1_led
      refine ot1 (x_oneOf1 (b := 2) rfl hq (by decide)) (oif (fun z => e2 (hq2.mp z)) (ob1 (f_cls_T hO.1.1.1) (ob1 k1 ?_)))
      by_cases e : q = 0
      · rw [if_pos e]
        refine oit (hq0.mpr e) (ob1 hl.cls (ob1 (hl.size N) ?_))
        rw [hln]
      · rw [if_neg e]
        refine oif (fun z => e (hq0.mp z)) (ob1 hl.cls (ob1 (hl.empty N) ?_))
        cases hgl : gL (tC M) (tV M) (tH M) (10 * (tC M).1) with
        | nil => exact oif n10 rfl
        | cons a l =>
          have ha : a < 10 * (tC M).1 := (gL_mem (C := tC M) (V := tV M) (hs := tH M) (g := 10 * (tC M).1) (by rw [hgl]; exact List.mem_cons_self)).1
          rw [hgl] at hl
          have hget := hl.get N (i := 0) (r := gIc g (a + 128)) rfl
          have hiv := hG.2.2.1 (a + 128) (by omega)
          refine oit rfl (ob1 hl.cls (ob1 hget (ob1 hiv (ob1 hiv (ob1 (v := (S1, nI a)) ?_ rfl)))))
          unfold kX_J19_intValue
          refine ob1 hiv ?_
          rw [vb_128 a (by omega)]
    · unfold kM_led
      exact onb rfl (ob1 (r_isWhat1 z0 (b := 2) rfl hq (by decide)) (oif n10 (oif (fun z => e2 (hq2.mp z)) u1)))
end OT
theorem op_led {g : XC} {N xa oa i : Nat} (hN : 2 ^ 20 < N) (hi : i ≤ 378) : St_led (yRel g N xa oa i) (yRel g N xa oa (i + 6)) g N xa oa := by
  rintro a0 n sl τ σ ⟨M, Z, Ya, Yh, na, ta, cv, la, lh, ra, rh, hB⟩
  have hB : yBody g N xa oa i n Z Ya Yh na ta cv la lh ra rh M τ σ := hB
  generalize hcc : n + 14000 = cc
  generalize hkk : sl + 97000 = kk
  obtain ⟨hO, hr, hQ, hfr, hS⟩ := y_open hB sl cc kk (by omega) (by omega)
  have hX := y_xb (sl := sl) (c := cc) (k := kk) hB hN hi (by omega) (by omega)
  have hRB := y_rb hB hN hi
  have z0 : (m_put σ 0 0).1 0 = 0 := mp_s _ _ _
  have z1 : (m_put σ 0 0).1 1 = nI (tC M).1 := (mp_n _ _ _ (by decide)).trans hRB.1.1.1
  have h9 := hRB.2.1.1
  have hw : ∀ a0, kX_X0_led (jg g cc kk) N ((n, sl, cc, kk), τ) xa a0 oa = yW yH0 (kX_X1_led (jg g cc kk) N ((n, sl, cc, kk), τ) xa a0) oa := fun a0 => ob1 (f_cls_T hQ.2.1.1) rfl
  rw [hw]
  rcases y_rng 0 2 (by decide) a0 with ⟨q0, -, h0, rfl⟩ | h0
  · -- fits
    obtain ⟨S1, r, hx, hks, hm⟩ := b_led hX hRB h0
    obtain ⟨σ1, hm1, hm2, hm3⟩ := hm
    exact fin_ok (c := cc) (k := kk) hB hx hks hm1 hm2 hm3
  · have hx : kX_X1_led (jg g cc kk) N ((n, sl, cc, kk), τ) xa a0 = some (.inr (((n, sl, cc, kk), τ), 0, 0)) := by
      rw [← hS]
      unfold kX_X1_led
      exact ot2 (x_oneOf0 hr h0)
    have hm : kM_led N σ a0 = some (m_put (m_put σ 0 0) 0 1, 0) := by
      unfold kM_led
      exact onb rfl (ob1 (r_isWhat0 z0 h0) (oit rfl rfl))
    exact fin_thr (c := cc) (k := kk) hB hx rfl (KS.refl hQ.2.1.2.2.2.1) hm (mp_s _ _ _) (by decide) (RFr.p00 _ _ _)
