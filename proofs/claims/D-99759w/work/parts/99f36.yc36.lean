/-! the cave: the reference's pipes; any line -/
section YC36
variable {N sz : Nat} {b : Nat → Nat} {co : List Int32} {t : TK} {σ σ1 : MS} {s : LT} {n : Nat}
def RCh (N : Nat) (σ : MS) (X : Option (MS × Int32)) : PR Nat → Prop
  | .inr v => X = some (σ, 1) ∧ σ.1 16 = nI v ∧ v < 10000
  | .inl e => ∃ σ1, X = some (σ1, 0) ∧ RLb e σ1 ∧ RKl σ σ1
theorem r_cupHere (h : RTk sz b t σ) (h19 : σ.1 19 = nI n) (hn9 : n ≤ 9) : RCh N σ (kM_isCupHere N σ) (pCupN b n t) := by
  have hR := h.2.2.1
  have hk := h.2.2.2
  have h7 := h.2.1.2.1
  have hle := hk.1
  have hz := hk.2.1
  have h4 := hk.2.2.1
  have hpre : ∀ {R : Option (MS × Int32)}, ((if nI t.1 = 2 then
      if nI (t.2.2 - t.2.1) ≤ 4 then if (σ.1 16) < nI n then kM_isCupHere_57 N σ else (kM_wrong N σ 3).bind fun w6 => kM_isCupHere_57 N w6 else (kM_wrong N σ 2).bind fun w7 => kM_isCupHere_57 N w7
    else (kM_wrong N σ 1).bind fun w8 => kM_isCupHere_57 N w8) = R) → kM_isCupHere N σ = R := fun hR2 => by
    unfold kM_isCupHere
    refine ob1 h.good (oif n10 ?_)
    show (if σ.1 13 = 2 then if σ.1 15 ≤ 4 then if (σ.1 16) < (σ.1 19) then kM_isCupHere_57 N σ else (kM_wrong N σ 3).bind fun w6 => kM_isCupHere_57 N w6 else (kM_wrong N σ 2).bind fun w7 => kM_isCupHere_57 N w7 else (kM_wrong N σ 1).bind fun w8 => kM_isCupHere_57 N w8) = _
    rw [hR.1, hR.2.2.2.1, h19]
    exact hR2
  have hw : ∀ k : Nat, 1 ≤ k ∧ k ≤ 5 → ∃ σ1, ((kM_wrong N σ (nI k)).bind fun w6 => kM_isCupHere_57 N w6) = some (σ1, 0) ∧ RLb (k, t) σ1 ∧ RKl σ σ1 := fun k hk => by
    obtain ⟨σ1, k1, k2, k3⟩ := h.wrong (N := N) hk
    refine ⟨σ1, ob1 k1 ?_, k2, RKl.k k3 (by decide) (by decide)⟩
    unfold kM_isCupHere_57
    exact ob1 k2.bad (oz (Or.inl rfl) rfl)
  unfold pCupN
  by_cases h2 : t.1 = 2
  · rw [if_pos h2]
    have e2 : nI t.1 = 2 := by rw [h2]; rfl
    by_cases hl4 : t.2.2 - t.2.1 ≤ 4
    · rw [if_pos hl4]
      have hv : σ.1 16 = nI (lxV b t.2.1 (t.2.2 - t.2.1)) := by
        have := hR.2.2.2.2.1 h2
        rw [show min (t.2.2 - t.2.1) 4 = t.2.2 - t.2.1 by omega] at this
        exact this
      have hn := num_lt hk h2 hl4
      rw [hv] at hpre
      have e4 : nI (t.2.2 - t.2.1) ≤ 4 := nI_le (b := 4) hl4 (by omega)
      by_cases hl : lxV b t.2.1 (t.2.2 - t.2.1) < n
      · rw [if_pos hl]
        refine ⟨hpre (oit e2 (oit e4 (oit (nI_lt hl (by omega)) ?_))), hv, hn⟩
        unfold kM_isCupHere_57
        exact ob1 h.good (oz (Or.inr rfl) rfl)
      · rw [if_neg hl]
        obtain ⟨σ1, k1, k2⟩ := hw 3 (by decide)
        exact ⟨σ1, hpre (oit e2 (oit e4 (oif (nI_nlt (by omega) (by omega)) k1))), k2⟩
    · rw [if_neg hl4]
      obtain ⟨σ1, k1, k2⟩ := hw 2 (by decide)
      exact ⟨σ1, hpre (oit e2 (oif (nI_ge (a := 4) (by omega) (by omega)) k1)), k2⟩
  · rw [if_neg h2]
    obtain ⟨σ1, k1, k2⟩ := hw 1 (by decide)
    exact ⟨σ1, hpre (oif (fun z => h2 ((nI_eq (b := 2) (by omega) (by omega)).mp z)) k1), k2⟩
theorem row_one {ρ ρ1 : Nat → Int32} {k o : Nat} (hk : k < s.1.1) (h9 : s.1.1 ≤ 9) (hR : RowR ρ 0 s.1 s.2.1) (hz : ∀ q, 37 ≤ q → q < 64 → ρ q = 0) (h1 : ∀ q, ρ1 q = if q = 19 + k then nI o else ρ q) : RowR ρ1 0 s.1 (ysA s.2.1 3 k o) ∧ ∀ q, 37 ≤ q → q < 64 → ρ1 q = 0 := by
  have ho : ∀ q, q ≠ 19 + k → ρ1 q = ρ q := fun q z => by rw [h1, if_neg z]
  refine ⟨⟨(ho 0 (by omega)).trans hR.1, fun j hj => ?_⟩, fun q z1 z2 => by rw [ho q (by omega)]; exact hz q z1 z2⟩
  obtain ⟨d1, d2, d3, d4, d5, d6, d7⟩ := hR.2 j hj
  simp only [yA_A, yI_A, show ¬ (0 : Nat) = 3 by decide, show ¬ (1 : Nat) = 3 by decide, show ¬ (4 : Nat) = 3 by decide, show ¬ (5 : Nat) = 3 by decide, show ¬ (2 : Nat) = 3 by decide, false_and, if_false, true_and]
  refine ⟨?_, ?_, ?_, ?_, ?_, ?_, ?_⟩
  · rw [ho _ (by omega)]; exact d1
  · rw [ho _ (by omega)]; exact d2
  · by_cases e : j = k
    · rw [if_pos e, h1, if_pos (by omega), iI_nI]
    · rw [if_neg e, ho _ (by omega)]; exact d3
  · rw [ho _ (by omega)]; exact d4
  · rw [ho _ (by omega)]; exact d5
  · rw [ho _ (by omega)]; exact d6
  · rw [ho _ (by omega)]; exact d7
theorem row_two {ρ ρ1 : Nat → Int32} {m : MN} {C : CC} {k w : Nat} (hk : k < C.1) (h9 : C.1 ≤ 9) (hR : RowR ρ 0 C m) (hz : ∀ q, 37 ≤ q → q < 64 → ρ q = 0) (h1 : ∀ q, ρ1 q = if q = 28 + k then nI w else ρ q) : RowR ρ1 0 C (ysA m 4 k w) ∧ ∀ q, 37 ≤ q → q < 64 → ρ1 q = 0 := by
  have ho : ∀ q, q ≠ 28 + k → ρ1 q = ρ q := fun q z => by rw [h1, if_neg z]
  refine ⟨⟨(ho 0 (by omega)).trans hR.1, fun j hj => ?_⟩, fun q z1 z2 => by rw [ho q (by omega)]; exact hz q z1 z2⟩
  obtain ⟨d1, d2, d3, d4, d5, d6, d7⟩ := hR.2 j hj
  simp only [yA_A, yI_A, show ¬ (0 : Nat) = 4 by decide, show ¬ (1 : Nat) = 4 by decide, show ¬ (3 : Nat) = 4 by decide, show ¬ (5 : Nat) = 4 by decide, show ¬ (2 : Nat) = 4 by decide, false_and, if_false, true_and]
  refine ⟨?_, ?_, ?_, ?_, ?_, ?_, ?_⟩
  · rw [ho _ (by omega)]; exact d1
  · rw [ho _ (by omega)]; exact d2
  · rw [ho _ (by omega)]; exact d3
  · by_cases e : j = k
    · rw [if_pos e, if_neg (by omega), h1, if_pos (by omega), iI_nI]
    · rw [if_neg e, ho _ (by omega)]; exact d4
  · rw [ho _ (by omega)]; exact d5
  · rw [ho _ (by omega)]; exact d6
  · rw [ho _ (by omega)]; exact d7
theorem r_readsPipe (hN : 2 ^ 20 < N) (H : LOk s) (h : RTk sz b t σ) (hC : RCo co σ) (hcl : co.length ≤ 2 * t.2.1) (h19 : σ.1 19 = nI s.1.1) (h25 : ∀ k, k < s.1.1 → σ.2.2 25 k = iI (s.1.2.1 k)) (hf1 : fIn co s.1.2.2.1 (σ.1 20)) (hf2 : fIn co s.1.2.2.2 (σ.1 21)) (hR : RowR (σ.2.2 26) 0 s.1 s.2.1) (hz : ∀ q, 37 ≤ q → q < 64 → σ.2.2 26 q = 0) (h30 : ∀ k, k < s.1.1 → σ.2.2 30 k = if s.2.2 k = true then 1 else 0) :
    RBo N sz b σ ((kM_readsPipe N σ).bind fun w3 => kM_line_150 N w3) (pB (pCupN b s.1.1 t) fun k => if s.2.2 k = true then .inl (4, t) else pB (pCupN b s.1.1 (nxT sz b t)) fun o => if k < o then (if (nxT sz b (nxT sz b t)).1 = 2 then pB (pCupN b s.1.1 (nxT sz b (nxT sz b t))) fun w => if k < w ∧ w ≠ o then .inr (lTwo s k o w, nxT sz b (nxT sz b (nxT sz b t))) else .inl (4, nxT sz b (nxT sz b t)) else .inr (lOne s k o, nxT sz b (nxT sz b t))) else .inl (4, nxT sz b t)) := by
  have h9 := H.1
  have err : ∀ (σ1 : MS) (e : Nat × TK), kM_readsPipe N σ = some σ1 → RLb e σ1 → RKl σ σ1 → RBo N sz b σ ((kM_readsPipe N σ).bind fun w3 => kM_line_150 N w3) (.inl e) := fun σ1 e h1 h2 h3 => ⟨σ1, ob1 h1 rfl, h2, h3⟩
  have hc1 := r_cupHere (N := N) h h19 h9
  cases hv1 : pCupN b s.1.1 t with
  | inl e =>
    rw [hv1] at hc1
    obtain ⟨σ1, a1, a2, a3⟩ := hc1
    exact err σ1 e (by unfold kM_readsPipe; exact ob1 a1 (oit rfl rfl)) a2 a3
  | inr k =>
    rw [hv1] at hc1
    obtain ⟨a1, a2, a3⟩ := hc1
    obtain ⟨t2, hk⟩ := pCupN_ok hv1
    have ld30 : m_ld σ 30 (nI k) = some (if s.2.2 k = true then 1 else 0) := by rw [r_ld rfl (by show k < 9; omega), h30 k hk]
    show RBo N sz b σ _ (if s.2.2 k = true then .inl (4, t) else pB (pCupN b s.1.1 (nxT sz b t)) fun o => if k < o then (if (nxT sz b (nxT sz b t)).1 = 2 then pB (pCupN b s.1.1 (nxT sz b (nxT sz b t))) fun w => if k < w ∧ w ≠ o then .inr (lTwo s k o w, nxT sz b (nxT sz b (nxT sz b t))) else .inl (4, nxT sz b (nxT sz b t)) else .inr (lOne s k o, nxT sz b (nxT sz b t))) else .inl (4, nxT sz b t))
    by_cases hp : s.2.2 k = true
    · rw [if_pos hp]
      rw [if_pos hp] at ld30
      obtain ⟨σ1, k1, k2, k3⟩ := h.wrong (N := N) (k := 4) (by decide)
      refine err σ1 _ ?_ k2 (RKl.k k3 (by decide) (by decide))
      unfold kM_readsPipe
      refine ob1 a1 (oif n10 (onb a2 (ob1 ld30 (oif n10 (ob1 k1 ?_)))))
      unfold kM_readsPipe_27
      exact ob1 k2.bad (oit rfl rfl)
    · rw [if_neg hp]
      rw [if_neg hp] at ld30
      obtain ⟨σ2, b1, b2, b3⟩ := h.next hN
      have hnx := nxT_lt h.2.2.2 (by omega)
      have p27 : ∀ {R : Option MS}, ((kM_isCupHere N σ2).bind fun w4 => if w4.2 = 0 then some w4.1 else if nI k < (w4.1.1 16) then kM_readsPipe_60 N w4.1 (nI k) else (kM_wrong N w4.1 4).bind fun w7 => kM_readsPipe_60 N w7 (nI k)) = R → kM_readsPipe N σ = R := fun hR => by
        unfold kM_readsPipe
        refine ob1 a1 (oif n10 (onb a2 (ob1 ld30 (oit rfl ?_))))
        unfold kM_readsPipe_27
        exact ob1 h.good (oif n10 (ob1 b1 hR))
      have kb := RKl.l b3
      have hc2 := r_cupHere (N := N) (n := s.1.1) b2 ((b3.1 19 (by decide)).trans h19) h9
      cases hv2 : pCupN b s.1.1 (nxT sz b t) with
      | inl e =>
        rw [hv2] at hc2
        obtain ⟨σ3, c1, c2, c3⟩ := hc2
        exact err σ3 e (p27 (ob1 c1 (oit rfl rfl))) c2 (kb.trans c3)
      | inr o =>
        rw [hv2] at hc2
        obtain ⟨c1, c2, c3⟩ := hc2
        obtain ⟨t3, ho⟩ := pCupN_ok hv2
        have hnx2 := nxT_lt b2.2.2.2 (by omega)
        show RBo N sz b σ _ (if k < o then (if (nxT sz b (nxT sz b t)).1 = 2 then pB (pCupN b s.1.1 (nxT sz b (nxT sz b t))) fun w => if k < w ∧ w ≠ o then .inr (lTwo s k o w, nxT sz b (nxT sz b (nxT sz b t))) else .inl (4, nxT sz b (nxT sz b t)) else .inr (lOne s k o, nxT sz b (nxT sz b t))) else .inl (4, nxT sz b t))
        by_cases hko : k < o
        · rw [if_pos hko]
          have elt : nI k < σ2.1 16 := by rw [c2]; exact nI_lt hko (by omega)
          have e19 : (19 : Int32) + nI k = nI (19 + k) := by rw [show (19 : Int32) = nI 19 from rfl, nI_add]
          have e28 : (28 : Int32) + nI k = nI (28 + k) := by rw [show (28 : Int32) = nI 28 from rfl, nI_add]
          generalize hs4 : rS (rS σ2 30 k 1) 26 (19 + k) (nI o) = σ4
          have i4 : σ4.1 = σ2.1 := by rw [← hs4]; rfl
          have w4 : σ4.2.1 = σ2.2.1 := by rw [← hs4]; rfl
          have r4 : ∀ j, j ≠ 26 → j ≠ 30 → σ4.2.2 j = σ.2.2 j := fun j z1 z2 => by rw [← hs4, rS_ne _ _ _ _ z1, rS_ne _ _ _ _ z2, b3.2]
          have r4a : ∀ q, σ4.2.2 26 q = if q = 19 + k then nI o else σ.2.2 26 q := fun q => by rw [← hs4, rS_26, rS_ne _ _ _ _ (by decide), b3.2]
          have r4b : ∀ q, σ4.2.2 30 q = if q = k then 1 else σ.2.2 30 q := fun q => by rw [← hs4, rS_ne _ _ _ _ (by decide), rS_26, b3.2]
          have k4 : RKl σ σ4 := by
            rw [← hs4]
            exact (kb.trans (RKl.st _ _ _ _ (by decide))).trans (RKl.st _ _ _ _ (by decide))
          have T4 : RTk sz b (nxT sz b t) σ4 := b2.of (fun j _ => by rw [i4]) w4 (by rw [r4 6 (by decide) (by decide), b3.2])
          obtain ⟨σ5, d1, d2, d3⟩ := T4.next hN
          have k5 := k4.trans (RKl.l d3)
          have i5 : ∀ j, j ∉ [12, 13, 14, 15, 16, 17] → σ5.1 j = σ.1 j := fun j hj => by rw [d3.1 j hj, i4, b3.1 j hj]
          have st1 : m_stZ σ2 30 (nI k) 1 = some (rS σ2 30 k 1) := r_stZ rfl (by show k < 9; omega) (Or.inr rfl)
          have st2 : m_st (rS σ2 30 k 1) 26 (19 + nI k) (σ2.1 16) = some σ4 := by
            rw [c2, r_st e19 (by show 19 + k < 64; omega), hs4]
          have p60 : ∀ {R : Option MS}, ((if nI (nxT sz b (nxT sz b t)).1 = 2 then (kM_isCupHere N σ5).bind fun w7 => if w7.2 = 0 then some w7.1 else if (w7.1.1 16) ≤ nI k then kM_readsPipe_132 N w7.1 (nI k) else (m_ld w7.1 26 (19 + nI k)).bind fun v10 => if (w7.1.1 16) = v10 then kM_readsPipe_132 N w7.1 (nI k) else kM_readsPipe_137 N w7.1 (nI k) else some σ5) = R) → kM_readsPipe N σ = R := fun hR => by
            refine p27 (ob1 c1 (oif n10 (oit elt ?_)))
            unfold kM_readsPipe_60
            refine ob1 b2.good (oif n10 (ob1 st1 (ob1 st2 (ob1 d1 ?_))))
            rw [d2.2.2.1.1]
            exact hR
          obtain ⟨q1, q2⟩ := row_one (o := o) hk h9 hR hz (ρ1 := σ5.2.2 26) (fun q => by rw [d3.2, r4a])
          have h30' : ∀ j, j < s.1.1 → σ5.2.2 30 j = if (if j = k then true else s.2.2 j) = true then 1 else 0 := fun j hj => by
            rw [d3.2, r4b]
            by_cases e : j = k
            · rw [if_pos e, if_pos e, if_pos rfl]
            · rw [if_neg e, if_neg e]
              exact h30 j hj
          have hC5 : RCo co σ5 := hC.of (i5 22 (by decide)) (by rw [d3.2, r4 27 (by decide) (by decide)])
          have h25' : ∀ j, j < s.1.1 → σ5.2.2 25 j = iI (s.1.2.1 j) := fun j hj => by rw [d3.2, r4 25 (by decide) (by decide)]; exact h25 j hj
          by_cases hn2 : (nxT sz b (nxT sz b t)).1 = 2
          · rw [if_pos hn2]
            have e2 : nI (nxT sz b (nxT sz b t)).1 = 2 := by rw [hn2]; rfl
            have hc3 := r_cupHere (N := N) (n := s.1.1) d2 ((i5 19 (by decide)).trans h19) h9
            have hnx3 := nxT_lt d2.2.2.2 (by omega)
            cases hv3 : pCupN b s.1.1 (nxT sz b (nxT sz b t)) with
            | inl e =>
              rw [hv3] at hc3
              obtain ⟨σ6, f1, f2, f3⟩ := hc3
              exact err σ6 e (p60 (oit e2 (ob1 f1 (oit rfl rfl)))) f2 (k5.trans f3)
            | inr w =>
              rw [hv3] at hc3
              obtain ⟨f1, f2, f3⟩ := hc3
              obtain ⟨t4, hw⟩ := pCupN_ok hv3
              have ld19 : m_ld σ5 26 (19 + nI k) = some (nI o) := by rw [r_ld e19 (by show 19 + k < 64; omega), d3.2, r4a, if_pos rfl]
              have h132 : ∃ σ6, kM_readsPipe_132 N σ5 (nI k) = some σ6 ∧ RLb (4, nxT sz b (nxT sz b t)) σ6 ∧ RKl σ5 σ6 := by
                obtain ⟨σ6, g1, g2, g3⟩ := d2.wrong (N := N) (k := 4) (by decide)
                refine ⟨σ6, ?_, g2, RKl.k g3 (by decide) (by decide)⟩
                unfold kM_readsPipe_132 kM_readsPipe_137
                exact ob1 g1 (ob1 g2.bad (oit rfl rfl))
              obtain ⟨σ6, g1, g2, g3⟩ := h132
              show RBo N sz b σ _ (if k < w ∧ w ≠ o then .inr (lTwo s k o w, nxT sz b (nxT sz b (nxT sz b t))) else .inl (4, nxT sz b (nxT sz b t)))
              by_cases hkw : k < w
              · have nle : ¬ σ5.1 16 ≤ nI k := by rw [f2]; exact nI_ge hkw (by omega)
                by_cases hwo : w = o
                · rw [if_neg (fun z => z.2 hwo)]
                  exact err σ6 _ (p60 (oit e2 (ob1 f1 (oif n10 (oif nle (ob1 ld19 (oit (by rw [f2, hwo]) g1))))))) g2 (k5.trans g3)
                · rw [if_pos ⟨hkw, hwo⟩]
                  have nwo : ¬ σ5.1 16 = nI o := by
                    rw [f2]
                    exact fun z => hwo ((nI_eq (by omega) (by omega)).mp z)
                  have T7 : RTk sz b (nxT sz b (nxT sz b t)) (rS σ5 26 (28 + k) (nI w)) := d2.of (fun _ _ => rfl) rfl (rS_ne _ _ _ _ (by decide))
                  obtain ⟨σ8, l1, l2, l3⟩ := T7.next hN
                  have h137 : kM_readsPipe_137 N σ5 (nI k) = some σ8 := by
                    unfold kM_readsPipe_137
                    refine ob1 d2.good (oif n10 (ob1 (v := rS σ5 26 (28 + k) (nI w)) ?_ (ob1 l1 rfl)))
                    show m_st σ5 26 (28 + nI k) (σ5.1 16) = _
                    rw [f2, r_st e28 (by show 28 + k < 64; omega)]
                  obtain ⟨u1, u2⟩ := row_two (w := w) hk h9 q1 q2 (ρ1 := σ8.2.2 26) (fun q => by rw [l3.2, rS_26])
                  have i8 : ∀ j, j ∉ [12, 13, 14, 15, 16, 17] → σ8.1 j = σ.1 j := fun j hj => (l3.1 j hj).trans (i5 j hj)
                  refine ⟨σ8, co, ob1 (p60 (oit e2 (ob1 f1 (oif n10 (oif nle (ob1 ld19 (oif nwo h137))))))) rfl, ⟨l2, hC5.of (l3.1 22 (by decide)) (by rw [l3.2, rS_ne _ _ _ _ (by decide)]), ?_, (i8 19 (by decide)).trans h19, fun j hj => ?_, ?_, ?_, u1, u2, fun j hj => ?_⟩, (k5.trans (RKl.st _ _ _ _ (by decide))).trans (RKl.l l3)⟩
                  · show co.length ≤ 2 * (nxT sz b (nxT sz b (nxT sz b t))).2.1
                    omega
                  · rw [l3.2, rS_ne _ _ _ _ (by decide)]
                    exact h25' j hj
                  · show fIn co s.1.2.2.1 (σ8.1 20)
                    rw [i8 20 (by decide)]
                    exact hf1
                  · show fIn co s.1.2.2.2 (σ8.1 21)
                    rw [i8 21 (by decide)]
                    exact hf2
                  · rw [l3.2, rS_ne _ _ _ _ (by decide)]
                    exact h30' j hj
              · rw [if_neg (fun z => hkw z.1)]
                exact err σ6 _ (p60 (oit e2 (ob1 f1 (oif n10 (oit (by rw [f2]; exact nI_le (by omega) (by omega)) g1))))) g2 (k5.trans g3)
          · rw [if_neg hn2]
            have e2 : ¬ nI (nxT sz b (nxT sz b t)).1 = 2 := fun z => hn2 ((nI_eq (b := 2) (by have := d2.2.2.2.2.2.1; omega) (by omega)).mp z)
            refine ⟨σ5, co, ob1 (p60 (oif e2 rfl)) rfl, ⟨d2, hC5, ?_, (i5 19 (by decide)).trans h19, h25', ?_, ?_, q1, q2, h30'⟩, k5⟩
            · show co.length ≤ 2 * (nxT sz b (nxT sz b t)).2.1
              omega
            · show fIn co s.1.2.2.1 (σ5.1 20)
              rw [i5 20 (by decide)]
              exact hf1
            · show fIn co s.1.2.2.2 (σ5.1 21)
              rw [i5 21 (by decide)]
              exact hf2
        · rw [if_neg hko]
          have enlt : ¬ nI k < σ2.1 16 := by rw [c2]; exact nI_nlt (by omega) (by omega)
          obtain ⟨σ3, k1, k2, k3⟩ := b2.wrong (N := N) (k := 4) (by decide)
          refine err σ3 _ (p27 (ob1 c1 (oif n10 (oif enlt (ob1 k1 ?_))))) k2 (kb.trans (RKl.k k3 (by decide) (by decide)))
          unfold kM_readsPipe_60
          exact ob1 k2.bad (oit rfl rfl)
end YC36
