/-! the cave: the reference's leaves -/
theorem k_wm : (∀ i, i < 6 → wMap.getD (yPm i) 0 = 2 + i) ∧ ∀ k, k < 6 → wMap.getD k 0 = 2 + yPm k := by decide
section YC20
variable {N sz : Nat} {b : Nat → Nat} {W pend : List Nat} {co : List Int32} {d : Nat} {te : Int32} {t : TK} {σ : MS}
theorem nm_some {i : Nat} (h : nmT b t = some i) : i < 6 ∧ wd b t (2 + i) = true ∧ knI b t = nI (yPm i) := by
  have h1 := List.find?_some h
  have h2 := List.mem_range.mp (List.mem_of_find?_eq_some h)
  have h3 := (k_vPm i h2).1
  exact ⟨h2, h1, knI_of (by omega) (by rw [k_wm.1 i h2]; exact h1)⟩
theorem nm_none (h : nmT b t = none) : knI b t = -1 ∨ ∃ k, 6 ≤ k ∧ k < 12 ∧ knI b t = nI k := by
  rcases knI_cases (b := b) t with e | ⟨k, hk, e⟩
  · exact Or.inl e
  · by_cases h6 : k < 6
    · have h1 := (knI_iff hk).mp e
      rw [k_wm.2 k h6] at h1
      have h2 := List.find?_eq_none.mp h (yPm k) (List.mem_range.mpr (k_vPm k h6).1)
      exact absurd h1 h2
    · exact Or.inr ⟨k, by omega, hk, e⟩
def RPt (N sz : Nat) (b : Nat → Nat) (W : List Nat) (co : List Int32) (d : Nat) (te : Int32) (σ : MS) : PR (VF × TK) → Prop
  | .inr x => ∃ σ1 seg, kM_part N σ = some σ1 ∧ RY sz b W (co ++ seg) d te x.2 σ1 ∧ RBr W (co ++ seg) x.2 ∧ Seg seg x.1 ∧ RKx σ σ1 ∧ σ1.2.2 29 = σ.2.2 29
  | .inl e => ∃ σ1, kM_part N σ = some σ1 ∧ RBd e σ1 ∧ RKx σ σ1
/-- two codes, and on -/
theorem RY.two (hN : 2 ^ 20 < N) (h : RY sz b W co d te t σ) (hB : RBr W co t) (h0 : t.1 ≠ 0) (u v : Int32) : ∃ σ1 σ2 σ3, kM_puts N σ u = some σ1 ∧ kM_puts N σ1 v = some σ2 ∧ kM_part_90 N σ2 = some σ3 ∧ σ1.1 16 = σ.1 16 ∧ RY sz b W (co ++ [u, v]) d te (nxT sz b t) σ3 ∧ RBr W (co ++ [u, v]) (nxT sz b t) ∧ RKx σ σ3 ∧ σ3.2.2 29 = σ.2.2 29 := by
  obtain ⟨b1, b2⟩ := hB
  have hk := h.2.2.2.1
  have h7 := h.2.1.2.1
  have hlt := hk.2.2.2.1 h0
  have hz := hk.2.1
  have hnx := nxT_lt hk h0
  obtain ⟨σ1, p1, p2, p3, p4⟩ := h.puts (N := N) (by omega) u
  obtain ⟨σ2, q1, q2, q3, q4⟩ := p2.puts (N := N) (by rw [List.length_append]; show co.length + 1 < 1400; omega) v
  obtain ⟨σ3, r1, r2, r3, r4⟩ := q2.goes hN
  have e : (co ++ [u]) ++ [v] = co ++ [u, v] := by rw [List.append_assoc]; rfl
  rw [e] at r2
  have h16 : σ1.1 16 = σ.1 16 := by
    have hx := p1
    unfold kM_puts m_st at hx
    split at hx
    · cases hx
    · cases hx
      exact mp_n _ _ _ (by decide)
  refine ⟨σ1, σ2, σ3, p1, q1, ?_, h16, r2, ⟨by omega, by rw [List.length_append]; show co.length + 2 + W.length + 4 ≤ _; omega⟩, (p3.trans q3).trans r3, by rw [r4, q4, p4]⟩
  unfold kM_part_90
  exact ob1 q2.good (oif n10 (ob1 r1 rfl))
/-- two codes behind an error -/
theorem RBd.two {e : Nat × TK} (h : RBd e σ) (hC : RCo co σ) (hW : RWs W σ) (h1 : co.length + 2 + W.length ≤ 1399) (h2 : W.length ≤ 950) (h3 : ∀ a ∈ W, a < 32) (u v : Int32) : ∃ σ1 σ2, kM_puts N σ u = some σ1 ∧ kM_puts N σ1 v = some σ2 ∧ kM_part_90 N σ2 = some σ2 ∧ σ1.1 16 = σ.1 16 ∧ RBd e σ2 ∧ RKx σ σ2 := by
  obtain ⟨σ1, p1, p2, p3, p4, p5⟩ := h.puts (N := N) hC hW (by omega) h2 h3 u
  obtain ⟨σ2, q1, q2, q3, q4, q5⟩ := p2.puts (N := N) p4 p5 (by rw [List.length_append]; show co.length + 1 + 1 + W.length ≤ 1399; omega) h2 h3 v
  have h16 : σ1.1 16 = σ.1 16 := by
    have hx := p1
    unfold kM_puts m_st at hx
    split at hx
    · cases hx
    · cases hx
      exact mp_n _ _ _ (by decide)
  refine ⟨σ1, σ2, p1, q1, ?_, h16, q2, p3.trans q3⟩
  unfold kM_part_90
  exact ob1 q2.bad (oit rfl rfl)
theorem RY.part (hN : 2 ^ 20 < N) (h : RY sz b W co d te t σ) (hB : RBr W co t) (h40 : sgT b t 40 = false) (rec : TK → PR (VF × TK)) : RPt N sz b W co d te σ (pPart sz b rec t) := by
  have hB0 := hB
  obtain ⟨b1, b2⟩ := hB
  have hk := h.2.2.2.1
  have hR := h.2.2.1
  have h7 := h.2.1.2.1
  have hz := hk.2.1
  have hle := hk.1
  have h4 := hk.2.2.1
  have h32 := h.2.2.2.2.2.2.2.2.2
  have hhd : ∀ {R : Option MS}, ((if (σ.1 13) = 2 then
      if (σ.1 15) ≤ 4 then kM_part_29 N σ else (kM_wrong N σ 2).bind fun w10 => kM_part_29 N w10
    else
      if (σ.1 13) = 1 then
        (kM_knownWord N σ).bind fun w6 => if w6.2 < 0 then kM_part_67 N w6.1 w6.2 else if w6.2 ≤ 5 then kM_part_72 N w6.1 w6.2 else kM_part_67 N w6.1 w6.2
      else (kM_wrong N σ 1).bind fun w5 => kM_part_90 N w5) = R) → kM_part N σ = R := fun hR => by
    unfold kM_part
    exact ob1 h.good (oif n10 hR)
  rw [hR.1, hR.2.2.2.1] at hhd
  unfold pPart
  by_cases h2 : t.1 = 2
  · have hlt := hk.2.2.2.1 (by omega)
    rw [if_pos h2]
    have e2 : nI t.1 = 2 := by rw [h2]; rfl
    by_cases hl4 : t.2.2 - t.2.1 ≤ 4
    · rw [if_pos hl4]
      have hv : σ.1 16 = nI (lxV b t.2.1 (t.2.2 - t.2.1)) := by
        have := hR.2.2.2.2.1 h2
        rw [show min (t.2.2 - t.2.1) 4 = t.2.2 - t.2.1 by omega] at this
        exact this
      obtain ⟨σ1, σ2, σ3, p1, p2, p3, p4, p5, p6, p7, p8⟩ := h.two hN hB0 (by omega) 1 (nI (lxV b t.2.1 (t.2.2 - t.2.1)))
      refine ⟨σ3, _, hhd (oit e2 (oit (nI_le (b := 4) hl4 (by omega)) ?_)), p5, p6, seg_num _, p7, p8⟩
      unfold kM_part_29
      refine ob1 p1 ?_
      show ((kM_puts N σ1 (σ1.1 16)).bind _) = _
      rw [p4, hv]
      exact ob1 p2 p3
    · rw [if_neg hl4]
      obtain ⟨σ0, k1, k2, k3, k4, k5, k6⟩ := h.wrong (N := N) (k := 2) (by omega) (by omega) (by omega)
      obtain ⟨σ1, σ2, p1, p2, p3, p4, p5, p6⟩ := k2.two (N := N) k5 k6 (by omega) (by omega) h32 1 (σ0.1 16)
      refine ⟨σ2, hhd (oit e2 (oif (nI_ge (a := 4) (by omega) (by omega)) (ob1 k1 ?_))), p5, k3.trans p6⟩
      unfold kM_part_29
      refine ob1 p1 ?_
      show ((kM_puts N σ1 (σ1.1 16)).bind _) = _
      rw [p4]
      exact ob1 p2 p3
  · have e2 : ¬ nI t.1 = 2 := fun z => h2 ((nI_eq (b := 2) (by omega) (by omega)).mp z)
    rw [if_neg h2, if_neg (by rw [h40]; decide)]
    by_cases h1 : t.1 = 1
    · have hlt := hk.2.2.2.1 (by omega)
      rw [if_pos h1]
      have e1 : nI t.1 = 1 := by rw [h1]; rfl
      cases hm : nmT b t with
      | some i =>
        obtain ⟨i6, -, ik⟩ := nm_some hm
        have ip := (k_vPm i i6).1
        obtain ⟨σ1, σ2, σ3, p1, p2, p3, -, p5, p6, p7, p8⟩ := h.two hN hB0 (by omega) 2 (nI (yPm i))
        refine ⟨σ3, _, hhd (oif e2 (oit e1 (ob1 (h.known hN) ?_))), p5, p6, seg_val i6, p7, p8⟩
        show (if knI b t < 0 then kM_part_67 N σ (knI b t) else if knI b t ≤ 5 then kM_part_72 N σ (knI b t) else kM_part_67 N σ (knI b t)) = _
        rw [ik]
        refine oif (nI_pos (by omega)) (oit (nI_le (b := 5) (by omega) (by omega)) ?_)
        unfold kM_part_72
        exact ob1 p1 (ob1 p2 p3)
      | none =>
        have h67 : kM_part N σ = kM_part_67 N σ (knI b t) := by
          refine hhd (oif e2 (oit e1 (ob1 (h.known hN) ?_)))
          show (if knI b t < 0 then kM_part_67 N σ (knI b t) else if knI b t ≤ 5 then kM_part_72 N σ (knI b t) else kM_part_67 N σ (knI b t)) = _
          rcases nm_none hm with e | ⟨k, k6, k12, e⟩
          · rw [e]
            exact oit (by decide) rfl
          · rw [e]
            exact oif (nI_pos (by omega)) (oif (nI_ge (a := 5) (b := k) (by omega) (by omega)) rfl)
        obtain ⟨σ0, k1, k2, k3, k4, k5, k6⟩ := h.wrong (N := N) (k := 3) (by omega) (by omega) (by omega)
        obtain ⟨σ1, σ2, p1, p2, p3, p4, p5, p6⟩ := k2.two (N := N) k5 k6 (by omega) (by omega) h32 2 (knI b t)
        refine ⟨σ2, ?_, p5, k3.trans p6⟩
        rw [h67]
        unfold kM_part_67 kM_part_72
        exact ob1 k1 (ob1 p1 (ob1 p2 p3))
    · rw [if_neg h1]
      have e1 : ¬ nI t.1 = 1 := fun z => h1 ((nI_eq (b := 1) (by omega) (by omega)).mp z)
      obtain ⟨σ0, k1, k2, k3, k4, k5, k6⟩ := h.wrong (N := N) (k := 1) (by omega) (by omega) (by omega)
      refine ⟨σ0, hhd (oif e2 (oif e1 (ob1 k1 ?_))), k2, k3⟩
      unfold kM_part_90
      exact ob1 k2.bad (oit rfl rfl)
end YC20
