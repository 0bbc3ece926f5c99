/-! the cave: the reference goes out of an expression; parentheses -/
/-- no sign of level l or above goes on here -/
def Ex (b : Nat → Nat) (l : Nat) (te : Int32) (t : TK) : Prop := (l ≤ 6 → opM b t = none) ∧ (l ≤ 5 → opS b t = none) ∧ (l ≤ 4 → te = 1 ∨ opC b t = none) ∧ (l ≤ 2 → opA b t = none) ∧ (l ≤ 1 → opO b t = none)
section YC22
variable {N sz : Nat} {b : Nat → Nat} {W pend : List Nat} {co : List Int32} {d : Nat} {te : Int32} {t : TK} {σ : MS}
theorem opM_n (h : opM b t = none) : sgT b t 42 = false ∧ sgT b t 47 = false := by
  unfold opM at h
  by_cases h1 : sgT b t 42 = true
  · rw [if_pos h1] at h
    cases h
  · rw [if_neg h1] at h
    by_cases h2 : sgT b t 47 = true
    · rw [if_pos h2] at h
      cases h
    · exact ⟨sg_f h1, sg_f h2⟩
theorem opS_n (h : opS b t = none) : sgT b t 43 = false ∧ sgT b t 45 = false := by
  unfold opS at h
  by_cases h1 : sgT b t 43 = true
  · rw [if_pos h1] at h
    cases h
  · rw [if_neg h1] at h
    by_cases h2 : sgT b t 45 = true
    · rw [if_pos h2] at h
      cases h
    · exact ⟨sg_f h1, sg_f h2⟩
theorem opC_n (h : opC b t = none) : sgT b t 60 = false ∧ sgT b t 61 = false := by
  unfold opC at h
  by_cases h1 : sgT b t 60 = true
  · rw [if_pos h1] at h
    cases h
  · rw [if_neg h1] at h
    by_cases h2 : sgT b t 61 = true
    · rw [if_pos h2] at h
      cases h
    · exact ⟨sg_f h1, sg_f h2⟩
theorem opA_n (h : opA b t = none) : knI b t ≠ 9 := by
  unfold opA at h
  by_cases h1 : wd b t 10 = true
  · rw [if_pos h1] at h
    cases h
  · exact fun z => h1 ((knI_iff (k := 9) (by decide)).mp z)
theorem opO_n (h : opO b t = none) : knI b t ≠ 10 := by
  unfold opO at h
  by_cases h1 : wd b t 11 = true
  · rw [if_pos h1] at h
    cases h
  · exact fun z => h1 ((knI_iff (k := 10) (by decide)).mp z)
/-- nothing goes on: a parenthesis closes, or it is the end -/
theorem RY.out (hN : 2 ^ 20 < N) (h : RY sz b W co d te t σ) (hx : Ex b 1 te t) {f : Nat} {R : Option MS} (hR : ((kM_isSign N σ (nI 41)).bind fun w9 =>
          if w9.2 = 0 then
            kM_expression_320 N (kM_expression_29 N f) w9.1
          else
            (kM_isOpened N w9.1).bind fun w11 =>
            if w11.2 = 0 then
              kM_expression_320 N (kM_expression_29 N f) w11.1
            else
              (kM_closes N w11.1).bind fun w13 =>
              kM_expression_29 N f w13 1) = R) : kM_expression_29 N (f + 1) σ 1 = R := by
  obtain ⟨x1, x2, x3, x4, x5⟩ := hx
  obtain ⟨m1, m2⟩ := opM_n (x1 (by decide))
  obtain ⟨s1, s2⟩ := opS_n (x2 (by decide))
  have k9 := opA_n (x4 (by decide))
  have k10 := opO_n (x5 (by decide))
  have h186 : kM_expression_186 N (kM_expression_29 N f) σ 1 = R := by
    unfold kM_expression_186
    exact ob1 (h.s0 (c := 43) (by decide) s1) (oit rfl (ob1 (h.s0 (c := 45) (by decide) s2) (oit rfl (ob1 (h.s0 (c := 42) (by decide) m1) (oit rfl (ob1 (h.s0 (c := 47) (by decide) m2) (oit rfl hR)))))))
  by_cases hc : opC b t = none
  · obtain ⟨c1, c2⟩ := opC_n hc
    exact h.hd_186 hN k9 k10 c1 c2 h186
  · have e1 : te = 1 := (x3 (by decide)).resolve_right hc
    have h127 : kM_expression_127 N (kM_expression_29 N f) σ 1 = R := by
      unfold kM_expression_127
      exact ob1 h.ld29 (oif (by rw [e1]; decide) h186)
    refine h.hd_s hN k9 k10 ?_
    by_cases c1 : sgT b t 60 = true
    · exact ob1 (h.s1 (by decide) c1) (oif n10 h127)
    · refine ob1 (h.s0 (by decide) (sg_f c1)) (oit rfl ?_)
      by_cases c2 : sgT b t 61 = true
      · exact ob1 (h.s1 (by decide) c2) (oif n10 h127)
      · exact ob1 (h.s0 (by decide) (sg_f c2)) (oit rfl h186)
/-- looking for what is open -/
theorem r_opened {W ws : List Nat} (hR : RWs ws σ) (hW : W.length ≤ ws.length) (hl : ws.length < 950) : ∀ (n f : Nat), W.length + n ≤ ws.length → (∀ i, W.length ≤ i → i < ws.length → ws.getD i 0 < 14) → kM_isOpened_7 N (f + n) σ (nI (W.length + n) - 1) = kM_isOpened_7 N f σ (nI W.length - 1) := by
  intro n
  induction n with
  | zero => intro f _ _; rfl
  | succ n ih =>
    intro f h1 h2
    have e1 : nI (W.length + (n + 1)) - 1 = nI (W.length + n) := by
      rw [show (1 : Int32) = nI 1 from rfl, sub_nI (by omega)]
      exact congrArg nI (by omega)
    have h14 := h2 (W.length + n) (by omega) (by omega)
    have hld : m_ld σ 28 (nI (W.length + n)) = some (nI (ws.getD (W.length + n) 0)) := by
      rw [r_ld (q := W.length + n) rfl (by show W.length + n < 950; omega), hR.2 _ (by omega)]
    rw [e1, ← ih f (by omega) h2, show f + (n + 1) = (f + n) + 1 by omega, kM_isOpened_7]
    refine oif (nI_pos (by omega)) (ob1 hld (ob1 (r_opn N (by omega)) (oit (if_neg (by omega)) ?_)))
    have e2 : nI (W.length + n) + (-1) = nI (W.length + n) - 1 := by
      rw [show (-1 : Int32) = iI (-1) from rfl, show (1 : Int32) = iI 1 from rfl, iI_nI, iI_add, iI_sub]
      rfl
    rw [e2]
theorem len14 (W : List Nat) : (W ++ [14]).length = W.length + 1 := by rw [List.length_append]; rfl
theorem len14p (W p : List Nat) : (W ++ [14] ++ p).length = W.length + 1 + p.length := by rw [List.length_append, len14]
theorem getD_app {W p : List Nat} {i : Nat} (h : W.length ≤ i) : (W ++ p).getD i 0 = p.getD (i - W.length) 0 := by
  rw [List.getD_eq_getElem?_getD, List.getElem?_append_right h, List.getD_eq_getElem?_getD]
theorem getD_all {p : List Nat} {Q : Nat → Prop} (h : ∀ a ∈ p, Q a) {i : Nat} (hi : i < p.length) : Q (p.getD i 0) := by
  rw [List.getD_eq_getElem?_getD, List.getElem?_eq_getElem hi]
  exact h _ (List.getElem_mem hi)
theorem RY.opened0 (hN : 2 ^ 20 < N) (h : RY sz b pend co d te t σ) (hl : pend.length < 950) (hp : ∀ a ∈ pend, a < 14) : kM_isOpened N σ = some (σ, 0) := by
  have hR := h.2.2.2.2.2.1
  have h1 := r_opened (N := N) (W := []) hR (Nat.zero_le _) hl pend.length (N - pend.length) (by simp) (fun i _ hi => getD_all hp hi)
  rw [show N - pend.length + pend.length = N by omega] at h1
  unfold kM_isOpened
  rw [hR.1]
  have e : nI pend.length - 1 = nI (([] : List Nat).length + pend.length) - 1 := by rw [show ([] : List Nat).length + pend.length = pend.length by simp]
  refine onb e ?_
  rw [h1]
  obtain ⟨f, hf⟩ : ∃ f, N - pend.length = f + 1 := ⟨N - pend.length - 1, by omega⟩
  rw [hf, kM_isOpened_7]
  exact oit (by decide) rfl
theorem RY.opened1 (hN : 2 ^ 20 < N) (h : RY sz b (W ++ [14] ++ pend) co d te t σ) (hl : (W ++ [14] ++ pend).length < 950) (hp : ∀ a ∈ pend, a < 14) : kM_isOpened N σ = some (σ, 1) := by
  have hR := h.2.2.2.2.2.1
  have hlen : (W ++ [14] ++ pend).length = (W ++ [14]).length + pend.length := List.length_append
  have hl1 : (W ++ [14]).length = W.length + 1 := by rw [List.length_append]; rfl
  have h1 := r_opened (N := N) (W := W ++ [14]) hR (by omega) hl pend.length (N - pend.length) (by omega) (fun i hi1 hi2 => by
    rw [getD_app hi1]
    exact getD_all hp (by omega))
  rw [show N - pend.length + pend.length = N by omega, hl1] at h1
  unfold kM_isOpened
  rw [hR.1]
  refine onb (by rw [hlen, hl1]) ?_
  rw [h1]
  obtain ⟨f, hf⟩ : ∃ f, N - pend.length = f + 1 := ⟨N - pend.length - 1, by omega⟩
  have e1 : nI (W.length + 1) - 1 = nI W.length := by
    rw [show (1 : Int32) = nI 1 from rfl, sub_nI (by omega)]
    rfl
  have hld : m_ld σ 28 (nI W.length) = some (nI 14) := by
    rw [r_ld (q := W.length) rfl (by show W.length < 950; omega), hR.2 _ (by omega), List.append_assoc, getD_app (Nat.le_refl _), Nat.sub_self]
    rfl
  rw [hf, kM_isOpened_7, e1]
  refine oif (nI_pos (by omega)) (ob1 hld (ob1 (r_opn N (by decide)) (oif n10 ?_)))
  unfold kM_isOpened_29
  exact oif (nI_pos (by omega)) rfl
theorem RY.closes (hN : 2 ^ 20 < N) (h : RY sz b (W ++ [14] ++ pend) co (d + 1) te t σ) (hB : RBr (W ++ [14] ++ pend) co t) (hp : ∀ a ∈ pend, a < 14) (h0 : t.1 ≠ 0) : ∃ σ1, kM_closes N σ = some σ1 ∧ RY sz b W (co ++ pend.reverse.map nI) d (σ.2.2 29 d) (nxT sz b t) σ1 ∧ RBr W (co ++ pend.reverse.map nI) (nxT sz b t) ∧ RKx σ σ1 ∧ σ1.2.2 29 = σ.2.2 29 := by
  obtain ⟨b1, b2⟩ := hB
  have hlen : (W ++ [14] ++ pend).length = W.length + 1 + pend.length := by rw [List.length_append, List.length_append]; rfl
  rw [hlen] at b1 b2
  have hk := h.2.2.2.1
  have h7 := h.2.1.2.1
  have hlt := hk.2.2.2.1 h0
  have hz := hk.2.1
  have hnx := nxT_lt hk h0
  obtain ⟨σ1, p1, p2, p3, p4⟩ := h.drops hN (l := 0) (by decide) (Or.inr ⟨W, 14, rfl, by decide, Or.inl (Nat.le_refl _)⟩) (fun a ha => ⟨hp a ha, Nat.zero_le _⟩) (by omega) (by omega)
  obtain ⟨a1, a2, a3, a4, a5, a6, a7, a8, a9, a10⟩ := p2
  have e23 : σ1.1 23 - 1 = nI W.length := by
    rw [a6.1, len14 W, show (1 : Int32) = nI 1 from rfl, sub_nI (by omega)]
    rfl
  have e24 : (m_put σ1 23 (nI W.length)).1 24 - 1 = nI d := by
    rw [mp_n _ _ _ (by decide), a7, show (1 : Int32) = nI 1 from rfl, sub_nI (by omega)]
    rfl
  generalize hs3 : m_put (m_put σ1 23 (nI W.length)) 24 (nI d) = σ3
  have l3 : ∀ j, j ≠ 23 → j ≠ 24 → σ3.1 j = σ1.1 j := fun j z1 z2 => by rw [← hs3]; exact (mp_n _ _ _ z2).trans (mp_n _ _ _ z1)
  have r3 : σ3.2 = σ1.2 := by rw [← hs3]; rfl
  have hY : RY sz b W (co ++ pend.reverse.map nI) d (σ.2.2 29 d) t σ3 := ⟨(l3 8 (by decide) (by decide)).trans a1, a2.of (l3 11 (by decide) (by decide)) (by rw [r3]) (l3 9 (by decide) (by decide)), a3.of (fun j hj => l3 j (fun z => by subst z; simp at hj) (fun z => by subst z; simp at hj)) (by rw [r3]), a4, a5.of (l3 22 (by decide) (by decide)) (by rw [r3]), a6.pop σ3 (by rw [← hs3]; exact (mp_n _ _ _ (by decide)).trans (mp_s _ _ _)) (by rw [r3]), by rw [← hs3]; exact mp_s _ _ _, by omega, by rw [r3, p4], fun a ha => a10 a (List.mem_append_left _ ha)⟩
  obtain ⟨σ4, u1, u2, u3, u4⟩ := hY.goes hN
  refine ⟨σ4, ?_, u2, ⟨by omega, by rw [rev_len]; omega⟩, (p3.trans ?_).trans u3, by rw [u4, r3, p4]⟩
  · unfold kM_closes
    refine ob1 p1 (onb (congrArg (m_put σ1 23) e23) (onb ?_ (ob1 u1 rfl)))
    rw [e24, hs3]
  · rw [← hs3]
    exact (RKx.put _ _ _ (by decide)).trans (RKx.put _ _ _ (by decide))
theorem RY.deeper (h : RY sz b W co d te t σ) (hd : d < 6) : ∃ σ1, kM_deeper N σ = some σ1 ∧ RY sz b W co (d + 1) 0 t σ1 ∧ RKx σ σ1 ∧ ∀ i, i ≠ d + 1 → σ1.2.2 29 i = σ.2.2 29 i := by
  obtain ⟨a1, a2, a3, a4, a5, a6, a7, a8, a9, a10⟩ := h
  have e24 : σ.1 24 + 1 = nI (d + 1) := by rw [a7, nI_1]
  have hY : RY sz b W co (d + 1) (σ.2.2 29 (d + 1)) t (m_put σ 24 (nI (d + 1))) := ⟨(mp_n _ _ _ (by decide)).trans a1, a2.of (mp_n _ _ _ (by decide)) rfl (mp_n _ _ _ (by decide)), a3.of (fun j hj => mp_n _ _ _ (fun z => by subst z; simp at hj)) rfl, a4, a5.of (mp_n _ _ _ (by decide)) rfl, a6.of (mp_n _ _ _ (by decide)) rfl, mp_s _ _ _, hd, rfl, a10⟩
  obtain ⟨σ1, k1, k2, k3, k4⟩ := hY.test (v := 0) (Or.inl rfl)
  refine ⟨σ1, ?_, k2, (RKx.put _ _ _ (by decide)).trans k3, fun i hi => k4 i hi⟩
  unfold kM_deeper
  refine oif ?_ (onb (congrArg (m_put σ 24) e24) (ob1 k1 rfl))
  rw [a7]
  exact nI_ge (b := 6) (a := d) hd (by omega)
theorem RY.deep6 (h : RY sz b W co 6 te t σ) (h1 : co.length + W.length ≤ 1399) (h2 : W.length ≤ 950) : ∃ σ1, kM_deeper N σ = some σ1 ∧ RBd (if okT b t = true then 2 else 1, t) σ1 ∧ RKx σ σ1 := by
  obtain ⟨σ1, k1, k2, k3, -, -, -⟩ := h.wrong (N := N) (k := if okT b t = true then 2 else 1) h1 h2 (by split <;> omega)
  refine ⟨σ1, ?_, k2, k3⟩
  have hR := h.2.2.1
  have h4 := h.2.2.2.1.2.2.1
  have e6 : (6 : Int32) ≤ σ.1 24 := by rw [h.2.2.2.2.2.2.1]; decide
  unfold kM_deeper kM_deeper_61
  refine oit e6 ?_
  rw [hR.1]
  by_cases e2 : t.1 = 2
  · have ho : okT b t = true := by unfold okT; rw [e2]; rfl
    rw [if_pos ho] at k1
    exact oit (by rw [e2]; rfl) (ob1 k1 rfl)
  · refine oif (fun z => e2 ((nI_eq (b := 2) (by omega) (by omega)).mp z)) ?_
    by_cases e1 : t.1 = 1
    · have ho : okT b t = true := by unfold okT; rw [e1]; rfl
      rw [if_pos ho] at k1
      exact oit (by rw [e1]; rfl) (ob1 k1 rfl)
    · refine oif (fun z => e1 ((nI_eq (b := 1) (by omega) (by omega)).mp z)) ?_
      have ho : okT b t = sgT b t 40 := by
        unfold okT
        rw [decide_eq_false (by omega), Bool.false_or]
      by_cases e40 : sgT b t 40 = true
      · rw [ho, if_pos e40] at k1
        exact ob1 (h.s1 (c := 40) (by decide) e40) (oif n10 (ob1 k1 rfl))
      · rw [ho, if_neg e40] at k1
        exact ob1 (h.s0 (c := 40) (by decide) (sg_f e40)) (oit rfl (ob1 k1 rfl))
end YC22
