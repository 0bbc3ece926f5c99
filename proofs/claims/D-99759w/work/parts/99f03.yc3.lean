/-! the cave: the reference goes to the next token -/
section YC3
variable {N sz : Nat} {b : Nat → Nat} {σ s : MS}
theorem mlp_s (σ : MS) (v : Int64) : (m_lput σ v).2.1 = v := rfl
theorem RL.lput (σ : MS) (v : Int64) : RL σ (m_lput σ v) := ⟨fun _ _ => rfl, rfl⟩
theorem r_331 {p q : Nat} (hpq : q ≤ p) (h12 : s.1 12 = nI p) (h14 : s.1 14 = nI q) : kM_goes_331 N s = some (m_put s 15 (nI (p - q))) := by
  unfold kM_goes_331
  refine onb ?_ rfl
  rw [h12, h14]
  exact congrArg (m_put s 15) (by
    rw [iI_nI, iI_nI, iI_sub, iI_nI]
    exact congrArg iI (by omega))
theorem sub_nI {p q : Nat} (h : q ≤ p) : nI p - nI q = nI (p - q) := by
  rw [iI_nI, iI_nI, iI_sub, iI_nI]
  exact congrArg iI (by omega)
theorem r_let (hT : RTp sz b σ) {q : Nat} : ∀ (d p f : Nat) (s : MS), p + d = sz → d < f → RL σ s → s.1 14 = nI q → s.1 12 = nI p → q ≤ p → (∀ i, q ≤ i → i < p → cL (b i) = true) → s.2.1 = iJ (lxH b q (min (p - q) 6)) → s.1 17 = nI (b q) → ∃ s1, kM_goes_108 N f s = some s1 ∧ RL σ s1 ∧ RT sz b (1, q, lxE cL sz b p) s1 := by
  intro d
  induction d with
  | zero =>
    intro p f s hp hf hl h14 h12 hqp hL hw h17
    obtain ⟨f, rfl⟩ : ∃ e, f = e + 1 := ⟨f - 1, by omega⟩
    have hTs := hT.l hl
    have hb := r_byteAt (N := N) hTs (p := p) (by omega)
    have hA : bA sz b p = 0 := if_neg (by omega)
    rw [hA] at hb
    have h13 : (m_put s 13 1).1 13 = 1 := mp_s _ _ _
    refine ⟨m_put (m_put s 13 1) 15 (nI (p - q)), ?_, hl.trans ((RL.put _ _ _ (by decide)).trans (RL.put _ _ _ (by decide))), ?_⟩
    · rw [kM_goes_108, h12]
      refine ob1 hb (ob1 (v := 0) (r_isLetter (c := 0) (by omega)) (oit rfl (onb rfl ?_)))
      exact r_331 hqp ((mp_n _ _ _ (by decide)).trans h12) ((mp_n _ _ _ (by decide)).trans h14)
    · rw [lxE_f (by omega)]
      refine ⟨(mp_n _ _ _ (by decide)).trans h13, (mp_n _ _ _ (by decide)).trans ((mp_n _ _ _ (by decide)).trans h14), (mp_n _ _ _ (by decide)).trans ((mp_n _ _ _ (by decide)).trans h12), mp_s _ _ _, fun z => ?_, fun _ => hw, fun _ => (mp_n _ _ _ (by decide)).trans ((mp_n _ _ _ (by decide)).trans h17)⟩
      have z : 1 = 2 := z
      omega
  | succ d ih =>
    intro p f s hp hf hl h14 h12 hqp hL hw h17
    obtain ⟨f, rfl⟩ : ∃ e, f = e + 1 := ⟨f - 1, by omega⟩
    have hTs := hT.l hl
    have h700 := hT.2.1
    have hb := r_byteAt (N := N) hTs (p := p) (by omega)
    have hA : bA sz b p = b p := if_pos (by omega)
    rw [hA] at hb
    have h256 := (hT.2.2.1 p (by omega)).2
    by_cases hc : cL (b p) = true
    · have hisl : kM_isLetter N (nI (b p)) = some 1 := by rw [r_isLetter h256, if_pos hc]
      have hcc := cL_t.mp hc
      have hL1 : ∀ i, q ≤ i → i < p + 1 → cL (b i) = true := fun i h1 h2 => by
        by_cases e : i = p
        · rw [e]; exact hc
        · exact hL i h1 (by omega)
      rw [lxE_t (by omega) hc]
      by_cases h6 : 6 ≤ p - q
      · obtain ⟨s1, k1, k2, k3⟩ := ih (p + 1) f (m_put s 12 (nI (p + 1))) (by omega) (by omega) (hl.trans (RL.put _ _ _ (by decide))) ((mp_n _ _ _ (by decide)).trans h14) (mp_s _ _ _) (by omega) hL1 (by
          rw [show min (p + 1 - q) 6 = min (p - q) 6 by omega]
          exact hw) ((mp_n _ _ _ (by decide)).trans h17)
        refine ⟨s1, ?_, k2, k3⟩
        rw [kM_goes_108, h12]
        refine ob1 hb (ob1 hisl (oif n10 (oit ?_ ?_)))
        · show (6 : Int32) ≤ s.1 12 - s.1 14
          rw [h12, h14, sub_nI hqp]
          exact nI_le (a := 6) h6 (by omega)
        · unfold kM_goes_159
          refine onb rfl ?_
          show kM_goes_108 N f (m_put s 12 (s.1 12 + 1)) = _
          rw [h12, nI_1]
          exact k1
      · have hH : lxH b q (p - q) < 2 ^ 30 := by
          have h1 := lxH_lt (b := b) (p := q) (k := p - q) (fun i hi => cL_t.mp (hL (q + i) (by omega) (by omega)))
          have h2 : (32 : Nat) ^ (p - q) ≤ 32 ^ 5 := Nat.pow_le_pow_right (by decide) (by omega)
          have h3 : (32 : Nat) ^ 5 = 33554432 := by decide
          omega
        have hst := h_step (H := lxH b q (p - q)) (x := b p - 96) hH (by omega)
        have e1 : (s.2.1 <<< ((5 : Int32).toInt64 &&& 63)) ||| ((nI (b p) - 96) : Int32).toInt64 = iJ ((lxH b q (p - q) * 32 + (b p - 96) : Nat) : Int) := by
          rw [hw, show min (p - q) 6 = p - q by omega, ← hst, show (96 : Int32) = nI 96 from rfl, sub_nI (by omega), iI_nI, iI_64 (by unfold yR; omega)]
        have e2 : lxH b q (min (p + 1 - q) 6) = lxH b q (p - q) * 32 + (b p - 96) := by
          rw [show min (p + 1 - q) 6 = (p - q) + 1 by omega]
          show lxH b q (p - q) * 32 + (b (q + (p - q)) - 96) = _
          rw [show q + (p - q) = p by omega]
        obtain ⟨s1, k1, k2, k3⟩ := ih (p + 1) f (m_put (m_lput s (iJ ((lxH b q (p - q) * 32 + (b p - 96) : Nat) : Int))) 12 (nI (p + 1))) (by omega) (by omega) ((hl.trans (RL.lput _ _)).trans (RL.put _ _ _ (by decide))) ((mp_n _ _ _ (by decide)).trans h14) (mp_s _ _ _) (by omega) hL1 (by rw [e2]; rfl) ((mp_n _ _ _ (by decide)).trans h17)
        refine ⟨s1, ?_, k2, k3⟩
        rw [kM_goes_108, h12]
        refine ob1 hb (ob1 hisl (oif n10 (oif ?_ ?_)))
        · show ¬ (6 : Int32) ≤ s.1 12 - s.1 14
          rw [h12, h14, sub_nI hqp]
          exact nI_ge (b := 6) (a := p - q) (by omega) (by omega)
        · show ((kM_byteAt N s (s.1 12)).bind _) = _
          rw [h12]
          refine ob1 hb (onb (congrArg (m_lput s) e1) ?_)
          unfold kM_goes_159
          refine onb rfl ?_
          show kM_goes_108 N f (m_put _ 12 (s.1 12 + 1)) = _
          rw [h12, nI_1]
          exact k1
    · have hisl : kM_isLetter N (nI (b p)) = some 0 := by rw [r_isLetter h256, if_neg hc]
      have h13 : (m_put s 13 1).1 13 = 1 := mp_s _ _ _
      refine ⟨m_put (m_put s 13 1) 15 (nI (p - q)), ?_, hl.trans ((RL.put _ _ _ (by decide)).trans (RL.put _ _ _ (by decide))), ?_⟩
      · rw [kM_goes_108, h12]
        refine ob1 hb (ob1 hisl (oit rfl (onb rfl ?_)))
        exact r_331 hqp ((mp_n _ _ _ (by decide)).trans h12) ((mp_n _ _ _ (by decide)).trans h14)
      · rw [lxE_f (fun z => hc z.2)]
        refine ⟨(mp_n _ _ _ (by decide)).trans h13, (mp_n _ _ _ (by decide)).trans ((mp_n _ _ _ (by decide)).trans h14), (mp_n _ _ _ (by decide)).trans ((mp_n _ _ _ (by decide)).trans h12), mp_s _ _ _, fun z => ?_, fun _ => hw, fun _ => (mp_n _ _ _ (by decide)).trans ((mp_n _ _ _ (by decide)).trans h17)⟩
        have z : 1 = 2 := z
        omega
end YC3
