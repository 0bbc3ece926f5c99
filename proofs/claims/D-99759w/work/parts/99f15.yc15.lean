/-! the cave: two stretches and a sign -/
section YC15
variable {N : Nat} {σ : MS}
theorem opc_r {c : Nat} (hc : c ∈ [38, 42, 43, 45, 47, 60, 61, 124]) : 4 ≤ opc c ∧ opc c ≤ 11 := by
  simp only [List.mem_cons, List.not_mem_nil, or_false] at hc
  rcases hc with rfl | rfl | rfl | rfl | rfl | rfl | rfl | rfl <;> decide
theorem seg_bin {s1 s2 : List Int32} {φ ψ : VF} (h : Seg s1 φ) (h' : Seg s2 ψ) {c : Nat} (hc0 : c ∈ [38, 42, 43, 45, 47, 60, 61, 124]) : Seg (s1 ++ s2 ++ [nI (opc c)]) (fun w => yBy c (φ w) (ψ w)) := by
  obtain ⟨hl, hr⟩ := h
  obtain ⟨hl', hr'⟩ := h'
  obtain ⟨o1, o2⟩ := opc_r hc0
  have hln : (s1 ++ s2 ++ [nI (opc c)]).length = s1.length + s2.length + 1 := by rw [List.length_append, List.length_append]; rfl
  have hg : ∀ i, (s1 ++ s2 ++ [nI (opc c)]).getD i 0 = if i < s1.length then s1.getD i 0 else if i < s1.length + s2.length then s2.getD (i - s1.length) 0 else if i = s1.length + s2.length then nI (opc c) else 0 := fun i => by
    rw [List.getD_eq_getElem?_getD, List.append_assoc]
    by_cases e1 : i < s1.length
    · rw [if_pos e1, List.getElem?_append_left e1, List.getD_eq_getElem?_getD]
    · rw [if_neg e1, List.getElem?_append_right (by omega)]
      by_cases e2 : i < s1.length + s2.length
      · rw [if_pos e2, List.getElem?_append_left (by omega), List.getD_eq_getElem?_getD]
      · rw [if_neg e2, List.getElem?_append_right (by omega)]
        by_cases e3 : i = s1.length + s2.length
        · rw [if_pos e3, show i - s1.length - s2.length = 0 by omega]
          rfl
        · rw [if_neg e3, List.getElem?_eq_none (by show 1 ≤ i - s1.length - s2.length; omega)]
          rfl
  refine ⟨by omega, fun N top a σ w h1 h2 hc hv => ?_⟩
  rw [hln] at h1 h2 hc
  obtain ⟨k, p, k1, k2, k3, k4⟩ := hr N top a σ w (by omega) (by omega) (fun i hi => by rw [hc i (by omega), hg, if_pos hi]) hv
  obtain ⟨k', p', k1', k2', k3', k4'⟩ := hr' N (top + 1) (a + s1.length) (m_set σ 35 p) w (by omega) (by omega) (fun i hi => by
    rw [set35_5, Nat.add_assoc, hc (s1.length + i) (by omega), hg, if_neg (by omega), if_pos (by omega), Nat.add_sub_cancel_left]) (by rw [set35_34]; exact hv)
  rw [set35_35] at k3'
  have c3 : σ.2.2 5 (a + s1.length + s2.length) = nI (opc c) := by
    rw [Nat.add_assoc, hc (s1.length + s2.length) (by omega), hg, if_neg (by omega), if_neg (by omega), if_pos rfl]
  refine ⟨k' + 1 + k, upd p' top (yBy c (φ w) (ψ w)), by omega, fun f => ?_, fun i hi => ?_, ?_⟩
  · rw [show f + (k' + 1 + k) = (f + 1 + k') + k by omega, k2, k2', set35_s, kM_reckons_4]
    have l0 : m_ld (m_set σ 35 p') 5 (nI (a + s1.length + s2.length)) = some (nI (opc c)) := by rw [r_ld (q := a + s1.length + s2.length) rfl (by show a + s1.length + s2.length < 1400; omega), set35_5, c3]
    have e1 : nI (top + 1 + 1) + (-1) = nI (top + 1) := by
      rw [show (-1 : Int32) = iI (-1) from rfl, iI_nI, iI_add, iI_nI]
      exact congrArg iI (by omega)
    have e2 : nI (top + 1) - 1 = nI top := by rw [show (1 : Int32) = nI 1 from rfl, sub_nI (by omega)]; rfl
    have l1 : m_ld (m_set σ 35 p') 35 (nI top) = some (φ w) := by rw [r_ld (q := top) rfl (by show top < 950; omega), set35_35, k3' top (by omega), k4]
    have l2 : m_ld (m_set σ 35 p') 35 (nI (top + 1)) = some (ψ w) := by rw [r_ld (q := top + 1) rfl (by show top + 1 < 950; omega), set35_35, k4']
    have hst : m_st (m_set σ 35 p') 35 (nI top) (yBy c (φ w) (ψ w)) = some (m_set σ 35 (upd p' top (yBy c (φ w) (ψ w)))) := by
      rw [r_st (q := top) rfl (by show top < 950; omega)]
      unfold rS
      rw [set35_35, set35_s]
    have hne : ∀ q : Nat, q < 4 → ¬ nI (opc c) = nI q := fun q hq z => by
      have := (nI_eq (a := opc c) (b := q) (by omega) (by omega)).mp z
      omega
    refine ob1 l0 (oif (hne 0 (by omega)) (ob1 l0 (oif (hne 1 (by omega)) (oif (hne 2 (by omega)) (oif (hne 3 (by omega)) ?_)))))
    rw [e1, e2, nI_1, hln, show a + (s1.length + s2.length + 1) = a + s1.length + s2.length + 1 by omega]
    exact ob1 l1 (ob1 l2 (ob1 (r_works hc0 _ _) (ob1 hst rfl)))
  · unfold upd
    rw [if_neg (by omega), k3' i (by omega), k3 i hi]
  · unfold upd
    rw [if_pos rfl]
end YC15
