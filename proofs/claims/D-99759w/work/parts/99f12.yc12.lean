/-! the cave: code of values, of not -/
section YC12
variable {N : Nat} {σ : MS}
theorem k_vPm : ∀ i, i < 6 → yPm i < 6 ∧ yPm (yPm i) = i := by decide
theorem seg_val {i : Nat} (hi : i < 6) : Seg [2, nI (yPm i)] (fun w => w i) := by
  refine ⟨Nat.le_refl 2, fun N top a σ w h1 h2 hc hv => ?_⟩
  have h1 : a + 2 ≤ 1400 := h1
  have h2 : 2 * top + 2 ≤ 1900 := h2
  have hp := (k_vPm i hi).1
  have c0 : σ.2.2 5 a = 2 := hc 0 (by show 0 < 2; omega)
  have c1 : σ.2.2 5 (a + 1) = nI (yPm i) := hc 1 (by show 1 < 2; omega)
  refine ⟨1, upd (σ.2.2 35) top (w i), by show 1 ≤ 2; omega, fun f => ?_, fun j hj => ?_, ?_⟩
  · rw [kM_reckons_4]
    have l0 : m_ld σ 5 (nI a) = some 2 := by rw [r_ld (q := a) rfl (by show a < 1400; omega), c0]
    have l1 : m_ld σ 5 (nI (a + 1)) = some (nI (yPm i)) := by rw [r_ld (q := a + 1) rfl (by show a + 1 < 1400; omega), c1]
    have l2 : m_ld σ 34 (nI (yPm i)) = some (w i) := by rw [r_ld (q := yPm i) rfl (by show yPm i < 6; omega), hv i hi]
    refine ob1 l0 (oif (by decide) (ob1 l0 (oif (by decide) (oit rfl ?_))))
    rw [nI_1]
    unfold kM_reckons_36 kM_reckons_67
    refine oif (by decide) (ob1 l1 (ob1 l2 (ob1 (r_st (q := top) rfl (by show top < 950; omega)) ?_)))
    rw [nI_1, nI_1]
    rfl
  · unfold upd
    rw [if_neg (by omega)]
  · unfold upd
    rw [if_pos rfl]
end YC12
