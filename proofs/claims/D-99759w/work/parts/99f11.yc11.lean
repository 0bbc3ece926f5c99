/-! the cave: what code means -/
/-- this stretch of code puts φ on the pile -/
def Seg (seg : List Int32) (φ : VF) : Prop := 2 ≤ seg.length ∧ ∀ (N top a : Nat) (σ : MS) (w : Nat → Int32), a + seg.length ≤ 1400 → 2 * top + seg.length ≤ 1900 → (∀ i, i < seg.length → σ.2.2 5 (a + i) = seg.getD i 0) → (∀ i, i < 6 → σ.2.2 34 (yPm i) = w i) → ∃ k pile, k ≤ seg.length ∧ (∀ f, kM_reckons_4 N (f + k) σ (nI top) (nI a) = kM_reckons_4 N f (m_set σ 35 pile) (nI (top + 1)) (nI (a + seg.length))) ∧ (∀ i, i < top → pile i = σ.2.2 35 i) ∧ pile top = φ w
section YC11
variable {N : Nat} {σ : MS}
theorem set35_5 (σ : MS) (p : Nat → Int32) : (m_set σ 35 p).2.2 5 = σ.2.2 5 := rfl
theorem set35_34 (σ : MS) (p : Nat → Int32) : (m_set σ 35 p).2.2 34 = σ.2.2 34 := rfl
theorem set35_35 (σ : MS) (p : Nat → Int32) : (m_set σ 35 p).2.2 35 = p := rfl
theorem set35_s (σ : MS) (p q : Nat → Int32) : m_set (m_set σ 35 p) 35 q = m_set σ 35 q := by
  unfold m_set
  refine Prod.ext rfl (Prod.ext rfl ?_)
  funext j
  show (if j = 35 then q else if j = 35 then p else σ.2.2 j) = if j = 35 then q else σ.2.2 j
  by_cases h : j = 35
  · rw [if_pos h, if_pos h]
  · rw [if_neg h, if_neg h, if_neg h]
theorem seg_num (v : Int32) : Seg [1, v] (fun _ => v) := by
  refine ⟨Nat.le_refl 2, fun N top a σ w h1 h2 hc hv => ?_⟩
  have h1 : a + 2 ≤ 1400 := h1
  have h2 : 2 * top + 2 ≤ 1900 := h2
  have c0 : σ.2.2 5 a = 1 := hc 0 (by show 0 < 2; omega)
  have c1 : σ.2.2 5 (a + 1) = v := hc 1 (by show 1 < 2; omega)
  refine ⟨1, upd (σ.2.2 35) top v, by show 1 ≤ 2; omega, fun f => ?_, fun i hi => ?_, ?_⟩
  · rw [kM_reckons_4]
    have l0 : m_ld σ 5 (nI a) = some 1 := by rw [r_ld (q := a) rfl (by show a < 1400; omega), c0]
    have l1 : m_ld σ 5 (nI (a + 1)) = some v := by rw [r_ld (q := a + 1) rfl (by show a + 1 < 1400; omega), c1]
    refine ob1 l0 (oif n10 (ob1 l0 (oit rfl ?_)))
    rw [nI_1]
    unfold kM_reckons_36 kM_reckons_67
    refine oit rfl (ob1 l1 (ob1 (r_st (q := top) rfl (by show top < 950; omega)) ?_))
    rw [nI_1, nI_1]
    rfl
  · unfold upd
    rw [if_neg (by omega)]
  · unfold upd
    rw [if_pos rfl]
end YC11
