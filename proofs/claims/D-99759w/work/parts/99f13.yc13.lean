/-! the cave: code of not -/
section YC13
variable {N : Nat} {σ : MS}
theorem seg_not {s1 : List Int32} {φ : VF} (h : Seg s1 φ) : Seg (s1 ++ [3]) (vNot φ) := by
  obtain ⟨hl, hr⟩ := h
  have hln : (s1 ++ [3]).length = s1.length + 1 := by rw [List.length_append]; rfl
  refine ⟨by omega, fun N top a σ w h1 h2 hc hv => ?_⟩
  rw [hln] at h1 h2 hc
  obtain ⟨k, p, k1, k2, k3, k4⟩ := hr N top a σ w (by omega) (by omega) (fun i hi => by
    rw [hc i (by omega), List.getD_eq_getElem?_getD, List.getD_eq_getElem?_getD, List.getElem?_append_left hi]) hv
  have c3 : σ.2.2 5 (a + s1.length) = 3 := by
    rw [hc s1.length (by omega), List.getD_eq_getElem?_getD, List.getElem?_append_right (Nat.le_refl _), Nat.sub_self]
    rfl
  have hs : (if φ w = 0 then (1 : Int32) else 0) = vNot φ w := rfl
  refine ⟨k + 1, upd p top (vNot φ w), by omega, fun f => ?_, fun i hi => ?_, ?_⟩
  · rw [show f + (k + 1) = f + 1 + k by omega, k2 (f + 1), kM_reckons_4]
    have l0 : m_ld (m_set σ 35 p) 5 (nI (a + s1.length)) = some 3 := by rw [r_ld (q := a + s1.length) rfl (by show a + s1.length < 1400; omega), set35_5, c3]
    have e1 : nI (top + 1) - 1 = nI top := by rw [show (1 : Int32) = nI 1 from rfl, sub_nI (by omega)]; rfl
    have l1 : m_ld (m_set σ 35 p) 35 (nI top) = some (φ w) := by rw [r_ld (q := top) rfl (by show top < 950; omega), set35_35, k4]
    have hst : ∀ v : Int32, m_st (m_set σ 35 p) 35 (nI top) v = some (m_set σ 35 (upd p top v)) := fun v => by
      rw [r_st (q := top) rfl (by show top < 950; omega)]
      unfold rS
      rw [set35_35, set35_s]
    refine ob1 l0 (oif (by decide) (ob1 l0 (oif (by decide) (oif (by decide) (oit rfl ?_)))))
    rw [e1, nI_1, hln]
    refine ob1 l1 ?_
    by_cases e : φ w = 0
    · have hv1 : vNot φ w = 1 := if_pos e
      rw [hv1]
      refine oit e ?_
      unfold kM_reckons_106
      exact ob1 (hst 1) rfl
    · have hv1 : vNot φ w = 0 := if_neg e
      rw [hv1]
      refine oif e ?_
      unfold kM_reckons_106
      exact ob1 (hst 0) rfl
  · unfold upd
    rw [if_neg (by omega)]
    exact k3 i hi
  · unfold upd
    rw [if_pos rfl]
end YC13
