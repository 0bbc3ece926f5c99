/-! the cave: a whole code -/
section YC16
theorem seg_code {N : Nat} (hN : 2 ^ 20 < N) {seg : List Int32} {φ : VF} (h : Seg seg φ) {code : Nat → Int32} {a : Nat} (ha : a + seg.length + 1 ≤ 1400) (hc : ∀ i, i < seg.length → code (a + i) = seg.getD i 0) (h0 : code (a + seg.length) = 0) : CodeR N code a φ := by
  obtain ⟨hl, hr⟩ := h
  intro σ w h5 hv
  obtain ⟨k, p, k1, k2, k3, k4⟩ := hr N 0 a σ w (by omega) (by omega) (fun i hi => by rw [h5]; exact hc i hi) hv
  refine ⟨p, ?_⟩
  obtain ⟨f, hf⟩ : ∃ f, N = f + 1 + k := ⟨N - 1 - k, by omega⟩
  have l0 : m_ld (m_set σ 35 p) 5 (nI (a + seg.length)) = some 0 := by rw [r_ld (q := a + seg.length) rfl (by show a + seg.length < 1400; omega), set35_5, h5, h0]
  have l1 : m_ld (m_set σ 35 p) 35 0 = some (φ w) := by
    have : m_ld (m_set σ 35 p) 35 (nI 0) = some (φ w) := by rw [r_ld (q := 0) rfl (by show 0 < 950; omega), set35_35, k4]
    exact this
  have e : kM_reckons_4 N (f + 1 + k) σ (nI 0) (nI a) = some (m_set σ 35 p, φ w) := by
    rw [k2 (f + 1), kM_reckons_4]
    exact ob1 l0 (oit rfl (ob1 l1 rfl))
  rw [← hf] at e
  exact e
end YC16
