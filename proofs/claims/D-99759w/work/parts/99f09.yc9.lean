/-! the cave: the reference's small rows -/
section YC9
variable {N sz : Nat} {b : Nat → Nat} {t : TK} {σ : MS}
theorem r_isSign (hT : RTp sz b σ) (hR : RT sz b t σ) (hk : tkOk sz b t) {c : Nat} (hc : c < 256) : kM_isSign N σ (nI c) = some (σ, if sgT b t c = true then 1 else 0) := by
  obtain ⟨k1, k2, k3, k4, -⟩ := hk
  have h700 := hT.2.1
  unfold kM_isSign
  rw [hR.1]
  by_cases e : t.1 = 3
  · have hps := k4 (by omega)
    have h256 := (hT.2.2.1 t.2.1 (by omega)).2
    rw [hR.2.2.2.2.2.2 (by omega)]
    refine oit ((nI_eq (b := 3) (by omega) (by omega)).mpr e) ?_
    by_cases e2 : b t.2.1 = c
    · have hs : (if sgT b t c = true then (1 : Int32) else 0) = 1 := if_pos (decide_eq_true ⟨e, e2⟩)
      rw [hs]
      exact oit (congrArg nI e2) rfl
    · have hs : (if sgT b t c = true then (1 : Int32) else 0) = 0 := if_neg (fun z => e2 (of_decide_eq_true z).2)
      rw [hs]
      exact oif (fun z => e2 ((nI_eq (by omega) (by omega)).mp z)) rfl
  · have hs : (if sgT b t c = true then (1 : Int32) else 0) = 0 := if_neg (fun z => e (of_decide_eq_true z).1)
    rw [hs]
    exact oif (fun z => e ((nI_eq (b := 3) (by omega) (by omega)).mp z)) rfl
/-- not yet wrong; wrong -/
theorem r_good (h : σ.1 8 = 0) : kM_isGood N σ = some (σ, 1) := oit h rfl
theorem r_bad (h : ¬ σ.1 8 = 0) : kM_isGood N σ = some (σ, 0) := oif h rfl
theorem r_wrong (h : σ.1 8 = 0) (k : Int32) : kM_wrong N σ k = some (m_put (m_put σ 8 k) 9 (σ.1 14)) := by
  unfold kM_wrong
  refine oit h (onb rfl (onb ?_ rfl))
  rw [mp_n _ _ _ (by decide)]
theorem r_wrong2 (h : ¬ σ.1 8 = 0) (k : Int32) : kM_wrong N σ k = some σ := oif h rfl
/-- the code as far as it is read, the signs that wait -/
def RCo (co : List Int32) (σ : MS) : Prop := σ.1 22 = nI co.length ∧ ∀ i, i < co.length → σ.2.2 27 i = co.getD i 0
def RWs (ws : List Nat) (σ : MS) : Prop := σ.1 23 = nI ws.length ∧ ∀ i, i < ws.length → σ.2.2 28 i = nI (ws.getD i 0)
theorem r_puts {co : List Int32} (h : RCo co σ) (hl : co.length < 1400) (v : Int32) : ∃ σ1, kM_puts N σ v = some σ1 ∧ RCo (co ++ [v]) σ1 ∧ RK [22] [27] σ σ1 := by
  refine ⟨m_put (rS σ 27 co.length v) 22 (nI (co.length + 1)), ?_, ⟨?_, fun i hi => ?_⟩, fun j hj => mp_n _ _ _ (fun z => hj (by rw [z]; exact List.mem_singleton.mpr rfl)), fun j hj => rS_ne _ _ _ _ (fun z => hj (by rw [z]; exact List.mem_singleton.mpr rfl))⟩
  · unfold kM_puts
    rw [h.1]
    refine ob1 (r_st rfl (by show co.length < 1400; exact hl)) (onb ?_ rfl)
    show m_put _ 22 (σ.1 22 + 1) = _
    rw [h.1, nI_1]
  · rw [List.length_append]
    exact mp_s _ _ _
  · rw [List.length_append] at hi
    have hi : i < co.length + 1 := hi
    show (rS σ 27 co.length v).2.2 27 i = _
    rw [rS_get]
    by_cases e : i = co.length
    · rw [if_pos ⟨rfl, e⟩, e, List.getD_eq_getElem?_getD, List.getElem?_append_right (Nat.le_refl _), Nat.sub_self]
      rfl
    · rw [if_neg (fun z => e z.2), h.2 i (by omega), List.getD_eq_getElem?_getD, List.getD_eq_getElem?_getD, List.getElem?_append_left (by omega)]
theorem r_waits {ws : List Nat} (h : RWs ws σ) (hl : ws.length < 950) (a : Nat) : ∃ σ1, kM_waitsFor N σ (nI a) = some σ1 ∧ RWs (ws ++ [a]) σ1 ∧ RK [23] [28] σ σ1 := by
  refine ⟨m_put (rS σ 28 ws.length (nI a)) 23 (nI (ws.length + 1)), ?_, ⟨?_, fun i hi => ?_⟩, fun j hj => mp_n _ _ _ (fun z => hj (by rw [z]; exact List.mem_singleton.mpr rfl)), fun j hj => rS_ne _ _ _ _ (fun z => hj (by rw [z]; exact List.mem_singleton.mpr rfl))⟩
  · unfold kM_waitsFor
    rw [h.1]
    refine ob1 (r_st rfl (by show ws.length < 950; exact hl)) (onb ?_ rfl)
    show m_put _ 23 (σ.1 23 + 1) = _
    rw [h.1, nI_1]
  · rw [List.length_append]
    exact mp_s _ _ _
  · rw [List.length_append] at hi
    have hi : i < ws.length + 1 := hi
    show (rS σ 28 ws.length (nI a)).2.2 28 i = _
    rw [rS_get]
    by_cases e : i = ws.length
    · rw [if_pos ⟨rfl, e⟩, e, List.getD_eq_getElem?_getD, List.getElem?_append_right (Nat.le_refl _), Nat.sub_self]
      rfl
    · rw [if_neg (fun z => e z.2), h.2 i (by omega), List.getD_eq_getElem?_getD, List.getD_eq_getElem?_getD, List.getElem?_append_left (by omega)]
end YC9
