/-! the cave: the reader's signs -/
section YC17
variable {g : XC} {N sz r xa : Nat} {b : Nat → Nat} {S : XS} {v : Nat → Int32} {t : TK}
theorem x_isSign (h : XRd S r xa sz b) (hv : XT5 b t v) (hk : tkOk sz b t) {c : Nat} (hc : c < 128) : kX_X5_isSign g N (rdS S r v) r (nI c) = some (rdS S r v, if sgT b t c = true then 1 else 0) := by
  obtain ⟨k1, k2, k3, k4, -, -, k7⟩ := hk
  have h700 := h.2.2.2.2.1
  unfold kX_X5_isSign
  refine ob1 (rd_int h (by decide) rfl) ?_
  rw [hv.2.1]
  by_cases e : t.1 = 3
  · have hps := k4 (by omega)
    have hS := of_decide_eq_true (k7 e)
    have hb := (h.2.2.2.2.2 t.2.1 (by omega)).2.2 (by omega)
    refine oit ((nI_eq (b := 3) (by omega) (by omega)).mpr e) (ob1 (rd_out h) (ob1 (rd_arr h) (ob1 (rd_int h (by decide) rfl) ?_)))
    rw [hv.2.2.1]
    refine ob1 (rd_tape h (by omega)) ?_
    rw [hb]
    by_cases e2 : b t.2.1 = c
    · have hs : (if sgT b t c = true then (1 : Int32) else 0) = 1 := if_pos (decide_eq_true ⟨e, e2⟩)
      rw [hs]
      exact oit (congrArg nI e2) rfl
    · have hs : (if sgT b t c = true then (1 : Int32) else 0) = 0 := if_neg (fun z => e2 (of_decide_eq_true z).2)
      rw [hs]
      exact oif (fun z => e2 ((nI_eq (by omega) (by omega)).mp z)) rfl
  · have hs : (if sgT b t c = true then (1 : Int32) else 0) = 0 := if_neg (fun z => e (of_decide_eq_true z).1)
    rw [hs]
    exact oif (fun z => e ((nI_eq (b := 3) (by omega) (by omega)).mp z)) rfl
end YC17
