/-! the cave: code of signs -/
section YC14
variable {N : Nat} {σ : MS}
def opc (c : Nat) : Nat := if c = 38 then 4 else if c = 124 then 5 else if c = 60 then 6 else if c = 61 then 7 else if c = 43 then 8 else if c = 45 then 9 else if c = 42 then 10 else 11
theorem r_works {c : Nat} (hc : c ∈ [38, 42, 43, 45, 47, 60, 61, 124]) (x y : Int32) : kM_works N (nI (opc c)) x y = some (yBy c x y) := by
  simp only [List.mem_cons, List.not_mem_nil, or_false] at hc
  rcases hc with rfl | rfl | rfl | rfl | rfl | rfl | rfl | rfl
  · unfold kM_works
    refine oit rfl ?_
    show _ = some (if x = 0 then 0 else if y = 0 then 0 else 1)
    by_cases h : x = 0
    · rw [if_pos h, if_pos h]
    · rw [if_neg h, if_neg h]
      by_cases h2 : y = 0
      · rw [if_pos h2, if_pos h2]
      · rw [if_neg h2, if_neg h2]
  · rfl
  · rfl
  · rfl
  · unfold kM_works
    refine oif (by decide) (oif (by decide) (oif (by decide) (oif (by decide) (oif (by decide) (oif (by decide) (oif (by decide) ?_))))))
    show _ = some (if y = 0 then 0 else x / y)
    by_cases h : y = 0
    · rw [if_pos h, if_pos h]
    · rw [if_neg h, if_neg h, if_neg h]
      rfl
  · unfold kM_works
    refine oif (by decide) (oif (by decide) (oit rfl ?_))
    show _ = some (if y ≤ x then 0 else 1)
    by_cases h : y ≤ x
    · rw [if_pos h, if_pos h]
    · rw [if_neg h, if_neg h]
  · unfold kM_works
    refine oif (by decide) (oif (by decide) (oif (by decide) (oit rfl ?_)))
    show _ = some (if x = y then 1 else 0)
    by_cases h : x = y
    · rw [if_pos h, if_pos h]
    · rw [if_neg h, if_neg h]
  · unfold kM_works
    refine oif (by decide) (oit rfl ?_)
    show _ = some (if x = 0 then (if y = 0 then 0 else 1) else 1)
    by_cases h : x = 0
    · rw [if_pos h, if_pos h]
      by_cases h2 : y = 0
      · rw [if_pos h2, if_pos h2]
      · rw [if_neg h2, if_neg h2]
    · rw [if_neg h, if_neg h]
end YC14
