/-! plain law: one bit of a number -/
theorem bt_1 : ∀ i, i < 32 → bt 1 i = decide (i = 0) := by decide +kernel
theorem bit_is {x : Int32} {c : Nat} (hc : c < 32) : ((x >>> (nI c &&& 31)) &&& 1) = 1 ↔ bt x c = true := by
  have hs0 : bt (x >>> (nI c &&& 31)) 0 = bt x c := by
    rw [b_sshr c hc x (by decide), if_pos (by omega)]
    rfl
  constructor
  · intro h
    have h0 : bt ((x >>> (nI c &&& 31)) &&& 1) 0 = bt 1 0 := by rw [h]
    rw [b_and, bt_1 0 (by decide), hs0] at h0
    simpa using h0
  · intro h
    refine b_ext (fun i hi => ?_)
    rw [b_and, bt_1 i hi]
    by_cases e : i = 0
    · subst e
      rw [hs0, h]
      rfl
    · simp [e]
theorem bt_one {c i : Nat} (hc : c < 32) (hi : i < 32) : bt ((1 : Int32) <<< (nI c &&& 31)) i = decide (i = c) := by
  rw [b_shl c hc 1 hi, bt_1 _ (by omega)]
  by_cases e : i = c
  · subst e
    simp
  · by_cases e2 : c ≤ i
    · have : ¬ i - c = 0 := by omega
      simp [e, e2, this]
    · simp [e, e2]
theorem bt_nI {p i : Nat} (hp : p < 2 ^ 31) (hi : i < 32) : bt (nI p) i = p.testBit i := by
  have e : (nI p).toBitVec = BitVec.ofNat 32 p := rfl
  unfold bt
  rw [e, BitVec.getLsbD_ofNat]
  simp [hi]
/-- one bit is turned -/
theorem nI_flip {p c : Nat} (hp : p < 2 ^ 9) (hc : c < 9) : nI p ^^^ ((1 : Int32) <<< (nI c &&& 31)) = nI (p ^^^ 2 ^ c) := by
  have h9 : p ^^^ 2 ^ c < 2 ^ 9 := Nat.xor_lt_two_pow hp (Nat.pow_lt_pow_right (by decide) hc)
  refine b_ext (fun i hi => ?_)
  rw [b_xor, bt_nI (by omega) hi, bt_one (by omega) hi, bt_nI (by omega) hi, Nat.testBit_xor, Nat.testBit_two_pow]
  by_cases e : i = c
  · simp [e]
  · have e2 : ¬ c = i := fun z => e z.symm
    simp [e, e2]
theorem bt_flip {p c k : Nat} (hp : p < 2 ^ 9) (hc : c < 9) (hk : k < 9) : bt (nI (p ^^^ 2 ^ c)) k = if k = c then !bt (nI p) k else bt (nI p) k := by
  rw [← nI_flip hp hc, b_xor, bt_one (by omega) (by omega)]
  by_cases e : k = c
  · simp [e]
  · simp [e]
