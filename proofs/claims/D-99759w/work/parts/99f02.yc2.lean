/-! the cave: the reference's tokens -/
theorem h_step {H x : Nat} (hH : H < 2 ^ 30) (hx : x < 32) : (iJ (H : Int) <<< ((5 : Int32).toInt64 &&& 63)) ||| iJ (x : Int) = iJ ((H * 32 + x : Nat) : Int) := by
  have e5 : ((5 : Int32).toInt64 &&& 63) = (5 : Int64) := by decide
  have eB : ∀ n : Nat, (iJ (n : Int)).toBitVec = BitVec.ofNat 64 n := fun n => by
    unfold iJ
    rw [Int64.toBitVec_ofInt]
    exact BitVec.ofInt_natCast 64 n
  rw [e5]
  apply Int64.toBitVec_inj.mp
  rw [Int64.toBitVec_or, Int64.toBitVec_shiftLeft, eB, eB, eB]
  apply BitVec.eq_of_toNat_eq
  have e6 : ((5 : Int64).toBitVec.smod 64) = 5#64 := by decide
  rw [e6, BitVec.toNat_or, BitVec.shiftLeft_eq', BitVec.toNat_shiftLeft, BitVec.toNat_ofNat, BitVec.toNat_ofNat, BitVec.toNat_ofNat, BitVec.toNat_ofNat]
  have m1 : H % 2 ^ 64 = H := Nat.mod_eq_of_lt (by omega)
  have m2 : x % 2 ^ 64 = x := Nat.mod_eq_of_lt (by omega)
  have m3 : (H * 32 + x) % 2 ^ 64 = H * 32 + x := Nat.mod_eq_of_lt (by omega)
  have m5 : 5 % 2 ^ 64 = 5 := by decide
  have e8 : H <<< 5 = H * 32 := by rw [Nat.shiftLeft_eq]
  have m4 : H <<< 5 % 2 ^ 64 = H <<< 5 := Nat.mod_eq_of_lt (by omega)
  rw [m1, m2, m3, m5, m4, ← Nat.shiftLeft_add_eq_or_of_lt (b := x) (i := 5) (by omega), e8]
/-- the text lies on the reference's tape -/
def RTp (sz : Nat) (b : Nat → Nat) (σ : MS) : Prop := σ.1 11 = nI sz ∧ sz ≤ 700 ∧ (∀ i, i < sz → σ.2.2 6 i = nI (b i) ∧ b i < 256) ∧ σ.1 9 = -1
/-- the token -/
def RT (sz : Nat) (b : Nat → Nat) (t : TK) (σ : MS) : Prop := σ.1 13 = nI t.1 ∧ σ.1 14 = nI t.2.1 ∧ σ.1 12 = nI t.2.2 ∧ σ.1 15 = nI (t.2.2 - t.2.1) ∧ (t.1 = 2 → σ.1 16 = nI (lxV b t.2.1 (min (t.2.2 - t.2.1) 4))) ∧ (t.1 = 1 → σ.2.1 = iJ (lxH b t.2.1 (min (t.2.2 - t.2.1) 6))) ∧ (t.2.1 < sz → σ.1 17 = nI (b t.2.1))
/-- only the token's fields have changed -/
def RL (σ σ1 : MS) : Prop := (∀ j, j ∉ [12, 13, 14, 15, 16, 17] → σ1.1 j = σ.1 j) ∧ σ1.2.2 = σ.2.2
theorem RL.refl (σ : MS) : RL σ σ := ⟨fun _ _ => rfl, rfl⟩
theorem RL.trans {σ σ1 σ2 : MS} (h : RL σ σ1) (h2 : RL σ1 σ2) : RL σ σ2 := ⟨fun j hj => (h2.1 j hj).trans (h.1 j hj), h2.2.trans h.2⟩
theorem RL.put (σ : MS) (k : Nat) (v : Int32) (hk : k ∈ [12, 13, 14, 15, 16, 17]) : RL σ (m_put σ k v) := ⟨fun j hj => mp_n _ _ _ (fun z => hj (z ▸ hk)), rfl⟩
theorem RTp.l {sz : Nat} {b : Nat → Nat} {σ σ1 : MS} (h : RTp sz b σ) (hl : RL σ σ1) : RTp sz b σ1 := ⟨(hl.1 11 (by decide)).trans h.1, h.2.1, (fun i hi => by rw [hl.2]; exact h.2.2.1 i hi), (hl.1 9 (by decide)).trans h.2.2.2⟩
section YC2
variable {N sz : Nat} {b : Nat → Nat} {σ s : MS}
def bA (sz : Nat) (b : Nat → Nat) (p : Nat) : Nat := if p < sz then b p else 0
theorem r_byteAt (h : RTp sz b s) {p : Nat} (hp : p ≤ sz) : kM_byteAt N s (nI p) = some (s, nI (bA sz b p)) := by
  have h7 := h.2.1
  unfold kM_byteAt bA
  rw [h.1]
  by_cases e : p < sz
  · rw [if_pos e]
    refine oif (nI_ge e (by omega)) (ob1 (r_ld rfl (by show p < 700; omega)) ?_)
    rw [(h.2.2.1 p e).1]
  · rw [if_neg e]
    exact oit (nI_le (by omega) (by omega)) rfl
theorem r_isLetter {c : Nat} (hc : c < 256) : kM_isLetter N (nI c) = some (if cL c = true then 1 else 0) := by
  unfold kM_isLetter
  by_cases h1 : c < 97
  · have e : (if cL c = true then (1 : Int32) else 0) = 0 := if_neg (fun z => by have := cL_t.mp z; omega)
    rw [e]
    exact oit (nI_lt (b := 97) h1 (by omega)) rfl
  · refine oif (nI_nlt (b := 97) (by omega) (by omega)) ?_
    by_cases h2 : 122 < c
    · have e : (if cL c = true then (1 : Int32) else 0) = 0 := if_neg (fun z => by have := cL_t.mp z; omega)
      rw [e]
      exact oit (nI_lt (a := 122) h2 (by omega)) rfl
    · have e : (if cL c = true then (1 : Int32) else 0) = 1 := if_pos (cL_t.mpr (by omega))
      rw [e]
      exact oif (nI_nlt (a := 122) (by omega) (by omega)) rfl
theorem r_isDigit {c : Nat} (hc : c < 256) : kM_isDigit N (nI c) = some (if cD c = true then 1 else 0) := by
  unfold kM_isDigit
  by_cases h1 : c < 48
  · have e : (if cD c = true then (1 : Int32) else 0) = 0 := if_neg (fun z => by have := cD_t.mp z; omega)
    rw [e]
    exact oit (nI_lt (b := 48) h1 (by omega)) rfl
  · refine oif (nI_nlt (b := 48) (by omega) (by omega)) ?_
    by_cases h2 : 57 < c
    · have e : (if cD c = true then (1 : Int32) else 0) = 0 := if_neg (fun z => by have := cD_t.mp z; omega)
      rw [e]
      exact oit (nI_lt (a := 57) h2 (by omega)) rfl
    · have e : (if cD c = true then (1 : Int32) else 0) = 1 := if_pos (cD_t.mpr (by omega))
      rw [e]
      exact oif (nI_nlt (a := 57) (by omega) (by omega)) rfl
theorem bA_lt (h : RTp sz b s) (p : Nat) : bA sz b p < 256 := by
  unfold bA
  split
  · exact (h.2.2.1 p (by assumption)).2
  · omega
end YC2
