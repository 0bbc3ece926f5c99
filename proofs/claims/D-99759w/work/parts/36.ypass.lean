/-! plain law: what an hour does to a night's numbers; the component's hour -/
/-- what cup k lets go to cup j when it settles -/
def mGive (m : MN) (k j : Nat) : Int := if yA m 4 k = -2 then (if yA m 3 k = j then mTip m k else 0) else (if mInto m k 0 = j then (mTip m k + 1) / 2 else 0) + (if mInto m k 1 = j then mTip m k / 2 else 0)
theorem yA_set0_11 (m : MN) (k j : Nat) : yA (mSet0 m k) 11 j = if j = k then 0 else yA m 11 j := by
  unfold mSet0
  simp [yA_A]
theorem yA_set0_1 (m : MN) (k j : Nat) : yA (mSet0 m k) 1 j = if j = k then (yA m 1 k + yA m 11 k) % yA m 0 k else yA m 1 j := by
  unfold mSet0
  by_cases e : j = k <;> simp [yA_A, e]
theorem yA_set0_2 (m : MN) (k j : Nat) : yA (mSet0 m k) 2 j = if j = k then (if yA m 2 k + mTip m k < 1000000000 then yA m 2 k + mTip m k else 1000000000) else yA m 2 j := by
  unfold mSet0
  by_cases e : j = k <;> simp [yA_A, e]
theorem yA_drop11 (m : MN) {to : Int} (n : Int) (j : Nat) (h : to = -1 ∨ 0 ≤ to) : yA (mDrop m to n) 11 j = yA m 11 j + if to = j then n else 0 := by
  rw [yA_drop]
  by_cases e : to = j
  · rw [if_pos e, if_pos ⟨by omega, rfl, by omega⟩]
  · rw [if_neg e, if_neg (fun z => by omega)]
    omega
/-- fields that settling doesn't touch -/
theorem mSettle_o (m : MN) (k i j : Nat) (h1 : i ≠ 1) (h2 : i ≠ 2) (h3 : i ≠ 5) (h4 : i ≠ 11) : yA (mSettle m k) i j = yA m i j := by
  unfold mSettle
  split
  · rw [yA_dropn _ _ _ _ _ h4, yA_set0 _ _ _ _ h1 h2 h4]
  · rw [yA_A, if_neg (fun z => h3 z.1), yA_dropn _ _ _ _ _ h4, yA_dropn _ _ _ _ _ h4, yA_set0 _ _ _ _ h1 h2 h4]
theorem mSettle_1 (m : MN) (k j : Nat) : yA (mSettle m k) 1 j = if j = k then (yA m 1 k + yA m 11 k) % yA m 0 k else yA m 1 j := by
  unfold mSettle
  split
  · rw [yA_dropn _ _ _ _ _ (by decide), yA_set0_1]
  · rw [yA_A, if_neg (fun z => absurd z.1 (by decide)), yA_dropn _ _ _ _ _ (by decide), yA_dropn _ _ _ _ _ (by decide), yA_set0_1]
theorem mSettle_2 (m : MN) (k j : Nat) : yA (mSettle m k) 2 j = if j = k then (if yA m 2 k + mTip m k < 1000000000 then yA m 2 k + mTip m k else 1000000000) else yA m 2 j := by
  unfold mSettle
  split
  · rw [yA_dropn _ _ _ _ _ (by decide), yA_set0_2]
  · rw [yA_A, if_neg (fun z => absurd z.1 (by decide)), yA_dropn _ _ _ _ _ (by decide), yA_dropn _ _ _ _ _ (by decide), yA_set0_2]
theorem mSettle_5 (m : MN) (k j : Nat) : yA (mSettle m k) 5 j = if j = k ∧ yA m 4 k ≠ -2 then (yA m 5 k + mTip m k) % 2 else yA m 5 j := by
  unfold mSettle
  by_cases e : yA m 4 k = -2
  · rw [if_pos e, if_neg (fun z => z.2 e), yA_dropn _ _ _ _ _ (by decide), yA_set0 _ _ _ _ (by decide) (by decide) (by decide)]
  · rw [if_neg e, yA_A]
    by_cases e2 : j = k
    · rw [if_pos ⟨rfl, e2⟩, if_pos ⟨e2, e⟩]
    · rw [if_neg (fun z => e2 z.2), if_neg (fun z => e2 z.1), yA_dropn _ _ _ _ _ (by decide), yA_dropn _ _ _ _ _ (by decide), yA_set0 _ _ _ _ (by decide) (by decide) (by decide)]
section MS1
variable {C : CC} {m : MN} {T : Int} {k : Nat}
theorem mInto_ok (hm : YK C m T k) (b : Int) (h : yA m 4 k ≠ -2) : (k : Int) < mInto m k b ∧ mInto m k b < C.1 := by
  obtain ⟨h0, h1, h2, h3, h4, h5, h6, h7, h8⟩ := hm
  unfold mInto
  rw [if_neg h]
  split <;> omega
theorem mSettle_11 (hm : YK C m T k) (j : Nat) : yA (mSettle m k) 11 j = if j = k then 0 else yA m 11 j + mGive m k j := by
  have hm0 := hm
  obtain ⟨h0, h1, h2, h3, h4, h5, h6, h7, h8⟩ := hm
  unfold mSettle mGive
  by_cases e : yA m 4 k = -2
  · rw [if_pos e, if_pos e, yA_drop11 _ _ _ (by omega), yA_set0_11]
    by_cases e2 : j = k
    · subst e2
      rw [if_pos rfl, if_pos rfl, if_neg (by omega)]
      rfl
    · rw [if_neg e2, if_neg e2]
  · have i0 := mInto_ok hm0 0 e
    have i1 := mInto_ok hm0 1 e
    rw [if_neg e, if_neg e, yA_A, if_neg (fun z => absurd z.1 (by decide)), yA_drop11 _ _ _ (by omega), yA_drop11 _ _ _ (by omega), yA_set0_11]
    by_cases e2 : j = k
    · subst e2
      rw [if_pos rfl, if_pos rfl, if_neg (by omega), if_neg (by omega)]
      rfl
    · rw [if_neg e2, if_neg e2]
      omega
theorem mSettle_I (m : MN) (k i : Nat) (hi : i ≠ 14) : yI (mSettle m k) i = yI m i := by
  unfold mSettle
  split
  · rw [yI_drop, if_neg (fun z => hi z.2)]; rfl
  · rw [yI_A, yI_drop, if_neg (fun z => hi z.2), yI_drop, if_neg (fun z => hi z.2)]; rfl
theorem mSettle_14 (hm : YK C m T k) : yI (mSettle m k) 14 = if yA m 4 k = -2 ∧ yA m 3 k = -1 then yI m 14 + iI (mTip m k) else yI m 14 := by
  have hm0 := hm
  obtain ⟨h0, h1, h2, h3, h4, h5, h6, h7, h8⟩ := hm
  unfold mSettle
  by_cases e : yA m 4 k = -2
  · rw [if_pos e, yI_drop]
    by_cases e2 : yA m 3 k = -1
    · rw [if_pos ⟨e2, rfl⟩, if_pos ⟨e, e2⟩]; rfl
    · rw [if_neg (fun z => e2 z.1), if_neg (fun z => e2 z.2)]; rfl
  · have i0 := mInto_ok hm0 0 e
    have i1 := mInto_ok hm0 1 e
    rw [if_neg e, if_neg (fun z => e z.1), yI_A, yI_drop, if_neg (by omega), yI_drop, if_neg (by omega)]; rfl
theorem mTip_le (hm : YK C m T k) (hc : 0 ≤ yA m 11 k) : 0 ≤ mTip m k ∧ mTip m k ≤ yA m 11 k := by
  obtain ⟨h0, h1, h2, h3, -⟩ := hm
  unfold mTip
  refine ⟨Int.ediv_nonneg (by omega) (by omega), ?_⟩
  have h5 : (yA m 1 k + yA m 11 k) / yA m 0 k < yA m 11 k + 1 := by
    apply Int.ediv_lt_of_lt_mul (by omega)
    have : yA m 11 k * 1 ≤ yA m 11 k * yA m 0 k := Int.mul_le_mul_of_nonneg_left h0 hc
    have e : (yA m 11 k + 1) * yA m 0 k = yA m 11 k * yA m 0 k + yA m 0 k := by rw [Int.add_mul, Int.one_mul]
    omega
  omega
theorem mGive_b (hm : YK C m T k) (hc : 0 ≤ yA m 11 k) (j : Nat) : 0 ≤ mGive m k j ∧ mGive m k j ≤ mTip m k := by
  obtain ⟨t0, t1⟩ := mTip_le hm hc
  unfold mGive
  split
  · split <;> omega
  · split <;> split <;> omega
theorem mSettle_inv (hm : ∀ j, j < C.1 → YK C m (if j < k then T + 40000 else T) j) (hk : k < C.1) (hT : T ≤ 900000000) (hc : ∀ j, k ≤ j → j < C.1 → 0 ≤ yA m 11 j ∧ yA m 11 j ≤ (if j = k then 70 * 2 ^ k else 70 * 2 ^ k - 20)) (h9 : C.1 ≤ 9) :
    (∀ j, j < C.1 → YK C (mSettle m k) (if j < k + 1 then T + 40000 else T) j) ∧ YC C (mSettle m k) (k + 1) := by
  have hk0 := hm k hk
  rw [if_neg (by omega)] at hk0
  have hck := hc k (Nat.le_refl k) hk
  rw [if_pos rfl] at hck
  obtain ⟨t0, t1⟩ := mTip_le hk0 hck.1
  have hp := pow9 (c := k) (by omega)
  have hp1 := pow_pos k
  refine ⟨fun j hj => ?_, fun j h1 h2 => ?_⟩
  · have hj0 := hm j hj
    unfold YK at hj0 ⊢
    rw [mSettle_o m k 0 j (by decide) (by decide) (by decide) (by decide), mSettle_o m k 3 j (by decide) (by decide) (by decide) (by decide), mSettle_o m k 4 j (by decide) (by decide) (by decide) (by decide), mSettle_1, mSettle_2, mSettle_5]
    by_cases e : j = k
    · subst e
      rw [if_neg (by omega)] at hj0
      rw [if_pos rfl, if_pos rfl, if_pos (show j < j + 1 by omega)]
      obtain ⟨a0, a1, a2, a3, a4, a5, a6, a7, a8⟩ := hj0
      refine ⟨a0, a1, Int.emod_nonneg _ (by omega), Int.emod_lt_of_pos _ (by omega), a4, a5, ?_, ?_⟩
      · split
        · omega
        · exact a6
      · have : yA m 2 j + mTip m j < 1000000000 := by omega
        rw [if_pos this]
        omega
    · rw [if_neg e, if_neg e, if_neg (fun z => e z.1)]
      obtain ⟨a0, a1, a2, a3, a4, a5, a6, a7, a8⟩ := hj0
      refine ⟨a0, a1, a2, a3, a4, a5, a6, a7, ?_⟩
      by_cases e2 : j < k
      · rw [if_pos e2] at a8; rw [if_pos (by omega)]; exact a8
      · rw [if_neg e2] at a8; rw [if_neg (by omega)]; exact a8
  · have hj := hc j (by omega) h2
    rw [if_neg (by omega)] at hj
    rw [mSettle_11 hk0, if_neg (by omega), pow_s]
    have := mGive_b hk0 hck.1 j
    omega
theorem mRuns_b (hs : 0 ≤ C.2.1 k ∧ C.2.1 k ≤ 20) : 0 ≤ mRuns C m k ∧ mRuns C m k ≤ 20 := by
  unfold mRuns
  repeat' split
  all_goals omega
theorem YK_c (m : MN) (k j : Nat) (x : Int) : YK C (ysA m 11 k x) T j ↔ YK C m T j := by
  unfold YK
  simp only [yA_A, show ¬ (0 : Nat) = 11 by decide, show ¬ (1 : Nat) = 11 by decide, show ¬ (2 : Nat) = 11 by decide, show ¬ (3 : Nat) = 11 by decide, show ¬ (4 : Nat) = 11 by decide, show ¬ (5 : Nat) = 11 by decide, false_and, if_false]
theorem YK_12 (m : MN) (k j : Nat) (x : Int) : YK C (ysA m 12 k x) T j ↔ YK C m T j := by
  unfold YK
  simp only [yA_A, show ¬ (0 : Nat) = 12 by decide, show ¬ (1 : Nat) = 12 by decide, show ¬ (2 : Nat) = 12 by decide, show ¬ (3 : Nat) = 12 by decide, show ¬ (4 : Nat) = 12 by decide, show ¬ (5 : Nat) = 12 by decide, false_and, if_false]
theorem YK_I (m : MN) (k j : Nat) (x : Int32) : YK C (ysI m k x) T j ↔ YK C m T j := Iff.rfl
theorem YC_I (m : MN) (k c : Nat) (x : Int32) : YC C (ysI m k x) c ↔ YC C m c := Iff.rfl
theorem YC_12 (m : MN) (k c : Nat) (x : Int) : YC C (ysA m 12 k x) c ↔ YC C m c := by
  unfold YC
  simp only [yA_A, show ¬ (11 : Nat) = 12 by decide, false_and, if_false]
/-- what comes into the step's settling -/
def mCome (C : CC) (m : MN) (k : Nat) : MN := ysA m 11 k (yA m 11 k + mRuns C m k)
theorem mCome_pre (hs : 0 ≤ C.2.1 k ∧ C.2.1 k ≤ 20) (hk : k < C.1) (hc : YC C m k) (j : Nat) (h1 : k ≤ j) (h2 : j < C.1) : 0 ≤ yA (mCome C m k) 11 j ∧ yA (mCome C m k) 11 j ≤ (if j = k then 70 * 2 ^ k else 70 * 2 ^ k - 20) := by
  have hr := mRuns_b (m := m) hs
  have h3 := hc j h1 h2
  unfold mCome
  rw [yA_A]
  by_cases e : j = k
  · subst e
    rw [if_pos ⟨rfl, rfl⟩, if_pos rfl]
    omega
  · rw [if_neg (fun z => e z.2), if_neg e]
    exact h3
theorem mStep_inv (hs : ∀ k, k < C.1 → 0 ≤ C.2.1 k ∧ C.2.1 k ≤ 20) (hm : ∀ j, j < C.1 → YK C m (if j < k then T + 40000 else T) j) (hk : k < C.1) (hT : T ≤ 900000000) (hc : YC C m k) (h9 : C.1 ≤ 9) :
    (∀ j, j < C.1 → YK C (mStep C m k) (if j < k + 1 then T + 40000 else T) j) ∧ YC C (mStep C m k) (k + 1) := by
  have h1 := mSettle_inv (m := mCome C m k) (k := k) (T := T) (C := C) (fun j hj => (YK_c _ _ _ _).mpr (hm j hj)) hk hT (mCome_pre (hs k hk) hk hc) h9
  have e : mStep C m k = if mTip (mCome C m k) k ≤ 0 then ysA (mSettle (mCome C m k) k) 12 k (mTip (mCome C m k) k) else ysI (ysA (mSettle (mCome C m k) k) 12 k (mTip (mCome C m k) k)) 13 (yI (ysA (mSettle (mCome C m k) k) 12 k (mTip (mCome C m k) k)) 13 ||| ((1 : Int32) <<< (nI k &&& 31))) := rfl
  rw [e]
  split
  · exact ⟨fun j hj => (YK_12 _ _ _ _).mpr (h1.1 j hj), (YC_12 _ _ _ _).mpr h1.2⟩
  · exact ⟨fun j hj => (YK_I _ _ _ _).mpr ((YK_12 _ _ _ _).mpr (h1.1 j hj)), (YC_I _ _ _ _).mpr ((YC_12 _ _ _ _).mpr h1.2)⟩
theorem mLeakN_b {φ : VF} (h : 0 ≤ yA m 1 k) : 0 ≤ mLeakN C φ m k ∧ mLeakN C φ m k ≤ yA m 1 k := by
  unfold mLeakN
  repeat' split
  all_goals omega
theorem mLeak_inv {φ : VF} (hm : ∀ j, j < C.1 → YK C m T j) (hk : k < C.1) : ∀ j, j < C.1 → YK C (mLeak C φ m k) T j := by
  intro j hj
  have hb := mLeakN_b (C := C) (m := m) (φ := φ) (k := k) (hm k hk).2.2.1
  have hj0 := hm j hj
  unfold mLeak YK
  simp only [yA_I, yA_A, show ¬ (0 : Nat) = 1 by decide, show ¬ (2 : Nat) = 1 by decide, show ¬ (3 : Nat) = 1 by decide, show ¬ (4 : Nat) = 1 by decide, show ¬ (5 : Nat) = 1 by decide, false_and, if_false, true_and]
  obtain ⟨a0, a1, a2, a3, a4, a5, a6, a7, a8⟩ := hj0
  by_cases e : j = k
  · subst e
    rw [if_pos rfl]
    exact ⟨a0, a1, by omega, by omega, a4, a5, a6, a7, a8⟩
  · rw [if_neg e]
    exact ⟨a0, a1, a2, a3, a4, a5, a6, a7, a8⟩
end MS1
/-- what stands while cups settle one behind the other -/
def YS (C : CC) (m : MN) (T : Int) (k : Nat) : Prop := (∀ j, j < C.1 → YK C m (if j < k then T + 40000 else T) j) ∧ YC C m k
theorem YS_0 {C : CC} {m : MN} {T : Int} (h : YG C m T) (h0 : ∀ j, j < C.1 → yA m 11 j = 0) : YS C m T 0 := by
  refine ⟨fun j hj => ?_, fun j _ hj => ?_⟩
  · rw [if_neg (by omega)]
    exact h j hj
  · rw [h0 j hj]
    decide
theorem YS_iter {C : CC} {m : MN} {T : Int} (hs : ∀ k, k < C.1 → 0 ≤ C.2.1 k ∧ C.2.1 k ≤ 20) (h9 : C.1 ≤ 9) (hT : T ≤ 900000000) (h : YS C m T 0) : ∀ k, k ≤ C.1 → YS C (yIter (mStep C) k m) T k := by
  intro k
  induction k with
  | zero => intro _; exact h
  | succ k ih =>
    intro hk
    have h1 := ih (by omega)
    exact mStep_inv hs h1.1 (by omega) hT h1.2 h9
theorem YS_end {C : CC} {m : MN} {T : Int} (h : YS C m T C.1) : YG C m (T + 40000) := fun j hj => by
  have := h.1 j hj
  rw [if_pos hj] at this
  exact this
theorem mLeaks_inv {C : CC} {m : MN} {T : Int} (h : YG C m T) : YG C (mLeaks C m) T := by
  unfold mLeaks
  cases hf : C.2.2.1 with
  | none => exact h
  | some φ =>
    dsimp only
    split
    · have : ∀ n, n ≤ C.1 → YG C (yIter (mLeak C φ) n m) T := by
        intro n
        induction n with
        | zero => intro _; exact h
        | succ n ih => intro hn; exact mLeak_inv (ih (by omega)) (by omega)
      exact this C.1 (Nat.le_refl _)
    · exact h
theorem mPass_inv {C : CC} {m : MN} {T : Int} (hs : ∀ k, k < C.1 → 0 ≤ C.2.1 k ∧ C.2.1 k ≤ 20) (h9 : C.1 ≤ 9) (hT : T ≤ 900000000) (h : YG C m T) (h0 : ∀ j, j < C.1 → yA m 11 j = 0) : YG C (mPass C m) (T + 40000) :=
  mLeaks_inv (YS_end (YS_iter hs h9 hT (m := ysI m 13 0) (YS_0 h h0) C.1 (Nat.le_refl _)))
/-! nothing stays on the way -/
theorem mStep_11 {C : CC} {m : MN} {T : Int} {k : Nat} (h : YS C m T k) (hk : k < C.1) (j : Nat) (hj : j ≤ k) (h0 : ∀ i, i < k → yA m 11 i = 0) : yA (mStep C m k) 11 j = 0 := by
  have hk0 := h.1 k hk
  rw [if_neg (by omega)] at hk0
  have hk1 : YK C (mCome C m k) T k := (YK_c _ _ _ _).mpr hk0
  have e1 : yA (mSettle (mCome C m k) k) 11 j = 0 := by
    rw [mSettle_11 hk1]
    by_cases e : j = k
    · rw [if_pos e]
    · rw [if_neg e]
      have e2 : yA (mCome C m k) 11 j = 0 := by
        unfold mCome
        rw [yA_A, if_neg (fun z => e z.2)]
        exact h0 j (by omega)
      rw [e2]
      unfold mGive
      have hk2 := hk1
      obtain ⟨a0, a1, a2, a3, a4, a5, a6, a7, a8⟩ := hk1
      split
      · rw [if_neg (by omega)]; rfl
      · rename_i q
        have i0 := mInto_ok hk2 0 q
        have i1 := mInto_ok hk2 1 q
        rw [if_neg (by omega), if_neg (by omega)]; rfl
  have e : mStep C m k = if mTip (mCome C m k) k ≤ 0 then ysA (mSettle (mCome C m k) k) 12 k (mTip (mCome C m k) k) else ysI (ysA (mSettle (mCome C m k) k) 12 k (mTip (mCome C m k) k)) 13 (yI (ysA (mSettle (mCome C m k) k) 12 k (mTip (mCome C m k) k)) 13 ||| ((1 : Int32) <<< (nI k &&& 31))) := rfl
  rw [e]
  split
  · rw [yA_A, if_neg (fun z => absurd z.1 (by decide))]; exact e1
  · rw [yA_I, yA_A, if_neg (fun z => absurd z.1 (by decide))]; exact e1
theorem mSteps_11 {C : CC} {m : MN} {T : Int} (hs : ∀ k, k < C.1 → 0 ≤ C.2.1 k ∧ C.2.1 k ≤ 20) (h9 : C.1 ≤ 9) (hT : T ≤ 900000000) (h : YS C m T 0) : ∀ k, k ≤ C.1 → ∀ j, j < k → yA (yIter (mStep C) k m) 11 j = 0 := by
  intro k
  induction k with
  | zero => intro _ j hj; omega
  | succ k ih =>
    intro hk j hj
    exact mStep_11 (YS_iter hs h9 hT h k (by omega)) (by omega) j (by omega) (ih (by omega))
theorem mLeaks_A {C : CC} (m : MN) (i j : Nat) (hi : i ≠ 1) : yA (mLeaks C m) i j = yA m i j := by
  unfold mLeaks
  cases hf : C.2.2.1 with
  | none => rfl
  | some φ =>
    dsimp only
    split
    · have : ∀ n, yA (yIter (mLeak C φ) n m) i j = yA m i j := by
        intro n
        induction n with
        | zero => rfl
        | succ n ih =>
          show yA (mLeak C φ (yIter _ n m) n) i j = _
          unfold mLeak
          rw [yA_I, yA_A, if_neg (fun z => hi z.1)]
          exact ih
      exact this C.1
    · rfl
theorem mPass_11 {C : CC} {m : MN} {T : Int} (hs : ∀ k, k < C.1 → 0 ≤ C.2.1 k ∧ C.2.1 k ≤ 20) (h9 : C.1 ≤ 9) (hT : T ≤ 900000000) (h : YG C m T) (h0 : ∀ j, j < C.1 → yA m 11 j = 0) : ∀ j, j < C.1 → yA (mPass C m) 11 j = 0 := by
  intro j hj
  unfold mPass
  rw [yA_I, mLeaks_A _ _ _ (by decide)]
  exact mSteps_11 hs h9 hT (m := ysI m 13 0) (YS_0 h h0) C.1 (Nat.le_refl _) j hj
/-- a night between hours -/
def YN (C : CC) (m : MN) (T : Int) : Prop := YG C m T ∧ ∀ j, j < C.1 → yA m 11 j = 0
theorem mPass_YN {C : CC} {m : MN} {T : Int} (hs : ∀ k, k < C.1 → 0 ≤ C.2.1 k ∧ C.2.1 k ≤ 20) (h9 : C.1 ≤ 9) (hT : T ≤ 900000000) (h : YN C m T) : YN C (mPass C m) (T + 40000) := ⟨mPass_inv hs h9 hT h.1 h.2, mPass_11 hs h9 hT h.1 h.2⟩
theorem mPasses_YN {C : CC} {m : MN} {T : Int} (hs : ∀ k, k < C.1 → 0 ≤ C.2.1 k ∧ C.2.1 k ≤ 20) (h9 : C.1 ≤ 9) (h : YN C m T) (n : Nat) (hT : T + 40000 * n ≤ 900000000) : YN C (yRep (mPass C) n m) (T + 40000 * n) := by
  induction n with
  | zero => simpa [yRep] using h
  | succ n ih =>
    have h1 := mPass_YN hs h9 (by omega) (ih (by omega))
    have e : T + 40000 * ((n + 1 : Nat) : Int) = T + 40000 * (n : Int) + 40000 := by omega
    rw [e]
    exact h1
section XP
variable {g : XC} {Z : Nat → Prop} {N : Nat} {S : XS} {a xa : Nat} {C : CC} {m : MN} {w : Nat → Int32} {T : Int}
theorem x_leaks (h : NW g Z S a xa C) (hN : 2 ^ 20 < N) {φ : VF} {r k : Nat} (hk : k < C.1) (hm : YK C m T k) (hl : ∃ cv, f_obj (nset S a xa m w) 1 xa 1 = some cv ∧ f_ref (nset S a xa m w) 3 cv 1 = some (some r)) (hφ : FormAt g Z 72 S r φ) : ∃ w1, kX_X3_leaks g N (nset S a xa m w) a (nI k) = some (nset S a xa m w1, iI (mLeakN C φ m k)) := by
  have h9 := h.le9
  have hn := h.1
  obtain ⟨cv, q1, q2⟩ := hl
  obtain ⟨w1, hw⟩ := x_asked (m := m) (w := w) h hN hk hφ
  refine ⟨w1, ?_⟩
  unfold kX_X3_leaks
  refine ob1 (n_obj hn (by decide)) (ob1 (n_a hn (by decide) (by omega)) (ob1 (n_out hn) (ob1 q1 (ob1 q2 (ob1 (v := r) rfl (ob1 (n_cls hn) (ob1 hw ?_)))))))
  obtain ⟨a0, a1, a2, a3, -⟩ := hm
  have ht := yR_t (φ (mVals C m k))
  have e1 : (if (φ (mVals C m k) : Int32) < iI (yA m 1 k) then φ (mVals C m k) else iI (yA m 1 k)) = iI (if (φ (mVals C m k)).toInt < yA m 1 k then (φ (mVals C m k)).toInt else yA m 1 k) := by
    have e2 : φ (mVals C m k) < iI (yA m 1 k) ↔ (φ (mVals C m k)).toInt < yA m 1 k := by rw [lt32, iI_toInt ⟨by omega, by omega⟩]
    by_cases p : (φ (mVals C m k)).toInt < yA m 1 k
    · rw [if_pos p, if_pos (e2.mpr p), iI_t]
    · rw [if_neg p, if_neg (fun z => p (e2.mp z))]
  refine onb e1 ?_
  have e3 : (if (0 : Int32) < iI (if (φ (mVals C m k)).toInt < yA m 1 k then (φ (mVals C m k)).toInt else yA m 1 k) then iI (if (φ (mVals C m k)).toInt < yA m 1 k then (φ (mVals C m k)).toInt else yA m 1 k) else 0) = iI (mLeakN C φ m k) := by
    unfold mLeakN
    have hr : yR (if (φ (mVals C m k)).toInt < yA m 1 k then (φ (mVals C m k)).toInt else yA m 1 k) := by
      split
      · exact ht
      · exact ⟨by omega, by omega⟩
    have e4 := iI_lt (a := 0) ⟨by decide, by decide⟩ hr
    by_cases p : 0 < (if (φ (mVals C m k)).toInt < yA m 1 k then (φ (mVals C m k)).toInt else yA m 1 k)
    · rw [if_pos p]
      exact if_pos (e4.mpr p)
    · rw [if_neg p]
      exact if_neg (fun z => p (e4.mp z))
  exact onb e3 rfl
theorem x_pass (h : NW g Z S a xa C) (hN : 2 ^ 20 < N) (hT : T ≤ 900000000) (hm : YN C m T) : ∃ w1, kX_X3_pass g N (nset S a xa m w) a = some (nset S a xa (mPass C m) w1, a) := by
  have h9 := h.le9
  have hn := h.1
  have hs : ∀ k, k < C.1 → 0 ≤ C.2.1 k ∧ C.2.1 k ≤ 20 := fun k hk => h.spr hk
  have hS0 : YS C (ysI m 13 0) T 0 := YS_0 hm.1 hm.2
  have e141 : ∀ m1 w1, kX_X3_pass_141 g N (nset S a xa m1 w1) a = some (nset S a xa (ysI m1 6 (yI m1 6 + 1)) w1, a) := fun m1 w1 => by
    unfold kX_X3_pass_141
    exact ob1 (n_int hn (by decide)) (ob1 (n_putI hn (by decide)) rfl)
  have hG1 : YG C (mSteps C m) (T + 40000) := YS_end (YS_iter hs h9 hT hS0 C.1 (Nat.le_refl _))
  have e75 : ∀ w1, ∃ w2, kX_X3_pass_75 g N N (nset S a xa (mSteps C m) w1) a 0 = some (nset S a xa (mPass C m) w2, a) := by
    intro w1
    cases hf : C.2.2.1 with
    | none =>
      refine ⟨w1, ?_⟩
      obtain ⟨N1, hN1⟩ : ∃ N1, N = N1 + 1 := ⟨N - 1, by omega⟩
      have e : mLeaks C (mSteps C m) = mSteps C m := by unfold mLeaks; rw [hf]
      obtain ⟨cv, f1, q1, q2, q3⟩ := n_leaks (m := mSteps C m) (w := w1) h
      rw [hf] at q3
      have q3 : f1 = none := q3
      subst q3
      have e2 : kX_X3_pass_75 g N (N1 + 1) (nset S a xa (mSteps C m) w1) a 0 = some (nset S a xa (mPass C m) w1, a) := by
        rw [kX_X3_pass_75]
        refine n_cups h ?_
        show (if nI C.1 ≤ 0 then _ else _) = _
        have e3 : kX_X3_pass_141 g N (nset S a xa (mSteps C m) w1) a = some (nset S a xa (mPass C m) w1, a) := by
          rw [e141]
          unfold mPass
          rw [e]
        by_cases p : nI C.1 ≤ 0
        · rw [if_pos p]
          exact e3
        · rw [if_neg p]
          exact ob1 (n_out hn) (ob1 q1 (ob1 q2 e3))
      rw [← hN1] at e2
      exact e2
    | some φ =>
      by_cases pb : yI (mSteps C m) 8 = 0
      · have e : mLeaks C (mSteps C m) = yIter (mLeak C φ) C.1 (mSteps C m) := by unfold mLeaks; rw [hf]; exact if_pos pb
        have hl8 : ∀ k, yI (yIter (mLeak C φ) k (mSteps C m)) 8 = 0 := by
          intro k
          induction k with
          | zero => exact pb
          | succ k ih => exact ih
        have hGl : ∀ k, k ≤ C.1 → YG C (yIter (mLeak C φ) k (mSteps C m)) (T + 40000) := by
          intro k
          induction k with
          | zero => intro _; exact hG1
          | succ k ih => intro hk; exact mLeak_inv (ih (by omega)) (by omega)
        refine y_loop (fun n (s : MN × (Nat → Int32)) k => kX_X3_pass_75 g N n (nset S a xa s.1 s.2) a (nI k)) C.1 (fun s k => k ≤ C.1 ∧ s.1 = yIter (mLeak C φ) k (mSteps C m)) (fun r => ∃ w2, r = some (nset S a xa (mPass C m) w2, a)) ?_ ?_ C.1 N (mSteps C m, w1) 0 (by omega) (by omega) ⟨by omega, rfl⟩
        · rintro n ⟨m2, w2⟩ k hk ⟨-, hm2⟩
          have hm2 : m2 = yIter (mLeak C φ) k (mSteps C m) := hm2
          right
          obtain ⟨cv, f1, q1, q2, q3⟩ := n_leaks (m := m2) (w := w2) h
          rw [hf] at q3
          obtain ⟨r, rfl, q4⟩ := q3
          have hmk : YK C m2 (T + 40000) k := by rw [hm2]; exact hGl k (by omega) k hk
          obtain ⟨w3, hw3⟩ := x_leaks (m := m2) (w := w2) h hN hk hmk ⟨cv, q1, q2⟩ q4
          refine ⟨(mLeak C φ m2 k, w3), ?_, by omega, by rw [hm2]; rfl⟩
          show kX_X3_pass_75 g N (n + 1) (nset S a xa m2 w2) a (nI k) = kX_X3_pass_75 g N n (nset S a xa (mLeak C φ m2 k) w3) a (nI (k + 1))
          rw [kX_X3_pass_75]
          refine n_cups h ?_
          show (if nI C.1 ≤ nI k then _ else _) = _
          refine oif (nI_ge hk (by omega)) ?_
          refine ob1 (n_out hn) (ob1 q1 (ob1 q2 ?_))
          refine ob1 (n_int hn (by decide)) (oit (by rw [hm2]; exact hl8 k) ?_)
          refine ob1 (n_cls hn) (ob1 hw3 (ob1 (n_obj hn (by decide)) (ob1 (n_a hn (by decide) (by omega)) (ob1 (n_put hn (by decide) (by omega) (iI_sub _ _)) ?_))))
          refine ob1 (n_int hn (by decide)) (ob1 (n_putI hn (by decide)) ?_)
          rw [nI_1]
          rfl
        · rintro n ⟨m2, w2⟩ ⟨-, hm2⟩
          have hm2 : m2 = yIter (mLeak C φ) C.1 (mSteps C m) := hm2
          refine ⟨w2, ?_⟩
          show kX_X3_pass_75 g N (n + 1) (nset S a xa m2 w2) a (nI C.1) = _
          rw [kX_X3_pass_75]
          refine n_cups h ?_
          show (if nI C.1 ≤ nI C.1 then _ else _) = _
          refine oit (nI_le (Nat.le_refl _) (by omega)) ?_
          refine (e141 m2 w2).trans ?_
          unfold mPass
          rw [e, hm2]
      · refine ⟨w1, ?_⟩
        have e : mLeaks C (mSteps C m) = mSteps C m := by unfold mLeaks; rw [hf]; exact if_neg pb
        obtain ⟨N1, hN1⟩ : ∃ N1, N = N1 + 1 := ⟨N - 1, by omega⟩
        obtain ⟨cv, f1, q1, q2, q3⟩ := n_leaks (m := mSteps C m) (w := w1) h
        rw [hf] at q3
        obtain ⟨r, rfl, q4⟩ := q3
        have e2 : kX_X3_pass_75 g N (N1 + 1) (nset S a xa (mSteps C m) w1) a 0 = some (nset S a xa (mPass C m) w1, a) := by
          rw [kX_X3_pass_75]
          refine n_cups h ?_
          show (if nI C.1 ≤ 0 then _ else _) = _
          have e3 : kX_X3_pass_141 g N (nset S a xa (mSteps C m) w1) a = some (nset S a xa (mPass C m) w1, a) := by
            rw [e141]
            unfold mPass
            rw [e]
          by_cases p : nI C.1 ≤ 0
          · rw [if_pos p]
            exact e3
          · rw [if_neg p]
            exact ob1 (n_out hn) (ob1 q1 (ob1 q2 (ob1 (n_int hn (by decide)) (oif pb e3))))
        rw [← hN1] at e2
        exact e2
  unfold kX_X3_pass
  have e0 : ∀ R : (Nat → Int32) → XS × Nat, (∃ w1, kX_X3_pass_7 g N N (nset S a xa (ysI m 13 0) w) a 0 = some (R w1)) → ∃ w1, ((f_putI (nset S a xa m w) 2 a 13 0).bind fun S1 => kX_X3_pass_7 g N N S1 a 0) = some (R w1) := fun R ⟨w1, h⟩ => ⟨w1, ob1 (n_putI hn (by decide)) h⟩
  apply e0 (fun w1 => (nset S a xa (mPass C m) w1, a))
  refine y_loop (fun n (s : MN × (Nat → Int32)) k => kX_X3_pass_7 g N n (nset S a xa s.1 s.2) a (nI k)) C.1 (fun s k => k ≤ C.1 ∧ s.1 = yIter (mStep C) k (ysI m 13 0)) (fun r => ∃ w2, r = some (nset S a xa (mPass C m) w2, a)) ?_ ?_ C.1 N (ysI m 13 0, w) 0 (by omega) (by omega) ⟨by omega, rfl⟩
  · rintro n ⟨m2, w2⟩ k hk ⟨-, hm2⟩
    have hm2 : m2 = yIter (mStep C) k (ysI m 13 0) := hm2
    right
    have hS2 := YS_iter hs h9 hT hS0 k (by omega)
    rw [← hm2] at hS2
    obtain ⟨w3, hw3⟩ := x_runs (m := m2) (w := w2) h hN hk
    refine ⟨(mStep C m2 k, w3), ?_, by omega, by rw [hm2]; rfl⟩
    show kX_X3_pass_7 g N (n + 1) (nset S a xa m2 w2) a (nI k) = kX_X3_pass_7 g N n (nset S a xa (mStep C m2 k) w3) a (nI (k + 1))
    rw [kX_X3_pass_7]
    refine n_cups h ?_
    show (if nI C.1 ≤ nI k then _ else _) = _
    refine oif (nI_ge hk (by omega)) ?_
    refine ob1 (n_obj hn (by decide)) (ob1 (n_a hn (by decide) (by omega)) (ob1 (n_cls hn) (ob1 hw3 (ob1 (n_put hn (by decide) (by omega) (iI_add _ _)) ?_))))
    have hmk : YK C (mCome C m2 k) T k := by
      have := hS2.1 k hk
      rw [if_neg (by omega)] at this
      exact (YK_c _ _ _ _).mpr this
    have hcp := mCome_pre (hs k hk) hk hS2.2 k (Nat.le_refl _) hk
    rw [if_pos rfl] at hcp
    have hp9 := pow9 (c := k) (by omega)
    refine ob1 (n_obj hn (by decide)) (ob1 (n_cls hn) (ob1 (x_settle (C := C) (m := mCome C m2 k) hn h9 hk hmk hT ⟨hcp.1, by omega⟩) ?_))
    refine ob1 (n_put hn (by decide) (by omega) rfl) (ob1 (n_obj hn (by decide)) (ob1 ((n_a hn (by decide) (by omega)).trans (by rw [yA_A, if_pos ⟨rfl, rfl⟩])) ?_))
    have ht := mTip_le hmk hcp.1
    have e5 : mStep C m2 k = if mTip (mCome C m2 k) k ≤ 0 then ysA (mSettle (mCome C m2 k) k) 12 k (mTip (mCome C m2 k) k) else ysI (ysA (mSettle (mCome C m2 k) k) 12 k (mTip (mCome C m2 k) k)) 13 (yI (ysA (mSettle (mCome C m2 k) k) 12 k (mTip (mCome C m2 k) k)) 13 ||| ((1 : Int32) <<< (nI k &&& 31))) := rfl
    have e6 : iI (mTip (mCome C m2 k) k) ≤ 0 ↔ mTip (mCome C m2 k) k ≤ 0 := iI_le (b := 0) ⟨by omega, by omega⟩ ⟨by decide, by decide⟩
    rw [e5]
    by_cases p : mTip (mCome C m2 k) k ≤ 0
    · rw [if_pos p]
      refine oit (e6.mpr p) ?_
      unfold kX_X3_pass_67
      rw [nI_1]
    · rw [if_neg p]
      refine oif (fun z => p (e6.mp z)) ?_
      refine ob1 (n_int hn (by decide)) (ob1 (n_putI hn (by decide)) ?_)
      unfold kX_X3_pass_67
      rw [nI_1]
  · rintro n ⟨m2, w2⟩ ⟨-, hm2⟩
    have hm2 : m2 = mSteps C m := hm2
    subst hm2
    obtain ⟨w3, hw3⟩ := e75 w2
    refine ⟨w3, ?_⟩
    show kX_X3_pass_7 g N (n + 1) (nset S a xa (mSteps C m) w2) a (nI C.1) = _
    rw [kX_X3_pass_7]
    refine n_cups h ?_
    show (if nI C.1 ≤ nI C.1 then _ else _) = _
    exact oit (nI_le (Nat.le_refl _) (by omega)) hw3
theorem x_after (h : NW g Z S a xa C) (hN : 2 ^ 20 < N) {n : Nat} (hn : n ≤ 5000) (hT : T + 40000 * n ≤ 900000000) (hm : YN C m T) : ∃ w1, kX_X3_after g N (nset S a xa m w) a (nI n) = some (nset S a xa (yRep (mPass C) n m) w1, a) := by
  have h9 := h.le9
  have hc := h.1
  have hs : ∀ k, k < C.1 → 0 ≤ C.2.1 k ∧ C.2.1 k ≤ 20 := fun k hk => h.spr hk
  unfold kX_X3_after
  refine y_loop (fun f (s : MN × (Nat → Int32)) k => kX_X3_after_2 g N f (nset S a xa s.1 s.2) a (nI n) (nI k)) n (fun s k => k ≤ n ∧ s.1 = yRep (mPass C) k m) (fun r => ∃ w2, r = some (nset S a xa (yRep (mPass C) n m) w2, a)) ?_ ?_ n N (m, w) 0 (by omega) (by omega) ⟨by omega, rfl⟩
  · rintro f ⟨m2, w2⟩ k hk ⟨-, hm2⟩
    have hm2 : m2 = yRep (mPass C) k m := hm2
    right
    have hY := mPasses_YN hs h9 hm k (by omega)
    rw [← hm2] at hY
    obtain ⟨w3, hw3⟩ := x_pass (w := w2) h hN (by omega) hY
    refine ⟨(mPass C m2, w3), ?_, by omega, by rw [hm2]; rfl⟩
    show kX_X3_after_2 g N (f + 1) (nset S a xa m2 w2) a (nI n) (nI k) = kX_X3_after_2 g N f (nset S a xa (mPass C m2) w3) a (nI n) (nI (k + 1))
    rw [kX_X3_after_2]
    refine oif (nI_ge hk (by omega)) (ob1 (n_cls hc) (ob1 hw3 ?_))
    rw [nI_1]
  · rintro f ⟨m2, w2⟩ ⟨-, hm2⟩
    have hm2 : m2 = yRep (mPass C) n m := hm2
    refine ⟨w2, ?_⟩
    show kX_X3_after_2 g N (f + 1) (nset S a xa m2 w2) a (nI n) (nI n) = _
    rw [kX_X3_after_2]
    refine oit (nI_le (Nat.le_refl _) (by omega)) ?_
    rw [hm2]
end XP
