/-! plain law: bare hours are flows -/
theorem gvN_c {V W : MN} {g c : Nat} {n : Int} (h : ∀ i, i = 3 ∨ i = 4 ∨ i = 5 → yA V i g = yA W i g) : gvN V g c n = gvN W g c n := by
  unfold gvN mInto
  rw [h 3 (by omega), h 4 (by omega), h 5 (by omega)]
theorem div_two {x i d : Int} (hd : 0 < d) : (x + i) / d = x / d + (x % d + i) / d ∧ (x + i) % d = (x % d + i) % d := by
  have e : x + i = (x % d + i) + x / d * d := by
    have := Int.mul_ediv_add_emod x d
    rw [Int.mul_comm] at this
    omega
  constructor
  · rw [e, Int.add_mul_ediv_right _ _ (by omega)]
    omega
  · rw [e, Int.add_mul_emod_self_right]
/-- drops go on by turns: first some, then some more -/
theorem gvN_add {V W : MN} {g c : Nat} {n k : Int} (h3 : yA W 3 g = yA V 3 g) (h4 : yA W 4 g = yA V 4 g) (h5 : yA V 5 g = 0 ∨ yA V 5 g = 1) (hW : ¬ yA V 4 g = -2 → yA W 5 g = (yA V 5 g + n) % 2) (hn : 0 ≤ n) (hk : 0 ≤ k) : gvN V g c (n + k) = gvN V g c n + gvN W g c k := by
  by_cases e : yA V 4 g = -2
  · unfold gvN
    rw [if_pos e, if_pos e, if_pos (h4.trans e), h3]
    split <;> omega
  · have e' : ¬ yA W 4 g = -2 := by rw [h4]; exact e
    have hw := hW e
    have hV : mInto V g 0 = (if yA V 5 g = 0 then yA V 3 g else yA V 4 g) ∧ mInto V g 1 = (if yA V 5 g = 0 then yA V 4 g else yA V 3 g) := by
      rcases h5 with h5 | h5
      · rw [(mInto_a e h5).1, (mInto_a e h5).2, if_pos h5, if_pos h5]; exact ⟨rfl, rfl⟩
      · rw [(mInto_b e h5).1, (mInto_b e h5).2, if_neg (by omega), if_neg (by omega)]; exact ⟨rfl, rfl⟩
    have h5W : yA W 5 g = 0 ∨ yA W 5 g = 1 := by omega
    have hWi : mInto W g 0 = (if yA W 5 g = 0 then yA V 3 g else yA V 4 g) ∧ mInto W g 1 = (if yA W 5 g = 0 then yA V 4 g else yA V 3 g) := by
      rcases h5W with h5 | h5
      · rw [(mInto_a e' h5).1, (mInto_a e' h5).2, if_pos h5, if_pos h5, h3, h4]; exact ⟨rfl, rfl⟩
      · rw [(mInto_b e' h5).1, (mInto_b e' h5).2, if_neg (by omega), if_neg (by omega), h3, h4]; exact ⟨rfl, rfl⟩
    unfold gvN
    rw [if_neg e, if_neg e, if_neg e', hV.1, hV.2, hWi.1, hWi.2]
    generalize yA V 3 g = a at *
    generalize yA V 4 g = b at *
    rcases h5 with h5 | h5
    · rw [if_pos h5, if_pos h5]
      rcases h5W with h6 | h6
      · rw [if_pos h6, if_pos h6]
        split <;> split <;> omega
      · rw [if_neg (show ¬ yA W 5 g = 0 by omega), if_neg (show ¬ yA W 5 g = 0 by omega)]
        split <;> split <;> omega
    · rw [if_neg (show ¬ yA V 5 g = 0 by omega), if_neg (show ¬ yA V 5 g = 0 by omega)]
      rcases h5W with h6 | h6
      · rw [if_pos h6, if_pos h6]
        split <;> split <;> omega
      · rw [if_neg (show ¬ yA W 5 g = 0 by omega), if_neg (show ¬ yA W 5 g = 0 by omega)]
        split <;> split <;> omega
/-- m is V behind h bare hours -/
def BH (C : CC) (V : MN) (h : Int) (m : MN) : Prop := yI m 8 = 1 ∧ yI m 10 = 0 ∧ yI m 7 = yI V 7 ∧ ∀ k, k < C.1 → yA m 0 k = yA V 0 k ∧ yA m 3 k = yA V 3 k ∧ yA m 4 k = yA V 4 k ∧ yA m 1 k = (yA V 1 k + fI C V h k) % yA V 0 k ∧ yA m 5 k = if yA V 4 k = -2 then yA V 5 k else (yA V 5 k + fT C V h k) % 2
theorem bh_fall {C : CC} {V m : MN} {T h : Int} (hG : YG C V T) (hs : ∀ k, k < C.1 → 0 ≤ C.2.1 k ∧ C.2.1 k ≤ 20) (h9 : C.1 ≤ 9) (h0 : 0 ≤ h) (h1 : h ≤ 1000000) {T1 : Int} (hGm : YG C m T1) (hB : BH C V h m) : ∀ k, k < C.1 → fI C V (h + 1) k = fI C V h k + fI C m 1 k ∧ fT C V (h + 1) k = fT C V h k + fT C m 1 k := by
  have key : ∀ n k, k < n → k < C.1 → fI C V (h + 1) k = fI C V h k + fI C m 1 k ∧ fT C V (h + 1) k = fT C V h k + fT C m 1 k := by
    intro n
    induction n with
    | zero => intro k hk; omega
    | succ n ih =>
      intro k hk hkC
      obtain ⟨b8, b10, b7, bk⟩ := hB
      have hown : fOwn C V (h + 1) k = fOwn C V h k + fOwn C m 1 k := by
        unfold fOwn
        rw [b7]
        split
        · omega
        · rw [Int.mul_add]
      have hpd : fPd C V (h + 1) k k = fPd C V h k k + fPd C m 1 k k := by
        unfold fPd
        rw [← ySum_add]
        refine ySum_c (fun g hg => ?_)
        have hgC : g < C.1 := by omega
        have e := ih g (by omega) hgC
        obtain ⟨c0, c3, c4, c1, c5⟩ := bk g hgC
        obtain ⟨a0, a1, a2, a3, a4, a5, a6, -⟩ := hG g hgC
        show gvN V g k (fT C V (h + 1) g) = gvN V g k (fT C V h g) + gvN m g k (fT C m 1 g)
        rw [e.2]
        refine gvN_add c3 c4 a6 (fun z => by rw [c5, if_neg z]) (fBd hG hs h9 h0 (by omega) hgC).2.2.2.2.1 (fBd hGm hs h9 (h := 1) (by omega) (by omega) hgC).2.2.2.2.1
      have hI : fI C V (h + 1) k = fI C V h k + fI C m 1 k := by
        unfold fI
        rw [hown, hpd]
        omega
      refine ⟨hI, ?_⟩
      obtain ⟨c0, c3, c4, c1, c5⟩ := bk k hkC
      obtain ⟨a0, a1, a2, a3, -⟩ := hG k hkC
      rw [fT_eq, fT_eq, fT_eq, hI, c0, c1]
      have e1 : yA V 1 k + (fI C V h k + fI C m 1 k) = (yA V 1 k + fI C V h k) + fI C m 1 k := by omega
      rw [e1]
      exact (div_two (by omega)).1
  exact fun k hk => key (k + 1) k (by omega) hk
/-! an hour of a bare night is a flow of one hour -/
def PH (C : CC) (m : MN) (k : Nat) (p : MN) : Prop := (∀ j, j < C.1 → yA p 0 j = yA m 0 j ∧ yA p 3 j = yA m 3 j ∧ yA p 4 j = yA m 4 j) ∧ (∀ j, j < k → yA p 12 j = fT C m 1 j ∧ yA p 1 j = (yA m 1 j + fI C m 1 j) % yA m 0 j ∧ yA p 5 j = if yA m 4 j = -2 then yA m 5 j else (yA m 5 j + fT C m 1 j) % 2) ∧ (∀ j, k ≤ j → j < C.1 → yA p 1 j = yA m 1 j ∧ yA p 5 j = yA m 5 j ∧ yA p 11 j = fPd C m 1 k j) ∧ (yI p 7 = yI m 7 ∧ yI p 8 = 1 ∧ yI p 10 = 0) ∧ ∀ j, j < 32 → (bt (yI p 13) j = true ↔ (j < k ∧ 0 < fT C m 1 j))
theorem ph_step {C : CC} {m p : MN} {T : Int} (hs : ∀ k, k < C.1 → 0 ≤ C.2.1 k ∧ C.2.1 k ≤ 20) (h9 : C.1 ≤ 9) {k : Nat} (hk : k < C.1) (hY : YS C p T k) (hm : YG C m T) (h : PH C m k p) : PH C m (k + 1) (mStep C p k) := by
  obtain ⟨c1, c2, c3, ⟨c4, c5, c6⟩, c7⟩ := h
  have hYk := hY.1 k hk
  rw [if_neg (by omega)] at hYk
  have hYc : YK C (mCome C p k) T k := (YK_c _ _ _ _).mpr hYk
  obtain ⟨d0, d3, d4⟩ := c1 k hk
  obtain ⟨d1, d5, d11⟩ := c3 k (Nat.le_refl _) hk
  have hrun : mRuns C p k = fOwn C m 1 k := by
    unfold mRuns fOwn
    rw [c4, c6, c5]
    by_cases e : ((yI m 7 >>> (nI k &&& 31)) &&& 1) = 1
    · rw [if_pos e, if_pos e]
    · rw [if_neg e, if_neg e, if_pos rfl, if_neg n10, Int.mul_one]
  have o : ∀ i j, i ≠ 11 → yA (mCome C p k) i j = yA p i j := fun i j hi => by unfold mCome; rw [yA_A, if_neg (fun z => hi z.1)]
  have o11 : ∀ j, yA (mCome C p k) 11 j = if j = k then fI C m 1 k else yA p 11 j := fun j => by
    unfold mCome
    rw [yA_A]
    by_cases e : j = k
    · rw [if_pos ⟨rfl, e⟩, if_pos e, d11, hrun]
      unfold fI
      omega
    · rw [if_neg (fun z => e z.2), if_neg e]
  have htip : mTip (mCome C p k) k = fT C m 1 k := by
    unfold mTip
    rw [o 1 k (by decide), o 0 k (by decide), o11, if_pos rfl, d1, d0, fT_eq]
  have hgive : ∀ j, mGive (mCome C p k) k j = gvN m k j (fT C m 1 k) := fun j => by
    have : mGive (mCome C p k) k j = gvN (mCome C p k) k j (mTip (mCome C p k) k) := rfl
    rw [this, htip]
    exact gvN_c (fun i hi => by
      rcases hi with rfl | rfl | rfl
      · rw [o 3 k (by decide)]; exact d3
      · rw [o 4 k (by decide)]; exact d4
      · rw [o 5 k (by decide)]; exact d5)
  refine ⟨fun j hj => ?_, fun j hj => ?_, fun j h1 h2 => ?_, ⟨?_, ?_, ?_⟩, fun j hj => ?_⟩
  · rw [mStep_A, if_neg (fun z => absurd z.1 (by decide)), mSettle_o _ _ _ _ (by decide) (by decide) (by decide) (by decide), o 0 j (by decide), mStep_A, if_neg (fun z => absurd z.1 (by decide)), mSettle_o _ _ _ _ (by decide) (by decide) (by decide) (by decide), o 3 j (by decide), mStep_A, if_neg (fun z => absurd z.1 (by decide)), mSettle_o _ _ _ _ (by decide) (by decide) (by decide) (by decide), o 4 j (by decide)]
    exact c1 j hj
  · by_cases e : j = k
    · subst e
      refine ⟨?_, ?_, ?_⟩
      · rw [mStep_A, if_pos ⟨rfl, rfl⟩, htip]
      · rw [mStep_A, if_neg (fun z => absurd z.1 (by decide)), mSettle_1, if_pos rfl, o 1 j (by decide), o 0 j (by decide), o11, if_pos rfl, d1, d0]
      · rw [mStep_A, if_neg (fun z => absurd z.1 (by decide)), mSettle_5, o 4 j (by decide), o 5 j (by decide), d4, d5, htip]
        by_cases e4 : yA m 4 j = -2
        · rw [if_neg (fun z => z.2 e4), if_pos e4]
        · rw [if_pos ⟨rfl, e4⟩, if_neg e4]
    · obtain ⟨x1, x2, x3⟩ := c2 j (by omega)
      refine ⟨?_, ?_, ?_⟩
      · rw [mStep_A, if_neg (fun z => e z.2), mSettle_o _ _ _ _ (by decide) (by decide) (by decide) (by decide), o 12 j (by decide)]
        exact x1
      · rw [mStep_A, if_neg (fun z => e z.2), mSettle_1, if_neg e, o 1 j (by decide)]
        exact x2
      · rw [mStep_A, if_neg (fun z => e z.2), mSettle_5, if_neg (fun z => e z.1), o 5 j (by decide)]
        exact x3
  · obtain ⟨x1, x5, x11⟩ := c3 j (by omega) h2
    have e : j ≠ k := by omega
    refine ⟨?_, ?_, ?_⟩
    · rw [mStep_A, if_neg (fun z => e z.2), mSettle_1, if_neg e, o 1 j (by decide)]
      exact x1
    · rw [mStep_A, if_neg (fun z => e z.2), mSettle_5, if_neg (fun z => e z.1), o 5 j (by decide)]
      exact x5
    · rw [mStep_A, if_neg (fun z => e z.2), mSettle_11 hYc, if_neg e, o11, if_neg e, hgive, x11]
      rfl
  · rw [mStep_I _ _ _ _ (by decide) (by decide)]
    exact c4
  · rw [mStep_I _ _ _ _ (by decide) (by decide)]
    exact c5
  · rw [mStep_I _ _ _ _ (by decide) (by decide)]
    exact c6
  · rw [mStep_13, htip]
    by_cases e : fT C m 1 k ≤ 0
    · rw [if_pos e, c7 j hj]
      constructor
      · rintro ⟨y1, y2⟩
        exact ⟨by omega, y2⟩
      · rintro ⟨y1, y2⟩
        refine ⟨?_, y2⟩
        by_cases e2 : j = k
        · rw [e2] at y2; omega
        · omega
    · rw [if_neg e, b_set (by omega) hj, Bool.or_eq_true, c7 j hj, decide_eq_true_iff]
      constructor
      · rintro (y | y)
        · exact ⟨by omega, y.2⟩
        · rw [y]
          exact ⟨by omega, by omega⟩
      · rintro ⟨y1, y2⟩
        by_cases e2 : j = k
        · exact Or.inr e2
        · exact Or.inl ⟨by omega, y2⟩
theorem ph_pass {C : CC} {m : MN} {T : Int} (hs : ∀ k, k < C.1 → 0 ≤ C.2.1 k ∧ C.2.1 k ≤ 20) (h9 : C.1 ≤ 9) (hT : T ≤ 900000000) (hm : YN C m T) (h8 : yI m 8 = 1) (h10 : yI m 10 = 0) : PH C m C.1 (mPass C m) := by
  have h0 : PH C m 0 (ysI m 13 0) := by
    refine ⟨fun j _ => ⟨rfl, rfl, rfl⟩, fun j hj => by omega, fun j _ hj => ⟨rfl, rfl, ?_⟩, ⟨rfl, h8, h10⟩, fun j hj => ?_⟩
    · show yA m 11 j = 0
      exact hm.2 j hj
    · have : yI (ysI m 13 0) 13 = 0 := rfl
      rw [this, b_0]
      constructor
      · intro z; cases z
      · rintro ⟨z, -⟩; omega
  have hS0 : YS C (ysI m 13 0) T 0 := YS_0 hm.1 hm.2
  have key : ∀ k, k ≤ C.1 → PH C m k (yIter (mStep C) k (ysI m 13 0)) := by
    intro k
    induction k with
    | zero => intro _; exact h0
    | succ k ih =>
      intro hk
      exact ph_step hs h9 (by omega) (YS_iter hs h9 hT hS0 k (by omega)) hm.1 (ih (by omega))
  have h := key C.1 (Nat.le_refl _)
  have hl : mLeaks C (mSteps C m) = mSteps C m := by
    have e8 : yI (mSteps C m) 8 = 1 := h.2.2.2.1.2.1
    unfold mLeaks
    cases C.2.2.1 with
    | none => rfl
    | some φ =>
      show (if yI (mSteps C m) 8 = 0 then _ else _) = _
      rw [e8]
      exact if_neg n10
  unfold mPass
  rw [hl]
  exact h
theorem bh_next {C : CC} {V m : MN} {T T1 h : Int} (hG : YG C V T) (hs : ∀ k, k < C.1 → 0 ≤ C.2.1 k ∧ C.2.1 k ≤ 20) (h9 : C.1 ≤ 9) (h0 : 0 ≤ h) (h1 : h ≤ 1000000) (hT1 : T1 ≤ 900000000) (hm : YN C m T1) (hB : BH C V h m) : BH C V (h + 1) (mPass C m) ∧ ∀ k, k < C.1 → (bt (yI (mPass C m) 13) k = true ↔ fT C V h k < fT C V (h + 1) k) := by
  have hp := ph_pass hs h9 hT1 hm hB.1 hB.2.1
  have hf := bh_fall hG hs h9 h0 h1 hm.1 hB
  obtain ⟨b8, b10, b7, bk⟩ := hB
  obtain ⟨c1, c2, c3, ⟨c4, c5, c6⟩, c7⟩ := hp
  refine ⟨⟨c5, c6, c4.trans b7, fun k hk => ?_⟩, fun k hk => ?_⟩
  · obtain ⟨d0, d3, d4⟩ := c1 k hk
    obtain ⟨e12, e1, e5⟩ := c2 k hk
    obtain ⟨x0, x3, x4, x1, x5⟩ := bk k hk
    obtain ⟨f1, f2⟩ := hf k hk
    obtain ⟨a0, a1, a2, a3, -⟩ := hG k hk
    refine ⟨d0.trans x0, d3.trans x3, d4.trans x4, ?_, ?_⟩
    · have e : yA V 1 k + (fI C V h k + fI C m 1 k) = (yA V 1 k + fI C V h k) + fI C m 1 k := by omega
      rw [e1, x1, x0, f1, e]
      exact (div_two (by omega)).2.symm
    · rw [e5, x4, x5, f2]
      by_cases e4 : yA V 4 k = -2
      · rw [if_pos e4, if_pos e4, if_pos e4]
      · rw [if_neg e4, if_neg e4, if_neg e4]
        omega
  · obtain ⟨f1, f2⟩ := hf k hk
    rw [c7 k (by omega), f2]
    constructor
    · rintro ⟨-, z⟩; omega
    · intro z; exact ⟨hk, by omega⟩
