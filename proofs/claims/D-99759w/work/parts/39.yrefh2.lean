/-! plain law: an hour in the reference: its loops -/
section RL
variable {N b : Nat} {σ : MS} {C : CC} {m : MN} {T : Int}
theorem r_begins (hN : 2 ^ 20 < N) (h9 : C.1 ≤ 9) (hc : σ.1 1 = nI C.1) (b : Nat) : ∃ σ1, kM_begins0 N σ = some σ1 ∧ FrH b σ σ1 ∧ σ1.2.2 31 = σ.2.2 31 ∧ σ1.1 38 = 0 ∧ σ1.1 39 = σ.1 39 ∧ ∀ k, k < C.1 → σ1.2.2 36 k = 0 ∧ σ1.2.2 37 k = 0 := by
  unfold kM_begins0 bnd
  refine y_loop (fun n (s : MS) k => kM_begins0_7 N n s (nI k)) C.1 (fun s k => k ≤ C.1 ∧ FrH b σ s ∧ s.2.2 31 = σ.2.2 31 ∧ s.1 38 = 0 ∧ s.1 39 = σ.1 39 ∧ s.1 1 = nI C.1 ∧ ∀ j, j < k → s.2.2 36 j = 0 ∧ s.2.2 37 j = 0) (fun r => ∃ σ1, r = some σ1 ∧ FrH b σ σ1 ∧ σ1.2.2 31 = σ.2.2 31 ∧ σ1.1 38 = 0 ∧ σ1.1 39 = σ.1 39 ∧ ∀ k, k < C.1 → σ1.2.2 36 k = 0 ∧ σ1.2.2 37 k = 0) ?_ ?_ C.1 N (m_put σ 38 0) 0 (by omega) (by omega) ⟨by omega, FrH.i b σ 38 0 (Or.inl rfl), rfl, mp_s _ _ _, mp_n _ _ _ (by decide), (mp_n _ _ _ (by decide)).trans hc, fun j hj => by omega⟩
  · rintro n s k hk ⟨-, p1, p2, p3, p4, p5, p6⟩
    right
    refine ⟨rS (rS s 36 k 0) 37 k 0, ?_, by omega, p1.trans ((FrH.s b _ 36 _ _ (Or.inl rfl)).trans (FrH.s b _ 37 _ _ (Or.inr (Or.inl rfl)))), ?_, p3, p4, p5, fun j hj => ?_⟩
    · show kM_begins0_7 N (n + 1) s (nI k) = kM_begins0_7 N n _ (nI (k + 1))
      rw [kM_begins0_7]
      refine oif (by rw [p5]; exact nI_ge hk (by omega)) (ob1 (r_st (q := k) rfl (by show _ < 9; omega)) (ob1 (r_st (q := k) rfl (by show _ < 9; omega)) ?_))
      rw [nI_1]
    · rw [rS_ne _ _ _ _ (by decide), rS_ne _ _ _ _ (by decide)]
      exact p2
    · rw [rS_get, rS_get, rS_get, rS_get]
      by_cases e : j = k
      · subst e
        simp
      · have := p6 j (by omega)
        simp [e, this.1, this.2]
  · rintro n s ⟨-, p1, p2, p3, p4, p5, p6⟩
    refine ⟨s, ?_, p1, p2, p3, p4, p6⟩
    show kM_begins0_7 N (n + 1) s (nI C.1) = _
    rw [kM_begins0_7]
    exact oit (by rw [p5]; exact nI_le (Nat.le_refl _) (by omega)) rfl
/-- what stands while the reference's cups settle -/
def RLp (b : Nat) (σ s : MS) (C : CC) (m m1 : MN) (k : Nat) : Prop := FrH b σ s ∧ RowR (s.2.2 31) b C m1 ∧ (∀ j, k ≤ j → j < C.1 → s.2.2 36 j = iI (yA m1 11 j)) ∧ (∀ j, j < C.1 → s.2.2 37 j = if j < k then iI (yA m1 12 j) else 0) ∧ s.1 38 = yI m1 13 ∧ s.1 39 = yI m1 14 - yI m 14
theorem mStep_eq (C : CC) (m : MN) (k : Nat) : mStep C m k = if mTip (mCome C m k) k ≤ 0 then ysA (mSettle (mCome C m k) k) 12 k (mTip (mCome C m k) k) else ysI (ysA (mSettle (mCome C m k) k) 12 k (mTip (mCome C m k) k)) 13 (yI (ysA (mSettle (mCome C m k) k) 12 k (mTip (mCome C m k) k)) 13 ||| ((1 : Int32) <<< (nI k &&& 31))) := rfl
theorem mStep_I (C : CC) (m : MN) (k i : Nat) (h13 : i ≠ 13) (h14 : i ≠ 14) : yI (mStep C m k) i = yI m i := by
  rw [mStep_eq]
  split
  · rw [yI_A, mSettle_I _ _ _ h14]; rfl
  · rw [yI_I, if_neg h13, yI_A, mSettle_I _ _ _ h14]; rfl
theorem mStep_14 (C : CC) (m : MN) (k : Nat) : yI (mStep C m k) 14 = yI (mSettle (mCome C m k) k) 14 := by
  rw [mStep_eq]
  split
  · rw [yI_A]
  · rw [yI_I, if_neg (by decide), yI_A]
theorem mStep_13 (C : CC) (m : MN) (k : Nat) : yI (mStep C m k) 13 = if mTip (mCome C m k) k ≤ 0 then yI m 13 else (yI m 13 ||| ((1 : Int32) <<< (nI k &&& 31))) := by
  rw [mStep_eq]
  split
  · rw [yI_A, mSettle_I _ _ _ (by decide)]; rfl
  · rw [yI_I, if_pos rfl, yI_A, mSettle_I _ _ _ (by decide)]; rfl
theorem mStep_A (C : CC) (m : MN) (k i j : Nat) : yA (mStep C m k) i j = if i = 12 ∧ j = k then mTip (mCome C m k) k else yA (mSettle (mCome C m k) k) i j := by
  rw [mStep_eq]
  split
  · rw [yA_A]
  · rw [yA_I, yA_A]
theorem r_step (hb : b = 0 ∨ b = 64) (h9 : C.1 ≤ 9) (hC : RC N σ C) (hs : ∀ k, k < C.1 → 0 ≤ C.2.1 k ∧ C.2.1 k ≤ 20) (hT : T ≤ 900000000) {s : MS} {m1 : MN} {k : Nat} (hk : k < C.1) (hM : HM s m1) (hS : YS C m1 T k) (hP : RLp b σ s C m m1 k) :
    ∃ s1, RLp b σ s1 C m (mStep C m1 k) (k + 1) ∧ ∀ K : MS → Int32 → Int32 → Option MS, ((m_ld s 36 (nI k)).bind fun v2 => (kM_runs N s (nI b) (nI k)).bind fun w3 => if w3.2 = 0 then kM_hourGoes_47 N K w3.1 (nI b) (nI k) (nI b) (nI k) v2 0 else (m_ld w3.1 4 (nI k)).bind fun v5 => kM_hourGoes_47 N K w3.1 (nI b) (nI k) (nI b) (nI k) v2 v5) = K s1 (nI b) (nI (k + 1)) := by
  obtain ⟨p1, p2, p3, p4, p5, p6⟩ := hP
  have hCs := hC.fr p1
  have hmk0 := hS.1 k hk
  rw [if_neg (by omega)] at hmk0
  have hmk : YK C (mCome C m1 k) T k := (YK_c _ _ _ _).mpr hmk0
  have hcp := mCome_pre (hs k hk) hk hS.2 k (Nat.le_refl _) hk
  rw [if_pos rfl] at hcp
  have hp9 := pow9 (c := k) (by omega)
  have hcoming : yA (mCome C m1 k) 11 k = yA m1 11 k + mRuns C m1 k := by unfold mCome; rw [yA_A, if_pos ⟨rfl, rfl⟩]
  obtain ⟨t, p, r, h1, h2⟩ := r_runs hb h9 hk p2 hCs hM
  have hRow : RowR ((rScr s t p).2.2 31) b C (mCome C m1 k) := by
    rw [rScr_ne _ _ _ (by decide) (by decide)]
    refine p2.congr rfl rfl (fun i j hi hj => ?_)
    unfold mCome
    rw [yA_A, if_neg (by omega)]
  obtain ⟨s1, g1, g2, g3, g4, g5, g6, g7⟩ := r_gets (N := N) (σ := rScr s t p) hb h9 hk hRow hmk hT ⟨hcp.1, by omega⟩
  have hgo : ∀ K : MS → Int32 → Int32 → Option MS, kM_hourGoes_47 N K (rScr s t p) (nI b) (nI k) (nI b) (nI k) (iI (yA m1 11 k)) (iI (mRuns C m1 k)) = K s1 (nI b) (nI (k + 1)) := by
    intro K
    unfold kM_hourGoes_47
    rw [iI_add, ← hcoming]
    refine ob1 g1 ?_
    rw [nI_1]
  have hRes : RLp b σ s1 C m (mStep C m1 k) (k + 1) := by
    refine ⟨(p1.trans (FrH.scr b s t p)).trans g2, ?_, fun j h1 h2 => ?_, fun j hj => ?_, ?_, ?_⟩
    · refine g3.congr ?_ ?_ (fun i j hi hj => ?_)
      · rw [mStep_I _ _ _ _ (by decide) (by decide), mSettle_I _ _ _ (by decide)]; rfl
      · rw [mStep_I _ _ _ _ (by decide) (by decide), mSettle_I _ _ _ (by decide)]; rfl
      · rw [mStep_A, if_neg (by omega)]
    · rw [mStep_A, if_neg (fun z => absurd z.1 (by decide))]
      refine g7 j (by omega) h2 ?_
      rw [rScr_ne _ _ _ (by decide) (by decide), p3 j (by omega) h2]
      unfold mCome
      rw [yA_A, if_neg (by omega)]
    · rw [g4, mStep_A]
      unfold upd
      by_cases e : j = k
      · rw [if_pos e, if_pos (by omega), if_pos ⟨rfl, e⟩]
      · rw [if_neg e, rScr_ne _ _ _ (by decide) (by decide), p4 j hj, if_neg (show ¬ (12 = 12 ∧ j = k) from fun z => e z.2), mSettle_o _ _ _ _ (by decide) (by decide) (by decide) (by decide)]
        have : yA (mCome C m1 k) 12 j = yA m1 12 j := by unfold mCome; rw [yA_A, if_neg (fun z => absurd z.1 (by decide))]
        rw [this]
        by_cases e2 : j < k
        · rw [if_pos e2, if_pos (by omega)]
        · rw [if_neg e2, if_neg (by omega)]
    · rw [g5, mStep_13]
      show (if _ then s.1 38 else (s.1 38 ||| _)) = _
      rw [p5]
    · rw [mStep_14]
      have e1 : s1.1 39 - s.1 39 = yI (mSettle (mCome C m1 k) k) 14 - yI m1 14 := g6
      have e2 : s1.1 39 = (s1.1 39 - s.1 39) + s.1 39 := (Int32.sub_add_cancel _ _).symm
      rw [e2, e1, p6]
      rw [Int32.sub_eq_add_neg, Int32.sub_eq_add_neg, Int32.sub_eq_add_neg, Int32.add_assoc, ← Int32.add_assoc (-yI m1 14), Int32.add_left_neg, Int32.zero_add]
  refine ⟨s1, hRes, fun K => ob1 ((r_ld (q := k) rfl (by show _ < 9; omega)).trans (by rw [p3 k (Nat.le_refl _) hk])) (ob1 h1 ?_)⟩
  rcases h2 with ⟨r0, r1⟩ | ⟨r0, r1⟩
  · refine oit r0 ?_
    rw [r1] at hgo
    exact hgo K
  · refine oif r0 (ob1 ((r_ld (q := k) rfl (by show _ < 9; omega)).trans (by rw [rScr_ne _ _ _ (by decide) (by decide), hCs.2.1 k hk, ← r1])) (hgo K))
theorem yIterStep_I (C : CC) (m : MN) (k i : Nat) (h13 : i ≠ 13) (h14 : i ≠ 14) : yI (yIter (mStep C) k m) i = yI m i := by
  induction k with
  | zero => rfl
  | succ k ih => exact (mStep_I C _ k i h13 h14).trans ih
theorem mLeaks_I (C : CC) (m : MN) (i : Nat) (h14 : i ≠ 14) : yI (mLeaks C m) i = yI m i := by
  unfold mLeaks
  cases hf : C.2.2.1 with
  | none => rfl
  | some φ =>
    dsimp only
    split
    · have : ∀ n, yI (yIter (mLeak C φ) n m) i = yI m i := by
        intro n
        induction n with
        | zero => rfl
        | succ n ih => exact (if_neg h14).trans ih
      exact this C.1
    · rfl
theorem mPass_I (C : CC) (m : MN) (i : Nat) (h6 : i ≠ 6) (h13 : i ≠ 13) (h14 : i ≠ 14) : yI (mPass C m) i = yI m i := by
  unfold mPass mSteps
  rw [yI_I, if_neg h6, mLeaks_I _ _ _ h14, yIterStep_I _ _ _ _ h13 h14, yI_I, if_neg h13]
theorem mLeakN_c {m : MN} {k : Nat} {φ : VF} (h : 0 ≤ yA m 1 k) : mLeakN C φ m k = if 0 ≤ (φ (mVals C m k)).toInt then (if (φ (mVals C m k)).toInt ≤ yA m 1 k then (φ (mVals C m k)).toInt else yA m 1 k) else 0 := by
  unfold mLeakN
  generalize (φ (mVals C m k)).toInt = x
  generalize yA m 1 k = f at h ⊢
  by_cases c1 : x < f
  · simp only [if_pos c1]
    repeat' split
    all_goals omega
  · simp only [if_neg c1]
    repeat' split
    all_goals omega
theorem r_hour (hN : 2 ^ 20 < N) (hb : b = 0 ∨ b = 64) (h9 : C.1 ≤ 9) (hs : ∀ k, k < C.1 → 0 ≤ C.2.1 k ∧ C.2.1 k ≤ 20) (hC : RC N σ C) (hR : RowR (σ.2.2 31) b C m) (hM : HM σ m) (hm : YN C m T) (hT : T ≤ 900000000) :
    ∃ σ1, kM_hourGoes N σ (nI b) = some σ1 ∧ FrH b σ σ1 ∧ RowR (σ1.2.2 31) b C (mPass C m) ∧ (∀ k, k < C.1 → σ1.2.2 37 k = iI (yA (mPass C m) 12 k)) ∧ σ1.1 38 = yI (mPass C m) 13 ∧ σ1.1 39 = yI (mPass C m) 14 - yI m 14 := by
  obtain ⟨s0, b1, b2, b3, b4, b5, b6⟩ := r_begins (N := N) (σ := σ) hN h9 hC.1 b
  have hS0 : YS C (ysI m 13 0) T 0 := YS_0 hm.1 hm.2
  have hHM : ∀ s m1, FrH b σ s → yI m1 8 = yI m 8 → yI m1 9 = yI m 9 → yI m1 10 = yI m 10 → HM s m1 := fun s m1 h => hM.fr h
  -- the end: the hour
  have e132 : ∀ s, FrH b σ s → RowR (s.2.2 31) b C (mLeaks C (mSteps C m)) → (∀ j, j < C.1 → s.2.2 37 j = iI (yA (mLeaks C (mSteps C m)) 12 j)) → s.1 38 = yI (mLeaks C (mSteps C m)) 13 → s.1 39 = yI (mLeaks C (mSteps C m)) 14 - yI m 14 → ∃ σ1, kM_hourGoes_132 N s (nI b) = some σ1 ∧ FrH b σ σ1 ∧ RowR (σ1.2.2 31) b C (mPass C m) ∧ (∀ k, k < C.1 → σ1.2.2 37 k = iI (yA (mPass C m) 12 k)) ∧ σ1.1 38 = yI (mPass C m) 13 ∧ σ1.1 39 = yI (mPass C m) 14 - yI m 14 := by
    intro s q1 q2 q3 q4 q5
    have ib : nI b + 0 = nI b := by rw [show (0 : Int32) = nI 0 from rfl, nI_add, Nat.add_zero]
    refine ⟨rS s 31 b (yI (mLeaks C (mSteps C m)) 6 + 1), ?_, q1.trans (FrH.s b _ 31 _ _ (Or.inr (Or.inr ⟨rfl, by omega, by omega⟩))), ?_, fun k hk => ?_, ?_, ?_⟩
    · unfold kM_hourGoes_132
      rw [ib]
      exact ob1 ((r_ld (q := b) rfl (by show _ < 128; omega)).trans (by rw [q2.1])) (ob1 (r_st (q := b) rfl (by show _ < 128; omega)) rfl)
    · rw [rS_arr]
      exact q2.hour h9 _
    · rw [rS_ne _ _ _ _ (by decide), q3 k hk]; rfl
    · refine q4.trans ?_
      unfold mPass
      rw [yI_I, if_neg (by decide)]
    · refine q5.trans ?_
      unfold mPass
      rw [yI_I, if_neg (by decide)]
  -- leaks
  have e59 : ∀ s, RLp b σ s C m (mSteps C m) C.1 → ∃ σ1, kM_hourGoes_59 N N s (nI b) 0 = some σ1 ∧ FrH b σ σ1 ∧ RowR (σ1.2.2 31) b C (mPass C m) ∧ (∀ k, k < C.1 → σ1.2.2 37 k = iI (yA (mPass C m) 12 k)) ∧ σ1.1 38 = yI (mPass C m) 13 ∧ σ1.1 39 = yI (mPass C m) 14 - yI m 14 := by
    rintro s ⟨p1, p2, p3, p4, p5, p6⟩
    have hCs := hC.fr p1
    have m8 : yI (mSteps C m) 8 = 0 := by unfold mSteps; rw [yIterStep_I _ _ _ _ (by decide) (by decide)]; exact hM.1
    cases hf : C.2.2.1 with
    | none =>
      have e : mLeaks C (mSteps C m) = mSteps C m := by unfold mLeaks; rw [hf]
      obtain ⟨σ1, k1, k2⟩ := e132 s p1 (by rw [e]; exact p2) (fun j hj => by rw [e, p4 j hj, if_pos hj]) (by rw [e]; exact p5) (by rw [e]; exact p6)
      refine ⟨σ1, ?_, k2⟩
      obtain ⟨N1, hN1⟩ : ∃ N1, N = N1 + 1 := ⟨N - 1, by omega⟩
      have hl : s.1 2 = -1 := by
        have := hCs.2.2.1
        rw [hf] at this
        exact this
      have e2 : kM_hourGoes_59 N (N1 + 1) s (nI b) 0 = some σ1 := by
        rw [kM_hourGoes_59]
        by_cases q : s.1 1 ≤ 0
        · exact oit q k1
        · exact oif q (oit hl k1)
      rw [← hN1] at e2
      exact e2
    | some φ =>
      have e : mLeaks C (mSteps C m) = yIter (mLeak C φ) C.1 (mSteps C m) := by unfold mLeaks; rw [hf]; exact if_pos m8
      have hG1 : YG C (mSteps C m) (T + 40000) := YS_end (YS_iter hs h9 hT hS0 C.1 (Nat.le_refl _))
      have hGl : ∀ k, k ≤ C.1 → YG C (yIter (mLeak C φ) k (mSteps C m)) (T + 40000) := by
        intro k
        induction k with
        | zero => intro _; exact hG1
        | succ k ih => intro hk; exact mLeak_inv (ih (by omega)) (by omega)
      refine y_loop (fun n (s : MS) k => kM_hourGoes_59 N n s (nI b) (nI k)) C.1 (fun s k => k ≤ C.1 ∧ FrH b σ s ∧ RowR (s.2.2 31) b C (yIter (mLeak C φ) k (mSteps C m)) ∧ (∀ j, j < C.1 → s.2.2 37 j = iI (yA (yIter (mLeak C φ) k (mSteps C m)) 12 j)) ∧ s.1 38 = yI (yIter (mLeak C φ) k (mSteps C m)) 13 ∧ s.1 39 = yI (yIter (mLeak C φ) k (mSteps C m)) 14 - yI m 14) (fun r => ∃ σ1, r = some σ1 ∧ FrH b σ σ1 ∧ RowR (σ1.2.2 31) b C (mPass C m) ∧ (∀ k, k < C.1 → σ1.2.2 37 k = iI (yA (mPass C m) 12 k)) ∧ σ1.1 38 = yI (mPass C m) 13 ∧ σ1.1 39 = yI (mPass C m) 14 - yI m 14) ?_ ?_ C.1 N s 0 (by omega) (by omega) ⟨by omega, p1, p2, fun j hj => by rw [p4 j hj, if_pos hj]; rfl, p5, p6⟩
      · rintro n s k hk ⟨-, q1, q2, q3, q4, q5⟩
        right
        have hCs := hC.fr q1
        have hl := hCs.2.2.1
        rw [hf] at hl
        obtain ⟨at0, l1, l2, l3⟩ := hl
        generalize hm1 : yIter (mLeak C φ) k (mSteps C m) = m1 at q2 q3 q4 q5
        have hmk : YK C m1 (T + 40000) k := by rw [← hm1]; exact hGl k (by omega) k hk
        obtain ⟨t, p, hq⟩ := r_asks (N := N) (m := m1) hb h9 hk q2 hCs.2.1 l3
        have hlk := mLeakN_b (C := C) (m := m1) (φ := φ) (k := k) hmk.2.2.1
        have e1m : yIter (mLeak C φ) (k + 1) (mSteps C m) = mLeak C φ m1 k := by rw [← hm1]; rfl
        have hfk := (q2.2 k hk).2.1
        have hbo : kM_bounded N (φ (mVals C m1 k)) 0 (iI (yA m1 1 k)) = some (iI (mLeakN C φ m1 k)) := by
          have ht := yR_t (φ (mVals C m1 k))
          obtain ⟨a0, a1, a2, a3, -⟩ := hmk
          rw [mLeakN_c a2]
          unfold kM_bounded
          have z1 : (0 : Int32) ≤ φ (mVals C m1 k) ↔ 0 ≤ (φ (mVals C m1 k)).toInt := le32
          have z2 : φ (mVals C m1 k) ≤ iI (yA m1 1 k) ↔ (φ (mVals C m1 k)).toInt ≤ yA m1 1 k := by rw [le32, iI_toInt ⟨by omega, by omega⟩]
          by_cases x1 : 0 ≤ (φ (mVals C m1 k)).toInt
          · rw [if_pos (z1.mpr x1), if_pos x1]
            by_cases x2 : (φ (mVals C m1 k)).toInt ≤ yA m1 1 k
            · rw [if_pos (z2.mpr x2), if_pos x2, iI_t]
            · rw [if_neg (fun z => x2 (z2.mp z)), if_neg x2]
          · rw [if_neg (fun z => x1 (z1.mp z)), if_neg x1]
            rfl
        refine ⟨m_put (rS (rScr s t p) 31 (b + 10 + k) (iI (yA m1 1 k - mLeakN C φ m1 k))) 39 (s.1 39 + iI (mLeakN C φ m1 k)), ?_, by omega, ?_, ?_, fun j hj => ?_, ?_, ?_⟩
        · show kM_hourGoes_59 N (n + 1) s (nI b) (nI k) = kM_hourGoes_59 N n _ (nI b) (nI (k + 1))
          rw [kM_hourGoes_59]
          refine oif (by rw [hCs.1]; exact nI_ge hk (by omega)) (oif ?_ (ob1 (by rw [l2]; exact hq) ?_))
          · rw [l2, iI_nI, show (-1 : Int32) = iI (-1) by decide]
            intro z
            have := (iI_eq ⟨by omega, by omega⟩ ⟨by decide, by decide⟩).mp z
            omega
          have hld : m_ld (rScr s t p) 31 (nI b + 10 + nI k) = some (iI (yA m1 1 k)) := (r_ld (q := b + 10 + k) (ix3 b k 10 rfl) (by show _ < 128; omega)).trans (by rw [rScr_ne _ _ _ (by decide) (by decide), hfk])
          refine ob1 hld (ob1 hbo (ob1 hld ?_))
          rw [iI_sub]
          refine ob1 (r_st (q := b + 10 + k) (ix3 b k 10 rfl) (by show _ < 128; omega)) (onb rfl ?_)
          rw [nI_1]
          rfl
        · exact (q1.trans (FrH.scr b s t p)).trans ((FrH.s b _ 31 _ _ (Or.inr (Or.inr ⟨rfl, by omega, by omega⟩))).trans (FrH.i b _ 39 _ (Or.inr rfl)))
        · rw [e1m]
          show RowR ((rS (rScr s t p) 31 (b + 10 + k) _).2.2 31) b C _
          rw [rS_arr, rScr_ne _ _ _ (by decide) (by decide)]
          exact (q2.fill h9 (by omega) _).congr rfl rfl (fun _ _ _ _ => rfl)
        · rw [e1m]
          show (rS (rScr s t p) 31 (b + 10 + k) _).2.2 37 j = _
          rw [rS_ne _ _ _ _ (by decide), rScr_ne _ _ _ (by decide) (by decide), q3 j hj]
          unfold mLeak
          rw [yA_I, yA_A, if_neg (fun z => absurd z.1 (by decide))]
        · rw [e1m]
          show s.1 38 = _
          rw [q4]
          rfl
        · rw [e1m]
          show s.1 39 + iI (mLeakN C φ m1 k) = (yI m1 14 + iI (mLeakN C φ m1 k)) - yI m 14
          rw [q5, Int32.sub_eq_add_neg, Int32.sub_eq_add_neg, Int32.add_assoc, Int32.add_comm (-yI m 14), ← Int32.add_assoc]
      · rintro n s ⟨-, q1, q2, q3, q4, q5⟩
        obtain ⟨σ1, k1, k2⟩ := e132 s q1 (by rw [e]; exact q2) (fun j hj => by rw [e, q3 j hj]) (by rw [e]; exact q4) (by rw [e]; exact q5)
        refine ⟨σ1, ?_, k2⟩
        show kM_hourGoes_59 N (n + 1) s (nI b) (nI C.1) = _
        rw [kM_hourGoes_59]
        exact oit (by rw [(hC.fr q1).1]; exact nI_le (Nat.le_refl _) (by omega)) k1
  unfold kM_hourGoes
  have hgo : ∀ R : Option MS → Prop, R (kM_hourGoes_11 N N (m_put s0 39 0) (nI b) 0) → R ((kM_begins0 N σ).bind fun w1 => bnd (m_put w1 39 0) fun σ2 => kM_hourGoes_11 N N σ2 (nI b) 0) := by
    intro R h
    rw [b1]
    exact h
  apply hgo (fun r => ∃ σ1, r = some σ1 ∧ FrH b σ σ1 ∧ RowR (σ1.2.2 31) b C (mPass C m) ∧ (∀ k, k < C.1 → σ1.2.2 37 k = iI (yA (mPass C m) 12 k)) ∧ σ1.1 38 = yI (mPass C m) 13 ∧ σ1.1 39 = yI (mPass C m) 14 - yI m 14)
  have hF0 : FrH b σ (m_put s0 39 0) := b2.trans (FrH.i b _ 39 _ (Or.inr rfl))
  refine y_loop (fun n (s : MS) k => kM_hourGoes_11 N n s (nI b) (nI k)) C.1 (fun s k => k ≤ C.1 ∧ RLp b σ s C m (yIter (mStep C) k (ysI m 13 0)) k) (fun r => ∃ σ1, r = some σ1 ∧ FrH b σ σ1 ∧ RowR (σ1.2.2 31) b C (mPass C m) ∧ (∀ k, k < C.1 → σ1.2.2 37 k = iI (yA (mPass C m) 12 k)) ∧ σ1.1 38 = yI (mPass C m) 13 ∧ σ1.1 39 = yI (mPass C m) 14 - yI m 14) ?_ ?_ C.1 N (m_put s0 39 0) 0 (by omega) (by omega) ⟨by omega, hF0, ?_, fun j _ hj => ?_, fun j hj => ?_, ?_, ?_⟩
  · rintro n s k hk ⟨-, hP⟩
    right
    have hSk := YS_iter hs h9 hT hS0 k (by omega)
    have hMk : HM s (yIter (mStep C) k (ysI m 13 0)) := hHM _ _ hP.1 (yIterStep_I _ _ _ _ (by decide) (by decide)) (yIterStep_I _ _ _ _ (by decide) (by decide)) (yIterStep_I _ _ _ _ (by decide) (by decide))
    obtain ⟨s1, k1, k2⟩ := r_step (N := N) hb h9 hC hs hT hk hMk hSk hP
    refine ⟨s1, ?_, by omega, k1⟩
    show kM_hourGoes_11 N (n + 1) s (nI b) (nI k) = kM_hourGoes_11 N n s1 (nI b) (nI (k + 1))
    rw [kM_hourGoes_11]
    exact oif (by rw [(hC.fr hP.1).1]; exact nI_ge hk (by omega)) (k2 _)
  · rintro n s ⟨-, hP⟩
    obtain ⟨σ1, k1, k2⟩ := e59 s hP
    refine ⟨σ1, ?_, k2⟩
    show kM_hourGoes_11 N (n + 1) s (nI b) (nI C.1) = _
    rw [kM_hourGoes_11]
    exact oit (by rw [(hC.fr hP.1).1]; exact nI_le (Nat.le_refl _) (by omega)) k1
  · exact (show RowR (s0.2.2 31) b C m by rw [b3]; exact hR).congr rfl rfl (fun _ _ _ _ => rfl)
  · show s0.2.2 36 j = _
    rw [(b6 j hj).1]
    show (0 : Int32) = iI (yA m 11 j)
    rw [hm.2 j hj]
    rfl
  · show s0.2.2 37 j = _
    rw [(b6 j hj).2, if_neg (by omega)]
  · show s0.1 38 = _
    rw [b4]
    rfl
  · show (if (39 : Nat) = 39 then (0 : Int32) else s0.1 39) = _
    rw [if_pos rfl]
    exact (Int32.sub_self _).symm
end RL
