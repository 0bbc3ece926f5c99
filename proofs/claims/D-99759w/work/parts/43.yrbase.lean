/-! plain law: the reference's checks; its tried row -/
section R3
variable {N : Nat} {σ : MS} {C : CC} {m V : MN} {T : Int}
theorem r_within1 {a b k : Nat} {A B : Int32} (hA : A = nI a) (hB : B = nI b) (h1 : a ≤ k) (h2 : k ≤ b) (hb : b < 2 ^ 31) : kM_within N (nI k) A B = some 1 := by
  subst hA; subst hB
  unfold kM_within
  rw [if_neg (nI_nlt h1 (by omega)), if_neg (nI_nlt h2 hb)]
theorem r_within0 {x a b : Int32} (h : x < a ∨ b < x) : kM_within N x a b = some 0 := by
  unfold kM_within
  by_cases h1 : x < a
  · rw [if_pos h1]
  · rw [if_neg h1, if_pos (h.resolve_left h1)]
theorem r_right1 (h : σ.1 0 = 0) {v : Int32} (hv : v ≠ 0) (k : Int32) : kM_right N σ v k = some (σ, 1) := by
  unfold kM_right kM_right_16
  rw [if_pos h, if_neg hv, if_pos h]
theorem r_right0 (h : σ.1 0 = 0) {k : Int32} (hk : k ≠ 0) : kM_right N σ 0 k = some (m_put σ 0 k, 0) := by
  unfold kM_right kM_right_16 bnd
  rw [if_pos h, if_pos rfl]
  show (if (m_put σ 0 k).1 0 = 0 then _ else _) = _
  rw [if_neg (by rw [mp_s]; exact hk)]
theorem r_isCup1 (h : σ.1 0 = 0) (h1 : σ.1 1 = nI C.1) (h9 : C.1 ≤ 9) {c : Nat} (hc : c < C.1) : kM_isCup N σ (nI c) = some (σ, 1) := by
  unfold kM_isCup kM_isCup_18
  rw [if_neg (nI_pos (by omega)), if_neg (by rw [h1]; exact nI_ge hc (by omega))]
  exact ob1 (r_right1 h (by decide) 1) rfl
theorem r_isCup0 (h : σ.1 0 = 0) (h1 : σ.1 1 = nI C.1) {x : Int32} (hx : x < 0 ∨ nI C.1 ≤ x) : kM_isCup N σ x = some (m_put σ 0 1, 0) := by
  have e : kM_isCup_18 N σ 0 = some (m_put σ 0 1, 0) := by
    unfold kM_isCup_18
    exact ob1 (r_right0 h (by decide)) rfl
  unfold kM_isCup
  by_cases p : x < 0
  · rw [if_pos p]; exact e
  · rw [if_neg p, if_pos (by rw [h1]; exact hx.resolve_left p)]; exact e
theorem r_isWhat1 (h : σ.1 0 = 0) {k b : Nat} {B : Int32} (hB : B = nI b) (hk : k ≤ b) (hb : b < 2 ^ 31) : kM_isWhat N σ (nI k) B = some (σ, 1) := by
  unfold kM_isWhat
  exact ob1 (r_within1 (a := 0) rfl hB (by omega) hk hb) (ob1 (r_right1 h (by decide) 1) rfl)
theorem r_isWhat0 (h : σ.1 0 = 0) {x B : Int32} (hx : x < 0 ∨ B < x) : kM_isWhat N σ x B = some (m_put σ 0 1, 0) := by
  unfold kM_isWhat
  exact ob1 (r_within0 hx) (ob1 (r_right0 h (by decide)) rfl)
theorem r_isSoon1 (h : σ.1 0 = 0) {a k : Nat} {A : Int32} (hA : A = nI a) (h1 : a ≤ k) (h2 : k ≤ 200) (w : Int32) : kM_isSoon N σ (nI k) A w = some (σ, 1) := by
  unfold kM_isSoon
  exact ob1 (r_within1 (b := 200) hA rfl h1 h2 (by decide)) (ob1 (r_right1 h (by decide) w) rfl)
theorem r_isSoon0 (h : σ.1 0 = 0) {x A w : Int32} (hw : w ≠ 0) (hx : x < A ∨ 200 < x) : kM_isSoon N σ x A w = some (m_put σ 0 w, 0) := by
  unfold kM_isSoon
  exact ob1 (r_within0 hx) (ob1 (r_right0 h hw) rfl)
theorem r_isSome1 (h : σ.1 0 = 0) (h1 : σ.1 1 = nI C.1) {x : Int32} (hx : ¬ x < 0) (hx2 : ¬ ((1 : Int32) <<< (nI C.1 &&& 31)) ≤ x) : kM_isSome N σ x = some (σ, 1) := by
  unfold kM_isSome kM_isSome_20
  rw [if_neg hx, h1, if_neg hx2]
  exact ob1 (r_right1 h (by decide) 1) rfl
theorem r_isSome0 (h : σ.1 0 = 0) (h1 : σ.1 1 = nI C.1) {x : Int32} (hx : x < 0 ∨ ((1 : Int32) <<< (nI C.1 &&& 31)) ≤ x) : kM_isSome N σ x = some (m_put σ 0 1, 0) := by
  have e : kM_isSome_20 N σ 0 = some (m_put σ 0 1, 0) := by
    unfold kM_isSome_20
    exact ob1 (r_right0 h (by decide)) rfl
  unfold kM_isSome
  by_cases p : x < 0
  · rw [if_pos p]; exact e
  · rw [if_neg p, h1, if_pos (hx.resolve_left p)]; exact e
/-- the tried row stands for m -/
def RS (N : Nat) (σ : MS) (C : CC) (m : MN) (T : Int) : Prop := (C.1 ≤ 9 ∧ ∀ k, k < C.1 → 0 ≤ C.2.1 k ∧ C.2.1 k ≤ 20) ∧ RC N σ C ∧ RowR (σ.2.2 31) 64 C m ∧ HM σ m ∧ YN C m T
theorem r_tries (hN : 2 ^ 20 < N) (hs : C.1 ≤ 9 ∧ ∀ k, k < C.1 → 0 ≤ C.2.1 k ∧ C.2.1 k ≤ 20) (hC : RC N σ C) (hR : RowR (σ.2.2 31) 0 C m) (hM : HM σ m) (hY : YN C m T) : ∃ σ1, kM_tries N σ = some σ1 ∧ FrH 64 σ σ1 ∧ RS N σ1 C m T := by
  unfold kM_tries
  refine y_loop (fun n (s : MS) k => kM_tries_2 N n s (nI k)) 64 (fun s k => FrH 64 σ s ∧ ∀ q, q < k → s.2.2 31 (64 + q) = σ.2.2 31 q) (fun r => ∃ σ1, r = some σ1 ∧ FrH 64 σ σ1 ∧ RS N σ1 C m T) ?_ ?_ 64 N σ 0 (by omega) (by omega) ⟨FrH.refl 64 σ, fun q hq => by omega⟩
  · rintro n s k hk ⟨p1, p2⟩
    right
    refine ⟨rS s 31 (64 + k) (σ.2.2 31 k), ?_, p1.trans (FrH.s 64 s 31 _ _ (Or.inr (Or.inr ⟨rfl, by omega, by omega⟩))), fun q hq => ?_⟩
    · show kM_tries_2 N (n + 1) s (nI k) = kM_tries_2 N n _ (nI (k + 1))
      rw [kM_tries_2]
      refine oif (nI_ge (b := 64) hk (by decide)) (ob1 ((r_ld (q := k) rfl (by show _ < 128; omega)).trans (by rw [p1.2.2.2 k (Or.inl hk)])) (ob1 (r_st (q := 64 + k) (nI_add 64 k) (by show _ < 128; omega)) ?_))
      rw [nI_1]
    · rw [rS_get]
      by_cases e : q = k
      · rw [e, if_pos ⟨rfl, rfl⟩]
      · rw [if_neg (by omega)]
        exact p2 q (by omega)
  · rintro n s ⟨p1, p2⟩
    refine ⟨s, ?_, p1, hs, hC.fr p1, hR.of hs.1 (fun q hq => by rw [p2 q hq, Nat.zero_add]), hM.fr p1 rfl rfl rfl, hY⟩
    show kM_tries_2 N (n + 1) s (nI 64) = _
    rw [kM_tries_2]
    exact oit (nI_le (b := 64) (Nat.le_refl _) (by decide)) rfl
theorem r_go (hN : 2 ^ 20 < N) (h : RS N σ C m T) (hT : T ≤ 900000000) : ∃ σ1, kM_hourGoes N σ 64 = some σ1 ∧ FrH 64 σ σ1 ∧ RS N σ1 C (mPass C m) (T + 40000) ∧ (∀ k, k < C.1 → σ1.2.2 37 k = iI (yA (mPass C m) 12 k)) ∧ σ1.1 38 = yI (mPass C m) 13 ∧ σ1.1 39 = yI (mPass C m) 14 - yI m 14 := by
  obtain ⟨hs, h1, h2, h3, h4⟩ := h
  obtain ⟨σ1, a1, a2, a3, a4, a5, a6⟩ := r_hour (N := N) (b := 64) (T := T) hN (Or.inr rfl) hs.1 hs.2 h1 h2 h3 h4 hT
  exact ⟨σ1, a1, a2, ⟨hs, h1.fr a2, a3, h3.fr a2 (mPass_I _ _ _ (by decide) (by decide) (by decide)) (mPass_I _ _ _ (by decide) (by decide) (by decide)) (mPass_I _ _ _ (by decide) (by decide) (by decide)), mPass_YN hs.2 hs.1 hT h4⟩, a4, a5, a6⟩
theorem RS.row (h : RS N σ C m T) {k : Nat} (hk : k < C.1) : σ.2.2 31 (64 + 10 + k) = iI (yA m 1 k) := (h.2.2.1.2 k hk).2.1
end R3
/-! tips -/
theorem mStep_2 {C : CC} {m : MN} {T : Int} {k : Nat} (hs : 0 ≤ C.2.1 k ∧ C.2.1 k ≤ 20) (hS : YS C m T k) (h9 : C.1 ≤ 9) (hT : T ≤ 900000000) (hk : k < C.1) (j : Nat) : yA (mStep C m k) 2 j = if j = k then yA m 2 k + yA (mStep C m k) 12 k else yA m 2 j := by
  have hk0 := hS.1 k hk
  rw [if_neg (by omega)] at hk0
  have hk1 : YK C (mCome C m k) T k := (YK_c _ _ _ _).mpr hk0
  have hcp := mCome_pre hs hk hS.2 k (Nat.le_refl _) hk
  rw [if_pos rfl] at hcp
  have hp9 := pow9 (c := k) (by omega)
  have ht := mTip_le hk1 hcp.1
  have e2 : ∀ i, yA (mCome C m k) 2 i = yA m 2 i := fun i => by unfold mCome; rw [yA_A, if_neg (fun z => absurd z.1 (by decide))]
  have e12 : yA (mStep C m k) 12 k = mTip (mCome C m k) k := by rw [mStep_A, if_pos ⟨rfl, rfl⟩]
  rw [e12, mStep_A, if_neg (fun z => absurd z.1 (by decide)), mSettle_2, e2, e2]
  by_cases e : j = k
  · rw [if_pos e, if_pos e, if_pos]
    obtain ⟨a0, a1, a2, a3, a4, a5, a6, a7, a8⟩ := hk0
    omega
  · rw [if_neg e, if_neg e]
theorem mStep_12 (C : CC) (m : MN) (k j : Nat) (h : j ≠ k) : yA (mStep C m k) 12 j = yA m 12 j := by
  rw [mStep_A, if_neg (fun z => h z.2), mSettle_o _ _ _ _ (by decide) (by decide) (by decide) (by decide)]
  unfold mCome
  rw [yA_A, if_neg (fun z => absurd z.1 (by decide))]
theorem mPass_2 {C : CC} {m : MN} {T : Int} (hs : ∀ k, k < C.1 → 0 ≤ C.2.1 k ∧ C.2.1 k ≤ 20) (h9 : C.1 ≤ 9) (hT : T ≤ 900000000) (h : YN C m T) {c : Nat} (hc : c < C.1) : yA (mPass C m) 2 c = yA m 2 c + yA (mPass C m) 12 c ∧ 0 ≤ yA (mPass C m) 12 c ∧ yA (mPass C m) 12 c ≤ 40000 := by
  unfold mPass
  simp only [yA_I]
  rw [mLeaks_A _ _ _ (by decide), mLeaks_A _ _ _ (by decide)]
  unfold mSteps
  have hS0 : YS C (ysI m 13 0) T 0 := YS_0 h.1 h.2
  have key : ∀ k, k ≤ C.1 → ∀ j, (k ≤ j → yA (yIter (mStep C) k (ysI m 13 0)) 2 j = yA m 2 j) ∧ (j < k → yA (yIter (mStep C) k (ysI m 13 0)) 2 j = yA m 2 j + yA (yIter (mStep C) k (ysI m 13 0)) 12 j ∧ 0 ≤ yA (yIter (mStep C) k (ysI m 13 0)) 12 j ∧ yA (yIter (mStep C) k (ysI m 13 0)) 12 j ≤ 40000) := by
    intro k
    induction k with
    | zero => intro _ j; exact ⟨fun _ => rfl, fun z => by omega⟩
    | succ k ih =>
      intro hk j
      have hS := YS_iter hs h9 hT hS0 k (by omega)
      have e2 := mStep_2 (hs k (by omega)) hS h9 hT (by omega : k < C.1) j
      have ih0 := ih (by omega) j
      show (_ → yA (mStep C (yIter (mStep C) k (ysI m 13 0)) k) 2 j = _) ∧ (_ → yA (mStep C (yIter (mStep C) k (ysI m 13 0)) k) 2 j = _ + yA (mStep C (yIter (mStep C) k (ysI m 13 0)) k) 12 j ∧ 0 ≤ yA (mStep C (yIter (mStep C) k (ysI m 13 0)) k) 12 j ∧ yA (mStep C (yIter (mStep C) k (ysI m 13 0)) k) 12 j ≤ 40000)
      rw [e2]
      by_cases e : j = k
      · subst e
        rw [if_pos rfl]
        refine ⟨fun z => by omega, fun _ => ⟨by rw [ih0.1 (Nat.le_refl _)], ?_⟩⟩
        have hk0 := hS.1 j (by omega)
        rw [if_neg (by omega)] at hk0
        have hk1 : YK C (mCome C (yIter (mStep C) j (ysI m 13 0)) j) T j := (YK_c _ _ _ _).mpr hk0
        have hcp := mCome_pre (hs j (by omega)) (by omega) hS.2 j (Nat.le_refl _) (by omega)
        rw [if_pos rfl] at hcp
        have hp9 := pow9 (c := j) (by omega)
        have ht := mTip_le hk1 hcp.1
        rw [mStep_A, if_pos ⟨rfl, rfl⟩]
        omega
      · rw [if_neg e, mStep_12 _ _ _ _ e]
        exact ⟨fun z => ih0.1 (by omega), fun z => ih0.2 (by omega)⟩
  exact (key C.1 (Nat.le_refl _) c).2 hc
/-- bits of what tips: all of some -/
theorem y_all (s t : Int32) : (s &&& (t ^^^ (-1))) = 0 ↔ (t &&& s) = s := by
  rw [← Int32.toBitVec_inj, ← Int32.toBitVec_inj]
  simp only [Int32.toBitVec_and, Int32.toBitVec_xor]
  have hm : ∀ i, i < 32 → (-1 : Int32).toBitVec.getLsbD i = true := by decide +kernel
  have e0 : (0 : Int32).toBitVec = 0#32 := by decide
  rw [e0]
  constructor
  · intro h
    apply BitVec.eq_of_getLsbD_eq
    intro i hi
    have h2 := congrArg (fun b => b.getLsbD i) h
    simp only [BitVec.getLsbD_and, BitVec.getLsbD_xor, hm i hi, BitVec.getLsbD_zero] at h2 ⊢
    cases h3 : s.toBitVec.getLsbD i <;> cases h4 : t.toBitVec.getLsbD i <;> simp [h3, h4] at h2 ⊢
  · intro h
    apply BitVec.eq_of_getLsbD_eq
    intro i hi
    have h2 := congrArg (fun b => b.getLsbD i) h
    simp only [BitVec.getLsbD_and, BitVec.getLsbD_xor, hm i hi, BitVec.getLsbD_zero] at h2 ⊢
    cases h3 : s.toBitVec.getLsbD i <;> cases h4 : t.toBitVec.getLsbD i <;> simp [h3, h4] at h2 ⊢
