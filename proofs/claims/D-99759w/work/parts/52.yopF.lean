/-! plain law: cracks and pours; toPour -/
def mCrack (m : MN) (c : Nat) (h : Int) : MN := ysA (ysA m 0 c h) 1 c (if h - 1 < yA m 1 c then h - 1 else yA m 1 c)
theorem mCrack_A (m : MN) (c : Nat) (h : Int) (i j : Nat) : yA (mCrack m c h) i j = if i = 1 ∧ j = c then (if h - 1 < yA m 1 c then h - 1 else yA m 1 c) else if i = 0 ∧ j = c then h else yA m i j := by
  unfold mCrack
  rw [yA_A]
  by_cases e : i = 1 ∧ j = c
  · rw [if_pos e, if_pos e]
  · rw [if_neg e, if_neg e, yA_A]
theorem mCrack_YN {C : CC} {m : MN} {T : Int} {c : Nat} {h : Int} (hm : YN C m T) (h1 : 1 ≤ h) (h2 : h ≤ 30) : YN C (mCrack m c h) T := by
  refine ⟨fun k hk => ?_, fun j hj => ?_⟩
  · have h0 := hm.1 k hk
    unfold YK at h0 ⊢
    simp only [mCrack_A, show ¬ (0 : Nat) = 1 by decide, show ¬ (1 : Nat) = 0 by decide, show ¬ (2 : Nat) = 1 by decide, show ¬ (2 : Nat) = 0 by decide, show ¬ (3 : Nat) = 1 by decide, show ¬ (3 : Nat) = 0 by decide, show ¬ (4 : Nat) = 1 by decide, show ¬ (4 : Nat) = 0 by decide, show ¬ (5 : Nat) = 1 by decide, show ¬ (5 : Nat) = 0 by decide, false_and, if_false, true_and]
    obtain ⟨a0, a1, a2, a3, a4⟩ := h0
    by_cases e : k = c
    · subst e
      rw [if_pos rfl, if_pos rfl]
      refine ⟨h1, h2, ?_, ?_, a4⟩
      · split <;> omega
      · split <;> omega
    · rw [if_neg e, if_neg e]
      exact ⟨a0, a1, a2, a3, a4⟩
  · rw [mCrack_A, if_neg (fun z => absurd z.1 (by decide)), if_neg (fun z => absurd z.1 (by decide))]
    exact hm.2 j hj
/-- drops poured in; all below settles -/
def mPourN (m : MN) (c : Nat) (d : Int) : Nat → MN
  | 0 => ysA m 11 c (yA m 11 c + d)
  | j + 1 => mSettle (mPourN m c d j) (c + j)
def mPour (C : CC) (m : MN) (c : Nat) (d : Int) : MN := mPourN m c d (C.1 - c)
def mPourT (m : MN) (c : Nat) (d : Int) : Int := mTip (ysA m 11 c (yA m 11 c + d)) c
theorem mPour_S {C : CC} {m : MN} {T : Int} {c : Nat} {d : Int} (h9 : C.1 ≤ 9) (hT : T ≤ 900000000) (hm : YN C m T) (hc : c < C.1) (h0 : 0 ≤ d) (h1 : d ≤ 50) : ∀ j, c + j ≤ C.1 → YS C (mPourN m c d j) T (c + j) := by
  intro j
  induction j with
  | zero =>
    intro _
    refine ⟨fun k hk => (YK_c _ _ _ _).mpr ?_, fun k h3 hk => ?_⟩
    · obtain ⟨a0, a1, a2, a3, a4, a5, a6, a7, a8⟩ := hm.1 k hk
      refine ⟨a0, a1, a2, a3, a4, a5, a6, a7, ?_⟩
      split <;> omega
    · have hp := pow_pos c
      have e0 : yA (mPourN m c d 0) 11 k = if 11 = 11 ∧ k = c then yA m 11 c + d else yA m 11 k := yA_A _ _ _ _ _ _
      rw [e0, hm.2 c hc, hm.2 k hk, Nat.add_zero]
      split <;> omega
  | succ j ih =>
    intro hj
    have h2 := ih (by omega)
    have hp := pow_pos (c + j)
    exact mSettle_inv (k := c + j) h2.1 (by omega) hT (fun i h3 h4 => by
      have := h2.2 i h3 h4
      split <;> omega) h9
theorem mPour_11 {C : CC} {m : MN} {T : Int} {c : Nat} {d : Int} (h9 : C.1 ≤ 9) (hT : T ≤ 900000000) (hm : YN C m T) (hc : c < C.1) (h0 : 0 ≤ d) (h1 : d ≤ 50) : ∀ j, c + j ≤ C.1 → ∀ i, i < c + j → i < C.1 → yA (mPourN m c d j) 11 i = 0 := by
  intro j
  induction j with
  | zero =>
    intro _ i hi hi2
    show yA (ysA m 11 c (yA m 11 c + d)) 11 i = 0
    rw [yA_A, if_neg (by omega)]
    exact hm.2 i hi2
  | succ j ih =>
    intro hj i hi hi2
    have hS := mPour_S h9 hT hm hc h0 h1 j (by omega)
    have hk0 := hS.1 (c + j) (by omega)
    rw [if_neg (by omega)] at hk0
    show yA (mSettle (mPourN m c d j) (c + j)) 11 i = 0
    rw [mSettle_11 hk0]
    by_cases e : i = c + j
    · rw [if_pos e]
    · rw [if_neg e, ih (by omega) i (by omega) hi2]
      have hk2 := hk0
      obtain ⟨a0, a1, a2, a3, a4, a5, a6, a7, a8⟩ := hk0
      unfold mGive
      split
      · rw [if_neg (by omega)]; rfl
      · rename_i q
        have i0 := mInto_ok hk2 0 q
        have i1 := mInto_ok hk2 1 q
        rw [if_neg (by omega), if_neg (by omega)]; rfl
theorem mPour_YN {C : CC} {m : MN} {T : Int} {c : Nat} {d : Int} (h9 : C.1 ≤ 9) (hT : T ≤ 900000000) (hm : YN C m T) (hc : c < C.1) (h0 : 0 ≤ d) (h1 : d ≤ 50) : YN C (mPour C m c d) (T + 40000) := by
  have hS := mPour_S h9 hT hm hc h0 h1 (C.1 - c) (by omega)
  have h11 := mPour_11 h9 hT hm hc h0 h1 (C.1 - c) (by omega)
  have e : c + (C.1 - c) = C.1 := by omega
  rw [e] at hS h11
  exact ⟨YS_end hS, fun j hj => h11 j hj hj⟩
theorem mPourN_I (m : MN) (c : Nat) (d : Int) (i : Nat) (hi : i ≠ 14) : ∀ j, yI (mPourN m c d j) i = yI m i := by
  intro j
  induction j with
  | zero => rfl
  | succ j ih => exact (mSettle_I _ _ _ hi).trans ih
/-- nothing poured in changes nothing that counts -/
theorem mPour0 {C : CC} {m : MN} {T : Int} {c : Nat} (h9 : C.1 ≤ 9) (hT : T ≤ 900000000) (hm : YN C m T) (hc : c < C.1) : ∀ j, c + j ≤ C.1 → ∀ i k, i < 6 ∨ i = 11 → k < C.1 → yA (mPourN m c 0 j) i k = yA m i k := by
  intro j
  induction j with
  | zero =>
    intro _ i k hi hk
    show yA (ysA m 11 c (yA m 11 c + 0)) i k = _
    rw [yA_A]
    by_cases e : i = 11 ∧ k = c
    · rw [if_pos e, e.1, e.2, Int.add_zero]
    · rw [if_neg e]
  | succ j ih =>
    intro hj i k hi hk
    have ih0 := ih (by omega)
    have hS := mPour_S (d := 0) h9 hT hm hc (by omega) (by omega) j (by omega)
    have hk0 := hS.1 (c + j) (by omega)
    rw [if_neg (by omega)] at hk0
    have hz := hm.2 (c + j) (by omega)
    have hz2 : yA (mPourN m c 0 j) 11 (c + j) = 0 := (ih0 11 (c + j) (Or.inr rfl) (by omega)).trans hz
    have ht : mTip (mPourN m c 0 j) (c + j) = 0 := by
      have := mTip_le hk0 (by omega)
      omega
    obtain ⟨a0, a1, a2, a3, a4, a5, a6, a7, a8⟩ := hk0
    show yA (mSettle (mPourN m c 0 j) (c + j)) i k = _
    have : i = 0 ∨ i = 1 ∨ i = 2 ∨ i = 3 ∨ i = 4 ∨ i = 5 ∨ i = 11 := by omega
    rcases this with rfl | rfl | rfl | rfl | rfl | rfl | rfl
    · rw [mSettle_o _ _ _ _ (by decide) (by decide) (by decide) (by decide)]; exact ih0 _ _ (by omega) hk
    · rw [mSettle_1, hz2, Int.add_zero, Int.emod_eq_of_lt a2 a3]
      by_cases e : k = c + j
      · rw [if_pos e, ← e]; exact ih0 _ _ (by omega) hk
      · rw [if_neg e]; exact ih0 _ _ (by omega) hk
    · rw [mSettle_2, ht, Int.add_zero, if_pos (show yA (mPourN m c 0 j) 2 (c + j) < 1000000000 by omega)]
      by_cases e : k = c + j
      · rw [if_pos e, ← e]; exact ih0 _ _ (by omega) hk
      · rw [if_neg e]; exact ih0 _ _ (by omega) hk
    · rw [mSettle_o _ _ _ _ (by decide) (by decide) (by decide) (by decide)]; exact ih0 _ _ (by omega) hk
    · rw [mSettle_o _ _ _ _ (by decide) (by decide) (by decide) (by decide)]; exact ih0 _ _ (by omega) hk
    · rw [mSettle_5, ht, Int.add_zero]
      by_cases e : k = c + j ∧ yA (mPourN m c 0 j) 4 (c + j) ≠ -2
      · rw [if_pos e, Int.emod_eq_of_lt (by omega) (by omega), ← e.1]; exact ih0 _ _ (by omega) hk
      · rw [if_neg e]; exact ih0 _ _ (by omega) hk
    · have hk1 := hS.1 (c + j) (by omega)
      rw [mSettle_11 hk1, mGive_0 ht, Int.add_zero]
      by_cases e : k = c + j
      · rw [if_pos e, e, hz]
      · rw [if_neg e]; exact ih0 _ _ (by omega) hk
section OG
variable {g : XC} {N xa oa n : Nat} {Z Ya Yh : Nat → Prop} {na ta cv la lh : Nat} {ra rh : List Nat} {M : MT} {T : Int} {S : XS} {σ : MS} {C : CC} {V m : MN} {w : Nat → Int32}

variable {a b c : Nat}
theorem x_crack (h : NC S a xa) (hc : c < 9) {k : Nat} (hk : k ≤ 30) (hk0 : 1 ≤ k) (hf : 0 ≤ yA m 1 c ∧ yA m 1 c ≤ 30) : kX_X3_crack g N (nset S a xa m w) a (nI c) (nI k) = some (nset S a xa (mCrack m c k) w) := by
  unfold kX_X3_crack
  refine ob1 (n_obj h (by decide)) (ob1 (n_put (x := k) h (by decide) hc (iI_nI k)) (ob1 (n_obj h (by decide)) (ob1 (n_obj h (by decide)) (ob1 (n_a h (by decide) hc) ?_))))
  have e1 : yA (ysA m 0 c k) 1 c = yA m 1 c := by rw [yA_A, if_neg (fun z => absurd z.1 (by decide))]
  rw [e1]
  have e : (if (nI k - 1 : Int32) < iI (yA m 1 c) then nI k - 1 else iI (yA m 1 c)) = iI (if (k : Int) - 1 < yA m 1 c then (k : Int) - 1 else yA m 1 c) := by
    rw [iI_nI, show (1 : Int32) = iI 1 by decide, iI_sub]
    have e2 := iI_lt (a := (k : Int) - 1) (b := yA m 1 c) ⟨by omega, by omega⟩ ⟨by omega, by omega⟩
    by_cases p : (k : Int) - 1 < yA m 1 c
    · rw [if_pos p, if_pos (e2.mpr p)]
    · rw [if_neg p, if_neg (fun z => p (e2.mp z))]
  exact onb e (ob1 (n_put h (by decide) hc rfl) rfl)
theorem r_cracks (hb : b = 0 ∨ b = 64) (h9 : C.1 ≤ 9) (hc : c < C.1) {k : Nat} (hk : k ≤ 30) (hk0 : 1 ≤ k) (hR : RowR (σ.2.2 31) b C m) (hf : 0 ≤ yA m 1 c ∧ yA m 1 c ≤ 30) : ∃ σ1, kM_cracks N σ (nI b) (nI c) (nI k) = some σ1 ∧ FrH b σ σ1 ∧ RowR (σ1.2.2 31) b C (mCrack m c k) := by
  obtain ⟨h0, h1, h2, h3, h4, h5, h6⟩ := hR.2 c hc
  refine ⟨rS (rS σ 31 (b + 1 + c) (iI k)) 31 (b + 10 + c) (iI (if (k : Int) - 1 < yA m 1 c then (k : Int) - 1 else yA m 1 c)), ?_, (FrH.s b σ 31 _ _ (Or.inr (Or.inr ⟨rfl, by omega, by omega⟩))).trans (FrH.s b _ 31 _ _ (Or.inr (Or.inr ⟨rfl, by omega, by omega⟩))), ?_⟩
  · unfold kM_cracks
    rw [iI_nI k]
    refine ob1 (r_st (q := b + 1 + c) (ix3 b c 1 rfl) (by show _ < 128; omega)) (ob1 ((r_ld (q := b + 10 + c) (ix3 b c 10 rfl) (by show _ < 128; omega)).trans (by rw [rS_get, if_neg (by omega), h1])) (ob1 (v := iI (if (k : Int) - 1 < yA m 1 c then (k : Int) - 1 else yA m 1 c)) ?_ (ob1 (r_st (q := b + 10 + c) (ix3 b c 10 rfl) (by show _ < 128; omega)) rfl)))
    unfold kM_lesser
    rw [show (1 : Int32) = iI 1 by decide, iI_sub]
    have e2 := iI_le (a := (k : Int) - 1) (b := yA m 1 c) ⟨by omega, by omega⟩ ⟨by omega, by omega⟩
    by_cases p : (k : Int) - 1 < yA m 1 c
    · rw [if_pos p, if_pos (e2.mpr (by omega))]
    · rw [if_neg p]
      by_cases p2 : (k : Int) - 1 ≤ yA m 1 c
      · rw [if_pos (e2.mpr p2)]; congr 2; omega
      · rw [if_neg (fun z => p2 (e2.mp z))]
  · rw [rS_arr, rS_arr]
    exact (hR.hold h9 (by omega) k).fill h9 (by omega) _
theorem x_pour (h : NW g Z S a xa C) (hN : 2 ^ 20 < N) (hT : T ≤ 900000000) (hm : YN C m T) (hc : c < C.1) {d : Nat} (hd : d ≤ 50) : kX_X3_pour g N (nset S a xa m w) a (nI c) (nI d) = some (nset S a xa (mPour C m c d) w, iI (mPourT m c d)) := by
  have h9 := h.le9
  have hn := h.1
  unfold kX_X3_pour
  refine ob1 (n_obj hn (by decide)) (ob1 (n_a hn (by decide) (by omega)) (ob1 (n_put (x := yA m 11 c + d) hn (by decide) (by omega) (by rw [iI_nI, iI_add])) ?_))
  refine y_loop (fun f (s : Int32) k => kX_X3_pour_15 g N f (nset S a xa (mPourN m c d (k - c)) w) a (nI c) s (nI k)) C.1 (fun s k => c ≤ k ∧ k ≤ C.1 ∧ s = if k = c then 0 else iI (mPourT m c d)) (fun r => r = some (nset S a xa (mPour C m c d) w, iI (mPourT m c d))) ?_ ?_ (C.1 - c) N 0 c (by omega) (by omega) ⟨by omega, by omega, by rw [if_pos rfl]⟩ |> fun z => by rw [Nat.sub_self] at z; exact z
  · rintro f s k hk ⟨hk0, -, rfl⟩
    right
    refine ⟨iI (mPourT m c d), ?_, by omega, by omega, by rw [if_neg (by omega)]⟩
    have e1 : k + 1 - c = (k - c) + 1 := by omega
    have e2 : c + (k - c) = k := by omega
    have hS := mPour_S (d := (d : Int)) h9 hT hm hc (by omega) (by omega) (k - c) (by omega)
    rw [e2] at hS
    have hmk := hS.1 k hk
    rw [if_neg (by omega)] at hmk
    have hcp := hS.2 k (Nat.le_refl _) hk
    have hp9 := pow9 (c := k) (by omega)
    have hstep : mPourN m c d (k + 1 - c) = mSettle (mPourN m c d (k - c)) k := by rw [e1]; show mSettle _ (c + (k - c)) = _; rw [e2]
    show kX_X3_pour_15 g N (f + 1) (nset S a xa (mPourN m c d (k - c)) w) a (nI c) _ (nI k) = kX_X3_pour_15 g N f (nset S a xa (mPourN m c d (k + 1 - c)) w) a (nI c) _ (nI (k + 1))
    rw [kX_X3_pour_15]
    refine n_cups h ?_
    show (if nI C.1 ≤ nI k then _ else _) = _
    refine oif (nI_ge hk (by omega)) (ob1 (n_cls hn) (ob1 (x_settle (C := C) hn h9 hk hmk hT ⟨hcp.1, by omega⟩) ?_))
    rw [hstep]
    by_cases e : k = c
    · subst e
      refine oit rfl ?_
      unfold kX_X3_pour_47
      rw [nI_1, Nat.sub_self]
      rfl
    · refine oif (fun z => e ((nI_eq (by omega) (by omega)).mp z)) ?_
      unfold kX_X3_pour_47
      rw [nI_1, if_neg e]
  · rintro f s ⟨-, -, rfl⟩
    show kX_X3_pour_15 g N (f + 1) (nset S a xa (mPourN m c d (C.1 - c)) w) a (nI c) _ (nI C.1) = _
    rw [kX_X3_pour_15]
    refine n_cups h ?_
    show (if nI C.1 ≤ nI C.1 then _ else _) = _
    refine oit (nI_le (Nat.le_refl _) (by omega)) ?_
    rw [if_neg (by omega)]
    rfl
theorem r_pours (hN : 2 ^ 20 < N) (hb : b = 0 ∨ b = 64) (h9 : C.1 ≤ 9) (hC : RC N σ C) (hR : RowR (σ.2.2 31) b C m) (hT : T ≤ 900000000) (hm : YN C m T) (hc : c < C.1) {d : Nat} (hd : d ≤ 50) : ∃ σ1, kM_pours N σ (nI b) (nI c) (nI d) = some (σ1, iI (mPourT m c d)) ∧ FrH b σ σ1 ∧ RowR (σ1.2.2 31) b C (mPour C m c d) := by
  obtain ⟨s0, b1, b2, b3, b4, b5, b6⟩ := r_begins (N := N) (σ := σ) hN h9 hC.1 b
  have hF0 : FrH b σ (rS s0 36 c (nI d)) := b2.trans (FrH.s b s0 36 _ _ (Or.inl rfl))
  have key : ∃ σ1, kM_pours_14 N N (rS s0 36 c (nI d)) (nI b) (nI c) (nI c) = some (σ1, iI (mPourT m c d)) ∧ FrH b σ σ1 ∧ RowR (σ1.2.2 31) b C (mPour C m c d) := by
    refine y_loop (fun f (s : MS) k => kM_pours_14 N f s (nI b) (nI c) (nI k)) C.1 (fun s k => c ≤ k ∧ k ≤ C.1 ∧ FrH b σ s ∧ RowR (s.2.2 31) b C (mPourN m c d (k - c)) ∧ (∀ j, k ≤ j → j < C.1 → s.2.2 36 j = iI (yA (mPourN m c d (k - c)) 11 j)) ∧ (c < k → s.2.2 37 c = iI (mPourT m c d))) (fun r => ∃ σ1, r = some (σ1, iI (mPourT m c d)) ∧ FrH b σ σ1 ∧ RowR (σ1.2.2 31) b C (mPour C m c d)) ?_ ?_ (C.1 - c) N (rS s0 36 c (nI d)) c (by omega) (by omega) ⟨by omega, by omega, hF0, ?_, fun j h1 hj => ?_, fun z => by omega⟩
    · rintro f s k hk ⟨hk0, -, p1, p2, p3, p4⟩
      right
      have e1 : k + 1 - c = (k - c) + 1 := by omega
      have e2 : c + (k - c) = k := by omega
      have hS := mPour_S (d := (d : Int)) h9 hT hm hc (by omega) (by omega) (k - c) (by omega)
      rw [e2] at hS
      have hmk := hS.1 k hk
      rw [if_neg (by omega)] at hmk
      have hcp := hS.2 k (Nat.le_refl _) hk
      have hp9 := pow9 (c := k) (by omega)
      have hstep : mPourN m c d (k + 1 - c) = mSettle (mPourN m c d (k - c)) k := by rw [e1]; show mSettle _ (c + (k - c)) = _; rw [e2]
      obtain ⟨s1, g1, g2, g3, g4, g5, g6, g7⟩ := r_gets (N := N) (σ := s) hb h9 hk p2 hmk hT ⟨hcp.1, by omega⟩
      refine ⟨s1, ?_, by omega, by omega, p1.trans g2, by rw [hstep]; exact g3, fun j h1 hj => ?_, fun _ => ?_⟩
      · show kM_pours_14 N (f + 1) s (nI b) (nI c) (nI k) = kM_pours_14 N f s1 (nI b) (nI c) (nI (k + 1))
        rw [kM_pours_14]
        refine oif (by rw [(hC.fr p1).1]; exact nI_ge hk (by omega)) (ob1 ((r_ld (q := k) rfl (by show _ < 9; omega)).trans (by rw [p3 k (Nat.le_refl _) hk])) (ob1 g1 ?_))
        rw [nI_1]
      · rw [hstep]
        exact g7 j (by omega) hj (p3 j (by omega) hj)
      · rw [g4]
        unfold upd
        by_cases e : c = k
        · rw [if_pos e, ← e, Nat.sub_self]; rfl
        · rw [if_neg e]; exact p4 (by omega)
    · rintro f s ⟨-, -, p1, p2, p3, p4⟩
      refine ⟨s, ?_, p1, p2⟩
      show kM_pours_14 N (f + 1) s (nI b) (nI c) (nI C.1) = _
      rw [kM_pours_14]
      exact oit (by rw [(hC.fr p1).1]; exact nI_le (Nat.le_refl _) (by omega)) (ob1 ((r_ld (q := c) rfl (by show _ < 9; omega)).trans (by rw [p4 hc])) rfl)
    · rw [rS_ne _ _ _ _ (by decide), b3, Nat.sub_self]
      exact hR.congr rfl rfl (fun i j hi hj => by show yA (ysA m 11 c _) i j = _; rw [yA_A, if_neg (by omega)])
    · rw [rS_get, Nat.sub_self]
      show _ = iI (yA (ysA m 11 c (yA m 11 c + d)) 11 j)
      rw [yA_A, hm.2 c hc]
      by_cases e : j = c
      · rw [if_pos ⟨rfl, e⟩, if_pos ⟨rfl, e⟩, iI_nI, Int.zero_add]
      · rw [if_neg (fun z => e z.2), if_neg (fun z => e z.2), (b6 j hj).1, hm.2 j hj]
        rfl
  obtain ⟨σ1, k1, k2⟩ := key
  refine ⟨σ1, ?_, k2⟩
  unfold kM_pours
  exact ob1 b1 (ob1 (r_st (q := c) rfl (by show _ < 9; omega)) k1)
theorem RS.pour0 (h : RS N σ C m T) (hT : T ≤ 900000000) (hc : c < C.1) : RS N σ C (mPour C m c 0) (T + 40000) := by
  obtain ⟨a1, a2, a3, a4, a5⟩ := h
  have e : c + (C.1 - c) ≤ C.1 := by omega
  refine ⟨a1, a2, a3.congr (mPourN_I _ _ _ _ (by decide) _) (mPourN_I _ _ _ _ (by decide) _) (fun i j hi hj => mPour0 a1.1 hT a5 hc (C.1 - c) e i j (Or.inl hi) hj), ?_, mPour_YN a1.1 hT a5 hc (by omega) (by omega)⟩
  unfold HM at a4 ⊢
  rw [show yI (mPour C m c 0) 8 = yI m 8 from mPourN_I _ _ _ _ (by decide) _, show yI (mPour C m c 0) 9 = yI m 9 from mPourN_I _ _ _ _ (by decide) _, show yI (mPour C m c 0) 10 = yI m 10 from mPourN_I _ _ _ _ (by decide) _]
  exact a4
theorem RS.pours (h : RS N σ C m T) (hN : 2 ^ 20 < N) (hT : T ≤ 900000000) (hc : c < C.1) {d : Nat} (hd : d ≤ 50) : ∃ σ1, kM_pours N σ 64 (nI c) (nI d) = some (σ1, iI (mPourT m c d)) ∧ FrH 64 σ σ1 ∧ RS N σ1 C (mPour C m c d) (T + 40000) := by
  obtain ⟨a1, a2, a3, a4, a5⟩ := h
  obtain ⟨σ1, k1, k2, k3⟩ := r_pours (b := 64) hN (Or.inr rfl) a1.1 a2 a3 hT a5 hc hd
  exact ⟨σ1, k1, k2, a1, a2.fr k2, k3, a4.fr k2 (mPourN_I _ _ _ _ (by decide) _) (mPourN_I _ _ _ _ (by decide) _) (mPourN_I _ _ _ _ (by decide) _), mPour_YN a1.1 hT a5 hc (by omega) (by omega)⟩
theorem hof (x : Int32) {β : Type} (A B : Option β) : ((kX_X1_isOf g N x (nI c)).bind fun w6 => if w6 = 0 then A else B) = if ((x >>> (nI c &&& 31)) &&& 1) = 1 then B else A := by
  unfold kX_X1_isOf
  by_cases p : ((x >>> (nI c &&& 31)) &&& 1) = 1
  · rw [if_pos p, if_pos p]; rfl
  · rw [if_neg p, if_neg p]; rfl
theorem b_toPour (hX : XB g N xa oa n Z Ya Yh na ta cv la lh ra rh M T S) (hR : RB N M T σ) {c k : Nat} (hc : c < (tC M).1) (h0 : 1 ≤ k) (hk : k ≤ 60) : ∃ S1 r, kX_X1_toPour g N S xa (nI c) (nI k) = some (.inl (S1, r)) ∧ KS xa ta oa n S S1 ∧ ∃ σ1, kM_toPour N σ (nI c) (nI k) = some (σ1, r) ∧ σ1.1 0 = 0 ∧ RFr σ σ1 := by
  refine b_of (x := fun S => kX_X1_toPour g N S xa (nI c) (nI k)) hX (fun m w => ?_)
  have hO := hX.oc
  have hs := hO.spr
  have hN := hX.2.2.2.1
  have hT := hX.2.2.2.2.1
  have hV := hX.2.2.1.2.2.1.1
  have hC1 : σ.1 1 = nI (tC M).1 := hR.1.1.1
  have hRV : RowR (σ.2.2 31) 0 (tC M) (tV M) := hR.1.2.1
  obtain ⟨σ2, t1, t2, t3⟩ := r_try hN hR.1 hR.2.1 m (RFr.p0 σ 0)
  have hRX : ∀ m s, RFr σ s → ∃ s2, kM_tries N s = some s2 ∧ FrH 64 s s2 ∧ RS N s2 (tC M) (mBe m (tV M)) T := fun m s hs => r_try hN hR.1 hR.2.1 m hs
  generalize tC M = C at *
  generalize tV M = V at *
  have z0 : (m_put σ 0 0).1 0 = 0 := mp_s _ _ _
  have z1 : (m_put σ 0 0).1 1 = nI C.1 := (mp_n _ _ _ (by decide)).trans hC1
  have hB := mBe_YN m hs.1 hV.1
  have fin0 : ∀ σ3, FrH 64 σ2 σ3 → σ3.1 0 = 0 ∧ RFr σ σ3 := fun σ3 h => ⟨(h.1 0 (by decide) (by decide)).trans ((t2.1 0 (by decide) (by decide)).trans z0), (RFr.p0 σ 0).trans (t2.r.trans h.r)⟩
  have joint : ∀ (e d f f2 : Nat) (m : MN) (w : Nat → Int32) (s : MS), d + e = 51 → e < f → e < f2 → RFr σ s → s.1 0 = 0 → ∃ m1 w1 r s1, kX_X1_toPour_17 g N f (nset S ta xa m w) xa (nI c) (nI k) (nI d) = some (.inl (nset S ta xa m1 w1, r)) ∧ kM_toPour_32 N f2 s (nI c) (nI k) (nI d) = some (s1, r) ∧ s1.1 0 = 0 ∧ RFr σ s1 := by
    intro e
    induction e with
    | zero =>
      intro d f f2 m w s hd hf hf2 h1 h2
      obtain ⟨f, rfl⟩ : ∃ f', f = f' + 1 := ⟨f - 1, by omega⟩
      obtain ⟨f2, rfl⟩ : ∃ f', f2 = f' + 1 := ⟨f2 - 1, by omega⟩
      have ed : d = 51 := by omega
      subst ed
      refine ⟨m, w, -1, s, ?_, ?_, h2, h1⟩
      · rw [kX_X1_toPour_17]; exact oit (by decide) rfl
      · rw [kM_toPour_32]; exact oit (by decide) rfl
    | succ e ih =>
      intro d f f2 m w s hd hf hf2 h1 h2
      obtain ⟨f, rfl⟩ : ∃ f', f = f' + 1 := ⟨f - 1, by omega⟩
      obtain ⟨f2, rfl⟩ : ∃ f', f2 = f' + 1 := ⟨f2 - 1, by omega⟩
      obtain ⟨s2, u1, u2, u3⟩ := hRX m s h1
      have hB0 := mBe_YN m hs.1 hV.1
      have hPY := mPour_YN (d := (d : Int)) hs.1 (by omega) hB0 hc (by omega) (by omega)
      obtain ⟨w1, hw1⟩ := x_after (m := mPour C (mBe m V) c d) (w := w) (T := T + 40000) hO.1 hN (n := k) (by omega) (by omega) hPY
      obtain ⟨t, ht, ht2⟩ := mPass_13 hs.1 (yRep (mPass C) (k - 1) (mPour C (mBe m V) c d))
      have hpre : ∃ s3, (∀ K : MS → Int32 → Int32 → Int32 → Option (MS × Int32), (if nI d ≤ 0 then kM_toPour_55 N K s2 (nI c) (nI k) (nI d) else (kM_pours N s2 64 (nI c) (nI d)).bind fun w4 => kM_toPour_55 N K w4.1 (nI c) (nI k) (nI d)) = kM_toPour_55 N K s3 (nI c) (nI k) (nI d)) ∧ FrH 64 s2 s3 ∧ RS N s3 C (mPour C (mBe m V) c d) (T + 40000) := by
        by_cases p : d = 0
        · subst p
          exact ⟨s2, fun K => oit (by decide) rfl, FrH.refl _ _, u3.pour0 (by omega) hc⟩
        · obtain ⟨s3, v1, v2, v3⟩ := u3.pours hN (by omega) hc (d := d) (by omega)
          exact ⟨s3, fun K => oif (nI_nle (by omega) (by omega)) (ob1 v1 rfl), v2, v3⟩
      obtain ⟨s3, v1, v2, v3⟩ := hpre
      obtain ⟨s4, y1, y2, y3, y4⟩ := r_rep hN v3 (n := k) (by omega) (by omega)
      have hxstep : kX_X1_toPour_17 g N (f + 1) (nset S ta xa m w) xa (nI c) (nI k) (nI d) = if ((yI (yRep (mPass C) k (mPour C (mBe m V) c d)) 13 >>> (nI c &&& 31)) &&& 1) = 1 then some (.inl (nset S ta xa (yRep (mPass C) k (mPour C (mBe m V) c d)) w1, nI d)) else kX_X1_toPour_17 g N f (nset S ta xa (yRep (mPass C) k (mPour C (mBe m V) c d)) w1) xa (nI c) (nI k) (nI (d + 1)) := by
        rw [kX_X1_toPour_17]
        refine oif (nI_nlt (a := 50) (by omega) (by omega)) (ob1 (oc_ta hO) (ob1 (oc_na hO) (ob1 (n_cls hO.1.1) (ob1 (oc_be hO hN) (ob1 (n_cls hO.1.1) (ob1 (x_pour hO.1 hN (by omega) hB0 hc (by omega)) (ob1 (oc_ta hO) (ob1 (n_cls hO.1.1) (ob1 hw1 (ob1 (n_int hO.1.1 (by decide)) ?_))))))))))
        rw [hof, nI_1]
      have hrstep : kM_toPour_32 N (f2 + 1) s (nI c) (nI k) (nI d) = if ((yI (yRep (mPass C) k (mPour C (mBe m V) c d)) 13 >>> (nI c &&& 31)) &&& 1) = 1 then some (s4, nI d) else kM_toPour_32 N f2 s4 (nI c) (nI k) (nI (d + 1)) := by
        rw [kM_toPour_32]
        refine oif (nI_nlt (a := 50) (by omega) (by omega)) (ob1 u1 ((v1 _).trans ?_))
        unfold kM_toPour_55
        refine ob1 y1 ?_
        rw [y4 (by omega), nI_1]
      have z4 : s4.1 0 = 0 := (y2.1 0 (by decide) (by decide)).trans ((v2.1 0 (by decide) (by decide)).trans ((u2.1 0 (by decide) (by decide)).trans h2))
      have r4 : RFr σ s4 := h1.trans (u2.r.trans (v2.r.trans y2.r))
      by_cases p : ((yI (yRep (mPass C) k (mPour C (mBe m V) c d)) 13 >>> (nI c &&& 31)) &&& 1) = 1
      · rw [if_pos p] at hxstep hrstep
        exact ⟨_, _, _, _, hxstep, hrstep, z4, r4⟩
      · rw [if_neg p] at hxstep hrstep
        obtain ⟨m1, w2, r, s1, q1, q2, q3, q4⟩ := ih (d + 1) f f2 _ w1 s4 (by omega) (by omega) (by omega) r4 z4
        exact ⟨m1, w2, r, s1, hxstep.trans q1, hrstep.trans q2, q3, q4⟩
  obtain ⟨m1, w1, r, σ1, q1, q2, q3, q4⟩ := joint 51 0 N N m w (m_put σ 0 0) (by omega) (by omega) (by omega) (RFr.p0 σ 0) z0
  refine ⟨m1, w1, r, ?_, σ1, ?_, q3, q4⟩
  · show kX_X1_toPour g N (nset S ta xa m w) xa (nI c) (nI k) = _
    unfold kX_X1_toPour
    exact ob1 (oc_cls hO) (ot1 (oc_cup1 hO hc) (ob1 (x_inN (a := 1) (b := 60) rfl rfl h0 hk (by decide)) (ot1 (x_right1 (by decide)) q1)))
  · unfold kM_toPour
    exact onb rfl (ob1 (r_isCup1 z0 z1 hs.1 hc) (oif n10 (ob1 (r_within1 (a := 1) (b := 60) rfl rfl h0 hk (by decide)) (ob1 (r_right1 z0 (by decide) 2) (oif n10 q2)))))
end OG
theorem op_toPour {g : XC} {N xa oa i : Nat} (hN : 2 ^ 20 < N) (hi : i ≤ 378) : St_toPour (yRel g N xa oa i) (yRel g N xa oa (i + 6)) g N xa oa := by
  rintro a0 a1 n sl τ σ ⟨M, Z, Ya, Yh, na, ta, cv, la, lh, ra, rh, hB⟩
  have hB : yBody g N xa oa i n Z Ya Yh na ta cv la lh ra rh M τ σ := hB
  generalize hcc : n + 14000 = cc
  generalize hkk : sl + 97000 = kk
  obtain ⟨hO, hr, hQ, hfr, hS⟩ := y_open hB sl cc kk (by omega) (by omega)
  have hX := y_xb (sl := sl) (c := cc) (k := kk) hB hN hi (by omega) (by omega)
  have hRB := y_rb hB hN hi
  have z0 : (m_put σ 0 0).1 0 = 0 := mp_s _ _ _
  have z1 : (m_put σ 0 0).1 1 = nI (tC M).1 := (mp_n _ _ _ (by decide)).trans hRB.1.1.1
  have h9 := hRB.2.1.1
  have hw : ∀ a0 a1, kX_X0_toPour (jg g cc kk) N ((n, sl, cc, kk), τ) xa a0 a1 oa = yW yH2 (kX_X1_toPour (jg g cc kk) N ((n, sl, cc, kk), τ) xa a0 a1) oa := fun a0 a1 => ob1 (f_cls_T hQ.2.1.1) rfl
  rw [hw]
  rcases y_cup (tC M).1 (by omega) a0 with ⟨c0, h0, rfl⟩ | h0
  · -- fits
    rcases y_rng 1 60 (by decide) a1 with ⟨k1, h1, h1', rfl⟩ | h1
    · -- fits
      obtain ⟨S1, r, hx, hks, hm⟩ := b_toPour hX hRB h0 h1 h1'
      obtain ⟨σ1, hm1, hm2, hm3⟩ := hm
      exact fin_ok (c := cc) (k := kk) hB hx hks hm1 hm2 hm3
    · have hx : kX_X1_toPour (jg g cc kk) N ((n, sl, cc, kk), τ) xa (nI c0) a1 = some (.inr (((n, sl, cc, kk), τ), 1, 0)) := by
        rw [← hS]
        unfold kX_X1_toPour
        exact ob1 (oc_cls hO) (ot1 (oc_cup1 hO h0) (ob1 (x_in0 h1) (ot2 (x_right0 hr))))
      have hm : kM_toPour N σ (nI c0) a1 = some (m_put (m_put σ 0 0) 0 2, 0) := by
        unfold kM_toPour
        exact onb rfl (ob1 (r_isCup1 z0 z1 h9 h0) (oif n10 (ob1 (r_within0 h1) (ob1 (r_right0 z0 (by decide)) (oit rfl rfl)))))
      exact fin_thr (c := cc) (k := kk) hB hx rfl (KS.refl hQ.2.1.2.2.2.1) hm (mp_s _ _ _) (by decide) (RFr.p00 _ _ _)
  · have hx : kX_X1_toPour (jg g cc kk) N ((n, sl, cc, kk), τ) xa a0 a1 = some (.inr (((n, sl, cc, kk), τ), 0, 0)) := by
      rw [← hS]
      unfold kX_X1_toPour
      exact ob1 (oc_cls hO) (ot2 (oc_cup0 hO hr h0))
    have hm : kM_toPour N σ a0 a1 = some (m_put (m_put σ 0 0) 0 1, 0) := by
      unfold kM_toPour
      exact onb rfl (ob1 (r_isCup0 z0 z1 h0) (oit rfl rfl))
    exact fin_thr (c := cc) (k := kk) hB hx rfl (KS.refl hQ.2.1.2.2.2.1) hm (mp_s _ _ _) (by decide) (RFr.p00 _ _ _)
