/-! plain law: count, cup -/
section OL
variable {g : XC} {N xa oa n : Nat} {Z Ya Yh : Nat → Prop} {na ta cv la lh : Nat} {ra rh : List Nat} {M : MT} {T : Int} {S S1 : XS} {σ s : MS} {C : CC} {V m : MN} {w : Nat → Int32} {c k : Nat}
theorem FW.spr2 (h : FW g Z S xa na C V) (N : Nat) : ∃ cv ls, f_obj S 1 xa 1 = some cv ∧ f_obj S 3 cv 0 = some ls ∧ f_cls S 10 ls = some () ∧ ∀ i, i < C.1 → ∃ r k, kX_J2_get g N S ls (nI i) = some (S, r) ∧ gIv g r = some k ∧ vb_c k = iI (C.2.1 i) := by
  obtain ⟨cv, h3, h0, h1, ls, f1, f2, rs, h4, h5, h6, h7, -⟩ := h.2.2.1
  refine ⟨cv, ls, f_obj_T h.2.1.1.1 (by decide) (by decide) h3, g_obj h4.2 rfl, h5.cls, fun i hi => ?_⟩
  obtain ⟨r, k, a1, a2, a3⟩ := h7 i hi
  exact ⟨r, k, h5.get N a1, a2, a3⟩
theorem FW.spr1 (h : FW g Z S xa na C V) {i : Nat} (hi : i < C.1) {β : Type} {F : XS × Int32 → Option β} {R : Option β} (k : F (S, iI (C.2.1 i)) = R) : ((f_obj S 1 xa 1).bind fun v3 => (f_obj S 3 v3 0).bind fun v4 => (f_cls S 10 v4).bind fun _ => (kX_J2_get g N S v4 (nI i)).bind fun w6 => (gIv g w6.2).bind fun _ => (gIv g w6.2).bind fun _ => (kX_J19_intValue g N w6.1 w6.2).bind F) = R := by
  obtain ⟨cv, h3, h4⟩ := h.2.2.1
  exact c_spr0 (f_obj_T h.2.1.1.1 (by decide) (by decide) h3) h4 hi k
theorem x_allFill (hN : 2 ^ 20 < N) (hF : FW g Z S xa na C V) : kX_X3_allFill g N S na = some (S, iI (ySum (yA V 1) C.1)) := by
  have h9 := hF.le9
  unfold kX_X3_allFill
  refine y_loop (fun f (x : Int) i => kX_X3_allFill_4 g N f S na (iI x) (nI i)) C.1 (fun x i => x = ySum (yA V 1) i) (fun r => r = some (S, iI (ySum (yA V 1) C.1))) ?_ ?_ C.1 N 0 0 (by omega) (by omega) rfl
  · rintro f x i hi rfl
    right
    refine ⟨ySum (yA V 1) (i + 1), ?_, rfl⟩
    show kX_X3_allFill_4 g N (f + 1) S na (iI (ySum (yA V 1) i)) (nI i) = kX_X3_allFill_4 g N f S na (iI (ySum (yA V 1) i + yA V 1 i)) (nI (i + 1))
    rw [kX_X3_allFill_4]
    refine hF.cups (oif (nI_ge hi (by omega)) (ob1 (na_obj hF.2.1 (by decide)) (ob1 (na_a hF.2.1 (by decide) (by omega)) (onb (iI_add _ _) ?_))))
    rw [nI_1]
  · rintro f x rfl
    show kX_X3_allFill_4 g N (f + 1) S na (iI (ySum (yA V 1) C.1)) (nI C.1) = _
    rw [kX_X3_allFill_4]
    exact hF.cups (oit (nI_le (Nat.le_refl _) (by omega)) rfl)
theorem x_allTips (hN : 2 ^ 20 < N) (hF : FW g Z S xa na C V) (hG : YG C V T) (hT : T ≤ 60000000) : kX_X3_allTips g N S na = some (S, iI (ySum (yA V 2) C.1)) := by
  have h9 := hF.le9
  have hb : ∀ i, i ≤ C.1 → 0 ≤ ySum (yA V 2) i ∧ ySum (yA V 2) i ≤ 60000000 * i := by
    intro i
    induction i with
    | zero => intro _; exact ⟨Int.le_refl _, by show (0 : Int) ≤ _; omega⟩
    | succ i ih =>
      intro hi
      have h1 := ih (by omega)
      obtain ⟨a0, a1, a2, a3, a4, a5, a6, a7, a8⟩ := hG i (by omega)
      show 0 ≤ ySum (yA V 2) i + yA V 2 i ∧ ySum (yA V 2) i + yA V 2 i ≤ _
      omega
  unfold kX_X3_allTips
  refine y_loop (fun f (x : Int) i => kX_X3_allTips_4 g N f S na (iJ x) (nI i)) C.1 (fun x i => x = ySum (yA V 2) i) (fun r => r = some (S, iI (ySum (yA V 2) C.1))) ?_ ?_ C.1 N 0 0 (by omega) (by omega) rfl
  · rintro f x i hi rfl
    right
    refine ⟨ySum (yA V 2) (i + 1), ?_, rfl⟩
    have h1 := hb i (by omega)
    obtain ⟨a0, a1, a2, a3, a4, a5, a6, a7, a8⟩ := hG i hi
    show kX_X3_allTips_4 g N (f + 1) S na (iJ (ySum (yA V 2) i)) (nI i) = kX_X3_allTips_4 g N f S na (iJ (ySum (yA V 2) i + yA V 2 i)) (nI (i + 1))
    rw [kX_X3_allTips_4]
    refine hF.cups (oif (nI_ge hi (by omega)) (ob1 (na_obj hF.2.1 (by decide)) (ob1 (na_a hF.2.1 (by decide) (by omega)) (onb (v := iJ (ySum (yA V 2) i + yA V 2 i)) ?_ ?_))))
    · rw [iI_64 ⟨by omega, by omega⟩, iJ_add]
    · rw [nI_1]
  · rintro f x rfl
    have h1 := hb C.1 (Nat.le_refl _)
    show kX_X3_allTips_4 g N (f + 1) S na (iJ (ySum (yA V 2) C.1)) (nI C.1) = _
    rw [kX_X3_allTips_4]
    refine hF.cups (oit (nI_le (Nat.le_refl _) (by omega)) (onb (v := iJ (ySum (yA V 2) C.1)) ?_ ?_))
    · refine if_pos ?_
      rw [show (1000000000 : Int64) = iJ 1000000000 from rfl, iJ_lt ⟨by omega, by omega⟩ ⟨by omega, by omega⟩]
      omega
    · rw [iJ_32]
theorem r_sumOf (hN : 2 ^ 20 < N) (h9 : C.1 ≤ 9) (hC1 : s.1 1 = nI C.1) (b j : Nat) (hbj : b + j + 9 ≤ 128) {d : Nat → Int} (hd : ∀ i, i < C.1 → 0 ≤ d i ∧ d i ≤ 60000000 ∧ s.2.2 31 (b + j + i) = iI (d i)) : kM_sumOf N s (nI b) (nI j) = some (s, iI (ySum d C.1)) := by
  have hb : ∀ i, i ≤ C.1 → 0 ≤ ySum d i ∧ ySum d i ≤ 60000000 * i := by
    intro i
    induction i with
    | zero => intro _; exact ⟨Int.le_refl _, by show (0 : Int) ≤ _; omega⟩
    | succ i ih =>
      intro hi
      have h1 := ih (by omega)
      obtain ⟨a0, a1, -⟩ := hd i (by omega)
      show 0 ≤ ySum d i + d i ∧ ySum d i + d i ≤ _
      omega
  unfold kM_sumOf
  refine y_loop (fun f (x : Int) i => kM_sumOf_5 N f s (nI b) (nI j) (iI x) (nI i)) C.1 (fun x i => x = ySum d i) (fun r => r = some (s, iI (ySum d C.1))) ?_ ?_ C.1 N 0 0 (by omega) (by omega) rfl
  · rintro f x i hi rfl
    right
    refine ⟨ySum d (i + 1), ?_, rfl⟩
    have h1 := hb (i + 1) (by omega)
    obtain ⟨a0, a1, a2⟩ := hd i hi
    show kM_sumOf_5 N (f + 1) s (nI b) (nI j) (iI (ySum d i)) (nI i) = kM_sumOf_5 N f s (nI b) (nI j) (iI (ySum d i + d i)) (nI (i + 1))
    rw [kM_sumOf_5]
    refine oif (by rw [hC1]; exact nI_ge hi (by omega)) (ob1 (r_ld (q := b + j + i) (by rw [nI_add, nI_add]) (by show b + j + i < 128; omega)) (ob1 (v := iI (ySum d i + d i)) ?_ ?_))
    · rw [a2, iI_add]
      unfold kM_lesser
      refine if_pos ?_
      have h2 : 0 ≤ ySum d i + d i ∧ ySum d i + d i ≤ 60000000 * ((i + 1 : Nat) : Int) := h1
      rw [show (1000000000 : Int32) = iI 1000000000 from rfl, iI_le ⟨by omega, by omega⟩ ⟨by omega, by omega⟩]
      omega
    · rw [nI_1]
  · rintro f x rfl
    show kM_sumOf_5 N (f + 1) s (nI b) (nI j) (iI (ySum d C.1)) (nI C.1) = _
    rw [kM_sumOf_5]
    exact oit (by rw [hC1]; exact nI_le (Nat.le_refl _) (by omega)) rfl
/-- cups that none gives anything -/
def yRt (C : CC) (V : MN) (j : Nat) : Prop := j < C.1 ∧ ∀ g, g < C.1 → yGo V g j = false
theorem x_roots (hN : 2 ^ 20 < N) (hF : FW g Z S xa na C V) (hG : YG C V T) : ∃ x, kX_X1_roots g N S xa = some (S, x) ∧ ∀ j, j < 32 → (bt x j = true ↔ yRt C V j) := by
  have h9 := hF.le9
  unfold kX_X1_roots
  refine y_loop (fun f (x : Int32) i => kX_X1_roots_4 g N f S xa x (nI i)) C.1 (fun x i => ∀ j, j < 32 → (bt x j = true ↔ (j < i ∧ yRt C V j))) (fun r => ∃ x, r = some (S, x) ∧ ∀ j, j < 32 → (bt x j = true ↔ yRt C V j)) ?_ ?_ C.1 N 0 0 (by omega) (by omega) (fun j hj => by rw [b_0]; constructor <;> intro h <;> simp at h)
  · rintro f x i hi h1
    right
    obtain ⟨y, q1, q2⟩ := x_above hN hF hG hi
    have hy : y = 0 ↔ yRt C V i := by
      constructor
      · rintro rfl
        refine ⟨hi, fun a ha => ?_⟩
        by_cases h : yGo V a i = true
        · have := (q2 a (by omega)).mpr ⟨ha, 0, i, h, rfl⟩
          rw [b_0] at this
          cases this
        · simpa using h
      · rintro ⟨-, h⟩
        refine b_ext2 (fun j hj => ?_)
        rw [q2 j hj, b_0]
        constructor
        · rintro ⟨h2, n, h3⟩
          obtain ⟨d, d1, d2⟩ := yPt_l n j h3
          have hdC := (yPt_le hG n j h2 d1).2
          rw [h d hdC] at d2
          cases d2
        · intro z; cases z
    refine ⟨if y = 0 then x ||| ((1 : Int32) <<< (nI i &&& 31)) else x, ?_, fun j hj => ?_⟩
    · show kX_X1_roots_4 g N (f + 1) S xa x (nI i) = kX_X1_roots_4 g N f S xa _ (nI (i + 1))
      rw [kX_X1_roots_4]
      refine hF.cups1 (oif (nI_ge hi (by omega)) (ob1 (f_cls_T hF.2.1.1.1) (ob1 q1 ?_)))
      unfold kX_X1_roots_29
      rw [nI_1]
      by_cases hb : y = 0
      · refine oit hb (onb rfl ?_)
        rw [if_pos hb]
      · refine oif hb ?_
        rw [if_neg hb]
    · by_cases hb : y = 0
      · rw [if_pos hb, b_set (by omega) hj, Bool.or_eq_true, h1 j hj, decide_eq_true_iff]
        constructor
        · rintro (h | h)
          · exact ⟨by omega, h.2⟩
          · subst h
            exact ⟨by omega, hy.mp hb⟩
        · rintro ⟨h2, h3⟩
          by_cases e : j = i
          · exact Or.inr e
          · exact Or.inl ⟨by omega, h3⟩
      · rw [if_neg hb, h1 j hj]
        constructor
        · rintro ⟨h2, h3⟩
          exact ⟨by omega, h3⟩
        · rintro ⟨h2, h3⟩
          by_cases e : j = i
          · subst e
            exact absurd (hy.mpr h3) hb
          · exact ⟨by omega, h3⟩
  · rintro f x h1
    refine ⟨x, ?_, fun j hj => ?_⟩
    · show kX_X1_roots_4 g N (f + 1) S xa x (nI C.1) = _
      rw [kX_X1_roots_4]
      exact hF.cups1 (oit (nI_le (Nat.le_refl _) (by omega)) rfl)
    · rw [h1 j hj]
      constructor
      · exact fun z => z.2
      · exact fun z => ⟨z.1, z⟩
theorem r_givers (hN : 2 ^ 20 < N) (h9 : C.1 ≤ 9) (hG : YG C V T) (hC1 : s.1 1 = nI C.1) (hR : RowR (s.2.2 31) 0 C V) (hc : c < C.1) : ∃ y, kM_giversOf N s (nI c) = some (s, y) ∧ (y = 0 ↔ yRt C V c) := by
  unfold kM_giversOf
  refine y_loop (fun f (x : Int32) i => kM_giversOf_4 N f s (nI c) x (nI i)) C.1 (fun x i => ∀ j, j < 32 → (bt x j = true ↔ (j < i ∧ j < C.1 ∧ yGo V j c = true))) (fun r => ∃ y, r = some (s, y) ∧ (y = 0 ↔ yRt C V c)) ?_ ?_ C.1 N 0 0 (by omega) (by omega) (fun j hj => by rw [b_0]; constructor <;> intro h <;> simp at h)
  · rintro f x i hi h1
    right
    refine ⟨if yGo V i c = true then x ||| ((1 : Int32) <<< (nI i &&& 31)) else x, ?_, fun j hj => ?_⟩
    · show kM_giversOf_4 N (f + 1) s (nI c) x (nI i) = kM_giversOf_4 N f s (nI c) _ (nI (i + 1))
      rw [kM_giversOf_4]
      refine oif (by rw [hC1]; exact nI_ge hi (by omega)) (ob1 (r_goes h9 hR hi (hG i hi) (by omega)) ?_)
      unfold kM_giversOf_29
      rw [nI_1]
      by_cases h : yGo V i c = true
      · rw [if_pos h, if_pos h]
        exact oif n10 (onb rfl rfl)
      · rw [if_neg h, if_neg h]
        refine oit rfl (onb (v := x) ?_ rfl)
        exact Int32.or_zero
    · by_cases h : yGo V i c = true
      · rw [if_pos h, b_set (by omega) hj, Bool.or_eq_true, h1 j hj, decide_eq_true_iff]
        constructor
        · rintro (z | z)
          · exact ⟨by omega, z.2⟩
          · subst z
            exact ⟨by omega, by omega, h⟩
        · rintro ⟨h2, h3⟩
          by_cases e : j = i
          · exact Or.inr e
          · exact Or.inl ⟨by omega, h3⟩
      · rw [if_neg h, h1 j hj]
        constructor
        · rintro ⟨h2, h3⟩
          exact ⟨by omega, h3⟩
        · rintro ⟨h2, h3⟩
          by_cases e : j = i
          · subst e
            exact absurd h3.2 h
          · exact ⟨by omega, h3⟩
  · rintro f x h1
    refine ⟨x, ?_, ?_⟩
    · show kM_giversOf_4 N (f + 1) s (nI c) x (nI C.1) = _
      rw [kM_giversOf_4]
      exact oit (by rw [hC1]; exact nI_le (Nat.le_refl _) (by omega)) rfl
    · constructor
      · rintro rfl
        refine ⟨hc, fun a ha => ?_⟩
        by_cases h : yGo V a c = true
        · have := (h1 a (by omega)).mpr ⟨ha, ha, h⟩
          rw [b_0] at this
          cases this
        · simpa using h
      · rintro ⟨-, h⟩
        refine b_ext2 (fun j hj => ?_)
        rw [h1 j hj, b_0]
        constructor
        · rintro ⟨h2, h3, h4⟩
          rw [h j h3] at h4
          cases h4
        · intro z; cases z
theorem r_roots (hN : 2 ^ 20 < N) (h9 : C.1 ≤ 9) (hG : YG C V T) (hC1 : s.1 1 = nI C.1) (hR : RowR (s.2.2 31) 0 C V) : ∃ x, kM_roots N s = some (s, x) ∧ ∀ j, j < 32 → (bt x j = true ↔ yRt C V j) := by
  unfold kM_roots
  refine y_loop (fun f (x : Int32) i => kM_roots_4 N f s x (nI i)) C.1 (fun x i => ∀ j, j < 32 → (bt x j = true ↔ (j < i ∧ yRt C V j))) (fun r => ∃ x, r = some (s, x) ∧ ∀ j, j < 32 → (bt x j = true ↔ yRt C V j)) ?_ ?_ C.1 N 0 0 (by omega) (by omega) (fun j hj => by rw [b_0]; constructor <;> intro h <;> simp at h)
  · rintro f x i hi h1
    right
    obtain ⟨y, q1, hy⟩ := r_givers (N := N) hN h9 hG hC1 hR hi
    refine ⟨if y = 0 then x ||| ((1 : Int32) <<< (nI i &&& 31)) else x, ?_, fun j hj => ?_⟩
    · show kM_roots_4 N (f + 1) s x (nI i) = kM_roots_4 N f s _ (nI (i + 1))
      rw [kM_roots_4]
      refine oif (by rw [hC1]; exact nI_ge hi (by omega)) (ob1 q1 ?_)
      unfold kM_roots_28
      rw [nI_1]
      by_cases hb : y = 0
      · refine oit hb (onb rfl ?_)
        rw [if_pos hb]
      · refine oif hb (onb (v := x) Int32.or_zero ?_)
        rw [if_neg hb]
    · by_cases hb : y = 0
      · rw [if_pos hb, b_set (by omega) hj, Bool.or_eq_true, h1 j hj, decide_eq_true_iff]
        constructor
        · rintro (h | h)
          · exact ⟨by omega, h.2⟩
          · subst h
            exact ⟨by omega, hy.mp hb⟩
        · rintro ⟨h2, h3⟩
          by_cases e : j = i
          · exact Or.inr e
          · exact Or.inl ⟨by omega, h3⟩
      · rw [if_neg hb, h1 j hj]
        constructor
        · rintro ⟨h2, h3⟩
          exact ⟨by omega, h3⟩
        · rintro ⟨h2, h3⟩
          by_cases e : j = i
          · subst e
            exact absurd (hy.mpr h3) hb
          · exact ⟨by omega, h3⟩
  · rintro f x h1
    refine ⟨x, ?_, fun j hj => ?_⟩
    · show kM_roots_4 N (f + 1) s x (nI C.1) = _
      rw [kM_roots_4]
      exact oit (by rw [hC1]; exact nI_le (Nat.le_refl _) (by omega)) rfl
    · rw [h1 j hj]
      constructor
      · exact fun z => z.2
      · exact fun z => ⟨z.1, z⟩
/-- how many cups are alike -/
def yAl (C : CC) (V : MN) (a b : Nat) : Int := if yA V 0 a = yA V 0 b ∧ yA V 1 a = yA V 1 b ∧ C.2.1 a = C.2.1 b then 1 else 0
def yAlN (C : CC) (V : MN) (n : Nat) : Int := ySum (fun a => ySum (yAl C V a) a) n
theorem x_al17 (hN : 2 ^ 20 < N) (hF : FW g Z S xa na C V) (hG : YG C V T) (hs : ∀ k, k < C.1 → 0 ≤ C.2.1 k ∧ C.2.1 k ≤ 20) {a b : Nat} (ha : a < C.1) (hb : b < a) (K4 : XS → Nat → Int32 → Int32 → Option (XS × Int32)) (q : Nat) (z : Int) : kX_X1_alike_17 g N K4 (q + 1) S xa (iI z) (nI a) (nI b) = kX_X1_alike_17 g N K4 q S xa (iI (z + yAl C V a b)) (nI a) (nI (b + 1)) := by
  have h9 := hF.le9
  have o2 : f_obj S 1 xa 2 = some na := f_obj_T hF.2.1.1.1 (by decide) (by decide) hF.2.2.2.2
  obtain ⟨cv, ls, s1, s2, s3, s4⟩ := hF.spr2 N
  obtain ⟨ra, ka, ra1, ra2, ra3⟩ := s4 a ha
  obtain ⟨rb, kb, rb1, rb2, rb3⟩ := s4 b (by omega)
  obtain ⟨a0, a1, a2, a3, -⟩ := hG a ha
  obtain ⟨b0, b1, b2, b3, -⟩ := hG b (by omega)
  have hsa := hs a ha
  have hsb := hs b (by omega)
  have q0 : iI (yA V 0 a) = iI (yA V 0 b) ↔ yA V 0 a = yA V 0 b := iI_eq ⟨by omega, by omega⟩ ⟨by omega, by omega⟩
  have q1 : iI (yA V 1 a) = iI (yA V 1 b) ↔ yA V 1 a = yA V 1 b := iI_eq ⟨by omega, by omega⟩ ⟨by omega, by omega⟩
  have q2 : iI (C.2.1 a) = iI (C.2.1 b) ↔ C.2.1 a = C.2.1 b := iI_eq ⟨by omega, by omega⟩ ⟨by omega, by omega⟩
  have heq : kX_J19_equals g N S ra rb = some (S, if C.2.1 a = C.2.1 b then 1 else 0) := by
    unfold kX_J19_equals kX_J19_intValue
    refine ob1 rb2 (oif n10 (ob1 ra2 (ob1 rb2 (ob1 rb2 (ob1 (ob1 rb2 rfl) ?_)))))
    rw [ra3, rb3]
    by_cases p : C.2.1 a = C.2.1 b
    · rw [if_pos p]
      exact oit (q2.mpr p) rfl
    · rw [if_neg p]
      exact oif (fun y => p (q2.mp y)) rfl
  rw [kX_X1_alike_17]
  refine oif (nI_ge hb (by omega)) (ob1 o2 (ob1 (na_obj hF.2.1 (by decide)) (ob1 (na_a hF.2.1 (by decide) (by omega)) (ob1 o2 (ob1 (na_obj hF.2.1 (by decide)) (ob1 (na_a hF.2.1 (by decide) (by omega)) ?_))))))
  unfold yAl
  by_cases p0 : yA V 0 a = yA V 0 b
  · refine oit (q0.mpr p0) (ob1 o2 (ob1 (na_obj hF.2.1 (by decide)) (ob1 (na_a hF.2.1 (by decide) (by omega)) (ob1 o2 (ob1 (na_obj hF.2.1 (by decide)) (ob1 (na_a hF.2.1 (by decide) (by omega)) ?_))))))
    by_cases p1 : yA V 1 a = yA V 1 b
    · refine oit (q1.mpr p1) ?_
      unfold kX_X1_alike_69 kX_X1_alike_114
      refine oif n10 (ob1 s1 (ob1 s2 (ob1 s3 (ob1 ra1 (ob1 ra2 (ob1 s1 (ob1 s2 (ob1 s3 (ob1 rb1 (ob1 ra2 (ob1 heq ?_)))))))))))
      rw [nI_1]
      by_cases p2 : C.2.1 a = C.2.1 b
      · refine oif (show ¬ (if C.2.1 a = C.2.1 b then (1 : Int32) else 0) = 0 by rw [if_pos p2]; decide) ?_
        rw [if_pos (show yA V 0 a = yA V 0 b ∧ yA V 1 a = yA V 1 b ∧ C.2.1 a = C.2.1 b from ⟨p0, p1, p2⟩), show (1 : Int32) = iI 1 from rfl, iI_add]
      · refine oit (show (if C.2.1 a = C.2.1 b then (1 : Int32) else 0) = 0 by rw [if_neg p2]) ?_
        rw [if_neg (show ¬ (yA V 0 a = yA V 0 b ∧ yA V 1 a = yA V 1 b ∧ C.2.1 a = C.2.1 b) from fun y => p2 y.2.2), Int.add_zero]
    · refine oif (fun y => p1 (q1.mp y)) ?_
      unfold kX_X1_alike_69 kX_X1_alike_114
      refine oit rfl ?_
      rw [if_neg (show ¬ (yA V 0 a = yA V 0 b ∧ yA V 1 a = yA V 1 b ∧ C.2.1 a = C.2.1 b) from fun y => p1 y.2.1), Int.add_zero, nI_1]
  · refine oif (fun y => p0 (q0.mp y)) ?_
    unfold kX_X1_alike_69 kX_X1_alike_114
    refine oit rfl ?_
    rw [if_neg (show ¬ (yA V 0 a = yA V 0 b ∧ yA V 1 a = yA V 1 b ∧ C.2.1 a = C.2.1 b) from fun y => p0 y.1), Int.add_zero, nI_1]
theorem x_alike (hN : 2 ^ 20 < N) (hF : FW g Z S xa na C V) (hG : YG C V T) (hs : ∀ k, k < C.1 → 0 ≤ C.2.1 k ∧ C.2.1 k ≤ 20) : kX_X1_alike g N S xa = some (S, iI (yAlN C V C.1)) := by
  have h9 := hF.le9
  unfold kX_X1_alike
  refine y_loop (fun f (x : Int) i => kX_X1_alike_4 g N f S xa (iI x) (nI i)) C.1 (fun x i => x = yAlN C V i) (fun r => r = some (S, iI (yAlN C V C.1))) ?_ ?_ C.1 N 0 0 (by omega) (by omega) rfl
  · rintro f x a ha rfl
    right
    refine ⟨yAlN C V (a + 1), ?_, rfl⟩
    show kX_X1_alike_4 g N (f + 1) S xa (iI (yAlN C V a)) (nI a) = kX_X1_alike_4 g N f S xa (iI (yAlN C V a + ySum (yAl C V a) a)) (nI (a + 1))
    rw [kX_X1_alike_4]
    refine hF.cups1 (oif (nI_ge ha (by omega)) ?_)
    refine y_loop (fun q (x : Int) b => kX_X1_alike_17 g N (kX_X1_alike_4 g N f) q S xa (iI x) (nI a) (nI b)) a (fun x b => x = yAlN C V a + ySum (yAl C V a) b) (fun r => r = kX_X1_alike_4 g N f S xa (iI (yAlN C V a + ySum (yAl C V a) a)) (nI (a + 1))) ?_ ?_ a N (yAlN C V a) 0 (by omega) (by omega) (Int.add_zero _).symm
    · rintro q x b hb rfl
      right
      refine ⟨yAlN C V a + ySum (yAl C V a) (b + 1), ?_, rfl⟩
      refine (x_al17 hN hF hG hs ha hb _ q _).trans ?_
      rw [Int.add_assoc]
      rfl
    · rintro q x rfl
      show kX_X1_alike_17 g N (kX_X1_alike_4 g N f) (q + 1) S xa (iI (yAlN C V a + ySum (yAl C V a) a)) (nI a) (nI a) = _
      rw [kX_X1_alike_17]
      refine oit (nI_le (Nat.le_refl _) (by omega)) ?_
      rw [nI_1]
  · rintro f x rfl
    show kX_X1_alike_4 g N (f + 1) S xa (iI (yAlN C V C.1)) (nI C.1) = _
    rw [kX_X1_alike_4]
    exact hF.cups1 (oit (nI_le (Nat.le_refl _) (by omega)) rfl)
theorem r_al14 (hN : 2 ^ 20 < N) (hC : RC N s C) (hR : RowR (s.2.2 31) 0 C V) (h9 : C.1 ≤ 9) (hG : YG C V T) (hs : ∀ k, k < C.1 → 0 ≤ C.2.1 k ∧ C.2.1 k ≤ 20) {a b : Nat} (ha : a < C.1) (hb : b < a) (K4 : MS → Int32 → Int32 → Option (MS × Int32)) (q : Nat) (z : Int) : kM_alike_14 N K4 (q + 1) s (iI z) (nI a) (nI b) = kM_alike_14 N K4 q s (iI (z + yAl C V a b)) (nI a) (nI (b + 1)) := by
  obtain ⟨a0, a1, a2, a3, -⟩ := hG a ha
  obtain ⟨b0, b1, b2, b3, -⟩ := hG b (by omega)
  have hsa := hs a ha
  have hsb := hs b (by omega)
  have q0 : iI (yA V 0 a) = iI (yA V 0 b) ↔ yA V 0 a = yA V 0 b := iI_eq ⟨by omega, by omega⟩ ⟨by omega, by omega⟩
  have q1 : iI (yA V 1 a) = iI (yA V 1 b) ↔ yA V 1 a = yA V 1 b := iI_eq ⟨by omega, by omega⟩ ⟨by omega, by omega⟩
  have q2 : iI (C.2.1 a) = iI (C.2.1 b) ↔ C.2.1 a = C.2.1 b := iI_eq ⟨by omega, by omega⟩ ⟨by omega, by omega⟩
  have l1 : ∀ i, i < C.1 → m_ld s 31 (1 + nI i) = some (iI (yA V 0 i)) := fun i hi => by
    have := (hR.2 i hi).1
    rw [Nat.zero_add] at this
    exact (r_ldc 1 rfl (by show 1 + i < 128; omega)).trans (by rw [this])
  have l2 : ∀ i, i < C.1 → m_ld s 31 (10 + nI i) = some (iI (yA V 1 i)) := fun i hi => by
    have := (hR.2 i hi).2.1
    rw [Nat.zero_add] at this
    exact (r_ldc 10 rfl (by show 10 + i < 128; omega)).trans (by rw [this])
  have l3 : ∀ i, i < C.1 → m_ld s 4 (nI i) = some (iI (C.2.1 i)) := fun i hi => by
    rw [r_ld (q := i) rfl (by show i < 9; omega), hC.2.1 i hi]
  rw [kM_alike_14]
  refine oif (nI_ge hb (by omega)) (ob1 (l1 a ha) (ob1 (l1 b (by omega)) ?_))
  unfold yAl kM_alike_80
  rw [nI_1]
  by_cases p0 : yA V 0 a = yA V 0 b
  · refine oit (q0.mpr p0) (ob1 (l2 a ha) (ob1 (l2 b (by omega)) ?_))
    by_cases p1 : yA V 1 a = yA V 1 b
    · refine oit (q1.mpr p1) (ob1 (l3 a ha) (ob1 (l3 b (by omega)) ?_))
      by_cases p2 : C.2.1 a = C.2.1 b
      · rw [if_pos (q2.mpr p2), if_pos ⟨p0, p1, p2⟩]
        exact onb (by rw [show (1 : Int32) = iI 1 from rfl, iI_add]) rfl
      · rw [if_neg (fun y => p2 (q2.mp y)), if_neg (fun y => p2 y.2.2)]
        exact onb (by rw [show (0 : Int32) = iI 0 from rfl, iI_add]) rfl
    · rw [if_neg (fun y => p1 (q1.mp y)), if_neg (fun y => p1 y.2.1)]
      exact onb (by rw [show (0 : Int32) = iI 0 from rfl, iI_add]) rfl
  · rw [if_neg (fun y => p0 (q0.mp y)), if_neg (fun y => p0 y.1)]
    exact onb (by rw [show (0 : Int32) = iI 0 from rfl, iI_add]) rfl
theorem r_alike (hN : 2 ^ 20 < N) (hC : RC N s C) (hR : RowR (s.2.2 31) 0 C V) (h9 : C.1 ≤ 9) (hG : YG C V T) (hs : ∀ k, k < C.1 → 0 ≤ C.2.1 k ∧ C.2.1 k ≤ 20) : kM_alike N s = some (s, iI (yAlN C V C.1)) := by
  unfold kM_alike
  refine y_loop (fun f (x : Int) i => kM_alike_4 N f s (iI x) (nI i)) C.1 (fun x i => x = yAlN C V i) (fun r => r = some (s, iI (yAlN C V C.1))) ?_ ?_ C.1 N 0 0 (by omega) (by omega) rfl
  · rintro f x a ha rfl
    right
    refine ⟨yAlN C V (a + 1), ?_, rfl⟩
    show kM_alike_4 N (f + 1) s (iI (yAlN C V a)) (nI a) = kM_alike_4 N f s (iI (yAlN C V a + ySum (yAl C V a) a)) (nI (a + 1))
    rw [kM_alike_4]
    refine oif (by rw [hC.1]; exact nI_ge ha (by omega)) ?_
    refine y_loop (fun q (x : Int) b => kM_alike_14 N (kM_alike_4 N f) q s (iI x) (nI a) (nI b)) a (fun x b => x = yAlN C V a + ySum (yAl C V a) b) (fun r => r = kM_alike_4 N f s (iI (yAlN C V a + ySum (yAl C V a) a)) (nI (a + 1))) ?_ ?_ a N (yAlN C V a) 0 (by omega) (by omega) (Int.add_zero _).symm
    · rintro q x b hb rfl
      right
      refine ⟨yAlN C V a + ySum (yAl C V a) (b + 1), ?_, rfl⟩
      refine (r_al14 hN hC hR h9 hG hs ha hb _ q _).trans ?_
      rw [Int.add_assoc]
      rfl
    · rintro q x rfl
      show kM_alike_14 N (kM_alike_4 N f) (q + 1) s (iI (yAlN C V a + ySum (yAl C V a) a)) (nI a) (nI a) = _
      rw [kM_alike_14]
      refine oit (nI_le (Nat.le_refl _) (by omega)) ?_
      rw [nI_1]
  · rintro f x rfl
    show kM_alike_4 N (f + 1) s (iI (yAlN C V C.1)) (nI C.1) = _
    rw [kM_alike_4]
    exact oit (by rw [hC.1]; exact nI_le (Nat.le_refl _) (by omega)) rfl
theorem r_plugged (hN : 2 ^ 20 < N) (h9 : C.1 ≤ 9) (hC1 : s.1 1 = nI C.1) (hR : RowR (s.2.2 31) 0 C V) {p : Nat} (hp : p < 2 ^ C.1) (hV : yI V 7 = nI p) : kM_plugged N s = some (s, yI V 7) := by
  have hp9 : p < 2 ^ 9 := Nat.lt_of_lt_of_le hp (Nat.pow_le_pow_right (by decide) h9)
  unfold kM_plugged
  refine y_loop (fun f (x : Int32) i => kM_plugged_4 N f s x (nI i)) C.1 (fun x i => ∀ j, j < 32 → (bt x j = true ↔ (j < i ∧ bt (yI V 7) j = true))) (fun r => r = some (s, yI V 7)) ?_ ?_ C.1 N 0 0 (by omega) (by omega) (fun j hj => by rw [b_0]; constructor <;> intro h <;> simp at h)
  · rintro f x i hi h1
    right
    have h55 := (hR.2 i hi).2.2.2.2.2.2
    rw [Nat.zero_add] at h55
    refine ⟨if bt (yI V 7) i = true then x ||| ((1 : Int32) <<< (nI i &&& 31)) else x, ?_, fun j hj => ?_⟩
    · show kM_plugged_4 N (f + 1) s x (nI i) = kM_plugged_4 N f s _ (nI (i + 1))
      rw [kM_plugged_4]
      refine oif (by rw [hC1]; exact nI_ge hi (by omega)) (ob1 (r_ld (q := 55 + i) (nI_add 55 i) (by show 55 + i < 128; omega)) (onb (v := if bt (yI V 7) i = true then x ||| ((1 : Int32) <<< (nI i &&& 31)) else x) ?_ ?_))
      rotate_left
      · rw [nI_1]
      · rw [h55]
        by_cases h : bt (yI V 7) i = true
        · rw [if_pos h, if_pos ((bit_is (by omega)).mpr h)]
        · rw [if_neg h, if_neg (fun z => h ((bit_is (by omega)).mp z))]
          refine b_ext (fun j hj => ?_)
          rw [b_or, b_shl i (by omega) _ hj, b_0]
          simp
    · by_cases h : bt (yI V 7) i = true
      · rw [if_pos h, b_set (by omega) hj, Bool.or_eq_true, h1 j hj, decide_eq_true_iff]
        constructor
        · rintro (z | z)
          · exact ⟨by omega, z.2⟩
          · subst z
            exact ⟨by omega, h⟩
        · rintro ⟨h2, h3⟩
          by_cases e : j = i
          · exact Or.inr e
          · exact Or.inl ⟨by omega, h3⟩
      · rw [if_neg h, h1 j hj]
        constructor
        · rintro ⟨h2, h3⟩
          exact ⟨by omega, h3⟩
        · rintro ⟨h2, h3⟩
          by_cases e : j = i
          · subst e
            exact absurd h3 h
          · exact ⟨by omega, h3⟩
  · rintro f x h1
    show kM_plugged_4 N (f + 1) s x (nI C.1) = _
    rw [kM_plugged_4]
    refine oit (by rw [hC1]; exact nI_le (Nat.le_refl _) (by omega)) ?_
    have e : x = yI V 7 := b_ext2 (fun j hj => by
      rw [h1 j hj]
      constructor
      · exact fun z => z.2
      · intro z
        refine ⟨?_, z⟩
        rw [hV, bt_nI (by omega) hj] at z
        by_cases hjc : j < C.1
        · exact hjc
        · have := Nat.testBit_lt_two_pow (x := p) (i := j) (Nat.lt_of_lt_of_le hp (Nat.pow_le_pow_right (by decide) (by omega)))
          rw [this] at z
          cases z)
    rw [e]
theorem r_into (h9 : C.1 ≤ 9) (hR : RowR (s.2.2 31) 0 C V) (hc : c < C.1) (hY : YK C V T c) {b : Nat} (hb : b ≤ 1) : kM_into N s (nI c) (nI b) = some (s, iI (mInto V c b)) := by
  obtain ⟨a0, a1, a2, a3, a4, a5, a6, -⟩ := hY
  obtain ⟨b1, b2, b3, b4, b5, b6, b7⟩ := hR.2 c hc
  rw [Nat.zero_add] at b3 b4 b5
  have l3 : m_ld s 31 (19 + nI c) = some (iI (yA V 3 c)) := by
    exact (r_ldc 19 rfl (by show 19 + c < 128; omega)).trans (by rw [b3])
  have l4 : m_ld s 31 (28 + nI c) = some (iI (if yA V 4 c = -2 then -1 else yA V 4 c)) := by
    exact (r_ldc 28 rfl (by show 28 + c < 128; omega)).trans (by rw [b4])
  have l5 : m_ld s 31 (37 + nI c) = some (iI (yA V 5 c)) := by
    exact (r_ldc 37 rfl (by show 37 + c < 128; omega)).trans (by rw [b5])
  unfold kM_into mInto
  refine ob1 l4 ?_
  by_cases h4 : yA V 4 c = -2
  · rw [if_pos h4, if_pos h4]
    exact oit rfl (ob1 l3 rfl)
  · rw [if_neg h4] at l4 ⊢
    rw [if_neg h4]
    have g1 : ¬ iI (yA V 4 c) = -1 := by
      rw [show (-1 : Int32) = iI (-1) from rfl, iI_eq ⟨by omega, by omega⟩ ⟨by omega, by omega⟩]
      omega
    refine oif g1 (ob1 l5 (onb (v := iI ((yA V 5 c + b) % 2)) ?_ ?_))
    · rw [iI_nI b, iI_add, show (2 : Int32) = iI 2 from rfl]
      exact iI_mod (by omega) ⟨by omega, by omega⟩ (by omega) ⟨by omega, by omega⟩
    · have e : iI ((yA V 5 c + b) % 2) = 0 ↔ (yA V 5 c + b) % 2 = 0 := by
        rw [show (0 : Int32) = iI 0 from rfl]
        exact iI_eq ⟨by omega, by omega⟩ ⟨by omega, by omega⟩
      by_cases h : (yA V 5 c + b) % 2 = 0
      · rw [if_pos h]
        exact oit (e.mpr h) (ob1 l3 rfl)
      · rw [if_neg h]
        exact oif (fun z => h (e.mp z)) (ob1 l4 rfl)
theorem b_count (hX : XB g N xa oa n Z Ya Yh na ta cv la lh ra rh M T S) (hR : RB N M T σ) {q : Nat} (hq : q ≤ 12) : ∃ S1 r, kX_X1_count g N S xa (nI q) = some (.inl (S1, r)) ∧ KS xa ta oa n S S1 ∧ ∃ σ1, kM_count N σ (nI q) = some (σ1, r) ∧ σ1.1 0 = 0 ∧ RFr σ σ1 := by
  have hN := hX.2.2.2.1
  have hT := hX.2.2.2.2.1
  have hs := hX.oc.spr
  have hV := hX.2.2.1.2.2.1.1.1
  have hF := hX.fw
  have hx := hX.1.2.1.1
  have z0 : (m_put σ 0 0).1 0 = 0 := mp_s _ _ _
  have hR0 := hR.1.fr hR.2.1.1 (RFr.p0 σ 0)
  have z1 : (m_put σ 0 0).1 1 = nI (tC M).1 := hR0.1.1
  have o2 : f_obj S 1 xa 2 = some na := f_obj_T hx (by decide) (by decide) hX.1.2.2.1.2.1
  have pre : ∀ {R : Option (MS × Int32)} (F : MS × Int32 → Option (MS × Int32)), F (m_put σ 0 0, 1) = R → (bnd (m_put σ 0 0) fun σ1 => (kM_within N (nI q) 0 12).bind fun w2 => (kM_right N σ1 w2 1).bind F) = R := fun F h => onb rfl (ob1 (r_within1 (a := 0) (b := 12) rfl rfl (by omega) hq (by decide)) (ob1 (r_right1 z0 (by decide) 1) h))
  have fin : ∀ r, kX_X1_count g N S xa (nI q) = some (.inl (S, r)) → kM_count N σ (nI q) = some (m_put σ 0 0, r) → ∃ S1 r, kX_X1_count g N S xa (nI q) = some (.inl (S1, r)) ∧ KS xa ta oa n S S1 ∧ ∃ σ1, kM_count N σ (nI q) = some (σ1, r) ∧ σ1.1 0 = 0 ∧ RFr σ σ1 := fun r h1 h2 => ⟨S, r, h1, KS.refl hX.wf.1, m_put σ 0 0, h2, z0, RFr.p0 σ 0⟩
  have hrow : ∀ (j : Nat), j = 1 ∨ j = 2 → ∀ i, i < (tC M).1 → 0 ≤ yA (tV M) j i ∧ yA (tV M) j i ≤ 60000000 := fun j hj i hi => by
    obtain ⟨a0, a1, a2, a3, a4, a5, a6, a7, a8⟩ := hV i hi
    rcases hj with rfl | rfl <;> omega
  have hcase : q = 0 ∨ q = 1 ∨ q = 2 ∨ q = 3 ∨ q = 4 ∨ q = 5 ∨ q = 6 ∨ q = 7 ∨ q = 8 ∨ q = 9 ∨ (10 ≤ q) := by omega
  rcases hcase with rfl | rfl | rfl | rfl | rfl | rfl | rfl | rfl | rfl | rfl | h10
  · refine fin (nI (tC M).1) ?_ ?_
    · unfold kX_X1_count
      exact oit (by decide) (hF.cups1 rfl)
    · unfold kM_count
      refine pre _ (oif n10 (oit (by decide) ?_))
      rw [z1]
  · refine fin (yI (tV M) 6) ?_ ?_
    · unfold kX_X1_count
      exact oif (by decide) (oit (by decide) (ob1 o2 (ob1 (na_int hX.1.1 (by decide)) rfl)))
    · unfold kM_count
      refine pre _ (oif n10 (oif (by decide) (oit (by decide) (ob1 (r_ld (q := 0) rfl (by decide)) ?_))))
      rw [hR0.2.1.1]
  · obtain ⟨p, hp1, hp2⟩ := hX.2.2.1.2.2.1.2.2.2.2
    refine fin (yI (tV M) 7) ?_ ?_
    · unfold kX_X1_count
      exact oif (by decide) (oif (by decide) (oit (by decide) (ob1 o2 (ob1 (na_int hX.1.1 (by decide)) rfl))))
    · unfold kM_count
      exact pre _ (oif n10 (oif (by decide) (oif (by decide) (oit (by decide) (ob1 (r_plugged hN hs.1 z1 hR0.2.1 hp1 hp2) rfl)))))
  · refine fin (iI (ySum (yA (tV M) 1) (tC M).1)) ?_ ?_
    · unfold kX_X1_count
      exact oif (by decide) (oif (by decide) (oif (by decide) (oit (by decide) (ob1 o2 (ob1 (na_cls hX.1.1) (ob1 (x_allFill hN hF) rfl))))))
    · unfold kM_count
      refine pre _ (oif n10 (oif (by decide) (oif (by decide) (oif (by decide) (oit (by decide) (ob1 (r_sumOf hN hs.1 z1 0 10 (by decide) (d := yA (tV M) 1) (fun i hi => ?_)) rfl))))))
      have := hrow 1 (Or.inl rfl) i hi
      exact ⟨this.1, this.2, (hR0.2.1.2 i hi).2.1⟩
  · refine fin (iI (ySum (yA (tV M) 2) (tC M).1)) ?_ ?_
    · unfold kX_X1_count
      exact oif (by decide) (oif (by decide) (oif (by decide) (oif (by decide) (oit (by decide) (ob1 o2 (ob1 (na_cls hX.1.1) (ob1 (x_allTips hN hF hV hT) rfl)))))))
    · unfold kM_count
      refine pre _ (oif n10 (oif (by decide) (oif (by decide) (oif (by decide) (oif (by decide) (oit (by decide) (ob1 (r_sumOf hN hs.1 z1 0 46 (by decide) (d := yA (tV M) 2) (fun i hi => ?_)) rfl)))))))
      have := hrow 2 (Or.inr rfl) i hi
      exact ⟨this.1, this.2, (hR0.2.1.2 i hi).2.2.2.2.2.1⟩
  · obtain ⟨x, k1, k2⟩ := x_roots hN hF hV
    obtain ⟨y, l1, l2⟩ := r_roots (N := N) (s := m_put σ 0 0) hN hs.1 hV z1 hR0.2.1
    have e : x = y := b_ext2 (fun j hj => by rw [k2 j hj, l2 j hj])
    refine fin y ?_ ?_
    · unfold kX_X1_count
      refine oif (by decide) (oif (by decide) (oif (by decide) (oif (by decide) (oif (by decide) (oit (by decide) (ob1 (f_cls_T hx) (ob1 k1 ?_)))))))
      rw [e]
    · unfold kM_count
      exact pre _ (oif n10 (oif (by decide) (oif (by decide) (oif (by decide) (oif (by decide) (oif (by decide) (oit (by decide) (ob1 l1 rfl))))))))
  · refine fin (iI (yAlN (tC M) (tV M) (tC M).1)) ?_ ?_
    · unfold kX_X1_count
      exact oif (by decide) (oif (by decide) (oif (by decide) (oif (by decide) (oif (by decide) (oif (by decide) (oit (by decide) (ob1 (f_cls_T hx) (ob1 (x_alike hN hF hV hs.2) rfl))))))))
    · unfold kM_count
      exact pre _ (oif n10 (oif (by decide) (oif (by decide) (oif (by decide) (oif (by decide) (oif (by decide) (oif (by decide) (oit (by decide) (ob1 (r_alike hN hR0.1 hR0.2.1 hs.1 hV hs.2) rfl)))))))))
  · refine fin (nI (tA M).length) ?_ ?_
    · have hsz := hX.1.2.2.2.2.1.1.size N
      rw [hX.1.2.2.2.2.1.2.1] at hsz
      unfold kX_X1_count
      exact oif (by decide) (oif (by decide) (oif (by decide) (oif (by decide) (oif (by decide) (oif (by decide) (oif (by decide) (oit (by decide) (ob1 (f_obj_T hx (by decide) (by decide) hX.1.2.2.1.2.2.2.1) (ob1 hX.1.2.2.2.2.1.1.cls (ob1 hsz rfl))))))))))
    · unfold kM_count
      refine pre _ (oif n10 (oif (by decide) (oif (by decide) (oif (by decide) (oif (by decide) (oif (by decide) (oif (by decide) (oif (by decide) (oit (by decide) ?_)))))))))
      rw [hR0.2.2.1.1]
  · refine fin (nI (tH M).length) ?_ ?_
    · have hsz := hX.1.2.2.2.2.2.1.1.size N
      rw [hX.1.2.2.2.2.2.1.2.1] at hsz
      unfold kX_X1_count
      exact oif (by decide) (oif (by decide) (oif (by decide) (oif (by decide) (oif (by decide) (oif (by decide) (oif (by decide) (oif (by decide) (oit (by decide) (ob1 (f_obj_T hx (by decide) (by decide) hX.1.2.2.1.2.2.2.2) (ob1 hX.1.2.2.2.2.2.1.1.cls (ob1 hsz rfl)))))))))))
    · unfold kM_count
      refine pre _ (oif n10 (oif (by decide) (oif (by decide) (oif (by decide) (oif (by decide) (oif (by decide) (oif (by decide) (oif (by decide) (oif (by decide) (oit (by decide) ?_))))))))))
      rw [hR0.2.2.2.1.1]
  · refine fin (nI (tN M)) ?_ ?_
    · unfold kX_X1_count
      refine oif (by decide) (oif (by decide) (oif (by decide) (oif (by decide) (oif (by decide) (oif (by decide) (oif (by decide) (oif (by decide) (oif (by decide) (oit (by decide) (ob1 (f_int_T hx (by decide) (by decide)) ?_))))))))))
      rw [hX.1.2.2.2.2.2.2.2.2.2.2.2.1]
    · unfold kM_count
      refine pre _ (oif n10 (oif (by decide) (oif (by decide) (oif (by decide) (oif (by decide) (oif (by decide) (oif (by decide) (oif (by decide) (oif (by decide) (oif (by decide) (oit (by decide) ?_)))))))))))
      rw [hR0.2.2.2.2.2.2.1]
  · have hne : ∀ j, j < 10 → ¬ nI q = nI j := fun j hj z => by
      have := (nI_eq (by omega) (by omega)).mp z
      omega
    have e10 : nI q - 10 = nI (q - 10) := by
      rw [iI_nI, iI_nI, show (10 : Int32) = iI 10 from rfl, iI_sub]
      congr 1
      omega
    have h1 := a_int_T (S := S) (k := 7) (i := nI (q - 10)) hx hX.wf.1 (by decide) (show vp_in (nI (q - 10)) 3 from nI_inn (by omega) (by decide))
    rw [nI_clamp (by omega), hX.1.2.2.2.2.2.2.2.2.2.2.2.2.2 (q - 10) (by omega)] at h1
    refine fin (tR M (q - 10)) ?_ ?_
    · unfold kX_X1_count
      refine oif (hne 0 (by omega)) (oif (hne 1 (by omega)) (oif (hne 2 (by omega)) (oif (hne 3 (by omega)) (oif (hne 4 (by omega)) (oif (hne 5 (by omega)) (oif (hne 6 (by omega)) (oif (hne 7 (by omega)) (oif (hne 8 (by omega)) (oif (hne 9 (by omega)) (ob1 (x_inN (a := 10) (b := 12) rfl rfl h10 hq (by decide)) (ot1 (x_found1 (by decide)) (ob1 (f_objA_T hx (by decide) (by decide)) ?_))))))))))))
      rw [e10]
      exact ob1 h1 rfl
    · unfold kM_count
      refine pre _ (oif n10 (oif (hne 0 (by omega)) (oif (hne 1 (by omega)) (oif (hne 2 (by omega)) (oif (hne 3 (by omega)) (oif (hne 4 (by omega)) (oif (hne 5 (by omega)) (oif (hne 6 (by omega)) (oif (hne 7 (by omega)) (oif (hne 8 (by omega)) (oif (hne 9 (by omega)) ?_)))))))))))
      rw [e10]
      refine ob1 (r_ld (q := q - 10) rfl (by show q - 10 < 3; omega)) ?_
      rw [hR0.2.2.2.2.2.2.2.2.2 (q - 10) (by omega)]
theorem b_cup (hX : XB g N xa oa n Z Ya Yh na ta cv la lh ra rh M T S) (hR : RB N M T σ) {q : Nat} (hc : c < (tC M).1) (hq : q ≤ 8) : ∃ S1 r, kX_X1_cup g N S xa (nI c) (nI q) = some (.inl (S1, r)) ∧ KS xa ta oa n S S1 ∧ ∃ σ1, kM_cup N σ (nI c) (nI q) = some (σ1, r) ∧ σ1.1 0 = 0 ∧ RFr σ σ1 := by
  have hN := hX.2.2.2.1
  have hT := hX.2.2.2.2.1
  have hs := hX.oc.spr
  have hV := hX.2.2.1.2.2.1.1.1
  have hYc := hV c hc
  have hF := hX.fw
  have hx := hX.1.2.1.1
  have z0 : (m_put σ 0 0).1 0 = 0 := mp_s _ _ _
  have hR0 := hR.1.fr hR.2.1.1 (RFr.p0 σ 0)
  have z1 : (m_put σ 0 0).1 1 = nI (tC M).1 := hR0.1.1
  have o2 : f_obj S 1 xa 2 = some na := f_obj_T hx (by decide) (by decide) hX.1.2.2.1.2.1
  have pre : ∀ {R : Option (MS × Int32)} (F : MS × Int32 → Option (MS × Int32)), F (m_put σ 0 0, 1) = R → (bnd (m_put σ 0 0) fun σ1 => (kM_isCup N σ1 (nI c)).bind fun w2 => if w2.2 = 0 then some (w2.1, 0) else (kM_isWhat N w2.1 (nI q) 8).bind F) = R := fun F h => onb rfl (ob1 (r_isCup1 z0 z1 hs.1 hc) (oif n10 (ob1 (r_isWhat1 z0 (b := 8) rfl hq (by decide)) h)))
  have prx : ∀ {R : Option ((XS × Int32) ⊕ XT)} (F : XS → Option ((XS × Int32) ⊕ XT)), F S = R → ((f_cls S 1 xa).bind fun u1 => tbind (kX_X1_aCup g N S xa (nI c)) F) = R := fun F h => ob1 (f_cls_T hx) (ot1 (hX.cup hc) h)
  have fin2 : ∀ r σ1, kX_X1_cup g N S xa (nI c) (nI q) = some (.inl (S, r)) → kM_cup N σ (nI c) (nI q) = some (σ1, r) → σ1.1 0 = 0 → RFr σ σ1 → ∃ S1 r, kX_X1_cup g N S xa (nI c) (nI q) = some (.inl (S1, r)) ∧ KS xa ta oa n S S1 ∧ ∃ σ1, kM_cup N σ (nI c) (nI q) = some (σ1, r) ∧ σ1.1 0 = 0 ∧ RFr σ σ1 := fun r σ1 h1 h2 h3 h4 => ⟨S, r, h1, KS.refl hX.wf.1, σ1, h2, h3, h4⟩
  have fin : ∀ r, kX_X1_cup g N S xa (nI c) (nI q) = some (.inl (S, r)) → kM_cup N σ (nI c) (nI q) = some (m_put σ 0 0, r) → ∃ S1 r, kX_X1_cup g N S xa (nI c) (nI q) = some (.inl (S1, r)) ∧ KS xa ta oa n S S1 ∧ ∃ σ1, kM_cup N σ (nI c) (nI q) = some (σ1, r) ∧ σ1.1 0 = 0 ∧ RFr σ σ1 := fun r h1 h2 => fin2 r _ h1 h2 z0 (RFr.p0 σ 0)
  obtain ⟨b1, b2, b3, b4, b5, b6, b7⟩ := hR0.2.1.2 c hc
  rw [Nat.zero_add] at b1 b2 b3 b4 b5 b6 b7
  have l1 : m_ld (m_put σ 0 0) 31 (1 + nI c) = some (iI (yA (tV M) 0 c)) := by
    exact (r_ldc 1 rfl (by show 1 + c < 128; omega)).trans (by rw [b1])
  have l10 : m_ld (m_put σ 0 0) 31 (10 + nI c) = some (iI (yA (tV M) 1 c)) := by
    exact (r_ldc 10 rfl (by show 10 + c < 128; omega)).trans (by rw [b2])
  have l46 : m_ld (m_put σ 0 0) 31 (46 + nI c) = some (iI (yA (tV M) 2 c)) := by
    exact (r_ldc 46 rfl (by show 46 + c < 128; omega)).trans (by rw [b6])
  have l55 : m_ld (m_put σ 0 0) 31 (55 + nI c) = some (if ((yI (tV M) 7 >>> (nI c &&& 31)) &&& 1) = 1 then 1 else 0) := by
    exact (r_ldc 55 rfl (by show 55 + c < 128; omega)).trans (by rw [b7])
  have l4 : m_ld (m_put σ 0 0) 4 (nI c) = some (iI ((tC M).2.1 c)) := by
    rw [r_ld (q := c) rfl (by show c < 9; omega), hR0.1.2.1 c hc]
  have hcase : q = 0 ∨ q = 1 ∨ q = 2 ∨ q = 3 ∨ q = 4 ∨ q = 5 ∨ q = 6 ∨ q = 7 ∨ q = 8 := by omega
  have na9 : ∀ {k : Nat}, nA k → a_int S 0 (xRa S na k) (nI c) = some (iI (yA (tV M) k c)) := fun hk => na_a hX.1.1 hk (by omega)
  rcases hcase with rfl | rfl | rfl | rfl | rfl | rfl | rfl | rfl | rfl
  · refine fin (iI (yA (tV M) 0 c)) ?_ ?_
    · unfold kX_X1_cup
      exact prx _ (oit (by decide) (ob1 o2 (ob1 (na_obj hX.1.1 (by decide)) (ob1 (na9 (by decide)) rfl))))
    · unfold kM_cup
      exact pre _ (oif n10 (oit (by decide) (ob1 l1 rfl)))
  · refine fin (iI (yA (tV M) 1 c)) ?_ ?_
    · unfold kX_X1_cup
      exact prx _ (oif (by decide) (oit (by decide) (ob1 o2 (ob1 (na_obj hX.1.1 (by decide)) (ob1 (na9 (by decide)) rfl)))))
    · unfold kM_cup
      exact pre _ (oif n10 (oif (by decide) (oit (by decide) (ob1 l10 rfl))))
  · refine fin (iI ((tC M).2.1 c)) ?_ ?_
    · unfold kX_X1_cup
      exact prx _ (oif (by decide) (oif (by decide) (oit (by decide) (hF.spr1 hc rfl))))
    · unfold kM_cup
      exact pre _ (oif n10 (oif (by decide) (oif (by decide) (oit (by decide) (ob1 l4 rfl)))))
  · refine fin (iI (mInto (tV M) c 0)) ?_ ?_
    · unfold kX_X1_cup
      exact prx _ (oif (by decide) (oif (by decide) (oif (by decide) (oit (by decide) (ob1 o2 (ob1 (na_cls hX.1.1) (ob1 (hF.into (b := 0) (Or.inl rfl) hc hYc) rfl)))))))
    · unfold kM_cup
      exact pre _ (oif n10 (oif (by decide) (oif (by decide) (oif (by decide) (oit (by decide) (ob1 (r_into (b := 0) hs.1 hR0.2.1 hc hYc (by omega)) rfl))))))
  · refine fin (iI (mInto (tV M) c 1)) ?_ ?_
    · unfold kX_X1_cup
      exact prx _ (oif (by decide) (oif (by decide) (oif (by decide) (oif (by decide) (oit (by decide) (ob1 o2 (ob1 (na_cls hX.1.1) (ob1 (hF.into (b := 1) (Or.inr rfl) hc hYc) rfl))))))))
    · unfold kM_cup
      exact pre _ (oif n10 (oif (by decide) (oif (by decide) (oif (by decide) (oif (by decide) (oit (by decide) (ob1 (r_into (b := 1) hs.1 hR0.2.1 hc hYc (by omega)) rfl)))))))
  · refine fin (iI (yA (tV M) 2 c)) ?_ ?_
    · unfold kX_X1_cup
      exact prx _ (oif (by decide) (oif (by decide) (oif (by decide) (oif (by decide) (oif (by decide) (oit (by decide) (ob1 o2 (ob1 (na_obj hX.1.1 (by decide)) (ob1 (na9 (by decide)) rfl)))))))))
    · unfold kM_cup
      exact pre _ (oif n10 (oif (by decide) (oif (by decide) (oif (by decide) (oif (by decide) (oif (by decide) (oit (by decide) (ob1 l46 rfl))))))))
  · refine fin (if ((yI (tV M) 7 >>> (nI c &&& 31)) &&& 1) = 1 then 1 else 0) ?_ ?_
    · unfold kX_X1_cup
      refine prx _ (oif (by decide) (oif (by decide) (oif (by decide) (oif (by decide) (oif (by decide) (oif (by decide) (oit (by decide) (ob1 o2 (ob1 (na_cls hX.1.1) (ob1 (hF.pl c) ?_))))))))))
      by_cases h : ((yI (tV M) 7 >>> (nI c &&& 31)) &&& 1) = 1
      · rw [if_pos h]
        exact oif n10 rfl
      · rw [if_neg h]
        exact oit rfl rfl
    · unfold kM_cup
      exact pre _ (oif n10 (oif (by decide) (oif (by decide) (oif (by decide) (oif (by decide) (oif (by decide) (oif (by decide) (oit (by decide) (ob1 l55 rfl)))))))))
  · obtain ⟨s1, k1, k2⟩ := r_deep (N := N) (s := m_put σ 0 0) hN hs.1 hV z1 hR0.2.1 hc
    refine fin2 (iI (dC (tC M) (tV M) 12 c)) s1 ?_ ?_ ((k2.1 0 (by simp)).trans z0) ((RFr.p0 σ 0).trans (RFr.rk k2 (fun j hj => by simp at hj) (fun j hj => by simp at hj ⊢; omega)))
    · unfold kX_X1_cup kD_X1_deep
      exact prx _ (oif (by decide) (oif (by decide) (oif (by decide) (oif (by decide) (oif (by decide) (oif (by decide) (oif (by decide) (oit (by decide) (ob1 (f_cls_T hx) (ob1 (x_deep hN hF hV 12 c (by omega) hc (by omega)) rfl))))))))))
    · unfold kM_cup
      exact pre _ (oif n10 (oif (by decide) (oif (by decide) (oif (by decide) (oif (by decide) (oif (by decide) (oif (by decide) (oif (by decide) (oit (by decide) (ob1 k1 rfl))))))))))
  · refine fin (iI (yA (tV M) 0 c) - iI (yA (tV M) 1 c)) ?_ ?_
    · unfold kX_X1_cup
      refine prx _ (oif (by decide) (oif (by decide) (oif (by decide) (oif (by decide) (oif (by decide) (oif (by decide) (oif (by decide) (oif (by decide) (oit (by decide) ?_)))))))))
      unfold kX_X1_cup_156
      exact ot1 (x_found1 (by decide)) (ob1 o2 (ob1 (na_obj hX.1.1 (by decide)) (ob1 (na9 (by decide)) (ob1 o2 (ob1 (na_obj hX.1.1 (by decide)) (ob1 (na9 (by decide)) rfl))))))
    · unfold kM_cup
      exact pre _ (oif n10 (oif (by decide) (oif (by decide) (oif (by decide) (oif (by decide) (oif (by decide) (oif (by decide) (oif (by decide) (oif (by decide) (ob1 l1 (ob1 l10 rfl)))))))))))
end OL
theorem op_count {g : XC} {N xa oa i : Nat} (hN : 2 ^ 20 < N) (hi : i ≤ 378) : St_count (yRel g N xa oa i) (yRel g N xa oa (i + 6)) g N xa oa := by
  rintro a0 n sl τ σ ⟨M, Z, Ya, Yh, na, ta, cv, la, lh, ra, rh, hB⟩
  have hB : yBody g N xa oa i n Z Ya Yh na ta cv la lh ra rh M τ σ := hB
  generalize hcc : n + 14000 = cc
  generalize hkk : sl + 97000 = kk
  obtain ⟨hO, hr, hQ, hfr, hS⟩ := y_open hB sl cc kk (by omega) (by omega)
  have hX := y_xb (sl := sl) (c := cc) (k := kk) hB hN hi (by omega) (by omega)
  have hRB := y_rb hB hN hi
  have z0 : (m_put σ 0 0).1 0 = 0 := mp_s _ _ _
  have hw : ∀ a0, kX_X0_count (jg g cc kk) N ((n, sl, cc, kk), τ) xa a0 oa = yW yH0 (kX_X1_count (jg g cc kk) N ((n, sl, cc, kk), τ) xa a0) oa := fun a0 => ob1 (f_cls_T hQ.2.1.1) rfl
  rw [hw]
  rcases y_rng 0 12 (by decide) a0 with ⟨q, -, h0, rfl⟩ | h0
  · obtain ⟨S1, r, hx, hks, hm⟩ := b_count hX hRB h0
    obtain ⟨σ1, hm1, hm2, hm3⟩ := hm
    exact fin_ok (c := cc) (k := kk) hB hx hks hm1 hm2 hm3
  · have hne : ∀ j, j < 13 → ¬ a0 = nI j := fun j hj z => by
      rcases h0 with h0 | h0
      · rw [z] at h0
        exact absurd h0 (nI_nlt (by omega) (by omega))
      · rw [z] at h0
        exact absurd h0 (nI_nlt (b := j) (a := 12) (by omega) (by omega))
    have hx : kX_X1_count (jg g cc kk) N ((n, sl, cc, kk), τ) xa a0 = some (.inr (((n, sl, cc, kk), τ), 0, 0)) := by
      unfold kX_X1_count
      refine oif (hne 0 (by omega)) (oif (hne 1 (by omega)) (oif (hne 2 (by omega)) (oif (hne 3 (by omega)) (oif (hne 4 (by omega)) (oif (hne 5 (by omega)) (oif (hne 6 (by omega)) (oif (hne 7 (by omega)) (oif (hne 8 (by omega)) (oif (hne 9 (by omega)) (ob1 (x_in0 ?_) (ot2 (x_found0 hr))))))))))))
      rcases h0 with h0 | h0
      · left
        rw [lt32] at h0 ⊢
        have e0 : (nI 0).toInt = 0 := by decide
        have e1 : (10 : Int32).toInt = 10 := by decide
        omega
      · exact Or.inr h0
    have hm : kM_count N σ a0 = some (m_put (m_put σ 0 0) 0 1, 0) := by
      unfold kM_count
      exact onb rfl (ob1 (r_within0 h0) (ob1 (r_right0 z0 (by decide)) (oit rfl rfl)))
    exact fin_thr (c := cc) (k := kk) hB hx rfl (KS.refl hQ.2.1.2.2.2.1) hm (mp_s _ _ _) (by decide) (RFr.p00 _ _ _)
theorem op_cup {g : XC} {N xa oa i : Nat} (hN : 2 ^ 20 < N) (hi : i ≤ 378) : St_cup (yRel g N xa oa i) (yRel g N xa oa (i + 6)) g N xa oa := by
  rintro a0 a1 n sl τ σ ⟨M, Z, Ya, Yh, na, ta, cv, la, lh, ra, rh, hB⟩
  have hB : yBody g N xa oa i n Z Ya Yh na ta cv la lh ra rh M τ σ := hB
  generalize hcc : n + 14000 = cc
  generalize hkk : sl + 97000 = kk
  obtain ⟨hO, hr, hQ, hfr, hS⟩ := y_open hB sl cc kk (by omega) (by omega)
  have hX := y_xb (sl := sl) (c := cc) (k := kk) hB hN hi (by omega) (by omega)
  have hRB := y_rb hB hN hi
  have z0 : (m_put σ 0 0).1 0 = 0 := mp_s _ _ _
  have z1 : (m_put σ 0 0).1 1 = nI (tC M).1 := (mp_n _ _ _ (by decide)).trans hRB.1.1.1
  have h9 := hRB.2.1.1
  have hw : ∀ a0 a1, kX_X0_cup (jg g cc kk) N ((n, sl, cc, kk), τ) xa a0 a1 oa = yW yH0 (kX_X1_cup (jg g cc kk) N ((n, sl, cc, kk), τ) xa a0 a1) oa := fun a0 a1 => ob1 (f_cls_T hQ.2.1.1) rfl
  rw [hw]
  rcases y_cup (tC M).1 (by omega) a0 with ⟨c0, h0, rfl⟩ | h0
  · rcases y_rng 0 8 (by decide) a1 with ⟨q, -, h1, rfl⟩ | h1
    · obtain ⟨S1, r, hx, hks, hm⟩ := b_cup hX hRB h0 h1
      obtain ⟨σ1, hm1, hm2, hm3⟩ := hm
      exact fin_ok (c := cc) (k := kk) hB hx hks hm1 hm2 hm3
    · have hne : ∀ j, j < 9 → ¬ a1 = nI j := fun j hj z => by
        rcases h1 with h1 | h1
        · rw [z] at h1
          exact absurd h1 (nI_nlt (by omega) (by omega))
        · rw [z] at h1
          exact absurd h1 (nI_nlt (b := j) (a := 8) (by omega) (by omega))
      have hx : kX_X1_cup (jg g cc kk) N ((n, sl, cc, kk), τ) xa (nI c0) a1 = some (.inr (((n, sl, cc, kk), τ), 0, 0)) := by
        unfold kX_X1_cup
        refine ob1 (f_cls_T hQ.2.1.1) (ot1 (hX.cup h0) (oif (hne 0 (by omega)) (oif (hne 1 (by omega)) (oif (hne 2 (by omega)) (oif (hne 3 (by omega)) (oif (hne 4 (by omega)) (oif (hne 5 (by omega)) (oif (hne 6 (by omega)) (oif (hne 7 (by omega)) (oif (hne 8 (by omega)) ?_))))))))))
        unfold kX_X1_cup_156
        exact ot2 (x_found0 hr)
      have hm : kM_cup N σ (nI c0) a1 = some (m_put (m_put σ 0 0) 0 1, 0) := by
        unfold kM_cup
        exact onb rfl (ob1 (r_isCup1 z0 z1 h9 h0) (oif n10 (ob1 (r_isWhat0 z0 h1) (oit rfl rfl))))
      exact fin_thr (c := cc) (k := kk) hB hx rfl (KS.refl hQ.2.1.2.2.2.1) hm (mp_s _ _ _) (by decide) (RFr.p00 _ _ _)
  · have hx : kX_X1_cup (jg g cc kk) N ((n, sl, cc, kk), τ) xa a0 a1 = some (.inr (((n, sl, cc, kk), τ), 0, 0)) := by
      rw [← hS]
      unfold kX_X1_cup
      exact ob1 (oc_cls hO) (ot2 (oc_cup0 hO hr h0))
    have hm : kM_cup N σ a0 a1 = some (m_put (m_put σ 0 0) 0 1, 0) := by
      unfold kM_cup
      exact onb rfl (ob1 (r_isCup0 z0 z1 h0) (oit rfl rfl))
    exact fin_thr (c := cc) (k := kk) hB hx rfl (KS.refl hQ.2.1.2.2.2.1) hm (mp_s _ _ _) (by decide) (RFr.p00 _ _ _)
