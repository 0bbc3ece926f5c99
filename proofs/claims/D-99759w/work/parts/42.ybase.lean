/-! plain law: checks; the tried night becomes the night -/
/-- a cup or not -/
theorem y_cup (c : Nat) (hc : c < 2 ^ 31) (x : Int32) : (∃ k, k < c ∧ x = nI k) ∨ (x < 0 ∨ nI c ≤ x) := by
  by_cases h : x < 0
  · exact Or.inr (Or.inl h)
  · obtain ⟨j, hj, rfl⟩ := nI_of h
    by_cases h2 : j < c
    · exact Or.inl ⟨j, h2, rfl⟩
    · exact Or.inr (Or.inr (nI_le (by omega) hj))
theorem y_rng (a b : Nat) (ha : a < 2 ^ 31) (x : Int32) : (∃ k, a ≤ k ∧ k ≤ b ∧ x = nI k) ∨ (x < nI a ∨ nI b < x) := by
  by_cases h : x < 0
  · refine Or.inr (Or.inl ?_)
    rw [lt32] at h ⊢
    rw [nI_toInt ha]
    have : (0 : Int32).toInt = 0 := by decide
    omega
  · obtain ⟨j, hj, rfl⟩ := nI_of h
    by_cases h1 : j < a
    · exact Or.inr (Or.inl (nI_lt h1 ha))
    · by_cases h2 : j ≤ b
      · exact Or.inl ⟨j, by omega, h2, rfl⟩
      · exact Or.inr (Or.inr (nI_lt (by omega) hj))
section B1
variable {g : XC} {N : Nat} {S : XS} {xa : Nat}
theorem x_in1 {a b : Int32} {x : Int32} (h1 : ¬ x < a) (h2 : ¬ b < x) : kX_X1_in g N x a b = some 1 := by
  unfold kX_X1_in
  rw [if_neg h1, if_neg h2]
theorem x_in0 {a b : Int32} {x : Int32} (h : x < a ∨ b < x) : kX_X1_in g N x a b = some 0 := by
  unfold kX_X1_in
  by_cases h1 : x < a
  · rw [if_pos h1]
  · rw [if_neg h1, if_pos (h.resolve_left h1)]
theorem x_inN {a b k : Nat} {A B : Int32} (hA : A = nI a) (hB : B = nI b) (h1 : a ≤ k) (h2 : k ≤ b) (hb : b < 2 ^ 31) : kX_X1_in g N (nI k) A B = some 1 := by
  subst hA; subst hB
  exact x_in1 (nI_nlt h1 (by omega)) (nI_nlt h2 hb)
/-- room for an exception -/
def yRm (S : XS) : Prop := xTop S + 1 ≤ xCc S ∧ xSl S + 6 ≤ xCs S
theorem x_found1 {v : Int32} (h : v ≠ 0) : kX_X1_found g N S v = some (.inl S) := by
  unfold kX_X1_found
  exact if_neg h
theorem x_found0 (h : yRm S) : kX_X1_found g N S 0 = some (.inr (S, 0, 0)) := by
  unfold kX_X1_found t_room
  rw [if_pos rfl]
  exact if_pos h
theorem x_right1 {v : Int32} (h : v ≠ 0) : kX_X1_right g N S v = some (.inl S) := by
  unfold kX_X1_right
  exact if_neg h
theorem x_right0 (h : yRm S) : kX_X1_right g N S 0 = some (.inr (S, 1, 0)) := by
  unfold kX_X1_right t_room
  rw [if_pos rfl]
  exact if_pos h
theorem x_oneOf1 {k b : Nat} {B : Int32} (hB : B = nI b) (h : k ≤ b) (hb : b < 2 ^ 31) : kX_X1_oneOf g N S (nI k) B = some (.inl S) := by
  unfold kX_X1_oneOf
  exact ob1 (x_inN (a := 0) rfl hB (by omega) h hb) (ot1 (x_found1 (by decide)) rfl)
theorem x_oneOf0 {x B : Int32} (hr : yRm S) (h : x < 0 ∨ B < x) : kX_X1_oneOf g N S x B = some (.inr (S, 0, 0)) := by
  unfold kX_X1_oneOf
  exact ob1 (x_in0 h) (ot2 (x_found0 hr))
theorem x_aCup1 {Z : Nat → Prop} {cv c : Nat} {C : CC} (h1 : f_obj S 1 xa 1 = some cv) (h2 : CaveAt g Z S cv C) (hc : c < C.1) : kX_X1_aCup g N S xa (nI c) = some (.inl S) := by
  have h9 := h2.1
  unfold kX_X1_aCup
  refine c_cups0 h1 h2 ?_
  refine ob1 (x_inN (a := 0) (b := C.1 - 1) rfl ?_ (by omega) (by omega) (by omega)) (ot1 (x_found1 (by decide)) rfl)
  obtain ⟨d, hd⟩ : ∃ d, C.1 = d + 1 := ⟨C.1 - 1, by omega⟩
  show nI C.1 - 1 = _
  rw [hd, nI_pred]
  rfl
theorem x_aCup0 {Z : Nat → Prop} {cv : Nat} {C : CC} {x : Int32} (h1 : f_obj S 1 xa 1 = some cv) (h2 : CaveAt g Z S cv C) (hr : yRm S) (hx : x < 0 ∨ nI C.1 ≤ x) : kX_X1_aCup g N S xa x = some (.inr (S, 0, 0)) := by
  have h9 := h2.1
  unfold kX_X1_aCup
  refine c_cups0 h1 h2 ?_
  refine ob1 (x_in0 ?_) (ot2 (x_found0 hr))
  rcases hx with hx | hx
  · exact Or.inl hx
  · right
    show nI C.1 - 1 < x
    rw [le32, iI_nI, iI_toInt ⟨by omega, by omega⟩] at hx
    rw [lt32, iI_nI, show (1 : Int32) = iI 1 by decide, iI_sub, iI_toInt ⟨by omega, by omega⟩]
    omega
/-! nights that aren't tried -/
variable {a : Nat} {V : MN}
theorem na_cls (h : NightAt S a xa V) : f_cls S 2 a = some () := f_cls_T h.1.2.1
theorem na_obj (h : NightAt S a xa V) {k : Nat} (hk : nA k) : f_obj S 2 a k = some (xRa S a k) := f_objA_T h.1.2.1 (nA_lt hk) (Or.inl hk)
theorem na_int (h : NightAt S a xa V) {k : Nat} (hk : nN k) : f_int S 2 a k = some (yI V k) := by
  rw [f_int_T h.1.2.1 hk.1 hk.2, h.2.1]
  rfl
theorem na_a (h : NightAt S a xa V) {k i : Nat} (hk : nA k) (hi : i < 9) : a_int S 0 (xRa S a k) (nI i) = some (iI (yA V k i)) := by
  have h1 := a_int_T (S := S) (k := k) (i := nI i) h.1.2.1 h.1.2.2.2.1 (Or.inl hk) (by rw [nA_len]; exact nI_inn hi (by decide))
  rw [nA_ak hk, nI_clamp (by omega), h.2.2] at h1
  exact h1
theorem na_out (h : NightAt S a xa V) : f_obj S 2 a 15 = some xa := f_obj_T h.1.2.1 (by decide) (by decide) h.1.2.2.2.2
theorem NightAt.onset {ta : Nat} (h : NightAt S a xa V) (hn : a ≠ ta) (m : MN) (w : Nat → Int32) : NightAt (nset S ta xa m w) a xa V := by
  refine ⟨h.1, ?_, fun j i => ?_⟩
  · rw [← h.2.1]
    funext j
    exact if_neg hn
  · rw [← h.2.2 j i]
    show (if a = ta then _ else if a = xa ∧ j = 0 then w else xA S a j) i = _
    rw [if_neg hn, if_neg (fun z => h.1.2.2.1 z.1)]
theorem na_self {m : MN} (h : NC S a xa) (w : Nat → Int32) : NightAt (nset S a xa m w) a xa m := ⟨h, by funext j; exact if_pos rfl, fun j i => by
  show (if a = a then (fun i => iI (m.2 j i)) else _) i = _
  rw [if_pos rfl]⟩
theorem na_eq (h : NightAt S a xa V) : S = nset S a xa V (xA S xa 0) := (nset_self h.1.2.2.1 h.2.1 h.2.2 rfl).symm
end B1
/-! a night becomes as another one -/
def mBe1 (V m : MN) (i : Nat) : MN := ysA (ysA (ysA (ysA (ysA (ysA (ysA m 0 i (yA V 0 i)) 1 i (yA V 1 i)) 2 i (yA V 2 i)) 3 i (yA V 3 i)) 4 i (yA V 4 i)) 5 i (yA V 5 i)) 11 i 0
def mBe (m V : MN) : MN := ysI (ysI (ysI (ysI (ysI (ysI (yIter (mBe1 V) 9 m) 6 (yI V 6)) 7 (yI V 7)) 8 0) 9 0) 10 0) 14 0
theorem mBe1_A (V m : MN) (k j i : Nat) : yA (mBe1 V m k) j i = if i = k then (if j < 6 then yA V j i else if j = 11 then 0 else yA m j i) else yA m j i := by
  unfold mBe1
  by_cases e : i = k
  · subst e
    rw [if_pos rfl]
    simp only [yA_A, and_true]
    by_cases h0 : j < 6
    · have : j = 0 ∨ j = 1 ∨ j = 2 ∨ j = 3 ∨ j = 4 ∨ j = 5 := by omega
      rcases this with rfl | rfl | rfl | rfl | rfl | rfl <;> simp
    · rw [if_neg h0]
      by_cases h1 : j = 11
      · simp [h1]
      · rw [if_neg h1, if_neg h1]
        rw [if_neg (by omega), if_neg (by omega), if_neg (by omega), if_neg (by omega), if_neg (by omega), if_neg (by omega)]
  · rw [if_neg e]
    simp only [yA_A, e, and_false, if_false]
theorem mBe1_I (V m : MN) (k j : Nat) : yI (mBe1 V m k) j = yI m j := rfl
theorem mBeL_A (V m : MN) (j i : Nat) : ∀ k, yA (yIter (mBe1 V) k m) j i = if i < k then (if j < 6 then yA V j i else if j = 11 then 0 else yA m j i) else yA m j i := by
  intro k
  induction k with
  | zero => rw [if_neg (by omega)]; rfl
  | succ k ih =>
    show yA (mBe1 V (yIter (mBe1 V) k m) k) j i = _
    rw [mBe1_A, ih]
    by_cases e : i = k
    · subst e
      rw [if_pos rfl, if_pos (show i < i + 1 by omega), if_neg (show ¬ i < i by omega)]
    · rw [if_neg e]
      by_cases e2 : i < k
      · rw [if_pos e2, if_pos (show i < k + 1 by omega)]
      · rw [if_neg e2, if_neg (show ¬ i < k + 1 by omega)]
theorem mBe_A (m V : MN) {j i : Nat} (hi : i < 9) : yA (mBe m V) j i = if j < 6 then yA V j i else if j = 11 then 0 else yA m j i := by
  unfold mBe
  simp only [yA_I]
  rw [mBeL_A, if_pos hi]
theorem mBe_I (m V : MN) (j : Nat) (hj : j = 6 ∨ j = 7) : yI (mBe m V) j = yI V j := by
  unfold mBe
  rcases hj with rfl | rfl <;> simp [yI_I]
theorem mBe_0 (m V : MN) (j : Nat) (hj : j = 8 ∨ j = 9 ∨ j = 10 ∨ j = 14) : yI (mBe m V) j = 0 := by
  unfold mBe
  rcases hj with rfl | rfl | rfl | rfl <;> simp [yI_I]
theorem YK.congr {C : CC} {m m1 : MN} {T : Int} {k : Nat} (h : YK C m T k) (hA : ∀ i, i < 6 → yA m1 i k = yA m i k) : YK C m1 T k := by
  unfold YK
  rw [hA 0 (by decide), hA 1 (by decide), hA 2 (by decide), hA 3 (by decide), hA 4 (by decide), hA 5 (by decide)]
  exact h
theorem mBe_YN {C : CC} {V : MN} {T : Int} (m : MN) (h9 : C.1 ≤ 9) (h : YG C V T) : YN C (mBe m V) T := by
  refine ⟨fun k hk => (h k hk).congr (fun i hi => ?_), fun j hj => ?_⟩
  · rw [mBe_A _ _ (by omega), if_pos hi]
  · rw [mBe_A _ _ (by omega), if_neg (by decide), if_pos rfl]
theorem mBe_Row {ρ : Nat → Int32} {b : Nat} {C : CC} {V : MN} (m : MN) (h9 : C.1 ≤ 9) (h : RowR ρ b C V) : RowR ρ b C (mBe m V) := h.congr (mBe_I _ _ _ (Or.inl rfl)) (mBe_I _ _ _ (Or.inr rfl)) (fun i j hi hj => by rw [mBe_A _ _ (by omega), if_pos hi])
theorem x_be {g : XC} {N : Nat} {S : XS} {xa ta na : Nat} {V m : MN} {w : Nat → Int32} (hN : 2 ^ 20 < N) (ht : NC S ta xa) (hn : NightAt S na xa V) (hne : na ≠ ta) : kX_X3_be g N (nset S ta xa m w) ta na = some (nset S ta xa (mBe m V) w, ta) := by
  have hV : ∀ m1, NightAt (nset S ta xa m1 w) na xa V := fun m1 => hn.onset hne m1 w
  unfold kX_X3_be
  refine y_loop (fun n (s : MN) k => kX_X3_be_2 g N n (nset S ta xa s w) ta na (nI k)) 9 (fun s k => s = yIter (mBe1 V) k m) (fun r => r = some (nset S ta xa (mBe m V) w, ta)) ?_ ?_ 9 N m 0 (by omega) (by omega) rfl
  · rintro n s k hk rfl
    right
    refine ⟨mBe1 V (yIter (mBe1 V) k m) k, ?_, rfl⟩
    generalize yIter (mBe1 V) k m = m1
    show kX_X3_be_2 g N (n + 1) (nset S ta xa m1 w) ta na (nI k) = kX_X3_be_2 g N n (nset S ta xa (mBe1 V m1 k) w) ta na (nI (k + 1))
    rw [kX_X3_be_2]
    refine oif (nI_ge (b := 9) hk (by decide)) ?_
    refine ob1 (n_obj ht (by decide)) (ob1 (na_obj (hV _) (by decide)) (ob1 (na_a (hV _) (by decide) hk) (ob1 (n_put ht (by decide) hk rfl) ?_)))
    refine ob1 (n_obj ht (by decide)) (ob1 (na_obj (hV _) (by decide)) (ob1 (na_a (hV _) (by decide) hk) (ob1 (n_put ht (by decide) hk rfl) ?_)))
    refine ob1 (n_obj ht (by decide)) (ob1 (na_obj (hV _) (by decide)) (ob1 (na_a (hV _) (by decide) hk) (ob1 (n_put ht (by decide) hk rfl) ?_)))
    refine ob1 (n_obj ht (by decide)) (ob1 (na_obj (hV _) (by decide)) (ob1 (na_a (hV _) (by decide) hk) (ob1 (n_put ht (by decide) hk rfl) ?_)))
    refine ob1 (n_obj ht (by decide)) (ob1 (na_obj (hV _) (by decide)) (ob1 (na_a (hV _) (by decide) hk) (ob1 (n_put ht (by decide) hk rfl) ?_)))
    refine ob1 (n_obj ht (by decide)) (ob1 (na_obj (hV _) (by decide)) (ob1 (na_a (hV _) (by decide) hk) (ob1 (n_put ht (by decide) hk rfl) ?_)))
    refine ob1 (n_obj ht (by decide)) (ob1 (n_put (x := 0) ht (by decide) hk rfl) ?_)
    rw [nI_1]
    rfl
  · rintro n s rfl
    generalize hm1 : yIter (mBe1 V) 9 m = m1
    show kX_X3_be_2 g N (n + 1) (nset S ta xa m1 w) ta na (nI 9) = _
    rw [kX_X3_be_2]
    refine oit (nI_le (b := 9) (Nat.le_refl _) (by decide)) ?_
    refine ob1 (na_int (hV _) (by decide)) (ob1 (n_putI ht (by decide)) (ob1 (na_int (hV _) (by decide)) (ob1 (n_putI ht (by decide)) ?_)))
    refine ob1 (n_putI ht (by decide)) (ob1 (n_putI ht (by decide)) (ob1 (n_putI ht (by decide)) (ob1 (n_putI ht (by decide)) ?_)))
    rw [← hm1]
    rfl
