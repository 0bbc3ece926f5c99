/-! plain law: tiers -/
/-- ways of n pipes one behind the other -/
def yPt (V : MN) : Nat → Nat → Nat → Prop
  | 0, a, b => a = b
  | n + 1, a, b => ∃ d, yGo V a d = true ∧ yPt V n d b
theorem yPt_s {V : MN} {d b : Nat} (h : yGo V d b = true) : ∀ (n a : Nat), yPt V n a d → yPt V (n + 1) a b := by
  intro n
  induction n with
  | zero =>
    intro a h1
    have h1 : a = d := h1
    subst h1
    exact ⟨b, h, rfl⟩
  | succ n ih =>
    rintro a ⟨e, h1, h2⟩
    exact ⟨e, h1, ih e h2⟩
theorem yPt_l {V : MN} {b : Nat} : ∀ (n a : Nat), yPt V (n + 1) a b → ∃ d, yPt V n a d ∧ yGo V d b = true := by
  intro n
  induction n with
  | zero =>
    rintro a ⟨d, h1, h2⟩
    have h2 : d = b := h2
    subst h2
    exact ⟨a, rfl, h1⟩
  | succ n ih =>
    rintro a ⟨e, h1, h2⟩
    obtain ⟨d, h3, h4⟩ := ih e h2
    exact ⟨d, ⟨e, h1, h3⟩, h4⟩
theorem yPt_le {C : CC} {V : MN} {T : Int} (hG : YG C V T) {b : Nat} : ∀ (n a : Nat), a < C.1 → yPt V n a b → a + n ≤ b ∧ b < C.1 := by
  intro n
  induction n with
  | zero =>
    intro a ha h1
    have h1 : a = b := h1
    subst h1
    exact ⟨by omega, ha⟩
  | succ n ih =>
    rintro a ha ⟨e, h1, h2⟩
    have h3 := yGo_lt (hG a ha) h1
    have h4 := ih e h3.2 h2
    omega
/-- b lies below a -/
def yRch (V : MN) (a b : Nat) : Prop := ∃ n, yPt V (n + 1) a b
theorem yRch_i {C : CC} {V : MN} {T : Int} (hG : YG C V T) {k : Nat} (hk : k < C.1) (j : Nat) : yRch V k j ↔ (yGo V k j = true ∨ ∃ d, k < d ∧ d < C.1 ∧ yRch V k d ∧ yGo V d j = true) := by
  constructor
  · rintro ⟨n, h⟩
    cases n with
    | zero =>
      obtain ⟨d, h1, h2⟩ := h
      have h2 : d = j := h2
      subst h2
      exact Or.inl h1
    | succ n =>
      obtain ⟨d, h1, h2⟩ := yPt_l (n + 1) k h
      have h3 := yPt_le hG (n + 1) k hk h1
      exact Or.inr ⟨d, by omega, h3.2, ⟨n, h1⟩, h2⟩
  · rintro (h | ⟨d, -, -, ⟨n, h1⟩, h2⟩)
    · exact ⟨0, j, h, rfl⟩
    · exact ⟨n + 1, yPt_s h2 (n + 1) k h1⟩
theorem yRch_lt {C : CC} {V : MN} {T : Int} (hG : YG C V T) {k j : Nat} (hk : k < C.1) (h : yRch V k j) : k < j ∧ j < C.1 := by
  obtain ⟨n, h⟩ := h
  have := yPt_le hG (n + 1) k hk h
  omega
theorem b_set {x : Int32} {t i : Nat} (ht : t < 32) (hi : i < 32) : bt (x ||| ((1 : Int32) <<< (nI t &&& 31))) i = (bt x i || decide (i = t)) := by rw [b_or, bt_one ht hi]
theorem b_ext2 {x y : Int32} (h : ∀ i, i < 32 → (bt x i = true ↔ bt y i = true)) : x = y := b_ext (fun i hi => by
  have := h i hi
  cases h1 : bt x i <;> cases h2 : bt y i <;> simp [h1, h2] at this ⊢)
theorem bit01 {x : Int32} {c : Nat} (hc : c < 32) : (x >>> (nI c &&& 31)) &&& 1 = if bt x c = true then 1 else 0 := by
  apply b_ext
  intro i hi
  rw [b_and, bt_1 i hi]
  by_cases e : i = 0
  · subst e
    rw [b_sshr c hc x (by decide)]
    rw [if_pos (by omega)]
    show (bt x c && true) = _
    cases h : bt x c
    · simp [b_0]
    · simp [bt_1]
  · rw [decide_eq_false e, Bool.and_false]
    split
    · rw [bt_1 i hi, decide_eq_false e]
    · rw [b_0]
section OJ
variable {g : XC} {N xa oa n : Nat} {Z Ya Yh : Nat → Prop} {na ta cv la lh : Nat} {ra rh : List Nat} {M : MT} {T : Int} {S S1 : XS} {σ s : MS} {C : CC} {V m : MN} {w : Nat → Int32} {c k : Nat}
theorem FW.cups1 (h : FW g Z S xa na C V) {β : Type} {F : XS × Int32 → Option β} {R : Option β} (k : F (S, nI C.1) = R) : ((f_obj S 1 xa 1).bind fun v2 => (f_cls S 3 v2).bind fun _ => (kX_X2_cups g N S v2).bind F) = R := by
  obtain ⟨cv, h3, h4⟩ := h.2.2.1
  exact c_cups0 (f_obj_T h.2.1.1.1 (by decide) (by decide) h3) h4 k
theorem FW.le9 (h : FW g Z S xa na C V) : C.1 ≤ 9 := by
  obtain ⟨cv, -, h4⟩ := h.2.2.1
  exact h4.1
theorem x_below (hN : 2 ^ 20 < N) (hF : FW g Z S xa na C V) (hG : YG C V T) (hk : k < C.1) : ∃ x, kX_X1_below g N S xa (nI k) = some (S, x) ∧ ∀ j, j < 32 → (bt x j = true ↔ yRch V k j) := by
  have h9 := hF.le9
  unfold kX_X1_below
  have e1 := x_straight hN hF hk (hG k hk)
  rw [f_cls_T hF.2.1.1.1]
  show ∃ x, ((kX_X1_straight g N S xa (nI k)).bind fun w2 => bnd (nI k + 1) fun v3 => kX_X1_below_10 g N N w2.1 xa w2.2 v3) = some (S, x) ∧ _
  rw [e1]
  show ∃ x, kX_X1_below_10 g N N S xa (yStr V k) (nI k + 1) = some (S, x) ∧ _
  rw [nI_1]
  refine y_loop (fun f (x : Int32) i => kX_X1_below_10 g N f S xa x (nI i)) C.1 (fun x i => k < i ∧ ∀ j, j < 32 → (bt x j = true ↔ (yGo V k j = true ∨ ∃ d, k < d ∧ d < i ∧ yRch V k d ∧ yGo V d j = true))) (fun r => ∃ x, r = some (S, x) ∧ ∀ j, j < 32 → (bt x j = true ↔ yRch V k j)) ?_ ?_ (C.1 - (k + 1)) N (yStr V k) (k + 1) (by omega) (by omega) ⟨by omega, fun j hj => ?_⟩
  · rintro f x i hi ⟨h1, h2⟩
    right
    have hxi : bt x i = true ↔ yRch V k i := by
      rw [h2 i (by omega), yRch_i hG hk i]
      constructor
      · rintro (h | ⟨d, d1, d2, d3, d4⟩)
        · exact Or.inl h
        · exact Or.inr ⟨d, d1, by omega, d3, d4⟩
      · rintro (h | ⟨d, d1, d2, d3, d4⟩)
        · exact Or.inl h
        · exact Or.inr ⟨d, d1, (yGo_lt (hG d d2) d4).1, d3, d4⟩
    refine ⟨if bt x i = true then x ||| yStr V i else x, ?_, by omega, fun j hj => ?_⟩
    · show kX_X1_below_10 g N (f + 1) S xa x (nI i) = kX_X1_below_10 g N f S xa _ (nI (i + 1))
      rw [kX_X1_below_10]
      refine hF.cups1 (oif (nI_ge hi (by omega)) ?_)
      rw [hof2 (by omega)]
      unfold kX_X1_below_37
      rw [nI_1]
      by_cases hb : bt x i = true
      · rw [if_pos hb, if_pos hb]
        exact ob1 (f_cls_T hF.2.1.1.1) (ob1 (x_straight hN hF hi (hG i hi)) (onb rfl rfl))
      · rw [if_neg hb, if_neg hb]
    · by_cases hb : bt x i = true
      · rw [if_pos hb, b_or, yStr_bt h9 (hG i hi) hj, Bool.or_eq_true, h2 j hj]
        constructor
        · rintro ((h | ⟨d, d1, d2, d3⟩) | h)
          · exact Or.inl h
          · exact Or.inr ⟨d, d1, by omega, d3⟩
          · exact Or.inr ⟨i, h1, by omega, hxi.mp hb, h⟩
        · rintro (h | ⟨d, d1, d2, d3, d4⟩)
          · exact Or.inl (Or.inl h)
          · by_cases e : d = i
            · subst e
              exact Or.inr d4
            · exact Or.inl (Or.inr ⟨d, d1, by omega, d3, d4⟩)
      · rw [if_neg hb, h2 j hj]
        constructor
        · rintro (h | ⟨d, d1, d2, d3⟩)
          · exact Or.inl h
          · exact Or.inr ⟨d, d1, by omega, d3⟩
        · rintro (h | ⟨d, d1, d2, d3, d4⟩)
          · exact Or.inl h
          · by_cases e : d = i
            · subst e
              exact absurd (hxi.mpr d3) hb
            · exact Or.inr ⟨d, d1, by omega, d3, d4⟩
  · rintro f x ⟨h1, h2⟩
    refine ⟨x, ?_, fun j hj => ?_⟩
    · show kX_X1_below_10 g N (f + 1) S xa x (nI C.1) = _
      rw [kX_X1_below_10]
      exact hF.cups1 (oit (nI_le (Nat.le_refl _) (by omega)) rfl)
    · rw [h2 j hj, yRch_i hG hk j]
  · rw [yStr_bt h9 (hG k hk) hj]
    constructor
    · exact Or.inl
    · rintro (h | ⟨d, d1, d2, -⟩)
      · exact h
      · omega
theorem x_above (hN : 2 ^ 20 < N) (hF : FW g Z S xa na C V) (hG : YG C V T) (hk : k < C.1) : ∃ x, kX_X1_above g N S xa (nI k) = some (S, x) ∧ ∀ j, j < 32 → (bt x j = true ↔ (j < C.1 ∧ yRch V j k)) := by
  have h9 := hF.le9
  unfold kX_X1_above
  refine y_loop (fun f (x : Int32) i => kX_X1_above_4 g N f S xa (nI k) x (nI i)) k (fun x i => ∀ j, j < 32 → (bt x j = true ↔ (j < i ∧ yRch V j k))) (fun r => ∃ x, r = some (S, x) ∧ ∀ j, j < 32 → (bt x j = true ↔ (j < C.1 ∧ yRch V j k))) ?_ ?_ k N 0 0 (by omega) (by omega) (fun j hj => by rw [b_0]; constructor <;> intro h <;> simp at h)
  · rintro f x i hi h1
    right
    obtain ⟨y, q1, q2⟩ := x_below hN hF hG (k := i) (by omega)
    refine ⟨if bt y k = true then x ||| ((1 : Int32) <<< (nI i &&& 31)) else x, ?_, fun j hj => ?_⟩
    · show kX_X1_above_4 g N (f + 1) S xa (nI k) x (nI i) = kX_X1_above_4 g N f S xa (nI k) _ (nI (i + 1))
      rw [kX_X1_above_4]
      refine oif (nI_ge hi (by omega)) (ob1 (f_cls_T hF.2.1.1.1) (ob1 q1 ?_))
      rw [hof2 (by omega)]
      unfold kX_X1_above_27
      rw [nI_1]
      by_cases hb : bt y k = true
      · rw [if_pos hb, if_pos hb]
        exact onb rfl rfl
      · rw [if_neg hb, if_neg hb]
    · have hy := q2 k (by omega)
      by_cases hb : bt y k = true
      · rw [if_pos hb, b_set (by omega) hj, Bool.or_eq_true, h1 j hj, decide_eq_true_iff]
        constructor
        · rintro (h | h)
          · exact ⟨by omega, h.2⟩
          · subst h
            exact ⟨by omega, hy.mp hb⟩
        · rintro ⟨h2, h3⟩
          by_cases e : j = i
          · exact Or.inr e
          · exact Or.inl ⟨by omega, h3⟩
      · rw [if_neg hb, h1 j hj]
        constructor
        · rintro ⟨h2, h3⟩
          exact ⟨by omega, h3⟩
        · rintro ⟨h2, h3⟩
          by_cases e : j = i
          · subst e
            exact absurd (hy.mpr h3) hb
          · exact ⟨by omega, h3⟩
  · rintro f x h1
    refine ⟨x, ?_, fun j hj => ?_⟩
    · show kX_X1_above_4 g N (f + 1) S xa (nI k) x (nI k) = _
      rw [kX_X1_above_4]
      exact oit (nI_le (Nat.le_refl _) (by omega)) rfl
    · rw [h1 j hj]
      constructor
      · rintro ⟨h2, h3⟩
        exact ⟨by omega, h3⟩
      · rintro ⟨h2, h3⟩
        exact ⟨(yRch_lt hG h2 h3).1, h3⟩
/-! the reference's closure -/
def tP (C : CC) (V : MN) (q c n j : Nat) : Prop := j < C.1 ∧ (if q = 0 then yPt V n j c else yPt V n c j)
def tSo (C : CC) (V : MN) (q c : Nat) (v : Int32) : Prop := ∀ j, j < 32 → bt v j = true → ∃ n, tP C V q c n j
def tCl (V : MN) (q : Nat) (v0 v : Int32) (Q : Nat → Nat → Prop) : Prop := ∀ g d, Q g d → yGo V g d = true → if q = 0 then (bt v0 d = true → bt v g = true) else (bt v0 g = true → bt v d = true)
def tMo (v0 v : Int32) : Prop := ∀ j, j < 32 → bt v0 j = true → bt v j = true
/-- one pipe -/
def tS1 (V : MN) (q : Nat) (v : Int32) (g d : Nat) : Int32 := if yGo V g d = true then (if q = 0 then v ||| (((v >>> (nI d &&& 31)) &&& 1) <<< (nI g &&& 31)) else v ||| (((v >>> (nI g &&& 31)) &&& 1) <<< (nI d &&& 31))) else v
theorem t_bit {v : Int32} {a b j : Nat} (ha : a < 32) (hb : b < 32) (hj : j < 32) : bt (v ||| (((v >>> (nI a &&& 31)) &&& 1) <<< (nI b &&& 31))) j = (bt v j || (bt v a && decide (j = b))) := by
  rw [bit01 ha, b_or]
  cases h : bt v a
  · rw [if_neg (by simp), b_shl b hb _ hj, b_0]
    simp
  · rw [if_pos rfl, bt_one hb hj]
    simp
theorem t_step (hG : YG C V T) (h9 : C.1 ≤ 9) {q c : Nat} (hc : c < C.1) {v : Int32} (hv : tSo C V q c v) {g d : Nat} (hg : g < C.1) (hd : d < C.1) : tSo C V q c (tS1 V q v g d) ∧ tMo v (tS1 V q v g d) ∧ (yGo V g d = true → if q = 0 then (bt v d = true → bt (tS1 V q v g d) g = true) else (bt v g = true → bt (tS1 V q v g d) d = true)) := by
  unfold tS1
  by_cases hgo : yGo V g d = true
  · rw [if_pos hgo]
    by_cases hq : q = 0
    · rw [if_pos hq, if_pos hq]
      refine ⟨fun j hj hb => ?_, fun j hj hb => ?_, fun _ hb => ?_⟩
      · rw [t_bit (by omega) (by omega) hj, Bool.or_eq_true, Bool.and_eq_true, decide_eq_true_iff] at hb
        rcases hb with hb | ⟨hb1, hb2⟩
        · exact hv j hj hb
        · obtain ⟨n, h1, h2⟩ := hv d (by omega) hb1
          rw [if_pos hq] at h2
          refine ⟨n + 1, by omega, ?_⟩
          rw [if_pos hq, hb2]
          exact ⟨d, hgo, h2⟩
      · rw [t_bit (by omega) (by omega) hj, hb, Bool.true_or]
      · rw [t_bit (by omega) (by omega) (by omega), hb]
        simp
    · rw [if_neg hq, if_neg hq]
      refine ⟨fun j hj hb => ?_, fun j hj hb => ?_, fun _ hb => ?_⟩
      · rw [t_bit (by omega) (by omega) hj, Bool.or_eq_true, Bool.and_eq_true, decide_eq_true_iff] at hb
        rcases hb with hb | ⟨hb1, hb2⟩
        · exact hv j hj hb
        · obtain ⟨n, h1, h2⟩ := hv g (by omega) hb1
          rw [if_neg hq] at h2
          refine ⟨n + 1, by omega, ?_⟩
          rw [if_neg hq, hb2]
          exact yPt_s hgo n c h2
      · rw [t_bit (by omega) (by omega) hj, hb, Bool.true_or]
      · rw [t_bit (by omega) (by omega) (by omega), hb]
        simp
  · rw [if_neg hgo]
    exact ⟨hv, fun j _ h => h, fun h => absurd h hgo⟩
theorem tMo.trans {v0 v1 v2 : Int32} (h : tMo v0 v1) (h2 : tMo v1 v2) : tMo v0 v2 := fun j hj hb => h2 j hj (h j hj hb)
/-- one more pipe gone over -/
theorem t_cl {q : Nat} {v0 v v1 : Int32} {Q Q1 : Nat → Nat → Prop} {g d : Nat} (h9 : C.1 ≤ 9) (hQC : ∀ a b, Q a b → a < C.1 ∧ b < C.1) (h : tCl V q v0 v Q) (hm0 : tMo v0 v) (hm : tMo v v1) (hg : g < C.1) (hd : d < C.1) (hs : yGo V g d = true → if q = 0 then (bt v d = true → bt v1 g = true) else (bt v g = true → bt v1 d = true)) (hQ : ∀ a b, Q1 a b → Q a b ∨ (a = g ∧ b = d)) : tCl V q v0 v1 Q1 := by
  intro a b hq1 hgo
  rcases hQ a b hq1 with hq | ⟨rfl, rfl⟩
  · have h1 := h a b hq hgo
    have h2 := hQC a b hq
    by_cases e : q = 0
    · rw [if_pos e] at h1 ⊢
      exact fun z => hm a (by omega) (h1 z)
    · rw [if_neg e] at h1 ⊢
      exact fun z => hm b (by omega) (h1 z)
  · have h1 := hs hgo
    by_cases e : q = 0
    · rw [if_pos e] at h1 ⊢
      exact fun z => h1 (hm0 b (by omega) z)
    · rw [if_neg e] at h1 ⊢
      exact fun z => h1 (hm0 a (by omega) z)
theorem r_tier (hN : 2 ^ 20 < N) (h9 : C.1 ≤ 9) (hG : YG C V T) (hC1 : s.1 1 = nI C.1) (hR : RowR (s.2.2 31) 0 C V) (hc : c < C.1) {q : Nat} (hq : q ≤ 1) : ∃ x, kM_tier_31 N N s (nI c) (nI q) ((1 : Int32) <<< (nI c &&& 31)) 0 = some (s, x) ∧ ∀ j, j < 32 → (bt x j = true ↔ ∃ n, tP C V q c (n + 1) j) := by
  have hq0 : (nI q = 0) ↔ q = 0 := nI_eq (b := 0) (by omega) (by omega)
  -- one pipe
  have h55 : ∀ (K31 : MS → Int32 → Int32 → Int32 → Int32 → Option (MS × Int32)) (K43 : MS → Int32 → Int32 → Int32 → Int32 → Int32 → Option (MS × Int32)) (p g : Nat) (v0 v : Int32), g < C.1 → tSo C V q c v → tMo v0 v → tCl V q v0 v (fun a b => a < g ∧ b < C.1) → ∃ v1, kM_tier_55 N K31 K43 N s (nI c) (nI q) v (nI p) (nI g) 0 = K43 s (nI c) (nI q) v1 (nI p) (nI g + 1) ∧ tSo C V q c v1 ∧ tMo v0 v1 ∧ tCl V q v0 v1 (fun a b => a < g + 1 ∧ b < C.1) := fun K31 K43 p g v0 v hg i1 i2 i3 => by
    refine y_loop (fun f (x : Int32) d => kM_tier_55 N K31 K43 f s (nI c) (nI q) x (nI p) (nI g) (nI d)) C.1 (fun x d => d ≤ C.1 ∧ tSo C V q c x ∧ tMo v0 x ∧ tCl V q v0 x (fun a b => (a < g ∧ b < C.1) ∨ (a = g ∧ b < d))) (fun r => ∃ v1, r = K43 s (nI c) (nI q) v1 (nI p) (nI g + 1) ∧ tSo C V q c v1 ∧ tMo v0 v1 ∧ tCl V q v0 v1 (fun a b => a < g + 1 ∧ b < C.1)) ?_ ?_ C.1 N v 0 (by omega) (by omega) ⟨by omega, i1, i2, fun a b hab => by rcases hab with hab | hab; exact i3 a b hab; omega⟩
    · rintro f x d hd ⟨-, j1, j2, j3⟩
      right
      obtain ⟨u1, u2, u3⟩ := t_step hG h9 hc j1 hg hd
      refine ⟨tS1 V q x g d, ?_, by omega, u1, j2.trans u2, t_cl (C := C) h9 (fun a b hab => by omega) j3 j2 u2 hg hd u3 (fun a b hab => by omega)⟩
      show kM_tier_55 N K31 K43 (f + 1) s (nI c) (nI q) x (nI p) (nI g) (nI d) = kM_tier_55 N K31 K43 f s (nI c) (nI q) (tS1 V q x g d) (nI p) (nI g) (nI (d + 1))
      rw [kM_tier_55]
      refine oif (by rw [hC1]; exact nI_ge hd (by omega)) (ob1 (r_goes h9 hR hg (hG g hg) (by omega)) ?_)
      unfold kM_tier_101 kM_tier_103 tS1
      rw [nI_1]
      by_cases hgo : yGo V g d = true
      · rw [if_pos hgo, if_pos hgo]
        refine oif n10 ?_
        by_cases e : q = 0
        · rw [if_pos e]
          exact oit (hq0.mpr e) (onb rfl rfl)
        · rw [if_neg e]
          exact oif (fun z => e (hq0.mp z)) (onb rfl rfl)
      · rw [if_neg hgo, if_neg hgo]
        exact oit rfl rfl
    · rintro f x ⟨-, j1, j2, j3⟩
      refine ⟨x, ?_, j1, j2, fun a b hab => j3 a b (by omega)⟩
      show kM_tier_55 N K31 K43 (f + 1) s (nI c) (nI q) x (nI p) (nI g) (nI C.1) = _
      rw [kM_tier_55]
      exact oit (by rw [hC1]; exact nI_le (Nat.le_refl _) (by omega)) rfl
  -- one pass
  have h43 : ∀ (K31 : MS → Int32 → Int32 → Int32 → Int32 → Option (MS × Int32)) (p : Nat) (v : Int32), tSo C V q c v → ∃ v1, kM_tier_43 N K31 N s (nI c) (nI q) v (nI p) 0 = K31 s (nI c) (nI q) v1 (nI p + 1) ∧ tSo C V q c v1 ∧ tMo v v1 ∧ tCl V q v v1 (fun a b => a < C.1 ∧ b < C.1) := fun K31 p v i1 => by
    refine y_loop (fun f (x : Int32) g => kM_tier_43 N K31 f s (nI c) (nI q) x (nI p) (nI g)) C.1 (fun x g => g ≤ C.1 ∧ tSo C V q c x ∧ tMo v x ∧ tCl V q v x (fun a b => a < g ∧ b < C.1)) (fun r => ∃ v1, r = K31 s (nI c) (nI q) v1 (nI p + 1) ∧ tSo C V q c v1 ∧ tMo v v1 ∧ tCl V q v v1 (fun a b => a < C.1 ∧ b < C.1)) ?_ ?_ C.1 N v 0 (by omega) (by omega) ⟨by omega, i1, fun _ _ z => z, fun a b hab => by omega⟩
    · rintro f x g hg ⟨-, j1, j2, j3⟩
      right
      obtain ⟨v1, u1, u2, u3, u4⟩ := h55 K31 (kM_tier_43 N K31 f) p g v x hg j1 j2 j3
      refine ⟨v1, ?_, by omega, u2, u3, u4⟩
      show kM_tier_43 N K31 (f + 1) s (nI c) (nI q) x (nI p) (nI g) = kM_tier_43 N K31 f s (nI c) (nI q) v1 (nI p) (nI (g + 1))
      rw [kM_tier_43]
      refine oif (by rw [hC1]; exact nI_ge hg (by omega)) (u1.trans ?_)
      rw [nI_1]
    · rintro f x ⟨-, j1, j2, j3⟩
      refine ⟨x, ?_, j1, j2, j3⟩
      show kM_tier_43 N K31 (f + 1) s (nI c) (nI q) x (nI p) (nI C.1) = _
      rw [kM_tier_43]
      exact oit (by rw [hC1]; exact nI_le (Nat.le_refl _) (by omega)) rfl
  refine y_loop (fun f (x : Int32) p => kM_tier_31 N f s (nI c) (nI q) x (nI p)) C.1 (fun x p => tSo C V q c x ∧ ∀ n j, n ≤ p → tP C V q c n j → bt x j = true) (fun r => ∃ x, r = some (s, x) ∧ ∀ j, j < 32 → (bt x j = true ↔ ∃ n, tP C V q c (n + 1) j)) ?_ ?_ C.1 N ((1 : Int32) <<< (nI c &&& 31)) 0 (by omega) (by omega) ⟨fun j hj hb => ?_, fun n j hn hp => ?_⟩
  · rintro f x p hp ⟨j1, j2⟩
    right
    obtain ⟨v1, u1, u2, u3, u4⟩ := h43 (kM_tier_31 N f) p x j1
    refine ⟨v1, ?_, u2, fun n j hn hj => ?_⟩
    · show kM_tier_31 N (f + 1) s (nI c) (nI q) x (nI p) = kM_tier_31 N f s (nI c) (nI q) v1 (nI (p + 1))
      rw [kM_tier_31]
      refine oif (by rw [hC1]; exact nI_ge hp (by omega)) (u1.trans ?_)
      rw [nI_1]
    · obtain ⟨hj1, hj2⟩ := hj
      by_cases e : n ≤ p
      · exact u3 j (by omega) (j2 n j e ⟨hj1, hj2⟩)
      · have en : n = p + 1 := by omega
        subst en
        by_cases hq : q = 0
        · rw [if_pos hq] at hj2
          obtain ⟨d, d1, d2⟩ := hj2
          have d3 := yGo_lt (hG j hj1) d1
          have d4 := u4 j d ⟨hj1, d3.2⟩ d1
          rw [if_pos hq] at d4
          exact d4 (j2 p d (Nat.le_refl _) ⟨d3.2, by rw [if_pos hq]; exact d2⟩)
        · rw [if_neg hq] at hj2
          obtain ⟨d, d1, d2⟩ := yPt_l p c hj2
          have d3 := (yPt_le hG p c hc d1).2
          have d4 := u4 d j ⟨d3, hj1⟩ d2
          rw [if_neg hq] at d4
          exact d4 (j2 p d (Nat.le_refl _) ⟨d3, by rw [if_neg hq]; exact d1⟩)
  · rintro f x ⟨j1, j2⟩
    refine ⟨x &&& (((1 : Int32) <<< (nI c &&& 31)) ^^^ (-1)), ?_, fun j hj => ?_⟩
    · show kM_tier_31 N (f + 1) s (nI c) (nI q) x (nI C.1) = _
      rw [kM_tier_31]
      exact oit (by rw [hC1]; exact nI_le (Nat.le_refl _) (by omega)) rfl
    · rw [b_and, b_xor, bt_one (by omega) hj, b_m1 j hj, Bool.and_eq_true]
      constructor
      · rintro ⟨h1, h2⟩
        have hne : j ≠ c := fun z => by rw [z] at h2; simp at h2
        obtain ⟨n, h3, h4⟩ := j1 j hj h1
        cases n with
        | zero =>
          exfalso
          by_cases hq : q = 0
          · rw [if_pos hq] at h4
            exact hne h4
          · rw [if_neg hq] at h4
            exact hne (Eq.symm h4)
        | succ n => exact ⟨n, h3, h4⟩
      · rintro ⟨n, h3, h4⟩
        have hb : n + 1 ≤ C.1 ∧ j ≠ c := by
          by_cases hq : q = 0
          · rw [if_pos hq] at h4
            have := yPt_le hG (n + 1) j h3 h4
            omega
          · rw [if_neg hq] at h4
            have := yPt_le hG (n + 1) c hc h4
            omega
        refine ⟨j2 (n + 1) j hb.1 ⟨h3, h4⟩, ?_⟩
        rw [decide_eq_false hb.2]
        rfl
  · rw [bt_one (by omega) hj, decide_eq_true_iff] at hb
    refine ⟨0, by omega, ?_⟩
    subst hb
    split <;> rfl
  · have en : n = 0 := by omega
    subst en
    obtain ⟨h1, h2⟩ := hp
    have ej : j = c := by
      by_cases hq : q = 0
      · rw [if_pos hq] at h2
        exact h2
      · rw [if_neg hq] at h2
        exact Eq.symm h2
    rw [bt_one (by omega) (by omega), ej]
    simp
theorem b_tier (hX : XB g N xa oa n Z Ya Yh na ta cv la lh ra rh M T S) (hR : RB N M T σ) {q : Nat} (hc : c < (tC M).1) (hq : q ≤ 1) : ∃ S1 r, kX_X1_tier g N S xa (nI c) (nI q) = some (.inl (S1, r)) ∧ KS xa ta oa n S S1 ∧ ∃ σ1, kM_tier N σ (nI c) (nI q) = some (σ1, r) ∧ σ1.1 0 = 0 ∧ RFr σ σ1 := by
  have hN := hX.2.2.2.1
  have hs := hX.oc.spr
  have hV := hX.2.2.1.2.2.1.1.1
  have z0 : (m_put σ 0 0).1 0 = 0 := mp_s _ _ _
  have hR0 := hR.1.fr hR.2.1.1 (RFr.p0 σ 0)
  have z1 : (m_put σ 0 0).1 1 = nI (tC M).1 := hR0.1.1
  obtain ⟨x, q1, q2⟩ := r_tier (N := N) (s := m_put σ 0 0) hN hs.1 hV z1 hR0.2.1 hc hq
  have hm : kM_tier N σ (nI c) (nI q) = some (m_put σ 0 0, x) := by
    unfold kM_tier
    exact onb rfl (ob1 (r_isCup1 z0 z1 hs.1 hc) (oif n10 (ob1 (r_isWhat1 z0 (b := 1) rfl hq (by decide)) (oif n10 (onb rfl q1)))))
  have hq2 : q = 0 ∨ q = 1 := by omega
  rcases hq2 with rfl | rfl
  · obtain ⟨y, k1, k2⟩ := x_above hN hX.fw hV hc
    have e : y = x := b_ext2 (fun j hj => by
      rw [k2 j hj, q2 j hj]
      constructor
      · rintro ⟨h1, n, h2⟩
        exact ⟨n, h1, by rw [if_pos rfl]; exact h2⟩
      · rintro ⟨n, h1, h2⟩
        rw [if_pos rfl] at h2
        exact ⟨h1, n, h2⟩)
    refine ⟨S, x, ?_, KS.refl hX.wf.1, m_put σ 0 0, hm, z0, RFr.p0 σ 0⟩
    unfold kX_X1_tier
    refine ob1 (f_cls_T hX.1.2.1.1) (ot1 (hX.cup hc) (ot1 (x_oneOf1 (b := 1) rfl (by omega) (by decide)) (oit rfl (ob1 (f_cls_T hX.1.2.1.1) (ob1 k1 ?_)))))
    rw [e]
  · obtain ⟨y, k1, k2⟩ := x_below hN hX.fw hV hc
    have e : y = x := b_ext2 (fun j hj => by
      rw [k2 j hj, q2 j hj]
      constructor
      · rintro ⟨n, h2⟩
        have := yPt_le hV (n + 1) c hc h2
        exact ⟨n, this.2, by rw [if_neg (by decide)]; exact h2⟩
      · rintro ⟨n, h1, h2⟩
        rw [if_neg (by decide)] at h2
        exact ⟨n, h2⟩)
    refine ⟨S, x, ?_, KS.refl hX.wf.1, m_put σ 0 0, hm, z0, RFr.p0 σ 0⟩
    unfold kX_X1_tier
    refine ob1 (f_cls_T hX.1.2.1.1) (ot1 (hX.cup hc) (ot1 (x_oneOf1 (b := 1) rfl (by omega) (by decide)) (oif (by decide) (ob1 (f_cls_T hX.1.2.1.1) (ob1 k1 ?_)))))
    rw [e]
end OJ
theorem op_tier {g : XC} {N xa oa i : Nat} (hN : 2 ^ 20 < N) (hi : i ≤ 378) : St_tier (yRel g N xa oa i) (yRel g N xa oa (i + 6)) g N xa oa := by
  rintro a0 a1 n sl τ σ ⟨M, Z, Ya, Yh, na, ta, cv, la, lh, ra, rh, hB⟩
  have hB : yBody g N xa oa i n Z Ya Yh na ta cv la lh ra rh M τ σ := hB
  generalize hcc : n + 14000 = cc
  generalize hkk : sl + 97000 = kk
  obtain ⟨hO, hr, hQ, hfr, hS⟩ := y_open hB sl cc kk (by omega) (by omega)
  have hX := y_xb (sl := sl) (c := cc) (k := kk) hB hN hi (by omega) (by omega)
  have hRB := y_rb hB hN hi
  have z0 : (m_put σ 0 0).1 0 = 0 := mp_s _ _ _
  have z1 : (m_put σ 0 0).1 1 = nI (tC M).1 := (mp_n _ _ _ (by decide)).trans hRB.1.1.1
  have h9 := hRB.2.1.1
  have hw : ∀ a0 a1, kX_X0_tier (jg g cc kk) N ((n, sl, cc, kk), τ) xa a0 a1 oa = yW yH0 (kX_X1_tier (jg g cc kk) N ((n, sl, cc, kk), τ) xa a0 a1) oa := fun a0 a1 => ob1 (f_cls_T hQ.2.1.1) rfl
  rw [hw]
  rcases y_cup (tC M).1 (by omega) a0 with ⟨c0, h0, rfl⟩ | h0
  · -- fits
    rcases y_rng 0 1 (by decide) a1 with ⟨q1, -, h1, rfl⟩ | h1
    · -- fits
      obtain ⟨S1, r, hx, hks, hm⟩ := b_tier hX hRB h0 h1
      obtain ⟨σ1, hm1, hm2, hm3⟩ := hm
      exact fin_ok (c := cc) (k := kk) hB hx hks hm1 hm2 hm3
    · have hx : kX_X1_tier (jg g cc kk) N ((n, sl, cc, kk), τ) xa (nI c0) a1 = some (.inr (((n, sl, cc, kk), τ), 0, 0)) := by
        rw [← hS]
        unfold kX_X1_tier
        exact ob1 (oc_cls hO) (ot1 (oc_cup1 hO h0) (ot2 (x_oneOf0 hr h1)))
      have hm : kM_tier N σ (nI c0) a1 = some (m_put (m_put σ 0 0) 0 1, 0) := by
        unfold kM_tier
        exact onb rfl (ob1 (r_isCup1 z0 z1 h9 h0) (oif n10 (ob1 (r_isWhat0 z0 h1) (oit rfl rfl))))
      exact fin_thr (c := cc) (k := kk) hB hx rfl (KS.refl hQ.2.1.2.2.2.1) hm (mp_s _ _ _) (by decide) (RFr.p00 _ _ _)
  · have hx : kX_X1_tier (jg g cc kk) N ((n, sl, cc, kk), τ) xa a0 a1 = some (.inr (((n, sl, cc, kk), τ), 0, 0)) := by
      rw [← hS]
      unfold kX_X1_tier
      exact ob1 (oc_cls hO) (ot2 (oc_cup0 hO hr h0))
    have hm : kM_tier N σ a0 a1 = some (m_put (m_put σ 0 0) 0 1, 0) := by
      unfold kM_tier
      exact onb rfl (ob1 (r_isCup0 z0 z1 h0) (oit rfl rfl))
    exact fin_thr (c := cc) (k := kk) hB hx rfl (KS.refl hQ.2.1.2.2.2.1) hm (mp_s _ _ _) (by decide) (RFr.p00 _ _ _)
