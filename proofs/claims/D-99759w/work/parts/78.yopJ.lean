/-! plain law: ways, the deepest way -/
theorem ySum_swap (f : Nat → Nat → Int) (m : Nat) : ∀ n, ySum (fun i => ySum (fun j => f i j) m) n = ySum (fun j => ySum (fun i => f i j) n) m := by
  intro n
  induction n with
  | zero => exact (ySum_0 m).symm
  | succ n ih =>
    show ySum (fun i => ySum (fun j => f i j) m) n + ySum (fun j => f n j) m = ySum (fun j => ySum (fun i => f i j) n + f n j) m
    rw [ih, ySum_add]
theorem ySum_if (p : Bool) (f : Nat → Int) (n : Nat) : (if p = true then ySum f n else 0) = ySum (fun j => if p = true then f j else 0) n := by
  cases p
  · simp only [Bool.false_eq_true, if_false]
    exact (ySum_0 n).symm
  · simp only [if_true]
/-- how many ways of n pipes -/
def wA (C : CC) (V : MN) : Nat → Nat → Nat → Int
  | 0, a, b => if a = b then 1 else 0
  | n + 1, a, b => ySum (fun i => if yGo V a i = true then wA C V n i b else 0) C.1
theorem wA_s {C : CC} {V : MN} : ∀ (n a b : Nat), a < C.1 → b < C.1 → wA C V (n + 1) a b = ySum (fun i => if yGo V i b = true then wA C V n a i else 0) C.1 := by
  intro n
  induction n with
  | zero =>
    intro a b ha hb
    have e1 : wA C V 1 a b = if yGo V a b = true then 1 else 0 := by
      show ySum (fun i => if yGo V a i = true then (if i = b then (1 : Int) else 0) else 0) C.1 = _
      rw [ySum_one (i := b) hb, ySum_c (h := fun _ => 0) (fun k _ => by
        show (if k = b then 0 else if yGo V a k = true then (if k = b then (1 : Int) else 0) else 0) = 0
        by_cases e : k = b
        · rw [if_pos e]
        · rw [if_neg e, if_neg e]
          split <;> rfl), ySum_0, if_pos rfl]
      omega
    have e2 : ySum (fun i => if yGo V i b = true then wA C V 0 a i else 0) C.1 = if yGo V a b = true then 1 else 0 := by
      show ySum (fun i => if yGo V i b = true then (if a = i then (1 : Int) else 0) else 0) C.1 = _
      rw [ySum_one (i := a) ha, ySum_c (h := fun _ => 0) (fun k _ => by
        show (if k = a then 0 else if yGo V k b = true then (if a = k then (1 : Int) else 0) else 0) = 0
        by_cases e : k = a
        · rw [if_pos e]
        · rw [if_neg e, if_neg (show ¬ a = k from fun z => e z.symm)]
          split <;> rfl), ySum_0, if_pos rfl]
      omega
    rw [e1, e2]
  | succ n ih =>
    intro a b ha hb
    have e1 : wA C V (n + 2) a b = ySum (fun i => ySum (fun j => if yGo V a i = true then (if yGo V j b = true then wA C V n i j else 0) else 0) C.1) C.1 := by
      show ySum (fun i => if yGo V a i = true then wA C V (n + 1) i b else 0) C.1 = _
      refine ySum_c (fun i hi => ?_)
      rw [ih i b hi hb, ySum_if]
    have e2 : ySum (fun j => if yGo V j b = true then wA C V (n + 1) a j else 0) C.1 = ySum (fun j => ySum (fun i => if yGo V a i = true then (if yGo V j b = true then wA C V n i j else 0) else 0) C.1) C.1 := by
      refine ySum_c (fun j hj => ?_)
      show (if yGo V j b = true then ySum (fun i => if yGo V a i = true then wA C V n i j else 0) C.1 else 0) = _
      rw [ySum_if]
      refine ySum_c (fun i _ => ?_)
      show (if yGo V j b = true then (if yGo V a i = true then wA C V n i j else 0) else 0) = (if yGo V a i = true then (if yGo V j b = true then wA C V n i j else 0) else 0)
      split <;> split <;> rfl
    rw [e1, e2, ySum_swap]
theorem wA_0 {C : CC} {V : MN} {T : Int} (hG : YG C V T) : ∀ (n a b : Nat), a < C.1 → b < a + n → wA C V n a b = 0 := by
  intro n
  induction n with
  | zero =>
    intro a b ha hb
    show (if a = b then (1 : Int) else 0) = 0
    rw [if_neg (by omega)]
  | succ n ih =>
    intro a b ha hb
    show ySum (fun i => if yGo V a i = true then wA C V n i b else 0) C.1 = 0
    rw [ySum_c (h := fun _ => 0) (fun i hi => ?_), ySum_0]
    show (if yGo V a i = true then wA C V n i b else 0) = 0
    by_cases h : yGo V a i = true
    · have := yGo_lt (hG a ha) h
      rw [if_pos h, ih i b hi (by omega)]
    · rw [if_neg h]
/-- the component's count -/
def wC (C : CC) (V : MN) : Nat → Nat → Nat → Int
  | 0, _, _ => 0
  | d + 1, a, b => if a = b then 1 else ySum (fun i => if yGo V a i = true then wC C V d i b else 0) C.1
def wT (C : CC) (V : MN) (D a b : Nat) : Int := ySum (fun n => wA C V n a b) D
theorem ySum_h (f : Nat → Int) : ∀ n, ySum f (n + 1) = f 0 + ySum (fun k => f (k + 1)) n := by
  intro n
  induction n with
  | zero => show (0 : Int) + f 0 = f 0 + 0; omega
  | succ n ih =>
    show ySum f (n + 1) + f (n + 1) = f 0 + (ySum (fun k => f (k + 1)) n + f (n + 1))
    rw [ih]
    omega
theorem wT_c {C : CC} {V : MN} (D a b : Nat) : wT C V (D + 1) a b = (if a = b then 1 else 0) + ySum (fun i => if yGo V a i = true then wT C V D i b else 0) C.1 := by
  unfold wT
  rw [ySum_h]
  show (if a = b then (1 : Int) else 0) + ySum (fun n => ySum (fun i => if yGo V a i = true then wA C V n i b else 0) C.1) D = _
  rw [ySum_swap]
  congr 1
  refine ySum_c (fun i _ => ?_)
  rw [ySum_if]
theorem wT_s {C : CC} {V : MN} (D a b : Nat) (ha : a < C.1) (hb : b < C.1) : wT C V (D + 1) a b = (if a = b then 1 else 0) + ySum (fun i => if yGo V i b = true then wT C V D a i else 0) C.1 := by
  unfold wT
  rw [ySum_h]
  have e : ySum (fun n => wA C V (n + 1) a b) D = ySum (fun n => ySum (fun i => if yGo V i b = true then wA C V n a i else 0) C.1) D := ySum_c (fun n _ => wA_s n a b ha hb)
  rw [e, ySum_swap]
  show (if a = b then (1 : Int) else 0) + _ = _
  congr 1
  refine ySum_c (fun i _ => ?_)
  rw [ySum_if]
theorem wC_T {C : CC} {V : MN} {T : Int} (hG : YG C V T) : ∀ (D a b : Nat), a < C.1 → wC C V D a b = wT C V D a b := by
  intro D
  induction D with
  | zero => intro a b _; rfl
  | succ D ih =>
    intro a b ha
    rw [wT_c]
    show (if a = b then 1 else ySum (fun i => if yGo V a i = true then wC C V D i b else 0) C.1) = _
    have e : ySum (fun i => if yGo V a i = true then wC C V D i b else 0) C.1 = ySum (fun i => if yGo V a i = true then wT C V D i b else 0) C.1 := ySum_c (fun i hi => by
      show (if yGo V a i = true then wC C V D i b else 0) = (if yGo V a i = true then wT C V D i b else 0)
      rw [ih i b hi])
    by_cases h : a = b
    · rw [if_pos h, if_pos h, ySum_c (h := fun _ => 0) (fun i hi => ?_), ySum_0]
      · omega
      · show (if yGo V a i = true then wT C V D i b else 0) = 0
        by_cases h2 : yGo V a i = true
        · have h3 := yGo_lt (hG a ha) h2
          rw [if_pos h2]
          unfold wT
          rw [ySum_c (h := fun _ => 0) (fun n _ => wA_0 hG n i b hi (by omega)), ySum_0]
        · rw [if_neg h2]
    · rw [if_neg h, if_neg h, e]
      omega
/-- the reference's count of ways from c -/
def wP (V : MN) (c : Nat) : Nat → Nat → Int
  | 0 => fun _ => 0
  | k + 1 => fun j => if j = k then (if k = c then 1 else 0) + ySum (fun g => if yGo V g k = true then wP V c k g else 0) k else wP V c k j
def wF (V : MN) (c k : Nat) : Int := wP V c (k + 1) k
theorem wP_lt (V : MN) (c j : Nat) : ∀ k, wP V c k j = if j < k then wF V c j else 0 := by
  intro k
  induction k with
  | zero => rw [if_neg (by omega)]; rfl
  | succ k ih =>
    by_cases e : j = k
    · subst e
      rw [if_pos (by omega)]
      rfl
    · show (if j = k then _ else wP V c k j) = _
      rw [if_neg e, ih]
      by_cases e2 : j < k
      · rw [if_pos e2, if_pos (by omega)]
      · rw [if_neg e2, if_neg (by omega)]
theorem wF_eq (V : MN) (c k : Nat) : wF V c k = (if k = c then 1 else 0) + ySum (fun g => if yGo V g k = true then wF V c g else 0) k := by
  show (if k = k then (if k = c then 1 else 0) + ySum (fun g => if yGo V g k = true then wP V c k g else 0) k else wP V c k k) = _
  rw [if_pos rfl]
  congr 1
  refine ySum_c (fun g hg => ?_)
  show (if yGo V g k = true then wP V c k g else 0) = _
  rw [wP_lt, if_pos hg]
theorem ySum_ext {f : Nat → Int} {k m : Nat} (h : k ≤ m) (h0 : ∀ i, k ≤ i → i < m → f i = 0) : ySum f m = ySum f k := by
  induction m with
  | zero =>
    have : k = 0 := by omega
    rw [this]
  | succ m ih =>
    by_cases e : k = m + 1
    · rw [e]
    · show ySum f m + f m = _
      rw [ih (by omega) (fun i h1 h2 => h0 i h1 (by omega)), h0 m (by omega) (by omega)]
      omega
theorem wF_T {C : CC} {V : MN} {T : Int} (hG : YG C V T) {c : Nat} (hc : c < C.1) : ∀ (m b D : Nat), b < m → b < C.1 → b < D → wT C V D c b = wF V c b := by
  intro m
  induction m with
  | zero => intro b D h; omega
  | succ m ih =>
    intro b D h1 h2 h3
    obtain ⟨D, rfl⟩ : ∃ D', D = D' + 1 := ⟨D - 1, by omega⟩
    rw [wT_s D c b hc h2, wF_eq]
    have e1 : (if c = b then (1 : Int) else 0) = if b = c then 1 else 0 := by
      by_cases e : c = b
      · rw [if_pos e, if_pos e.symm]
      · rw [if_neg e, if_neg (fun z => e z.symm)]
    rw [e1, ySum_ext (k := b) (m := C.1) (by omega) (fun i i1 i2 => ?_)]
    · congr 1
      refine ySum_c (fun g hg => ?_)
      show (if yGo V g b = true then wT C V D c g else 0) = if yGo V g b = true then wF V c g else 0
      rw [ih g D (by omega) (by omega) (by omega)]
    · by_cases h : yGo V i b = true
      · have := yGo_lt (hG i i2) h
        omega
      · exact if_neg h
/-! the deepest way -/
def yMx (h : Nat → Int) : Nat → Int
  | 0 => 0
  | n + 1 => if yMx h n < h n then h n else yMx h n
theorem yMx_c {f h : Nat → Int} {n : Nat} (e : ∀ k, k < n → f k = h k) : yMx f n = yMx h n := by
  induction n with
  | zero => rfl
  | succ n ih =>
    show (if yMx f n < f n then f n else yMx f n) = if yMx h n < h n then h n else yMx h n
    rw [ih (fun k hk => e k (by omega)), e n (by omega)]
theorem yMx_b {h : Nat → Int} {B : Int} (hB : 0 ≤ B) {n : Nat} (e : ∀ k, k < n → h k ≤ B) : 0 ≤ yMx h n ∧ yMx h n ≤ B := by
  induction n with
  | zero => exact ⟨Int.le_refl _, hB⟩
  | succ n ih =>
    have h1 := ih (fun k hk => e k (by omega))
    have h2 := e n (by omega)
    show 0 ≤ (if yMx h n < h n then h n else yMx h n) ∧ (if yMx h n < h n then h n else yMx h n) ≤ B
    split <;> omega
theorem yMx_z {h : Nat → Int} {k n : Nat} (hk : k ≤ n) (e : ∀ i, i < k → h i = 0) : yMx h k = 0 := by
  induction k with
  | zero => rfl
  | succ k ih =>
    show (if yMx h k < h k then h k else yMx h k) = 0
    rw [ih (by omega) (fun i hi => e i (by omega)), e k (by omega)]
    rfl
def dC (C : CC) (V : MN) : Nat → Nat → Int
  | 0, _ => 0
  | f + 1, a => yMx (fun i => if yGo V a i = true then 1 + dC C V f i else 0) C.1
theorem dC_b (C : CC) (V : MN) : ∀ (f a : Nat), 0 ≤ dC C V f a ∧ dC C V f a ≤ f := by
  intro f
  induction f with
  | zero => intro a; exact ⟨Int.le_refl _, Int.le_refl _⟩
  | succ f ih =>
    intro a
    refine yMx_b (by omega) (fun k _ => ?_)
    have := ih k
    show (if yGo V a k = true then 1 + dC C V f k else 0) ≤ _
    split <;> omega
theorem dC_e {C : CC} {V : MN} {T : Int} (hG : YG C V T) : ∀ (f f2 a : Nat), a < C.1 → C.1 - a ≤ f → C.1 - a ≤ f2 → dC C V f a = dC C V f2 a := by
  intro f
  induction f with
  | zero => intro f2 a ha h1; omega
  | succ f ih =>
    intro f2 a ha h1 h2
    obtain ⟨f2, rfl⟩ : ∃ f', f2 = f' + 1 := ⟨f2 - 1, by omega⟩
    refine yMx_c (fun i hi => ?_)
    show (if yGo V a i = true then 1 + dC C V f i else 0) = if yGo V a i = true then 1 + dC C V f2 i else 0
    by_cases h : yGo V a i = true
    · have := yGo_lt (hG a ha) h
      rw [if_pos h, if_pos h, ih f2 i hi (by omega) (by omega)]
    · rw [if_neg h, if_neg h]
section OK
variable {g : XC} {N xa oa n : Nat} {Z Ya Yh : Nat → Prop} {na ta cv la lh : Nat} {ra rh : List Nat} {M : MT} {T : Int} {S S1 : XS} {σ s : MS} {C : CC} {V m : MN} {w : Nat → Int32} {c k : Nat}
theorem x_ways (hN : 2 ^ 20 < N) (hF : FW g Z S xa na C V) (hG : YG C V T) {b : Nat} (hb : b < C.1) : ∀ (D a : Nat), a < C.1 → C.1 - a ≤ D → kR_X1_waysTo g N D S xa (nI a) (nI b) = some (S, iI (wC C V D a b)) := by
  have h9 := hF.le9
  intro D
  induction D with
  | zero => intro a h1 h2; omega
  | succ D ih =>
    intro a ha hD
    show kX_X1_waysTo g N (kR_X1_waysTo g N D) S xa (nI a) (nI b) = _
    unfold kX_X1_waysTo
    have eab : nI a = nI b ↔ a = b := nI_eq (by omega) (by omega)
    by_cases e : a = b
    · refine oit (eab.mpr e) ?_
      show some (S, (1 : Int32)) = some (S, iI (if a = b then 1 else _))
      rw [if_pos e]
      rfl
    · refine oif (fun z => e (eab.mp z)) (onb (nI_1 a) ?_)
      have eW : wC C V (D + 1) a b = ySum (fun i => if yGo V a i = true then wC C V D i b else 0) C.1 := if_neg e
      rw [eW]
      generalize hf : (fun i => if yGo V a i = true then wC C V D i b else 0) = f
      have hf1 : ∀ i, f i = if yGo V a i = true then wC C V D i b else 0 := fun i => by rw [← hf]
      have e0 : ySum f (a + 1) = 0 := by
        rw [ySum_c (h := fun _ => 0) (fun i hi => ?_), ySum_0]
        rw [hf1]
        refine if_neg (fun z => ?_)
        have := yGo_lt (hG a ha) z
        omega
      refine y_loop (fun q (x : Int) i => kX_X1_waysTo_14 g N (kR_X1_waysTo g N D) q S xa (nI a) (nI b) (iI x) (nI i)) C.1 (fun x i => a < i ∧ x = ySum f i) (fun r => r = some (S, iI (ySum f C.1))) ?_ ?_ (C.1 - (a + 1)) N 0 (a + 1) (by omega) (by omega) ⟨by omega, e0.symm⟩
      · rintro q x i hi ⟨h1, rfl⟩
        right
        refine ⟨ySum f (i + 1), ?_, by omega, rfl⟩
        show kX_X1_waysTo_14 g N (kR_X1_waysTo g N D) (q + 1) S xa (nI a) (nI b) (iI (ySum f i)) (nI i) = kX_X1_waysTo_14 g N (kR_X1_waysTo g N D) q S xa (nI a) (nI b) (iI (ySum f i + f i)) (nI (i + 1))
        rw [kX_X1_waysTo_14]
        refine hF.cups1 (oif (nI_ge hi (by omega)) (ob1 (f_cls_T hF.2.1.1.1) (ob1 (x_straight hN hF ha (hG a ha)) ?_)))
        rw [hof2 (by omega), yStr_bt h9 (hG a ha) (by omega)]
        unfold kX_X1_waysTo_49
        rw [nI_1]
        by_cases h : yGo V a i = true
        · rw [if_pos h, hf1, if_pos h]
          refine ob1 (f_cls_T hF.2.1.1.1) (ob1 (ih i hi (by omega)) (onb (iI_add _ _) rfl))
        · rw [if_neg h, hf1, if_neg h, Int.add_zero]
      · rintro q x ⟨h1, rfl⟩
        show kX_X1_waysTo_14 g N (kR_X1_waysTo g N D) (q + 1) S xa (nI a) (nI b) (iI (ySum f C.1)) (nI C.1) = _
        rw [kX_X1_waysTo_14]
        exact hF.cups1 (oit (nI_le (Nat.le_refl _) (by omega)) rfl)
theorem x_deep (hN : 2 ^ 20 < N) (hF : FW g Z S xa na C V) (hG : YG C V T) : ∀ (D a : Nat), D ≤ 20 → a < C.1 → C.1 - a ≤ D → kR_X1_deep g N D S xa (nI a) = some (S, iI (dC C V D a)) := by
  have h9 := hF.le9
  intro D
  induction D with
  | zero => intro a _ h1 h2; omega
  | succ D ih =>
    intro a hD20 ha hD
    show kX_X1_deep g N (kR_X1_deep g N D) S xa (nI a) = _
    unfold kX_X1_deep
    refine onb (nI_1 a) ?_
    have eW : dC C V (D + 1) a = yMx (fun i => if yGo V a i = true then 1 + dC C V D i else 0) C.1 := rfl
    rw [eW]
    generalize hf : (fun i => if yGo V a i = true then 1 + dC C V D i else 0) = f
    have hf1 : ∀ i, f i = if yGo V a i = true then 1 + dC C V D i else 0 := fun i => by rw [← hf]
    have hfb : ∀ i, f i ≤ 30 := fun i => by
      rw [hf1]
      have := dC_b C V D i
      split <;> omega
    have e0 : yMx f (a + 1) = 0 := yMx_z (Nat.le_refl _) (fun i hi => by
      rw [hf1]
      refine if_neg (fun z => ?_)
      have := yGo_lt (hG a ha) z
      omega)
    refine y_loop (fun q (x : Int) i => kX_X1_deep_6 g N (kR_X1_deep g N D) q S xa (nI a) (iI x) (nI i)) C.1 (fun x i => a < i ∧ x = yMx f i) (fun r => r = some (S, iI (yMx f C.1))) ?_ ?_ (C.1 - (a + 1)) N 0 (a + 1) (by omega) (by omega) ⟨by omega, e0.symm⟩
    · rintro q x i hi ⟨h1, rfl⟩
      right
      refine ⟨yMx f (i + 1), ?_, by omega, rfl⟩
      have hxb := yMx_b (h := f) (B := 30) (by omega) (n := i) (fun k _ => hfb k)
      show kX_X1_deep_6 g N (kR_X1_deep g N D) (q + 1) S xa (nI a) (iI (yMx f i)) (nI i) = kX_X1_deep_6 g N (kR_X1_deep g N D) q S xa (nI a) (iI (if yMx f i < f i then f i else yMx f i)) (nI (i + 1))
      rw [kX_X1_deep_6]
      refine hF.cups1 (oif (nI_ge hi (by omega)) (ob1 (f_cls_T hF.2.1.1.1) (ob1 (x_straight hN hF ha (hG a ha)) ?_)))
      rw [hof2 (by omega), yStr_bt h9 (hG a ha) (by omega)]
      unfold kX_X1_deep_41
      rw [nI_1]
      by_cases h : yGo V a i = true
      · have hi2 : f i = 1 + dC C V D i := by rw [hf1, if_pos h]
        rw [if_pos h]
        have hbi := dC_b C V D i
        refine ob1 (f_cls_T hF.2.1.1.1) (ob1 (ih i (by omega) hi (by omega)) (onb ?_ rfl))
        rw [show (1 : Int32) = iI 1 from rfl, iI_add, ← hi2]
        have e : iI (yMx f i) < iI (f i) ↔ yMx f i < f i := iI_lt ⟨by omega, by omega⟩ ⟨by omega, by omega⟩
        by_cases z : yMx f i < f i
        · rw [if_pos (e.mpr z), if_pos z]
        · rw [if_neg (fun y => z (e.mp y)), if_neg z]
      · have hi2 : f i = 0 := by rw [hf1, if_neg h]
        rw [if_neg h, hi2, if_neg (by omega)]
    · rintro q x ⟨h1, rfl⟩
      show kX_X1_deep_6 g N (kR_X1_deep g N D) (q + 1) S xa (nI a) (iI (yMx f C.1)) (nI C.1) = _
      rw [kX_X1_deep_6]
      exact hF.cups1 (oit (nI_le (Nat.le_refl _) (by omega)) rfl)
theorem r_ways (hN : 2 ^ 20 < N) (h9 : C.1 ≤ 9) (hG : YG C V T) (hC1 : s.1 1 = nI C.1) (hR : RowR (s.2.2 31) 0 C V) (hc : c < C.1) {o : Nat} (ho : o < C.1) : ∃ s1, kM_ways_25 N N s (nI c) (nI o) 0 = some (s1, iI (wF V c o)) ∧ RK [] [48] s s1 := by
  refine y_loop (fun f (t : MS) d => kM_ways_25 N f t (nI c) (nI o) (nI d)) C.1 (fun t d => RK [] [48] s t ∧ ∀ j, j < d → t.2.2 48 j = iI (wF V c j)) (fun r => ∃ s1, r = some (s1, iI (wF V c o)) ∧ RK [] [48] s s1) ?_ ?_ C.1 N s 0 (by omega) (by omega) ⟨⟨fun _ _ => rfl, fun _ _ => rfl⟩, fun j hj => by omega⟩
  · rintro f t d hd ⟨p1, p2⟩
    right
    have h1t : t.1 1 = nI C.1 := (p1.1 1 (by simp)).trans hC1
    have h48 : ∀ v : Int, v = (if d = c then 1 else 0) → ∃ s1, kM_ways_48 N (kM_ways_25 N f) t (nI c) (nI o) (nI d) (nI d) (iI v) = kM_ways_25 N f s1 (nI c) (nI o) (nI (d + 1)) ∧ RK [] [48] s s1 ∧ ∀ j, j < d + 1 → s1.2.2 48 j = iI (wF V c j) := fun v hv => by
      unfold kM_ways_48
      have hst : m_st t 48 (nI d) (iI v) = some (rS t 48 d (iI v)) := r_st (q := d) rfl (by show d < 9; omega)
      rw [hst]
      show ∃ s1, kM_ways_52 N (kM_ways_25 N f) N (rS t 48 d (iI v)) (nI c) (nI o) (nI d) 0 = _ ∧ _
      refine y_loop (fun q (u : MS) gg => kM_ways_52 N (kM_ways_25 N f) q u (nI c) (nI o) (nI d) (nI gg)) d (fun u gg => gg ≤ d ∧ RK [] [48] s u ∧ (∀ j, j < d → u.2.2 48 j = iI (wF V c j)) ∧ u.2.2 48 d = iI (v + ySum (fun i => if yGo V i d = true then wF V c i else 0) gg)) (fun r => ∃ s1, r = kM_ways_25 N f s1 (nI c) (nI o) (nI (d + 1)) ∧ RK [] [48] s s1 ∧ ∀ j, j < d + 1 → s1.2.2 48 j = iI (wF V c j)) ?_ ?_ d N (rS t 48 d (iI v)) 0 (by omega) (by omega) ⟨by omega, p1.trans (J1 := []) (K1 := [48]) ⟨fun _ _ => rfl, fun j hj => rS_ne _ _ _ _ (fun z => hj (by simp [z]))⟩ (fun _ z => z) (fun _ z => z), fun j hj => by rw [rS_get, if_neg (by omega)]; exact p2 j hj, ?_⟩
      · rintro q u gg hg ⟨-, u1, u2, u3⟩
        right
        have hRu : RowR (u.2.2 31) 0 C V := by rw [u1.2 31 (by decide)]; exact hR
        refine ⟨rS u 48 d (iI (v + ySum (fun i => if yGo V i d = true then wF V c i else 0) (gg + 1))), ?_, by omega, u1.trans (J1 := []) (K1 := [48]) ⟨fun _ _ => rfl, fun j hj => rS_ne _ _ _ _ (fun z => hj (by simp [z]))⟩ (fun _ z => z) (fun _ z => z), fun j hj => by rw [rS_get, if_neg (by omega)]; exact u2 j hj, by rw [rS_get, if_pos ⟨rfl, rfl⟩]⟩
        show kM_ways_52 N (kM_ways_25 N f) (q + 1) u (nI c) (nI o) (nI d) (nI gg) = _
        rw [kM_ways_52]
        refine oif (nI_ge hg (by omega)) (ob1 (r_ld (q := d) rfl (by show d < 9; omega)) (ob1 (r_goes h9 hRu (by omega) (hG gg (by omega)) (by omega)) ?_))
        have e : v + ySum (fun i => if yGo V i d = true then wF V c i else 0) (gg + 1) = v + ySum (fun i => if yGo V i d = true then wF V c i else 0) gg + (if yGo V gg d = true then wF V c gg else 0) := (Int.add_assoc _ _ _).symm
        rw [u3, e]
        unfold kM_ways_86
        by_cases h : yGo V gg d = true
        · rw [if_pos h, if_pos h]
          refine oif n10 (ob1 (r_ld (q := gg) rfl (by show gg < 9; omega)) ?_)
          rw [u2 gg hg, iI_add]
          refine ob1 (r_st (q := d) rfl (by show d < 9; omega)) ?_
          rw [nI_1]
        · rw [if_neg h, if_neg h]
          refine oit rfl ?_
          rw [show (0 : Int32) = iI 0 from rfl, iI_add]
          refine ob1 (r_st (q := d) rfl (by show d < 9; omega)) ?_
          rw [nI_1]
      · rintro q u ⟨-, u1, u2, u3⟩
        refine ⟨u, ?_, u1, fun j hj => ?_⟩
        · show kM_ways_52 N (kM_ways_25 N f) (q + 1) u (nI c) (nI o) (nI d) (nI d) = _
          rw [kM_ways_52]
          refine oit (nI_le (Nat.le_refl _) (by omega)) ?_
          rw [nI_1]
        · by_cases e : j = d
          · rw [e, u3, wF_eq, hv]
          · exact u2 j (by omega)
      · rw [rS_get, if_pos ⟨rfl, rfl⟩]
        have : ySum (fun i => if yGo V i d = true then wF V c i else 0) 0 = 0 := rfl
        rw [this, Int.add_zero]
    have edc : nI d = nI c ↔ d = c := nI_eq (by omega) (by omega)
    by_cases e : d = c
    · obtain ⟨s1, k1, k2, k3⟩ := h48 1 (by rw [if_pos e])
      refine ⟨s1, ?_, k2, k3⟩
      show kM_ways_25 N (f + 1) t (nI c) (nI o) (nI d) = _
      rw [kM_ways_25]
      exact oif (by rw [h1t]; exact nI_ge hd (by omega)) (oit (edc.mpr e) k1)
    · obtain ⟨s1, k1, k2, k3⟩ := h48 0 (by rw [if_neg e])
      refine ⟨s1, ?_, k2, k3⟩
      show kM_ways_25 N (f + 1) t (nI c) (nI o) (nI d) = _
      rw [kM_ways_25]
      exact oif (by rw [h1t]; exact nI_ge hd (by omega)) (oif (fun z => e (edc.mp z)) k1)
  · rintro f t ⟨p1, p2⟩
    have h1t : t.1 1 = nI C.1 := (p1.1 1 (by simp)).trans hC1
    refine ⟨t, ?_, p1⟩
    show kM_ways_25 N (f + 1) t (nI c) (nI o) (nI C.1) = _
    rw [kM_ways_25]
    refine oit (by rw [h1t]; exact nI_le (Nat.le_refl _) (by omega)) (ob1 (r_ld (q := o) rfl (by show o < 9; omega)) ?_)
    rw [p2 o ho]
theorem b_ways (hX : XB g N xa oa n Z Ya Yh na ta cv la lh ra rh M T S) (hR : RB N M T σ) {o : Nat} (hc : c < (tC M).1) (ho : o < (tC M).1) : ∃ S1 r, kX_X1_ways g N S xa (nI c) (nI o) = some (.inl (S1, r)) ∧ KS xa ta oa n S S1 ∧ ∃ σ1, kM_ways N σ (nI c) (nI o) = some (σ1, r) ∧ σ1.1 0 = 0 ∧ RFr σ σ1 := by
  have hN := hX.2.2.2.1
  have hs := hX.oc.spr
  have hV := hX.2.2.1.2.2.1.1.1
  have z0 : (m_put σ 0 0).1 0 = 0 := mp_s _ _ _
  have hR0 := hR.1.fr hR.2.1.1 (RFr.p0 σ 0)
  have z1 : (m_put σ 0 0).1 1 = nI (tC M).1 := hR0.1.1
  obtain ⟨s1, q1, q2⟩ := r_ways (N := N) (s := m_put σ 0 0) hN hs.1 hV z1 hR0.2.1 hc ho
  have k1 := x_ways hN hX.fw hV ho 12 c hc (by omega)
  rw [wC_T hV 12 c o hc, wF_T hV hc 12 o 12 (by omega) ho (by omega)] at k1
  refine ⟨S, iI (wF (tV M) c o), ?_, KS.refl hX.wf.1, s1, ?_, (q2.1 0 (by simp)).trans z0, (RFr.p0 σ 0).trans (RFr.rk q2 (fun j hj => by simp at hj) (fun j hj => by simp at hj ⊢; omega))⟩
  · unfold kX_X1_ways kD_X1_waysTo
    exact ob1 (f_cls_T hX.1.2.1.1) (ot1 (hX.cup hc) (ob1 (f_cls_T hX.1.2.1.1) (ot1 (hX.cup ho) (ob1 (f_cls_T hX.1.2.1.1) (ob1 k1 rfl)))))
  · unfold kM_ways
    exact onb rfl (ob1 (r_isCup1 z0 z1 hs.1 hc) (oif n10 (ob1 (r_isCup1 z0 z1 hs.1 ho) (oif n10 q1))))
/-- the reference's table of the deepest ways -/
theorem r_deep (hN : 2 ^ 20 < N) (h9 : C.1 ≤ 9) (hG : YG C V T) (hC1 : s.1 1 = nI C.1) (hR : RowR (s.2.2 31) 0 C V) (hc : c < C.1) : ∃ s1, kM_deep N s (nI c) = some (s1, iI (dC C V 12 c)) ∧ RK [] [41] s s1 := by
  unfold kM_deep
  obtain ⟨d0, hd0⟩ : ∃ d, C.1 = d + 1 := ⟨C.1 - 1, by omega⟩
  have e0 : s.1 1 - 1 = iI ((C.1 : Int) - 1 - ((0 : Nat) : Int)) := by
    rw [hC1, iI_nI, show (1 : Int32) = iI 1 from rfl, iI_sub]
    congr 1
    omega
  show ∃ s1, bnd (s.1 1 - 1) (fun v1 => kM_deep_7 N N s (nI c) v1) = _ ∧ _
  rw [e0]
  show ∃ s1, kM_deep_7 N N s (nI c) (iI ((C.1 : Int) - 1 - ((0 : Nat) : Int))) = _ ∧ _
  refine y_loop (fun f (t : MS) i => kM_deep_7 N f t (nI c) (iI ((C.1 : Int) - 1 - (i : Int)))) C.1 (fun t i => i ≤ C.1 ∧ RK [] [41] s t ∧ ∀ j, C.1 - i ≤ j → j < C.1 → t.2.2 41 j = iI (dC C V 12 j)) (fun r => ∃ s1, r = some (s1, iI (dC C V 12 c)) ∧ RK [] [41] s s1) ?_ ?_ C.1 N s 0 (by omega) (by omega) ⟨by omega, ⟨fun _ _ => rfl, fun _ _ => rfl⟩, fun j h1 h2 => by omega⟩
  · rintro f t i hi ⟨-, p1, p2⟩
    right
    obtain ⟨k, hk⟩ : ∃ k, k = C.1 - 1 - i := ⟨_, rfl⟩
    have hkC : k < C.1 := by omega
    have ek : iI ((C.1 : Int) - 1 - (i : Int)) = nI k := by
      rw [iI_nI]
      congr 1
      omega
    have h1t : t.1 1 = nI C.1 := (p1.1 1 (by simp)).trans hC1
    have eW : dC C V 12 k = yMx (fun i => if yGo V k i = true then 1 + dC C V 12 i else 0) C.1 := by
      show yMx (fun i => if yGo V k i = true then 1 + dC C V 11 i else 0) C.1 = _
      refine yMx_c (fun j hj => ?_)
      show (if yGo V k j = true then 1 + dC C V 11 j else 0) = (if yGo V k j = true then 1 + dC C V 12 j else 0)
      rw [dC_e hG 11 12 j hj (by omega) (by omega)]
    generalize hh : (fun i => if yGo V k i = true then 1 + dC C V 12 i else 0) = h at eW
    have hh1 : ∀ i, h i = if yGo V k i = true then 1 + dC C V 12 i else 0 := fun i => by rw [← hh]
    have hhb : ∀ i, h i ≤ 30 := fun i => by
      rw [hh1]
      have := dC_b C V 12 i
      split <;> omega
    have z0 : yMx h (k + 1) = 0 := yMx_z (Nat.le_refl _) (fun i hi => by
      rw [hh1]
      refine if_neg (fun z => ?_)
      have := yGo_lt (hG k hkC) z
      omega)
    have key : ∃ s1, kM_deep_22 N (kM_deep_7 N f) N (rS t 41 k 0) (nI c) (nI k) (nI (k + 1)) = kM_deep_7 N f s1 (nI c) (nI k + (-1)) ∧ RK [] [41] s s1 ∧ ∀ j, k ≤ j → j < C.1 → s1.2.2 41 j = iI (dC C V 12 j) := by
      refine y_loop (fun q (u : MS) d => kM_deep_22 N (kM_deep_7 N f) q u (nI c) (nI k) (nI d)) C.1 (fun u d => k < d ∧ RK [] [41] s u ∧ (∀ j, k < j → j < C.1 → u.2.2 41 j = iI (dC C V 12 j)) ∧ u.2.2 41 k = iI (yMx h d)) (fun r => ∃ s1, r = kM_deep_7 N f s1 (nI c) (nI k + (-1)) ∧ RK [] [41] s s1 ∧ ∀ j, k ≤ j → j < C.1 → s1.2.2 41 j = iI (dC C V 12 j)) ?_ ?_ (C.1 - (k + 1)) N (rS t 41 k 0) (k + 1) (by omega) (by omega) ⟨by omega, p1.trans (J1 := []) (K1 := [41]) ⟨fun _ _ => rfl, fun j hj => rS_ne _ _ _ _ (fun z => hj (by simp [z]))⟩ (fun _ z => z) (fun _ z => z), fun j h1 h2 => by rw [rS_get, if_neg (by omega)]; exact p2 j (by omega) h2, by rw [rS_get, if_pos ⟨rfl, rfl⟩, z0]; rfl⟩
      · rintro q u d hd ⟨g1, u1, u2, u3⟩
        right
        have hRu : RowR (u.2.2 31) 0 C V := by rw [u1.2 31 (by decide)]; exact hR
        have h1u : u.1 1 = nI C.1 := (u1.1 1 (by simp)).trans hC1
        have hxb := yMx_b (h := h) (B := 30) (by omega) (n := d) (fun k _ => hhb k)
        have hgs := r_goes (N := N) h9 hRu hkC (hG k hkC) (show d < 9 by omega)
        by_cases hgo : yGo V k d = true
        · have hd2 : h d = 1 + dC C V 12 d := by rw [hh1, if_pos hgo]
          have hbd := dC_b C V 12 d
          refine ⟨rS u 41 k (iI (yMx h (d + 1))), ?_, by omega, u1.trans (J1 := []) (K1 := [41]) ⟨fun _ _ => rfl, fun j hj => rS_ne _ _ _ _ (fun z => hj (by simp [z]))⟩ (fun _ z => z) (fun _ z => z), fun j h1 h2 => by rw [rS_get, if_neg (by omega)]; exact u2 j h1 h2, by rw [rS_get, if_pos ⟨rfl, rfl⟩]⟩
          show kM_deep_22 N (kM_deep_7 N f) (q + 1) u (nI c) (nI k) (nI d) = _
          rw [kM_deep_22]
          refine oif (by rw [h1u]; exact nI_ge hd (by omega)) (ob1 hgs ?_)
          rw [if_pos hgo]
          refine oif n10 (ob1 (r_ld (q := k) rfl (by show k < 9; omega)) (ob1 (r_ld (q := d) rfl (by show d < 9; omega)) (ob1 (v := iI (yMx h (d + 1))) ?_ (ob1 (r_st (q := k) rfl (by show k < 9; omega)) ?_))))
          · rw [u3, u2 d g1 hd, show (1 : Int32) = iI 1 from rfl, iI_add, ← hd2]
            unfold kM_greater
            show _ = some (iI (if yMx h d < h d then h d else yMx h d))
            have e : iI (yMx h d) ≤ iI (h d) ↔ yMx h d ≤ h d := iI_le ⟨by omega, by omega⟩ ⟨by omega, by omega⟩
            by_cases z : yMx h d ≤ h d
            · rw [if_pos (e.mpr z)]
              by_cases z2 : yMx h d < h d
              · rw [if_pos z2]
              · rw [if_neg z2]
                congr 2
                omega
            · rw [if_neg (fun y => z (e.mp y)), if_neg (by omega)]
          · unfold kM_deep_62
            rw [nI_1]
        · have hd2 : h d = 0 := by rw [hh1, if_neg hgo]
          have e2 : yMx h (d + 1) = yMx h d := by
            show (if yMx h d < h d then h d else yMx h d) = _
            rw [hd2, if_neg (by omega)]
          refine ⟨u, ?_, by omega, u1, u2, by rw [e2]; exact u3⟩
          show kM_deep_22 N (kM_deep_7 N f) (q + 1) u (nI c) (nI k) (nI d) = _
          rw [kM_deep_22]
          refine oif (by rw [h1u]; exact nI_ge hd (by omega)) (ob1 hgs ?_)
          rw [if_neg hgo]
          refine oit rfl ?_
          unfold kM_deep_62
          rw [nI_1]
      · rintro q u ⟨g1, u1, u2, u3⟩
        have h1u : u.1 1 = nI C.1 := (u1.1 1 (by simp)).trans hC1
        refine ⟨u, ?_, u1, fun j h1 h2 => ?_⟩
        · show kM_deep_22 N (kM_deep_7 N f) (q + 1) u (nI c) (nI k) (nI C.1) = _
          rw [kM_deep_22]
          exact oit (by rw [h1u]; exact nI_le (Nat.le_refl _) (by omega)) rfl
        · by_cases e : j = k
          · rw [e, u3, eW]
          · exact u2 j (by omega) h2
    obtain ⟨s1, k1, k2, k3⟩ := key
    refine ⟨s1, ?_, by omega, k2, fun j h1 h2 => k3 j (by omega) h2⟩
    show kM_deep_7 N (f + 1) t (nI c) (iI ((C.1 : Int) - 1 - (i : Int))) = _
    rw [kM_deep_7, ek]
    have ek1 : nI k + (-1) = iI ((C.1 : Int) - 1 - ((i + 1 : Nat) : Int)) := by
      rw [iI_nI k, show (-1 : Int32) = iI (-1) from rfl, iI_add]
      exact congrArg iI (by omega)
    rw [ek1] at k1
    exact oif (nI_pos (by omega)) (ob1 (r_st (q := k) rfl (by show k < 9; omega)) (onb (nI_1 k) k1))
  · rintro f t ⟨-, p1, p2⟩
    refine ⟨t, ?_, p1⟩
    show kM_deep_7 N (f + 1) t (nI c) (iI ((C.1 : Int) - 1 - ((C.1 : Nat) : Int))) = _
    rw [kM_deep_7]
    refine oit ?_ (ob1 (r_ld (q := c) rfl (by show c < 9; omega)) ?_)
    · rw [show (C.1 : Int) - 1 - ((C.1 : Nat) : Int) = -1 by omega]
      decide
    · rw [p2 c (by omega) hc]
end OK
theorem op_ways {g : XC} {N xa oa i : Nat} (hN : 2 ^ 20 < N) (hi : i ≤ 378) : St_ways (yRel g N xa oa i) (yRel g N xa oa (i + 6)) g N xa oa := by
  rintro a0 a1 n sl τ σ ⟨M, Z, Ya, Yh, na, ta, cv, la, lh, ra, rh, hB⟩
  have hB : yBody g N xa oa i n Z Ya Yh na ta cv la lh ra rh M τ σ := hB
  generalize hcc : n + 14000 = cc
  generalize hkk : sl + 97000 = kk
  obtain ⟨hO, hr, hQ, hfr, hS⟩ := y_open hB sl cc kk (by omega) (by omega)
  have hX := y_xb (sl := sl) (c := cc) (k := kk) hB hN hi (by omega) (by omega)
  have hRB := y_rb hB hN hi
  have z0 : (m_put σ 0 0).1 0 = 0 := mp_s _ _ _
  have z1 : (m_put σ 0 0).1 1 = nI (tC M).1 := (mp_n _ _ _ (by decide)).trans hRB.1.1.1
  have h9 := hRB.2.1.1
  have hw : ∀ a0 a1, kX_X0_ways (jg g cc kk) N ((n, sl, cc, kk), τ) xa a0 a1 oa = yW yH0 (kX_X1_ways (jg g cc kk) N ((n, sl, cc, kk), τ) xa a0 a1) oa := fun a0 a1 => ob1 (f_cls_T hQ.2.1.1) rfl
  rw [hw]
  rcases y_cup (tC M).1 (by omega) a0 with ⟨c0, h0, rfl⟩ | h0
  · -- fits
    rcases y_cup (tC M).1 (by omega) a1 with ⟨c1, h1, rfl⟩ | h1
    · -- fits
      obtain ⟨S1, r, hx, hks, hm⟩ := b_ways hX hRB h0 h1
      obtain ⟨σ1, hm1, hm2, hm3⟩ := hm
      exact fin_ok (c := cc) (k := kk) hB hx hks hm1 hm2 hm3
    · have hx : kX_X1_ways (jg g cc kk) N ((n, sl, cc, kk), τ) xa (nI c0) a1 = some (.inr (((n, sl, cc, kk), τ), 0, 0)) := by
        rw [← hS]
        unfold kX_X1_ways
        exact ob1 (oc_cls hO) (ot1 (oc_cup1 hO h0) (ob1 (oc_cls hO) (ot2 (oc_cup0 hO hr h1))))
      have hm : kM_ways N σ (nI c0) a1 = some (m_put (m_put σ 0 0) 0 1, 0) := by
        unfold kM_ways
        exact onb rfl (ob1 (r_isCup1 z0 z1 h9 h0) (oif n10 (ob1 (r_isCup0 z0 z1 h1) (oit rfl rfl))))
      exact fin_thr (c := cc) (k := kk) hB hx rfl (KS.refl hQ.2.1.2.2.2.1) hm (mp_s _ _ _) (by decide) (RFr.p00 _ _ _)
  · have hx : kX_X1_ways (jg g cc kk) N ((n, sl, cc, kk), τ) xa a0 a1 = some (.inr (((n, sl, cc, kk), τ), 0, 0)) := by
      rw [← hS]
      unfold kX_X1_ways
      exact ob1 (oc_cls hO) (ot2 (oc_cup0 hO hr h0))
    have hm : kM_ways N σ a0 a1 = some (m_put (m_put σ 0 0) 0 1, 0) := by
      unfold kM_ways
      exact onb rfl (ob1 (r_isCup0 z0 z1 h0) (oit rfl rfl))
    exact fin_thr (c := cc) (k := kk) hB hx rfl (KS.refl hQ.2.1.2.2.2.1) hm (mp_s _ _ _) (by decide) (RFr.p00 _ _ _)
