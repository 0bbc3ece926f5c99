/-! plain law: flows by a closed form -/
def ySum (f : Nat → Int) : Nat → Int
  | 0 => 0
  | n + 1 => ySum f n + f n
theorem ySum_c {f h : Nat → Int} {n : Nat} (e : ∀ k, k < n → f k = h k) : ySum f n = ySum h n := by
  induction n with
  | zero => rfl
  | succ n ih =>
    show ySum f n + f n = ySum h n + h n
    rw [ih (fun k hk => e k (by omega)), e n (by omega)]
theorem ySum_add (f h : Nat → Int) (n : Nat) : ySum (fun k => f k + h k) n = ySum f n + ySum h n := by
  induction n with
  | zero => rfl
  | succ n ih =>
    show ySum (fun k => f k + h k) n + (f n + h n) = (ySum f n + f n) + (ySum h n + h n)
    rw [ih]
    omega
theorem ySum_le {f h : Nat → Int} {n : Nat} (e : ∀ k, k < n → f k ≤ h k) : ySum f n ≤ ySum h n := by
  induction n with
  | zero => exact Int.le_refl _
  | succ n ih =>
    show ySum f n + f n ≤ ySum h n + h n
    have h1 := ih (fun k hk => e k (by omega))
    have h2 := e n (by omega)
    omega
theorem ySum_0 (n : Nat) : ySum (fun _ => 0) n = 0 := by
  induction n with
  | zero => rfl
  | succ n ih =>
    show ySum (fun _ => 0) n + 0 = 0
    rw [ih]
    rfl
theorem ySum_nn {f : Nat → Int} {n : Nat} (e : ∀ k, k < n → 0 ≤ f k) : 0 ≤ ySum f n := by
  have := ySum_le (f := fun _ => 0) (h := f) (n := n) e
  rw [ySum_0] at this
  exact this
theorem ySum_one {f : Nat → Int} {n i : Nat} (hi : i < n) : ySum f n = ySum (fun k => if k = i then 0 else f k) n + f i := by
  induction n with
  | zero => omega
  | succ n ih =>
    show ySum f n + f n = (ySum (fun k => if k = i then 0 else f k) n + if n = i then 0 else f n) + f i
    by_cases e : n = i
    · subst e
      rw [if_pos rfl, ySum_c (f := fun k => if k = n then 0 else f k) (h := f) (n := n) (fun k hk => if_neg (by omega))]
      omega
    · rw [if_neg e, ih (by omega)]
      omega
theorem ySum_ind (a x : Int) (m : Nat) : ySum (fun j => if a = (j : Int) then x else 0) m = if 0 ≤ a ∧ a < m then x else 0 := by
  induction m with
  | zero => rw [if_neg (by omega)]; rfl
  | succ m ih =>
    show ySum (fun j => if a = (j : Int) then x else 0) m + (if a = (m : Int) then x else 0) = _
    rw [ih]
    by_cases e : a = (m : Int)
    · rw [if_pos e, if_neg (by omega), if_pos (by omega)]
      omega
    · rw [if_neg e]
      by_cases e2 : 0 ≤ a ∧ a < m
      · rw [if_pos e2, if_pos (by omega)]
        omega
      · rw [if_neg e2, if_neg (by omega)]
        rfl
/-- of n tips of g, how many drops go into c -/
def gvN (V : MN) (g c : Nat) (n : Int) : Int := if yA V 4 g = -2 then (if yA V 3 g = c then n else 0) else (if mInto V g 0 = c then (n + 1) / 2 else 0) + (if mInto V g 1 = c then n / 2 else 0)
theorem gvN_nn {V : MN} {g c : Nat} {n : Int} (h : 0 ≤ n) : 0 ≤ gvN V g c n := by
  unfold gvN
  repeat' split
  all_goals omega
theorem gvN_sum {V : MN} {g : Nat} {n : Int} (h : 0 ≤ n) (m : Nat) : ySum (fun c => gvN V g c n) m ≤ n := by
  by_cases e : yA V 4 g = -2
  · rw [ySum_c (h := fun c => if yA V 3 g = (c : Int) then n else 0) (fun k _ => by unfold gvN; rw [if_pos e]), ySum_ind]
    split <;> omega
  · rw [ySum_c (h := fun c => (if mInto V g 0 = (c : Int) then (n + 1) / 2 else 0) + (if mInto V g 1 = (c : Int) then n / 2 else 0)) (fun k _ => by unfold gvN; rw [if_neg e]), ySum_add, ySum_ind, ySum_ind]
    split <;> split <;> omega
theorem gvN_0 {C : CC} {V : MN} {T : Int} {g c : Nat} {n : Int} (h : YK C V T g) (hc : c ≤ g ∨ C.1 ≤ c) : gvN V g c n = 0 := by
  unfold gvN
  by_cases e : yA V 4 g = -2
  · rw [if_pos e, if_neg]
    intro z
    obtain ⟨a0, a1, a2, a3, a4, -⟩ := h
    omega
  · have h1 := mInto_ok h 0 e
    have h2 := mInto_ok h 1 e
    rw [if_neg e, if_neg (by omega), if_neg (by omega)]
    rfl
def fOwn (C : CC) (V : MN) (h : Int) (k : Nat) : Int := if ((yI V 7 >>> (nI k &&& 31)) &&& 1) = 1 then 0 else C.2.1 k * h
def fP (C : CC) (V : MN) (h : Int) : Nat → Nat → Int
  | 0 => fun _ => 0
  | k + 1 => fun j => if j = k then (yA V 1 k + (fOwn C V h k + ySum (fun g => gvN V g k (fP C V h k g)) k)) / yA V 0 k else fP C V h k j
/-- how often a cup tips in h hours -/
def fT (C : CC) (V : MN) (h : Int) (k : Nat) : Int := fP C V h (k + 1) k
/-- how much goes into j from the cups ahead of k -/
def fPd (C : CC) (V : MN) (h : Int) (k j : Nat) : Int := ySum (fun g => gvN V g j (fT C V h g)) k
/-- how much goes into a cup in h hours -/
def fI (C : CC) (V : MN) (h : Int) (k : Nat) : Int := fOwn C V h k + fPd C V h k k
theorem fP_lt (C : CC) (V : MN) (h : Int) (j : Nat) : ∀ k, fP C V h k j = if j < k then fT C V h j else 0 := by
  intro k
  induction k with
  | zero => rw [if_neg (by omega)]; rfl
  | succ k ih =>
    by_cases e : j = k
    · subst e
      rw [if_pos (by omega)]
      rfl
    · show (if j = k then _ else fP C V h k j) = _
      rw [if_neg e, ih]
      by_cases e2 : j < k
      · rw [if_pos e2, if_pos (by omega)]
      · rw [if_neg e2, if_neg (by omega)]
theorem fT_eq (C : CC) (V : MN) (h : Int) (k : Nat) : fT C V h k = (yA V 1 k + fI C V h k) / yA V 0 k := by
  have e : ySum (fun g => gvN V g k (fP C V h k g)) k = fPd C V h k k := ySum_c (fun g hg => by rw [fP_lt, if_pos hg])
  show (if k = k then (yA V 1 k + (fOwn C V h k + ySum (fun g => gvN V g k (fP C V h k g)) k)) / yA V 0 k else fP C V h k k) = _
  rw [if_pos rfl, e]
  rfl
theorem fPd_s (C : CC) (V : MN) (h : Int) (k j : Nat) : fPd C V h (k + 1) j = fPd C V h k j + gvN V k j (fT C V h k) := rfl
section FB
variable {C : CC} {V : MN} {T h : Int}
theorem fOwn_b {k : Nat} (hs : 0 ≤ C.2.1 k ∧ C.2.1 k ≤ 20) (h0 : 0 ≤ h) (h1 : h ≤ 1000001) : 0 ≤ fOwn C V h k ∧ fOwn C V h k ≤ 20000020 := by
  unfold fOwn
  split
  · omega
  · have a := Int.mul_nonneg hs.1 h0
    have b : C.2.1 k * h ≤ 20 * h := Int.mul_le_mul_of_nonneg_right hs.2 h0
    omega
theorem fT_step {k : Nat} (hY : YK C V T k) (hs : 0 ≤ C.2.1 k ∧ C.2.1 k ≤ 20) (h0 : 0 ≤ h) (h1 : h ≤ 1000001) (hp : 0 ≤ fPd C V h k k) : 0 ≤ fI C V h k ∧ 0 ≤ fT C V h k ∧ fT C V h k ≤ 20000060 + fPd C V h k k ∧ fI C V h k ≤ 20000020 + fPd C V h k k := by
  have ho := fOwn_b (V := V) hs h0 h1
  obtain ⟨a0, a1, a2, a3, -⟩ := hY
  have hI : fI C V h k = fOwn C V h k + fPd C V h k k := rfl
  have h2 : 0 ≤ (yA V 1 k + fI C V h k) / yA V 0 k := Int.ediv_nonneg (by omega) (by omega)
  have h3 : (yA V 1 k + fI C V h k) / yA V 0 k ≤ yA V 1 k + fI C V h k := Int.ediv_le_self _ (by omega)
  rw [fT_eq]
  omega
theorem fPhi (hG : YG C V T) (hs : ∀ k, k < C.1 → 0 ≤ C.2.1 k ∧ C.2.1 k ≤ 20) (h9 : C.1 ≤ 9) (h0 : 0 ≤ h) (h1 : h ≤ 1000001) : ∀ k : Nat, k ≤ C.1 → (∀ g, g < k → 0 ≤ fT C V h g) ∧ ySum (fun j => if k ≤ j then fPd C V h k j else 0) 9 ≤ k * 20000060 := by
  have hpn : ∀ k : Nat, (∀ g, g < k → 0 ≤ fT C V h g) → ∀ j, 0 ≤ fPd C V h k j := fun k hk j => ySum_nn (fun g hg => gvN_nn (hk g hg))
  intro k
  induction k with
  | zero =>
    intro _
    refine ⟨fun g hg => by omega, ?_⟩
    rw [ySum_c (h := fun _ => 0) (fun j _ => by show (if 0 ≤ j then fPd C V h 0 j else 0) = 0; rw [if_pos (by omega)]; rfl), ySum_0]
    omega
  | succ k ih =>
    intro hk
    obtain ⟨i1, i2⟩ := ih (by omega)
    have hpp := hpn k i1
    obtain ⟨b1, b2, b3, b4⟩ := fT_step (hG k (by omega)) (hs k (by omega)) h0 h1 (hpp k)
    refine ⟨fun g hg => ?_, ?_⟩
    · by_cases e : g = k
      · rw [e]; exact b2
      · exact i1 g (by omega)
    · have e1 : ySum (fun j => if k + 1 ≤ j then fPd C V h (k + 1) j else 0) 9 ≤ ySum (fun j => (if j = k then 0 else if k ≤ j then fPd C V h k j else 0) + gvN V k j (fT C V h k)) 9 := ySum_le (fun j _ => by
        have hg := gvN_nn (V := V) (g := k) (c := j) b2
        show (if k + 1 ≤ j then fPd C V h (k + 1) j else 0) ≤ (if j = k then 0 else if k ≤ j then fPd C V h k j else 0) + gvN V k j (fT C V h k)
        by_cases e : k + 1 ≤ j
        · rw [if_pos e, if_neg (by omega), if_pos (by omega), fPd_s]
          omega
        · rw [if_neg e]
          by_cases e2 : j = k
          · rw [if_pos e2]; omega
          · rw [if_neg e2, if_neg (by omega)]; omega)
      rw [ySum_add] at e1
      have e2 := gvN_sum (V := V) (g := k) b2 9
      have e3 := ySum_one (f := fun j => if k ≤ j then fPd C V h k j else 0) (n := 9) (i := k) (by omega)
      have e4 : (fun j => if k ≤ j then fPd C V h k j else 0) k = fPd C V h k k := if_pos (Nat.le_refl k)
      rw [if_pos (Nat.le_refl k)] at e3
      have e5 : ((k + 1 : Nat) : Int) * 20000060 = (k : Int) * 20000060 + 20000060 := by omega
      rw [e5]
      omega
/-- all of it is small -/
theorem fBd (hG : YG C V T) (hs : ∀ k, k < C.1 → 0 ≤ C.2.1 k ∧ C.2.1 k ≤ 20) (h9 : C.1 ≤ 9) (h0 : 0 ≤ h) (h1 : h ≤ 1000001) {k : Nat} (hk : k < C.1) : 0 ≤ fPd C V h k k ∧ fPd C V h k k ≤ 180000600 ∧ 0 ≤ fI C V h k ∧ fI C V h k ≤ 200000700 ∧ 0 ≤ fT C V h k ∧ fT C V h k ≤ 200000700 := by
  obtain ⟨i1, i2⟩ := fPhi hG hs h9 h0 h1 k (by omega)
  have hpp : ∀ j, 0 ≤ fPd C V h k j := fun j => ySum_nn (fun g hg => gvN_nn (i1 g hg))
  obtain ⟨b1, b2, b3, b4⟩ := fT_step (hG k hk) (hs k hk) h0 h1 (hpp k)
  have e3 := ySum_one (f := fun j => if k ≤ j then fPd C V h k j else 0) (n := 9) (i := k) (by omega)
  have e4 : (fun j => if k ≤ j then fPd C V h k j else 0) k = fPd C V h k k := if_pos (Nat.le_refl k)
  rw [if_pos (Nat.le_refl k)] at e3
  have e5 : 0 ≤ ySum (fun j => if j = k then 0 else if k ≤ j then fPd C V h k j else 0) 9 := ySum_nn (fun j _ => by
    show 0 ≤ (if j = k then 0 else if k ≤ j then fPd C V h k j else 0)
    repeat' split
    · omega
    · exact hpp j
    · omega)
  have e6 := hpp k
  omega
theorem fPd_b (hG : YG C V T) (hs : ∀ k, k < C.1 → 0 ≤ C.2.1 k ∧ C.2.1 k ≤ 20) (h9 : C.1 ≤ 9) (h0 : 0 ≤ h) (h1 : h ≤ 1000001) {k : Nat} (hk : k ≤ C.1) (j : Nat) : 0 ≤ fPd C V h k j := by
  obtain ⟨i1, i2⟩ := fPhi hG hs h9 h0 h1 k hk
  exact ySum_nn (fun g hg => gvN_nn (i1 g hg))
end FB
