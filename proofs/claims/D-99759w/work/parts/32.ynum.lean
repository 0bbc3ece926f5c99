/-! plain law: numbers, loops -/
def iI (x : Int) : Int32 := Int32.ofInt x
def yR (x : Int) : Prop := -2147483648 ≤ x ∧ x < 2147483648
theorem iI_add (a b : Int) : iI a + iI b = iI (a + b) := (Int32.ofInt_add a b).symm
theorem iI_sub (a b : Int) : iI a - iI b = iI (a - b) := (Int32.ofInt_sub a b).symm
theorem iI_mul (a b : Int) : iI a * iI b = iI (a * b) := (Int32.ofInt_mul a b).symm
theorem iI_neg (a : Int) : -iI a = iI (-a) := (Int32.ofInt_neg a).symm
theorem iI_nI (n : Nat) : nI n = iI (n : Int) := Int32.ofInt_eq_ofNat.symm
theorem iI_t (x : Int32) : iI x.toInt = x := Int32.ofInt_toInt x
theorem iI_toInt {x : Int} (h : yR x) : (iI x).toInt = x := Int32.toInt_ofInt_of_le h.1 h.2
theorem yR_t (x : Int32) : yR x.toInt := ⟨Int32.le_toInt x, Int32.toInt_lt x⟩
theorem iI_le {a b : Int} (ha : yR a) (hb : yR b) : iI a ≤ iI b ↔ a ≤ b := by rw [Int32.le_iff_toInt_le, iI_toInt ha, iI_toInt hb]
theorem iI_lt {a b : Int} (ha : yR a) (hb : yR b) : iI a < iI b ↔ a < b := by rw [Int32.lt_iff_toInt_lt, iI_toInt ha, iI_toInt hb]
theorem iI_eq {a b : Int} (ha : yR a) (hb : yR b) : iI a = iI b ↔ a = b := by rw [← Int32.toInt_inj, iI_toInt ha, iI_toInt hb]
theorem iI_div {a b : Int} (h0 : 0 ≤ a) (ha : yR a) (h1 : 0 < b) (hb : yR b) : iI a / iI b = iI (a / b) := by
  have h2 : a / b ≤ a := Int.ediv_le_self b h0
  have h3 : 0 ≤ a / b := Int.ediv_nonneg h0 (Int.le_of_lt h1)
  apply Int32.toInt_inj.mp
  rw [Int32.toInt_div_of_ne_left _ _ (fun e => by
    have e1 := congrArg Int32.toInt e
    rw [iI_toInt ha] at e1
    have e2 : Int32.minValue.toInt = -2147483648 := by decide
    omega), iI_toInt ha, iI_toInt hb, Int.tdiv_eq_ediv_of_nonneg h0, iI_toInt ⟨by omega, by unfold yR at ha; omega⟩]
theorem iI_mod {a b : Int} (h0 : 0 ≤ a) (ha : yR a) (h1 : 0 < b) (hb : yR b) : iI a - iI a / iI b * iI b = iI (a % b) := by
  rw [iI_div h0 ha h1 hb, iI_mul, iI_sub]
  congr 1
  have := Int.mul_ediv_add_emod a b
  rw [Int.mul_comm] at this
  omega
theorem iI_clamp {k : Int} (h : yR k) : (iI k).toNatClampNeg = k.toNat := by
  show (iI k).toInt.toNat = _
  rw [iI_toInt h]
theorem iI_in {k : Int} {n : Nat} (h : yR k) (h0 : 0 ≤ k) (h1 : k < n) : vp_in (iI k) n := by
  rw [vp_in_iff, iI_toInt h]
  exact ⟨h0, h1⟩
theorem nI_inn {k n : Nat} (h : k < n) (hn : n < 2 ^ 31) : vp_in (nI k) n := nI_in h hn
theorem lt32 {a b : Int32} : a < b ↔ a.toInt < b.toInt := Int32.lt_iff_toInt_lt
theorem le32 {a b : Int32} : a ≤ b ↔ a.toInt ≤ b.toInt := Int32.le_iff_toInt_le
/-! steps -/
theorem ob1 {α β : Type} {x : Option α} {v : α} {f : α → Option β} {R : Option β} (h : x = some v) (k : f v = R) : x.bind f = R := by rw [h]; exact k
theorem ot1 {α β : Type} {x : Option (α ⊕ XT)} {v : α} {f : α → Option (β ⊕ XT)} {R : Option (β ⊕ XT)} (h : x = some (.inl v)) (k : f v = R) : tbind x f = R := by unfold tbind; rw [h]; exact k
theorem ot2 {α β : Type} {x : Option (α ⊕ XT)} {v : XT} {f : α → Option (β ⊕ XT)} (h : x = some (.inr v)) : tbind x f = some (.inr v) := by unfold tbind; rw [h]; rfl
theorem oh1 {α β : Type} {x : Option (α ⊕ XT)} {h : XT → Option β} {v : α} {f : α → Option β} {R : Option β} (e : x = some (.inl v)) (k : f v = R) : hbind x h f = R := by unfold hbind; rw [e]; exact k
theorem oh2 {α β : Type} {x : Option (α ⊕ XT)} {h : XT → Option β} {v : XT} {f : α → Option β} {R : Option β} (e : x = some (.inr v)) (k : h v = R) : hbind x h f = R := by unfold hbind; rw [e]; exact k
theorem onb {α β : Type} {e v : α} {f : α → Option β} {R : Option β} (h : e = v) (k : f v = R) : bnd e f = R := by subst h; exact k
theorem oit {α : Type} {P : Prop} [Decidable P] {a b R : α} (h : P) (k : a = R) : (if P then a else b) = R := by rw [if_pos h]; exact k
theorem oif {α : Type} {P : Prop} [Decidable P] {a b R : α} (h : ¬ P) (k : b = R) : (if P then a else b) = R := by rw [if_neg h]; exact k
theorem oz {α : Type} {v : Int32} {x : Option α} {R : Option α} (h : v = 0 ∨ v = 1) (k : x = R) : zchk v x = R := by unfold zchk; rw [if_pos h]; exact k
/-! loops that count up -/
theorem y_loop {α β : Type} (F : Nat → α → Nat → Option β) (c : Nat) (P : α → Nat → Prop) (Q : Option β → Prop)
    (hs : ∀ n s k, k < c → P s k → Q (F (n + 1) s k) ∨ ∃ s1, F (n + 1) s k = F n s1 (k + 1) ∧ P s1 (k + 1))
    (he : ∀ n s, P s c → Q (F (n + 1) s c)) : ∀ d n s k, k + d = c → d < n → P s k → Q (F n s k) := by
  intro d
  induction d with
  | zero =>
    intro n s k h1 h2 h3
    have e : k = c := by omega
    subst e
    obtain ⟨n1, rfl⟩ : ∃ n1, n = n1 + 1 := ⟨n - 1, by omega⟩
    exact he n1 s h3
  | succ d ih =>
    intro n s k h1 h2 h3
    obtain ⟨n1, rfl⟩ : ∃ n1, n = n1 + 1 := ⟨n - 1, by omega⟩
    rcases hs n1 s k (by omega) h3 with h | ⟨s1, h4, h5⟩
    · exact h
    · rw [h4]
      exact ih n1 s1 (k + 1) (by omega) (by omega) h5
def yIter {α : Type} (f : α → Nat → α) : Nat → α → α
  | 0, s => s
  | n + 1, s => f (yIter f n s) n
/-- how many times f is done -/
def yRep {α : Type} (f : α → α) : Nat → α → α
  | 0, s => s
  | n + 1, s => f (yRep f n s)
