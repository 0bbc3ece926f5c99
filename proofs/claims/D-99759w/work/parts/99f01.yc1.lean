/-! the cave: characters, tokens -/
def lxSk (P : Nat → Bool) (sz : Nat) (b : Nat → Nat) : Nat → Nat → Nat
  | 0, p => p
  | f + 1, p => if p < sz ∧ P (b p) = true then lxSk P sz b f (p + 1) else p
def lxE (P : Nat → Bool) (sz : Nat) (b : Nat → Nat) (p : Nat) : Nat := lxSk P sz b (sz - p) p
theorem lxE_t {P : Nat → Bool} {sz : Nat} {b : Nat → Nat} {p : Nat} (h : p < sz) (hP : P (b p) = true) : lxE P sz b p = lxE P sz b (p + 1) := by
  unfold lxE
  rw [show sz - p = (sz - (p + 1)) + 1 by omega]
  show (if p < sz ∧ P (b p) = true then _ else p) = _
  rw [if_pos ⟨h, hP⟩]
theorem lxE_f {P : Nat → Bool} {sz : Nat} {b : Nat → Nat} {p : Nat} (h : ¬ (p < sz ∧ P (b p) = true)) : lxE P sz b p = p := by
  unfold lxE
  cases hd : sz - p with
  | zero => rfl
  | succ d =>
    show (if p < sz ∧ P (b p) = true then _ else p) = _
    rw [if_neg h]
theorem lxE_b {P : Nat → Bool} {sz : Nat} {b : Nat → Nat} : ∀ d p, p + d = sz → p ≤ lxE P sz b p ∧ lxE P sz b p ≤ sz ∧ (∀ q, p ≤ q → q < lxE P sz b p → P (b q) = true) ∧ (lxE P sz b p < sz → P (b (lxE P sz b p)) = false) := by
  intro d
  induction d with
  | zero =>
    intro p hp
    rw [lxE_f (by omega)]
    exact ⟨Nat.le_refl _, by omega, fun q h1 h2 => by omega, fun h => by omega⟩
  | succ d ih =>
    intro p hp
    by_cases hP : P (b p) = true
    · obtain ⟨h1, h2, h3, h4⟩ := ih (p + 1) (by omega)
      rw [lxE_t (by omega) hP]
      refine ⟨by omega, h2, fun q q1 q2 => ?_, h4⟩
      by_cases e : q = p
      · rw [e]; exact hP
      · exact h3 q (by omega) q2
    · rw [lxE_f (fun z => hP z.2)]
      exact ⟨Nat.le_refl _, by omega, fun q h1 h2 => by omega, fun _ => by simpa using hP⟩
theorem lxE_w {P : Nat → Bool} {sz : Nat} {b : Nat → Nat} {p : Nat} (h : p ≤ sz) : p ≤ lxE P sz b p ∧ lxE P sz b p ≤ sz ∧ (∀ q, p ≤ q → q < lxE P sz b p → P (b q) = true) ∧ (lxE P sz b p < sz → P (b (lxE P sz b p)) = false) := lxE_b (sz - p) p (by omega)
def cSp (c : Nat) : Bool := decide (c = 32 ∨ c = 10)
def cL (c : Nat) : Bool := decide (97 ≤ c ∧ c ≤ 122)
def cD (c : Nat) : Bool := decide (48 ≤ c ∧ c ≤ 57)
def cS (c : Nat) : Bool := decide (c = 59 ∨ c = 40 ∨ c = 41 ∨ c = 43 ∨ c = 45 ∨ c = 42 ∨ c = 47 ∨ c = 60 ∨ c = 61)
/-- sort (0 end, 1 word, 2 number, 3 sign, 4 else), where it begins, where it ends -/
abbrev TK : Type := Nat × Nat × Nat
def lxP (sz : Nat) (b : Nat → Nat) (p : Nat) : TK := if sz ≤ p then (0, p, p) else if cL (b p) = true then (1, p, lxE cL sz b p) else if cD (b p) = true then (2, p, lxE cD sz b p) else (if cS (b p) = true then 3 else 4, p, p + 1)
def lxN (sz : Nat) (b : Nat → Nat) (a : Nat) : TK := lxP sz b (lxE cSp sz b a)
/-- a number's value, a word's value -/
def lxV (b : Nat → Nat) (p : Nat) : Nat → Nat
  | 0 => 0
  | k + 1 => 10 * lxV b p k + (b (p + k) - 48)
def lxH (b : Nat → Nat) (p : Nat) : Nat → Nat
  | 0 => 0
  | k + 1 => lxH b p k * 32 + (b (p + k) - 96)
theorem cL_t {c : Nat} : cL c = true ↔ 97 ≤ c ∧ c ≤ 122 := decide_eq_true_iff
theorem cD_t {c : Nat} : cD c = true ↔ 48 ≤ c ∧ c ≤ 57 := decide_eq_true_iff
theorem lxP_b {sz : Nat} {b : Nat → Nat} {p : Nat} (h : p ≤ sz) : (lxP sz b p).2.1 = p ∧ p ≤ (lxP sz b p).2.2 ∧ (lxP sz b p).2.2 ≤ sz ∧ (lxP sz b p).1 ≤ 4 ∧ ((lxP sz b p).1 = 0 ↔ sz ≤ p) ∧ ((lxP sz b p).1 ≠ 0 → p < (lxP sz b p).2.2) := by
  unfold lxP
  by_cases h0 : sz ≤ p
  · rw [if_pos h0]
    exact ⟨rfl, Nat.le_refl _, h, by show 0 ≤ 4; omega, ⟨fun _ => h0, fun _ => rfl⟩, fun z => absurd rfl z⟩
  · rw [if_neg h0]
    by_cases h1 : cL (b p) = true
    · rw [if_pos h1]
      obtain ⟨a1, a2, -, -⟩ := lxE_w (P := cL) (b := b) (p := p + 1) (sz := sz) (by omega)
      rw [← lxE_t (by omega) h1] at a1 a2
      exact ⟨rfl, by show p ≤ lxE cL sz b p; omega, a2, by show 1 ≤ 4; omega, ⟨fun z => absurd z (by show ¬ 1 = 0; omega), fun z => absurd z h0⟩, fun _ => by show p < lxE cL sz b p; omega⟩
    · rw [if_neg h1]
      by_cases h2 : cD (b p) = true
      · rw [if_pos h2]
        obtain ⟨a1, a2, -, -⟩ := lxE_w (P := cD) (b := b) (p := p + 1) (sz := sz) (by omega)
        rw [← lxE_t (by omega) h2] at a1 a2
        exact ⟨rfl, by show p ≤ lxE cD sz b p; omega, a2, by show 2 ≤ 4; omega, ⟨fun z => absurd z (by show ¬ 2 = 0; omega), fun z => absurd z h0⟩, fun _ => by show p < lxE cD sz b p; omega⟩
      · rw [if_neg h2]
        refine ⟨rfl, by show p ≤ p + 1; omega, by show p + 1 ≤ sz; omega, ?_, ⟨fun z => ?_, fun z => absurd z h0⟩, fun _ => by show p < p + 1; omega⟩
        · show (if cS (b p) = true then 3 else 4) ≤ 4
          split <;> omega
        · have z : (if cS (b p) = true then 3 else 4) = 0 := z
          split at z <;> omega
theorem lxN_b {sz : Nat} {b : Nat → Nat} {a : Nat} (h : a ≤ sz) : a ≤ (lxN sz b a).2.1 ∧ (lxN sz b a).2.1 ≤ (lxN sz b a).2.2 ∧ (lxN sz b a).2.2 ≤ sz ∧ (lxN sz b a).1 ≤ 4 ∧ ((lxN sz b a).1 = 0 ↔ sz ≤ (lxN sz b a).2.1) ∧ ((lxN sz b a).1 ≠ 0 → (lxN sz b a).2.1 < (lxN sz b a).2.2) := by
  obtain ⟨a1, a2, -, -⟩ := lxE_w (P := cSp) (b := b) (p := a) h
  obtain ⟨b1, b2, b3, b4, b5, b6⟩ := lxP_b (b := b) a2
  have e : (lxN sz b a) = lxP sz b (lxE cSp sz b a) := rfl
  rw [e, b1]
  exact ⟨a1, b2, b3, b4, b5, b6⟩
/-- the hash tells words apart -/
theorem lxH_pos {b : Nat → Nat} {p k : Nat} (h : ∀ i, i < k → 97 ≤ b (p + i) ∧ b (p + i) ≤ 122) (hk : 0 < k) : 0 < lxH b p k := by
  obtain ⟨j, rfl⟩ : ∃ j, k = j + 1 := ⟨k - 1, by omega⟩
  have := h j (by omega)
  show 0 < lxH b p j * 32 + (b (p + j) - 96)
  omega
theorem lxH_lt {b : Nat → Nat} {p : Nat} : ∀ {k : Nat}, (∀ i, i < k → 97 ≤ b (p + i) ∧ b (p + i) ≤ 122) → lxH b p k < 32 ^ k := by
  intro k
  induction k with
  | zero => intro _; show 0 < 32 ^ 0; decide
  | succ k ih =>
    intro h
    have h1 := ih (fun i hi => h i (by omega))
    have h2 := h k (by omega)
    show lxH b p k * 32 + (b (p + k) - 96) < 32 ^ (k + 1)
    rw [Nat.pow_succ]
    omega
theorem lxH_inj {b b2 : Nat → Nat} {p p2 : Nat} : ∀ {k k2 : Nat}, (∀ i, i < k → 97 ≤ b (p + i) ∧ b (p + i) ≤ 122) → (∀ i, i < k2 → 97 ≤ b2 (p2 + i) ∧ b2 (p2 + i) ≤ 122) → lxH b p k = lxH b2 p2 k2 → k = k2 ∧ ∀ i, i < k → b (p + i) = b2 (p2 + i) := by
  intro k
  induction k with
  | zero =>
    intro k2 h1 h2 he
    by_cases z : k2 = 0
    · exact ⟨z.symm, fun i hi => by omega⟩
    · have := lxH_pos h2 (by omega)
      have he : 0 = lxH b2 p2 k2 := he
      omega
  | succ k ih =>
    intro k2 h1 h2 he
    by_cases z : k2 = 0
    · subst z
      have := lxH_pos h1 (by omega)
      have he : lxH b p (k + 1) = 0 := he
      omega
    · obtain ⟨j, rfl⟩ : ∃ j, k2 = j + 1 := ⟨k2 - 1, by omega⟩
      have c1 := h1 k (by omega)
      have c2 := h2 j (by omega)
      have he : lxH b p k * 32 + (b (p + k) - 96) = lxH b2 p2 j * 32 + (b2 (p2 + j) - 96) := he
      have e1 : lxH b p k = lxH b2 p2 j := by omega
      have e2 : b (p + k) = b2 (p2 + j) := by omega
      obtain ⟨d1, d2⟩ := ih (fun i hi => h1 i (by omega)) (fun i hi => h2 i (by omega)) e1
      subst d1
      refine ⟨rfl, fun i hi => ?_⟩
      by_cases e : i = k
      · rw [e]; exact e2
      · exact d2 i (by omega)
