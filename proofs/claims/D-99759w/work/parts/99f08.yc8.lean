/-! the cave: the pure parser -/
/-- an error (its kind, its token), or what was read -/
abbrev PR (α : Type) : Type := (Nat × TK) ⊕ α
def pB {α β : Type} (x : PR α) (f : α → PR β) : PR β := match x with
  | .inl e => .inl e
  | .inr a => f a
def sgT (b : Nat → Nat) (t : TK) (c : Nat) : Bool := decide (t.1 = 3 ∧ b t.2.1 = c)
def nxT (sz : Nat) (b : Nat → Nat) (t : TK) : TK := lxN sz b t.2.2
/-- which value a word names -/
def nmT (b : Nat → Nat) (t : TK) : Option Nat := (List.range 6).find? (fun i => wd b t (2 + i))
def pPart (sz : Nat) (b : Nat → Nat) (rec : TK → PR (VF × TK)) (t : TK) : PR (VF × TK) :=
  if t.1 = 2 then (if t.2.2 - t.2.1 ≤ 4 then .inr (fun _ => nI (lxV b t.2.1 (t.2.2 - t.2.1)), nxT sz b t) else .inl (2, t))
  else if sgT b t 40 = true then pB (rec (nxT sz b t)) fun x => if sgT b x.2 41 = true then .inr (x.1, nxT sz b x.2) else .inl (1, x.2)
  else if t.1 = 1 then (match nmT b t with
    | some i => .inr (fun w => w i, nxT sz b t)
    | none => .inl (3, t))
  else .inl (1, t)
/-- items with signs between, from the left -/
def pLoop (sz : Nat) (b : Nat → Nat) (op : TK → Option Nat) (item : TK → PR (VF × TK)) : Nat → VF × TK → PR (VF × TK)
  | 0, x => .inr x
  | n + 1, x => match op x.2 with
    | none => .inr x
    | some c => pB (item (nxT sz b x.2)) fun y => pLoop sz b op item n ((fun w => yBy c (x.1 w) (y.1 w)), y.2)
def opM (b : Nat → Nat) (t : TK) : Option Nat := if sgT b t 42 = true then some 42 else if sgT b t 47 = true then some 47 else none
def opS (b : Nat → Nat) (t : TK) : Option Nat := if sgT b t 43 = true then some 43 else if sgT b t 45 = true then some 45 else none
def opC (b : Nat → Nat) (t : TK) : Option Nat := if sgT b t 60 = true then some 60 else if sgT b t 61 = true then some 61 else none
def opA (b : Nat → Nat) (t : TK) : Option Nat := if wd b t 10 = true then some 38 else none
def opO (b : Nat → Nat) (t : TK) : Option Nat := if wd b t 11 = true then some 124 else none
def pProd (sz : Nat) (b : Nat → Nat) (rec : TK → PR (VF × TK)) (t : TK) : PR (VF × TK) := pB (pPart sz b rec t) (pLoop sz b (opM b) (pPart sz b rec) (sz + 1))
def pSum (sz : Nat) (b : Nat → Nat) (rec : TK → PR (VF × TK)) (t : TK) : PR (VF × TK) := pB (pProd sz b rec t) (pLoop sz b (opS b) (pProd sz b rec) (sz + 1))
def pCmp (sz : Nat) (b : Nat → Nat) (rec : TK → PR (VF × TK)) (t : TK) : PR (VF × TK) := pB (pSum sz b rec t) (pLoop sz b (opC b) (pSum sz b rec) 1)
def vNot (φ : VF) : VF := fun w => if φ w = 0 then 1 else 0
/-- k more nots may come -/
def pNots (sz : Nat) (b : Nat → Nat) : Nat → TK → PR (Nat × TK)
  | 0, t => if wd b t 9 = true then .inl (2, t) else .inr (0, t)
  | k + 1, t => if wd b t 9 = true then pB (pNots sz b k (nxT sz b t)) fun x => .inr (x.1 + 1, x.2) else .inr (0, t)
def pNot (sz : Nat) (b : Nat → Nat) (rec : TK → PR (VF × TK)) (t : TK) : PR (VF × TK) := pB (pNots sz b 6 t) fun x => pB (pCmp sz b rec x.2) fun y => .inr (yRep vNot x.1 y.1, y.2)
def pAnd (sz : Nat) (b : Nat → Nat) (rec : TK → PR (VF × TK)) (t : TK) : PR (VF × TK) := pB (pNot sz b rec t) (pLoop sz b (opA b) (pNot sz b rec) (sz + 1))
def pOr (sz : Nat) (b : Nat → Nat) (rec : TK → PR (VF × TK)) (t : TK) : PR (VF × TK) := pB (pAnd sz b rec t) (pLoop sz b (opO b) (pAnd sz b rec) (sz + 1))
def okT (b : Nat → Nat) (t : TK) : Bool := decide (t.1 = 2 ∨ t.1 = 1) || sgT b t 40
/-- an expression below which k more may nest -/
def pExp (sz : Nat) (b : Nat → Nat) : Nat → TK → PR (VF × TK)
  | 0, t => if okT b t = true then .inl (2, t) else .inl (1, t)
  | k + 1, t => if okT b t = true then pOr sz b (pExp sz b k) t else .inl (1, t)
/-! tokens that stand in a text -/
def tkOk (sz : Nat) (b : Nat → Nat) (t : TK) : Prop := t.2.1 ≤ t.2.2 ∧ t.2.2 ≤ sz ∧ t.1 ≤ 4 ∧ (t.1 ≠ 0 → t.2.1 < t.2.2) ∧ (t.1 = 1 → ∀ i, t.2.1 ≤ i → i < t.2.2 → cL (b i) = true) ∧ (t.1 = 2 → ∀ i, t.2.1 ≤ i → i < t.2.2 → cD (b i) = true) ∧ (t.1 = 3 → cS (b t.2.1) = true)
theorem lxP_ok {sz : Nat} {b : Nat → Nat} {p : Nat} (h : p ≤ sz) : tkOk sz b (lxP sz b p) := by
  obtain ⟨b1, b2, b3, b4, b5, b6⟩ := lxP_b (b := b) h
  refine ⟨by omega, b3, b4, fun z => by rw [b1]; exact b6 z, fun z => ?_, fun z => ?_, fun z => ?_⟩
  · unfold lxP at z ⊢
    by_cases h0 : sz ≤ p
    · rw [if_pos h0] at z
      have z : 0 = 1 := z
      omega
    · rw [if_neg h0] at z ⊢
      by_cases h1 : cL (b p) = true
      · rw [if_pos h1]
        exact (lxE_w (P := cL) (b := b) (p := p) h).2.2.1
      · rw [if_neg h1] at z
        by_cases h2 : cD (b p) = true
        · rw [if_pos h2] at z
          have z : 2 = 1 := z
          omega
        · rw [if_neg h2] at z
          have z : (if cS (b p) = true then 3 else 4) = 1 := z
          split at z <;> omega
  · unfold lxP at z ⊢
    by_cases h0 : sz ≤ p
    · rw [if_pos h0] at z
      have z : 0 = 2 := z
      omega
    · rw [if_neg h0] at z ⊢
      by_cases h1 : cL (b p) = true
      · rw [if_pos h1] at z
        have z : 1 = 2 := z
        omega
      · rw [if_neg h1] at z ⊢
        by_cases h2 : cD (b p) = true
        · rw [if_pos h2]
          exact (lxE_w (P := cD) (b := b) (p := p) h).2.2.1
        · rw [if_neg h2] at z
          have z : (if cS (b p) = true then 3 else 4) = 2 := z
          split at z <;> omega
  · rw [b1]
    unfold lxP at z
    by_cases h0 : sz ≤ p
    · rw [if_pos h0] at z
      have z : 0 = 3 := z
      omega
    · rw [if_neg h0] at z
      by_cases h1 : cL (b p) = true
      · rw [if_pos h1] at z
        have z : 1 = 3 := z
        omega
      · rw [if_neg h1] at z
        by_cases h2 : cD (b p) = true
        · rw [if_pos h2] at z
          have z : 2 = 3 := z
          omega
        · rw [if_neg h2] at z
          have z : (if cS (b p) = true then 3 else 4) = 3 := z
          by_cases h3 : cS (b p) = true
          · exact h3
          · rw [if_neg h3] at z
            omega
theorem lxN_ok {sz : Nat} {b : Nat → Nat} {a : Nat} (h : a ≤ sz) : tkOk sz b (lxN sz b a) ∧ a ≤ (lxN sz b a).2.1 :=
  ⟨lxP_ok (lxE_w (P := cSp) (b := b) (p := a) h).2.1, (lxN_b h).1⟩
