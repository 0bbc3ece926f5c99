/-! the cave: lines -/
/-- what has been read: the cave, the night, which cups are piped -/
abbrev LT : Type := CC × MN × (Nat → Bool)
section YC33
variable {sz : Nat} {b : Nat → Nat}
/-- a cup's number, here -/
def pCupN (b : Nat → Nat) (n : Nat) (t : TK) : PR Nat := if t.1 = 2 then (if t.2.2 - t.2.1 ≤ 4 then (if lxV b t.2.1 (t.2.2 - t.2.1) < n then .inr (lxV b t.2.1 (t.2.2 - t.2.1)) else .inl (3, t)) else .inl (2, t)) else .inl (1, t)
def lCup (s : LT) (h f p : Nat) : LT := ((s.1.1 + 1, (fun k => if k = s.1.1 then (p : Int) else s.1.2.1 k), s.1.2.2), ysA (ysA s.2.1 0 s.1.1 h) 1 s.1.1 f, s.2.2)
def lOne (s : LT) (k o : Nat) : LT := (s.1, ysA s.2.1 3 k o, fun j => if j = k then true else s.2.2 j)
def lTwo (s : LT) (k o w : Nat) : LT := (s.1, ysA (ysA s.2.1 3 k o) 4 k w, fun j => if j = k then true else s.2.2 j)
def lLeaks (s : LT) (φ : VF) : LT := ((s.1.1, s.1.2.1, some φ, s.1.2.2.2), s.2)
def lFrost (s : LT) (φ : VF) : LT := ((s.1.1, s.1.2.1, s.1.2.2.1, some φ), s.2)
def pCup (sz : Nat) (b : Nat → Nat) (s : LT) (t : TK) : PR (LT × TK) := if s.1.1 < 9 then pB (pNum sz b 1 30 (nxT sz b t)) fun h => pB (pNum sz b 0 (h.1 - 1) h.2) fun f => pB (pNum sz b 0 20 f.2) fun p => .inr (lCup s h.1 f.1 p.1, p.2) else .inl (2, t)
def pPipe (sz : Nat) (b : Nat → Nat) (s : LT) (t : TK) : PR (LT × TK) := pB (pCupN b s.1.1 (nxT sz b t)) fun k => if s.2.2 k = true then .inl (4, nxT sz b t) else
  pB (pCupN b s.1.1 (nxT sz b (nxT sz b t))) fun o => if k < o then (if (nxT sz b (nxT sz b (nxT sz b t))).1 = 2 then pB (pCupN b s.1.1 (nxT sz b (nxT sz b (nxT sz b t)))) fun w => if k < w ∧ w ≠ o then .inr (lTwo s k o w, nxT sz b (nxT sz b (nxT sz b (nxT sz b t)))) else .inl (4, nxT sz b (nxT sz b (nxT sz b t)))
    else .inr (lOne s k o, nxT sz b (nxT sz b (nxT sz b t)))) else .inl (4, nxT sz b (nxT sz b t))
def pLeaks (sz : Nat) (b : Nat → Nat) (s : LT) (t : TK) : PR (LT × TK) := if s.1.2.2.1.isSome = true then .inl (5, t) else pB (pExp sz b 6 (nxT sz b t)) fun x => .inr (lLeaks s x.1, x.2)
def pFrost (sz : Nat) (b : Nat → Nat) (s : LT) (t : TK) : PR (LT × TK) := if s.1.2.2.2.isSome = true then .inl (5, t) else pB (pExp sz b 6 (nxT sz b t)) fun x => .inr (lFrost s x.1, x.2)
def pBody (sz : Nat) (b : Nat → Nat) (s : LT) (t : TK) : PR (LT × TK) := if wd b t 0 = true then pLeaks sz b s t else if wd b t 1 = true then pFrost sz b s t else if wd b t 6 = true then pCup sz b s t else if wd b t 12 = true then pPipe sz b s t else .inl (1, t)
def pLine (sz : Nat) (b : Nat → Nat) (s : LT) (t : TK) : PR (LT × TK) := pB (pBody sz b s t) fun y => if sgT b y.2 59 = true then .inr (y.1, nxT sz b y.2) else .inl (1, y.2)
def pText (sz : Nat) (b : Nat → Nat) : Nat → LT → TK → PR LT
  | 0, s, _ => .inr s
  | n + 1, s, t => if t.1 = 0 then .inr s else pB (pLine sz b s t) fun y => pText sz b n y.1 y.2
/-- what holds of what has been read -/
def LOk (s : LT) : Prop := s.1.1 ≤ 9 ∧ (∀ k, k < s.1.1 → 0 ≤ s.1.2.1 k ∧ s.1.2.1 k ≤ 20) ∧ YG s.1 s.2.1 0 ∧ (∀ k, s.2.2 k = true → k < s.1.1) ∧ (∀ k, k < 9 → s.2.2 k = false → yA s.2.1 3 k = -1 ∧ yA s.2.1 4 k = -2) ∧ (∀ k, yA s.2.1 2 k = 0 ∧ yA s.2.1 5 k = 0 ∧ (k < 9 → yA s.2.1 11 k = 0)) ∧ ∀ j, j = 6 ∨ j = 7 ∨ j = 8 ∨ j = 9 ∨ j = 10 → yI s.2.1 j = 0
theorem pNum_ok {lo hi : Nat} {t : TK} {x : Nat × TK} (hk : tkOk sz b t) (h : pNum sz b lo hi t = .inr x) : tkOk sz b x.2 ∧ t.2.1 < x.2.2.1 ∧ lo ≤ x.1 ∧ x.1 ≤ hi := by
  unfold pNum at h
  by_cases h2 : t.1 = 2
  · rw [if_pos h2] at h
    by_cases h3 : t.2.2 - t.2.1 ≤ 4 ∧ lo ≤ lxV b t.2.1 (t.2.2 - t.2.1) ∧ lxV b t.2.1 (t.2.2 - t.2.1) ≤ hi
    · rw [if_pos h3] at h
      cases h
      exact ⟨(nxT_ok hk).1, nxT_lt hk (by omega), h3.2.1, h3.2.2⟩
    · rw [if_neg h3] at h
      cases h
  · rw [if_neg h2] at h
    cases h
theorem pCupN_ok {n v : Nat} {t : TK} (h : pCupN b n t = .inr v) : t.1 = 2 ∧ v < n := by
  unfold pCupN at h
  by_cases h2 : t.1 = 2
  · rw [if_pos h2] at h
    by_cases h3 : t.2.2 - t.2.1 ≤ 4
    · rw [if_pos h3] at h
      by_cases h4 : lxV b t.2.1 (t.2.2 - t.2.1) < n
      · rw [if_pos h4] at h
        cases h
        exact ⟨h2, h4⟩
      · rw [if_neg h4] at h
        cases h
    · rw [if_neg h3] at h
      cases h
  · rw [if_neg h2] at h
    cases h
theorem LOk.cup {s : LT} {h f p : Nat} (H : LOk s) (h9 : s.1.1 < 9) (h1 : 1 ≤ h ∧ h ≤ 30) (hf : f ≤ h - 1) (hp : p ≤ 20) : LOk (lCup s h f p) := by
  obtain ⟨a1, a2, a3, a4, a5, a6, a7⟩ := H
  have hpp : s.2.2 s.1.1 = false := by
    cases hx : s.2.2 s.1.1 with
    | false => rfl
    | true => have := a4 _ hx; omega
  refine ⟨h9, fun k hk => ?_, fun k hk => ?_, fun k hk => ?_, fun k hk hn => ?_, fun k => ?_, a7⟩
  · have hk : k < s.1.1 + 1 := hk
    show 0 ≤ (if k = s.1.1 then (p : Int) else s.1.2.1 k) ∧ (if k = s.1.1 then (p : Int) else s.1.2.1 k) ≤ 20
    by_cases e : k = s.1.1
    · rw [if_pos e]; omega
    · rw [if_neg e]; exact a2 k (by omega)
  · have hk : k < s.1.1 + 1 := hk
    show YK (s.1.1 + 1, _) (ysA (ysA s.2.1 0 s.1.1 h) 1 s.1.1 f) 0 k
    unfold YK
    simp only [yA_A, show ¬ (0 : Nat) = 1 by decide, show ¬ (1 : Nat) = 0 by decide, show ¬ (3 : Nat) = 1 by decide, show ¬ (3 : Nat) = 0 by decide, show ¬ (4 : Nat) = 1 by decide, show ¬ (4 : Nat) = 0 by decide, show ¬ (5 : Nat) = 1 by decide, show ¬ (5 : Nat) = 0 by decide, show ¬ (2 : Nat) = 1 by decide, show ¬ (2 : Nat) = 0 by decide, false_and, if_false, true_and]
    obtain ⟨b1, b2, -⟩ := a6 k
    by_cases e : k = s.1.1
    · rw [if_pos e, if_pos e]
      obtain ⟨c1, c2⟩ := a5 k (by omega) (by rw [e]; exact hpp)
      rw [b1, b2, c1, c2]
      refine ⟨by omega, by omega, by omega, by omega, Or.inl rfl, Or.inl rfl, Or.inl rfl, by decide, by decide⟩
    · rw [if_neg e, if_neg e]
      obtain ⟨d1, d2, d3, d4, d5, d6, d7, d8, d9⟩ := a3 k (by omega)
      refine ⟨d1, d2, d3, d4, ?_, ?_, d7, d8, d9⟩
      · rcases d5 with z | z
        · exact Or.inl z
        · refine Or.inr ⟨z.1, ?_⟩
          show yA s.2.1 3 k < ((s.1.1 + 1 : Nat) : Int)
          omega
      · rcases d6 with z | z
        · exact Or.inl z
        · refine Or.inr ⟨z.1, ?_, z.2.2⟩
          show yA s.2.1 4 k < ((s.1.1 + 1 : Nat) : Int)
          omega
  · have := a4 k hk
    show k < s.1.1 + 1
    omega
  · exact a5 k hk hn
  · exact a6 k
theorem LOk.one {s : LT} {k o : Nat} (H : LOk s) (hk : k < s.1.1) (ho : o < s.1.1) (hko : k < o) (hp : s.2.2 k = false) : LOk (lOne s k o) := by
  obtain ⟨a1, a2, a3, a4, a5, a6, a7⟩ := H
  obtain ⟨c1, c2⟩ := a5 k (by omega) hp
  refine ⟨a1, a2, fun j hj => ?_, fun j hj => ?_, fun j hj hn => ?_, fun j => ?_, a7⟩
  · have hj : j < s.1.1 := hj
    show YK s.1 (ysA s.2.1 3 k o) 0 j
    unfold YK
    simp only [yA_A, show ¬ (0 : Nat) = 3 by decide, show ¬ (1 : Nat) = 3 by decide, show ¬ (4 : Nat) = 3 by decide, show ¬ (5 : Nat) = 3 by decide, show ¬ (2 : Nat) = 3 by decide, false_and, if_false, true_and]
    obtain ⟨d1, d2, d3, d4, d5, d6, d7, d8, d9⟩ := a3 j hj
    by_cases e : j = k
    · subst e
      rw [if_pos rfl]
      exact ⟨d1, d2, d3, d4, Or.inr ⟨by omega, by omega⟩, Or.inl c2, d7, d8, d9⟩
    · rw [if_neg e]
      exact ⟨d1, d2, d3, d4, d5, d6, d7, d8, d9⟩
  · have hj : (if j = k then true else s.2.2 j) = true := hj
    show j < s.1.1
    by_cases e : j = k
    · omega
    · rw [if_neg e] at hj; exact a4 j hj
  · have hn : (if j = k then true else s.2.2 j) = false := hn
    by_cases e : j = k
    · rw [if_pos e] at hn; cases hn
    · rw [if_neg e] at hn
      obtain ⟨e1, e2⟩ := a5 j hj hn
      exact ⟨(if_neg (fun z => e z.2)).trans e1, e2⟩
  · exact a6 j
theorem LOk.two {s : LT} {k o w : Nat} (H : LOk s) (hk : k < s.1.1) (ho : o < s.1.1) (hw : w < s.1.1) (hko : k < o) (hkw : k < w) (hwo : w ≠ o) (hp : s.2.2 k = false) : LOk (lTwo s k o w) := by
  obtain ⟨a1, a2, a3, a4, a5, a6, a7⟩ := H
  obtain ⟨c1, c2⟩ := a5 k (by omega) hp
  refine ⟨a1, a2, fun j hj => ?_, fun j hj => ?_, fun j hj hn => ?_, fun j => ?_, a7⟩
  · have hj : j < s.1.1 := hj
    show YK s.1 (ysA (ysA s.2.1 3 k o) 4 k w) 0 j
    unfold YK
    simp only [yA_A, show ¬ (0 : Nat) = 3 by decide, show ¬ (1 : Nat) = 3 by decide, show ¬ (4 : Nat) = 3 by decide, show ¬ (5 : Nat) = 3 by decide, show ¬ (2 : Nat) = 3 by decide, show ¬ (0 : Nat) = 4 by decide, show ¬ (1 : Nat) = 4 by decide, show ¬ (3 : Nat) = 4 by decide, show ¬ (5 : Nat) = 4 by decide, show ¬ (2 : Nat) = 4 by decide, false_and, if_false, true_and]
    obtain ⟨d1, d2, d3, d4, d5, d6, d7, d8, d9⟩ := a3 j hj
    by_cases e : j = k
    · subst e
      rw [if_pos rfl, if_pos rfl]
      exact ⟨d1, d2, d3, d4, Or.inr ⟨by omega, by omega⟩, Or.inr ⟨by omega, by omega, by omega, by omega⟩, d7, d8, d9⟩
    · rw [if_neg e, if_neg e]
      exact ⟨d1, d2, d3, d4, d5, d6, d7, d8, d9⟩
  · have hj : (if j = k then true else s.2.2 j) = true := hj
    show j < s.1.1
    by_cases e : j = k
    · omega
    · rw [if_neg e] at hj; exact a4 j hj
  · have hn : (if j = k then true else s.2.2 j) = false := hn
    by_cases e : j = k
    · rw [if_pos e] at hn; cases hn
    · rw [if_neg e] at hn
      obtain ⟨e1, e2⟩ := a5 j hj hn
      refine ⟨(if_neg (fun z => e z.2)).trans e1, ?_⟩
      exact (if_neg (fun z => e z.2)).trans e2
  · exact a6 j
theorem LOk.leaks {s : LT} (φ : VF) (H : LOk s) : LOk (lLeaks s φ) := H
theorem LOk.frost {s : LT} (φ : VF) (H : LOk s) : LOk (lFrost s φ) := H
end YC33
