/-! the cave: the parser goes on -/
section YC18
variable {sz : Nat} {b : Nat → Nat}
theorem nxT_ok {t : TK} (h : tkOk sz b t) : tkOk sz b (nxT sz b t) ∧ t.2.2 ≤ (nxT sz b t).2.1 := lxN_ok h.2.1
theorem nxT_lt {t : TK} (h : tkOk sz b t) (h0 : t.1 ≠ 0) : t.2.1 < (nxT sz b t).2.1 := Nat.lt_of_lt_of_le (h.2.2.2.1 h0) (nxT_ok h).2
def pAdv (sz : Nat) (b : Nat → Nat) (P : TK → PR (VF × TK)) : Prop := ∀ t x, tkOk sz b t → P t = .inr x → tkOk sz b x.2 ∧ t.2.1 < x.2.2.1
theorem pB_r {α β : Type} {x : PR α} {f : α → PR β} {y : β} (h : pB x f = .inr y) : ∃ a, x = .inr a ∧ f a = .inr y := by
  cases x with
  | inl e => exact absurd h (fun z => by cases z)
  | inr a => exact ⟨a, rfl, h⟩
theorem sgT_1 {t : TK} {c : Nat} (h : sgT b t c = true) : t.1 = 3 ∧ b t.2.1 = c := of_decide_eq_true h
theorem wd_1 {t : TK} {k : Nat} (h : wd b t k = true) : t.1 = 1 := (wd_t.mp h).1.1
theorem pPart_adv {rec : TK → PR (VF × TK)} (hr : pAdv sz b rec) : pAdv sz b (pPart sz b rec) := by
  intro t x ht h
  unfold pPart at h
  by_cases h2 : t.1 = 2
  · rw [if_pos h2] at h
    by_cases h4 : t.2.2 - t.2.1 ≤ 4
    · rw [if_pos h4] at h
      cases h
      exact ⟨(nxT_ok ht).1, nxT_lt ht (by omega)⟩
    · rw [if_neg h4] at h
      cases h
  · rw [if_neg h2] at h
    by_cases h3 : sgT b t 40 = true
    · rw [if_pos h3] at h
      obtain ⟨y, y1, y2⟩ := pB_r h
      have h30 := (sgT_1 h3).1
      obtain ⟨z1, z2⟩ := hr _ _ (nxT_ok ht).1 y1
      have z3 := nxT_lt ht (by omega)
      by_cases h4 : sgT b y.2 41 = true
      · rw [if_pos h4] at y2
        cases y2
        have h40 := (sgT_1 h4).1
        have z4 := nxT_lt z1 (by omega)
        exact ⟨(nxT_ok z1).1, by show t.2.1 < (nxT sz b y.2).2.1; omega⟩
      · rw [if_neg h4] at y2
        cases y2
    · rw [if_neg h3] at h
      by_cases h1 : t.1 = 1
      · rw [if_pos h1] at h
        cases hm : nmT b t with
        | none => rw [hm] at h; cases h
        | some i =>
          rw [hm] at h
          cases h
          exact ⟨(nxT_ok ht).1, nxT_lt ht (by omega)⟩
      · rw [if_neg h1] at h
        cases h
theorem pLoop_adv {op : TK → Option Nat} {item : TK → PR (VF × TK)} (hi : pAdv sz b item) : ∀ (n : Nat) (x y : VF × TK), tkOk sz b x.2 → pLoop sz b op item n x = .inr y → tkOk sz b y.2 ∧ x.2.2.1 ≤ y.2.2.1 := by
  intro n
  induction n with
  | zero =>
    intro x y hx h
    cases h
    exact ⟨hx, Nat.le_refl _⟩
  | succ n ih =>
    intro x y hx h
    unfold pLoop at h
    cases ho : op x.2 with
    | none =>
      rw [ho] at h
      cases h
      exact ⟨hx, Nat.le_refl _⟩
    | some c =>
      rw [ho] at h
      obtain ⟨z, z1, z2⟩ := pB_r h
      obtain ⟨a1, a2⟩ := hi _ _ (nxT_ok hx).1 z1
      obtain ⟨b1, b2⟩ := ih ((fun w => yBy c (x.1 w) (z.1 w)), z.2) y a1 z2
      have c1 := (nxT_ok hx).2
      have c2 := hx.1
      refine ⟨b1, ?_⟩
      have b2 : z.2.2.1 ≤ y.2.2.1 := b2
      omega
theorem pChain_adv {op : TK → Option Nat} {item : TK → PR (VF × TK)} (hi : pAdv sz b item) (n : Nat) : pAdv sz b (fun t => pB (item t) (pLoop sz b op item n)) := by
  intro t y ht h
  obtain ⟨x, x1, x2⟩ := pB_r h
  obtain ⟨a1, a2⟩ := hi _ _ ht x1
  obtain ⟨b1, b2⟩ := pLoop_adv hi n _ _ a1 x2
  exact ⟨b1, by omega⟩
theorem pNots_adv : ∀ (k : Nat) (t : TK) (x : Nat × TK), tkOk sz b t → pNots sz b k t = .inr x → tkOk sz b x.2 ∧ t.2.1 + x.1 ≤ x.2.2.1 ∧ x.1 ≤ k ∧ wd b x.2 9 = false := by
  intro k
  induction k with
  | zero =>
    intro t x ht h
    unfold pNots at h
    by_cases hw : wd b t 9 = true
    · rw [if_pos hw] at h
      cases h
    · rw [if_neg hw] at h
      cases h
      exact ⟨ht, Nat.le_refl _, Nat.le_refl _, by simpa using hw⟩
  | succ k ih =>
    intro t x ht h
    unfold pNots at h
    by_cases hw : wd b t 9 = true
    · rw [if_pos hw] at h
      obtain ⟨y, y1, y2⟩ := pB_r h
      obtain ⟨a1, a2, a3, a4⟩ := ih _ _ (nxT_ok ht).1 y1
      have h1 := wd_1 hw
      have h2 := nxT_lt ht (by omega)
      cases y2
      exact ⟨a1, by show t.2.1 + (y.1 + 1) ≤ y.2.2.1; omega, by show y.1 + 1 ≤ k + 1; omega, a4⟩
    · rw [if_neg hw] at h
      cases h
      exact ⟨ht, Nat.le_refl _, Nat.zero_le _, by simpa using hw⟩
theorem pProd_adv {rec : TK → PR (VF × TK)} (hr : pAdv sz b rec) : pAdv sz b (pProd sz b rec) := pChain_adv (pPart_adv hr) _
theorem pSum_adv {rec : TK → PR (VF × TK)} (hr : pAdv sz b rec) : pAdv sz b (pSum sz b rec) := pChain_adv (pProd_adv hr) _
theorem pCmp_adv {rec : TK → PR (VF × TK)} (hr : pAdv sz b rec) : pAdv sz b (pCmp sz b rec) := pChain_adv (pSum_adv hr) _
theorem pNot_adv {rec : TK → PR (VF × TK)} (hr : pAdv sz b rec) : pAdv sz b (pNot sz b rec) := by
  intro t y ht h
  obtain ⟨x, x1, x2⟩ := pB_r h
  obtain ⟨z, z1, z2⟩ := pB_r x2
  obtain ⟨a1, a2, -, -⟩ := pNots_adv 6 t x ht x1
  obtain ⟨c1, c2⟩ := pCmp_adv hr _ _ a1 z1
  cases z2
  exact ⟨c1, by show t.2.1 < z.2.2.1; omega⟩
theorem pAnd_adv {rec : TK → PR (VF × TK)} (hr : pAdv sz b rec) : pAdv sz b (pAnd sz b rec) := pChain_adv (pNot_adv hr) _
theorem pOr_adv {rec : TK → PR (VF × TK)} (hr : pAdv sz b rec) : pAdv sz b (pOr sz b rec) := pChain_adv (pAnd_adv hr) _
theorem pExp_adv : ∀ k, pAdv sz b (pExp sz b k) := by
  intro k
  induction k with
  | zero =>
    intro t x ht h
    unfold pExp at h
    split at h <;> cases h
  | succ k ih =>
    intro t x ht h
    unfold pExp at h
    by_cases ho : okT b t = true
    · rw [if_pos ho] at h
      exact pOr_adv ih t x ht h
    · rw [if_neg ho] at h
      cases h
/-! which sign or word a token is -/
theorem wd_ne {t : TK} {i j : Nat} (hi : wd b t i = true) (hj : wd b t j = true) : x_slen.getD i 0 = x_slen.getD j 0 ∧ ∀ q, q < x_slen.getD i 0 → (x_sbyt.getD i []).getD q 0 = (x_sbyt.getD j []).getD q 0 := by
  obtain ⟨⟨-, a1⟩, a2⟩ := wd_t.mp hi
  obtain ⟨⟨-, b1⟩, b2⟩ := wd_t.mp hj
  exact ⟨a1.symm.trans b1, fun q hq => (a2 q hq).symm.trans (b2 q (by omega))⟩
theorem k_wne : ∀ i, i < 12 → ∀ j, j < 12 → i ≠ j → ¬ (x_slen.getD (wMap.getD i 0) 0 = x_slen.getD (wMap.getD j 0) 0 ∧ ∀ q, q < x_slen.getD (wMap.getD i 0) 0 → (x_sbyt.getD (wMap.getD i 0) []).getD q 0 = (x_sbyt.getD (wMap.getD j 0) []).getD q 0) := by decide +kernel
/-- the known word's number, from the word -/
theorem knI_of {t : TK} {k : Nat} (hk : k < 12) (h : wd b t (wMap.getD k 0) = true) : knI b t = nI k := by
  have hf : knW b t = some k := by
    unfold knW
    rw [List.find?_range_eq_some]
    refine ⟨h, List.mem_range.mpr hk, fun j hj => ?_⟩
    cases hx : wd b t (wMap.getD j 0) with
    | false => rfl
    | true => exact absurd (wd_ne hx h) (k_wne j (by omega) k hk (by omega))
  unfold knI
  rw [hf]
theorem knI_iff {t : TK} {k : Nat} (hk : k < 12) : knI b t = nI k ↔ wd b t (wMap.getD k 0) = true := by
  refine ⟨fun h => ?_, knI_of hk⟩
  unfold knI at h
  cases hw : knW b t with
  | none => rw [hw] at h; exact absurd h.symm (nI_m1 (by omega))
  | some j =>
    rw [hw] at h
    have h1 := List.find?_some hw
    have h2 := List.mem_range.mp (List.mem_of_find?_eq_some hw)
    have e : j = k := (nI_eq (by omega) (by omega)).mp h
    subst e
    exact h1
theorem knI_sort {t : TK} (h : t.1 ≠ 1) : knI b t = -1 := by
  have : knW b t = none := by
    unfold knW
    rw [List.find?_eq_none]
    intro k _ z
    exact h (wd_1 z)
  unfold knI
  rw [this]
theorem knI_cases (t : TK) : knI b t = -1 ∨ ∃ k, k < 12 ∧ knI b t = nI k := by
  unfold knI
  cases hw : knW b t with
  | none => exact Or.inl rfl
  | some k => exact Or.inr ⟨k, List.mem_range.mp (List.mem_of_find?_eq_some hw), rfl⟩
end YC18
