/-! the cave: the reference reads the whole text -/
section YC38
variable {N sz : Nat} {b : Nat → Nat} {co : List Int32} {t : TK} {σ σ1 : MS} {s : LT} {n : Nat}
theorem pIf {α : Type} {P : Prop} [Decidable P] {x y : PR α} {a : α} (h : (if P then x else y) = .inr a) : (P ∧ x = .inr a) ∨ (¬ P ∧ y = .inr a) := by
  by_cases hP : P
  · rw [if_pos hP] at h; exact Or.inl ⟨hP, h⟩
  · rw [if_neg hP] at h; exact Or.inr ⟨hP, h⟩
theorem nil_ne {α : Type} {e : Nat × TK} {a : α} (h : (.inl e : PR α) = .inr a) : False := by cases h
/-- a line's body goes on, and what is read is in order -/
theorem pBody_ok {y : LT × TK} (hk : tkOk sz b t) (H : LOk s) (h : pBody sz b s t = .inr y) : LOk y.1 ∧ tkOk sz b y.2 ∧ t.2.1 + 3 ≤ y.2.2.1 := by
  unfold pBody at h
  rcases pIf h with ⟨w, h⟩ | ⟨-, h⟩
  · have hl := len_wd hk w (n := 5) rfl
    unfold pLeaks at h
    rcases pIf h with ⟨-, h⟩ | ⟨-, h⟩
    · exact (nil_ne h).elim
    · obtain ⟨x, x1, x2⟩ := pB_r h
      obtain ⟨a1, a2⟩ := pExp_adv 6 _ x (nxT_ok hk).1 x1
      cases x2
      exact ⟨H.leaks x.1, a1, by show t.2.1 + 3 ≤ x.2.2.1; omega⟩
  rcases pIf h with ⟨w, h⟩ | ⟨-, h⟩
  · have hl := len_wd hk w (n := 5) rfl
    unfold pFrost at h
    rcases pIf h with ⟨-, h⟩ | ⟨-, h⟩
    · exact (nil_ne h).elim
    · obtain ⟨x, x1, x2⟩ := pB_r h
      obtain ⟨a1, a2⟩ := pExp_adv 6 _ x (nxT_ok hk).1 x1
      cases x2
      exact ⟨H.frost x.1, a1, by show t.2.1 + 3 ≤ x.2.2.1; omega⟩
  rcases pIf h with ⟨w, h⟩ | ⟨-, h⟩
  · have hl := len_wd hk w (n := 3) rfl
    unfold pCup at h
    rcases pIf h with ⟨h9, h⟩ | ⟨-, h⟩
    · obtain ⟨x1, y1, h⟩ := pB_r h
      obtain ⟨x2, y2, h⟩ := pB_r h
      obtain ⟨x3, y3, h⟩ := pB_r h
      obtain ⟨a1, a2, a3, a4⟩ := pNum_ok (nxT_ok hk).1 y1
      obtain ⟨b1, b2, b3, b4⟩ := pNum_ok a1 y2
      obtain ⟨c1, c2, c3, c4⟩ := pNum_ok b1 y3
      cases h
      exact ⟨H.cup h9 ⟨a3, a4⟩ b4 c4, c1, by show t.2.1 + 3 ≤ x3.2.2.1; omega⟩
    · exact (nil_ne h).elim
  rcases pIf h with ⟨w, h⟩ | ⟨-, h⟩
  · have hl := len_wd hk w (n := 4) rfl
    unfold pPipe at h
    obtain ⟨k, y1, h⟩ := pB_r h
    obtain ⟨a1, a2⟩ := pCupN_ok y1
    have k1 := (nxT_ok hk).1
    have l1 := nxT_lt k1 (by omega)
    have k2 := (nxT_ok k1).1
    rcases pIf h with ⟨-, h⟩ | ⟨hp, h⟩
    · exact (nil_ne h).elim
    · have hp : s.2.2 k = false := by simpa using hp
      obtain ⟨o, y2, h⟩ := pB_r h
      obtain ⟨b1, b2⟩ := pCupN_ok y2
      have l2 := nxT_lt k2 (by omega)
      have k3 := (nxT_ok k2).1
      rcases pIf h with ⟨hko, h⟩ | ⟨-, h⟩
      · rcases pIf h with ⟨h2, h⟩ | ⟨-, h⟩
        · obtain ⟨w3, y3, h⟩ := pB_r h
          obtain ⟨c1, c2⟩ := pCupN_ok y3
          have l3 := nxT_lt k3 (by omega)
          rcases pIf h with ⟨⟨hkw, hwo⟩, h⟩ | ⟨-, h⟩
          · cases h
            exact ⟨H.two a2 b2 c2 hko hkw hwo hp, (nxT_ok k3).1, by show t.2.1 + 3 ≤ (nxT sz b (nxT sz b (nxT sz b (nxT sz b t)))).2.1; omega⟩
          · exact (nil_ne h).elim
        · cases h
          exact ⟨H.one a2 b2 hko hp, k3, by show t.2.1 + 3 ≤ (nxT sz b (nxT sz b (nxT sz b t))).2.1; omega⟩
      · exact (nil_ne h).elim
  exact (nil_ne h).elim
theorem pLine_ok {y : LT × TK} (hk : tkOk sz b t) (H : LOk s) (h : pLine sz b s t = .inr y) : LOk y.1 ∧ tkOk sz b y.2 ∧ t.2.1 + 4 ≤ y.2.2.1 := by
  unfold pLine at h
  obtain ⟨x, x1, x2⟩ := pB_r h
  obtain ⟨a1, a2, a3⟩ := pBody_ok hk H x1
  rcases pIf x2 with ⟨h59, h⟩ | ⟨-, h⟩
  · cases h
    have := nxT_lt a2 (by have := (sgT_1 h59).1; omega)
    exact ⟨a1, (nxT_ok a2).1, by show t.2.1 + 4 ≤ (nxT sz b x.2).2.1; omega⟩
  · exact (nil_ne h).elim
theorem pText_ok : ∀ (n : Nat) (s : LT) (t : TK) (s1 : LT), tkOk sz b t → LOk s → pText sz b n s t = .inr s1 → LOk s1 := by
  intro n
  induction n with
  | zero => intro s t s1 _ H h; cases h; exact H
  | succ n ih =>
    intro s t s1 hk H h
    unfold pText at h
    rcases pIf h with ⟨-, h⟩ | ⟨-, h⟩
    · cases h; exact H
    · obtain ⟨y, y1, y2⟩ := pB_r h
      obtain ⟨a1, a2, -⟩ := pLine_ok hk H y1
      exact ih _ _ _ a2 a1 y2
def RTx (N sz : Nat) (b : Nat → Nat) (σ : MS) (X : Option (MS × Int32)) : PR LT → Prop
  | .inr s => ∃ σ1 co1 t1, X = kM_cave_123 N σ1 ∧ RLn sz b co1 s t1 σ1 ∧ RKl σ σ1
  | .inl e => ∃ σ1, X = kM_cave_123 N σ1 ∧ RLb e σ1 ∧ RKl σ σ1
theorem r_text (hN : 2 ^ 20 < N) : ∀ (n f : Nat) (s : LT) (co : List Int32) (t : TK) (σ : MS), sz < n + t.2.1 → n < f → LOk s → RLn sz b co s t σ → RTx N sz b σ (kM_cave_102 N f σ) (pText sz b n s t) := by
  intro n
  induction n with
  | zero =>
    intro f s co t σ hn _ _ h
    have h1 := h.1.2.2.2.1
    have h2 := h.1.2.2.2.2.1
    omega
  | succ n ih =>
    intro f s co t σ hn hf H h
    obtain ⟨f, rfl⟩ : ∃ e, f = e + 1 := ⟨f - 1, by omega⟩
    have hk := h.1.2.2.2
    have h13 : σ.1 13 = nI t.1 := h.1.2.2.1.1
    unfold pText
    by_cases h0 : t.1 = 0
    · rw [if_pos h0]
      refine ⟨σ, co, t, ?_, h, RKl.refl σ⟩
      rw [kM_cave_102]
      refine ob1 h.1.good (oif n10 (oit ?_ rfl))
      show σ.1 13 = 0
      rw [h13, h0]
      rfl
    · rw [if_neg h0]
      have e0 : ¬ σ.1 13 = 0 := by
        rw [h13]
        exact nI_ne0 (by omega) (by have := hk.2.2.1; omega)
      have hl := r_line hN H h
      cases hv : pLine sz b s t with
      | inl e =>
        rw [hv] at hl
        obtain ⟨σ1, k1, k2, k3⟩ := hl
        refine ⟨σ1, ?_, k2, k3⟩
        obtain ⟨f, rfl⟩ : ∃ e, f = e + 1 := ⟨f - 1, by omega⟩
        rw [kM_cave_102]
        refine ob1 h.1.good (oif n10 (oif e0 (ob1 k1 ?_)))
        rw [kM_cave_102]
        exact ob1 k2.bad (oit rfl rfl)
      | inr y =>
        rw [hv] at hl
        obtain ⟨σ1, co1, k1, k2, k3⟩ := hl
        obtain ⟨a1, a2, a3⟩ := pLine_ok hk H hv
        have hstep : kM_cave_102 N (f + 1) σ = kM_cave_102 N f σ1 := by
          rw [kM_cave_102]
          exact ob1 h.1.good (oif n10 (oif e0 (ob1 k1 rfl)))
        have := ih f y.1 co1 y.2 σ1 (by omega) (by omega) a1 k2
        show RTx N sz b σ _ (pText sz b n y.1 y.2)
        rw [hstep]
        cases hv2 : pText sz b n y.1 y.2 with
        | inl e =>
          rw [hv2] at this
          obtain ⟨σ2, u1, u2, u3⟩ := this
          exact ⟨σ2, u1, u2, k3.trans u3⟩
        | inr s2 =>
          rw [hv2] at this
          obtain ⟨σ2, co2, t2, u1, u2, u3⟩ := this
          exact ⟨σ2, co2, t2, u1, u2, k3.trans u3⟩
end YC38
