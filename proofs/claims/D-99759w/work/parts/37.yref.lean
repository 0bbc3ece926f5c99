/-! plain law: an hour in the reference -/
theorem mp_s (σ : MS) (k : Nat) (v : Int32) : (m_put σ k v).1 k = v := if_pos rfl
theorem mp_n (σ : MS) (k : Nat) (v : Int32) {j : Nat} (h : j ≠ k) : (m_put σ k v).1 j = σ.1 j := if_neg h
theorem m_len_lt (k : Nat) : m_len k < 2 ^ 31 := by unfold m_len; split <;> decide
/-- an entry is written -/
def rS (σ : MS) (k q : Nat) (v : Int32) : MS := m_set σ k (upd (σ.2.2 k) q v)
theorem rS_get (σ : MS) (k q : Nat) (v : Int32) (j p : Nat) : (rS σ k q v).2.2 j p = if j = k ∧ p = q then v else σ.2.2 j p := by
  show (if j = k then upd (σ.2.2 k) q v else σ.2.2 j) p = _
  by_cases e : j = k
  · subst e
    rw [if_pos rfl]
    unfold upd
    by_cases e2 : p = q
    · rw [if_pos e2, if_pos ⟨rfl, e2⟩]
    · rw [if_neg e2, if_neg (fun z => e2 z.2)]
  · rw [if_neg e, if_neg (fun z => e z.1)]
theorem rS_arr (σ : MS) (k q : Nat) (v : Int32) : (rS σ k q v).2.2 k = upd (σ.2.2 k) q v := if_pos rfl
theorem rS_ne (σ : MS) (k q : Nat) (v : Int32) {j : Nat} (h : j ≠ k) : (rS σ k q v).2.2 j = σ.2.2 j := if_neg h
theorem r_ld {σ : MS} {k q : Nat} {i : Int32} (hi : i = nI q) (hq : q < m_len k) : m_ld σ k i = some (σ.2.2 k q) := by
  subst hi
  have := m_len_lt k
  unfold m_ld
  rw [if_neg (nI_in hq this), nI_clamp (by omega)]
theorem r_st {σ : MS} {k q : Nat} {i v : Int32} (hi : i = nI q) (hq : q < m_len k) : m_st σ k i v = some (rS σ k q v) := by
  subst hi
  have := m_len_lt k
  unfold m_st rS
  rw [if_neg (nI_in hq this), nI_clamp (by omega)]
theorem ix3 (b c j : Nat) {L : Int32} (hL : L = nI j) : nI b + L + nI c = nI (b + j + c) := by rw [hL, nI_add, nI_add]
theorem ix2 (c j : Nat) {L : Int32} (hL : L = nI j) : L + nI c = nI (j + c) := by rw [hL, nI_add]
/-! a night in a row -/
def RowR (ρ : Nat → Int32) (b : Nat) (C : CC) (m : MN) : Prop := ρ b = yI m 6 ∧ ∀ k, k < C.1 → ρ (b + 1 + k) = iI (yA m 0 k) ∧ ρ (b + 10 + k) = iI (yA m 1 k) ∧ ρ (b + 19 + k) = iI (yA m 3 k) ∧ ρ (b + 28 + k) = iI (if yA m 4 k = -2 then -1 else yA m 4 k) ∧ ρ (b + 37 + k) = iI (yA m 5 k) ∧ ρ (b + 46 + k) = iI (yA m 2 k) ∧ ρ (b + 55 + k) = if ((yI m 7 >>> (nI k &&& 31)) &&& 1) = 1 then 1 else 0
theorem RowR.congr {ρ : Nat → Int32} {b : Nat} {C : CC} {m m1 : MN} (h : RowR ρ b C m) (h6 : yI m1 6 = yI m 6) (h7 : yI m1 7 = yI m 7) (hA : ∀ i j, i < 6 → j < C.1 → yA m1 i j = yA m i j) : RowR ρ b C m1 := by
  refine ⟨h.1.trans h6.symm, fun k hk => ?_⟩
  rw [hA 0 k (by decide) hk, hA 1 k (by decide) hk, hA 2 k (by decide) hk, hA 3 k (by decide) hk, hA 4 k (by decide) hk, hA 5 k (by decide) hk, h7]
  exact h.2 k hk
section RU
variable {ρ : Nat → Int32} {b : Nat} {C : CC} {m : MN}
theorem RowR.fill (h : RowR ρ b C m) (h9 : C.1 ≤ 9) {c : Nat} (hc : c < 9) (x : Int) : RowR (upd ρ (b + 10 + c) (iI x)) b C (ysA m 1 c x) := by
  refine ⟨?_, fun k hk => ?_⟩
  · exact (if_neg (by omega)).trans h.1
  obtain ⟨h0, h1, h2, h3, h4, h5, h6⟩ := h.2 k hk
  simp only [yA_A, yI_A, show ¬ (0 : Nat) = 1 by decide, show ¬ (3 : Nat) = 1 by decide, show ¬ (4 : Nat) = 1 by decide, show ¬ (5 : Nat) = 1 by decide, show ¬ (2 : Nat) = 1 by decide, false_and, if_false, true_and]
  unfold upd
  rw [if_neg (show ¬ b + 1 + k = b + 10 + c by omega), if_neg (show ¬ b + 19 + k = b + 10 + c by omega), if_neg (show ¬ b + 28 + k = b + 10 + c by omega), if_neg (show ¬ b + 37 + k = b + 10 + c by omega), if_neg (show ¬ b + 46 + k = b + 10 + c by omega), if_neg (show ¬ b + 55 + k = b + 10 + c by omega)]
  refine ⟨h0, ?_, h2, h3, h4, h5, h6⟩
  by_cases e : k = c
  · rw [if_pos (by omega), if_pos e]
  · rw [if_neg (by omega), if_neg e]; exact h1
theorem RowR.hold (h : RowR ρ b C m) (h9 : C.1 ≤ 9) {c : Nat} (hc : c < 9) (x : Int) : RowR (upd ρ (b + 1 + c) (iI x)) b C (ysA m 0 c x) := by
  refine ⟨?_, fun k hk => ?_⟩
  · exact (if_neg (by omega)).trans h.1
  obtain ⟨h0, h1, h2, h3, h4, h5, h6⟩ := h.2 k hk
  simp only [yA_A, yI_A, show ¬ (1 : Nat) = 0 by decide, show ¬ (3 : Nat) = 0 by decide, show ¬ (4 : Nat) = 0 by decide, show ¬ (5 : Nat) = 0 by decide, show ¬ (2 : Nat) = 0 by decide, false_and, if_false, true_and]
  unfold upd
  rw [if_neg (show ¬ b + 10 + k = b + 1 + c by omega), if_neg (show ¬ b + 19 + k = b + 1 + c by omega), if_neg (show ¬ b + 28 + k = b + 1 + c by omega), if_neg (show ¬ b + 37 + k = b + 1 + c by omega), if_neg (show ¬ b + 46 + k = b + 1 + c by omega), if_neg (show ¬ b + 55 + k = b + 1 + c by omega)]
  refine ⟨?_, h1, h2, h3, h4, h5, h6⟩
  by_cases e : k = c
  · rw [if_pos (by omega), if_pos e]
  · rw [if_neg (by omega), if_neg e]; exact h0
theorem RowR.tips (h : RowR ρ b C m) (h9 : C.1 ≤ 9) {c : Nat} (hc : c < 9) (x : Int) : RowR (upd ρ (b + 46 + c) (iI x)) b C (ysA m 2 c x) := by
  refine ⟨?_, fun k hk => ?_⟩
  · exact (if_neg (by omega)).trans h.1
  obtain ⟨h0, h1, h2, h3, h4, h5, h6⟩ := h.2 k hk
  simp only [yA_A, yI_A, show ¬ (1 : Nat) = 2 by decide, show ¬ (3 : Nat) = 2 by decide, show ¬ (4 : Nat) = 2 by decide, show ¬ (5 : Nat) = 2 by decide, show ¬ (0 : Nat) = 2 by decide, false_and, if_false, true_and]
  unfold upd
  rw [if_neg (show ¬ b + 1 + k = b + 46 + c by omega), if_neg (show ¬ b + 10 + k = b + 46 + c by omega), if_neg (show ¬ b + 19 + k = b + 46 + c by omega), if_neg (show ¬ b + 28 + k = b + 46 + c by omega), if_neg (show ¬ b + 37 + k = b + 46 + c by omega), if_neg (show ¬ b + 55 + k = b + 46 + c by omega)]
  refine ⟨h0, h1, h2, h3, h4, ?_, h6⟩
  by_cases e : k = c
  · rw [if_pos (by omega), if_pos e]
  · rw [if_neg (by omega), if_neg e]; exact h5
theorem RowR.turn (h : RowR ρ b C m) (h9 : C.1 ≤ 9) {c : Nat} (hc : c < 9) (x : Int) : RowR (upd ρ (b + 37 + c) (iI x)) b C (ysA m 5 c x) := by
  refine ⟨?_, fun k hk => ?_⟩
  · exact (if_neg (by omega)).trans h.1
  obtain ⟨h0, h1, h2, h3, h4, h5, h6⟩ := h.2 k hk
  simp only [yA_A, yI_A, show ¬ (1 : Nat) = 5 by decide, show ¬ (3 : Nat) = 5 by decide, show ¬ (4 : Nat) = 5 by decide, show ¬ (2 : Nat) = 5 by decide, show ¬ (0 : Nat) = 5 by decide, false_and, if_false, true_and]
  unfold upd
  rw [if_neg (show ¬ b + 1 + k = b + 37 + c by omega), if_neg (show ¬ b + 10 + k = b + 37 + c by omega), if_neg (show ¬ b + 19 + k = b + 37 + c by omega), if_neg (show ¬ b + 28 + k = b + 37 + c by omega), if_neg (show ¬ b + 46 + k = b + 37 + c by omega), if_neg (show ¬ b + 55 + k = b + 37 + c by omega)]
  refine ⟨h0, h1, h2, h3, ?_, h5, h6⟩
  by_cases e : k = c
  · rw [if_pos (by omega), if_pos e]
  · rw [if_neg (by omega), if_neg e]; exact h4
theorem RowR.one (h : RowR ρ b C m) (h9 : C.1 ≤ 9) {c : Nat} (hc : c < 9) (x : Int) : RowR (upd ρ (b + 19 + c) (iI x)) b C (ysA m 3 c x) := by
  refine ⟨?_, fun k hk => ?_⟩
  · exact (if_neg (by omega)).trans h.1
  obtain ⟨h0, h1, h2, h3, h4, h5, h6⟩ := h.2 k hk
  simp only [yA_A, yI_A, show ¬ (1 : Nat) = 3 by decide, show ¬ (5 : Nat) = 3 by decide, show ¬ (4 : Nat) = 3 by decide, show ¬ (2 : Nat) = 3 by decide, show ¬ (0 : Nat) = 3 by decide, false_and, if_false, true_and]
  unfold upd
  rw [if_neg (show ¬ b + 1 + k = b + 19 + c by omega), if_neg (show ¬ b + 10 + k = b + 19 + c by omega), if_neg (show ¬ b + 28 + k = b + 19 + c by omega), if_neg (show ¬ b + 37 + k = b + 19 + c by omega), if_neg (show ¬ b + 46 + k = b + 19 + c by omega), if_neg (show ¬ b + 55 + k = b + 19 + c by omega)]
  refine ⟨h0, h1, ?_, h3, h4, h5, h6⟩
  by_cases e : k = c
  · rw [if_pos (by omega), if_pos e]
  · rw [if_neg (by omega), if_neg e]; exact h2
theorem RowR.two (h : RowR ρ b C m) (h9 : C.1 ≤ 9) {c : Nat} (hc : c < 9) (x : Int) : RowR (upd ρ (b + 28 + c) (iI (if x = -2 then -1 else x))) b C (ysA m 4 c x) := by
  refine ⟨?_, fun k hk => ?_⟩
  · exact (if_neg (by omega)).trans h.1
  obtain ⟨h0, h1, h2, h3, h4, h5, h6⟩ := h.2 k hk
  simp only [yA_A, yI_A, show ¬ (1 : Nat) = 4 by decide, show ¬ (5 : Nat) = 4 by decide, show ¬ (3 : Nat) = 4 by decide, show ¬ (2 : Nat) = 4 by decide, show ¬ (0 : Nat) = 4 by decide, false_and, if_false, true_and]
  unfold upd
  rw [if_neg (show ¬ b + 1 + k = b + 28 + c by omega), if_neg (show ¬ b + 10 + k = b + 28 + c by omega), if_neg (show ¬ b + 19 + k = b + 28 + c by omega), if_neg (show ¬ b + 37 + k = b + 28 + c by omega), if_neg (show ¬ b + 46 + k = b + 28 + c by omega), if_neg (show ¬ b + 55 + k = b + 28 + c by omega)]
  refine ⟨h0, h1, h2, ?_, h4, h5, h6⟩
  by_cases e : k = c
  · rw [if_pos (by omega), if_pos e]
  · rw [if_neg (by omega), if_neg e]; exact h3
theorem RowR.hour (h : RowR ρ b C m) (h9 : C.1 ≤ 9) (x : Int32) : RowR (upd ρ b x) b C (ysI m 6 x) := by
  refine ⟨if_pos rfl, fun k hk => ?_⟩
  obtain ⟨h0, h1, h2, h3, h4, h5, h6⟩ := h.2 k hk
  unfold upd
  rw [if_neg (show ¬ b + 1 + k = b by omega), if_neg (show ¬ b + 10 + k = b by omega), if_neg (show ¬ b + 19 + k = b by omega), if_neg (show ¬ b + 28 + k = b by omega), if_neg (show ¬ b + 37 + k = b by omega), if_neg (show ¬ b + 46 + k = b by omega), if_neg (show ¬ b + 55 + k = b by omega)]
  exact ⟨h0, h1, h2, h3, h4, h5, h6⟩
end RU
/-! the reference's rules, cave -/
def yPm (j : Nat) : Nat := if j = 4 then 5 else if j = 5 then 4 else j
/-- a program of the reference's that answers as φ -/
def CodeR (N : Nat) (code : Nat → Int32) (at0 : Nat) (φ : VF) : Prop := ∀ (σ : MS) (w : Nat → Int32), σ.2.2 5 = code → (∀ i, i < 6 → σ.2.2 34 (yPm i) = w i) → ∃ pile, kM_reckons N σ (nI at0) = some (m_set σ 35 pile, φ w)
def fOkR (N : Nat) (code : Nat → Int32) (φ : Option VF) (x : Int32) : Prop := match φ with
  | none => x = -1
  | some ψ => ∃ at0 : Nat, at0 < 1400 ∧ x = nI at0 ∧ CodeR N code at0 ψ
def RC (N : Nat) (σ : MS) (C : CC) : Prop := σ.1 1 = nI C.1 ∧ (∀ k, k < C.1 → σ.2.2 4 k = iI (C.2.1 k)) ∧ fOkR N (σ.2.2 5) C.2.2.1 (σ.1 2) ∧ fOkR N (σ.2.2 5) C.2.2.2 (σ.1 3)
/-- the night's modes -/
def HM (σ : MS) (m : MN) : Prop := yI m 8 = 0 ∧ ((σ.1 40 = -1 ∧ yI m 9 = 0 ∧ yI m 10 = 0) ∨ (σ.1 40 = 0 ∧ yI m 9 = 1 ∧ yI m 10 = 0) ∨ (σ.1 40 = 1 ∧ yI m 9 = 1 ∧ yI m 10 = 1))
def rScr (σ : MS) (t p : Nat → Int32) : MS := m_set (m_set σ 34 t) 35 p
theorem rScr_self (σ : MS) : rScr σ (σ.2.2 34) (σ.2.2 35) = σ := by
  unfold rScr m_set
  refine Prod.ext rfl (Prod.ext rfl ?_)
  funext j
  show (if j = 35 then σ.2.2 35 else if j = 34 then σ.2.2 34 else σ.2.2 j) = σ.2.2 j
  by_cases e : j = 35
  · rw [if_pos e, e]
  · by_cases e2 : j = 34
    · rw [if_neg e, if_pos e2, e2]
    · rw [if_neg e, if_neg e2]
theorem rScr_ne (σ : MS) (t p : Nat → Int32) {j : Nat} (h : j ≠ 34) (h2 : j ≠ 35) : (rScr σ t p).2.2 j = σ.2.2 j := by
  show (if j = 35 then _ else if j = 34 then _ else σ.2.2 j) = _
  rw [if_neg h2, if_neg h]
/-- what an hour leaves -/
def FrH (b : Nat) (σ σ1 : MS) : Prop := (∀ j, j ≠ 38 → j ≠ 39 → σ1.1 j = σ.1 j) ∧ σ1.2.1 = σ.2.1 ∧ (∀ j, j ≠ 31 → j ≠ 34 → j ≠ 35 → j ≠ 36 → j ≠ 37 → σ1.2.2 j = σ.2.2 j) ∧ ∀ q, (q < b ∨ b + 64 ≤ q) → σ1.2.2 31 q = σ.2.2 31 q
theorem FrH.refl (b : Nat) (σ : MS) : FrH b σ σ := ⟨fun _ _ _ => rfl, rfl, fun _ _ _ _ _ _ => rfl, fun _ _ => rfl⟩
theorem FrH.trans {b : Nat} {σ σ1 σ2 : MS} (h : FrH b σ σ1) (h2 : FrH b σ1 σ2) : FrH b σ σ2 := ⟨fun j a1 a2 => (h2.1 j a1 a2).trans (h.1 j a1 a2), h2.2.1.trans h.2.1, fun j a1 a2 a3 a4 a5 => (h2.2.2.1 j a1 a2 a3 a4 a5).trans (h.2.2.1 j a1 a2 a3 a4 a5), fun q hq => (h2.2.2.2 q hq).trans (h.2.2.2 q hq)⟩
theorem FrH.scr (b : Nat) (σ : MS) (t p : Nat → Int32) : FrH b σ (rScr σ t p) := ⟨fun _ _ _ => rfl, rfl, fun j _ h1 h2 _ _ => rScr_ne σ t p h1 h2, fun q _ => by rw [rScr_ne σ t p (by decide) (by decide)]⟩
theorem FrH.s (b : Nat) (σ : MS) (k q : Nat) (v : Int32) (h : k = 36 ∨ k = 37 ∨ (k = 31 ∧ b ≤ q ∧ q < b + 64)) : FrH b σ (rS σ k q v) := by
  refine ⟨fun _ _ _ => rfl, rfl, fun j h1 h2 h3 h4 h5 => rS_ne _ _ _ _ (by omega), fun p hp => ?_⟩
  rw [rS_get, if_neg (by omega)]
theorem FrH.i (b : Nat) (σ : MS) (k : Nat) (v : Int32) (h : k = 38 ∨ k = 39) : FrH b σ (m_put σ k v) := by
  refine ⟨fun j h1 h2 => if_neg (by omega), rfl, fun _ _ _ _ _ _ => rfl, fun _ _ => rfl⟩
theorem RC.fr {N b : Nat} {σ σ1 : MS} {C : CC} (h : RC N σ C) (hf : FrH b σ σ1) : RC N σ1 C := by
  obtain ⟨h1, h2, h3, h4⟩ := h
  refine ⟨(hf.1 1 (by decide) (by decide)).trans h1, fun k hk => ?_, ?_, ?_⟩
  · rw [hf.2.2.1 4 (by decide) (by decide) (by decide) (by decide) (by decide)]
    exact h2 k hk
  · rw [hf.2.2.1 5 (by decide) (by decide) (by decide) (by decide) (by decide), hf.1 2 (by decide) (by decide)]
    exact h3
  · rw [hf.2.2.1 5 (by decide) (by decide) (by decide) (by decide) (by decide), hf.1 3 (by decide) (by decide)]
    exact h4
theorem HM.fr {b : Nat} {σ σ1 : MS} {m m1 : MN} (h : HM σ m) (hf : FrH b σ σ1) (h8 : yI m1 8 = yI m 8) (h9 : yI m1 9 = yI m 9) (h10 : yI m1 10 = yI m 10) : HM σ1 m1 := by
  unfold HM at h ⊢
  rw [h8, h9, h10, hf.1 40 (by decide) (by decide)]
  exact h
section RH
variable {N b c : Nat} {σ : MS} {C : CC} {m : MN} {T : Int}
theorem r_asks (hb : b = 0 ∨ b = 64) (h9 : C.1 ≤ 9) (hc : c < C.1) (hR : RowR (σ.2.2 31) b C m) (hs : ∀ k, k < C.1 → σ.2.2 4 k = iI (C.2.1 k)) {at0 : Nat} {φ : VF} (hφ : CodeR N (σ.2.2 5) at0 φ) : ∃ t p, kM_asks N σ (nI at0) (nI b) (nI c) = some (rScr σ t p, φ (mVals C m c)) := by
  obtain ⟨h0, h1, h2, h3, h4, h5, h6⟩ := hR.2 c hc
  have hbb : b + 64 ≤ 128 := by omega
  let σ6 := rS (rS (rS (rS (rS (rS σ 34 0 (iI (yA m 1 c))) 34 1 (iI (yA m 0 c))) 34 2 (iI (C.2.1 c))) 34 3 (iI (yA m 2 c))) 34 4 (yI m 6)) 34 5 (nI c)
  have e6 : ∃ t, σ6 = m_set σ 34 t := by
    refine ⟨σ6.2.2 34, ?_⟩
    refine Prod.ext rfl (Prod.ext rfl ?_)
    funext j
    show _ = if j = 34 then σ6.2.2 34 else σ.2.2 j
    by_cases e : j = 34
    · rw [if_pos e, e]
    · rw [if_neg e]
      show (rS (rS (rS (rS (rS (rS σ 34 0 _) 34 1 _) 34 2 _) 34 3 _) 34 4 _) 34 5 _).2.2 j = _
      rw [rS_ne _ _ _ _ e, rS_ne _ _ _ _ e, rS_ne _ _ _ _ e, rS_ne _ _ _ _ e, rS_ne _ _ _ _ e, rS_ne _ _ _ _ e]
  obtain ⟨t, ht⟩ := e6
  obtain ⟨pile, hp⟩ := hφ σ6 (mVals C m c) (by rw [ht]; rfl) (fun i hi => by
    have : i = 0 ∨ i = 1 ∨ i = 2 ∨ i = 3 ∨ i = 4 ∨ i = 5 := by omega
    show (rS (rS (rS (rS (rS (rS σ 34 0 _) 34 1 _) 34 2 _) 34 3 _) 34 4 _) 34 5 _).2.2 34 (yPm i) = _
    rcases this with rfl | rfl | rfl | rfl | rfl | rfl <;> simp [rS_get, yPm, mVals])
  refine ⟨t, pile, ?_⟩
  unfold kM_asks
  refine ob1 ((r_ld (q := b + 10 + c) (ix3 b c 10 rfl) (by show _ < 128; omega)).trans (by rw [h1])) (ob1 (r_st (q := 0) rfl (by decide)) ?_)
  refine ob1 ((r_ld (q := b + 1 + c) (ix3 b c 1 rfl) (by show _ < 128; omega)).trans (by rw [rS_ne _ _ _ _ (by decide), h0])) (ob1 (r_st (q := 1) rfl (by decide)) ?_)
  refine ob1 ((r_ld (q := c) rfl (by show _ < 9; omega)).trans (by rw [rS_ne _ _ _ _ (by decide), rS_ne _ _ _ _ (by decide), hs c hc])) (ob1 (r_st (q := 2) rfl (by decide)) ?_)
  refine ob1 ((r_ld (q := b + 46 + c) (ix3 b c 46 rfl) (by show _ < 128; omega)).trans (by rw [rS_ne _ _ _ _ (by decide), rS_ne _ _ _ _ (by decide), rS_ne _ _ _ _ (by decide), h5])) (ob1 (r_st (q := 3) rfl (by decide)) ?_)
  refine ob1 ((r_ld (q := b) (by rw [show (0 : Int32) = nI 0 from rfl, nI_add, Nat.add_zero]) (by show _ < 128; omega)).trans (by rw [rS_ne _ _ _ _ (by decide), rS_ne _ _ _ _ (by decide), rS_ne _ _ _ _ (by decide), rS_ne _ _ _ _ (by decide), hR.1])) (ob1 (r_st (q := 4) rfl (by decide)) ?_)
  refine ob1 (r_st (q := 5) rfl (by decide)) (ob1 hp ?_)
  rw [ht]
  rfl
theorem r_runs (hb : b = 0 ∨ b = 64) (h9 : C.1 ≤ 9) (hc : c < C.1) (hR : RowR (σ.2.2 31) b C m) (hC : RC N σ C) (hM : HM σ m) : ∃ t p r, kM_runs N σ (nI b) (nI c) = some (rScr σ t p, r) ∧ ((r = 0 ∧ mRuns C m c = 0) ∨ (r ≠ 0 ∧ mRuns C m c = C.2.1 c)) := by
  obtain ⟨h0, h1, h2, h3, h4, h5, h6⟩ := hR.2 c hc
  obtain ⟨c1, c2, c3, c4⟩ := hC
  have hbb : b + 64 ≤ 128 := by omega
  have e0 := rScr_self σ
  unfold kM_runs mRuns
  by_cases p1 : ((yI m 7 >>> (nI c &&& 31)) &&& 1) = 1
  · rw [if_pos p1] at h6 ⊢
    refine ⟨σ.2.2 34, σ.2.2 35, 0, ob1 (r_ld (q := b + 55 + c) (ix3 b c 55 rfl) (by show _ < 128; omega)) ?_, Or.inl ⟨rfl, rfl⟩⟩
    rw [h6, e0]
    rfl
  · rw [if_neg p1] at h6 ⊢
    obtain ⟨m8, hM⟩ := hM
    rcases hM with ⟨m40, m9, m10⟩ | ⟨m40, m9, m10⟩ | ⟨m40, m9, m10⟩
    · rw [if_pos m10, if_pos m8, if_pos m9]
      cases hf : C.2.2.2 with
      | none =>
        rw [hf] at c4
        have c4 : σ.1 3 = -1 := c4
        refine ⟨σ.2.2 34, σ.2.2 35, 1, ob1 (r_ld (q := b + 55 + c) (ix3 b c 55 rfl) (by show _ < 128; omega)) ?_, Or.inr ⟨by decide, rfl⟩⟩
        rw [h6, e0]
        exact oif (by decide) (oit m40 (oit c4 rfl))
      | some φ =>
        rw [hf] at c4
        obtain ⟨at0, q1, q2, q3⟩ := c4
        obtain ⟨t, p, hq⟩ := r_asks (m := m) hb h9 hc hR c2 q3
        show ∃ t p r, _ ∧ ((r = 0 ∧ (if φ (mVals C m c) ≤ 0 then C.2.1 c else 0) = 0) ∨ (r ≠ 0 ∧ (if φ (mVals C m c) ≤ 0 then C.2.1 c else 0) = C.2.1 c))
        have hne : ¬ σ.1 3 = -1 := by
          rw [q2, iI_nI, show (-1 : Int32) = iI (-1) by decide]
          intro z
          have := (iI_eq ⟨by omega, by omega⟩ ⟨by decide, by decide⟩).mp z
          omega
        by_cases p5 : φ (mVals C m c) ≤ 0
        · refine ⟨t, p, 1, ob1 (r_ld (q := b + 55 + c) (ix3 b c 55 rfl) (by show _ < 128; omega)) ?_, Or.inr ⟨by decide, if_pos p5⟩⟩
          rw [h6]
          refine oif (by decide) (oit m40 (oif hne (ob1 (by rw [q2]; exact hq) ?_)))
          exact oif (fun z : (0 : Int32) < φ (mVals C m c) => by rw [le32] at p5; rw [lt32] at z; omega) rfl
        · refine ⟨t, p, 0, ob1 (r_ld (q := b + 55 + c) (ix3 b c 55 rfl) (by show _ < 128; omega)) ?_, Or.inl ⟨rfl, if_neg p5⟩⟩
          rw [h6]
          refine oif (by decide) (oit m40 (oif hne (ob1 (by rw [q2]; exact hq) ?_)))
          exact oit (show (0 : Int32) < φ (mVals C m c) by rw [le32] at p5; rw [lt32]; omega) rfl
    · rw [if_pos m10, if_pos m8, if_neg (show ¬ yI m 9 = 0 by rw [m9]; decide)]
      refine ⟨σ.2.2 34, σ.2.2 35, 1, ob1 (r_ld (q := b + 55 + c) (ix3 b c 55 rfl) (by show _ < 128; omega)) ?_, Or.inr ⟨by decide, rfl⟩⟩
      rw [h6, e0]
      exact oif (by decide) (oif (by rw [m40]; decide) (oit m40 rfl))
    · rw [if_neg (show ¬ yI m 10 = 0 by rw [m10]; decide)]
      refine ⟨σ.2.2 34, σ.2.2 35, 0, ob1 (r_ld (q := b + 55 + c) (ix3 b c 55 rfl) (by show _ < 128; omega)) ?_, Or.inl ⟨rfl, rfl⟩⟩
      rw [h6, e0]
      exact oif (by decide) (oif (by rw [m40]; decide) (oif (by rw [m40]; decide) rfl))
end RH
