/-! the cave: the reference's lines -/
/-- code stands in co at a -/
def CdIn (co : List Int32) (a : Nat) (φ : VF) : Prop := ∃ pre seg post : List Int32, co = pre ++ seg ++ [0] ++ post ∧ pre.length = a ∧ Seg seg φ
theorem CdIn.app {co : List Int32} {a : Nat} {φ : VF} (h : CdIn co a φ) (l : List Int32) : CdIn (co ++ l) a φ := by
  obtain ⟨pre, seg, post, h1, h2, h3⟩ := h
  exact ⟨pre, seg, post ++ l, by rw [h1]; simp [List.append_assoc], h2, h3⟩
def fIn (co : List Int32) (φ : Option VF) (x : Int32) : Prop := match φ with
  | none => x = -1
  | some ψ => ∃ a : Nat, x = nI a ∧ CdIn co a ψ
theorem fIn.app {co : List Int32} {φ : Option VF} {x : Int32} (h : fIn co φ x) (l : List Int32) : fIn (co ++ l) φ x := by
  cases φ with
  | none => exact h
  | some ψ =>
    obtain ⟨a, h1, h2⟩ := h
    exact ⟨a, h1, h2.app l⟩
theorem fIn.some {co : List Int32} {φ : Option VF} {x : Int32} (h : fIn co φ x) (hl : co.length ≤ 1400) : x = -1 ↔ φ.isSome = false := by
  cases φ with
  | none => exact ⟨fun _ => rfl, fun _ => h⟩
  | some ψ =>
    obtain ⟨a, h1, pre, seg, post, h2, h3, h4⟩ := h
    have : a < co.length := by
      rw [h2, List.length_append, List.length_append, List.length_append, h3]
      show a < a + seg.length + 1 + post.length
      omega
    refine ⟨fun z => ?_, fun z => by cases z⟩
    rw [h1] at z
    exact absurd z (nI_m1 (by omega))
/-- the token stands, nothing is wrong -/
def RTk (sz : Nat) (b : Nat → Nat) (t : TK) (σ : MS) : Prop := σ.1 8 = 0 ∧ RTp sz b σ ∧ RT sz b t σ ∧ tkOk sz b t
def RLb (e : Nat × TK) (σ : MS) : Prop := σ.1 8 = nI e.1 ∧ (1 ≤ e.1 ∧ e.1 ≤ 5) ∧ σ.1 9 = nI e.2.2.1
section YC34
variable {N sz : Nat} {b : Nat → Nat} {co : List Int32} {t : TK} {σ σ1 : MS} {s : LT}
theorem RLb.bad {e : Nat × TK} (h : RLb e σ) : kM_isGood N σ = some (σ, 0) := r_bad (by rw [h.1]; exact nI_ne0 h.2.1.1 (by have := h.2.1.2; omega))
theorem RTk.good (h : RTk sz b t σ) : kM_isGood N σ = some (σ, 1) := r_good h.1
theorem RTk.next (hN : 2 ^ 20 < N) (h : RTk sz b t σ) : ∃ σ1, kM_goes N σ = some σ1 ∧ RTk sz b (nxT sz b t) σ1 ∧ RL σ σ1 := by
  obtain ⟨h1, h2, h3, h4⟩ := h
  obtain ⟨σ1, k1, k2, k3⟩ := r_next hN h2 h4.2.1 h3.2.2.1
  exact ⟨σ1, k1, ⟨(k2.1 8 (by decide)).trans h1, h2.l k2, k3, (nxT_ok h4).1⟩, k2⟩
theorem RTk.wrong (h : RTk sz b t σ) {k : Nat} (hk : 1 ≤ k ∧ k ≤ 5) : ∃ σ1, kM_wrong N σ (nI k) = some σ1 ∧ RLb (k, t) σ1 ∧ RK [8, 9] [] σ σ1 := ⟨_, r_wrong h.1 (nI k), ⟨(mp_n _ _ _ (by decide)).trans (mp_s _ _ _), hk, (mp_s _ _ _).trans h.2.2.1.2.1⟩, fun j hj => (mp_n _ _ _ (fun z => hj (by rw [z]; decide))).trans (mp_n _ _ _ (fun z => hj (by rw [z]; decide))), fun _ _ => rfl⟩
/-- other tables are written -/
theorem RTk.of (h : RTk sz b t σ) (h1 : ∀ j, j ∈ [8, 9, 11, 12, 13, 14, 15, 16, 17] → σ1.1 j = σ.1 j) (h2 : σ1.2.1 = σ.2.1) (h3 : σ1.2.2 6 = σ.2.2 6) : RTk sz b t σ1 := ⟨(h1 8 (by decide)).trans h.1, h.2.1.of (h1 11 (by decide)) h3 (h1 9 (by decide)), h.2.2.1.of (fun j hj => h1 j (by simp at hj ⊢; omega)) h2, h.2.2.2⟩
theorem RLb.of {e : Nat × TK} (h : RLb e σ) (h1 : σ1.1 8 = σ.1 8) (h2 : σ1.1 9 = σ.1 9) : RLb e σ1 := ⟨h1.trans h.1, h.2.1, h2.trans h.2.2⟩
def RNm (N sz : Nat) (b : Nat → Nat) (σ : MS) (X : Option (MS × Int32)) : PR (Nat × TK) → Prop
  | .inr x => ∃ σ1, X = some (σ1, nI x.1) ∧ RTk sz b x.2 σ1 ∧ RL σ σ1
  | .inl e => ∃ σ1 v, X = some (σ1, v) ∧ RLb e σ1 ∧ RK [8, 9] [] σ σ1
theorem r_number (hN : 2 ^ 20 < N) (h : RTk sz b t σ) {lo hi : Nat} (hlo : lo < 2 ^ 31) (hhi : hi < 2 ^ 31) : RNm N sz b σ (kM_number N σ (nI lo) (nI hi)) (pNum sz b lo hi t) := by
  have hR := h.2.2.1
  have hk := h.2.2.2
  have h7 := h.2.1.2.1
  have hle := hk.1
  have hz := hk.2.1
  have h4 := hk.2.2.1
  have hpre : ∀ {R : Option (MS × Int32)}, ((if nI t.1 = 2 then
      if (4 : Int32) < nI (t.2.2 - t.2.1) then kM_number_49 N σ else if (σ.1 16) < nI lo then kM_number_49 N σ else if (σ.1 16) ≤ nI hi then kM_number_54 N σ else kM_number_49 N σ
    else (kM_wrong N σ 1).bind fun w7 => kM_number_54 N w7) = R) → kM_number N σ (nI lo) (nI hi) = R := fun hR2 => by
    unfold kM_number
    refine ob1 h.good (oif n10 ?_)
    show (if σ.1 13 = 2 then if (4 : Int32) < σ.1 15 then kM_number_49 N σ else if (σ.1 16) < nI lo then kM_number_49 N σ else if (σ.1 16) ≤ nI hi then kM_number_54 N σ else kM_number_49 N σ else (kM_wrong N σ 1).bind fun w7 => kM_number_54 N w7) = _
    rw [hR.1, hR.2.2.2.1]
    exact hR2
  have h49 : ∃ σ1 v, kM_number_49 N σ = some (σ1, v) ∧ RLb (2, t) σ1 ∧ RK [8, 9] [] σ σ1 := by
    obtain ⟨σ1, k1, k2, k3⟩ := h.wrong (N := N) (k := 2) (by decide)
    refine ⟨σ1, σ1.1 16, ?_, k2, k3⟩
    unfold kM_number_49 kM_number_54
    exact ob1 k1 (onb rfl (ob1 k2.bad (oit rfl rfl)))
  unfold pNum
  by_cases h2 : t.1 = 2
  · rw [if_pos h2]
    have e2 : nI t.1 = 2 := by rw [h2]; rfl
    by_cases hl4 : t.2.2 - t.2.1 ≤ 4
    · have hv : σ.1 16 = nI (lxV b t.2.1 (t.2.2 - t.2.1)) := by
        have := hR.2.2.2.2.1 h2
        rw [show min (t.2.2 - t.2.1) 4 = t.2.2 - t.2.1 by omega] at this
        exact this
      have hn := num_lt hk h2 hl4
      have e4 : ¬ (4 : Int32) < nI (t.2.2 - t.2.1) := nI_nlt (a := 4) hl4 (by omega)
      rw [hv] at hpre
      by_cases hl : lo ≤ lxV b t.2.1 (t.2.2 - t.2.1)
      · by_cases hh : lxV b t.2.1 (t.2.2 - t.2.1) ≤ hi
        · rw [if_pos ⟨hl4, hl, hh⟩]
          obtain ⟨σ1, k1, k2, k3⟩ := h.next hN
          refine ⟨σ1, hpre (oit e2 (oif e4 (oif (nI_nlt hl (by omega)) (oit (nI_le hh (by omega)) ?_)))), k2, k3⟩
          unfold kM_number_54
          exact onb hv (ob1 h.good (oif n10 (ob1 k1 rfl)))
        · rw [if_neg (fun z => hh z.2.2)]
          obtain ⟨σ1, v, k1, k2⟩ := h49
          exact ⟨σ1, v, hpre (oit e2 (oif e4 (oif (nI_nlt hl (by omega)) (oif (nI_ge (by omega) (by omega)) k1)))), k2⟩
      · rw [if_neg (fun z => hl z.2.1)]
        obtain ⟨σ1, v, k1, k2⟩ := h49
        exact ⟨σ1, v, hpre (oit e2 (oif e4 (oit (nI_lt (by omega) (by omega)) k1))), k2⟩
    · rw [if_neg (fun z => hl4 z.1)]
      obtain ⟨σ1, v, k1, k2⟩ := h49
      exact ⟨σ1, v, hpre (oit e2 (oit (nI_lt (a := 4) (by omega) (by omega)) k1)), k2⟩
  · rw [if_neg h2]
    obtain ⟨σ1, k1, k2, k3⟩ := h.wrong (N := N) (k := 1) (by decide)
    refine ⟨σ1, σ1.1 16, hpre (oif (fun z => h2 ((nI_eq (b := 2) (by omega) (by omega)).mp z)) (ob1 k1 ?_)), k2, k3⟩
    unfold kM_number_54
    exact onb rfl (ob1 k2.bad (oit rfl rfl))
/-- behind an error numbers aren't read -/
theorem RLb.num {e : Nat × TK} (h : RLb e σ) (x y : Int32) : kM_number N σ x y = some (σ, 0) := by
  unfold kM_number
  exact ob1 h.bad (oit rfl rfl)
/-- what the reference has read -/
def RLn (sz : Nat) (b : Nat → Nat) (co : List Int32) (s : LT) (t : TK) (σ : MS) : Prop := RTk sz b t σ ∧ RCo co σ ∧ co.length ≤ 2 * t.2.1 ∧ σ.1 19 = nI s.1.1 ∧ (∀ k, k < s.1.1 → σ.2.2 25 k = iI (s.1.2.1 k)) ∧ fIn co s.1.2.2.1 (σ.1 20) ∧ fIn co s.1.2.2.2 (σ.1 21) ∧ RowR (σ.2.2 26) 0 s.1 s.2.1 ∧ (∀ q, 37 ≤ q → q < 64 → σ.2.2 26 q = 0) ∧ ∀ k, k < s.1.1 → σ.2.2 30 k = if s.2.2 k = true then 1 else 0
/-- what lines may change -/
def RKl (σ σ1 : MS) : Prop := RK [8, 9, 12, 13, 14, 15, 16, 17, 19, 20, 21, 22, 23, 24] [25, 26, 27, 28, 29, 30] σ σ1
theorem RKl.refl (σ : MS) : RKl σ σ := ⟨fun _ _ => rfl, fun _ _ => rfl⟩
theorem RKl.trans {σ2 : MS} (h : RKl σ σ1) (h2 : RKl σ1 σ2) : RKl σ σ2 := RK.trans h h2 (fun _ z => z) (fun _ z => z)
theorem RKl.l (h : RL σ σ1) : RKl σ σ1 := ⟨fun j hj => h.1 j (fun z => hj (by simp at z ⊢; omega)), fun j _ => by rw [h.2]⟩
theorem RKl.k {J K : List Nat} (h : RK J K σ σ1) (hJ : ∀ j, j ∈ J → j ∈ [8, 9, 12, 13, 14, 15, 16, 17, 19, 20, 21, 22, 23, 24]) (hK : ∀ j, j ∈ K → j ∈ [25, 26, 27, 28, 29, 30]) : RKl σ σ1 := ⟨fun j hj => h.1 j (fun z => hj (hJ j z)), fun j hj => h.2 j (fun z => hj (hK j z))⟩
theorem RKl.st (σ : MS) (k q : Nat) (v : Int32) (hk : k ∈ [25, 26, 27, 28, 29, 30]) : RKl σ (rS σ k q v) := ⟨fun _ _ => rfl, fun j hj => rS_ne _ _ _ _ (fun z => hj (z ▸ hk))⟩
theorem RKl.put (σ : MS) (k : Nat) (v : Int32) (hk : k ∈ [8, 9, 12, 13, 14, 15, 16, 17, 19, 20, 21, 22, 23, 24]) : RKl σ (m_put σ k v) := ⟨fun j hj => mp_n _ _ _ (fun z => hj (z ▸ hk)), fun _ _ => rfl⟩
theorem RKl.x (h : RKx σ σ1) : RKl σ σ1 := ⟨fun j hj => h.1 j (fun z => hj (by simp at z ⊢; omega)), fun j hj => h.2 j (fun z => hj (by simp at z ⊢; omega))⟩
def RLo (sz : Nat) (b : Nat → Nat) (σ : MS) (X : Option MS) : PR (LT × TK) → Prop
  | .inr y => ∃ σ1 co1, X = some σ1 ∧ RLn sz b co1 y.1 y.2 σ1 ∧ RKl σ σ1
  | .inl e => ∃ σ1, X = some σ1 ∧ RLb e σ1 ∧ RKl σ σ1
theorem r_stZ {k q : Nat} {i v : Int32} (hi : i = nI q) (hq : q < m_len k) (hv : v = 0 ∨ v = 1) : m_stZ σ k i v = some (rS σ k q v) := by
  have hz : vp_nar .boolean v = v := by rcases hv with rfl | rfl <;> decide
  rw [← r_st (σ := σ) (v := v) hi hq]
  unfold m_stZ m_st
  rw [hz]
/-- the end of a cup's line -/
theorem r_cupEnd {c : Nat} (hc : c < 9) (v : Int32) : ∃ σ5, ((m_st σ 25 (nI c) v).bind fun σ8 => (m_st σ8 26 (19 + nI c) (-1)).bind fun σ9 => (m_st σ9 26 (28 + nI c) (-1)).bind fun σ10 => (m_stZ σ10 30 (nI c) 0).bind fun σ11 => (kM_isGood N σ11).bind fun w12 => if w12.2 = 0 then some w12.1 else bnd (m_put w12.1 19 ((w12.1.1 19) + 1)) fun σ14 => some σ14) = (kM_isGood N σ5).bind (fun w12 => if w12.2 = 0 then some w12.1 else bnd (m_put w12.1 19 ((w12.1.1 19) + 1)) fun σ14 => some σ14) ∧ σ5.1 = σ.1 ∧ σ5.2.1 = σ.2.1 ∧ RKl σ σ5 ∧ (∀ q, σ5.2.2 26 q = if q = 28 + c then -1 else if q = 19 + c then -1 else σ.2.2 26 q) ∧ (∀ k, σ5.2.2 25 k = if k = c then v else σ.2.2 25 k) ∧ (∀ k, σ5.2.2 30 k = if k = c then 0 else σ.2.2 30 k) ∧ σ5.2.2 27 = σ.2.2 27 := by
  have e19 : (19 : Int32) + nI c = nI (19 + c) := by rw [show (19 : Int32) = nI 19 from rfl, nI_add]
  have e28 : (28 : Int32) + nI c = nI (28 + c) := by rw [show (28 : Int32) = nI 28 from rfl, nI_add]
  refine ⟨rS (rS (rS (rS σ 25 c v) 26 (19 + c) (-1)) 26 (28 + c) (-1)) 30 c 0, ?_, rfl, rfl, (((RKl.st _ _ _ _ (by decide)).trans (RKl.st _ _ _ _ (by decide))).trans (RKl.st _ _ _ _ (by decide))).trans (RKl.st _ _ _ _ (by decide)), fun q => ?_, fun k => ?_, fun k => ?_, ?_⟩
  · exact ob1 (r_st rfl (by show c < 9; omega)) (ob1 (r_st e19 (by show 19 + c < 64; omega)) (ob1 (r_st e28 (by show 28 + c < 64; omega)) (ob1 (r_stZ rfl (by show c < 9; omega) (Or.inl rfl)) rfl)))
  · rw [rS_ne _ _ _ _ (by decide), rS_get, rS_get, rS_ne _ _ _ _ (by decide)]
    by_cases e1 : q = 28 + c
    · rw [if_pos ⟨rfl, e1⟩, if_pos e1]
    · rw [if_neg (fun z => e1 z.2), if_neg e1]
      by_cases e2 : q = 19 + c
      · rw [if_pos ⟨rfl, e2⟩, if_pos e2]
      · rw [if_neg (fun z => e2 z.2), if_neg e2]
  · rw [rS_ne _ _ _ _ (by decide), rS_ne _ _ _ _ (by decide), rS_ne _ _ _ _ (by decide), rS_get]
    by_cases e : k = c
    · rw [if_pos ⟨rfl, e⟩, if_pos e]
    · rw [if_neg (fun z => e z.2), if_neg e]
  · rw [rS_get, rS_ne _ _ _ _ (by decide), rS_ne _ _ _ _ (by decide), rS_ne _ _ _ _ (by decide)]
    by_cases e : k = c
    · rw [if_pos ⟨rfl, e⟩, if_pos e]
    · rw [if_neg (fun z => e z.2), if_neg e]
  · rw [rS_ne _ _ _ _ (by decide), rS_ne _ _ _ _ (by decide), rS_ne _ _ _ _ (by decide), rS_ne _ _ _ _ (by decide)]
end YC34
