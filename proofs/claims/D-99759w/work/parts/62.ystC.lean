/-! plain law: lead -/
def mLead (m : MN) (c : Nat) (x : Int) : MN := ysA (ysA (ysA m 3 c x) 4 c (-2)) 5 c 0
theorem mLead_A (m : MN) (c : Nat) (x : Int) (i j : Nat) : yA (mLead m c x) i j = if j = c ∧ i = 5 then 0 else if j = c ∧ i = 4 then -2 else if j = c ∧ i = 3 then x else yA m i j := by
  unfold mLead
  rw [yA_A, yA_A, yA_A]
  by_cases e : j = c <;> by_cases e2 : i = 5 <;> by_cases e3 : i = 4 <;> by_cases e4 : i = 3 <;> simp [e, e2, e3, e4]
theorem YP.lead {C : CC} {V : MN} {T : Int} (h : YP C V T) {c : Nat} {x : Int} (hx : x = -1 ∨ ((c : Int) < x ∧ x < C.1)) : YP C (mLead V c x) T := by
  obtain ⟨⟨h1, h11⟩, h2⟩ := h
  refine ⟨⟨fun k hk => ?_, fun j hj => ?_⟩, h2⟩
  · have h0 := h1 k hk
    unfold YK at h0 ⊢
    obtain ⟨a0, a1, a2, a3, a4, a5, a6, a7⟩ := h0
    by_cases e : k = c
    · subst e
      have g0 : yA (mLead V k x) 0 k = yA V 0 k := by rw [mLead_A, if_neg (by omega), if_neg (by omega), if_neg (by omega)]
      have g1 : yA (mLead V k x) 1 k = yA V 1 k := by rw [mLead_A, if_neg (by omega), if_neg (by omega), if_neg (by omega)]
      have g2 : yA (mLead V k x) 2 k = yA V 2 k := by rw [mLead_A, if_neg (by omega), if_neg (by omega), if_neg (by omega)]
      have g3 : yA (mLead V k x) 3 k = x := by rw [mLead_A, if_neg (by omega), if_neg (by omega), if_pos ⟨rfl, rfl⟩]
      have g4 : yA (mLead V k x) 4 k = -2 := by rw [mLead_A, if_neg (by omega), if_pos ⟨rfl, rfl⟩]
      have g5 : yA (mLead V k x) 5 k = 0 := by rw [mLead_A, if_pos ⟨rfl, rfl⟩]
      rw [g0, g1, g2, g3, g4, g5]
      exact ⟨a0, a1, a2, a3, hx, Or.inl rfl, Or.inl rfl, a7⟩
    · have gg : ∀ i, yA (mLead V c x) i k = yA V i k := fun i => by rw [mLead_A, if_neg (by omega), if_neg (by omega), if_neg (by omega)]
      rw [gg, gg, gg, gg, gg, gg]
      exact ⟨a0, a1, a2, a3, a4, a5, a6, a7⟩
  · rw [mLead_A, if_neg (by omega), if_neg (by omega), if_neg (by omega)]
    exact h11 j hj
theorem x_lead {g : XC} {N : Nat} {S : XS} {a xa : Nat} {m : MN} {w : Nat → Int32} (h : NC S a xa) {c : Nat} (hc : c < 9) (x : Int) : kX_X3_lead g N (nset S a xa m w) a (nI c) (iI x) = some (nset S a xa (mLead m c x) w) := by
  unfold kX_X3_lead
  exact ob1 (n_obj h (by decide)) (ob1 (n_put (x := x) h (by decide) hc rfl) (ob1 (n_obj h (by decide)) (ob1 (n_put (x := -2) h (by decide) hc (by decide)) (ob1 (n_obj h (by decide)) (ob1 (n_put (x := 0) h (by decide) hc (by decide)) rfl)))))
theorem r_leads {N : Nat} {σ : MS} {b c : Nat} {C : CC} {m : MN} (hb : b = 0 ∨ b = 64) (h9 : C.1 ≤ 9) (hc : c < C.1) (x : Int) (hR : RowR (σ.2.2 31) b C m) : ∃ σ1, kM_leads N σ (nI b) (nI c) (iI x) = some σ1 ∧ FrH b σ σ1 ∧ RowR (σ1.2.2 31) b C (mLead m c x) := by
  have h1 := hR.one h9 (c := c) (by omega) x
  have h2 := h1.two h9 (c := c) (by omega) (-2)
  have h3 := h2.turn h9 (c := c) (by omega) 0
  refine ⟨rS (rS (rS σ 31 (b + 19 + c) (iI x)) 31 (b + 28 + c) (-1)) 31 (b + 37 + c) 0, ?_, ((FrH.s b σ 31 _ _ (Or.inr (Or.inr ⟨rfl, by omega, by omega⟩))).trans (FrH.s b _ 31 _ _ (Or.inr (Or.inr ⟨rfl, by omega, by omega⟩)))).trans (FrH.s b _ 31 _ _ (Or.inr (Or.inr ⟨rfl, by omega, by omega⟩))), ?_⟩
  · unfold kM_leads
    exact ob1 (r_st (q := b + 19 + c) (ix3 b c 19 rfl) (by show _ < 128; omega)) (ob1 (r_st (q := b + 28 + c) (ix3 b c 28 rfl) (by show _ < 128; omega)) (ob1 (r_st (q := b + 37 + c) (ix3 b c 37 rfl) (by show _ < 128; omega)) rfl))
  · rw [rS_arr, rS_arr, rS_arr]
    exact h3
/-- led to x alone -/
def pLed (m : MN) (c : Nat) (x : Int) : Bool := decide (yA m 4 c = -2 ∧ yA m 3 c = x)
theorem pLed_t {m : MN} {c : Nat} {x : Int} : pLed m c x = true ↔ yA m 4 c = -2 ∧ yA m 3 c = x := by unfold pLed; exact decide_eq_true_iff
theorem x_isLed {g : XC} {N : Nat} {S : XS} {a xa : Nat} {V : MN} {T : Int} {C : CC} (h : NightAt S a xa V) (hV : YG C V T) (h9 : C.1 ≤ 9) {c : Nat} (hc : c < C.1) {x : Int} (hx : -1 ≤ x ∧ x < 9) : kX_X3_isLed g N S a (nI c) (iI x) = some (S, if pLed V c x = true then 1 else 0) := by
  obtain ⟨a0, a1, a2, a3, a4, a5, a6, a7⟩ := hV c hc
  unfold kX_X3_isLed
  refine ob1 (na_obj h (by decide)) (ob1 (na_a h (by decide) (by omega)) ?_)
  have e4 : iI (yA V 4 c) = -2 ↔ yA V 4 c = -2 := by
    rw [show (-2 : Int32) = iI (-2) by decide]
    exact iI_eq (by unfold yR; omega) (by unfold yR; omega)
  have e3 : iI (yA V 3 c) = iI x ↔ yA V 3 c = x := iI_eq (by unfold yR; omega) (by unfold yR; omega)
  by_cases p : yA V 4 c = -2
  · refine oit (e4.mpr p) (ob1 (na_obj h (by decide)) (ob1 (na_a h (by decide) (by omega)) ?_))
    by_cases q : yA V 3 c = x
    · rw [if_pos (pLed_t.mpr ⟨p, q⟩)]
      exact oit (e3.mpr q) rfl
    · rw [if_neg (fun z => q (pLed_t.mp z).2)]
      exact oif (fun z => q (e3.mp z)) rfl
  · rw [if_neg (fun z => p (pLed_t.mp z).1)]
    exact oif (fun z => p (e4.mp z)) rfl
theorem r_lead51 {N : Nat} {σ : MS} {V : MN} {T : Int} {C : CC} (hR : RowR (σ.2.2 31) 0 C V) (hV : YG C V T) (h9 : C.1 ≤ 9) {c : Nat} (hc : c < C.1) {x : Int} (hx : -1 ≤ x ∧ x < 9) : kM_lead_51 N σ (nI c) (iI x) = if pLed V c x = true then kM_lead_77 N σ else kM_lead_91 N σ (nI c) (iI x) := by
  obtain ⟨a0, a1, a2, a3, a4, a5, a6, a7⟩ := hV c hc
  obtain ⟨r0, r1, r2, r3, -⟩ := hR.2 c hc
  rw [Nat.zero_add] at r2 r3
  unfold kM_lead_51
  refine ob1 (r_ld (q := 28 + c) (nI_add 28 c) (by show _ < 128; omega)) ?_
  rw [r3]
  by_cases p : yA V 4 c = -2
  · rw [if_pos p]
    refine oit (by decide) (ob1 (r_ld (q := 19 + c) (nI_add 19 c) (by show _ < 128; omega)) ?_)
    rw [r2]
    have e3 : iI (yA V 3 c) = iI x ↔ yA V 3 c = x := iI_eq (by unfold yR; omega) (by unfold yR; omega)
    by_cases q : yA V 3 c = x
    · rw [if_pos (pLed_t.mpr ⟨p, q⟩)]
      exact oit (e3.mpr q) rfl
    · rw [if_neg (fun z => q (pLed_t.mp z).2)]
      exact oif (fun z => q (e3.mp z)) rfl
  · rw [if_neg p, if_neg (fun z => p (pLed_t.mp z).1)]
    refine oif (fun z => ?_) rfl
    rw [show (-1 : Int32) = iI (-1) by decide] at z
    have := (iI_eq (a := yA V 4 c) (b := -1) (by unfold yR; omega) (by unfold yR; omega)).mp z
    omega
theorem yW_bool {h : XT → Option (XS × Int32)} {x : Option ((XS × Int32) ⊕ XT)} {oa : Nat} (hx : (∃ S1 r, x = some (.inl (S1, r)) ∧ (r = 0 ∨ r = 1)) ∨ ∃ u, x = some (.inr u)) : (hbind x h fun r3 => if r3.2 = 0 then (a_putJ r3.1 oa 0 0).bind fun S1 => some (S1, 0) else (a_putJ r3.1 oa 0 1).bind fun S1 => some (S1, (0 : Int32))) = yW h x oa := by
  unfold yW
  rcases hx with ⟨S1, r, rfl, rfl | rfl⟩ | ⟨u, rfl⟩
  · rfl
  · rfl
  · rfl
/-- x from the script: -1, a cup, neither -/
theorem y_to (C : Nat) (hC : C ≤ 9) (hC1 : 1 ≤ C) (a : Int32) : (∃ x : Int, a = iI x ∧ -1 ≤ x ∧ x < C) ∨ (a < -1 ∨ nI C - 1 < a) := by
  have e1 : nI C - 1 = nI (C - 1) := nI_m hC1
  rw [e1]
  by_cases h1 : a.toInt < -1
  · refine Or.inr (Or.inl ?_)
    rw [lt32]
    exact h1
  · by_cases h2 : a.toInt < C
    · exact Or.inl ⟨a.toInt, (iI_t a).symm, by omega, h2⟩
    · refine Or.inr (Or.inr ?_)
      rw [lt32, nI_toInt (by omega)]
      omega
