/-! plain law: what an operation starts from -/
theorem n10 : ¬ (1 : Int32) = 0 := by decide
def XB (g : XC) (N xa oa n : Nat) (Z Ya Yh : Nat → Prop) (na ta cv la lh : Nat) (ra rh : List Nat) (M : MT) (T : Int) (S : XS) : Prop := CRq g xa oa Z Ya Yh na ta cv la lh ra rh M S ∧ (∀ q e, x_cell S q = some e → q < n) ∧ MOk T M ∧ 2 ^ 20 < N ∧ T ≤ 60000000 ∧ n = xTop S ∧ (n + 14000 ≤ xCc S ∧ xSl S + 97000 ≤ xCs S) ∧ GOk g n
def RB (N : Nat) (M : MT) (T : Int) (σ : MS) : Prop := RRel N M σ ∧ MOk T M ∧ 2 ^ 20 < N ∧ T ≤ 60000000
theorem y_some (c : Nat) (_ : c ≤ 9) (x : Int32) : (¬ x < 0 ∧ ¬ ((1 : Int32) <<< (nI c &&& 31)) ≤ x) ∨ (x < 0 ∨ ((1 : Int32) <<< (nI c &&& 31)) ≤ x) := by
  by_cases h : x < 0
  · exact Or.inr (Or.inl h)
  · by_cases h2 : ((1 : Int32) <<< (nI c &&& 31)) ≤ x
    · exact Or.inr (Or.inr h2)
    · exact Or.inl ⟨h, h2⟩
theorem y_pow (c : Nat) (h : c ≤ 9) : ((1 : Int32) <<< (nI c &&& 31)) = iI (2 ^ c) ∧ (2 : Int) ^ c ≤ 512 := by
  have : c = 0 ∨ c = 1 ∨ c = 2 ∨ c = 3 ∨ c = 4 ∨ c = 5 ∨ c = 6 ∨ c = 7 ∨ c = 8 ∨ c = 9 := by omega
  rcases this with rfl | rfl | rfl | rfl | rfl | rfl | rfl | rfl | rfl | rfl <;> decide
section XBs
variable {g : XC} {N xa oa n i : Nat} {Z Ya Yh : Nat → Prop} {na ta cv la lh : Nat} {ra rh : List Nat} {M : MT} {T : Int} {S : XS} {τ : XL} {σ : MS} {C : CC} {V m : MN} {w : Nat → Int32}
theorem oc_some1 (h : OC g Z S xa na ta C V) {x : Int32} (hx : ¬ x < 0 ∧ ¬ ((1 : Int32) <<< (nI C.1 &&& 31)) ≤ x) : kX_X1_someCups g N (nset S ta xa m w) xa x = some (.inl (nset S ta xa m w)) := by
  have hp := y_pow C.1 h.spr.1
  unfold kX_X1_someCups
  refine oc_cups h ?_
  refine ob1 (x_in1 hx.1 ?_) (ot1 (x_right1 (by decide)) rfl)
  intro z
  apply hx.2
  have h1 := pow_pos C.1
  have z : ((1 : Int32) <<< (nI C.1 &&& 31)) - 1 < x := z
  rw [hp.1, show (1 : Int32) = iI 1 by decide, iI_sub, lt32, iI_toInt ⟨by omega, by omega⟩] at z
  rw [hp.1, le32, iI_toInt ⟨by omega, by omega⟩]
  omega
theorem oc_some0 (h : OC g Z S xa na ta C V) (hr : yRm S) {x : Int32} (hx : x < 0 ∨ ((1 : Int32) <<< (nI C.1 &&& 31)) ≤ x) : kX_X1_someCups g N (nset S ta xa m w) xa x = some (.inr (nset S ta xa m w, 1, 0)) := by
  have hp := y_pow C.1 h.spr.1
  unfold kX_X1_someCups
  refine oc_cups h ?_
  refine ob1 (x_in0 ?_) (ot2 (x_right0 hr))
  rcases hx with hx | hx
  · exact Or.inl hx
  · right
    have h1 := pow_pos C.1
    show ((1 : Int32) <<< (nI C.1 &&& 31)) - 1 < x
    rw [hp.1, le32, iI_toInt ⟨by omega, by omega⟩] at hx
    rw [hp.1, show (1 : Int32) = iI 1 by decide, iI_sub, lt32, iI_toInt ⟨by omega, by omega⟩]
    omega
theorem y_xb {sl c k : Nat} (hB : yBody g N xa oa i n Z Ya Yh na ta cv la lh ra rh M τ σ) (hN : 2 ^ 20 < N) (hi : i ≤ 378) (hc : n + 14000 ≤ c) (hk : sl + 97000 ≤ k) : XB (jg g c k) N xa oa n Z Ya Yh na ta cv la lh ra rh M (yT i) ((n, sl, c, k), τ) := by
  obtain ⟨-, -, h3, h4, -⟩ := y_open hB sl c k (by omega) (by omega)
  exact ⟨h3, h4, hB.2.2.2.2, hN, by unfold yT; omega, rfl, ⟨hc, hk⟩, hB.2.2.1⟩
theorem y_rb (hB : yBody g N xa oa i n Z Ya Yh na ta cv la lh ra rh M τ σ) (hN : 2 ^ 20 < N) (hi : i ≤ 378) : RB N M (yT i) σ := ⟨hB.2.2.2.1, hB.2.2.2.2, hN, by unfold yT; omega⟩
/-- the operation's surroundings -/
theorem XB.oc (h : XB g N xa oa n Z Ya Yh na ta cv la lh ra rh M T S) : OC g Z S xa na ta (tC M) (tV M) := by
  obtain ⟨h3, -⟩ := h
  exact ⟨⟨h3.2.1, cv, h3.2.2.1.1, h3.2.2.2.1⟩, h3.1, h3.2.2.2.2.2.2.2.2.1.2.2.2.2.2.2, h3.2.2.1.2.1, h3.2.2.1.2.2.1⟩
theorem XB.ns (h : XB g N xa oa n Z Ya Yh na ta cv la lh ra rh M T S) : ∃ m w, nset S ta xa m w = S := ⟨_, _, nset_yMN h.1.2.1.2.2.1⟩
theorem XB.ks (h : XB g N xa oa n Z Ya Yh na ta cv la lh ra rh M T S) (m : MN) (w : Nat → Int32) : KS xa ta oa n S (nset S ta xa m w) := (KS.refl h.1.2.1.2.2.2.1).nset (fun z => h.1.2.1.2.2.1 z.symm) m w
/-- an operation that tries, and answers -/
theorem b_of {x : XS → Option ((XS × Int32) ⊕ XT)} {mop : Option (MS × Int32)} (h : XB g N xa oa n Z Ya Yh na ta cv la lh ra rh M T S) (k : ∀ m w, ∃ m1 w1 r, x (nset S ta xa m w) = some (.inl (nset S ta xa m1 w1, r)) ∧ ∃ σ1, mop = some (σ1, r) ∧ σ1.1 0 = 0 ∧ RFr σ σ1) : ∃ S1 r, x S = some (.inl (S1, r)) ∧ KS xa ta oa n S S1 ∧ ∃ σ1, mop = some (σ1, r) ∧ σ1.1 0 = 0 ∧ RFr σ σ1 := by
  obtain ⟨m, w, hS⟩ := h.ns
  obtain ⟨m1, w1, r, h1, h2⟩ := k m w
  rw [hS] at h1
  exact ⟨_, r, h1, h.ks m1 w1, h2⟩
/-- hours on both sides -/
theorem r_rep (hN : 2 ^ 20 < N) {T1 : Int} (h : RS N σ C m T1) {n : Nat} (hn : n ≤ 5000) (hT : T1 + 40000 * n ≤ 900000000) : ∃ σ1, kM_hoursGo N σ (nI n) = some σ1 ∧ FrH 64 σ σ1 ∧ RS N σ1 C (yRep (mPass C) n m) (T1 + 40000 * n) ∧ (0 < n → σ1.1 38 = yI (yRep (mPass C) n m) 13) := by
  unfold kM_hoursGo
  refine y_loop (fun f (s : MS) k => kM_hoursGo_2 N f s (nI n) (nI k)) n (fun s k => k ≤ n ∧ FrH 64 σ s ∧ RS N s C (yRep (mPass C) k m) (T1 + 40000 * k) ∧ (0 < k → s.1 38 = yI (yRep (mPass C) k m) 13)) (fun r => ∃ σ1, r = some σ1 ∧ FrH 64 σ σ1 ∧ RS N σ1 C (yRep (mPass C) n m) (T1 + 40000 * n) ∧ (0 < n → σ1.1 38 = yI (yRep (mPass C) n m) 13)) ?_ ?_ n N σ 0 (by omega) (by omega) ⟨by omega, FrH.refl _ _, by simpa [yRep] using h, fun z => by omega⟩
  · rintro f s k hk ⟨-, p1, p2, p3⟩
    right
    obtain ⟨s1, q1, q2, q3, q4, q5, q6⟩ := r_go hN p2 (by omega)
    refine ⟨s1, ?_, by omega, p1.trans q2, ?_, fun _ => q5⟩
    · show kM_hoursGo_2 N (f + 1) s (nI n) (nI k) = kM_hoursGo_2 N f s1 (nI n) (nI (k + 1))
      rw [kM_hoursGo_2]
      refine oif (nI_ge hk (by omega)) (ob1 q1 ?_)
      rw [nI_1]
    · have e : T1 + 40000 * ((k + 1 : Nat) : Int) = T1 + 40000 * (k : Int) + 40000 := by omega
      rw [e]
      exact q3
  · rintro f s ⟨-, p1, p2, p3⟩
    refine ⟨s, ?_, p1, p2, p3⟩
    show kM_hoursGo_2 N (f + 1) s (nI n) (nI n) = _
    rw [kM_hoursGo_2]
    exact oit (nI_le (Nat.le_refl _) (by omega)) rfl
end XBs
