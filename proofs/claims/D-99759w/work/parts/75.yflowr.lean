/-! plain law: the reference's flows -/
def fF (C : CC) (V : MN) (h : Int) (k : Nat) : Int := if yA V 4 k = -2 then fT C V h k else if yA V 5 k = 0 then (fT C V h k + 1) / 2 else fT C V h k / 2
/-- flows up to c lie in the reference's arrays -/
def FRp (C : CC) (V : MN) (h : Int) (c : Nat) (σ : MS) : Prop := ∀ j, j < c → σ.2.2 43 j = iI (fI C V h j) ∧ σ.2.2 44 j = iI (fT C V h j) ∧ σ.2.2 45 j = iI (fF C V h j) ∧ σ.2.2 46 j = iI (fT C V h j - fF C V h j)
theorem r_ldc {σ : MS} {k c : Nat} (j : Nat) {L : Int32} (hL : L = nI j) (h : j + c < m_len k) : m_ld σ k (L + nI c) = some (σ.2.2 k (j + c)) := r_ld (by rw [hL, nI_add]) h
theorem mInto_a {V : MN} {k : Nat} (h4 : ¬ yA V 4 k = -2) (h5 : yA V 5 k = 0) : mInto V k 0 = yA V 3 k ∧ mInto V k 1 = yA V 4 k := by
  unfold mInto
  rw [if_neg h4, if_neg h4, h5]
  exact ⟨rfl, rfl⟩
theorem mInto_b {V : MN} {k : Nat} (h4 : ¬ yA V 4 k = -2) (h5 : yA V 5 k = 1) : mInto V k 0 = yA V 4 k ∧ mInto V k 1 = yA V 3 k := by
  unfold mInto
  rw [if_neg h4, if_neg h4, h5]
  exact ⟨rfl, rfl⟩
section FRs
variable {N : Nat} {C : CC} {V : MN} {T h : Int} {σ s : MS}
theorem r_gives (h9 : C.1 ≤ 9) (hR : RowR (s.2.2 31) 0 C V) {g c : Nat} (hY : YK C V T g) (hg : g < C.1) (hc : c < 9) (h45 : s.2.2 45 g = iI (fF C V h g)) (h46 : s.2.2 46 g = iI (fT C V h g - fF C V h g)) : kM_gives N s (nI g) (nI c) = some (s, iI (gvN V g c (fT C V h g))) := by
  obtain ⟨a0, a1, a2, a3, a4, a5, a6, a7, a8⟩ := hY
  obtain ⟨b1, b2, b3, b4, b5, b6, b7⟩ := hR.2 g hg
  rw [Nat.zero_add] at b3 b4
  have l1 : m_ld s 31 (19 + nI g) = some (iI (yA V 3 g)) := by
    exact (r_ldc 19 rfl (by show 19 + g < 128; omega)).trans (by rw [b3])
  have l2 : m_ld s 31 (28 + nI g) = some (iI (if yA V 4 g = -2 then -1 else yA V 4 g)) := by
    exact (r_ldc 28 rfl (by show 28 + g < 128; omega)).trans (by rw [b4])
  have e1 : iI (yA V 3 g) = nI c ↔ yA V 3 g = c := by
    rw [iI_nI]
    exact iI_eq ⟨by omega, by omega⟩ ⟨by omega, by omega⟩
  have k45 : m_ld s 45 (nI g) = some (iI (fF C V h g)) := by rw [r_ld (q := g) rfl (by show g < 9; omega), h45]
  have k46 : m_ld s 46 (nI g) = some (iI (fT C V h g - fF C V h g)) := by rw [r_ld (q := g) rfl (by show g < 9; omega), h46]
  unfold kM_gives
  refine ob1 l1 ?_
  by_cases h4 : yA V 4 g = -2
  · rw [if_pos h4] at l2
    have hF : fF C V h g = fT C V h g := by unfold fF; rw [if_pos h4]
    unfold gvN
    rw [if_pos h4]
    by_cases h3 : yA V 3 g = c
    · rw [if_pos h3]
      refine oit (e1.mpr h3) (ob1 k45 ?_)
      rw [hF]
    · rw [if_neg h3]
      refine oif (fun z => h3 (e1.mp z)) (ob1 l2 (oif ?_ rfl))
      rw [iI_nI, iI_eq ⟨by omega, by omega⟩ ⟨by omega, by omega⟩]
      omega
  · rw [if_neg h4] at l2
    have e2 : iI (yA V 4 g) = nI c ↔ yA V 4 g = c := by
      rw [iI_nI]
      exact iI_eq ⟨by omega, by omega⟩ ⟨by omega, by omega⟩
    have hne : yA V 3 g ≠ yA V 4 g := by omega
    have hF : fF C V h g = if yA V 5 g = 0 then (fT C V h g + 1) / 2 else fT C V h g / 2 := by unfold fF; rw [if_neg h4]
    have hv : gvN V g c (fT C V h g) = if yA V 3 g = c then fF C V h g else if yA V 4 g = c then fT C V h g - fF C V h g else 0 := by
      unfold gvN
      rw [if_neg h4, hF]
      rcases a6 with h5 | h5
      · rw [(mInto_a h4 h5).1, (mInto_a h4 h5).2, if_pos h5]
        by_cases h3 : yA V 3 g = c
        · rw [if_pos h3, if_neg (show ¬ yA V 4 g = (c : Int) by omega), if_pos h3]; omega
        · rw [if_neg h3, if_neg h3]
          by_cases h6 : yA V 4 g = c
          · rw [if_pos h6, if_pos h6]; omega
          · rw [if_neg h6, if_neg h6]; rfl
      · rw [(mInto_b h4 h5).1, (mInto_b h4 h5).2, if_neg (show ¬ yA V 5 g = 0 by omega)]
        by_cases h3 : yA V 3 g = c
        · rw [if_neg (show ¬ yA V 4 g = (c : Int) by omega), if_pos h3, if_pos h3]; omega
        · rw [if_neg h3, if_neg h3]
          by_cases h6 : yA V 4 g = c
          · rw [if_pos h6, if_pos h6]; omega
          · rw [if_neg h6, if_neg h6]; rfl
    rw [hv]
    by_cases h3 : yA V 3 g = c
    · rw [if_pos h3]
      exact oit (e1.mpr h3) (ob1 k45 rfl)
    · rw [if_neg h3]
      refine oif (fun z => h3 (e1.mp z)) (ob1 l2 ?_)
      by_cases h6 : yA V 4 g = c
      · rw [if_pos h6]
        exact oit (e2.mpr h6) (ob1 k46 rfl)
      · rw [if_neg h6]
        exact oif (fun z => h6 (e2.mp z)) rfl
theorem FRp.of {c : Nat} {s1 : MS} (hp : FRp C V h c s) (h43 : ∀ j, j < c → s1.2.2 43 j = s.2.2 43 j) (h44 : ∀ j, j < c → s1.2.2 44 j = s.2.2 44 j) (h45 : ∀ j, j < c → s1.2.2 45 j = s.2.2 45 j) (h46 : ∀ j, j < c → s1.2.2 46 j = s.2.2 46 j) : FRp C V h c s1 := fun j hj => by
  rw [h43 j hj, h44 j hj, h45 j hj, h46 j hj]
  exact hp j hj
/-- the last steps of a cup's flow -/
theorem r_fl160 (hR : RowR (s.2.2 31) 0 C V) {c : Nat} (hc9 : c < 9) (K : MS → Int32 → Int32 → Option MS) (x1 : Int32) (hp : FRp C V h c s) (h43 : s.2.2 43 c = iI (fI C V h c)) (h44 : s.2.2 44 c = iI (fT C V h c)) {v : Int32} (hv : v = iI (fF C V h c)) : ∃ s1, kM_flows_160 N K s x1 (nI c) (nI c) v = K s1 x1 (nI (c + 1)) ∧ RK [] [45, 46] s s1 ∧ FRp C V h (c + 1) s1 := by
  refine ⟨rS (rS s 45 c v) 46 c (iI (fT C V h c - fF C V h c)), ?_, ⟨fun _ _ => rfl, fun j hj => ?_⟩, fun j hj => ?_⟩
  · unfold kM_flows_160
    refine ob1 (r_st (q := c) rfl (by show c < 9; omega)) (ob1 (r_ld (q := c) rfl (by show c < 9; omega)) (ob1 (r_ld (q := c) rfl (by show c < 9; omega)) ?_))
    rw [rS_ne _ _ _ _ (show 44 ≠ 45 by decide), h44, rS_get, if_pos ⟨rfl, rfl⟩, hv, iI_sub]
    refine ob1 (r_st (q := c) rfl (by show c < 9; omega)) ?_
    rw [nI_1]
  · simp at hj
    rw [rS_ne _ _ _ _ (by omega), rS_ne _ _ _ _ (by omega)]
  · rw [rS_ne _ _ _ _ (show 43 ≠ 46 by decide), rS_ne _ _ _ _ (show 43 ≠ 45 by decide), rS_ne _ _ _ _ (show 44 ≠ 46 by decide), rS_ne _ _ _ _ (show 44 ≠ 45 by decide), rS_ne _ _ _ _ (show 45 ≠ 46 by decide), rS_get, rS_get]
    by_cases e : j = c
    · subst e
      rw [if_pos ⟨rfl, rfl⟩, if_pos ⟨rfl, rfl⟩]
      exact ⟨h43, h44, hv, rfl⟩
    · rw [if_neg (fun z => e z.2), if_neg (fun z => e z.2), rS_ne _ _ _ _ (show 46 ≠ 45 by decide)]
      exact hp j (by omega)
theorem r_fl40 (hN : 2 ^ 20 < N) (h9 : C.1 ≤ 9) (hG : YG C V T) (hs : ∀ k, k < C.1 → 0 ≤ C.2.1 k ∧ C.2.1 k ≤ 20) (h0 : 0 ≤ h) (h1 : h ≤ 1000001) (hR : RowR (s.2.2 31) 0 C V) {c : Nat} (hc : c < C.1) (K : MS → Int32 → Int32 → Option MS) (x1 : Int32) (hp : FRp C V h c s) {v : Int32} (hv : v = iI (fOwn C V h c)) : ∃ s1, kM_flows_40 N K s x1 (nI c) (nI c) v = K s1 x1 (nI (c + 1)) ∧ RK [] [43, 44, 45, 46] s s1 ∧ FRp C V h (c + 1) s1 := by
  unfold kM_flows_40
  have hst : m_st s 43 (nI c) v = some (rS s 43 c v) := r_st (q := c) rfl (by show c < 9; omega)
  rw [hst]
  show ∃ s1, kM_flows_43 N K N (rS s 43 c v) x1 (nI c) 0 = _ ∧ _
  have hb := fBd hG hs h9 h0 h1 hc
  refine y_loop (fun n (t : MS) k => kM_flows_43 N K n t x1 (nI c) (nI k)) c (fun t k => k ≤ c ∧ RK [] [43, 44, 45, 46] s t ∧ FRp C V h c t ∧ t.2.2 43 c = iI (fOwn C V h c + fPd C V h k c)) (fun r => ∃ s1, r = K s1 x1 (nI (c + 1)) ∧ RK [] [43, 44, 45, 46] s s1 ∧ FRp C V h (c + 1) s1) ?_ ?_ c N (rS s 43 c v) 0 (by omega) (by omega) ⟨by omega, ⟨fun _ _ => rfl, fun j hj => rS_ne _ _ _ _ (fun z => hj (by simp [z]))⟩, hp.of (fun j hj => by rw [rS_get, if_neg (by omega)]) (fun j _ => by rw [rS_ne _ _ _ _ (by decide)]) (fun j _ => by rw [rS_ne _ _ _ _ (by decide)]) (fun j _ => by rw [rS_ne _ _ _ _ (by decide)]), ?_⟩
  · rintro n t k hk ⟨-, p1, p2, p3⟩
    right
    have hRt : RowR (t.2.2 31) 0 C V := by rw [p1.2 31 (by decide)]; exact hR
    have hgv := r_gives (N := N) (h := h) h9 hRt (hG k (by omega)) (by omega) (show c < 9 by omega) (p2 k hk).2.2.1 (p2 k hk).2.2.2
    refine ⟨rS t 43 c (iI (fOwn C V h c + fPd C V h (k + 1) c)), ?_, by omega, p1.trans (J1 := []) (K1 := [43]) ⟨fun _ _ => rfl, fun j hj => rS_ne _ _ _ _ (fun z => hj (by simp [z]))⟩ (fun _ z => z) (fun j z => by simp at z; simp [z]), p2.of (fun j hj => by rw [rS_get, if_neg (by omega)]) (fun j _ => by rw [rS_ne _ _ _ _ (by decide)]) (fun j _ => by rw [rS_ne _ _ _ _ (by decide)]) (fun j _ => by rw [rS_ne _ _ _ _ (by decide)]), by rw [rS_get, if_pos ⟨rfl, rfl⟩]⟩
    show kM_flows_43 N K (n + 1) t x1 (nI c) (nI k) = _
    rw [kM_flows_43]
    refine oif (nI_ge hk (by omega)) (ob1 (r_ld (q := c) rfl (by show c < 9; omega)) (ob1 hgv ?_))
    rw [p3, iI_add]
    refine ob1 (r_st (q := c) rfl (by show c < 9; omega)) ?_
    rw [nI_1, fPd_s, Int.add_assoc]
  · rintro n t ⟨-, p1, p2, p3⟩
    have hRt : RowR (t.2.2 31) 0 C V := by rw [p1.2 31 (by decide)]; exact hR
    have hY := hG c hc
    obtain ⟨a0, a1, a2, a3, a4, a5, a6, a7, a8⟩ := hY
    obtain ⟨b1, b2, b3, b4, b5, b6, b7⟩ := hRt.2 c hc
    rw [Nat.zero_add] at b1 b2 b4 b5
    have hI : fOwn C V h c + fPd C V h c c = fI C V h c := rfl
    rw [hI] at p3
    have q1 : RK [] [43, 44, 45, 46] s (rS t 44 c (iI (fT C V h c))) := p1.trans (J1 := []) (K1 := [44]) ⟨fun _ _ => rfl, fun j hj => rS_ne _ _ _ _ (fun z => hj (by simp [z]))⟩ (fun _ z => z) (fun j z => by simp at z; simp [z])
    have q2 : FRp C V h c (rS t 44 c (iI (fT C V h c))) := p2.of (fun j _ => by rw [rS_ne _ _ _ _ (by decide)]) (fun j hj => by rw [rS_get, if_neg (by omega)]) (fun j _ => by rw [rS_ne _ _ _ _ (by decide)]) (fun j _ => by rw [rS_ne _ _ _ _ (by decide)])
    have q3 : (rS t 44 c (iI (fT C V h c))).2.2 43 c = iI (fI C V h c) := by rw [rS_ne _ _ _ _ (by decide)]; exact p3
    have q4 : (rS t 44 c (iI (fT C V h c))).2.2 44 c = iI (fT C V h c) := by rw [rS_get, if_pos ⟨rfl, rfl⟩]
    have q5 : RowR ((rS t 44 c (iI (fT C V h c))).2.2 31) 0 C V := by rw [rS_ne _ _ _ _ (by decide)]; exact hRt
    have q6 : ∀ q, (rS t 44 c (iI (fT C V h c))).2.2 31 q = t.2.2 31 q := fun q => by rw [rS_ne _ _ _ _ (by decide)]
    have hd : iI (yA V 1 c) + iI (fI C V h c) = iI (yA V 1 c + fI C V h c) := iI_add _ _
    have hfin : ∀ v, v = iI (fF C V h c) → ∃ s1, kM_flows_160 N K (rS t 44 c (iI (fT C V h c))) x1 (nI c) (nI c) v = K s1 x1 (nI (c + 1)) ∧ RK [] [43, 44, 45, 46] s s1 ∧ FRp C V h (c + 1) s1 := fun v hv => by
      obtain ⟨s1, u1, u2, u3⟩ := r_fl160 (N := N) q5 (show c < 9 by omega) K x1 q2 q3 q4 hv
      exact ⟨s1, u1, q1.trans u2 (fun _ z => z) (fun j z => by simp at z; simp; omega), u3⟩
    have hmid : kM_flows_43 N K (n + 1) t x1 (nI c) (nI c) = if iI (if yA V 4 c = -2 then -1 else yA V 4 c) = (-1) then kM_flows_160 N K (rS t 44 c (iI (fT C V h c))) x1 (nI c) (nI c) (iI (fT C V h c)) else if iI (yA V 5 c) = 0 then kM_flows_160 N K (rS t 44 c (iI (fT C V h c))) x1 (nI c) (nI c) (iI ((fT C V h c + 1) / 2)) else kM_flows_160 N K (rS t 44 c (iI (fT C V h c))) x1 (nI c) (nI c) (iI (fT C V h c / 2)) := by
      rw [kM_flows_43]
      refine oit (nI_le (Nat.le_refl _) (by omega)) (ob1 (r_ld (q := 10 + c) (nI_add 10 c) (by show 10 + c < 128; omega)) (ob1 (r_ld (q := c) rfl (by show c < 9; omega)) (ob1 (r_ld (q := 1 + c) (nI_add 1 c) (by show 1 + c < 128; omega)) ?_)))
      rw [b1, b2, p3, hd]
      refine oif ?_ (onb (v := iI (fT C V h c)) ?_ (ob1 (r_st (q := c) rfl (by show c < 9; omega)) (ob1 (r_ld (q := 28 + c) (nI_add 28 c) (by show 28 + c < 128; omega)) ?_)))
      · rw [show (0 : Int32) = iI 0 from rfl, iI_eq ⟨by omega, by omega⟩ ⟨by omega, by omega⟩]
        omega
      · rw [iI_div (by omega) ⟨by omega, by omega⟩ (by omega) ⟨by omega, by omega⟩, fT_eq]
      · rw [q6, b4]
        have l44 : m_ld (rS t 44 c (iI (fT C V h c))) 44 (nI c) = some (iI (fT C V h c)) := by rw [r_ld (q := c) rfl (by show c < 9; omega), q4]
        have l37 : m_ld (rS t 44 c (iI (fT C V h c))) 31 (37 + nI c) = some (iI (yA V 5 c)) := by exact (r_ldc 37 rfl (by show 37 + c < 128; omega)).trans (by rw [q6, b5])
        by_cases g1 : iI (if yA V 4 c = -2 then -1 else yA V 4 c) = (-1)
        · exact oit g1 (ob1 l44 (if_pos g1).symm)
        · refine oif g1 (ob1 l37 ?_)
          rw [if_neg g1]
          by_cases g2 : iI (yA V 5 c) = 0
          · refine oit g2 (ob1 l44 (onb ?_ (if_pos g2).symm))
            rw [show (1 : Int32) = iI 1 from rfl, show (2 : Int32) = iI 2 from rfl, iI_add, iI_div (by omega) ⟨by omega, by omega⟩ (by omega) ⟨by omega, by omega⟩]
          · refine oif g2 (ob1 l44 (onb ?_ (if_neg g2).symm))
            rw [show (2 : Int32) = iI 2 from rfl, iI_div (by omega) ⟨by omega, by omega⟩ (by omega) ⟨by omega, by omega⟩]
    have eF : fF C V h c = if yA V 4 c = -2 then fT C V h c else if yA V 5 c = 0 then (fT C V h c + 1) / 2 else fT C V h c / 2 := rfl
    show ∃ s1, kM_flows_43 N K (n + 1) t x1 (nI c) (nI c) = _ ∧ _
    rw [hmid]
    by_cases h4 : yA V 4 c = -2
    · rw [if_pos h4] at eF
      rw [if_pos h4, if_pos (by rfl)]
      exact hfin _ (by rw [eF])
    · rw [if_neg h4] at eF
      have g1 : ¬ iI (yA V 4 c) = -1 := by
        rw [show (-1 : Int32) = iI (-1) from rfl, iI_eq ⟨by omega, by omega⟩ ⟨by omega, by omega⟩]
        omega
      rw [if_neg h4, if_neg g1]
      by_cases h5 : yA V 5 c = 0
      · rw [if_pos h5] at eF
        rw [h5, if_pos (by rfl)]
        exact hfin _ (by rw [eF])
      · rw [if_neg h5] at eF
        have g2 : ¬ iI (yA V 5 c) = 0 := by
          rw [show (0 : Int32) = iI 0 from rfl, iI_eq ⟨by omega, by omega⟩ ⟨by omega, by omega⟩]
          omega
        rw [if_neg g2]
        exact hfin _ (by rw [eF])
  · rw [rS_get, if_pos ⟨rfl, rfl⟩, hv]
    have : fPd C V h 0 c = 0 := rfl
    rw [this, Int.add_zero]
theorem r_flows (hN : 2 ^ 20 < N) (h9 : C.1 ≤ 9) (hG : YG C V T) (hs : ∀ k, k < C.1 → 0 ≤ C.2.1 k ∧ C.2.1 k ≤ 20) {n : Nat} (hn : n ≤ 1000001) (hC : RC N σ C) (hR : RowR (σ.2.2 31) 0 C V) : ∃ σ1, kM_flows N σ (nI n) = some σ1 ∧ RK [] [43, 44, 45, 46] σ σ1 ∧ FRp C V n C.1 σ1 := by
  unfold kM_flows
  refine y_loop (fun f (t : MS) k => kM_flows_2 N f t (nI n) (nI k)) C.1 (fun t k => RK [] [43, 44, 45, 46] σ t ∧ FRp C V n k t) (fun r => ∃ σ1, r = some σ1 ∧ RK [] [43, 44, 45, 46] σ σ1 ∧ FRp C V n C.1 σ1) ?_ ?_ C.1 N σ 0 (by omega) (by omega) ⟨⟨fun _ _ => rfl, fun _ _ => rfl⟩, fun j hj => by omega⟩
  · rintro f t k hk ⟨p1, p2⟩
    right
    have hRt : RowR (t.2.2 31) 0 C V := by rw [p1.2 31 (by decide)]; exact hR
    obtain ⟨b1, b2, b3, b4, b5, b6, b7⟩ := hRt.2 k hk
    rw [Nat.zero_add] at b7
    have hsk := hs k hk
    have h4k : t.2.2 4 k = iI (C.2.1 k) := by rw [p1.2 4 (by decide)]; exact hC.2.1 k hk
    have h1t : t.1 1 = nI C.1 := (p1.1 1 (by simp)).trans hC.1
    have key : kM_flows_2 N (f + 1) t (nI n) (nI k) = kM_flows_40 N (kM_flows_2 N f) t (nI n) (nI k) (nI k) (iI (fOwn C V n k)) := by
      rw [kM_flows_2]
      refine oif (by rw [h1t]; exact nI_ge hk (by omega)) (ob1 (r_ld (q := 55 + k) (nI_add 55 k) (by show 55 + k < 128; omega)) ?_)
      rw [b7]
      unfold fOwn
      by_cases hp : ((yI V 7 >>> (nI k &&& 31)) &&& 1) = 1
      · rw [if_pos hp, if_pos hp]
        exact oit rfl rfl
      · rw [if_neg hp, if_neg hp]
        refine oif (by decide) (ob1 (r_ld (q := k) rfl (by show k < 9; omega)) ?_)
        rw [h4k, iI_nI n, iI_mul]
    obtain ⟨s1, u1, u2, u3⟩ := r_fl40 hN h9 hG hs (h := (n : Int)) (by omega) (by omega) hRt hk (kM_flows_2 N f) (nI n) p2 rfl
    exact ⟨s1, key.trans u1, p1.trans u2 (fun _ z => z) (fun _ z => z), u3⟩
  · rintro f t ⟨p1, p2⟩
    have h1t : t.1 1 = nI C.1 := (p1.1 1 (by simp)).trans hC.1
    refine ⟨t, ?_, p1, p2⟩
    show kM_flows_2 N (f + 1) t (nI n) (nI C.1) = _
    rw [kM_flows_2]
    exact oit (by rw [h1t]; exact nI_le (Nat.le_refl _) (by omega)) rfl
end FRs
