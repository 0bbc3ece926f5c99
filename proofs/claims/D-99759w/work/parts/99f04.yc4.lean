/-! the cave: numbers of the reference; any token -/
section YC4
variable {N sz : Nat} {b : Nat → Nat} {σ s : MS}
theorem r_dig (hT : RTp sz b σ) {q : Nat} : ∀ (d p f : Nat) (s : MS), p + d = sz → d < f → RL σ s → s.1 14 = nI q → s.1 12 = nI p → q ≤ p → (∀ i, q ≤ i → i < p → cD (b i) = true) → s.1 16 = nI (lxV b q (min (p - q) 4)) → s.1 17 = nI (b q) → ∃ s1, kM_goes_187 N f s = some s1 ∧ RL σ s1 ∧ RT sz b (2, q, lxE cD sz b p) s1 := by
  intro d
  induction d with
  | zero =>
    intro p f s hp hf hl h14 h12 hqp hL hw h17
    obtain ⟨f, rfl⟩ : ∃ e, f = e + 1 := ⟨f - 1, by omega⟩
    have hTs := hT.l hl
    have hb := r_byteAt (N := N) hTs (p := p) (by omega)
    have hA : bA sz b p = 0 := if_neg (by omega)
    rw [hA] at hb
    have h13 : (m_put s 13 2).1 13 = 2 := mp_s _ _ _
    refine ⟨m_put (m_put s 13 2) 15 (nI (p - q)), ?_, hl.trans ((RL.put _ _ _ (by decide)).trans (RL.put _ _ _ (by decide))), ?_⟩
    · rw [kM_goes_187, h12]
      refine ob1 hb (ob1 (v := 0) (r_isDigit (c := 0) (by omega)) (oit rfl (onb rfl ?_)))
      exact r_331 hqp ((mp_n _ _ _ (by decide)).trans h12) ((mp_n _ _ _ (by decide)).trans h14)
    · rw [lxE_f (by omega)]
      refine ⟨(mp_n _ _ _ (by decide)).trans h13, (mp_n _ _ _ (by decide)).trans ((mp_n _ _ _ (by decide)).trans h14), (mp_n _ _ _ (by decide)).trans ((mp_n _ _ _ (by decide)).trans h12), mp_s _ _ _, fun _ => (mp_n _ _ _ (by decide)).trans ((mp_n _ _ _ (by decide)).trans hw), fun z => ?_, fun _ => (mp_n _ _ _ (by decide)).trans ((mp_n _ _ _ (by decide)).trans h17)⟩
      have z : 2 = 1 := z
      omega
  | succ d ih =>
    intro p f s hp hf hl h14 h12 hqp hL hw h17
    obtain ⟨f, rfl⟩ : ∃ e, f = e + 1 := ⟨f - 1, by omega⟩
    have hTs := hT.l hl
    have h700 := hT.2.1
    have hb := r_byteAt (N := N) hTs (p := p) (by omega)
    have hA : bA sz b p = b p := if_pos (by omega)
    rw [hA] at hb
    have h256 := (hT.2.2.1 p (by omega)).2
    by_cases hc : cD (b p) = true
    · have hisl : kM_isDigit N (nI (b p)) = some 1 := by rw [r_isDigit h256, if_pos hc]
      have hcc := cD_t.mp hc
      have hL1 : ∀ i, q ≤ i → i < p + 1 → cD (b i) = true := fun i h1 h2 => by
        by_cases e : i = p
        · rw [e]; exact hc
        · exact hL i h1 (by omega)
      rw [lxE_t (by omega) hc]
      by_cases h6 : 4 ≤ p - q
      · obtain ⟨s1, k1, k2, k3⟩ := ih (p + 1) f (m_put s 12 (nI (p + 1))) (by omega) (by omega) (hl.trans (RL.put _ _ _ (by decide))) ((mp_n _ _ _ (by decide)).trans h14) (mp_s _ _ _) (by omega) hL1 (by
          rw [show min (p + 1 - q) 4 = min (p - q) 4 by omega]
          exact (mp_n _ _ _ (by decide)).trans hw) ((mp_n _ _ _ (by decide)).trans h17)
        refine ⟨s1, ?_, k2, k3⟩
        rw [kM_goes_187, h12]
        refine ob1 hb (ob1 hisl (oif n10 (oit ?_ ?_)))
        · show (4 : Int32) ≤ s.1 12 - s.1 14
          rw [h12, h14, sub_nI hqp]
          exact nI_le (a := 4) h6 (by omega)
        · unfold kM_goes_237
          refine onb rfl ?_
          show kM_goes_187 N f (m_put s 12 (s.1 12 + 1)) = _
          rw [h12, nI_1]
          exact k1
      · have e1 : (10 * s.1 16 + nI (b p)) - 48 = nI (10 * lxV b q (p - q) + (b p - 48)) := by
          rw [hw, show min (p - q) 4 = p - q by omega, show (10 : Int32) = nI 10 from rfl, ixm, nI_add, show (48 : Int32) = nI 48 from rfl, sub_nI (by omega)]
          exact congrArg nI (by omega)
        have e2 : lxV b q (min (p + 1 - q) 4) = 10 * lxV b q (p - q) + (b p - 48) := by
          rw [show min (p + 1 - q) 4 = (p - q) + 1 by omega]
          show 10 * lxV b q (p - q) + (b (q + (p - q)) - 48) = _
          rw [show q + (p - q) = p by omega]
        obtain ⟨s1, k1, k2, k3⟩ := ih (p + 1) f (m_put (m_put s 16 (nI (10 * lxV b q (p - q) + (b p - 48)))) 12 (nI (p + 1))) (by omega) (by omega) ((hl.trans (RL.put _ _ _ (by decide))).trans (RL.put _ _ _ (by decide))) ((mp_n _ _ _ (by decide)).trans ((mp_n _ _ _ (by decide)).trans h14)) (mp_s _ _ _) (by omega) hL1 (by rw [e2]; exact (mp_n _ _ _ (by decide)).trans (mp_s _ _ _)) ((mp_n _ _ _ (by decide)).trans ((mp_n _ _ _ (by decide)).trans h17))
        refine ⟨s1, ?_, k2, k3⟩
        rw [kM_goes_187, h12]
        refine ob1 hb (ob1 hisl (oif n10 (oif ?_ ?_)))
        · show ¬ (4 : Int32) ≤ s.1 12 - s.1 14
          rw [h12, h14, sub_nI hqp]
          exact nI_ge (b := 4) (a := p - q) (by omega) (by omega)
        · show ((kM_byteAt N s (s.1 12)).bind _) = _
          rw [h12]
          refine ob1 hb (onb (congrArg (m_put s 16) e1) ?_)
          unfold kM_goes_237
          refine onb rfl ?_
          show kM_goes_187 N f (m_put _ 12 ((m_put s 16 _).1 12 + 1)) = _
          rw [show ∀ v, (m_put s 16 v).1 12 = s.1 12 from fun v => mp_n _ _ _ (by decide), h12, nI_1]
          exact k1
    · have hisl : kM_isDigit N (nI (b p)) = some 0 := by rw [r_isDigit h256, if_neg hc]
      have h13 : (m_put s 13 2).1 13 = 2 := mp_s _ _ _
      refine ⟨m_put (m_put s 13 2) 15 (nI (p - q)), ?_, hl.trans ((RL.put _ _ _ (by decide)).trans (RL.put _ _ _ (by decide))), ?_⟩
      · rw [kM_goes_187, h12]
        refine ob1 hb (ob1 hisl (oit rfl (onb rfl ?_)))
        exact r_331 hqp ((mp_n _ _ _ (by decide)).trans h12) ((mp_n _ _ _ (by decide)).trans h14)
      · rw [lxE_f (fun z => hc z.2)]
        refine ⟨(mp_n _ _ _ (by decide)).trans h13, (mp_n _ _ _ (by decide)).trans ((mp_n _ _ _ (by decide)).trans h14), (mp_n _ _ _ (by decide)).trans ((mp_n _ _ _ (by decide)).trans h12), mp_s _ _ _, fun _ => (mp_n _ _ _ (by decide)).trans ((mp_n _ _ _ (by decide)).trans hw), fun z => ?_, fun _ => (mp_n _ _ _ (by decide)).trans ((mp_n _ _ _ (by decide)).trans h17)⟩
        have z : 2 = 1 := z
        omega
theorem mlp_1 (σ : MS) (v : Int64) (j : Nat) : (m_lput σ v).1 j = σ.1 j := rfl
theorem bA_eq (h : RTp sz b s) {p : Nat} (hp : p < sz) : bA sz b p = b p := if_pos hp
theorem r_50 (hN : 2 ^ 20 < N) (hT : RTp sz b σ) {p : Nat} (hp : p ≤ sz) (hl : RL σ s) (h12 : s.1 12 = nI p) : ∃ s1, kM_goes_50 N s = some s1 ∧ RL σ s1 ∧ RT sz b (lxP sz b p) s1 := by
  have h700 := hT.2.1
  generalize hs5 : m_put (m_put (m_lput (m_put s 14 (nI p)) 0) 16 0) 17 (nI (bA sz b p)) = s5
  have l4 : RL s (m_put (m_lput (m_put s 14 (nI p)) 0) 16 0) := ((RL.put _ _ _ (by decide)).trans (RL.lput _ _)).trans (RL.put _ _ _ (by decide))
  have l5 : RL s s5 := by rw [← hs5]; exact l4.trans (RL.put _ _ _ (by decide))
  have hb := r_byteAt (N := N) (hT.l (hl.trans l4)) (p := p) hp
  have g12 : s5.1 12 = nI p := by rw [← hs5]; exact (mp_n _ _ _ (by decide)).trans ((mp_n _ _ _ (by decide)).trans ((mlp_1 _ _ _).trans ((mp_n _ _ _ (by decide)).trans h12)))
  have g14 : s5.1 14 = nI p := by rw [← hs5]; exact (mp_n _ _ _ (by decide)).trans ((mp_n _ _ _ (by decide)).trans ((mlp_1 _ _ _).trans (mp_s _ _ _)))
  have g16 : s5.1 16 = nI 0 := by rw [← hs5]; exact (mp_n _ _ _ (by decide)).trans (mp_s _ _ _)
  have g17 : s5.1 17 = nI (bA sz b p) := by rw [← hs5]; exact mp_s _ _ _
  have gw : s5.2.1 = iJ ((0 : Nat) : Int) := by rw [← hs5]; rfl
  have g11 : s5.1 11 = nI sz := (hT.l (hl.trans l5)).1
  have hhd : ∀ {R : Option MS}, ((if (s5.1 12) < (s5.1 11) then
    (kM_isLetter N (nI (bA sz b p))).bind fun w7 =>
    if w7 = 0 then
      (kM_isDigit N (nI (bA sz b p))).bind fun w9 =>
      if w9 = 0 then
        bnd (m_put s5 12 ((s5.1 12) + 1)) fun σ11 =>
        if nI (bA sz b p) = 59 then kM_goes_328 N σ11 3 else
          if nI (bA sz b p) = 40 then kM_goes_328 N σ11 3 else
            if nI (bA sz b p) = 41 then kM_goes_328 N σ11 3 else
              if nI (bA sz b p) = 43 then kM_goes_328 N σ11 3 else
                if nI (bA sz b p) = 45 then kM_goes_328 N σ11 3 else
                  if nI (bA sz b p) = 42 then kM_goes_328 N σ11 3 else
                    if nI (bA sz b p) = 47 then kM_goes_328 N σ11 3 else
                      if nI (bA sz b p) = 60 then kM_goes_328 N σ11 3 else
                        if nI (bA sz b p) = 61 then kM_goes_328 N σ11 3 else kM_goes_328 N σ11 4
      else
        kM_goes_187 N N s5
    else
      kM_goes_108 N N s5
  else
    bnd (m_put s5 13 0) fun σ21 =>
    kM_goes_331 N σ21) = R) → kM_goes_50 N s = R := fun h => by
    unfold kM_goes_50
    rw [h12]
    refine onb rfl (onb rfl (onb rfl ?_))
    show ((kM_byteAt N _ ((m_put (m_lput (m_put s 14 (nI p)) 0) 16 0).1 12)).bind _) = _
    rw [show (m_put (m_lput (m_put s 14 (nI p)) 0) 16 0).1 12 = nI p from (mp_n _ _ _ (by decide)).trans ((mlp_1 _ _ _).trans ((mp_n _ _ _ (by decide)).trans h12))]
    exact ob1 hb (onb hs5 h)
  by_cases h0 : sz ≤ p
  · refine ⟨m_put (m_put s5 13 0) 15 (nI (p - p)), hhd ?_, hl.trans (l5.trans ((RL.put _ _ _ (by decide)).trans (RL.put _ _ _ (by decide)))), ?_⟩
    · refine oif ?_ (onb rfl (r_331 (Nat.le_refl p) ((mp_n _ _ _ (by decide)).trans g12) ((mp_n _ _ _ (by decide)).trans g14)))
      rw [g12, g11]
      exact nI_nlt h0 (by omega)
    · unfold lxP
      rw [if_pos h0]
      refine ⟨(mp_n _ _ _ (by decide)).trans (mp_s _ _ _), (mp_n _ _ _ (by decide)).trans ((mp_n _ _ _ (by decide)).trans g14), (mp_n _ _ _ (by decide)).trans ((mp_n _ _ _ (by decide)).trans g12), mp_s _ _ _, fun z => ?_, fun z => ?_, fun z => ?_⟩
      · have z : 0 = 2 := z
        omega
      · have z : 0 = 1 := z
        omega
      · have z : p < sz := z
        omega
  · have hps : p < sz := by omega
    have eA := bA_eq hT hps
    rw [eA] at hhd g17
    have h256 := (hT.2.2.1 p hps).2
    have hlt : s5.1 12 < s5.1 11 := by rw [g12, g11]; exact nI_lt hps (by omega)
    by_cases h1 : cL (b p) = true
    · obtain ⟨s1, k1, k2, k3⟩ := r_let (N := N) hT (q := p) (sz - p) p N s5 (by omega) (by omega) (hl.trans l5) g14 g12 (Nat.le_refl _) (fun i z1 z2 => by omega) (by rw [Nat.sub_self]; exact gw) g17
      refine ⟨s1, hhd (oit hlt (ob1 (r_isLetter h256) ?_)), k2, ?_⟩
      · rw [if_pos h1]
        exact oif n10 k1
      · unfold lxP
        rw [if_neg h0, if_pos h1]
        exact k3
    · by_cases h2 : cD (b p) = true
      · obtain ⟨s1, k1, k2, k3⟩ := r_dig (N := N) hT (q := p) (sz - p) p N s5 (by omega) (by omega) (hl.trans l5) g14 g12 (Nat.le_refl _) (fun i z1 z2 => by omega) (by rw [Nat.sub_self]; exact g16) g17
        refine ⟨s1, hhd (oit hlt (ob1 (r_isLetter h256) ?_)), k2, ?_⟩
        · rw [if_neg h1]
          refine oit rfl (ob1 (r_isDigit h256) ?_)
          rw [if_pos h2]
          exact oif n10 k1
        · unfold lxP
          rw [if_neg h0, if_neg h1, if_pos h2]
          exact k3
      · have fin : ∀ v : Nat, ∃ s1, kM_goes_328 N (m_put s5 12 (nI (p + 1))) (nI v) = some s1 ∧ RL σ s1 ∧ (v = 3 ∨ v = 4 → RT sz b (v, p, p + 1) s1) := fun v => by
          refine ⟨m_put (m_put (m_put s5 12 (nI (p + 1))) 13 (nI v)) 15 (nI (p + 1 - p)), ?_, hl.trans (l5.trans (((RL.put _ _ _ (by decide)).trans (RL.put _ _ _ (by decide))).trans (RL.put _ _ _ (by decide)))), fun hv => ?_⟩
          · unfold kM_goes_328
            exact onb rfl (r_331 (by omega) ((mp_n _ _ _ (by decide)).trans (mp_s _ _ _)) ((mp_n _ _ _ (by decide)).trans ((mp_n _ _ _ (by decide)).trans g14)))
          · refine ⟨(mp_n _ _ _ (by decide)).trans (mp_s _ _ _), (mp_n _ _ _ (by decide)).trans ((mp_n _ _ _ (by decide)).trans ((mp_n _ _ _ (by decide)).trans g14)), (mp_n _ _ _ (by decide)).trans ((mp_n _ _ _ (by decide)).trans (mp_s _ _ _)), mp_s _ _ _, fun z => ?_, fun z => ?_, fun z => (mp_n _ _ _ (by decide)).trans ((mp_n _ _ _ (by decide)).trans ((mp_n _ _ _ (by decide)).trans g17))⟩
            · have z : v = 2 := z
              omega
            · have z : v = 1 := z
              omega
        have e12 : s5.1 12 + 1 = nI (p + 1) := by rw [g12, nI_1]
        have hL : lxP sz b p = (if cS (b p) = true then 3 else 4, p, p + 1) := by
          unfold lxP
          rw [if_neg h0, if_neg h1, if_neg h2]
        have hq : ∀ k : Nat, k < 256 → (nI (b p) = nI k ↔ b p = k) := fun k hk => nI_eq (by omega) (by omega)
        obtain ⟨u3, v3, w3, x3⟩ := fin 3
        obtain ⟨u4, v4, w4, x4⟩ := fin 4
        by_cases hS : cS (b p) = true
        · refine ⟨u3, hhd (oit hlt (ob1 (r_isLetter h256) ?_)), w3, ?_⟩
          · rw [if_neg h1]
            refine oit rfl (ob1 (r_isDigit h256) ?_)
            rw [if_neg h2]
            refine oit rfl (onb (congrArg (m_put s5 12) e12) ?_)
            have hS := of_decide_eq_true hS
            rcases hS with z | z | z | z | z | z | z | z | z <;> rw [z] <;> exact v3
          · rw [hL, if_pos hS]
            exact x3 (Or.inl rfl)
        · refine ⟨u4, hhd (oit hlt (ob1 (r_isLetter h256) ?_)), w4, ?_⟩
          · rw [if_neg h1]
            refine oit rfl (ob1 (r_isDigit h256) ?_)
            rw [if_neg h2]
            refine oit rfl (onb (congrArg (m_put s5 12) e12) ?_)
            have hS : ¬ (b p = 59 ∨ b p = 40 ∨ b p = 41 ∨ b p = 43 ∨ b p = 45 ∨ b p = 42 ∨ b p = 47 ∨ b p = 60 ∨ b p = 61) := fun z => hS (decide_eq_true z)
            refine oif (fun z => hS ?_) (oif (fun z => hS ?_) (oif (fun z => hS ?_) (oif (fun z => hS ?_) (oif (fun z => hS ?_) (oif (fun z => hS ?_) (oif (fun z => hS ?_) (oif (fun z => hS ?_) (oif (fun z => hS ?_) v4))))))))
            · have := (hq 59 (by omega)).mp z; omega
            · have := (hq 40 (by omega)).mp z; omega
            · have := (hq 41 (by omega)).mp z; omega
            · have := (hq 43 (by omega)).mp z; omega
            · have := (hq 45 (by omega)).mp z; omega
            · have := (hq 42 (by omega)).mp z; omega
            · have := (hq 47 (by omega)).mp z; omega
            · have := (hq 60 (by omega)).mp z; omega
            · have := (hq 61 (by omega)).mp z; omega
          · rw [hL, if_neg hS]
            exact x4 (Or.inr rfl)
theorem r_next (hN : 2 ^ 20 < N) (hT : RTp sz b σ) {a : Nat} (ha : a ≤ sz) (h12 : σ.1 12 = nI a) : ∃ s1, kM_goes N σ = some s1 ∧ RL σ s1 ∧ RT sz b (lxN sz b a) s1 := by
  have h700 := hT.2.1
  have key : ∀ (d p f : Nat) (s : MS), p + d = sz → d < f → RL σ s → s.1 12 = nI p → ∃ s1, kM_goes_0 N f s = some s1 ∧ RL σ s1 ∧ RT sz b (lxP sz b (lxE cSp sz b p)) s1 := by
    intro d
    induction d with
    | zero =>
      intro p f s hp hf hl h12
      obtain ⟨f, rfl⟩ : ∃ e, f = e + 1 := ⟨f - 1, by omega⟩
      obtain ⟨s1, k1, k2, k3⟩ := r_50 hN hT (p := p) (by omega) hl h12
      rw [lxE_f (by omega)]
      refine ⟨s1, ?_, k2, k3⟩
      rw [kM_goes_0, h12, (hT.l hl).1]
      exact oit (nI_le (by omega) (by omega)) k1
    | succ d ih =>
      intro p f s hp hf hl h12
      obtain ⟨f, rfl⟩ : ∃ e, f = e + 1 := ⟨f - 1, by omega⟩
      have hb := r_byteAt (N := N) (hT.l hl) (p := p) (by omega)
      rw [bA_eq hT (by omega)] at hb
      have h256 := (hT.2.2.1 p (by omega)).2
      have hge : ¬ s.1 11 ≤ s.1 12 := by rw [(hT.l hl).1, h12]; exact nI_ge (by omega) (by omega)
      have hq : ∀ k : Nat, k < 256 → (nI (b p) = nI k ↔ b p = k) := fun k hk => nI_eq (by omega) (by omega)
      by_cases hc : cSp (b p) = true
      · obtain ⟨s1, k1, k2, k3⟩ := ih (p + 1) f (m_put s 12 (nI (p + 1))) (by omega) (by omega) (hl.trans (RL.put _ _ _ (by decide))) (mp_s _ _ _)
        rw [lxE_t (by omega) hc]
        refine ⟨s1, ?_, k2, k3⟩
        have h37 : kM_goes_37 N (kM_goes_0 N f) s = some s1 := by
          unfold kM_goes_37
          refine onb rfl ?_
          rw [h12, nI_1]
          exact k1
        rw [kM_goes_0]
        refine oif hge ?_
        rw [h12]
        refine ob1 hb ?_
        by_cases e : b p = 32
        · exact oit ((hq 32 (by omega)).mpr e) h37
        · refine oif (fun z => e ((hq 32 (by omega)).mp z)) ?_
          show ((kM_byteAt N s (s.1 12)).bind _) = _
          rw [h12]
          refine ob1 hb (oit ((hq 10 (by omega)).mpr ?_) h37)
          have := of_decide_eq_true hc
          omega
      · obtain ⟨s1, k1, k2, k3⟩ := r_50 hN hT (p := p) (by omega) hl h12
        rw [lxE_f (fun z => hc z.2)]
        refine ⟨s1, ?_, k2, k3⟩
        have hn : ¬ (b p = 32 ∨ b p = 10) := fun z => hc (decide_eq_true z)
        rw [kM_goes_0]
        refine oif hge ?_
        rw [h12]
        refine ob1 hb (oif (fun z => hn (Or.inl ((hq 32 (by omega)).mp z))) ?_)
        show ((kM_byteAt N s (s.1 12)).bind _) = _
        rw [h12]
        exact ob1 hb (oif (fun z => hn (Or.inr ((hq 10 (by omega)).mp z))) k1)
  exact key (sz - a) a N σ (by omega) (by omega) (RL.refl σ) h12
end YC4
