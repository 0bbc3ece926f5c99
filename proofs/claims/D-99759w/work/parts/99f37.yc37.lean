/-! the cave: the reference's lines, the whole text -/
section YC37
variable {N sz : Nat} {b : Nat → Nat} {co : List Int32} {t : TK} {σ σ1 : MS} {s : LT} {n : Nat}
theorem r_sgAny (N : Nat) (σ : MS) (c : Int32) : ∃ v, kM_isSign N σ c = some (σ, v) := by
  unfold kM_isSign
  by_cases h1 : σ.1 13 = 3
  · rw [if_pos h1]
    by_cases h2 : σ.1 17 = c
    · exact ⟨1, if_pos h2⟩
    · exact ⟨0, if_neg h2⟩
  · exact ⟨0, if_neg h1⟩
theorem RLb.l150 {e : Nat × TK} (h : RLb e σ) : kM_line_150 N σ = some σ := by
  obtain ⟨v, hv⟩ := r_sgAny N σ 59
  unfold kM_line_150 kM_need
  exact ob1 hv (ob1 (ob1 h.bad (oit rfl rfl)) rfl)
/-- what has been read stays, where the token goes on -/
theorem RLn.tok (h : RLn sz b co s t σ) {t1 : TK} (hT : RTk sz b t1 σ1) (hl : RL σ σ1) (ht : t.2.1 ≤ t1.2.1) : RLn sz b co s t1 σ1 := by
  obtain ⟨h1, h2, h3, h4, h5, h6, h7, h8, h9, h10⟩ := h
  refine ⟨hT, h2.of (hl.1 22 (by decide)) (by rw [hl.2]), by omega, (hl.1 19 (by decide)).trans h4, ?_, ?_, ?_, ?_, ?_, ?_⟩
  · rw [hl.2]; exact h5
  · rw [hl.1 20 (by decide)]; exact h6
  · rw [hl.1 21 (by decide)]; exact h7
  · rw [hl.2]; exact h8
  · rw [hl.2]; exact h9
  · rw [hl.2]; exact h10
theorem r_l150 (hN : 2 ^ 20 < N) (h : RLn sz b co s t σ) : RLo sz b σ (kM_line_150 N σ) (if sgT b t 59 = true then .inr (s, nxT sz b t) else .inl (1, t)) := by
  have hT := h.1
  have hs := r_isSign (N := N) hT.2.1 hT.2.2.1 hT.2.2.2 (c := 59) (by decide)
  by_cases h59 : sgT b t 59 = true
  · rw [if_pos h59]
    rw [if_pos h59] at hs
    obtain ⟨σ1, k1, k2, k3⟩ := hT.next hN
    have hlt := nxT_lt hT.2.2.2 (by have := (sgT_1 h59).1; omega)
    refine ⟨σ1, co, ?_, h.tok k2 k3 (Nat.le_of_lt hlt), RKl.l k3⟩
    unfold kM_line_150 kM_need
    exact ob1 hs (ob1 (ob1 hT.good (oif n10 (oif n10 (ob1 k1 rfl)))) rfl)
  · rw [if_neg h59]
    rw [if_neg h59] at hs
    obtain ⟨σ1, k1, k2, k3⟩ := hT.wrong (N := N) (k := 1) (by decide)
    refine ⟨σ1, ?_, k2, RKl.k k3 (by decide) (by decide)⟩
    unfold kM_line_150 kM_need
    exact ob1 hs (ob1 (ob1 hT.good (oif n10 (oit rfl (ob1 k1 rfl)))) rfl)
theorem r_leaks (hN : 2 ^ 20 < N) (h : RLn sz b co s t σ) (hw : wd b t 0 = true) (h1400 : co.length ≤ 1400) : RBo N sz b σ (if σ.1 20 = -1 then kM_line_82 N σ 0 0 else kM_line_82 N σ 0 1) (pLeaks sz b s t) := by
  have hh := h
  obtain ⟨h1, h2, h3, h4, h5, h6, h7, h8, h9, h10⟩ := h
  have hlen := len_wd h1.2.2.2 hw (n := 5) rfl
  have hm1 := h6.some h1400
  unfold pLeaks
  by_cases hi : s.1.2.2.1.isSome = true
  · rw [if_pos hi, if_neg (fun z => by rw [hm1.mp z] at hi; cases hi)]
    obtain ⟨σ1, k1, k2, k3⟩ := r_bgns5 (N := N) h1
    refine ⟨σ1, ?_, k2, k3⟩
    unfold kM_line_82
    exact ob1 k1 (oit rfl rfl)
  · rw [if_neg hi, if_pos (hm1.mpr (by simpa using hi))]
    obtain ⟨σ1, k1, k2, k3⟩ := r_bgns hN h1
    have i1 : ∀ j, j ∉ [12, 13, 14, 15, 16, 17] → σ1.1 j = σ.1 j := k3.1
    have T2 : RTk sz b (nxT sz b t) (m_put σ1 20 (nI co.length)) := k2.of (fun j hj => mp_n _ _ _ (fun z => by subst z; simp at hj)) rfl rfl
    have C2 : RCo co (m_put σ1 20 (nI co.length)) := h2.of ((mp_n _ _ _ (by decide)).trans (i1 22 (by decide))) (by show σ1.2.2 27 = _; rw [k3.2])
    have hx := r_expression hN T2.1 T2.2.1 T2.2.2.1 T2.2.2.2 C2 (by omega)
    have e82 : kM_line_82 N σ 0 0 = (kM_expression N (m_put σ1 20 (nI co.length))).bind fun w4 => kM_line_150 N w4 := by
      unfold kM_line_82
      refine ob1 k1 (oif n10 (onb ?_ rfl))
      show m_put σ1 20 (σ1.1 22) = _
      rw [i1 22 (by decide), h2.1]
    rw [e82]
    have kk : RKl σ (m_put σ1 20 (nI co.length)) := (RKl.l k3).trans (RKl.put _ _ _ (by decide))
    cases hv : pExp sz b 6 (nxT sz b t) with
    | inl e =>
      rw [hv] at hx
      obtain ⟨σ3, x1, x2, x3, x4, x5, x6⟩ := hx
      exact ⟨σ3, ob1 x1 rfl, ⟨x2, ⟨x3, x4⟩, x5⟩, kk.trans (RKl.x x6)⟩
    | inr x =>
      rw [hv] at hx
      obtain ⟨hk, hadv⟩ := pExp_adv 6 _ x T2.2.2.2 hv
      obtain ⟨σ3, seg, x1, x2, x3, x4, x5, x6, x7, x8⟩ := hx
      have i3 : ∀ j, j ∉ [8, 9, 12, 13, 14, 15, 16, 17, 20, 22, 23, 24] → σ3.1 j = σ.1 j := fun j hj => by
        rw [x8.1 j (fun z => hj (by simp at z ⊢; omega)), mp_n _ _ _ (fun z => hj (by rw [z]; decide)), i1 j (fun z => hj (by simp at z ⊢; omega))]
      have r3 : ∀ j, j ∉ [27, 28, 29] → σ3.2.2 j = σ.2.2 j := fun j hj => by
        rw [x8.2 j hj]
        show σ1.2.2 j = _
        rw [k3.2]
      refine ⟨σ3, co ++ seg ++ [0], ob1 x1 rfl, ⟨⟨x2, x3, x4, hk⟩, x5, ?_, (i3 19 (by decide)).trans h4, fun k hk => ?_, ?_, ?_, ?_, ?_, ?_⟩, kk.trans (RKl.x x8)⟩
      · show (co ++ seg ++ [0]).length ≤ 2 * x.2.2.1
        omega
      · rw [r3 25 (by decide)]; exact h5 k hk
      · show fIn (co ++ seg ++ [0]) (some x.1) (σ3.1 20)
        refine ⟨co.length, ?_, co, seg, [], by simp, rfl, x7⟩
        rw [x8.1 20 (by decide), mp_s]
      · show fIn (co ++ seg ++ [0]) s.1.2.2.2 (σ3.1 21)
        rw [i3 21 (by decide), List.append_assoc]
        exact h7.app _
      · rw [r3 26 (by decide)]; exact h8
      · rw [r3 26 (by decide)]; exact h9
      · rw [r3 30 (by decide)]; exact h10
theorem r_frost (hN : 2 ^ 20 < N) (h : RLn sz b co s t σ) (hw : wd b t 1 = true) (h1400 : co.length ≤ 1400) : RBo N sz b σ (if σ.1 21 = -1 then kM_line_124 N σ 0 0 else kM_line_124 N σ 0 1) (pFrost sz b s t) := by
  have hh := h
  obtain ⟨h1, h2, h3, h4, h5, h6, h7, h8, h9, h10⟩ := h
  have hlen := len_wd h1.2.2.2 hw (n := 5) rfl
  have hm1 := h7.some h1400
  unfold pFrost
  by_cases hi : s.1.2.2.2.isSome = true
  · rw [if_pos hi, if_neg (fun z => by rw [hm1.mp z] at hi; cases hi)]
    obtain ⟨σ1, k1, k2, k3⟩ := r_bgns5 (N := N) h1
    refine ⟨σ1, ?_, k2, k3⟩
    unfold kM_line_124
    exact ob1 k1 (oit rfl rfl)
  · rw [if_neg hi, if_pos (hm1.mpr (by simpa using hi))]
    obtain ⟨σ1, k1, k2, k3⟩ := r_bgns hN h1
    have i1 : ∀ j, j ∉ [12, 13, 14, 15, 16, 17] → σ1.1 j = σ.1 j := k3.1
    have T2 : RTk sz b (nxT sz b t) (m_put σ1 21 (nI co.length)) := k2.of (fun j hj => mp_n _ _ _ (fun z => by subst z; simp at hj)) rfl rfl
    have C2 : RCo co (m_put σ1 21 (nI co.length)) := h2.of ((mp_n _ _ _ (by decide)).trans (i1 22 (by decide))) (by show σ1.2.2 27 = _; rw [k3.2])
    have hx := r_expression hN T2.1 T2.2.1 T2.2.2.1 T2.2.2.2 C2 (by omega)
    have e82 : kM_line_124 N σ 0 0 = (kM_expression N (m_put σ1 21 (nI co.length))).bind fun w4 => kM_line_150 N w4 := by
      unfold kM_line_124
      refine ob1 k1 (oif n10 (onb ?_ rfl))
      show m_put σ1 21 (σ1.1 22) = _
      rw [i1 22 (by decide), h2.1]
    rw [e82]
    have kk : RKl σ (m_put σ1 21 (nI co.length)) := (RKl.l k3).trans (RKl.put _ _ _ (by decide))
    cases hv : pExp sz b 6 (nxT sz b t) with
    | inl e =>
      rw [hv] at hx
      obtain ⟨σ3, x1, x2, x3, x4, x5, x6⟩ := hx
      exact ⟨σ3, ob1 x1 rfl, ⟨x2, ⟨x3, x4⟩, x5⟩, kk.trans (RKl.x x6)⟩
    | inr x =>
      rw [hv] at hx
      obtain ⟨hk, hadv⟩ := pExp_adv 6 _ x T2.2.2.2 hv
      obtain ⟨σ3, seg, x1, x2, x3, x4, x5, x6, x7, x8⟩ := hx
      have i3 : ∀ j, j ∉ [8, 9, 12, 13, 14, 15, 16, 17, 21, 22, 23, 24] → σ3.1 j = σ.1 j := fun j hj => by
        rw [x8.1 j (fun z => hj (by simp at z ⊢; omega)), mp_n _ _ _ (fun z => hj (by rw [z]; decide)), i1 j (fun z => hj (by simp at z ⊢; omega))]
      have r3 : ∀ j, j ∉ [27, 28, 29] → σ3.2.2 j = σ.2.2 j := fun j hj => by
        rw [x8.2 j hj]
        show σ1.2.2 j = _
        rw [k3.2]
      refine ⟨σ3, co ++ seg ++ [0], ob1 x1 rfl, ⟨⟨x2, x3, x4, hk⟩, x5, ?_, (i3 19 (by decide)).trans h4, fun k hk => ?_, ?_, ?_, ?_, ?_, ?_⟩, kk.trans (RKl.x x8)⟩
      · show (co ++ seg ++ [0]).length ≤ 2 * x.2.2.1
        omega
      · rw [r3 25 (by decide)]; exact h5 k hk
      · show fIn (co ++ seg ++ [0]) s.1.2.2.1 (σ3.1 20)
        rw [i3 20 (by decide), List.append_assoc]
        exact h6.app _
      · show fIn (co ++ seg ++ [0]) (some x.1) (σ3.1 21)
        refine ⟨co.length, ?_, co, seg, [], by simp, rfl, x7⟩
        rw [x8.1 21 (by decide), mp_s]
      · rw [r3 26 (by decide)]; exact h8
      · rw [r3 26 (by decide)]; exact h9
      · rw [r3 30 (by decide)]; exact h10
theorem r_body (hN : 2 ^ 20 < N) (H : LOk s) (h : RLn sz b co s t σ) : RBo N sz b σ (kM_line N σ) (pBody sz b s t) := by
  have hh := h
  obtain ⟨h1, h2, h3, h4, h5, h6, h7, h8, h9, h10⟩ := h
  have h7z := h1.2.1.2.1
  have hkz := h1.2.2.2.2.1
  have hkl := h1.2.2.2.1
  have h1400 : co.length ≤ 1400 := by omega
  have hkn := r_known hN h1.2.1 h1.2.2.1 h1.2.2.2.1 h1.2.2.2.2.1 h1.2.2.2.2.2.1 h1.2.2.2.2.2.2.2.1
  have hpre : ∀ {R : Option MS}, ((if knI b t = 5 then (if σ.1 19 = 9 then kM_line_25 N σ 1 else kM_line_25 N σ 0) else if knI b t = 6 then ((kM_begins N σ 0 0).bind fun w9 => if w9.2 = 0 then kM_line_150 N w9.1 else (kM_readsPipe N w9.1).bind fun w11 => kM_line_150 N w11) else if knI b t = 7 then (if σ.1 20 = -1 then kM_line_82 N σ 0 0 else kM_line_82 N σ 0 1) else if knI b t = 8 then (if σ.1 21 = -1 then kM_line_124 N σ 0 0 else kM_line_124 N σ 0 1) else (kM_wrong N σ 1).bind fun w6 => kM_line_150 N w6) = R) → kM_line N σ = R := fun hR => by
    unfold kM_line
    exact ob1 hkn hR
  have q0 := knI_iff (b := b) (t := t) (k := 7) (by decide)
  have q1 := knI_iff (b := b) (t := t) (k := 8) (by decide)
  have q6 := knI_iff (b := b) (t := t) (k := 5) (by decide)
  have q12 := knI_iff (b := b) (t := t) (k := 6) (by decide)
  unfold pBody
  by_cases w0 : wd b t 0 = true
  · rw [if_pos w0]
    have e := q0.mpr w0
    exact (r_leaks hN hh w0 h1400).pre (RKl.refl σ) (hpre (oif (by rw [e]; decide) (oif (by rw [e]; decide) (oit e rfl))))
  · rw [if_neg w0]
    have n7 : ¬ knI b t = 7 := fun z => w0 (q0.mp z)
    by_cases w1 : wd b t 1 = true
    · rw [if_pos w1]
      have e := q1.mpr w1
      exact (r_frost hN hh w1 h1400).pre (RKl.refl σ) (hpre (oif (by rw [e]; decide) (oif (by rw [e]; decide) (oif n7 (oit e rfl)))))
    · rw [if_neg w1]
      have n8 : ¬ knI b t = 8 := fun z => w1 (q1.mp z)
      by_cases w6 : wd b t 6 = true
      · rw [if_pos w6]
        have e := q6.mpr w6
        unfold pCup
        by_cases h9c : s.1.1 < 9
        · rw [if_pos h9c]
          obtain ⟨σ1, k1, k2, k3⟩ := r_bgns hN h1
          have hn := hh.tok k2 k3 (by have := len_wd h1.2.2.2 w6 (n := 3) rfl; omega)
          obtain ⟨g1, g2, g3, g4, g5, g6, g7, g8, g9, g10⟩ := hn
          refine (r_readsCup hN H h9c g1 g2 g3 g4 g5 g6 g7 g8 g9 g10).pre (RKl.l k3) (hpre (oit e (oif ?_ ?_)))
          · rw [h4]
            intro z
            have := (nI_eq (a := s.1.1) (b := 9) (by omega) (by omega)).mp z
            omega
          · unfold kM_line_25
            exact ob1 k1 (oif n10 rfl)
        · rw [if_neg h9c]
          have e9 : s.1.1 = 9 := by have := H.1; omega
          obtain ⟨σ1, k1, k2, k3⟩ := r_bgns2 (N := N) h1
          refine ⟨σ1, hpre (oit e (oit (by rw [h4, e9]; rfl) ?_)), k2, k3⟩
          unfold kM_line_25
          exact ob1 k1 (oit rfl rfl)
      · rw [if_neg w6]
        have n5 : ¬ knI b t = 5 := fun z => w6 (q6.mp z)
        by_cases w12 : wd b t 12 = true
        · rw [if_pos w12]
          have e := q12.mpr w12
          obtain ⟨σ1, k1, k2, k3⟩ := r_bgns hN h1
          have hn := hh.tok k2 k3 (by have := len_wd h1.2.2.2 w12 (n := 4) rfl; omega)
          obtain ⟨g1, g2, g3, g4, g5, g6, g7, g8, g9, g10⟩ := hn
          exact (r_readsPipe hN H g1 g2 g3 g4 g5 g6 g7 g8 g9 g10).pre (RKl.l k3) (hpre (oif n5 (oit e (ob1 k1 (oif n10 rfl)))))
        · rw [if_neg w12]
          have n6 : ¬ knI b t = 6 := fun z => w12 (q12.mp z)
          obtain ⟨σ1, k1, k2, k3⟩ := h1.wrong (N := N) (k := 1) (by decide)
          exact ⟨σ1, hpre (oif n5 (oif n6 (oif n7 (oif n8 (ob1 k1 rfl))))), k2, RKl.k k3 (by decide) (by decide)⟩
theorem r_line (hN : 2 ^ 20 < N) (H : LOk s) (h : RLn sz b co s t σ) : RLo sz b σ (kM_line N σ) (pLine sz b s t) := by
  have hb := r_body hN H h
  unfold pLine
  cases hv : pBody sz b s t with
  | inl e =>
    rw [hv] at hb
    obtain ⟨σ1, k1, k2, k3⟩ := hb
    exact ⟨σ1, k1.trans k2.l150, k2, k3⟩
  | inr y =>
    rw [hv] at hb
    obtain ⟨σ1, co1, k1, k2, k3⟩ := hb
    have h5 := r_l150 hN k2
    show RLo sz b σ (kM_line N σ) (if sgT b y.2 59 = true then .inr (y.1, nxT sz b y.2) else .inl (1, y.2))
    rw [k1]
    by_cases h59 : sgT b y.2 59 = true
    · rw [if_pos h59] at h5 ⊢
      obtain ⟨σ2, co2, u1, u2, u3⟩ := h5
      exact ⟨σ2, co2, u1, u2, k3.trans u3⟩
    · rw [if_neg h59] at h5 ⊢
      obtain ⟨σ2, u1, u2, u3⟩ := h5
      exact ⟨σ2, u1, u2, k3.trans u3⟩
end YC37
