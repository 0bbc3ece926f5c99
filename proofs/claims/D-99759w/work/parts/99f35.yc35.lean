/-! the cave: the reference's lines, one by one -/
section YC35
variable {N sz : Nat} {b : Nat → Nat} {co : List Int32} {t : TK} {σ σ1 : MS} {s : LT}
theorem rS_26 (σ : MS) (k p : Nat) (v : Int32) (q : Nat) : (rS σ k p v).2.2 k q = if q = p then v else σ.2.2 k q := by
  rw [rS_get]
  by_cases e : q = p
  · rw [if_pos ⟨rfl, e⟩, if_pos e]
  · rw [if_neg (fun z => e z.2), if_neg e]
theorem iI0 : iI 0 = 0 := rfl
theorem row_cup {ρ ρ1 : Nat → Int32} {h f p : Nat} (H : LOk s) (h9 : s.1.1 < 9) (hR : RowR ρ 0 s.1 s.2.1) (hz : ∀ q, 37 ≤ q → q < 64 → ρ q = 0) (h1 : ∀ q, ρ1 q = if q = 28 + s.1.1 then -1 else if q = 19 + s.1.1 then -1 else if q = 10 + s.1.1 then nI f else if q = 1 + s.1.1 then nI h else ρ q) : RowR ρ1 0 (lCup s h f p).1 (lCup s h f p).2.1 ∧ ∀ q, 37 ≤ q → q < 64 → ρ1 q = 0 := by
  obtain ⟨a1, a2, a3, a4, a5, a6, a7⟩ := H
  have hpp : s.2.2 s.1.1 = false := by
    cases hx : s.2.2 s.1.1 with
    | false => rfl
    | true => have := a4 _ hx; omega
  have ho : ∀ q, q ≠ 28 + s.1.1 → q ≠ 19 + s.1.1 → q ≠ 10 + s.1.1 → q ≠ 1 + s.1.1 → ρ1 q = ρ q := fun q z1 z2 z3 z4 => by rw [h1, if_neg z1, if_neg z2, if_neg z3, if_neg z4]
  refine ⟨⟨?_, fun k hk => ?_⟩, fun q z1 z2 => by rw [ho q (by omega) (by omega) (by omega) (by omega)]; exact hz q z1 z2⟩
  · rw [ho 0 (by omega) (by omega) (by omega) (by omega)]
    exact hR.1
  · have hk : k < s.1.1 + 1 := hk
    show ρ1 (0 + 1 + k) = iI (yA (ysA (ysA s.2.1 0 s.1.1 h) 1 s.1.1 f) 0 k) ∧ ρ1 (0 + 10 + k) = iI (yA (ysA (ysA s.2.1 0 s.1.1 h) 1 s.1.1 f) 1 k) ∧ ρ1 (0 + 19 + k) = iI (yA (ysA (ysA s.2.1 0 s.1.1 h) 1 s.1.1 f) 3 k) ∧ ρ1 (0 + 28 + k) = iI (if yA (ysA (ysA s.2.1 0 s.1.1 h) 1 s.1.1 f) 4 k = -2 then -1 else yA (ysA (ysA s.2.1 0 s.1.1 h) 1 s.1.1 f) 4 k) ∧ ρ1 (0 + 37 + k) = iI (yA (ysA (ysA s.2.1 0 s.1.1 h) 1 s.1.1 f) 5 k) ∧ ρ1 (0 + 46 + k) = iI (yA (ysA (ysA s.2.1 0 s.1.1 h) 1 s.1.1 f) 2 k) ∧ ρ1 (0 + 55 + k) = if ((yI s.2.1 7 >>> (nI k &&& 31)) &&& 1) = 1 then 1 else 0
    simp only [yA_A, show ¬ (0 : Nat) = 1 by decide, show ¬ (1 : Nat) = 0 by decide, show ¬ (3 : Nat) = 1 by decide, show ¬ (3 : Nat) = 0 by decide, show ¬ (4 : Nat) = 1 by decide, show ¬ (4 : Nat) = 0 by decide, show ¬ (5 : Nat) = 1 by decide, show ¬ (5 : Nat) = 0 by decide, show ¬ (2 : Nat) = 1 by decide, show ¬ (2 : Nat) = 0 by decide, false_and, if_false, true_and]
    by_cases e : k = s.1.1
    · subst e
      rw [if_pos rfl, if_pos rfl]
      obtain ⟨c1, c2⟩ := a5 s.1.1 (by omega) hpp
      obtain ⟨b1, b2, -⟩ := a6 s.1.1
      rw [c1, c2, b1, b2, a7 7 (by omega)]
      refine ⟨?_, ?_, ?_, ?_, ?_, ?_, ?_⟩
      · rw [h1, if_neg (by omega), if_neg (by omega), if_neg (by omega), if_pos (by omega), iI_nI]
      · rw [h1, if_neg (by omega), if_neg (by omega), if_pos (by omega), iI_nI]
      · rw [h1, if_neg (by omega), if_pos (by omega)]
        rfl
      · rw [h1, if_pos (by omega)]
        rfl
      · rw [ho _ (by omega) (by omega) (by omega) (by omega), hz _ (by omega) (by omega)]
        rfl
      · rw [ho _ (by omega) (by omega) (by omega) (by omega), hz _ (by omega) (by omega)]
        rfl
      · rw [ho _ (by omega) (by omega) (by omega) (by omega), hz _ (by omega) (by omega)]
        have e0 : ∀ n, n < 9 → ¬ (((0 : Int32) >>> (nI n &&& 31)) &&& 1) = 1 := by decide
        rw [if_neg (e0 _ h9)]
    · rw [if_neg e, if_neg e]
      obtain ⟨d1, d2, d3, d4, d5, d6, d7⟩ := hR.2 k (by omega)
      refine ⟨?_, ?_, ?_, ?_, ?_, ?_, ?_⟩
      · rw [ho _ (by omega) (by omega) (by omega) (by omega)]; exact d1
      · rw [ho _ (by omega) (by omega) (by omega) (by omega)]; exact d2
      · rw [ho _ (by omega) (by omega) (by omega) (by omega)]; exact d3
      · rw [ho _ (by omega) (by omega) (by omega) (by omega)]; exact d4
      · rw [ho _ (by omega) (by omega) (by omega) (by omega)]; exact d5
      · rw [ho _ (by omega) (by omega) (by omega) (by omega)]; exact d6
      · rw [ho _ (by omega) (by omega) (by omega) (by omega)]; exact d7
/-- a line's body goes on to the line's end -/
def RBo (N sz : Nat) (b : Nat → Nat) (σ : MS) (X : Option MS) : PR (LT × TK) → Prop
  | .inr y => ∃ σ1 co1, X = kM_line_150 N σ1 ∧ RLn sz b co1 y.1 y.2 σ1 ∧ RKl σ σ1
  | .inl e => ∃ σ1, X = kM_line_150 N σ1 ∧ RLb e σ1 ∧ RKl σ σ1
theorem RBo.pre {X Y : Option MS} {r : PR (LT × TK)} (h : RBo N sz b σ1 X r) (hf : RKl σ σ1) (hX : Y = X) : RBo N sz b σ Y r := by
  subst hX
  cases r with
  | inl e =>
    obtain ⟨σ2, h1, h2, h3⟩ := h
    exact ⟨σ2, h1, h2, hf.trans h3⟩
  | inr y =>
    obtain ⟨σ2, co1, h1, h2, h3⟩ := h
    exact ⟨σ2, co1, h1, h2, hf.trans h3⟩
theorem r_bgns (hN : 2 ^ 20 < N) (h : RTk sz b t σ) : ∃ σ1, kM_begins N σ 0 0 = some (σ1, 1) ∧ RTk sz b (nxT sz b t) σ1 ∧ RL σ σ1 := by
  obtain ⟨σ1, k1, k2, k3⟩ := h.next hN
  refine ⟨σ1, ?_, k2, k3⟩
  unfold kM_begins kM_begins_9 kM_begins_18
  exact oit rfl (oit rfl (ob1 h.good (oif n10 (ob1 k1 rfl))))
theorem r_bgns2 (h : RTk sz b t σ) : ∃ σ1, kM_begins N σ 1 0 = some (σ1, 0) ∧ RLb (2, t) σ1 ∧ RKl σ σ1 := by
  obtain ⟨σ1, k1, k2, k3⟩ := h.wrong (N := N) (k := 2) (by decide)
  refine ⟨σ1, ?_, k2, RKl.k k3 (by decide) (by decide)⟩
  unfold kM_begins kM_begins_9 kM_begins_18
  exact oif n10 (ob1 k1 (oit rfl (ob1 k2.bad (oit rfl rfl))))
theorem r_bgns5 (h : RTk sz b t σ) : ∃ σ1, kM_begins N σ 0 1 = some (σ1, 0) ∧ RLb (5, t) σ1 ∧ RKl σ σ1 := by
  obtain ⟨σ1, k1, k2, k3⟩ := h.wrong (N := N) (k := 5) (by decide)
  refine ⟨σ1, ?_, k2, RKl.k k3 (by decide) (by decide)⟩
  unfold kM_begins kM_begins_9 kM_begins_18
  exact oit rfl (oif n10 (ob1 k1 (ob1 k2.bad (oit rfl rfl))))
/-- the cup's numbers -/
theorem r_readsCup (hN : 2 ^ 20 < N) (H : LOk s) (h9 : s.1.1 < 9) (h : RTk sz b t σ) (hC : RCo co σ) (hcl : co.length ≤ 2 * t.2.1) (h19 : σ.1 19 = nI s.1.1) (h25 : ∀ k, k < s.1.1 → σ.2.2 25 k = iI (s.1.2.1 k)) (hf1 : fIn co s.1.2.2.1 (σ.1 20)) (hf2 : fIn co s.1.2.2.2 (σ.1 21)) (hR : RowR (σ.2.2 26) 0 s.1 s.2.1) (hz : ∀ q, 37 ≤ q → q < 64 → σ.2.2 26 q = 0) (h30 : ∀ k, k < s.1.1 → σ.2.2 30 k = if s.2.2 k = true then 1 else 0) :
    RBo N sz b σ ((kM_readsCup N σ).bind fun w3 => kM_line_150 N w3) (pB (pNum sz b 1 30 t) fun h => pB (pNum sz b 0 (h.1 - 1) h.2) fun f => pB (pNum sz b 0 20 f.2) fun p => .inr (lCup s h.1 f.1 p.1, p.2)) := by
  have e1 : (1 : Int32) + nI s.1.1 = nI (1 + s.1.1) := by rw [show (1 : Int32) = nI 1 from rfl, nI_add]
  have e10 : (10 : Int32) + nI s.1.1 = nI (10 + s.1.1) := by rw [show (10 : Int32) = nI 10 from rfl, nI_add]
  have l1 : 1 + s.1.1 < m_len 26 := by show 1 + s.1.1 < 64; omega
  have l10 : 10 + s.1.1 < m_len 26 := by show 10 + s.1.1 < 64; omega
  -- from the last number on
  have tail : ∀ (σ6 : MS) (e : Nat × TK), RLb e σ6 → RKl σ σ6 → ∀ v, ∃ σ7, ((m_st σ6 25 (nI s.1.1) v).bind fun σ8 => (m_st σ8 26 (19 + nI s.1.1) (-1)).bind fun σ9 => (m_st σ9 26 (28 + nI s.1.1) (-1)).bind fun σ10 => (m_stZ σ10 30 (nI s.1.1) 0).bind fun σ11 => (kM_isGood N σ11).bind fun w12 => if w12.2 = 0 then some w12.1 else bnd (m_put w12.1 19 ((w12.1.1 19) + 1)) fun σ14 => some σ14) = some σ7 ∧ RLb e σ7 ∧ RKl σ σ7 := fun σ6 e hb hk v => by
    obtain ⟨σ7, k1, k2, k3, k4, -, -, -, -⟩ := r_cupEnd (N := N) (σ := σ6) h9 v
    have hb7 : RLb e σ7 := hb.of (by rw [k2]) (by rw [k2])
    exact ⟨σ7, k1.trans (ob1 hb7.bad (oit rfl rfl)), hb7, hk.trans k4⟩
  have hpre : ∀ {R : Option MS}, ((kM_number N σ (nI 1) (nI 30)).bind fun w2 =>
  (m_st w2.1 26 (nI (1 + s.1.1)) w2.2).bind fun σ3 =>
  (m_ld σ3 26 (nI (1 + s.1.1))).bind fun v4 =>
  (kM_number N σ3 (nI 0) (v4 - 1)).bind fun w5 =>
  (m_st w5.1 26 (nI (10 + s.1.1)) w5.2).bind fun σ6 =>
  (kM_number N σ6 (nI 0) (nI 20)).bind fun w7 => (m_st w7.1 25 (nI s.1.1) w7.2).bind fun σ8 => (m_st σ8 26 (19 + nI s.1.1) (-1)).bind fun σ9 => (m_st σ9 26 (28 + nI s.1.1) (-1)).bind fun σ10 => (m_stZ σ10 30 (nI s.1.1) 0).bind fun σ11 => (kM_isGood N σ11).bind fun w12 => if w12.2 = 0 then some w12.1 else bnd (m_put w12.1 19 ((w12.1.1 19) + 1)) fun σ14 => some σ14) = R → kM_readsCup N σ = R := fun hR => by
    unfold kM_readsCup
    refine onb h19 ?_
    rw [e1, e10]
    exact hR
  have hn1 := r_number (N := N) hN h (lo := 1) (hi := 30) (by decide) (by decide)
  cases hv1 : pNum sz b 1 30 t with
  | inl e =>
    rw [hv1] at hn1
    obtain ⟨σa, v, a1, a2, a3⟩ := hn1
    have b3 : RLb e (rS σa 26 (1 + s.1.1) v) := a2.of rfl rfl
    have b6 : RLb e (rS (rS σa 26 (1 + s.1.1) v) 26 (10 + s.1.1) 0) := b3.of rfl rfl
    have ka : RKl σ σa := RKl.k a3 (by decide) (by decide)
    obtain ⟨σ7, c1, c2, c3⟩ := tail _ e b6 ((ka.trans (RKl.st _ _ _ _ (by decide))).trans (RKl.st _ _ _ _ (by decide))) 0
    refine ⟨σ7, ob1 (hpre ?_) rfl, c2, c3⟩
    exact ob1 a1 (ob1 (r_st rfl l1) (ob1 (r_ld rfl l1) (ob1 (b3.num _ _) (ob1 (r_st rfl l10) (ob1 (b6.num _ _) c1)))))
  | inr x1 =>
    rw [hv1] at hn1
    obtain ⟨σa, a1, a2, a3⟩ := hn1
    obtain ⟨-, y1, y2, y3⟩ := pNum_ok h.2.2.2 hv1
    have b3 : RTk sz b x1.2 (rS σa 26 (1 + s.1.1) (nI x1.1)) := a2.of (fun _ _ => rfl) rfl (rS_ne _ _ _ _ (by decide))
    have k3 : RKl σ (rS σa 26 (1 + s.1.1) (nI x1.1)) := (RKl.l a3).trans (RKl.st _ _ _ _ (by decide))
    have hld : m_ld (rS σa 26 (1 + s.1.1) (nI x1.1)) 26 (nI (1 + s.1.1)) = some (nI x1.1) := by rw [r_ld rfl l1, rS_26, if_pos rfl]
    have em : nI x1.1 - 1 = nI (x1.1 - 1) := by rw [show (1 : Int32) = nI 1 from rfl, sub_nI y2]
    have hn2 := r_number (N := N) hN b3 (lo := 0) (hi := x1.1 - 1) (by decide) (by omega)
    show RBo N sz b σ _ (pB (pNum sz b 0 (x1.1 - 1) x1.2) fun f => pB (pNum sz b 0 20 f.2) fun p => .inr (lCup s x1.1 f.1 p.1, p.2))
    cases hv2 : pNum sz b 0 (x1.1 - 1) x1.2 with
    | inl e =>
      rw [hv2] at hn2
      obtain ⟨σb, v, d1, d2, d3⟩ := hn2
      have b6 : RLb e (rS σb 26 (10 + s.1.1) v) := d2.of rfl rfl
      obtain ⟨σ7, c1, c2, c3⟩ := tail _ e b6 ((k3.trans (RKl.k d3 (by decide) (by decide))).trans (RKl.st _ _ _ _ (by decide))) 0
      refine ⟨σ7, ob1 (hpre ?_) rfl, c2, c3⟩
      refine ob1 a1 (ob1 (r_st rfl l1) (ob1 hld ?_))
      rw [em]
      exact ob1 d1 (ob1 (r_st rfl l10) (ob1 (b6.num _ _) c1))
    | inr x2 =>
      rw [hv2] at hn2
      obtain ⟨σb, d1, d2, d3⟩ := hn2
      obtain ⟨-, y4, y5, y6⟩ := pNum_ok b3.2.2.2 hv2
      have b6 : RTk sz b x2.2 (rS σb 26 (10 + s.1.1) (nI x2.1)) := d2.of (fun _ _ => rfl) rfl (rS_ne _ _ _ _ (by decide))
      have k6 : RKl σ (rS σb 26 (10 + s.1.1) (nI x2.1)) := (k3.trans (RKl.l d3)).trans (RKl.st _ _ _ _ (by decide))
      have hn3 := r_number (N := N) hN b6 (lo := 0) (hi := 20) (by decide) (by decide)
      show RBo N sz b σ _ (pB (pNum sz b 0 20 x2.2) fun p => .inr (lCup s x1.1 x2.1 p.1, p.2))
      cases hv3 : pNum sz b 0 20 x2.2 with
      | inl e =>
        rw [hv3] at hn3
        obtain ⟨σc, v, g1, g2, g3⟩ := hn3
        obtain ⟨σ7, c1, c2, c3⟩ := tail σc e g2 (k6.trans (RKl.k g3 (by decide) (by decide))) v
        refine ⟨σ7, ob1 (hpre ?_) rfl, c2, c3⟩
        refine ob1 a1 (ob1 (r_st rfl l1) (ob1 hld ?_))
        rw [em]
        exact ob1 d1 (ob1 (r_st rfl l10) (ob1 g1 c1))
      | inr x3 =>
        rw [hv3] at hn3
        obtain ⟨σc, g1, g2, g3⟩ := hn3
        obtain ⟨-, y7, y8, y9⟩ := pNum_ok b6.2.2.2 hv3
        obtain ⟨σ7, c1, c2, c3, c4, c5, c6, c7, c8⟩ := r_cupEnd (N := N) (σ := σc) h9 (nI x3.1)
        have k7 := (k6.trans (RKl.l g3)).trans c4
        have g7 : RTk sz b x3.2 σ7 := g2.of (fun _ _ => by rw [c2]) c3 (c4.2 6 (by decide))
        have s1 : ∀ j, j ∉ [12, 13, 14, 15, 16, 17] → σ7.1 j = σ.1 j := fun j hj => by
          rw [c2, g3.1 j hj]
          show σb.1 j = _
          rw [d3.1 j hj]
          show σa.1 j = _
          rw [a3.1 j hj]
        have e19 : σ7.1 19 + 1 = nI (s.1.1 + 1) := by rw [s1 19 (by decide), h19, nI_1]
        have s2 : σc.2.2 = (rS σb 26 (10 + s.1.1) (nI x2.1)).2.2 := g3.2
        have s3 : σb.2.2 = (rS σa 26 (1 + s.1.1) (nI x1.1)).2.2 := d3.2
        have s4 : σa.2.2 = σ.2.2 := a3.2
        have hoth : ∀ j, j ≠ 26 → σc.2.2 j = σ.2.2 j := fun j hj => by rw [s2, rS_ne _ _ _ _ hj, s3, rS_ne _ _ _ _ hj, s4]
        have hrow : ∀ q, σ7.2.2 26 q = if q = 28 + s.1.1 then -1 else if q = 19 + s.1.1 then -1 else if q = 10 + s.1.1 then nI x2.1 else if q = 1 + s.1.1 then nI x1.1 else σ.2.2 26 q := fun q => by
          rw [c5 q, s2, rS_26, s3, rS_26, s4]
        obtain ⟨r1, r2⟩ := row_cup (h := x1.1) (f := x2.1) (p := x3.1) H h9 hR hz hrow
        refine ⟨m_put σ7 19 (nI (s.1.1 + 1)), co, ob1 (hpre ?_) rfl, ⟨g7.of (fun j hj => mp_n _ _ _ (fun z => by subst z; simp at hj)) rfl rfl, ?_, ?_, mp_s _ _ _, fun k hk => ?_, ?_, ?_, r1, r2, fun k hk => ?_⟩, k7.trans (RKl.put _ _ _ (by decide))⟩
        · refine ob1 a1 (ob1 (r_st rfl l1) (ob1 hld ?_))
          rw [em]
          refine ob1 d1 (ob1 (r_st rfl l10) (ob1 g1 (c1.trans (ob1 g7.good (oif n10 (onb ?_ rfl))))))
          show m_put σ7 19 (σ7.1 19 + 1) = _
          rw [e19]
        · exact hC.of ((mp_n _ _ _ (by decide)).trans (s1 22 (by decide))) (by show σ7.2.2 27 = _; rw [c8, hoth 27 (by decide)])
        · show co.length ≤ 2 * x3.2.2.1
          omega
        · have hk : k < s.1.1 + 1 := hk
          show σ7.2.2 25 k = iI (if k = s.1.1 then (x3.1 : Int) else s.1.2.1 k)
          rw [c6 k]
          by_cases e : k = s.1.1
          · rw [if_pos e, if_pos e, iI_nI]
          · rw [if_neg e, if_neg e, hoth 25 (by decide)]
            exact h25 k (by omega)
        · show fIn co s.1.2.2.1 ((m_put σ7 19 (nI (s.1.1 + 1))).1 20)
          rw [mp_n _ _ _ (by decide), s1 20 (by decide)]
          exact hf1
        · show fIn co s.1.2.2.2 ((m_put σ7 19 (nI (s.1.1 + 1))).1 21)
          rw [mp_n _ _ _ (by decide), s1 21 (by decide)]
          exact hf2
        · have hk : k < s.1.1 + 1 := hk
          show σ7.2.2 30 k = if s.2.2 k = true then 1 else 0
          rw [c7 k]
          by_cases e : k = s.1.1
          · have hpp : s.2.2 k = false := by
              cases hx : s.2.2 k with
              | false => rfl
              | true => have := H.2.2.2.1 _ hx; omega
            rw [if_pos e, hpp]
            rfl
          · rw [if_neg e, hoth 30 (by decide)]
            exact h30 k (by omega)
end YC35
