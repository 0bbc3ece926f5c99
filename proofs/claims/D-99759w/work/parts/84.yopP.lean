/-! plain law: game, the operation -/
section OQ
variable {g : XC} {N xa oa n : Nat} {Z Ya Yh : Nat → Prop} {na ta cv la lh : Nat} {ra rh : List Nat} {M : MT} {T : Int} {S S1 : XS} {σ s : MS} {C : CC} {V m : MN} {w : Nat → Int32} {c o a b k q : Nat}
theorem GA.get {x y : Int32} (h : GA S k x y) (m : MN) (w : Nat → Int32) : a_int (nset S ta xa m w) 0 k 0 = some x ∧ a_int (nset S ta xa m w) 0 k 1 = some y := by
  obtain ⟨f, h1, h2, h3⟩ := h
  have h1' : genAt (nset S ta xa m w) k (.inl (0, 2, .inl f)) := h1
  refine ⟨(g_aint (i := 0) h1' (by decide) (by decide)).trans (by rw [h2]), (g_aint (i := 1) h1' (by decide) (by decide)).trans (by rw [h3])⟩
theorem GA.ext {x y : Int32} (h : GA S k x y) (hE : XE (fun _ => False) S S1) (hk : k < xTop S) : GA S1 k x y := by
  obtain ⟨f, h1, h2, h3⟩ := h
  obtain ⟨t1, t2, t3, t4, t5, t6⟩ := hE.2.2.2.2.2 k hk (fun z => z)
  exact ⟨f, ⟨t1.trans h1.1, t6.trans h1.2⟩, h2, h3⟩
theorem j_game1 (hR : RRel N M σ) (hO : MOk T M) (hT : T ≤ 60000000) (hN : 2 ^ 20 < N) (hW : OW g Z S xa na ta (tC M) (tV M)) {s : MS} (hf : RFr σ s) (hz : s.1 0 = 0) (hc : c < (tC M).1) (ho : o < (tC M).1) (ha : a ≤ 1) (hb : b ≤ 1) (x3 : Int32) (hk : k < 4) {y : Int32} (hy : k = 0 ↔ y = -1) (r1 : xTop S + 3 ≤ xCc S) (r2 : xSl S + 6 ≤ xCs S) :
    ∃ S1 m1 w1 s1 k1 y1, (∀ f K37, kX_X1_game_46 g N K37 (f + 1) (nset S ta xa m w) xa (nI c) (nI o) x3 (nI k) y (nI a) (nI b) = kX_X1_game_46 g N K37 f (nset S1 ta xa m1 w1) xa (nI c) (nI o) x3 (nI k1) y1 (nI a) (nI (b + 1))) ∧ (∀ f, kM_game_59 N (f + 1) s (nI c) (nI o) x3 (nI k) y (nI (2 * a + b)) = kM_game_59 N f s1 (nI c) (nI o) x3 (nI k1) y1 (nI (2 * a + b + 1))) ∧ OW g Z S1 xa na ta (tC M) (tV M) ∧ XE (fun _ => False) S S1 ∧ xTop S1 ≤ xTop S + 3 ∧ xSl S1 ≤ xSl S + 6 ∧ xCc S1 = xCc S ∧ xCs S1 = xCs S ∧ RFr σ s1 ∧ s1.1 0 = 0 ∧ k1 ≤ k + 1 ∧ (k1 = 0 ↔ y1 = -1) := by
  have hV := hO.2.2.1.1.1
  obtain ⟨S1, m1, w1, p1, p2, p3, p4, p5, p6, p7, p8⟩ := x_gains (m := m) (w := w) (a := a) (b := b) hW hN hV hT hc ho ha hb (by omega) (by omega)
  obtain ⟨S2, m2, w2, q1, q2, q3, q4, q5, q6, q7, q8⟩ := x_gains (m := m1) (w := w1) (a := 1 - a) (b := b) p2 hN hV hT hc ho (by omega) hb (by omega) (by omega)
  obtain ⟨s1, t1, t2, t3⟩ := r_gains hN hR hO hT m1 hf hc ho (a := 1 - a) (b := b) (by omega) hb
  obtain ⟨s2, u1, u2, u3⟩ := r_gains hN hR hO hT m (hf.trans t2) hc ho (a := a) (b := b) ha hb
  have hcls : ∀ {S : XS} {m : MN} {w : Nat → Int32}, OW g Z S xa na ta (tC M) (tV M) → f_cls (nset S ta xa m w) 1 xa = some () := fun h => oc_cls h.1
  have g1 := (p8.ext q7 (by omega)).get (ta := ta) (xa := xa) m2 w2
  have g2 := q8.get (ta := ta) (xa := xa) m2 w2
  have e1a : 1 - nI a = nI (1 - a) := by
    have : a = 0 ∨ a = 1 := by omega
    rcases this with rfl | rfl <;> decide
  have e1b : 1 - nI b = nI (1 - b) := by
    have : b = 0 ∨ b = 1 := by omega
    rcases this with rfl | rfl <;> decide
  have e2 : nI (2 * a + b) / 2 = nI a ∧ nI (2 * a + b) - nI (2 * a + b) / 2 * 2 = nI b ∧ ¬ (2 : Int32) ≤ nI b ∧ ¬ (4 : Int32) ≤ nI (2 * a + b) := by
    have h1 : a = 0 ∨ a = 1 := by omega
    have h2 : b = 0 ∨ b = 1 := by omega
    rcases h1 with rfl | rfl <;> rcases h2 with rfl | rfl <;> decide
  have e10 : ¬ 10 * nI a + nI b = -1 := by
    have h1 : a = 0 ∨ a = 1 := by omega
    have h2 : b = 0 ∨ b = 1 := by omega
    rcases h1 with rfl | rfl <;> rcases h2 with rfl | rfl <;> decide
  by_cases hlt : iI (gD (tC M) (mBe m (tV M)) c o a b) / 2 - nI a < iI (gD (tC M) (mBe m1 (tV M)) c o (1 - a) b) / 2 - nI (1 - a)
  · refine ⟨S2, m2, w2, s2, k, y, fun f K37 => ?_, fun f => ?_, q2, p7.trans q7 (fun _ _ z => z), by omega, by omega, q5.trans p5, q6.trans p6, (hf.trans t2).trans u2, (u3.trans t3).trans hz, by omega, hy⟩
    · rw [kX_X1_game_46]
      refine oif e2.2.2.1 (ob1 (hcls hW) (ob1 p1 (ob1 (hcls p2) ?_)))
      rw [e1a]
      refine ob1 q1 (ob1 g2.1 (ob1 g1.1 (oit hlt ?_)))
      unfold kX_X1_game_127
      rw [nI_1]
    · rw [kM_game_59]
      refine oif e2.2.2.2 (onb e2.1 (onb e2.2.1 ?_))
      rw [e1a]
      refine ob1 t1 (ob1 u1 (oit hlt ?_))
      unfold kM_game_149
      rw [nI_1]
  · obtain ⟨S3, m3, w3, v1, v2, v3, v4, v5, v6, v7, v8⟩ := x_gains (m := m2) (w := w2) (a := a) (b := 1 - b) q2 hN hV hT hc ho ha (by omega) (by omega) (by omega)
    obtain ⟨s3, z1, z2, z3⟩ := r_gains hN hR hO hT m2 ((hf.trans t2).trans u2) ho hc (a := 1 - b) (b := a) (by omega) ha
    obtain ⟨s4, y1, y2, y3⟩ := r_gains hN hR hO hT m (((hf.trans t2).trans u2).trans z2) ho hc (a := b) (b := a) hb ha
    rw [gD_sw, ← iI_neg] at z1 y1
    have g3 := v8.get (ta := ta) (xa := xa) m3 w3
    have g4 := ((p8.ext q7 (by omega)).ext v7 (by omega)).get (ta := ta) (xa := xa) m3 w3
    have hk0 : nI k = 0 ↔ k = 0 := nI_eq (b := 0) (by omega) (by omega)
    have hxp : ∀ f K37 R, (if -iI (gD (tC M) (mBe m2 (tV M)) c o a (1 - b)) / 2 - nI (1 - b) ≤ -iI (gD (tC M) (mBe m (tV M)) c o a b) / 2 - nI b then (if nI k = 0 then bnd ((10 * nI a) + nI b) fun v15 => kX_X1_game_124 g N K37 (kX_X1_game_46 g N K37 f) (nset S3 ta xa m3 w3) xa (nI c) (nI o) x3 (nI k) v15 (nI a) (nI b) else kX_X1_game_124 g N K37 (kX_X1_game_46 g N K37 f) (nset S3 ta xa m3 w3) xa (nI c) (nI o) x3 (nI k) y (nI a) (nI b)) else kX_X1_game_127 g N K37 (kX_X1_game_46 g N K37 f) (nset S3 ta xa m3 w3) xa (nI c) (nI o) x3 (nI k) y (nI a) (nI b)) = R → kX_X1_game_46 g N K37 (f + 1) (nset S ta xa m w) xa (nI c) (nI o) x3 (nI k) y (nI a) (nI b) = R := fun f K37 R h => by
      rw [kX_X1_game_46]
      refine oif e2.2.2.1 (ob1 (hcls hW) (ob1 p1 (ob1 (hcls p2) ?_)))
      rw [e1a]
      refine ob1 q1 (ob1 g2.1 (ob1 g1.1 (oif hlt (ob1 (hcls q2) ?_))))
      rw [e1b]
      exact ob1 v1 (ob1 g3.2 (ob1 g4.2 h))
    have hrp : ∀ f R, (if -iI (gD (tC M) (mBe m2 (tV M)) c o a (1 - b)) / 2 - nI (1 - b) ≤ -iI (gD (tC M) (mBe m (tV M)) c o a b) / 2 - nI b then (if y = (-1) then bnd ((10 * nI a) + nI b) fun v12 => kM_game_149 N (kM_game_59 N f) s4 (nI c) (nI o) x3 (nI k + 1) v12 (nI (2 * a + b)) else kM_game_149 N (kM_game_59 N f) s4 (nI c) (nI o) x3 (nI k + 1) y (nI (2 * a + b))) else kM_game_149 N (kM_game_59 N f) s4 (nI c) (nI o) x3 (nI k) y (nI (2 * a + b))) = R → kM_game_59 N (f + 1) s (nI c) (nI o) x3 (nI k) y (nI (2 * a + b)) = R := fun f R h => by
      rw [kM_game_59]
      refine oif e2.2.2.2 (onb e2.1 (onb e2.2.1 ?_))
      rw [e1a]
      refine ob1 t1 (ob1 u1 (oif hlt ?_))
      rw [e1b]
      exact ob1 z1 (ob1 y1 h)
    have hfr : RFr σ s4 := (((hf.trans t2).trans u2).trans z2).trans y2
    have hz4 : s4.1 0 = 0 := y3.trans (z3.trans (u3.trans (t3.trans hz)))
    have hE3 : XE (fun _ => False) S S3 := (p7.trans q7 (fun _ _ z => z)).trans v7 (fun _ _ z => z)
    by_cases hle : -iI (gD (tC M) (mBe m2 (tV M)) c o a (1 - b)) / 2 - nI (1 - b) ≤ -iI (gD (tC M) (mBe m (tV M)) c o a b) / 2 - nI b
    · by_cases hk1 : k = 0
      · refine ⟨S3, m3, w3, s4, k + 1, 10 * nI a + nI b, fun f K37 => hxp f K37 _ (oit hle (oit (hk0.mpr hk1) (onb rfl ?_))), fun f => hrp f _ (oit hle (oit (hy.mp hk1) (onb rfl ?_))), v2, hE3, by omega, by omega, v5.trans (q5.trans p5), v6.trans (q6.trans p6), hfr, hz4, by omega, ⟨fun z => by omega, fun z => absurd z e10⟩⟩
        · unfold kX_X1_game_124 kX_X1_game_127
          rw [nI_1, nI_1]
        · unfold kM_game_149
          rw [nI_1, nI_1]
      · refine ⟨S3, m3, w3, s4, k + 1, y, fun f K37 => hxp f K37 _ (oit hle (oif (fun z => hk1 (hk0.mp z)) ?_)), fun f => hrp f _ (oit hle (oif (fun z => hk1 (hy.mpr z)) ?_)), v2, hE3, by omega, by omega, v5.trans (q5.trans p5), v6.trans (q6.trans p6), hfr, hz4, by omega, ⟨fun z => by omega, fun z => absurd (hy.mpr z) hk1⟩⟩
        · unfold kX_X1_game_124 kX_X1_game_127
          rw [nI_1, nI_1]
        · unfold kM_game_149
          rw [nI_1, nI_1]
    · refine ⟨S3, m3, w3, s4, k, y, fun f K37 => hxp f K37 _ (oif hle ?_), fun f => hrp f _ (oif hle ?_), v2, hE3, by omega, by omega, v5.trans (q5.trans p5), v6.trans (q6.trans p6), hfr, hz4, by omega, hy⟩
      · unfold kX_X1_game_127
        rw [nI_1]
      · unfold kM_game_149
        rw [nI_1]
theorem KS.ext (h : KS xa ta oa n S S1) {S2 : XS} (hE : XE (fun _ => False) S1 S2) (hW : WFr S1) (hn : n ≤ xTop S1) (hx : xa < n) : KS xa ta oa n S S2 := by
  refine h.trans ⟨hE.1.1, fun q hq => ?_, fun j _ => ?_, fun j _ => ?_, fun hf => ?_⟩
  · obtain ⟨t1, t2, t3, t4, t5, t6⟩ := hE.2.2.2.2.2 q (Nat.lt_of_lt_of_le hq hn) (fun z => z)
    exact ⟨t1, t3, t5, fun _ => t6, fun _ _ => ⟨t2, t4⟩⟩
  · rw [(hE.2.2.2.2.2 xa (Nat.lt_of_lt_of_le hx hn) (fun z => z)).2.1]
  · rw [(hE.2.2.2.2.2 xa (Nat.lt_of_lt_of_le hx hn) (fun z => z)).2.2.2.1]
  · obtain ⟨f, hf⟩ := hf
    obtain ⟨t1, t2, t3, t4, t5, t6⟩ := hE.2.2.2.2.2 oa (hW.2 oa _ (g_cell hf)) (fun z => z)
    exact ⟨f, t1.trans hf.1, t6.trans hf.2⟩
theorem b_game (hX : XB g N xa oa n Z Ya Yh na ta cv la lh ra rh M T S) (hR : RB N M T σ) {q : Nat} (hc : c < (tC M).1) (ho : o < (tC M).1) (hq : q ≤ 1) (hne : ¬ c = o) : ∃ S1 r, kX_X1_game g N S xa (nI c) (nI o) (nI q) = some (.inl (S1, r)) ∧ KS xa ta oa n S S1 ∧ ∃ σ1, kM_game N σ (nI c) (nI o) (nI q) = some (σ1, r) ∧ σ1.1 0 = 0 ∧ RFr σ σ1 := by
  have hN := hX.2.2.2.1
  have hT := hX.2.2.2.2.1
  have hOk := hR.2.1
  have hs := hX.oc.spr
  have z0 : (m_put σ 0 0).1 0 = 0 := mp_s _ _ _
  have z1 : (m_put σ 0 0).1 1 = nI (tC M).1 := (mp_n _ _ _ (by decide)).trans hR.1.1.1
  have hn := hX.2.2.2.2.2.1
  have hcp := hX.2.2.2.2.2.2.1
  have hW : OW g Z S xa na ta (tC M) (tV M) := ⟨hX.oc, hX.wf, hX.fw.2.2.2.1⟩
  have hxa : xa < xTop S := hX.wf.2 xa _ hX.1.2.1.1.cell
  obtain ⟨m, w, hS⟩ := hX.ns
  obtain ⟨f3, hf3⟩ : ∃ f3, N = f3 + 3 := ⟨N - 3, by omega⟩
  obtain ⟨f5, hf5⟩ : ∃ f5, N = f5 + 5 := ⟨N - 5, by omega⟩
  obtain ⟨S1, m1, w1, s1, k1, y1, a1, a2, a3, a4, a5, a6, a7, a8, a9, a10, a11, a12⟩ := j_game1 (k := 0) (y := -1) (m := m) (w := w) (a := 0) (b := 0) hR.1 hOk hT hN hW (RFr.p0 σ 0) z0 hc ho (by omega) (by omega) (nI q) (by omega) ⟨fun _ => rfl, fun _ => rfl⟩ (by omega) (by omega)
  obtain ⟨S2, m2, w2, s2, k2, y2, b1, b2, b3, b4, b5, b6, b7, b8, b9, b10, b11, b12⟩ := j_game1 (m := m1) (w := w1) (a := 0) (b := 1) hR.1 hOk hT hN a3 a9 a10 hc ho (by omega) (by omega) (nI q) (by omega) a12 (by omega) (by omega)
  obtain ⟨S3, m3, w3, s3, k3, y3, c1, c2, c3, c4, c5, c6, c7, c8, c9, c10, c11, c12⟩ := j_game1 (m := m2) (w := w2) (a := 1) (b := 0) hR.1 hOk hT hN b3 b9 b10 hc ho (by omega) (by omega) (nI q) (by omega) b12 (by omega) (by omega)
  obtain ⟨S4, m4, w4, s4, k4, y4, d1, d2, d3, d4, d5, d6, d7, d8, d9, d10, d11, d12⟩ := j_game1 (m := m3) (w := w3) (a := 1) (b := 1) hR.1 hOk hT hN c3 c9 c10 hc ho (by omega) (by omega) (nI q) (by omega) c12 (by omega) (by omega)
  have hq0 : nI q = 0 ↔ q = 0 := nI_eq (b := 0) (by omega) (by omega)
  have hks : KS xa ta oa n S S4 := ((((KS.refl hX.wf.1).ext a4 hX.wf (by omega) (by omega)).ext b4 a4.1 (by have := a4.2.1; omega) (by omega)).ext c4 b4.1 (by have := a4.2.1; have := b4.2.1; omega) (by omega)).ext d4 c4.1 (by have := a4.2.1; have := b4.2.1; have := c4.2.1; omega) (by omega)
  refine ⟨nset S4 ta xa m4 w4, if q = 0 then nI k4 else y4, ?_, hks.nset hX.oc.1.1.2.2.1.symm m4 w4, s4, ?_, d10, d9⟩
  · unfold kX_X1_game kX_X1_game_25
    have hne2 : ¬ nI c = nI o := fun z => hne ((nI_eq (by omega) (by omega)).mp z)
    have h37 : kX_X1_game_37 g N N S xa (nI c) (nI o) (nI q) 0 (-1) 0 = some (.inl (nset S4 ta xa m4 w4, if q = 0 then nI k4 else y4)) := by
      rw [← hS]
      have hN1 : ∀ F : Nat → Option ((XS × Int32) ⊕ XT), (∀ f, F (f + 3) = some (.inl (nset S4 ta xa m4 w4, if q = 0 then nI k4 else y4))) → F N = some (.inl (nset S4 ta xa m4 w4, if q = 0 then nI k4 else y4)) := fun F h => by rw [hf3]; exact h f3
      have hin : ∀ (K : XS → Nat → Int32 → Int32 → Int32 → Int32 → Int32 → Int32 → Option ((XS × Int32) ⊕ XT)), kX_X1_game_46 g N K N (nset S ta xa m w) xa (nI c) (nI o) (nI q) (nI 0) (-1) (nI 0) (nI 0) = K (nset S2 ta xa m2 w2) xa (nI c) (nI o) (nI q) (nI k2) y2 (nI 1) := fun K => by
        have : ∀ f, kX_X1_game_46 g N K (f + 3) (nset S ta xa m w) xa (nI c) (nI o) (nI q) (nI 0) (-1) (nI 0) (nI 0) = K (nset S2 ta xa m2 w2) xa (nI c) (nI o) (nI q) (nI k2) y2 (nI 1) := fun f => by
          rw [a1 (f + 2) K, b1 (f + 1) K, kX_X1_game_46]
          refine oit (by decide) ?_
          rw [nI_1]
        have h := this f3
        rw [← hf3] at h
        exact h
      have hin2 : ∀ (K : XS → Nat → Int32 → Int32 → Int32 → Int32 → Int32 → Int32 → Option ((XS × Int32) ⊕ XT)), kX_X1_game_46 g N K N (nset S2 ta xa m2 w2) xa (nI c) (nI o) (nI q) (nI k2) y2 (nI 1) (nI 0) = K (nset S4 ta xa m4 w4) xa (nI c) (nI o) (nI q) (nI k4) y4 (nI 2) := fun K => by
        have : ∀ f, kX_X1_game_46 g N K (f + 3) (nset S2 ta xa m2 w2) xa (nI c) (nI o) (nI q) (nI k2) y2 (nI 1) (nI 0) = K (nset S4 ta xa m4 w4) xa (nI c) (nI o) (nI q) (nI k4) y4 (nI 2) := fun f => by
          rw [c1 (f + 2) K, d1 (f + 1) K, kX_X1_game_46]
          refine oit (by decide) ?_
          rw [nI_1]
        have h := this f3
        rw [← hf3] at h
        exact h
      refine hN1 (fun F => kX_X1_game_37 g N F (nset S ta xa m w) xa (nI c) (nI o) (nI q) 0 (-1) 0) (fun f => ?_)
      show kX_X1_game_37 g N (f + 2 + 1) (nset S ta xa m w) xa (nI c) (nI o) (nI q) 0 (-1) 0 = _
      rw [kX_X1_game_37]
      refine oif (by decide) ((hin _).trans ?_)
      show kX_X1_game_37 g N (f + 1 + 1) (nset S2 ta xa m2 w2) xa (nI c) (nI o) (nI q) (nI k2) y2 (nI 1) = _
      rw [kX_X1_game_37]
      refine oif (by decide) ((hin2 _).trans ?_)
      rw [kX_X1_game_37]
      refine oit (by decide) ?_
      by_cases e : q = 0
      · rw [if_pos e]
        exact oit (hq0.mpr e) rfl
      · rw [if_neg e]
        exact oif (fun z => e (hq0.mp z)) rfl
    exact ob1 (f_cls_T hX.1.2.1.1) (ot1 (hX.cup hc) (ob1 (f_cls_T hX.1.2.1.1) (ot1 (hX.cup ho) (ot1 (x_oneOf1 (b := 1) rfl hq (by decide)) (oif hne2 (ot1 (x_right1 (by decide)) h37))))))
  · unfold kM_game kM_game_41
    have hne2 : ¬ nI c = nI o := fun z => hne ((nI_eq (by omega) (by omega)).mp z)
    have h59 : kM_game_59 N N (m_put σ 0 0) (nI c) (nI o) (nI q) 0 (-1) 0 = some (s4, if q = 0 then nI k4 else y4) := by
      have : ∀ f, kM_game_59 N (f + 5) (m_put σ 0 0) (nI c) (nI o) (nI q) (nI 0) (-1) (nI (2 * 0 + 0)) = some (s4, if q = 0 then nI k4 else y4) := fun f => by
        rw [a2 (f + 4)]
        show kM_game_59 N (f + 3 + 1) s1 (nI c) (nI o) (nI q) (nI k1) y1 (nI (2 * 0 + 1)) = _
        rw [b2 (f + 3)]
        show kM_game_59 N (f + 2 + 1) s2 (nI c) (nI o) (nI q) (nI k2) y2 (nI (2 * 1 + 0)) = _
        rw [c2 (f + 2)]
        show kM_game_59 N (f + 1 + 1) s3 (nI c) (nI o) (nI q) (nI k3) y3 (nI (2 * 1 + 1)) = _
        rw [d2 (f + 1)]
        rw [kM_game_59]
        refine oit (by decide) ?_
        by_cases e : q = 0
        · rw [if_pos e]
          exact oit (hq0.mpr e) rfl
        · rw [if_neg e]
          exact oif (fun z => e (hq0.mp z)) rfl
      have h := this f5
      rw [← hf5] at h
      exact h
    exact onb rfl (ob1 (r_isCup1 z0 z1 hs.1 hc) (oif n10 (ob1 (r_isCup1 z0 z1 hs.1 ho) (oif n10 (ob1 (r_isWhat1 z0 (b := 1) rfl hq (by decide)) (oif n10 (oif hne2 (ob1 (r_right1 z0 (by decide) 2) (oif n10 h59)))))))))
end OQ
theorem op_game {g : XC} {N xa oa i : Nat} (hN : 2 ^ 20 < N) (hi : i ≤ 378) : St_game (yRel g N xa oa i) (yRel g N xa oa (i + 6)) g N xa oa := by
  rintro a0 a1 a2 n sl τ σ ⟨M, Z, Ya, Yh, na, ta, cv, la, lh, ra, rh, hB⟩
  have hB : yBody g N xa oa i n Z Ya Yh na ta cv la lh ra rh M τ σ := hB
  generalize hcc : n + 14000 = cc
  generalize hkk : sl + 97000 = kk
  obtain ⟨hO, hr, hQ, hfr, hS⟩ := y_open hB sl cc kk (by omega) (by omega)
  have hX := y_xb (sl := sl) (c := cc) (k := kk) hB hN hi (by omega) (by omega)
  have hRB := y_rb hB hN hi
  have z0 : (m_put σ 0 0).1 0 = 0 := mp_s _ _ _
  have z1 : (m_put σ 0 0).1 1 = nI (tC M).1 := (mp_n _ _ _ (by decide)).trans hRB.1.1.1
  have h9 := hRB.2.1.1
  have hw : ∀ a0 a1 a2, kX_X0_game (jg g cc kk) N ((n, sl, cc, kk), τ) xa a0 a1 a2 oa = yW yH2 (kX_X1_game (jg g cc kk) N ((n, sl, cc, kk), τ) xa a0 a1 a2) oa := fun a0 a1 a2 => ob1 (f_cls_T hQ.2.1.1) rfl
  rw [hw]
  rcases y_cup (tC M).1 (by omega) a0 with ⟨c0, h0, rfl⟩ | h0
  · rcases y_cup (tC M).1 (by omega) a1 with ⟨c1, h1, rfl⟩ | h1
    · rcases y_rng 0 1 (by decide) a2 with ⟨q2, -, h2, rfl⟩ | h2
      · by_cases hne : c0 = c1
        · subst hne
          have hx : kX_X1_game (jg g cc kk) N ((n, sl, cc, kk), τ) xa (nI c0) (nI c0) (nI q2) = some (.inr (((n, sl, cc, kk), τ), 1, 0)) := by
            unfold kX_X1_game kX_X1_game_25
            exact ob1 (f_cls_T hQ.2.1.1) (ot1 (hX.cup h0) (ob1 (f_cls_T hQ.2.1.1) (ot1 (hX.cup h0) (ot1 (x_oneOf1 (b := 1) rfl h2 (by decide)) (oit rfl (ot2 (x_right0 hr)))))))
          have hm : kM_game N σ (nI c0) (nI c0) (nI q2) = some (m_put (m_put σ 0 0) 0 2, 0) := by
            unfold kM_game kM_game_41
            exact onb rfl (ob1 (r_isCup1 z0 z1 h9 h0) (oif n10 (ob1 (r_isCup1 z0 z1 h9 h0) (oif n10 (ob1 (r_isWhat1 z0 (b := 1) rfl h2 (by decide)) (oif n10 (oit rfl (ob1 (r_right0 z0 (by decide)) (oit rfl rfl)))))))))
          exact fin_thr (c := cc) (k := kk) hB hx rfl (KS.refl hQ.2.1.2.2.2.1) hm (mp_s _ _ _) (by decide) (RFr.p00 _ _ _)
        · obtain ⟨S1, r, hx, hks, hm⟩ := b_game hX hRB h0 h1 h2 hne
          obtain ⟨σ1, hm1, hm2, hm3⟩ := hm
          exact fin_ok (c := cc) (k := kk) hB hx hks hm1 hm2 hm3
      · have hx : kX_X1_game (jg g cc kk) N ((n, sl, cc, kk), τ) xa (nI c0) (nI c1) a2 = some (.inr (((n, sl, cc, kk), τ), 0, 0)) := by
          unfold kX_X1_game
          exact ob1 (f_cls_T hQ.2.1.1) (ot1 (hX.cup h0) (ob1 (f_cls_T hQ.2.1.1) (ot1 (hX.cup h1) (ot2 (x_oneOf0 hr h2)))))
        have hm : kM_game N σ (nI c0) (nI c1) a2 = some (m_put (m_put σ 0 0) 0 1, 0) := by
          unfold kM_game
          exact onb rfl (ob1 (r_isCup1 z0 z1 h9 h0) (oif n10 (ob1 (r_isCup1 z0 z1 h9 h1) (oif n10 (ob1 (r_isWhat0 z0 h2) (oit rfl rfl))))))
        exact fin_thr (c := cc) (k := kk) hB hx rfl (KS.refl hQ.2.1.2.2.2.1) hm (mp_s _ _ _) (by decide) (RFr.p00 _ _ _)
    · have hcl : kX_X1_aCup (jg g cc kk) N ((n, sl, cc, kk), τ) xa a1 = some (.inr (((n, sl, cc, kk), τ), 0, 0)) := by
        have := oc_cup0 (N := N) (m := yMN ((n, sl, cc, kk), τ) ta) (w := xA ((n, sl, cc, kk), τ) xa 0) hO hr h1
        rw [hS] at this
        exact this
      have hx : kX_X1_game (jg g cc kk) N ((n, sl, cc, kk), τ) xa (nI c0) a1 a2 = some (.inr (((n, sl, cc, kk), τ), 0, 0)) := by
        unfold kX_X1_game
        exact ob1 (f_cls_T hQ.2.1.1) (ot1 (hX.cup h0) (ob1 (f_cls_T hQ.2.1.1) (ot2 hcl)))
      have hm : kM_game N σ (nI c0) a1 a2 = some (m_put (m_put σ 0 0) 0 1, 0) := by
        unfold kM_game
        exact onb rfl (ob1 (r_isCup1 z0 z1 h9 h0) (oif n10 (ob1 (r_isCup0 z0 z1 h1) (oit rfl rfl))))
      exact fin_thr (c := cc) (k := kk) hB hx rfl (KS.refl hQ.2.1.2.2.2.1) hm (mp_s _ _ _) (by decide) (RFr.p00 _ _ _)
  · have hx : kX_X1_game (jg g cc kk) N ((n, sl, cc, kk), τ) xa a0 a1 a2 = some (.inr (((n, sl, cc, kk), τ), 0, 0)) := by
      rw [← hS]
      unfold kX_X1_game
      exact ob1 (oc_cls hO) (ot2 (oc_cup0 hO hr h0))
    have hm : kM_game N σ a0 a1 a2 = some (m_put (m_put σ 0 0) 0 1, 0) := by
      unfold kM_game
      exact onb rfl (ob1 (r_isCup0 z0 z1 h0) (oit rfl rfl))
    exact fin_thr (c := cc) (k := kk) hB hx rfl (KS.refl hQ.2.1.2.2.2.1) hm (mp_s _ _ _) (by decide) (RFr.p00 _ _ _)
