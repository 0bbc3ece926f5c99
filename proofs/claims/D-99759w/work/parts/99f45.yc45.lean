/-! the cave: a new reader -/
section YC45
variable {g : XC} {N r xa sz mk nb on an : Nat} {b : Nat → Nat} {S S0 S1 : XS} {P : Nat → Prop} {c k n i : Nat}
theorem gp_newR (h : XE P S0 S) (hn : n ≤ 67108864) (r1 : xTop S + 1 ≤ xCc S) (r2 : xSl S + n ≤ xCs S) : ∃ S1, xNewR S k (nI n) = some S1 ∧ XE P S0 S1 ∧ xTop S1 = xTop S + 1 ∧ xSl S1 = xSl S + n ∧ genAt S1 (xTop S) (.inl (k, n, .inr (.inr (.inr (.inr (fun _ => none)))))) ∧ ∀ q e1, genAt S q e1 → genAt S1 q e1 :=
  ⟨_, x_newR hn r1 r2, h.trans (newS_XE h.1 n _ P) (fun _ _ z => z), rfl, rfl, newS_at S n _, fun q e1 h1 => gn_at h.1 n _ h1⟩
theorem gp_aR (h : XE P S0 S) {f : Nat → Option Nat} (hg : genAt S c (.inl (k, n, .inr (.inr (.inr (.inr f)))))) (hP : P c ∨ xTop S0 ≤ c) (hi : i < n) (hn : n < 2 ^ 31) (v : Option Nat) : ∃ S1, a_putR S k c (nI i) v = some S1 ∧ XE P S0 S1 ∧ xTop S1 = xTop S ∧ xSl S1 = xSl S ∧ genAt S1 c (.inl (k, n, .inr (.inr (.inr (.inr (va_up f i v)))))) ∧ ∀ q e, q ≠ c → genAt S q e → genAt S1 q e := by
  obtain ⟨a1, a2, a3⟩ := gp_set h hg hP (.inl (k, n, .inr (.inr (.inr (.inr (va_up f i v))))))
  exact ⟨_, g_aputR hg hi hn, a1, rfl, rfl, a2, a3⟩
def rdF (v0 : Int32) (xa mk nb on an : Nat) : List Value := [.int v0, .ref mk, .ref nb, .ref on, .ref an, .int 0, .int 0, .int 0, .int 0, .int 0, .int 0, .int 0, .ref xa]
theorem rd_adopt {v0 : Int32} (hW : WFr S) (h : genAt S r (.inr (4, rdF v0 xa mk nb on an))) : ∃ S1, x_adopt S 4 r = some S1 ∧ XE (fun q => q = r) S S1 ∧ xTop S1 = xTop S ∧ xSl S1 = xSl S ∧ tyA S1 4 r ∧ (xR S1 r 1 = some mk ∧ xR S1 r 2 = some nb ∧ xR S1 r 3 = some on ∧ xR S1 r 4 = some an ∧ xR S1 r 12 = some xa) ∧ xI S1 r 0 = v0 ∧ ∀ j, 5 ≤ j → j < 12 → xI S1 r j = 0 := by
  have hfit : (List.range (x_N 4)).all (x_fit S 4 (rdF v0 xa mk nb on an)) = true := by
    rw [List.all_eq_true]
    intro k hk
    have hk : k < 13 := List.mem_range.mp hk
    have hcase : k = 0 ∨ k = 1 ∨ k = 2 ∨ k = 3 ∨ k = 4 ∨ k = 5 ∨ k = 6 ∨ k = 7 ∨ k = 8 ∨ k = 9 ∨ k = 10 ∨ k = 11 ∨ k = 12 := by omega
    rcases hcase with rfl | rfl | rfl | rfl | rfl | rfl | rfl | rfl | rfl | rfl | rfl | rfl | rfl <;> rfl
  have hno : ∀ k, k < 13 → x_isA 4 k = false := by decide
  have hwho : ∀ q, x_who 4 (rdF v0 xa mk nb on an) q = none := fun q => by
    unfold x_who
    rw [List.find?_eq_none]
    intro k hk
    rw [hno k (List.mem_range.mp hk)]
    simp
  have h9 : (4 = 4 ∧ xOwn S r = (0, 0, 0) ∧ 0 < 4 ∧ 4 < 10 ∧ (rdF v0 xa mk nb on an).length = x_N 4 ∧ (List.range (x_N 4)).all (x_fit S 4 (rdF v0 xa mk nb on an)) = true) := ⟨rfl, h.1, by decide, by decide, rfl, hfit⟩
  have hex : ∃ S1, x_adopt S 4 r = some S1 ∧ tyA S1 4 r ∧ (xR S1 r 1 = some mk ∧ xR S1 r 2 = some nb ∧ xR S1 r 3 = some on ∧ xR S1 r 4 = some an ∧ xR S1 r 12 = some xa) ∧ xI S1 r 0 = v0 ∧ (∀ j, 5 ≤ j → j < 12 → xI S1 r j = 0) ∧ ∀ q, q ≠ r → tSame S S1 q := by
    unfold x_adopt
    rw [h.2]
    dsimp only
    rw [if_pos h9]
    refine ⟨_, rfl, ⟨if_pos rfl, by decide, by decide⟩, ⟨if_pos rfl, if_pos rfl, if_pos rfl, if_pos rfl, if_pos rfl⟩, if_pos rfl, fun j h5 h12 => ?_, fun q hq => ⟨?_, funext fun j => if_neg hq, funext fun j => if_neg hq, funext fun j => if_neg hq, funext fun j => if_neg hq, rfl⟩⟩
    · have hcase : j = 5 ∨ j = 6 ∨ j = 7 ∨ j = 8 ∨ j = 9 ∨ j = 10 ∨ j = 11 := by omega
      rcases hcase with rfl | rfl | rfl | rfl | rfl | rfl | rfl <;> exact if_pos rfl
    · show (if q = r then _ else match x_who 4 (rdF v0 xa mk nb on an) q with
          | some k => (4 + 10, r, k)
          | none => xOwn S q) = _
      rw [if_neg hq, hwho]
  obtain ⟨S1, k1, k2, k3, k4, k5, k6⟩ := hex
  obtain ⟨a1, a2, a3⟩ := x_adopt_s hW.1 k1
  have ht : xTop S1 = xTop S := by unfold xTop; rw [a3]
  have hs : xSl S1 = xSl S := by unfold xSl; rw [a3]
  exact ⟨S1, k1, ⟨⟨a2, fun q e hq => by rw [ht]; exact hW.2 q e (by rw [← a1]; exact hq)⟩, by omega, by omega, by unfold xCc; rw [a3], by unfold xCs; rw [a3], fun q _ hq => k6 q hq⟩, ht, hs, k2, k3, k4, k5⟩
theorem gxe {q : Nat} {e : GE} (h : genAt S q e) (hW : WFr S) (hE : XE P S S1) (hq : ¬ P q) : genAt S1 q e := h.xe hW hE hq
def rdE : GE := .inr (4, [.int 0, .null, .null, .null, .null, .int 0, .int 0, .int 0, .int 0, .int 0, .int 0, .int 0, .null])
theorem x_reader (hN : 2 ^ 20 < N) (hG : GS g) (hW : WFr S0) (hxa : tyA S0 1 xa) (hsp : gSp g 0 < xTop S0 ∧ gSp g 1 < xTop S0) (hsz : sz ≤ 700) (htp : ∀ i, i < sz → (xA S0 xa 4 i) &&& 255 = nI (b i) ∧ b i < 256 ∧ (b i < 128 → xA S0 xa 4 i = nI (b i))) (r1 : xTop S0 + 40 ≤ xCc S0) (r2 : xSl S0 + 200 ≤ xCs S0) : ∃ S5 S1 mk nb B0 m0, xNew S0 13 rdE = some S5 ∧ kX_X5_init g N S5 (xTop S0) xa (nI sz) = some S1 ∧ XLb g (xTop S0) xa sz B0 b mk nb (xTop S0) S1 (0, 0, 0) (s00 m0) ∧ XCv g B0 mk (xTop S0) S1 (s00 m0).1 ∧ LOk (s00 m0) ∧ XE (fun _ => False) S0 S1 ∧ xTop S1 ≤ xTop S0 + 20 ∧ xSl S1 ≤ xSl S0 + 150 := by
  have hxt : xa < xTop S0 := hW.2 xa _ hxa.cell
  -- up to the night
  obtain ⟨S5, a1, a2, a3, a4, a5, a6⟩ := gp_new (XE.refl (P := fun _ => False) hW) 13 rdE (by omega) (by omega)
  have ac := a2.2.2.2.1
  have as := a2.2.2.2.2.1
  obtain ⟨T1, b1, b2, b3, b4, b5, b6⟩ := gp_R a2 a5 (Or.inr (Nat.le_refl _)) (i := 12) (by show 12 < 13; omega) (some xa)
  have bc := b2.2.2.2.1
  have bs := b2.2.2.2.2.1
  obtain ⟨T2, c1, c2, c3, c4, c5, c6⟩ := gp_new b2 3 (.inr (3, [.null, .null, .null])) (by omega) (by omega)
  have cc := c2.2.2.2.1
  have cs := c2.2.2.2.2.1
  obtain ⟨T3, d1, d2, d3, d4, d5⟩ := l_new (g := g) (N := N) c2.1 ⟨by omega, by omega⟩
  have d2' : XE (fun _ => False) S0 T3 := c2.trans d2 (fun _ _ z => z)
  have gm3 := gxe c5 c2.1 d2 (fun z => z)
  have gr3 := gxe (c6 _ _ b5) c2.1 d2 (fun z => z)
  obtain ⟨T4, e1, e2, e3, e4, e5, e6⟩ := gp_R d2' gm3 (Or.inr (by omega)) (i := 0) (by show 0 < 3; omega) (some (xTop T2))
  have L4 : ListC g (fun q => q = xTop T2) T4 (xTop T2) [] 0 := by
    obtain ⟨h0, mc, ba, h1, h2⟩ := d5
    refine ⟨h0, mc, ba, ⟨rfl, e6 _ _ (by omega) h1.2⟩, ?_⟩
    rcases h2 with h2 | ⟨h2, h3, h4, h5, h6⟩
    · exact Or.inl h2
    · exact absurd h6.1 h3
  obtain ⟨T5, f1, f2, f3, f4, f5, f6⟩ := gp_R e2 (e6 _ _ (by omega) gr3) (Or.inr (Nat.le_refl _)) (i := 1) (by show 1 < 13; omega) (some (xTop T1))
  have fc := f2.2.2.2.1
  have fs := f2.2.2.2.2.1
  have gm5 := f6 _ _ (by omega) e5
  have L5 : ListC g (fun q => q = xTop T2) T5 (xTop T2) [] 0 := by
    obtain ⟨h0, mc, ba, h1, h2⟩ := L4
    refine ⟨h0, mc, ba, ⟨rfl, f6 _ _ (by omega) h1.2⟩, ?_⟩
    rcases h2 with h2 | ⟨h2, h3, h4, h5, h6⟩
    · exact Or.inl h2
    · exact absurd h6.1 h3
  -- the night
  have sx5 := f2.2.2.2.2.2 xa hxt (fun z => z)
  obtain ⟨T6, m0, g1, g2, g3, g4, g5, g6⟩ := x_nightC (g := g) hN f2.1 (xa := xa) ⟨sx5.1.trans hxa.1, hxa.2⟩ (by omega) (by omega)
  have hobj : f_obj (newS T5 16 (.inr (2, nbE))) 4 (xTop S0) 12 = some xa := g_obj (gn_at f2.1 16 _ f5) rfl
  have gr6 := gxe f5 f2.1 g2 (fun z => z)
  have gm6 := gxe gm5 f2.1 g2 (fun z => z)
  have gc := g2.2.2.2.1
  have gs := g2.2.2.2.2.1
  -- the words
  have h6 : XE (fun q => q = xTop S0) T6 T6 := XE.refl g2.1
  obtain ⟨T7, i1, i2, i3, i4, i5, i6⟩ := gp_R h6 gr6 (Or.inl rfl) (i := 2) (by show 2 < 13; omega) (some (xTop T5))
  have ic := i2.2.2.2.1
  have is := i2.2.2.2.2.1
  obtain ⟨T8, j1, j2, j3, j4, j5, j6⟩ := gp_newR (k := 4) (n := 2) i2 (by decide) (by omega) (by omega)
  obtain ⟨T9, k1, k2, k3, k4, k5, k6⟩ := gp_aR j2 j5 (Or.inr (by omega)) (i := 0) (by decide) (by decide) (some (gSk g 0))
  obtain ⟨T10, l1, l2, l3, l4, l5, l6⟩ := gp_aR k2 k5 (Or.inr (by omega)) (i := 1) (by decide) (by decide) (some (gSk g 1))
  have gr10 := l6 _ _ (by omega) (k6 _ _ (by omega) (j6 _ _ i5))
  obtain ⟨T11, m1, m2, m3, m4, m5, m6⟩ := gp_R l2 gr10 (Or.inl rfl) (i := 3) (by show 3 < 13; omega) (some (xTop T7))
  have mc := m2.2.2.2.1
  have ms := m2.2.2.2.2.1
  obtain ⟨T12, n1, n2, n3, n4, n5, n6⟩ := gp_newR (k := 4) (n := 6) m2 (by decide) (by omega) (by omega)
  obtain ⟨T13, o1, o2, o3, o4, o5, o6⟩ := gp_aR n2 n5 (Or.inr (by omega)) (i := 0) (by decide) (by decide) (some (gSk g 2))
  obtain ⟨T14, p1, p2, p3, p4, p5, p6⟩ := gp_aR o2 o5 (Or.inr (by omega)) (i := 1) (by decide) (by decide) (some (gSk g 3))
  obtain ⟨T15, q1, q2, q3, q4, q5, q6⟩ := gp_aR p2 p5 (Or.inr (by omega)) (i := 2) (by decide) (by decide) (some (gSk g 4))
  obtain ⟨T16, u1, u2, u3, u4, u5, u6⟩ := gp_aR q2 q5 (Or.inr (by omega)) (i := 3) (by decide) (by decide) (some (gSk g 5))
  obtain ⟨T17, v1, v2, v3, v4, v5, v6⟩ := gp_aR u2 u5 (Or.inr (by omega)) (i := 4) (by decide) (by decide) (some (gSk g 6))
  obtain ⟨T18, w1, w2, w3, w4, w5, w6⟩ := gp_aR v2 v5 (Or.inr (by omega)) (i := 5) (by decide) (by decide) (some (gSk g 7))
  have pr : ∀ q e, q ≠ xTop T11 → genAt T11 q e → genAt T18 q e := fun q e hq he => w6 _ _ hq (v6 _ _ hq (u6 _ _ hq (q6 _ _ hq (p6 _ _ hq (o6 _ _ hq (n6 _ _ he))))))
  obtain ⟨T19, x1, x2, x3, x4, x5, x6⟩ := gp_R w2 (pr _ _ (by omega) m5) (Or.inl rfl) (i := 4) (by show 4 < 13; omega) (some (xTop T11))
  obtain ⟨T20, y1, y2, y3, y4, y5, y6⟩ := gp_I x2 x5 (Or.inl rfl) (i := 0) (by show 0 < 13; omega) (nI sz)
  have gF : genAt T20 (xTop S0) (.inr (4, rdF (nI sz) xa (xTop T1) (xTop T5) (xTop T7) (xTop T11))) := y5
  have gon : genAt T20 (xTop T7) (.inl (4, 2, .inr (.inr (.inr (.inr (va_up (va_up (fun _ => none) 0 (some (gSk g 0))) 1 (some (gSk g 1)))))))) := y6 _ _ (by omega) (x6 _ _ (by omega) (pr _ _ (by omega) (m6 _ _ (by omega) l5)))
  have gan := y6 _ _ (by omega) (x6 _ _ (by omega) w5)
  obtain ⟨T21, z1, z2, z3, z4, z5, ⟨zr1, zr2, zr3, zr4, zr12⟩, zi0, zi⟩ := rd_adopt y2.1 gF
  have E21 : XE (fun q => q = xTop S0) T6 T21 := y2.trans z2 (fun _ _ z => z)
  have E0 : XE (fun _ => False) S0 T6 := f2.trans g2 (fun _ _ z => z)
  have EE : XE (fun _ => False) S0 T21 := E0.trans E21 (fun q hq z => by omega)
  have ht21 : xTop T21 = xTop S0 + 14 := by omega
  have hs21 : xSl T21 = xSl S0 + 115 := by omega
  have sxa := EE.2.2.2.2.2 xa hxt (fun z => z)
  have s6 : ∀ q, q < xTop T6 → q ≠ xTop S0 → tSame T6 T21 q := fun q hq hn => E21.2.2.2.2.2 q hq hn
  have sn := s6 (xTop T5) (by omega) (by omega)
  have sx6 := s6 xa (by omega) (by omega)
  have hi5 : xI T21 (xTop S0) 5 = nI 0 := zi 5 (by decide) (by decide)
  have hi6 : xI T21 (xTop S0) 6 = nI 0 := zi 6 (by decide) (by decide)
  have hi7 : xI T21 (xTop S0) 7 = nI 0 := zi 7 (by decide) (by decide)
  have hi8 : xI T21 (xTop S0) 8 = nI 0 := zi 8 (by decide) (by decide)
  have L21 : ListC g (fun q => q = xTop T2) T21 (xTop T2) [] 0 := L5.fr (fun q hq => by
    have e1 := g2.2.2.2.2.2 q (by omega) (fun z => z)
    have e2 := s6 q (by omega) (by omega)
    exact ⟨e2.1.trans e1.1, e2.2.2.2.2.2.trans e1.2.2.2.2.2⟩)
  refine ⟨S5, T21, xTop T1, xTop T5, xTop T21, m0, a1, ?_, ⟨⟨⟨z5, ⟨sxa.1.trans hxa.1, hxa.2⟩, z2.1.1, zr12, hsz, fun i hi => by rw [sxa.2.2.2.1]; exact htp i hi⟩, z2.1, ⟨hi5, hi6, hi7, hi8, fun z => ?_⟩, zi0, ⟨Nat.le_refl _, Nat.zero_le _, Nat.zero_le _, fun z => absurd rfl z, fun z => ?_, fun z => ?_, fun z => ?_⟩, ⟨by omega, by omega, Nat.le_refl _, by omega, by omega⟩, xTop T11, _, zr4, by omega, gxe gan y2.1 z2 (by omega), fun i hi => ?_⟩, zr1, zr2, ⟨xTop T7, _, zr3, by omega, gxe gon y2.1 z2 (by omega), fun i hi => ?_⟩, g5.keep z2.1.1 sx6.1 sn.1 sn.2.2.1 sn.2.1 sn.2.2.2.1, ⟨by omega, by omega, Nat.le_refl _, by omega, by omega, by omega, by omega⟩, ⟨?_, ?_⟩, fun k hk => ?_⟩, ⟨xTop T2, none, none, [], 0, fun q => q = xTop T2, fun _ => False, ?_, L21, rfl, ⟨fun i hi => absurd hi (Nat.not_lt_zero i), fun x hx => by cases hx⟩, rfl, rfl, fun q hq => ?_, fun q hq => absurd hq (fun z => z), ⟨by omega, by omega, by omega⟩⟩, g6, EE, by omega, by omega⟩
  · unfold kX_X5_init
    refine ob1 b1 (ob1 c1 (ob1 (v := T4) ?_ (ob1 f1 (ob1 (x_newS (S := T5) (n := 16) (e := .inr (2, nbE)) (by omega) (by omega)) (ob1 hobj (ob1 g1 (ob1 i1 (ob1 j1 (ob1 (hG 0 (by decide)).1 (ob1 k1 (ob1 (hG 1 (by decide)).1 (ob1 l1 (ob1 m1 (ob1 n1 (ob1 (hG 2 (by decide)).1 (ob1 o1 (ob1 (hG 3 (by decide)).1 (ob1 p1 (ob1 (hG 4 (by decide)).1 (ob1 q1 (ob1 (hG 5 (by decide)).1 (ob1 u1 (ob1 (hG 6 (by decide)).1 (ob1 v1 (ob1 (hG 7 (by decide)).1 (ob1 w1 (ob1 x1 (ob1 y1 (ob1 z1 rfl)))))))))))))))))))))))))))))
    unfold kX_X2_init
    exact ob1 (x_newS (S := T2) (n := 3) (e := ELn) (by omega) (by omega)) (ob1 d1 (ob1 e1 rfl))
  · have z : (0 : Nat) = 2 := z
    omega
  · have z : (0 : Nat) = 1 := z
    omega
  · have z : (0 : Nat) = 2 := z
    omega
  · have z : (0 : Nat) = 3 := z
    omega
  · have hc : i = 0 ∨ i = 1 ∨ i = 2 ∨ i = 3 ∨ i = 4 ∨ i = 5 := by omega
    rcases hc with rfl | rfl | rfl | rfl | rfl | rfl <;> rfl
  · have hc : i = 0 ∨ i = 1 := by omega
    rcases hc with rfl | rfl <;> rfl
  · rw [zi 10 (by decide) (by decide), b_0]
    rfl
  · rw [zi 10 (by decide) (by decide), b_0]
    rfl
  · rw [zi 11 (by decide) (by decide), b_0]
    rfl
  · exact gxe (gxe gm6 g2.1 y2 (by omega)) y2.1 z2 (by omega)
  · have hq : q = xTop T2 := hq
    exact ⟨Or.inl hq, by omega, fun z => z, by omega⟩
end YC45
