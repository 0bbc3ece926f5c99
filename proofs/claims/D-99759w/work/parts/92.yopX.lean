/-! plain law: listen, the operation -/
section OX
variable {g : XC} {N xa oa n : Nat} {Z Ya Yh : Nat → Prop} {na ta cv la lh : Nat} {ra rh : List Nat} {M : MT} {T : Int} {S S0 S1 : XS} {σ s : MS} {C : CC} {V m : MN} {w : Nat → Int32} {c k t l q : Nat} {hs : List HT} {L : List Nat} {A : Nat → Nat → Int32}
theorem nset_G (S : XS) (a xa : Nat) (m : MN) (w : Nat → Int32) (q : Nat) (e : GE) : nset (xSetG S q e) a xa m w = xSetG (nset S a xa m w) q e := rfl
/-- the hours of guess i are in the table -/
def LR (C : CC) (V : MN) (L : List Nat) (A : Nat → Nat → Int32) (i : Nat) : Prop := ∀ e j, e < i → j < 40 → A e j = nI (lsV C V j (L.getD e 0))
theorem x_li55 (hX : XB g N xa oa n Z Ya Yh na ta cv la lh ra rh M T S0) (hL : L.length ≤ 90) {m0 : MN} (hm : YN (tC M) m0 T) {i : Nat} (hi : i < L.length) (hv : ∀ j, j < 40 → yI (yRep (mPass (tC M)) (j + 1) m0) 13 = nI (lsV (tC M) (tV M) j (L.getD i 0))) (K : XS → Nat → Int32 → Nat → Nat → Int32 → Option ((XS × Int32) ⊕ XT)) (x : Int32) (h : LI g xa ta oa n S0 l t L (nset S ta xa m0 w) A) (hA : LR (tC M) (tV M) L A i) : ∃ S1 A1, kX_X1_listen_55 g N K N (nset S ta xa m0 w) xa x l t (nI i) 0 = K S1 xa x l t (nI (i + 1)) ∧ LI g xa ta oa n S0 l t L S1 A1 ∧ LR (tC M) (tV M) L A1 (i + 1) := by
  have hN := hX.2.2.2.1
  have hT := hX.2.2.2.2.1
  have hs := hX.oc.spr
  have hxa : xa < n := hX.2.1 xa _ hX.1.2.1.1.cell
  have hoa : oa < n := by
    obtain ⟨f, hf⟩ := hX.1.2.2.2.2.2.2.2.1
    exact hX.2.1 oa _ (g_cell hf)
  have hYN : ∀ j : Nat, j ≤ 40 → YN (tC M) (yRep (mPass (tC M)) j m0) 70000000 := fun j hj => (mPasses_YN hs.2 hs.1 hm j (by omega)).le (by omega)
  refine y_loop (fun f (p : XS × (Nat → Nat → Int32)) j => kX_X1_listen_55 g N K f p.1 xa x l t (nI i) (nI j)) 40 (fun p j => LI g xa ta oa n S0 l t L p.1 p.2 ∧ LR (tC M) (tV M) L p.2 i ∧ (∀ e, e < j → p.2 i e = nI (lsV (tC M) (tV M) e (L.getD i 0))) ∧ j ≤ 40 ∧ ∃ S w, p.1 = nset S ta xa (yRep (mPass (tC M)) j m0) w) (fun r => ∃ S1 A1, r = K S1 xa x l t (nI (i + 1)) ∧ LI g xa ta oa n S0 l t L S1 A1 ∧ LR (tC M) (tV M) L A1 (i + 1)) ?_ ?_ 40 N (nset S ta xa m0 w, A) 0 (by omega) (by omega) ⟨h, hA, fun e he => by omega, by omega, S, w, rfl⟩
  · rintro f ⟨P, B⟩ j hj ⟨p1, p2, p3, p4, S2, w2, p5⟩
    right
    have p5 : P = nset S2 ta xa (yRep (mPass (tC M)) j m0) w2 := p5
    subst p5
    have p1 : LI g xa ta oa n S0 l t L (nset S2 ta xa (yRep (mPass (tC M)) j m0) w2) B := p1
    obtain ⟨hO, -⟩ := hX.ls p1.1
    have hne : xa ≠ ta := hO.1.1.2.2.1.symm
    obtain ⟨w3, hw⟩ := oc_pass (m := yRep (mPass (tC M)) j m0) (w := w2) hO hN (T := 70000000) (by omega) (hYN j p4)
    have eN : ∀ m w, nset (nset S2 ta xa (yRep (mPass (tC M)) j m0) w2) ta xa m w = nset S2 ta xa m w := fun m w => nset_nset _ _ _ _ _ _ _
    rw [eN, eN] at hw
    have p1' : LI g xa ta oa n S0 l t L (nset S2 ta xa (yRep (mPass (tC M)) (j + 1) m0) w3) B := by
      have := p1.nset hne (yRep (mPass (tC M)) (j + 1) m0) w3
      rw [eN] at this
      exact this
    have hO' := (hX.ls p1'.1).1
    have hcl : f_cls (nset S2 ta xa (yRep (mPass (tC M)) j m0) w2) 2 ta = some () := by
      have := n_cls (m := yRep (mPass (tC M)) j m0) (w := w2) hO.1.1
      rw [eN] at this
      exact this
    have hta : f_obj (nset S2 ta xa (yRep (mPass (tC M)) j m0) w2) 1 xa 3 = some ta := by
      have := oc_ta (m := yRep (mPass (tC M)) j m0) (w := w2) hO
      rw [eN] at this
      exact this
    have h13 : f_int (nset S2 ta xa (yRep (mPass (tC M)) (j + 1) m0) w3) 2 ta 13 = some (yI (yRep (mPass (tC M)) (j + 1) m0) 13) := by
      have := n_int (m := yRep (mPass (tC M)) (j + 1) m0) (w := w3) hO'.1.1 (k := 13) (by decide)
      rw [nset_nset] at this
      exact this
    refine ⟨(xSetG (nset S2 ta xa (yRep (mPass (tC M)) (j + 1) m0) w3) (t + 1 + i) (mxI (upd (B i) j (nI (lsV (tC M) (tV M) j (L.getD i 0))))), fun e => if e = i then upd (B i) j (nI (lsV (tC M) (tV M) j (L.getD i 0))) else B e), ?_, p1'.put hxa hoa hi _, fun e j2 he hj2 => ?_, fun e he => ?_, by omega, ⟨xSetG S2 (t + 1 + i) _, w3, (nset_G _ _ _ _ _ _ _).symm⟩⟩
    · show kX_X1_listen_55 g N K (f + 1) (nset S2 ta xa (yRep (mPass (tC M)) j m0) w2) xa x l t (nI i) (nI j) = kX_X1_listen_55 g N K f _ xa x l t (nI i) (nI (j + 1))
      rw [kX_X1_listen_55]
      have hput : a_putI (nset S2 ta xa (yRep (mPass (tC M)) (j + 1) m0) w3) 0 (t + 1 + i) (nI j) (nI (lsV (tC M) (tV M) j (L.getD i 0))) = some (xSetG (nset S2 ta xa (yRep (mPass (tC M)) (j + 1) m0) w3) (t + 1 + i) (mxI (upd (B i) j (nI (lsV (tC M) (tV M) j (L.getD i 0)))))) := g_aputI (p1'.2.2.2.2 i hi) hj (by omega)
      rw [hv j hj] at h13
      refine oif (nI_ge (b := 40) (a := j) hj (by omega)) (ob1 (p1.row hL hi) (ob1 hta (ob1 hcl (ob1 hw (ob1 h13 (ob1 hput ?_))))))
      rw [nI_1]
    · show (if e = i then _ else B e) j2 = _
      rw [if_neg (by omega)]
      exact p2 e j2 he hj2
    · show (if i = i then upd (B i) j _ else B i) e = _
      rw [if_pos rfl]
      unfold upd
      by_cases ee : e = j
      · rw [if_pos ee, ee]
      · rw [if_neg ee]
        exact p3 e (by omega)
  · rintro f ⟨P, B⟩ ⟨p1, p2, p3, -, -⟩
    refine ⟨P, B, ?_, p1, fun e j he hj => ?_⟩
    · show kX_X1_listen_55 g N K (f + 1) P xa x l t (nI i) (nI 40) = _
      rw [kX_X1_listen_55]
      refine oit (nI_le (Nat.le_refl _) (by omega)) ?_
      rw [nI_1]
    · by_cases ee : e = i
      · rw [ee]
        exact p3 j hj
      · exact p2 e j (by omega) hj
theorem x_li26 (hX : XB g N xa oa n Z Ya Yh na ta cv la lh ra rh M T S0) (hR : RB N M T σ) {q : Nat} (hq : q ≤ 1) (h : LI g xa ta oa n S0 l t (lsL M (10 * (tC M).1)) S A) : ∃ S1, kX_X1_listen_26 g N N S xa (nI q) l t 0 = some (.inl (S1, if q = 0 then (lsB (lsC M) 40).1 else nI (lsB (lsC M) 40).2)) ∧ KS xa ta oa n S0 S1 := by
  have hN := hX.2.2.2.1
  have hT := hX.2.2.2.2.1
  have hM := hX.2.2.1
  have h9 := hM.1
  have hV := hM.2.2.1
  have hG := hX.2.2.2.2.2.2.2
  have hL : (lsL M (10 * (tC M).1)).length ≤ 90 := by
    have := gL_len (tC M) (tV M) (tH M) (10 * (tC M).1)
    unfold lsL
    omega
  refine y_loop (fun f (p : XS × (Nat → Nat → Int32)) i => kX_X1_listen_26 g N f p.1 xa (nI q) l t (nI i)) (lsL M (10 * (tC M).1)).length (fun p i => LI g xa ta oa n S0 l t (lsL M (10 * (tC M).1)) p.1 p.2 ∧ LR (tC M) (tV M) (lsL M (10 * (tC M).1)) p.2 i) (fun r => ∃ S1, r = some (.inl (S1, if q = 0 then (lsB (lsC M) 40).1 else nI (lsB (lsC M) 40).2)) ∧ KS xa ta oa n S0 S1) ?_ ?_ (lsL M (10 * (tC M).1)).length N (S, A) 0 (by omega) (by omega) ⟨h, fun e j he => by omega⟩
  · rintro f ⟨P, B⟩ i hi ⟨p1, p2⟩
    right
    have p1 : LI g xa ta oa n S0 l t (lsL M (10 * (tC M).1)) P B := p1
    have p2 : LR (tC M) (tV M) (lsL M (10 * (tC M).1)) B i := p2
    obtain ⟨hO, -⟩ := hX.ls p1.1
    have hne : xa ≠ ta := hO.1.1.2.2.1.symm
    have hS : nset P ta xa (yMN P ta) (xA P xa 0) = P := nset_yMN hO.1.1.2.2.1
    generalize yMN P ta = m at hS
    generalize xA P xa 0 = w at hS
    have hmem : (lsL M (10 * (tC M).1)).getD i 0 ∈ lsL M (10 * (tC M).1) := by
      rw [List.getD_eq_getElem?_getD, List.getElem?_eq_getElem hi]
      exact List.getElem_mem hi
    generalize hx : (lsL M (10 * (tC M).1)).getD i 0 = x at hmem
    obtain ⟨hx1, hx2⟩ := gL_mem hmem
    obtain ⟨d, e, hd, he, hde⟩ : ∃ d e, d < (tC M).1 ∧ e < 10 ∧ x = 10 * d + e := ⟨x / 10, x % 10, by omega, by omega, by omega⟩
    subst hde
    have hok : gOk (tC M) (tV M) d e = true ∧ hrB (tC M) (tH M) (gN (tV M) d e) 40 = true := by
      unfold gG at hx2
      rw [(dm10 he).1, (dm10 he).2, Bool.and_eq_true] at hx2
      exact hx2
    have hi2 := hr_ind hN hR.1 hM hT hd hok.1 m
    have hY := hV.gN h9 hok.1 m
    have xl := x_leadTo (m := m) (w := w) (c := d) (t := e) hO hN (by omega) he
    rw [hS] at xl
    have p1' := p1.nset hne (mLead (mBe m (tV M)) d (gX e)) w
    obtain ⟨S1, A1, b1, b2, b3⟩ := x_li55 (N := N) (x := nI q) hX hL hY hi (fun j hj => by
      rw [hi2.2 hok.2 j hj, hx]
      have := (lsV_eq h9 (tV M) j (10 * d + e)).2
      rw [(dm10 he).1, (dm10 he).2] at this
      exact this) (kX_X1_listen_26 g N f) p1' p2
    refine ⟨(S1, A1), ?_, b2, b3⟩
    show kX_X1_listen_26 g N (f + 1) P xa (nI q) l t (nI i) = kX_X1_listen_26 g N f S1 xa (nI q) l t (nI (i + 1))
    obtain ⟨Y, hl, -⟩ := p1.2.1
    have hget := hl.get N (i := i) (r := gIc g (10 * d + e + 128)) (by
      unfold gIs
      rw [List.getElem?_map, List.getElem?_eq_getElem hi]
      rw [List.getD_eq_getElem?_getD, List.getElem?_eq_getElem hi] at hx
      have hx : (lsL M (10 * (tC M).1))[i] = 10 * d + e := hx
      rw [hx]
      rfl)
    have hiv := hG.2.2.1 (10 * d + e + 128) (by omega)
    rw [kX_X1_listen_26]
    refine ob1 p1.len (oif (nI_ge hi (by omega)) (ob1 hl.cls (ob1 hget (ob1 hiv (ob1 hiv (ob1 (v := (P, nI (10 * d + e))) ?_ (ob1 (f_cls_T hO.1.1.1) (ob1 xl b1))))))))
    unfold kX_J19_intValue
    refine ob1 hiv ?_
    rw [vb_128 _ (by omega)]
  · rintro f ⟨P, B⟩ ⟨p1, p2⟩
    have p1 : LI g xa ta oa n S0 l t (lsL M (10 * (tC M).1)) P B := p1
    have h100 := x_li100 (N := N) (g := g) hN hL p1 (G := fun j x => lsV (tC M) (tV M) j x) (fun j x => (lsV_eq h9 (tV M) j x).1) (fun i j hi hj => p2 i j hi hj) hq
    refine ⟨P, ?_, p1.1.1⟩
    show kX_X1_listen_26 g N (f + 1) P xa (nI q) l t (nI (lsL M (10 * (tC M).1)).length) = _
    rw [kX_X1_listen_26]
    exact ob1 p1.len (oit (nI_le (Nat.le_refl _) (by omega)) h100)
theorem x_newM {p : Nat} (hp : p ≤ 90) (h : xMul S (xTop S) p 40 p = some S1) : xNewM S (nI p) 40 = some S1 := by
  have e40 : (40 : Int32).toNatClampNeg = 40 := nI_clamp (n := 40) (by omega)
  have ep : (nI p).toNatClampNeg = p := nI_clamp (by omega)
  have hc : ¬ (nI p < 0 ∨ (40 : Int32) < 0 ∨ 67108864 < (nI p).toNatClampNeg ∨ 67108864 < (40 : Int32).toNatClampNeg) := by
    rw [e40, ep]
    rintro (z | z | z | z)
    · exact nI_pos (by omega) z
    · exact absurd z (by decide)
    · omega
    · omega
  unfold xNewM
  rw [if_neg hc, e40, ep]
  exact h
theorem b_listen (hX : XB g N xa oa n Z Ya Yh na ta cv la lh ra rh M T S) (hR : RB N M T σ) {q : Nat} (hq : q ≤ 1) : ∃ S1 r, kX_X1_listen g N S xa (nI q) = some (.inl (S1, r)) ∧ KS xa ta oa n S S1 ∧ ∃ σ1, kM_listen N σ (nI q) = some (σ1, r) ∧ σ1.1 0 = 0 ∧ RFr σ σ1 := by
  have hN := hX.2.2.2.1
  have hM := hX.2.2.1
  have h9 := hM.1
  have hO := hX.oc
  have hcp := hX.2.2.2.2.2.2.1
  have hn0 := hX.2.2.2.2.2.1
  have z0 : (m_put σ 0 0).1 0 = 0 := mp_s _ _ _
  have hxa : xa < n := hX.2.1 xa _ hX.1.2.1.1.cell
  have hoa : oa < n := by
    obtain ⟨f, hf⟩ := hX.1.2.2.2.2.2.2.2.1
    exact hX.2.1 oa _ (g_cell hf)
  obtain ⟨S1, k1, k2⟩ := x_others hX hR
  obtain ⟨h1, ⟨Y, cap, h2, h3⟩, h4, h5, h6⟩ := k2
  have hlen := gL_len (tC M) (tV M) (tH M) (10 * (tC M).1)
  obtain ⟨Y1, y1, y2, y3⟩ := h2.min
  have hl := y1.l
  have hln : (gIs g (gL (tC M) (tV M) (tH M) (10 * (tC M).1))).length = (gL (tC M) (tV M) (tH M) (10 * (tC M).1)).length := by unfold gIs; rw [List.length_map]
  have hpl : (gL (tC M) (tV M) (tH M) (10 * (tC M).1)).length ≤ 90 := by omega
  have hsz := hl.size N
  rw [hln] at hsz
  obtain ⟨S2, m1, m2, m3, m4, m5, m6⟩ := x_mul h1.2.1 (p := (lsL M (10 * (tC M).1)).length) (by rw [h1.2.2.2.1]; unfold lsL; omega) (by rw [h1.2.2.2.2]; unfold lsL; omega) _ (Nat.le_refl _)
  have hLI : LI g xa ta oa n S (xTop S) (xTop S1) (lsL M (10 * (tC M).1)) S2 (fun _ _ => 0) := ⟨h1.xe (m2.mono (fun q _ z => by have := h1.2.2.1; omega)) hxa hoa, ⟨Y1, hl.fr (fun q hq => by
    obtain ⟨e, he⟩ := y3 q hq
    have hq2 := h1.2.1.2 q e he
    have := m2.2.2.2.2.2 q hq2 (by omega)
    exact ⟨this.1, this.2.2.2.2.2⟩), fun q hq => by
    obtain ⟨e, he⟩ := y3 q hq
    exact h1.2.1.2 q e he⟩, h1.2.2.1, m5, fun i hi => m6 i hi⟩
  obtain ⟨S3, u1, u2⟩ := x_li26 (q := q) hX hR hq hLI
  obtain ⟨s1, v1, v2, v3, v4⟩ := r_li18 (M := M) hN (nI q) (RFr.p0 σ 0) z0
  obtain ⟨s2, w1, w2, w3⟩ := r_li40 (q := q) hR hq v2 v3 v4
  refine ⟨S3, if q = 0 then (lsB (lsC M) 40).1 else nI (lsB (lsC M) 40).2, ?_, u2, s2, ?_, w3, w2⟩
  · unfold kX_X1_listen
    refine ot1 (x_oneOf1 (b := 1) rfl hq (by decide)) (ob1 (f_cls_T hO.1.1.1) (ob1 k1 (ob1 hl.cls (ob1 hsz (ob1 (x_newM hpl m1) u1)))))
  · unfold kM_listen
    refine onb rfl (ob1 (r_isWhat1 z0 (b := 1) rfl hq (by decide)) (oif n10 (v1.trans w1)))
end OX
theorem op_listen {g : XC} {N xa oa i : Nat} (hN : 2 ^ 20 < N) (hi : i ≤ 378) : St_listen (yRel g N xa oa i) (yRel g N xa oa (i + 6)) g N xa oa := by
  rintro a0 n sl τ σ ⟨M, Z, Ya, Yh, na, ta, cv, la, lh, ra, rh, hB⟩
  have hB : yBody g N xa oa i n Z Ya Yh na ta cv la lh ra rh M τ σ := hB
  generalize hcc : n + 14000 = cc
  generalize hkk : sl + 97000 = kk
  obtain ⟨hO, hr, hQ, hfr, hS⟩ := y_open hB sl cc kk (by omega) (by omega)
  have hX := y_xb (sl := sl) (c := cc) (k := kk) hB hN hi (by omega) (by omega)
  have hRB := y_rb hB hN hi
  have z0 : (m_put σ 0 0).1 0 = 0 := mp_s _ _ _
  have z1 : (m_put σ 0 0).1 1 = nI (tC M).1 := (mp_n _ _ _ (by decide)).trans hRB.1.1.1
  have h9 := hRB.2.1.1
  have hw : ∀ a0, kX_X0_listen (jg g cc kk) N ((n, sl, cc, kk), τ) xa a0 oa = yW yH0 (kX_X1_listen (jg g cc kk) N ((n, sl, cc, kk), τ) xa a0) oa := fun a0 => ob1 (f_cls_T hQ.2.1.1) rfl
  rw [hw]
  rcases y_rng 0 1 (by decide) a0 with ⟨q0, -, h0, rfl⟩ | h0
  · -- fits
    obtain ⟨S1, r, hx, hks, hm⟩ := b_listen hX hRB h0
    obtain ⟨σ1, hm1, hm2, hm3⟩ := hm
    exact fin_ok (c := cc) (k := kk) hB hx hks hm1 hm2 hm3
  · have hx : kX_X1_listen (jg g cc kk) N ((n, sl, cc, kk), τ) xa a0 = some (.inr (((n, sl, cc, kk), τ), 0, 0)) := by
      rw [← hS]
      unfold kX_X1_listen
      exact ot2 (x_oneOf0 hr h0)
    have hm : kM_listen N σ a0 = some (m_put (m_put σ 0 0) 0 1, 0) := by
      unfold kM_listen
      exact onb rfl (ob1 (r_isWhat0 z0 h0) (oit rfl rfl))
    exact fin_thr (c := cc) (k := kk) hB hx rfl (KS.refl hQ.2.1.2.2.2.1) hm (mp_s _ _ _) (by decide) (RFr.p00 _ _ _)
