/-! plain law: operations that change the state, with the law's wrapper: pour, crack -/
theorem CRq.oa {g : XC} {xa oa : Nat} {Z Ya Yh : Nat → Prop} {na ta cv la lh : Nat} {ra rh : List Nat} {M : MT} {S : XS} (h : CRq g xa oa Z Ya Yh na ta cv la lh ra rh M S) (hW : WFr S) (f : Nat → Int64) : CRq g xa oa Z Ya Yh na ta cv la lh ra rh M (oaSet S oa f) := by
  obtain ⟨f0, hf0⟩ := h.2.2.2.2.2.2.2.1
  exact h.keep hW.2 ((KS.refl (xa := xa) (ta := ta) (oa := oa) (n := xTop S) hW.1).oa hf0.1 f)
theorem fin2 {g : XC} {N xa oa i n c k : Nat} {Z Ya Yh : Nat → Prop} {na ta cv la lh : Nat} {ra rh : List Nat} {M : MT} {S1 : XS} {σ1 : MS} {r : Int32} {x : Option ((XS × Int32) ⊕ XT)} {h : XT → Option (XS × Int32)} {mop : Option (MS × Int32)} (hx : x = some (.inl (S1, r))) (hC : CRq (jg g c k) xa oa Z Ya Yh na ta cv la lh ra rh M S1) (hW : WFr S1) (hm : mop = some (σ1, r)) (h0 : σ1.1 0 = 0) (hR : RRel N M σ1) (hM : MOk (yT (i + 6)) M) (hG : GOk g n) :
    ∃ (w : XS × Int32) (σ1 : MS) (r : Int32) (σ2 : MS), yW h x oa = some w ∧ mop = some (σ1, r) ∧ kM_thrown N σ1 = some (σ2, w.2) ∧ (w.2 = 0 → a_long w.1 oa 0 = some r.toInt64) ∧ ∀ n1 : Nat, n ≤ n1 → (∀ q e, x_cell w.1 q = some e → q < n1) → yRel g N xa oa (i + 6) n1 w.1.2 σ2 := by
  obtain ⟨f, hf1⟩ := hC.2.2.2.2.2.2.2.1
  refine ⟨(oaSet S1 oa (vp_updL f 0 r.toInt64), 0), σ1, r, σ1, ?_, hm, ?_, fun _ => x_oaGet hf1.1 f _, fun n1 hn hfr => ?_⟩
  · unfold yW
    exact oh1 hx (ob1 (x_putJ hf1 _) rfl)
  · unfold kM_thrown
    rw [h0]
  · exact y_end (hC.oa hW _) hfr (hG.le hn) hR hM
theorem RK.z {σ σ1 : MS} (h : RK [33] [32] σ σ1) : σ1.1 0 = σ.1 0 := h.1 0 (by decide)
theorem YP.pour {C : CC} {V : MN} {T : Int} (h9 : C.1 ≤ 9) (hT : T ≤ 900000000) (h : YP C V T) {c d : Nat} (hc : c < C.1) (hd : d ≤ 50) : YP C (mPour C V c d) (T + 40000) := by
  obtain ⟨h1, h2, h3, h4, p, h5, h6⟩ := h
  exact ⟨mPour_YN h9 hT h1 hc (by omega) (by omega), (mPourN_I V c d 8 (by decide) _).trans h2, (mPourN_I V c d 9 (by decide) _).trans h3, (mPourN_I V c d 10 (by decide) _).trans h4, p, h5, (mPourN_I V c d 7 (by decide) _).trans h6⟩
theorem YP.crack {C : CC} {V : MN} {T : Int} (h : YP C V T) {c k : Nat} (h1 : 1 ≤ k) (h2 : k ≤ 30) : YP C (mCrack V c k) T := ⟨mCrack_YN h.1 (by omega) (by omega), h.2.1, h.2.2.1, h.2.2.2.1, h.2.2.2.2⟩
section SB
variable {g : XC} {N xa oa i n sl cc kk : Nat} {Z Ya Yh : Nat → Prop} {na ta cv la lh : Nat} {ra rh : List Nat} {M : MT} {τ : XL} {σ : MS}
theorem wf_of (hB : yBody g N xa oa i n Z Ya Yh na ta cv la lh ra rh M τ σ) (h3 : CRq (jg g cc kk) xa oa Z Ya Yh na ta cv la lh ra rh M ((n, sl, cc, kk), τ)) : WFr ((n, sl, cc, kk), τ) := ⟨h3.2.1.2.2.2.1, hB.2.1⟩
/-- a refusal, through the wrapper -/
theorem fin_ref (hB : yBody g N xa oa i n Z Ya Yh na ta cv la lh ra rh M τ σ) (h3 : CRq (jg g cc kk) xa oa Z Ya Yh na ta cv la lh ra rh M ((n, sl, cc, kk), τ)) {r : Int32} {x : Option ((XS × Int32) ⊕ XT)} {h : XT → Option (XS × Int32)} {mop : Option (MS × Int32)} (hx : x = some (.inl (xSetA ((n, sl, cc, kk), τ) xa 7 (upd (xA ((n, sl, cc, kk), τ) xa 7) 1 (tR M 1 + 1)), r))) (hm : mop = some (rS (m_put σ 0 0) 10 1 (tR M 1 + 1), r)) :
    ∃ (w : XS × Int32) (σ1 : MS) (r : Int32) (σ2 : MS), yW h x oa = some w ∧ mop = some (σ1, r) ∧ kM_thrown N σ1 = some (σ2, w.2) ∧ (w.2 = 0 → a_long w.1 oa 0 = some r.toInt64) ∧ ∀ n1 : Nat, n ≤ n1 → (∀ q e, x_cell w.1 q = some e → q < n1) → yRel g N xa oa (i + 6) n1 w.1.2 σ2 := by
  have hR0 : RRel N M (m_put σ 0 0) := hB.2.2.2.1.fr hB.2.2.2.2.1 (RFr.p0 σ 0)
  have hW := wf_of hB h3
  refine fin2 hx (h3.ref (k := 1)) (hW.og ?_ (Nat.le_refl _) (fun _ => ⟨rfl, rfl⟩)) hm (show (m_put σ 0 0).1 0 = 0 from mp_s _ _ _) (r_refuse hR0 (k := 1) (by decide)).2 (hB.2.2.2.2.le (by unfold yT; omega)) hB.2.2.1
  exact hW.1
end SB
theorem op_pour {g : XC} {N xa oa i : Nat} (hN : 2 ^ 20 < N) (hi : i ≤ 378) : St_pour (yRel g N xa oa i) (yRel g N xa oa (i + 6)) g N xa oa := by
  rintro a0 a1 n sl τ σ ⟨M, Z, Ya, Yh, na, ta, cv, la, lh, ra, rh, hB⟩
  have hB : yBody g N xa oa i n Z Ya Yh na ta cv la lh ra rh M τ σ := hB
  generalize hcc : n + 14000 = cc
  generalize hkk : sl + 97000 = kk
  obtain ⟨hO, hr, hQ, hfr, hS⟩ := y_open hB sl cc kk (by omega) (by omega)
  have hM := hB.2.2.2.2
  have hR0 : RRel N M (m_put σ 0 0) := hB.2.2.2.1.fr hM.1 (RFr.p0 σ 0)
  have hG := hB.2.2.1
  have hT2 : yT i ≤ 60000000 := by unfold yT; omega
  have hT : yT i + 840000 = yT (i + 6) := by unfold yT; omega
  have hs := hO.spr
  have hV := hM.2.2.1
  have hx := hQ.2.1.1
  have z0 : (m_put σ 0 0).1 0 = 0 := mp_s _ _ _
  have z1 : (m_put σ 0 0).1 1 = nI (tC M).1 := hR0.1.1
  have h9 := hM.1
  have hw : ∀ a0 a1, kX_X0_pour (jg g cc kk) N ((n, sl, cc, kk), τ) xa a0 a1 oa = yW yH0 (kX_X1_pour (jg g cc kk) N ((n, sl, cc, kk), τ) xa a0 a1) oa := fun a0 a1 => ob1 (f_cls_T hQ.2.1.1) rfl
  rw [hw]
  rcases y_cup (tC M).1 (by omega) a0 with ⟨c0, h0, rfl⟩ | h0
  · have hcup := oc_cup1 (N := N) (m := yMN ((n, sl, cc, kk), τ) ta) (w := xA ((n, sl, cc, kk), τ) xa 0) hO h0
    rw [hS] at hcup
    have hrc := r_isCup1 (N := N) z0 z1 h9 h0
    rcases y_rng 1 50 (by decide) a1 with ⟨k, hk1, hk2, rfl⟩ | h1
    · obtain ⟨S1, Z1, Ya1, m, k1, k2, k3, k4, k5⟩ := x_keep (N := N) hN hQ (wf_of hB hQ) ⟨hG.1, hG.2.1⟩ hM.2.2.2.1.1 (by show n + 10 ≤ cc; omega) (by show sl + 200 ≤ kk; omega)
      have hNW : NW (jg g cc kk) Z1 S1 na xa (tC M) := ⟨k5.1.1, cv, k5.2.2.1.1, k5.2.2.2.1⟩
      have hp := x_pour (N := N) (m := tV M) (w := xA S1 xa 0) hNW hN (T := yT i) (by omega) hV.1 h0 hk2
      have hn1 : NightAt S1 na xa (tV M) := k5.1
      rw [← na_eq hn1] at hp
      have o3 : f_obj S1 1 xa 2 = some na := f_obj_T k5.2.1.1 (by decide) (by decide) k5.2.2.1.2.1
      obtain ⟨σ1, q1, q2, q3⟩ := r_keep hN hM.1 hM.2.2.2.1.1 hR0.2.2.1 (mBe_Row m hM.1 hR0.2.1)
      have hR1 := hR0.kept q2 q3
      obtain ⟨σ2, u1, u2, u3⟩ := r_pours hN (Or.inl rfl) h9 hR1.1 hR1.2.1 (T := yT i) (by omega) hV.1 h0 hk2
      refine fin2 (S1 := nset S1 na xa (mPour (tC M) (tV M) c0 k) (xA S1 xa 0)) (r := iI (mPourT (tV M) c0 k)) (σ1 := σ2) ?_ (k5.night _ _) (k2.og ?_ (Nat.le_refl _) (fun _ => ⟨rfl, rfl⟩)) ?_ ?_ (hR1.row u2 u3) (((hM.keep m).le (by omega)).night ((hV.pour h9 (by omega) h0 hk2).le (by omega))) hG
      · unfold kX_X1_pour
        exact ob1 (f_cls_T hx) (ot1 hcup (ob1 (x_inN (a := 1) (b := 50) rfl rfl hk1 hk2 (by decide)) (oif (by decide) (ob1 (f_cls_T hx) (ob1 k1 (ob1 o3 (ob1 (na_cls hn1) (ob1 hp rfl))))))))
      · exact k2.1
      · unfold kM_pour
        exact onb rfl (ob1 hrc (oif n10 (ob1 (r_within1 (a := 1) (b := 50) rfl rfl hk1 hk2 (by decide)) (oif (by decide) (ob1 q1 (ob1 u1 rfl))))))
      · rw [u2.1 0 (by decide) (by decide), q2.z, z0]
    · refine fin_ref hB hQ (r := -1) ?_ ?_
      · unfold kX_X1_pour
        exact ob1 (f_cls_T hx) (ot1 hcup (ob1 (x_in0 h1) (oit rfl (ob1 (f_cls_T hx) (ob1 (x_refuse hQ (k := 1) (by decide)) rfl)))))
      · unfold kM_pour
        exact onb rfl (ob1 hrc (oif n10 (ob1 (r_within0 h1) (oit rfl (ob1 (r_refuse hR0 (k := 1) (by decide)).1 rfl)))))
  · have hx : kX_X1_pour (jg g cc kk) N ((n, sl, cc, kk), τ) xa a0 a1 = some (.inr (((n, sl, cc, kk), τ), 0, 0)) := by
      rw [← hS]
      unfold kX_X1_pour
      exact ob1 (oc_cls hO) (ot2 (oc_cup0 hO hr h0))
    have hm : kM_pour N σ a0 a1 = some (m_put (m_put σ 0 0) 0 1, 0) := by
      unfold kM_pour
      exact onb rfl (ob1 (r_isCup0 z0 z1 h0) (oit rfl rfl))
    exact fin_thr (c := cc) (k := kk) hB hx rfl (KS.refl hQ.2.1.2.2.2.1) hm (mp_s _ _ _) (by decide) (RFr.p00 _ _ _)
theorem op_crack {g : XC} {N xa oa i : Nat} (hN : 2 ^ 20 < N) (hi : i ≤ 378) : St_crack (yRel g N xa oa i) (yRel g N xa oa (i + 6)) g N xa oa := by
  rintro a0 a1 n sl τ σ ⟨M, Z, Ya, Yh, na, ta, cv, la, lh, ra, rh, hB⟩
  have hB : yBody g N xa oa i n Z Ya Yh na ta cv la lh ra rh M τ σ := hB
  generalize hcc : n + 14000 = cc
  generalize hkk : sl + 97000 = kk
  obtain ⟨hO, hr, hQ, hfr, hS⟩ := y_open hB sl cc kk (by omega) (by omega)
  have hM := hB.2.2.2.2
  have hR0 : RRel N M (m_put σ 0 0) := hB.2.2.2.1.fr hM.1 (RFr.p0 σ 0)
  have hG := hB.2.2.1
  have hT2 : yT i ≤ 60000000 := by unfold yT; omega
  have hT : yT i + 840000 = yT (i + 6) := by unfold yT; omega
  have hs := hO.spr
  have hV := hM.2.2.1
  have hx := hQ.2.1.1
  have z0 : (m_put σ 0 0).1 0 = 0 := mp_s _ _ _
  have z1 : (m_put σ 0 0).1 1 = nI (tC M).1 := hR0.1.1
  have h9 := hM.1
  have hw : ∀ a0 a1, kX_X0_crack (jg g cc kk) N ((n, sl, cc, kk), τ) xa a0 a1 oa = yW yH0 (kX_X1_crack (jg g cc kk) N ((n, sl, cc, kk), τ) xa a0 a1) oa := fun a0 a1 => ob1 (f_cls_T hQ.2.1.1) rfl
  rw [hw]
  rcases y_cup (tC M).1 (by omega) a0 with ⟨c0, h0, rfl⟩ | h0
  · have hcup := oc_cup1 (N := N) (m := yMN ((n, sl, cc, kk), τ) ta) (w := xA ((n, sl, cc, kk), τ) xa 0) hO h0
    rw [hS] at hcup
    have hrc := r_isCup1 (N := N) z0 z1 h9 h0
    have o2 : f_obj ((n, sl, cc, kk), τ) 1 xa 2 = some na := f_obj_T hx (by decide) (by decide) hQ.2.2.1.2.1
    have hld : m_ld (m_put σ 0 0) 31 (1 + nI c0) = some (iI (yA (tV M) 0 c0)) := by
      have e : (1 : Int32) + nI c0 = nI (1 + c0) := nI_add 1 c0
      rw [r_ld (q := 1 + c0) e (by show 1 + c0 < 128; omega)]
      have := (hR0.2.1.2 c0 h0).1
      rw [Nat.zero_add] at this
      rw [this]
    have hx30 : kX_X1_crack_30 (jg g cc kk) N ((n, sl, cc, kk), τ) xa = some (.inl (xSetA ((n, sl, cc, kk), τ) xa 7 (upd (xA ((n, sl, cc, kk), τ) xa 7) 1 (tR M 1 + 1)), -1)) := by
      unfold kX_X1_crack_30
      exact ob1 (f_cls_T hx) (ob1 (x_refuse hQ (k := 1) (by decide)) rfl)
    have hr39 : kM_crack_39 N (m_put σ 0 0) = some (rS (m_put σ 0 0) 10 1 (tR M 1 + 1), -1) := by
      unfold kM_crack_39
      exact ob1 (r_refuse hR0 (k := 1) (by decide)).1 rfl
    have hF : 0 ≤ yA (tV M) 1 c0 ∧ yA (tV M) 1 c0 ≤ 30 := by
      obtain ⟨b1, b2, b3, b4, -⟩ := hV.1.1 c0 h0
      omega
    rcases y_rng 1 30 (by decide) a1 with ⟨k, hk1, hk2, rfl⟩ | h1
    · by_cases hne : nI k = iI (yA (tV M) 0 c0)
      · refine fin_ref hB hQ (r := -1) ?_ ?_
        · unfold kX_X1_crack
          exact ob1 (f_cls_T hx) (ot1 hcup (ob1 o2 (ob1 (na_obj hQ.1 (by decide)) (ob1 (na_a hQ.1 (by decide) (by omega)) (ob1 (x_inN (a := 1) (b := 30) rfl rfl hk1 hk2 (by decide)) (oif (by decide) (oit hne hx30)))))))
        · unfold kM_crack
          exact onb rfl (ob1 hrc (oif n10 (ob1 hld (ob1 (r_within1 (a := 1) (b := 30) rfl rfl hk1 hk2 (by decide)) (oif (by decide) (oit hne.symm hr39))))))
      · obtain ⟨S1, Z1, Ya1, m, k1, k2, k3, k4, k5⟩ := x_keep (N := N) hN hQ (wf_of hB hQ) ⟨hG.1, hG.2.1⟩ hM.2.2.2.1.1 (by show n + 10 ≤ cc; omega) (by show sl + 200 ≤ kk; omega)
        have hn1 : NightAt S1 na xa (tV M) := k5.1
        have hp := x_crack (g := jg g cc kk) (N := N) (S := S1) (a := na) (xa := xa) (m := tV M) (w := xA S1 xa 0) (c := c0) k5.1.1 (by omega) hk2 hk1 hF
        rw [← na_eq hn1] at hp
        have o3 : f_obj S1 1 xa 2 = some na := f_obj_T k5.2.1.1 (by decide) (by decide) k5.2.2.1.2.1
        obtain ⟨σ1, q1, q2, q3⟩ := r_keep hN hM.1 hM.2.2.2.1.1 hR0.2.2.1 (mBe_Row m hM.1 hR0.2.1)
        have hR1 := hR0.kept q2 q3
        obtain ⟨σ2, u1, u2, u3⟩ := r_cracks (N := N) (Or.inl rfl) h9 h0 hk2 hk1 hR1.2.1 hF
        refine fin2 (S1 := nset S1 na xa (mCrack (tV M) c0 k) (xA S1 xa 0)) (r := iI (yA (tV M) 0 c0)) (σ1 := σ2) ?_ (k5.night _ _) (k2.og ?_ (Nat.le_refl _) (fun _ => ⟨rfl, rfl⟩)) ?_ ?_ (hR1.row u2 u3) (((hM.keep m).le (by omega)).night ((hV.crack hk1 hk2).le (by omega))) hG
        · unfold kX_X1_crack
          exact ob1 (f_cls_T hx) (ot1 hcup (ob1 o2 (ob1 (na_obj hQ.1 (by decide)) (ob1 (na_a hQ.1 (by decide) (by omega)) (ob1 (x_inN (a := 1) (b := 30) rfl rfl hk1 hk2 (by decide)) (oif (by decide) (oif hne (ob1 (f_cls_T hx) (ob1 k1 (ob1 o3 (ob1 (na_cls hn1) (ob1 hp rfl))))))))))))
        · exact k2.1
        · unfold kM_crack
          exact onb rfl (ob1 hrc (oif n10 (ob1 hld (ob1 (r_within1 (a := 1) (b := 30) rfl rfl hk1 hk2 (by decide)) (oif (by decide) (oif (fun z => hne z.symm) (ob1 q1 (ob1 u1 rfl))))))))
        · rw [u2.1 0 (by decide) (by decide), q2.z, z0]
    · refine fin_ref hB hQ (r := -1) ?_ ?_
      · unfold kX_X1_crack
        exact ob1 (f_cls_T hx) (ot1 hcup (ob1 o2 (ob1 (na_obj hQ.1 (by decide)) (ob1 (na_a hQ.1 (by decide) (by omega)) (ob1 (x_in0 h1) (oit rfl hx30))))))
      · unfold kM_crack
        exact onb rfl (ob1 hrc (oif n10 (ob1 hld (ob1 (r_within0 h1) (oit rfl hr39)))))
  · have hx : kX_X1_crack (jg g cc kk) N ((n, sl, cc, kk), τ) xa a0 a1 = some (.inr (((n, sl, cc, kk), τ), 0, 0)) := by
      rw [← hS]
      unfold kX_X1_crack
      exact ob1 (oc_cls hO) (ot2 (oc_cup0 hO hr h0))
    have hm : kM_crack N σ a0 a1 = some (m_put (m_put σ 0 0) 0 1, 0) := by
      unfold kM_crack
      exact onb rfl (ob1 (r_isCup0 z0 z1 h0) (oit rfl rfl))
    exact fin_thr (c := cc) (k := kk) hB hx rfl (KS.refl hQ.2.1.2.2.2.1) hm (mp_s _ _ _) (by decide) (RFr.p00 _ _ _)
