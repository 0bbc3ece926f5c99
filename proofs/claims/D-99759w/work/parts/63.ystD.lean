/-! plain law: lead, the operation -/
theorem y_asb {A : XS × Int32 → Prop} {mop : Option (MS × Int32)} {B : XS × Int32 → MS → MS → Prop} {C : XS × Int32 → MS → Prop} {oa : Nat} (hr : ∀ σ1 r, mop = some (σ1, r) → r = 0 ∨ r = 1) (h : ∃ (w : XS × Int32) (σ1 : MS) (r : Int32) (σ2 : MS), A w ∧ mop = some (σ1, r) ∧ B w σ1 σ2 ∧ (w.2 = 0 → a_long w.1 oa 0 = some r.toInt64) ∧ C w σ2) :
    ∃ (w : XS × Int32) (σ1 : MS) (r : Int32) (σ2 : MS), A w ∧ mop = some (σ1, r) ∧ B w σ1 σ2 ∧ (w.2 = 0 → a_long w.1 oa 0 = some (if r = 0 then 0 else 1)) ∧ C w σ2 := by
  obtain ⟨w, σ1, r, σ2, h1, h2, h3, h4, h5⟩ := h
  refine ⟨w, σ1, r, σ2, h1, h2, h3, fun z => ?_, h5⟩
  rw [h4 z]
  rcases hr σ1 r h2 with rfl | rfl
  · rfl
  · rfl
theorem op_lead {g : XC} {N xa oa i : Nat} (hN : 2 ^ 20 < N) (hi : i ≤ 378) : St_lead (yRel g N xa oa i) (yRel g N xa oa (i + 6)) g N xa oa := by
  rintro a0 a1 n sl τ σ ⟨M, Z, Ya, Yh, na, ta, cv, la, lh, ra, rh, hB⟩
  have hB : yBody g N xa oa i n Z Ya Yh na ta cv la lh ra rh M τ σ := hB
  generalize hcc : n + 14000 = cc
  generalize hkk : sl + 97000 = kk
  obtain ⟨hO, hr, hQ, hfr, hS⟩ := y_open hB sl cc kk (by omega) (by omega)
  have hM := hB.2.2.2.2
  have hR0 : RRel N M (m_put σ 0 0) := hB.2.2.2.1.fr hM.1 (RFr.p0 σ 0)
  have hG := hB.2.2.1
  have hT2 : yT i ≤ 60000000 := by unfold yT; omega
  have hT : yT i + 840000 = yT (i + 6) := by unfold yT; omega
  have hs := hO.spr
  have hV := hM.2.2.1
  have hx := hQ.2.1.1
  have z0 : (m_put σ 0 0).1 0 = 0 := mp_s _ _ _
  have z1 : (m_put σ 0 0).1 1 = nI (tC M).1 := hR0.1.1
  have h9 := hM.1
  have hw : ∀ a0 a1, kX_X0_lead (jg g cc kk) N ((n, sl, cc, kk), τ) xa a0 a1 oa = hbind (kX_X1_lead (jg g cc kk) N ((n, sl, cc, kk), τ) xa a0 a1) yH0 fun r3 => if r3.2 = 0 then (a_putJ r3.1 oa 0 0).bind fun S1 => some (S1, 0) else (a_putJ r3.1 oa 0 1).bind fun S1 => some (S1, (0 : Int32)) := fun a0 a1 => ob1 (f_cls_T hQ.2.1.1) rfl
  rcases y_cup (tC M).1 (by omega) a0 with ⟨c0, h0, rfl⟩ | h0
  · have hcup := oc_cup1 (N := N) (m := yMN ((n, sl, cc, kk), τ) ta) (w := xA ((n, sl, cc, kk), τ) xa 0) hO h0
    have hcups : ∀ {β : Type} {F : XS × Int32 → Option β} {R : Option β}, F (((n, sl, cc, kk), τ), nI (tC M).1) = R → ((f_obj ((n, sl, cc, kk), τ) 1 xa 1).bind fun v2 => (f_cls ((n, sl, cc, kk), τ) 3 v2).bind fun _ => (kX_X2_cups (jg g cc kk) N ((n, sl, cc, kk), τ) v2).bind F) = R := fun {β} {F} {R} k => by
      have h := oc_cups (N := N) (m := yMN ((n, sl, cc, kk), τ) ta) (w := xA ((n, sl, cc, kk), τ) xa 0) (F := F) (R := R) hO
      rw [hS] at h
      exact h k
    rw [hS] at hcup
    have hrc := r_isCup1 (N := N) z0 z1 h9 h0
    have o2 : f_obj ((n, sl, cc, kk), τ) 1 xa 2 = some na := f_obj_T hx (by decide) (by decide) hQ.2.2.1.2.1
    rcases y_to (tC M).1 h9 (by omega) a1 with ⟨x, rfl, hx1, hx2⟩ | h1
    · have hin : kX_X1_in (jg g cc kk) N (iI x) (-1) (nI (tC M).1 - 1) = some 1 := by
        rw [nI_m (by omega), iI_nI, show (-1 : Int32) = iI (-1) by decide]
        exact x_in1 (fun z => by have := (iI_lt (by unfold yR; omega) (by unfold yR; omega)).mp z; omega) (fun z => by have := (iI_lt (by unfold yR; omega) (by unfold yR; omega)).mp z; omega)
      have hled := x_isLed (g := jg g cc kk) (N := N) hQ.1 hV.1.1 h9 h0 (x := x) (by omega)
      have h43 : kX_X1_lead_43 (jg g cc kk) N ((n, sl, cc, kk), τ) xa = some (.inl (xSetA ((n, sl, cc, kk), τ) xa 7 (upd (xA ((n, sl, cc, kk), τ) xa 7) 1 (tR M 1 + 1)), 0)) := by
        unfold kX_X1_lead_43
        exact ob1 (f_cls_T hx) (ob1 (x_refused hQ) (oz (Or.inl rfl) rfl))
      have h77 : kM_lead_77 N (m_put σ 0 0) = some (rS (m_put σ 0 0) 10 1 (tR M 1 + 1), 0) := by
        unfold kM_lead_77
        exact ob1 (r_refuse hR0 (k := 1) (by decide)).1 (oit (show (-1 : Int32) ≤ 0 by decide) rfl)
      have h51 := r_lead51 (N := N) (σ := m_put σ 0 0) hR0.2.1 hV.1.1 h9 h0 (x := x) (by omega)
      have hxm : ∀ y : Int, -1 ≤ y → y ≤ 9 → yR y := fun y _ _ => by unfold yR; omega
      have hr32 : kM_lead N σ (nI c0) (iI x) = if iI x = -1 then kM_lead_51 N (m_put σ 0 0) (nI c0) (iI x) else if iI x ≤ nI c0 then kM_lead_77 N (m_put σ 0 0) else kM_lead_51 N (m_put σ 0 0) (nI c0) (iI x) := by
        unfold kM_lead
        refine onb rfl (ob1 hrc (oif n10 (oif ?_ (oif ?_ ?_))))
        · intro z
          rw [show (-1 : Int32) = iI (-1) by decide] at z
          have := (iI_lt (hxm _ (by omega) (by omega)) (hxm _ (by omega) (by omega))).mp z
          omega
        · intro z
          have z : (m_put σ 0 0).1 1 ≤ iI x := z
          rw [z1, iI_nI] at z
          have := (iI_le (hxm _ (by omega) (by omega)) (hxm _ (by omega) (by omega))).mp z
          omega
        · unfold kM_lead_32
          exact ob1 (r_right1 z0 (by decide) 1) (oif n10 rfl)
      by_cases hb : pLed (tV M) c0 x = true ∨ (0 ≤ x ∧ x ≤ c0)
      · have hxr : kX_X1_lead (jg g cc kk) N ((n, sl, cc, kk), τ) xa (nI c0) (iI x) = some (.inl (xSetA ((n, sl, cc, kk), τ) xa 7 (upd (xA ((n, sl, cc, kk), τ) xa 7) 1 (tR M 1 + 1)), 0)) := by
          unfold kX_X1_lead
          refine ob1 (f_cls_T hx) (ot1 hcup (hcups (ob1 hin (ot1 (x_found1 (by decide)) (ob1 o2 (ob1 (na_cls hQ.1) (ob1 hled ?_)))))))
          by_cases p : pLed (tV M) c0 x = true
          · rw [if_pos p]
            exact oif n10 h43
          · rw [if_neg p]
            have hb2 := hb.resolve_left p
            refine oit rfl (ob1 (v := 1) ?_ (oif (by decide) h43))
            rw [iI_nI, show (0 : Int32) = iI 0 by decide]
            exact x_in1 (fun z => by have := (iI_lt (hxm _ (by omega) (by omega)) (hxm _ (by omega) (by omega))).mp z; omega) (fun z => by have := (iI_lt (hxm _ (by omega) (by omega)) (hxm _ (by omega) (by omega))).mp z; omega)
        have hmr : kM_lead N σ (nI c0) (iI x) = some (rS (m_put σ 0 0) 10 1 (tR M 1 + 1), 0) := by
          rw [hr32]
          by_cases p : pLed (tV M) c0 x = true
          · rw [h51, if_pos p, h77]
            split
            · rfl
            · split <;> rfl
          · have hb2 := hb.resolve_left p
            rw [if_neg, if_pos, h77]
            · rw [iI_nI]
              exact (iI_le (hxm _ (by omega) (by omega)) (hxm _ (by omega) (by omega))).mpr hb2.2
            · intro z
              rw [show (-1 : Int32) = iI (-1) by decide] at z
              have := (iI_eq (hxm _ (by omega) (by omega)) (hxm _ (by omega) (by omega))).mp z
              omega
        rw [hw, yW_bool (Or.inl ⟨_, _, hxr, Or.inl rfl⟩)]
        exact y_asb (fun s r h => by rw [hmr] at h; obtain ⟨-, rfl⟩ := Prod.mk.inj (Option.some.inj h); exact Or.inl rfl) (fin_ref hB hQ hxr hmr)
      · have hp : pLed (tV M) c0 x ≠ true := fun z => hb (Or.inl z)
        have hxc : x = -1 ∨ (c0 : Int) < x := by
          by_cases z : x = -1
          · exact Or.inl z
          · refine Or.inr (Classical.byContradiction fun z2 => hb (Or.inr ⟨by omega, by omega⟩))
        obtain ⟨S1, Z1, Ya1, m, k1, k2, k3, k4, k5⟩ := x_keep (N := N) hN hQ (wf_of hB hQ) ⟨hG.1, hG.2.1⟩ hM.2.2.2.1.1 (by show n + 10 ≤ cc; omega) (by show sl + 200 ≤ kk; omega)
        have hn1 : NightAt S1 na xa (tV M) := k5.1
        have hpx := x_lead (g := jg g cc kk) (N := N) (S := S1) (a := na) (xa := xa) (m := tV M) (w := xA S1 xa 0) (c := c0) k5.1.1 (by omega) x
        rw [← na_eq hn1] at hpx
        have o3 : f_obj S1 1 xa 2 = some na := f_obj_T k5.2.1.1 (by decide) (by decide) k5.2.2.1.2.1
        obtain ⟨σ1, q1, q2, q3⟩ := r_keep hN hM.1 hM.2.2.2.1.1 hR0.2.2.1 (mBe_Row m hM.1 hR0.2.1)
        have hR1 := hR0.kept q2 q3
        obtain ⟨σ2, u1, u2, u3⟩ := r_leads (N := N) (Or.inl rfl) h9 h0 x hR1.2.1
        have hxr : kX_X1_lead (jg g cc kk) N ((n, sl, cc, kk), τ) xa (nI c0) (iI x) = some (.inl (nset S1 na xa (mLead (tV M) c0 x) (xA S1 xa 0), 1)) := by
          unfold kX_X1_lead
          refine ob1 (f_cls_T hx) (ot1 hcup (hcups (ob1 hin (ot1 (x_found1 (by decide)) (ob1 o2 (ob1 (na_cls hQ.1) (ob1 hled ?_)))))))
          rw [if_neg hp]
          refine oit rfl (ob1 (v := 0) ?_ (oit rfl (ob1 (f_cls_T hx) (ob1 k1 (ob1 o3 (ob1 (na_cls hn1) (ob1 hpx rfl)))))))
          rw [iI_nI, show (0 : Int32) = iI 0 by decide]
          refine x_in0 ?_
          rcases hxc with z | z
          · exact Or.inl ((iI_lt (hxm _ (by omega) (by omega)) (hxm _ (by omega) (by omega))).mpr (by omega))
          · exact Or.inr ((iI_lt (hxm _ (by omega) (by omega)) (hxm _ (by omega) (by omega))).mpr z)
        have h91 : kM_lead_91 N (m_put σ 0 0) (nI c0) (iI x) = some (σ2, 1) := by
          unfold kM_lead_91
          exact ob1 q1 (ob1 u1 rfl)
        have hmr : kM_lead N σ (nI c0) (iI x) = some (σ2, 1) := by
          rw [hr32, h51, if_neg hp, h91]
          split
          · rfl
          · rename_i z1
            rw [if_neg]
            intro z
            rw [iI_nI] at z
            have := (iI_le (hxm _ (by omega) (by omega)) (hxm _ (by omega) (by omega))).mp z
            rcases hxc with z2 | z2
            · exact z1 (by rw [z2]; decide)
            · omega
        rw [hw, yW_bool (Or.inl ⟨_, _, hxr, Or.inr rfl⟩)]
        refine y_asb (fun s r h => by rw [hmr] at h; obtain ⟨-, rfl⟩ := Prod.mk.inj (Option.some.inj h); exact Or.inr rfl) (fin2 (i := i) hxr (k5.night _ _) (k2.og k2.1 (Nat.le_refl _) (fun _ => ⟨rfl, rfl⟩)) hmr ?_ (hR1.row u2 u3) (((hM.keep m).le (by omega)).night ((hV.lead (hxc.imp_right (fun z => ⟨z, hx2⟩))).le (by omega))) hG)
        rw [u2.1 0 (by decide) (by decide), q2.z, z0]
    · have hxr : kX_X1_lead (jg g cc kk) N ((n, sl, cc, kk), τ) xa (nI c0) a1 = some (.inr (((n, sl, cc, kk), τ), 0, 0)) := by
        unfold kX_X1_lead
        exact ob1 (f_cls_T hx) (ot1 hcup (hcups (ob1 (x_in0 h1) (ot2 (x_found0 hr)))))
      have h32 : kM_lead_32 N (m_put σ 0 0) (nI c0) a1 0 = some (m_put (m_put σ 0 0) 0 1, 0) := by
        unfold kM_lead_32
        exact ob1 (r_right0 z0 (by decide)) (oit rfl rfl)
      have hmr : kM_lead N σ (nI c0) a1 = some (m_put (m_put σ 0 0) 0 1, 0) := by
        unfold kM_lead
        refine onb rfl (ob1 hrc (oif n10 ?_))
        by_cases z : a1 < -1
        · exact oit z h32
        · refine oif z (oit ?_ h32)
          have h2 := h1.resolve_left z
          rw [nI_m (by omega), lt32, nI_toInt (by omega)] at h2
          show (m_put σ 0 0).1 1 ≤ a1
          rw [z1, le32, nI_toInt (by omega)]
          omega
      rw [hw, yW_bool (Or.inr ⟨_, hxr⟩)]
      exact y_asb (fun s r h => by rw [hmr] at h; obtain ⟨-, rfl⟩ := Prod.mk.inj (Option.some.inj h); exact Or.inl rfl) (fin_thr (c := cc) (k := kk) hB hxr rfl (KS.refl hQ.2.1.2.2.2.1) hmr (mp_s _ _ _) (by decide) (RFr.p00 _ _ _))
  · have hx1 : kX_X1_lead (jg g cc kk) N ((n, sl, cc, kk), τ) xa a0 a1 = some (.inr (((n, sl, cc, kk), τ), 0, 0)) := by
      rw [← hS]
      unfold kX_X1_lead
      exact ob1 (oc_cls hO) (ot2 (oc_cup0 hO hr h0))
    have hm : kM_lead N σ a0 a1 = some (m_put (m_put σ 0 0) 0 1, 0) := by
      unfold kM_lead
      exact onb rfl (ob1 (r_isCup0 z0 z1 h0) (oit rfl rfl))
    rw [hw, yW_bool (Or.inr ⟨_, hx1⟩)]
    exact y_asb (fun s r h => by rw [hm] at h; obtain ⟨-, rfl⟩ := Prod.mk.inj (Option.some.inj h); exact Or.inl rfl) (fin_thr (c := cc) (k := kk) hB hx1 rfl (KS.refl hQ.2.1.2.2.2.1) hm (mp_s _ _ _) (by decide) (RFr.p00 _ _ _))
