/-! plain law: toCrack -/
section OH
variable {g : XC} {N xa oa n : Nat} {Z Ya Yh : Nat → Prop} {na ta cv la lh : Nat} {ra rh : List Nat} {M : MT} {T : Int} {S : XS} {σ : MS} {C : CC} {V m : MN} {w : Nat → Int32}

theorem yAc_tips (hs : C.1 ≤ 9 ∧ ∀ k, k < C.1 → 0 ≤ C.2.1 k ∧ C.2.1 k ≤ 20) (h : YN C m T) {c : Nat} (hc : c < C.1) (k0 n : Nat) (hT : T + 40000 * n ≤ 900000000) : yAc C (fun (m1 : MN) (v : Int32) (_ : Nat) => v + iI (yA m1 12 c)) m 0 k0 n = iI (yA (yRep (mPass C) n m) 2 c - yA m 2 c) := by
  induction n with
  | zero => show (0 : Int32) = iI (yA m 2 c - yA m 2 c); rw [Int.sub_self]; rfl
  | succ n ih =>
    have h2 := mPass_2 hs.2 hs.1 (by omega) (mPasses_YN hs.2 hs.1 h n (by omega)) hc
    show yAc C _ m 0 k0 n + iI (yA (mPass C (yRep (mPass C) n m)) 12 c) = iI (yA (mPass C (yRep (mPass C) n m)) 2 c - yA m 2 c)
    rw [ih (by omega), iI_add, h2.1]
    congr 1
    omega
theorem b_toCrack (hX : XB g N xa oa n Z Ya Yh na ta cv la lh ra rh M T S) (hR : RB N M T σ) {c k t q : Nat} (hc : c < (tC M).1) (hq : q ≤ 1) (ht : t < 2 ^ 31) (h0 : 1 ≤ k) (hk : k ≤ 60) : ∃ S1 r, kX_X1_toCrack g N S xa (nI c) (nI t) (nI k) (nI q) = some (.inl (S1, r)) ∧ KS xa ta oa n S S1 ∧ ∃ σ1, kM_toCrack N σ (nI c) (nI t) (nI k) (nI q) = some (σ1, r) ∧ σ1.1 0 = 0 ∧ RFr σ σ1 := by
  refine b_of (x := fun S => kX_X1_toCrack g N S xa (nI c) (nI t) (nI k) (nI q)) hX (fun m w => ?_)
  have hO := hX.oc
  have hs := hO.spr
  have hN := hX.2.2.2.1
  have hT := hX.2.2.2.2.1
  have hV := hX.2.2.1.2.2.1.1
  have hC1 : σ.1 1 = nI (tC M).1 := hR.1.1.1
  have hRV : RowR (σ.2.2 31) 0 (tC M) (tV M) := hR.1.2.1
  obtain ⟨σ2, t1, t2, t3⟩ := r_try hN hR.1 hR.2.1 m (RFr.p0 σ 0)
  have hRX : ∀ m s, RFr σ s → ∃ s2, kM_tries N s = some s2 ∧ FrH 64 s s2 ∧ RS N s2 (tC M) (mBe m (tV M)) T := fun m s hs => r_try hN hR.1 hR.2.1 m hs
  generalize tC M = C at *
  generalize tV M = V at *
  have z0 : (m_put σ 0 0).1 0 = 0 := mp_s _ _ _
  have z1 : (m_put σ 0 0).1 1 = nI C.1 := (mp_n _ _ _ (by decide)).trans hC1
  have hB := mBe_YN m hs.1 hV.1
  have fin0 : ∀ σ3, FrH 64 σ2 σ3 → σ3.1 0 = 0 ∧ RFr σ σ3 := fun σ3 h => ⟨(h.1 0 (by decide) (by decide)).trans ((t2.1 0 (by decide) (by decide)).trans z0), (RFr.p0 σ 0).trans (t2.r.trans h.r)⟩
  have joint : ∀ (e h f f2 : Nat) (m : MN) (w : Nat → Int32) (s : MS) (best lx lr : Int32), h + e = 31 → 1 ≤ h → e < f → e < f2 → RFr σ s → s.1 0 = 0 → (best = -1 ∧ h = 1 ∨ best ≠ -1 ∧ lx = lr) → ∃ m1 w1 r s1, kX_X1_toCrack_44 g N f (nset S ta xa m w) xa (nI c) (nI t) (nI k) (nI q) best lx (nI h) = some (.inl (nset S ta xa m1 w1, r)) ∧ kM_toCrack_61 N f2 s (nI c) (nI t) (nI k) (nI q) best lr (nI h) = some (s1, r) ∧ s1.1 0 = 0 ∧ RFr σ s1 := by
    intro e
    induction e with
    | zero =>
      intro h f f2 m w s best lx lr hd hh hf hf2 h1 h2 h3
      obtain ⟨f, rfl⟩ : ∃ f', f = f' + 1 := ⟨f - 1, by omega⟩
      obtain ⟨f2, rfl⟩ : ∃ f', f2 = f' + 1 := ⟨f2 - 1, by omega⟩
      have ed : h = 31 := by omega
      subst ed
      have h4 : lx = lr := by
        rcases h3 with ⟨-, z⟩ | ⟨-, z⟩
        · omega
        · exact z
      subst h4
      refine ⟨m, w, if q = 0 then best else lx, s, ?_, ?_, h2, h1⟩
      · rw [kX_X1_toCrack_44]
        refine oit (by decide) ?_
        have hq2 : q = 0 ∨ q = 1 := by omega
        rcases hq2 with rfl | rfl <;> rfl
      · rw [kM_toCrack_61]
        refine oit (by decide) ?_
        have hq2 : q = 0 ∨ q = 1 := by omega
        rcases hq2 with rfl | rfl <;> rfl
    | succ e ih =>
      intro h f f2 m w s best lx lr hd hh hf hf2 h1 h2 h3
      obtain ⟨f, rfl⟩ : ∃ f', f = f' + 1 := ⟨f - 1, by omega⟩
      obtain ⟨f2, rfl⟩ : ∃ f', f2 = f' + 1 := ⟨f2 - 1, by omega⟩
      obtain ⟨s2, u1, u2, u3⟩ := hRX m s h1
      have hB0 := mBe_YN m hs.1 hV.1
      obtain ⟨b0, b1, b2, b3, -⟩ := hB0.1 c hc
      have hCY := mCrack_YN (c := c) (h := (h : Int)) hB0 (by omega) (by omega)
      obtain ⟨s3, v1, v2, v3⟩ := r_cracks (N := N) (b := 64) (k := h) (Or.inr rfl) hs.1 hc (by omega) hh u3.2.2.1 ⟨b2, by omega⟩
      have hRS3 : RS N s3 C (mCrack (mBe m V) c h) T := ⟨hs, u3.2.1.fr v2, v3, u3.2.2.2.1.fr v2 rfl rfl rfl, hCY⟩
      obtain ⟨w1, hw1⟩ := x_after (m := mCrack (mBe m V) c h) (w := w) (T := T) hO.1 hN (n := k) (by omega) (by omega) hCY
      obtain ⟨f3, s4, y1, y2, y3⟩ := r_acc hN (fun f s v j => kM_toCrack_87 N (kM_toCrack_61 N f2) f s (nI c) (nI t) (nI k) (nI q) best lr (nI h) v (nI j)) (fun (m1 : MN) (v : Int32) (_ : Nat) => v + iI (yA m1 12 c)) 0 0 k (by omega) (by omega) hRS3 (fun f s s1 m1 v j h5 h6 _ h7 h8 => by
        show kM_toCrack_87 N (kM_toCrack_61 N f2) (f + 1) s (nI c) (nI t) (nI k) (nI q) best lr (nI h) v (nI j) = kM_toCrack_87 N (kM_toCrack_61 N f2) f s1 (nI c) (nI t) (nI k) (nI q) best lr (nI h) (v + iI (yA (mPass C m1) 12 c)) (nI (j + 1))
        rw [kM_toCrack_87]
        refine oif (nI_ge (by omega) (by omega)) (ob1 h7 (ob1 ((r_ld (q := c) rfl (by show _ < 9; omega)).trans (by rw [h8.2.2.1 c hc])) (onb rfl ?_)))
        rw [nI_1])
      have hacc := yAc_tips hs hCY hc 0 k (by omega)
      have htp := mTips hs hCY hc k (by omega)
      have e2 : yA (mCrack (mBe m V) c h) 2 c = yA V 2 c := by
        rw [mCrack_A, if_neg (fun z => absurd z.1 (by decide)), if_neg (fun z => absurd z.1 (by decide)), mBe_A _ _ (by omega), if_pos (by decide)]
      rw [e2] at hacc htp
      generalize hA : yA (yRep (mPass C) k (mCrack (mBe m V) c h)) 2 c - yA V 2 c = A at hacc htp
      have hRg : yR (A - t) := ⟨by omega, by omega⟩
      have hoff : ∃ off : Int32, (if (0 : Int32) ≤ ((iI A) - nI t) then ((iI A) - nI t) else 0 - ((iI A) - nI t)) = off ∧ (if iI A ≤ nI t then nI t - iI A else iI A - nI t) = off := by
        refine ⟨iI (if 0 ≤ A - t then A - t else t - A), ?_, ?_⟩
        · rw [iI_nI, iI_sub, show (0 : Int32) = iI 0 by decide]
          have e3 := iI_le (a := 0) ⟨by decide, by decide⟩ hRg
          by_cases p : 0 ≤ A - t
          · rw [if_pos p, if_pos (e3.mpr p)]
          · rw [if_neg p, if_neg (fun z => p (e3.mp z)), iI_sub]; congr 1; omega
        · rw [iI_nI, iI_sub, iI_sub]
          have e3 := iI_le (a := A) (b := (t : Int)) ⟨by omega, by omega⟩ ⟨by omega, by omega⟩
          by_cases p : A ≤ t
          · rw [if_pos (e3.mpr p)]
            by_cases p2 : 0 ≤ A - t
            · rw [if_pos p2]; congr 1; omega
            · rw [if_neg p2]
          · rw [if_neg (fun z => p (e3.mp z)), if_pos (by omega)]
      obtain ⟨off, o1, o2⟩ := hoff
      have hxstep : kX_X1_toCrack_44 g N (f + 1) (nset S ta xa m w) xa (nI c) (nI t) (nI k) (nI q) best lx (nI h) = if best = -1 then kX_X1_toCrack_44 g N f (nset S ta xa (yRep (mPass C) k (mCrack (mBe m V) c h)) w1) xa (nI c) (nI t) (nI k) (nI q) (nI h) off (nI (h + 1)) else if off < lx then kX_X1_toCrack_44 g N f (nset S ta xa (yRep (mPass C) k (mCrack (mBe m V) c h)) w1) xa (nI c) (nI t) (nI k) (nI q) (nI h) off (nI (h + 1)) else kX_X1_toCrack_44 g N f (nset S ta xa (yRep (mPass C) k (mCrack (mBe m V) c h)) w1) xa (nI c) (nI t) (nI k) (nI q) best lx (nI (h + 1)) := by
        rw [kX_X1_toCrack_44]
        refine oif (nI_nlt (a := 30) (by omega) (by omega)) (ob1 (oc_ta hO) (ob1 (oc_na hO) (ob1 (n_cls hO.1.1) (ob1 (oc_be hO hN) (ob1 (n_cls hO.1.1) (ob1 (x_crack hO.1.1 (by omega) (by omega) hh ⟨b2, by omega⟩) (ob1 (oc_ta hO) (ob1 (n_cls hO.1.1) (ob1 hw1 (ob1 (n_obj hO.1.1 (by decide)) (ob1 (n_a hO.1.1 (by decide) (by omega)) (ob1 (oc_na hO) (ob1 (na_obj (oc_V hO) (by decide)) (ob1 (na_a (oc_V hO) (by decide) (by omega)) ?_))))))))))))))
        rw [iI_sub, hA]
        refine onb o1 ?_
        unfold kX_X1_toCrack_114 kX_X1_toCrack_122
        rw [nI_1]
      have hrstep : kM_toCrack_61 N (f2 + 1) s (nI c) (nI t) (nI k) (nI q) best lr (nI h) = if best = -1 then kM_toCrack_61 N f2 s4 (nI c) (nI t) (nI k) (nI q) (nI h) off (nI (h + 1)) else if off < lr then kM_toCrack_61 N f2 s4 (nI c) (nI t) (nI k) (nI q) (nI h) off (nI (h + 1)) else kM_toCrack_61 N f2 s4 (nI c) (nI t) (nI k) (nI q) best lr (nI (h + 1)) := by
        rw [kM_toCrack_61]
        refine oif (nI_nlt (a := 30) (by omega) (by omega)) (ob1 u1 (ob1 v1 (Eq.trans y1 ?_)))
        show kM_toCrack_87 N (kM_toCrack_61 N f2) (f3 + 1) s4 (nI c) (nI t) (nI k) (nI q) best lr (nI h) (yAc C _ _ 0 0 k) (nI (0 + k)) = _
        rw [kM_toCrack_87, Nat.zero_add, hacc]
        refine oit (nI_le (Nat.le_refl _) (by omega)) ?_
        have e133 : ∀ x : Int32, kM_toCrack_133 N (kM_toCrack_61 N f2) s4 (nI c) (nI t) (nI k) (nI q) best lr (nI h) x = if best = -1 then kM_toCrack_61 N f2 s4 (nI c) (nI t) (nI k) (nI q) (nI h) x (nI (h + 1)) else if x < lr then kM_toCrack_61 N f2 s4 (nI c) (nI t) (nI k) (nI q) (nI h) x (nI (h + 1)) else kM_toCrack_61 N f2 s4 (nI c) (nI t) (nI k) (nI q) best lr (nI (h + 1)) := fun x => by
          unfold kM_toCrack_133 kM_toCrack_151 kM_toCrack_159
          rw [nI_1]
        rw [e133, e133, ← o2]
        by_cases p : iI A ≤ nI t
        · rw [if_pos p, if_pos p]
        · rw [if_neg p, if_neg p]
      have z4 : s4.1 0 = 0 := (y2.1 0 (by decide) (by decide)).trans ((v2.1 0 (by decide) (by decide)).trans ((u2.1 0 (by decide) (by decide)).trans h2))
      have r4 : RFr σ s4 := h1.trans (u2.r.trans (v2.r.trans y2.r))
      have hh1 : nI h ≠ -1 := nI_m1 (by omega)
      rw [hxstep, hrstep]
      rcases h3 with ⟨p, p2⟩ | ⟨p, p2⟩
      · rw [if_pos p, if_pos p]
        exact ih (h + 1) f f2 _ w1 s4 (nI h) off off (by omega) (by omega) (by omega) (by omega) r4 z4 (Or.inr ⟨hh1, rfl⟩)
      · subst p2
        rw [if_neg p, if_neg p]
        by_cases p3 : off < lx
        · rw [if_pos p3, if_pos p3]
          exact ih (h + 1) f f2 _ w1 s4 (nI h) off off (by omega) (by omega) (by omega) (by omega) r4 z4 (Or.inr ⟨hh1, rfl⟩)
        · rw [if_neg p3, if_neg p3]
          exact ih (h + 1) f f2 _ w1 s4 best lx lx (by omega) (by omega) (by omega) (by omega) r4 z4 (Or.inr ⟨p, rfl⟩)
  obtain ⟨m1, w1, r, σ1, q1, q2, q3, q4⟩ := joint 30 1 N N m w (m_put σ 0 0) (-1) 2147483647 0 (by omega) (by omega) (by omega) (by omega) (RFr.p0 σ 0) z0 (Or.inl ⟨rfl, rfl⟩)
  refine ⟨m1, w1, r, ?_, σ1, ?_, q3, q4⟩
  · show kX_X1_toCrack g N (nset S ta xa m w) xa (nI c) (nI t) (nI k) (nI q) = _
    unfold kX_X1_toCrack kX_X1_toCrack_30
    exact ob1 (oc_cls hO) (ot1 (oc_cup1 hO hc) (ot1 (x_oneOf1 (b := 1) rfl hq (by decide)) (oif (nI_pos ht) (ob1 (x_inN (a := 1) (b := 60) rfl rfl h0 hk (by decide)) (oif n10 (ot1 (x_right1 (by decide)) q1))))))
  · unfold kM_toCrack kM_toCrack_43
    exact onb rfl (ob1 (r_isCup1 z0 z1 hs.1 hc) (oif n10 (ob1 (r_isWhat1 z0 (b := 1) rfl hq (by decide)) (oif n10 (oif (nI_pos ht) (ob1 (r_within1 (a := 1) (b := 60) rfl rfl h0 hk (by decide)) (oif n10 (ob1 (r_right1 z0 (by decide) 2) (oif n10 q2)))))))))
end OH
theorem y_crk (a b : Int32) : (∃ t k, t < 2 ^ 31 ∧ a = nI t ∧ 1 ≤ k ∧ k ≤ 60 ∧ b = nI k) ∨ (a < 0 ∨ (b < 1 ∨ 60 < b)) := by
  by_cases h : a < 0
  · exact Or.inr (Or.inl h)
  · obtain ⟨t, ht, rfl⟩ := nI_of h
    rcases y_rng 1 60 (by decide) b with ⟨k, h1, h2, rfl⟩ | h2
    · exact Or.inl ⟨t, k, ht, rfl, h1, h2, rfl⟩
    · exact Or.inr (Or.inr h2)
theorem op_toCrack {g : XC} {N xa oa i : Nat} (hN : 2 ^ 20 < N) (hi : i ≤ 378) : St_toCrack (yRel g N xa oa i) (yRel g N xa oa (i + 6)) g N xa oa := by
  rintro a0 a1 a2 a3 n sl τ σ ⟨M, Z, Ya, Yh, na, ta, cv, la, lh, ra, rh, hB⟩
  have hB : yBody g N xa oa i n Z Ya Yh na ta cv la lh ra rh M τ σ := hB
  generalize hcc : n + 14000 = cc
  generalize hkk : sl + 97000 = kk
  obtain ⟨hO, hr, hQ, hfr, hS⟩ := y_open hB sl cc kk (by omega) (by omega)
  have hX := y_xb (sl := sl) (c := cc) (k := kk) hB hN hi (by omega) (by omega)
  have hRB := y_rb hB hN hi
  have z0 : (m_put σ 0 0).1 0 = 0 := mp_s _ _ _
  have z1 : (m_put σ 0 0).1 1 = nI (tC M).1 := (mp_n _ _ _ (by decide)).trans hRB.1.1.1
  have h9 := hRB.2.1.1
  have hw : ∀ a0 a1 a2 a3, kX_X0_toCrack (jg g cc kk) N ((n, sl, cc, kk), τ) xa a0 a1 a2 a3 oa = yW yH2 (kX_X1_toCrack (jg g cc kk) N ((n, sl, cc, kk), τ) xa a0 a1 a2 a3) oa := fun a0 a1 a2 a3 => ob1 (f_cls_T hQ.2.1.1) rfl
  rw [hw]
  rcases y_cup (tC M).1 (by omega) a0 with ⟨c0, h0, rfl⟩ | h0
  · -- fits
    rcases y_rng 0 1 (by decide) a3 with ⟨q1, -, h1, rfl⟩ | h1
    · -- fits
      rcases y_crk a1 a2 with ⟨t, k, ht, rfl, h2, h2', rfl⟩ | h2
      · obtain ⟨S1, r, hx, hks, hm⟩ := b_toCrack hX hRB h0 h1 ht h2 h2'
        obtain ⟨σ1, hm1, hm2, hm3⟩ := hm
        exact fin_ok (c := cc) (k := kk) hB hx hks hm1 hm2 hm3
      · have hx : kX_X1_toCrack (jg g cc kk) N ((n, sl, cc, kk), τ) xa (nI c0) a1 a2 (nI q1) = some (.inr (((n, sl, cc, kk), τ), 1, 0)) := by
          rw [← hS]
          unfold kX_X1_toCrack kX_X1_toCrack_30
          refine ob1 (oc_cls hO) (ot1 (oc_cup1 hO h0) (ot1 (x_oneOf1 (b := 1) rfl h1 (by decide)) ?_))
          by_cases p : a1 < 0
          · exact oit p (ot2 (x_right0 hr))
          · exact oif p (ob1 (x_in0 (h2.resolve_left p)) (oit rfl (ot2 (x_right0 hr))))
        have hm : kM_toCrack N σ (nI c0) a1 a2 (nI q1) = some (m_put (m_put σ 0 0) 0 2, 0) := by
          unfold kM_toCrack kM_toCrack_43
          refine onb rfl (ob1 (r_isCup1 z0 z1 h9 h0) (oif n10 (ob1 (r_isWhat1 z0 (b := 1) rfl h1 (by decide)) (oif n10 ?_))))
          by_cases p : a1 < 0
          · exact oit p (ob1 (r_right0 z0 (by decide)) (oit rfl rfl))
          · exact oif p (ob1 (r_within0 (h2.resolve_left p)) (oit rfl (ob1 (r_right0 z0 (by decide)) (oit rfl rfl))))
        exact fin_thr (c := cc) (k := kk) hB hx rfl (KS.refl hQ.2.1.2.2.2.1) hm (mp_s _ _ _) (by decide) (RFr.p00 _ _ _)
    · have hx : kX_X1_toCrack (jg g cc kk) N ((n, sl, cc, kk), τ) xa (nI c0) a1 a2 a3 = some (.inr (((n, sl, cc, kk), τ), 0, 0)) := by
        rw [← hS]
        unfold kX_X1_toCrack
        exact ob1 (oc_cls hO) (ot1 (oc_cup1 hO h0) (ot2 (x_oneOf0 hr h1)))
      have hm : kM_toCrack N σ (nI c0) a1 a2 a3 = some (m_put (m_put σ 0 0) 0 1, 0) := by
        unfold kM_toCrack
        exact onb rfl (ob1 (r_isCup1 z0 z1 h9 h0) (oif n10 (ob1 (r_isWhat0 z0 h1) (oit rfl rfl))))
      exact fin_thr (c := cc) (k := kk) hB hx rfl (KS.refl hQ.2.1.2.2.2.1) hm (mp_s _ _ _) (by decide) (RFr.p00 _ _ _)
  · have hx : kX_X1_toCrack (jg g cc kk) N ((n, sl, cc, kk), τ) xa a0 a1 a2 a3 = some (.inr (((n, sl, cc, kk), τ), 0, 0)) := by
      rw [← hS]
      unfold kX_X1_toCrack
      exact ob1 (oc_cls hO) (ot2 (oc_cup0 hO hr h0))
    have hm : kM_toCrack N σ a0 a1 a2 a3 = some (m_put (m_put σ 0 0) 0 1, 0) := by
      unfold kM_toCrack
      exact onb rfl (ob1 (r_isCup0 z0 z1 h0) (oit rfl rfl))
    exact fin_thr (c := cc) (k := kk) hB hx rfl (KS.refl hQ.2.1.2.2.2.1) hm (mp_s _ _ _) (by decide) (RFr.p00 _ _ _)
