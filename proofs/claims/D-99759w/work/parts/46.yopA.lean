/-! plain law: then, tipping, next, together -/
section OA
variable {g : XC} {N xa oa n : Nat} {Z Ya Yh : Nat → Prop} {na ta cv la lh : Nat} {ra rh : List Nat} {M : MT} {T : Int} {S : XS} {σ : MS} {C : CC} {V m : MN} {w : Nat → Int32}
/-- tips within hours -/
theorem mTips (hs : C.1 ≤ 9 ∧ ∀ k, k < C.1 → 0 ≤ C.2.1 k ∧ C.2.1 k ≤ 20) (h : YN C m T) {c : Nat} (hc : c < C.1) (n : Nat) (hT : T + 40000 * n ≤ 900000000) : yA (yRep (mPass C) n m) 2 c - yA m 2 c ≤ 40000 * n ∧ 0 ≤ yA (yRep (mPass C) n m) 2 c - yA m 2 c := by
  induction n with
  | zero => simp [yRep]
  | succ n ih =>
    have h1 := ih (by omega)
    have h2 := mPass_2 hs.2 hs.1 (by omega) (mPasses_YN hs.2 hs.1 h n (by omega)) hc
    show yA (mPass C (yRep (mPass C) n m)) 2 c - yA m 2 c ≤ _ ∧ 0 ≤ yA (mPass C (yRep (mPass C) n m)) 2 c - yA m 2 c
    omega
theorem b_then (hX : XB g N xa oa n Z Ya Yh na ta cv la lh ra rh M T S) (hR : RB N M T σ) {c q k : Nat} (hc : c < (tC M).1) (hq : q ≤ 1) (h0 : 0 ≤ k) (hk : k ≤ 200) : ∃ S1 r, kX_X1_then g N S xa (nI c) (nI k) (nI q) = some (.inl (S1, r)) ∧ KS xa ta oa n S S1 ∧ ∃ σ1, kM_then N σ (nI c) (nI k) (nI q) = some (σ1, r) ∧ σ1.1 0 = 0 ∧ RFr σ σ1 := by
  refine b_of (x := fun S => kX_X1_then g N S xa (nI c) (nI k) (nI q)) hX (fun m w => ?_)
  have hO := hX.oc
  have hs := hO.spr
  have hN := hX.2.2.2.1
  have hT := hX.2.2.2.2.1
  have hV := hX.2.2.1.2.2.1.1
  have hC1 : σ.1 1 = nI (tC M).1 := hR.1.1.1
  have r_try' : ∀ m, ∃ σ2, kM_tries N (m_put σ 0 0) = some σ2 ∧ FrH 64 (m_put σ 0 0) σ2 ∧ RS N σ2 (tC M) (mBe m (tV M)) T := fun m => r_try hN hR.1 hR.2.1 m (RFr.p0 σ 0)
  generalize tC M = C at *
  generalize tV M = V at *
  obtain ⟨w1, hw⟩ := oc_tryOn (m := m) (w := w) hO hN (n := k) (by omega) (by omega) hV.1
  refine ⟨yRep (mPass C) k (mBe m V), w1, if q = 0 then iI (yA (yRep (mPass C) k (mBe m V)) 1 c) else iI (yA (yRep (mPass C) k (mBe m V)) 2 c - yA V 2 c), ?_, ?_⟩
  · show kX_X1_then g N (nset S ta xa m w) xa (nI c) (nI k) (nI q) = _
    unfold kX_X1_then
    refine ob1 (oc_cls hO) (ot1 (oc_cup1 hO hc) (ot1 (x_oneOf1 (b := 1) rfl hq (by decide)) (ob1 (x_inN (a := 0) (b := 200) rfl rfl h0 hk (by decide)) (ot1 (x_right1 (by decide)) ?_))))
    have hq2 : q = 0 ∨ q = 1 := by omega
    rcases hq2 with rfl | rfl
    · exact oit rfl (ob1 (oc_cls hO) (ob1 hw (ob1 (n_obj hO.1.1 (by decide)) (ob1 (n_a hO.1.1 (by decide) (by omega)) rfl))))
    · refine oif (by decide) (ob1 (oc_cls hO) (ob1 hw (ob1 (n_obj hO.1.1 (by decide)) (ob1 (n_a hO.1.1 (by decide) (by omega)) ?_))))
      refine ob1 (oc_na hO) (ob1 (na_obj (oc_V hO) (by decide)) (ob1 (na_a (oc_V hO) (by decide) (by omega)) ?_))
      rw [iI_sub]
      rfl
  · have z0 : (m_put σ 0 0).1 0 = 0 := mp_s _ _ _
    have z1 : (m_put σ 0 0).1 1 = nI C.1 := (mp_n _ _ _ (by decide)).trans hC1
    obtain ⟨σ2, t1, t2, t3⟩ := r_try' m
    have hS0 := t3
    have key : ∃ σ1, kM_then_44 N N σ2 (nI c) (nI k) (nI q) 0 0 = some (σ1, if q = 0 then iI (yA (yRep (mPass C) k (mBe m V)) 1 c) else iI (yA (yRep (mPass C) k (mBe m V)) 2 c - yA V 2 c)) ∧ FrH 64 σ2 σ1 := by
      refine y_loop (fun f (s : MS × Int32) j => kM_then_44 N f s.1 (nI c) (nI k) (nI q) s.2 (nI j)) k (fun s j => j ≤ k ∧ FrH 64 σ2 s.1 ∧ RS N s.1 C (yRep (mPass C) j (mBe m V)) (T + 40000 * j) ∧ s.2 = iI (yA (yRep (mPass C) j (mBe m V)) 2 c - yA V 2 c)) (fun r => ∃ σ1, r = some (σ1, if q = 0 then iI (yA (yRep (mPass C) k (mBe m V)) 1 c) else iI (yA (yRep (mPass C) k (mBe m V)) 2 c - yA V 2 c)) ∧ FrH 64 σ2 σ1) ?_ ?_ k N (σ2, 0) 0 (by omega) (by omega) ⟨by omega, FrH.refl _ _, by simpa [yRep] using t3, ?_⟩
      · rintro f ⟨s, v⟩ j hj ⟨-, p1, p2, p3⟩
        have p3 : v = iI (yA (yRep (mPass C) j (mBe m V)) 2 c - yA V 2 c) := p3
        right
        obtain ⟨s1, q1, q2, q3, q4, q5, q6⟩ := r_go hN p2 (by omega)
        have h2 := mPass_2 hs.2 hs.1 (by omega) p2.2.2.2.2 hc
        refine ⟨(s1, v + iI (yA (mPass C (yRep (mPass C) j (mBe m V))) 12 c)), ?_, by omega, p1.trans q2, ?_, ?_⟩
        · show kM_then_44 N (f + 1) s (nI c) (nI k) (nI q) v (nI j) = kM_then_44 N f s1 (nI c) (nI k) (nI q) _ (nI (j + 1))
          rw [kM_then_44]
          refine oif (nI_ge hj (by omega)) (ob1 q1 (ob1 ((r_ld (q := c) rfl (by show _ < 9; omega)).trans (by rw [q4 c hc])) (onb rfl ?_)))
          rw [nI_1]
        · have e : T + 40000 * ((j + 1 : Nat) : Int) = T + 40000 * (j : Int) + 40000 := by omega
          rw [e]
          exact q3
        · show v + _ = iI (yA (mPass C (yRep (mPass C) j (mBe m V))) 2 c - yA V 2 c)
          rw [p3, iI_add, h2.1]
          congr 1
          omega
      · rintro f ⟨s, v⟩ ⟨-, p1, p2, p3⟩
        have p3 : v = iI (yA (yRep (mPass C) k (mBe m V)) 2 c - yA V 2 c) := p3
        refine ⟨s, ?_, p1⟩
        show kM_then_44 N (f + 1) s (nI c) (nI k) (nI q) v (nI k) = _
        rw [kM_then_44]
        refine oit (nI_le (Nat.le_refl _) (by omega)) ?_
        have hq2 : q = 0 ∨ q = 1 := by omega
        rcases hq2 with rfl | rfl
        · exact oit rfl (ob1 (v := iI (yA (yRep (mPass C) k (mBe m V)) 1 c)) ((r_ld (q := 74 + c) (ix2 c 74 rfl) (by show _ < 128; omega)).trans (by rw [show 74 + c = 64 + 10 + c by omega, p2.row hc])) rfl)
        · refine oif (by decide) ?_
          rw [p3]
          rfl
      · show (0 : Int32) = iI (yA (mBe m V) 2 c - yA V 2 c)
        rw [mBe_A _ _ (by omega), if_pos (by decide), Int.sub_self]
        rfl
    obtain ⟨σ3, k1, k2⟩ := key
    refine ⟨σ3, ?_, ?_, ?_⟩
    · unfold kM_then
      exact onb rfl (ob1 (r_isCup1 z0 z1 hs.1 hc) (oif n10 (ob1 (r_isWhat1 z0 (b := 1) rfl hq (by decide)) (oif n10 (ob1 (r_isSoon1 z0 (a := 0) rfl h0 hk 2) (oif n10 (ob1 t1 k1)))))))
    · exact (k2.1 0 (by decide) (by decide)).trans ((t2.1 0 (by decide) (by decide)).trans z0)
    · exact (RFr.p0 σ 0).trans (t2.r.trans k2.r)
end OA
theorem op_then {g : XC} {N xa oa i : Nat} (hN : 2 ^ 20 < N) (hi : i ≤ 378) : St_then (yRel g N xa oa i) (yRel g N xa oa (i + 6)) g N xa oa := by
  rintro a0 a1 a2 n sl τ σ ⟨M, Z, Ya, Yh, na, ta, cv, la, lh, ra, rh, hB⟩
  have hB : yBody g N xa oa i n Z Ya Yh na ta cv la lh ra rh M τ σ := hB
  generalize hcc : n + 14000 = cc
  generalize hkk : sl + 97000 = kk
  obtain ⟨hO, hr, hQ, hfr, hS⟩ := y_open hB sl cc kk (by omega) (by omega)
  have hX := y_xb (sl := sl) (c := cc) (k := kk) hB hN hi (by omega) (by omega)
  have hRB := y_rb hB hN hi
  have z0 : (m_put σ 0 0).1 0 = 0 := mp_s _ _ _
  have z1 : (m_put σ 0 0).1 1 = nI (tC M).1 := (mp_n _ _ _ (by decide)).trans hRB.1.1.1
  have h9 := hRB.2.1.1
  have hw : ∀ a0 a1 a2, kX_X0_then (jg g cc kk) N ((n, sl, cc, kk), τ) xa a0 a1 a2 oa = yW yH2 (kX_X1_then (jg g cc kk) N ((n, sl, cc, kk), τ) xa a0 a1 a2) oa := fun a0 a1 a2 => ob1 (f_cls_T hQ.2.1.1) rfl
  rw [hw]
  rcases y_cup (tC M).1 (by omega) a0 with ⟨c0, h0, rfl⟩ | h0
  · -- fits
    rcases y_rng 0 1 (by decide) a2 with ⟨q1, -, h1, rfl⟩ | h1
    · -- fits
      rcases y_rng 0 200 (by decide) a1 with ⟨k2, h2, h2', rfl⟩ | h2
      · -- fits
        obtain ⟨S1, r, hx, hks, hm⟩ := b_then hX hRB h0 h1 h2 h2'
        obtain ⟨σ1, hm1, hm2, hm3⟩ := hm
        exact fin_ok (c := cc) (k := kk) hB hx hks hm1 hm2 hm3
      · have hx : kX_X1_then (jg g cc kk) N ((n, sl, cc, kk), τ) xa (nI c0) a1 (nI q1) = some (.inr (((n, sl, cc, kk), τ), 1, 0)) := by
          rw [← hS]
          unfold kX_X1_then
          exact ob1 (oc_cls hO) (ot1 (oc_cup1 hO h0) (ot1 (x_oneOf1 (b := 1) rfl h1 (by decide)) (ob1 (x_in0 h2) (ot2 (x_right0 hr)))))
        have hm : kM_then N σ (nI c0) a1 (nI q1) = some (m_put (m_put σ 0 0) 0 2, 0) := by
          unfold kM_then
          exact onb rfl (ob1 (r_isCup1 z0 z1 h9 h0) (oif n10 (ob1 (r_isWhat1 z0 (b := 1) rfl h1 (by decide)) (oif n10 (ob1 (r_isSoon0 z0 (by decide) h2) (oit rfl rfl))))))
        exact fin_thr (c := cc) (k := kk) hB hx rfl (KS.refl hQ.2.1.2.2.2.1) hm (mp_s _ _ _) (by decide) (RFr.p00 _ _ _)
    · have hx : kX_X1_then (jg g cc kk) N ((n, sl, cc, kk), τ) xa (nI c0) a1 a2 = some (.inr (((n, sl, cc, kk), τ), 0, 0)) := by
        rw [← hS]
        unfold kX_X1_then
        exact ob1 (oc_cls hO) (ot1 (oc_cup1 hO h0) (ot2 (x_oneOf0 hr h1)))
      have hm : kM_then N σ (nI c0) a1 a2 = some (m_put (m_put σ 0 0) 0 1, 0) := by
        unfold kM_then
        exact onb rfl (ob1 (r_isCup1 z0 z1 h9 h0) (oif n10 (ob1 (r_isWhat0 z0 h1) (oit rfl rfl))))
      exact fin_thr (c := cc) (k := kk) hB hx rfl (KS.refl hQ.2.1.2.2.2.1) hm (mp_s _ _ _) (by decide) (RFr.p00 _ _ _)
  · have hx : kX_X1_then (jg g cc kk) N ((n, sl, cc, kk), τ) xa a0 a1 a2 = some (.inr (((n, sl, cc, kk), τ), 0, 0)) := by
      rw [← hS]
      unfold kX_X1_then
      exact ob1 (oc_cls hO) (ot2 (oc_cup0 hO hr h0))
    have hm : kM_then N σ a0 a1 a2 = some (m_put (m_put σ 0 0) 0 1, 0) := by
      unfold kM_then
      exact onb rfl (ob1 (r_isCup0 z0 z1 h0) (oit rfl rfl))
    exact fin_thr (c := cc) (k := kk) hB hx rfl (KS.refl hQ.2.1.2.2.2.1) hm (mp_s _ _ _) (by decide) (RFr.p00 _ _ _)
