/-! plain law: years, the operation -/
theorem or512 {a b : Nat} (ha : a < 512) (hb : b < 512) : ∃ t, t < 512 ∧ nI a ||| nI b = nI t := by
  have h := Nat.or_lt_two_pow (n := 9) ha hb
  refine ⟨a ||| b, h, b_ext (fun i hi => ?_)⟩
  rw [b_or, bt_nI (by omega) hi, bt_nI (by omega) hi, bt_nI (by omega) hi, Nat.testBit_or]
section OO
variable {g : XC} {N xa oa n : Nat} {Z Ya Yh : Nat → Prop} {na ta cv la lh : Nat} {ra rh : List Nat} {M : MT} {T : Int} {S S1 : XS} {σ s : MS} {C : CC} {V m : MN} {w : Nat → Int32} {c h k : Nat}
theorem x_years70 (hO : OC g Z S xa na ta C V) (hN : 2 ^ 20 < N) (K : XS → Nat → Int32 → Int32 → Int32 → Int32 → Int32 → Option ((XS × Int32) ⊕ XT)) (x2 x3 x5 x6 : Int32) (a : Int) : kX_X1_years_70 g N K N (nset S ta xa m w) xa x2 x3 (iI a) x5 x6 0 = K (nset S ta xa m w) xa x2 x3 (iI (a + ySum (yA m 12) C.1)) x5 (x6 + 1) := by
  have h9 := hO.spr.1
  refine y_loop (fun f (z : Int) i => kX_X1_years_70 g N K f (nset S ta xa m w) xa x2 x3 (iI z) x5 x6 (nI i)) C.1 (fun z i => z = a + ySum (yA m 12) i) (fun r => r = K (nset S ta xa m w) xa x2 x3 (iI (a + ySum (yA m 12) C.1)) x5 (x6 + 1)) ?_ ?_ C.1 N a 0 (by omega) (by omega) (Int.add_zero a).symm
  · rintro f z i hi rfl
    right
    refine ⟨a + ySum (yA m 12) (i + 1), ?_, rfl⟩
    show kX_X1_years_70 g N K (f + 1) (nset S ta xa m w) xa x2 x3 (iI (a + ySum (yA m 12) i)) x5 x6 (nI i) = kX_X1_years_70 g N K f (nset S ta xa m w) xa x2 x3 (iI (a + (ySum (yA m 12) i + yA m 12 i))) x5 x6 (nI (i + 1))
    rw [kX_X1_years_70]
    refine oc_cups hO (oif (nI_ge hi (by omega)) (ob1 (oc_ta hO) (ob1 (n_obj hO.1.1 (by decide)) (ob1 (n_a hO.1.1 (by decide) (by omega)) (onb (iI_add _ _) ?_)))))
    rw [nI_1, Int.add_assoc]
  · rintro f z rfl
    show kX_X1_years_70 g N K (f + 1) (nset S ta xa m w) xa x2 x3 (iI (a + ySum (yA m 12) C.1)) x5 x6 (nI C.1) = _
    rw [kX_X1_years_70]
    exact oc_cups hO (oit (nI_le (Nat.le_refl _) (by omega)) rfl)
theorem r_years63 (hN : 2 ^ 20 < N) (h9 : C.1 ≤ 9) (hC1 : s.1 1 = nI C.1) (h37 : ∀ k, k < C.1 → s.2.2 37 k = iI (yA m 12 k)) (K : MS → Int32 → Int32 → Int32 → Int32 → Int32 → Option (MS × Int32)) (x2 x3 x5 x6 : Int32) (a : Int) : kM_years_63 N K N s x2 x3 (iI a) x5 x6 0 = K s x2 x3 (iI (a + ySum (yA m 12) C.1)) (x5 ||| s.1 38) (x6 + 1) := by
  refine y_loop (fun f (z : Int) i => kM_years_63 N K f s x2 x3 (iI z) x5 x6 (nI i)) C.1 (fun z i => z = a + ySum (yA m 12) i) (fun r => r = K s x2 x3 (iI (a + ySum (yA m 12) C.1)) (x5 ||| s.1 38) (x6 + 1)) ?_ ?_ C.1 N a 0 (by omega) (by omega) (Int.add_zero a).symm
  · rintro f z i hi rfl
    right
    refine ⟨a + ySum (yA m 12) (i + 1), ?_, rfl⟩
    show kM_years_63 N K (f + 1) s x2 x3 (iI (a + ySum (yA m 12) i)) x5 x6 (nI i) = kM_years_63 N K f s x2 x3 (iI (a + (ySum (yA m 12) i + yA m 12 i))) x5 x6 (nI (i + 1))
    rw [kM_years_63]
    refine oif (by rw [hC1]; exact nI_ge hi (by omega)) (ob1 (r_ld (q := i) rfl (by show i < 9; omega)) (onb (v := iI (a + (ySum (yA m 12) i + yA m 12 i))) ?_ ?_))
    · rw [h37 i hi, iI_add, Int.add_assoc]
    · rw [nI_1]
  · rintro f z rfl
    show kM_years_63 N K (f + 1) s x2 x3 (iI (a + ySum (yA m 12) C.1)) x5 x6 (nI C.1) = _
    rw [kM_years_63]
    exact oit (by rw [hC1]; exact nI_le (Nat.le_refl _) (by omega)) (onb rfl rfl)
theorem x_tryFill (hO : OC g Z S xa na ta C V) (hN : 2 ^ 20 < N) : kX_X3_allFill g N (nset S ta xa m w) ta = some (nset S ta xa m w, iI (ySum (yA m 1) C.1)) := by
  have h9 := hO.spr.1
  obtain ⟨cv, f1, f2⟩ := hO.1.f1 (m := m) (w := w)
  have hcp : ∀ {β : Type} {F : XS × Int32 → Option β} {R : Option β}, F (nset S ta xa m w, nI C.1) = R → ((f_obj (nset S ta xa m w) 2 ta 15).bind fun v1 => (f_obj (nset S ta xa m w) 1 v1 1).bind fun v2 => (f_cls (nset S ta xa m w) 3 v2).bind fun _ => (kX_X2_cups g N (nset S ta xa m w) v2).bind F) = R := fun k => ob1 (n_out hO.1.1) (c_cups0 f1 f2 k)
  unfold kX_X3_allFill
  refine y_loop (fun f (x : Int) i => kX_X3_allFill_4 g N f (nset S ta xa m w) ta (iI x) (nI i)) C.1 (fun x i => x = ySum (yA m 1) i) (fun r => r = some (nset S ta xa m w, iI (ySum (yA m 1) C.1))) ?_ ?_ C.1 N 0 0 (by omega) (by omega) rfl
  · rintro f x i hi rfl
    right
    refine ⟨ySum (yA m 1) (i + 1), ?_, rfl⟩
    show kX_X3_allFill_4 g N (f + 1) (nset S ta xa m w) ta (iI (ySum (yA m 1) i)) (nI i) = kX_X3_allFill_4 g N f (nset S ta xa m w) ta (iI (ySum (yA m 1) i + yA m 1 i)) (nI (i + 1))
    rw [kX_X3_allFill_4]
    refine hcp (oif (nI_ge hi (by omega)) (ob1 (n_obj hO.1.1 (by decide)) (ob1 (n_a hO.1.1 (by decide) (by omega)) (onb (iI_add _ _) ?_))))
    rw [nI_1]
  · rintro f x rfl
    show kX_X3_allFill_4 g N (f + 1) (nset S ta xa m w) ta (iI (ySum (yA m 1) C.1)) (nI C.1) = _
    rw [kX_X3_allFill_4]
    exact hcp (oit (nI_le (Nat.le_refl _) (by omega)) rfl)
theorem j_years (hO : OC g Z S xa na ta C V) (hN : 2 ^ 20 < N) {q y : Nat} (hy : y ≤ 200) (hq : q ≤ 2) : ∀ (e d f f2 : Nat) (v : Int32) (m : MN) (w : Nat → Int32) (s : MS) (T : Int) (a : Int) (t : Nat), d + e = y → e < f → e < f2 → T + 40000 * e ≤ 900000000 → RS N s C m T → s.1 53 = v → t < 512 →
    ∃ v1 m1 w1 r s1, kX_X1_years_42 g N f (nset (sdS S xa v) ta xa m w) xa (nI y) (nI q) (iI a) (nI t) (nI d) = some (.inl (nset (sdS S xa v1) ta xa m1 w1, r)) ∧ kM_years_44 N f2 s (nI y) (nI q) (iI a) (nI t) (nI d) = some (s1, r) ∧ s1.1 0 = s.1 0 ∧ RFr s s1 := by
  have h9 := hO.spr.1
  have hOs := fun v => hO.sd v
  intro e
  induction e with
  | zero =>
    intro d f f2 v m w s T a t hd hf hf2 hT hs h53 ht
    obtain ⟨f, rfl⟩ : ∃ f', f = f' + 1 := ⟨f - 1, by omega⟩
    obtain ⟨f2, rfl⟩ : ∃ f', f2 = f' + 1 := ⟨f2 - 1, by omega⟩
    have ed : d = y := by omega
    subst ed
    have hC1 : s.1 1 = nI C.1 := hs.2.1.1
    have hle : nI d ≤ nI d := nI_le (Nat.le_refl _) (by omega)
    have hq3 : q = 0 ∨ q = 1 ∨ q = 2 := by omega
    rcases hq3 with rfl | rfl | rfl
    · refine ⟨v, m, w, iI a, s, ?_, ?_, rfl, RFr.refl s⟩
      · rw [kX_X1_years_42]
        exact oit hle (oit rfl rfl)
      · rw [kM_years_44]
        exact oit hle (oit rfl rfl)
    · refine ⟨v, m, w, iI (ySum (yA m 1) C.1), s, ?_, ?_, rfl, RFr.refl s⟩
      · rw [kX_X1_years_42]
        exact oit hle (oif (by decide) (oit rfl (ob1 (oc_ta (hOs v)) (ob1 (n_cls hO.1.1) (ob1 (x_tryFill (hOs v) hN) rfl)))))
      · rw [kM_years_44]
        refine oit hle (oif (by decide) (oit rfl (ob1 (r_sumOf (N := N) hN h9 hC1 64 10 (by decide) (d := yA m 1) (fun i hi => ?_)) rfl)))
        obtain ⟨a0, a1, a2, a3, -⟩ := hs.2.2.2.2.1 i hi
        exact ⟨a2, by omega, (hs.2.2.1.2 i hi).2.1⟩
    · have hb := bc_eq t ht
      refine ⟨v, m, w, nI C.1 - bcJ (nI t), s, ?_, ?_, rfl, RFr.refl s⟩
      · rw [kX_X1_years_42]
        exact oit hle (oif (by decide) (oif (by decide) (oc_cups (hOs v) (ob1 (x_bits g N (nI t)) rfl))))
      · rw [kM_years_44]
        refine oit hle (oif (by decide) (oif (by decide) (ob1 (r_bits hN (nI t)) ?_)))
        rw [hb.1, hC1]
  | succ e ih =>
    intro d f f2 v m w s T a t hd hf hf2 hT hs h53 ht
    obtain ⟨f, rfl⟩ : ∃ f', f = f' + 1 := ⟨f - 1, by omega⟩
    obtain ⟨f2, rfl⟩ : ∃ f', f2 = f' + 1 := ⟨f2 - 1, by omega⟩
    obtain ⟨v1, m1, s1, j1, j2, j3, j4, j5, j6⟩ := j_hap (w := w) hO hs h53
    have hY := j3.2.2.2.2
    obtain ⟨w1, hw1⟩ := oc_pass (w := w) (hOs v1) hN (by omega) hY
    obtain ⟨s2, q1, q2, q3, q4, q5, q6⟩ := r_go hN j3 (by omega)
    obtain ⟨t2, ht2, et2⟩ := mPass_13 h9 m1
    obtain ⟨t3, ht3, et3⟩ := or512 ht ht2
    obtain ⟨v3, m3, w3, r, s3, u1, u2, u3, u4⟩ := ih (d + 1) f f2 v1 (mPass C m1) w1 s2 (T + 40000) (a + ySum (yA (mPass C m1) 12) C.1) t3 (by omega) (by omega) (by omega) (by omega) q3 ((q2.1 53 (by decide) (by decide)).trans j4) ht3
    have hle : ¬ nI y ≤ nI d := nI_ge (by omega) (by omega)
    refine ⟨v3, m3, w3, r, s3, ?_, ?_, u3.trans ((q2.1 0 (by decide) (by decide)).trans j5), j6.trans (q2.r.trans u4)⟩
    · rw [kX_X1_years_42]
      refine oif hle (ob1 (oc_cls (hOs v)) (ob1 j1 (ob1 (oc_ta (hOs v1)) (ob1 (n_cls hO.1.1) (ob1 hw1 (ob1 (n_int (S := sdS S xa v1) hO.1.1 (by decide)) (onb (v := nI t3) ?_ ?_)))))))
      · rw [et2, et3]
      · rw [x_years70 (hOs v1) hN, nI_1]
        exact u1
    · rw [kM_years_44]
      refine oif hle (ob1 j2 (ob1 q1 ?_))
      rw [r_years63 hN h9 q3.2.1.1 q4, q5, et2, et3, nI_1]
      exact u2
theorem KS.sd (h : KS xa ta oa n S S1) (v : Int32) (hx : xa ≠ ta) : KS xa ta oa n S (sdS S1 xa v) := by
  obtain ⟨h1, h2, h3, h4, h5⟩ := h
  refine ⟨h1, fun q hq => ?_, fun j hj => ?_, h4, h5⟩
  · obtain ⟨a1, a2, a3, a4, a5⟩ := h2 q hq
    refine ⟨a1, a2, a3, a4, fun p1 p2 => ⟨?_, (a5 p1 p2).2⟩⟩
    rw [← (a5 p1 p2).1]
    funext j
    exact if_neg (fun z => p2 z.1)
  · rw [← h3 j hj]
    exact if_neg (fun z => hj z.2)
theorem b_years (hX : XB g N xa oa n Z Ya Yh na ta cv la lh ra rh M T S) (hR : RB N M T σ) {v : Int32} {q y : Nat} (hq : q ≤ 2) (h0 : 0 ≤ y) (hy : y ≤ 200) : ∃ S1 r, kX_X1_years g N S xa v (nI y) (nI q) = some (.inl (S1, r)) ∧ KS xa ta oa n S S1 ∧ ∃ σ1, kM_years N σ v (nI y) (nI q) = some (σ1, r) ∧ σ1.1 0 = 0 ∧ RFr σ σ1 := by
  have hO := hX.oc
  have hs := hO.spr
  have hN := hX.2.2.2.1
  have hT := hX.2.2.2.2.1
  have hV := hX.2.2.1.2.2.1.1
  have z0 : (m_put σ 0 0).1 0 = 0 := mp_s _ _ _
  obtain ⟨m, w, hS⟩ := hX.ns
  obtain ⟨σ2, t1, t2, t3⟩ := r_try hN hR.1 hR.2.1 m (RFr.p0 σ 0)
  have hsd : nset (sdS S xa (xI S xa 13)) ta xa m w = S := by
    have : sdS S xa (xI S xa 13) = S := by
      refine Prod.ext rfl (Prod.ext ?_ rfl)
      funext b j
      show (if b = xa ∧ j = 13 then xI S xa 13 else xI S b j) = xI S b j
      by_cases e : b = xa ∧ j = 13
      · rw [if_pos e, e.1, e.2]
      · rw [if_neg e]
    rw [this, hS]
  obtain ⟨v1, m1, w1, r, s1, u1, u2, u3, u4⟩ := j_years (q := q) (y := y) hO hN hy hq y 0 N N v (mBe m (tV M)) w (m_put σ2 53 v) T 0 0 (by omega) (by omega) (by omega) (by omega) (t3.i53 v) (mp_s _ _ _) (by omega)
  have hput := sd_put (m := m) (w := w) hO (xI S xa 13) v
  rw [hsd] at hput
  refine ⟨_, r, ?_, ((KS.refl hX.wf.1).sd v1 hO.1.1.2.2.1.symm).nset hO.1.1.2.2.1.symm m1 w1, s1, ?_, ?_, ?_⟩
  · unfold kX_X1_years
    exact ot1 (x_oneOf1 (b := 2) rfl hq (by decide)) (ob1 (x_inN (a := 0) (b := 200) rfl rfl h0 hy (by decide)) (ot1 (x_right1 (by decide)) (ob1 hput (ob1 (oc_ta (hO.sd v)) (ob1 (oc_na (hO.sd v)) (ob1 (n_cls hO.1.1) (ob1 (oc_be (hO.sd v) hN) u1)))))))
  · unfold kM_years
    exact onb rfl (ob1 (r_isWhat1 z0 (b := 2) rfl hq (by decide)) (oif n10 (ob1 (r_isSoon1 z0 (a := 0) rfl h0 hy 2) (oif n10 (ob1 t1 (onb rfl u2))))))
  · rw [u3, mp_n _ _ _ (by decide), t2.1 0 (by decide) (by decide), z0]
  · exact (RFr.p0 σ 0).trans (t2.r.trans ((RFr.put σ2 53 v (by decide)).trans u4))
end OO
theorem op_years {g : XC} {N xa oa i : Nat} (hN : 2 ^ 20 < N) (hi : i ≤ 378) : St_years (yRel g N xa oa i) (yRel g N xa oa (i + 6)) g N xa oa := by
  rintro a0 a1 a2 n sl τ σ ⟨M, Z, Ya, Yh, na, ta, cv, la, lh, ra, rh, hB⟩
  have hB : yBody g N xa oa i n Z Ya Yh na ta cv la lh ra rh M τ σ := hB
  generalize hcc : n + 14000 = cc
  generalize hkk : sl + 97000 = kk
  obtain ⟨hO, hr, hQ, hfr, hS⟩ := y_open hB sl cc kk (by omega) (by omega)
  have hX := y_xb (sl := sl) (c := cc) (k := kk) hB hN hi (by omega) (by omega)
  have hRB := y_rb hB hN hi
  have z0 : (m_put σ 0 0).1 0 = 0 := mp_s _ _ _
  have z1 : (m_put σ 0 0).1 1 = nI (tC M).1 := (mp_n _ _ _ (by decide)).trans hRB.1.1.1
  have h9 := hRB.2.1.1
  have hw : ∀ a0 a1 a2, kX_X0_years (jg g cc kk) N ((n, sl, cc, kk), τ) xa a0 a1 a2 oa = yW yH2 (kX_X1_years (jg g cc kk) N ((n, sl, cc, kk), τ) xa a0 a1 a2) oa := fun a0 a1 a2 => ob1 (f_cls_T hQ.2.1.1) rfl
  rw [hw]
  rcases y_rng 0 2 (by decide) a2 with ⟨q0, -, h0, rfl⟩ | h0
  · -- fits
    rcases y_rng 0 200 (by decide) a1 with ⟨k1, h1, h1', rfl⟩ | h1
    · -- fits
      obtain ⟨S1, r, hx, hks, hm⟩ := b_years hX hRB h0 h1 h1'
      obtain ⟨σ1, hm1, hm2, hm3⟩ := hm
      exact fin_ok (c := cc) (k := kk) hB hx hks hm1 hm2 hm3
    · have hx : kX_X1_years (jg g cc kk) N ((n, sl, cc, kk), τ) xa a0 a1 (nI q0) = some (.inr (((n, sl, cc, kk), τ), 1, 0)) := by
        rw [← hS]
        unfold kX_X1_years
        exact ot1 (x_oneOf1 (b := 2) rfl h0 (by decide)) (ob1 (x_in0 h1) (ot2 (x_right0 hr)))
      have hm : kM_years N σ a0 a1 (nI q0) = some (m_put (m_put σ 0 0) 0 2, 0) := by
        unfold kM_years
        exact onb rfl (ob1 (r_isWhat1 z0 (b := 2) rfl h0 (by decide)) (oif n10 (ob1 (r_isSoon0 z0 (by decide) h1) (oit rfl rfl))))
      exact fin_thr (c := cc) (k := kk) hB hx rfl (KS.refl hQ.2.1.2.2.2.1) hm (mp_s _ _ _) (by decide) (RFr.p00 _ _ _)
  · have hx : kX_X1_years (jg g cc kk) N ((n, sl, cc, kk), τ) xa a0 a1 a2 = some (.inr (((n, sl, cc, kk), τ), 0, 0)) := by
      rw [← hS]
      unfold kX_X1_years
      exact ot2 (x_oneOf0 hr h0)
    have hm : kM_years N σ a0 a1 a2 = some (m_put (m_put σ 0 0) 0 1, 0) := by
      unfold kM_years
      exact onb rfl (ob1 (r_isWhat0 z0 h0) (oit rfl rfl))
    exact fin_thr (c := cc) (k := kk) hB hx rfl (KS.refl hQ.2.1.2.2.2.1) hm (mp_s _ _ _) (by decide) (RFr.p00 _ _ _)
