/-! plain law: meeting -/
section OU
variable {g : XC} {N xa oa n : Nat} {Z Ya Yh : Nat → Prop} {na ta cv la lh : Nat} {ra rh : List Nat} {M : MT} {T : Int} {S : XS} {σ s : MS} {C : CC} {V m : MN} {w : Nat → Int32} {h : Nat}
/-- all of x tip in the hour behind h -/
def mtP (C : CC) (V : MN) (x : Int32) (h : Int) (c : Nat) : Prop := ∀ q, q < c → bt x q = true → fT C V h q < fT C V (h + 1) q
theorem r_m51 (h9 : C.1 ≤ 9) (hG : YG C V T) (hs : ∀ k, k < C.1 → 0 ≤ C.2.1 k ∧ C.2.1 k ≤ 20) (hh : h ≤ 5000) (h1 : s.1 1 = nI C.1) (h44 : ∀ j, j < C.1 → s.2.2 44 j = iI (fT C V (h + 1) j)) (h47 : ∀ j, j < C.1 → s.2.2 47 j = iI (fT C V h j)) (K : MS → Int32 → Int32 → Option (MS × Int32)) (x y : Int32) : ∀ (d c f : Nat) (t : Int32), c + d = C.1 → d < f → ((t = 1 ∧ mtP C V x h c) ∨ (t = 0 ∧ ¬ mtP C V x h c)) → (mtP C V x h C.1 → kM_meeting_51 N K f s x y t (nI c) = some (s, y)) ∧ (¬ mtP C V x h C.1 → kM_meeting_51 N K f s x y t (nI c) = K s x (y + 1)) := by
  intro d
  induction d with
  | zero =>
    intro c f t hc hf ht
    obtain ⟨f, rfl⟩ : ∃ e, f = e + 1 := ⟨f - 1, by omega⟩
    have ec : c = C.1 := by omega
    subst ec
    rw [kM_meeting_51]
    rcases ht with ⟨rfl, ht⟩ | ⟨rfl, ht⟩
    · exact ⟨fun _ => oit (by rw [h1]; exact nI_le (Nat.le_refl _) (by omega)) (oif n10 rfl), fun z => absurd ht z⟩
    · exact ⟨fun z => absurd z ht, fun _ => oit (by rw [h1]; exact nI_le (Nat.le_refl _) (by omega)) (oit rfl rfl)⟩
  | succ d ih =>
    intro c f t hc hf ht
    obtain ⟨f, rfl⟩ : ∃ e, f = e + 1 := ⟨f - 1, by omega⟩
    have hcC : c < C.1 := by omega
    have hnle : ¬ (s.1 1) ≤ nI c := by rw [h1]; exact nI_ge (by omega) (by omega)
    have go : ∀ t1, kM_meeting_95 N K (kM_meeting_51 N K f) s x y (nI c) t1 = kM_meeting_51 N K f s x y t1 (nI (c + 1)) := fun t1 => by
      unfold kM_meeting_95
      rw [nI_1]
    have hstep : ∀ q, q < c + 1 ↔ q < c ∨ q = c := fun q => by omega
    have key : ∃ t1, kM_meeting_51 N K (f + 1) s x y t (nI c) = kM_meeting_51 N K f s x y t1 (nI (c + 1)) ∧ ((t1 = 1 ∧ mtP C V x h (c + 1)) ∨ (t1 = 0 ∧ ¬ mtP C V x h (c + 1))) := by
      rw [kM_meeting_51]
      rcases ht with ⟨rfl, ht⟩ | ⟨rfl, ht⟩
      · by_cases e : bt x c = true
        · have b1 := fBd hG hs h9 (h := h) (by omega) (by omega) hcC
          have b2 := fBd hG hs h9 (h := h + 1) (by omega) (by omega) hcC
          by_cases e2 : fT C V h c < fT C V (h + 1) c
          · refine ⟨1, oif hnle (oif n10 (oif (fun z => ?_) (ob1 (r_ld rfl (by show c < 9; omega)) (ob1 (r_ld rfl (by show c < 9; omega)) (oif ?_ (go 1)))))), Or.inl ⟨rfl, fun q hq hb => ?_⟩⟩
            · have := (bit_is (by omega)).mpr e
              rw [z] at this
              exact absurd this (by decide)
            · rw [h44 c hcC, h47 c hcC, iI_le (by unfold yR; omega) (by unfold yR; omega)]
              omega
            · rcases (hstep q).mp hq with hq | rfl
              · exact ht q hq hb
              · exact e2
          · refine ⟨0, oif hnle (oif n10 (oif (fun z => ?_) (ob1 (r_ld rfl (by show c < 9; omega)) (ob1 (r_ld rfl (by show c < 9; omega)) (oit ?_ (go 0)))))), Or.inr ⟨rfl, fun z => e2 (z c (by omega) e)⟩⟩
            · have := (bit_is (by omega)).mpr e
              rw [z] at this
              exact absurd this (by decide)
            · rw [h44 c hcC, h47 c hcC, iI_le (by unfold yR; omega) (by unfold yR; omega)]
              omega
        · refine ⟨1, oif hnle (oif n10 (oit ?_ (go 1))), Or.inl ⟨rfl, fun q hq hb => ?_⟩⟩
          · rw [bit01 (by omega), if_neg e]
          · rcases (hstep q).mp hq with hq | rfl
            · exact ht q hq hb
            · exact absurd hb e
      · exact ⟨0, oif hnle (oit rfl (go 0)), Or.inr ⟨rfl, fun z => ht (fun q hq => z q (by omega))⟩⟩
    obtain ⟨t1, k1, k2⟩ := key
    rw [k1]
    exact ih (c + 1) f t1 (by omega) (by omega) k2
/-- all of some, by the cups alone -/
theorem pAll_mt {x : Int32} {m1 : MN} (h9 : C.1 ≤ 9) (hx : ∀ i, i < 32 → bt x i = true → i < C.1) (hb : ∀ k, k < C.1 → (bt (yI m1 13) k = true ↔ fT C V h k < fT C V (h + 1) k)) : pAll x m1 = true ↔ mtP C V x h C.1 := by
  rw [pAll_t]
  constructor
  · intro e q hq hbq
    refine (hb q hq).mp ?_
    have e2 := congrArg (fun z => bt z q) e
    simp only [b_and, b_xor, b_0, b_m1 q (by omega), hbq, Bool.true_and] at e2
    cases hv : bt (yI m1 13) q with
    | true => rfl
    | false => rw [hv] at e2; simp at e2
  · intro e
    refine b_ext (fun i hi => ?_)
    rw [b_and, b_xor, b_0, b_m1 i hi]
    cases hv : bt x i with
    | false => rfl
    | true =>
      have hc := hx i hi hv
      rw [(hb i hc).mpr (e i hc hv)]
      rfl
theorem r_m22 (hN : 2 ^ 20 < N) (h9 : C.1 ≤ 9) (hG : YG C V T) (hs : ∀ k, k < C.1 → 0 ≤ C.2.1 k ∧ C.2.1 k ≤ 20) {x : Int32} (hx : ∀ i, i < 32 → bt x i = true → i < C.1) : ∀ (d h f : Nat) (m : MN) (T1 : Int) (s : MS), h + d = 5000 → d < f → T1 + 40000 * d ≤ 900000000 → YN C m T1 → BH C V h m → RC N s C → RowR (s.2.2 31) 0 C V → FRp C V h C.1 s → ∃ s1, kM_meeting_22 N f s x (nI (h + 1)) = some (s1, yAns (yFd C (pAll x) d (h + 1) m)) ∧ RK [] [43, 44, 45, 46, 47] s s1 := by
  intro d
  induction d with
  | zero =>
    intro h f m T1 s hh hf hT hm hB hC hR hp
    obtain ⟨f, rfl⟩ : ∃ e, f = e + 1 := ⟨f - 1, by omega⟩
    refine ⟨s, ?_, fun _ _ => rfl, fun _ _ => rfl⟩
    rw [kM_meeting_22, show h + 1 = 5001 by omega]
    exact oit (by decide) rfl
  | succ d ih =>
    intro h f m T1 s hh hf hT hm hB hC hR hp
    obtain ⟨f, rfl⟩ : ∃ e, f = e + 1 := ⟨f - 1, by omega⟩
    obtain ⟨s2, c1, c2, c3⟩ := r_copies (N := N) (σ := s) (k1 := 44) (k2 := 47) hN (by decide) (Nat.le_refl 9) (show 9 < 2 ^ 20 by decide)
    have hr2 : RFr s s2 := RFr.rk c2 (fun j hj => by simp at hj) (fun j hj => by simp at hj ⊢; omega)
    have hC2 := hC.r hr2
    have hR2 : RowR (s2.2.2 31) 0 C V := by rw [c2.2 31 (by decide)]; exact hR
    obtain ⟨s3, q1, q2, q3⟩ := r_flows (N := N) hN h9 hG hs (n := h + 1) (by omega) hC2 hR2
    have hr3 : RFr s2 s3 := RFr.fl q2
    have hC3 := hC2.r hr3
    have hR3 : RowR (s3.2.2 31) 0 C V := by rw [q2.2 31 (by decide)]; exact hR2
    have hk : RK [] [43, 44, 45, 46, 47] s s3 := RK.trans (J := []) (K := [43, 44, 45, 46, 47]) ⟨c2.1, fun j hj => c2.2 j (fun z => hj (by simp at z ⊢; omega))⟩ q2 (fun _ z => z) (fun j z => by simp at z ⊢; omega)
    have hb := bh_next hG hs h9 (h := h) (by omega) (by omega) (T1 := T1) (by omega) hm hB
    have e44 : ∀ j, j < C.1 → s3.2.2 44 j = iI (fT C V (h + 1) j) := fun j hj => (q3 j hj).2.1
    have e47 : ∀ j, j < C.1 → s3.2.2 47 j = iI (fT C V h j) := fun j hj => by
      rw [q2.2 47 (by decide), c3 j (by show j < 9; omega)]
      exact (hp j hj).2.1
    have h51 := r_m51 (N := N) h9 hG hs (h := h) (by omega) hC3.1 e44 e47 (kM_meeting_22 N f) x (nI (h + 1)) C.1 0 N 1 (by omega) (by omega) (Or.inl ⟨rfl, fun q hq => by omega⟩)
    have hpa := pAll_mt (V := V) (h := h) (m1 := mPass C m) h9 hx hb.2
    have hhd : kM_meeting_22 N (f + 1) s x (nI (h + 1)) = kM_meeting_51 N (kM_meeting_22 N f) N s3 x (nI (h + 1)) 1 0 := by
      rw [kM_meeting_22]
      exact oif (nI_nlt (a := 5000) (b := h + 1) (by omega) (by omega)) (ob1 c1 (ob1 q1 rfl))
    rw [hhd]
    by_cases p : mtP C V x h C.1
    · refine ⟨s3, ?_, hk⟩
      refine (h51.1 p).trans ?_
      show _ = some (s3, yAns (if pAll x (mPass C m) = true then some (h + 1, mPass C m) else _))
      rw [if_pos (hpa.mpr p)]
      rfl
    · obtain ⟨s4, u1, u2⟩ := ih (h + 1) f (mPass C m) (T1 + 40000) s3 (by omega) (by omega) (by omega) (mPass_YN hs h9 (by omega) hm) (by have := hb.1; exact this) hC3 hR3 (fun j hj => q3 j hj)
      refine ⟨s4, ?_, hk.trans u2 (fun _ z => z) (fun _ z => z)⟩
      refine (h51.2 p).trans ?_
      rw [nI_1, u1]
      show _ = some (s4, yAns (if pAll x (mPass C m) = true then _ else yFd C (pAll x) d (h + 1 + 1) (mPass C m)))
      rw [if_neg (fun z => p (hpa.mp z))]
theorem fT_0 (hG : YG C V T) : ∀ n k, k < n → k < C.1 → fT C V 0 k = 0 ∧ fI C V 0 k = 0 := by
  intro n
  induction n with
  | zero => intro k hk; omega
  | succ n ih =>
    intro k hk hkC
    have hown : fOwn C V 0 k = 0 := by
      unfold fOwn
      split <;> simp
    have hpd : fPd C V 0 k k = 0 := by
      unfold fPd
      refine Eq.trans (ySum_c (fun g hg => ?_)) (ySum_0 k)
      show gvN V g k (fT C V 0 g) = 0
      rw [(ih g (by omega) (by omega)).1]
      have := gvN_sum (V := V) (g := g) (n := 0) (by omega) (k + 1)
      have h0 := gvN_nn (V := V) (g := g) (c := k) (n := 0) (by omega)
      have h1 : ySum (fun c => gvN V g c 0) (k + 1) = ySum (fun c => gvN V g c 0) k + gvN V g k 0 := rfl
      have h2 := ySum_nn (f := fun c => gvN V g c 0) (n := k) (fun c _ => gvN_nn (by omega))
      omega
    have hI : fI C V 0 k = 0 := by
      unfold fI
      omega
    refine ⟨?_, hI⟩
    rw [fT_eq, hI]
    obtain ⟨a0, a1, a2, a3, -⟩ := hG k hkC
    rw [Int.add_zero]
    exact Int.ediv_eq_zero_of_lt (by omega) (by omega)
theorem bh_0 (hG : YG C V T) (h9 : C.1 ≤ 9) (m : MN) : BH C V 0 (ysI (mBe m V) 8 1) := by
  refine ⟨rfl, mBe_0 m V 10 (by omega), mBe_I m V 7 (by omega), fun k hk => ?_⟩
  have e : ∀ i, i < 6 → yA (ysI (mBe m V) 8 1) i k = yA V i k := fun i hi => (mBe_A m V (j := i) (i := k) (by omega)).trans (if_pos hi)
  obtain ⟨a0, a1, a2, a3, a4, a5, a6, -⟩ := hG k hk
  obtain ⟨f1, f2⟩ := fT_0 hG (k + 1) k (by omega) hk
  refine ⟨e 0 (by omega), e 3 (by omega), e 4 (by omega), ?_, ?_⟩
  · rw [e 1 (by omega), f2, Int.add_zero]
    exact (Int.emod_eq_of_lt (by omega) (by omega)).symm
  · rw [e 5 (by omega), f1]
    split <;> omega
theorem s_bits (h9 : C.1 ≤ 9) {x : Int32} (hx : ¬ x < 0 ∧ ¬ ((1 : Int32) <<< (nI C.1 &&& 31)) ≤ x) : ∀ i, i < 32 → bt x i = true → i < C.1 := by
  intro i hi hb
  have hp := y_pow C.1 h9
  have e : ((2 ^ C.1 : Nat) : Int) = 2 ^ C.1 := by simp
  have e0 : (0 : Int) < 2 ^ C.1 := Int.pow_pos (by decide)
  rcases y_rng 0 511 (by decide) x with ⟨k, h1, h2, rfl⟩ | h1
  · refine Decidable.byContradiction (fun z => ?_)
    rw [bt_nI (by omega) hi] at hb
    have hk : k < 2 ^ C.1 := by
      have := hx.2
      rw [hp.1, iI_nI, iI_le (by unfold yR; omega) (by unfold yR; omega)] at this
      omega
    have := Nat.testBit_lt_two_pow (x := k) (i := i) (Nat.lt_of_lt_of_le hk (Nat.pow_le_pow_right (by decide) (by omega)))
    rw [this] at hb
    cases hb
  · have e1 : x < 0 ∨ 511 < x := h1
    rcases e1 with e1 | e1
    · exact absurd e1 hx.1
    · refine absurd ?_ hx.2
      rw [hp.1]
      have e5 : (511 : Int32) = iI 511 := rfl
      rw [Int32.le_iff_toInt_le, iI_toInt (by unfold yR; omega)]
      rw [e5, Int32.lt_iff_toInt_lt, iI_toInt (by unfold yR; omega)] at e1
      omega
theorem b_meeting (hX : XB g N xa oa n Z Ya Yh na ta cv la lh ra rh M T S) (hR : RB N M T σ) {x : Int32} (hx : ¬ x < 0 ∧ ¬ ((1 : Int32) <<< (nI (tC M).1 &&& 31)) ≤ x) : ∃ S1 r, kX_X1_meeting g N S xa x = some (.inl (S1, r)) ∧ KS xa ta oa n S S1 ∧ ∃ σ1, kM_meeting N σ x = some (σ1, r) ∧ σ1.1 0 = 0 ∧ RFr σ σ1 := by
  refine b_of (x := fun S => kX_X1_meeting g N S xa x) hX (fun m w => ?_)
  have hO := hX.oc
  have hs := hO.spr
  have hN := hX.2.2.2.1
  have hT := hX.2.2.2.2.1
  have hV := hX.2.2.1.2.2.1.1
  have hC1 : σ.1 1 = nI (tC M).1 := hR.1.1.1
  have hR0 := hR.1.fr hR.2.1.1 (RFr.p0 σ 0)
  have hRV : RowR ((m_put σ 0 0).2.2 31) 0 (tC M) (tV M) := hR0.2.1
  have hRC := hR0.1
  generalize tC M = C at *
  generalize tV M = V at *
  have z0 : (m_put σ 0 0).1 0 = 0 := mp_s _ _ _
  have z1 : (m_put σ 0 0).1 1 = nI C.1 := (mp_n _ _ _ (by decide)).trans hC1
  have hB := mBe_YN m hs.1 hV.1
  have hB1 : YN C (ysI (mBe m V) 8 1) T := hB
  obtain ⟨m1, w1, hw⟩ := x_firstOn (m := ysI (mBe m V) 8 1) (w := w) hO hN x (d := 5000) (by omega) (by omega) hB1
  obtain ⟨σ1, q1, q2, q3⟩ := r_flows (N := N) hN hs.1 hV.1 hs.2 (n := 0) (by omega) hRC hRV
  have hr1 : RFr (m_put σ 0 0) σ1 := RFr.fl q2
  obtain ⟨σ2, u1, u2⟩ := r_m22 (N := N) hN hs.1 hV.1 hs.2 (x := x) (s_bits hs.1 hx) 5000 0 N (ysI (mBe m V) 8 1) T σ1 (by omega) (by omega) (by omega) hB1 (bh_0 hV.1 hs.1 m) (hRC.r hr1) (by rw [q2.2 31 (by decide)]; exact hRV) q3
  refine ⟨m1, w1, yAns (yFd C (pAll x) 5000 1 (ysI (mBe m V) 8 1)), ?_, σ2, ?_, ?_, ?_⟩
  · show kX_X1_meeting g N (nset S ta xa m w) xa x = _
    unfold kX_X1_meeting kX_X3_bare
    exact ob1 (oc_cls hO) (ot1 (oc_some1 hO hx) (ob1 (oc_ta hO) (ob1 (oc_na hO) (ob1 (n_cls hO.1.1) (ob1 (oc_be hO hN) (ob1 (n_cls hO.1.1) (ob1 (ob1 (n_putI hO.1.1 (by decide)) rfl) (ob1 (oc_cls hO) (ob1 hw rfl)))))))))
  · unfold kM_meeting
    exact onb rfl (ob1 (r_isSome1 z0 z1 hx.1 hx.2) (oif n10 (ob1 q1 u1)))
  · exact (u2.1 0 (by simp)).trans ((q2.1 0 (by simp)).trans z0)
  · exact ((RFr.p0 σ 0).trans hr1).trans (RFr.rk u2 (fun j hj => by simp at hj) (fun j hj => by simp at hj ⊢; omega))
end OU
theorem op_meeting {g : XC} {N xa oa i : Nat} (hN : 2 ^ 20 < N) (hi : i ≤ 378) : St_meeting (yRel g N xa oa i) (yRel g N xa oa (i + 6)) g N xa oa := by
  rintro a0 n sl τ σ ⟨M, Z, Ya, Yh, na, ta, cv, la, lh, ra, rh, hB⟩
  have hB : yBody g N xa oa i n Z Ya Yh na ta cv la lh ra rh M τ σ := hB
  generalize hcc : n + 14000 = cc
  generalize hkk : sl + 97000 = kk
  obtain ⟨hO, hr, hQ, hfr, hS⟩ := y_open hB sl cc kk (by omega) (by omega)
  have hX := y_xb (sl := sl) (c := cc) (k := kk) hB hN hi (by omega) (by omega)
  have hRB := y_rb hB hN hi
  have z0 : (m_put σ 0 0).1 0 = 0 := mp_s _ _ _
  have z1 : (m_put σ 0 0).1 1 = nI (tC M).1 := (mp_n _ _ _ (by decide)).trans hRB.1.1.1
  have h9 := hRB.2.1.1
  have hw : ∀ a0, kX_X0_meeting (jg g cc kk) N ((n, sl, cc, kk), τ) xa a0 oa = yW yH1 (kX_X1_meeting (jg g cc kk) N ((n, sl, cc, kk), τ) xa a0) oa := fun a0 => ob1 (f_cls_T hQ.2.1.1) rfl
  rw [hw]
  rcases y_some (tC M).1 h9 a0 with h0 | h0
  · -- fits
    obtain ⟨S1, r, hx, hks, hm⟩ := b_meeting hX hRB h0
    obtain ⟨σ1, hm1, hm2, hm3⟩ := hm
    exact fin_ok (c := cc) (k := kk) hB hx hks hm1 hm2 hm3
  · have hx : kX_X1_meeting (jg g cc kk) N ((n, sl, cc, kk), τ) xa a0 = some (.inr (((n, sl, cc, kk), τ), 1, 0)) := by
      rw [← hS]
      unfold kX_X1_meeting
      exact ob1 (oc_cls hO) (ot2 (oc_some0 hO hr h0))
    have hm : kM_meeting N σ a0 = some (m_put (m_put σ 0 0) 0 1, 0) := by
      unfold kM_meeting
      exact onb rfl (ob1 (r_isSome0 z0 z1 h0) (oit rfl rfl))
    exact fin_thr (c := cc) (k := kk) hB hx rfl (KS.refl hQ.2.1.2.2.2.1) hm (mp_s _ _ _) (by decide) (RFr.p00 _ _ _)
