/-! plain law: tipping, next, together, pause, sound, chorus, never, swell -/
section OB
variable {g : XC} {N xa oa n : Nat} {Z Ya Yh : Nat → Prop} {na ta cv la lh : Nat} {ra rh : List Nat} {M : MT} {T : Int} {S : XS} {σ : MS} {C : CC} {V m : MN} {w : Nat → Int32}

def yAns : Option (Nat × MN) → Int32
  | some (k, _) => nI k
  | none => -1
/-- all of some tip -/
def pAll (s : Int32) (m : MN) : Bool := decide ((s &&& (yI m 13 ^^^ (-1))) = 0)
theorem pAll_t {s : Int32} {m : MN} : pAll s m = true ↔ (s &&& (yI m 13 ^^^ (-1))) = 0 := by unfold pAll; exact decide_eq_true_iff
theorem pAll_f {s : Int32} {m : MN} : pAll s m = false ↔ ¬ (s &&& (yI m 13 ^^^ (-1))) = 0 := by unfold pAll; exact decide_eq_false_iff_not
theorem x_firstOn (hO : OC g Z S xa na ta C V) (hN : 2 ^ 20 < N) (s : Int32) {d : Nat} (hd : d ≤ 5000) (hT : T + 40000 * d ≤ 900000000) (hm : YN C m T) : ∃ m1 w1, kX_X1_firstOn g N (nset S ta xa m w) xa s (nI d) = some (nset S ta xa m1 w1, yAns (yFd C (pAll s) d 1 m)) := by
  unfold kX_X1_firstOn
  rcases x_find hO hN (fun f S k => kX_X1_firstOn_2 g N f S xa s (nI d) (nI k)) (pAll s) d 1 N T m w (by omega) hd hT hm (fun f m1 w1 w2 k h1 h2 _ h3 h4 => by
    show kX_X1_firstOn_2 g N (f + 1) (nset S ta xa m1 w1) xa s (nI d) (nI k) = kX_X1_firstOn_2 g N f (nset S ta xa (mPass C m1) w2) xa s (nI d) (nI (k + 1))
    rw [kX_X1_firstOn_2]
    refine oif (nI_nlt (by omega) (by omega)) (ob1 (oc_ta hO) (ob1 (n_cls hO.1.1) (ob1 h4 (ob1 (n_int hO.1.1 (by decide)) (oif (pAll_f.mp h3) ?_)))))
    rw [nI_1]) with ⟨k, f, m1, w1, w2, a1, a2, a3, a4, a5, -, -, a6⟩ | ⟨a1, f, m1, w1, a2⟩
  · refine ⟨mPass C m1, w2, ?_⟩
    rw [a1]
    refine Eq.trans a6 ?_
    show kX_X1_firstOn_2 g N (f + 1) (nset S ta xa m1 w1) xa s (nI d) (nI k) = _
    rw [kX_X1_firstOn_2]
    exact oif (nI_nlt (by omega) (by omega)) (ob1 (oc_ta hO) (ob1 (n_cls hO.1.1) (ob1 a5 (ob1 (n_int hO.1.1 (by decide)) (oit (pAll_t.mp a4) rfl)))))
  · refine ⟨m1, w1, ?_⟩
    rw [a1]
    refine Eq.trans a2 ?_
    show kX_X1_firstOn_2 g N (f + 1) (nset S ta xa m1 w1) xa s (nI d) (nI (1 + d)) = _
    rw [kX_X1_firstOn_2]
    exact oit (nI_lt (by omega) (by omega)) rfl
theorem x_firstOf (hO : OC g Z S xa na ta C V) (hN : 2 ^ 20 < N) (s : Int32) {d : Nat} (hd : d ≤ 5000) (hT : T + 40000 * d ≤ 900000000) (hm : YG C V T) : ∃ m1 w1, kX_X1_firstOf g N (nset S ta xa m w) xa s (nI d) = some (nset S ta xa m1 w1, yAns (yFd C (pAll s) d 1 (mBe m V))) := by
  obtain ⟨m1, w1, h⟩ := x_firstOn (m := mBe m V) (w := w) hO hN s hd hT (mBe_YN m hO.spr.1 hm)
  refine ⟨m1, w1, ?_⟩
  unfold kX_X1_firstOf
  exact ob1 (oc_ta hO) (ob1 (oc_na hO) (ob1 (n_cls hO.1.1) (ob1 (oc_be hO hN) (ob1 (oc_cls hO) (ob1 h rfl)))))
theorem r_allTip (hN : 2 ^ 20 < N) (s : Int32) {k0 d : Nat} (hd : k0 + d = 200) (hT : T + 40000 * d ≤ 900000000) (hm : RS N σ C m T) : ∃ σ1, kM_allTip N σ s (nI k0) = some (σ1, yAns (yFd C (pAll s) d (k0 + 1) m)) ∧ FrH 64 σ σ1 ∧ ∀ k m1, yFd C (pAll s) d (k0 + 1) m = some (k, m1) → k0 < k ∧ k ≤ 200 ∧ RS N σ1 C m1 (T + 40000 * (d + 1)) := by
  unfold kM_allTip bnd
  rw [nI_1]
  rcases r_find hN (fun f s1 k => kM_allTip_4 N f s1 s (nI k)) (pAll s) d (k0 + 1) N T m σ (by omega) (by omega) hT hm (fun f s2 s1 m1 T1 k h1 h2 h3 h4 h5 h6 h7 => by
    show kM_allTip_4 N (f + 1) s2 s (nI k) = kM_allTip_4 N f s1 s (nI (k + 1))
    rw [kM_allTip_4]
    refine oif (nI_nlt (a := 200) (b := k) (by omega) (by omega)) (ob1 h6 (oif ?_ ?_))
    · rw [h7.2.2.2.1, ← y_all]
      exact pAll_f.mp h3
    · rw [nI_1]) with ⟨k, f, m1, T1, s2, s1, a1, a2, a3, a4, a5, a6, a7, a8, a9, a10⟩ | ⟨a1, f, s2, a2, a3⟩
  · refine ⟨s1, ?_, a7.trans a9.2.1, fun k' m' h => ?_⟩
    · rw [a1]
      refine Eq.trans a10 ?_
      show kM_allTip_4 N (f + 1) s2 s (nI k) = _
      rw [kM_allTip_4]
      refine oif (nI_nlt (a := 200) (b := k) (by omega) (by omega)) (ob1 a8 (oit ?_ rfl))
      rw [a9.2.2.2.1, ← y_all]
      exact pAll_t.mp a4
    · rw [a1] at h
      obtain ⟨rfl, rfl⟩ := Prod.mk.inj (Option.some.inj h)
      exact ⟨by omega, by omega, a9.1.le (by omega)⟩
  · refine ⟨s2, ?_, a2, fun k' m' h => by rw [a1] at h; cases h⟩
    rw [a1]
    refine Eq.trans a3 ?_
    show kM_allTip_4 N (f + 1) s2 s (nI (k0 + 1 + d)) = _
    rw [kM_allTip_4, show k0 + 1 + d = 201 by omega]
    exact oit (by decide) rfl
theorem b_tipping (hX : XB g N xa oa n Z Ya Yh na ta cv la lh ra rh M T S) (hR : RB N M T σ) {k : Nat} (h0 : 1 ≤ k) (hk : k ≤ 200) : ∃ S1 r, kX_X1_tipping g N S xa (nI k) = some (.inl (S1, r)) ∧ KS xa ta oa n S S1 ∧ ∃ σ1, kM_tipping N σ (nI k) = some (σ1, r) ∧ σ1.1 0 = 0 ∧ RFr σ σ1 := by
  refine b_of (x := fun S => kX_X1_tipping g N S xa (nI k)) hX (fun m w => ?_)
  have hO := hX.oc
  have hs := hO.spr
  have hN := hX.2.2.2.1
  have hT := hX.2.2.2.2.1
  have hV := hX.2.2.1.2.2.1.1
  have hC1 : σ.1 1 = nI (tC M).1 := hR.1.1.1
  have hRV : RowR (σ.2.2 31) 0 (tC M) (tV M) := hR.1.2.1
  obtain ⟨σ2, t1, t2, t3⟩ := r_try hN hR.1 hR.2.1 m (RFr.p0 σ 0)
  generalize tC M = C at *
  generalize tV M = V at *
  have z0 : (m_put σ 0 0).1 0 = 0 := mp_s _ _ _
  have z1 : (m_put σ 0 0).1 1 = nI C.1 := (mp_n _ _ _ (by decide)).trans hC1
  have hB := mBe_YN m hs.1 hV.1
  have fin0 : ∀ σ3, FrH 64 σ2 σ3 → σ3.1 0 = 0 ∧ RFr σ σ3 := fun σ3 h => ⟨(h.1 0 (by decide) (by decide)).trans ((t2.1 0 (by decide) (by decide)).trans z0), (RFr.p0 σ 0).trans (t2.r.trans h.r)⟩
  obtain ⟨w1, hw⟩ := oc_tryOn (m := m) (w := w) hO hN (n := k) (by omega) (by omega) hV.1
  obtain ⟨σ3, k1, k2, k3, k4⟩ := r_rep hN t3 (n := k) (by omega) (by omega)
  refine ⟨yRep (mPass C) k (mBe m V), w1, yI (yRep (mPass C) k (mBe m V)) 13, ?_, σ3, ?_, fin0 σ3 k2⟩
  · show kX_X1_tipping g N (nset S ta xa m w) xa (nI k) = _
    unfold kX_X1_tipping
    exact ob1 (x_inN (a := 1) (b := 200) rfl rfl h0 hk (by decide)) (ot1 (x_right1 (by decide)) (ob1 (oc_cls hO) (ob1 hw (ob1 (n_int hO.1.1 (by decide)) rfl))))
  · unfold kM_tipping
    refine onb rfl (ob1 (r_isSoon1 z0 (a := 1) rfl h0 hk 1) (oif n10 (ob1 t1 (ob1 k1 ?_))))
    rw [k4 (by omega)]
theorem b_next (hX : XB g N xa oa n Z Ya Yh na ta cv la lh ra rh M T S) (hR : RB N M T σ) {c : Nat} (hc : c < (tC M).1) : ∃ S1 r, kX_X1_next g N S xa (nI c) = some (.inl (S1, r)) ∧ KS xa ta oa n S S1 ∧ ∃ σ1, kM_next N σ (nI c) = some (σ1, r) ∧ σ1.1 0 = 0 ∧ RFr σ σ1 := by
  refine b_of (x := fun S => kX_X1_next g N S xa (nI c)) hX (fun m w => ?_)
  have hO := hX.oc
  have hs := hO.spr
  have hN := hX.2.2.2.1
  have hT := hX.2.2.2.2.1
  have hV := hX.2.2.1.2.2.1.1
  have hC1 : σ.1 1 = nI (tC M).1 := hR.1.1.1
  have hRV : RowR (σ.2.2 31) 0 (tC M) (tV M) := hR.1.2.1
  obtain ⟨σ2, t1, t2, t3⟩ := r_try hN hR.1 hR.2.1 m (RFr.p0 σ 0)
  generalize tC M = C at *
  generalize tV M = V at *
  have z0 : (m_put σ 0 0).1 0 = 0 := mp_s _ _ _
  have z1 : (m_put σ 0 0).1 1 = nI C.1 := (mp_n _ _ _ (by decide)).trans hC1
  have hB := mBe_YN m hs.1 hV.1
  have fin0 : ∀ σ3, FrH 64 σ2 σ3 → σ3.1 0 = 0 ∧ RFr σ σ3 := fun σ3 h => ⟨(h.1 0 (by decide) (by decide)).trans ((t2.1 0 (by decide) (by decide)).trans z0), (RFr.p0 σ 0).trans (t2.r.trans h.r)⟩
  obtain ⟨m1, w1, hw⟩ := x_firstOf (m := m) (w := w) hO hN ((1 : Int32) <<< (nI c &&& 31)) (d := 200) (by omega) (by omega) hV.1
  obtain ⟨σ3, k1, k2, -⟩ := r_allTip hN ((1 : Int32) <<< (nI c &&& 31)) (k0 := 0) (d := 200) rfl (by omega) t3
  refine ⟨m1, w1, yAns (yFd C (pAll ((1 : Int32) <<< (nI c &&& 31))) 200 1 (mBe m V)), ?_, σ3, ?_, fin0 σ3 k2⟩
  · show kX_X1_next g N (nset S ta xa m w) xa (nI c) = _
    unfold kX_X1_next
    exact ob1 (oc_cls hO) (ot1 (oc_cup1 hO hc) (ob1 (oc_cls hO) (ob1 hw rfl)))
  · unfold kM_next
    exact onb rfl (ob1 (r_isCup1 z0 z1 hs.1 hc) (oif n10 (ob1 t1 (ob1 k1 rfl))))
theorem b_together (hX : XB g N xa oa n Z Ya Yh na ta cv la lh ra rh M T S) (hR : RB N M T σ) {x : Int32} (hx : ¬ x < 0 ∧ ¬ ((1 : Int32) <<< (nI (tC M).1 &&& 31)) ≤ x) : ∃ S1 r, kX_X1_together g N S xa x = some (.inl (S1, r)) ∧ KS xa ta oa n S S1 ∧ ∃ σ1, kM_together N σ x = some (σ1, r) ∧ σ1.1 0 = 0 ∧ RFr σ σ1 := by
  refine b_of (x := fun S => kX_X1_together g N S xa x) hX (fun m w => ?_)
  have hO := hX.oc
  have hs := hO.spr
  have hN := hX.2.2.2.1
  have hT := hX.2.2.2.2.1
  have hV := hX.2.2.1.2.2.1.1
  have hC1 : σ.1 1 = nI (tC M).1 := hR.1.1.1
  have hRV : RowR (σ.2.2 31) 0 (tC M) (tV M) := hR.1.2.1
  obtain ⟨σ2, t1, t2, t3⟩ := r_try hN hR.1 hR.2.1 m (RFr.p0 σ 0)
  generalize tC M = C at *
  generalize tV M = V at *
  have z0 : (m_put σ 0 0).1 0 = 0 := mp_s _ _ _
  have z1 : (m_put σ 0 0).1 1 = nI C.1 := (mp_n _ _ _ (by decide)).trans hC1
  have hB := mBe_YN m hs.1 hV.1
  have fin0 : ∀ σ3, FrH 64 σ2 σ3 → σ3.1 0 = 0 ∧ RFr σ σ3 := fun σ3 h => ⟨(h.1 0 (by decide) (by decide)).trans ((t2.1 0 (by decide) (by decide)).trans z0), (RFr.p0 σ 0).trans (t2.r.trans h.r)⟩
  obtain ⟨m1, w1, hw⟩ := x_firstOf (m := m) (w := w) hO hN x (d := 200) (by omega) (by omega) hV.1
  obtain ⟨σ3, k1, k2, -⟩ := r_allTip hN x (k0 := 0) (d := 200) rfl (by omega) t3
  refine ⟨m1, w1, yAns (yFd C (pAll x) 200 1 (mBe m V)), ?_, σ3, ?_, fin0 σ3 k2⟩
  · show kX_X1_together g N (nset S ta xa m w) xa x = _
    unfold kX_X1_together
    exact ob1 (oc_cls hO) (ot1 (oc_some1 hO hx) (ob1 (oc_cls hO) (ob1 hw rfl)))
  · unfold kM_together
    exact onb rfl (ob1 (r_isSome1 z0 z1 hx.1 hx.2) (oif n10 (ob1 t1 (ob1 k1 rfl))))
theorem b_chorus (hX : XB g N xa oa n Z Ya Yh na ta cv la lh ra rh M T S) (hR : RB N M T σ) {x : Int32} {k : Nat} (hx : ¬ x < 0 ∧ ¬ ((1 : Int32) <<< (nI (tC M).1 &&& 31)) ≤ x) (h0 : 1 ≤ k) (hk : k ≤ 200) : ∃ S1 r, kX_X1_chorus g N S xa x (nI k) = some (.inl (S1, r)) ∧ KS xa ta oa n S S1 ∧ ∃ σ1, kM_chorus N σ x (nI k) = some (σ1, r) ∧ σ1.1 0 = 0 ∧ RFr σ σ1 := by
  refine b_of (x := fun S => kX_X1_chorus g N S xa x (nI k)) hX (fun m w => ?_)
  have hO := hX.oc
  have hs := hO.spr
  have hN := hX.2.2.2.1
  have hT := hX.2.2.2.2.1
  have hV := hX.2.2.1.2.2.1.1
  have hC1 : σ.1 1 = nI (tC M).1 := hR.1.1.1
  have hRV : RowR (σ.2.2 31) 0 (tC M) (tV M) := hR.1.2.1
  obtain ⟨σ2, t1, t2, t3⟩ := r_try hN hR.1 hR.2.1 m (RFr.p0 σ 0)
  generalize tC M = C at *
  generalize tV M = V at *
  have z0 : (m_put σ 0 0).1 0 = 0 := mp_s _ _ _
  have z1 : (m_put σ 0 0).1 1 = nI C.1 := (mp_n _ _ _ (by decide)).trans hC1
  have hB := mBe_YN m hs.1 hV.1
  have fin0 : ∀ σ3, FrH 64 σ2 σ3 → σ3.1 0 = 0 ∧ RFr σ σ3 := fun σ3 h => ⟨(h.1 0 (by decide) (by decide)).trans ((t2.1 0 (by decide) (by decide)).trans z0), (RFr.p0 σ 0).trans (t2.r.trans h.r)⟩
  let u : MN → Int32 → Nat → Int32 := fun m1 v _ => if pAll x m1 = true then v + 1 else v
  obtain ⟨f, w1, hw⟩ := x_acc (w := w) hO hN (fun f S v j => kX_X1_chorus_33 g N f S xa x (nI k) v (nI j)) u 0 0 k (by omega) (by omega) hB (fun f m1 w1 w2 v j h1 h2 _ _ h3 => by
    show kX_X1_chorus_33 g N (f + 1) (nset S ta xa m1 w1) xa x (nI k) v (nI j) = kX_X1_chorus_33 g N f (nset S ta xa (mPass C m1) w2) xa x (nI k) (if pAll x (mPass C m1) = true then v + 1 else v) (nI (j + 1))
    rw [kX_X1_chorus_33]
    refine oif (nI_ge (by omega) (by omega)) (ob1 (oc_ta hO) (ob1 (n_cls hO.1.1) (ob1 h3 (ob1 (n_int hO.1.1 (by decide)) ?_))))
    by_cases p : pAll x (mPass C m1) = true
    · rw [if_pos p]
      refine oit (pAll_t.mp p) ?_
      unfold kX_X1_chorus_59
      rw [nI_1]
    · rw [if_neg p]
      refine oif (fun z => p (pAll_t.mpr z)) ?_
      unfold kX_X1_chorus_59
      rw [nI_1])
  obtain ⟨f2, σ3, k1, k2, -⟩ := r_acc hN (fun f s v j => kM_chorus_34 N f s x (nI k) v (nI j)) u 0 0 k (by omega) (by omega) t3 (fun f s s1 m1 v j h1 h2 _ h3 h4 => by
    show kM_chorus_34 N (f + 1) s x (nI k) v (nI j) = kM_chorus_34 N f s1 x (nI k) (if pAll x (mPass C m1) = true then v + 1 else v) (nI (j + 1))
    rw [kM_chorus_34]
    refine oif (nI_ge (by omega) (by omega)) (ob1 h3 ?_)
    have e : ((s1.1 38) &&& x) = x ↔ pAll x (mPass C m1) = true := by rw [h4.2.2.2.1, ← y_all]; exact pAll_t.symm
    by_cases p : pAll x (mPass C m1) = true
    · rw [if_pos p]
      refine oit (e.mpr p) ?_
      unfold kM_chorus_62
      refine onb rfl ?_
      rw [nI_1]
    · rw [if_neg p]
      refine oif (fun z => p (e.mp z)) ?_
      unfold kM_chorus_62
      refine onb (Int32.add_zero v) ?_
      rw [nI_1])
  refine ⟨yRep (mPass C) k (mBe m V), w1, yAc C u (mBe m V) 0 0 k, ?_, σ3, ?_, fin0 σ3 k2⟩
  · show kX_X1_chorus g N (nset S ta xa m w) xa x (nI k) = _
    unfold kX_X1_chorus
    refine ob1 (oc_cls hO) (ot1 (oc_some1 hO hx) (ob1 (x_inN (a := 1) (b := 200) rfl rfl h0 hk (by decide)) (ot1 (x_right1 (by decide)) (ob1 (oc_ta hO) (ob1 (oc_na hO) (ob1 (n_cls hO.1.1) (ob1 (oc_be hO hN) (Eq.trans hw ?_))))))))
    show kX_X1_chorus_33 g N (f + 1) _ xa x (nI k) _ (nI (0 + k)) = _
    rw [kX_X1_chorus_33, Nat.zero_add]
    exact oit (nI_le (Nat.le_refl _) (by omega)) rfl
  · unfold kM_chorus
    refine onb rfl (ob1 (r_isSome1 z0 z1 hx.1 hx.2) (oif n10 (ob1 (r_isSoon1 z0 (a := 1) rfl h0 hk 1) (oif n10 (ob1 t1 (Eq.trans k1 ?_))))))
    show kM_chorus_34 N (f2 + 1) _ x (nI k) _ (nI (0 + k)) = _
    rw [kM_chorus_34, Nat.zero_add]
    exact oit (nI_le (Nat.le_refl _) (by omega)) rfl
theorem b_never (hX : XB g N xa oa n Z Ya Yh na ta cv la lh ra rh M T S) (hR : RB N M T σ) {k : Nat} (h0 : 1 ≤ k) (hk : k ≤ 200) : ∃ S1 r, kX_X1_never g N S xa (nI k) = some (.inl (S1, r)) ∧ KS xa ta oa n S S1 ∧ ∃ σ1, kM_never N σ (nI k) = some (σ1, r) ∧ σ1.1 0 = 0 ∧ RFr σ σ1 := by
  refine b_of (x := fun S => kX_X1_never g N S xa (nI k)) hX (fun m w => ?_)
  have hO := hX.oc
  have hs := hO.spr
  have hN := hX.2.2.2.1
  have hT := hX.2.2.2.2.1
  have hV := hX.2.2.1.2.2.1.1
  have hC1 : σ.1 1 = nI (tC M).1 := hR.1.1.1
  have hRV : RowR (σ.2.2 31) 0 (tC M) (tV M) := hR.1.2.1
  obtain ⟨σ2, t1, t2, t3⟩ := r_try hN hR.1 hR.2.1 m (RFr.p0 σ 0)
  generalize tC M = C at *
  generalize tV M = V at *
  have z0 : (m_put σ 0 0).1 0 = 0 := mp_s _ _ _
  have z1 : (m_put σ 0 0).1 1 = nI C.1 := (mp_n _ _ _ (by decide)).trans hC1
  have hB := mBe_YN m hs.1 hV.1
  have fin0 : ∀ σ3, FrH 64 σ2 σ3 → σ3.1 0 = 0 ∧ RFr σ σ3 := fun σ3 h => ⟨(h.1 0 (by decide) (by decide)).trans ((t2.1 0 (by decide) (by decide)).trans z0), (RFr.p0 σ 0).trans (t2.r.trans h.r)⟩
  let u : MN → Int32 → Nat → Int32 := fun m1 v _ => v &&& (yI m1 13 ^^^ (-1))
  obtain ⟨f, w1, hw⟩ := x_acc (w := w) hO hN (fun f S v j => kX_X1_never_37 g N f S xa (nI k) v (nI j)) u (((1 : Int32) <<< (nI C.1 &&& 31)) - 1) 0 k (by omega) (by omega) hB (fun f m1 w1 w2 v j h1 h2 _ _ h3 => by
    show kX_X1_never_37 g N (f + 1) (nset S ta xa m1 w1) xa (nI k) v (nI j) = kX_X1_never_37 g N f (nset S ta xa (mPass C m1) w2) xa (nI k) (v &&& (yI (mPass C m1) 13 ^^^ (-1))) (nI (j + 1))
    rw [kX_X1_never_37]
    refine oif (nI_ge (by omega) (by omega)) (ob1 (oc_ta hO) (ob1 (n_cls hO.1.1) (ob1 h3 (ob1 (n_int hO.1.1 (by decide)) (onb rfl ?_)))))
    rw [nI_1])
  obtain ⟨f2, σ3, k1, k2, -⟩ := r_acc hN (fun f s v j => kM_never_32 N f s (nI k) v (nI j)) u (((1 : Int32) <<< (nI C.1 &&& 31)) - 1) 0 k (by omega) (by omega) t3 (fun f s s1 m1 v j h1 h2 _ h3 h4 => by
    show kM_never_32 N (f + 1) s (nI k) v (nI j) = kM_never_32 N f s1 (nI k) (v &&& (yI (mPass C m1) 13 ^^^ (-1))) (nI (j + 1))
    rw [kM_never_32]
    refine oif (nI_ge (by omega) (by omega)) (ob1 h3 (onb (by rw [h4.2.2.2.1]) ?_))
    rw [nI_1])
  refine ⟨yRep (mPass C) k (mBe m V), w1, yAc C u (mBe m V) (((1 : Int32) <<< (nI C.1 &&& 31)) - 1) 0 k, ?_, σ3, ?_, fin0 σ3 k2⟩
  · show kX_X1_never g N (nset S ta xa m w) xa (nI k) = _
    unfold kX_X1_never
    refine ob1 (x_inN (a := 1) (b := 200) rfl rfl h0 hk (by decide)) (ot1 (x_right1 (by decide)) (oc_cups hO (onb rfl (ob1 (oc_ta hO) (ob1 (oc_na hO) (ob1 (n_cls hO.1.1) (ob1 (oc_be hO hN) (Eq.trans hw ?_))))))))
    show kX_X1_never_37 g N (f + 1) _ xa (nI k) _ (nI (0 + k)) = _
    rw [kX_X1_never_37, Nat.zero_add]
    exact oit (nI_le (Nat.le_refl _) (by omega)) rfl
  · unfold kM_never
    refine onb rfl (ob1 (r_isSoon1 z0 (a := 1) rfl h0 hk 1) (oif n10 (onb (v := ((1 : Int32) <<< (nI C.1 &&& 31)) - 1) (by show ((1 : Int32) <<< ((m_put σ 0 0).1 1 &&& 31)) - 1 = _; rw [z1]) (ob1 t1 (Eq.trans k1 ?_)))))
    show kM_never_32 N (f2 + 1) _ (nI k) _ (nI (0 + k)) = _
    rw [kM_never_32, Nat.zero_add]
    exact oit (nI_le (Nat.le_refl _) (by omega)) rfl
theorem b_swell (hX : XB g N xa oa n Z Ya Yh na ta cv la lh ra rh M T S) (hR : RB N M T σ) {c k : Nat} (hc : c < (tC M).1) (h0 : 0 ≤ k) (hk : k ≤ 200) : ∃ S1 r, kX_X1_swell g N S xa (nI c) (nI k) = some (.inl (S1, r)) ∧ KS xa ta oa n S S1 ∧ ∃ σ1, kM_swell N σ (nI c) (nI k) = some (σ1, r) ∧ σ1.1 0 = 0 ∧ RFr σ σ1 := by
  refine b_of (x := fun S => kX_X1_swell g N S xa (nI c) (nI k)) hX (fun m w => ?_)
  have hO := hX.oc
  have hs := hO.spr
  have hN := hX.2.2.2.1
  have hT := hX.2.2.2.2.1
  have hV := hX.2.2.1.2.2.1.1
  have hC1 : σ.1 1 = nI (tC M).1 := hR.1.1.1
  have hRV : RowR (σ.2.2 31) 0 (tC M) (tV M) := hR.1.2.1
  obtain ⟨σ2, t1, t2, t3⟩ := r_try hN hR.1 hR.2.1 m (RFr.p0 σ 0)
  generalize tC M = C at *
  generalize tV M = V at *
  have z0 : (m_put σ 0 0).1 0 = 0 := mp_s _ _ _
  have z1 : (m_put σ 0 0).1 1 = nI C.1 := (mp_n _ _ _ (by decide)).trans hC1
  have hB := mBe_YN m hs.1 hV.1
  have fin0 : ∀ σ3, FrH 64 σ2 σ3 → σ3.1 0 = 0 ∧ RFr σ σ3 := fun σ3 h => ⟨(h.1 0 (by decide) (by decide)).trans ((t2.1 0 (by decide) (by decide)).trans z0), (RFr.p0 σ 0).trans (t2.r.trans h.r)⟩
  let u : MN → Int32 → Nat → Int32 := fun m1 v _ => if v < iI (yA m1 1 c) then iI (yA m1 1 c) else v
  obtain ⟨f, w1, hw⟩ := x_acc (w := w) hO hN (fun f S v j => kX_X1_swell_41 g N f S xa (nI c) (nI k) v (nI j)) u (iI (yA V 1 c)) 0 k (by omega) (by omega) hB (fun f m1 w1 w2 v j h1 h2 _ _ h3 => by
    show kX_X1_swell_41 g N (f + 1) (nset S ta xa m1 w1) xa (nI c) (nI k) v (nI j) = kX_X1_swell_41 g N f (nset S ta xa (mPass C m1) w2) xa (nI c) (nI k) (if v < iI (yA (mPass C m1) 1 c) then iI (yA (mPass C m1) 1 c) else v) (nI (j + 1))
    rw [kX_X1_swell_41]
    refine oif (nI_ge (by omega) (by omega)) (ob1 (oc_ta hO) (ob1 (n_cls hO.1.1) (ob1 h3 (ob1 (n_obj hO.1.1 (by decide)) (ob1 (n_a hO.1.1 (by decide) (by omega)) (onb rfl ?_))))))
    rw [nI_1])
  obtain ⟨f2, σ3, k1, k2, -⟩ := r_acc hN (fun f s v j => kM_swell_42 N f s (nI c) (nI k) v (nI j)) u (iI (yA V 1 c)) 0 k (by omega) (by omega) t3 (fun f s s1 m1 v j h1 h2 _ h3 h4 => by
    show kM_swell_42 N (f + 1) s (nI c) (nI k) v (nI j) = kM_swell_42 N f s1 (nI c) (nI k) (if v < iI (yA (mPass C m1) 1 c) then iI (yA (mPass C m1) 1 c) else v) (nI (j + 1))
    rw [kM_swell_42]
    refine oif (nI_ge (by omega) (by omega)) (ob1 h3 (ob1 ((r_ld (q := 74 + c) (ix2 c 74 rfl) (by show _ < 128; omega)).trans (by rw [show 74 + c = 64 + 10 + c by omega, h4.1.row hc])) (ob1 (v := if v < iI (yA (mPass C m1) 1 c) then iI (yA (mPass C m1) 1 c) else v) ?_ ?_)))
    · unfold kM_greater
      by_cases p : v < iI (yA (mPass C m1) 1 c)
      · rw [if_pos p, if_pos (by rw [lt32] at p; rw [le32]; omega)]
      · rw [if_neg p]
        by_cases p2 : v ≤ iI (yA (mPass C m1) 1 c)
        · rw [if_pos p2]
          congr 1
          apply Int32.toInt_inj.mp
          rw [lt32] at p; rw [le32] at p2; omega
        · rw [if_neg p2]
    · rw [nI_1])
  refine ⟨yRep (mPass C) k (mBe m V), w1, yAc C u (mBe m V) (iI (yA V 1 c)) 0 k, ?_, σ3, ?_, fin0 σ3 k2⟩
  · show kX_X1_swell g N (nset S ta xa m w) xa (nI c) (nI k) = _
    unfold kX_X1_swell
    refine ob1 (oc_cls hO) (ot1 (oc_cup1 hO hc) (ob1 (x_inN (a := 0) (b := 200) rfl rfl h0 hk (by decide)) (ot1 (x_right1 (by decide)) (ob1 (oc_na hO) (ob1 (na_obj (oc_V hO) (by decide)) (ob1 (na_a (oc_V hO) (by decide) (by omega)) (ob1 (oc_ta hO) (ob1 (oc_na hO) (ob1 (n_cls hO.1.1) (ob1 (oc_be hO hN) (Eq.trans hw ?_)))))))))))
    show kX_X1_swell_41 g N (f + 1) _ xa (nI c) (nI k) _ (nI (0 + k)) = _
    rw [kX_X1_swell_41, Nat.zero_add]
    exact oit (nI_le (Nat.le_refl _) (by omega)) rfl
  · unfold kM_swell
    have hrow := (hRV.2 c hc).2.1
    refine onb rfl (ob1 (r_isCup1 z0 z1 hs.1 hc) (oif n10 (ob1 (r_isSoon1 z0 (a := 0) rfl h0 hk 2) (oif n10 (ob1 ((r_ld (q := 10 + c) (ix2 c 10 rfl) (by show _ < 128; omega)).trans (by show some (σ.2.2 31 (10 + c)) = some (iI (yA V 1 c)); rw [← hrow])) (ob1 t1 (Eq.trans k1 ?_)))))))
    show kM_swell_42 N (f2 + 1) _ (nI c) (nI k) _ (nI (0 + k)) = _
    rw [kM_swell_42, Nat.zero_add]
    exact oit (nI_le (Nat.le_refl _) (by omega)) rfl
end OB
theorem op_tipping {g : XC} {N xa oa i : Nat} (hN : 2 ^ 20 < N) (hi : i ≤ 378) : St_tipping (yRel g N xa oa i) (yRel g N xa oa (i + 6)) g N xa oa := by
  rintro a0 n sl τ σ ⟨M, Z, Ya, Yh, na, ta, cv, la, lh, ra, rh, hB⟩
  have hB : yBody g N xa oa i n Z Ya Yh na ta cv la lh ra rh M τ σ := hB
  generalize hcc : n + 14000 = cc
  generalize hkk : sl + 97000 = kk
  obtain ⟨hO, hr, hQ, hfr, hS⟩ := y_open hB sl cc kk (by omega) (by omega)
  have hX := y_xb (sl := sl) (c := cc) (k := kk) hB hN hi (by omega) (by omega)
  have hRB := y_rb hB hN hi
  have z0 : (m_put σ 0 0).1 0 = 0 := mp_s _ _ _
  have z1 : (m_put σ 0 0).1 1 = nI (tC M).1 := (mp_n _ _ _ (by decide)).trans hRB.1.1.1
  have h9 := hRB.2.1.1
  have hw : ∀ a0, kX_X0_tipping (jg g cc kk) N ((n, sl, cc, kk), τ) xa a0 oa = yW yH1 (kX_X1_tipping (jg g cc kk) N ((n, sl, cc, kk), τ) xa a0) oa := fun a0 => ob1 (f_cls_T hQ.2.1.1) rfl
  rw [hw]
  rcases y_rng 1 200 (by decide) a0 with ⟨k0, h0, h0', rfl⟩ | h0
  · -- fits
    obtain ⟨S1, r, hx, hks, hm⟩ := b_tipping hX hRB h0 h0'
    obtain ⟨σ1, hm1, hm2, hm3⟩ := hm
    exact fin_ok (c := cc) (k := kk) hB hx hks hm1 hm2 hm3
  · have hx : kX_X1_tipping (jg g cc kk) N ((n, sl, cc, kk), τ) xa a0 = some (.inr (((n, sl, cc, kk), τ), 1, 0)) := by
      rw [← hS]
      unfold kX_X1_tipping
      exact ob1 (x_in0 h0) (ot2 (x_right0 hr))
    have hm : kM_tipping N σ a0 = some (m_put (m_put σ 0 0) 0 1, 0) := by
      unfold kM_tipping
      exact onb rfl (ob1 (r_isSoon0 z0 (by decide) h0) (oit rfl rfl))
    exact fin_thr (c := cc) (k := kk) hB hx rfl (KS.refl hQ.2.1.2.2.2.1) hm (mp_s _ _ _) (by decide) (RFr.p00 _ _ _)
theorem op_next {g : XC} {N xa oa i : Nat} (hN : 2 ^ 20 < N) (hi : i ≤ 378) : St_next (yRel g N xa oa i) (yRel g N xa oa (i + 6)) g N xa oa := by
  rintro a0 n sl τ σ ⟨M, Z, Ya, Yh, na, ta, cv, la, lh, ra, rh, hB⟩
  have hB : yBody g N xa oa i n Z Ya Yh na ta cv la lh ra rh M τ σ := hB
  generalize hcc : n + 14000 = cc
  generalize hkk : sl + 97000 = kk
  obtain ⟨hO, hr, hQ, hfr, hS⟩ := y_open hB sl cc kk (by omega) (by omega)
  have hX := y_xb (sl := sl) (c := cc) (k := kk) hB hN hi (by omega) (by omega)
  have hRB := y_rb hB hN hi
  have z0 : (m_put σ 0 0).1 0 = 0 := mp_s _ _ _
  have z1 : (m_put σ 0 0).1 1 = nI (tC M).1 := (mp_n _ _ _ (by decide)).trans hRB.1.1.1
  have h9 := hRB.2.1.1
  have hw : ∀ a0, kX_X0_next (jg g cc kk) N ((n, sl, cc, kk), τ) xa a0 oa = yW yH0 (kX_X1_next (jg g cc kk) N ((n, sl, cc, kk), τ) xa a0) oa := fun a0 => ob1 (f_cls_T hQ.2.1.1) rfl
  rw [hw]
  rcases y_cup (tC M).1 (by omega) a0 with ⟨c0, h0, rfl⟩ | h0
  · -- fits
    obtain ⟨S1, r, hx, hks, hm⟩ := b_next hX hRB h0
    obtain ⟨σ1, hm1, hm2, hm3⟩ := hm
    exact fin_ok (c := cc) (k := kk) hB hx hks hm1 hm2 hm3
  · have hx : kX_X1_next (jg g cc kk) N ((n, sl, cc, kk), τ) xa a0 = some (.inr (((n, sl, cc, kk), τ), 0, 0)) := by
      rw [← hS]
      unfold kX_X1_next
      exact ob1 (oc_cls hO) (ot2 (oc_cup0 hO hr h0))
    have hm : kM_next N σ a0 = some (m_put (m_put σ 0 0) 0 1, 0) := by
      unfold kM_next
      exact onb rfl (ob1 (r_isCup0 z0 z1 h0) (oit rfl rfl))
    exact fin_thr (c := cc) (k := kk) hB hx rfl (KS.refl hQ.2.1.2.2.2.1) hm (mp_s _ _ _) (by decide) (RFr.p00 _ _ _)
theorem op_together {g : XC} {N xa oa i : Nat} (hN : 2 ^ 20 < N) (hi : i ≤ 378) : St_together (yRel g N xa oa i) (yRel g N xa oa (i + 6)) g N xa oa := by
  rintro a0 n sl τ σ ⟨M, Z, Ya, Yh, na, ta, cv, la, lh, ra, rh, hB⟩
  have hB : yBody g N xa oa i n Z Ya Yh na ta cv la lh ra rh M τ σ := hB
  generalize hcc : n + 14000 = cc
  generalize hkk : sl + 97000 = kk
  obtain ⟨hO, hr, hQ, hfr, hS⟩ := y_open hB sl cc kk (by omega) (by omega)
  have hX := y_xb (sl := sl) (c := cc) (k := kk) hB hN hi (by omega) (by omega)
  have hRB := y_rb hB hN hi
  have z0 : (m_put σ 0 0).1 0 = 0 := mp_s _ _ _
  have z1 : (m_put σ 0 0).1 1 = nI (tC M).1 := (mp_n _ _ _ (by decide)).trans hRB.1.1.1
  have h9 := hRB.2.1.1
  have hw : ∀ a0, kX_X0_together (jg g cc kk) N ((n, sl, cc, kk), τ) xa a0 oa = yW yH1 (kX_X1_together (jg g cc kk) N ((n, sl, cc, kk), τ) xa a0) oa := fun a0 => ob1 (f_cls_T hQ.2.1.1) rfl
  rw [hw]
  rcases y_some (tC M).1 h9 a0 with h0 | h0
  · -- fits
    obtain ⟨S1, r, hx, hks, hm⟩ := b_together hX hRB h0
    obtain ⟨σ1, hm1, hm2, hm3⟩ := hm
    exact fin_ok (c := cc) (k := kk) hB hx hks hm1 hm2 hm3
  · have hx : kX_X1_together (jg g cc kk) N ((n, sl, cc, kk), τ) xa a0 = some (.inr (((n, sl, cc, kk), τ), 1, 0)) := by
      rw [← hS]
      unfold kX_X1_together
      exact ob1 (oc_cls hO) (ot2 (oc_some0 hO hr h0))
    have hm : kM_together N σ a0 = some (m_put (m_put σ 0 0) 0 1, 0) := by
      unfold kM_together
      exact onb rfl (ob1 (r_isSome0 z0 z1 h0) (oit rfl rfl))
    exact fin_thr (c := cc) (k := kk) hB hx rfl (KS.refl hQ.2.1.2.2.2.1) hm (mp_s _ _ _) (by decide) (RFr.p00 _ _ _)
theorem op_chorus {g : XC} {N xa oa i : Nat} (hN : 2 ^ 20 < N) (hi : i ≤ 378) : St_chorus (yRel g N xa oa i) (yRel g N xa oa (i + 6)) g N xa oa := by
  rintro a0 a1 n sl τ σ ⟨M, Z, Ya, Yh, na, ta, cv, la, lh, ra, rh, hB⟩
  have hB : yBody g N xa oa i n Z Ya Yh na ta cv la lh ra rh M τ σ := hB
  generalize hcc : n + 14000 = cc
  generalize hkk : sl + 97000 = kk
  obtain ⟨hO, hr, hQ, hfr, hS⟩ := y_open hB sl cc kk (by omega) (by omega)
  have hX := y_xb (sl := sl) (c := cc) (k := kk) hB hN hi (by omega) (by omega)
  have hRB := y_rb hB hN hi
  have z0 : (m_put σ 0 0).1 0 = 0 := mp_s _ _ _
  have z1 : (m_put σ 0 0).1 1 = nI (tC M).1 := (mp_n _ _ _ (by decide)).trans hRB.1.1.1
  have h9 := hRB.2.1.1
  have hw : ∀ a0 a1, kX_X0_chorus (jg g cc kk) N ((n, sl, cc, kk), τ) xa a0 a1 oa = yW yH1 (kX_X1_chorus (jg g cc kk) N ((n, sl, cc, kk), τ) xa a0 a1) oa := fun a0 a1 => ob1 (f_cls_T hQ.2.1.1) rfl
  rw [hw]
  rcases y_some (tC M).1 h9 a0 with h0 | h0
  · -- fits
    rcases y_rng 1 200 (by decide) a1 with ⟨k1, h1, h1', rfl⟩ | h1
    · -- fits
      obtain ⟨S1, r, hx, hks, hm⟩ := b_chorus hX hRB h0 h1 h1'
      obtain ⟨σ1, hm1, hm2, hm3⟩ := hm
      exact fin_ok (c := cc) (k := kk) hB hx hks hm1 hm2 hm3
    · have hx : kX_X1_chorus (jg g cc kk) N ((n, sl, cc, kk), τ) xa a0 a1 = some (.inr (((n, sl, cc, kk), τ), 1, 0)) := by
        rw [← hS]
        unfold kX_X1_chorus
        exact ob1 (oc_cls hO) (ot1 (oc_some1 hO h0) (ob1 (x_in0 h1) (ot2 (x_right0 hr))))
      have hm : kM_chorus N σ a0 a1 = some (m_put (m_put σ 0 0) 0 1, 0) := by
        unfold kM_chorus
        exact onb rfl (ob1 (r_isSome1 z0 z1 h0.1 h0.2) (oif n10 (ob1 (r_isSoon0 z0 (by decide) h1) (oit rfl rfl))))
      exact fin_thr (c := cc) (k := kk) hB hx rfl (KS.refl hQ.2.1.2.2.2.1) hm (mp_s _ _ _) (by decide) (RFr.p00 _ _ _)
  · have hx : kX_X1_chorus (jg g cc kk) N ((n, sl, cc, kk), τ) xa a0 a1 = some (.inr (((n, sl, cc, kk), τ), 1, 0)) := by
      rw [← hS]
      unfold kX_X1_chorus
      exact ob1 (oc_cls hO) (ot2 (oc_some0 hO hr h0))
    have hm : kM_chorus N σ a0 a1 = some (m_put (m_put σ 0 0) 0 1, 0) := by
      unfold kM_chorus
      exact onb rfl (ob1 (r_isSome0 z0 z1 h0) (oit rfl rfl))
    exact fin_thr (c := cc) (k := kk) hB hx rfl (KS.refl hQ.2.1.2.2.2.1) hm (mp_s _ _ _) (by decide) (RFr.p00 _ _ _)
theorem op_never {g : XC} {N xa oa i : Nat} (hN : 2 ^ 20 < N) (hi : i ≤ 378) : St_never (yRel g N xa oa i) (yRel g N xa oa (i + 6)) g N xa oa := by
  rintro a0 n sl τ σ ⟨M, Z, Ya, Yh, na, ta, cv, la, lh, ra, rh, hB⟩
  have hB : yBody g N xa oa i n Z Ya Yh na ta cv la lh ra rh M τ σ := hB
  generalize hcc : n + 14000 = cc
  generalize hkk : sl + 97000 = kk
  obtain ⟨hO, hr, hQ, hfr, hS⟩ := y_open hB sl cc kk (by omega) (by omega)
  have hX := y_xb (sl := sl) (c := cc) (k := kk) hB hN hi (by omega) (by omega)
  have hRB := y_rb hB hN hi
  have z0 : (m_put σ 0 0).1 0 = 0 := mp_s _ _ _
  have z1 : (m_put σ 0 0).1 1 = nI (tC M).1 := (mp_n _ _ _ (by decide)).trans hRB.1.1.1
  have h9 := hRB.2.1.1
  have hw : ∀ a0, kX_X0_never (jg g cc kk) N ((n, sl, cc, kk), τ) xa a0 oa = yW yH1 (kX_X1_never (jg g cc kk) N ((n, sl, cc, kk), τ) xa a0) oa := fun a0 => ob1 (f_cls_T hQ.2.1.1) rfl
  rw [hw]
  rcases y_rng 1 200 (by decide) a0 with ⟨k0, h0, h0', rfl⟩ | h0
  · -- fits
    obtain ⟨S1, r, hx, hks, hm⟩ := b_never hX hRB h0 h0'
    obtain ⟨σ1, hm1, hm2, hm3⟩ := hm
    exact fin_ok (c := cc) (k := kk) hB hx hks hm1 hm2 hm3
  · have hx : kX_X1_never (jg g cc kk) N ((n, sl, cc, kk), τ) xa a0 = some (.inr (((n, sl, cc, kk), τ), 1, 0)) := by
      rw [← hS]
      unfold kX_X1_never
      exact ob1 (x_in0 h0) (ot2 (x_right0 hr))
    have hm : kM_never N σ a0 = some (m_put (m_put σ 0 0) 0 1, 0) := by
      unfold kM_never
      exact onb rfl (ob1 (r_isSoon0 z0 (by decide) h0) (oit rfl rfl))
    exact fin_thr (c := cc) (k := kk) hB hx rfl (KS.refl hQ.2.1.2.2.2.1) hm (mp_s _ _ _) (by decide) (RFr.p00 _ _ _)
theorem op_swell {g : XC} {N xa oa i : Nat} (hN : 2 ^ 20 < N) (hi : i ≤ 378) : St_swell (yRel g N xa oa i) (yRel g N xa oa (i + 6)) g N xa oa := by
  rintro a0 a1 n sl τ σ ⟨M, Z, Ya, Yh, na, ta, cv, la, lh, ra, rh, hB⟩
  have hB : yBody g N xa oa i n Z Ya Yh na ta cv la lh ra rh M τ σ := hB
  generalize hcc : n + 14000 = cc
  generalize hkk : sl + 97000 = kk
  obtain ⟨hO, hr, hQ, hfr, hS⟩ := y_open hB sl cc kk (by omega) (by omega)
  have hX := y_xb (sl := sl) (c := cc) (k := kk) hB hN hi (by omega) (by omega)
  have hRB := y_rb hB hN hi
  have z0 : (m_put σ 0 0).1 0 = 0 := mp_s _ _ _
  have z1 : (m_put σ 0 0).1 1 = nI (tC M).1 := (mp_n _ _ _ (by decide)).trans hRB.1.1.1
  have h9 := hRB.2.1.1
  have hw : ∀ a0 a1, kX_X0_swell (jg g cc kk) N ((n, sl, cc, kk), τ) xa a0 a1 oa = yW yH2 (kX_X1_swell (jg g cc kk) N ((n, sl, cc, kk), τ) xa a0 a1) oa := fun a0 a1 => ob1 (f_cls_T hQ.2.1.1) rfl
  rw [hw]
  rcases y_cup (tC M).1 (by omega) a0 with ⟨c0, h0, rfl⟩ | h0
  · -- fits
    rcases y_rng 0 200 (by decide) a1 with ⟨k1, h1, h1', rfl⟩ | h1
    · -- fits
      obtain ⟨S1, r, hx, hks, hm⟩ := b_swell hX hRB h0 h1 h1'
      obtain ⟨σ1, hm1, hm2, hm3⟩ := hm
      exact fin_ok (c := cc) (k := kk) hB hx hks hm1 hm2 hm3
    · have hx : kX_X1_swell (jg g cc kk) N ((n, sl, cc, kk), τ) xa (nI c0) a1 = some (.inr (((n, sl, cc, kk), τ), 1, 0)) := by
        rw [← hS]
        unfold kX_X1_swell
        exact ob1 (oc_cls hO) (ot1 (oc_cup1 hO h0) (ob1 (x_in0 h1) (ot2 (x_right0 hr))))
      have hm : kM_swell N σ (nI c0) a1 = some (m_put (m_put σ 0 0) 0 2, 0) := by
        unfold kM_swell
        exact onb rfl (ob1 (r_isCup1 z0 z1 h9 h0) (oif n10 (ob1 (r_isSoon0 z0 (by decide) h1) (oit rfl rfl))))
      exact fin_thr (c := cc) (k := kk) hB hx rfl (KS.refl hQ.2.1.2.2.2.1) hm (mp_s _ _ _) (by decide) (RFr.p00 _ _ _)
  · have hx : kX_X1_swell (jg g cc kk) N ((n, sl, cc, kk), τ) xa a0 a1 = some (.inr (((n, sl, cc, kk), τ), 0, 0)) := by
      rw [← hS]
      unfold kX_X1_swell
      exact ob1 (oc_cls hO) (ot2 (oc_cup0 hO hr h0))
    have hm : kM_swell N σ a0 a1 = some (m_put (m_put σ 0 0) 0 1, 0) := by
      unfold kM_swell
      exact onb rfl (ob1 (r_isCup0 z0 z1 h0) (oit rfl rfl))
    exact fin_thr (c := cc) (k := kk) hB hx rfl (KS.refl hQ.2.1.2.2.2.1) hm (mp_s _ _ _) (by decide) (RFr.p00 _ _ _)
