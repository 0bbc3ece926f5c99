/-! plain law: later, oftenest -/
/-- the first of the greatest -/
def gBst (d : Nat → Int) : Nat → Int
  | 0 => -1
  | k + 1 => if gBst d k = -1 then k else if d k ≤ d (gBst d k).toNat then gBst d k else k
theorem gBst_b (d : Nat → Int) (k : Nat) : (gBst d k = -1 ∧ k = 0) ∨ (0 ≤ gBst d k ∧ gBst d k < k) := by
  induction k with
  | zero => exact Or.inl ⟨rfl, rfl⟩
  | succ k ih =>
    right
    unfold gBst
    split
    · omega
    · split <;> omega
theorem gBst_c (d e : Nat → Int) (n : Nat) (h : ∀ k, k < n → d k = e k) : ∀ k, k ≤ n → gBst d k = gBst e k := by
  intro k
  induction k with
  | zero => intro _; rfl
  | succ k ih =>
    intro hk
    have hb := gBst_b e k
    unfold gBst
    rw [ih (by omega)]
    by_cases p : gBst e k = -1
    · rw [if_pos p, if_pos p]
    · rw [if_neg p, if_neg p, h k (by omega), h _ (by omega)]
def fDry (m : MN) : Nat → Int32
  | 0 => 0
  | k + 1 => if yA m 1 k = 0 then (fDry m k ||| ((1 : Int32) <<< (nI k &&& 31))) else fDry m k
theorem gB_enc {b : Int} {k : Nat} (h : (b = -1 ∧ k = 0) ∨ (0 ≤ b ∧ b < k)) (hk : k < 2 ^ 30) : (iI b = -1 ↔ b = -1) ∧ (b ≠ -1 → iI b = nI b.toNat ∧ b.toNat < k) := by
  refine ⟨?_, fun hb => ⟨?_, by omega⟩⟩
  · rw [show (-1 : Int32) = iI (-1) by decide]
    exact iI_eq ⟨by omega, by omega⟩ ⟨by decide, by decide⟩
  · rw [iI_nI]; congr 1; omega

section OE
variable {g : XC} {N xa oa n : Nat} {Z Ya Yh : Nat → Prop} {na ta cv la lh : Nat} {ra rh : List Nat} {M : MT} {T : Int} {S : XS} {σ : MS} {C : CC} {V m : MN} {w : Nat → Int32}

theorem x_fullest (hO : OC g Z S xa na ta C V) (hN : 2 ^ 20 < N) (hm : YG C m T) : kX_X3_fullest g N (nset S ta xa m w) ta = some (nset S ta xa m w, iI (gBst (yA m 1) C.1)) := by
  have h9 := hO.spr.1
  unfold kX_X3_fullest
  refine y_loop (fun f (v : Int) k => kX_X3_fullest_4 g N f (nset S ta xa m w) ta (iI v) (nI k)) C.1 (fun v k => k ≤ C.1 ∧ v = gBst (yA m 1) k) (fun r => r = some (nset S ta xa m w, iI (gBst (yA m 1) C.1))) ?_ ?_ C.1 N (-1) 0 (by omega) (by omega) ⟨by omega, rfl⟩
  · rintro f v k hk ⟨-, rfl⟩
    right
    refine ⟨gBst (yA m 1) (k + 1), ?_, by omega, rfl⟩
    have hb := gBst_b (yA m 1) k
    obtain ⟨e1, e2⟩ := gB_enc hb (by omega)
    show kX_X3_fullest_4 g N (f + 1) (nset S ta xa m w) ta (iI (gBst (yA m 1) k)) (nI k) = kX_X3_fullest_4 g N f (nset S ta xa m w) ta (iI (gBst (yA m 1) (k + 1))) (nI (k + 1))
    rw [kX_X3_fullest_4]
    refine n_cups hO.1 ?_
    show (if nI C.1 ≤ nI k then _ else _) = _
    refine oif (nI_ge hk (by omega)) ?_
    have e38 : kX_X3_fullest_38 g N (kX_X3_fullest_4 g N f) (nset S ta xa m w) ta (nI k) = kX_X3_fullest_4 g N f (nset S ta xa m w) ta (nI k) (nI (k + 1)) := by
      unfold kX_X3_fullest_38 kX_X3_fullest_40
      rw [nI_1]
    have hu : gBst (yA m 1) (k + 1) = if gBst (yA m 1) k = -1 then (k : Int) else if yA m 1 k ≤ yA m 1 (gBst (yA m 1) k).toNat then gBst (yA m 1) k else k := rfl
    by_cases p : gBst (yA m 1) k = -1
    · refine oit (e1.mpr p) (e38.trans ?_)
      rw [hu, if_pos p, iI_nI]
    · obtain ⟨e3, e4⟩ := e2 p
      obtain ⟨a0, a1, a2, a3, -⟩ := hm k hk
      obtain ⟨b0, b1, b2, b3, -⟩ := hm (gBst (yA m 1) k).toNat (by omega)
      refine oif (fun z => p (e1.mp z)) (ob1 (n_obj hO.1.1 (by decide)) (ob1 (n_a hO.1.1 (by decide) (by omega)) (ob1 (n_obj hO.1.1 (by decide)) (ob1 (by rw [e3]; exact n_a hO.1.1 (by decide) (by omega)) ?_))))
      have e5 := iI_le (a := yA m 1 k) (b := yA m 1 (gBst (yA m 1) k).toNat) ⟨by omega, by omega⟩ ⟨by omega, by omega⟩
      by_cases p2 : yA m 1 k ≤ yA m 1 (gBst (yA m 1) k).toNat
      · refine oit (e5.mpr p2) ?_
        unfold kX_X3_fullest_40
        rw [hu, if_neg p, if_pos p2, nI_1]
      · refine oif (fun z => p2 (e5.mp z)) (e38.trans ?_)
        rw [hu, if_neg p, if_neg p2, iI_nI]
  · rintro f v ⟨-, rfl⟩
    show kX_X3_fullest_4 g N (f + 1) (nset S ta xa m w) ta (iI (gBst (yA m 1) C.1)) (nI C.1) = _
    rw [kX_X3_fullest_4]
    refine n_cups hO.1 ?_
    show (if nI C.1 ≤ nI C.1 then _ else _) = _
    exact oit (nI_le (Nat.le_refl _) (by omega)) rfl
theorem x_dry (hO : OC g Z S xa na ta C V) (hN : 2 ^ 20 < N) (hm : YG C m T) : kX_X3_dry g N (nset S ta xa m w) ta = some (nset S ta xa m w, fDry m C.1) := by
  have h9 := hO.spr.1
  unfold kX_X3_dry
  refine y_loop (fun f (v : Int32) k => kX_X3_dry_4 g N f (nset S ta xa m w) ta v (nI k)) C.1 (fun v k => k ≤ C.1 ∧ v = fDry m k) (fun r => r = some (nset S ta xa m w, fDry m C.1)) ?_ ?_ C.1 N 0 0 (by omega) (by omega) ⟨by omega, rfl⟩
  · rintro f v k hk ⟨-, rfl⟩
    right
    refine ⟨fDry m (k + 1), ?_, by omega, rfl⟩
    show kX_X3_dry_4 g N (f + 1) (nset S ta xa m w) ta (fDry m k) (nI k) = kX_X3_dry_4 g N f (nset S ta xa m w) ta (fDry m (k + 1)) (nI (k + 1))
    rw [kX_X3_dry_4]
    refine n_cups hO.1 ?_
    show (if nI C.1 ≤ nI k then _ else _) = _
    refine oif (nI_ge hk (by omega)) (ob1 (n_obj hO.1.1 (by decide)) (ob1 (n_a hO.1.1 (by decide) (by omega)) ?_))
    obtain ⟨a0, a1, a2, a3, -⟩ := hm k hk
    have e5 := iI_eq (a := yA m 1 k) (b := 0) ⟨by omega, by omega⟩ ⟨by decide, by decide⟩
    have hu : fDry m (k + 1) = if yA m 1 k = 0 then (fDry m k ||| ((1 : Int32) <<< (nI k &&& 31))) else fDry m k := rfl
    by_cases p : yA m 1 k = 0
    · refine oit (e5.mpr p) (onb rfl ?_)
      unfold kX_X3_dry_33
      rw [hu, if_pos p, nI_1]
    · refine oif (fun z => p (e5.mp z)) ?_
      unfold kX_X3_dry_33
      rw [hu, if_neg p, nI_1]
  · rintro f v ⟨-, rfl⟩
    show kX_X3_dry_4 g N (f + 1) (nset S ta xa m w) ta (fDry m C.1) (nI C.1) = _
    rw [kX_X3_dry_4]
    refine n_cups hO.1 ?_
    show (if nI C.1 ≤ nI C.1 then _ else _) = _
    exact oit (nI_le (Nat.le_refl _) (by omega)) rfl
/-- the reference's best and dry cups -/
theorem r_later69 (hN : 2 ^ 20 < N) (h : RS N σ C m T) (q : Nat) (hq : q ≤ 2) (x3 : Int32) : kM_later_69 N N σ (nI q) x3 (-1) 0 0 = some (σ, if q = 0 then iI (gBst (yA m 1) C.1) else if q = 1 then fDry m C.1 else x3) := by
  have h9 := h.1.1
  have hm := h.2.2.2.2.1
  refine y_loop (fun f (v : Int × Int32) k => kM_later_69 N f σ (nI q) x3 (iI v.1) v.2 (nI k)) C.1 (fun v k => k ≤ C.1 ∧ v = (gBst (yA m 1) k, fDry m k)) (fun r => r = some (σ, if q = 0 then iI (gBst (yA m 1) C.1) else if q = 1 then fDry m C.1 else x3)) ?_ ?_ C.1 N (-1, 0) 0 (by omega) (by omega) ⟨by omega, rfl⟩
  · rintro f v k hk ⟨-, rfl⟩
    right
    refine ⟨(gBst (yA m 1) (k + 1), fDry m (k + 1)), ?_, by omega, rfl⟩
    have hb := gBst_b (yA m 1) k
    obtain ⟨e1, e2⟩ := gB_enc hb (by omega)
    show kM_later_69 N (f + 1) σ (nI q) x3 (iI (gBst (yA m 1) k)) (fDry m k) (nI k) = kM_later_69 N f σ (nI q) x3 (iI (gBst (yA m 1) (k + 1))) (fDry m (k + 1)) (nI (k + 1))
    rw [kM_later_69]
    refine oif (by rw [h.2.1.1]; exact nI_ge hk (by omega)) ?_
    obtain ⟨a0, a1, a2, a3, -⟩ := hm k hk
    have hld : ∀ j, j < C.1 → m_ld σ 31 (74 + nI j) = some (iI (yA m 1 j)) := fun j hj => (r_ld (q := 74 + j) (ix2 j 74 rfl) (by show _ < 128; omega)).trans (by rw [show 74 + j = 64 + 10 + j by omega, h.row hj])
    have e111 : ∀ b : Int32, kM_later_111 N (kM_later_69 N f) σ (nI q) x3 b (fDry m k) (nI k) = kM_later_69 N f σ (nI q) x3 b (fDry m (k + 1)) (nI (k + 1)) := fun b => by
      unfold kM_later_111
      refine ob1 (hld k hk) ?_
      have e5 := iI_eq (a := yA m 1 k) (b := 0) ⟨by omega, by omega⟩ ⟨by decide, by decide⟩
      have hu : fDry m (k + 1) = if yA m 1 k = 0 then (fDry m k ||| ((1 : Int32) <<< (nI k &&& 31))) else fDry m k := rfl
      by_cases p : yA m 1 k = 0
      · refine oit (e5.mpr p) ?_
        unfold kM_later_134
        refine onb rfl ?_
        rw [hu, if_pos p, nI_1]
      · refine oif (fun z => p (e5.mp z)) ?_
        unfold kM_later_134
        refine onb Int32.or_zero ?_
        rw [hu, if_neg p, nI_1]
    have hu : gBst (yA m 1) (k + 1) = if gBst (yA m 1) k = -1 then (k : Int) else if yA m 1 k ≤ yA m 1 (gBst (yA m 1) k).toNat then gBst (yA m 1) k else k := rfl
    by_cases p : gBst (yA m 1) k = -1
    · refine oit (e1.mpr p) ?_
      unfold kM_later_107
      rw [e111, hu, if_pos p, iI_nI k]
    · obtain ⟨e3, e4⟩ := e2 p
      obtain ⟨b0, b1, b2, b3, -⟩ := hm (gBst (yA m 1) k).toNat (by omega)
      refine oif (fun z => p (e1.mp z)) (ob1 (hld k hk) (ob1 (by rw [e3]; exact hld _ (by omega)) ?_))
      have e5 := iI_le (a := yA m 1 k) (b := yA m 1 (gBst (yA m 1) k).toNat) ⟨by omega, by omega⟩ ⟨by omega, by omega⟩
      by_cases p2 : yA m 1 k ≤ yA m 1 (gBst (yA m 1) k).toNat
      · refine oit (e5.mpr p2) ((e111 _).trans ?_)
        rw [hu, if_neg p, if_pos p2]
      · refine oif (fun z => p2 (e5.mp z)) ?_
        unfold kM_later_107
        rw [e111, hu, if_neg p, if_neg p2, iI_nI k]
  · rintro f v ⟨-, rfl⟩
    show kM_later_69 N (f + 1) σ (nI q) x3 (iI (gBst (yA m 1) C.1)) (fDry m C.1) (nI C.1) = _
    rw [kM_later_69]
    refine oit (by rw [h.2.1.1]; exact nI_le (Nat.le_refl _) (by omega)) ?_
    have hq2 : q = 0 ∨ q = 1 ∨ q = 2 := by omega
    rcases hq2 with rfl | rfl | rfl <;> rfl
theorem b_later (hX : XB g N xa oa n Z Ya Yh na ta cv la lh ra rh M T S) (hR : RB N M T σ) {k q : Nat} (hq : q ≤ 2) (h0 : 0 ≤ k) (hk : k ≤ 200) : ∃ S1 r, kX_X1_later g N S xa (nI k) (nI q) = some (.inl (S1, r)) ∧ KS xa ta oa n S S1 ∧ ∃ σ1, kM_later N σ (nI k) (nI q) = some (σ1, r) ∧ σ1.1 0 = 0 ∧ RFr σ σ1 := by
  refine b_of (x := fun S => kX_X1_later g N S xa (nI k) (nI q)) hX (fun m w => ?_)
  have hO := hX.oc
  have hs := hO.spr
  have hN := hX.2.2.2.1
  have hT := hX.2.2.2.2.1
  have hV := hX.2.2.1.2.2.1.1
  have hC1 : σ.1 1 = nI (tC M).1 := hR.1.1.1
  have hRV : RowR (σ.2.2 31) 0 (tC M) (tV M) := hR.1.2.1
  obtain ⟨σ2, t1, t2, t3⟩ := r_try hN hR.1 hR.2.1 m (RFr.p0 σ 0)
  generalize tC M = C at *
  generalize tV M = V at *
  have z0 : (m_put σ 0 0).1 0 = 0 := mp_s _ _ _
  have z1 : (m_put σ 0 0).1 1 = nI C.1 := (mp_n _ _ _ (by decide)).trans hC1
  have hB := mBe_YN m hs.1 hV.1
  have fin0 : ∀ σ3, FrH 64 σ2 σ3 → σ3.1 0 = 0 ∧ RFr σ σ3 := fun σ3 h => ⟨(h.1 0 (by decide) (by decide)).trans ((t2.1 0 (by decide) (by decide)).trans z0), (RFr.p0 σ 0).trans (t2.r.trans h.r)⟩
  obtain ⟨w1, hw⟩ := oc_tryOn (m := m) (w := w) hO hN (n := k) (by omega) (by omega) hV.1
  have hYk := mPasses_YN hs.2 hs.1 hB k (by omega)
  generalize hmk : yRep (mPass C) k (mBe m V) = mk at *
  refine ⟨mk, w1, if q = 0 then iI (gBst (yA mk 1) C.1) else if q = 1 then fDry mk C.1 else yI mk 14, ?_, ?_⟩
  · show kX_X1_later g N (nset S ta xa m w) xa (nI k) (nI q) = _
    unfold kX_X1_later
    refine ot1 (x_oneOf1 (b := 2) rfl hq (by decide)) (ob1 (x_inN (a := 0) (b := 200) rfl rfl h0 hk (by decide)) (ot1 (x_right1 (by decide)) (ob1 (oc_cls hO) (ob1 hw ?_))))
    have hq2 : q = 0 ∨ q = 1 ∨ q = 2 := by omega
    rcases hq2 with rfl | rfl | rfl
    · exact oit rfl (ob1 (oc_ta hO) (ob1 (n_cls hO.1.1) (ob1 (x_fullest hO hN hYk.1) rfl)))
    · exact oif (by decide) (oit rfl (ob1 (oc_ta hO) (ob1 (n_cls hO.1.1) (ob1 (x_dry hO hN hYk.1) rfl))))
    · exact oif (by decide) (oif (by decide) (ob1 (oc_ta hO) (ob1 (n_int hO.1.1 (by decide)) rfl)))
  · have key : ∃ σ1, kM_later_35 N N σ2 (nI k) (nI q) 0 0 = some (σ1, if q = 0 then iI (gBst (yA mk 1) C.1) else if q = 1 then fDry mk C.1 else yI mk 14) ∧ FrH 64 σ2 σ1 := by
      refine y_loop (fun f (s : MS × Int32) j => kM_later_35 N f s.1 (nI k) (nI q) s.2 (nI j)) k (fun s j => j ≤ k ∧ FrH 64 σ2 s.1 ∧ RS N s.1 C (yRep (mPass C) j (mBe m V)) (T + 40000 * j) ∧ s.2 = yI (yRep (mPass C) j (mBe m V)) 14) (fun r => ∃ σ1, r = some (σ1, if q = 0 then iI (gBst (yA mk 1) C.1) else if q = 1 then fDry mk C.1 else yI mk 14) ∧ FrH 64 σ2 σ1) ?_ ?_ k N (σ2, 0) 0 (by omega) (by omega) ⟨by omega, FrH.refl _ _, by simpa [yRep] using t3, (mBe_0 m V 14 (by omega)).symm⟩
      · rintro f ⟨s, v⟩ j hj ⟨-, p1, p2, p3⟩
        have p3 : v = yI (yRep (mPass C) j (mBe m V)) 14 := p3
        right
        obtain ⟨s1, q1, q2, q3, q4, q5, q6⟩ := r_go hN p2 (by omega)
        refine ⟨(s1, yI (yRep (mPass C) (j + 1) (mBe m V)) 14), ?_, by omega, p1.trans q2, ?_, rfl⟩
        · show kM_later_35 N (f + 1) s (nI k) (nI q) v (nI j) = kM_later_35 N f s1 (nI k) (nI q) _ (nI (j + 1))
          rw [kM_later_35]
          refine oif (nI_ge hj (by omega)) (ob1 q1 (onb (v := yI (yRep (mPass C) (j + 1) (mBe m V)) 14) ?_ ?_))
          · rw [q6, p3, Int32.add_comm, Int32.sub_add_cancel]; rfl
          · rw [nI_1]
        · have e : T + 40000 * ((j + 1 : Nat) : Int) = T + 40000 * (j : Int) + 40000 := by omega
          rw [e]
          exact q3
      · rintro f ⟨s, v⟩ ⟨-, p1, p2, p3⟩
        have p3 : v = yI (yRep (mPass C) k (mBe m V)) 14 := p3
        have p2 : RS N s C (yRep (mPass C) k (mBe m V)) (T + 40000 * k) := p2
        rw [hmk] at p2 p3
        refine ⟨s, ?_, p1⟩
        show kM_later_35 N (f + 1) s (nI k) (nI q) v (nI k) = _
        rw [kM_later_35, p3]
        exact oit (nI_le (Nat.le_refl _) (by omega)) (r_later69 hN p2 q hq _)
    obtain ⟨σ3, k1, k2⟩ := key
    refine ⟨σ3, ?_, fin0 σ3 k2⟩
    unfold kM_later
    exact onb rfl (ob1 (r_isWhat1 z0 (b := 2) rfl hq (by decide)) (oif n10 (ob1 (r_isSoon1 z0 (a := 0) rfl h0 hk 2) (oif n10 (ob1 t1 k1)))))
theorem RS.s42 (h : RS N σ C m T) (q : Nat) (v : Int32) : RS N (rS σ 42 q v) C m T := by
  obtain ⟨a1, ⟨b1, b2, b3, b4⟩, a3, a4, a5⟩ := h
  refine ⟨a1, ⟨b1, fun k hk => ?_, ?_, ?_⟩, ?_, a4, a5⟩
  · rw [rS_ne _ _ _ _ (by decide)]; exact b2 k hk
  · rw [rS_ne _ _ _ _ (by decide)]; exact b3
  · rw [rS_ne _ _ _ _ (by decide)]; exact b4
  · rw [rS_ne _ _ _ _ (by decide)]; exact a3
theorem b_oftenest (hX : XB g N xa oa n Z Ya Yh na ta cv la lh ra rh M T S) (hR : RB N M T σ) {k : Nat} (h0 : 1 ≤ k) (hk : k ≤ 200) : ∃ S1 r, kX_X1_oftenest g N S xa (nI k) = some (.inl (S1, r)) ∧ KS xa ta oa n S S1 ∧ ∃ σ1, kM_oftenest N σ (nI k) = some (σ1, r) ∧ σ1.1 0 = 0 ∧ RFr σ σ1 := by
  refine b_of (x := fun S => kX_X1_oftenest g N S xa (nI k)) hX (fun m w => ?_)
  have hO := hX.oc
  have hs := hO.spr
  have hN := hX.2.2.2.1
  have hT := hX.2.2.2.2.1
  have hV := hX.2.2.1.2.2.1.1
  have hC1 : σ.1 1 = nI (tC M).1 := hR.1.1.1
  have hRV : RowR (σ.2.2 31) 0 (tC M) (tV M) := hR.1.2.1
  obtain ⟨σ2, t1, t2, t3⟩ := r_try hN hR.1 hR.2.1 m (RFr.p0 σ 0)
  have hRX : ∀ s, RFr σ s → ∃ s2, kM_tries N s = some s2 ∧ FrH 64 s s2 ∧ RS N s2 (tC M) (mBe m (tV M)) T := fun s hs => r_try hN hR.1 hR.2.1 m hs
  generalize tC M = C at *
  generalize tV M = V at *
  have z0 : (m_put σ 0 0).1 0 = 0 := mp_s _ _ _
  have z1 : (m_put σ 0 0).1 1 = nI C.1 := (mp_n _ _ _ (by decide)).trans hC1
  have hB := mBe_YN m hs.1 hV.1
  have fin0 : ∀ σ3, FrH 64 σ2 σ3 → σ3.1 0 = 0 ∧ RFr σ σ3 := fun σ3 h => ⟨(h.1 0 (by decide) (by decide)).trans ((t2.1 0 (by decide) (by decide)).trans z0), (RFr.p0 σ 0).trans (t2.r.trans h.r)⟩
  obtain ⟨w1, hw⟩ := oc_tryOn (m := m) (w := w) hO hN (n := k) (by omega) (by omega) hV.1
  have hYk := mPasses_YN hs.2 hs.1 hB k (by omega)
  have hm0 : ∀ c, c < C.1 → yA (mBe m V) 2 c = yA V 2 c := fun c hc => by rw [mBe_A _ _ (by omega), if_pos (by decide)]
  let d : Nat → Nat → Int := fun j c => yA (yRep (mPass C) j (mBe m V)) 2 c - yA V 2 c
  have hd : ∀ j, j ≤ k → ∀ c, c < C.1 → 0 ≤ d j c ∧ d j c ≤ 40000 * j := fun j hj c hc => by
    have h1 := mTips hs hB hc j (by omega)
    rw [hm0 c hc] at h1
    exact ⟨h1.2, h1.1⟩
  refine ⟨yRep (mPass C) k (mBe m V), w1, iI (gBst (d k) C.1), ?_, ?_⟩
  · show kX_X1_oftenest g N (nset S ta xa m w) xa (nI k) = _
    unfold kX_X1_oftenest
    refine ob1 (x_inN (a := 1) (b := 200) rfl rfl h0 hk (by decide)) (ot1 (x_right1 (by decide)) (ob1 (oc_cls hO) (ob1 hw ?_)))
    refine y_loop (fun f (v : Int × Int) j => kX_X1_oftenest_24 g N f (nset S ta xa (yRep (mPass C) k (mBe m V)) w1) xa (iI v.1) (iI v.2) (nI j)) C.1 (fun v j => j ≤ C.1 ∧ v.1 = gBst (d k) j ∧ v.2 = if gBst (d k) j = -1 then -1 else d k (gBst (d k) j).toNat) (fun r => r = some (.inl (nset S ta xa (yRep (mPass C) k (mBe m V)) w1, iI (gBst (d k) C.1)))) ?_ ?_ C.1 N (-1, -1) 0 (by omega) (by omega) ⟨by omega, rfl, rfl⟩
    · rintro f ⟨b, mo⟩ j hj ⟨-, p1, p2⟩
      have p1 : b = gBst (d k) j := p1
      have p2 : mo = if gBst (d k) j = -1 then -1 else d k (gBst (d k) j).toNat := p2
      right
      have hb := gBst_b (d k) j
      have hdj := hd k (Nat.le_refl _) j hj
      have hmo : mo = -1 ∧ gBst (d k) j = -1 ∨ 0 ≤ mo ∧ mo ≤ 40000 * k ∧ gBst (d k) j ≠ -1 ∧ mo = d k (gBst (d k) j).toNat := by
        rw [p2]
        by_cases q : gBst (d k) j = -1
        · rw [if_pos q]; exact Or.inl ⟨rfl, q⟩
        · rw [if_neg q]
          have := hd k (Nat.le_refl _) (gBst (d k) j).toNat (by omega)
          exact Or.inr ⟨this.1, this.2, q, rfl⟩
      have hu : gBst (d k) (j + 1) = if gBst (d k) j = -1 then (j : Int) else if d k j ≤ d k (gBst (d k) j).toNat then gBst (d k) j else j := rfl
      refine ⟨(gBst (d k) (j + 1), if gBst (d k) (j + 1) = -1 then -1 else d k (gBst (d k) (j + 1)).toNat), ?_, by omega, rfl, rfl⟩
      show kX_X1_oftenest_24 g N (f + 1) _ xa (iI b) (iI mo) (nI j) = kX_X1_oftenest_24 g N f _ xa (iI (gBst (d k) (j + 1))) (iI (if gBst (d k) (j + 1) = -1 then -1 else d k (gBst (d k) (j + 1)).toNat)) (nI (j + 1))
      rw [kX_X1_oftenest_24]
      refine oc_cups hO ?_
      show (if nI C.1 ≤ nI j then _ else _) = _
      refine oif (nI_ge hj (by omega)) (ob1 (oc_ta hO) (ob1 (n_obj hO.1.1 (by decide)) (ob1 (n_a hO.1.1 (by decide) (by omega)) (ob1 (oc_na hO) (ob1 (na_obj (oc_V hO) (by decide)) (ob1 (na_a (oc_V hO) (by decide) (by omega)) (onb (iI_sub _ _) ?_)))))))
      have e5 := iI_lt (a := mo) (b := d k j) ⟨by omega, by omega⟩ ⟨by omega, by omega⟩
      by_cases q : mo < d k j
      · refine oit (e5.mpr q) ?_
        unfold kX_X1_oftenest_74
        have e6 : gBst (d k) (j + 1) = j := by
          rw [hu]
          rcases hmo with ⟨m1, m2⟩ | ⟨m1, m2, m3, m4⟩
          · rw [if_pos m2]
          · rw [if_neg m3, if_neg (by omega)]
        rw [e6, if_neg (by omega), nI_1, iI_nI j, show ((j : Int)).toNat = j by omega]
      · refine oif (fun z => q (e5.mp z)) ?_
        unfold kX_X1_oftenest_74
        have e6 : gBst (d k) (j + 1) = gBst (d k) j := by
          rw [hu]
          rcases hmo with ⟨m1, m2⟩ | ⟨m1, m2, m3, m4⟩
          · omega
          · rw [if_neg m3, if_pos (by omega)]
        rw [e6, nI_1, ← p1, p2, p1]
    · rintro f ⟨b, mo⟩ ⟨-, p1, -⟩
      have p1 : b = gBst (d k) C.1 := p1
      show kX_X1_oftenest_24 g N (f + 1) _ xa (iI b) (iI mo) (nI C.1) = _
      rw [kX_X1_oftenest_24]
      refine oc_cups hO ?_
      show (if nI C.1 ≤ nI C.1 then _ else _) = _
      rw [← p1]
      exact oit (nI_le (Nat.le_refl _) (by omega)) rfl
  · -- the reference: the row is cleared, then gathers
    have hR0 := hR
    have key : ∃ σ1, kM_oftenest_19 N N (m_put σ 0 0) (nI k) 0 = some (σ1, iI (gBst (d k) C.1)) ∧ RFr σ σ1 ∧ σ1.1 0 = 0 := by
      refine y_loop (fun f (s : MS) j => kM_oftenest_19 N f s (nI k) (nI j)) 9 (fun s j => RFr σ s ∧ s.1 = (m_put σ 0 0).1 ∧ ∀ c, c < j → s.2.2 42 c = 0) (fun r => ∃ σ1, r = some (σ1, iI (gBst (d k) C.1)) ∧ RFr σ σ1 ∧ σ1.1 0 = 0) ?_ ?_ 9 N (m_put σ 0 0) 0 (by omega) (by omega) ⟨RFr.p0 σ 0, rfl, fun c hc => by omega⟩
      · rintro f s j hj ⟨p1, p2, p3⟩
        right
        refine ⟨rS s 42 j 0, ?_, p1.trans (RFr.s _ _ _ _ (Or.inl (by decide))), p2, fun c hc => ?_⟩
        · show kM_oftenest_19 N (f + 1) s (nI k) (nI j) = kM_oftenest_19 N f (rS s 42 j 0) (nI k) (nI (j + 1))
          rw [kM_oftenest_19]
          refine oif (nI_ge (b := 9) hj (by decide)) (ob1 (r_st (q := j) rfl (by show _ < 9; omega)) ?_)
          rw [nI_1]
        · rw [rS_get]
          by_cases e : c = j
          · rw [if_pos ⟨rfl, e⟩]
          · rw [if_neg (fun z => e z.2)]; exact p3 c (by omega)
      · rintro f s ⟨p1, p2, p3⟩
        obtain ⟨s2, u1, u2, u3⟩ := hRX s p1
        have e42 : s2.2.2 42 = s.2.2 42 := u2.2.2.1 42 (by decide) (by decide) (by decide) (by decide) (by decide)
        have s20 : s2.1 0 = 0 := (u2.1 0 (by decide) (by decide)).trans ((congrFun p2 0).trans z0)
        have loop : ∃ σ1, kM_oftenest_44 N N s2 (nI k) 0 = some (σ1, iI (gBst (d k) C.1)) ∧ RFr σ σ1 ∧ σ1.1 0 = 0 := by
          refine y_loop (fun f (s : MS) j => kM_oftenest_44 N f s (nI k) (nI j)) k (fun s j => j ≤ k ∧ RFr σ s ∧ s.1 0 = 0 ∧ RS N s C (yRep (mPass C) j (mBe m V)) (T + 40000 * j) ∧ ∀ c, c < C.1 → s.2.2 42 c = iI (d j c)) (fun r => ∃ σ1, r = some (σ1, iI (gBst (d k) C.1)) ∧ RFr σ σ1 ∧ σ1.1 0 = 0) ?_ ?_ k N s2 0 (by omega) (by omega) ⟨by omega, p1.trans u2.r, s20, by simpa [yRep] using u3, fun c hc => ?_⟩
          · rintro f s j hj ⟨-, a1, a2, a3, a4⟩
            obtain ⟨s1, q1, q2, q3, q4, q5, q6⟩ := r_go hN a3 (by omega)
            have b42 : s1.2.2 42 = s.2.2 42 := q2.2.2.1 42 (by decide) (by decide) (by decide) (by decide) (by decide)
            have q3' : RS N s1 C (yRep (mPass C) (j + 1) (mBe m V)) (T + 40000 * ((j + 1 : Nat) : Int)) := q3.le (by omega)
            have inner : ∃ s5, kM_oftenest_57 N (kM_oftenest_44 N f) N s1 (nI k) (nI j) 0 = kM_oftenest_44 N f s5 (nI k) (nI (j + 1)) ∧ RFr σ s5 ∧ s5.1 0 = 0 ∧ RS N s5 C (yRep (mPass C) (j + 1) (mBe m V)) (T + 40000 * ((j + 1 : Nat) : Int)) ∧ ∀ c, c < C.1 → s5.2.2 42 c = iI (d (j + 1) c) := by
              refine y_loop (fun f' (s : MS) i => kM_oftenest_57 N (kM_oftenest_44 N f) f' s (nI k) (nI j) (nI i)) C.1 (fun s i => i ≤ C.1 ∧ RFr σ s ∧ s.1 0 = 0 ∧ RS N s C (yRep (mPass C) (j + 1) (mBe m V)) (T + 40000 * ((j + 1 : Nat) : Int)) ∧ (∀ c, c < C.1 → s.2.2 42 c = if c < i then iI (d (j + 1) c) else iI (d j c)) ∧ ∀ c, c < C.1 → s.2.2 37 c = iI (yA (yRep (mPass C) (j + 1) (mBe m V)) 12 c)) (fun r => ∃ s5, r = kM_oftenest_44 N f s5 (nI k) (nI (j + 1)) ∧ RFr σ s5 ∧ s5.1 0 = 0 ∧ RS N s5 C (yRep (mPass C) (j + 1) (mBe m V)) (T + 40000 * ((j + 1 : Nat) : Int)) ∧ ∀ c, c < C.1 → s5.2.2 42 c = iI (d (j + 1) c)) ?_ ?_ C.1 N s1 0 (by omega) (by omega) ⟨by omega, a1.trans q2.r, (q2.1 0 (by decide) (by decide)).trans a2, q3', fun c hc => by rw [b42, if_neg (by omega)]; exact a4 c hc, q4⟩
              · rintro f' s i hi ⟨-, c1, c2, c3, c4, c5⟩
                right
                have h2 := mPass_2 hs.2 hs.1 (by omega) a3.2.2.2.2 hi
                refine ⟨rS s 42 i (iI (d (j + 1) i)), ?_, by omega, c1.trans (RFr.s _ _ _ _ (Or.inl (by decide))), c2, c3.s42 _ _, fun c hc => ?_, fun c hc => by rw [rS_ne _ _ _ _ (by decide)]; exact c5 c hc⟩
                · show kM_oftenest_57 N (kM_oftenest_44 N f) (f' + 1) s (nI k) (nI j) (nI i) = kM_oftenest_57 N (kM_oftenest_44 N f) f' (rS s 42 i (iI (d (j + 1) i))) (nI k) (nI j) (nI (i + 1))
                  rw [kM_oftenest_57]
                  refine oif (by rw [c3.2.1.1]; exact nI_ge hi (by omega)) (ob1 ((r_ld (q := i) rfl (by show _ < 9; omega)).trans (by rw [c4 i hi, if_neg (by omega)])) (ob1 ((r_ld (q := i) rfl (by show _ < 9; omega)).trans (by rw [c5 i hi])) ?_))
                  rw [iI_add]
                  have e : d j i + yA (yRep (mPass C) (j + 1) (mBe m V)) 12 i = d (j + 1) i := by
                    show yA (yRep (mPass C) j (mBe m V)) 2 i - yA V 2 i + yA (mPass C (yRep (mPass C) j (mBe m V))) 12 i = yA (mPass C (yRep (mPass C) j (mBe m V))) 2 i - yA V 2 i
                    rw [h2.1]; omega
                  rw [e]
                  refine ob1 (r_st (q := i) rfl (by show _ < 9; omega)) ?_
                  rw [nI_1]
                · rw [rS_get]
                  by_cases e : c = i
                  · rw [if_pos ⟨rfl, e⟩, if_pos (by omega), e]
                  · rw [if_neg (fun z => e z.2), c4 c hc]
                    by_cases e2 : c < i
                    · rw [if_pos e2, if_pos (by omega)]
                    · rw [if_neg e2, if_neg (by omega)]
              · rintro f' s ⟨-, c1, c2, c3, c4, c5⟩
                refine ⟨s, ?_, c1, c2, c3, fun c hc => by rw [c4 c hc, if_pos hc]⟩
                show kM_oftenest_57 N (kM_oftenest_44 N f) (f' + 1) s (nI k) (nI j) (nI C.1) = _
                rw [kM_oftenest_57]
                refine oit (by rw [c3.2.1.1]; exact nI_le (Nat.le_refl _) (by omega)) ?_
                rw [nI_1]
            obtain ⟨s5, i1, i2, i3, i4, i5⟩ := inner
            right
            refine ⟨s5, ?_, by omega, i2, i3, i4, i5⟩
            show kM_oftenest_44 N (f + 1) s (nI k) (nI j) = kM_oftenest_44 N f s5 (nI k) (nI (j + 1))
            rw [kM_oftenest_44]
            exact oif (nI_ge hj (by omega)) (ob1 q1 i1)
          · rintro f s ⟨-, a1, a2, a3, a4⟩
            refine ⟨s, ?_, a1, a2⟩
            show kM_oftenest_44 N (f + 1) s (nI k) (nI k) = _
            rw [kM_oftenest_44]
            refine oit (nI_le (Nat.le_refl _) (by omega)) ?_
            refine y_loop (fun f (v : Int) j => kM_oftenest_96 N f s (iI v) (nI j)) C.1 (fun v j => j ≤ C.1 ∧ v = gBst (d k) j) (fun r => r = some (s, iI (gBst (d k) C.1))) ?_ ?_ C.1 N (-1) 0 (by omega) (by omega) ⟨by omega, rfl⟩
            · rintro f v j hj ⟨-, rfl⟩
              right
              refine ⟨gBst (d k) (j + 1), ?_, by omega, rfl⟩
              have hb := gBst_b (d k) j
              obtain ⟨e1, e2⟩ := gB_enc hb (by omega)
              show kM_oftenest_96 N (f + 1) s (iI (gBst (d k) j)) (nI j) = kM_oftenest_96 N f s (iI (gBst (d k) (j + 1))) (nI (j + 1))
              rw [kM_oftenest_96]
              refine oif (by rw [a3.2.1.1]; exact nI_ge hj (by omega)) ?_
              have e124 : kM_oftenest_124 N (kM_oftenest_96 N f) s (nI j) = kM_oftenest_96 N f s (nI j) (nI (j + 1)) := by
                unfold kM_oftenest_124 kM_oftenest_126
                rw [nI_1]
              have hu : gBst (d k) (j + 1) = if gBst (d k) j = -1 then (j : Int) else if d k j ≤ d k (gBst (d k) j).toNat then gBst (d k) j else j := rfl
              by_cases p : gBst (d k) j = -1
              · refine oit (e1.mpr p) (e124.trans ?_)
                rw [hu, if_pos p, iI_nI]
              · obtain ⟨e3, e4⟩ := e2 p
                have hd1 := hd k (Nat.le_refl _) j hj
                have hd2 := hd k (Nat.le_refl _) (gBst (d k) j).toNat (by omega)
                refine oif (fun z => p (e1.mp z)) (ob1 ((r_ld (q := j) rfl (by show _ < 9; omega)).trans (by rw [a4 j hj])) (ob1 ((r_ld (q := (gBst (d k) j).toNat) e3 (by show _ < 9; omega)).trans (by rw [a4 _ (by omega)])) ?_))
                have e5 := iI_le (a := d k j) (b := d k (gBst (d k) j).toNat) ⟨by omega, by omega⟩ ⟨by omega, by omega⟩
                by_cases p2 : d k j ≤ d k (gBst (d k) j).toNat
                · refine oit (e5.mpr p2) ?_
                  unfold kM_oftenest_126
                  rw [hu, if_neg p, if_pos p2, nI_1]
                · refine oif (fun z => p2 (e5.mp z)) (e124.trans ?_)
                  rw [hu, if_neg p, if_neg p2, iI_nI]
            · rintro f v ⟨-, rfl⟩
              show kM_oftenest_96 N (f + 1) s (iI (gBst (d k) C.1)) (nI C.1) = _
              rw [kM_oftenest_96]
              exact oit (by rw [a3.2.1.1]; exact nI_le (Nat.le_refl _) (by omega)) rfl
          · rw [e42, p3 c (by omega)]
            show (0 : Int32) = iI (yA (mBe m V) 2 c - yA V 2 c)
            rw [hm0 c hc, Int.sub_self]
            rfl
        obtain ⟨σ1, l1, l2, l3⟩ := loop
        refine ⟨σ1, ?_, l2, l3⟩
        show kM_oftenest_19 N (f + 1) s (nI k) (nI 9) = _
        rw [kM_oftenest_19]
        exact oit (by decide) (ob1 u1 l1)
    obtain ⟨σ3, k1, k2, k3⟩ := key
    refine ⟨σ3, ?_, k3, k2⟩
    unfold kM_oftenest
    exact onb rfl (ob1 (r_isSoon1 z0 (a := 1) rfl h0 hk 1) (oif n10 k1))
end OE
theorem op_later {g : XC} {N xa oa i : Nat} (hN : 2 ^ 20 < N) (hi : i ≤ 378) : St_later (yRel g N xa oa i) (yRel g N xa oa (i + 6)) g N xa oa := by
  rintro a0 a1 n sl τ σ ⟨M, Z, Ya, Yh, na, ta, cv, la, lh, ra, rh, hB⟩
  have hB : yBody g N xa oa i n Z Ya Yh na ta cv la lh ra rh M τ σ := hB
  generalize hcc : n + 14000 = cc
  generalize hkk : sl + 97000 = kk
  obtain ⟨hO, hr, hQ, hfr, hS⟩ := y_open hB sl cc kk (by omega) (by omega)
  have hX := y_xb (sl := sl) (c := cc) (k := kk) hB hN hi (by omega) (by omega)
  have hRB := y_rb hB hN hi
  have z0 : (m_put σ 0 0).1 0 = 0 := mp_s _ _ _
  have z1 : (m_put σ 0 0).1 1 = nI (tC M).1 := (mp_n _ _ _ (by decide)).trans hRB.1.1.1
  have h9 := hRB.2.1.1
  have hw : ∀ a0 a1, kX_X0_later (jg g cc kk) N ((n, sl, cc, kk), τ) xa a0 a1 oa = yW yH2 (kX_X1_later (jg g cc kk) N ((n, sl, cc, kk), τ) xa a0 a1) oa := fun a0 a1 => ob1 (f_cls_T hQ.2.1.1) rfl
  rw [hw]
  rcases y_rng 0 2 (by decide) a1 with ⟨q0, -, h0, rfl⟩ | h0
  · -- fits
    rcases y_rng 0 200 (by decide) a0 with ⟨k1, h1, h1', rfl⟩ | h1
    · -- fits
      obtain ⟨S1, r, hx, hks, hm⟩ := b_later hX hRB h0 h1 h1'
      obtain ⟨σ1, hm1, hm2, hm3⟩ := hm
      exact fin_ok (c := cc) (k := kk) hB hx hks hm1 hm2 hm3
    · have hx : kX_X1_later (jg g cc kk) N ((n, sl, cc, kk), τ) xa a0 (nI q0) = some (.inr (((n, sl, cc, kk), τ), 1, 0)) := by
        rw [← hS]
        unfold kX_X1_later
        exact ot1 (x_oneOf1 (b := 2) rfl h0 (by decide)) (ob1 (x_in0 h1) (ot2 (x_right0 hr)))
      have hm : kM_later N σ a0 (nI q0) = some (m_put (m_put σ 0 0) 0 2, 0) := by
        unfold kM_later
        exact onb rfl (ob1 (r_isWhat1 z0 (b := 2) rfl h0 (by decide)) (oif n10 (ob1 (r_isSoon0 z0 (by decide) h1) (oit rfl rfl))))
      exact fin_thr (c := cc) (k := kk) hB hx rfl (KS.refl hQ.2.1.2.2.2.1) hm (mp_s _ _ _) (by decide) (RFr.p00 _ _ _)
  · have hx : kX_X1_later (jg g cc kk) N ((n, sl, cc, kk), τ) xa a0 a1 = some (.inr (((n, sl, cc, kk), τ), 0, 0)) := by
      rw [← hS]
      unfold kX_X1_later
      exact ot2 (x_oneOf0 hr h0)
    have hm : kM_later N σ a0 a1 = some (m_put (m_put σ 0 0) 0 1, 0) := by
      unfold kM_later
      exact onb rfl (ob1 (r_isWhat0 z0 h0) (oit rfl rfl))
    exact fin_thr (c := cc) (k := kk) hB hx rfl (KS.refl hQ.2.1.2.2.2.1) hm (mp_s _ _ _) (by decide) (RFr.p00 _ _ _)
theorem op_oftenest {g : XC} {N xa oa i : Nat} (hN : 2 ^ 20 < N) (hi : i ≤ 378) : St_oftenest (yRel g N xa oa i) (yRel g N xa oa (i + 6)) g N xa oa := by
  rintro a0 n sl τ σ ⟨M, Z, Ya, Yh, na, ta, cv, la, lh, ra, rh, hB⟩
  have hB : yBody g N xa oa i n Z Ya Yh na ta cv la lh ra rh M τ σ := hB
  generalize hcc : n + 14000 = cc
  generalize hkk : sl + 97000 = kk
  obtain ⟨hO, hr, hQ, hfr, hS⟩ := y_open hB sl cc kk (by omega) (by omega)
  have hX := y_xb (sl := sl) (c := cc) (k := kk) hB hN hi (by omega) (by omega)
  have hRB := y_rb hB hN hi
  have z0 : (m_put σ 0 0).1 0 = 0 := mp_s _ _ _
  have z1 : (m_put σ 0 0).1 1 = nI (tC M).1 := (mp_n _ _ _ (by decide)).trans hRB.1.1.1
  have h9 := hRB.2.1.1
  have hw : ∀ a0, kX_X0_oftenest (jg g cc kk) N ((n, sl, cc, kk), τ) xa a0 oa = yW yH1 (kX_X1_oftenest (jg g cc kk) N ((n, sl, cc, kk), τ) xa a0) oa := fun a0 => ob1 (f_cls_T hQ.2.1.1) rfl
  rw [hw]
  rcases y_rng 1 200 (by decide) a0 with ⟨k0, h0, h0', rfl⟩ | h0
  · -- fits
    obtain ⟨S1, r, hx, hks, hm⟩ := b_oftenest hX hRB h0 h0'
    obtain ⟨σ1, hm1, hm2, hm3⟩ := hm
    exact fin_ok (c := cc) (k := kk) hB hx hks hm1 hm2 hm3
  · have hx : kX_X1_oftenest (jg g cc kk) N ((n, sl, cc, kk), τ) xa a0 = some (.inr (((n, sl, cc, kk), τ), 1, 0)) := by
      rw [← hS]
      unfold kX_X1_oftenest
      exact ob1 (x_in0 h0) (ot2 (x_right0 hr))
    have hm : kM_oftenest N σ a0 = some (m_put (m_put σ 0 0) 0 1, 0) := by
      unfold kM_oftenest
      exact onb rfl (ob1 (r_isSoon0 z0 (by decide) h0) (oit rfl rfl))
    exact fin_thr (c := cc) (k := kk) hB hx rfl (KS.refl hQ.2.1.2.2.2.1) hm (mp_s _ _ _) (by decide) (RFr.p00 _ _ _)
