/-! plain law: office, round -/
def g00 : XC := ((fun _ => default), 0, 0, (fun _ => 0), (fun _ => 0), (fun _ => 0), (fun _ => 0), (fun _ => none), (fun _ => none))
theorem x_tz0 (g : XC) (N : Nat) (x : Int32) : kX_J19_numberOfTrailingZeros g N x = kX_J19_numberOfTrailingZeros g00 0 x := rfl
def tzF (t : Nat) : Nat := ((List.range 9).find? (fun j => t / 2 ^ j % 2 == 1)).getD 0
theorem tz_x : ∀ t, t < 512 → t ≠ 0 → kX_J19_numberOfTrailingZeros g00 0 (nI t) = some (nI (tzF t)) := by decide +kernel
theorem tz_r : ∀ t, t < 512 → t ≠ 0 → tzF t < 9 ∧ (∀ j, j < tzF t → ((nI t >>> (nI j &&& 31)) &&& 1) = 0) ∧ ¬ ((nI t >>> (nI (tzF t) &&& 31)) &&& 1) = 0 := by decide +kernel
def dAbs (a b : Nat) : Int := if (b : Int) ≤ a then (a : Int) - b else (b : Int) - a
theorem x_abs {a b : Nat} (ha : a < 2 ^ 30) (hb : b < 2 ^ 30) : (if (0 : Int32) ≤ nI a - nI b then nI a - nI b else 0 - (nI a - nI b)) = iI (dAbs a b) := by
  unfold dAbs
  rw [iI_nI, iI_nI, iI_sub]
  have e : (0 : Int32) ≤ iI ((a : Int) - b) ↔ (b : Int) ≤ a := by
    rw [show (0 : Int32) = iI 0 by decide, iI_le ⟨by decide, by decide⟩ ⟨by omega, by omega⟩]
    omega
  by_cases p : (b : Int) ≤ a
  · rw [if_pos p, if_pos (e.mpr p)]
  · rw [if_neg p, if_neg (fun z => p (e.mp z)), show (0 : Int32) = iI 0 by decide, iI_sub]
    congr 1
    omega
theorem r_off {N a b : Nat} (ha : a < 2 ^ 30) (hb : b < 2 ^ 30) : kM_offBy N (nI a) (nI b) = some (iI (dAbs a b)) := by
  unfold kM_offBy dAbs
  by_cases p : b ≤ a
  · rw [if_pos (nI_le p (by omega)), if_pos (by omega), iI_nI, iI_nI, iI_sub]
  · rw [if_neg (nI_ge (by omega) (by omega)), if_neg (by omega), iI_nI, iI_nI, iI_sub]
theorem dAbs_R {a b : Nat} (ha : a < 2 ^ 30) (hb : b < 2 ^ 30) : yR (dAbs a b) := by
  unfold dAbs
  split <;> exact ⟨by omega, by omega⟩
def hEnc : Option Nat → Int32
  | none => -1
  | some h => nI (h % 200)
theorem nI_m1 {k : Nat} (h : k < 2 ^ 31) : ¬ nI k = -1 := fun z => by
  rw [iI_nI, show (-1 : Int32) = iI (-1) by decide] at z
  have := (iI_eq ⟨by omega, by omega⟩ ⟨by decide, by decide⟩).mp z
  omega
theorem fin_pl {g : XC} {N xa oa i n : Nat} {Z Ya Yh : Nat → Prop} {na ta cv la lh : Nat} {ra rh : List Nat} {M : MT} {τ : XL} {σ σ1 : MS} {sl : Nat} {S1 : XS} {r : Int32} (hB : yBody g N xa oa i n Z Ya Yh na ta cv la lh ra rh M τ σ) {c k : Nat} {x : Option (XS × Int32)} {mop : Option (MS × Int32)} (hx : x = some (S1, r)) (hk : KS xa ta oa n ((n, sl, c, k), τ) S1) (hm : mop = some (σ1, r)) (hf : RFr σ σ1) :
    ∃ (u0 : Unit) (w : XS × Int32) (σ1 : MS), f_cls ((n, sl, c, k), τ) 1 xa = some u0 ∧ x = some w ∧ mop = some (σ1, w.2) ∧ ∀ n1 : Nat, n ≤ n1 → (∀ q e, x_cell w.1 q = some e → q < n1) → yRel g N xa oa (i + 6) n1 w.1.2 σ1 :=
  ⟨(), (S1, r), σ1, f_cls_T hB.1.2.1.1, hx, hm, y_fin hB hk hf⟩

section OD
variable {g : XC} {N xa oa n : Nat} {Z Ya Yh : Nat → Prop} {na ta cv la lh : Nat} {ra rh : List Nat} {M : MT} {T : Int} {S : XS} {σ : MS} {C : CC} {V m : MN} {w : Nat → Int32}

theorem b_office (hX : XB g N xa oa n Z Ya Yh na ta cv la lh ra rh M T S) (hR : RB N M T σ) {k q : Nat} (hq : q ≤ 1) (h0 : 1 ≤ k) (hk : k ≤ 60) : ∃ S1 r, kX_X1_office g N S xa (nI k) (nI q) = some (.inl (S1, r)) ∧ KS xa ta oa n S S1 ∧ ∃ σ1, kM_office N σ (nI k) (nI q) = some (σ1, r) ∧ σ1.1 0 = 0 ∧ RFr σ σ1 := by
  refine b_of (x := fun S => kX_X1_office g N S xa (nI k) (nI q)) hX (fun m w => ?_)
  have hO := hX.oc
  have hs := hO.spr
  have hN := hX.2.2.2.1
  have hT := hX.2.2.2.2.1
  have hV := hX.2.2.1.2.2.1.1
  have hC1 : σ.1 1 = nI (tC M).1 := hR.1.1.1
  have hRV : RowR (σ.2.2 31) 0 (tC M) (tV M) := hR.1.2.1
  obtain ⟨σ2, t1, t2, t3⟩ := r_try hN hR.1 hR.2.1 m (RFr.p0 σ 0)
  generalize tC M = C at *
  generalize tV M = V at *
  have z0 : (m_put σ 0 0).1 0 = 0 := mp_s _ _ _
  have z1 : (m_put σ 0 0).1 1 = nI C.1 := (mp_n _ _ _ (by decide)).trans hC1
  have hB := mBe_YN m hs.1 hV.1
  have fin0 : ∀ σ3, FrH 64 σ2 σ3 → σ3.1 0 = 0 ∧ RFr σ σ3 := fun σ3 h => ⟨(h.1 0 (by decide) (by decide)).trans ((t2.1 0 (by decide) (by decide)).trans z0), (RFr.p0 σ 0).trans (t2.r.trans h.r)⟩
  let tz : MN → Int32 := fun m1 => nI (tzF (yI m1 13).toNatClampNeg)
  let u : MN → (Int32 × Option Nat) → Nat → (Int32 × Option Nat) := fun m1 v j => if yI m1 13 = 0 then v else match v.2 with
    | none => (tz m1, some j)
    | some h => if dAbs j k < dAbs (h % 200) k then (tz m1, some j) else v
  obtain ⟨f, w1, hw⟩ := x_acc (w := w) hO hN (fun f S v j => kX_X1_office_35 g N f S xa (nI k) (nI q) v.1 (hEnc v.2) (nI j)) u (-1, none) 1 120 (by omega) (by omega) hB (fun f m1 w1 w2 v j h1 h2 _ _ h3 => by
    obtain ⟨v1, v2⟩ := v
    show kX_X1_office_35 g N (f + 1) (nset S ta xa m1 w1) xa (nI k) (nI q) v1 (hEnc v2) (nI j) = kX_X1_office_35 g N f (nset S ta xa (mPass C m1) w2) xa (nI k) (nI q) (u (mPass C m1) (v1, v2) j).1 (hEnc (u (mPass C m1) (v1, v2) j).2) (nI (j + 1))
    rw [kX_X1_office_35]
    refine oif (nI_nlt (a := 120) (by omega) (by omega)) (ob1 (oc_ta hO) (ob1 (n_cls hO.1.1) (ob1 h3 (ob1 (n_int hO.1.1 (by decide)) ?_))))
    obtain ⟨t, ht, ht2⟩ := mPass_13 hs.1 m1
    have hj : nI (j % 200) = nI j := by rw [Nat.mod_eq_of_lt (by omega)]
    have etz : tz (mPass C m1) = nI (tzF t) := by show nI (tzF (yI (mPass C m1) 13).toNatClampNeg) = _; rw [ht2, nI_clamp (by omega)]
    have e95 : ∀ a b : Int32, kX_X1_office_95 g N (kX_X1_office_35 g N f) (nset S ta xa (mPass C m1) w2) xa (nI k) (nI q) a b (nI j) = kX_X1_office_35 g N f (nset S ta xa (mPass C m1) w2) xa (nI k) (nI q) a b (nI (j + 1)) := fun a b => by
      unfold kX_X1_office_95
      rw [nI_1]
    by_cases p : yI (mPass C m1) 13 = 0
    · refine oit p ((e95 _ _).trans ?_)
      have e : u (mPass C m1) (v1, v2) j = (v1, v2) := if_pos p
      rw [e]
    · refine oif p ?_
      have ht0 : t ≠ 0 := fun z => p (by rw [ht2, z]; rfl)
      have e85 : kX_X1_office_85 g N (kX_X1_office_35 g N f) (nset S ta xa (mPass C m1) w2) xa (nI k) (nI q) (nI j) (yI (mPass C m1) 13) = kX_X1_office_35 g N f (nset S ta xa (mPass C m1) w2) xa (nI k) (nI q) (nI (tzF t)) (nI j) (nI (j + 1)) := by
        unfold kX_X1_office_85
        rw [x_tz0, ht2]
        exact ob1 (tz_x t ht ht0) (e95 _ _)
      have e : u (mPass C m1) (v1, v2) j = match v2 with
        | none => (tz (mPass C m1), some j)
        | some h => if dAbs j k < dAbs (h % 200) k then (tz (mPass C m1), some j) else (v1, v2) := if_neg p
      cases v2 with
      | none =>
        refine oit rfl (e85.trans ?_)
        rw [e]
        show _ = kX_X1_office_35 g N f _ xa (nI k) (nI q) (tz (mPass C m1)) (nI (j % 200)) _
        rw [etz, hj]
      | some h =>
        refine oif (nI_m1 (by omega)) (onb (x_abs (by omega) (by omega)) (onb (x_abs (by omega) (by omega)) ?_))
        have e2 := iI_lt (dAbs_R (a := j) (b := k) (by omega) (by omega)) (dAbs_R (a := h % 200) (b := k) (by omega) (by omega))
        by_cases p2 : dAbs j k < dAbs (h % 200) k
        · refine oit (e2.mpr p2) (e85.trans ?_)
          rw [e]
          show _ = kX_X1_office_35 g N f _ xa (nI k) (nI q) (if dAbs j k < dAbs (h % 200) k then (tz (mPass C m1), some j) else (v1, some h)).1 (hEnc (if dAbs j k < dAbs (h % 200) k then (tz (mPass C m1), some j) else (v1, some h)).2) _
          rw [if_pos p2]
          show _ = kX_X1_office_35 g N f _ xa (nI k) (nI q) (tz (mPass C m1)) (nI (j % 200)) _
          rw [etz, hj]
        · refine oif (fun z => p2 (e2.mp z)) ((e95 _ _).trans ?_)
          rw [e]
          show _ = kX_X1_office_35 g N f _ xa (nI k) (nI q) (if dAbs j k < dAbs (h % 200) k then (tz (mPass C m1), some j) else (v1, some h)).1 (hEnc (if dAbs j k < dAbs (h % 200) k then (tz (mPass C m1), some j) else (v1, some h)).2) _
          rw [if_neg p2])
  obtain ⟨f2, σ3, k1, k2, -⟩ := r_acc hN (fun f s v j => kM_office_43 N f s (nI k) (nI q) v.1 (hEnc v.2) (nI j)) u (-1, none) 1 120 (by omega) (by omega) t3 (fun f s s1 m1 v j h1 h2 _ h3 h4 => by
    obtain ⟨v1, v2⟩ := v
    show kM_office_43 N (f + 1) s (nI k) (nI q) v1 (hEnc v2) (nI j) = kM_office_43 N f s1 (nI k) (nI q) (u (mPass C m1) (v1, v2) j).1 (hEnc (u (mPass C m1) (v1, v2) j).2) (nI (j + 1))
    rw [kM_office_43]
    refine oif (nI_nlt (a := 120) (by omega) (by omega)) (ob1 h3 ?_)
    obtain ⟨t, ht, ht2⟩ := mPass_13 hs.1 m1
    have h38 : s1.1 38 = nI t := h4.2.2.2.1.trans ht2
    have hj : nI (j % 200) = nI j := by rw [Nat.mod_eq_of_lt (by omega)]
    have etz : tz (mPass C m1) = nI (tzF t) := by show nI (tzF (yI (mPass C m1) 13).toNatClampNeg) = _; rw [ht2, nI_clamp (by omega)]
    have e110 : ∀ a b : Int32, kM_office_110 N (kM_office_43 N f) s1 (nI k) (nI q) a b (nI j) = kM_office_43 N f s1 (nI k) (nI q) a b (nI (j + 1)) := fun a b => by
      unfold kM_office_110
      rw [nI_1]
    by_cases p : yI (mPass C m1) 13 = 0
    · refine oit (h4.2.2.2.1.trans p) ((e110 _ _).trans ?_)
      have e : u (mPass C m1) (v1, v2) j = (v1, v2) := if_pos p
      rw [e]
    · refine oif (fun z => p (h4.2.2.2.1.symm.trans z)) ?_
      have ht0 : t ≠ 0 := fun z => p (by rw [ht2, z]; rfl)
      obtain ⟨y1, y2, y3⟩ := tz_r t ht ht0
      have e87 : kM_office_87 N (kM_office_43 N f) s1 (nI k) (nI q) (nI j) = kM_office_43 N f s1 (nI k) (nI q) (nI (tzF t)) (nI j) (nI (j + 1)) := by
        unfold kM_office_87
        refine y_loop (fun n (_ : Unit) i => kM_office_93 N (kM_office_43 N f) n s1 (nI k) (nI q) (nI i) (nI j) (nI j)) (tzF t) (fun _ i => i ≤ tzF t) (fun r => r = kM_office_43 N f s1 (nI k) (nI q) (nI (tzF t)) (nI j) (nI (j + 1))) ?_ ?_ (tzF t) N () 0 (by omega) (by omega) (by omega)
        · intro n _ i hi _
          right
          refine ⟨(), ?_, by omega⟩
          show kM_office_93 N (kM_office_43 N f) (n + 1) s1 (nI k) (nI q) (nI i) (nI j) (nI j) = kM_office_93 N (kM_office_43 N f) n s1 (nI k) (nI q) (nI (i + 1)) (nI j) (nI j)
          rw [kM_office_93]
          refine oit (by rw [h38]; exact y2 i hi) ?_
          rw [nI_1]
        · intro n _ _
          show kM_office_93 N (kM_office_43 N f) (n + 1) s1 (nI k) (nI q) (nI (tzF t)) (nI j) (nI j) = _
          rw [kM_office_93]
          exact oif (by rw [h38]; exact y3) (e110 _ _)
      have e : u (mPass C m1) (v1, v2) j = match v2 with
        | none => (tz (mPass C m1), some j)
        | some h => if dAbs j k < dAbs (h % 200) k then (tz (mPass C m1), some j) else (v1, v2) := if_neg p
      cases v2 with
      | none =>
        refine oit rfl (e87.trans ?_)
        rw [e]
        show _ = kM_office_43 N f _ (nI k) (nI q) (tz (mPass C m1)) (nI (j % 200)) _
        rw [etz, hj]
      | some h =>
        refine oif (nI_m1 (by omega)) (ob1 (r_off (by omega) (by omega)) (ob1 (r_off (by omega) (by omega)) ?_))
        have e2 := iI_lt (dAbs_R (a := j) (b := k) (by omega) (by omega)) (dAbs_R (a := h % 200) (b := k) (by omega) (by omega))
        by_cases p2 : dAbs j k < dAbs (h % 200) k
        · refine oit (e2.mpr p2) (e87.trans ?_)
          rw [e]
          show _ = kM_office_43 N f _ (nI k) (nI q) (if dAbs j k < dAbs (h % 200) k then (tz (mPass C m1), some j) else (v1, some h)).1 (hEnc (if dAbs j k < dAbs (h % 200) k then (tz (mPass C m1), some j) else (v1, some h)).2) _
          rw [if_pos p2]
          show _ = kM_office_43 N f _ (nI k) (nI q) (tz (mPass C m1)) (nI (j % 200)) _
          rw [etz, hj]
        · refine oif (fun z => p2 (e2.mp z)) ((e110 _ _).trans ?_)
          rw [e]
          show _ = kM_office_43 N f _ (nI k) (nI q) (if dAbs j k < dAbs (h % 200) k then (tz (mPass C m1), some j) else (v1, some h)).1 (hEnc (if dAbs j k < dAbs (h % 200) k then (tz (mPass C m1), some j) else (v1, some h)).2) _
          rw [if_neg p2])
  refine ⟨yRep (mPass C) 120 (mBe m V), w1, if q = 0 then (yAc C u (mBe m V) (-1, none) 1 120).1 else hEnc (yAc C u (mBe m V) (-1, none) 1 120).2, ?_, σ3, ?_, fin0 σ3 k2⟩
  · show kX_X1_office g N (nset S ta xa m w) xa (nI k) (nI q) = _
    unfold kX_X1_office
    refine ot1 (x_oneOf1 (b := 1) rfl hq (by decide)) (ob1 (x_inN (a := 1) (b := 60) rfl rfl h0 hk (by decide)) (ot1 (x_right1 (by decide)) (ob1 (oc_ta hO) (ob1 (oc_na hO) (ob1 (n_cls hO.1.1) (ob1 (oc_be hO hN) (Eq.trans hw ?_)))))))
    generalize yAc C u (mBe m V) (-1, none) 1 120 = v
    show kX_X1_office_35 g N (f + 1) _ xa (nI k) (nI q) v.1 (hEnc v.2) (nI 121) = _
    rw [kX_X1_office_35]
    refine oit (by decide) ?_
    have hq2 : q = 0 ∨ q = 1 := by omega
    rcases hq2 with rfl | rfl <;> rfl
  · unfold kM_office
    refine onb rfl (ob1 (r_isWhat1 z0 (b := 1) rfl hq (by decide)) (oif n10 (ob1 (r_within1 (a := 1) (b := 60) rfl rfl h0 hk (by decide)) (ob1 (r_right1 z0 (by decide) 2) (oif n10 (ob1 t1 (Eq.trans k1 ?_)))))))
    generalize yAc C u (mBe m V) (-1, none) 1 120 = v
    show kM_office_43 N (f2 + 1) _ (nI k) (nI q) v.1 (hEnc v.2) (nI 121) = _
    rw [kM_office_43]
    refine oit (by decide) ?_
    have hq2 : q = 0 ∨ q = 1 := by omega
    rcases hq2 with rfl | rfl <;> rfl
def pFull (C : CC) (V m : MN) : Bool := decide (∀ c, c < C.1 → yA m 1 c = yA V 1 c)
def fFull (V m : MN) : Nat → Int32
  | 0 => 1
  | k + 1 => if fFull V m k = 0 then 0 else if yA m 1 k = yA V 1 k then 1 else 0
theorem fFull_01 (V m : MN) (k : Nat) : fFull V m k = 0 ∨ fFull V m k = 1 := by
  cases k with
  | zero => exact Or.inr rfl
  | succ k =>
    unfold fFull
    split
    · exact Or.inl rfl
    · split
      · exact Or.inr rfl
      · exact Or.inl rfl
theorem fFull_p (V m : MN) (k : Nat) : fFull V m k = 1 ↔ ∀ c, c < k → yA m 1 c = yA V 1 c := by
  induction k with
  | zero => exact ⟨fun _ c hc => by omega, fun _ => rfl⟩
  | succ k ih =>
    unfold fFull
    rcases fFull_01 V m k with h | h
    · rw [if_pos h]
      refine ⟨fun z => absurd z (by decide), fun z => ?_⟩
      have := ih.mpr (fun c hc => z c (by omega))
      rw [h] at this
      exact absurd this (by decide)
    · rw [if_neg (by rw [h]; decide)]
      have h1 := ih.mp h
      by_cases e : yA m 1 k = yA V 1 k
      · rw [if_pos e]
        refine ⟨fun _ c hc => ?_, fun _ => rfl⟩
        by_cases e2 : c = k
        · rw [e2]; exact e
        · exact h1 c (by omega)
      · rw [if_neg e]
        exact ⟨fun z => absurd z (by decide), fun z => absurd (z k (by omega)) e⟩
theorem x_isAsFull (hO : OC g Z S xa na ta C V) (hN : 2 ^ 20 < N) {T1 : Int} (hY : YG C V T) (hm : YG C m T1) : kX_X3_isAsFull g N (nset S ta xa m w) ta na = some (nset S ta xa m w, if pFull C V m = true then 1 else 0) := by
  have h9 := hO.spr.1
  have efin : (if pFull C V m = true then (1 : Int32) else 0) = fFull V m C.1 := by
    unfold pFull
    by_cases p : ∀ c, c < C.1 → yA m 1 c = yA V 1 c
    · rw [if_pos (decide_eq_true p), (fFull_p V m C.1).mpr p]
    · rw [if_neg (by simpa using p)]
      rcases fFull_01 V m C.1 with h | h
      · exact h.symm
      · exact absurd ((fFull_p V m C.1).mp h) p
  rw [efin]
  unfold kX_X3_isAsFull
  refine y_loop (fun f (v : Int32) k => kX_X3_isAsFull_4 g N f (nset S ta xa m w) ta na v (nI k)) C.1 (fun v k => v = fFull V m k) (fun r => r = some (nset S ta xa m w, fFull V m C.1)) ?_ ?_ C.1 N 1 0 (by omega) (by omega) rfl
  · rintro f v k hk rfl
    right
    refine ⟨fFull V m (k + 1), ?_, rfl⟩
    show kX_X3_isAsFull_4 g N (f + 1) (nset S ta xa m w) ta na (fFull V m k) (nI k) = kX_X3_isAsFull_4 g N f (nset S ta xa m w) ta na (fFull V m (k + 1)) (nI (k + 1))
    rw [kX_X3_isAsFull_4]
    refine n_cups hO.1 ?_
    show (if nI C.1 ≤ nI k then _ else _) = _
    refine oif (nI_ge hk (by omega)) (ob1 (n_obj hO.1.1 (by decide)) (ob1 (n_a hO.1.1 (by decide) (by omega)) (ob1 (na_obj (oc_V hO) (by decide)) (ob1 (na_a (oc_V hO) (by decide) (by omega)) ?_))))
    obtain ⟨a0, a1, a2, a3, -⟩ := hm k hk
    obtain ⟨b0, b1, b2, b3, -⟩ := hY k hk
    have e := iI_eq (a := yA m 1 k) (b := yA V 1 k) ⟨by omega, by omega⟩ ⟨by omega, by omega⟩
    have e39 : ∀ t0 : Int32, (t0 = 0 ∨ t0 = 1) → ∀ t1 : Int32, (t1 = 0 ∨ t1 = 1) → kX_X3_isAsFull_39 g N (kX_X3_isAsFull_4 g N f) (nset S ta xa m w) ta na (nI k) t0 t1 = kX_X3_isAsFull_4 g N f (nset S ta xa m w) ta na (if t0 = 0 then 0 else t1) (nI (k + 1)) := by
      intro t0 h0 t1 h1
      unfold kX_X3_isAsFull_39
      refine onb (v := if t0 = 0 then 0 else t1) ?_ (by rw [nI_1])
      rcases h0 with rfl | rfl <;> rcases h1 with rfl | rfl <;> rfl
    by_cases p : yA m 1 k = yA V 1 k
    · refine oit (e.mpr p) ((e39 _ (fFull_01 V m k) 1 (Or.inr rfl)).trans ?_)
      show _ = kX_X3_isAsFull_4 g N f (nset S ta xa m w) ta na (if fFull V m k = 0 then 0 else if yA m 1 k = yA V 1 k then 1 else 0) _
      rw [if_pos p]
    · refine oif (fun z => p (e.mp z)) ((e39 _ (fFull_01 V m k) 0 (Or.inl rfl)).trans ?_)
      show _ = kX_X3_isAsFull_4 g N f (nset S ta xa m w) ta na (if fFull V m k = 0 then 0 else if yA m 1 k = yA V 1 k then 1 else 0) _
      rw [if_neg p]
  · rintro f v rfl
    show kX_X3_isAsFull_4 g N (f + 1) (nset S ta xa m w) ta na (fFull V m C.1) (nI C.1) = _
    rw [kX_X3_isAsFull_4]
    refine n_cups hO.1 ?_
    show (if nI C.1 ≤ nI C.1 then _ else _) = _
    exact oit (nI_le (Nat.le_refl _) (by omega)) (oz (fFull_01 V m C.1) rfl)
end OD
theorem op_round {g : XC} {N xa oa i : Nat} (hN : 2 ^ 20 < N) (hi : i ≤ 378) : St_round (yRel g N xa oa i) (yRel g N xa oa (i + 6)) g N xa oa := by
  rintro n sl τ σ ⟨M, Z, Ya, Yh, na, ta, cv, la, lh, ra, rh, hB⟩
  have hB : yBody g N xa oa i n Z Ya Yh na ta cv la lh ra rh M τ σ := hB
  generalize hcc : n + 14000 = cc
  generalize hkk : sl + 97000 = kk
  have hX := y_xb (sl := sl) (c := cc) (k := kk) hB hN hi (by omega) (by omega)
  have hR := y_rb hB hN hi
  obtain ⟨m, w, hS⟩ := hX.ns
  have hO := hX.oc
  have hs := hO.spr
  have hT := hX.2.2.2.2.1
  have hV := hX.2.2.1.2.2.1.1
  have hRV : RowR (σ.2.2 31) 0 (tC M) (tV M) := hR.1.2.1
  obtain ⟨σ2, t1, t2, t3⟩ := r_try hN hR.1 hR.2.1 m (RFr.p0 σ 0)
  have hBm := mBe_YN m hs.1 hV.1
  have hrow2 : ∀ s, FrH 64 σ2 s → ∀ k, k < (tC M).1 → s.2.2 31 (10 + k) = iI (yA (tV M) 1 k) := fun s hF k hk => by
    have h1 := (hRV.2 k hk).2.1
    rw [hF.2.2.2 (10 + k) (Or.inl (by omega)), t2.2.2.2 (10 + k) (Or.inl (by omega)), ← h1, Nat.zero_add]
    rfl
  -- the reference's comparing
  have r28 : ∀ (K : MS → Int32 → Option (MS × Int32)) (s : MS) (m1 : MN) (T1 : Int) (x1 : Int32), RS N s (tC M) m1 T1 → FrH 64 σ2 s → kM_round_28 N K N s x1 1 0 = if pFull (tC M) (tV M) m1 = true then some (s, x1) else K s (x1 + 1) := by
    intro K s m1 T1 x1 hRS hF
    have efin : fFull (tV M) m1 (tC M).1 = (if pFull (tC M) (tV M) m1 = true then (1 : Int32) else 0) := by
      unfold pFull
      by_cases p : ∀ c, c < (tC M).1 → yA m1 1 c = yA (tV M) 1 c
      · rw [if_pos (decide_eq_true p), (fFull_p _ m1 _).mpr p]
      · rw [if_neg (by simpa using p)]
        rcases fFull_01 (tV M) m1 (tC M).1 with h | h
        · exact h
        · exact absurd ((fFull_p _ m1 _).mp h) p
    refine y_loop (fun f (v : Int32) k => kM_round_28 N K f s x1 v (nI k)) (tC M).1 (fun v k => v = fFull (tV M) m1 k) (fun r => r = if pFull (tC M) (tV M) m1 = true then some (s, x1) else K s (x1 + 1)) ?_ ?_ (tC M).1 N 1 0 (by omega) (by omega) rfl
    · rintro f v k hk rfl
      right
      refine ⟨fFull (tV M) m1 (k + 1), ?_, rfl⟩
      show kM_round_28 N K (f + 1) s x1 (fFull (tV M) m1 k) (nI k) = kM_round_28 N K f s x1 (fFull (tV M) m1 (k + 1)) (nI (k + 1))
      rw [kM_round_28]
      refine oif (by rw [hRS.2.1.1]; exact nI_ge hk (by omega)) ?_
      have e66 : ∀ t : Int32, kM_round_66 N K (kM_round_28 N K f) s x1 (nI k) t = kM_round_28 N K f s x1 t (nI (k + 1)) := fun t => by
        unfold kM_round_66
        rw [nI_1]
      by_cases q : fFull (tV M) m1 k = 0
      · refine oit q ((e66 _).trans ?_)
        show _ = kM_round_28 N K f s x1 (if fFull (tV M) m1 k = 0 then 0 else _) _
        rw [if_pos q]
      · refine oif q ?_
        obtain ⟨a0, a1, a2, a3, -⟩ := hRS.2.2.2.2.1 k hk
        obtain ⟨b0, b1, b2, b3, -⟩ := hV.1 k hk
        have e := iI_eq (a := yA m1 1 k) (b := yA (tV M) 1 k) ⟨by omega, by omega⟩ ⟨by omega, by omega⟩
        refine ob1 ((r_ld (q := 74 + k) (ix2 k 74 rfl) (by show _ < 128; omega)).trans (by rw [show 74 + k = 64 + 10 + k by omega, hRS.row hk])) (ob1 ((r_ld (q := 10 + k) (ix2 k 10 rfl) (by show _ < 128; omega)).trans (by rw [hrow2 s hF k hk])) ?_)
        by_cases p : yA m1 1 k = yA (tV M) 1 k
        · refine oit (e.mpr p) ((e66 _).trans ?_)
          show _ = kM_round_28 N K f s x1 (if fFull (tV M) m1 k = 0 then 0 else if yA m1 1 k = yA (tV M) 1 k then 1 else 0) _
          rw [if_neg q, if_pos p]
        · refine oif (fun z => p (e.mp z)) ((e66 _).trans ?_)
          show _ = kM_round_28 N K f s x1 (if fFull (tV M) m1 k = 0 then 0 else if yA m1 1 k = yA (tV M) 1 k then 1 else 0) _
          rw [if_neg q, if_neg p]
    · rintro f v rfl
      show kM_round_28 N K (f + 1) s x1 (fFull (tV M) m1 (tC M).1) (nI (tC M).1) = _
      rw [kM_round_28]
      refine oit (by rw [hRS.2.1.1]; exact nI_le (Nat.le_refl _) (by omega)) ?_
      rw [efin]
      by_cases p : pFull (tC M) (tV M) m1 = true
      · rw [if_pos p, if_pos p]; rfl
      · rw [if_neg p, if_neg p]; rfl
  have key : ∃ S1 r σ3, kX_X1_round (jg g cc kk) N ((n, sl, cc, kk), τ) xa = some (S1, r) ∧ KS xa ta oa n ((n, sl, cc, kk), τ) S1 ∧ kM_round N σ = some (σ3, r) ∧ RFr σ σ3 := by
    have hpre : ∀ R, kX_X1_round_14 (jg g cc kk) N N (nset ((n, sl, cc, kk), τ) ta xa (mBe m (tV M)) w) xa (nI 1) = R → kX_X1_round (jg g cc kk) N ((n, sl, cc, kk), τ) xa = R := fun R h => by
      rw [← hS]
      unfold kX_X1_round
      exact ob1 (oc_ta hO) (ob1 (oc_na hO) (ob1 (n_cls hO.1.1) (ob1 (oc_be hO hN) h)))
    have hrpre : ∀ R, kM_round_11 N N σ2 (nI 1) = R → kM_round N σ = R := fun R h => by
      unfold kM_round
      exact onb rfl (ob1 t1 h)
    have hgo : ∀ f m1 w1 w2 k, k ≤ 200 → YN (tC M) (mPass (tC M) m1) (yT i + 40000 * 201) → kX_X3_pass (jg g cc kk) N (nset ((n, sl, cc, kk), τ) ta xa m1 w1) ta = some (nset ((n, sl, cc, kk), τ) ta xa (mPass (tC M) m1) w2, ta) → kX_X1_round_14 (jg g cc kk) N (f + 1) (nset ((n, sl, cc, kk), τ) ta xa m1 w1) xa (nI k) = if pFull (tC M) (tV M) (mPass (tC M) m1) = true then some (nset ((n, sl, cc, kk), τ) ta xa (mPass (tC M) m1) w2, nI k) else kX_X1_round_14 (jg g cc kk) N f (nset ((n, sl, cc, kk), τ) ta xa (mPass (tC M) m1) w2) xa (nI (k + 1)) := by
      intro f m1 w1 w2 k hk hy h4
      rw [kX_X1_round_14]
      refine oif (nI_nlt (a := 200) (by omega) (by omega)) (ob1 (oc_ta hO) (ob1 (n_cls hO.1.1) (ob1 h4 (ob1 (oc_na hO) (ob1 (n_cls hO.1.1) (ob1 (x_isAsFull hO hN hV.1 hy.1) ?_))))))
      by_cases p : pFull (tC M) (tV M) (mPass (tC M) m1) = true
      · rw [if_pos p, if_pos p]; rfl
      · rw [if_neg p, if_neg p, nI_1]; rfl
    have hgr : ∀ f s s1 m1 T1 k, k ≤ 200 → FrH 64 σ2 s → kM_hourGoes N s 64 = some s1 → HF N s s1 (tC M) m1 (T1 + 40000) → kM_round_11 N (f + 1) s (nI k) = if pFull (tC M) (tV M) (mPass (tC M) m1) = true then some (s1, nI k) else kM_round_11 N f s1 (nI (k + 1)) := by
      intro f s s1 m1 T1 k hk hF h4 h5
      rw [kM_round_11]
      refine oif (nI_nlt (a := 200) (by omega) (by omega)) (ob1 h4 ?_)
      rw [r28 _ s1 _ _ _ h5.1 (hF.trans h5.2.1), nI_1]
    have hlastx : ∀ f m1 w1, kX_X1_round_14 (jg g cc kk) N (f + 1) (nset ((n, sl, cc, kk), τ) ta xa m1 w1) xa (nI 201) = some (nset ((n, sl, cc, kk), τ) ta xa m1 w1, -1) := by
      intro f m1 w1
      rw [kX_X1_round_14]
      exact oit (by decide) rfl
    have hlastr : ∀ f s, kM_round_11 N (f + 1) s (nI 201) = some (s, -1) := by
      intro f s
      rw [kM_round_11]
      exact oit (by decide) rfl
    have hfin : ∀ σ3, FrH 64 σ2 σ3 → RFr σ σ3 := fun σ3 h => (RFr.p0 σ 0).trans (t2.r.trans h.r)
    rcases x_find (d := 200) hO hN (fun f S k => kX_X1_round_14 (jg g cc kk) N f S xa (nI k)) (pFull (tC M) (tV M)) 1 N (yT i) (mBe m (tV M)) w (by omega) (by omega) (by omega) hBm (fun f m1 w1 w2 k h1 h2 hy h3 h4 => (hgo f m1 w1 w2 k (by omega) (hy.le (by omega)) h4).trans (by rw [if_neg (by rw [h3]; decide)])) with ⟨k, f, m1, w1, w2, a1, a2, a3, a4, a5, a50, a51, a6⟩ | ⟨a1, f, m1, w1, a2⟩
    · rcases r_find (C := tC M) (d := 200) hN (fun f s k => kM_round_11 N f s (nI k)) (pFull (tC M) (tV M)) 1 N (yT i) (mBe m (tV M)) σ2 (by omega) (by omega) (by omega) t3 (fun f s s1 m1 T1 k h1 h2 h3 h4 h5 h6 h7 => (hgr f s s1 m1 T1 k (by omega) h5 h6 h7).trans (by rw [if_neg (by rw [h3]; decide)])) with ⟨k', f', m1', T1, s2, s1, c1, c2, c3, c4, c5, c6, c7, c8, c9, c10⟩ | ⟨c1, -⟩
      · rw [a1] at c1
        obtain ⟨e1, e2⟩ := Prod.mk.inj (Option.some.inj c1)
        subst e1
        refine ⟨_, nI k, s1, hpre _ (Eq.trans a6 ((hgo f m1 w1 w2 k (by omega) ((mPass_YN hs.2 hs.1 (by omega) a51).le (by omega)) a5).trans (if_pos a4))), hX.ks _ _, hrpre _ (Eq.trans c10 ((hgr f' s2 s1 m1' T1 k (by omega) c7 c8 c9).trans (if_pos c4))), hfin s1 (c7.trans c9.2.1)⟩
      · rw [a1] at c1; cases c1
    · rcases r_find (C := tC M) (d := 200) hN (fun f s k => kM_round_11 N f s (nI k)) (pFull (tC M) (tV M)) 1 N (yT i) (mBe m (tV M)) σ2 (by omega) (by omega) (by omega) t3 (fun f s s1 m1 T1 k h1 h2 h3 h4 h5 h6 h7 => (hgr f s s1 m1 T1 k (by omega) h5 h6 h7).trans (by rw [if_neg (by rw [h3]; decide)])) with ⟨k', f', m1', T1, s2, s1, c1, -⟩ | ⟨c1, f', s2, c2, c3⟩
      · rw [a1] at c1; cases c1
      · exact ⟨_, -1, s2, hpre _ (Eq.trans a2 (hlastx f m1 w1)), hX.ks _ _, hrpre _ (Eq.trans c3 (hlastr f' s2)), hfin s2 c2⟩
  obtain ⟨S1, r, σ3, k1, k2, k3, k4⟩ := key
  exact fin_pl hB k1 k2 k3 k4
theorem op_office {g : XC} {N xa oa i : Nat} (hN : 2 ^ 20 < N) (hi : i ≤ 378) : St_office (yRel g N xa oa i) (yRel g N xa oa (i + 6)) g N xa oa := by
  rintro a0 a1 n sl τ σ ⟨M, Z, Ya, Yh, na, ta, cv, la, lh, ra, rh, hB⟩
  have hB : yBody g N xa oa i n Z Ya Yh na ta cv la lh ra rh M τ σ := hB
  generalize hcc : n + 14000 = cc
  generalize hkk : sl + 97000 = kk
  obtain ⟨hO, hr, hQ, hfr, hS⟩ := y_open hB sl cc kk (by omega) (by omega)
  have hX := y_xb (sl := sl) (c := cc) (k := kk) hB hN hi (by omega) (by omega)
  have hRB := y_rb hB hN hi
  have z0 : (m_put σ 0 0).1 0 = 0 := mp_s _ _ _
  have z1 : (m_put σ 0 0).1 1 = nI (tC M).1 := (mp_n _ _ _ (by decide)).trans hRB.1.1.1
  have h9 := hRB.2.1.1
  have hw : ∀ a0 a1, kX_X0_office (jg g cc kk) N ((n, sl, cc, kk), τ) xa a0 a1 oa = yW yH2 (kX_X1_office (jg g cc kk) N ((n, sl, cc, kk), τ) xa a0 a1) oa := fun a0 a1 => ob1 (f_cls_T hQ.2.1.1) rfl
  rw [hw]
  rcases y_rng 0 1 (by decide) a1 with ⟨q0, -, h0, rfl⟩ | h0
  · -- fits
    rcases y_rng 1 60 (by decide) a0 with ⟨k1, h1, h1', rfl⟩ | h1
    · -- fits
      obtain ⟨S1, r, hx, hks, hm⟩ := b_office hX hRB h0 h1 h1'
      obtain ⟨σ1, hm1, hm2, hm3⟩ := hm
      exact fin_ok (c := cc) (k := kk) hB hx hks hm1 hm2 hm3
    · have hx : kX_X1_office (jg g cc kk) N ((n, sl, cc, kk), τ) xa a0 (nI q0) = some (.inr (((n, sl, cc, kk), τ), 1, 0)) := by
        rw [← hS]
        unfold kX_X1_office
        exact ot1 (x_oneOf1 (b := 1) rfl h0 (by decide)) (ob1 (x_in0 h1) (ot2 (x_right0 hr)))
      have hm : kM_office N σ a0 (nI q0) = some (m_put (m_put σ 0 0) 0 2, 0) := by
        unfold kM_office
        exact onb rfl (ob1 (r_isWhat1 z0 (b := 1) rfl h0 (by decide)) (oif n10 (ob1 (r_within0 h1) (ob1 (r_right0 z0 (by decide)) (oit rfl rfl)))))
      exact fin_thr (c := cc) (k := kk) hB hx rfl (KS.refl hQ.2.1.2.2.2.1) hm (mp_s _ _ _) (by decide) (RFr.p00 _ _ _)
  · have hx : kX_X1_office (jg g cc kk) N ((n, sl, cc, kk), τ) xa a0 a1 = some (.inr (((n, sl, cc, kk), τ), 0, 0)) := by
      rw [← hS]
      unfold kX_X1_office
      exact ot2 (x_oneOf0 hr h0)
    have hm : kM_office N σ a0 a1 = some (m_put (m_put σ 0 0) 0 1, 0) := by
      unfold kM_office
      exact onb rfl (ob1 (r_isWhat0 z0 h0) (oit rfl rfl))
    exact fin_thr (c := cc) (k := kk) hB hx rfl (KS.refl hQ.2.1.2.2.2.1) hm (mp_s _ _ _) (by decide) (RFr.p00 _ _ _)
