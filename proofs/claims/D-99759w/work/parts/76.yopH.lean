/-! plain law: fallen, flow, nth, giver -/
def yGo (V : MN) (k i : Nat) : Bool := decide (yA V 3 k = i ∨ yA V 4 k = i)
theorem yGo_t {V : MN} {k i : Nat} : yGo V k i = true ↔ (yA V 3 k = i ∨ yA V 4 k = i) := by unfold yGo; exact decide_eq_true_iff
theorem yGo_f {V : MN} {k i : Nat} : yGo V k i = false ↔ ¬ (yA V 3 k = i ∨ yA V 4 k = i) := by unfold yGo; exact decide_eq_false_iff_not
theorem yGo_lt {C : CC} {V : MN} {T : Int} {k i : Nat} (hY : YK C V T k) (h : yGo V k i = true) : k < i ∧ i < C.1 := by
  rw [yGo_t] at h
  obtain ⟨a0, a1, a2, a3, a4, a5, -⟩ := hY
  omega
/-- one cup's bit set -/
def yOr (x : Int32) (z : Int) : Int32 := if z = -1 then x else x ||| ((1 : Int32) <<< (iI z &&& 31))
theorem yOr_bt {x : Int32} {z : Int} (hz : z = -1 ∨ (0 ≤ z ∧ z < 9)) {i : Nat} (hi : i < 32) : bt (yOr x z) i = (bt x i || decide (z = (i : Int))) := by
  unfold yOr
  rcases hz with hz | hz
  · rw [if_pos hz]
    have : decide (z = (i : Int)) = false := decide_eq_false (by omega)
    rw [this, Bool.or_false]
  · rw [if_neg (by omega), b_or]
    obtain ⟨t, rfl⟩ : ∃ t : Nat, z = t := ⟨z.toNat, by omega⟩
    rw [← iI_nI t, bt_one (by omega) (by omega)]
    congr 1
    by_cases e : i = t
    · rw [decide_eq_true e, decide_eq_true (by omega)]
    · rw [decide_eq_false e, decide_eq_false (by omega)]
def yStr (V : MN) (k : Nat) : Int32 := yOr (yOr 0 (mInto V k 0)) (mInto V k 1)
theorem mInto_r {C : CC} {V : MN} {T : Int} {k : Nat} (h9 : C.1 ≤ 9) (hY : YK C V T k) (b : Int) : mInto V k b = -1 ∨ (0 ≤ mInto V k b ∧ mInto V k b < 9) := by
  obtain ⟨a0, a1, a2, a3, a4, a5, -⟩ := hY
  unfold mInto
  split
  · omega
  · split <;> omega
theorem mInto_go {C : CC} {V : MN} {T : Int} {k : Nat} (hY : YK C V T k) (i : Nat) : (mInto V k 0 = i ∨ mInto V k 1 = i) ↔ yGo V k i = true := by
  rw [yGo_t]
  obtain ⟨a0, a1, a2, a3, a4, a5, a6, -⟩ := hY
  by_cases h4 : yA V 4 k = -2
  · unfold mInto
    rw [if_pos h4, if_pos h4]
    omega
  · rcases a6 with h5 | h5
    · rw [(mInto_a h4 h5).1, (mInto_a h4 h5).2]
    · rw [(mInto_b h4 h5).1, (mInto_b h4 h5).2]
      omega
theorem yStr_bt {C : CC} {V : MN} {T : Int} {k : Nat} (h9 : C.1 ≤ 9) (hY : YK C V T k) {i : Nat} (hi : i < 32) : bt (yStr V k) i = yGo V k i := by
  unfold yStr
  rw [yOr_bt (mInto_r h9 hY 1) hi, yOr_bt (mInto_r h9 hY 0) hi, b_0, Bool.false_or]
  have h := mInto_go hY i
  by_cases e : yGo V k i = true
  · rw [e]
    rcases h.mpr e with z | z
    · rw [decide_eq_true z, Bool.true_or]
    · rw [decide_eq_true z, Bool.or_true]
  · have e2 : yGo V k i = false := by simpa using e
    rw [e2, decide_eq_false (fun z => e (h.mp (Or.inl z))), decide_eq_false (fun z => e (h.mp (Or.inr z)))]
    rfl
section OI
variable {g : XC} {N xa oa n : Nat} {Z Ya Yh : Nat → Prop} {na ta cv la lh : Nat} {ra rh : List Nat} {M : MT} {T : Int} {S S1 : XS} {σ s : MS} {C : CC} {V m : MN} {w : Nat → Int32} {c k : Nat}
theorem hof2 (hc : c < 9) (x : Int32) {β : Type} (A B : Option β) : ((kX_X1_isOf g N x (nI c)).bind fun w6 => if w6 = 0 then A else B) = if bt x c = true then B else A := by
  rw [hof]
  by_cases h : bt x c = true
  · rw [if_pos h, if_pos ((bit_is (by omega)).mpr h)]
  · rw [if_neg h, if_neg (fun z => h ((bit_is (by omega)).mp z))]
theorem x_straight (hN : 2 ^ 20 < N) (hF : FW g Z S xa na C V) (hk : k < C.1) (hY : YK C V T k) : kX_X1_straight g N S xa (nI k) = some (S, yStr V k) := by
  have h9 : C.1 ≤ 9 := by
    obtain ⟨cv, -, h4⟩ := hF.2.2.1
    exact h4.1
  have o2 : f_obj S 1 xa 2 = some na := f_obj_T hF.2.1.1.1 (by decide) (by decide) hF.2.2.2.2
  have hc2 := na_cls hF.2.1
  have rm1 : ∀ b, ((iI (mInto V k b) = -1) ↔ mInto V k b = -1) := fun b => by
    have := mInto_r h9 hY b
    rw [show (-1 : Int32) = iI (-1) from rfl]
    exact iI_eq ⟨by omega, by omega⟩ ⟨by omega, by omega⟩
  have step : ∀ (n : Nat) (x : Int32) (b : Int) (i : Int32), (b = 0 ∨ b = 1) → i = iI b → ¬ (2 : Int32) ≤ i → kX_X1_straight_4 g N (n + 1) S xa (nI k) x i = kX_X1_straight_4 g N n S xa (nI k) (yOr x (mInto V k b)) (i + 1) := fun n x b i hb hi h2 => by
    have hin : kX_X3_into g N S na (nI k) i = some (S, iI (mInto V k b)) := by rw [hi]; exact hF.into hb hk hY
    rw [kX_X1_straight_4]
    refine oif h2 (ob1 o2 (ob1 hc2 (ob1 hin ?_)))
    unfold kX_X1_straight_36 yOr
    by_cases e : mInto V k b = -1
    · rw [if_pos e]
      exact oit ((rm1 b).mpr e) rfl
    · rw [if_neg e]
      exact oif (fun z => e ((rm1 b).mp z)) (ob1 o2 (ob1 hc2 (ob1 hin (onb rfl rfl))))
  obtain ⟨n1, rfl⟩ : ∃ n1, N = n1 + 3 := ⟨N - 3, by omega⟩
  unfold kX_X1_straight
  rw [step (n1 + 2) 0 0 0 (Or.inl rfl) rfl (by decide), step (n1 + 1) _ 1 (0 + 1) (Or.inr rfl) rfl (by decide), kX_X1_straight_4]
  exact oit (by decide) rfl
theorem x_gives (hF : FW g Z S xa na C V) (hk : k < C.1) (hY : YK C V T k) {t : Int} (h0 : 0 ≤ t) (h1 : t ≤ 400000000) (hc : c < 9) : kX_X1_gives g N S xa (nI k) (nI c) (iJ t) = some (S, iJ (gvN V k c t)) := by
  have h9 : C.1 ≤ 9 := by
    obtain ⟨cv, -, h4⟩ := hF.2.2.1
    exact h4.1
  have o2 : f_obj S 1 xa 2 = some na := f_obj_T hF.2.1.1.1 (by decide) (by decide) hF.2.2.2.2
  have hc2 := na_cls hF.2.1
  have i0 : kX_X3_into g N S na (nI k) 0 = some (S, iI (mInto V k 0)) := hF.into (b := 0) (Or.inl rfl) hk hY
  have i1 : kX_X3_into g N S na (nI k) 1 = some (S, iI (mInto V k 1)) := hF.into (b := 1) (Or.inr rfl) hk hY
  have m0 := mInto_r h9 hY 0
  have m1 := mInto_r h9 hY 1
  have hY' := hY
  obtain ⟨a0, a1, a2, a3, a4, a5, a6, -⟩ := hY
  have e1 : ∀ z : Int, -1 ≤ z → z < 9 → (iI z = nI c ↔ z = c) := fun z z1 z2 => by
    rw [iI_nI]
    exact iI_eq ⟨by omega, by omega⟩ ⟨by omega, by omega⟩
  have r4 : (iI (yA V 4 k) = -2) ↔ yA V 4 k = -2 := by
    rw [show (-2 : Int32) = iI (-2) from rfl]
    exact iI_eq ⟨by omega, by omega⟩ ⟨by omega, by omega⟩
  unfold kX_X1_gives gvN
  refine ob1 o2 (ob1 (na_obj hF.2.1 (by decide)) (ob1 (na_a hF.2.1 (by decide) (by omega)) ?_))
  by_cases h4 : yA V 4 k = -2
  · rw [if_pos h4]
    refine oit (r4.mpr h4) (ob1 o2 (ob1 (na_obj hF.2.1 (by decide)) (ob1 (na_a hF.2.1 (by decide) (by omega)) ?_)))
    by_cases h3 : yA V 3 k = c
    · rw [if_pos h3]
      exact oit ((e1 _ (by omega) (by omega)).mpr h3) rfl
    · rw [if_neg h3]
      exact oif (fun z => h3 ((e1 _ (by omega) (by omega)).mp z)) rfl
  · rw [if_neg h4]
    have hne : mInto V k 0 ≠ mInto V k 1 := by
      rcases a6 with h5 | h5
      · rw [(mInto_a h4 h5).1, (mInto_a h4 h5).2]; omega
      · rw [(mInto_b h4 h5).1, (mInto_b h4 h5).2]; omega
    refine oif (fun z => h4 (r4.mp z)) (ob1 o2 (ob1 hc2 (ob1 i0 ?_)))
    by_cases g0 : mInto V k 0 = c
    · refine oit ((e1 _ (by omega) (by omega)).mpr g0) (onb (v := iJ ((t + 1) / 2)) ?_ ?_)
      · rw [show (1 : Int64) = iJ 1 from rfl, show (2 : Int64) = iJ 2 from rfl, iJ_add, iJ_div (by omega) ⟨by omega, by omega⟩ (by omega) ⟨by omega, by omega⟩]
      · rw [if_pos g0, if_neg (show ¬ mInto V k 1 = (c : Int) by omega), Int.add_zero]
    · rw [if_neg g0]
      refine oif (fun z => g0 ((e1 _ (by omega) (by omega)).mp z)) (ob1 o2 (ob1 hc2 (ob1 i1 ?_)))
      by_cases g1 : mInto V k 1 = c
      · rw [if_pos g1]
        refine oit ((e1 _ (by omega) (by omega)).mpr g1) (onb (v := iJ (t / 2)) ?_ ?_)
        · rw [show (2 : Int64) = iJ 2 from rfl, iJ_div (by omega) ⟨by omega, by omega⟩ (by omega) ⟨by omega, by omega⟩]
        · rw [Int.zero_add]
      · rw [if_neg g1]
        exact oif (fun z => g1 ((e1 _ (by omega) (by omega)).mp z)) rfl
theorem r_goes (h9 : C.1 ≤ 9) (hR : RowR (s.2.2 31) 0 C V) (hk : k < C.1) (hY : YK C V T k) (hc : c < 9) : kM_goesInto N s (nI k) (nI c) = some (s, if yGo V k c = true then 1 else 0) := by
  obtain ⟨a0, a1, a2, a3, a4, a5, a6, -⟩ := hY
  obtain ⟨b1, b2, b3, b4, b5, b6, b7⟩ := hR.2 k hk
  rw [Nat.zero_add] at b3 b4
  have e1 : ∀ z : Int, -2 ≤ z → z < 9 → (iI z = nI c ↔ z = c) := fun z z1 z2 => by
    rw [iI_nI]
    exact iI_eq ⟨by omega, by omega⟩ ⟨by omega, by omega⟩
  have l1 : m_ld s 31 (19 + nI k) = some (iI (yA V 3 k)) := by
    exact (r_ldc 19 rfl (by show 19 + k < 128; omega)).trans (by rw [b3])
  have l2 : m_ld s 31 (28 + nI k) = some (iI (if yA V 4 k = -2 then -1 else yA V 4 k)) := by
    exact (r_ldc 28 rfl (by show 28 + k < 128; omega)).trans (by rw [b4])
  unfold kM_goesInto
  refine ob1 l1 ?_
  by_cases h3 : yA V 3 k = c
  · rw [if_pos (yGo_t.mpr (Or.inl h3))]
    exact oit ((e1 _ (by omega) (by omega)).mpr h3) rfl
  · refine oif (fun z => h3 ((e1 _ (by omega) (by omega)).mp z)) (ob1 l2 ?_)
    by_cases h4 : yA V 4 k = c
    · have hy : yGo V k c = true := yGo_t.mpr (Or.inr h4)
      rw [if_neg (show ¬ yA V 4 k = -2 by omega), if_pos hy]
      exact oit ((e1 _ (by omega) (by omega)).mpr h4) rfl
    · have hy : ¬ yGo V k c = true := fun z => (yGo_t.mp z).elim h3 h4
      have hb : -1 ≤ (if yA V 4 k = -2 then -1 else yA V 4 k) ∧ (if yA V 4 k = -2 then -1 else yA V 4 k) < 9 ∧ ¬ (if yA V 4 k = -2 then -1 else yA V 4 k) = (c : Int) := by split <;> omega
      refine oif (fun z => hb.2.2 ((e1 _ (by omega) (by omega)).mp z)) ?_
      rw [if_neg hy]
/-- a new cell, for what tries -/
theorem KS.new (hW : WFr S) (hn : n ≤ xTop S) (j : Nat) (e : GE) : KS xa ta oa n S (newS S j e) := by
  refine ⟨(newS_wf hW j e).1, fun q hq => ?_, fun _ _ => rfl, fun _ _ => rfl, fun hf => ?_⟩
  · obtain ⟨t1, t2, t3, t4, t5, t6⟩ := newS_same S j e (Nat.lt_of_lt_of_le hq hn)
    exact ⟨t1, t3, t5, fun _ => t6, fun _ _ => ⟨t2, t4⟩⟩
  · obtain ⟨f, hf⟩ := hf
    obtain ⟨t1, t2, t3, t4, t5, t6⟩ := newS_same S j e (hW.2 oa _ (g_cell hf))
    exact ⟨f, t1.trans hf.1, t6.trans hf.2⟩
theorem XB.wf (h : XB g N xa oa n Z Ya Yh na ta cv la lh ra rh M T S) : WFr S := ⟨h.1.2.1.2.2.2.1, fun q e hq => by
  have := h.2.1 q e hq
  rw [h.2.2.2.2.2.1] at this
  exact this⟩
theorem XB.fw (h : XB g N xa oa n Z Ya Yh na ta cv la lh ra rh M T S) : FW g Z S xa na (tC M) (tV M) := by
  refine ⟨h.wf, h.1.1, ⟨cv, h.1.2.2.1.1, h.1.2.2.2.1⟩, fun q hq => ?_, h.1.2.2.1.2.1⟩
  obtain ⟨e, he⟩ := h.1.2.2.2.2.2.2.2.2.2.1 q (Or.inl hq)
  exact h.wf.2 q e he
theorem XB.cup (h : XB g N xa oa n Z Ya Yh na ta cv la lh ra rh M T S) (hc : c < (tC M).1) : kX_X1_aCup g N S xa (nI c) = some (.inl S) := x_aCup1 (f_obj_T h.1.2.1.1 (by decide) (by decide) h.1.2.2.1.1) h.1.2.2.2.1 hc
theorem RFr.fl {σ1 : MS} (h : RK [] [43, 44, 45, 46] σ σ1) : RFr σ σ1 := RFr.rk h (fun j hj => by simp at hj) (fun j hj => by simp at hj ⊢; omega)
theorem b_fallen (hX : XB g N xa oa n Z Ya Yh na ta cv la lh ra rh M T S) (hR : RB N M T σ) (hc : c < (tC M).1) (h0 : 0 ≤ k) (hk : k ≤ 1000000) : ∃ S1 r, kX_X1_fallen g N S xa (nI c) (nI k) = some (.inl (S1, r)) ∧ KS xa ta oa n S S1 ∧ ∃ σ1, kM_fallen N σ (nI c) (nI k) = some (σ1, r) ∧ σ1.1 0 = 0 ∧ RFr σ σ1 := by
  have hN := hX.2.2.2.1
  have hs := hX.oc.spr
  have hV := hX.2.2.1.2.2.1.1.1
  have z0 : (m_put σ 0 0).1 0 = 0 := mp_s _ _ _
  have hR0 := hR.1.fr hR.2.1.1 (RFr.p0 σ 0)
  have z1 : (m_put σ 0 0).1 1 = nI (tC M).1 := hR0.1.1
  have hn := hX.2.2.2.2.2.1
  have hcp := hX.2.2.2.2.2.2.1
  obtain ⟨x, k1, k2⟩ := x_flows (N := N) hX.fw hN hV hs.2 (h := k) (by omega) (by omega) (by omega)
  obtain ⟨σ1, q1, q2, q3⟩ := r_flows (N := N) hN hs.1 hV hs.2 (n := k) (by omega) hR0.1 hR0.2.1
  refine ⟨nJ S x, iI (fT (tC M) (tV M) k c), ?_, KS.new hX.wf (by omega) _ _, σ1, ?_, (q2.1 0 (by simp)).trans z0, (RFr.p0 σ 0).trans (RFr.fl q2)⟩
  · unfold kX_X1_fallen
    refine ob1 (f_cls_T hX.1.2.1.1) (ot1 (hX.cup hc) (ob1 (x_inN (a := 0) (b := 1000000) rfl rfl h0 hk (by decide)) (ot1 (x_right1 (by decide)) (ob1 (f_obj_T hX.1.2.1.1 (by decide) (by decide) hX.1.2.2.1.2.1) (ob1 (na_cls hX.1.1) (ob1 k1 ?_))))))
    rw [show (9 : Int32) + nI c = nI (9 + c) from nI_add 9 c]
    refine ob1 (nJ_get S x (by omega)) ?_
    rw [iJ_32, (k2 c hc).2]
  · unfold kM_fallen
    refine onb rfl (ob1 (r_isCup1 z0 z1 hs.1 hc) (oif n10 (ob1 (r_within1 (a := 0) (b := 1000000) rfl rfl h0 hk (by decide)) (ob1 (r_right1 z0 (by decide) 2) (oif n10 (ob1 q1 (ob1 (r_ld (q := c) rfl (by show c < 9; omega)) ?_)))))))
    rw [(q3 c hc).2.1]
theorem b_flow (hX : XB g N xa oa n Z Ya Yh na ta cv la lh ra rh M T S) (hR : RB N M T σ) (hc : c < (tC M).1) (h0 : 0 ≤ k) (hk : k ≤ 1000000) : ∃ S1 r, kX_X1_flow g N S xa (nI c) (nI k) = some (.inl (S1, r)) ∧ KS xa ta oa n S S1 ∧ ∃ σ1, kM_flow N σ (nI c) (nI k) = some (σ1, r) ∧ σ1.1 0 = 0 ∧ RFr σ σ1 := by
  have hN := hX.2.2.2.1
  have hs := hX.oc.spr
  have hV := hX.2.2.1.2.2.1.1.1
  have z0 : (m_put σ 0 0).1 0 = 0 := mp_s _ _ _
  have hR0 := hR.1.fr hR.2.1.1 (RFr.p0 σ 0)
  have z1 : (m_put σ 0 0).1 1 = nI (tC M).1 := hR0.1.1
  have hn := hX.2.2.2.2.2.1
  have hcp := hX.2.2.2.2.2.2.1
  obtain ⟨x, k1, k2⟩ := x_flows (N := N) hX.fw hN hV hs.2 (h := k) (by omega) (by omega) (by omega)
  obtain ⟨σ1, q1, q2, q3⟩ := r_flows (N := N) hN hs.1 hV hs.2 (n := k) (by omega) hR0.1 hR0.2.1
  refine ⟨nJ S x, iI (fI (tC M) (tV M) k c), ?_, KS.new hX.wf (by omega) _ _, σ1, ?_, (q2.1 0 (by simp)).trans z0, (RFr.p0 σ 0).trans (RFr.fl q2)⟩
  · unfold kX_X1_flow
    refine ob1 (f_cls_T hX.1.2.1.1) (ot1 (hX.cup hc) (ob1 (x_inN (a := 0) (b := 1000000) rfl rfl h0 hk (by decide)) (ot1 (x_right1 (by decide)) (ob1 (f_obj_T hX.1.2.1.1 (by decide) (by decide) hX.1.2.2.1.2.1) (ob1 (na_cls hX.1.1) (ob1 k1 ?_))))))
    refine ob1 (nJ_get S x (by omega)) ?_
    rw [iJ_32, (k2 c hc).1]
  · unfold kM_flow
    refine onb rfl (ob1 (r_isCup1 z0 z1 hs.1 hc) (oif n10 (ob1 (r_within1 (a := 0) (b := 1000000) rfl rfl h0 hk (by decide)) (ob1 (r_right1 z0 (by decide) 2) (oif n10 (ob1 q1 (ob1 (r_ld (q := c) rfl (by show c < 9; omega)) ?_)))))))
    rw [(q3 c hc).1]
theorem nth_joint {S0 : XS} (hN : 2 ^ 20 < N) (h9 : C.1 ≤ 9) (hG : YG C V T) (hs : ∀ k, k < C.1 → 0 ≤ C.2.1 k ∧ C.2.1 k ≤ 20) (hc : c < C.1) {t : Nat} (ht : t ≤ 100000000) : ∀ (j lo hi fx fr : Nat) (S : XS) (σ : MS), hi - lo < 2 ^ j → lo ≤ hi → 1 ≤ lo → hi ≤ 1000001 → j < fx → j < fr → FW g Z S xa na C V → n ≤ xTop S → KS xa ta oa n S0 S → xTop S + j ≤ xCc S → xSl S + 18 * j ≤ xCs S → RC N σ C → RowR (σ.2.2 31) 0 C V →
    ∃ S1 r σ1, kX_X1_nth_23 g N fx S xa (nI c) (nI t) (nI lo) (nI hi) = some (.inl (S1, r)) ∧ KS xa ta oa n S0 S1 ∧ kM_nth_38 N fr σ (nI c) (nI t) (nI lo) (nI hi) = some (σ1, r) ∧ RK [] [43, 44, 45, 46] σ σ1 := by
  intro j
  induction j with
  | zero =>
    intro lo hi fx fr S σ h1 h2 h3 h4 h5 h6 hF hn hk c1 c2 hC hR
    have e : hi = lo := by omega
    subst e
    obtain ⟨fx, rfl⟩ : ∃ f', fx = f' + 1 := ⟨fx - 1, by omega⟩
    obtain ⟨fr, rfl⟩ : ∃ f', fr = f' + 1 := ⟨fr - 1, by omega⟩
    refine ⟨S, if nI hi ≤ 1000000 then nI hi else -1, σ, ?_, hk, ?_, ⟨fun _ _ => rfl, fun _ _ => rfl⟩⟩
    · rw [kX_X1_nth_23]
      refine oit (nI_le (Nat.le_refl _) (by omega)) ?_
      split <;> rfl
    · rw [kM_nth_38]
      refine oit (nI_le (Nat.le_refl _) (by omega)) ?_
      split <;> rfl
  | succ j ih =>
    intro lo hi fx fr S σ h1 h2 h3 h4 h5 h6 hF hn hk c1 c2 hC hR
    obtain ⟨fx, rfl⟩ : ∃ f', fx = f' + 1 := ⟨fx - 1, by omega⟩
    obtain ⟨fr, rfl⟩ : ∃ f', fr = f' + 1 := ⟨fr - 1, by omega⟩
    by_cases e : hi = lo
    · subst e
      refine ⟨S, if nI hi ≤ 1000000 then nI hi else -1, σ, ?_, hk, ?_, ⟨fun _ _ => rfl, fun _ _ => rfl⟩⟩
      · rw [kX_X1_nth_23]
        refine oit (nI_le (Nat.le_refl _) (by omega)) ?_
        split <;> rfl
      · rw [kM_nth_38]
        refine oit (nI_le (Nat.le_refl _) (by omega)) ?_
        split <;> rfl
    · have hp : 2 ^ (j + 1) = 2 * 2 ^ j := by rw [Nat.pow_succ]; omega
      obtain ⟨x, k1, k2⟩ := x_flows (N := N) hF hN hG hs (h := (lo + hi) / 2) (by omega) (by omega) (by omega)
      obtain ⟨σ1, q1, q2, q3⟩ := r_flows (N := N) hN h9 hG hs (n := (lo + hi) / 2) (by omega) hC hR
      have hb := fBd hG hs h9 (h := (((lo + hi) / 2 : Nat) : Int)) (by omega) (by omega) hc
      have hF1 : FW g Z (nJ S x) xa na C V := hF.new 18 (FJ x)
      have hk1 : KS xa ta oa n S0 (nJ S x) := hk.trans (KS.new hF.1 hn 18 (FJ x))
      have hC1 : RC N σ1 C := by
        unfold RC at hC ⊢
        rw [q2.1 1 (by simp), q2.1 2 (by simp), q2.1 3 (by simp), q2.2 4 (by decide), q2.2 5 (by decide)]
        exact hC
      have hR1 : RowR (σ1.2.2 31) 0 C V := by rw [q2.2 31 (by decide)]; exact hR
      have et : xTop (nJ S x) = xTop S + 1 := rfl
      have es : xSl (nJ S x) = xSl S + 18 := rfl
      have ec : xCc (nJ S x) = xCc S := rfl
      have ek : xCs (nJ S x) = xCs S := rfl
      have hhx : (nI lo + nI hi) / 2 = nI ((lo + hi) / 2) := by
        rw [nI_add, iI_nI, show (2 : Int32) = iI 2 from rfl, iI_div (by omega) ⟨by omega, by omega⟩ (by omega) ⟨by omega, by omega⟩, iI_nI]
        congr 1
      have hhr1 : (nI hi - nI lo) / 2 = nI ((hi - lo) / 2) := by
        rw [iI_nI, iI_nI, iI_sub, show (2 : Int32) = iI 2 from rfl, iI_div (by omega) ⟨by omega, by omega⟩ (by omega) ⟨by omega, by omega⟩, iI_nI]
        congr 1
        omega
      have hhr : nI lo + nI ((hi - lo) / 2) = nI ((lo + hi) / 2) := by
        rw [nI_add]
        congr 1
        omega
      have cx : lg_cmp (iJ (fT C V (((lo + hi) / 2 : Nat) : Int) c)) ((nI t).toInt64) < 0 ↔ fT C V (((lo + hi) / 2 : Nat) : Int) c < t := by
        rw [lg_cmp_lt, iI_nI t, iI_64 ⟨by omega, by omega⟩, iJ_lt ⟨by omega, by omega⟩ ⟨by omega, by omega⟩]
      have cr : iI (fT C V (((lo + hi) / 2 : Nat) : Int) c) < nI t ↔ fT C V (((lo + hi) / 2 : Nat) : Int) c < t := by
        rw [iI_nI t, iI_lt ⟨by omega, by omega⟩ ⟨by omega, by omega⟩]
      have hx : kX_X1_nth_23 g N (fx + 1) S xa (nI c) (nI t) (nI lo) (nI hi) = if fT C V (((lo + hi) / 2 : Nat) : Int) c < t then kX_X1_nth_23 g N fx (nJ S x) xa (nI c) (nI t) (nI ((lo + hi) / 2 + 1)) (nI hi) else kX_X1_nth_23 g N fx (nJ S x) xa (nI c) (nI t) (nI lo) (nI ((lo + hi) / 2)) := by
        rw [kX_X1_nth_23]
        refine oif (nI_ge (by omega) (by omega)) (onb hhx (ob1 (f_obj_T hF.2.1.1.1 (by decide) (by decide) hF.2.2.2.2) (ob1 (na_cls hF.2.1) (ob1 k1 ?_))))
        rw [show (9 : Int32) + nI c = nI (9 + c) from nI_add 9 c]
        refine ob1 (nJ_get S x (by omega)) ?_
        rw [(k2 c hc).2]
        by_cases hlt : fT C V (((lo + hi) / 2 : Nat) : Int) c < t
        · rw [if_pos hlt]
          refine oit (cx.mpr hlt) (onb (nI_1 _) rfl)
        · rw [if_neg hlt]
          exact oif (fun z => hlt (cx.mp z)) rfl
      have hr : kM_nth_38 N (fr + 1) σ (nI c) (nI t) (nI lo) (nI hi) = if fT C V (((lo + hi) / 2 : Nat) : Int) c < t then kM_nth_38 N fr σ1 (nI c) (nI t) (nI ((lo + hi) / 2 + 1)) (nI hi) else kM_nth_38 N fr σ1 (nI c) (nI t) (nI lo) (nI ((lo + hi) / 2)) := by
        rw [kM_nth_38]
        refine oif (nI_ge (by omega) (by omega)) (onb hhr1 (onb hhr (ob1 q1 (ob1 (r_ld (q := c) rfl (by show c < 9; omega)) ?_))))
        rw [(q3 c hc).2.1]
        by_cases hlt : fT C V (((lo + hi) / 2 : Nat) : Int) c < t
        · rw [if_pos hlt]
          refine oit (cr.mpr hlt) (onb (nI_1 _) rfl)
        · rw [if_neg hlt]
          exact oif (fun z => hlt (cr.mp z)) rfl
      rw [hx, hr]
      by_cases hlt : fT C V (((lo + hi) / 2 : Nat) : Int) c < t
      · rw [if_pos hlt, if_pos hlt]
        obtain ⟨S1, r, σ2, u1, u2, u3, u4⟩ := ih ((lo + hi) / 2 + 1) hi fx fr (nJ S x) σ1 (by omega) (by omega) (by omega) h4 (by omega) (by omega) hF1 (by omega) hk1 (by omega) (by omega) hC1 hR1
        exact ⟨S1, r, σ2, u1, u2, u3, q2.trans u4 (fun _ z => z) (fun _ z => z)⟩
      · rw [if_neg hlt, if_neg hlt]
        obtain ⟨S1, r, σ2, u1, u2, u3, u4⟩ := ih lo ((lo + hi) / 2) fx fr (nJ S x) σ1 (by omega) (by omega) (by omega) (by omega) (by omega) (by omega) hF1 (by omega) hk1 (by omega) (by omega) hC1 hR1
        exact ⟨S1, r, σ2, u1, u2, u3, q2.trans u4 (fun _ z => z) (fun _ z => z)⟩
theorem b_nth (hX : XB g N xa oa n Z Ya Yh na ta cv la lh ra rh M T S) (hR : RB N M T σ) (hc : c < (tC M).1) (h0 : 1 ≤ k) (hk : k ≤ 100000000) : ∃ S1 r, kX_X1_nth g N S xa (nI c) (nI k) = some (.inl (S1, r)) ∧ KS xa ta oa n S S1 ∧ ∃ σ1, kM_nth N σ (nI c) (nI k) = some (σ1, r) ∧ σ1.1 0 = 0 ∧ RFr σ σ1 := by
  have hN := hX.2.2.2.1
  have hs := hX.oc.spr
  have hV := hX.2.2.1.2.2.1.1.1
  have z0 : (m_put σ 0 0).1 0 = 0 := mp_s _ _ _
  have hR0 := hR.1.fr hR.2.1.1 (RFr.p0 σ 0)
  have z1 : (m_put σ 0 0).1 1 = nI (tC M).1 := hR0.1.1
  have hn := hX.2.2.2.2.2.1
  have hcp := hX.2.2.2.2.2.2.1
  obtain ⟨S1, r, σ1, u1, u2, u3, u4⟩ := nth_joint (g := g) (Z := Z) (xa := xa) (na := na) (ta := ta) (oa := oa) (n := n) (S0 := S) hN hs.1 hV hs.2 hc hk 20 1 1000001 N N S (m_put σ 0 0) (by omega) (by omega) (by omega) (by omega) (by omega) (by omega) hX.fw (by omega) (KS.refl hX.wf.1) (by omega) (by omega) hR0.1 hR0.2.1
  refine ⟨S1, r, ?_, u2, σ1, ?_, (u4.1 0 (by simp)).trans z0, (RFr.p0 σ 0).trans (RFr.fl u4)⟩
  · unfold kX_X1_nth
    exact ob1 (f_cls_T hX.1.2.1.1) (ot1 (hX.cup hc) (ob1 (x_inN (a := 1) (b := 100000000) rfl rfl h0 hk (by decide)) (ot1 (x_right1 (by decide)) u1)))
  · unfold kM_nth
    exact onb rfl (ob1 (r_isCup1 z0 z1 hs.1 hc) (oif n10 (ob1 (r_within1 (a := 1) (b := 100000000) rfl rfl h0 hk (by decide)) (ob1 (r_right1 z0 (by decide) 2) (oif n10 u3)))))
/-- who gives most: which, how much -/
def gBs (go : Nat → Bool) (v : Nat → Int) : Nat → Int × Int
  | 0 => (-1, -1)
  | k + 1 => if go k = true ∧ (gBs go v k).2 < v k then ((k : Int), v k) else gBs go v k
theorem gBs_i (go : Nat → Bool) (v : Nat → Int) (h0 : ∀ k, 0 ≤ v k) : ∀ k, gBs go v k = (-1, -1) ∨ ∃ b : Nat, b < k ∧ gBs go v k = ((b : Int), v b) := by
  intro k
  induction k with
  | zero => exact Or.inl rfl
  | succ k ih =>
    by_cases h : go k = true ∧ (gBs go v k).2 < v k
    · right
      exact ⟨k, by omega, if_pos h⟩
    · have e : gBs go v (k + 1) = gBs go v k := if_neg h
      rw [e]
      rcases ih with ih | ⟨b, h1, h2⟩
      · exact Or.inl ih
      · exact Or.inr ⟨b, by omega, h2⟩
theorem b_giver (hX : XB g N xa oa n Z Ya Yh na ta cv la lh ra rh M T S) (hR : RB N M T σ) (hc : c < (tC M).1) (h0 : 0 ≤ k) (hk : k ≤ 1000000) : ∃ S1 r, kX_X1_giver g N S xa (nI c) (nI k) = some (.inl (S1, r)) ∧ KS xa ta oa n S S1 ∧ ∃ σ1, kM_giver N σ (nI c) (nI k) = some (σ1, r) ∧ σ1.1 0 = 0 ∧ RFr σ σ1 := by
  have hN := hX.2.2.2.1
  have hs := hX.oc.spr
  have hV := hX.2.2.1.2.2.1.1.1
  have z0 : (m_put σ 0 0).1 0 = 0 := mp_s _ _ _
  have hR0 := hR.1.fr hR.2.1.1 (RFr.p0 σ 0)
  have z1 : (m_put σ 0 0).1 1 = nI (tC M).1 := hR0.1.1
  have hn := hX.2.2.2.2.2.1
  have hcp := hX.2.2.2.2.2.2.1
  obtain ⟨x, k1, k2⟩ := x_flows (N := N) hX.fw hN hV hs.2 (h := k) (by omega) (by omega) (by omega)
  obtain ⟨σ1, q1, q2, q3⟩ := r_flows (N := N) hN hs.1 hV hs.2 (n := k) (by omega) hR0.1 hR0.2.1
  have hF1 : FW g Z (nJ S x) xa na (tC M) (tV M) := hX.fw.new 18 (FJ x)
  have hR1 : RowR (σ1.2.2 31) 0 (tC M) (tV M) := by rw [q2.2 31 (by decide)]; exact hR0.2.1
  have hbd : ∀ j, j < (tC M).1 → 0 ≤ fT (tC M) (tV M) k j ∧ fT (tC M) (tV M) k j ≤ 200000700 := fun j hj => by
    have := fBd hV hs.2 hs.1 (h := (k : Int)) (by omega) (by omega) hj
    omega
  generalize hv : (fun j => if j < (tC M).1 then gvN (tV M) j c (fT (tC M) (tV M) k j) else 0) = v
  have hvj : ∀ j, j < (tC M).1 → v j = gvN (tV M) j c (fT (tC M) (tV M) k j) := fun j hj => by rw [← hv]; exact if_pos hj
  have hv0 : ∀ j, 0 ≤ v j := fun j => by
    rw [← hv]
    show 0 ≤ if j < (tC M).1 then gvN (tV M) j c (fT (tC M) (tV M) k j) else 0
    split
    · rename_i hj
      exact gvN_nn (hbd j hj).1
    · omega
  have hvb : ∀ j, j < (tC M).1 → v j ≤ 400000000 := fun j hj => by
    rw [hvj j hj]
    have e1 := gvN_sum (V := tV M) (g := j) (hbd j hj).1 9
    have e2 := ySum_one (f := fun q => gvN (tV M) j q (fT (tC M) (tV M) k j)) (n := 9) (i := c) (by omega)
    have e3 : 0 ≤ ySum (fun q => if q = c then 0 else gvN (tV M) j q (fT (tC M) (tV M) k j)) 9 := ySum_nn (fun q _ => by
      show 0 ≤ if q = c then 0 else gvN (tV M) j q (fT (tC M) (tV M) k j)
      split
      · omega
      · exact gvN_nn (hbd j hj).1)
    have e4 := (hbd j hj).2
    omega
  generalize hgo : (fun j => yGo (tV M) j c) = go
  have hgj : ∀ j, go j = yGo (tV M) j c := fun j => by rw [← hgo]
  have hx : kX_X1_giver_35 g N N (nJ S x) xa (nI c) (xTop S) (-1) (-1) 0 = some (.inl (nJ S x, iI (gBs go v c).1)) := by
    refine y_loop (fun f (p : Int × Int) j => kX_X1_giver_35 g N f (nJ S x) xa (nI c) (xTop S) (iI p.1) (iJ p.2) (nI j)) c (fun p j => p = gBs go v j) (fun r => r = some (.inl (nJ S x, iI (gBs go v c).1))) ?_ ?_ c N (-1, -1) 0 (by omega) (by omega) rfl
    · rintro f p j hj rfl
      right
      refine ⟨gBs go v (j + 1), ?_, rfl⟩
      have hYj := hV j (by omega)
      have hi := gBs_i go v hv0 j
      have hpr : -1 ≤ (gBs go v j).2 ∧ (gBs go v j).2 ≤ 400000000 := by
        rcases hi with hi | ⟨b, h1, h2⟩
        · rw [hi]; exact ⟨by decide, by decide⟩
        · rw [h2]
          have := hv0 b
          have := hvb b (by omega)
          exact ⟨by show -1 ≤ v b; omega, by show v b ≤ 400000000; omega⟩
      show kX_X1_giver_35 g N (f + 1) (nJ S x) xa (nI c) (xTop S) (iI (gBs go v j).1) (iJ (gBs go v j).2) (nI j) = kX_X1_giver_35 g N f (nJ S x) xa (nI c) (xTop S) (iI (gBs go v (j + 1)).1) (iJ (gBs go v (j + 1)).2) (nI (j + 1))
      have h74 : ∀ z : Int, -1 ≤ z → z ≤ 400000000 → kX_X1_giver_74 g N (kX_X1_giver_35 g N f) (nJ S x) xa (nI c) (xTop S) (iI (gBs go v j).1) (iJ (gBs go v j).2) (nI j) (iJ z) = if (gBs go v j).2 < z then kX_X1_giver_35 g N f (nJ S x) xa (nI c) (xTop S) (nI j) (iJ z) (nI (j + 1)) else kX_X1_giver_35 g N f (nJ S x) xa (nI c) (xTop S) (iI (gBs go v j).1) (iJ (gBs go v j).2) (nI (j + 1)) := fun z z1 z2 => by
        unfold kX_X1_giver_74 kX_X1_giver_95
        have e : (0 : Int32) < lg_cmp (iJ z) (iJ (gBs go v j).2) ↔ (gBs go v j).2 < z := by rw [lg_cmp_gt, iJ_lt ⟨by omega, by omega⟩ ⟨by omega, by omega⟩]
        rw [nI_1]
        by_cases h : (gBs go v j).2 < z
        · rw [if_pos (e.mpr h), if_pos h]
        · rw [if_neg (fun y => h (e.mp y)), if_neg h]
      rw [kX_X1_giver_35]
      refine oif (nI_ge hj (by omega)) (ob1 (f_cls_T hF1.2.1.1.1) (ob1 (x_straight hN hF1 (by omega) hYj) ?_))
      rw [hof2 (by omega), yStr_bt hs.1 hYj (by omega), ← hgj]
      by_cases hg : go j = true
      · rw [if_pos hg, show (9 : Int32) + nI j = nI (9 + j) from nI_add 9 j]
        refine ob1 (nJ_get S x (by omega)) (ob1 (f_cls_T hF1.2.1.1.1) ?_)
        rw [(k2 j (by omega)).2]
        refine ob1 (x_gives hF1 (by omega) hYj (hbd j (by omega)).1 (by have := (hbd j (by omega)).2; omega) (by omega)) ?_
        rw [← hvj j (by omega), h74 _ (by have := hv0 j; omega) (hvb j (by omega))]
        by_cases hb : (gBs go v j).2 < v j
        · have e : gBs go v (j + 1) = ((j : Int), v j) := if_pos ⟨hg, hb⟩
          rw [if_pos hb, e, iI_nI j]
        · have e : gBs go v (j + 1) = gBs go v j := if_neg (fun z => hb z.2)
          rw [if_neg hb, e]
      · have e : gBs go v (j + 1) = gBs go v j := if_neg (fun z => hg z.1)
        rw [if_neg hg, show (-1 : Int64) = iJ (-1) from rfl, h74 _ (by omega) (by omega), if_neg (by omega), e]
    · rintro f p rfl
      show kX_X1_giver_35 g N (f + 1) (nJ S x) xa (nI c) (xTop S) (iI (gBs go v c).1) (iJ (gBs go v c).2) (nI c) = _
      rw [kX_X1_giver_35]
      exact oit (nI_le (Nat.le_refl _) (by omega)) rfl
  have hr : kM_giver_41 N N σ1 (nI c) (-1) 0 = some (σ1, iI (gBs go v c).1) := by
    refine y_loop (fun f (p : Int × Int) j => kM_giver_41 N f σ1 (nI c) (iI p.1) (nI j)) c (fun p j => p = gBs go v j) (fun r => r = some (σ1, iI (gBs go v c).1)) ?_ ?_ c N (-1, -1) 0 (by omega) (by omega) rfl
    · rintro f p j hj rfl
      right
      refine ⟨gBs go v (j + 1), ?_, rfl⟩
      have hYj := hV j (by omega)
      have hi := gBs_i go v hv0 j
      show kM_giver_41 N (f + 1) σ1 (nI c) (iI (gBs go v j).1) (nI j) = kM_giver_41 N f σ1 (nI c) (iI (gBs go v (j + 1)).1) (nI (j + 1))
      rw [kM_giver_41]
      refine oif (nI_ge hj (by omega)) (ob1 (r_goes hs.1 hR1 (by omega) hYj (by omega)) ?_)
      rw [← hgj]
      by_cases hg : go j = true
      · rw [if_pos hg]
        refine oif n10 ?_
        have gj := r_gives (N := N) (h := (k : Int)) hs.1 hR1 hYj (by omega) (show c < 9 by omega) (q3 j (by omega)).2.2.1 (q3 j (by omega)).2.2.2
        rw [← hvj j (by omega)] at gj
        unfold kM_giver_78 kM_giver_81
        rw [nI_1]
        rcases hi with hi | ⟨b, h1, h2⟩
        · have e : gBs go v (j + 1) = ((j : Int), v j) := if_pos ⟨hg, by rw [hi]; show -1 < v j; have := hv0 j; omega⟩
          rw [hi, e]
          refine oit rfl ?_
          rw [iI_nI j]
        · have gb := r_gives (N := N) (h := (k : Int)) hs.1 hR1 (hV b (by omega)) (by omega) (show c < 9 by omega) (q3 b (by omega)).2.2.1 (q3 b (by omega)).2.2.2
          rw [← hvj b (by omega)] at gb
          have hb1 := hvb b (by omega)
          have hb2 := hv0 b
          have hj1 := hvb j (by omega)
          have hj2 := hv0 j
          rw [h2]
          show (if iI (b : Int) = -1 then _ else _) = _
          rw [← iI_nI b]
          refine oif (nI_m1 (by omega)) (ob1 gj (ob1 gb ?_))
          by_cases hb : v b < v j
          · have e : gBs go v (j + 1) = ((j : Int), v j) := if_pos ⟨hg, by rw [h2]; exact hb⟩
            rw [e]
            refine oif ?_ (by rw [iI_nI j])
            rw [iI_le ⟨by omega, by omega⟩ ⟨by omega, by omega⟩]
            omega
          · have e : gBs go v (j + 1) = gBs go v j := if_neg (fun z => hb (by have := z.2; rw [h2] at this; exact this))
            rw [e, h2]
            refine oit ?_ (by rw [iI_nI b])
            rw [iI_le ⟨by omega, by omega⟩ ⟨by omega, by omega⟩]
            omega
      · have e : gBs go v (j + 1) = gBs go v j := if_neg (fun z => hg z.1)
        rw [if_neg hg, e]
        unfold kM_giver_81
        rw [nI_1]
        exact oit rfl rfl
    · rintro f p rfl
      show kM_giver_41 N (f + 1) σ1 (nI c) (iI (gBs go v c).1) (nI c) = _
      rw [kM_giver_41]
      exact oit (nI_le (Nat.le_refl _) (by omega)) rfl
  refine ⟨nJ S x, iI (gBs go v c).1, ?_, KS.new hX.wf (by omega) _ _, σ1, ?_, (q2.1 0 (by simp)).trans z0, (RFr.p0 σ 0).trans (RFr.fl q2)⟩
  · unfold kX_X1_giver
    exact ob1 (f_cls_T hX.1.2.1.1) (ot1 (hX.cup hc) (ob1 (x_inN (a := 0) (b := 1000000) rfl rfl h0 hk (by decide)) (ot1 (x_right1 (by decide)) (ob1 (f_obj_T hX.1.2.1.1 (by decide) (by decide) hX.1.2.2.1.2.1) (ob1 (na_cls hX.1.1) (ob1 k1 hx))))))
  · unfold kM_giver
    exact onb rfl (ob1 (r_isCup1 z0 z1 hs.1 hc) (oif n10 (ob1 (r_within1 (a := 0) (b := 1000000) rfl rfl h0 hk (by decide)) (ob1 (r_right1 z0 (by decide) 2) (oif n10 (ob1 q1 hr))))))
end OI
theorem op_fallen {g : XC} {N xa oa i : Nat} (hN : 2 ^ 20 < N) (hi : i ≤ 378) : St_fallen (yRel g N xa oa i) (yRel g N xa oa (i + 6)) g N xa oa := by
  rintro a0 a1 n sl τ σ ⟨M, Z, Ya, Yh, na, ta, cv, la, lh, ra, rh, hB⟩
  have hB : yBody g N xa oa i n Z Ya Yh na ta cv la lh ra rh M τ σ := hB
  generalize hcc : n + 14000 = cc
  generalize hkk : sl + 97000 = kk
  obtain ⟨hO, hr, hQ, hfr, hS⟩ := y_open hB sl cc kk (by omega) (by omega)
  have hX := y_xb (sl := sl) (c := cc) (k := kk) hB hN hi (by omega) (by omega)
  have hRB := y_rb hB hN hi
  have z0 : (m_put σ 0 0).1 0 = 0 := mp_s _ _ _
  have z1 : (m_put σ 0 0).1 1 = nI (tC M).1 := (mp_n _ _ _ (by decide)).trans hRB.1.1.1
  have h9 := hRB.2.1.1
  have hw : ∀ a0 a1, kX_X0_fallen (jg g cc kk) N ((n, sl, cc, kk), τ) xa a0 a1 oa = yW yH2 (kX_X1_fallen (jg g cc kk) N ((n, sl, cc, kk), τ) xa a0 a1) oa := fun a0 a1 => ob1 (f_cls_T hQ.2.1.1) rfl
  rw [hw]
  rcases y_cup (tC M).1 (by omega) a0 with ⟨c0, h0, rfl⟩ | h0
  · -- fits
    rcases y_rng 0 1000000 (by decide) a1 with ⟨k1, h1, h1', rfl⟩ | h1
    · -- fits
      obtain ⟨S1, r, hx, hks, hm⟩ := b_fallen hX hRB h0 h1 h1'
      obtain ⟨σ1, hm1, hm2, hm3⟩ := hm
      exact fin_ok (c := cc) (k := kk) hB hx hks hm1 hm2 hm3
    · have hx : kX_X1_fallen (jg g cc kk) N ((n, sl, cc, kk), τ) xa (nI c0) a1 = some (.inr (((n, sl, cc, kk), τ), 1, 0)) := by
        rw [← hS]
        unfold kX_X1_fallen
        exact ob1 (oc_cls hO) (ot1 (oc_cup1 hO h0) (ob1 (x_in0 h1) (ot2 (x_right0 hr))))
      have hm : kM_fallen N σ (nI c0) a1 = some (m_put (m_put σ 0 0) 0 2, 0) := by
        unfold kM_fallen
        exact onb rfl (ob1 (r_isCup1 z0 z1 h9 h0) (oif n10 (ob1 (r_within0 h1) (ob1 (r_right0 z0 (by decide)) (oit rfl rfl)))))
      exact fin_thr (c := cc) (k := kk) hB hx rfl (KS.refl hQ.2.1.2.2.2.1) hm (mp_s _ _ _) (by decide) (RFr.p00 _ _ _)
  · have hx : kX_X1_fallen (jg g cc kk) N ((n, sl, cc, kk), τ) xa a0 a1 = some (.inr (((n, sl, cc, kk), τ), 0, 0)) := by
      rw [← hS]
      unfold kX_X1_fallen
      exact ob1 (oc_cls hO) (ot2 (oc_cup0 hO hr h0))
    have hm : kM_fallen N σ a0 a1 = some (m_put (m_put σ 0 0) 0 1, 0) := by
      unfold kM_fallen
      exact onb rfl (ob1 (r_isCup0 z0 z1 h0) (oit rfl rfl))
    exact fin_thr (c := cc) (k := kk) hB hx rfl (KS.refl hQ.2.1.2.2.2.1) hm (mp_s _ _ _) (by decide) (RFr.p00 _ _ _)
theorem op_flow {g : XC} {N xa oa i : Nat} (hN : 2 ^ 20 < N) (hi : i ≤ 378) : St_flow (yRel g N xa oa i) (yRel g N xa oa (i + 6)) g N xa oa := by
  rintro a0 a1 n sl τ σ ⟨M, Z, Ya, Yh, na, ta, cv, la, lh, ra, rh, hB⟩
  have hB : yBody g N xa oa i n Z Ya Yh na ta cv la lh ra rh M τ σ := hB
  generalize hcc : n + 14000 = cc
  generalize hkk : sl + 97000 = kk
  obtain ⟨hO, hr, hQ, hfr, hS⟩ := y_open hB sl cc kk (by omega) (by omega)
  have hX := y_xb (sl := sl) (c := cc) (k := kk) hB hN hi (by omega) (by omega)
  have hRB := y_rb hB hN hi
  have z0 : (m_put σ 0 0).1 0 = 0 := mp_s _ _ _
  have z1 : (m_put σ 0 0).1 1 = nI (tC M).1 := (mp_n _ _ _ (by decide)).trans hRB.1.1.1
  have h9 := hRB.2.1.1
  have hw : ∀ a0 a1, kX_X0_flow (jg g cc kk) N ((n, sl, cc, kk), τ) xa a0 a1 oa = yW yH2 (kX_X1_flow (jg g cc kk) N ((n, sl, cc, kk), τ) xa a0 a1) oa := fun a0 a1 => ob1 (f_cls_T hQ.2.1.1) rfl
  rw [hw]
  rcases y_cup (tC M).1 (by omega) a0 with ⟨c0, h0, rfl⟩ | h0
  · -- fits
    rcases y_rng 0 1000000 (by decide) a1 with ⟨k1, h1, h1', rfl⟩ | h1
    · -- fits
      obtain ⟨S1, r, hx, hks, hm⟩ := b_flow hX hRB h0 h1 h1'
      obtain ⟨σ1, hm1, hm2, hm3⟩ := hm
      exact fin_ok (c := cc) (k := kk) hB hx hks hm1 hm2 hm3
    · have hx : kX_X1_flow (jg g cc kk) N ((n, sl, cc, kk), τ) xa (nI c0) a1 = some (.inr (((n, sl, cc, kk), τ), 1, 0)) := by
        rw [← hS]
        unfold kX_X1_flow
        exact ob1 (oc_cls hO) (ot1 (oc_cup1 hO h0) (ob1 (x_in0 h1) (ot2 (x_right0 hr))))
      have hm : kM_flow N σ (nI c0) a1 = some (m_put (m_put σ 0 0) 0 2, 0) := by
        unfold kM_flow
        exact onb rfl (ob1 (r_isCup1 z0 z1 h9 h0) (oif n10 (ob1 (r_within0 h1) (ob1 (r_right0 z0 (by decide)) (oit rfl rfl)))))
      exact fin_thr (c := cc) (k := kk) hB hx rfl (KS.refl hQ.2.1.2.2.2.1) hm (mp_s _ _ _) (by decide) (RFr.p00 _ _ _)
  · have hx : kX_X1_flow (jg g cc kk) N ((n, sl, cc, kk), τ) xa a0 a1 = some (.inr (((n, sl, cc, kk), τ), 0, 0)) := by
      rw [← hS]
      unfold kX_X1_flow
      exact ob1 (oc_cls hO) (ot2 (oc_cup0 hO hr h0))
    have hm : kM_flow N σ a0 a1 = some (m_put (m_put σ 0 0) 0 1, 0) := by
      unfold kM_flow
      exact onb rfl (ob1 (r_isCup0 z0 z1 h0) (oit rfl rfl))
    exact fin_thr (c := cc) (k := kk) hB hx rfl (KS.refl hQ.2.1.2.2.2.1) hm (mp_s _ _ _) (by decide) (RFr.p00 _ _ _)
theorem op_nth {g : XC} {N xa oa i : Nat} (hN : 2 ^ 20 < N) (hi : i ≤ 378) : St_nth (yRel g N xa oa i) (yRel g N xa oa (i + 6)) g N xa oa := by
  rintro a0 a1 n sl τ σ ⟨M, Z, Ya, Yh, na, ta, cv, la, lh, ra, rh, hB⟩
  have hB : yBody g N xa oa i n Z Ya Yh na ta cv la lh ra rh M τ σ := hB
  generalize hcc : n + 14000 = cc
  generalize hkk : sl + 97000 = kk
  obtain ⟨hO, hr, hQ, hfr, hS⟩ := y_open hB sl cc kk (by omega) (by omega)
  have hX := y_xb (sl := sl) (c := cc) (k := kk) hB hN hi (by omega) (by omega)
  have hRB := y_rb hB hN hi
  have z0 : (m_put σ 0 0).1 0 = 0 := mp_s _ _ _
  have z1 : (m_put σ 0 0).1 1 = nI (tC M).1 := (mp_n _ _ _ (by decide)).trans hRB.1.1.1
  have h9 := hRB.2.1.1
  have hw : ∀ a0 a1, kX_X0_nth (jg g cc kk) N ((n, sl, cc, kk), τ) xa a0 a1 oa = yW yH2 (kX_X1_nth (jg g cc kk) N ((n, sl, cc, kk), τ) xa a0 a1) oa := fun a0 a1 => ob1 (f_cls_T hQ.2.1.1) rfl
  rw [hw]
  rcases y_cup (tC M).1 (by omega) a0 with ⟨c0, h0, rfl⟩ | h0
  · -- fits
    rcases y_rng 1 100000000 (by decide) a1 with ⟨k1, h1, h1', rfl⟩ | h1
    · -- fits
      obtain ⟨S1, r, hx, hks, hm⟩ := b_nth hX hRB h0 h1 h1'
      obtain ⟨σ1, hm1, hm2, hm3⟩ := hm
      exact fin_ok (c := cc) (k := kk) hB hx hks hm1 hm2 hm3
    · have hx : kX_X1_nth (jg g cc kk) N ((n, sl, cc, kk), τ) xa (nI c0) a1 = some (.inr (((n, sl, cc, kk), τ), 1, 0)) := by
        rw [← hS]
        unfold kX_X1_nth
        exact ob1 (oc_cls hO) (ot1 (oc_cup1 hO h0) (ob1 (x_in0 h1) (ot2 (x_right0 hr))))
      have hm : kM_nth N σ (nI c0) a1 = some (m_put (m_put σ 0 0) 0 2, 0) := by
        unfold kM_nth
        exact onb rfl (ob1 (r_isCup1 z0 z1 h9 h0) (oif n10 (ob1 (r_within0 h1) (ob1 (r_right0 z0 (by decide)) (oit rfl rfl)))))
      exact fin_thr (c := cc) (k := kk) hB hx rfl (KS.refl hQ.2.1.2.2.2.1) hm (mp_s _ _ _) (by decide) (RFr.p00 _ _ _)
  · have hx : kX_X1_nth (jg g cc kk) N ((n, sl, cc, kk), τ) xa a0 a1 = some (.inr (((n, sl, cc, kk), τ), 0, 0)) := by
      rw [← hS]
      unfold kX_X1_nth
      exact ob1 (oc_cls hO) (ot2 (oc_cup0 hO hr h0))
    have hm : kM_nth N σ a0 a1 = some (m_put (m_put σ 0 0) 0 1, 0) := by
      unfold kM_nth
      exact onb rfl (ob1 (r_isCup0 z0 z1 h0) (oit rfl rfl))
    exact fin_thr (c := cc) (k := kk) hB hx rfl (KS.refl hQ.2.1.2.2.2.1) hm (mp_s _ _ _) (by decide) (RFr.p00 _ _ _)
theorem op_giver {g : XC} {N xa oa i : Nat} (hN : 2 ^ 20 < N) (hi : i ≤ 378) : St_giver (yRel g N xa oa i) (yRel g N xa oa (i + 6)) g N xa oa := by
  rintro a0 a1 n sl τ σ ⟨M, Z, Ya, Yh, na, ta, cv, la, lh, ra, rh, hB⟩
  have hB : yBody g N xa oa i n Z Ya Yh na ta cv la lh ra rh M τ σ := hB
  generalize hcc : n + 14000 = cc
  generalize hkk : sl + 97000 = kk
  obtain ⟨hO, hr, hQ, hfr, hS⟩ := y_open hB sl cc kk (by omega) (by omega)
  have hX := y_xb (sl := sl) (c := cc) (k := kk) hB hN hi (by omega) (by omega)
  have hRB := y_rb hB hN hi
  have z0 : (m_put σ 0 0).1 0 = 0 := mp_s _ _ _
  have z1 : (m_put σ 0 0).1 1 = nI (tC M).1 := (mp_n _ _ _ (by decide)).trans hRB.1.1.1
  have h9 := hRB.2.1.1
  have hw : ∀ a0 a1, kX_X0_giver (jg g cc kk) N ((n, sl, cc, kk), τ) xa a0 a1 oa = yW yH2 (kX_X1_giver (jg g cc kk) N ((n, sl, cc, kk), τ) xa a0 a1) oa := fun a0 a1 => ob1 (f_cls_T hQ.2.1.1) rfl
  rw [hw]
  rcases y_cup (tC M).1 (by omega) a0 with ⟨c0, h0, rfl⟩ | h0
  · -- fits
    rcases y_rng 0 1000000 (by decide) a1 with ⟨k1, h1, h1', rfl⟩ | h1
    · -- fits
      obtain ⟨S1, r, hx, hks, hm⟩ := b_giver hX hRB h0 h1 h1'
      obtain ⟨σ1, hm1, hm2, hm3⟩ := hm
      exact fin_ok (c := cc) (k := kk) hB hx hks hm1 hm2 hm3
    · have hx : kX_X1_giver (jg g cc kk) N ((n, sl, cc, kk), τ) xa (nI c0) a1 = some (.inr (((n, sl, cc, kk), τ), 1, 0)) := by
        rw [← hS]
        unfold kX_X1_giver
        exact ob1 (oc_cls hO) (ot1 (oc_cup1 hO h0) (ob1 (x_in0 h1) (ot2 (x_right0 hr))))
      have hm : kM_giver N σ (nI c0) a1 = some (m_put (m_put σ 0 0) 0 2, 0) := by
        unfold kM_giver
        exact onb rfl (ob1 (r_isCup1 z0 z1 h9 h0) (oif n10 (ob1 (r_within0 h1) (ob1 (r_right0 z0 (by decide)) (oit rfl rfl)))))
      exact fin_thr (c := cc) (k := kk) hB hx rfl (KS.refl hQ.2.1.2.2.2.1) hm (mp_s _ _ _) (by decide) (RFr.p00 _ _ _)
  · have hx : kX_X1_giver (jg g cc kk) N ((n, sl, cc, kk), τ) xa a0 a1 = some (.inr (((n, sl, cc, kk), τ), 0, 0)) := by
      rw [← hS]
      unfold kX_X1_giver
      exact ob1 (oc_cls hO) (ot2 (oc_cup0 hO hr h0))
    have hm : kM_giver N σ a0 a1 = some (m_put (m_put σ 0 0) 0 1, 0) := by
      unfold kM_giver
      exact onb rfl (ob1 (r_isCup0 z0 z1 h0) (oit rfl rfl))
    exact fin_thr (c := cc) (k := kk) hB hx rfl (KS.refl hQ.2.1.2.2.2.1) hm (mp_s _ _ _) (by decide) (RFr.p00 _ _ _)
