/-! plain law: an hour in the reference, whole -/
section RG
variable {N b c : Nat} {σ : MS} {C : CC} {m : MN} {T : Int}
theorem mGive_0 (h : mTip m c = 0) (j : Nat) : mGive m c j = 0 := by
  unfold mGive
  rw [h]
  repeat' split
  all_goals first | rfl | decide
/-- the numbers behind a settling, by fields -/
theorem RowR.settle {ρ : Nat → Int32} (h9 : C.1 ≤ 9) (hc : c < C.1) (h : RowR ρ b C (ysA (ysA (ysA m 1 c ((yA m 1 c + yA m 11 c) % yA m 0 c)) 2 c (if yA m 2 c + mTip m c < 1000000000 then yA m 2 c + mTip m c else 1000000000)) 5 c (if yA m 4 c ≠ -2 then (yA m 5 c + mTip m c) % 2 else yA m 5 c))) : RowR ρ b C (mSettle m c) := by
  refine h.congr ?_ ?_ ?_
  · rw [mSettle_I _ _ _ (by decide)]; rfl
  · rw [mSettle_I _ _ _ (by decide)]; rfl
  · intro i j hi hj
    have : i = 0 ∨ i = 1 ∨ i = 2 ∨ i = 3 ∨ i = 4 ∨ i = 5 := by omega
    rcases this with rfl | rfl | rfl | rfl | rfl | rfl
    · rw [mSettle_o _ _ _ _ (by decide) (by decide) (by decide) (by decide)]; simp [yA_A]
    · rw [mSettle_1]; simp [yA_A]
    · rw [mSettle_2]; simp [yA_A]
    · rw [mSettle_o _ _ _ _ (by decide) (by decide) (by decide) (by decide)]; simp [yA_A]
    · rw [mSettle_o _ _ _ _ (by decide) (by decide) (by decide) (by decide)]; simp [yA_A]
    · rw [mSettle_5]
      by_cases e : j = c
      · subst e
        by_cases e2 : yA m 4 j = -2 <;> simp [yA_A, e2]
      · simp [yA_A, e]
theorem RowR.turn0 {ρ : Nat → Int32} (h : RowR ρ b C m) (j : Nat) (x : Int) (hx : x = yA m 5 j) : RowR ρ b C (ysA m 5 j x) := by
  refine h.congr rfl rfl (fun i q _ _ => ?_)
  rw [yA_A]
  by_cases e : i = 5 ∧ q = j
  · rw [if_pos e, hx, e.1, e.2]
  · rw [if_neg e]
theorem r_gets (hb : b = 0 ∨ b = 64) (h9 : C.1 ≤ 9) (hc : c < C.1) (hR : RowR (σ.2.2 31) b C m) (hm : YK C m T c) (hT : T ≤ 900000000) (hn : 0 ≤ yA m 11 c ∧ yA m 11 c ≤ 40000) :
    ∃ σ1, kM_gets N σ (nI b) (nI c) (iI (yA m 11 c)) = some σ1 ∧ FrH b σ σ1 ∧ RowR (σ1.2.2 31) b C (mSettle m c) ∧ σ1.2.2 37 = upd (σ.2.2 37) c (iI (mTip m c)) ∧ σ1.1 38 = (if mTip m c ≤ 0 then σ.1 38 else (σ.1 38 ||| ((1 : Int32) <<< (nI c &&& 31)))) ∧ σ1.1 39 - σ.1 39 = yI (mSettle m c) 14 - yI m 14 ∧ ∀ j, c < j → j < C.1 → σ.2.2 36 j = iI (yA m 11 j) → σ1.2.2 36 j = iI (yA (mSettle m c) 11 j) := by
  obtain ⟨h0, h1, h2, h3, h4, h5, h6⟩ := hR.2 c hc
  have hbb : b + 64 ≤ 128 := by omega
  have hm0 := hm
  obtain ⟨a0, a1, a2, a3, a4, a5, a6, a7, a8⟩ := hm
  obtain ⟨t0, t1⟩ := mTip_le hm0 hn.1
  have hne : ¬ iI (yA m 0 c) = 0 := fun z => by
    have := (iI_eq ⟨by omega, by omega⟩ ⟨by decide, by decide⟩).mp (z.trans (show (0 : Int32) = iI 0 by decide))
    omega
  have hdiv : iI (yA m 1 c + yA m 11 c) / iI (yA m 0 c) = iI (mTip m c) := iI_div (by omega) ⟨by omega, by omega⟩ (by omega) ⟨by omega, by omega⟩
  have hmod : iI (yA m 1 c + yA m 11 c) - iI (yA m 1 c + yA m 11 c) / iI (yA m 0 c) * iI (yA m 0 c) = iI ((yA m 1 c + yA m 11 c) % yA m 0 c) := iI_mod (by omega) ⟨by omega, by omega⟩ (by omega) ⟨by omega, by omega⟩
  have hlt : yA m 2 c + mTip m c < 1000000000 := by omega
  let σ9 := rS σ 31 (b + 10 + c) (iI ((yA m 1 c + yA m 11 c) % yA m 0 c))
  let σ12 := rS σ9 31 (b + 46 + c) (iI (yA m 2 c + mTip m c))
  let σ13 := rS σ12 37 c (iI (mTip m c))
  have hF13 : FrH b σ σ13 := (FrH.s b σ 31 _ _ (Or.inr (Or.inr ⟨rfl, by omega, by omega⟩))).trans ((FrH.s b _ 31 _ _ (Or.inr (Or.inr ⟨rfl, by omega, by omega⟩))).trans (FrH.s b _ 37 _ _ (Or.inr (Or.inl rfl))))
  have e31 : σ13.2.2 31 = upd (upd (σ.2.2 31) (b + 10 + c) (iI ((yA m 1 c + yA m 11 c) % yA m 0 c))) (b + 46 + c) (iI (yA m 2 c + mTip m c)) := by
    show (rS σ12 37 c _).2.2 31 = _
    rw [rS_ne _ _ _ _ (by decide)]
    show (rS σ9 31 _ _).2.2 31 = _
    rw [rS_arr]
    show upd ((rS σ 31 _ _).2.2 31) _ _ = _
    rw [rS_arr]
  have hR13 : RowR (σ13.2.2 31) b C (ysA (ysA m 1 c ((yA m 1 c + yA m 11 c) % yA m 0 c)) 2 c (if yA m 2 c + mTip m c < 1000000000 then yA m 2 c + mTip m c else 1000000000)) := by
    rw [e31, if_pos hlt]
    exact (hR.fill h9 (by omega) _).tips h9 (by omega) _
  have e37 : σ13.2.2 37 = upd (σ.2.2 37) c (iI (mTip m c)) := by
    show (rS σ12 37 c _).2.2 37 = _
    rw [rS_arr]
    show upd ((rS σ9 31 _ _).2.2 37) _ _ = _
    rw [rS_ne _ _ _ _ (by decide)]
    show upd ((rS σ 31 _ _).2.2 37) _ _ = _
    rw [rS_ne _ _ _ _ (by decide)]
  have e36 : σ13.2.2 36 = σ.2.2 36 := by
    show (rS (rS (rS σ 31 _ _) 31 _ _) 37 c _).2.2 36 = _
    rw [rS_ne _ _ _ _ (by decide), rS_ne _ _ _ _ (by decide), rS_ne _ _ _ _ (by decide)]
  have hgo : ∀ R, (if iI (mTip m c) = 0 then some σ13 else bnd (m_put σ13 38 ((σ13.1 38) ||| (1 <<< (nI c &&& 31)))) fun σ15 => (kM_falls N σ15 (nI b) (nI c) (iI (mTip m c))).bind fun w16 => some w16) = R → kM_gets N σ (nI b) (nI c) (iI (yA m 11 c)) = R := by
    intro R hR1
    unfold kM_gets
    refine ob1 ((r_ld (q := b + 10 + c) (ix3 b c 10 rfl) (by show _ < 128; omega)).trans (by rw [h1])) (onb (iI_add _ _) ?_)
    refine ob1 ((r_ld (q := b + 1 + c) (ix3 b c 1 rfl) (by show _ < 128; omega)).trans (by rw [h0])) (oif hne (onb hdiv ?_))
    refine ob1 ((r_ld (q := b + 1 + c) (ix3 b c 1 rfl) (by show _ < 128; omega)).trans (by rw [h0])) (oif hne (onb hmod ?_))
    refine ob1 (r_st (q := b + 10 + c) (ix3 b c 10 rfl) (by show _ < 128; omega)) ?_
    refine ob1 ((r_ld (q := b + 46 + c) (ix3 b c 46 rfl) (by show _ < 128; omega)).trans (by rw [rS_get, if_neg (by omega), h5])) ?_
    refine ob1 (v := iI (yA m 2 c + mTip m c)) ?_ ?_
    · unfold kM_lesser
      rw [iI_add]
      refine oit ?_ rfl
      rw [show (1000000000 : Int32) = iI 1000000000 by decide, iI_le ⟨by omega, by omega⟩ ⟨by decide, by decide⟩]
      omega
    refine ob1 (r_st (q := b + 46 + c) (ix3 b c 46 rfl) (by show _ < 128; omega)) (ob1 (r_st (q := c) rfl (by show _ < 9; omega)) ?_)
    exact hR1
  have ez : iI (mTip m c) = 0 ↔ mTip m c = 0 := iI_eq (b := 0) ⟨by omega, by omega⟩ ⟨by decide, by decide⟩
  by_cases p0 : mTip m c = 0
  · refine ⟨σ13, hgo _ (oit (ez.mpr p0) rfl), hF13, ?_, e37, ?_, ?_, ?_⟩
    · refine RowR.settle h9 hc (hR13.turn0 _ _ ?_)
      simp only [yA_A, show ¬ (5 : Nat) = 1 by decide, show ¬ (5 : Nat) = 2 by decide, false_and, if_false]
      rw [p0]
      split <;> omega
    · rw [if_pos (by omega)]; rfl
    · rw [mSettle_14 hm0, p0]
      have : σ13.1 39 = σ.1 39 := rfl
      rw [this]
      split
      · have e : yI m 14 + iI 0 = yI m 14 := by
          rw [show iI 0 = 0 by decide, Int32.add_zero]
        rw [e, Int32.sub_self, Int32.sub_self]
      · rw [Int32.sub_self, Int32.sub_self]
    · intro j h10 h11 h12
      rw [e36, h12, mSettle_11 hm0, if_neg (by omega), mGive_0 p0, Int.add_zero]
  · have hpos : 0 < mTip m c := by omega
    let σ15 := m_put σ13 38 ((σ13.1 38) ||| (1 <<< (nI c &&& 31)))
    have hF15 : FrH b σ σ15 := hF13.trans (FrH.i b _ 38 _ (Or.inl rfl))
    have i38 : σ15.1 38 = (σ.1 38 ||| ((1 : Int32) <<< (nI c &&& 31))) := by
      show upd σ13.1 38 _ 38 = _
      exact if_pos rfl
    have i39 : σ15.1 39 = σ.1 39 := by
      show upd σ13.1 38 (σ13.1 38 ||| (1 <<< (nI c &&& 31))) 39 = _
      exact if_neg (by decide)
    have hR15 : RowR (σ15.2.2 31) b C (ysA (ysA m 1 c ((yA m 1 c + yA m 11 c) % yA m 0 c)) 2 c (if yA m 2 c + mTip m c < 1000000000 then yA m 2 c + mTip m c else 1000000000)) := hR13
    obtain ⟨f0, f1, f2, f3, f4, f5, f6⟩ := hR15.2 c hc
    simp only [yA_A, show ¬ (3 : Nat) = 1 by decide, show ¬ (3 : Nat) = 2 by decide, show ¬ (4 : Nat) = 1 by decide, show ¬ (4 : Nat) = 2 by decide, show ¬ (5 : Nat) = 1 by decide, show ¬ (5 : Nat) = 2 by decide, false_and, if_false] at f2 f3 f4
    have g36 : σ15.2.2 36 = σ.2.2 36 := e36
    have hgo2 : ∀ σ1, kM_falls N σ15 (nI b) (nI c) (iI (mTip m c)) = some σ1 → kM_gets N σ (nI b) (nI c) (iI (yA m 11 c)) = some σ1 := fun σ1 h => hgo _ (oif (fun z => p0 (ez.mp z)) (onb rfl (ob1 h rfl)))
    have r1 := r_ld (σ := σ15) (k := 31) (q := b + 19 + c) (ix3 b c 19 rfl) (by show _ < 128; omega)
    have r2 := r_ld (σ := σ15) (k := 31) (q := b + 28 + c) (ix3 b c 28 rfl) (by show _ < 128; omega)
    have r3 := r_ld (σ := σ15) (k := 31) (q := b + 37 + c) (ix3 b c 37 rfl) (by show _ < 128; omega)
    rw [f2] at r1
    rw [f3] at r2
    rw [f4] at r3
    have m1 : (-1 : Int32) = iI (-1) := by decide
    by_cases p1 : yA m 3 c = -1
    · have p2 : yA m 4 c = -2 := by omega
      refine ⟨m_put σ15 39 (σ15.1 39 + iI (mTip m c)), hgo2 _ ?_, hF15.trans (FrH.i b _ 39 _ (Or.inr rfl)), ?_, e37, ?_, ?_, ?_⟩
      · unfold kM_falls
        refine ob1 r1 (ob1 r2 (oit (by rw [p1, m1]) (onb rfl rfl)))
      · refine RowR.settle h9 hc (hR15.turn0 _ _ ?_)
        simp only [yA_A, show ¬ (5 : Nat) = 1 by decide, show ¬ (5 : Nat) = 2 by decide, false_and, if_false]
        rw [if_neg (fun z => z p2)]
      · rw [if_neg (by omega), ← i38]; rfl
      · rw [mSettle_14 hm0, if_pos ⟨p2, p1⟩]
        rw [mp_s, i39]
        rw [Int32.add_comm, Int32.add_sub_cancel, Int32.add_comm, Int32.add_sub_cancel]
      · intro j h10 h11 h12
        show σ15.2.2 36 j = _
        rw [g36, h12, mSettle_11 hm0, if_neg (by omega)]
        unfold mGive
        rw [if_pos p2, if_neg (by omega), Int.add_zero]
    · have p1n : ¬ iI (yA m 3 c) = -1 := fun z => by
        rw [m1] at z
        have := (iI_eq ⟨by omega, by omega⟩ ⟨by decide, by decide⟩).mp z
        omega
      have q1 : iI (yA m 3 c) = nI (yA m 3 c).toNat := by rw [iI_nI]; congr 1; omega
      by_cases p2 : yA m 4 c = -2
      · refine ⟨rS σ15 36 (yA m 3 c).toNat (σ.2.2 36 (yA m 3 c).toNat + iI (mTip m c)), hgo2 _ ?_, hF15.trans (FrH.s b _ 36 _ _ (Or.inl rfl)), ?_, ?_, ?_, ?_, ?_⟩
        · unfold kM_falls
          refine ob1 r1 (ob1 r2 (oif p1n (oit (by rw [if_pos p2, m1]) ?_)))
          exact ob1 ((r_ld (q := (yA m 3 c).toNat) q1 (by show _ < 9; omega)).trans (by rw [g36])) (ob1 (r_st (q := (yA m 3 c).toNat) q1 (by show _ < 9; omega)) rfl)
        · rw [rS_ne _ _ _ _ (by decide)]
          refine RowR.settle h9 hc (hR15.turn0 _ _ ?_)
          simp only [yA_A, show ¬ (5 : Nat) = 1 by decide, show ¬ (5 : Nat) = 2 by decide, false_and, if_false]
          rw [if_neg (fun z => z p2)]
        · rw [rS_ne _ _ _ _ (by decide)]; exact e37
        · rw [if_neg (by omega), ← i38]; rfl
        · rw [mSettle_14 hm0, if_neg (fun z => p1 z.2)]
          show σ15.1 39 - σ.1 39 = _
          rw [i39, Int32.sub_self, Int32.sub_self]
        · intro j h10 h11 h12
          rw [rS_get, g36, mSettle_11 hm0, if_neg (by omega : ¬ j = c)]
          unfold mGive
          rw [if_pos p2]
          by_cases e : yA m 3 c = j
          · rw [if_pos e, if_pos ⟨rfl, by omega⟩, show (yA m 3 c).toNat = j by omega, h12, iI_add]
          · rw [if_neg e, if_neg (fun z => by omega), h12, Int.add_zero]
      · have p2n : ¬ iI (if yA m 4 c = -2 then -1 else yA m 4 c) = -1 := fun z => by
          rw [if_neg p2, m1] at z
          have := (iI_eq ⟨by omega, by omega⟩ ⟨by decide, by decide⟩).mp z
          omega
        have q2 : iI (if yA m 4 c = -2 then -1 else yA m 4 c) = nI (yA m 4 c).toNat := by rw [if_neg p2, iI_nI]; congr 1; omega
        -- how much the first gets
        have key : ∀ x : Int, 0 ≤ x → x ≤ mTip m c → (∀ j : Nat, (if yA m 3 c = j then x else 0) + (if yA m 4 c = j then mTip m c - x else 0) = mGive m c j) → ∃ σ1, kM_falls_90 N σ15 (nI b) (nI c) (iI (mTip m c)) (iI (yA m 3 c)) (iI (if yA m 4 c = -2 then -1 else yA m 4 c)) (iI x) = some σ1 ∧ FrH b σ σ1 ∧ RowR (σ1.2.2 31) b C (mSettle m c) ∧ σ1.2.2 37 = upd (σ.2.2 37) c (iI (mTip m c)) ∧ σ1.1 38 = (if mTip m c ≤ 0 then σ.1 38 else (σ.1 38 ||| ((1 : Int32) <<< (nI c &&& 31)))) ∧ σ1.1 39 - σ.1 39 = yI (mSettle m c) 14 - yI m 14 ∧ ∀ j, c < j → j < C.1 → σ.2.2 36 j = iI (yA m 11 j) → σ1.2.2 36 j = iI (yA (mSettle m c) 11 j) := by
          intro x x0 x1 hx
          let σa := rS σ15 36 (yA m 3 c).toNat (σ.2.2 36 (yA m 3 c).toNat + iI x)
          let σb := rS σa 36 (yA m 4 c).toNat (σa.2.2 36 (yA m 4 c).toNat + (iI (mTip m c) - iI x))
          have b31 : σb.2.2 31 = σ15.2.2 31 := by
            show (rS (rS σ15 36 _ _) 36 _ _).2.2 31 = _
            rw [rS_ne _ _ _ _ (by decide), rS_ne _ _ _ _ (by decide)]
          refine ⟨rS σb 31 (b + 37 + c) (iI ((yA m 5 c + mTip m c) % 2)), ?_, hF15.trans ((FrH.s b _ 36 _ _ (Or.inl rfl)).trans ((FrH.s b _ 36 _ _ (Or.inl rfl)).trans (FrH.s b _ 31 _ _ (Or.inr (Or.inr ⟨rfl, by omega, by omega⟩))))), ?_, ?_, ?_, ?_, ?_⟩
          · unfold kM_falls_90
            refine ob1 ((r_ld (q := (yA m 3 c).toNat) q1 (by show _ < 9; omega)).trans (by rw [g36])) (ob1 (r_st (q := (yA m 3 c).toNat) q1 (by show _ < 9; omega)) ?_)
            refine ob1 (r_ld (q := (yA m 4 c).toNat) q2 (by show _ < 9; omega)) (ob1 (r_st (q := (yA m 4 c).toNat) q2 (by show _ < 9; omega)) ?_)
            refine ob1 ((r_ld (σ := σb) (q := b + 37 + c) (ix3 b c 37 rfl) (by show _ < 128; omega)).trans (by rw [b31, f4])) ?_
            refine onb (v := iI ((yA m 5 c + mTip m c) % 2)) ?_ ?_
            · rw [iI_add, show (2 : Int32) = iI 2 by decide]
              exact iI_mod (by omega) ⟨by omega, by omega⟩ (by decide) ⟨by decide, by decide⟩
            · exact ob1 (r_st (q := b + 37 + c) (ix3 b c 37 rfl) (by show _ < 128; omega)) rfl
          · rw [rS_arr, b31]
            refine RowR.settle h9 hc ?_
            rw [if_pos p2]
            exact hR15.turn h9 (by omega) _
          · rw [rS_ne _ _ _ _ (by decide)]
            show (rS (rS σ15 36 _ _) 36 _ _).2.2 37 = _
            rw [rS_ne _ _ _ _ (by decide), rS_ne _ _ _ _ (by decide)]
            exact e37
          · rw [if_neg (by omega), ← i38]; rfl
          · rw [mSettle_14 hm0, if_neg (fun z => p2 z.1)]
            show σ15.1 39 - σ.1 39 = _
            rw [i39, Int32.sub_self, Int32.sub_self]
          · intro j h10 h11 h12
            rw [rS_ne _ _ _ _ (by decide)]
            have ea : σa.2.2 36 j = iI (yA m 11 j + if yA m 3 c = j then x else 0) := by
              show (rS σ15 36 _ _).2.2 36 j = _
              rw [rS_get, g36]
              by_cases e : yA m 3 c = j
              · rw [if_pos e, if_pos ⟨rfl, by omega⟩, show (yA m 3 c).toNat = j by omega, h12, iI_add]
              · rw [if_neg e, if_neg (fun z => by omega), h12, Int.add_zero]
            show (rS σa 36 _ _).2.2 36 j = _
            rw [rS_get, mSettle_11 hm0, if_neg (by omega : ¬ j = c), ← hx j]
            by_cases e : yA m 4 c = j
            · rw [if_pos e, if_pos ⟨rfl, by omega⟩, show (yA m 4 c).toNat = j by omega, ea, iI_sub, iI_add, Int.add_assoc]
            · rw [if_neg e, if_neg (fun z => by omega), ea, Int.add_zero]
        have hgiv : ∀ j : Nat, mGive m c j = (if mInto m c 0 = j then (mTip m c + 1) / 2 else 0) + (if mInto m c 1 = j then mTip m c / 2 else 0) := fun j => by unfold mGive; rw [if_neg p2]
        have hin : ∀ x, mInto m c x = if (yA m 5 c + x) % 2 = 0 then yA m 3 c else yA m 4 c := fun x => by unfold mInto; rw [if_neg p2]
        by_cases p5 : yA m 5 c = 0
        · obtain ⟨σ1, k1, k2⟩ := key ((mTip m c + 1) / 2) (by omega) (by omega) (fun j => by
            rw [hgiv, hin, hin, p5, if_pos (show ((0 : Int) + 0) % 2 = 0 by decide), if_neg (show ¬ ((0 : Int) + 1) % 2 = 0 by decide), show mTip m c - (mTip m c + 1) / 2 = mTip m c / 2 by omega])
          refine ⟨σ1, hgo2 _ ?_, k2⟩
          unfold kM_falls
          refine ob1 r1 (ob1 r2 (oif p1n (oif p2n (ob1 r3 (oit (by rw [p5]; decide) (onb ?_ k1))))))
          rw [show (1 : Int32) = iI 1 by decide, iI_add, show (2 : Int32) = iI 2 by decide]
          exact iI_div (by omega) ⟨by omega, by omega⟩ (by decide) ⟨by decide, by decide⟩
        · have p51 : yA m 5 c = 1 := by omega
          obtain ⟨σ1, k1, k2⟩ := key (mTip m c / 2) (by omega) (by omega) (fun j => by
            rw [hgiv, hin, hin, p51, if_neg (show ¬ ((1 : Int) + 0) % 2 = 0 by decide), if_pos (show ((1 : Int) + 1) % 2 = 0 by decide), show mTip m c - mTip m c / 2 = (mTip m c + 1) / 2 by omega]
            omega)
          refine ⟨σ1, hgo2 _ ?_, k2⟩
          unfold kM_falls
          refine ob1 r1 (ob1 r2 (oif p1n (oif p2n (ob1 r3 (oif (by rw [p51]; decide) (onb ?_ k1))))))
          rw [show (2 : Int32) = iI 2 by decide]
          exact iI_div (by omega) ⟨by omega, by omega⟩ (by decide) ⟨by decide, by decide⟩
end RG
