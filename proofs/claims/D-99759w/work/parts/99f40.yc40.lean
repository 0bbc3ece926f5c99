/-! the cave: what a new night holds -/
def NBc (S0 S : XS) (j : Nat) (fs : List Value) (F : Nat → Nat → Int32) : Prop := NB S0 S j fs ∧ ∀ i, i < j → genAt S (xTop S0 + 1 + i) (.inl (0, 9, .inl (F i)))
section YC40
variable {g : XC} {N : Nat} {S0 S : XS} {j : Nat} {fs : List Value} {F : Nat → Nat → Int32}
theorem NBc.out (h : NBc S0 S j fs F) {k : Nat} {v : Option Nat} (hk : k < fs.length) : ∃ S1, f_putR S 2 (xTop S0) k v = some S1 ∧ NBc S0 S1 j (fs.set k (va_rf v)) F := by
  obtain ⟨S1, a1, a2⟩ := h.1.out (v := v) hk
  have e := Option.some.inj (a1.symm.trans (g_putR h.1.2.2.2.1 hk))
  refine ⟨S1, a1, a2, fun i hi => ?_⟩
  rw [e]
  exact setG_ne (h.2 i hi) (by omega)
theorem NBc.step {k : Nat} (h : NBc S0 S j fs (fun _ _ => 0)) (hk : k < fs.length) (hj : j < 8) (r1 : xTop S0 + 9 ≤ xCc S0) (r2 : xSl S0 + 88 ≤ xCs S0) : ∃ S1, NBc S0 S1 (j + 1) (fs.set k (.ref (xTop S0 + 1 + j))) (fun _ _ => 0) ∧ ∀ (F : XS → Option XS), ((xNewI S 0 9).bind fun S2 => (f_putR S2 2 (xTop S0) k (some (xTop S))).bind F) = F S1 := by
  obtain ⟨S1, a1, a2⟩ := h.1.step hk hj r1 r2
  obtain ⟨h1, h2, h3, h4, h5⟩ := h.1
  have hc := h1.2.2.2.1
  have hs := h1.2.2.2.2.1
  have g4 : genAt (newS S 9 (.inl (0, 9, .inl (fun _ => 0)))) (xTop S0) (.inr (2, fs)) := gn_at h1.1 9 _ h4
  have e1 : ((xNewI S 0 9).bind fun S2 => (f_putR S2 2 (xTop S0) k (some (xTop S))).bind some) = some (xSetG (newS S 9 (.inl (0, 9, .inl (fun _ => 0)))) (xTop S0) (.inr (2, fs.set k (va_rf (some (xTop S)))))) := ob1 (x_newI (n := 9) (by omega) (by omega) (by omega)) (ob1 (g_putR g4 hk) rfl)
  have e := Option.some.inj ((a2 some).symm.trans e1)
  refine ⟨S1, ⟨a1, fun i hi => ?_⟩, a2⟩
  rw [e]
  refine setG_ne ?_ (by omega)
  by_cases z : i < j
  · exact gn_at h1.1 9 _ (h.2 i z)
  · have e2 : xTop S0 + 1 + i = xTop S := by omega
    rw [e2]
    exact newS_at S 9 _
theorem NBc.put (h : NBc S0 S 8 fs F) {i q : Nat} (hi : i < 8) (hq : q < 9) (v : Int32) : ∃ S1, a_putI S 0 (xTop S0 + 1 + i) (nI q) v = some S1 ∧ NBc S0 S1 8 fs (fun i' => if i' = i then upd (F i) q v else F i') := by
  obtain ⟨S1, a1, a2⟩ := h.1.put hi hq v
  have e := Option.some.inj (a1.symm.trans (g_aputI (h.2 i hi) hq (by decide)))
  refine ⟨S1, a1, a2, fun i' hi' => ?_⟩
  rw [e]
  by_cases z : i' = i
  · subst z
    dsimp only
    rw [if_pos rfl]
    exact setG_at (h.2 _ hi)
  · dsimp only
    rw [if_neg z]
    exact setG_ne (h.2 i' hi') (by omega)
/-- the arrays of a new night, k cups done -/
def nbF (k i : Nat) : Nat → Int32 := if i = 3 then (fun q => if q < k then -1 else 0) else if i = 4 then (fun q => if q < k then -2 else 0) else fun _ => 0
theorem nbF_3 (k : Nat) : upd (nbF k 3) k (-1) = nbF (k + 1) 3 := by
  funext q
  show (if q = k then (-1 : Int32) else if q < k then -1 else 0) = if q < k + 1 then -1 else 0
  by_cases e : q = k
  · rw [if_pos e, if_pos (by omega)]
  · rw [if_neg e]
    by_cases e2 : q < k
    · rw [if_pos e2, if_pos (by omega)]
    · rw [if_neg e2, if_neg (by omega)]
theorem nbF_4 (k : Nat) : upd (nbF k 4) k (-2) = nbF (k + 1) 4 := by
  funext q
  show (if q = k then (-2 : Int32) else if q < k then -2 else 0) = if q < k + 1 then -2 else 0
  by_cases e : q = k
  · rw [if_pos e, if_pos (by omega)]
  · rw [if_neg e]
    by_cases e2 : q < k
    · rw [if_pos e2, if_pos (by omega)]
    · rw [if_neg e2, if_neg (by omega)]
theorem nbc_loop {xa : Nat} (hN : 2 ^ 20 < N) (h : NBc S0 S 8 (nbL (xTop S0) xa) (nbF 0)) : ∃ S2 S1, kX_X3_init_75 g N N S (xTop S0) 0 = some S1 ∧ x_adopt S2 2 (xTop S0) = some S1 ∧ NBc S0 S2 8 (nbL (xTop S0) xa) (nbF 9) := by
  refine y_loop (fun n (s : XS) k => kX_X3_init_75 g N n s (xTop S0) (nI k)) 9 (fun s k => NBc S0 s 8 (nbL (xTop S0) xa) (nbF k)) (fun r => ∃ S2 S1, r = some S1 ∧ x_adopt S2 2 (xTop S0) = some S1 ∧ NBc S0 S2 8 (nbL (xTop S0) xa) (nbF 9)) ?_ ?_ 9 N S 0 (by omega) (by omega) h
  · intro n s k hk hs
    right
    obtain ⟨s1, p1, p2⟩ := hs.put (i := 3) (q := k) (by decide) hk (-1)
    obtain ⟨s2, p3, p4⟩ := p2.put (i := 4) (q := k) (by decide) hk (-2)
    refine ⟨s2, ?_, p4.1, fun i hi => ?_⟩
    · show kX_X3_init_75 g N (n + 1) s (xTop S0) (nI k) = kX_X3_init_75 g N n s2 (xTop S0) (nI (k + 1))
      rw [kX_X3_init_75, nI_1]
      refine oif (nI_ge (b := 9) hk (by decide)) (ob1 (g_obj hs.1.2.2.2.1 ?_) (ob1 p1 (ob1 (g_obj p2.1.2.2.2.1 ?_) (ob1 p3 rfl))))
      · exact nb_get (by decide)
      · exact nb_get (by decide)
    · have h4 := p4.2 i hi
      have e : (if i = 4 then upd (if 4 = 3 then upd (nbF k 3) k (-1) else nbF k 4) k (-2) else if i = 3 then upd (nbF k 3) k (-1) else nbF k i) = nbF (k + 1) i := by
        by_cases e4 : i = 4
        · rw [if_pos e4, if_neg (by decide), e4]
          exact nbF_4 k
        · rw [if_neg e4]
          by_cases e3 : i = 3
          · rw [if_pos e3, e3]
            exact nbF_3 k
          · rw [if_neg e3]
            unfold nbF
            rw [if_neg e3, if_neg e4, if_neg e3, if_neg e4]
      rw [← e]
      exact h4
  · intro n s hs
    obtain ⟨S1, q1, q2⟩ := nx_adopt hs.1
    refine ⟨s, S1, ?_, q1, hs⟩
    show kX_X3_init_75 g N (n + 1) s (xTop S0) (nI 9) = some S1
    rw [kX_X3_init_75]
    exact oit (by decide) (ob1 q1 rfl)
theorem x_nightC {xa : Nat} (hN : 2 ^ 20 < N) (hW : WFr S) (hxa : tyA S 1 xa) (r1 : xTop S + 9 ≤ xCc S) (r2 : xSl S + 88 ≤ xCs S) : ∃ S1 m0, kX_X3_init g N (newS S 16 (.inr (2, nbE))) (xTop S) xa = some S1 ∧ XE (fun _ => False) S S1 ∧ xTop S1 = xTop S + 9 ∧ xSl S1 = xSl S + 88 ∧ NightAt S1 (xTop S) xa m0 ∧ LOk (s00 m0) := by
  obtain ⟨S1, q0, q1, q2, q3, q4⟩ := x_nightNew (g := g) hN hW hxa r1 r2
  have hz : NBc S (newS S 16 (.inr (2, nbE))) 0 nbE (fun _ _ => 0) := ⟨NB.nil hW, fun i hi => absurd hi (by omega)⟩
  obtain ⟨t1, p1, p2⟩ := hz.out (k := 15) (v := some xa) (by decide)
  obtain ⟨s0, a0, b0⟩ := p2.step (k := 0) (by simp [nbE]) (by decide) r1 r2
  obtain ⟨s1, a1, b1⟩ := a0.step (k := 1) (by simp [nbE]) (by decide) r1 r2
  obtain ⟨s2, a2, b2⟩ := a1.step (k := 2) (by simp [nbE]) (by decide) r1 r2
  obtain ⟨s3, a3, b3⟩ := a2.step (k := 3) (by simp [nbE]) (by decide) r1 r2
  obtain ⟨s4, a4, b4⟩ := a3.step (k := 4) (by simp [nbE]) (by decide) r1 r2
  obtain ⟨s5, a5, b5⟩ := a4.step (k := 5) (by simp [nbE]) (by decide) r1 r2
  obtain ⟨s6, a6, b6⟩ := a5.step (k := 11) (by simp [nbE]) (by decide) r1 r2
  obtain ⟨s7, a7, b7⟩ := a6.step (k := 12) (by simp [nbE]) (by decide) r1 r2
  have eF : nbF 0 = fun _ _ => 0 := by
    funext i q
    unfold nbF
    by_cases e3 : i = 3
    · rw [if_pos e3, if_neg (by omega)]
    · rw [if_neg e3]
      by_cases e4 : i = 4
      · rw [if_pos e4, if_neg (by omega)]
      · rw [if_neg e4]
  have a8 : NBc S s7 8 (nbL (xTop S) xa) (nbF 0) := by
    rw [eF]
    exact a7
  obtain ⟨S2, S3, u1, u2, u3⟩ := nbc_loop (g := g) hN a8
  have eS : S3 = S1 := by
    have : kX_X3_init g N (newS S 16 (.inr (2, nbE))) (xTop S) xa = some S3 := by
      unfold kX_X3_init
      refine ob1 p1 ?_
      refine (b0 _).trans ((b1 _).trans ((b2 _).trans ((b3 _).trans ((b4 _).trans ((b5 _).trans ((b6 _).trans ((b7 _).trans ?_)))))))
      exact u1
    exact Option.some.inj (this.symm.trans q0)
  subst eS
  have hcont : (∀ k, xI S3 (xTop S) k = 0) ∧ ∀ k, k < 16 → x_isA 2 k = true → xA S3 (xTop S) k = nbF 9 (nbI k) := by
    unfold x_adopt at u2
    rw [u3.1.2.2.2.1.2] at u2
    dsimp only at u2
    split at u2
    · cases u2
      refine ⟨fun k => (if_pos rfl).trans ?_, fun k hk ha => (if_pos rfl).trans ?_⟩
      · by_cases hk : k < 16
        · rw [nb_get hk]
          unfold nbV
          by_cases ha : x_isA 2 k = true
          · rw [if_pos ha]
          · rw [if_neg ha]
            by_cases e : k = 15
            · rw [if_pos e]
            · rw [if_neg e]
        · have : (nbL (xTop S) xa)[k]? = none := List.getElem?_eq_none (by unfold nbL; simp; omega)
          rw [this]
      · rw [nb_rf hk ha]
        show x_arr S2 (xTop S + 1 + nbI k) = _
        unfold x_arr
        rw [(u3.2 _ (nbI_lt k hk ha)).2]
    · cases u2
  obtain ⟨c1, c2⟩ := hcont
  have eA : ∀ k i, k < 16 → x_isA 2 k = true → yA (yMN S3 (xTop S)) k i = (nbF 9 (nbI k) i).toInt := fun k i hk ha => by
    show (xA S3 (xTop S) k i).toInt = _
    rw [c2 k hk ha]
  have z0 : ((0 : Int32)).toInt = 0 := by decide
  refine ⟨S3, yMN S3 (xTop S), q0, q1, q2, q3, ⟨q4, rfl, fun j i => (iI_t _).symm⟩, Nat.zero_le _, fun k hk => absurd hk (Nat.not_lt_zero k), fun k hk => absurd hk (Nat.not_lt_zero k), fun k hk => (by cases hk), fun k hk _ => ⟨?_, ?_⟩, fun k => ⟨?_, ?_, fun _ => ?_⟩, fun j hj => ?_⟩
  · show yA (yMN S3 (xTop S)) 3 k = -1
    rw [eA 3 k (by decide) (by decide)]
    show (if k < 9 then (-1 : Int32) else 0).toInt = -1
    rw [if_pos hk]
    decide
  · show yA (yMN S3 (xTop S)) 4 k = -2
    rw [eA 4 k (by decide) (by decide)]
    show (if k < 9 then (-2 : Int32) else 0).toInt = -2
    rw [if_pos hk]
    decide
  · show yA (yMN S3 (xTop S)) 2 k = 0
    rw [eA 2 k (by decide) (by decide)]
    exact z0
  · show yA (yMN S3 (xTop S)) 5 k = 0
    rw [eA 5 k (by decide) (by decide)]
    exact z0
  · show yA (yMN S3 (xTop S)) 11 k = 0
    rw [eA 11 k (by decide) (by decide)]
    exact z0
  · show xI S3 (xTop S) j = 0
    exact c1 j
end YC40
