/-! plain law: a new night -/
def nbI (k : Nat) : Nat := if k < 6 then k else if k = 11 then 6 else 7
def nbV (t xa k : Nat) : Value := if x_isA 2 k = true then .ref (t + 1 + nbI k) else if k = 15 then .ref xa else .int 0
def nbL (t xa : Nat) : List Value := (List.range 16).map (nbV t xa)
def nbE : List Value := [.null, .null, .null, .null, .null, .null, .int 0, .int 0, .int 0, .int 0, .int 0, .null, .null, .int 0, .int 0, .null]
def NB (S0 S : XS) (j : Nat) (fs : List Value) : Prop := XE (fun _ => False) S0 S ∧ xTop S = xTop S0 + 1 + j ∧ xSl S = xSl S0 + 16 + 9 * j ∧ genAt S (xTop S0) (.inr (2, fs)) ∧ ∀ i, i < j → ∃ f, genAt S (xTop S0 + 1 + i) (.inl (0, 9, .inl f))
theorem NB.nil {S : XS} (h : WFr S) : NB S (newS S 16 (.inr (2, nbE))) 0 nbE := ⟨newS_XE h 16 _ _, rfl, rfl, newS_at S 16 _, fun i hi => absurd hi (by omega)⟩
theorem NB.setG {S0 S : XS} {j : Nat} {fs : List Value} (h : NB S0 S j fs) {q : Nat} {e0 e : GE} (hq : genAt S q e0) (hge : xTop S0 ≤ q) : XE (fun _ => False) S0 (xSetG S q e) := by
  refine (h.1.trans (setG_XE h.1.1 hq (e := e) (P := fun q => xTop S0 ≤ q) hge) (P1 := fun q => xTop S0 ≤ q) (fun q hq z => ?_))
  exact absurd hq (by omega)
theorem NB.out {S0 S : XS} {j : Nat} {fs : List Value} (h : NB S0 S j fs) {k : Nat} {v : Option Nat} (hk : k < fs.length) : ∃ S1, f_putR S 2 (xTop S0) k v = some S1 ∧ NB S0 S1 j (fs.set k (va_rf v)) := by
  refine ⟨_, g_putR h.2.2.2.1 hk, h.setG h.2.2.2.1 (Nat.le_refl _), h.2.1, h.2.2.1, setG_at h.2.2.2.1, fun i hi => ?_⟩
  obtain ⟨f, hf⟩ := h.2.2.2.2 i hi
  exact ⟨f, hf.1, (if_neg (by omega)).trans hf.2⟩
theorem NB.step {S0 S : XS} {j k : Nat} {fs : List Value} (h : NB S0 S j fs) (hk : k < fs.length) (hj : j < 8) (r1 : xTop S0 + 9 ≤ xCc S0) (r2 : xSl S0 + 88 ≤ xCs S0) : ∃ S1, NB S0 S1 (j + 1) (fs.set k (.ref (xTop S0 + 1 + j))) ∧ ∀ (F : XS → Option XS), ((xNewI S 0 9).bind fun S2 => (f_putR S2 2 (xTop S0) k (some (xTop S))).bind F) = F S1 := by
  obtain ⟨h1, h2, h3, h4, h5⟩ := h
  have hc := h1.2.2.2.1
  have hs := h1.2.2.2.2.1
  have hn : NB S0 (newS S 9 (.inl (0, 9, .inl (fun _ => 0)))) (j + 1) fs := by
    refine ⟨h1.trans (newS_XE h1.1 9 _ (fun _ => False)) (fun _ _ z => z), ?_, ?_, ⟨(newS_own S 9 (.inl (0, 9, .inl (fun _ => 0))) (by omega)).trans h4.1, (if_neg (by omega)).trans h4.2⟩, fun i hi => ?_⟩
    · show xTop S + 1 = _
      omega
    · show xSl S + 9 = _
      omega
    · by_cases z : i < j
      · obtain ⟨f, hf⟩ := h5 i z
        exact ⟨f, (newS_own S 9 (.inl (0, 9, .inl (fun _ => 0))) (by omega)).trans hf.1, (if_neg (by omega)).trans hf.2⟩
      · have e : xTop S0 + 1 + i = xTop S := by omega
        rw [e]
        exact ⟨_, newS_at S 9 _⟩
  obtain ⟨S1, p1, p2⟩ := hn.out (v := some (xTop S)) hk
  have e : va_rf (some (xTop S)) = .ref (xTop S0 + 1 + j) := by rw [h2]; rfl
  rw [e] at p2
  exact ⟨S1, p2, fun F => ob1 (x_newI (n := 9) (by omega) (by omega) (by omega)) (ob1 p1 rfl)⟩
theorem NB.put {S0 S : XS} {fs : List Value} (h : NB S0 S 8 fs) {i q : Nat} (hi : i < 8) (hq : q < 9) (v : Int32) : ∃ S1, a_putI S 0 (xTop S0 + 1 + i) (nI q) v = some S1 ∧ NB S0 S1 8 fs := by
  obtain ⟨f, hf⟩ := h.2.2.2.2 i hi
  refine ⟨_, g_aputI hf hq (by decide), h.setG hf (by omega), h.2.1, h.2.2.1, ⟨h.2.2.2.1.1, (if_neg (by omega)).trans h.2.2.2.1.2⟩, fun i' hi' => ?_⟩
  by_cases z : i' = i
  · subst z
    exact ⟨_, setG_at hf⟩
  · obtain ⟨f', hf'⟩ := h.2.2.2.2 i' hi'
    exact ⟨f', hf'.1, (if_neg (by omega)).trans hf'.2⟩
theorem nb_get {t xa k : Nat} (hk : k < 16) : (nbL t xa)[k]? = some (nbV t xa k) := by
  unfold nbL
  rw [List.getElem?_map, List.getElem?_range hk]
  rfl
theorem nb_rf {t xa k : Nat} (hk : k < 16) (ha : x_isA 2 k = true) : x_rf (nbL t xa) k = some (t + 1 + nbI k) := by
  unfold x_rf
  rw [nb_get hk]
  unfold nbV
  rw [if_pos ha]
theorem nbI_inj : ∀ k, k < 16 → ∀ j, j < 16 → x_isA 2 k = true → x_isA 2 j = true → nbI k = nbI j → k = j := by decide
theorem nbI_lt : ∀ k, k < 16 → x_isA 2 k = true → nbI k < 8 := by decide
theorem nb_fit {S0 S : XS} {xa : Nat} (h : NB S0 S 8 (nbL (xTop S0) xa)) : (List.range (x_N 2)).all (x_fit S 2 (nbL (xTop S0) xa)) = true := by
  rw [List.all_eq_true]
  intro k hk
  have hk : k < 16 := List.mem_range.mp hk
  unfold x_fit
  rw [nb_get hk]
  unfold nbV
  by_cases ha : x_isA 2 k = true
  · rw [if_pos ha]
    dsimp only
    rw [if_pos ha]
    obtain ⟨f, hf⟩ := h.2.2.2.2 (nbI k) (nbI_lt k hk ha)
    rw [hf.2]
    have hkk : x_kd 2 k = 1 := by
      have : ∀ k, k < 16 → x_isA 2 k = true → x_kd 2 k = 1 := by decide
      exact this k hk ha
    simp only [Bool.and_eq_true, decide_eq_true_eq]
    refine ⟨⟨hf.1, (nA_ak hkk).symm, nA_len.symm⟩, ?_⟩
    rw [List.all_eq_true]
    intro j hj
    have hj : j < 16 := List.mem_range.mp hj
    simp only [decide_eq_true_eq]
    by_cases e : j = k
    · exact Or.inl e
    · by_cases e2 : x_isA 2 j = true
      · refine Or.inr (Or.inr ?_)
        rw [nb_rf hj e2]
        intro z
        have z := Option.some.inj z
        exact e (nbI_inj j hj k hk e2 ha (by omega))
      · exact Or.inr (Or.inl e2)
  · rw [if_neg ha]
    have hk2 : ∀ k, k < 16 → ¬ x_isA 2 k = true → if k = 15 then (x_kd 2 k == 2) = true else (x_kd 2 k != 2 && !x_isA 2 k) = true := by decide
    have h2 := hk2 k hk ha
    by_cases e : k = 15
    · rw [if_pos e] at h2 ⊢
      dsimp only
      rw [if_neg ha]
      exact h2
    · rw [if_neg e] at h2 ⊢
      exact h2
theorem nb_adopt {S0 S : XS} {xa : Nat} (h : NB S0 S 8 (nbL (xTop S0) xa)) (hxa : tyA S0 1 xa) (hx : xa < xTop S0) : ∃ S1, x_adopt S 2 (xTop S0) = some S1 ∧ XE (fun _ => False) S0 S1 ∧ xTop S1 = xTop S0 + 9 ∧ xSl S1 = xSl S0 + 88 ∧ NC S1 (xTop S0) xa := by
  have hfit := nb_fit h
  have h9 : (2 = 2 ∧ xOwn S (xTop S0) = (0, 0, 0) ∧ 0 < 2 ∧ 2 < 10 ∧ (nbL (xTop S0) xa).length = x_N 2 ∧ (List.range (x_N 2)).all (x_fit S 2 (nbL (xTop S0) xa)) = true) := ⟨rfl, h.2.2.2.1.1, by decide, by decide, by unfold nbL; simp [x_N], hfit⟩
  have hex : ∃ S1, x_adopt S 2 (xTop S0) = some S1 ∧ xOwn S1 (xTop S0) = (2, 0, 0) ∧ xR S1 (xTop S0) 15 = some xa ∧ ∀ q, q < xTop S0 → tSame S S1 q := by
    unfold x_adopt
    rw [h.2.2.2.1.2]
    dsimp only
    rw [if_pos h9]
    refine ⟨_, rfl, if_pos rfl, (if_pos rfl).trans ?_, fun q hq => ?_⟩
    · unfold x_rf
      rw [nb_get (by decide)]
      rfl
    · have hq1 : q ≠ xTop S0 := by omega
      have hw : x_who 2 (nbL (xTop S0) xa) q = none := by
        unfold x_who
        rw [List.find?_eq_none]
        intro k hk
        have hk : k < 16 := List.mem_range.mp hk
        simp only [Bool.and_eq_true, decide_eq_true_eq]
        rintro ⟨ha, hr⟩
        rw [nb_rf hk ha] at hr
        have := Option.some.inj hr
        omega
      refine ⟨?_, funext fun j => if_neg hq1, funext fun j => if_neg hq1, funext fun j => if_neg hq1, funext fun j => if_neg hq1, rfl⟩
      show (if q = xTop S0 then _ else match x_who 2 (nbL (xTop S0) xa) q with
          | some k => (2 + 10, xTop S0, k)
          | none => xOwn S q) = _
      rw [if_neg hq1, hw]
  obtain ⟨S1, k1, k2, k3, k4⟩ := hex
  obtain ⟨a1, a2, a3⟩ := x_adopt_s h.1.1.1 k1
  have ht : xTop S1 = xTop S := by unfold xTop; rw [a3]
  have hw1 : WFr S1 := ⟨a2, fun q e hq => by rw [ht]; exact h.1.1.2 q e (by rw [← a1]; exact hq)⟩
  refine ⟨S1, k1, ⟨hw1, by rw [ht]; exact h.1.2.1, by unfold xSl; rw [a3]; exact h.1.2.2.1, by unfold xCc; rw [a3]; exact h.1.2.2.2.1, by unfold xCs; rw [a3]; exact h.1.2.2.2.2.1, fun q hq z => (h.1.2.2.2.2.2 q hq z).trans (k4 q hq)⟩, by rw [ht, h.2.1], ?_, ?_⟩
  · have := h.2.2.1
    unfold xSl at this ⊢
    rw [a3]
    omega
  · refine ⟨⟨?_, hxa.2⟩, ⟨k2, by decide, by decide⟩, by omega, a2, k3⟩
    rw [(k4 xa hx).1, (h.1.2.2.2.2.2 xa hx (fun z => z)).1]
    exact hxa.1
theorem nb_loop {g : XC} {N : Nat} {S0 S : XS} {xa : Nat} (hN : 2 ^ 20 < N) (h : NB S0 S 8 (nbL (xTop S0) xa)) (hxa : tyA S0 1 xa) (hx : xa < xTop S0) : ∃ S1, kX_X3_init_75 g N N S (xTop S0) 0 = some S1 ∧ XE (fun _ => False) S0 S1 ∧ xTop S1 = xTop S0 + 9 ∧ xSl S1 = xSl S0 + 88 ∧ NC S1 (xTop S0) xa := by
  have h0 : (0 : Int32) = nI 0 := by decide
  rw [h0]
  refine y_loop (fun n (s : XS) k => kX_X3_init_75 g N n s (xTop S0) (nI k)) 9 (fun s _ => NB S0 s 8 (nbL (xTop S0) xa)) (fun r => ∃ S1, r = some S1 ∧ XE (fun _ => False) S0 S1 ∧ xTop S1 = xTop S0 + 9 ∧ xSl S1 = xSl S0 + 88 ∧ NC S1 (xTop S0) xa) ?_ ?_ 9 N S 0 (by omega) (by omega) h
  · intro n s k hk hs
    right
    obtain ⟨s1, p1, p2⟩ := hs.put (i := 3) (q := k) (by decide) hk (-1)
    obtain ⟨s2, p3, p4⟩ := p2.put (i := 4) (q := k) (by decide) hk (-2)
    refine ⟨s2, ?_, p4⟩
    show kX_X3_init_75 g N (n + 1) s (xTop S0) (nI k) = kX_X3_init_75 g N n s2 (xTop S0) (nI (k + 1))
    rw [kX_X3_init_75, nI_1]
    refine oif (nI_ge (b := 9) hk (by decide)) (ob1 (g_obj hs.2.2.2.1 ?_) (ob1 p1 (ob1 (g_obj p2.2.2.2.1 ?_) (ob1 p3 rfl))))
    · exact nb_get (by decide)
    · exact nb_get (by decide)
  · intro n s hs
    obtain ⟨S1, q1, q2⟩ := nb_adopt hs hxa hx
    refine ⟨S1, ?_, q2⟩
    show kX_X3_init_75 g N (n + 1) s (xTop S0) (nI 9) = some S1
    rw [kX_X3_init_75]
    exact oit (by decide) (ob1 q1 rfl)
theorem x_nightNew {g : XC} {N : Nat} {S : XS} {xa : Nat} (hN : 2 ^ 20 < N) (hW : WFr S) (hxa : tyA S 1 xa) (r1 : xTop S + 9 ≤ xCc S) (r2 : xSl S + 88 ≤ xCs S) : ∃ S1, kX_X3_init g N (newS S 16 (.inr (2, nbE))) (xTop S) xa = some S1 ∧ XE (fun _ => False) S S1 ∧ xTop S1 = xTop S + 9 ∧ xSl S1 = xSl S + 88 ∧ NC S1 (xTop S) xa := by
  have hx : xa < xTop S := hW.2 xa _ hxa.cell
  obtain ⟨S1, p1, p2⟩ := (NB.nil hW).out (k := 15) (v := some xa) (by decide)
  obtain ⟨s0, a0, b0⟩ := p2.step (k := 0) (by simp [nbE]) (by decide) r1 r2
  obtain ⟨s1, a1, b1⟩ := a0.step (k := 1) (by simp [nbE]) (by decide) r1 r2
  obtain ⟨s2, a2, b2⟩ := a1.step (k := 2) (by simp [nbE]) (by decide) r1 r2
  obtain ⟨s3, a3, b3⟩ := a2.step (k := 3) (by simp [nbE]) (by decide) r1 r2
  obtain ⟨s4, a4, b4⟩ := a3.step (k := 4) (by simp [nbE]) (by decide) r1 r2
  obtain ⟨s5, a5, b5⟩ := a4.step (k := 5) (by simp [nbE]) (by decide) r1 r2
  obtain ⟨s6, a6, b6⟩ := a5.step (k := 11) (by simp [nbE]) (by decide) r1 r2
  obtain ⟨s7, a7, b7⟩ := a6.step (k := 12) (by simp [nbE]) (by decide) r1 r2
  obtain ⟨S2, q1, q2⟩ := nb_loop (g := g) (S := s7) hN a7 hxa hx
  refine ⟨S2, ?_, q2⟩
  unfold kX_X3_init
  refine ob1 p1 ?_
  refine (b0 _).trans ((b1 _).trans ((b2 _).trans ((b3 _).trans ((b4 _).trans ((b5 _).trans ((b6 _).trans ((b7 _).trans ?_)))))))
  exact q1
theorem WFr.og {S S1 : XS} (h : WFr S) (hw : xWF S1) (ht : xTop S ≤ xTop S1) (ho : ∀ q, xOwn S1 q = xOwn S q ∧ xG S1 q = xG S q) : WFr S1 := ⟨hw, fun q e hq => by
  have : ∃ e, x_cell S1 q = some e := ⟨e, hq⟩
  rw [x_cell_some, (ho q).1, (ho q).2] at this
  obtain ⟨e2, he2⟩ := x_cell_some.mpr this
  exact Nat.lt_of_lt_of_le (h.2 q e2 he2) ht⟩
/-- a night like another -/
theorem x_copy {g : XC} {N : Nat} {S : XS} {xa r : Nat} {V : MN} (hN : 2 ^ 20 < N) (hW : WFr S) (hn : NightAt S r xa V) (r1 : xTop S + 9 ≤ xCc S) (r2 : xSl S + 88 ≤ xCs S) : ∃ S1 m, kX_X3_copy g N S r = some (S1, xTop S) ∧ XE (fun _ => False) S S1 ∧ xTop S1 = xTop S + 9 ∧ xSl S1 = xSl S + 88 ∧ NightAt S1 (xTop S) xa (mBe m V) := by
  obtain ⟨S1, p1, p2, p3, p4, p5⟩ := x_nightNew (g := g) hN hW hn.1.1 r1 r2
  have hr : r < xTop S := hW.2 r _ hn.1.2.1.cell
  have hxa : xa < xTop S := hW.2 xa _ hn.1.1.cell
  obtain ⟨t1, t2, t3, t4, t5, t6⟩ := p2.2.2.2.2.2 r hr (fun z => z)
  obtain ⟨u1, u2, u3, u4, u5, u6⟩ := p2.2.2.2.2.2 xa hxa (fun z => z)
  have hn1 : NightAt S1 r xa V := hn.keep p5.2.2.2.1 u1 t1 t3 t2 t4
  have hbe := x_be (g := g) (N := N) (m := yMN S1 (xTop S)) (w := xA S1 xa 0) hN p5 hn1 (Nat.ne_of_lt hr)
  rw [nset_yMN p5.2.2.1] at hbe
  have n1 : NightAt (newS S 16 (.inr (2, nbE))) r xa V := by
    have w := newS_same S 16 (.inr (2, nbE)) hr
    exact hn.keep (newS_wf hW 16 _).1 (newS_same S 16 (.inr (2, nbE)) hxa).1 w.1 w.2.2.1 w.2.1 w.2.2.2.1
  refine ⟨nset S1 (xTop S) xa (mBe (yMN S1 (xTop S)) V) (xA S1 xa 0), yMN S1 (xTop S), ?_, ⟨p2.1.og p2.1.1 (Nat.le_refl _) (fun _ => ⟨rfl, rfl⟩), p2.2.1, p2.2.2.1, p2.2.2.2.1, p2.2.2.2.2.1, fun q hq z => (p2.2.2.2.2.2 q hq z).trans ⟨rfl, ?_, rfl, ?_, rfl, rfl⟩⟩, p3, p4, na_self p5 _⟩
  · unfold kX_X3_copy
    refine ob1 (x_newS (n := 16) (e := .inr (2, nbE)) (by omega) (by omega)) (ob1 (na_out n1) (ob1 p1 (ob1 (v := ()) (f_cls_T p5.2.1) (ob1 hbe rfl))))
  · funext j
    exact if_neg (Nat.ne_of_lt hq)
  · funext j
    show (if q = xTop S then _ else if q = xa ∧ j = 0 then xA S1 xa 0 else xA S1 q j) = xA S1 q j
    rw [if_neg (Nat.ne_of_lt hq)]
    by_cases e : q = xa ∧ j = 0
    · rw [if_pos e, e.1, e.2]
    · rw [if_neg e]
