/-! plain law: the reference's constructor -/
/-- field, class of the array, its length; length 0: -1 is put -/
def moS : List (Nat × Nat × Nat) := [(2, 0, 0), (3, 0, 0), (4, 0, 9), (5, 0, 1400), (6, 0, 700), (9, 0, 0), (10, 0, 3), (25, 0, 9), (26, 0, 64), (27, 0, 1400), (28, 0, 950), (29, 6, 9), (30, 6, 9), (31, 0, 128), (32, 0, 2560), (34, 0, 6), (35, 0, 950), (36, 0, 9), (37, 0, 9), (40, 0, 0), (41, 0, 9), (42, 0, 9), (43, 0, 9), (44, 0, 9), (45, 0, 9), (46, 0, 9), (47, 0, 9), (48, 0, 9), (50, 0, 24), (51, 0, 40), (52, 0, 20480), (57, 0, 64), (58, 0, 2560), (59, 0, 24)]
def moR (x0 : Nat) : List (Nat × Nat × Nat) → XS → Option XS
  | [], S => some S
  | (k, t, n) :: l, S => if n = 0 then (f_putI S 0 x0 k (-1)).bind fun S1 => moR x0 l S1 else (xNewI S t (nI n)).bind fun S1 => (f_putR S1 0 x0 k (some (xTop S))).bind fun S2 => moR x0 l S2
theorem moR_eq (g : XC) (N : Nat) (S : XS) (x0 : Nat) : kX_X4_init g N S x0 = moR x0 moS S := rfl
def moF : List (Nat × Nat × Nat) → List Value → Nat → List Value
  | [], fs, _ => fs
  | (k, _, n) :: l, fs, t => if n = 0 then moF l (fs.set k (.int (-1))) t else moF l (fs.set k (.ref t)) (t + 1)
def moC : List (Nat × Nat × Nat) → Nat
  | [] => 0
  | (_, _, n) :: l => if n = 0 then moC l else moC l + 1
def moL : List (Nat × Nat × Nat) → Nat
  | [] => 0
  | (_, _, n) :: l => moL l + n
/-- which arrays lie where -/
def moP : List (Nat × Nat × Nat) → Nat → List (Nat × Nat × Nat × Nat)
  | [], _ => []
  | (k, t, n) :: l, i => if n = 0 then moP l i else (k, t, n, i) :: moP l (i + 1)
theorem moP_ge : ∀ l i e, e ∈ moP l i → i ≤ e.2.2.2 := by
  intro l
  induction l with
  | nil => intro i e h; cases h
  | cons a l ih =>
    intro i e h
    obtain ⟨k, t, n⟩ := a
    unfold moP at h
    by_cases hn : n = 0
    · rw [if_pos hn] at h
      exact ih i e h
    · rw [if_neg hn] at h
      rcases List.mem_cons.mp h with rfl | h
      · exact Nat.le_refl _
      · have := ih (i + 1) e h
        omega
theorem moR_ok {x0 : Nat} : ∀ (l : List (Nat × Nat × Nat)) (S : XS) (fs : List Value) (b i : Nat), (∀ e ∈ l, e.1 < 60 ∧ e.2.2 ≤ 30000) → WFr S → genAt S x0 (.inr (0, fs)) → fs.length = 60 → xTop S = b + i → xTop S + moC l ≤ xCc S → xSl S + moL l ≤ xCs S → ∃ S1, moR x0 l S = some S1 ∧ XE (fun q => q = x0) S S1 ∧ xTop S1 = xTop S + moC l ∧ xSl S1 = xSl S + moL l ∧ genAt S1 x0 (.inr (0, moF l fs (b + i))) ∧ ∀ e ∈ moP l i, genAt S1 (b + e.2.2.2) (.inl (e.2.1, e.2.2.1, .inl (fun _ => 0))) := by
  intro l
  induction l with
  | nil =>
    intro S fs b i _ hW hg hf ht r1 r2
    exact ⟨S, rfl, XE.refl hW, rfl, rfl, hg, fun e he => by cases he⟩
  | cons a l ih =>
    intro S fs b i hl hW hg hf ht r1 r2
    obtain ⟨k, t, n⟩ := a
    obtain ⟨hk, hn30⟩ := hl _ List.mem_cons_self
    have hl' : ∀ e ∈ l, e.1 < 60 ∧ e.2.2 ≤ 30000 := fun e he => hl e (List.mem_cons_of_mem _ he)
    have hx : x0 < xTop S := hW.2 x0 _ (g_cell hg)
    unfold moR moF moP
    unfold moC at r1 ⊢
    unfold moL at r2 ⊢
    by_cases hn : n = 0
    · rw [if_pos hn] at r1 ⊢
      rw [if_pos hn, if_pos hn, if_pos hn]
      have p1 := g_putI (v := -1) hg (k := k) (by omega)
      have e1 : XE (fun q => q = x0) S (xSetG S x0 (.inr (0, fs.set k (.int (-1))))) := setG_XE hW hg rfl
      have g1 : genAt (xSetG S x0 (.inr (0, fs.set k (.int (-1))))) x0 (.inr (0, fs.set k (.int (-1)))) := setG_at hg
      obtain ⟨S1, q1, q2, q3, q4, q5, q6⟩ := ih (xSetG S x0 (.inr (0, fs.set k (.int (-1))))) _ b i hl' e1.1 g1 (by rw [List.length_set]; exact hf) ht r1 (by show xSl S + _ ≤ xCs S; omega)
      refine ⟨S1, ob1 p1 q1, e1.trans q2 (fun _ _ z => z), q3, ?_, q5, q6⟩
      have : xSl S1 = xSl S + moL l := q4
      omega
    · rw [if_neg hn] at r1 ⊢
      rw [if_neg hn, if_neg hn, if_neg hn]
      have hn1 := x_newI (S := S) (k := t) (n := n) (by have : n ≤ 30000 := hn30; omega) (by omega) (by omega)
      have w1 := newS_XE hW n (.inl (t, n, .inl (fun _ => 0))) (fun q => q = x0)
      have a1 := hg.xe hW (newS_XE hW n (.inl (t, n, .inl (fun _ => 0))) (fun _ => False)) (fun z => z)
      have hat := newS_at S n (.inl (t, n, .inl (fun _ => 0)))
      have t1 : xTop (newS S n (.inl (t, n, .inl (fun _ => 0)))) = xTop S + 1 := rfl
      have s1 : xSl (newS S n (.inl (t, n, .inl (fun _ => 0)))) = xSl S + n := rfl
      generalize newS S n (.inl (t, n, .inl (fun _ => 0))) = S2 at *
      have p1 := g_putR (v := some (xTop S)) a1 (k := k) (by omega)
      have e1 : XE (fun q => q = x0) S2 (xSetG S2 x0 (.inr (0, fs.set k (.ref (xTop S))))) := setG_XE w1.1 a1 rfl
      have g1 : genAt (xSetG S2 x0 (.inr (0, fs.set k (.ref (xTop S))))) x0 (.inr (0, fs.set k (.ref (xTop S)))) := setG_at a1
      have p1 : f_putR S2 0 x0 k (some (xTop S)) = some (xSetG S2 x0 (.inr (0, fs.set k (.ref (xTop S))))) := p1
      have t2 : xTop (xSetG S2 x0 (.inr (0, fs.set k (.ref (xTop S))))) = xTop S + 1 := t1
      have s2 : xSl (xSetG S2 x0 (.inr (0, fs.set k (.ref (xTop S))))) = xSl S + n := s1
      generalize xSetG S2 x0 (.inr (0, fs.set k (.ref (xTop S)))) = S3 at *
      have E := w1.trans e1 (fun _ _ z => z)
      obtain ⟨S1, q1, q2, q3, q4, q5, q6⟩ := ih S3 _ b (i + 1) hl' e1.1 g1 (by rw [List.length_set]; exact hf) (by omega) (by rw [E.2.2.2.1]; omega) (by rw [E.2.2.2.2.1]; omega)
      have q5 : genAt S1 x0 (.inr (0, moF l (fs.set k (.ref (xTop S))) (b + (i + 1)))) := q5
      refine ⟨S1, ob1 hn1 (ob1 p1 q1), E.trans q2 (fun _ _ z => z), by omega, by omega, ?_, fun e he => ?_⟩
      · rw [ht] at q5
        exact q5
      · rcases List.mem_cons.mp he with rfl | he
        · show genAt S1 (b + i) (.inl (t, n, .inl (fun _ => 0)))
          rw [← ht]
          exact (hat.xe w1.1 e1 (by omega)).xe e1.1 q2 (by omega)
        · exact q6 e he
def moE : List Value := [.int 0, .int 0, .int 0, .int 0, .null, .null, .null, .int 0, .int 0, .int 0, .null, .int 0, .int 0, .int 0, .int 0, .int 0, .int 0, .int 0, .long 0, .int 0, .int 0, .int 0, .int 0, .int 0, .int 0, .null, .null, .null, .null, .null, .null, .null, .null, .int 0, .null, .null, .null, .null, .int 0, .int 0, .int 0, .null, .null, .null, .null, .null, .null, .null, .null, .int 0, .null, .null, .null, .int 0, .int 0, .int 0, .int 0, .null, .null, .null]
def moI (k : Nat) : Nat := ((moP moS 0).filter (fun e => decide (e.1 < k))).length
/-- how the reference lies -/
def moG (m : Nat) (ci cb : ClassId) : MG := (m, fun k => m + 1 + moI k, ci, cb)
def mo0 : MS := (fun k => if k = 2 ∨ k = 3 ∨ k = 9 ∨ k = 40 then -1 else 0, 0, fun _ _ => 0)
theorem moI_s0 : ∀ k, k < 60 → (m_kd k = 1 ∨ m_kd k = 2) → ((moP moS 0).any (fun e => decide (e.1 = k) && (decide (e.2.1 = if m_kd k = 2 then 6 else 0) && (decide (e.2.2.1 = m_len k) && decide (e.2.2.2 = moI k))))) = true := by decide +kernel
theorem moI_s {k : Nat} (hk : k < 60) (h : m_kd k = 1 ∨ m_kd k = 2) : (k, (if m_kd k = 2 then 6 else 0), m_len k, moI k) ∈ moP moS 0 := by
  have := moI_s0 k hk h
  rw [List.any_eq_true] at this
  obtain ⟨⟨e1, e2, e3, e4⟩, he, h2⟩ := this
  simp only [Bool.and_eq_true, decide_eq_true_eq] at h2
  obtain ⟨rfl, rfl, rfl, rfl⟩ := h2
  exact he
theorem moI_inj : ∀ j, j < 60 → ∀ k, k < 60 → (m_kd j = 1 ∨ m_kd j = 2) → (m_kd k = 1 ∨ m_kd k = 2) → moI j = moI k → j = k := by decide +kernel
theorem m_kd_lt {k : Nat} (h : m_kd k = 1 ∨ m_kd k = 2) : k < 60 := by
  apply Nat.lt_of_not_le
  intro hk
  have : m_kd k = 0 := by
    unfold m_kd
    split <;> first | omega | rfl
  rw [this] at h
  omega
/-- values by code -/
def moT (b : Nat) (x : Nat ⊕ Nat) : Value := match x with
  | .inl i => .ref (b + i)
  | .inr 0 => .int 0
  | .inr 1 => .null
  | .inr 2 => .long 0
  | .inr _ => .int (-1)
def moFs : List (Nat × Nat × Nat) → List (Nat ⊕ Nat) → Nat → List (Nat ⊕ Nat)
  | [], fs, _ => fs
  | (k, _, n) :: l, fs, t => if n = 0 then moFs l (fs.set k (.inr 3)) t else moFs l (fs.set k (.inl t)) (t + 1)
theorem moF_s (b : Nat) : ∀ l fs i, moF l (fs.map (moT b)) (b + i) = (moFs l fs i).map (moT b) := by
  intro l
  induction l with
  | nil => intro fs i; rfl
  | cons a l ih =>
    intro fs i
    obtain ⟨k, t, n⟩ := a
    unfold moF moFs
    by_cases hn : n = 0
    · rw [if_pos hn, if_pos hn, ← ih, List.map_set]
      rfl
    · rw [if_neg hn, if_neg hn, ← ih, List.map_set]
      rfl
def moEs : List (Nat ⊕ Nat) := [.inr 0, .inr 0, .inr 0, .inr 0, .inr 1, .inr 1, .inr 1, .inr 0, .inr 0, .inr 0, .inr 1, .inr 0, .inr 0, .inr 0, .inr 0, .inr 0, .inr 0, .inr 0, .inr 2, .inr 0, .inr 0, .inr 0, .inr 0, .inr 0, .inr 0, .inr 1, .inr 1, .inr 1, .inr 1, .inr 1, .inr 1, .inr 1, .inr 1, .inr 0, .inr 1, .inr 1, .inr 1, .inr 1, .inr 0, .inr 0, .inr 0, .inr 1, .inr 1, .inr 1, .inr 1, .inr 1, .inr 1, .inr 1, .inr 1, .inr 0, .inr 1, .inr 1, .inr 1, .inr 0, .inr 0, .inr 0, .inr 0, .inr 1, .inr 1, .inr 1]
def moV (k : Nat) : Nat ⊕ Nat := if m_kd k = 3 then .inr 2 else if m_kd k = 1 ∨ m_kd k = 2 then .inl (moI k) else if k = 2 ∨ k = 3 ∨ k = 9 ∨ k = 40 then .inr 3 else .inr 0
theorem moF_c : moFs moS moEs 0 = (List.range 60).map moV := by decide +kernel
theorem moF_eq (m : Nat) (ci cb : ClassId) : moF moS moE (m + 1 + 0) = m_F (moG m ci cb) mo0 := by
  have h := moF_s (m + 1) moS moEs 0
  have e : moEs.map (moT (m + 1)) = moE := rfl
  rw [e, moF_c, List.map_map] at h
  rw [h]
  unfold m_F
  refine List.map_congr_left (fun k hk => ?_)
  show moT (m + 1) (moV k) = m_val (moG m ci cb) mo0 k
  unfold moV m_val
  by_cases h3 : m_kd k = 3
  · rw [if_pos h3, if_pos h3]
    rfl
  · rw [if_neg h3, if_neg h3]
    by_cases h1 : m_kd k = 1 ∨ m_kd k = 2
    · rw [if_pos h1, if_pos h1]
      rfl
    · rw [if_neg h1, if_neg h1]
      show moT (m + 1) _ = .int (if k = 2 ∨ k = 3 ∨ k = 9 ∨ k = 40 then -1 else 0)
      by_cases h2 : k = 2 ∨ k = 3 ∨ k = 9 ∨ k = 40
      · rw [if_pos h2, if_pos h2]
        rfl
      · rw [if_neg h2, if_neg h2]
        rfl
theorem moC_30 : moC moS = 30 := by decide
theorem moL_all : moL moS = 31479 := by decide
theorem moS_ok : ∀ e ∈ moS, e.1 < 60 ∧ e.2.2 ≤ 30000 := by decide
theorem x4_start {g : XC} {N : Nat} {S0 : XS} (hW : WFr S0) (r1 : xTop S0 + 31 ≤ xCc S0) (r2 : xSl S0 + 31539 ≤ xCs S0) : ∃ S1, kX_X4_init g N (newS S0 60 (.inr (0, moE))) (xTop S0) = some S1 ∧ XE (fun _ => False) S0 S1 ∧ xTop S1 = xTop S0 + 31 ∧ xSl S1 = xSl S0 + 31539 ∧ genAt S1 (xTop S0) (.inr (0, m_F (moG (xTop S0) (g.1 0) (g.1 6)) mo0)) ∧ ∀ k, (m_kd k = 1 ∨ m_kd k = 2) → genAt S1 (xTop S0 + 1 + moI k) (.inl ((if m_kd k = 2 then 6 else 0), m_len k, .inl (fun _ => 0))) := by
  have w1 := newS_XE hW 60 (.inr (0, moE)) (fun _ => False)
  have g1 := newS_at S0 60 (.inr (0, moE))
  have t1 : xTop (newS S0 60 (.inr (0, moE))) = xTop S0 + 1 := rfl
  have s1 : xSl (newS S0 60 (.inr (0, moE))) = xSl S0 + 60 := rfl
  generalize newS S0 60 (.inr (0, moE)) = S at *
  have hc := moC_30
  have hl := moL_all
  obtain ⟨S1, q1, q2, q3, q4, q5, q6⟩ := moR_ok moS S moE (xTop S0 + 1) 0 moS_ok w1.1 g1 rfl (by omega) (by rw [w1.2.2.2.1]; omega) (by rw [w1.2.2.2.2.1]; omega)
  refine ⟨S1, (moR_eq _ _ _ _).trans q1, w1.trans q2 (fun q hq z => by omega), by omega, by omega, ?_, fun k hk => ?_⟩
  · rw [moF_eq (xTop S0) (g.1 0) (g.1 6)] at q5
    exact q5
  · exact q6 _ (moI_s (m_kd_lt hk) hk)
