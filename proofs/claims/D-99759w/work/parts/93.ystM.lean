/-! plain law: how it starts: the component's constructor -/
theorem genAt.xe {P : Nat → Prop} {S S1 : XS} {q : Nat} {e : GE} (h : genAt S q e) (hW : WFr S) (hE : XE P S S1) (hq : ¬ P q) : genAt S1 q e := by
  have ht := hE.2.2.2.2.2 q (hW.2 q e (g_cell h)) hq
  exact ⟨ht.1.trans h.1, ht.2.2.2.2.2.trans h.2⟩
theorem ListAt.xe {g : XC} {P Y : Nat → Prop} {S S1 : XS} {l : Nat} {rs : List Nat} (h : ListAt g Y S l rs) (hE : XE P S S1) (hq : ∀ q, Y q → q < xTop S ∧ ¬ P q) : ListAt g Y S1 l rs := h.fr (fun q hy => by
  have := hE.2.2.2.2.2 q (hq q hy).1 (hq q hy).2
  exact ⟨this.1, this.2.2.2.2.2⟩)
/-- a new night in a world where its owner isn't yet in the tables -/
def NX (S : XS) (t xa : Nat) : Prop := tyA S 2 t ∧ xR S t 15 = some xa ∧ ∀ j, j = 6 ∨ j = 7 ∨ j = 8 ∨ j = 9 ∨ j = 10 → xI S t j = 0
theorem NX.xe {P : Nat → Prop} {S S1 : XS} {t xa : Nat} (h : NX S t xa) (hW : WFr S) (hE : XE P S S1) (hq : ¬ P t) : NX S1 t xa := by
  obtain ⟨h1, h2, h3⟩ := h
  have ht := hE.2.2.2.2.2 t (hW.2 t _ h1.cell) hq
  exact ⟨⟨ht.1.trans h1.1, h1.2⟩, by rw [ht.2.2.1]; exact h2, fun j hj => by rw [ht.2.1]; exact h3 j hj⟩
theorem nx_adopt {S0 S : XS} {xa : Nat} (h : NB S0 S 8 (nbL (xTop S0) xa)) : ∃ S1, x_adopt S 2 (xTop S0) = some S1 ∧ XE (fun _ => False) S0 S1 ∧ xTop S1 = xTop S0 + 9 ∧ xSl S1 = xSl S0 + 88 ∧ NX S1 (xTop S0) xa := by
  have hfit := nb_fit h
  have h9 : (2 = 2 ∧ xOwn S (xTop S0) = (0, 0, 0) ∧ 0 < 2 ∧ 2 < 10 ∧ (nbL (xTop S0) xa).length = x_N 2 ∧ (List.range (x_N 2)).all (x_fit S 2 (nbL (xTop S0) xa)) = true) := ⟨rfl, h.2.2.2.1.1, by decide, by decide, by unfold nbL; simp [x_N], hfit⟩
  have hex : ∃ S1, x_adopt S 2 (xTop S0) = some S1 ∧ xOwn S1 (xTop S0) = (2, 0, 0) ∧ xR S1 (xTop S0) 15 = some xa ∧ (∀ j, j = 6 ∨ j = 7 ∨ j = 8 ∨ j = 9 ∨ j = 10 → xI S1 (xTop S0) j = 0) ∧ ∀ q, q < xTop S0 → tSame S S1 q := by
    unfold x_adopt
    rw [h.2.2.2.1.2]
    dsimp only
    rw [if_pos h9]
    refine ⟨_, rfl, if_pos rfl, (if_pos rfl).trans ?_, fun j hj => (if_pos rfl).trans ?_, fun q hq => ?_⟩
    · unfold x_rf
      rw [nb_get (by decide)]
      rfl
    · rcases hj with rfl | rfl | rfl | rfl | rfl <;> rw [nb_get (by decide)] <;> rfl
    · have hq1 : q ≠ xTop S0 := by omega
      have hw : x_who 2 (nbL (xTop S0) xa) q = none := by
        unfold x_who
        rw [List.find?_eq_none]
        intro k hk
        have hk : k < 16 := List.mem_range.mp hk
        simp only [Bool.and_eq_true, decide_eq_true_eq]
        rintro ⟨ha, hr⟩
        rw [nb_rf hk ha] at hr
        have := Option.some.inj hr
        omega
      refine ⟨?_, funext fun j => if_neg hq1, funext fun j => if_neg hq1, funext fun j => if_neg hq1, funext fun j => if_neg hq1, rfl⟩
      show (if q = xTop S0 then _ else match x_who 2 (nbL (xTop S0) xa) q with
          | some k => (2 + 10, xTop S0, k)
          | none => xOwn S q) = _
      rw [if_neg hq1, hw]
  obtain ⟨S1, k1, k2, k3, k5, k4⟩ := hex
  obtain ⟨a1, a2, a3⟩ := x_adopt_s h.1.1.1 k1
  have ht : xTop S1 = xTop S := by unfold xTop; rw [a3]
  have hw1 : WFr S1 := ⟨a2, fun q e hq => by rw [ht]; exact h.1.1.2 q e (by rw [← a1]; exact hq)⟩
  refine ⟨S1, k1, ⟨hw1, by rw [ht]; exact h.1.2.1, by unfold xSl; rw [a3]; exact h.1.2.2.1, by unfold xCc; rw [a3]; exact h.1.2.2.2.1, by unfold xCs; rw [a3]; exact h.1.2.2.2.2.1, fun q hq z => (h.1.2.2.2.2.2 q hq z).trans (k4 q hq)⟩, by rw [ht, h.2.1], ?_, ⟨⟨k2, by decide, by decide⟩, k3, k5⟩⟩
  have := h.2.2.1
  unfold xSl at this ⊢
  rw [a3]
  omega
theorem nx_loop {g : XC} {N : Nat} {S0 S : XS} {xa : Nat} (hN : 2 ^ 20 < N) (h : NB S0 S 8 (nbL (xTop S0) xa)) : ∃ S1, kX_X3_init_75 g N N S (xTop S0) 0 = some S1 ∧ XE (fun _ => False) S0 S1 ∧ xTop S1 = xTop S0 + 9 ∧ xSl S1 = xSl S0 + 88 ∧ NX S1 (xTop S0) xa := by
  have h0 : (0 : Int32) = nI 0 := by decide
  rw [h0]
  refine y_loop (fun n (s : XS) k => kX_X3_init_75 g N n s (xTop S0) (nI k)) 9 (fun s _ => NB S0 s 8 (nbL (xTop S0) xa)) (fun r => ∃ S1, r = some S1 ∧ XE (fun _ => False) S0 S1 ∧ xTop S1 = xTop S0 + 9 ∧ xSl S1 = xSl S0 + 88 ∧ NX S1 (xTop S0) xa) ?_ ?_ 9 N S 0 (by omega) (by omega) h
  · intro n s k hk hs
    right
    obtain ⟨s1, p1, p2⟩ := hs.put (i := 3) (q := k) (by decide) hk (-1)
    obtain ⟨s2, p3, p4⟩ := p2.put (i := 4) (q := k) (by decide) hk (-2)
    refine ⟨s2, ?_, p4⟩
    show kX_X3_init_75 g N (n + 1) s (xTop S0) (nI k) = kX_X3_init_75 g N n s2 (xTop S0) (nI (k + 1))
    rw [kX_X3_init_75, nI_1]
    refine oif (nI_ge (b := 9) hk (by decide)) (ob1 (g_obj hs.2.2.2.1 ?_) (ob1 p1 (ob1 (g_obj p2.2.2.2.1 ?_) (ob1 p3 rfl))))
    · exact nb_get (by decide)
    · exact nb_get (by decide)
  · intro n s hs
    obtain ⟨S1, q1, q2⟩ := nx_adopt hs
    refine ⟨S1, ?_, q2⟩
    show kX_X3_init_75 g N (n + 1) s (xTop S0) (nI 9) = some S1
    rw [kX_X3_init_75]
    exact oit (by decide) (ob1 q1 rfl)
theorem x_nx {g : XC} {N : Nat} {S : XS} {xa : Nat} (hN : 2 ^ 20 < N) (hW : WFr S) (r1 : xTop S + 9 ≤ xCc S) (r2 : xSl S + 88 ≤ xCs S) : ∃ S1, kX_X3_init g N (newS S 16 (.inr (2, nbE))) (xTop S) xa = some S1 ∧ XE (fun _ => False) S S1 ∧ xTop S1 = xTop S + 9 ∧ xSl S1 = xSl S + 88 ∧ NX S1 (xTop S) xa := by
  obtain ⟨S1, p1, p2⟩ := (NB.nil hW).out (k := 15) (v := some xa) (by decide)
  obtain ⟨s0, a0, b0⟩ := p2.step (k := 0) (by simp [nbE]) (by decide) r1 r2
  obtain ⟨s1, a1, b1⟩ := a0.step (k := 1) (by simp [nbE]) (by decide) r1 r2
  obtain ⟨s2, a2, b2⟩ := a1.step (k := 2) (by simp [nbE]) (by decide) r1 r2
  obtain ⟨s3, a3, b3⟩ := a2.step (k := 3) (by simp [nbE]) (by decide) r1 r2
  obtain ⟨s4, a4, b4⟩ := a3.step (k := 4) (by simp [nbE]) (by decide) r1 r2
  obtain ⟨s5, a5, b5⟩ := a4.step (k := 5) (by simp [nbE]) (by decide) r1 r2
  obtain ⟨s6, a6, b6⟩ := a5.step (k := 11) (by simp [nbE]) (by decide) r1 r2
  obtain ⟨s7, a7, b7⟩ := a6.step (k := 12) (by simp [nbE]) (by decide) r1 r2
  obtain ⟨S2, q1, q2⟩ := nx_loop (g := g) (S := s7) hN a7
  refine ⟨S2, ?_, q2⟩
  unfold kX_X3_init
  refine ob1 p1 ?_
  refine (b0 _).trans ((b1 _).trans ((b2 _).trans ((b3 _).trans ((b4 _).trans ((b5 _).trans ((b6 _).trans ((b7 _).trans ?_)))))))
  exact q1
/-! DripCups' constructor -/
def xbE : List Value := [.null, .null, .null, .null, .null, .int 0, .int 0, .null, .null, .null, .null, .null, .null, .int 0]
/-- how things stand while it is being built: what has changed below the top is the object alone -/
def XO (xa : Nat) (S S1 : XS) (fs : List Value) : Prop := XE (fun q => q = xa) S S1 ∧ genAt S1 xa (.inr (1, fs))
section XI
variable {g : XC} {N xa : Nat} {S S1 : XS} {fs : List Value}
theorem xo_putR (hW : WFr S) (h : genAt S xa (.inr (1, fs))) {k : Nat} {v : Option Nat} (hk : k < fs.length) : ∃ S1, f_putR S 1 xa k v = some S1 ∧ XO xa S S1 (fs.set k (va_rf v)) ∧ xTop S1 = xTop S ∧ xSl S1 = xSl S := ⟨_, g_putR h hk, ⟨setG_XE hW h rfl, setG_at h⟩, rfl, rfl⟩
theorem xo_putI (hW : WFr S) (h : genAt S xa (.inr (1, fs))) {k : Nat} {v : Int32} (hk : k < fs.length) : ∃ S1, f_putI S 1 xa k v = some S1 ∧ XO xa S S1 (fs.set k (.int v)) ∧ xTop S1 = xTop S ∧ xSl S1 = xSl S := ⟨_, g_putI h hk, ⟨setG_XE hW h rfl, setG_at h⟩, rfl, rfl⟩
/-- an array made for a field -/
theorem xo_arr (hW : WFr S) (h : genAt S xa (.inr (1, fs))) {k t n : Nat} (hk : k < fs.length) (hn : n ≤ 1000) (r1 : xTop S + 1 ≤ xCc S) (r2 : xSl S + n ≤ xCs S) : ∃ S1, XO xa S S1 (fs.set k (.ref (xTop S))) ∧ xTop S1 = xTop S + 1 ∧ xSl S1 = xSl S + n ∧ genAt S1 (xTop S) (.inl (t, n, .inl (fun _ => 0))) ∧ ∀ (F : XS → Option XS), ((xNewI S t (nI n)).bind fun S2 => (f_putR S2 1 xa k (some (xTop S))).bind F) = F S1 := by
  have hx : xa < xTop S := hW.2 xa _ (g_cell h)
  have w1 := newS_XE hW n (.inl (t, n, .inl (fun _ => 0))) (fun q => q = xa)
  have a1 := h.xe hW (newS_XE hW n (.inl (t, n, .inl (fun _ => 0))) (fun _ => False)) (fun z => z)
  obtain ⟨S1, p1, p2, p3, p4⟩ := xo_putR w1.1 a1 (k := k) (v := some (xTop S)) hk
  have hat := newS_at S n (.inl (t, n, .inl (fun _ => 0)))
  refine ⟨S1, ⟨w1.trans p2.1 (fun _ _ z => z), p2.2⟩, p3, p4, hat.xe w1.1 p2.1 (by omega), fun F => ?_⟩
  rw [x_newI (by omega) r1 r2]
  show (f_putR _ 1 xa k (some (xTop S))).bind F = F S1
  rw [p1]
  rfl
/-- a list made for a field -/
theorem xo_list (hW : WFr S) (h : genAt S xa (.inr (1, fs))) {k : Nat} (hk : k < fs.length) (hsp : gSp g 0 < xTop S ∧ gSp g 1 < xTop S) (r1 : xTop S + 1 ≤ xCc S) (r2 : xSl S + 3 ≤ xCs S) : ∃ S1, XO xa S S1 (fs.set k (.ref (xTop S))) ∧ xTop S1 = xTop S + 1 ∧ xSl S1 = xSl S + 3 ∧ ListAt g (fun q => q = xTop S) S1 (xTop S) [] ∧ ∀ (F : XS → Option XS), ((xNew S 3 (.inr (10, [.int 0, .null, .int 0]))).bind fun S17 => (kX_J2_init g N S17 (xTop S)).bind fun w18 => (f_putR w18 1 xa k (some (xTop S))).bind F) = F S1 := by
  have hx : xa < xTop S := hW.2 xa _ (g_cell h)
  obtain ⟨S2, k1, k2, k3, k4, k5⟩ := l_new (g := g) (N := N) hW hsp
  have a1 := h.xe hW k2 (fun z => z)
  obtain ⟨S1, p1, p2, p3, p4⟩ := xo_putR k2.1 a1 (k := k) (v := some (xTop S)) hk
  refine ⟨S1, ⟨(k2.mono (fun _ _ z => z.elim)).trans p2.1 (fun _ _ z => z), p2.2⟩, by omega, by omega, k5.l.xe p2.1 (fun q hq => ⟨by omega, by omega⟩), fun F => ?_⟩
  · rw [x_newS r1 r2]
    show ((kX_J2_init g N (newS S 3 ELn) (xTop S)).bind _) = _
    rw [k1]
    show (f_putR S2 1 xa k (some (xTop S))).bind F = F S1
    rw [p1]
    rfl
/-- a night made for a field -/
theorem xo_night (hN : 2 ^ 20 < N) (hW : WFr S) (h : genAt S xa (.inr (1, fs))) {k : Nat} (hk : k < fs.length) (r1 : xTop S + 9 ≤ xCc S) (r2 : xSl S + 88 ≤ xCs S) : ∃ S1, XO xa S S1 (fs.set k (.ref (xTop S))) ∧ xTop S1 = xTop S + 9 ∧ xSl S1 = xSl S + 88 ∧ NX S1 (xTop S) xa ∧ ∀ (F : XS → Option XS), ((xNew S 16 (.inr (2, nbE))).bind fun S17 => (kX_X3_init g N S17 (xTop S) xa).bind fun w18 => (f_putR w18 1 xa k (some (xTop S))).bind F) = F S1 := by
  have hx : xa < xTop S := hW.2 xa _ (g_cell h)
  obtain ⟨S2, k1, k2, k3, k4, k5⟩ := x_nx (g := g) (N := N) (xa := xa) hN hW r1 r2
  have a1 := h.xe hW k2 (fun z => z)
  obtain ⟨S1, p1, p2, p3, p4⟩ := xo_putR k2.1 a1 (k := k) (v := some (xTop S)) hk
  refine ⟨S1, ⟨(k2.mono (fun _ _ z => z.elim)).trans p2.1 (fun _ _ z => z), p2.2⟩, by omega, by omega, k5.xe k2.1 p2.1 (by omega), fun F => ?_⟩
  rw [x_newS (by omega) (by omega)]
  show ((kX_X3_init g N (newS S 16 (.inr (2, nbE))) (xTop S) xa).bind _) = _
  rw [k1]
  show (f_putR S2 1 xa k (some (xTop S))).bind F = F S1
  rw [p1]
  rfl
/-- a cavern made for a field -/
theorem xo_cave (hW : WFr S) (h : genAt S xa (.inr (1, fs))) {k : Nat} (hk : k < fs.length) (hsp : gSp g 0 < xTop S ∧ gSp g 1 < xTop S) (r1 : xTop S + 2 ≤ xCc S) (r2 : xSl S + 6 ≤ xCs S) : ∃ S1, XO xa S S1 (fs.set k (.ref (xTop S))) ∧ xTop S1 = xTop S + 2 ∧ xSl S1 = xSl S + 6 ∧ genAt S1 (xTop S) (.inr (3, [.ref (xTop S + 1), .null, .null])) ∧ ListAt g (fun q => q = xTop S + 1) S1 (xTop S + 1) [] ∧ ∀ (F : XS → Option XS), ((xNew S 3 (.inr (3, [.null, .null, .null]))).bind fun S17 => (kX_X2_init g N S17 (xTop S)).bind fun w18 => (f_putR w18 1 xa k (some (xTop S))).bind F) = F S1 := by
  have hx : xa < xTop S := hW.2 xa _ (g_cell h)
  have w1 := newS_XE hW 3 (.inr (3, [.null, .null, .null])) (fun _ => False)
  have c1 := newS_at S 3 (.inr (3, [.null, .null, .null]))
  have e1 : xTop (newS S 3 (.inr (3, [.null, .null, .null]))) = xTop S + 1 := rfl
  have e2 : xSl (newS S 3 (.inr (3, [.null, .null, .null]))) = xSl S + 3 := rfl
  have e3 : xCc (newS S 3 (.inr (3, [.null, .null, .null]))) = xCc S := rfl
  have e4 : xCs (newS S 3 (.inr (3, [.null, .null, .null]))) = xCs S := rfl
  have hn := x_newS (S := S) (n := 3) (e := .inr (3, [.null, .null, .null])) (by omega) (by omega)
  have a0 := h.xe hW w1 (fun z => z)
  generalize newS S 3 (.inr (3, [.null, .null, .null])) = S3 at *
  obtain ⟨S2, k1, k2, k3, k4, k5⟩ := l_new (g := g) (N := N) w1.1 (by rw [e1]; omega)
  rw [e1] at k1 k3 k5
  have a1 := a0.xe w1.1 k2 (fun z => z)
  have c2 := c1.xe w1.1 k2 (fun z => z)
  have q1 := g_putR (k := 0) (v := some (xTop S + 1)) c2 (by decide)
  have q2 : XE (fun q => q = xTop S) S2 (xSetG S2 (xTop S) (.inr (3, [.ref (xTop S + 1), .null, .null]))) := setG_XE k2.1 c2 rfl
  have c3 : genAt (xSetG S2 (xTop S) (.inr (3, [.ref (xTop S + 1), .null, .null]))) (xTop S) (.inr (3, [.ref (xTop S + 1), .null, .null])) := setG_at c2
  have a2 : genAt (xSetG S2 (xTop S) (.inr (3, [.ref (xTop S + 1), .null, .null]))) xa (.inr (1, fs)) := setG_ne a1 (by omega)
  have q1 : f_putR S2 3 (xTop S) 0 (some (xTop S + 1)) = some (xSetG S2 (xTop S) (.inr (3, [.ref (xTop S + 1), .null, .null]))) := q1
  have t5 : xTop (xSetG S2 (xTop S) (.inr (3, [.ref (xTop S + 1), .null, .null]))) = xTop S2 := rfl
  have s5 : xSl (xSetG S2 (xTop S) (.inr (3, [.ref (xTop S + 1), .null, .null]))) = xSl S2 := rfl
  generalize xSetG S2 (xTop S) (.inr (3, [.ref (xTop S + 1), .null, .null])) = S5 at *
  obtain ⟨S1, p1, p2, p3, p4⟩ := xo_putR q2.1 a2 (k := k) (v := some (xTop S)) hk
  have k6 : ListAt g (fun q => q = xTop S + 1) S5 (xTop S + 1) [] := k5.l.xe q2 (fun q hq => ⟨by omega, by omega⟩)
  have k7 : ListAt g (fun q => q = xTop S + 1) S1 (xTop S + 1) [] := k6.xe p2.1 (fun q hq => ⟨by omega, by omega⟩)
  refine ⟨S1, ⟨((w1.mono (fun _ _ z => z.elim)).trans (k2.mono (fun _ _ z => z.elim)) (fun _ _ z => z)).trans ((q2.mono (P1 := fun q => q = xa ∨ q = xTop S) (fun _ _ z => Or.inr z)).trans (p2.1.mono (P1 := fun q => q = xa ∨ q = xTop S) (fun _ _ z => Or.inl z)) (fun _ _ z => z)) (fun q hq z => by rcases z with z | z <;> omega), p2.2⟩, by omega, by omega, c3.xe q2.1 p2.1 (by omega), k7, fun F => ?_⟩
  · rw [hn]
    show ((kX_X2_init g N S3 (xTop S)).bind _) = _
    unfold kX_X2_init
    have hnl : xNew S3 3 (.inr (10, [.int 0, .null, .int 0])) = some (newS S3 3 ELn) := x_newS (by rw [e1, e3]; omega) (by rw [e2, e4]; omega)
    rw [hnl, e1]
    show (((kX_J2_init g N (newS S3 3 ELn) (xTop S + 1)).bind fun w2 => (f_putR w2 3 (xTop S) 0 (some (xTop S + 1))).bind fun S3 => some S3).bind _) = _
    rw [k1]
    show (((f_putR S2 3 (xTop S) 0 (some (xTop S + 1))).bind fun S3 => some S3).bind _) = _
    rw [q1]
    show (f_putR S5 1 xa k (some (xTop S))).bind F = F S1
    rw [p1]
    rfl
end XI
