/-! the cave: the component's lines -/
/-- a line throws -/
def XErL {β : Type} (r B1 : Nat) (S : XS) (e : Nat × TK) (res : Option (β ⊕ XT)) : Prop := ∃ S1 w fs, res = some (.inr (S1, 2, w)) ∧ XE (fun q => B1 ≤ q) S S1 ∧ tyA S1 4 r ∧ xI S1 r 7 = nI e.2.2.1 ∧ genAt S1 w (.inr (9, fs)) ∧ fs[6]? = some (.int (nI e.1))
def XLk (g : XC) (r xa sz B0 : Nat) (b : Nat → Nat) (mk nb B1 : Nat) (S : XS) (t : TK) (res : Option (XS ⊕ XT)) (y : LT × TK) : Prop := ∃ S1, res = some (.inl S1) ∧ XLb g r xa sz B0 b mk nb B1 S1 y.2 y.1 ∧ XCv g B0 mk B1 S1 y.1.1 ∧ XE (fun q => B1 ≤ q) S S1 ∧ xTop S1 + 13 * t.2.1 ≤ xTop S + 13 * y.2.2.1 ∧ xSl S1 + 88 * t.2.1 ≤ xSl S + 88 * y.2.2.1
def XLo (g : XC) (r xa sz B0 : Nat) (b : Nat → Nat) (mk nb B1 : Nat) (S : XS) (t : TK) (res : Option (XS ⊕ XT)) : PR (LT × TK) → Prop
  | .inr y => XLk g r xa sz B0 b mk nb B1 S t res y
  | .inl e => XErL r B1 S e res
def XRl (sz : Nat) (S : XS) (t : TK) : Prop := xTop S + 13 * sz + 200 ≤ xCc S + 13 * t.2.1 ∧ xSl S + 88 * sz + 8000 ≤ xCs S + 88 * t.2.1
section YC42
variable {g : XC} {N r xa sz B0 mk nb B1 B : Nat} {b : Nat → Nat} {S S1 S2 : XS} {t t1 : TK} {s : LT} {C : CC}
theorem XErL.pre {β : Type} {e : Nat × TK} {res : Option (β ⊕ XT)} (h : XErL r B1 S1 e res) (hE : XE (fun q => B1 ≤ q) S S1) : XErL r B1 S e res := by
  obtain ⟨S2, w, fs, h1, h2, h3⟩ := h
  exact ⟨S2, w, fs, h1, hE.trans h2 (fun _ _ z => z), h3⟩
theorem XErL.eq {β : Type} {e : Nat × TK} {x y : Option (β ⊕ XT)} (h : XErL r B1 S e x) (hy : y = x) : XErL r B1 S e y := by rw [hy]; exact h
theorem XErL.bind {α β : Type} {e : Nat × TK} {x : Option (α ⊕ XT)} {F : α → Option (β ⊕ XT)} (h : XErL r B1 S e x) : XErL r B1 S e (tbind x F) := by
  obtain ⟨S2, w, fs, h1, h2⟩ := h
  exact ⟨S2, w, fs, ot2 h1, h2⟩
theorem XFb.e1 (h : XFb r B S S1) (hr : B1 ≤ r) (hB : B1 ≤ B) : XE (fun q => B1 ≤ q) S S1 := h.1.mono (fun q _ z => by rcases z with z | z <;> omega)
theorem XErr.l {β : Type} {e : Nat × TK} {res : Option (β ⊕ XT)} (h : XErr r S e res) (hty : tyA S 4 r) (hr : B1 ≤ r) (ht : B1 ≤ xTop S) : XErL r B1 S e res := by
  obtain ⟨S1, w, fs, h1, h2, h3, h4, h5, h6⟩ := h
  exact ⟨S1, w, fs, h1, h2.e1 hr ht, ⟨h2.2.1.trans hty.1, hty.2⟩, h3, h4, h5⟩
theorem XLb.bd (h : XLb g r xa sz B0 b mk nb B1 S t s) : B1 ≤ r ∧ B1 ≤ B0 ∧ B0 ≤ xTop S ∧ mk < B0 ∧ nb < B0 ∧ r < B0 ∧ xa < B1 := by
  obtain ⟨h1, -, -, -, -, ⟨c1, c2, c3, c4, c5, c6, c7⟩, -⟩ := h
  obtain ⟨d1, d2, d3, -, -⟩ := h1.2.2.2.2.2.1
  exact ⟨c3, c7, d3, c1, c2, d1, c6⟩
theorem XErr.lb {β : Type} {e : Nat × TK} {res : Option (β ⊕ XT)} (h : XErr r S e res) (hL : XLb g r xa sz B0 b mk nb B1 S t s) : XErL r B1 S e res := by
  obtain ⟨c1, c2, c3, -⟩ := hL.bd
  exact h.l hL.1.1.1 c1 (by omega)
theorem XLb.nbr (h : XLb g r xa sz B0 b mk nb B1 S t s) : nb ≠ r := fun z => by
  have e1 := h.1.1.1.1
  have e2 := h.2.2.2.2.1.1.2.1.1
  rw [z, e1] at e2
  have : 4 = 2 := congrArg Prod.fst e2
  omega
theorem XLb.ra (h : XLb g r xa sz B0 b mk nb B1 S t s) (hf : XFb r B S S1) (hB : B0 ≤ B) : xRa S1 nb = xRa S nb := by
  obtain ⟨c1, c2, c3, c4, c5, c6, c7⟩ := h.bd
  have hn := h.nbr
  exact (hf.1.2.2.2.2.2 nb (by omega) (fun z => by rcases z with z | z <;> omega)).2.2.2.2.1
/-- a line's number -/
theorem xl_num (hN : 2 ^ 20 < N) (hG : GS g) (h : XLb g r xa sz B0 b mk nb B1 S t s) (hc : XCv g B0 mk B1 S C) {lo hi : Nat} (hlo : lo < 2 ^ 31) (hhi : hi < 2 ^ 31) (r1 : xTop S + 1 ≤ xCc S) (r2 : xSl S + 7 ≤ xCs S) :
    (∃ e, pNum sz b lo hi t = .inl e ∧ XErL r B1 S e (kX_X5_number g N S r (nI lo) (nI hi))) ∨ ∃ x S1, pNum sz b lo hi t = .inr x ∧ kX_X5_number g N S r (nI lo) (nI hi) = some (.inl (S1, nI x.1)) ∧ XLb g r xa sz B0 b mk nb B1 S1 x.2 s ∧ XCv g B0 mk B1 S1 C ∧ XE (fun q => B1 ≤ q) S S1 ∧ xTop S1 = xTop S ∧ xSl S1 = xSl S ∧ xRa S1 nb = xRa S nb ∧ ∀ e, genAt S mk e → genAt S1 mk e := by
  obtain ⟨c1, c2, c3, c4, c5, c6, c7⟩ := h.bd
  have hn := h.1.num (N := N) hN hG hlo hhi r1 r2
  cases hv : pNum sz b lo hi t with
  | inl e =>
    rw [hv] at hn
    have hn : XErr r S e (kX_X5_number g N S r (nI lo) (nI hi)) := hn
    exact Or.inl ⟨e, rfl, hn.lb h⟩
  | inr x =>
    rw [hv] at hn
    obtain ⟨-, -, hn⟩ := hn
    rw [if_neg (by decide)] at hn
    obtain ⟨S1, a1, a2, a3, a4, a5⟩ := hn
    exact Or.inr ⟨x, S1, rfl, a1, h.fb a3 c3 a2, hc.fb a3 (Nat.le_refl _) c3, a3.e1 c1 (by omega), a4, a5, h.ra a3 c3, fun e he => by
      obtain ⟨z1, z2⟩ := a3.yfg (Nat.le_refl _) (q := mk) (by omega)
      exact ⟨z1.trans he.1, z2.trans he.2⟩⟩
/-- a line goes to the next token -/
theorem xl_next (hN : 2 ^ 20 < N) (hG : GS g) (h : XLb g r xa sz B0 b mk nb B1 S t s) (hc : XCv g B0 mk B1 S C) : ∃ S1, kX_X5_next g N S r = some S1 ∧ XLb g r xa sz B0 b mk nb B1 S1 (nxT sz b t) s ∧ XCv g B0 mk B1 S1 C ∧ XE (fun q => B1 ≤ q) S S1 ∧ xTop S1 = xTop S ∧ xSl S1 = xSl S ∧ xRa S1 nb = xRa S nb := by
  obtain ⟨c1, c2, c3, c4, c5, c6, c7⟩ := h.bd
  obtain ⟨S1, a1, a2, a3, a4, a5, -⟩ := h.1.next hN hG
  exact ⟨S1, a1, h.fb a3 c3 a2, hc.fb a3 (Nat.le_refl _) c3, a3.e1 c1 (by omega), a4, a5, h.ra a3 c3⟩
/-- the night's number is set -/
theorem xl_set (h : XLb g r xa sz B0 b mk nb B1 S t s) (hc : XCv g B0 mk B1 S C) {k i : Nat} (hk : nA k) (hi : i < 9) (x : Nat) (s1 : LT) (hs : s1.2.1 = ysA s.2.1 k i x) (h10 : s1.1.2.2.1.isSome = s.1.2.2.1.isSome ∧ s1.1.2.2.2.isSome = s.1.2.2.2.isSome) (h11 : s1.2.2 = s.2.2) : ∃ S1, a_putI S 0 (xRa S nb k) (nI i) (nI x) = some S1 ∧ XLb g r xa sz B0 b mk nb B1 S1 t s1 ∧ XCv g B0 mk B1 S1 C ∧ XE (fun q => B1 ≤ q) S S1 ∧ xTop S1 = xTop S ∧ xSl S1 = xSl S ∧ xRa S1 nb = xRa S nb := by
  have h1 := h.setA (k := k) (i := i) (x : Int) s1 hs h10 h11
  have hb := h.2.2.2.2.2.1
  refine ⟨_, h.putA hk hi (iI_nI x), h1, hc.of rfl rfl rfl, ⟨h1.1.2.1, Nat.le_refl _, Nat.le_refl _, rfl, rfl, fun q _ hq => ⟨rfl, rfl, rfl, ?_, rfl, rfl⟩⟩, rfl, rfl, rfl⟩
  funext j
  exact if_neg (fun z => hq (by rw [z.1]; exact hb.2.2.2.2.1))
theorem k_vb : ∀ k, k < 21 → vb_c (k + 128) = nI k := by decide
/-- one more spring -/
theorem xl_spring (h : XLb g r xa sz B0 b mk nb B1 S t s) (hc : XCv g B0 mk B1 S C) (hI : ∀ k, k < 256 → gIv g (gIc g k) = some k ∧ gIc g k < B1) {p : Nat} (hp : p ≤ 20) (h9 : C.1 < 9) (s1 : LT) (hs : s1.2.1 = s.2.1) (h10 : s1.1.2.2.1.isSome = s.1.2.2.1.isSome ∧ s1.1.2.2.2.isSome = s.1.2.2.2.isSome) (h11 : s1.2.2 = s.2.2) (r1 : xTop S + 1 ≤ xCc S) (r2 : xSl S + 30 ≤ xCs S) : ∃ ls S1, f_obj S 3 mk 0 = some ls ∧ f_cls S 10 ls = some () ∧ kX_J2_add g N S ls (gIc g (p + 128)) = some (S1, 1) ∧ XLb g r xa sz B0 b mk nb B1 S1 t s1 ∧ XCv g B0 mk B1 S1 (C.1 + 1, (fun k => if k = C.1 then (p : Int) else C.2.1 k), C.2.2) ∧ XE (fun q => B1 ≤ q) S S1 ∧ xTop S1 ≤ xTop S + 1 ∧ xSl S1 ≤ xSl S + 30 := by
  obtain ⟨c1, c2, c3, c4, c5, c6, c7⟩ := h.bd
  obtain ⟨d1, d2, d3, d4, d5⟩ := h.1.2.2.2.2.2.1
  obtain ⟨ls, f1, f2, rs, cap, Yl, Zf, h1, h2, h3, ⟨h4, h4b⟩, h5, h6, h7, h8, h9b⟩ := hc
  obtain ⟨i1, i2⟩ := hI (p + 128) (by omega)
  have hv : v_any g S (gIc g (p + 128)) = some () := by
    unfold v_any
    rw [i1]
  have hadd := l_add (N := N) (v := gIc g (p + 128)) h2 h.1.2.1 ⟨by omega, by omega⟩ hv (by omega) (fun x hx => by
    obtain ⟨z1, k, z2⟩ := h4b x hx
    refine ⟨?_, by omega⟩
    unfold v_any
    rw [z2]) (by omega) (by omega) (by omega)
  obtain ⟨S1, Y1, cap1, e1, e2, e3, e4, e5⟩ := hadd
  have hty : ∀ q, q < B0 → Yl q → ∃ k fs, genAt S q (.inr (k, fs)) := fun q hq hy => by
    rcases (h7 q hy).1 with z | z
    · rw [z]
      obtain ⟨-, mc, ba, z1, -⟩ := h2
      exact ⟨_, _, z1.2⟩
    · omega
  have hL := h.xe e2 hty
  have ht2 := e2.2.1
  have sm : tSame S S1 mk := e2.2.2.2.2.2 mk (by omega) (fun z => (h7 mk z).2.2.2 rfl)
  have sz : yFg Zf S S1 := fun q hq => by
    have := e2.2.2.2.2.2 q (h8 q hq).2 (fun z => (h7 q z).2.2.1 hq)
    exact ⟨this.1, this.2.2.2.2.2⟩
  refine ⟨ls, S1, g_obj h1 rfl, h2.l.cls, e1, ?_, ⟨ls, f1, f2, rs ++ [gIc g (p + 128)], cap1, Y1, Zf, ⟨sm.1.trans h1.1, sm.2.2.2.2.2.trans h1.2⟩, e3, ?_, ⟨fun i hi => ?_, fun x hx => ?_⟩, h5.fr sz, h6.fr sz, fun q hq => ?_, fun q hq => ⟨(h8 q hq).1, by have := (h8 q hq).2; omega⟩, h9b⟩, e2.mono (fun q hq z => ?_), ?_, ?_⟩
  · obtain ⟨k1, k2, k3, k4, k5, k6, k7, k8⟩ := hL
    exact ⟨k1, k2, k3, k4, by rw [hs]; exact k5, k6, by rw [h10.1, h10.2]; exact k7, by rw [h11]; exact k8⟩
  · rw [List.length_append, h3]
    rfl
  · have hi : i < C.1 + 1 := hi
    show ∃ x k, (rs ++ [gIc g (p + 128)])[i]? = some x ∧ gIv g x = some k ∧ vb_c k = iI (if i = C.1 then (p : Int) else C.2.1 i)
    by_cases e : i = C.1
    · refine ⟨gIc g (p + 128), p + 128, ?_, i1, ?_⟩
      · rw [e, ← h3, List.getElem?_append_right (Nat.le_refl _), Nat.sub_self]
        rfl
      · rw [if_pos e, k_vb p (by omega), iI_nI]
    · obtain ⟨x, k, z1, z2, z3⟩ := h4 i (by omega)
      refine ⟨x, k, ?_, z2, ?_⟩
      · rw [List.getElem?_append_left (by omega)]
        exact z1
      · rw [if_neg e]
        exact z3
  · rcases List.mem_append.mp hx with z | z
    · exact h4b x z
    · rw [List.mem_singleton.mp z]
      exact ⟨i2, _, i1⟩
  · rcases e4 q hq with z | z
    · obtain ⟨y1, y2, y3, y4⟩ := h7 q z
      exact ⟨y1, by omega, y3, y4⟩
    · exact ⟨Or.inr (by omega), z.2, fun y => by have := (h8 q y).2; omega, by omega⟩
  · rcases (h7 q z).1 with y | y <;> omega
  · rcases e5 with ⟨-, -, z, -⟩ | ⟨-, z, -⟩ <;> omega
  · rcases e5 with ⟨-, -, -, z⟩ | ⟨z0, z1, z2, z3⟩
    · omega
    · have hcu : capUp cap ≤ cap + cap / 2 + 1 := by unfold capUp; split <;> omega
      rcases z3 with z3 | z3 <;> omega
/-- a form goes into the cave -/
theorem xl_form {S0 : XS} {s' : LT} (h : XLb g r xa sz B0 b mk nb B1 S t s') (hc : XCv g B0 mk B1 S0 s.1) (hx : XFb r (xTop S0) S0 S) (hB : B0 ≤ xTop S0) {f : Nat} {φ : VF} (hf : FormAt g (fun q => xTop S0 ≤ q ∧ q < xTop S) 72 S f φ) : (∃ S1, f_putR S 3 mk 1 (some f) = some S1 ∧ XLb g r xa sz B0 b mk nb B1 S1 t s' ∧ XCv g B0 mk B1 S1 (lLeaks s φ).1 ∧ XE (fun q => B1 ≤ q) S S1 ∧ xTop S1 = xTop S ∧ xSl S1 = xSl S ∧ xI S1 r = xI S r) ∧ ∃ S1, f_putR S 3 mk 2 (some f) = some S1 ∧ XLb g r xa sz B0 b mk nb B1 S1 t s' ∧ XCv g B0 mk B1 S1 (lFrost s φ).1 ∧ XE (fun q => B1 ≤ q) S S1 ∧ xTop S1 = xTop S ∧ xSl S1 = xSl S ∧ xI S1 r = xI S r := by
  obtain ⟨c1, c2, c3, c4, c5, c6, c7⟩ := h.bd
  have hb := h.2.2.2.2.2.1
  obtain ⟨ls, f1, f2, rs, cap, Yl, Zf, h1, h2, h3, h4, h5, h6, h7, h8, h9⟩ := hc
  have ht := hx.1.2.1
  have fg : ∀ q, q < xTop S0 → xOwn S q = xOwn S0 q ∧ xG S q = xG S0 q := fun q hq => hx.yfg (Nat.le_refl _) hq
  have k1 : genAt S mk (.inr (3, [.ref ls, va_rf f1, va_rf f2])) := by
    obtain ⟨z1, z2⟩ := fg mk (by omega)
    exact ⟨z1.trans h1.1, z2.trans h1.2⟩
  have key : ∀ (e : GE), XLb g r xa sz B0 b mk nb B1 (xSetG S mk e) t s' ∧ XE (fun q => B1 ≤ q) S (xSetG S mk e) ∧ genAt (xSetG S mk e) mk e ∧ yFg (fun q => q ≠ mk) S (xSetG S mk e) ∧ xI (xSetG S mk e) r = xI S r := fun e => by
    have hE : XE (fun q => q = mk) S (xSetG S mk e) := setG_XE h.1.2.1 k1 rfl
    exact ⟨h.xe hE (fun q _ z => ⟨3, [.ref ls, va_rf f1, va_rf f2], by rw [z]; exact k1⟩), hE.mono (fun q _ z => by rw [z]; exact hb.2.2.2.1), setG_at k1, fun q hq => ⟨rfl, if_neg hq⟩, rfl⟩
  have hY : ∀ q, Yl q → q ≠ mk := fun q hq => (h7 q hq).2.2.2
  have hZ : ∀ q, Zf q ∨ (xTop S0 ≤ q ∧ q < xTop S) → q ≠ mk := fun q hq => by
    rcases hq with z | z
    · have := (h8 q z).1; omega
    · omega
  have mv : ∀ (e : GE), ListC g Yl (xSetG S mk e) ls rs cap ∧ (∀ (o : Option VF) (x : Option Nat), fOk g Zf S0 o x → fOk g (fun q => Zf q ∨ (xTop S0 ≤ q ∧ q < xTop S)) (xSetG S mk e) o x) ∧ FormAt g (fun q => Zf q ∨ (xTop S0 ≤ q ∧ q < xTop S)) 72 (xSetG S mk e) f φ := fun e => by
    obtain ⟨-, -, -, z4, -⟩ := key e
    have fY : yFg Yl S0 (xSetG S mk e) := fun q hq => by
      obtain ⟨y1, y2⟩ := fg q (h7 q hq).2.1
      obtain ⟨y3, y4⟩ := z4 q (hY q hq)
      exact ⟨y3.trans y1, y4.trans y2⟩
    have fZ : yFg Zf S0 (xSetG S mk e) := fun q hq => by
      obtain ⟨y1, y2⟩ := fg q (h8 q hq).2
      obtain ⟨y3, y4⟩ := z4 q (hZ q (Or.inl hq))
      exact ⟨y3.trans y1, y4.trans y2⟩
    have fN : yFg (fun q => xTop S0 ≤ q ∧ q < xTop S) S (xSetG S mk e) := fun q hq => z4 q (hZ q (Or.inr hq))
    exact ⟨h2.fr fY, fun o x ho => (ho.fr fZ).mono (fun q z => Or.inl z), FormAt.mono (fun q z => Or.inr z) _ _ _ (FormAt.fr fN _ _ _ hf)⟩
  have hreg : (∀ q, Yl q → (q = ls ∨ B0 ≤ q) ∧ q < xTop S ∧ ¬ (Zf q ∨ (xTop S0 ≤ q ∧ q < xTop S)) ∧ q ≠ mk) ∧ ∀ q, (Zf q ∨ (xTop S0 ≤ q ∧ q < xTop S)) → B0 ≤ q ∧ q < xTop S := by
    refine ⟨fun q hq => ?_, fun q hq => ?_⟩
    · obtain ⟨y1, y2, y3, y4⟩ := h7 q hq
      refine ⟨y1, by omega, fun z => ?_, y4⟩
      rcases z with z | z
      · exact y3 z
      · omega
    · rcases hq with z | z
      · have := h8 q z; omega
      · omega
  constructor
  · obtain ⟨z1, z2, z3, z4, z5⟩ := key (.inr (3, [.ref ls, va_rf (some f), va_rf f2]))
    obtain ⟨m1, m2, m3⟩ := mv (.inr (3, [.ref ls, va_rf (some f), va_rf f2]))
    exact ⟨_, g_putR k1 (by show 1 < 3; omega), z1, ⟨ls, some f, f2, rs, cap, Yl, _, z3, m1, h3, h4, ⟨f, rfl, m3⟩, m2 _ _ h6, hreg.1, hreg.2, h9⟩, z2, rfl, rfl, z5⟩
  · obtain ⟨z1, z2, z3, z4, z5⟩ := key (.inr (3, [.ref ls, va_rf f1, va_rf (some f)]))
    obtain ⟨m1, m2, m3⟩ := mv (.inr (3, [.ref ls, va_rf f1, va_rf (some f)]))
    exact ⟨_, g_putR k1 (by show 2 < 3; omega), z1, ⟨ls, f1, some f, rs, cap, Yl, _, z3, m1, h3, h4, m2 _ _ h5, ⟨f, rfl, m3⟩, hreg.1, hreg.2, h9⟩, z2, rfl, rfl, z5⟩
end YC42
