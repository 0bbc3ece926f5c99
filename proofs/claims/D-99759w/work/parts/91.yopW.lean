/-! plain law: listen, the component -/
section OW
variable {g : XC} {N xa oa n : Nat} {Z Ya Yh : Nat → Prop} {na ta cv la lh : Nat} {ra rh : List Nat} {M : MT} {T : Int} {S S0 S1 : XS} {σ s : MS} {C : CC} {V m : MN} {w : Nat → Int32} {c k t l q : Nat} {hs : List HT} {L : List Nat} {A : Nat → Nat → Int32}
def mxO (t p i : Nat) : GE := .inl (5, p, .inr (.inr (.inr (.inr (fun j => if j < i then some (t + 1 + j) else none)))))
def mxI (f : Nat → Int32) : GE := .inl (0, 40, .inl f)
theorem x_mul (hW : WFr S) {p : Nat} (h1 : xTop S + 1 + p ≤ xCc S) (h2 : xSl S + p + 40 * p ≤ xCs S) : ∀ i, i ≤ p → ∃ S1, xMul S (xTop S) p 40 i = some S1 ∧ XE (fun q => xTop S ≤ q) S S1 ∧ xTop S1 = xTop S + 1 + i ∧ xSl S1 = xSl S + p + 40 * i ∧ genAt S1 (xTop S) (mxO (xTop S) p i) ∧ ∀ j, j < i → genAt S1 (xTop S + 1 + j) (mxI (fun _ => 0)) := by
  intro i
  induction i with
  | zero =>
    intro _
    refine ⟨newS S p (mxO (xTop S) p 0), ?_, newS_XE hW _ _ _, rfl, rfl, newS_at _ _ _, fun j hj => by omega⟩
    show xNew S p (.inl (5, p, .inr (.inr (.inr (.inr (fun _ => none)))))) = _
    have e : mxO (xTop S) p 0 = .inl (5, p, .inr (.inr (.inr (.inr (fun _ => none))))) := by
      unfold mxO
      have : (fun j => if j < 0 then some (xTop S + 1 + j) else none) = (fun _ : Nat => (none : Option Nat)) := by
        funext j
        exact if_neg (by omega)
      rw [this]
    rw [e]
    exact x_newS (by omega) (by omega)
  | succ i ih =>
    intro hi
    obtain ⟨S1, a1, a2, a3, a4, a5, a6⟩ := ih (by omega)
    have hn : xNew S1 40 (mxI (fun _ => 0)) = some (newS S1 40 (mxI (fun _ => 0))) := x_newS (by rw [a2.2.2.2.1]; omega) (by rw [a2.2.2.2.2.1]; omega)
    have b1 : XE (fun q => xTop S ≤ q) S1 (newS S1 40 (mxI (fun _ => 0))) := newS_XE a2.1 _ _ _
    have hat : genAt (newS S1 40 (mxI (fun _ => 0))) (xTop S) (mxO (xTop S) p i) := by
      have := newS_same S1 40 (mxI (fun _ => 0)) (q := xTop S) (by omega)
      exact ⟨this.1.trans a5.1, this.2.2.2.2.2.trans a5.2⟩
    have b2 : XE (fun q => xTop S ≤ q) (newS S1 40 (mxI (fun _ => 0))) (xSetG (newS S1 40 (mxI (fun _ => 0))) (xTop S) (mxO (xTop S) p (i + 1))) := setG_XE b1.1 hat (Nat.le_refl _)
    refine ⟨xSetG (newS S1 40 (mxI (fun _ => 0))) (xTop S) (mxO (xTop S) p (i + 1)), ?_, (a2.trans b1 (fun _ _ z => z)).trans b2 (fun _ _ z => z), ?_, ?_, setG_at hat, fun j hj => ?_⟩
    · show ((xMul S (xTop S) p 40 i).bind fun S1 => (xNew S1 40 (.inl (0, 40, .inl (fun _ => 0)))).map fun S2 => xSetG S2 (xTop S) (.inl (5, p, .inr (.inr (.inr (.inr (fun j => if j < i + 1 then some (xTop S + 1 + j) else none))))))) = _
      refine ob1 a1 ?_
      show ((xNew S1 40 (mxI (fun _ => 0))).map _) = _
      rw [hn]
      rfl
    · show xTop S1 + 1 = _
      omega
    · show xSl S1 + 40 = _
      omega
    · refine setG_ne ?_ (by omega)
      by_cases e : j = i
      · rw [e, show xTop S + 1 + i = xTop S1 by omega]
        exact newS_at _ _ _
      · have := newS_same S1 40 (mxI (fun _ => 0)) (q := xTop S + 1 + j) (by omega)
        have h6 := a6 j (by omega)
        exact ⟨this.1.trans h6.1, this.2.2.2.2.2.trans h6.2⟩
/-- the guesses' list and the table of their hours -/
def LI (g : XC) (xa ta oa n : Nat) (S0 : XS) (l t : Nat) (L : List Nat) (S : XS) (A : Nat → Nat → Int32) : Prop := YLS xa ta oa n S0 S ∧ (∃ Y, ListAt g Y S l (gIs g L) ∧ ∀ q, Y q → q < t) ∧ n ≤ t ∧ genAt S t (mxO t L.length L.length) ∧ ∀ i, i < L.length → genAt S (t + 1 + i) (mxI (A i))
theorem LI.nset (h : LI g xa ta oa n S0 l t L S A) (hx : xa ≠ ta) (m : MN) (w : Nat → Int32) : LI g xa ta oa n S0 l t L (nset S ta xa m w) A := by
  obtain ⟨h1, ⟨Y, h2, h3⟩, h4, h5, h6⟩ := h
  exact ⟨h1.nset hx m w, ⟨Y, h2.fr (fun _ _ => ⟨rfl, rfl⟩), h3⟩, h4, h5, h6⟩
theorem LI.put (h : LI g xa ta oa n S0 l t L S A) (hx : xa < n) (ho : oa < n) {i : Nat} (hi : i < L.length) (f : Nat → Int32) : LI g xa ta oa n S0 l t L (xSetG S (t + 1 + i) (mxI f)) (fun e => if e = i then f else A e) := by
  obtain ⟨h1, ⟨Y, h2, h3⟩, h4, h5, h6⟩ := h
  refine ⟨h1.xe (setG_XE h1.2.1 (h6 i hi) (P := fun q => n ≤ q) (by omega)) hx ho, ⟨Y, h2.fr (fun q hq => ?_), h3⟩, h4, setG_ne h5 (by omega), fun e he => ?_⟩
  · have := h3 q hq
    exact ⟨rfl, if_neg (by omega)⟩
  · by_cases ee : e = i
    · subst ee
      show genAt _ _ (mxI (if e = e then f else A e))
      rw [if_pos rfl]
      exact setG_at (h6 e he)
    · show genAt _ _ (mxI (if e = i then f else A e))
      rw [if_neg ee]
      exact setG_ne (h6 e he) (by omega)
theorem LI.len (h : LI g xa ta oa n S0 l t L S A) : a_len S t = some (nI L.length) := g_alen h.2.2.2.1 (by decide)
theorem LI.row (h : LI g xa ta oa n S0 l t L S A) (hL : L.length ≤ 90) {i : Nat} (hi : i < L.length) : a_obj S 5 t (nI i) = some (t + 1 + i) := g_aobj h.2.2.2.1 hi (by omega) (if_pos hi)
theorem LI.at (h : LI g xa ta oa n S0 l t L S A) {i j : Nat} (hi : i < L.length) (hj : j < 40) : a_int S 0 (t + 1 + i) (nI j) = some (A i j) := g_aint (h.2.2.2.2 i hi) hj (by omega)
/-! counting -/
theorem x_li126 (hN : 2 ^ 20 < N) (hL : L.length ≤ 90) (h : LI g xa ta oa n S0 l t L S A) {G : Nat → Nat} {j : Nat} (hj : j < 40) (hG : ∀ i, G i < 512) (hA : ∀ i, i < L.length → A i j = nI (G (L.getD i 0))) {i : Nat} (hi : i < L.length) (K : XS → Int32 → Nat → Int32 → Int32 → Int32 → Option ((XS × Int32) ⊕ XT)) (K1 : XS → Int32 → Nat → Int32 → Int32 → Int32 → Int32 → Int32 → Option ((XS × Int32) ⊕ XT)) (x a b y : Int32) : kX_X1_listen_126 g N K K1 N S x t a b (nI j) y (nI i) 1 0 = K1 S x t a b (nI j) (if (∃ e, e < i ∧ G (L.getD e 0) = G (L.getD i 0)) then y else y + 1) (nI (i + 1)) := by
  have h176 : ∀ y, kX_X1_listen_176 g N K K1 S x t a b (nI j) y (nI i) = K1 S x t a b (nI j) y (nI (i + 1)) := fun y => by
    unfold kX_X1_listen_176
    rw [nI_1]
  have fin : ∀ (f e : Nat), e ≤ i → (∃ d, d < e ∧ G (L.getD d 0) = G (L.getD i 0)) → kX_X1_listen_126 g N K K1 (f + 1) S x t a b (nI j) y (nI i) 0 (nI e) = K1 S x t a b (nI j) (if (∃ e, e < i ∧ G (L.getD e 0) = G (L.getD i 0)) then y else y + 1) (nI (i + 1)) := fun f e he hd => by
    rw [if_pos (by obtain ⟨d, d1, d2⟩ := hd; exact ⟨d, by omega, d2⟩), ← h176, kX_X1_listen_126]
    by_cases e1 : i ≤ e
    · refine oit (nI_le e1 (by omega)) ?_
      unfold kX_X1_listen_168
      exact oit rfl rfl
    · refine oif (nI_ge (by omega) (by omega)) (oit rfl ?_)
      unfold kX_X1_listen_168
      exact oit rfl rfl
  have key : ∀ d e f, e + d = i → d < f → (∀ d, d < e → ¬ G (L.getD d 0) = G (L.getD i 0)) → kX_X1_listen_126 g N K K1 f S x t a b (nI j) y (nI i) 1 (nI e) = K1 S x t a b (nI j) (if (∃ e, e < i ∧ G (L.getD e 0) = G (L.getD i 0)) then y else y + 1) (nI (i + 1)) := by
    intro d
    induction d with
    | zero =>
      intro e f he hf p3
      obtain ⟨f, rfl⟩ : ∃ x, f = x + 1 := ⟨f - 1, by omega⟩
      have ee : e = i := by omega
      subst ee
      rw [if_neg (fun z => by obtain ⟨d, d1, d2⟩ := z; exact p3 d d1 d2), ← h176, kX_X1_listen_126]
      refine oit (nI_le (Nat.le_refl _) (by omega)) ?_
      unfold kX_X1_listen_168
      exact oif n10 rfl
    | succ d ih =>
      intro e f he hf p3
      obtain ⟨f, rfl⟩ : ∃ x, f = x + 1 + 1 := ⟨f - 2, by omega⟩
      have hd := h.at (i := e) (j := j) (by omega) hj
      have hd2 := h.at (i := i) (j := j) hi hj
      rw [hA e (by omega)] at hd
      rw [hA i hi] at hd2
      have heq : nI (G (L.getD e 0)) = nI (G (L.getD i 0)) ↔ G (L.getD e 0) = G (L.getD i 0) := nI_eq (by have := hG (L.getD e 0); omega) (by have := hG (L.getD i 0); omega)
      have h160 : ∀ v, kX_X1_listen_160 g N K K1 (kX_X1_listen_126 g N K K1 (f + 1)) S x t a b (nI j) y (nI i) (nI e) v = kX_X1_listen_126 g N K K1 (f + 1) S x t a b (nI j) y (nI i) v (nI (e + 1)) := fun v => by
        unfold kX_X1_listen_160
        rw [nI_1]
      rw [kX_X1_listen_126]
      refine oif (nI_ge (by omega) (by omega)) (oif n10 (ob1 (h.row hL (by omega)) (ob1 hd (ob1 (h.row hL hi) (ob1 hd2 ?_)))))
      by_cases c : G (L.getD e 0) = G (L.getD i 0)
      · refine oit (heq.mpr c) ?_
        rw [h160]
        exact fin f (e + 1) (by omega) ⟨e, by omega, c⟩
      · refine oif (fun z => c (heq.mp z)) ?_
        rw [h160]
        refine ih (e + 1) (f + 1) (by omega) (by omega) (fun d hd => ?_)
        by_cases ee : d = e
        · rw [ee]; exact c
        · exact p3 d (by omega)
  exact key i 0 N (by omega) (by omega) (fun d hd => by omega)
theorem take_g {i : Nat} (hi : i < L.length) : L.take (i + 1) = L.take i ++ [L.getD i 0] := by
  rw [List.take_add_one, List.getD_eq_getElem?_getD, List.getElem?_eq_getElem hi]
  rfl
theorem mem_take (G : Nat → Nat) (v : Nat) : ∀ i, i ≤ L.length → (v ∈ (L.take i).map G ↔ ∃ e, e < i ∧ G (L.getD e 0) = v) := by
  intro i
  induction i with
  | zero =>
    intro _
    constructor
    · intro z; simp at z
    · rintro ⟨e, he, -⟩; omega
  | succ i ih =>
    intro hi
    rw [take_g (by omega), List.map_append, List.mem_append, ih (by omega)]
    constructor
    · rintro (⟨e, h1, h2⟩ | h)
      · exact ⟨e, by omega, h2⟩
      · rw [List.map_cons, List.map_nil, List.mem_singleton] at h
        exact ⟨i, by omega, h.symm⟩
    · rintro ⟨e, h1, h2⟩
      by_cases ee : e = i
      · rw [ee] at h2
        exact Or.inr (by rw [List.map_cons, List.map_nil, List.mem_singleton]; exact h2.symm)
      · exact Or.inl ⟨e, by omega, h2⟩
theorem x_li113 (hN : 2 ^ 20 < N) (hL : L.length ≤ 90) (h : LI g xa ta oa n S0 l t L S A) {G : Nat → Nat} {j : Nat} (hj : j < 40) (hG : ∀ i, G i < 512) (hA : ∀ i, i < L.length → A i j = nI (G (L.getD i 0))) (K : XS → Int32 → Nat → Int32 → Int32 → Int32 → Option ((XS × Int32) ⊕ XT)) (x a : Int32) {b : Nat} (hb : b ≤ 512) : kX_X1_listen_113 g N K N S x t a (nI b) (nI j) 0 0 = if b < kSum G L 512 then K S x t (nI (j + 1)) (nI (kSum G L 512)) (nI (j + 1)) else K S x t a (nI b) (nI (j + 1)) := by
  have hc := kSum_le G L 512
  have h0 : kSum G (L.take 0) 512 = 0 := by
    have : ∀ n, kSum G [] n = 0 := by
      intro n
      induction n with
      | zero => rfl
      | succ n ih =>
        show kSum G [] n + kInd G [] n = 0
        rw [ih]
        rfl
    exact this 512
  refine y_loop (fun f (S1 : XS) i => kX_X1_listen_113 g N K f S1 x t a (nI b) (nI j) (nI (kSum G (L.take i) 512)) (nI i)) L.length (fun S1 _ => S1 = S) (fun r => r = if b < kSum G L 512 then K S x t (nI (j + 1)) (nI (kSum G L 512)) (nI (j + 1)) else K S x t a (nI b) (nI (j + 1))) ?_ ?_ L.length N S 0 (by omega) (by omega) rfl |>.symm.trans ?_ |>.symm
  · rintro f S1 i hi rfl
    right
    refine ⟨S1, ?_, rfl⟩
    show kX_X1_listen_113 g N K (f + 1) S1 x t a (nI b) (nI j) (nI (kSum G (L.take i) 512)) (nI i) = kX_X1_listen_113 g N K f S1 x t a (nI b) (nI j) (nI (kSum G (L.take (i + 1)) 512)) (nI (i + 1))
    rw [kX_X1_listen_113]
    refine ob1 h.len (oif (nI_ge hi (by omega)) ?_)
    rw [x_li126 hN hL h hj hG hA hi, take_g hi, kSum_s]
    have hm := mem_take (L := L) G (G (L.getD i 0)) i (by omega)
    by_cases e : ∃ e, e < i ∧ G (L.getD e 0) = G (L.getD i 0)
    · rw [if_pos e, if_neg (fun z => z.2 (hm.mpr e))]
      exact congrArg (fun z => kX_X1_listen_113 g N K f S1 x t a (nI b) (nI j) (nI z) (nI (i + 1))) (Nat.add_zero _).symm
    · rw [if_neg e, if_pos ⟨hG _, fun z => e (hm.mp z)⟩, nI_1]
  · rintro f S1 rfl
    show kX_X1_listen_113 g N K (f + 1) S1 x t a (nI b) (nI j) (nI (kSum G (L.take L.length) 512)) (nI L.length) = _
    rw [kX_X1_listen_113, List.take_length]
    refine ob1 h.len (oit (nI_le (Nat.le_refl _) (by omega)) ?_)
    unfold kX_X1_listen_202
    by_cases e : b < kSum G L 512
    · rw [if_pos e]
      refine oit (nI_lt e (by omega)) (onb (nI_1 j) ?_)
      rw [nI_1]
    · rw [if_neg e]
      refine oif (nI_nlt (by omega) (by omega)) ?_
      rw [nI_1]
  · show kX_X1_listen_113 g N K N S x t a (nI b) (nI j) (nI (kSum G (L.take 0) 512)) (nI 0) = _
    rw [h0]
    rfl
theorem x_li100 (hN : 2 ^ 20 < N) (hL : L.length ≤ 90) (h : LI g xa ta oa n S0 l t L S A) {G : Nat → Nat → Nat} (hG : ∀ j i, G j i < 512) (hA : ∀ i j, i < L.length → j < 40 → A i j = nI (G j (L.getD i 0))) {q : Nat} (hq : q ≤ 1) : kX_X1_listen_100 g N N S (nI q) t (-1) 0 0 = some (.inl (S, if q = 0 then (lsB (fun j => kSum (G j) L 512) 40).1 else nI (lsB (fun j => kSum (G j) L 512) 40).2)) := by
  have hq0 : nI q = 0 ↔ q = 0 := nI_eq (b := 0) (by omega) (by omega)
  refine y_loop (fun f (S1 : XS) k => kX_X1_listen_100 g N f S1 (nI q) t (lsB (fun j => kSum (G j) L 512) k).1 (nI (lsB (fun j => kSum (G j) L 512) k).2) (nI k)) 40 (fun S1 _ => S1 = S) (fun r => r = some (.inl (S, if q = 0 then (lsB (fun j => kSum (G j) L 512) 40).1 else nI (lsB (fun j => kSum (G j) L 512) 40).2))) ?_ ?_ 40 N S 0 (by omega) (by omega) rfl
  · rintro f S1 k hk rfl
    right
    refine ⟨S1, ?_, rfl⟩
    show kX_X1_listen_100 g N (f + 1) S1 (nI q) t (lsB (fun j => kSum (G j) L 512) k).1 (nI (lsB (fun j => kSum (G j) L 512) k).2) (nI k) = kX_X1_listen_100 g N f S1 (nI q) t (if (lsB (fun j => kSum (G j) L 512) k).2 < kSum (G k) L 512 then (nI (k + 1), kSum (G k) L 512) else lsB (fun j => kSum (G j) L 512) k).1 (nI (if (lsB (fun j => kSum (G j) L 512) k).2 < kSum (G k) L 512 then (nI (k + 1), kSum (G k) L 512) else lsB (fun j => kSum (G j) L 512) k).2) (nI (k + 1))
    have hb : (lsB (fun j => kSum (G j) L 512) k).2 ≤ 512 := lsB_le (c := fun j => kSum (G j) L 512) (fun j => kSum_le _ _ _) k
    generalize lsB (fun j => kSum (G j) L 512) k = B at *
    rw [kX_X1_listen_100]
    refine oif (nI_ge (b := 40) (a := k) hk (by omega)) ?_
    rw [x_li113 hN hL h hk (hG k) (fun i hi => hA i k hi hk) _ _ _ hb]
    by_cases e : B.2 < kSum (G k) L 512
    · rw [if_pos e, if_pos e]
    · rw [if_neg e, if_neg e]
  · rintro f S1 rfl
    show kX_X1_listen_100 g N (f + 1) S1 (nI q) t _ _ (nI 40) = _
    rw [kX_X1_listen_100]
    refine oit (nI_le (Nat.le_refl _) (by omega)) ?_
    by_cases e : q = 0
    · rw [if_pos e]
      exact oit (hq0.mpr e) rfl
    · rw [if_neg e]
      exact oif (fun z => e (hq0.mp z)) rfl
end OW
