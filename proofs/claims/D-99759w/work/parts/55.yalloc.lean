/-! plain law: new cells, lists that grow -/
/-- the world fits, and what lies in it lies below the top -/
def WFr (S : XS) : Prop := xWF S ∧ ∀ q e, x_cell S q = some e → q < xTop S
def tSame (S S1 : XS) (q : Nat) : Prop := xOwn S1 q = xOwn S q ∧ xI S1 q = xI S q ∧ xR S1 q = xR S q ∧ xA S1 q = xA S q ∧ xRa S1 q = xRa S q ∧ xG S1 q = xG S q
theorem tSame.refl (S : XS) (q : Nat) : tSame S S q := ⟨rfl, rfl, rfl, rfl, rfl, rfl⟩
theorem tSame.trans {S S1 S2 : XS} {q : Nat} (h : tSame S S1 q) (h2 : tSame S1 S2 q) : tSame S S2 q := ⟨h2.1.trans h.1, h2.2.1.trans h.2.1, h2.2.2.1.trans h.2.2.1, h2.2.2.2.1.trans h.2.2.2.1, h2.2.2.2.2.1.trans h.2.2.2.2.1, h2.2.2.2.2.2.trans h.2.2.2.2.2⟩
/-- S1 follows on S: below S's top only P's addresses have changed -/
def XE (P : Nat → Prop) (S S1 : XS) : Prop := WFr S1 ∧ xTop S ≤ xTop S1 ∧ xSl S ≤ xSl S1 ∧ xCc S1 = xCc S ∧ xCs S1 = xCs S ∧ ∀ q, q < xTop S → ¬ P q → tSame S S1 q
theorem XE.refl {P : Nat → Prop} {S : XS} (h : WFr S) : XE P S S := ⟨h, Nat.le_refl _, Nat.le_refl _, rfl, rfl, fun _ _ _ => tSame.refl _ _⟩
theorem XE.trans {P P1 : Nat → Prop} {S S1 S2 : XS} (h : XE P S S1) (h2 : XE P1 S1 S2) (hP : ∀ q, q < xTop S → P1 q → P q) : XE P S S2 := by
  obtain ⟨a1, a2, a3, a4, a5, a6⟩ := h
  obtain ⟨b1, b2, b3, b4, b5, b6⟩ := h2
  exact ⟨b1, Nat.le_trans a2 b2, Nat.le_trans a3 b3, b4.trans a4, b5.trans a5, fun q hq hp => (a6 q hq hp).trans (b6 q (by omega) (fun z => hp (hP q hq z)))⟩
theorem XE.mono {P P1 : Nat → Prop} {S S1 : XS} (h : XE P S S1) (hP : ∀ q, q < xTop S → P q → P1 q) : XE P1 S S1 := ⟨h.1, h.2.1, h.2.2.1, h.2.2.2.1, h.2.2.2.2.1, fun q hq hp => h.2.2.2.2.2 q hq (fun z => hp (hP q hq z))⟩
theorem XE.fr {P Z : Nat → Prop} {S S1 : XS} (h : XE P S S1) (hZ : ∀ q, Z q → q < xTop S ∧ ¬ P q) : yFr Z S S1 := fun q hq => h.2.2.2.2.2 q (hZ q hq).1 (hZ q hq).2
/-- a new cell -/
def newS (S : XS) (n : Nat) (e : GE) : XS := ((xTop S + 1, xSl S + n, xCc S, xCs S), S.2.1, S.2.2.1, S.2.2.2.1, (fun b => if b = xTop S then (0, 0, 0) else xOwn S b), S.2.2.2.2.2.1, fun b => if b = xTop S then some e else xG S b)
theorem x_newS {S : XS} {n : Nat} {e : GE} (h : xTop S + 1 ≤ xCc S) (h2 : xSl S + n ≤ xCs S) : xNew S n e = some (newS S n e) := by
  unfold xNew
  exact if_pos ⟨h, h2⟩
theorem newS_at (S : XS) (n : Nat) (e : GE) : genAt (newS S n e) (xTop S) e := ⟨if_pos rfl, if_pos rfl⟩
theorem newS_same (S : XS) (n : Nat) (e : GE) {q : Nat} (h : q < xTop S) : tSame S (newS S n e) q := ⟨if_neg (by omega), rfl, rfl, rfl, rfl, if_neg (by omega)⟩
theorem WFr.own0 {S : XS} (h : WFr S) {q : Nat} (hq : xTop S ≤ q) : (xOwn S q).1 = 0 := by
  apply Classical.byContradiction
  intro z
  obtain ⟨e, he⟩ := x_cell_some.mpr (fun y : (xOwn S q).1 = 0 => absurd y z)
  have := h.2 q e he
  omega
theorem newS_own (S : XS) (n : Nat) (e : GE) {q : Nat} (h : q ≠ xTop S) : xOwn (newS S n e) q = xOwn S q := if_neg h
theorem newS_wf {S : XS} (h : WFr S) (n : Nat) (e : GE) : WFr (newS S n e) := by
  have h0 := h.own0 (Nat.le_refl (xTop S))
  have hn : ∀ q, (xOwn (newS S n e) q).1 ≠ 0 → q ≠ xTop S := fun q hq z => hq (by rw [z]; exact congrArg Prod.fst (newS_at S n e).1)
  refine ⟨⟨fun a h1 h2 => ?_, fun q hq => ?_⟩, fun q e1 hq => ?_⟩
  · have ha := hn a h1
    rw [newS_own S n e ha] at h1 h2 ⊢
    obtain ⟨b1, b2⟩ := h.1.1 a h1 h2
    refine ⟨b1, fun k hk => ?_⟩
    have b3 := b2 k hk
    show xOwn (newS S n e) (xRa S a k) = _
    have h3 : xRa S a k ≠ xTop S := fun z => by
      rw [z] at b3
      rw [b3] at h0
      have h0 : (xOwn S a).1 + 10 = 0 := h0
      omega
    rw [newS_own S n e h3]
    exact b3
  · have hqn := hn q (by omega)
    rw [newS_own S n e hqn] at hq ⊢
    obtain ⟨b1, b2, b3, b4⟩ := h.1.2 q hq
    have h3 : (xOwn S q).2.1 ≠ xTop S := fun z => by rw [z, h0] at b2; omega
    rw [newS_own S n e h3]
    exact ⟨b1, b2, b3, b4⟩
  · show q < xTop S + 1
    by_cases z : q = xTop S
    · omega
    · have : ∃ e, x_cell S q = some e := by
        have h1 : ∃ e1, x_cell (newS S n e) q = some e1 := ⟨e1, hq⟩
        rw [x_cell_some, newS_own S n e z] at h1
        rw [x_cell_some]
        intro y
        obtain ⟨e2, he2⟩ := h1 y
        exact ⟨e2, (if_neg z).symm.trans he2⟩
      obtain ⟨e2, he2⟩ := this
      have := h.2 q e2 he2
      omega
theorem newS_XE {S : XS} (h : WFr S) (n : Nat) (e : GE) (P : Nat → Prop) : XE P S (newS S n e) := ⟨newS_wf h n e, Nat.le_succ _, Nat.le_add_right _ _, rfl, rfl, fun q hq _ => newS_same S n e hq⟩
/-- a cell of the general map is written -/
theorem setG_at {S : XS} {q : Nat} {e0 e : GE} (h : genAt S q e0) : genAt (xSetG S q e) q e := ⟨h.1, if_pos rfl⟩
theorem setG_same {S : XS} {a q : Nat} {e : GE} (h : q ≠ a) : tSame S (xSetG S a e) q := ⟨rfl, rfl, rfl, rfl, rfl, if_neg h⟩
theorem setG_XE {S : XS} (h : WFr S) {a : Nat} {e0 e : GE} (ha : genAt S a e0) {P : Nat → Prop} (hP : P a) : XE P S (xSetG S a e) := by
  refine ⟨⟨h.1, fun q e1 hq => ?_⟩, Nat.le_refl _, Nat.le_refl _, rfl, rfl, fun q _ hp => setG_same (fun z => hp (z ▸ hP))⟩
  show q < xTop S
  by_cases z : q = a
  · subst z
    exact h.2 q e0 (g_cell ha)
  · have : ∃ e1, x_cell (xSetG S a e) q = some e1 := ⟨e1, hq⟩
    rw [x_cell_some] at this
    obtain ⟨e2, he2⟩ := x_cell_some.mpr (fun y : (xOwn S q).1 = 0 => by
      obtain ⟨e3, he3⟩ := this y
      exact ⟨e3, (if_neg z).symm.trans he3⟩)
    exact h.2 q e2 he2
theorem g_putI {S : XS} {q c k : Nat} {fs : List Value} {v : Int32} (h : genAt S q (.inr (c, fs))) (hk : k < fs.length) : f_putI S c q k v = some (xSetG S q (.inr (c, fs.set k (.int v)))) := by
  unfold f_putI
  rw [if_pos h.1, h.2]
  exact if_pos ⟨rfl, hk⟩
theorem g_putR {S : XS} {q c k : Nat} {fs : List Value} {v : Option Nat} (h : genAt S q (.inr (c, fs))) (hk : k < fs.length) : f_putR S c q k v = some (xSetG S q (.inr (c, fs.set k (va_rf v)))) := by
  unfold f_putR
  rw [if_pos h.1, h.2]
  exact if_pos ⟨rfl, hk⟩
theorem g_aputR {S : XS} {q k n i : Nat} {f : Nat → Option Nat} {v : Option Nat} (h : genAt S q (.inl (k, n, .inr (.inr (.inr (.inr f)))))) (hi : i < n) (hn : n < 2 ^ 31) : a_putR S k q (nI i) v = some (xSetG S q (.inl (k, n, .inr (.inr (.inr (.inr (va_up f i v))))))) := by
  unfold a_putR
  rw [g_cell h]
  show (if (xOwn S q).1 = 0 ∧ k = k ∧ ¬ (nI i < 0 ∨ n ≤ (nI i).toNatClampNeg) then _ else _) = _
  rw [if_pos ⟨by rw [h.1], rfl, nI_in hi hn⟩, nI_clamp (by omega)]
theorem g_aputI {S : XS} {q k n i : Nat} {f : Nat → Int32} {v : Int32} (h : genAt S q (.inl (k, n, .inl f))) (hi : i < n) (hn : n < 2 ^ 31) : a_putI S k q (nI i) v = some (xSetG S q (.inl (k, n, .inl (upd f i v)))) := by
  unfold a_putI
  rw [if_pos (by rw [h.1]), h.2]
  show (if k = k ∧ ¬ (nI i < 0 ∨ n ≤ (nI i).toNatClampNeg) then _ else _) = _
  rw [if_pos ⟨rfl, nI_in hi hn⟩, nI_clamp (by omega)]
theorem x_newR {S : XS} {k n : Nat} (hn : n ≤ 67108864) (h : xTop S + 1 ≤ xCc S) (h2 : xSl S + n ≤ xCs S) : xNewR S k (nI n) = some (newS S n (.inl (k, n, .inr (.inr (.inr (.inr (fun _ => none))))))) := by
  unfold xNewR
  rw [nI_clamp (by omega), if_neg (by
    rintro (z | z)
    · exact nI_pos (by omega) z
    · omega)]
  exact x_newS h h2
theorem x_newI {S : XS} {k n : Nat} (hn : n ≤ 67108864) (h : xTop S + 1 ≤ xCc S) (h2 : xSl S + n ≤ xCs S) : xNewI S k (nI n) = some (newS S n (.inl (k, n, .inl (fun _ => 0)))) := by
  unfold xNewI
  rw [nI_clamp (by omega), if_neg (by
    rintro (z | z)
    · exact nI_pos (by omega) z
    · omega)]
  exact x_newS h h2
theorem x_newJ {S : XS} {n : Nat} (hn : n ≤ 67108864) (h : xTop S + 1 ≤ xCc S) (h2 : xSl S + n ≤ xCs S) : xNewJ S (nI n) = some (newS S n (.inl (2, n, .inr (.inl (fun _ => 0))))) := by
  unfold xNewJ
  rw [nI_clamp (by omega), if_neg (by
    rintro (z | z)
    · exact nI_pos (by omega) z
    · omega)]
  exact x_newS h h2
/-! what lists may hold -/
theorem any_cell {g : XC} {S S1 : XS} {r : Nat} (h : v_any g S r = some ()) (hc : x_cell S1 r = x_cell S r) : v_any g S1 r = some () := by
  unfold v_any at h ⊢
  rw [hc]
  exact h
theorem any_lt {g : XC} {S : XS} {r : Nat} (h : v_any g S r = some ()) : (∃ k, gIv g r = some k) ∨ ∃ e, x_cell S r = some e := by
  unfold v_any at h
  cases hg : gIv g r with
  | some k => exact Or.inl ⟨k, rfl⟩
  | none =>
    rw [hg] at h
    dsimp only at h
    cases hx : x_cell S r with
    | some e => exact Or.inr ⟨e, rfl⟩
    | none => rw [hx] at h; cases h
theorem cell_same {S S1 : XS} {q : Nat} (h : tSame S S1 q) (h2 : 10 ≤ (xOwn S q).1 → tSame S S1 (xOwn S q).2.1) : x_cell S1 q = x_cell S q := by
  obtain ⟨a1, a2, a3, a4, a5, a6⟩ := h
  unfold x_cell
  rw [a1, a6]
  by_cases p : (xOwn S q).1 = 0
  · rw [if_pos p, if_pos p]
  · rw [if_neg p, if_neg p]
    by_cases p2 : (xOwn S q).1 < 10
    · rw [if_pos p2, if_pos p2]
      have : x_F S1 (xOwn S q).1 q = x_F S (xOwn S q).1 q := by
        unfold x_F
        congr 1
        funext j
        unfold x_val
        rw [a2, a3, a5]
      rw [this]
    · rw [if_neg p2, if_neg p2]
      obtain ⟨-, -, -, b4, -, -⟩ := h2 (by omega)
      rw [b4]
theorem newS_cell {S : XS} (h : WFr S) (n : Nat) (e : GE) {q : Nat} {e1 : GE} (hq : x_cell S q = some e1) : x_cell (newS S n e) q = some e1 := by
  rw [← hq]
  refine cell_same (newS_same S n e (h.2 q e1 hq)) (fun h10 => newS_same S n e ?_)
  obtain ⟨b1, b2, b3, b4⟩ := h.1.2 q h10
  obtain ⟨e2, he2⟩ := (x_cell_some (S := S) (q := (xOwn S q).2.1)).mpr (fun z => by omega)
  exact h.2 _ e2 he2
theorem any_new {g : XC} {S : XS} {r n : Nat} {e : GE} (h : WFr S) (hr : v_any g S r = some ()) : v_any g (newS S n e) r = some () := by
  rcases any_lt hr with ⟨k, hk⟩ | ⟨e1, he1⟩
  · unfold v_any
    rw [hk]
  · exact any_cell hr ((newS_cell h n e he1).trans he1.symm)
theorem any_setG {g : XC} {S : XS} {r q : Nat} {e : GE} (hr : v_any g S r = some ()) (hne : r ≠ q) : v_any g (xSetG S q e) r = some () := any_cell hr (x_cell_G S q r e hne)
theorem any_top {g : XC} {S : XS} {r n : Nat} {e e1 : GE} (h : WFr S) (hr : v_any g S r = some ()) : v_any g (xSetG (newS S n e) (xTop S) e1) r = some () := by
  rcases any_lt hr with ⟨k, hk⟩ | ⟨e2, he2⟩
  · unfold v_any
    rw [hk]
  · exact any_setG (any_new h hr) (Nat.ne_of_lt (h.2 r e2 he2))
/-! lists with their capacity -/
def ListC (g : XC) (Z : Nat → Prop) (S : XS) (l : Nat) (rs : List Nat) (cap : Nat) : Prop := rs.length < 2 ^ 20 ∧ ∃ mc ba, gz Z S l (.inr (10, [.int mc, .ref ba, .int (nI rs.length)])) ∧
  ((rs = [] ∧ cap = 0 ∧ (ba = gSp g 0 ∨ ba = gSp g 1)) ∨ (¬ (ba = gSp g 0 ∨ ba = gSp g 1) ∧ ba ≠ l ∧ rs.length ≤ cap ∧ cap < 2 ^ 22 ∧ gz Z S ba (.inl (3, cap, .inr (.inr (.inr (.inr (fun i => rs[i]?))))))))
theorem ListC.l {g : XC} {Z : Nat → Prop} {S : XS} {l cap : Nat} {rs : List Nat} (h : ListC g Z S l rs cap) : ListAt g Z S l rs := by
  obtain ⟨h0, mc, ba, h1, h2⟩ := h
  refine ⟨h0, mc, ba, h1, ?_⟩
  rcases h2 with ⟨h2, -, h3⟩ | ⟨h2, h3, h4, h5, h6⟩
  · exact Or.inl ⟨h2, h3⟩
  · exact Or.inr ⟨h2, h3, cap, h4, h5, h6⟩
theorem ListAt.c {g : XC} {Z : Nat → Prop} {S : XS} {l : Nat} {rs : List Nat} (h : ListAt g Z S l rs) : ∃ cap, ListC g Z S l rs cap := by
  obtain ⟨h0, mc, ba, h1, h2⟩ := h
  rcases h2 with ⟨h2, h3⟩ | ⟨h2, h3, n, h4, h5, h6⟩
  · exact ⟨0, h0, mc, ba, h1, Or.inl ⟨h2, rfl, h3⟩⟩
  · exact ⟨n, h0, mc, ba, h1, Or.inr ⟨h2, h3, h4, h5, h6⟩⟩
theorem ListC.fr {g : XC} {Z : Nat → Prop} {S S1 : XS} {l cap : Nat} {rs : List Nat} (h : ListC g Z S l rs cap) (hf : yFg Z S S1) : ListC g Z S1 l rs cap := by
  obtain ⟨h0, mc, ba, h1, h2⟩ := h
  refine ⟨h0, mc, ba, h1.fr hf, ?_⟩
  rcases h2 with h2 | ⟨h2, h3, h4, h5, h6⟩
  · exact Or.inl h2
  · exact Or.inr ⟨h2, h3, h4, h5, h6.fr hf⟩
theorem get_app (rs : List Nat) (v : Nat) : va_up (fun i => rs[i]?) rs.length (some v) = fun i => (rs ++ [v])[i]? := by
  funext i
  unfold va_up
  by_cases e : i = rs.length
  · rw [if_pos e, e]; simp
  · rw [if_neg e]
    by_cases e2 : i < rs.length
    · exact (List.getElem?_append_left e2).symm
    · exact (List.getElem?_eq_none (by omega)).trans (List.getElem?_eq_none (by simp; omega)).symm
/-- a longer list's new room -/
def capUp (cap : Nat) : Nat := cap + (if cap / 2 < 1 then 1 else cap / 2)
theorem nI_half {n : Nat} (h : n < 2 ^ 30) : nI n >>> ((1 : Int32) &&& 31) = nI (n / 2) := by
  apply Int32.toInt_inj.mp
  rw [pk_shr (nI n) ((1 : Int32) &&& 31) 1 (by decide), nI_toInt (by omega), nI_toInt (by omega)]
  rw [Int.shiftRight_eq_div_pow]
  omega
theorem y_newLen (g : XC) (N : Nat) {n : Nat} (h : n < 2 ^ 22) : kX_J15_newLength g N (nI n) (nI (n + 1) - nI n) (nI n >>> ((1 : Int32) &&& 31)) = some (nI (capUp n)) := by
  have e1 : nI (n + 1) - nI n = nI 1 := by rw [iI_nI, iI_nI, iI_nI, iI_sub]; congr 1; omega
  rw [e1, nI_half (by omega)]
  unfold kX_J15_newLength
  refine onb (v := nI (if n / 2 < 1 then 1 else n / 2)) ?_ (onb (nI_add _ _) ?_)
  · by_cases p : n / 2 < 1
    · rw [if_pos p, if_neg (nI_nlt (by omega) (by omega))]
    · rw [if_neg p]
      by_cases p2 : n / 2 = 1
      · rw [p2, if_neg (nI_nlt (Nat.le_refl _) (by omega))]
      · rw [if_pos (nI_lt (by omega) (by omega))]
  · have e : n + (if n / 2 < 1 then 1 else n / 2) = capUp n := rfl
    rw [e]
    have hb : 0 < capUp n ∧ capUp n < 2 ^ 23 := by unfold capUp; split <;> omega
    rw [if_neg (nI_nle hb.1 (by omega)), if_neg]
    intro z
    have := (nI_ltI (a := 2147483639) (b := capUp n) (by omega) (by omega)).mp z
    omega
def EA (n : Nat) (f : Nat → Option Nat) : GE := .inl (3, n, .inr (.inr (.inr (.inr f))))
def EL (mc : Int32) (ba k : Nat) : GE := .inr (10, [.int mc, .ref ba, .int (nI k)])
section LA
variable {g : XC} {N : Nat} {S : XS} {l cap v : Nat} {rs : List Nat} {Y : Nat → Prop}
theorem l_last {S3 : XS} {b3 n : Nat} {mc : Int32} (hn : n < 2 ^ 22) (hln : rs.length < n) (hne : b3 ≠ l) (p1 : genAt S3 l (EL mc b3 rs.length)) (p2 : genAt S3 b3 (EA n (fun i => rs[i]?))) (p3 : v_any g S3 v = some ()) : kX_J2_add_2_11 g N S3 l v b3 (nI rs.length) = some (xSetG (xSetG S3 b3 (EA n (fun i => (rs ++ [v])[i]?))) l (EL mc b3 (rs.length + 1))) := by
  unfold kX_J2_add_2_11
  refine ob1 p3 (ob1 (g_aputR p2 hln (by omega)) ?_)
  rw [get_app]
  have p4 : genAt (xSetG S3 b3 (EA n (fun i => (rs ++ [v])[i]?))) l (EL mc b3 rs.length) := ⟨p1.1, (if_neg (fun z => hne z.symm)).trans p1.2⟩
  refine ob1 (g_putI p4 (by show 2 < 3; omega)) ?_
  rw [nI_1]
  rfl
/-- an empty list grows -/
theorem l_grow0 {mc : Int32} {ba : Nat} (hl : l < xTop S) (a2 : genAt S l (EL mc ba 0)) (h3 : ba = gSp g 0 ∨ ba = gSp g 1) (hr1 : xTop S + 1 ≤ xCc S) (hr2 : xSl S + 10 ≤ xCs S) : ∃ n, (n = 1 ∨ n = 10) ∧ kX_J2_grow g N S l = some (xSetG (newS S n (EA n (fun _ => none))) l (EL mc (xTop S) 0), xTop S) := by
  have hba : o_len g S ba = some 0 := by unfold o_len; exact if_pos h3
  have hcls : f_cls S 10 l = some () := g_cls a2
  by_cases hb0 : ba = gSp g 0
  · refine ⟨10, Or.inr rfl, ?_⟩
    unfold kX_J2_grow kX_J2_grow_2
    refine ob1 (g_int a2 rfl) (ob1 hcls (ob1 (v := (_, xTop S)) ?_ rfl))
    refine ob1 (g_obj a2 rfl) (ob1 hba (oif (by decide) (ob1 (g_obj a2 rfl) (oit hb0 (onb (v := nI 10) (by decide) (ob1 (x_newR (by omega) hr1 hr2) ?_))))))
    have p4 : genAt (newS S 10 (EA 10 (fun _ => none))) l (EL mc ba 0) := ⟨(newS_own S 10 _ (Nat.ne_of_lt hl)).trans a2.1, (if_neg (Nat.ne_of_lt hl)).trans a2.2⟩
    exact ob1 (g_putR (v := some (xTop S)) p4 (by show 1 < 3; omega)) rfl
  · refine ⟨1, Or.inl rfl, ?_⟩
    unfold kX_J2_grow kX_J2_grow_2
    refine ob1 (g_int a2 rfl) (ob1 hcls (ob1 (v := (_, xTop S)) ?_ rfl))
    refine ob1 (g_obj a2 rfl) (ob1 hba (oif (by decide) (ob1 (g_obj a2 rfl) (oif hb0 ?_))))
    unfold kX_J2_grow_2_20
    have hnl : kX_J15_newLength g N 0 (nI 0 + 1 - 0) ((0 : Int32) >>> ((1 : Int32) &&& 31)) = some (nI 1) := by
      have := y_newLen g N (n := 0) (by decide)
      rw [show nI 0 + 1 - 0 = nI (0 + 1) - nI 0 from by decide, show (0 : Int32) = nI 0 from by decide]
      exact this
    refine ob1 hnl (ob1 (g_obj a2 rfl) ?_)
    have p4 : genAt (newS S 1 (EA 1 (fun _ => none))) l (EL mc ba 0) := ⟨(newS_own S 1 _ (Nat.ne_of_lt hl)).trans a2.1, (if_neg (Nat.ne_of_lt hl)).trans a2.2⟩
    have p5 : genAt (newS S 1 (EA 1 (fun _ => none))) (xTop S) (EA 1 (fun _ => none)) := newS_at S 1 _
    have hcp : a_cpyR g (newS S 1 (EA 1 (fun _ => none))) ba 0 (xTop S) 0 0 = some (newS S 1 (EA 1 (fun _ => none))) := by
      unfold a_cpyR r_src
      rw [if_pos h3]
      refine ob1 rfl ?_
      rw [g_cell p5]
      refine (if_pos ⟨by rw [p5.1], by decide, by decide, by decide, by decide, by decide, by rfl⟩).trans ?_
      congr 1
      refine Prod.ext rfl (Prod.ext rfl (Prod.ext rfl (Prod.ext rfl (Prod.ext rfl (Prod.ext rfl ?_)))))
      funext b
      show (if b = xTop S then _ else if b = xTop S then _ else xG S b) = if b = xTop S then _ else xG S b
      by_cases e : b = xTop S
      · rw [if_pos e, if_pos e]
        have e3 : va_cpy (fun _ => none) (fun _ => none) (0 : Int32).toNatClampNeg (0 : Int32).toNatClampNeg (0 : Int32).toNatClampNeg = (fun _ => (none : Option Nat)) := by
          funext k
          unfold va_cpy
          split <;> rfl
        rw [e3]
        rfl
      · rw [if_neg e, if_neg e]
    have hcopy : kX_J16_copyOf g N S ba (nI 1) = some (newS S 1 (EA 1 (fun _ => none)), xTop S) := by
      unfold kX_J16_copyOf kX_J16_copyOf_2
      refine ob1 (v := ()) (by unfold o_arr; exact if_pos h3) (ob1 (v := (newS S 1 (EA 1 (fun _ => none)), xTop S)) ?_ rfl)
      refine oit rfl (ob1 (x_newR (n := 1) (by omega) hr1 (by omega)) ?_)
      refine ob1 (v := 0) (by unfold o_len; exact if_pos h3) (onb (v := 0) (by decide) (ob1 hcp rfl))
    exact ob1 hcopy (ob1 (g_putR (v := some (xTop S)) p4 (by show 1 < 3; omega)) rfl)
/-- an array copied into a new, no shorter one -/
theorem l_copyOf {ba n : Nat} (h2 : ¬ (ba = gSp g 0 ∨ ba = gSp g 1)) (p : genAt S ba (EA cap (fun i => rs[i]?))) (hbn : ba < xTop S) (hlen : rs.length ≤ n) (hc : cap < 2 ^ 22) (hn : n < 2 ^ 22) (hrc : rs.length ≤ cap) (hm : n ≤ cap ∨ cap ≤ n) (hm2 : n ≤ cap → n = rs.length) (hrs : ∀ r ∈ rs, v_any g (newS S n (EA n (fun _ => none))) r = some ()) (hr1 : xTop S + 1 ≤ xCc S) (hr2 : xSl S + n ≤ xCs S) : kX_J16_copyOf g N S ba (nI n) = some (xSetG (newS S n (EA n (fun _ => none))) (xTop S) (EA n (fun i => rs[i]?)), xTop S) := by
  have p5 : genAt (newS S n (EA n (fun _ => none))) (xTop S) (EA n (fun _ => none)) := newS_at S n _
  have p6 : genAt (newS S n (EA n (fun _ => none))) ba (EA cap (fun i => rs[i]?)) := ⟨(newS_own S n _ (Nat.ne_of_lt hbn)).trans p.1, (if_neg (Nat.ne_of_lt hbn)).trans p.2⟩
  have hmin : ∃ m, m ≤ n ∧ m ≤ cap ∧ rs.length ≤ m ∧ (if nI n < nI cap then nI n else nI cap) = nI m := by
    by_cases z : n < cap
    · exact ⟨n, Nat.le_refl _, by omega, hlen, if_pos (nI_lt z (by omega))⟩
    · exact ⟨cap, by omega, Nat.le_refl _, hrc, if_neg (nI_nlt (by omega) (by omega))⟩
  obtain ⟨m, m1, m2, m3, m4⟩ := hmin
  have hcp : a_cpyR g (newS S n (EA n (fun _ => none))) ba 0 (xTop S) 0 (nI m) = some (xSetG (newS S n (EA n (fun _ => none))) (xTop S) (EA n (fun i => rs[i]?))) := by
    unfold a_cpyR r_src
    rw [if_neg h2, g_cell p6]
    refine ob1 rfl ?_
    rw [g_cell p5]
    have hc31 : (nI m).toNatClampNeg = m := nI_clamp (by omega)
    have h00 : (0 : Int32).toNatClampNeg = 0 := by decide
    refine (if_pos ?_).trans ?_
    rotate_left
    · rw [hc31, h00]
      have e3 : va_cpy (fun i => rs[i]?) (fun _ => none) 0 0 m = (fun i => rs[i]?) := by
        funext k
        unfold va_cpy
        by_cases q : 0 ≤ k ∧ k < 0 + m
        · rw [if_pos q]; simp
        · rw [if_neg q, List.getElem?_eq_none (by omega)]
      rw [e3]
      rfl
    · rw [hc31, h00]
      refine ⟨by rw [p5.1], by decide, by decide, nI_pos (by omega), by omega, by omega, ?_⟩
      unfold v_anys
      rw [List.all_eq_true]
      intro i hi
      dsimp only
      cases hri : rs[i]? with
      | none => rfl
      | some y =>
        have h8 := hrs y (List.mem_of_getElem? hri)
        dsimp only
        rw [h8]
        rfl
  unfold kX_J16_copyOf kX_J16_copyOf_2
  refine ob1 (v := ()) (by unfold o_arr; rw [if_neg h2, g_cell p]; rfl) (ob1 (v := (_, xTop S)) ?_ rfl)
  refine oit rfl (ob1 (x_newR (n := n) (by omega) hr1 hr2) ?_)
  exact ob1 (v := nI cap) (by unfold o_len; rw [if_neg h2]; exact g_alen p6 (by decide)) (onb m4 (ob1 hcp rfl))
/-- a full list grows -/
theorem l_grow1 {mc : Int32} {ba : Nat} (hl : l < xTop S) (hbn : ba < xTop S) (a2 : genAt S l (EL mc ba rs.length)) (h2 : ¬ (ba = gSp g 0 ∨ ba = gSp g 1)) (h6 : genAt S ba (EA cap (fun i => rs[i]?))) (hfull : rs.length = cap) (hcap : cap < 2 ^ 21) (hrs : ∀ r ∈ rs, v_any g (newS S (capUp cap) (EA (capUp cap) (fun _ => none))) r = some ()) (hr1 : xTop S + 1 ≤ xCc S) (hr2 : xSl S + (cap + cap / 2 + 10) ≤ xCs S) : kX_J2_grow g N S l = some (xSetG (xSetG (newS S (capUp cap) (EA (capUp cap) (fun _ => none))) (xTop S) (EA (capUp cap) (fun i => rs[i]?))) l (EL mc (xTop S) rs.length), xTop S) := by
  have hnb : cap < capUp cap ∧ capUp cap ≤ cap + cap / 2 + 1 ∧ capUp cap < 2 ^ 22 := by unfold capUp; split <;> omega
  have hol : o_len g S ba = some (nI cap) := by
    unfold o_len
    rw [if_neg h2]
    exact g_alen h6 (by decide)
  have hcopy := l_copyOf (N := N) (n := capUp cap) h2 h6 hbn (by omega) (by omega) hnb.2.2 (by omega) (by omega) (by omega) hrs hr1 (by omega)
  have p7 : genAt (xSetG (newS S (capUp cap) (EA (capUp cap) (fun _ => none))) (xTop S) (EA (capUp cap) (fun i => rs[i]?))) l (EL mc ba rs.length) := ⟨(newS_own S (capUp cap) (EA (capUp cap) (fun _ => none)) (Nat.ne_of_lt hl)).trans a2.1, (if_neg (Nat.ne_of_lt hl)).trans ((if_neg (Nat.ne_of_lt hl)).trans a2.2)⟩
  have e20 : kX_J2_grow_2_20 g N S l (nI rs.length + 1) (nI cap) = some (xSetG (xSetG (newS S (capUp cap) (EA (capUp cap) (fun _ => none))) (xTop S) (EA (capUp cap) (fun i => rs[i]?))) l (EL mc (xTop S) rs.length), xTop S) := by
    unfold kX_J2_grow_2_20
    refine ob1 (v := nI (capUp cap)) ?_ (ob1 (g_obj a2 rfl) (ob1 hcopy ?_))
    · rw [nI_1, hfull]
      exact y_newLen g N (by omega)
    · exact ob1 (g_putR (v := some (xTop S)) p7 (by show 1 < 3; omega)) rfl
  unfold kX_J2_grow kX_J2_grow_2
  refine ob1 (g_int a2 rfl) (ob1 (g_cls a2) (ob1 (v := (_, xTop S)) ?_ rfl))
  refine ob1 (g_obj a2 rfl) (ob1 hol ?_)
  by_cases hz : cap = 0
  · exact oif (by rw [hz]; decide) (ob1 (g_obj a2 rfl) (oif (fun z => h2 (Or.inl z)) e20))
  · exact oit (nI_lt (a := 0) (by omega) (by omega)) e20
/-- what l_add says -/
def LAdd (g : XC) (N : Nat) (Y : Nat → Prop) (S : XS) (l v : Nat) (rs : List Nat) (cap : Nat) : Prop :=
  ∃ S1 Y1 cap1, kX_J2_add g N S l v = some (S1, 1) ∧ XE Y S S1 ∧ ListC g Y1 S1 l (rs ++ [v]) cap1 ∧ (∀ q, Y1 q → Y q ∨ (xTop S ≤ q ∧ q < xTop S1)) ∧ ((cap1 = cap ∧ rs.length < cap ∧ xTop S1 = xTop S ∧ xSl S1 = xSl S) ∨ (rs.length = cap ∧ xTop S1 = xTop S + 1 ∧ xSl S1 = xSl S + cap1 ∧ (cap1 = capUp cap ∨ (cap = 0 ∧ cap1 = 10))))
theorem l_pre {mc : Int32} {ba : Nat} (h1 : genAt S l (EL mc ba rs.length)) {R : Option XS} (hR : kX_J2_add_2 g N (xSetG S l (EL (mc + 1) ba rs.length)) l v ba (nI rs.length) = R) : kX_J2_add g N S l v = R.bind fun w => some (w, (1 : Int32)) := by
  have a2 : genAt (xSetG S l (EL (mc + 1) ba rs.length)) l (EL (mc + 1) ba rs.length) := setG_at h1
  unfold kX_J2_add
  refine ob1 (g_int h1 rfl) (ob1 (g_putI h1 (by show 0 < 3; omega)) ?_)
  refine ob1 (g_obj a2 rfl) (ob1 (g_int a2 rfl) (ob1 (g_cls a2) ?_))
  rw [← hR]
  rfl
/-- after the list has grown -/
theorem l_end {mc : Int32} {ba n : Nat} {S3 : XS} (h1 : gz Y S l (EL mc ba rs.length)) (hol : o_len g (xSetG S l (EL (mc + 1) ba rs.length)) ba = some (nI rs.length)) (hgr : kX_J2_grow g N (xSetG S l (EL (mc + 1) ba rs.length)) l = some (S3, xTop S)) (hl : l < xTop S) (w3 : XE (fun q => Y q ∨ xTop S ≤ q) S S3) (ht : xTop S3 = xTop S + 1) (hs : xSl S3 = xSl S + n) (hn : n < 2 ^ 22) (hln : rs.length < n) (hlen : rs.length + 1 < 2 ^ 20) (q1 : genAt S3 l (EL (mc + 1) (xTop S) rs.length)) (q2 : genAt S3 (xTop S) (EA n (fun i => rs[i]?))) (q3 : v_any g S3 v = some ()) (hsp : gSp g 0 < xTop S ∧ gSp g 1 < xTop S) (hfull : rs.length = cap) (hcn : n = capUp cap ∨ (cap = 0 ∧ n = 10)) : LAdd g N Y S l v rs cap := by
  have a2 : genAt (xSetG S l (EL (mc + 1) ba rs.length)) l (EL (mc + 1) ba rs.length) := setG_at h1.2
  have hne : xTop S ≠ l := fun z => by omega
  have hsp2 : ¬ (xTop S = gSp g 0 ∨ xTop S = gSp g 1) := by omega
  have hl1 : (rs ++ [v]).length ≤ n := by
    rw [List.length_append]
    exact hln
  have hlst := l_last (N := N) hn hln hne q1 q2 q3
  have w4 : XE (fun q => Y q ∨ xTop S ≤ q) S (xSetG S3 (xTop S) (EA n (fun i => (rs ++ [v])[i]?))) := w3.trans (setG_XE w3.1 q2 (P := fun q => Y q ∨ xTop S ≤ q) (Or.inr (Nat.le_refl _))) (fun _ _ z => z)
  have q4 : genAt (xSetG S3 (xTop S) (EA n (fun i => (rs ++ [v])[i]?))) l (EL (mc + 1) (xTop S) rs.length) := ⟨q1.1, (if_neg (fun z => hne z.symm)).trans q1.2⟩
  have w5 := w4.trans (setG_XE w4.1 q4 (e := EL (mc + 1) (xTop S) (rs.length + 1)) (P := fun q => Y q ∨ xTop S ≤ q) (Or.inl h1.1)) (fun _ _ z => z)
  refine ⟨_, fun q => q = l ∨ q = xTop S, n, (l_pre h1.2 (R := some (xSetG (xSetG S3 (xTop S) (EA n (fun i => (rs ++ [v])[i]?))) l (EL (mc + 1) (xTop S) (rs.length + 1)))) ?_).trans rfl, w5.mono (P1 := Y) (fun q hq z => z.resolve_right (Nat.not_le_of_lt hq)), ⟨by simp; omega, mc + 1, xTop S, ⟨Or.inl rfl, ?_⟩, Or.inr ⟨hsp2, hne, hl1, hn, Or.inr rfl, q2.1, (if_neg hne).trans (if_pos rfl)⟩⟩, fun q hq => ?_, Or.inr ⟨hfull, ht, hs, hcn⟩⟩
  · unfold kX_J2_add_2
    exact ob1 hol (oit rfl (ob1 (g_cls a2) (ob1 hgr hlst)))
  · have : (rs ++ [v]).length = rs.length + 1 := by simp
    rw [this]
    exact setG_at q4
  · rcases hq with rfl | rfl
    · exact Or.inl h1.1
    · refine Or.inr ⟨Nat.le_refl _, ?_⟩
      show xTop S < xTop S3
      omega
/-- a list takes one more -/
theorem l_add (h : ListC g Y S l rs cap) (hW : WFr S) (hsp : gSp g 0 < xTop S ∧ gSp g 1 < xTop S) (hv : v_any g S v = some ()) (hvl : v ≠ l) (hrs : ∀ r ∈ rs, v_any g S r = some () ∧ r ≠ l) (hlen : rs.length + 1 < 2 ^ 20) (hr1 : xTop S + 1 ≤ xCc S) (hr2 : xSl S + (rs.length + rs.length / 2 + 10) ≤ xCs S) : LAdd g N Y S l v rs cap := by
  obtain ⟨h0, mc, ba, h1, h2⟩ := h
  have hl : l < xTop S := hW.2 l _ (g_cell h1.2)
  have w2 : XE Y S (xSetG S l (EL (mc + 1) ba rs.length)) := setG_XE hW h1.2 h1.1
  have a2 : genAt (xSetG S l (EL (mc + 1) ba rs.length)) l (EL (mc + 1) ba rs.length) := setG_at h1.2
  have hv2 : v_any g (xSetG S l (EL (mc + 1) ba rs.length)) v = some () := any_setG hv hvl
  have wx : ∀ n f, XE (fun q => Y q ∨ xTop S ≤ q) S (newS (xSetG S l (EL (mc + 1) ba rs.length)) n (EA n f)) := fun n f => (w2.trans (newS_XE w2.1 n (EA n f) Y) (fun _ _ z => z)).mono (fun q _ z => Or.inl z)
  rcases h2 with ⟨h2, hc0, h3⟩ | ⟨h2, h3, h4, h5, h6⟩
  · subst h2
    subst hc0
    obtain ⟨n, hn, hgr⟩ := l_grow0 (N := N) (S := xSetG S l (EL (mc + 1) ba 0)) hl a2 h3 hr1 (by show xSl S + 10 ≤ xCs S; simp at hr2; omega)
    have p4 : genAt (newS (xSetG S l (EL (mc + 1) ba 0)) n (EA n (fun _ => none))) l (EL (mc + 1) ba 0) := ⟨(newS_own _ n (EA n (fun _ => none)) (Nat.ne_of_lt hl)).trans a2.1, (if_neg (Nat.ne_of_lt hl)).trans a2.2⟩
    have p5 : genAt (newS (xSetG S l (EL (mc + 1) ba 0)) n (EA n (fun _ => none))) (xTop S) (EA n (fun _ => none)) := newS_at _ n _
    have hnl : xTop S ≠ l := fun z => by omega
    refine l_end h1 (by unfold o_len; exact if_pos h3) hgr hl ((wx n (fun _ => none)).trans (setG_XE (wx n (fun _ => none)).1 p4 (P := fun q => Y q ∨ xTop S ≤ q) (Or.inl h1.1)) (fun _ _ z => z)) rfl rfl (by omega) (by show 0 < n; omega) hlen (setG_at p4) ?_ (any_setG (any_new w2.1 hv2) hvl) hsp rfl ?_
    · have e : (fun i : Nat => ([] : List Nat)[i]?) = (fun _ => (none : Option Nat)) := funext fun i => List.getElem?_nil
      rw [e]
      exact ⟨p5.1, (if_neg hnl).trans p5.2⟩
    · rcases hn with rfl | rfl
      · exact Or.inl rfl
      · exact Or.inr ⟨rfl, rfl⟩
  · have hba2 : genAt (xSetG S l (EL (mc + 1) ba rs.length)) ba (EA cap (fun i => rs[i]?)) := ⟨h6.2.1, (if_neg h3).trans h6.2.2⟩
    have hol : o_len g (xSetG S l (EL (mc + 1) ba rs.length)) ba = some (nI cap) := by
      unfold o_len
      rw [if_neg h2]
      exact g_alen hba2 (by decide)
    have hbn : ba < xTop S := hW.2 ba _ (g_cell h6.2)
    by_cases hfull : rs.length = cap
    · have hcap : cap < 2 ^ 21 := by omega
      have hr2 : xSl S + (cap + cap / 2 + 10) ≤ xCs S := by rw [← hfull]; exact hr2
      have hnb : cap < capUp cap ∧ capUp cap ≤ cap + cap / 2 + 1 ∧ capUp cap < 2 ^ 22 := by unfold capUp; split <;> omega
      have hgr := l_grow1 (N := N) (S := xSetG S l (EL (mc + 1) ba rs.length)) hl hbn a2 h2 hba2 hfull hcap (fun r hr => any_new w2.1 (any_setG (hrs r hr).1 (hrs r hr).2)) hr1 hr2
      have p5 : genAt (newS (xSetG S l (EL (mc + 1) ba rs.length)) (capUp cap) (EA (capUp cap) (fun _ => none))) (xTop S) (EA (capUp cap) (fun _ => none)) := newS_at _ (capUp cap) _
      have wB := (wx (capUp cap) (fun _ => none)).trans (setG_XE (wx (capUp cap) (fun _ => none)).1 p5 (e := EA (capUp cap) (fun i => rs[i]?)) (P := fun q => Y q ∨ xTop S ≤ q) (Or.inr (Nat.le_refl _))) (fun _ _ z => z)
      have p7 : genAt (xSetG (newS (xSetG S l (EL (mc + 1) ba rs.length)) (capUp cap) (EA (capUp cap) (fun _ => none))) (xTop S) (EA (capUp cap) (fun i => rs[i]?))) l (EL (mc + 1) ba rs.length) := ⟨(newS_own _ (capUp cap) (EA (capUp cap) (fun _ => none)) (Nat.ne_of_lt hl)).trans a2.1, (if_neg (Nat.ne_of_lt hl)).trans ((if_neg (Nat.ne_of_lt hl)).trans a2.2)⟩
      have hnl : xTop S ≠ l := fun z => by omega
      exact l_end h1 (by rw [hol, hfull]) hgr hl (wB.trans (setG_XE wB.1 p7 (P := fun q => Y q ∨ xTop S ≤ q) (Or.inl h1.1)) (fun _ _ z => z)) rfl rfl hnb.2.2 (by omega) hlen (setG_at p7) ⟨p5.1, (if_neg hnl).trans (if_pos rfl)⟩ (any_setG (any_top w2.1 hv2) hvl) hsp hfull (Or.inl rfl)
    · have hlt : rs.length < cap := by omega
      have hlst := l_last (N := N) h5 hlt h3 a2 hba2 hv2
      have w4 : XE Y S (xSetG (xSetG S l (EL (mc + 1) ba rs.length)) ba (EA cap (fun i => (rs ++ [v])[i]?))) := w2.trans (setG_XE w2.1 hba2 (P := Y) h6.1) (fun _ _ z => z)
      have q4 : genAt (xSetG (xSetG S l (EL (mc + 1) ba rs.length)) ba (EA cap (fun i => (rs ++ [v])[i]?))) l (EL (mc + 1) ba rs.length) := ⟨a2.1, (if_neg (fun z => h3 z.symm)).trans a2.2⟩
      refine ⟨_, Y, cap, (l_pre h1.2 (R := some _) ?_).trans rfl, w4.trans (setG_XE w4.1 q4 (e := EL (mc + 1) ba (rs.length + 1)) (P := Y) h1.1) (fun _ _ z => z), ⟨by simp; omega, mc + 1, ba, ⟨h1.1, ?_⟩, Or.inr ⟨h2, h3, by simp; omega, h5, h6.1, hba2.1, (if_neg h3).trans (if_pos rfl)⟩⟩, fun q hq => Or.inl hq, Or.inl ⟨rfl, hlt, rfl, rfl⟩⟩
      · unfold kX_J2_add_2
        exact ob1 hol (oif (fun z => by have := (nI_eq (by omega) (by omega)).mp z; omega) hlst)
      · have : (rs ++ [v]).length = rs.length + 1 := by simp
        rw [this]
        exact setG_at q4
end LA
