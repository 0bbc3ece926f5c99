/-! plain law: lists, forms, caves in the component's heap -/
def genAt (S : XS) (q : Nat) (e : GE) : Prop := xOwn S q = (0, 0, 0) ∧ xG S q = some e
def gz (Z : Nat → Prop) (S : XS) (q : Nat) (e : GE) : Prop := Z q ∧ genAt S q e
/-- nothing at these addresses has changed -/
def yFr (Z : Nat → Prop) (S S1 : XS) : Prop := ∀ q, Z q → xOwn S1 q = xOwn S q ∧ xI S1 q = xI S q ∧ xR S1 q = xR S q ∧ xA S1 q = xA S q ∧ xRa S1 q = xRa S q ∧ xG S1 q = xG S q
/-- nothing of the general map at these addresses has changed -/
def yFg (Z : Nat → Prop) (S S1 : XS) : Prop := ∀ q, Z q → xOwn S1 q = xOwn S q ∧ xG S1 q = xG S q
theorem yFr.g {Z : Nat → Prop} {S S1 : XS} (h : yFr Z S S1) : yFg Z S S1 := fun q hq => ⟨(h q hq).1, (h q hq).2.2.2.2.2⟩
theorem yFr.refl (Z : Nat → Prop) (S : XS) : yFr Z S S := fun _ _ => ⟨rfl, rfl, rfl, rfl, rfl, rfl⟩
theorem yFr.trans {Z : Nat → Prop} {S S1 S2 : XS} (h : yFr Z S S1) (h2 : yFr Z S1 S2) : yFr Z S S2 := fun q hq => by
  obtain ⟨a1, a2, a3, a4, a5, a6⟩ := h q hq
  obtain ⟨b1, b2, b3, b4, b5, b6⟩ := h2 q hq
  exact ⟨b1.trans a1, b2.trans a2, b3.trans a3, b4.trans a4, b5.trans a5, b6.trans a6⟩
theorem yFr.mono {Z Y : Nat → Prop} {S S1 : XS} (h : yFr Z S S1) (hz : ∀ q, Y q → Z q) : yFr Y S S1 := fun q hq => h q (hz q hq)
theorem genAt.fr {Z : Nat → Prop} {S S1 : XS} {q : Nat} {e : GE} (h : genAt S q e) (hf : yFg Z S S1) (hq : Z q) : genAt S1 q e := ⟨(hf q hq).1.trans h.1, (hf q hq).2.trans h.2⟩
theorem gz.fr {Z : Nat → Prop} {S S1 : XS} {q : Nat} {e : GE} (h : gz Z S q e) (hf : yFg Z S S1) : gz Z S1 q e := ⟨h.1, h.2.fr hf h.1⟩
theorem gz.mono {Z Y : Nat → Prop} {S : XS} {q : Nat} {e : GE} (h : gz Z S q e) (hz : ∀ q, Z q → Y q) : gz Y S q e := ⟨hz q h.1, h.2⟩
section GA
variable {S : XS} {q c k : Nat} {fs : List Value}
theorem g_cell {e : GE} (h : genAt S q e) : x_cell S q = some e := by
  unfold x_cell
  rw [h.1, if_pos rfl, h.2]
theorem g_val (h : genAt S q (.inr (c, fs))) : f_val S c q k = fs[k]? := by
  unfold f_val
  rw [g_cell h]
  simp
theorem g_cls (h : genAt S q (.inr (c, fs))) : f_cls S c q = some () := by
  unfold f_cls
  rw [g_cell h]
  simp
theorem g_int {v : Int32} (h : genAt S q (.inr (c, fs))) (hk : fs[k]? = some (.int v)) : f_int S c q k = some v := by
  unfold f_int
  rw [g_val h, hk]
  rfl
theorem g_ref {r : Option Nat} (h : genAt S q (.inr (c, fs))) (hk : fs[k]? = some (va_rf r)) : f_ref S c q k = some r := by
  unfold f_ref
  rw [g_val h, hk]
  cases r <;> rfl
theorem g_obj {r : Nat} (h : genAt S q (.inr (c, fs))) (hk : fs[k]? = some (.ref r)) : f_obj S c q k = some r := by
  unfold f_obj
  rw [g_ref (r := some r) h hk]
  rfl
theorem g_aref {n : Nat} {f : Nat → Option Nat} {i : Nat} (h : genAt S q (.inl (k, n, .inr (.inr (.inr (.inr f)))))) (hi : i < n) (hn : n < 2 ^ 31) : a_ref S k q (nI i) = some (f i) := by
  unfold a_ref
  rw [g_cell h]
  show (if k = k ∧ ¬ (nI i < 0 ∨ n ≤ (nI i).toNatClampNeg) then some (f (nI i).toNatClampNeg) else none) = _
  rw [if_pos ⟨rfl, nI_in hi hn⟩, nI_clamp (by omega)]
theorem g_aobj {n : Nat} {f : Nat → Option Nat} {i r : Nat} (h : genAt S q (.inl (k, n, .inr (.inr (.inr (.inr f)))))) (hi : i < n) (hn : n < 2 ^ 31) (hr : f i = some r) : a_obj S k q (nI i) = some r := by
  unfold a_obj
  rw [g_aref h hi hn, hr]
  rfl
theorem g_aint {n : Nat} {f : Nat → Int32} {i : Nat} (h : genAt S q (.inl (k, n, .inl f))) (hi : i < n) (hn : n < 2 ^ 31) : a_int S k q (nI i) = some (f i) := by
  unfold a_int
  rw [g_cell h]
  show (if k = k ∧ ¬ (nI i < 0 ∨ n ≤ (nI i).toNatClampNeg) then some (f (nI i).toNatClampNeg) else none) = _
  rw [if_pos ⟨rfl, nI_in hi hn⟩, nI_clamp (by omega)]
theorem g_alen {n : Nat} {x : (Nat → Int32) ⊕ (Nat → Int64) ⊕ (Nat → UInt32) ⊕ (Nat → UInt64) ⊕ (Nat → Option Nat)} (h : genAt S q (.inl (k, n, x))) (hk : k < 7) : a_len S q = some (nI n) := by
  unfold a_len
  rw [g_cell h]
  exact if_pos hk
end GA
/-- an ArrayList -/
def ListAt (g : XC) (Z : Nat → Prop) (S : XS) (l : Nat) (rs : List Nat) : Prop := rs.length < 2 ^ 20 ∧ ∃ mc ba, gz Z S l (.inr (10, [.int mc, .ref ba, .int (nI rs.length)])) ∧
  ((rs = [] ∧ (ba = gSp g 0 ∨ ba = gSp g 1)) ∨ (¬ (ba = gSp g 0 ∨ ba = gSp g 1) ∧ ba ≠ l ∧ ∃ n, rs.length ≤ n ∧ n < 2 ^ 22 ∧ gz Z S ba (.inl (3, n, .inr (.inr (.inr (.inr (fun i => rs[i]?))))))))
theorem ListAt.fr {g : XC} {Z : Nat → Prop} {S S1 : XS} {l : Nat} {rs : List Nat} (h : ListAt g Z S l rs) (hf : yFg Z S S1) : ListAt g Z S1 l rs := by
  obtain ⟨h0, mc, ba, h1, h2⟩ := h
  refine ⟨h0, mc, ba, h1.fr hf, ?_⟩
  rcases h2 with h2 | ⟨h2, h3, n, h4, h5, h6⟩
  · exact Or.inl h2
  · exact Or.inr ⟨h2, h3, n, h4, h5, h6.fr hf⟩
theorem ListAt.mono {g : XC} {Z Y : Nat → Prop} {S : XS} {l : Nat} {rs : List Nat} (h : ListAt g Z S l rs) (hz : ∀ q, Z q → Y q) : ListAt g Y S l rs := by
  obtain ⟨h0, mc, ba, h1, h2⟩ := h
  refine ⟨h0, mc, ba, h1.mono hz, ?_⟩
  rcases h2 with h2 | ⟨h2, h3, n, h4, h5, h6⟩
  · exact Or.inl h2
  · exact Or.inr ⟨h2, h3, n, h4, h5, h6.mono hz⟩
theorem ListAt.cls {g : XC} {Z : Nat → Prop} {S : XS} {l : Nat} {rs : List Nat} (h : ListAt g Z S l rs) : f_cls S 10 l = some () := by
  obtain ⟨-, mc, ba, h1, -⟩ := h
  exact g_cls h1.2
theorem ListAt.size {g : XC} {Z : Nat → Prop} {S : XS} {l : Nat} {rs : List Nat} (h : ListAt g Z S l rs) (N : Nat) : kX_J2_size g N S l = some (S, nI rs.length) := by
  obtain ⟨-, mc, ba, h1, -⟩ := h
  unfold kX_J2_size
  exact ob1 (g_int h1.2 rfl) rfl
theorem ListAt.empty {g : XC} {Z : Nat → Prop} {S : XS} {l : Nat} {rs : List Nat} (h : ListAt g Z S l rs) (N : Nat) : kX_J2_isEmpty g N S l = some (S, if rs = [] then 1 else 0) := by
  obtain ⟨h0, mc, ba, h1, -⟩ := h
  unfold kX_J2_isEmpty
  refine ob1 (g_int h1.2 rfl) ?_
  by_cases e : rs = []
  · subst e
    exact (if_pos (by decide)).trans (by simp)
  · have e2 : ¬ nI rs.length = 0 := nI_ne0 (List.length_pos_iff.mpr e) (by omega)
    rw [if_neg e2, if_neg e]
theorem y_check {g : XC} {N : Nat} {S : XS} {i n : Nat} (hi : i < n) (hn : n < 2 ^ 31) : kX_J17_checkIndex g N S (nI i) (nI n) = some (S, nI i) := by
  unfold kX_J17_checkIndex kX_J11_checkIndex
  rw [if_neg (nI_pos (by omega)), if_pos (nI_lt hi hn)]
  rfl
theorem ListAt.get {g : XC} {Z : Nat → Prop} {S : XS} {l : Nat} {rs : List Nat} (h : ListAt g Z S l rs) (N : Nat) {i r : Nat} (hr : rs[i]? = some r) : kX_J2_get g N S l (nI i) = some (S, r) := by
  obtain ⟨h0, mc, ba, h1, h2⟩ := h
  have hi : i < rs.length := (List.getElem?_eq_some_iff.mp hr).1
  rcases h2 with ⟨h2, -⟩ | ⟨-, -, n, h4, h5, h6⟩
  · subst h2; simp at hi
  unfold kX_J2_get
  refine ob1 (g_int h1.2 rfl) ?_
  refine ob1 (y_check hi (by omega)) ?_
  refine ob1 (g_cls h1.2) ?_
  unfold kX_J2_elementData
  refine ob1 (ob1 (g_obj h1.2 rfl) (ob1 (g_aobj h6.2 (by omega) (by omega) hr) rfl)) ?_
  rfl
/-! forms -/
abbrev VF : Type := (Nat → Int32) → Int32
def yBy (c : Nat) (a b : Int32) : Int32 :=
  if c = 38 then (if a = 0 then 0 else if b = 0 then 0 else 1)
  else if c = 42 then a * b else if c = 43 then a + b else if c = 45 then a - b
  else if c = 47 then (if b = 0 then 0 else a / b)
  else if c = 60 then (if b ≤ a then 0 else 1)
  else if c = 61 then (if a = b then 1 else 0)
  else (if a = 0 then (if b = 0 then 0 else 1) else 1)
theorem y_by (g : XC) (N : Nat) {c : Nat} (hc : c ∈ [38, 42, 43, 45, 47, 60, 61, 124]) (a b : Int32) : kX_X7_by g N (nI c) a b = some (yBy c a b) := by
  simp only [List.mem_cons, List.not_mem_nil, or_false] at hc
  rcases hc with rfl | rfl | rfl | rfl | rfl | rfl | rfl | rfl <;> simp only [show nI 38 = 38 from rfl, show nI 42 = 42 from rfl, show nI 43 = 43 from rfl, show nI 45 = 45 from rfl, show nI 47 = 47 from rfl, show nI 60 = 60 from rfl, show nI 61 = 61 from rfl, show nI 124 = 124 from rfl, kX_X7_by, kX_X7_by_172, bnd] <;> unfold yBy
  · rw [if_pos (by decide), if_pos rfl]
    split <;> (try split) <;> rfl
  · iterate 4 rw [if_neg (by decide)]
    rw [if_pos (by decide)]
    rfl
  · iterate 5 rw [if_neg (by decide)]
    rw [if_pos (by decide)]
    rfl
  · iterate 7 rw [if_neg (by decide)]
    rw [if_pos (by decide)]
    rfl
  · iterate 9 rw [if_neg (by decide)]
    rw [if_pos (by decide)]
    by_cases e : b = 0
    · simp [e]
    · simp [e]
  · iterate 22 rw [if_neg (by decide)]
    rw [if_pos (by decide)]
    by_cases e : b ≤ a
    · simp [e]
    · simp [e]
  · iterate 23 rw [if_neg (by decide)]
    rw [if_pos (by decide)]
    by_cases e : a = b
    · simp [e]
    · simp [e]
  · iterate 24 rw [if_neg (by decide)]
    by_cases e : a = 0
    · by_cases e2 : b = 0
      · simp [e, e2]
      · simp [e, e2]
    · simp [e]
def yCh : List (Nat × VF) → Int32 → (Nat → Int32) → Int32
  | [], v, _ => v
  | x :: l, v, w => yCh l (yBy x.1 v (x.2 w)) w
/-- a StringBuilder of signs -/
def SbAt (Z : Nat → Prop) (S : XS) (sb : Nat) (cs : List Nat) : Prop := (∀ c ∈ cs, c ∈ [38, 42, 43, 45, 47, 60, 61, 124]) ∧ ∃ q x n f, gz Z S sb (.inr (11, [.ref q, .int 0, .int x, .int (nI cs.length)])) ∧ cs.length ≤ n ∧ n < 2 ^ 22 ∧ q ≠ sb ∧ gz Z S q (.inl (1, n, .inl f)) ∧ (∀ i, fits .byte (.int (f i)) = true) ∧ ∀ i c, cs[i]? = some c → f i = nI c
theorem SbAt.fr {Z : Nat → Prop} {S S1 : XS} {sb : Nat} {cs : List Nat} (h : SbAt Z S sb cs) (hf : yFg Z S S1) : SbAt Z S1 sb cs := by
  obtain ⟨h0, q, x, n, f, h1, h2, h3, h4, h5, h6, h7⟩ := h
  exact ⟨h0, q, x, n, f, h1.fr hf, h2, h3, h4, h5.fr hf, h6, h7⟩
theorem SbAt.mono {Z Y : Nat → Prop} {S : XS} {sb : Nat} {cs : List Nat} (h : SbAt Z S sb cs) (hz : ∀ q, Z q → Y q) : SbAt Y S sb cs := by
  obtain ⟨h0, q, x, n, f, h1, h2, h3, h4, h5, h6, h7⟩ := h
  exact ⟨h0, q, x, n, f, h1.mono hz, h2, h3, h4, h5.mono hz, h6, h7⟩
theorem y_sign : ∀ c ∈ [38, 42, 43, 45, 47, 60, 61, 124], (((nI c &&& 255) : Int32).toUInt32 % 65536).toInt32 = nI c := by decide +kernel
theorem SbAt.charAt {Z : Nat → Prop} {S : XS} {sb : Nat} {cs : List Nat} (g : XC) (N : Nat) (h : SbAt Z S sb cs) {i c : Nat} (hi : cs[i]? = some c) : kX_J14_charAt g N S sb (nI i) = some (S, nI c) := by
  obtain ⟨h0, q, x, n, f, h1, h2, h3, h4, h5, h6, h7⟩ := h
  have hc := h0 c (List.mem_of_getElem? hi)
  have hlt : i < cs.length := (List.getElem?_eq_some_iff.mp hi).1
  unfold kX_J14_charAt kX_J13_charAt
  refine ob1 (g_cls h1.2) ?_
  refine ob1 (v := (S, nI c)) ?_ ?_
  · refine ob1 (g_int h1.2 rfl) ?_
    refine ob1 (g_obj h1.2 rfl) ?_
    refine ob1 (g_int h1.2 rfl) ?_
    refine ob1 (g_alen h5.2 (by decide)) ?_
    have e0 : nI n >>> ((0 : Int32) &&& 31) = nI n := by
      rw [show ((0 : Int32) &&& 31) = 0 by decide]
      apply Int32.toBitVec.inj
      simp
    refine onb (v := nI cs.length) ?_ ?_
    · rw [e0]
      by_cases e : nI n < nI cs.length
      · exact absurd (nI_ltI (by omega) (by omega) |>.mp e) (by omega)
      · exact if_neg e
    · unfold kX_J8_checkIndex kX_J11_checkIndex
      rw [if_neg (nI_pos (by omega)), if_pos (nI_lt hlt (by omega))]
      refine ob1 (v := S) rfl ?_
      rw [if_pos rfl]
      refine ob1 (g_aint h5.2 (by omega) (by omega)) ?_
      rw [h7 i c hi, y_sign c hc]
      unfold nchk
      rw [if_pos]
      have := pk_nc (nI c &&& 255)
      rw [y_sign c hc] at this
      exact this
  · unfold nchk
    refine if_pos ?_
    have := pk_nc (nI c &&& 255)
    rw [y_sign c hc] at this
    exact this
def FormAt (g : XC) (Z : Nat → Prop) : Nat → XS → Nat → VF → Prop
  | 0, _, _, _ => False
  | d + 1, S, f, φ => (∃ v, gz Z S f (.inr (6, [.int v])) ∧ φ = fun _ => v) ∨ (∃ i, i < 6 ∧ gz Z S f (.inr (7, [.int (nI i)])) ∧ φ = fun w => w i) ∨
    (∃ h ψ, gz Z S f (.inr (8, [.ref h])) ∧ FormAt g Z d S h ψ ∧ φ = fun w => if ψ w = 0 then 1 else 0) ∨
    (∃ ls sb f0 ψ0, ∃ l : List (Nat × Nat × VF), gz Z S f (.inr (5, [.ref ls, .ref sb])) ∧ ListAt g Z S ls (f0 :: l.map (fun x => x.2.1)) ∧ SbAt Z S sb (l.map (fun x => x.1)) ∧ FormAt g Z d S f0 ψ0 ∧ (∀ x ∈ l, FormAt g Z d S x.2.1 x.2.2) ∧ φ = fun w => yCh (l.map (fun x => (x.1, x.2.2))) (ψ0 w) w)
theorem FormAt.fr {g : XC} {Z : Nat → Prop} {S S1 : XS} (hf : yFg Z S S1) : ∀ (d f : Nat) (φ : VF), FormAt g Z d S f φ → FormAt g Z d S1 f φ := by
  intro d
  induction d with
  | zero => intro f φ h; exact h
  | succ d ih =>
    intro f φ h
    rcases h with ⟨v, h1, h2⟩ | ⟨i, hi, h1, h2⟩ | ⟨h, ψ, h1, h2, h3⟩ | ⟨ls, sb, f0, ψ0, l, h1, h2, h3, h4, h5, h6⟩
    · exact Or.inl ⟨v, h1.fr hf, h2⟩
    · exact Or.inr (Or.inl ⟨i, hi, h1.fr hf, h2⟩)
    · exact Or.inr (Or.inr (Or.inl ⟨h, ψ, h1.fr hf, ih _ _ h2, h3⟩))
    · exact Or.inr (Or.inr (Or.inr ⟨ls, sb, f0, ψ0, l, h1.fr hf, h2.fr hf, h3.fr hf, ih _ _ h4, fun x hx => ih _ _ (h5 x hx), h6⟩))
theorem FormAt.mono {g : XC} {Z Y : Nat → Prop} {S : XS} (hz : ∀ q, Z q → Y q) : ∀ (d f : Nat) (φ : VF), FormAt g Z d S f φ → FormAt g Y d S f φ := by
  intro d
  induction d with
  | zero => intro f φ h; exact h
  | succ d ih =>
    intro f φ h
    rcases h with ⟨v, h1, h2⟩ | ⟨i, hi, h1, h2⟩ | ⟨h, ψ, h1, h2, h3⟩ | ⟨ls, sb, f0, ψ0, l, h1, h2, h3, h4, h5, h6⟩
    · exact Or.inl ⟨v, h1.mono hz, h2⟩
    · exact Or.inr (Or.inl ⟨i, hi, h1.mono hz, h2⟩)
    · exact Or.inr (Or.inr (Or.inl ⟨h, ψ, h1.mono hz, ih _ _ h2, h3⟩))
    · exact Or.inr (Or.inr (Or.inr ⟨ls, sb, f0, ψ0, l, h1.mono hz, h2.mono hz, h3.mono hz, ih _ _ h4, fun x hx => ih _ _ (h5 x hx), h6⟩))
theorem FormAt.up {g : XC} {Z : Nat → Prop} {S : XS} : ∀ (d f : Nat) (φ : VF), FormAt g Z d S f φ → FormAt g Z (d + 1) S f φ := by
  intro d
  induction d with
  | zero => intro f φ h; exact absurd h (fun z => z)
  | succ d ih =>
    intro f φ h
    rcases h with h | h | ⟨h, ψ, h1, h2, h3⟩ | ⟨ls, sb, f0, ψ0, l, h1, h2, h3, h4, h5, h6⟩
    · exact Or.inl h
    · exact Or.inr (Or.inl h)
    · exact Or.inr (Or.inr (Or.inl ⟨h, ψ, h1, ih _ _ h2, h3⟩))
    · exact Or.inr (Or.inr (Or.inr ⟨ls, sb, f0, ψ0, l, h1, h2, h3, ih _ _ h4, fun x hx => ih _ _ (h5 x hx), h6⟩))
theorem FormAt.le {g : XC} {Z : Nat → Prop} {S : XS} {d e f : Nat} {φ : VF} (h : FormAt g Z d S f φ) (hde : d ≤ e) : FormAt g Z e S f φ := by
  obtain ⟨k, rfl⟩ := Nat.le.dest hde
  clear hde
  induction k with
  | zero => exact h
  | succ k ih => exact ih.up
theorem yCh_take (l : List (Nat × VF)) (v : Int32) (w : Nat → Int32) (k : Nat) (x : Nat × VF) (h : l[k]? = some x) : yCh (l.take (k + 1)) v w = yBy x.1 (yCh (l.take k) v w) (x.2 w) := by
  induction l generalizing k v with
  | nil => simp at h
  | cons y l ih =>
    cases k with
    | zero =>
      simp at h
      subst h
      simp [yCh]
    | succ k =>
      simp at h
      simp only [List.take_succ_cons, yCh]
      exact ih _ _ h
/-- a form that stands answers by the six values at v -/
theorem x_form {g : XC} {N : Nat} {Z : Nat → Prop} {S : XS} {v : Nat} {w : Nat → Int32} (hN : 2 ^ 20 < N) (hv : ∀ i, i < 6 → a_int S 0 v (nI i) = some (w i)) : ∀ (d f : Nat) (φ : VF), FormAt g Z d S f φ → kX_form g N d S f v = some (S, φ w) := by
  intro d
  induction d with
  | zero => intro f φ h; exact absurd h (fun z => z)
  | succ d ih =>
    intro f φ h
    have ff : ∀ c fs, genAt S f (.inr (c, fs)) → 5 ≤ c ∧ c ≤ 8 → f_form S f = some c := by
      intro c fs h1 h2
      unfold f_form
      rw [g_cell h1]
      exact if_pos h2
    rcases h with ⟨x, h1, rfl⟩ | ⟨i, hi, h1, rfl⟩ | ⟨h, ψ, h1, h2, rfl⟩ | ⟨ls, sb, f0, ψ0, l, h1, h2, h3, h4, h5, rfl⟩
    · unfold kX_form
      rw [ff _ _ h1.2 (by decide)]
      show kX_X8_of g N _ S f v = _
      unfold kX_X8_of
      exact ob1 (g_int h1.2 rfl) rfl
    · unfold kX_form
      rw [ff _ _ h1.2 (by decide)]
      show kX_X9_of g N _ S f v = _
      unfold kX_X9_of
      exact ob1 (g_int h1.2 rfl) (ob1 (hv i hi) rfl)
    · unfold kX_form
      rw [ff _ _ h1.2 (by decide)]
      show kX_X10_of g N _ S f v = _
      unfold kX_X10_of
      refine ob1 (g_obj h1.2 rfl) (ob1 (ih _ _ h2) ?_)
      by_cases e : ψ w = 0
      · simp [e]
      · simp [e]
    · unfold kX_form
      rw [ff _ _ h1.2 (by decide)]
      show kX_X7_of g N _ S f v = _
      unfold kX_X7_of
      refine ob1 (g_obj h1.2 rfl) (ob1 h2.cls (ob1 (h2.get N (i := 0) rfl) ?_))
      have hform : ∀ d q (ψ : VF), FormAt g Z d S q ψ → ∃ c, f_form S q = some c := by
        intro d q ψ hq
        cases d with
        | zero => exact absurd hq (fun z => z)
        | succ d =>
          have gg : ∀ c fs, genAt S q (.inr (c, fs)) → 5 ≤ c ∧ c ≤ 8 → f_form S q = some c := by
            intro c fs h1 h2
            unfold f_form
            rw [g_cell h1]
            exact if_pos h2
          rcases hq with ⟨x, h1, -⟩ | ⟨i, hi, h1, -⟩ | ⟨h, ψ, h1, h2, -⟩ | ⟨ls, sb, f0, ψ0, l, h1, -⟩
          · exact ⟨_, gg _ _ h1.2 (by decide)⟩
          · exact ⟨_, gg _ _ h1.2 (by decide)⟩
          · exact ⟨_, gg _ _ h1.2 (by decide)⟩
          · exact ⟨_, gg _ _ h1.2 (by decide)⟩
      obtain ⟨c0, hc0⟩ := hform _ _ _ h4
      refine ob1 hc0 (ob1 (ih _ _ h4) ?_)
      have hlen : (f0 :: l.map (fun x => x.2.1)).length = l.length + 1 := by simp
      have hl20 : l.length + 1 < 2 ^ 20 := by have := h2.1; rw [hlen] at this; exact this
      refine y_loop (fun n (s : Int32) k => kX_X7_of_22 g N (kX_form g N d) n S f v s (nI k)) (l.length + 1) (fun s k => 1 ≤ k ∧ s = yCh ((l.map (fun x => (x.1, x.2.2))).take (k - 1)) (ψ0 w) w) (fun r => r = some (S, yCh (l.map (fun x => (x.1, x.2.2))) (ψ0 w) w)) ?_ ?_ l.length N (ψ0 w) 1 (by omega) (by omega) ⟨by omega, by simp [yCh]⟩
      · rintro n s k hk ⟨hk1, rfl⟩
        right
        obtain ⟨j, rfl⟩ : ∃ j, k = j + 1 := ⟨k - 1, by omega⟩
        have hj : j < l.length := by omega
        obtain ⟨x, hx⟩ : ∃ x, l[j]? = some x := ⟨l[j], List.getElem?_eq_getElem hj⟩
        refine ⟨yBy x.1 (yCh ((l.map (fun x => (x.1, x.2.2))).take j) (ψ0 w) w) (x.2.2 w), ?_, by omega, ?_⟩
        · show kX_X7_of_22 g N (kX_form g N d) (n + 1) S f v _ (nI (j + 1)) = _
          rw [kX_X7_of_22]
          refine ob1 (g_obj h1.2 rfl) (ob1 h2.cls (ob1 (h2.size N) ?_))
          show (if nI (f0 :: l.map (fun x => x.2.1)).length ≤ nI (j + 1) then _ else _) = _
          rw [hlen, if_neg (nI_ge (by omega) (by omega))]
          refine ob1 (g_obj h1.2 rfl) ?_
          have h3c : f_cls S 11 sb = some () := by
            obtain ⟨-, q, x, n, f, h31, -⟩ := h3
            exact g_cls h31.2
          refine ob1 h3c ?_
          have hx1 : (l.map (fun x => x.1))[j]? = some x.1 := by rw [List.getElem?_map, hx]; rfl
          have hx2 : (f0 :: l.map (fun x => x.2.1))[j + 1]? = some x.2.1 := by rw [List.getElem?_cons_succ, List.getElem?_map, hx]; rfl
          rw [nI_pred]
          refine ob1 (h3.charAt g N hx1) (ob1 (g_obj h1.2 rfl) (ob1 h2.cls (ob1 (h2.get N hx2) ?_)))
          have hxm := h5 x (List.mem_of_getElem? hx)
          obtain ⟨cx, hcx⟩ := hform _ _ _ hxm
          refine ob1 hcx (ob1 (ih _ _ hxm) (ob1 (y_by g N (h3.1 x.1 (List.mem_map_of_mem (List.mem_of_getElem? hx))) _ _) ?_))
          rw [nI_1]
          rfl
        · rw [show j + 1 + 1 - 1 = j + 1 by omega]
          rw [yCh_take _ _ _ j (x.1, x.2.2) (by rw [List.getElem?_map, hx]; rfl)]
      · rintro n s ⟨-, rfl⟩
        show kX_X7_of_22 g N (kX_form g N d) (n + 1) S f v _ (nI (l.length + 1)) = _
        rw [kX_X7_of_22]
        refine ob1 (g_obj h1.2 rfl) (ob1 h2.cls (ob1 (h2.size N) ?_))
        show (if nI (f0 :: l.map (fun x => x.2.1)).length ≤ nI (l.length + 1) then _ else _) = _
        rw [hlen, if_pos (nI_le (by omega) (by omega))]
        rw [show l.length + 1 - 1 = l.length by omega, List.take_of_length_le (by simp)]
/-! caves: how many cups; springs; leaks; frost -/
abbrev CC : Type := Nat × (Nat → Int) × Option VF × Option VF
def fOk (g : XC) (Z : Nat → Prop) (S : XS) (φ : Option VF) (f : Option Nat) : Prop := match φ with
  | none => f = none
  | some ψ => ∃ r, f = some r ∧ FormAt g Z 72 S r ψ
def CaveAt (g : XC) (Z : Nat → Prop) (S : XS) (cv : Nat) (C : CC) : Prop := C.1 ≤ 9 ∧ (∀ k, k < C.1 → 0 ≤ C.2.1 k ∧ C.2.1 k ≤ 20) ∧ ∃ ls f1 f2 rs, gz Z S cv (.inr (3, [.ref ls, va_rf f1, va_rf f2])) ∧ ListAt g Z S ls rs ∧ rs.length = C.1 ∧ (∀ i, i < C.1 → ∃ r k, rs[i]? = some r ∧ gIv g r = some k ∧ vb_c k = iI (C.2.1 i)) ∧ fOk g Z S C.2.2.1 f1 ∧ fOk g Z S C.2.2.2 f2
theorem fOk.fr {g : XC} {Z : Nat → Prop} {S S1 : XS} {φ : Option VF} {f : Option Nat} (h : fOk g Z S φ f) (hf : yFg Z S S1) : fOk g Z S1 φ f := by
  cases φ with
  | none => exact h
  | some ψ => obtain ⟨r, h1, h2⟩ := h; exact ⟨r, h1, FormAt.fr hf _ _ _ h2⟩
theorem CaveAt.fr {g : XC} {Z : Nat → Prop} {S S1 : XS} {cv : Nat} {C : CC} (h : CaveAt g Z S cv C) (hf : yFg Z S S1) : CaveAt g Z S1 cv C := by
  obtain ⟨h0, h1, ls, f1, f2, rs, h2, h3, h4, h5, h6, h7⟩ := h
  exact ⟨h0, h1, ls, f1, f2, rs, h2.fr hf, h3.fr hf, h4, h5, h6.fr hf, h7.fr hf⟩
theorem fOk.mono {g : XC} {Z Y : Nat → Prop} {S : XS} {φ : Option VF} {f : Option Nat} (h : fOk g Z S φ f) (hz : ∀ q, Z q → Y q) : fOk g Y S φ f := by
  cases φ with
  | none => exact h
  | some ψ => obtain ⟨r, h1, h2⟩ := h; exact ⟨r, h1, FormAt.mono hz _ _ _ h2⟩
theorem CaveAt.mono {g : XC} {Z Y : Nat → Prop} {S : XS} {cv : Nat} {C : CC} (h : CaveAt g Z S cv C) (hz : ∀ q, Z q → Y q) : CaveAt g Y S cv C := by
  obtain ⟨h0, h1, ls, f1, f2, rs, h2, h3, h4, h5, h6, h7⟩ := h
  exact ⟨h0, h1, ls, f1, f2, rs, h2.mono hz, h3.mono hz, h4, h5, h6.mono hz, h7.mono hz⟩
