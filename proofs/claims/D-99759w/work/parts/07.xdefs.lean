/-! the component's world: objects and arrays by their addresses. Objects of the classes 1 (DripCups), 2 (Night), 4 (Reader) are typed: their numbers, references and own arrays lie in tables by the object's address; all else lies in one map -/
abbrev GE : Type := (Nat × vp_A) ⊕ (Nat × List Value)
/-- top of the heap, slots in use, bounds of both; ints; references; own arrays; who owns an address; addresses of own arrays; all else -/
abbrev XS : Type := (Nat × Nat × Nat × Nat) × (Nat → Nat → Int32) × (Nat → Nat → Option Nat) × (Nat → Nat → Nat → Int32) × (Nat → Nat × Nat × Nat) × (Nat → Nat → Nat) × (Nat → Option GE)
def xTop (S : XS) : Nat := S.1.1
def xSl (S : XS) : Nat := S.1.2.1
def xCc (S : XS) : Nat := S.1.2.2.1
def xCs (S : XS) : Nat := S.1.2.2.2
def xI (S : XS) : Nat → Nat → Int32 := S.2.1
def xR (S : XS) : Nat → Nat → Option Nat := S.2.2.1
def xA (S : XS) : Nat → Nat → Nat → Int32 := S.2.2.2.1
def xOwn (S : XS) : Nat → Nat × Nat × Nat := S.2.2.2.2.1
def xRa (S : XS) : Nat → Nat → Nat := S.2.2.2.2.2.1
def xG (S : XS) : Nat → Option GE := S.2.2.2.2.2.2
def xSetI (S : XS) (a k : Nat) (v : Int32) : XS := (S.1, (fun b j => if b = a ∧ j = k then v else xI S b j), S.2.2)
def xSetR (S : XS) (a k : Nat) (v : Option Nat) : XS := (S.1, S.2.1, (fun b j => if b = a ∧ j = k then v else xR S b j), S.2.2.2)
def xSetA (S : XS) (a k : Nat) (f : Nat → Int32) : XS := (S.1, S.2.1, S.2.2.1, (fun b j => if b = a ∧ j = k then f else xA S b j), S.2.2.2.2)
def xSetG (S : XS) (q : Nat) (e : GE) : XS := (S.1, S.2.1, S.2.2.1, S.2.2.2.1, S.2.2.2.2.1, S.2.2.2.2.2.1, fun b => if b = q then some e else xG S b)
/-- how many fields a typed class has -/
def x_N (c : Nat) : Nat := match c with
  | 1 => 14 | 2 => 16 | 4 => 13
  | _ => 0
/-- the kind of a typed class's field: 0 int, 1 its own int array, 2 reference, 3 its own byte array, 4 boolean -/
def x_kd (c k : Nat) : Nat := match c, k with
  | 1, 0 => 1 | 1, 1 => 2 | 1, 2 => 2 | 1, 3 => 2 | 1, 4 => 3 | 1, 7 => 1 | 1, 8 => 2 | 1, 9 => 2 | 1, 10 => 2 | 1, 11 => 2 | 1, 12 => 2
  | 2, 0 => 1 | 2, 1 => 1 | 2, 2 => 1 | 2, 3 => 1 | 2, 4 => 1 | 2, 5 => 1 | 2, 8 => 4 | 2, 9 => 4 | 2, 10 => 4 | 2, 11 => 1 | 2, 12 => 1 | 2, 15 => 2
  | 4, 1 => 2 | 4, 2 => 2 | 4, 3 => 2 | 4, 4 => 2 | 4, 12 => 2
  | _, _ => 0
def x_len (c k : Nat) : Nat := match c, k with
  | 1, 0 => 6 | 1, 4 => 700 | 1, 7 => 3
  | _, _ => 9
/-- element types of arrays by their kind -/
def x_el (k : Nat) : FieldType := match k with
  | 0 => .int | 1 => .byte | 2 => .long | 3 => .object "java/lang/Object" | 4 => .object "java/lang/String" | 5 => .array .int | _ => .boolean
def x_val (S : XS) (c a k : Nat) : Value := if x_kd c k = 2 then va_rf (xR S a k) else if x_kd c k = 1 ∨ x_kd c k = 3 then .ref (xRa S a k) else .int (xI S a k)
def x_F (S : XS) (c a : Nat) : List Value := (List.range (x_N c)).map (x_val S c a)
def x_gE (G : Nat → ClassId) (e : GE) : va_E := match e with
  | .inl (k, x) => .inl (G k, x)
  | .inr o => .inr o
def x_ak (c k : Nat) : Nat := if x_kd c k = 3 then 1 else 0
/-- what lies at an address -/
def x_cell (S : XS) (q : Nat) : Option GE :=
  if (xOwn S q).1 = 0 then xG S q
  else if (xOwn S q).1 < 10 then some (.inr ((xOwn S q).1, x_F S (xOwn S q).1 q))
  else some (.inl (x_ak ((xOwn S q).1 - 10) (xOwn S q).2.2, x_len ((xOwn S q).1 - 10) (xOwn S q).2.2, .inl (xA S (xOwn S q).2.1 (xOwn S q).2.2)))
/-- owners and addresses fit -/
def xWF (S : XS) : Prop :=
  (∀ a, (xOwn S a).1 ≠ 0 → (xOwn S a).1 < 10 → (xOwn S a).2 = (0, 0) ∧ ∀ k, (x_kd (xOwn S a).1 k = 1 ∨ x_kd (xOwn S a).1 k = 3) → xOwn S (xRa S a k) = ((xOwn S a).1 + 10, a, k)) ∧
  (∀ q, 10 ≤ (xOwn S q).1 → q = xRa S (xOwn S q).2.1 (xOwn S q).2.2 ∧ (xOwn S (xOwn S q).2.1).1 + 10 = (xOwn S q).1 ∧ (x_kd ((xOwn S q).1 - 10) (xOwn S q).2.2 = 1 ∨ x_kd ((xOwn S q).1 - 10) (xOwn S q).2.2 = 3) ∧ (xOwn S q).1 ≠ 10)
def slotsOf (H : Heap) : Nat := (H.toList.map (fun c => c.slots.size)).sum
/-- the picture -/
def xΩ (D : va_G) (cl : List vw_C) (G : Nat → ClassId) (A : Nat → Prop) (S : XS) (H : Heap) : Prop :=
  (∀ q e, x_cell S q = some e → va_at D cl (q, x_gE G e) H ∧ A q) ∧ xWF S ∧ H.size = xTop S ∧ slotsOf H = xSl S ∧ (∀ q, xTop S ≤ q → A q)
/-! what the mirrors are made of -/
def f_val (S : XS) (c a k : Nat) : Option Value := match x_cell S a with
  | some (.inr (c', fs)) => if c' = c then fs[k]? else none
  | _ => none
def v_int (v : Option Value) : Option Int32 := match v with
  | some (.int x) => some x
  | _ => none
def v_ref (v : Option Value) : Option (Option Nat) := match v with
  | some .null => some none
  | some (.ref a) => some (some a)
  | _ => none
def f_int (S : XS) (c a k : Nat) : Option Int32 := v_int (f_val S c a k)
/-- a field that holds a reference, perhaps null -/
def f_ref (S : XS) (c a k : Nat) : Option (Option Nat) := v_ref (f_val S c a k)
/-- a field that holds a reference that isn't null -/
def f_obj (S : XS) (c a k : Nat) : Option Nat := (f_ref S c a k).bind id
def f_putI (S : XS) (c a k : Nat) (v : Int32) : Option XS :=
  if xOwn S a = (0, 0, 0) then match xG S a with
    | some (.inr (c', fs)) => if c' = c ∧ k < fs.length then some (xSetG S a (.inr (c, fs.set k (.int v)))) else none
    | _ => none
  else if xOwn S a = (c, 0, 0) ∧ c < 10 ∧ k < x_N c ∧ (x_kd c k = 0 ∨ x_kd c k = 4) then some (xSetI S a k v) else none
def f_putR (S : XS) (c a k : Nat) (v : Option Nat) : Option XS :=
  if xOwn S a = (0, 0, 0) then match xG S a with
    | some (.inr (c', fs)) => if c' = c ∧ k < fs.length then some (xSetG S a (.inr (c, fs.set k (va_rf v)))) else none
    | _ => none
  else if xOwn S a = (c, 0, 0) ∧ c < 10 ∧ k < x_N c ∧ x_kd c k = 2 then some (xSetR S a k v) else none
def a_len (S : XS) (r : Nat) : Option Int32 := match x_cell S r with
  | some (.inl (k, n, _)) => if k < 7 then some (Int32.ofNat n) else none
  | _ => none
/-- an object of this class lies there -/
def f_cls (S : XS) (c a : Nat) : Option Unit := match x_cell S a with
  | some (.inr (c', _)) => if c' = c then some () else none
  | _ => none
def a_int (S : XS) (k r : Nat) (i : Int32) : Option Int32 := match x_cell S r with
  | some (.inl (k', n, .inl f)) => if k' = k ∧ ¬ (i < 0 ∨ n ≤ i.toNatClampNeg) then some (f i.toNatClampNeg) else none
  | _ => none
def a_long (S : XS) (r : Nat) (i : Int32) : Option Int64 := match x_cell S r with
  | some (.inl (2, n, .inr (.inl f))) => if ¬ (i < 0 ∨ n ≤ i.toNatClampNeg) then some (f i.toNatClampNeg) else none
  | _ => none
def a_ref (S : XS) (k r : Nat) (i : Int32) : Option (Option Nat) := match x_cell S r with
  | some (.inl (k', n, .inr (.inr (.inr (.inr f))))) => if k' = k ∧ ¬ (i < 0 ∨ n ≤ i.toNatClampNeg) then some (f i.toNatClampNeg) else none
  | _ => none
def a_obj (S : XS) (k r : Nat) (i : Int32) : Option Nat := (a_ref S k r i).bind id
def a_putI (S : XS) (k r : Nat) (i v : Int32) : Option XS :=
  if (xOwn S r).1 = 0 then match xG S r with
    | some (.inl (k', n, .inl f)) => if k' = k ∧ ¬ (i < 0 ∨ n ≤ i.toNatClampNeg) then some (xSetG S r (.inl (k, n, .inl (upd f i.toNatClampNeg v)))) else none
    | _ => none
  else if 10 ≤ (xOwn S r).1 ∧ x_ak ((xOwn S r).1 - 10) (xOwn S r).2.2 = k ∧ ¬ (i < 0 ∨ x_len ((xOwn S r).1 - 10) (xOwn S r).2.2 ≤ i.toNatClampNeg) then some (xSetA S (xOwn S r).2.1 (xOwn S r).2.2 (upd (xA S (xOwn S r).2.1 (xOwn S r).2.2) i.toNatClampNeg v)) else none
def a_putJ (S : XS) (r : Nat) (i : Int32) (v : Int64) : Option XS := match x_cell S r with
  | some (.inl (2, n, .inr (.inl f))) => if (xOwn S r).1 = 0 ∧ ¬ (i < 0 ∨ n ≤ i.toNatClampNeg) then some (xSetG S r (.inl (2, n, .inr (.inl (vp_updL f i.toNatClampNeg v))))) else none
  | _ => none
def a_putR (S : XS) (k r : Nat) (i : Int32) (v : Option Nat) : Option XS := match x_cell S r with
  | some (.inl (k', n, .inr (.inr (.inr (.inr f))))) => if (xOwn S r).1 = 0 ∧ k' = k ∧ ¬ (i < 0 ∨ n ≤ i.toNatClampNeg) then some (xSetG S r (.inl (k, n, .inr (.inr (.inr (.inr (va_up f i.toNatClampNeg v))))))) else none
  | _ => none
/-- a new cell: at the top of the heap, if the bounds allow it -/
def xNew (S : XS) (n : Nat) (e : GE) : Option XS := if xTop S + 1 ≤ xCc S ∧ xSl S + n ≤ xCs S then some ((xTop S + 1, xSl S + n, xCc S, xCs S), S.2.1, S.2.2.1, S.2.2.2.1, (fun b => if b = xTop S then (0, 0, 0) else xOwn S b), S.2.2.2.2.2.1, fun b => if b = xTop S then some e else xG S b) else none
/-- new arrays -/
def xNewI (S : XS) (k : Nat) (n : Int32) : Option XS := if n < 0 ∨ 67108864 < n.toNatClampNeg then none else xNew S n.toNatClampNeg (.inl (k, n.toNatClampNeg, .inl (fun _ => 0)))
def xNewJ (S : XS) (n : Int32) : Option XS := if n < 0 ∨ 67108864 < n.toNatClampNeg then none else xNew S n.toNatClampNeg (.inl (2, n.toNatClampNeg, .inr (.inl (fun _ => 0))))
def xNewR (S : XS) (k : Nat) (n : Int32) : Option XS := if n < 0 ∨ 67108864 < n.toNatClampNeg then none else xNew S n.toNatClampNeg (.inl (k, n.toNatClampNeg, .inr (.inr (.inr (.inr (fun _ => none))))))
/-! how the cells move -/
theorem x_cell_I (S : XS) (a k q : Nat) (v : Int32) (h : q ≠ a) : x_cell (xSetI S a k v) q = x_cell S q := by
  have e : ∀ c, x_F (xSetI S a k v) c q = x_F S c q := by
    intro c
    unfold x_F
    congr 1
    funext j
    show (if x_kd c j = 2 then va_rf (xR S q j) else if x_kd c j = 1 ∨ x_kd c j = 3 then .ref (xRa S q j) else .int (if q = a ∧ j = k then v else xI S q j)) = _
    have e1 : (if q = a ∧ j = k then v else xI S q j) = xI S q j := if_neg (fun z => h z.1)
    rw [e1]
    rfl
  show (if (xOwn S q).1 = 0 then xG S q else if (xOwn S q).1 < 10 then some (.inr ((xOwn S q).1, x_F (xSetI S a k v) (xOwn S q).1 q)) else _) = _
  rw [e]
  rfl
theorem x_cell_R (S : XS) (a k q : Nat) (v : Option Nat) (h : q ≠ a) : x_cell (xSetR S a k v) q = x_cell S q := by
  have e : ∀ c, x_F (xSetR S a k v) c q = x_F S c q := by
    intro c
    unfold x_F
    congr 1
    funext j
    show (if x_kd c j = 2 then va_rf (if q = a ∧ j = k then v else xR S q j) else if x_kd c j = 1 ∨ x_kd c j = 3 then .ref (xRa S q j) else .int (xI S q j)) = _
    have e1 : (if q = a ∧ j = k then v else xR S q j) = xR S q j := if_neg (fun z => h z.1)
    rw [e1]
    rfl
  show (if (xOwn S q).1 = 0 then xG S q else if (xOwn S q).1 < 10 then some (.inr ((xOwn S q).1, x_F (xSetR S a k v) (xOwn S q).1 q)) else _) = _
  rw [e]
  rfl
theorem x_cell_A (S : XS) (hW : xWF S) (r q : Nat) (f : Nat → Int32) (hr : 10 ≤ (xOwn S r).1) (h : q ≠ r) : x_cell (xSetA S (xOwn S r).2.1 (xOwn S r).2.2 f) q = x_cell S q := by
  have h0 : ∀ c, x_F (xSetA S (xOwn S r).2.1 (xOwn S r).2.2 f) c q = x_F S c q := fun c => rfl
  by_cases h1 : (xOwn S q).1 = 0
  · show (if (xOwn S q).1 = 0 then xG S q else _) = (if (xOwn S q).1 = 0 then xG S q else _)
    rw [if_pos h1, if_pos h1]
  by_cases h2 : (xOwn S q).1 < 10
  · show (if (xOwn S q).1 = 0 then xG S q else if (xOwn S q).1 < 10 then some (.inr ((xOwn S q).1, x_F S (xOwn S q).1 q)) else _) = (if (xOwn S q).1 = 0 then xG S q else if (xOwn S q).1 < 10 then _ else _)
    rw [if_neg h1, if_neg h1, if_pos h2, if_pos h2]
  · have hne : ¬ ((xOwn S q).2.1 = (xOwn S r).2.1 ∧ (xOwn S q).2.2 = (xOwn S r).2.2) := by
      intro z
      apply h
      rw [(hW.2 q (by omega)).1, (hW.2 r hr).1, z.1, z.2]
    show (if (xOwn S q).1 = 0 then xG S q else if (xOwn S q).1 < 10 then _ else some (.inl (x_ak ((xOwn S q).1 - 10) (xOwn S q).2.2, x_len ((xOwn S q).1 - 10) (xOwn S q).2.2, .inl (if (xOwn S q).2.1 = (xOwn S r).2.1 ∧ (xOwn S q).2.2 = (xOwn S r).2.2 then f else xA S (xOwn S q).2.1 (xOwn S q).2.2)))) = _
    rw [if_neg h1, if_neg h2, if_neg hne]
    unfold x_cell
    rw [if_neg h1, if_neg h2]
theorem x_cell_G (S : XS) (a q : Nat) (e : GE) (h : q ≠ a) : x_cell (xSetG S a e) q = x_cell S q := by
  show (if (xOwn S q).1 = 0 then (if q = a then some e else xG S q) else _) = _
  rw [if_neg h]
  rfl
theorem x_cell_Gs (S : XS) (a : Nat) (e : GE) (h : (xOwn S a).1 = 0) : x_cell (xSetG S a e) a = some e := by
  show (if (xOwn S a).1 = 0 then (if a = a then some e else xG S a) else _) = _
  rw [if_pos h, if_pos rfl]
theorem x_cell_As (S : XS) (r : Nat) (f : Nat → Int32) (hr : 10 ≤ (xOwn S r).1) : x_cell (xSetA S (xOwn S r).2.1 (xOwn S r).2.2 f) r = some (.inl (x_ak ((xOwn S r).1 - 10) (xOwn S r).2.2, x_len ((xOwn S r).1 - 10) (xOwn S r).2.2, .inl f)) := by
  show (if (xOwn S r).1 = 0 then xG S r else if (xOwn S r).1 < 10 then _ else some (.inl (x_ak ((xOwn S r).1 - 10) (xOwn S r).2.2, x_len ((xOwn S r).1 - 10) (xOwn S r).2.2, .inl (if (xOwn S r).2.1 = (xOwn S r).2.1 ∧ (xOwn S r).2.2 = (xOwn S r).2.2 then f else xA S (xOwn S r).2.1 (xOwn S r).2.2)))) = _
  rw [if_neg (by omega), if_neg (by omega), if_pos ⟨rfl, rfl⟩]
theorem x_F_get (S : XS) (c a : Nat) {k : Nat} (hk : k < x_N c) : (x_F S c a)[k]? = some (x_val S c a k) := by
  unfold x_F
  rw [List.getElem?_map, List.getElem?_range hk]
  rfl
theorem x_F_set (S S1 : XS) (c a : Nat) {k : Nat} {v : Value} (h : x_val S1 c a k = v) (ho : ∀ j, j ≠ k → x_val S1 c a j = x_val S c a j) : (x_F S c a).set k v = x_F S1 c a := by
  apply List.ext_getElem?
  intro j
  by_cases hj : j < x_N c
  · rw [x_F_get S1 c a hj, List.getElem?_set]
    by_cases e : k = j
    · subst e
      rw [if_pos rfl, h]
      simp [x_F, hj]
    · rw [if_neg e, x_F_get S c a hj, ho j (fun q => e q.symm)]
  · have h1 : (x_F S1 c a).length ≤ j := by simp [x_F]; omega
    have h2 : ((x_F S c a).set k v).length ≤ j := by simp [x_F]; omega
    rw [List.getElem?_eq_none h1, List.getElem?_eq_none h2]
theorem x_F_len (S : XS) (c a : Nat) : (x_F S c a).length = x_N c := by simp [x_F]
/-! slots in use -/
theorem slotsOf_same {H H1 : Heap} (z : H1.size = H.size) (h : ∀ q : Nat, (H1[q]?).map (fun c => c.slots.size) = (H[q]?).map (fun c => c.slots.size)) : slotsOf H1 = slotsOf H := by
  unfold slotsOf
  congr 1
  apply List.ext_getElem?
  intro j
  rw [List.getElem?_map, List.getElem?_map, Array.getElem?_toList, Array.getElem?_toList]
  exact h j
theorem slots_set {H H1 : Heap} {a n : Nat} {cell : Cell} {v : Value} (h0 : H[a]? = some cell) (h1 : H1[a]? = some (cell.setSlot n v)) (oq : ∀ q : Nat, q ≠ a → H1[q]? = H[q]?) (q : Nat) : (H1[q]?).map (fun c => c.slots.size) = (H[q]?).map (fun c => c.slots.size) := by
  by_cases e : q = a
  · subst e
    rw [h0, h1]
    simp [Cell.setSlot]
  · rw [oq q e]
theorem slotsOf_push {H H1 : Heap} {c : Cell} (z : H1.size = H.size + 1) (h : H1[H.size]? = some c) (oq : ∀ q : Nat, q < H.size → H1[q]? = H[q]?) : slotsOf H1 = slotsOf H + c.slots.size := by
  have e : H1.toList = H.toList ++ [c] := by
    apply List.ext_getElem?
    intro j
    rw [Array.getElem?_toList, List.getElem?_append]
    by_cases hj : j < H.toList.length
    · rw [if_pos hj, Array.getElem?_toList]
      exact oq j (by simpa using hj)
    · rw [if_neg hj]
      have hs : H.toList.length = H.size := by simp
      by_cases hj2 : j = H.size
      · subst hj2
        rw [h, hs]
        simp
      · rw [Array.getElem?_eq_none (by omega), List.getElem?_eq_none (by simp; omega)]
  unfold slotsOf
  rw [e]
  simp
theorem slotsOf_split {H0 H : Heap} (hz : H0.size ≤ H.size) (h : ∀ (a : Nat) (c : Cell), H0[a]? = some c → ∃ c' : Cell, H[a]? = some c' ∧ c'.slots.size = c.slots.size) : slotsOf H = slotsOf H0 + ((H.toList.drop H0.size).map (fun c => c.slots.size)).sum := by
  unfold slotsOf
  rw [← List.take_append_drop H0.size H.toList, List.map_append, List.sum_append]
  congr 1
  · congr 1
    apply List.ext_getElem?
    intro j
    rw [List.getElem?_map, List.getElem?_map]
    have hs : (H0.toList).length = H0.size := by simp
    by_cases hj : j < H0.size
    · rw [List.getElem?_take, if_pos hj, Array.getElem?_toList, Array.getElem?_toList]
      obtain ⟨c, hc⟩ : ∃ c, H0[j]? = some c := ⟨H0[j], Array.getElem?_eq_getElem hj⟩
      obtain ⟨c', h1, h2⟩ := h j c hc
      rw [hc, h1]
      simp [h2]
    · rw [List.getElem?_eq_none (by simp; omega), List.getElem?_eq_none (by simp; omega)]
  · simp
section WT
variable {p : Program} {l : Launch} {e : Env} {R : Room} {s : State} {m : MethodId} {args : Array Value} {below : List Frame} {meth : Method} {c : Code} {H : Heap} {locs : List Loc} {cells slots : Nat} {Q : State → Prop}
/-- what is new is what the heap shows -/
theorem W.tight {g : JFrame} (kk : s.heap.size ≤ H.size → slotsOf s.heap ≤ slotsOf H → W p l e R s m args below meth c H locs (H.size - s.heap.size) (slotsOf H - slotsOf s.heap) Q g) : W p l e R s m args below meth c H locs cells slots Q g := by
  intro T hT X
  obtain ⟨e1, e2, e3, e4, e5, e6⟩ := X.same
  have hH : (T.setVm s.vm).heap = H := hT
  rw [hH] at e2 e3 e4 e5 e6
  have hsum := slotsOf_split e2 (fun a c0 hc => by
    obtain ⟨c', h1, -, h3, -⟩ := e6 a c0 hc
    exact ⟨c', h1, h3⟩)
  refine kk e2 (by omega) T hT { X with same := ⟨e1, ?_, ?_, ?_, ?_, ?_⟩ }
  · rw [hH]; exact e2
  · rw [hH]; omega
  · rw [hH]; exact e4
  · rw [hH]
    have : (List.map (fun c => c.slots.size) (List.drop s.heap.size H.toList)).sum = slotsOf H - slotsOf s.heap := by omega
    exact Nat.le_of_eq this
  · rw [hH]; exact e6
end WT
/-! the picture behind a step -/
theorem xΩ_at {D : va_G} {cl : List vw_C} {G : Nat → ClassId} {A : Nat → Prop} {S : XS} {H : Heap} (h : xΩ D cl G A S H) {q : Nat} {e : GE} (hq : x_cell S q = some e) : va_at D cl (q, x_gE G e) H := (h.1 q e hq).1
theorem xΩ_in {D : va_G} {cl : List vw_C} {G : Nat → ClassId} {A : Nat → Prop} {S : XS} {H : Heap} (h : xΩ D cl G A S H) {q : Nat} {e : GE} (hq : x_cell S q = some e) : A q := (h.1 q e hq).2
theorem xΩ_set {D : va_G} {cl : List vw_C} {G : Nat → ClassId} {A : Nat → Prop} {S S1 : XS} {H H1 : Heap} {q : Nat} {e0 e1 : GE} (h : xΩ D cl G A S H) (h0 : x_cell S q = some e0) (h1 : ∀ r, r ≠ q → x_cell S1 r = x_cell S r) (h2 : x_cell S1 q = some e1) (hw : xWF S1) (ht : S1.1 = S.1) (z : H1.size = H.size) (oq : ∀ r : Nat, r ≠ q → H1[r]? = H[r]?) (hz : ∀ r : Nat, (H1[r]?).map (fun c => c.slots.size) = (H[r]?).map (fun c => c.slots.size)) (hat : va_at D cl (q, x_gE G e1) H1) : xΩ D cl G A S1 H1 := by
  obtain ⟨a1, a2, a3, a4, a5⟩ := h
  have t1 : xTop S1 = xTop S := by unfold xTop; rw [ht]
  have t2 : xSl S1 = xSl S := by unfold xSl; rw [ht]
  refine ⟨fun r e hr => ?_, hw, by rw [z, a3, t1], by rw [slotsOf_same z hz, a4, t2], by rw [t1]; exact a5⟩
  by_cases hq : r = q
  · subst hq
    rw [h2] at hr
    cases hr
    exact ⟨hat, (a1 _ _ h0).2⟩
  · rw [h1 r hq] at hr
    exact ⟨(a1 r e hr).1.kept (oq r hq), (a1 r e hr).2⟩
theorem xWF_I {S : XS} (h : xWF S) (a k : Nat) (v : Int32) : xWF (xSetI S a k v) := h
theorem xWF_R {S : XS} (h : xWF S) (a k : Nat) (v : Option Nat) : xWF (xSetR S a k v) := h
theorem xWF_A {S : XS} (h : xWF S) (a k : Nat) (f : Nat → Int32) : xWF (xSetA S a k f) := h
theorem xWF_G {S : XS} (h : xWF S) (a : Nat) (e : GE) : xWF (xSetG S a e) := h
