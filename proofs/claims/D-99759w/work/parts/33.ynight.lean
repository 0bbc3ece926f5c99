/-! plain law: nights as tables of numbers -/
/-- a night: its ints by field; its arrays' numbers by field -/
abbrev MN : Type := (Nat → Int32) × (Nat → Nat → Int)
def yI (m : MN) (k : Nat) : Int32 := m.1 k
def yA (m : MN) (k i : Nat) : Int := m.2 k i
def ysI (m : MN) (k : Nat) (v : Int32) : MN := (fun j => if j = k then v else m.1 j, m.2)
def ysA (m : MN) (k i : Nat) (x : Int) : MN := (m.1, fun j q => if j = k ∧ q = i then x else m.2 j q)
theorem yI_I (m : MN) (k j : Nat) (v : Int32) : yI (ysI m k v) j = if j = k then v else yI m j := rfl
theorem yI_A (m : MN) (k i j : Nat) (x : Int) : yI (ysA m k i x) j = yI m j := rfl
theorem yA_I (m : MN) (k j q : Nat) (v : Int32) : yA (ysI m k v) j q = yA m j q := rfl
theorem yA_A (m : MN) (k i j q : Nat) (x : Int) : yA (ysA m k i x) j q = if j = k ∧ q = i then x else yA m j q := rfl
/-- the night at a is m, the component's six values are w -/
def nset (S : XS) (a xa : Nat) (m : MN) (w : Nat → Int32) : XS := (S.1, (fun b j => if b = a then m.1 j else xI S b j), xR S, (fun b j => if b = a then (fun i => iI (m.2 j i)) else if b = xa ∧ j = 0 then w else xA S b j), xOwn S, xRa S, xG S)
/-- what a night stands in -/
def NC (S : XS) (a xa : Nat) : Prop := tyA S 1 xa ∧ tyA S 2 a ∧ a ≠ xa ∧ xWF S ∧ xR S a 15 = some xa
theorem NC.nset {S : XS} {a xa : Nat} (h : NC S a xa) (b : Nat) (m : MN) (w : Nat → Int32) : NC (nset S b xa m w) a xa := h
theorem nset_nset (S : XS) (a xa : Nat) (m m1 : MN) (w w1 : Nat → Int32) : nset (nset S a xa m w) a xa m1 w1 = nset S a xa m1 w1 := by
  unfold nset
  refine Prod.ext rfl (Prod.ext ?_ (Prod.ext rfl (Prod.ext ?_ rfl)))
  · funext b j
    show (if b = a then m1.1 j else if b = a then m.1 j else xI S b j) = _
    by_cases e : b = a
    · simp [e]
    · simp [e]
  · funext b j
    show (if b = a then (fun i => iI (m1.2 j i)) else if b = xa ∧ j = 0 then w1 else if b = a then (fun i => iI (m.2 j i)) else if b = xa ∧ j = 0 then w else xA S b j) = _
    by_cases e : b = a
    · simp [e]
    · by_cases e2 : b = xa ∧ j = 0
      · simp only [if_neg e, if_pos e2]
      · simp only [if_neg e, if_neg e2]
/-- a state is as it is -/
theorem nset_self {S : XS} {a xa : Nat} {m : MN} {w : Nat → Int32} (hax : a ≠ xa) (h1 : xI S a = m.1) (h2 : ∀ j i, xA S a j i = iI (m.2 j i)) (h3 : xA S xa 0 = w) : nset S a xa m w = S := by
  unfold nset
  refine Prod.ext rfl (Prod.ext ?_ (Prod.ext rfl (Prod.ext ?_ rfl)))
  · funext b j
    by_cases e : b = a
    · subst e
      show (if b = b then m.1 j else _) = S.2.1 b j
      rw [if_pos rfl, ← h1]
      rfl
    · exact if_neg e
  · funext b j
    show (if b = a then (fun i => iI (m.2 j i)) else if b = xa ∧ j = 0 then w else xA S b j) = xA S b j
    by_cases e : b = a
    · subst e
      rw [if_pos rfl]
      funext i
      exact (h2 j i).symm
    · by_cases e2 : b = xa ∧ j = 0
      · obtain ⟨rfl, rfl⟩ := e2
        rw [if_neg e, if_pos ⟨rfl, rfl⟩, h3]
      · rw [if_neg e, if_neg e2]
def yMN (S : XS) (a : Nat) : MN := (xI S a, fun j i => (xA S a j i).toInt)
theorem nset_yMN {S : XS} {a xa : Nat} (hax : a ≠ xa) : nset S a xa (yMN S a) (xA S xa 0) = S := nset_self hax rfl (fun j i => (iI_t _).symm) rfl
/-- array fields, number fields -/
abbrev nA (k : Nat) : Prop := x_kd 2 k = 1
abbrev nN (k : Nat) : Prop := k < 16 ∧ (x_kd 2 k = 0 ∨ x_kd 2 k = 4)
theorem nA_lt {k : Nat} (h : nA k) : k < 16 := by
  have : x_isA 2 k = true := x_isA_iff.mpr (Or.inl h)
  exact x_kd_big (Or.inl this)
theorem nA_len {k : Nat} : x_len 2 k = 9 := by
  unfold x_len
  split <;> first | rfl | omega
theorem nA_ak {k : Nat} (h : nA k) : x_ak 2 k = 0 := by unfold x_ak; rw [h]; rfl
section NL
variable {S : XS} {a xa : Nat} {m : MN} {w : Nat → Int32}
theorem n_cls (h : NC S a xa) : f_cls (nset S a xa m w) 2 a = some () := f_cls_T (S := nset S a xa m w) h.2.1
theorem n_cls1 (h : NC S a xa) : f_cls (nset S a xa m w) 1 xa = some () := f_cls_T (S := nset S a xa m w) h.1
theorem n_obj (h : NC S a xa) {k : Nat} (hk : nA k) : f_obj (nset S a xa m w) 2 a k = some (xRa S a k) := f_objA_T (S := nset S a xa m w) h.2.1 (nA_lt hk) (Or.inl hk)
theorem n_out (h : NC S a xa) : f_obj (nset S a xa m w) 2 a 15 = some xa := f_obj_T (S := nset S a xa m w) h.2.1 (by decide) (by decide) h.2.2.2.2
theorem n_int (h : NC S a xa) {k : Nat} (hk : nN k) : f_int (nset S a xa m w) 2 a k = some (yI m k) := by
  rw [f_int_T (S := nset S a xa m w) h.2.1 hk.1 hk.2]
  exact congrArg some (if_pos rfl)
theorem n_a (h : NC S a xa) {k i : Nat} (hk : nA k) (hi : i < 9) : a_int (nset S a xa m w) 0 (xRa S a k) (nI i) = some (iI (yA m k i)) := by
  have h1 := a_int_T (S := nset S a xa m w) (k := k) (i := nI i) h.2.1 h.2.2.2.1 (Or.inl hk) (by rw [nA_len]; exact nI_inn hi (by decide))
  rw [nA_ak hk, nI_clamp (by omega)] at h1
  refine Eq.trans h1 (congrArg some ?_)
  show (if a = a then (fun i => iI (m.2 k i)) else _) i = _
  rw [if_pos rfl]
  rfl
theorem n_putI (h : NC S a xa) {k : Nat} (hk : nN k) {v : Int32} : f_putI (nset S a xa m w) 2 a k v = some (nset S a xa (ysI m k v) w) := by
  rw [f_putI_T (S := nset S a xa m w) h.2.1 hk.1 hk.2]
  congr 1
  refine Prod.ext rfl (Prod.ext ?_ rfl)
  funext b j
  show (if b = a ∧ j = k then v else if b = a then m.1 j else xI S b j) = if b = a then (if j = k then v else m.1 j) else xI S b j
  by_cases e : b = a
  · by_cases e2 : j = k
    · simp [e, e2]
    · simp [e, e2]
  · simp [e]
theorem n_put (h : NC S a xa) {k i : Nat} (hk : nA k) (hi : i < 9) {v : Int32} {x : Int} (hv : v = iI x) : a_putI (nset S a xa m w) 0 (xRa S a k) (nI i) v = some (nset S a xa (ysA m k i x) w) := by
  have h1 := a_putI_T (S := nset S a xa m w) (k := k) (i := nI i) (v := v) h.2.1 h.2.2.2.1 (Or.inl hk) (by rw [nA_len]; exact nI_inn hi (by decide))
  rw [nA_ak hk, nI_clamp (by omega)] at h1
  refine Eq.trans h1 ?_
  congr 1
  refine Prod.ext rfl (Prod.ext rfl (Prod.ext rfl (Prod.ext ?_ rfl)))
  have hax := h.2.2.1
  funext b j
  show (if b = a ∧ j = k then upd (if a = a then (fun i => iI (m.2 k i)) else _) i v else if b = a then (fun i => iI (m.2 j i)) else if b = xa ∧ j = 0 then w else xA S b j) = if b = a then (fun q => iI (if j = k ∧ q = i then x else m.2 j q)) else if b = xa ∧ j = 0 then w else xA S b j
  by_cases e : b = a
  · subst e
    by_cases e2 : j = k
    · subst e2
      rw [if_pos ⟨rfl, rfl⟩, if_pos rfl, if_pos rfl]
      funext q
      unfold upd
      by_cases e3 : q = i
      · rw [if_pos e3, if_pos ⟨rfl, e3⟩, hv]
      · rw [if_neg e3, if_neg (fun z => e3 z.2)]
    · rw [if_neg (fun z => e2 z.2), if_pos rfl, if_pos rfl]
      funext q
      rw [if_neg (fun z => e2 z.1)]
  · rw [if_neg (fun z => e z.1), if_neg e, if_neg e]
theorem n_vals (h : NC S a xa) : f_obj (nset S a xa m w) 1 xa 0 = some (xRa S xa 0) := f_objA_T (S := nset S a xa m w) h.1 (by decide) (by decide)
theorem n_vget (h : NC S a xa) {i : Nat} (hi : i < 6) : a_int (nset S a xa m w) 0 (xRa S xa 0) (nI i) = some (w i) := by
  have h1 := a_int_T (S := nset S a xa m w) (k := 0) (i := nI i) h.1 h.2.2.2.1 (by decide) (show vp_in (nI i) 6 from nI_inn hi (by decide))
  rw [nI_clamp (by omega)] at h1
  refine Eq.trans h1 (congrArg some ?_)
  show (if xa = a then _ else if xa = xa ∧ 0 = 0 then w else _) i = _
  rw [if_neg (fun z => h.2.2.1 z.symm), if_pos ⟨rfl, rfl⟩]
theorem n_vput (h : NC S a xa) {i : Nat} (hi : i < 6) {v : Int32} : a_putI (nset S a xa m w) 0 (xRa S xa 0) (nI i) v = some (nset S a xa m (upd w i v)) := by
  have h1 := a_putI_T (S := nset S a xa m w) (k := 0) (i := nI i) (v := v) h.1 h.2.2.2.1 (by decide) (show vp_in (nI i) 6 from nI_inn hi (by decide))
  rw [nI_clamp (by omega)] at h1
  refine Eq.trans h1 ?_
  congr 1
  refine Prod.ext rfl (Prod.ext rfl (Prod.ext rfl (Prod.ext ?_ rfl)))
  funext b j
  show (if b = xa ∧ j = 0 then upd (if xa = a then _ else if xa = xa ∧ 0 = 0 then w else _) i v else if b = a then (fun i => iI (m.2 j i)) else if b = xa ∧ j = 0 then w else xA S b j) = if b = a then (fun i => iI (m.2 j i)) else if b = xa ∧ j = 0 then upd w i v else xA S b j
  rw [if_neg (fun z : xa = a => h.2.2.1 z.symm), if_pos (show xa = xa ∧ 0 = 0 from ⟨rfl, rfl⟩)]
  by_cases e : b = a
  · subst e
    rw [if_neg (fun z => h.2.2.1 z.1), if_pos rfl, if_pos rfl]
  · rw [if_neg e, if_neg e]
    by_cases e2 : b = xa ∧ j = 0
    · rw [if_pos e2, if_pos e2]
    · rw [if_neg e2, if_neg e2, if_neg e2]
end NL
