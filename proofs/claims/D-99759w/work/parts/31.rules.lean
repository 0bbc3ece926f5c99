/-! what the mirrors' steps are on typed objects -/
/-- a typed object of the class c at a -/
def tyA (S : XS) (c a : Nat) : Prop := xOwn S a = (c, 0, 0) ∧ 0 < c ∧ c < 10
theorem tyA.cell {S : XS} {c a : Nat} (h : tyA S c a) : x_cell S a = some (.inr (c, x_F S c a)) := x_typed h.1 (fun z => by rw [h.1] at z; have := congrArg Prod.fst z; have h2 : c = 0 := this; have := h.2.1; omega) h.2.2
theorem f_val_T {S : XS} {c a k : Nat} (h : tyA S c a) (hk : k < x_N c) : f_val S c a k = some (x_val S c a k) := by
  unfold f_val
  rw [h.cell]
  simp [x_F_get S c a hk]
theorem f_int_T {S : XS} {c a k : Nat} (h : tyA S c a) (hk : k < x_N c) (hd : x_kd c k = 0 ∨ x_kd c k = 4) : f_int S c a k = some (xI S a k) := by
  unfold f_int
  rw [f_val_T h hk]
  unfold x_val
  rw [if_neg (by omega), if_neg (by omega)]
  rfl
theorem f_ref_T {S : XS} {c a k : Nat} (h : tyA S c a) (hk : k < x_N c) (hd : x_kd c k = 2) : f_ref S c a k = some (xR S a k) := by
  unfold f_ref
  rw [f_val_T h hk]
  unfold x_val
  rw [if_pos hd]
  cases xR S a k <;> rfl
theorem f_obj_T {S : XS} {c a k r : Nat} (h : tyA S c a) (hk : k < x_N c) (hd : x_kd c k = 2) (hr : xR S a k = some r) : f_obj S c a k = some r := by
  unfold f_obj
  rw [f_ref_T h hk hd, hr]
  rfl
theorem f_objA_T {S : XS} {c a k : Nat} (h : tyA S c a) (hk : k < x_N c) (hd : x_kd c k = 1 ∨ x_kd c k = 3) : f_obj S c a k = some (xRa S a k) := by
  unfold f_obj f_ref
  rw [f_val_T h hk]
  unfold x_val
  rw [if_neg (by omega), if_pos hd]
  rfl
theorem f_cls_T {S : XS} {c a : Nat} (h : tyA S c a) : f_cls S c a = some () := by
  unfold f_cls
  rw [h.cell]
  simp
theorem f_putI_T {S : XS} {c a k : Nat} {v : Int32} (h : tyA S c a) (hk : k < x_N c) (hd : x_kd c k = 0 ∨ x_kd c k = 4) : f_putI S c a k v = some (xSetI S a k v) := by
  unfold f_putI
  rw [if_neg (fun z => by rw [h.1] at z; have h2 : c = 0 := congrArg Prod.fst z; have := h.2.1; omega), if_pos ⟨h.1, h.2.2, hk, hd⟩]
theorem f_putR_T {S : XS} {c a k : Nat} {v : Option Nat} (h : tyA S c a) (hk : k < x_N c) (hd : x_kd c k = 2) : f_putR S c a k v = some (xSetR S a k v) := by
  unfold f_putR
  rw [if_neg (fun z => by rw [h.1] at z; have h2 : c = 0 := congrArg Prod.fst z; have := h.2.1; omega), if_pos ⟨h.1, h.2.2, hk, hd⟩]
theorem tyA.arr {S : XS} {c a k : Nat} (h : tyA S c a) (hW : xWF S) (hd : x_kd c k = 1 ∨ x_kd c k = 3) : xOwn S (xRa S a k) = (c + 10, a, k) := by
  have h1 := hW.1 a (by rw [h.1]; show c ≠ 0; have := h.2.1; omega) (by rw [h.1]; exact h.2.2)
  rw [h.1] at h1
  exact h1.2 k hd
theorem tyA.acell {S : XS} {c a k : Nat} (h : tyA S c a) (hW : xWF S) (hd : x_kd c k = 1 ∨ x_kd c k = 3) : x_cell S (xRa S a k) = some (.inl (x_ak c k, x_len c k, .inl (xA S a k))) := by
  unfold x_cell
  rw [h.arr hW hd]
  rw [if_neg (by show ¬ c + 10 = 0; omega), if_neg (by show ¬ c + 10 < 10; omega)]
  show some (Sum.inl (x_ak (c + 10 - 10) k, x_len (c + 10 - 10) k, Sum.inl (xA S a k))) = _
  rw [show c + 10 - 10 = c by omega]
theorem a_int_T {S : XS} {c a k : Nat} {i : Int32} (h : tyA S c a) (hW : xWF S) (hd : x_kd c k = 1 ∨ x_kd c k = 3) (hi : vp_in i (x_len c k)) : a_int S (x_ak c k) (xRa S a k) i = some (xA S a k i.toNatClampNeg) := by
  unfold a_int
  rw [h.acell hW hd]
  exact if_pos ⟨rfl, hi⟩
theorem a_putI_T {S : XS} {c a k : Nat} {i v : Int32} (h : tyA S c a) (hW : xWF S) (hd : x_kd c k = 1 ∨ x_kd c k = 3) (hi : vp_in i (x_len c k)) : a_putI S (x_ak c k) (xRa S a k) i v = some (xSetA S a k (upd (xA S a k) i.toNatClampNeg v)) := by
  unfold a_putI
  rw [h.arr hW hd, if_neg (by show ¬ c + 10 = 0; omega)]
  rw [show c + 10 - 10 = c by omega, if_pos ⟨by omega, rfl, hi⟩]
theorem a_len_T {S : XS} {c a k : Nat} (h : tyA S c a) (hW : xWF S) (hd : x_kd c k = 1 ∨ x_kd c k = 3) : a_len S (xRa S a k) = some (Int32.ofNat (x_len c k)) := by
  unfold a_len
  rw [h.acell hW hd]
  have h2 : x_ak c k < 7 := by unfold x_ak; split <;> omega
  exact if_pos h2
/-! writes keep who owns what -/
theorem tyA_I {S : XS} {c a b k : Nat} {v : Int32} : tyA (xSetI S b k v) c a ↔ tyA S c a := Iff.rfl
theorem tyA_R {S : XS} {c a b k : Nat} {v : Option Nat} : tyA (xSetR S b k v) c a ↔ tyA S c a := Iff.rfl
theorem tyA_A {S : XS} {c a b k : Nat} {f : Nat → Int32} : tyA (xSetA S b k f) c a ↔ tyA S c a := Iff.rfl
theorem xI_I {S : XS} {a b j k : Nat} {v : Int32} : xI (xSetI S a k v) b j = if b = a ∧ j = k then v else xI S b j := rfl
theorem xA_A {S : XS} {a b j k : Nat} {f : Nat → Int32} : xA (xSetA S a k f) b j = if b = a ∧ j = k then f else xA S b j := rfl
theorem xR_R {S : XS} {a b j k : Nat} {v : Option Nat} : xR (xSetR S a k v) b j = if b = a ∧ j = k then v else xR S b j := rfl
