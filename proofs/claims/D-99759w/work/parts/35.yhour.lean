/-! plain law: an hour in the component -/
def mVals (C : CC) (m : MN) (k : Nat) : Nat → Int32 := fun j => if j = 0 then iI (yA m 1 k) else if j = 1 then iI (yA m 0 k) else if j = 2 then iI (C.2.1 k) else if j = 3 then iI (yA m 2 k) else if j = 4 then nI k else if j = 5 then yI m 6 else 0
def mRuns (C : CC) (m : MN) (k : Nat) : Int :=
  if ((yI m 7 >>> (nI k &&& 31)) &&& 1) = 1 then 0 else if yI m 10 = 0 then (if yI m 8 = 0 then (if yI m 9 = 0 then (match C.2.2.2 with
    | none => C.2.1 k
    | some φ => if φ (mVals C m k) ≤ 0 then C.2.1 k else 0) else C.2.1 k) else C.2.1 k) else 0
def mDrop (m : MN) (to n : Int) : MN := if to = -1 then ysI m 14 (yI m 14 + iI n) else ysA m 11 to.toNat (yA m 11 to.toNat + n)
def mInto (m : MN) (k : Nat) (b : Int) : Int := if yA m 4 k = -2 then yA m 3 k else if (yA m 5 k + b) % 2 = 0 then yA m 3 k else yA m 4 k
def mTip (m : MN) (k : Nat) : Int := (yA m 1 k + yA m 11 k) / yA m 0 k
/-- what a cup keeps -/
def mSet0 (m : MN) (k : Nat) : MN := ysA (ysA (ysA (ysA m 1 k (yA m 1 k + yA m 11 k)) 11 k 0) 1 k ((yA m 1 k + yA m 11 k) % yA m 0 k)) 2 k (if yA m 2 k + mTip m k < 1000000000 then yA m 2 k + mTip m k else 1000000000)
def mSettle (m : MN) (k : Nat) : MN :=
  if yA m 4 k = -2 then mDrop (mSet0 m k) (yA m 3 k) (mTip m k)
  else ysA (mDrop (mDrop (mSet0 m k) (mInto m k 0) ((mTip m k + 1) / 2)) (mInto m k 1) (mTip m k / 2)) 5 k ((yA m 5 k + mTip m k) % 2)
def mStep (C : CC) (m : MN) (k : Nat) : MN :=
  let m1 := ysA m 11 k (yA m 11 k + mRuns C m k)
  let m2 := ysA (mSettle m1 k) 12 k (mTip m1 k)
  if mTip m1 k ≤ 0 then m2 else ysI m2 13 (yI m2 13 ||| ((1 : Int32) <<< (nI k &&& 31)))
def mLeakN (C : CC) (φ : VF) (m : MN) (k : Nat) : Int := if 0 < (if (φ (mVals C m k)).toInt < yA m 1 k then (φ (mVals C m k)).toInt else yA m 1 k) then (if (φ (mVals C m k)).toInt < yA m 1 k then (φ (mVals C m k)).toInt else yA m 1 k) else 0
def mLeak (C : CC) (φ : VF) (m : MN) (k : Nat) : MN := ysI (ysA m 1 k (yA m 1 k - mLeakN C φ m k)) 14 (yI m 14 + iI (mLeakN C φ m k))
def mLeaks (C : CC) (m : MN) : MN := match C.2.2.1 with
  | none => m
  | some φ => if yI m 8 = 0 then yIter (mLeak C φ) C.1 m else m
def mSteps (C : CC) (m : MN) : MN := yIter (mStep C) C.1 (ysI m 13 0)
def mPass (C : CC) (m : MN) : MN := ysI (mLeaks C (mSteps C m)) 6 (yI (mLeaks C (mSteps C m)) 6 + 1)
/-! what nights are -/
def YK (C : CC) (m : MN) (T : Int) (k : Nat) : Prop := 1 ≤ yA m 0 k ∧ yA m 0 k ≤ 30 ∧ 0 ≤ yA m 1 k ∧ yA m 1 k < yA m 0 k ∧ (yA m 3 k = -1 ∨ ((k : Int) < yA m 3 k ∧ yA m 3 k < C.1)) ∧ (yA m 4 k = -2 ∨ ((k : Int) < yA m 4 k ∧ yA m 4 k < C.1 ∧ yA m 3 k ≠ -1 ∧ yA m 3 k ≠ yA m 4 k)) ∧ (yA m 5 k = 0 ∨ yA m 5 k = 1) ∧ 0 ≤ yA m 2 k ∧ yA m 2 k ≤ T
def YG (C : CC) (m : MN) (T : Int) : Prop := ∀ k, k < C.1 → YK C m T k
/-- what comes in is little -/
def YC (C : CC) (m : MN) (c : Nat) : Prop := ∀ k, c ≤ k → k < C.1 → 0 ≤ yA m 11 k ∧ yA m 11 k ≤ 70 * 2 ^ c - 20
theorem pow9 {c : Nat} (h : c < 9) : (2 : Int) ^ c ≤ 256 := by
  have : c = 0 ∨ c = 1 ∨ c = 2 ∨ c = 3 ∨ c = 4 ∨ c = 5 ∨ c = 6 ∨ c = 7 ∨ c = 8 := by omega
  rcases this with rfl | rfl | rfl | rfl | rfl | rfl | rfl | rfl | rfl <;> decide
theorem pow_s (c : Nat) : (2 : Int) ^ (c + 1) = 2 * 2 ^ c := by rw [Int.pow_succ]; omega
theorem pow_pos (c : Nat) : (1 : Int) ≤ 2 ^ c := by
  induction c with
  | zero => decide
  | succ c ih => rw [pow_s]; omega
/-- a night within the component: its surroundings -/
def NW (g : XC) (Z : Nat → Prop) (S : XS) (a xa : Nat) (C : CC) : Prop := NC S a xa ∧ ∃ cv, xR S xa 1 = some cv ∧ CaveAt g Z S cv C
section HR
variable {g : XC} {Z : Nat → Prop} {N : Nat} {S : XS} {a xa : Nat} {C : CC} {m : MN} {w : Nat → Int32}
theorem NW.le9 (h : NW g Z S a xa C) : C.1 ≤ 9 := by
  obtain ⟨-, cv, -, h1, -⟩ := h
  exact h1
theorem NW.spr (h : NW g Z S a xa C) {k : Nat} (hk : k < C.1) : 0 ≤ C.2.1 k ∧ C.2.1 k ≤ 20 := by
  obtain ⟨-, cv, -, -, h1, -⟩ := h
  exact h1 k hk
/-- how many cups there are -/
theorem c_cups0 {T : XS} {cv : Nat} (h1 : f_obj T 1 xa 1 = some cv) (h2 : CaveAt g Z T cv C) {β : Type} {F : XS × Int32 → Option β} {R : Option β} (k : F (T, nI C.1) = R) :
    ((f_obj T 1 xa 1).bind fun v2 => (f_cls T 3 v2).bind fun _ => (kX_X2_cups g N T v2).bind F) = R := by
  obtain ⟨-, -, ls, f1, f2, rs, h3, h4, h5, -⟩ := h2
  refine ob1 h1 (ob1 (g_cls h3.2) (ob1 (v := (T, nI C.1)) ?_ k))
  unfold kX_X2_cups
  refine ob1 (g_obj h3.2 rfl) (ob1 h4.cls (ob1 (h4.size N) ?_))
  show some (T, nI rs.length) = _
  rw [h5]
theorem c_spr0 {T : XS} {cv i : Nat} (h1 : f_obj T 1 xa 1 = some cv) (h2 : CaveAt g Z T cv C) (hi : i < C.1) {β : Type} {F : XS × Int32 → Option β} {R : Option β} (k : F (T, iI (C.2.1 i)) = R) :
    ((f_obj T 1 xa 1).bind fun v3 => (f_obj T 3 v3 0).bind fun v4 => (f_cls T 10 v4).bind fun _ => (kX_J2_get g N T v4 (nI i)).bind fun w6 => (gIv g w6.2).bind fun _ => (gIv g w6.2).bind fun _ => (kX_J19_intValue g N w6.1 w6.2).bind F) = R := by
  obtain ⟨-, -, ls, f1, f2, rs, h3, h4, h5, h6, -⟩ := h2
  obtain ⟨r, kk, h7, h8, h9⟩ := h6 i hi
  refine ob1 h1 (ob1 (g_obj h3.2 rfl) (ob1 h4.cls (ob1 (h4.get N h7) (ob1 h8 (ob1 h8 (ob1 (v := (T, iI (C.2.1 i))) ?_ k))))))
  unfold kX_J19_intValue
  refine ob1 h8 ?_
  rw [h9]
theorem NW.f1 (h : NW g Z S a xa C) : ∃ cv, f_obj (nset S a xa m w) 1 xa 1 = some cv ∧ CaveAt g Z (nset S a xa m w) cv C := by
  obtain ⟨h1, cv, h2, h3⟩ := h
  exact ⟨cv, f_obj_T (S := nset S a xa m w) h1.1 (by decide) (by decide) h2, h3.fr (fun _ _ => ⟨rfl, rfl⟩)⟩
theorem n_cups (h : NW g Z S a xa C) {β : Type} {F : XS × Int32 → Option β} {R : Option β} (k : F (nset S a xa m w, nI C.1) = R) :
    ((f_obj (nset S a xa m w) 2 a 15).bind fun v1 => (f_obj (nset S a xa m w) 1 v1 1).bind fun v2 => (f_cls (nset S a xa m w) 3 v2).bind fun _ => (kX_X2_cups g N (nset S a xa m w) v2).bind F) = R := by
  obtain ⟨cv, h1, h2⟩ := h.f1 (m := m) (w := w)
  exact ob1 (n_out h.1) (c_cups0 h1 h2 k)
theorem n_spr (h : NW g Z S a xa C) {i : Nat} (hi : i < C.1) {β : Type} {F : XS × Int32 → Option β} {R : Option β} (k : F (nset S a xa m w, iI (C.2.1 i)) = R) :
    ((f_obj (nset S a xa m w) 2 a 15).bind fun v2 => (f_obj (nset S a xa m w) 1 v2 1).bind fun v3 => (f_obj (nset S a xa m w) 3 v3 0).bind fun v4 => (f_cls (nset S a xa m w) 10 v4).bind fun _ => (kX_J2_get g N (nset S a xa m w) v4 (nI i)).bind fun w6 => (gIv g w6.2).bind fun _ => (gIv g w6.2).bind fun _ => (kX_J19_intValue g N w6.1 w6.2).bind F) = R := by
  obtain ⟨cv, h1, h2⟩ := h.f1 (m := m) (w := w)
  exact ob1 (n_out h.1) (c_spr0 h1 h2 hi k)
/-- a form of the cave -/
theorem n_leaks (h : NW g Z S a xa C) : ∃ cv f1, f_obj (nset S a xa m w) 1 xa 1 = some cv ∧ f_ref (nset S a xa m w) 3 cv 1 = some f1 ∧ fOk g Z S C.2.2.1 f1 := by
  obtain ⟨h1, cv, h2, h3⟩ := h
  obtain ⟨-, -, ls, f1, f2, rs, h4, -, -, -, h5, -⟩ := h3
  have h6 : genAt (nset S a xa m w) cv (.inr (3, [.ref ls, va_rf f1, va_rf f2])) := h4.2
  exact ⟨cv, f1, f_obj_T (S := nset S a xa m w) h1.1 (by decide) (by decide) h2, g_ref h6 rfl, h5⟩
theorem n_frost (h : NW g Z S a xa C) : ∃ cv f1, f_obj (nset S a xa m w) 1 xa 1 = some cv ∧ f_ref (nset S a xa m w) 3 cv 2 = some f1 ∧ fOk g Z S C.2.2.2 f1 := by
  obtain ⟨h1, cv, h2, h3⟩ := h
  obtain ⟨-, -, ls, f1, f2, rs, h4, -, -, -, -, h5⟩ := h3
  have h6 : genAt (nset S a xa m w) cv (.inr (3, [.ref ls, va_rf f1, va_rf f2])) := h4.2
  exact ⟨cv, f2, f_obj_T (S := nset S a xa m w) h1.1 (by decide) (by decide) h2, g_ref h6 rfl, h5⟩
theorem x_plugged (h : NC S a xa) (k : Nat) : kX_X3_isPlugged g N (nset S a xa m w) a (nI k) = some (nset S a xa m w, if ((yI m 7 >>> (nI k &&& 31)) &&& 1) = 1 then 1 else 0) := by
  unfold kX_X3_isPlugged
  refine ob1 (n_int h (by decide)) ?_
  unfold kX_X1_isOf
  by_cases e : ((yI m 7 >>> (nI k &&& 31)) &&& 1) = 1
  · rw [if_pos e, if_pos e]; rfl
  · rw [if_neg e, if_neg e]; rfl
theorem FormAt_nset {d r : Nat} {φ : VF} (h : FormAt g Z d S r φ) : FormAt g Z d (nset S a xa m w) r φ := FormAt.fr (S := S) (S1 := nset S a xa m w) (fun _ _ => ⟨rfl, rfl⟩) d r φ h
theorem x_asked (h : NW g Z S a xa C) (hN : 2 ^ 20 < N) {φ : VF} {r k : Nat} (hk : k < C.1) (hφ : FormAt g Z 72 S r φ) : ∃ w1, kX_X3_asked g N (nset S a xa m w) a r (nI k) = some (nset S a xa m w1, φ (mVals C m k)) := by
  have h9 := h.le9
  have hn := h.1
  apply Exists.intro
  unfold kX_X3_asked
  refine ob1 (n_out hn) (ob1 (n_vals hn) (ob1 (n_obj hn (by decide)) (ob1 (n_a hn (by decide) (by omega)) (ob1 (n_vput (i := 0) hn (by decide)) ?_))))
  refine ob1 (n_out hn) (ob1 (n_vals hn) (ob1 (n_obj hn (by decide)) (ob1 (n_a hn (by decide) (by omega)) (ob1 (n_vput (i := 1) hn (by decide)) ?_))))
  refine ob1 (n_out hn) (ob1 (n_vals hn) (n_spr h hk (ob1 (n_vput (i := 2) hn (by decide)) ?_)))
  refine ob1 (n_out hn) (ob1 (n_vals hn) (ob1 (n_obj hn (by decide)) (ob1 (n_a hn (by decide) (by omega)) (ob1 (n_vput (i := 3) hn (by decide)) ?_))))
  refine ob1 (n_out hn) (ob1 (n_vals hn) (ob1 (n_vput (i := 4) hn (by decide)) ?_))
  refine ob1 (n_out hn) (ob1 (n_vals hn) (ob1 (n_int hn (by decide)) (ob1 (n_vput (i := 5) hn (by decide)) ?_)))
  refine ob1 (n_out hn) (ob1 (n_vals hn) (ob1 (x_form (w := mVals C m k) hN (fun i hi => ?_) 72 r φ (FormAt_nset hφ)) rfl))
  rw [n_vget hn hi]
  congr 1
  have : i = 0 ∨ i = 1 ∨ i = 2 ∨ i = 3 ∨ i = 4 ∨ i = 5 := by omega
  rcases this with rfl | rfl | rfl | rfl | rfl | rfl <;> simp [upd, mVals]
theorem x_runs (h : NW g Z S a xa C) (hN : 2 ^ 20 < N) {k : Nat} (hk : k < C.1) : ∃ w1, kX_X3_runs g N (nset S a xa m w) a (nI k) = some (nset S a xa m w1, iI (mRuns C m k)) := by
  have hn := h.1
  have e67 : ∀ w, kX_X3_runs_67 g N (nset S a xa m w) a (nI k) 0 = some (nset S a xa m w, iI (C.2.1 k)) := fun w => by
    unfold kX_X3_runs_67
    rw [if_pos rfl]
    exact n_spr h hk rfl
  have e671 : ∀ w, kX_X3_runs_67 g N (nset S a xa m w) a (nI k) 1 = some (nset S a xa m w, iI 0) := fun w => by
    unfold kX_X3_runs_67
    rw [if_neg (by decide)]
    rfl
  unfold kX_X3_runs mRuns
  by_cases p1 : ((yI m 7 >>> (nI k &&& 31)) &&& 1) = 1
  · refine ⟨w, ob1 (n_cls hn) (ob1 (x_plugged hn k) ?_)⟩
    rw [if_pos p1, if_pos p1]
    exact if_neg (show ¬ (1 : Int32) = 0 by decide)
  rw [if_neg p1]
  by_cases p2 : yI m 10 = 0
  · rw [if_pos p2]
    by_cases p3 : yI m 8 = 0
    · rw [if_pos p3]
      by_cases p4 : yI m 9 = 0
      · rw [if_pos p4]
        obtain ⟨cv, f1, q1, q2, q3⟩ := n_frost (m := m) (w := w) h
        cases hC : C.2.2.2 with
        | none =>
          rw [hC] at q3
          have q3 : f1 = none := q3
          subst q3
          refine ⟨w, ob1 (n_cls hn) (ob1 (x_plugged hn k) ?_)⟩
          rw [if_neg p1]
          refine oit rfl (ob1 (n_int hn (by decide)) (oit p2 (ob1 (n_int hn (by decide)) (oit p3 (ob1 (n_int hn (by decide)) (oit p4 ?_))))))
          exact ob1 (n_out hn) (ob1 q1 (ob1 q2 (e67 w)))
        | some φ =>
          rw [hC] at q3
          obtain ⟨r, rfl, q4⟩ := q3
          obtain ⟨w1, hw⟩ := x_asked (m := m) (w := w) h hN hk q4
          refine ⟨w1, ob1 (n_cls hn) (ob1 (x_plugged hn k) ?_)⟩
          rw [if_neg p1]
          refine oit rfl (ob1 (n_int hn (by decide)) (oit p2 (ob1 (n_int hn (by decide)) (oit p3 (ob1 (n_int hn (by decide)) (oit p4 ?_))))))
          refine ob1 (n_out hn) (ob1 q1 (ob1 q2 ?_))
          refine ob1 (n_out hn) (ob1 q1 (ob1 q2 (ob1 (v := r) rfl (ob1 (n_cls hn) (ob1 hw ?_)))))
          show (if φ (mVals C m k) ≤ 0 then _ else _) = _
          by_cases p5 : φ (mVals C m k) ≤ 0
          · rw [if_pos p5]
            refine (e67 w1).trans ?_
            show _ = some (_, iI (if φ (mVals C m k) ≤ 0 then C.2.1 k else 0))
            rw [if_pos p5]
          · rw [if_neg p5]
            refine (e671 w1).trans ?_
            show _ = some (_, iI (if φ (mVals C m k) ≤ 0 then C.2.1 k else 0))
            rw [if_neg p5]
      · rw [if_neg p4]
        refine ⟨w, ob1 (n_cls hn) (ob1 (x_plugged hn k) ?_)⟩
        rw [if_neg p1]
        exact oit rfl (ob1 (n_int hn (by decide)) (oit p2 (ob1 (n_int hn (by decide)) (oit p3 (ob1 (n_int hn (by decide)) (oif p4 (e67 w)))))))
    · rw [if_neg p3]
      refine ⟨w, ob1 (n_cls hn) (ob1 (x_plugged hn k) ?_)⟩
      rw [if_neg p1]
      exact oit rfl (ob1 (n_int hn (by decide)) (oit p2 (ob1 (n_int hn (by decide)) (oif p3 (e67 w)))))
  · rw [if_neg p2]
    refine ⟨w, ob1 (n_cls hn) (ob1 (x_plugged hn k) ?_)⟩
    rw [if_neg p1]
    exact oit rfl (ob1 (n_int hn (by decide)) (oif p2 rfl))
theorem x_drop (h : NC S a xa) {to n : Int} (ht : to = -1 ∨ (0 ≤ to ∧ to < 9)) : kX_X3_drop g N (nset S a xa m w) a (iI to) (iI n) = some (nset S a xa (mDrop m to n) w) := by
  unfold kX_X3_drop mDrop
  by_cases e : to = -1
  · subst e
    refine oit (by decide) (ob1 (n_int h (by decide)) (ob1 (n_putI h (by decide)) ?_))
    rw [if_pos rfl]
  · rw [if_neg e]
    have e2 : iI to = nI to.toNat := by rw [iI_nI]; congr 1; omega
    refine oif (fun z => e ((iI_eq ⟨by omega, by omega⟩ ⟨by decide, by decide⟩).mp (z.trans (show (-1 : Int32) = iI (-1) by decide)))) ?_
    rw [e2]
    exact ob1 (n_obj h (by decide)) (ob1 (n_a h (by decide) (by omega)) (ob1 (n_put h (by decide) (by omega) (iI_add _ _)) rfl))
theorem x_into (h : NC S a xa) {k : Nat} {b : Int} (hb : b = 0 ∨ b = 1) (hk : k < 9) (h4 : yR (yA m 4 k)) (h5 : yA m 5 k = 0 ∨ yA m 5 k = 1) : kX_X3_into g N (nset S a xa m w) a (nI k) (iI b) = some (nset S a xa m w, iI (mInto m k b)) := by
  unfold kX_X3_into mInto
  have e24 : kX_X3_into_24 g N (nset S a xa m w) a (nI k) = some (nset S a xa m w, iI (yA m 3 k)) := by
    unfold kX_X3_into_24
    exact ob1 (n_obj h (by decide)) (ob1 (n_a h (by decide) hk) rfl)
  refine ob1 (n_obj h (by decide)) (ob1 (n_a h (by decide) hk) ?_)
  have e2 : iI (yA m 4 k) = (-2) ↔ yA m 4 k = -2 := by
    rw [show (-2 : Int32) = iI (-2) by decide]
    exact iI_eq h4 ⟨by decide, by decide⟩
  by_cases p : yA m 4 k = -2
  · rw [if_pos (e2.mpr p), if_pos p]
    exact e24
  · rw [if_neg (fun z => p (e2.mp z)), if_neg p]
    refine ob1 (n_obj h (by decide)) (ob1 (n_a h (by decide) hk) ?_)
    have e3 : (iI (yA m 5 k) + iI b) - (iI (yA m 5 k) + iI b) / 2 * 2 = iI ((yA m 5 k + b) % 2) := by
      rw [iI_add, show (2 : Int32) = iI 2 by decide]
      exact iI_mod (by omega) ⟨by omega, by omega⟩ (by decide) ⟨by decide, by decide⟩
    refine onb e3 ?_
    have e4 : iI ((yA m 5 k + b) % 2) = 0 ↔ (yA m 5 k + b) % 2 = 0 := by
      rw [show (0 : Int32) = iI 0 by decide]
      exact iI_eq ⟨by omega, by omega⟩ ⟨by decide, by decide⟩
    by_cases p2 : (yA m 5 k + b) % 2 = 0
    · rw [if_pos (e4.mpr p2), if_pos p2]
      exact e24
    · rw [if_neg (fun z => p2 (e4.mp z)), if_neg p2]
      exact ob1 (n_obj h (by decide)) (ob1 (n_a h (by decide) hk) rfl)
/-! reads behind what settles -/
theorem yA_drop (m : MN) (to n : Int) (i j : Nat) : yA (mDrop m to n) i j = if to ≠ -1 ∧ i = 11 ∧ j = to.toNat then yA m 11 j + n else yA m i j := by
  unfold mDrop
  by_cases e : to = -1
  · rw [if_pos e, if_neg (fun z => z.1 e)]; rfl
  · rw [if_neg e, yA_A]
    by_cases e2 : i = 11 ∧ j = to.toNat
    · rw [if_pos e2, if_pos ⟨e, e2⟩, e2.2]
    · rw [if_neg e2, if_neg (fun z => e2 z.2)]
theorem yA_dropn (m : MN) (to n : Int) (i j : Nat) (hi : i ≠ 11) : yA (mDrop m to n) i j = yA m i j := by rw [yA_drop, if_neg (fun z => hi z.2.1)]
theorem yI_drop (m : MN) (to n : Int) (i : Nat) : yI (mDrop m to n) i = if to = -1 ∧ i = 14 then yI m 14 + iI n else yI m i := by
  unfold mDrop
  by_cases e : to = -1
  · rw [if_pos e, yI_I]
    by_cases e2 : i = 14
    · rw [if_pos e2, if_pos ⟨e, e2⟩]
    · rw [if_neg e2, if_neg (fun z => e2 z.2)]
  · rw [if_neg e, if_neg (fun z => e z.1)]; rfl
theorem yA_set0 (m : MN) (k i j : Nat) (hi : i ≠ 1) (hi2 : i ≠ 2) (hi3 : i ≠ 11) : yA (mSet0 m k) i j = yA m i j := by
  unfold mSet0
  simp only [yA_A, hi, hi2, hi3, false_and, if_false]
theorem yI_set0 (m : MN) (k i : Nat) : yI (mSet0 m k) i = yI m i := rfl
theorem mInto_set0 (m : MN) (k : Nat) (b : Int) : mInto (mSet0 m k) k b = mInto m k b := by
  unfold mInto
  rw [yA_set0 _ _ _ _ (by decide) (by decide) (by decide), yA_set0 _ _ _ _ (by decide) (by decide) (by decide), yA_set0 _ _ _ _ (by decide) (by decide) (by decide)]
theorem mInto_drop (m : MN) (to n : Int) (k : Nat) (b : Int) : mInto (mDrop m to n) k b = mInto m k b := by
  unfold mInto
  rw [yA_dropn _ _ _ 4 _ (by decide), yA_dropn _ _ _ 5 _ (by decide), yA_dropn _ _ _ 3 _ (by decide)]
theorem mTip_nn {m : MN} {k : Nat} (hm : 1 ≤ yA m 0 k ∧ 0 ≤ yA m 1 k) (hc : 0 ≤ yA m 11 k) : 0 ≤ mTip m k ∧ mTip m k ≤ yA m 1 k + yA m 11 k := by
  unfold mTip
  exact ⟨Int.ediv_nonneg (by omega) (by omega), Int.ediv_le_self _ (by omega)⟩
theorem x_settle (h : NC S a xa) {T : Int} {k : Nat} (hC : C.1 ≤ 9) (hk : k < C.1) (hm : YK C m T k) (hT : T ≤ 900000000) (hc : 0 ≤ yA m 11 k ∧ yA m 11 k ≤ 40000) : kX_X3_settle g N (nset S a xa m w) a (nI k) = some (nset S a xa (mSettle m k) w, iI (mTip m k)) := by
  obtain ⟨h0, h1, h2, h3, h4, h5, h6, h7, h8⟩ := hm
  have hk9 : k < 9 := by omega
  obtain ⟨t0, t1⟩ := mTip_nn (m := m) (k := k) ⟨h0, h2⟩ hc.1
  unfold kX_X3_settle
  refine ob1 (n_obj h (by decide)) (ob1 (n_a h (by decide) hk9) (ob1 (n_obj h (by decide)) (ob1 (n_a h (by decide) hk9) (ob1 (n_put h (by decide) hk9 (iI_add _ _)) ?_))))
  refine ob1 (n_obj h (by decide)) (ob1 (n_put (x := 0) h (by decide) hk9 rfl) ?_)
  have e1 : yA (ysA (ysA m 1 k (yA m 1 k + yA m 11 k)) 11 k 0) 1 k = yA m 1 k + yA m 11 k := by simp [yA_A]
  have e0 : yA (ysA (ysA m 1 k (yA m 1 k + yA m 11 k)) 11 k 0) 0 k = yA m 0 k := by simp [yA_A]
  have hne : ¬ iI (yA m 0 k) = 0 := fun z => by
    have := (iI_eq ⟨by omega, by omega⟩ ⟨by decide, by decide⟩).mp (z.trans (show (0 : Int32) = iI 0 by decide))
    omega
  refine ob1 (n_obj h (by decide)) (ob1 ((n_a h (by decide) hk9).trans (by rw [e1])) (ob1 (n_obj h (by decide)) (ob1 ((n_a h (by decide) hk9).trans (by rw [e0])) (oif hne (onb (iI_div (by omega) ⟨by omega, by omega⟩ (by omega) ⟨by omega, by omega⟩) ?_)))))
  refine ob1 (n_obj h (by decide)) (ob1 ((n_a h (by decide) hk9).trans (by rw [e1])) (ob1 (n_obj h (by decide)) (ob1 ((n_a h (by decide) hk9).trans (by rw [e0])) (oif hne (onb (iI_mod (by omega) ⟨by omega, by omega⟩ (by omega) ⟨by omega, by omega⟩) ?_)))))
  refine ob1 (n_put h (by decide) hk9 rfl) ?_
  have e2 : yA (ysA (ysA (ysA m 1 k (yA m 1 k + yA m 11 k)) 11 k 0) 1 k ((yA m 1 k + yA m 11 k) % yA m 0 k)) 2 k = yA m 2 k := by simp [yA_A]
  refine ob1 (n_obj h (by decide)) (ob1 (n_obj h (by decide)) (ob1 ((n_a h (by decide) hk9).trans (by rw [e2])) ?_))
  have t2 : (yA m 1 k + yA m 11 k) / yA m 0 k = mTip m k := rfl
  rw [t2]
  have e3 : (if (iI (yA m 2 k) + iI (mTip m k) : Int32) < 1000000000 then (iI (yA m 2 k) + iI (mTip m k)) else 1000000000) = iI (if yA m 2 k + mTip m k < 1000000000 then yA m 2 k + mTip m k else 1000000000) := by
    rw [iI_add, show (1000000000 : Int32) = iI 1000000000 by decide]
    by_cases p : yA m 2 k + mTip m k < 1000000000
    · rw [if_pos p, if_pos ((iI_lt ⟨by omega, by omega⟩ ⟨by decide, by decide⟩).mpr p)]
    · rw [if_neg p, if_neg (fun z => p ((iI_lt ⟨by omega, by omega⟩ ⟨by decide, by decide⟩).mp z))]
  refine onb e3 (ob1 (n_put h (by decide) hk9 rfl) ?_)
  have e4 : yA (mSet0 m k) 4 k = yA m 4 k := yA_set0 _ _ _ _ (by decide) (by decide) (by decide)
  have e5 : yA (mSet0 m k) 3 k = yA m 3 k := yA_set0 _ _ _ _ (by decide) (by decide) (by decide)
  have e6 : yA (mSet0 m k) 5 k = yA m 5 k := yA_set0 _ _ _ _ (by decide) (by decide) (by decide)
  refine ob1 (n_obj (m := mSet0 m k) h (by decide)) (ob1 ((n_a (m := mSet0 m k) h (by decide) hk9).trans (by rw [e4])) ?_)
  unfold mSettle
  by_cases p : yA m 4 k = -2
  · rw [if_pos p]
    refine oit (by rw [p]; decide) ?_
    refine ob1 (n_obj (m := mSet0 m k) h (by decide)) (ob1 ((n_a (m := mSet0 m k) h (by decide) hk9).trans (by rw [e5])) (ob1 (n_cls h) (ob1 (x_drop (m := mSet0 m k) h (by omega)) rfl)))
  · rw [if_neg p]
    refine oif (fun z => p ((iI_eq ⟨by omega, by omega⟩ ⟨by decide, by decide⟩).mp (z.trans (show (-2 : Int32) = iI (-2) by decide)))) ?_
    have i0 := mInto_set0 m k 0
    have i1 : mInto (mDrop (mSet0 m k) (mInto m k 0) ((mTip m k + 1) / 2)) k 1 = mInto m k 1 := (mInto_drop _ _ _ _ _).trans (mInto_set0 m k 1)
    have hin : ∀ b, 0 ≤ mInto m k b ∧ mInto m k b < 9 := by
      intro b
      unfold mInto
      rw [if_neg p]
      split <;> omega
    refine ob1 (n_cls h) (ob1 ((x_into (m := mSet0 m k) (b := 0) h (Or.inl rfl) hk9 (by rw [e4]; exact ⟨by omega, by omega⟩) (by rw [e6]; exact h6)).trans (by rw [i0])) ?_)
    have d1 : (iI (mTip m k) + 1) / 2 = iI ((mTip m k + 1) / 2) := by
      rw [show (1 : Int32) = iI 1 by decide, iI_add, show (2 : Int32) = iI 2 by decide]
      exact iI_div (by omega) ⟨by omega, by omega⟩ (by decide) ⟨by decide, by decide⟩
    refine onb d1 (ob1 (n_cls h) (ob1 (x_drop (m := mSet0 m k) h (Or.inr (hin 0))) ?_))
    have hd : ∀ i j, i ≠ 11 → ∀ q to n, yA (mDrop q to n) i j = yA q i j := fun i j hi q to n => by rw [yA_drop, if_neg (fun z => hi z.2.1)]
    refine ob1 (n_cls h) (ob1 ((x_into (b := 1) h (Or.inr rfl) hk9 (by rw [hd _ _ (by decide), e4]; exact ⟨by omega, by omega⟩) (by rw [hd _ _ (by decide), e6]; exact h6)).trans (by rw [i1])) ?_)
    have d2 : iI (mTip m k) / 2 = iI (mTip m k / 2) := by
      rw [show (2 : Int32) = iI 2 by decide]
      exact iI_div (by omega) ⟨by omega, by omega⟩ (by decide) ⟨by decide, by decide⟩
    refine onb d2 (ob1 (n_cls h) (ob1 (x_drop h (Or.inr (hin 1))) ?_))
    refine ob1 (n_obj h (by decide)) (ob1 (n_obj h (by decide)) (ob1 ((n_a h (by decide) hk9).trans (by rw [hd _ _ (by decide), hd _ _ (by decide), e6])) ?_))
    have d3 : (iI (yA m 5 k) + iI (mTip m k)) - (iI (yA m 5 k) + iI (mTip m k)) / 2 * 2 = iI ((yA m 5 k + mTip m k) % 2) := by
      rw [iI_add, show (2 : Int32) = iI 2 by decide]
      exact iI_mod (by omega) ⟨by omega, by omega⟩ (by decide) ⟨by decide, by decide⟩
    exact onb d3 (ob1 (n_put h (by decide) hk9 rfl) rfl)
end HR
