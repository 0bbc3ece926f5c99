/-! how it starts: what the Statement gives -/
section GV
variable {args : Array Value} {s : State} {N : Nat}
theorem k_classes (hts : ∀ w ∈ lw_all, w.before args s = true) : ∃ D : va_G, ∀ (c : Nat) (q : vw_C), xcl[c]? = some q → u_Kn s q.1 q.2.1 q.2.2 (D.1 c) (D.2 c) := by
  have k0 := u_known hts in_X4 (hts _ q1582)
  have k1 := u_known hts in_X1 (hts _ q149)
  have k2 := u_known hts in_X3 (hts _ q205)
  have k3 := u_known hts in_X2 (hts _ q157)
  have k4 := u_known hts in_X5 (hts _ q723)
  have k5 := u_known hts in_X7 (hts _ q947)
  have k6 := u_known hts in_X8 (hts _ q970)
  have k7 := u_known hts in_X9 (hts _ q988)
  have k8 := u_known hts in_X10 (hts _ q1113)
  have k9 := u_known hts in_X6 (hts _ q915)
  have k10 := u_known hts in_J2 (hts _ q163)
  have k11 := u_known hts in_J14 (hts _ q1004)
  have h : ∀ c : Nat, ∃ z : ClassId × (Nat → Nat), ∀ q : vw_C, xcl[c]? = some q → u_Kn s q.1 q.2.1 q.2.2 z.1 z.2 := by
    intro c
    have t : ∀ {q0 : vw_C}, xcl[c]? = some q0 → (∃ (cC : ClassId) (iS : Nat → Nat), u_Kn s q0.1 q0.2.1 q0.2.2 cC iS) → ∃ z : ClassId × (Nat → Nat), ∀ q : vw_C, xcl[c]? = some q → u_Kn s q.1 q.2.1 q.2.2 z.1 z.2 := fun hq h => by
      obtain ⟨a, b, h⟩ := h
      exact ⟨(a, b), fun q hq2 => by rw [hq] at hq2; cases hq2; exact h⟩
    by_cases hc : c < 12
    · have : c = 0 ∨ c = 1 ∨ c = 2 ∨ c = 3 ∨ c = 4 ∨ c = 5 ∨ c = 6 ∨ c = 7 ∨ c = 8 ∨ c = 9 ∨ c = 10 ∨ c = 11 := by omega
      rcases this with rfl | rfl | rfl | rfl | rfl | rfl | rfl | rfl | rfl | rfl | rfl | rfl
      · exact t rfl k0
      · exact t rfl k1
      · exact t rfl k2
      · exact t rfl k3
      · exact t rfl k4
      · exact t rfl k5
      · exact t rfl k6
      · exact t rfl k7
      · exact t rfl k8
      · exact t rfl k9
      · exact t rfl k10
      · exact t rfl k11
    · refine ⟨(0, fun _ => 0), fun q hq => ?_⟩
      rw [List.getElem?_eq_none (by show xcl.length ≤ c; exact Nat.not_lt.mp hc)] at hq
      cases hq
  obtain ⟨z, hz⟩ := Classical.axiomOfChoice h
  exact ⟨(fun c => (z c).1, fun c => (z c).2), hz⟩
theorem k_arr0 {ty : FieldType} (h : (Cond.arrayClass ty).before args s = true) (hR : ∀ cA, s.vm.findClass ("[" ++ ty.toString) = some cA → va_RA s cA ty) : ∃ cA, ArrOfT s cA ty ∧ va_RA s cA ty := by
  obtain ⟨c, k, comp, h1, h2, h3⟩ := Cond.arrayClass_spec h
  exact ⟨c, fun n z => ⟨(fun k h => by cases h), k, h2, comp, h3⟩, hR c h1⟩
theorem k_arrO {C : String} (h : (Cond.arrayOver (.object C)).before args s = true) : ∃ cA, ArrOfT s cA (.object C) ∧ va_RA s cA (.object C) := by
  obtain ⟨comp, c, k, h1, -, h3, h4, h5⟩ := Cond.arrayOver_spec h
  exact ⟨c, fun n z => ⟨(fun k h => by cases h), k, h3, comp, h4⟩, k, comp, h3, h4, h1, h5⟩
theorem k_arrA (h : (Cond.arrayOver (.array .int)).before args s = true) : ∃ cA, ArrOfT s cA (.array .int) ∧ va_RA s cA (.array .int) := by
  obtain ⟨comp, c, k, h1, h3, h4, h5⟩ := Cond.arrayOver_specA h
  exact ⟨c, fun n z => ⟨(fun k h => by cases h), k, h3, comp, h4⟩, h5⟩
theorem k_arrays (htb : ∀ w ∈ lw_tbl, w.before args s = true) : ∃ G : Nat → ClassId, ∀ k, k < 7 → ArrOfT s (G k) (x_el k) ∧ va_RA s (G k) (x_el k) := by
  have a0 := k_arr0 (htb _ (lw_all_tbl q_arr_int)) (fun _ h => h)
  have a1 := k_arr0 (htb _ (lw_all_tbl q_arr_byte)) (fun _ h => h)
  have a2 := k_arr0 (htb _ (lw_all_tbl q_arr_long)) (fun _ h => h)
  have a3 := k_arrO (htb _ q415)
  have a4 := k_arrO (htb _ q733)
  have a5 := k_arrA (htb _ q1465)
  have a6 := k_arr0 (htb _ (lw_all_tbl q_arr_bool)) (fun _ h => h)
  have h : ∀ k, ∃ cA, k < 7 → ArrOfT s cA (x_el k) ∧ va_RA s cA (x_el k) := by
    intro k
    by_cases hk : k < 7
    · have : k = 0 ∨ k = 1 ∨ k = 2 ∨ k = 3 ∨ k = 4 ∨ k = 5 ∨ k = 6 := by omega
      rcases this with rfl | rfl | rfl | rfl | rfl | rfl | rfl
      · obtain ⟨c, h⟩ := a0; exact ⟨c, fun _ => h⟩
      · obtain ⟨c, h⟩ := a1; exact ⟨c, fun _ => h⟩
      · obtain ⟨c, h⟩ := a2; exact ⟨c, fun _ => h⟩
      · obtain ⟨c, h⟩ := a3; exact ⟨c, fun _ => h⟩
      · obtain ⟨c, h⟩ := a4; exact ⟨c, fun _ => h⟩
      · obtain ⟨c, h⟩ := a5; exact ⟨c, fun _ => h⟩
      · obtain ⟨c, h⟩ := a6; exact ⟨c, fun _ => h⟩
    · exact ⟨0, fun h => absurd h hk⟩
  obtain ⟨z, hz⟩ := Classical.axiomOfChoice h
  exact ⟨z, hz⟩
theorem k_nw (htb : ∀ w ∈ lw_tbl, w.before args s = true) (hnc : (Cond.not (.castable "java/lang/IllegalArgumentException" "java/util/NoSuchElementException")).before args s = true) : xNw s := by
  refine ⟨fun w hw hb => va_Nw.of ?_ (htb w hw), fun x h1 h2 h3 => va_Nw.of rfl (htb _ h3), fun C h => va_AO.of (htb _ h), va_Nc.of hnc, x_ao2 (Vm.Alike.refl _) (htb _ q1465)⟩
  cases w <;> first | rfl | (exact absurd hb (by simp [xbad]))
/-- a search undoes an injective table -/
theorem k_inv {n : Nat} {f : Nat → Nat} (hf : ∀ i j, i < n → j < n → f i = f j → i = j) : ∃ v : Nat → Option Nat, (∀ q k, v q = some k → k < n ∧ q = f k) ∧ ∀ k, k < n → v (f k) = some k := by
  refine ⟨fun q => (List.range n).find? (fun k => decide (f k = q)), fun q k h => ?_, fun k hk => ?_⟩
  · have h1 := List.find?_some (p := fun k => decide (f k = q)) h
    have h1 : decide (f k = q) = true := h1
    have h2 := List.mem_of_find?_eq_some h
    exact ⟨List.mem_range.mp h2, (of_decide_eq_true h1).symm⟩
  · cases h : (List.range n).find? (fun j => decide (f j = f k)) with
    | none =>
      rw [List.find?_eq_none] at h
      exact absurd (decide_eq_true rfl) (h k (List.mem_range.mpr hk))
    | some j =>
      have h0 := List.find?_some (p := fun j => decide (f j = f k)) h
      have h0 : decide (f j = f k) = true := h0
      have h1 := of_decide_eq_true h0
      have h2 := List.mem_range.mp (List.mem_of_find?_eq_some h)
      show (List.range n).find? (fun j => decide (f j = f k)) = some k
      rw [h]
      exact congrArg some (hf j k h2 hk h1)
theorem k_optZ {C n d : String} {A : Nat → Prop} (h : va_Zq C n d A s s.heap) : ∃ a b : Nat, va_Z C n d (va_rf (if a = 0 then none else some b)) A s s.heap := by
  rcases h with h | ⟨t, h⟩
  · exact ⟨0, 0, h⟩
  · exact ⟨1, t, h⟩
end GV
section GW
variable {args : Array Value} {s : State} {A : Nat → Prop}
def kStr (i : Nat) : Term := .string "DripCups$Reader" (x_str.getD i (0, "")).1
def kNar : List Cond := flatC (Jvm.Cond.and given_1 narrow_1)
def kE : List Nat := [93, 102, 112, 122, 134, 148, 161, 174, 189, 210, 226, 243, 260]
theorem kn_1 : ∀ i, i < 13 → kNar[kE.getD i 0]? = some (Cond.exactly (kStr i) "java/lang/String") ∧ kNar[kE.getD i 0 + 1]? = some (Cond.eq (.field (kStr i) "java/lang/String" "coder" "B") (.int 0)) ∧ kNar[kE.getD i 0 + 2]? = some (Cond.arrayOf (.field (kStr i) "java/lang/String" "value" "[B") .byte) ∧ kNar[kE.getD i 0 + 3]? = some (Cond.eq (.length (.field (kStr i) "java/lang/String" "value" "[B")) (.int (Int32.ofNat (x_slen.getD i 0)))) := by decide +kernel
theorem kn_2 : ∀ i, i < 13 → ∀ j, j < x_slen.getD i 0 → kNar[kE.getD i 0 + 4 + j]? = some (Cond.eq (.elem (.field (kStr i) "java/lang/String" "value" "[B") (.int (Int32.ofNat j))) (.int ((x_sbyt.getD i []).getD j 0))) := by decide +kernel
theorem kn_3 : ∀ j, j < 13 → ∀ i, i < j → kNar[kE.getD j 0 + 4 + x_slen.getD j 0 + i]? = some (Cond.not (Cond.eq (kStr i) (kStr j))) := by decide +kernel
theorem kn_ex (i : Nat) (hi : i < 13) : (Cond.exactly (kStr i) "java/lang/String") ∈ kNar := List.mem_of_getElem? (kn_1 i hi).1
theorem kn_co (i : Nat) (hi : i < 13) : (Cond.eq (.field (kStr i) "java/lang/String" "coder" "B") (.int 0)) ∈ kNar := List.mem_of_getElem? (kn_1 i hi).2.1
theorem kn_ar (i : Nat) (hi : i < 13) : (Cond.arrayOf (.field (kStr i) "java/lang/String" "value" "[B") .byte) ∈ kNar := List.mem_of_getElem? (kn_1 i hi).2.2.1
theorem kn_le (i : Nat) (hi : i < 13) : (Cond.eq (.length (.field (kStr i) "java/lang/String" "value" "[B")) (.int (Int32.ofNat (x_slen.getD i 0)))) ∈ kNar := List.mem_of_getElem? (kn_1 i hi).2.2.2
theorem kn_el (i : Nat) (hi : i < 13) (j : Nat) (hj : j < x_slen.getD i 0) : (Cond.eq (.elem (.field (kStr i) "java/lang/String" "value" "[B") (.int (Int32.ofNat j))) (.int ((x_sbyt.getD i []).getD j 0))) ∈ kNar := List.mem_of_getElem? (kn_2 i hi j hj)
theorem kn_ne (i : Nat) (hi : i < 13) (j : Nat) (hj : j < 13) (h : i ≠ j) : (Cond.not (Cond.eq (kStr i) (kStr j))) ∈ kNar ∨ (Cond.not (Cond.eq (kStr j) (kStr i))) ∈ kNar := by
  by_cases z : i < j
  · exact Or.inl (List.mem_of_getElem? (kn_3 j hj i z))
  · exact Or.inr (List.mem_of_getElem? (kn_3 i hi j (by omega)))
theorem kn_sl : ∀ i, i < 13 → x_slen.getD i 0 < 2 ^ 31 := by decide
theorem k_strs (hg : ∀ c ∈ kNar, c.before args s = true) (hA : ∀ a : Nat, a < s.heap.size → ¬ A a) : ∃ adK adV : Nat → Nat, vk_S 13 x_slen x_sbyt adK adV A s s.heap ∧ ∀ i : Nat, i < 13 → (kStr i).eval args s none [] s = some (.ref (adK i)) :=
  vk_Sof kn_sl (fun i hi => hg _ (kn_ex i hi)) (fun i hi => hg _ (kn_co i hi)) (fun i hi => hg _ (kn_ar i hi)) (fun i hi => hg _ (kn_le i hi)) (fun i hi j hj => hg _ (kn_el i hi j hj)) (fun i j hi hj hne => (kn_ne i hi j hj hne).elim (fun h => Or.inl (hg _ h)) (fun h => Or.inr (hg _ h))) hA
end GW
