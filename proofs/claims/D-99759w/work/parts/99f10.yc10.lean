/-! the cave: what waits is dropped -/
def strW (a : Nat) : Nat := if a = 5 then 1 else if a = 4 then 2 else if a = 3 then 3 else if a = 6 then 4 else if a = 7 then 4 else if a = 8 then 5 else if a = 9 then 5 else 6
/-- dropping all of this strength ends here -/
def stopW (l : Nat) (ws : List Nat) : Prop := ws = [] ∨ ∃ w a, ws = w ++ [a] ∧ a < 32 ∧ (14 ≤ a ∨ strW a < l)
section YC10
variable {N : Nat} {σ : MS}
theorem k_str0 : ∀ a, a < 32 → kM_strength 0 (nI a) = some (nI (strW a)) := by decide
theorem k_opn0 : ∀ a, a < 32 → kM_isOpen 0 (nI a) = some (if 14 ≤ a then 1 else 0) := by decide
theorem r_str (N : Nat) {a : Nat} (h : a < 32) : kM_strength N (nI a) = some (nI (strW a)) := k_str0 a h
theorem r_opn (N : Nat) {a : Nat} (h : a < 32) : kM_isOpen N (nI a) = some (if 14 ≤ a then 1 else 0) := k_opn0 a h
theorem strW_le (a : Nat) : strW a ≤ 6 := by unfold strW; (repeat' split) <;> omega
theorem getD_snoc (w : List Nat) (a : Nat) : (w ++ [a]).getD w.length 0 = a := by
  rw [List.getD_eq_getElem?_getD, List.getElem?_append_right (Nat.le_refl _), Nat.sub_self]
  rfl
theorem RWs.pop {w : List Nat} {a : Nat} (h : RWs (w ++ [a]) σ) (σ1 : MS) (h1 : σ1.1 23 = nI w.length) (h2 : σ1.2.2 28 = σ.2.2 28) : RWs w σ1 := by
  refine ⟨h1, fun i hi => ?_⟩
  rw [h2, h.2 i (by rw [List.length_append]; omega), List.getD_eq_getElem?_getD, List.getD_eq_getElem?_getD, List.getElem?_append_left hi]
theorem r_drops {l : Nat} (hl : l ≤ 6) {W : List Nat} (hW : stopW l W) : ∀ (n : Nat) (pend : List Nat) (co : List Int32) (σ : MS) (f : Nat), pend.length = n → n < f → (∀ a ∈ pend, a < 14 ∧ l ≤ strW a) → RCo co σ → RWs (W ++ pend) σ → co.length + n ≤ 1400 → (W ++ pend).length ≤ 950 → ∃ σ1, kM_drops_0 N f σ (nI l) = some σ1 ∧ RCo (co ++ pend.reverse.map nI) σ1 ∧ RWs W σ1 ∧ RK [22, 23] [27] σ σ1 := by
  intro n
  induction n with
  | zero =>
    intro pend co σ f hp hf hs hC hR hn h950
    obtain ⟨f, rfl⟩ : ∃ e, f = e + 1 := ⟨f - 1, by omega⟩
    have e0 : pend = [] := List.eq_nil_of_length_eq_zero hp
    subst e0
    rw [List.append_nil] at hR h950
    refine ⟨σ, ?_, by simpa using hC, hR, fun _ _ => rfl, fun _ _ => rfl⟩
    rw [kM_drops_0]
    rcases hW with rfl | ⟨w, a, rfl, ha, h1⟩
    · exact oit (by rw [hR.1]; decide) rfl
    · have hlen : (w ++ [a]).length = w.length + 1 := by rw [List.length_append]; rfl
      have e23 : σ.1 23 = nI (w.length + 1) := by rw [hR.1, hlen]
      have e1 : σ.1 23 - 1 = nI w.length := by rw [e23, show (1 : Int32) = nI 1 from rfl, sub_nI (by omega)]; rfl
      have hld : m_ld σ 28 (σ.1 23 - 1) = some (nI a) := by
        rw [e1, r_ld (q := w.length) rfl (by show w.length < 950; omega), hR.2 w.length (by omega), getD_snoc]
      refine oif ?_ (ob1 hld (ob1 (r_opn N ha) ?_))
      · rw [e23]
        exact nI_ge (b := w.length + 1) (a := 0) (by omega) (by omega)
      · by_cases ho : 14 ≤ a
        · rw [if_pos ho]
          exact oif n10 rfl
        · rw [if_neg ho]
          refine oit rfl (ob1 hld (ob1 (r_str N ha) (oit (nI_lt ?_ (by omega)) rfl)))
          omega
  | succ n ih =>
    intro pend co σ f hp hf hs hC hR hn h950
    obtain ⟨f, rfl⟩ : ∃ e, f = e + 1 := ⟨f - 1, by omega⟩
    rcases List.eq_nil_or_concat pend with e | ⟨p, a, e⟩
    · rw [e] at hp
      cases hp
    · have e : pend = p ++ [a] := by rw [e, List.concat_eq_append]
      subst e
      have hpl : p.length = n := by
        have : (p ++ [a]).length = p.length + 1 := by rw [List.length_append]; rfl
        omega
      obtain ⟨ha, hsa⟩ := hs a (List.mem_append_right _ (List.mem_singleton.mpr rfl))
      rw [← List.append_assoc] at hR h950
      have hlen : ((W ++ p) ++ [a]).length = (W ++ p).length + 1 := by rw [List.length_append]; rfl
      have e23 : σ.1 23 = nI ((W ++ p).length + 1) := by rw [hR.1, hlen]
      have e1 : σ.1 23 - 1 = nI (W ++ p).length := by rw [e23, show (1 : Int32) = nI 1 from rfl, sub_nI (by omega)]; rfl
      have hld : ∀ s : MS, s.2.2 28 = σ.2.2 28 → m_ld s 28 (nI (W ++ p).length) = some (nI a) := fun s h28 => by
        rw [r_ld (q := (W ++ p).length) rfl (by show (W ++ p).length < 950; omega), h28, hR.2 _ (by omega), getD_snoc]
      have hC8 : RCo co (m_put σ 23 (nI (W ++ p).length)) := ⟨(mp_n _ _ _ (by decide)).trans hC.1, hC.2⟩
      obtain ⟨s1, k1, k2, k3⟩ := r_puts (N := N) hC8 (by omega) (nI a)
      have hR1 : RWs (W ++ p) s1 := hR.pop s1 ((k3.1 23 (by decide)).trans (mp_s _ _ _)) (k3.2 28 (by decide))
      obtain ⟨σ1, u1, u2, u3, u4⟩ := ih p (co ++ [nI a]) s1 f hpl (by omega) (fun x hx => hs x (List.mem_append_left _ hx)) k2 hR1 (by rw [List.length_append]; show co.length + 1 + n ≤ 1400; omega) (by omega)
      refine ⟨σ1, ?_, ?_, u3, ?_⟩
      · rw [kM_drops_0]
        refine oif ?_ ?_
        · rw [e23]
          exact nI_ge (b := (W ++ p).length + 1) (a := 0) (by omega) (by omega)
        · rw [e1]
          have ha32 : a < 32 := by omega
          have ho : ¬ 14 ≤ a := by omega
          have hs6 := strW_le a
          refine ob1 (hld σ rfl) (ob1 (r_opn N ha32) ?_)
          rw [if_neg ho]
          refine oit rfl (ob1 (hld σ rfl) (ob1 (r_str N ha32) (oif (nI_nlt hsa (by omega)) (onb rfl ?_))))
          show ((m_ld (m_put σ 23 (nI (W ++ p).length)) 28 ((m_put σ 23 (nI (W ++ p).length)).1 23)).bind _) = _
          rw [mp_s]
          exact ob1 (hld _ rfl) (ob1 k1 u1)
      · rw [List.reverse_append]
        simpa using u2
      · refine ⟨fun j hj => ?_, fun j hj => ?_⟩
        · rw [u4.1 j hj, k3.1 j (fun z => hj (by simp at z ⊢; omega)), mp_n _ _ _ (fun z => hj (by simp; omega))]
        · rw [u4.2 j hj, k3.2 j hj]
          rfl
end YC10
