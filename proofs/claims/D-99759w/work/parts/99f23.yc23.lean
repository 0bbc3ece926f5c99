/-! the cave: the reference's levels, the loops -/
/-- an error comes out -/
def RErr (N sz : Nat) (t : TK) (σ : MS) (G : (MS → Option MS) → Option MS) (e : Nat × TK) : Prop := ∃ k σ1, (∀ f, G (fun w => kM_expression_29 N (f + k) w 1) = kM_expression_345 N σ1) ∧ k + t.2.1 ≤ sz + 2 ∧ RBd e σ1 ∧ RKx σ σ1
/-- a form comes out -/
def ROk (N sz : Nat) (b : Nat → Nat) (l d : Nat) (W : List Nat) (co : List Int32) (te : Int32) (t : TK) (σ : MS) (G : (MS → Option MS) → Option MS) (x : VF × TK) : Prop := ∃ k σ1 out pend te1, (∀ f, G (fun w => kM_expression_29 N (f + k) w 1) = kM_expression_29 N f σ1 1) ∧ k + t.2.1 ≤ x.2.2.1 ∧ RY sz b (W ++ pend) (co ++ out) d te1 x.2 σ1 ∧ RBr (W ++ pend) (co ++ out) x.2 ∧ Seg (out ++ pend.reverse.map nI) x.1 ∧ pOk l pend ∧ (5 ≤ l → te1 = te) ∧ RKx σ σ1 ∧ (∀ i, i < d → σ1.2.2 29 i = σ.2.2 29 i) ∧ Ex b l te1 x.2
def ROut (N sz : Nat) (b : Nat → Nat) (l d : Nat) (W : List Nat) (co : List Int32) (te : Int32) (t : TK) (σ : MS) (G : (MS → Option MS) → Option MS) : PR (VF × TK) → Prop
  | .inr x => ROk N sz b l d W co te t σ G x
  | .inl e => RErr N sz t σ G e
section YC23
variable {N sz : Nat} {b : Nat → Nat} {W pend : List Nat} {co : List Int32} {d l : Nat} {te te0 : Int32} {t t0 : TK} {σ σ1 : MS}
theorem RErr.pre {G G1 : (MS → Option MS) → Option MS} {k1 : Nat} {e : Nat × TK} (hG : ∀ f, G (fun w => kM_expression_29 N (f + k1) w 1) = G1 (fun w => kM_expression_29 N f w 1)) (hk : k1 + t0.2.1 ≤ t.2.1) (hf : RKx σ σ1) (h : RErr N sz t σ1 G1 e) : RErr N sz t0 σ G e := by
  obtain ⟨k, σ2, h1, h2, h3, h4⟩ := h
  refine ⟨k + k1, σ2, fun f => ?_, by omega, h3, hf.trans h4⟩
  have := hG (f + k)
  rw [Nat.add_assoc] at this
  exact this.trans (h1 f)
theorem ROk.pre {G G1 : (MS → Option MS) → Option MS} {k1 : Nat} {x : VF × TK} (hG : ∀ f, G (fun w => kM_expression_29 N (f + k1) w 1) = G1 (fun w => kM_expression_29 N f w 1)) (hk : k1 + t0.2.1 ≤ t.2.1) (hf : RKx σ σ1) (h29 : ∀ i, i < d → σ1.2.2 29 i = σ.2.2 29 i) (ht : 5 ≤ l → te = te0) (h : ROk N sz b l d W co te t σ1 G1 x) : ROk N sz b l d W co te0 t0 σ G x := by
  obtain ⟨k, σ2, out, pend, te1, h1, h2, h3, h4, h5, h6, h7, h8, h9, h10⟩ := h
  refine ⟨k + k1, σ2, out, pend, te1, fun f => ?_, by omega, h3, h4, h5, h6, fun z => (h7 z).trans (ht z), hf.trans h8, fun i hi => (h9 i hi).trans (h29 i hi), h10⟩
  have := hG (f + k)
  rw [Nat.add_assoc] at this
  exact this.trans (h1 f)
theorem ROut.pre {G G1 : (MS → Option MS) → Option MS} {k1 : Nat} {r : PR (VF × TK)} (hG : ∀ f, G (fun w => kM_expression_29 N (f + k1) w 1) = G1 (fun w => kM_expression_29 N f w 1)) (hk : k1 + t0.2.1 ≤ t.2.1) (hf : RKx σ σ1) (h29 : ∀ i, i < d → σ1.2.2 29 i = σ.2.2 29 i) (ht : 5 ≤ l → te = te0) (h : ROut N sz b l d W co te t σ1 G1 r) : ROut N sz b l d W co te0 t0 σ G r := by
  cases r with
  | inl e => exact RErr.pre hG hk hf h
  | inr x => exact ROk.pre hG hk hf h29 ht h
theorem stopW.mono {l l2 : Nat} {W : List Nat} (h : stopW l W) (hl : l ≤ l2) : stopW l2 W := by
  rcases h with h | ⟨w, a, h1, h2, h3⟩
  · exact Or.inl h
  · exact Or.inr ⟨w, a, h1, h2, by omega⟩
theorem stopW.snoc {l a : Nat} {W : List Nat} (ha : a < 32) (h : strW a < l) : stopW l (W ++ [a]) := Or.inr ⟨W, a, rfl, ha, Or.inr h⟩
theorem Ex.le {l l2 : Nat} (h : Ex b l te t) (hl : l ≤ l2) : Ex b l2 te t := ⟨fun z => h.1 (by omega), fun z => h.2.1 (by omega), fun z => h.2.2.1 (by omega), fun z => h.2.2.2.1 (by omega), fun z => h.2.2.2.2 (by omega)⟩
/-- a loop of items with signs between -/
theorem r_loop {op : TK → Option Nat} {item : TK → PR (VF × TK)} {x2 : Int32}
    (hst : ∀ (W pend : List Nat) (co : List Int32) (te : Int32) (t : TK) (σ : MS) (c : Nat), RY sz b (W ++ pend) co d te t σ → RBr (W ++ pend) co t → stopW l W → pOk l pend → op t = some c → RSt N sz b l x2 W pend co d te t σ c)
    (hl4 : l ≠ 4) (hop : ∀ (te : Int32) (t : TK), Ex b (l + 1) te t → op t = none → Ex b l te t)
    (hi : ∀ (W : List Nat) (co : List Int32) (te : Int32) (t : TK) (σ : MS), RY sz b W co d te t σ → RBr W co t → stopW (l + 1) W → (l + 1 ≤ 4 → te = 0) → ROut N sz b (l + 1) d W co te t σ (fun F => (kM_operand N σ x2).bind F) (item t)) :
    ∀ (n : Nat) (W pend : List Nat) (co out : List Int32) (te te0 : Int32) (t : TK) (σ : MS) (φ : VF), sz < n + t.2.1 → RY sz b (W ++ pend) (co ++ out) d te t σ → RBr (W ++ pend) (co ++ out) t → stopW l W → pOk l pend → Seg (out ++ pend.reverse.map nI) φ → (5 ≤ l → te = te0) → Ex b (l + 1) te t → ROut N sz b l d W co te0 t σ (fun F => F σ) (pLoop sz b op item n (φ, t)) := by
  intro n
  induction n with
  | zero =>
    intro W pend co out te te0 t σ φ hn hY
    have h1 := hY.2.2.2.1.1
    have h2 := hY.2.2.2.1.2.1
    omega
  | succ n ih =>
    intro W pend co out te te0 t σ φ hn hY hB hW hp hS ht hx
    have hk := hY.2.2.2.1
    cases ho : op t with
    | none =>
      have e : pLoop sz b op item (n + 1) (φ, t) = .inr (φ, t) := by
        unfold pLoop
        dsimp only
        rw [ho]
      rw [e]
      exact ⟨0, σ, out, pend, te, fun f => rfl, by show 0 + t.2.1 ≤ t.2.1; omega, hY, hB, hS, hp, ht, RKx.refl _, fun _ _ => rfl, hop te t hx ho⟩
    | some c =>
      have e : pLoop sz b op item (n + 1) (φ, t) = pB (item (nxT sz b t)) fun y => pLoop sz b op item n ((fun w => yBy c (φ w) (y.1 w)), y.2) := by
        rw [pLoop]
        dsimp only
        rw [ho]
      rw [e]
      obtain ⟨h0, hc, hsw, σ1, te1, s1, s2, s3, s4, s5, s6, s7, s8⟩ := hst W pend (co ++ out) te t σ c hY hB hW hp ho
      obtain ⟨o1, o2⟩ := opc_r hc
      have hnx := (nxT_ok hk).2
      have hk1 := hk.1
      have hlt : t.2.1 < (nxT sz b t).2.1 := nxT_lt hk h0
      have hit := hi (W ++ [opc c]) ((co ++ out) ++ pend.reverse.map nI) te1 (nxT sz b t) σ1 s2 s3 (stopW.snoc (by omega) (by omega)) (fun z => s4 (by omega))
      cases hv : item (nxT sz b t) with
      | inl e1 =>
        rw [hv] at hit
        exact RErr.pre (G := fun F => F σ) (k1 := 1) (fun f => s1 f) (by omega) s7 hit
      | inr y =>
        rw [hv] at hit
        obtain ⟨k2, σ2, out2, pend2, te2, q1, q2, q3, q4, q5, q6, q7, q8, q9, q10⟩ := hit
        have eW : (W ++ [opc c]) ++ pend2 = W ++ ([opc c] ++ pend2) := List.append_assoc _ _ _
        have eC : ((co ++ out) ++ pend.reverse.map nI) ++ out2 = co ++ ((out ++ pend.reverse.map nI) ++ out2) := by simp [List.append_assoc]
        rw [eW, eC] at q3 q4
        have hS2 : Seg (((out ++ pend.reverse.map nI) ++ out2) ++ ([opc c] ++ pend2).reverse.map nI) (fun w => yBy c (φ w) (y.1 w)) := by
          have := seg_bin hS q5 hc
          have e3 : (((out ++ pend.reverse.map nI) ++ out2) ++ ([opc c] ++ pend2).reverse.map nI) = (out ++ pend.reverse.map nI) ++ (out2 ++ pend2.reverse.map nI) ++ [nI (opc c)] := by simp [List.append_assoc]
          rw [e3]
          exact this
        have hp2 : pOk l ([opc c] ++ pend2) := fun a ha => by
          rcases List.mem_append.mp ha with z | z
          · rw [List.mem_singleton.mp z]
            exact ⟨by omega, by omega⟩
          · have := q6 a z
            exact ⟨this.1, by omega⟩
        have hn2 : sz < n + y.2.2.1 := by omega
        have := ih W ([opc c] ++ pend2) co ((out ++ pend.reverse.map nI) ++ out2) te2 te0 y.2 σ2 (fun w => yBy c (φ w) (y.1 w)) hn2 q3 q4 hW hp2 hS2 (fun z => ((q7 (by omega)).trans (s6 z)).trans (ht z)) q10
        refine ROut.pre (G := fun F => F σ) (k1 := k2 + 1) (te := te0) (fun f => ?_) (by omega) (s7.trans q8) (fun i hi => (q9 i hi).trans (s8 i hi)) (fun _ => rfl) this
        exact (s1 (f + k2)).trans (q1 f)
theorem r_chain {op : TK → Option Nat} {item : TK → PR (VF × TK)} {x2 : Int32} {G : (MS → Option MS) → Option MS}
    (hst : ∀ (W pend : List Nat) (co : List Int32) (te : Int32) (t : TK) (σ : MS) (c : Nat), RY sz b (W ++ pend) co d te t σ → RBr (W ++ pend) co t → stopW l W → pOk l pend → op t = some c → RSt N sz b l x2 W pend co d te t σ c)
    (hl4 : l ≠ 4) (hop : ∀ (te : Int32) (t : TK), Ex b (l + 1) te t → op t = none → Ex b l te t)
    (hi : ∀ (W : List Nat) (co : List Int32) (te : Int32) (t : TK) (σ : MS), RY sz b W co d te t σ → RBr W co t → stopW (l + 1) W → (l + 1 ≤ 4 → te = 0) → ROut N sz b (l + 1) d W co te t σ (fun F => (kM_operand N σ x2).bind F) (item t))
    (hW : stopW l W) (hs : ROut N sz b (l + 1) d W co te t σ G (item t)) : ROut N sz b l d W co te t σ G (pB (item t) (pLoop sz b op item (sz + 1))) := by
  cases hv : item t with
  | inl e => rw [hv] at hs; exact hs
  | inr x =>
    rw [hv] at hs
    obtain ⟨k, σ2, out, pend, te1, q1, q2, q3, q4, q5, q6, q7, q8, q9, q10⟩ := hs
    have hk := q3.2.2.2.1
    have := r_loop hst hl4 hop hi (sz + 1) W pend co out te1 te x.2 σ2 x.1 (by omega) q3 q4 hW (fun a ha => ⟨(q6 a ha).1, by have := (q6 a ha).2; omega⟩) q5 (fun z => q7 (by omega)) q10
    exact ROut.pre (te := te) (fun f => q1 f) q2 q8 q9 (fun _ => rfl) this
end YC23
