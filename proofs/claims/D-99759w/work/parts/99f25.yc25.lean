/-! the cave: the reference's levels, up to the whole expression -/
section YC25
variable {N sz : Nat} {b : Nat → Nat} {W pend : List Nat} {co : List Int32} {d l : Nat} {te te0 : Int32} {t t0 : TK} {σ σ1 : MS}
theorem lv_cmp (hN : 2 ^ 20 < N) {rec : TK → PR (VF × TK)} (h : LvB N sz b d 5 (pSum sz b rec)) : LvB N sz b d 4 (pCmp sz b rec) := by
  intro f1 x2 W co te t σ hf hY hB hW ht
  obtain rfl := ht (Nat.le_refl _)
  have hs := h f1 x2 W co 0 t σ hf hY hB (hW.mono (by decide)) (fun z => by omega)
  show ROut N sz b 4 d W co 0 t σ _ (pB (pSum sz b rec t) (pLoop sz b (opC b) (pSum sz b rec) 1))
  cases hv : pSum sz b rec t with
  | inl e => rw [hv] at hs; exact hs
  | inr x =>
    rw [hv] at hs
    obtain ⟨k, σ2, out, pend, te1, q1, q2, q3, q4, q5, q6, q7, q8, q9, q10⟩ := hs
    have e1 := q7 (by decide)
    subst e1
    have hk := q3.2.2.2.1
    have hp4 : pOk 4 pend := fun a ha => ⟨(q6 a ha).1, by have := (q6 a ha).2; omega⟩
    show ROut N sz b 4 d W co 0 t σ _ (pLoop sz b (opC b) (pSum sz b rec) 1 x)
    cases ho : opC b x.2 with
    | none =>
      have e : pLoop sz b (opC b) (pSum sz b rec) 1 x = .inr x := by
        rw [pLoop, ho]
      rw [e]
      exact ⟨k, σ2, out, pend, 0, q1, q2, q3, q4, q5, hp4, fun _ => rfl, q8, q9, ⟨fun _ => q10.1 (by decide), fun _ => q10.2.1 (by decide), fun _ => Or.inr ho, fun z => by omega, fun z => by omega⟩⟩
    | some c =>
      have e : pLoop sz b (opC b) (pSum sz b rec) 1 x = pB (pSum sz b rec (nxT sz b x.2)) fun y => .inr ((fun w => yBy c (x.1 w) (y.1 w)), y.2) := by
        rw [pLoop, ho]
        rfl
      rw [e]
      obtain ⟨h0, hc, hsw, σ3, te3, s1, s2, s3, s4, s5, s6, s7, s8⟩ := st_C hN q3 q4 hW hp4 ho
      have e3 := s5 rfl
      subst e3
      obtain ⟨o1, o2⟩ := opc_r hc
      have hlt := nxT_lt hk h0
      have hit := LvB.item hN h (W ++ [opc c]) ((co ++ out) ++ pend.reverse.map nI) 1 (nxT sz b x.2) σ3 s2 s3 (stopW.snoc (by omega) (by omega)) (fun z => by omega)
      cases hv2 : pSum sz b rec (nxT sz b x.2) with
      | inl e1 =>
        rw [hv2] at hit
        refine RErr.pre (k1 := k + 1) (t := nxT sz b x.2) (fun f => ?_) (by omega) (q8.trans s7) hit
        have h1 := q1 (f + 1)
        rw [show f + 1 + k = f + (k + 1) by omega] at h1
        exact h1.trans (s1 f)
      | inr y =>
        rw [hv2] at hit
        obtain ⟨k2, σ4, out2, pend2, te2, r1, r2, r3, r4, r5, r6, r7, r8, r9, r10⟩ := hit
        have e2 := r7 (by decide)
        subst e2
        have eW : (W ++ [opc c]) ++ pend2 = W ++ ([opc c] ++ pend2) := List.append_assoc _ _ _
        have eC : ((co ++ out) ++ pend.reverse.map nI) ++ out2 = co ++ ((out ++ pend.reverse.map nI) ++ out2) := by simp [List.append_assoc]
        rw [eW, eC] at r3 r4
        have hS2 : Seg (((out ++ pend.reverse.map nI) ++ out2) ++ ([opc c] ++ pend2).reverse.map nI) (fun w => yBy c (x.1 w) (y.1 w)) := by
          have := seg_bin q5 r5 hc
          have e3 : (((out ++ pend.reverse.map nI) ++ out2) ++ ([opc c] ++ pend2).reverse.map nI) = (out ++ pend.reverse.map nI) ++ (out2 ++ pend2.reverse.map nI) ++ [nI (opc c)] := by simp [List.append_assoc]
          rw [e3]
          exact this
        have hp2 : pOk 4 ([opc c] ++ pend2) := fun a ha => by
          rcases List.mem_append.mp ha with z | z
          · rw [List.mem_singleton.mp z]
            exact ⟨by omega, by omega⟩
          · have := r6 a z
            exact ⟨this.1, by omega⟩
        refine ⟨k2 + (k + 1), σ4, _, _, 1, fun f => ?_, by show k2 + (k + 1) + t.2.1 ≤ y.2.2.1; omega, r3, r4, hS2, hp2, fun z => by omega, (q8.trans s7).trans r8, fun i hi => ((r9 i hi).trans (s8 i hi)).trans (q9 i hi), ⟨fun _ => r10.1 (by decide), fun _ => r10.2.1 (by decide), fun _ => Or.inl rfl, fun z => by omega, fun z => by omega⟩⟩
        have h1 := q1 (f + k2 + 1)
        rw [show f + k2 + 1 + k = f + (k2 + (k + 1)) by omega] at h1
        exact (h1.trans (s1 (f + k2))).trans (r1 f)
theorem seg_nots {s1 : List Int32} {φ : VF} (h : Seg s1 φ) : ∀ q, Seg (s1 ++ (List.replicate q 3).map nI) (yRep vNot q φ) := by
  intro q
  induction q with
  | zero =>
    have e : s1 ++ (List.replicate 0 3).map nI = s1 := by simp
    rw [e]
    exact h
  | succ q ih =>
    have := seg_not ih
    have e : s1 ++ (List.replicate (q + 1) 3).map nI = s1 ++ (List.replicate q 3).map nI ++ [3] := by
      rw [List.replicate_succ', List.map_append, List.append_assoc]
      rfl
    rw [e]
    exact this
def RNt (N sz : Nat) (b : Nat → Nat) (W : List Nat) (co : List Int32) (d : Nat) (te : Int32) (σ : MS) (X : Option MS) (K4 : MS → Int32 → Int32 → Option MS) : PR (Nat × TK) → Prop
  | .inr x => ∃ σ1, X = kM_operand_75 N K4 σ1 1 ∧ RY sz b (W ++ List.replicate x.1 3) co d te x.2 σ1 ∧ RBr (W ++ List.replicate x.1 3) co x.2 ∧ RKx σ σ1 ∧ σ1.2.2 29 = σ.2.2 29
  | .inl e => ∃ σ1, X = kM_operand_75 N K4 σ1 1 ∧ RBd e σ1 ∧ RKx σ σ1
theorem r_nots (hN : 2 ^ 20 < N) (K4 : MS → Int32 → Int32 → Option MS) : ∀ (m k f : Nat) (W : List Nat) (t : TK) (σ : MS), k + m = 6 → m + 2 ≤ f → RY sz b W co d te t σ → RBr W co t → RNt N sz b W co d te σ (kM_operand_18 N K4 f σ 1 (nI k)) K4 (pNots sz b m t) := by
  intro m
  induction m with
  | zero =>
    intro k f W t σ hk hf hY hB
    obtain ⟨f, rfl⟩ : ∃ g, f = g + 2 := ⟨f - 2, by omega⟩
    have e6 : nI k = 6 := by rw [show k = 6 by omega]; rfl
    by_cases hw : wd b t 9 = true
    · have e : pNots sz b 0 t = .inl (2, t) := by rw [pNots, if_pos hw]
      have kn : knI b t = 11 := knI_of (k := 11) (by decide) hw
      have hkk := hY.2.2.2.1
      have h7 := hY.2.1.2.1
      have hz := hkk.2.1
      have hle := hkk.1
      obtain ⟨b1, b2⟩ := hB
      obtain ⟨σ1, k1, k2, k3, -, -, -⟩ := hY.wrong (N := N) (k := 2) (by omega) (by omega) (by decide)
      rw [e]
      refine ⟨σ1, ?_, k2, k3⟩
      rw [kM_operand_18]
      refine ob1 hY.good (oif n10 (oif n10 (ob1 (hY.known hN) (oit kn (oit e6 (ob1 k1 ?_))))))
      unfold kM_operand_50
      refine ob1 k2.bad (oit rfl ?_)
      rw [kM_operand_18]
      exact ob1 k2.bad (oit rfl rfl)
    · have e : pNots sz b 0 t = .inr (0, t) := by rw [pNots, if_neg hw]
      have kn : knI b t ≠ 11 := fun z => hw ((knI_iff (k := 11) (by decide)).mp z)
      rw [e]
      refine ⟨σ, ?_, by rw [List.replicate_zero, List.append_nil]; exact hY, by rw [List.replicate_zero, List.append_nil]; exact hB, RKx.refl _, rfl⟩
      rw [kM_operand_18]
      exact ob1 hY.good (oif n10 (oif n10 (ob1 (hY.known hN) (oif kn rfl))))
  | succ m ih =>
    intro k f W t σ hk hf hY hB
    obtain ⟨f, rfl⟩ : ∃ g, f = g + 1 := ⟨f - 1, by omega⟩
    have e6 : ¬ nI k = 6 := fun z => by
      have := (nI_eq (b := 6) (by omega) (by omega)).mp z
      omega
    by_cases hw : wd b t 9 = true
    · have e : pNots sz b (m + 1) t = pB (pNots sz b m (nxT sz b t)) fun x => .inr (x.1 + 1, x.2) := by rw [pNots, if_pos hw]
      have kn : knI b t = 11 := knI_of (k := 11) (by decide) hw
      have h0 : t.1 ≠ 0 := by have := wd_1 hw; omega
      have hkk := hY.2.2.2.1
      have h7 := hY.2.1.2.1
      have hz := hkk.2.1
      have hlt := nxT_lt hkk h0
      have hle := hkk.1
      obtain ⟨b1, b2⟩ := hB
      obtain ⟨σ2, q1, q2, q3, q4⟩ := hY.waits (N := N) (a := 3) (by omega) (by decide)
      obtain ⟨σ3, r1, r2, r3, r4⟩ := q2.goes hN
      have hB3 : RBr (W ++ [3]) co (nxT sz b t) := by
        refine ⟨?_, ?_⟩ <;> rw [List.length_append]
        · show W.length + 1 ≤ _
          omega
        · show co.length + (W.length + 1) + 4 ≤ _
          omega
      have hst : kM_operand_18 N K4 (f + 1) σ 1 (nI k) = kM_operand_18 N K4 f σ3 1 (nI (k + 1)) := by
        rw [kM_operand_18]
        refine ob1 hY.good (oif n10 (oif n10 (ob1 (hY.known hN) (oit kn (oif e6 ?_)))))
        unfold kM_operand_50
        refine ob1 hY.good (oif n10 (ob1 q1 (ob1 r1 ?_)))
        rw [nI_1]
      have := ih (k + 1) f (W ++ [3]) (nxT sz b t) σ3 (by omega) (by omega) r2 hB3
      rw [hst, e]
      cases hv : pNots sz b m (nxT sz b t) with
      | inl e1 =>
        rw [hv] at this
        obtain ⟨σ1, u1, u2, u3⟩ := this
        exact ⟨σ1, u1, u2, (q3.trans r3).trans u3⟩
      | inr x =>
        rw [hv] at this
        obtain ⟨σ1, u1, u2, u3, u4, u5⟩ := this
        have eW : (W ++ [3]) ++ List.replicate x.1 3 = W ++ List.replicate (x.1 + 1) 3 := by rw [List.append_assoc]; rfl
        rw [eW] at u2 u3
        exact ⟨σ1, u1, u2, u3, (q3.trans r3).trans u4, by rw [u5, r4, q4]⟩
    · have e : pNots sz b (m + 1) t = .inr (0, t) := by rw [pNots, if_neg hw]
      have kn : knI b t ≠ 11 := fun z => hw ((knI_iff (k := 11) (by decide)).mp z)
      rw [e]
      refine ⟨σ, ?_, by rw [List.replicate_zero, List.append_nil]; exact hY, by rw [List.replicate_zero, List.append_nil]; exact hB, RKx.refl _, rfl⟩
      rw [kM_operand_18]
      exact ob1 hY.good (oif n10 (oif n10 (ob1 (hY.known hN) (oif kn rfl))))
theorem lv_not (hN : 2 ^ 20 < N) {rec : TK → PR (VF × TK)} (h : LvB N sz b d 4 (pCmp sz b rec)) : LvA N sz b d 3 (pNot sz b rec) := by
  intro f1 W co t σ hf hY hB hW
  have hd6 := hY.2.2.2.2.2.2.2.1
  obtain ⟨f, rfl⟩ : ∃ f, f1 = f + 2 := ⟨f1 - 2, by omega⟩
  have e4 : kM_operand_4 N (f + 2) σ 1 1 = kM_operand_18 N (kM_operand_4 N (f + 1)) N σ 1 0 := by
    rw [kM_operand_4]
    exact oif n10 (ob1 hY.good (oif n10 rfl))
  have hn := r_nots (te := 0) (co := co) (d := d) (sz := sz) (b := b) hN (kM_operand_4 N (f + 1)) 6 0 N W t σ rfl (by omega) hY hB
  have e0 : kM_operand_18 N (kM_operand_4 N (f + 1)) N σ 1 (nI 0) = kM_operand_4 N (f + 2) σ 1 1 := e4.symm
  rw [e0] at hn
  have hk := hY.2.2.2.1
  have hle := hk.1
  have hz := hk.2.1
  show ROut N sz b 3 d W co 0 t σ _ (pB (pNots sz b 6 t) fun x => pB (pCmp sz b rec x.2) fun y => .inr (yRep vNot x.1 y.1, y.2))
  cases hv : pNots sz b 6 t with
  | inl e =>
    rw [hv] at hn
    obtain ⟨σ1, u1, u2, u3⟩ := hn
    exact RErr.of (σ1 := σ1) (fun F => by rw [u1, u2.op75 f 1]; rfl) u2 u3 (by omega)
  | inr x =>
    rw [hv] at hn
    obtain ⟨σ1, u1, u2, u3, u4, u5⟩ := hn
    obtain ⟨-, hq, -, -⟩ := pNots_adv 6 t x hk hv
    have hW4 : stopW 4 (W ++ List.replicate x.1 3) := by
      cases hx : x.1 with
      | zero => rw [List.replicate_zero, List.append_nil]; exact hW.mono (by decide)
      | succ q => exact Or.inr ⟨W ++ List.replicate q 3, 3, by rw [List.replicate_succ', List.append_assoc], by decide, Or.inr (by decide)⟩
    have hc := h (f + 1) 1 (W ++ List.replicate x.1 3) co 0 x.2 σ1 (by omega) u2 u3 hW4 (fun _ => rfl)
    show ROut N sz b 3 d W co 0 t σ _ (pB (pCmp sz b rec x.2) fun y => .inr (yRep vNot x.1 y.1, y.2))
    cases hv2 : pCmp sz b rec x.2 with
    | inl e =>
      rw [hv2] at hc
      exact RErr.pre (k1 := 0) (fun f => by rw [u1]; rfl) (by omega) u4 hc
    | inr y =>
      rw [hv2] at hc
      obtain ⟨k, σ2, out, pend, te1, q1, q2, q3, q4, q5, q6, q7, q8, q9, q10⟩ := hc
      rw [List.append_assoc] at q3 q4
      refine ⟨k, σ2, out, List.replicate x.1 3 ++ pend, te1, fun f => ?_, by show k + t.2.1 ≤ y.2.2.1; omega, q3, q4, ?_, fun a ha => ?_, fun z => by omega, u4.trans q8, fun i hi => by rw [q9 i hi, u5], ⟨fun _ => q10.1 (by decide), fun _ => q10.2.1 (by decide), fun _ => q10.2.2.1 (by decide), fun z => by omega, fun z => by omega⟩⟩
      · rw [u1]
        exact q1 f
      · have := seg_nots q5 x.1
        have e3 : out ++ (List.replicate x.1 3 ++ pend).reverse.map nI = out ++ pend.reverse.map nI ++ (List.replicate x.1 3).map nI := by
          rw [List.reverse_append, List.map_append, List.reverse_replicate, List.append_assoc]
        rw [e3]
        exact this
      · rcases List.mem_append.mp ha with z | z
        · rw [(List.mem_replicate.mp z).2]
          decide
        · exact ⟨(q6 a z).1, by have := (q6 a z).2; omega⟩
theorem lv_and (hN : 2 ^ 20 < N) {rec : TK → PR (VF × TK)} (h : LvA N sz b d 3 (pNot sz b rec)) : LvA N sz b d 2 (pAnd sz b rec) := by
  intro f1 W co t σ hf hY hB hW
  exact r_chain (x2 := 1) (fun W pend co te t σ c a1 a2 a3 a4 a5 => st_A hN a1 a2 a3 a4 a5) (by decide) (fun te t z1 z2 => ⟨fun _ => z1.1 (by decide), fun _ => z1.2.1 (by decide), fun _ => z1.2.2.1 (by decide), fun _ => z2, fun z => by omega⟩) (fun W co te t σ a1 a2 a3 a4 => LvA.item hN h W co te t σ a1 a2 a3 (a4 (by decide))) hW (h f1 W co t σ hf hY hB (hW.mono (by decide)))
theorem lv_or (hN : 2 ^ 20 < N) {rec : TK → PR (VF × TK)} (h : LvA N sz b d 2 (pAnd sz b rec)) : LvA N sz b d 1 (pOr sz b rec) := by
  intro f1 W co t σ hf hY hB hW
  exact r_chain (x2 := 1) (fun W pend co te t σ c a1 a2 a3 a4 a5 => st_O hN a1 a2 a3 a4 a5) (by decide) (fun te t z1 z2 => ⟨fun _ => z1.1 (by decide), fun _ => z1.2.1 (by decide), fun _ => z1.2.2.1 (by decide), fun _ => z1.2.2.2.1 (by decide), fun _ => z2⟩) (fun W co te t σ a1 a2 a3 a4 => LvA.item hN h W co te t σ a1 a2 a3 (a4 (by decide))) hW (h f1 W co t σ hf hY hB (hW.mono (by decide)))
/-- what can't begin an expression -/
theorem pOr_bad {rec : TK → PR (VF × TK)} (h : okT b t = false) : pOr sz b rec t = .inl (1, t) := by
  unfold okT at h
  rw [Bool.or_eq_false_iff] at h
  obtain ⟨h1, h2⟩ := h
  have h1 := of_decide_eq_false h1
  have e1 : pPart sz b rec t = .inl (1, t) := by
    unfold pPart
    rw [if_neg (fun z => h1 (Or.inl z)), if_neg (by rw [h2]; decide), if_neg (fun z => h1 (Or.inr z))]
  have e2 : pNots sz b 6 t = .inr (0, t) := by
    rw [pNots, if_neg (fun z => h1 (Or.inr (wd_1 z)))]
  have e3 : pCmp sz b rec t = .inl (1, t) := by
    unfold pCmp pSum pProd
    rw [e1]
    rfl
  unfold pOr pAnd pNot
  rw [e2]
  show pB (pB (pB (pCmp sz b rec t) _) _) _ = _
  rw [e3]
  rfl
theorem pExp_or (k : Nat) : pExp sz b (k + 1) t = pOr sz b (pExp sz b k) t := by
  rw [pExp]
  by_cases h : okT b t = true
  · rw [if_pos h]
  · rw [if_neg h, pOr_bad (by simpa using h)]
theorem lv_exp (hN : 2 ^ 20 < N) : ∀ j, j ≤ 6 → LvE N sz b (6 - j) (pExp sz b j) := by
  intro j
  induction j with
  | zero =>
    intro _ f1 W co te t σ hf hY hB hW
    obtain ⟨f, rfl⟩ : ∃ f, f1 = f + 1 := ⟨f1 - 1, by omega⟩
    have hk := hY.2.2.2.1
    have h7 := hY.2.1.2.1
    have hle := hk.1
    have hz := hk.2.1
    obtain ⟨b1, b2⟩ := hB
    obtain ⟨σ1, k1, k2, k3⟩ := hY.deep6 (N := N) (by omega) (by omega)
    have e : pExp sz b 0 t = .inl (if okT b t = true then 2 else 1, t) := by
      rw [pExp]
      split <;> rfl
    rw [e]
    exact RErr.of (σ1 := σ1) (fun F => by rw [k1]; show (kM_operand_4 N (f + 1) σ1 1 1).bind F = _; rw [k2.op4 f 1 1]; rfl) k2 k3 (by omega)
  | succ j ih =>
    intro hj f1 W co te t σ hf hY hB hW
    have hd : 6 - j = 6 - (j + 1) + 1 := by omega
    obtain ⟨σ1, k1, k2, k3, k4⟩ := hY.deeper (N := N) (by omega)
    have hE := ih (by omega)
    rw [hd] at hE
    have hO := lv_or hN (lv_and hN (lv_not hN (lv_cmp hN (lv_sum hN (lv_prod hN (lv_part hN hE (pExp_adv j) (by omega)))))))
    rw [pExp_or]
    have := hO f1 W co t σ1 hf k2 hB hW
    refine ROut.pre (k1 := 0) (te := 0) (fun f => ?_) (by omega) k3 (fun i hi => k4 i (by omega)) (fun _ => rfl) this
    rw [k1]
    rfl
/-- an expression in the reference -/
def RXp (N sz : Nat) (b : Nat → Nat) (co : List Int32) (σ : MS) : PR (VF × TK) → Prop
  | .inr x => ∃ σ1 seg, kM_expression N σ = some σ1 ∧ σ1.1 8 = 0 ∧ RTp sz b σ1 ∧ RT sz b x.2 σ1 ∧ RCo (co ++ seg ++ [0]) σ1 ∧ (co ++ seg ++ [0]).length + 3 ≤ 2 * x.2.2.1 ∧ Seg seg x.1 ∧ RKx σ σ1
  | .inl e => ∃ σ1, kM_expression N σ = some σ1 ∧ σ1.1 8 = nI e.1 ∧ 1 ≤ e.1 ∧ e.1 ≤ 5 ∧ σ1.1 9 = nI e.2.2.1 ∧ RKx σ σ1
theorem r_expression (hN : 2 ^ 20 < N) (h8 : σ.1 8 = 0) (hT : RTp sz b σ) (hR : RT sz b t σ) (hk : tkOk sz b t) (hC : RCo co σ) (hB : co.length + 4 ≤ 2 * t.2.1) : RXp N sz b co σ (pExp sz b 6 t) := by
  generalize hs2 : m_put (m_put σ 23 0) 24 0 = σ2
  have l2 : ∀ j, j ≠ 23 → j ≠ 24 → σ2.1 j = σ.1 j := fun j z1 z2 => by rw [← hs2]; exact (mp_n _ _ _ z2).trans (mp_n _ _ _ z1)
  have r2 : σ2.2 = σ.2 := by rw [← hs2]; rfl
  have f2 : RKx σ σ2 := by
    rw [← hs2]
    exact (RKx.put _ _ _ (by decide)).trans (RKx.put _ _ _ (by decide))
  have hY : RY sz b [] co 0 (σ2.2.2 29 0) t σ2 := ⟨(l2 8 (by decide) (by decide)).trans h8, hT.of (l2 11 (by decide) (by decide)) (by rw [r2]) (l2 9 (by decide) (by decide)), hR.of (fun j hj => l2 j (fun z => by subst z; simp at hj) (fun z => by subst z; simp at hj)) (by rw [r2]), hk, hC.of (l2 22 (by decide) (by decide)) (by rw [r2]), ⟨by rw [← hs2]; exact (mp_n _ _ _ (by decide)).trans (mp_s _ _ _), fun i hi => by simp at hi⟩, by rw [← hs2]; exact mp_s _ _ _, by decide, rfl, fun a ha => by cases ha⟩
  have hE := lv_exp (sz := sz) (b := b) hN 6 (Nat.le_refl _) N [] co _ t σ2 (by omega) hY ⟨Nat.zero_le _, by simpa using hB⟩ (Or.inl rfl)
  have e0 : kM_expression N σ = ((kM_deeper N σ2).bind fun w => kM_operand_4 N N w 1 1).bind fun w => kM_expression_29 N N w 1 := by
    unfold kM_expression
    refine ob1 (r_good h8) (oif n10 (onb rfl (onb hs2 ?_)))
    unfold kM_operand
    cases kM_deeper N σ2 <;> rfl
  have h7 := hT.2.1
  cases hv : pExp sz b 6 t with
  | inl e =>
    rw [hv] at hE
    obtain ⟨k, σ3, u1, u2, u3, u4⟩ := hE
    obtain ⟨σ4, v1, v2, v3, v4⟩ := u3.end345 (N := N) hN
    have h1 := u1 (N - k)
    rw [show N - k + k = N by omega] at h1
    exact ⟨σ4, (e0.trans h1).trans v1, v3, u3.2.1, u3.2.2.1, v4, (f2.trans u4).trans v2⟩
  | inr x =>
    rw [hv] at hE
    obtain ⟨k, σ3, out, pend, te1, u1, u2, u3, u4, u5, u6, u7, u8, u9, u10⟩ := hE
    rw [List.nil_append] at u3 u4
    have hkx := u3.2.2.2.1
    obtain ⟨c1, c2⟩ := u4
    have hzx := hkx.2.1
    have hlx := hkx.1
    rw [List.length_append] at c2
    have h1 := u1 (N - k)
    rw [show N - k + k = N by omega] at h1
    obtain ⟨σ4, v1, v2, v3, v4⟩ := u3.drops (W := []) hN (l := 0) (by decide) (Or.inl rfl) (fun a ha => ⟨(u6 a ha).1, Nat.zero_le _⟩) (by rw [List.length_append]; omega) (by simp; omega)
    obtain ⟨σ5, w1, w2, w3, w4⟩ := v2.puts (N := N) (by rw [rev_len, List.length_append]; omega) 0
    have e345 : kM_expression_345 N σ3 = some σ5 := by
      unfold kM_expression_345
      exact ob1 v1 (ob1 w1 rfl)
    obtain ⟨n, hn⟩ : ∃ n, N - k = n + 2 := ⟨N - k - 2, by omega⟩
    have e325 : kM_expression_29 N (n + 1) σ3 0 = some σ5 := by
      rw [kM_expression_29]
      refine oit rfl ?_
      unfold kM_expression_325
      refine ob1 u3.good (oif n10 (oit ?_ e345))
      rw [u3.2.2.2.2.2.2.1]
      decide
    have eout : kM_expression_29 N (n + 2) σ3 1 = some σ5 := by
      by_cases h41 : sgT b x.2 41 = true
      · refine u3.out hN u10 (f := n + 1) (ob1 (u3.s1 (by decide) h41) (oif n10 (ob1 (u3.opened0 hN (by omega) (fun a ha => (u6 a ha).1)) (oit rfl ?_))))
        unfold kM_expression_320
        exact e325
      · refine u3.out hN u10 (f := n + 1) (ob1 (u3.s0 (by decide) (sg_f h41)) (oit rfl ?_))
        unfold kM_expression_320
        exact e325
    have eC : co ++ out ++ pend.reverse.map nI ++ [0] = co ++ (out ++ pend.reverse.map nI) ++ [0] := by simp [List.append_assoc]
    rw [eC] at w2
    refine ⟨σ5, out ++ pend.reverse.map nI, (e0.trans h1).trans (by rw [hn]; exact eout), w2.1, w2.2.1, w2.2.2.1, w2.2.2.2.2.1, ?_, u5, ((f2.trans u8).trans v3).trans w3⟩
    rw [List.length_append, List.length_append, rev_len]
    show co.length + (out.length + pend.length) + 1 + 3 ≤ _
    omega
end YC25
