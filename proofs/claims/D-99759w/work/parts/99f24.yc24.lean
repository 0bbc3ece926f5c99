/-! the cave: the reference's levels -/
section YC24
variable {N sz : Nat} {b : Nat → Nat} {W pend : List Nat} {co : List Int32} {d l : Nat} {te te0 : Int32} {t t0 : TK} {σ σ1 : MS}
theorem RBd.head {e : Nat × TK} (h : RBd e σ) (f : Nat) : kM_expression_29 N (f + 1) σ 1 = kM_expression_345 N σ := by
  rw [kM_expression_29]
  refine oif n10 (ob1 h.bad (oit rfl ?_))
  unfold kM_expression_325
  exact ob1 h.bad (oit rfl rfl)
theorem RBd.part {e : Nat × TK} (h : RBd e σ) : kM_part N σ = some σ := by
  unfold kM_part
  exact ob1 h.bad (oit rfl rfl)
theorem RBd.op4 {e : Nat × TK} (h : RBd e σ) (f : Nat) (x y : Int32) : kM_operand_4 N (f + 1) σ x y = some σ := by
  have h120 : kM_operand_120 N σ = some σ := by
    unfold kM_operand_120
    exact ob1 h.part rfl
  rw [kM_operand_4]
  by_cases hy : y = 0
  · exact oit hy h120
  · exact oif hy (ob1 h.bad (oit rfl h120))
theorem RBd.op75 {e : Nat × TK} (h : RBd e σ) (f : Nat) (x : Int32) : kM_operand_75 N (kM_operand_4 N (f + 1)) σ x = some σ := by
  unfold kM_operand_75 kM_operand_96
  exact ob1 h.bad (oit rfl (oit rfl (h.op4 f x 0)))
/-- an error stops the operand, the loop -/
theorem RErr.of {e : Nat × TK} {G : (MS → Option MS) → Option MS} (hG : ∀ F, G F = F σ1) (h : RBd e σ1) (hf : RKx σ σ1) (ht : t.2.1 ≤ sz) : RErr N sz t σ G e := ⟨1, σ1, fun f => (hG _).trans (h.head f), by omega, h, hf⟩
def LvB (N sz : Nat) (b : Nat → Nat) (d l : Nat) (P : TK → PR (VF × TK)) : Prop := ∀ (f1 : Nat) (x2 : Int32) (W : List Nat) (co : List Int32) (te : Int32) (t : TK) (σ : MS), 8 ≤ f1 + d → RY sz b W co d te t σ → RBr W co t → stopW l W → (l ≤ 4 → te = 0) → ROut N sz b l d W co te t σ (fun F => (kM_operand_75 N (kM_operand_4 N f1) σ x2).bind F) (P t)
def LvA (N sz : Nat) (b : Nat → Nat) (d l : Nat) (P : TK → PR (VF × TK)) : Prop := ∀ (f1 : Nat) (W : List Nat) (co : List Int32) (t : TK) (σ : MS), 9 ≤ f1 + d → RY sz b W co d 0 t σ → RBr W co t → stopW l W → ROut N sz b l d W co 0 t σ (fun F => (kM_operand_4 N f1 σ 1 1).bind F) (P t)
def LvE (N sz : Nat) (b : Nat → Nat) (d : Nat) (P : TK → PR (VF × TK)) : Prop := ∀ (f1 : Nat) (W : List Nat) (co : List Int32) (te : Int32) (t : TK) (σ : MS), 9 ≤ f1 + (d + 1) → RY sz b W co d te t σ → RBr W co t → stopW 1 W → ROut N sz b 1 (d + 1) W co 0 t σ (fun F => ((kM_deeper N σ).bind fun w => kM_operand_4 N f1 w 1 1).bind F) (P t)
theorem LvB.item (hN : 2 ^ 20 < N) {P : TK → PR (VF × TK)} (h : LvB N sz b d l P) (W : List Nat) (co : List Int32) (te : Int32) (t : TK) (σ : MS) (h1 : RY sz b W co d te t σ) (h2 : RBr W co t) (h3 : stopW l W) (h4 : l ≤ 4 → te = 0) : ROut N sz b l d W co te t σ (fun F => (kM_operand N σ 0).bind F) (P t) := by
  obtain ⟨n, hn⟩ : ∃ n, N = n + 1 := ⟨N - 1, by omega⟩
  have e : kM_operand N σ 0 = kM_operand_75 N (kM_operand_4 N n) σ 0 := by
    unfold kM_operand
    have e1 : kM_operand_4 N (n + 1) σ 0 1 = kM_operand_18 N (kM_operand_4 N n) N σ 0 0 := by
      rw [kM_operand_4]
      exact oif n10 (ob1 h1.good (oif n10 rfl))
    have e2 : kM_operand_18 N (kM_operand_4 N n) (n + 1) σ 0 0 = kM_operand_75 N (kM_operand_4 N n) σ 0 := by
      rw [kM_operand_18]
      exact ob1 h1.good (oif n10 (oit rfl rfl))
    rw [← hn] at e1 e2
    exact e1.trans e2
  rw [e]
  exact h n 0 W co te t σ (by omega) h1 h2 h3 h4
theorem LvA.item (hN : 2 ^ 20 < N) {P : TK → PR (VF × TK)} (h : LvA N sz b d l P) (W : List Nat) (co : List Int32) (te : Int32) (t : TK) (σ : MS) (h1 : RY sz b W co d te t σ) (h2 : RBr W co t) (h3 : stopW l W) (h4 : te = 0) : ROut N sz b l d W co te t σ (fun F => (kM_operand N σ 1).bind F) (P t) := by
  subst h4
  exact h N W co t σ (by omega) h1 h2 h3
/-- leaves and parentheses -/
theorem lv_part (hN : 2 ^ 20 < N) {rec : TK → PR (VF × TK)} (hr : LvE N sz b d rec) (hra : pAdv sz b rec) (hd : 1 ≤ d) : LvB N sz b d 7 (pPart sz b rec) := by
  intro f1 x2 W co te t σ hf hY hB hW _
  have hk := hY.2.2.2.1
  have h7 := hY.2.1.2.1
  have hd6 := hY.2.2.2.2.2.2.2.1
  obtain ⟨f, rfl⟩ : ∃ f, f1 = f + 1 := ⟨f1 - 1, by omega⟩
  by_cases h40 : sgT b t 40 = true
  · have h0 : t.1 ≠ 0 := by have := (sgT_1 h40).1; omega
    have h2 : t.1 ≠ 2 := by have := (sgT_1 h40).1; omega
    have hlt := nxT_lt hk h0
    have hle := hk.1
    have hz := hk.2.1
    obtain ⟨b1, b2⟩ := hB
    obtain ⟨σ2, q1, q2, q3, q4⟩ := hY.waits (N := N) (a := 14) (by omega) (by decide)
    obtain ⟨σ3, r1, r2, r3, r4⟩ := q2.goes hN
    have hB3 : RBr (W ++ [14]) co (nxT sz b t) := by
      refine ⟨?_, ?_⟩ <;> rw [List.length_append]
      · show W.length + 1 ≤ _
        omega
      · show co.length + (W.length + 1) + 4 ≤ _
        omega
    have e75 : ∀ F : MS → Option MS, (kM_operand_75 N (kM_operand_4 N (f + 1)) σ x2).bind F = ((kM_deeper N σ3).bind fun w => kM_operand_4 N (f + 1) w 1 1).bind F := fun F => by
      congr 1
      unfold kM_operand_75 kM_operand_96
      exact ob1 hY.good (oif n10 (ob1 (hY.s1 (c := 40) (by decide) h40) (oif n10 (oif n10 (ob1 q1 (ob1 r1 rfl))))))
    have hE := hr (f + 1) (W ++ [14]) co te (nxT sz b t) σ3 (by omega) r2 hB3 (Or.inr ⟨W, 14, rfl, by decide, Or.inl (Nat.le_refl _)⟩)
    have hP : pPart sz b rec t = pB (rec (nxT sz b t)) fun x => if sgT b x.2 41 = true then .inr (x.1, nxT sz b x.2) else .inl (1, x.2) := by
      unfold pPart
      rw [if_neg h2, if_pos h40]
    rw [hP]
    cases hv : rec (nxT sz b t) with
    | inl e =>
      rw [hv] at hE
      exact RErr.pre (k1 := 0) (fun f => e75 _) (by omega) (q3.trans r3) hE
    | inr x =>
      rw [hv] at hE
      obtain ⟨k, σ4, out, pend, te1, u1, u2, u3, u4, u5, u6, u7, u8, u9, u10⟩ := hE
      have hkx := u3.2.2.2.1
      have hp14 : ∀ a ∈ pend, a < 14 := fun a ha => (u6 a ha).1
      by_cases h41 : sgT b x.2 41 = true
      · have hx0 : x.2.1 ≠ 0 := by have := (sgT_1 h41).1; omega
        have hltx := nxT_lt hkx hx0
        obtain ⟨σ5, v1, v2, v3, v4, v5⟩ := u3.closes hN u4 hp14 hx0
        have hpl : (W ++ [14] ++ pend).length < 950 := by have := u4.1; have := hkx.1; have := hkx.2.1; omega
        have est : ∀ f, kM_expression_29 N (f + 1) σ4 1 = kM_expression_29 N f σ5 1 := fun f => by
          refine u3.out hN u10 (ob1 (u3.s1 (by decide) h41) (oif n10 (ob1 (u3.opened1 hN hpl hp14) (oif n10 (ob1 v1 rfl)))))
        have ete : σ4.2.2 29 d = te := by
          rw [u9 d (by omega), r4, q4]
          exact hY.2.2.2.2.2.2.2.2.1
        show ROut N sz b 7 d W co te t σ _ (if sgT b x.2 41 = true then .inr (x.1, nxT sz b x.2) else .inl (1, x.2))
        rw [if_pos h41]
        refine ⟨k + 1, σ5, out ++ pend.reverse.map nI, [], te, fun f => ?_, by show k + 1 + t.2.1 ≤ (nxT sz b x.2).2.1; omega, ?_, ?_, ?_, fun a ha => (by cases ha), fun _ => rfl, ((q3.trans r3).trans u8).trans v4, fun i hi => by rw [v5, u9 i (by omega), r4, q4], fun z => by omega, fun z => by omega, fun z => by omega, fun z => by omega, fun z => by omega⟩
        · have h1 := u1 (f + 1)
          rw [show f + 1 + k = f + (k + 1) by omega] at h1
          exact ((e75 _).trans h1).trans (est f)
        · rw [List.append_nil, ← List.append_assoc]
          rw [ete] at v2
          exact v2
        · rw [List.append_nil, ← List.append_assoc]
          exact v3
        · have e : (out ++ pend.reverse.map nI) ++ ([] : List Nat).reverse.map nI = out ++ pend.reverse.map nI := by simp
          rw [e]
          exact u5
      · show ROut N sz b 7 d W co te t σ _ (if sgT b x.2 41 = true then .inr (x.1, nxT sz b x.2) else .inl (1, x.2))
        rw [if_neg h41]
        obtain ⟨c1, c2⟩ := u4
        have hz2 := hkx.2.1
        have hle2 := hkx.1
        rw [len14p W pend] at c1 c2
        obtain ⟨σ5, v1, v2, v3, -, -, -⟩ := u3.wrong (N := N) (k := 1) (by rw [len14p W pend]; omega) (by rw [len14p W pend]; omega) (by decide)
        have est : ∀ f, kM_expression_29 N (f + 2) σ4 1 = kM_expression_345 N σ5 := fun f => by
          refine u3.out hN u10 (f := f + 1) (ob1 (u3.s0 (by decide) (sg_f h41)) (oit rfl ?_))
          unfold kM_expression_320
          rw [kM_expression_29]
          refine oit rfl ?_
          unfold kM_expression_325
          refine ob1 u3.good (oif n10 (oif ?_ (ob1 v1 rfl)))
          rw [u3.2.2.2.2.2.2.1]
          exact nI_ge (a := 1) (b := d + 1) (by omega) (by omega)
        refine ⟨k + 2, σ5, fun f => ?_, by omega, v2, ((q3.trans r3).trans u8).trans v3⟩
        have h1 := u1 (f + 2)
        rw [show f + 2 + k = f + (k + 2) by omega] at h1
        exact ((e75 _).trans h1).trans (est f)
  · have h40 := sg_f h40
    have e75 : kM_operand_75 N (kM_operand_4 N (f + 1)) σ x2 = kM_part N σ := by
      unfold kM_operand_75 kM_operand_96
      refine ob1 hY.good (oif n10 (ob1 (hY.s0 (c := 40) (by decide) h40) (oit rfl (oit rfl ?_))))
      rw [kM_operand_4]
      refine oit rfl ?_
      unfold kM_operand_120
      cases kM_part N σ <;> rfl
    have hp := hY.part hN hB h40 rec
    have hle := hk.1
    have hz := hk.2.1
    rw [e75]
    cases hv : pPart sz b rec t with
    | inl e =>
      rw [hv] at hp
      obtain ⟨σ1, p1, p2, p3⟩ := hp
      exact RErr.of (σ1 := σ1) (fun F => by rw [p1]; rfl) p2 p3 (by omega)
    | inr x =>
      obtain ⟨-, hlt⟩ := pPart_adv hra t x hk hv
      rw [hv] at hp
      obtain ⟨σ1, seg, p1, p2, p3, p4, p5, p6⟩ := hp
      refine ⟨0, σ1, seg, [], te, fun f => by rw [p1]; rfl, by omega, by rw [List.append_nil]; exact p2, by rw [List.append_nil]; exact p3, ?_, fun a ha => (by cases ha), fun _ => rfl, p5, fun i _ => by rw [p6], fun z => by omega, fun z => by omega, fun z => by omega, fun z => by omega, fun z => by omega⟩
      have e : seg ++ ([] : List Nat).reverse.map nI = seg := by simp
      rw [e]
      exact p4
theorem lv_prod (hN : 2 ^ 20 < N) {rec : TK → PR (VF × TK)} (h : LvB N sz b d 7 (pPart sz b rec)) : LvB N sz b d 6 (pProd sz b rec) := by
  intro f1 x2 W co te t σ hf hY hB hW ht
  exact r_chain (x2 := 0) (fun W pend co te t σ c a1 a2 a3 a4 a5 => st_M hN a1 a2 a3 a4 a5) (by decide) (fun te t _ z2 => ⟨fun _ => z2, fun z => by omega, fun z => by omega, fun z => by omega, fun z => by omega⟩) (fun W co te t σ a1 a2 a3 a4 => LvB.item hN h W co te t σ a1 a2 a3 a4) hW (h f1 x2 W co te t σ hf hY hB (hW.mono (by decide)) (fun z => by omega))
theorem lv_sum (hN : 2 ^ 20 < N) {rec : TK → PR (VF × TK)} (h : LvB N sz b d 6 (pProd sz b rec)) : LvB N sz b d 5 (pSum sz b rec) := by
  intro f1 x2 W co te t σ hf hY hB hW ht
  exact r_chain (x2 := 0) (fun W pend co te t σ c a1 a2 a3 a4 a5 => st_S hN a1 a2 a3 a4 a5) (by decide) (fun te t z1 z2 => ⟨fun _ => z1.1 (by decide), fun _ => z2, fun z => by omega, fun z => by omega, fun z => by omega⟩) (fun W co te t σ a1 a2 a3 a4 => LvB.item hN h W co te t σ a1 a2 a3 a4) hW (h f1 x2 W co te t σ hf hY hB (hW.mono (by decide)) (fun z => by omega))
end YC24
