/-! the cave: the reference's steps at the loop's head -/
theorem RBr.mono {W : List Nat} {co : List Int32} {t t1 : TK} (h : RBr W co t) (ht : t.2.1 ≤ t1.2.1) : RBr W co t1 := ⟨Nat.le_trans h.1 ht, by have := h.2; omega⟩
/-- what waits for its turn -/
def pOk (l : Nat) (pend : List Nat) : Prop := ∀ a ∈ pend, a < 14 ∧ l ≤ strW a
section YC21
variable {N sz : Nat} {b : Nat → Nat} {W pend : List Nat} {co : List Int32} {d : Nat} {te : Int32} {t : TK} {σ : MS}
theorem rev_len (pend : List Nat) (co : List Int32) : (co ++ pend.reverse.map nI).length = co.length + pend.length := by rw [List.length_append, List.length_map, List.length_reverse]
theorem RY.s1 (h : RY sz b W co d te t σ) {c : Nat} (hc : c < 256) (hs : sgT b t c = true) : kM_isSign N σ (nI c) = some (σ, 1) := by
  rw [h.sign hc, if_pos hs]
theorem RY.s0 (h : RY sz b W co d te t σ) {c : Nat} (hc : c < 256) (hs : sgT b t c = false) : kM_isSign N σ (nI c) = some (σ, 0) := by
  rw [h.sign hc, if_neg (by rw [hs]; decide)]
theorem sg_ne {c x : Nat} (h : sgT b t c = true) (hx : x ≠ c) : sgT b t x = false := by
  have := (sgT_1 h).2
  exact decide_eq_false (fun z => hx (z.2.symm.trans this))
theorem sg_no {c : Nat} (h : t.1 ≠ 3) : sgT b t c = false := decide_eq_false (fun z => h z.1)
theorem sg_f {c : Nat} (h : ¬ sgT b t c = true) : sgT b t c = false := by simpa using h
/-- the head, past the words -/
theorem RY.hd (hN : 2 ^ 20 < N) (h : RY sz b W co d te t σ) {f : Nat} {R : Option MS} (hR : (if knI b t = 9 then kM_expression_57 N (kM_expression_29 N f) σ 1 (knI b t) else if knI b t = 10 then kM_expression_57 N (kM_expression_29 N f) σ 1 (knI b t) else
      (kM_isSign N σ (nI 60)).bind fun w7 =>
            if w7.2 = 0 then
              (kM_isSign N w7.1 (nI 61)).bind fun w9 =>
              if w9.2 = 0 then
                kM_expression_186 N (kM_expression_29 N f) w9.1 1
              else
                kM_expression_127 N (kM_expression_29 N f) w9.1 1
            else
              kM_expression_127 N (kM_expression_29 N f) w7.1 1) = R) : kM_expression_29 N (f + 1) σ 1 = R := by
  rw [kM_expression_29]
  exact oif n10 (ob1 h.good (oif n10 (ob1 (h.known hN) hR)))
theorem RY.hd_s (hN : 2 ^ 20 < N) (h : RY sz b W co d te t σ) (h9 : knI b t ≠ 9) (h10 : knI b t ≠ 10) {f : Nat} {R : Option MS} (hR : ((kM_isSign N σ (nI 60)).bind fun w7 =>
            if w7.2 = 0 then
              (kM_isSign N w7.1 (nI 61)).bind fun w9 =>
              if w9.2 = 0 then
                kM_expression_186 N (kM_expression_29 N f) w9.1 1
              else
                kM_expression_127 N (kM_expression_29 N f) w9.1 1
            else
              kM_expression_127 N (kM_expression_29 N f) w7.1 1) = R) : kM_expression_29 N (f + 1) σ 1 = R := h.hd hN (oif h9 (oif h10 hR))
theorem RY.hd_186 (hN : 2 ^ 20 < N) (h : RY sz b W co d te t σ) (h9 : knI b t ≠ 9) (h10 : knI b t ≠ 10) (h60 : sgT b t 60 = false) (h61 : sgT b t 61 = false) {f : Nat} {R : Option MS} (hR : kM_expression_186 N (kM_expression_29 N f) σ 1 = R) : kM_expression_29 N (f + 1) σ 1 = R :=
  h.hd_s hN h9 h10 (ob1 (h.s0 (by decide) h60) (oit rfl (ob1 (h.s0 (by decide) h61) (oit rfl hR))))
/-- drop, wait, go on -/
theorem RY.dwg (hN : 2 ^ 20 < N) {l a : Nat} (h : RY sz b (W ++ pend) co d te t σ) (hB : RBr (W ++ pend) co t) (hl : l ≤ 6) (hW : stopW l W) (hp : pOk l pend) (ha : a < 32) (h0 : t.1 ≠ 0) : ∃ σ1 σ2 σ3, kM_drops N σ (nI l) = some σ1 ∧ RY sz b W (co ++ pend.reverse.map nI) d te t σ1 ∧ kM_waitsFor N σ1 (nI a) = some σ2 ∧ kM_goes N σ2 = some σ3 ∧ RY sz b (W ++ [a]) (co ++ pend.reverse.map nI) d te (nxT sz b t) σ3 ∧ RBr (W ++ [a]) (co ++ pend.reverse.map nI) (nxT sz b t) ∧ RKx σ σ3 ∧ σ3.2.2 29 = σ.2.2 29 := by
  obtain ⟨b1, b2⟩ := hB
  rw [List.length_append] at b1 b2
  have hk := h.2.2.2.1
  have h7 := h.2.1.2.1
  have hlt := hk.2.2.2.1 h0
  have hz := hk.2.1
  have hnx := nxT_lt hk h0
  obtain ⟨σ1, p1, p2, p3, p4⟩ := h.drops hN hl hW hp (by omega) (by rw [List.length_append]; omega)
  obtain ⟨σ2, q1, q2, q3, q4⟩ := p2.waits (N := N) (by omega) ha
  obtain ⟨σ3, r1, r2, r3, r4⟩ := q2.goes hN
  refine ⟨σ1, σ2, σ3, p1, p2, q1, r1, r2, ⟨?_, ?_⟩, (p3.trans q3).trans r3, by rw [r4, q4, p4]⟩
  · rw [List.length_append]
    show W.length + 1 ≤ _
    omega
  · rw [rev_len, List.length_append]
    show co.length + pend.length + (W.length + 1) + 4 ≤ _
    omega
/-- drop, wait, mark, go on -/
theorem RY.dwtg (hN : 2 ^ 20 < N) {l a : Nat} {v : Int32} (h : RY sz b (W ++ pend) co d te t σ) (hB : RBr (W ++ pend) co t) (hl : l ≤ 6) (hW : stopW l W) (hp : pOk l pend) (ha : a < 32) (h0 : t.1 ≠ 0) (hv : v = 0 ∨ v = 1) : ∃ σ1 σ2 σ3 σ4, kM_drops N σ (nI l) = some σ1 ∧ RY sz b W (co ++ pend.reverse.map nI) d te t σ1 ∧ kM_waitsFor N σ1 (nI a) = some σ2 ∧ m_stZ σ2 29 (σ2.1 24) v = some σ3 ∧ kM_goes N σ3 = some σ4 ∧ RY sz b (W ++ [a]) (co ++ pend.reverse.map nI) d v (nxT sz b t) σ4 ∧ RBr (W ++ [a]) (co ++ pend.reverse.map nI) (nxT sz b t) ∧ RKx σ σ4 ∧ ∀ i, i < d → σ4.2.2 29 i = σ.2.2 29 i := by
  obtain ⟨b1, b2⟩ := hB
  rw [List.length_append] at b1 b2
  have hk := h.2.2.2.1
  have h7 := h.2.1.2.1
  have hlt := hk.2.2.2.1 h0
  have hz := hk.2.1
  have hnx := nxT_lt hk h0
  obtain ⟨σ1, p1, p2, p3, p4⟩ := h.drops hN hl hW hp (by omega) (by rw [List.length_append]; omega)
  obtain ⟨σ2, q1, q2, q3, q4⟩ := p2.waits (N := N) (by omega) ha
  obtain ⟨σ3, u1, u2, u3, u4⟩ := q2.test hv
  obtain ⟨σ4, r1, r2, r3, r4⟩ := u2.goes hN
  refine ⟨σ1, σ2, σ3, σ4, p1, p2, q1, u1, r1, r2, ⟨?_, ?_⟩, ((p3.trans q3).trans u3).trans r3, fun i hi => by rw [r4, u4 i (by omega), q4, p4]⟩
  · rw [List.length_append]
    show W.length + 1 ≤ _
    omega
  · rw [rev_len, List.length_append]
    show co.length + pend.length + (W.length + 1) + 4 ≤ _
    omega
/-- a step at the head, by a sign or a word of level l -/
def RSt (N sz : Nat) (b : Nat → Nat) (l : Nat) (x2 : Int32) (W pend : List Nat) (co : List Int32) (d : Nat) (te : Int32) (t : TK) (σ : MS) (c : Nat) : Prop :=
  t.1 ≠ 0 ∧ c ∈ [38, 42, 43, 45, 47, 60, 61, 124] ∧ strW (opc c) = l ∧ ∃ σ1 te1, (∀ f, kM_expression_29 N (f + 1) σ 1 = (kM_operand N σ1 x2).bind (fun w => kM_expression_29 N f w 1)) ∧ RY sz b (W ++ [opc c]) (co ++ pend.reverse.map nI) d te1 (nxT sz b t) σ1 ∧ RBr (W ++ [opc c]) (co ++ pend.reverse.map nI) (nxT sz b t) ∧ (l ≤ 3 → te1 = 0) ∧ (l = 4 → te1 = 1) ∧ (5 ≤ l → te1 = te) ∧ RKx σ σ1 ∧ ∀ i, i < d → σ1.2.2 29 i = σ.2.2 29 i
theorem opM_s {c : Nat} (h : opM b t = some c) : sgT b t c = true ∧ (c = 42 ∨ c = 47) := by
  unfold opM at h
  by_cases h1 : sgT b t 42 = true
  · rw [if_pos h1] at h
    cases h
    exact ⟨h1, Or.inl rfl⟩
  · rw [if_neg h1] at h
    by_cases h2 : sgT b t 47 = true
    · rw [if_pos h2] at h
      cases h
      exact ⟨h2, Or.inr rfl⟩
    · rw [if_neg h2] at h
      cases h
theorem opS_s {c : Nat} (h : opS b t = some c) : sgT b t c = true ∧ (c = 43 ∨ c = 45) := by
  unfold opS at h
  by_cases h1 : sgT b t 43 = true
  · rw [if_pos h1] at h
    cases h
    exact ⟨h1, Or.inl rfl⟩
  · rw [if_neg h1] at h
    by_cases h2 : sgT b t 45 = true
    · rw [if_pos h2] at h
      cases h
      exact ⟨h2, Or.inr rfl⟩
    · rw [if_neg h2] at h
      cases h
theorem opC_s {c : Nat} (h : opC b t = some c) : sgT b t c = true ∧ (c = 60 ∨ c = 61) := by
  unfold opC at h
  by_cases h1 : sgT b t 60 = true
  · rw [if_pos h1] at h
    cases h
    exact ⟨h1, Or.inl rfl⟩
  · rw [if_neg h1] at h
    by_cases h2 : sgT b t 61 = true
    · rw [if_pos h2] at h
      cases h
      exact ⟨h2, Or.inr rfl⟩
    · rw [if_neg h2] at h
      cases h
theorem opA_s {c : Nat} (h : opA b t = some c) : wd b t 10 = true ∧ c = 38 := by
  unfold opA at h
  by_cases h1 : wd b t 10 = true
  · rw [if_pos h1] at h
    cases h
    exact ⟨h1, rfl⟩
  · rw [if_neg h1] at h
    cases h
theorem opO_s {c : Nat} (h : opO b t = some c) : wd b t 11 = true ∧ c = 124 := by
  unfold opO at h
  by_cases h1 : wd b t 11 = true
  · rw [if_pos h1] at h
    cases h
    exact ⟨h1, rfl⟩
  · rw [if_neg h1] at h
    cases h
theorem kn_sgn {c : Nat} (h : sgT b t c = true) : knI b t ≠ 9 ∧ knI b t ≠ 10 := by
  rw [knI_sort (by have := (sgT_1 h).1; omega)]
  decide
theorem st_M (hN : 2 ^ 20 < N) {c : Nat} (h : RY sz b (W ++ pend) co d te t σ) (hB : RBr (W ++ pend) co t) (hW : stopW 6 W) (hp : pOk 6 pend) (ho : opM b t = some c) : RSt N sz b 6 0 W pend co d te t σ c := by
  obtain ⟨hs, hc⟩ := opM_s ho
  obtain ⟨k9, k10⟩ := kn_sgn hs
  have h0 : t.1 ≠ 0 := by have := (sgT_1 hs).1; omega
  have ha : opc c < 32 := by rcases hc with rfl | rfl <;> decide
  obtain ⟨σ1, σ2, σ3, p1, p2, p3, p4, p5, p6, p7, p8⟩ := h.dwg hN hB (by decide) hW hp ha h0
  have s60 : sgT b t 60 = false := sg_ne hs (by omega)
  have s61 : sgT b t 61 = false := sg_ne hs (by omega)
  have s43 : sgT b t 43 = false := sg_ne hs (by omega)
  have s45 : sgT b t 45 = false := sg_ne hs (by omega)
  refine ⟨h0, by rcases hc with rfl | rfl <;> decide, by rcases hc with rfl | rfl <;> decide, σ3, te, fun f => h.hd_186 hN k9 k10 s60 s61 ?_, p5, p6, fun z => by omega, fun z => by omega, fun _ => rfl, p7, fun i _ => by rw [p8]⟩
  unfold kM_expression_186
  refine ob1 (h.s0 (c := 43) (by decide) s43) (oit rfl (ob1 (h.s0 (c := 45) (by decide) s45) (oit rfl ?_)))
  rcases hc with rfl | rfl
  · refine ob1 (h.s1 (c := 42) (by decide) hs) (oif n10 ?_)
    unfold kM_expression_259 kM_expression_282
    exact ob1 p1 (ob1 (p2.s1 (c := 42) (by decide) hs) (oif n10 (ob1 p3 (ob1 p4 rfl))))
  · have s42 : sgT b t 42 = false := sg_ne hs (by omega)
    refine ob1 (h.s0 (c := 42) (by decide) s42) (oit rfl (ob1 (h.s1 (c := 47) (by decide) hs) (oif n10 ?_)))
    unfold kM_expression_259 kM_expression_282
    exact ob1 p1 (ob1 (p2.s0 (c := 42) (by decide) s42) (oit rfl (ob1 p3 (ob1 p4 rfl))))
theorem st_S (hN : 2 ^ 20 < N) {c : Nat} (h : RY sz b (W ++ pend) co d te t σ) (hB : RBr (W ++ pend) co t) (hW : stopW 5 W) (hp : pOk 5 pend) (ho : opS b t = some c) : RSt N sz b 5 0 W pend co d te t σ c := by
  obtain ⟨hs, hc⟩ := opS_s ho
  obtain ⟨k9, k10⟩ := kn_sgn hs
  have h0 : t.1 ≠ 0 := by have := (sgT_1 hs).1; omega
  have ha : opc c < 32 := by rcases hc with rfl | rfl <;> decide
  obtain ⟨σ1, σ2, σ3, p1, p2, p3, p4, p5, p6, p7, p8⟩ := h.dwg hN hB (by decide) hW hp ha h0
  have s60 : sgT b t 60 = false := sg_ne hs (by omega)
  have s61 : sgT b t 61 = false := sg_ne hs (by omega)
  refine ⟨h0, by rcases hc with rfl | rfl <;> decide, by rcases hc with rfl | rfl <;> decide, σ3, te, fun f => h.hd_186 hN k9 k10 s60 s61 ?_, p5, p6, fun z => by omega, fun z => by omega, fun _ => rfl, p7, fun i _ => by rw [p8]⟩
  unfold kM_expression_186
  rcases hc with rfl | rfl
  · refine ob1 (h.s1 (c := 43) (by decide) hs) (oif n10 ?_)
    unfold kM_expression_204 kM_expression_226
    exact ob1 p1 (ob1 (p2.s1 (c := 43) (by decide) hs) (oif n10 (ob1 p3 (ob1 p4 rfl))))
  · have s43 : sgT b t 43 = false := sg_ne hs (by omega)
    refine ob1 (h.s0 (c := 43) (by decide) s43) (oit rfl (ob1 (h.s1 (c := 45) (by decide) hs) (oif n10 ?_)))
    unfold kM_expression_204 kM_expression_226
    exact ob1 p1 (ob1 (p2.s0 (c := 43) (by decide) s43) (oit rfl (ob1 p3 (ob1 p4 rfl))))
theorem RY.ld29 (h : RY sz b W co d te t σ) : m_ld σ 29 (σ.1 24) = some te := by
  obtain ⟨a1, a2, a3, a4, a5, a6, a7, a8, a9, a10⟩ := h
  rw [r_ld (q := d) a7 (by show d < 9; omega), a9]
theorem st_C (hN : 2 ^ 20 < N) {c : Nat} (h : RY sz b (W ++ pend) co d 0 t σ) (hB : RBr (W ++ pend) co t) (hW : stopW 4 W) (hp : pOk 4 pend) (ho : opC b t = some c) : RSt N sz b 4 0 W pend co d 0 t σ c := by
  obtain ⟨hs, hc⟩ := opC_s ho
  obtain ⟨k9, k10⟩ := kn_sgn hs
  have h0 : t.1 ≠ 0 := by have := (sgT_1 hs).1; omega
  have ha : opc c < 32 := by rcases hc with rfl | rfl <;> decide
  obtain ⟨σ1, σ2, σ3, σ4, p1, p2, p3, p4, p5, p6, p7, p8, p9⟩ := h.dwtg hN hB (by decide) hW hp ha h0 (v := 1) (Or.inr rfl)
  have h127 : ∀ f, kM_expression_127 N (kM_expression_29 N f) σ 1 = (kM_operand N σ4 0).bind (fun w => kM_expression_29 N f w 1) := fun f => by
    unfold kM_expression_127
    refine ob1 h.ld29 (oit rfl (ob1 p1 ?_))
    rcases hc with rfl | rfl
    · refine ob1 (p2.s1 (c := 60) (by decide) hs) (oif n10 ?_)
      unfold kM_expression_161
      exact ob1 p3 (ob1 p4 (ob1 p5 rfl))
    · refine ob1 (p2.s0 (c := 60) (by decide) (sg_ne hs (by omega))) (oit rfl ?_)
      unfold kM_expression_161
      exact ob1 p3 (ob1 p4 (ob1 p5 rfl))
  refine ⟨h0, by rcases hc with rfl | rfl <;> decide, by rcases hc with rfl | rfl <;> decide, σ4, 1, fun f => h.hd_s hN k9 k10 ?_, p6, p7, fun z => by omega, fun _ => rfl, fun z => by omega, p8, p9⟩
  rcases hc with rfl | rfl
  · exact ob1 (h.s1 (c := 60) (by decide) hs) (oif n10 (h127 f))
  · exact ob1 (h.s0 (c := 60) (by decide) (sg_ne hs (by omega))) (oit rfl (ob1 (h.s1 (c := 61) (by decide) hs) (oif n10 (h127 f))))
theorem st_A (hN : 2 ^ 20 < N) {c : Nat} (h : RY sz b (W ++ pend) co d te t σ) (hB : RBr (W ++ pend) co t) (hW : stopW 2 W) (hp : pOk 2 pend) (ho : opA b t = some c) : RSt N sz b 2 1 W pend co d te t σ c := by
  obtain ⟨hs, rfl⟩ := opA_s ho
  have kn : knI b t = 9 := knI_of (k := 9) (by decide) hs
  have h0 : t.1 ≠ 0 := by have := wd_1 hs; omega
  obtain ⟨σ1, σ2, σ3, σ4, p1, p2, p3, p4, p5, p6, p7, p8, p9⟩ := h.dwtg hN hB (a := 4) (by decide) hW hp (by decide) h0 (v := 0) (Or.inl rfl)
  refine ⟨h0, by decide, by decide, σ4, 0, fun f => h.hd hN (oit kn ?_), p6, p7, fun _ => rfl, fun z => by omega, fun z => by omega, p8, p9⟩
  rw [kn]
  unfold kM_expression_57 kM_expression_69 kM_expression_84
  exact oit rfl (ob1 p1 (oit rfl (ob1 p3 (ob1 p4 (ob1 p5 rfl)))))
theorem st_O (hN : 2 ^ 20 < N) {c : Nat} (h : RY sz b (W ++ pend) co d te t σ) (hB : RBr (W ++ pend) co t) (hW : stopW 1 W) (hp : pOk 1 pend) (ho : opO b t = some c) : RSt N sz b 1 1 W pend co d te t σ c := by
  obtain ⟨hs, rfl⟩ := opO_s ho
  have kn : knI b t = 10 := knI_of (k := 10) (by decide) hs
  have h0 : t.1 ≠ 0 := by have := wd_1 hs; omega
  obtain ⟨σ1, σ2, σ3, σ4, p1, p2, p3, p4, p5, p6, p7, p8, p9⟩ := h.dwtg hN hB (a := 5) (by decide) hW hp (by decide) h0 (v := 0) (Or.inl rfl)
  refine ⟨h0, by decide, by decide, σ4, 0, fun f => h.hd hN (oif (by rw [kn]; decide) (oit kn ?_)), p6, p7, fun _ => rfl, fun z => by omega, fun z => by omega, p8, p9⟩
  rw [kn]
  unfold kM_expression_57 kM_expression_69 kM_expression_84
  exact oif (by decide) (ob1 p1 (oif (by decide) (ob1 p3 (ob1 p4 (ob1 p5 rfl)))))
end YC21
