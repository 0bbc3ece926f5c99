/-! plain law: hear -/
section SK
variable {g : XC} {N xa oa : Nat} {Z Ya Yh : Nat → Prop} {na ta cv la lh : Nat} {ra rh : List Nat} {M : MT} {S S1 : XS}
theorem TripsAt.snoc {Z : Nat → Prop} {S : XS} {r : Nat} {rs : List Nat} {hs : List HT} {x : HT} (h : TripsAt Z S rs hs) (hr : ∃ f, gz Z S r (.inl (0, 3, .inl f)) ∧ f 0 = x.1 ∧ f 1 = x.2.1 ∧ f 2 = x.2.2) : TripsAt Z S (rs ++ [r]) (hs ++ [x]) := by
  refine ⟨by simp [h.1], fun i q y hq hy => ?_⟩
  by_cases e : i < rs.length
  · rw [List.getElem?_append_left e] at hq
    rw [List.getElem?_append_left (by rw [← h.1]; exact e)] at hy
    exact h.2 i q y hq hy
  · have e2 : i = rs.length := by
      have := (List.getElem?_eq_some_iff.mp hq).1
      simp at this
      omega
    subst e2
    rw [List.getElem?_append_right (Nat.le_refl _), Nat.sub_self] at hq
    rw [h.1, List.getElem?_append_right (Nat.le_refl _), Nat.sub_self] at hy
    obtain rfl := Option.some.inj hq
    obtain rfl := Option.some.inj hy
    exact hr
/-- what was heard grows -/
theorem CRq.hrd (h : CRq g xa oa Z Ya Yh na ta cv la lh ra rh M S) (hW : WFr S) (hE : XE Yh S S1) {Yh1 Z1 : Nat → Prop} {rh1 : List Nat} {hs : List HT} (hL : ListAt g Yh1 S1 lh rh1) (hT : TripsAt Z1 S1 rh1 hs) (hZ : ∀ q, Z q → Z1 q) (hZ1 : ∀ q, Z1 q → Z q ∨ (xTop S ≤ q ∧ ¬ Yh1 q)) (hY : ∀ q, Yh1 q → Yh q ∨ xTop S ≤ q) (hX : ∀ q, Z1 q ∨ Yh1 q → ∃ e, x_cell S1 q = some e) : CRq g xa oa Z1 Ya Yh1 na ta cv la lh ra rh1 (sH M hs) S1 := by
  obtain ⟨c1, c2, ⟨c31, c32, c33, c34, c35⟩, c4, c5, c6, c7, c8, ⟨d1, d2, d3, d4, d5, d6, d7⟩, c10, c11⟩ := h
  have hlt : ∀ q, (Z q ∨ Ya q ∨ Yh q) → q < xTop S := fun q hq => by
    obtain ⟨e, he⟩ := c10 q hq
    exact hW.2 q e he
  have hxa : xa < xTop S := hW.2 xa _ c2.1.cell
  have hna : na < xTop S := hW.2 na _ c1.1.2.1.cell
  have hta : ta < xTop S := hW.2 ta _ c2.2.1.cell
  have hoa : oa < xTop S := by
    obtain ⟨f, hf⟩ := c8
    exact hW.2 oa _ (g_cell hf)
  have hsm : ∀ q, q < xTop S → ¬ Yh q → tSame S S1 q := hE.2.2.2.2.2
  have sx := hsm xa hxa (fun z => (d3 xa z).1 rfl)
  have sn := hsm na hna (fun z => (d3 na z).2.1 rfl)
  have st := hsm ta hta (fun z => (d3 ta z).2.2.1 rfl)
  have so := hsm oa hoa (fun z => (d3 oa z).2.2.2 rfl)
  have fZ : yFr Z S S1 := fun q hq => hsm q (hlt q (Or.inl hq)) (d1 q hq).2.1
  have fA : yFr Ya S S1 := fun q hq => hsm q (hlt q (Or.inr (Or.inl hq))) (d2 q hq).1
  have hw1 := hE.1.1
  refine ⟨c1.same hw1 sx sn, c2.keep hw1 sx.1 st.1 st.2.2.1, ⟨by rw [sx.2.2.1]; exact c31, by rw [sx.2.2.1]; exact c32, by rw [sx.2.2.1]; exact c33, by rw [sx.2.2.1]; exact c34, by rw [sx.2.2.1]; exact c35⟩, (c4.fr fZ.g).mono hZ, ⟨c5.1.fr fA.g, (c5.2.keep hw1 sx.1 fZ).mono hZ⟩, ⟨hL, hT⟩, (c7.keep hw1 sx.1 (fun j _ => by rw [sx.2.2.1]) fZ).mono hZ, ?_, ⟨fun q hq => ?_, fun q hq => ⟨fun z => ?_, (d2 q hq).2⟩, fun q hq => ?_, d4, d5, d6, d7⟩, fun q hq => ?_, ?_⟩
  · obtain ⟨f, hf⟩ := c8
    exact ⟨f, so.1.trans hf.1, so.2.2.2.2.2.trans hf.2⟩
  · rcases hZ1 q hq with hz | ⟨hz, hz2⟩
    · refine ⟨(d1 q hz).1, fun z => ?_, (d1 q hz).2.2⟩
      rcases hY q z with z2 | z2
      · exact (d1 q hz).2.1 z2
      · have := hlt q (Or.inl hz); omega
    · exact ⟨fun z => by have := hlt q (Or.inr (Or.inl z)); omega, hz2, by omega, by omega, by omega, by omega⟩
  · rcases hY q z with z2 | z2
    · exact (d2 q hq).1 z2
    · have := hlt q (Or.inr (Or.inl hq)); omega
  · rcases hY q hq with z2 | z2
    · exact d3 q z2
    · exact ⟨by omega, by omega, by omega, by omega⟩
  · rcases hq with hq | hq | hq
    · exact hX q (Or.inl hq)
    · exact cell_ex (fA q hq) (c10 q (Or.inr (Or.inl hq)))
    · exact hX q (Or.inr hq)
  · obtain ⟨t1, t2, t3, t4⟩ := c11
    exact ⟨fun i hi => by rw [sx.2.2.2.1]; exact t1 i hi, by rw [sx.2.1]; exact t2, by rw [sx.2.1]; exact t3, fun i hi => by rw [sx.2.2.2.1]; exact t4 i hi⟩
/-- a new array of three numbers -/
theorem x_trip (hW : WFr S) (x y z : Int32) (r1 : xTop S + 1 ≤ xCc S) (r2 : xSl S + 3 ≤ xCs S) : ∃ S12 S13 S2 f, xNewI S 0 3 = some (newS S 3 (.inl (0, 3, .inl (fun _ => 0)))) ∧ a_putI (newS S 3 (.inl (0, 3, .inl (fun _ => 0)))) 0 (xTop S) 0 x = some S12 ∧ a_putI S12 0 (xTop S) 1 y = some S13 ∧ a_putI S13 0 (xTop S) 2 z = some S2 ∧ XE (fun _ => False) S S2 ∧ xTop S2 = xTop S + 1 ∧ xSl S2 = xSl S + 3 ∧ genAt S2 (xTop S) (.inl (0, 3, .inl f)) ∧ f 0 = x ∧ f 1 = y ∧ f 2 = z := by
  have a1 := newS_at S 3 (.inl (0, 3, .inl (fun _ => 0)))
  have w1 := newS_XE hW 3 (.inl (0, 3, .inl (fun _ => 0))) (fun q => xTop S ≤ q)
  have t1 : xTop (newS S 3 (.inl (0, 3, .inl (fun _ => 0)))) = xTop S + 1 := rfl
  have s1 : xSl (newS S 3 (.inl (0, 3, .inl (fun _ => 0)))) = xSl S + 3 := rfl
  have e1 := x_newI (S := S) (k := 0) (n := 3) (by omega) r1 r2
  generalize hS1 : newS S 3 (.inl (0, 3, .inl (fun _ => 0))) = S1 at a1 w1 t1 s1
  have p1 := g_aputI (S := S1) (i := 0) (v := x) a1 (by decide) (by decide)
  have a2 := setG_at (e := .inl (0, 3, .inl (upd (fun _ => 0) 0 x))) a1
  have w2 := w1.trans (setG_XE w1.1 a1 (e := .inl (0, 3, .inl (upd (fun _ => 0) 0 x))) (P := fun q => xTop S ≤ q) (Nat.le_refl _)) (fun _ _ z => z)
  have p2 := g_aputI (i := 1) (v := y) a2 (by decide) (by decide)
  have a3 := setG_at (e := .inl (0, 3, .inl (upd (upd (fun _ => 0) 0 x) 1 y))) a2
  have w3 := w2.trans (setG_XE w2.1 a2 (e := .inl (0, 3, .inl (upd (upd (fun _ => 0) 0 x) 1 y))) (P := fun q => xTop S ≤ q) (Nat.le_refl _)) (fun _ _ z => z)
  have p3 := g_aputI (i := 2) (v := z) a3 (by decide) (by decide)
  have a4 := setG_at (e := .inl (0, 3, .inl (upd (upd (upd (fun _ => 0) 0 x) 1 y) 2 z))) a3
  have w4 := w3.trans (setG_XE w3.1 a3 (e := .inl (0, 3, .inl (upd (upd (upd (fun _ => 0) 0 x) 1 y) 2 z))) (P := fun q => xTop S ≤ q) (Nat.le_refl _)) (fun _ _ z => z)
  refine ⟨_, _, _, upd (upd (upd (fun _ => 0) 0 x) 1 y) 2 z, e1.trans (by rw [hS1]), p1, p2, p3, w4.mono (fun q hq z => absurd hq (by omega)), by rw [setG_top, setG_top, setG_top, t1], by rw [setG_sl, setG_sl, setG_sl, s1], a4, ?_, ?_, ?_⟩
  · simp [upd]
  · simp [upd]
  · simp [upd]
theorem x_hear (h : CRq g xa oa Z Ya Yh na ta cv la lh ra rh M S) (hW : WFr S) (hsp : gSp g 0 < xTop S ∧ gSp g 1 < xTop S) (hlh : (tH M).length < 8) (r1 : xTop S + 20 ≤ xCc S) (r2 : xSl S + 300 ≤ xCs S) (x y z : Int32) : ∃ S13 S1 Z1 Yh1, xNewI S 0 3 = some (newS S 3 (.inl (0, 3, .inl (fun _ => 0)))) ∧ (∃ S12, a_putI (newS S 3 (.inl (0, 3, .inl (fun _ => 0)))) 0 (xTop S) 0 x = some S12 ∧ a_putI S12 0 (xTop S) 1 y = some S13) ∧ kX_X1_hear_61 g N S13 xa lh (xTop S) (xTop S) 2 z = some (.inl (S1, nI ((tH M).length + 1))) ∧ WFr S1 ∧ CRq g xa oa Z1 Ya Yh1 na ta cv la lh ra (rh ++ [xTop S]) (sH M (tH M ++ [(x, y, z)])) S1 := by
  have h' := h
  obtain ⟨c1, c2, ⟨c31, c32, c33, c34, c35⟩, c4, c5, c6, c7, c8, ⟨d1, d2, d3, d4, d5, d6, d7⟩, c10, c11⟩ := h
  have hlt : ∀ q, (Z q ∨ Ya q ∨ Yh q) → q < xTop S := fun q hq => by
    obtain ⟨e, he⟩ := c10 q hq
    exact hW.2 q e he
  obtain ⟨S12, S13, S2, f, e1, e2, e3, e4, e5, e6, e7, e8, e9, e10, e11⟩ := x_trip hW x y z (by omega) (by omega)
  have hq2 := h'.ext hW e5
  have l1 : rh.length < 8 := by rw [c6.2.1]; exact hlh
  have cp : xCc S2 = xCc S := e5.2.2.2.1
  have cs : xCs S2 = xCs S := e5.2.2.2.2.1
  have c62 := hq2.2.2.2.2.2.1
  obtain ⟨cap, hC⟩ := c62.1.c
  have hlhY : Yh lh := by
    obtain ⟨-, mc, ba, h1, -⟩ := hC
    exact h1.1
  have hrs : ∀ r ∈ rh, v_any g S2 r = some () ∧ r ≠ lh := fun r hr => by
    refine ⟨trips_any c62.2 r hr, fun z => ?_⟩
    obtain ⟨j, hj, he⟩ := List.getElem_of_mem hr
    have g1 : rh[j]? = some r := by rw [List.getElem?_eq_getElem hj, he]
    have hj2 : j < (tH M).length := by rw [← c6.2.1]; exact hj
    obtain ⟨f, hf, -⟩ := c6.2.2 j r _ g1 (List.getElem?_eq_getElem hj2)
    rw [z] at hf
    exact (d1 lh hf.1).2.1 hlhY
  have hlhT : lh < xTop S := hlt lh (Or.inr (Or.inr hlhY))
  obtain ⟨S1, Y1, cap1, k1, k2, k3, k4, k5⟩ := l_add (N := N) hC e5.1 ⟨by omega, by omega⟩ (trip_any e8) (by omega : xTop S ≠ lh) hrs (by omega) (by omega) (by omega)
  obtain ⟨Y2, y1, y2, y3⟩ := k3.min
  have hE : XE Yh S S1 := (e5.mono (fun _ _ z => z.elim)).trans k2 (fun _ _ z => z)
  have ht1 : xTop S2 ≤ xTop S1 := k2.2.1
  have nY : ¬ Yh (xTop S) := fun z => by have := hlt _ (Or.inr (Or.inr z)); omega
  have nY2 : ∀ q, Y2 q → Yh q ∨ xTop S + 1 ≤ q := fun q hq => by
    rcases k4 q (y2 q hq) with z | z
    · exact Or.inl z
    · exact Or.inr (by omega)
  have nT : ¬ Y2 (xTop S) := fun z => by
    rcases nY2 _ z with z | z
    · exact nY z
    · omega
  have s1 : tSame S2 S1 (xTop S) := k2.2.2.2.2.2 _ (by omega) nY
  have g1 : genAt S1 (xTop S) (.inl (0, 3, .inl f)) := ⟨s1.1.trans e8.1, s1.2.2.2.2.2.trans e8.2⟩
  have fZ : yFr Z S S1 := fun q hq => hE.2.2.2.2.2 q (hlt q (Or.inl hq)) (d1 q hq).2.1
  have hq1 : CRq g xa oa (fun q => Z q ∨ q = xTop S) Ya Y2 na ta cv la lh ra (rh ++ [xTop S]) (sH M (tH M ++ [(x, y, z)])) S1 := by
    refine h'.hrd hW hE y1.l (((c6.2.keep fZ).mono (fun q z => Or.inl z)).snoc ⟨f, ⟨Or.inr rfl, g1⟩, e9, e10, e11⟩) (fun q z => Or.inl z) (fun q hq => ?_) (fun q hq => ?_) (fun q hq => ?_)
    · rcases hq with hq | hq
      · exact Or.inl hq
      · subst hq
        exact Or.inr ⟨Nat.le_refl _, nT⟩
    · rcases nY2 q hq with z | z
      · exact Or.inl z
      · exact Or.inr (by omega)
    · rcases hq with (hq | hq) | hq
      · exact cell_ex (fZ q hq) (c10 q (Or.inl hq))
      · subst hq
        exact ⟨_, g_cell g1⟩
      · exact y3 q hq
  refine ⟨S13, S1, _, Y2, e1, ⟨S12, e2, e3⟩, ?_, k2.1, hq1⟩
  have hsz := hq1.2.2.2.2.2.1.1.size N
  rw [List.length_append, c6.2.1] at hsz
  unfold kX_X1_hear_61
  refine ob1 e4 (ob1 c62.1.cls (ob1 k1 (ob1 (f_obj_T hq1.2.1.1 (by decide) (by decide) hq1.2.2.1.2.2.2.2) (ob1 hq1.2.2.2.2.2.1.1.cls (ob1 hsz rfl)))))
end SK
theorem ixm (a c : Nat) : nI a * nI c = nI (a * c) := by
  rw [iI_nI, iI_nI, iI_nI, iI_mul]
  congr 1
theorem r_hear {N : Nat} {M : MT} {σ : MS} (h : RRel N M σ) (h9 : (tC M).1 ≤ 9) (hl : (tH M).length < 8) (x y z : Int32) : ∃ σ7 σ8 σ1, m_st σ 50 (3 * σ.1 49) x = some σ7 ∧ m_st σ7 50 ((3 * σ7.1 49) + 1) y = some σ8 ∧ kM_hear_87 N σ8 ((3 * σ8.1 49) + 2) z = some (σ1, nI ((tH M).length + 1)) ∧ σ1.1 0 = σ.1 0 ∧ RRel N (sH M (tH M ++ [(x, y, z)])) σ1 := by
  have b4 := h.2.2.2.1
  have e3 : (3 : Int32) * σ.1 49 = nI (3 * (tH M).length) := by
    rw [b4.1]
    exact ixm 3 _
  have e31 : (3 : Int32) * σ.1 49 + 1 = nI (3 * (tH M).length + 1) := by rw [e3, nI_1]
  have e32 : (3 : Int32) * σ.1 49 + 2 = nI (3 * (tH M).length + 2) := by rw [e3]; exact nI_add _ 2
  generalize hL : (tH M).length = L at e3 e31 e32 hl ⊢
  obtain ⟨σ8, hσ8⟩ : ∃ σ8, σ8 = rS (rS σ 50 (3 * L) x) 50 (3 * L + 1) y := ⟨_, rfl⟩
  have i8 : σ8.1 = σ.1 := by rw [hσ8]; rfl
  refine ⟨rS σ 50 (3 * L) x, σ8, m_put (rS σ8 50 (3 * L + 2) z) 49 (nI (L + 1)), r_st (q := 3 * L) e3 (by show 3 * L < 24; omega), ?_, ?_, ?_, ?_⟩
  · rw [hσ8]
    exact r_st (q := 3 * L + 1) e31 (by show 3 * L + 1 < 24; omega)
  · unfold kM_hear_87
    rw [i8]
    refine ob1 (r_st (q := 3 * L + 2) e32 (by show 3 * L + 2 < 24; omega)) (onb (v := m_put (rS σ8 50 (3 * L + 2) z) 49 (nI (L + 1))) ?_ ?_)
    · have : (rS σ8 50 (3 * L + 2) z).1 49 = nI L := by
        show σ8.1 49 = _
        rw [i8, b4.1, hL]
      rw [this, nI_1]
    · rw [mp_s]
  · rw [mp_n _ _ _ (by decide)]
    show σ8.1 0 = _
    rw [i8]
  · have hI : ∀ j, j ≠ 49 → (m_put (rS σ8 50 (3 * L + 2) z) 49 (nI (L + 1))).1 j = σ.1 j := fun j hj => by
      rw [mp_n _ _ _ hj]
      show σ8.1 j = _
      rw [i8]
    have hA : ∀ j, j ≠ 50 → (m_put (rS σ8 50 (3 * L + 2) z) 49 (nI (L + 1))).2.2 j = σ.2.2 j := fun j hj => by
      show (rS σ8 50 (3 * L + 2) z).2.2 j = _
      rw [rS_ne _ _ _ _ hj, hσ8, rS_ne _ _ _ _ hj, rS_ne _ _ _ _ hj]
    have hB : ∀ q, (m_put (rS σ8 50 (3 * L + 2) z) 49 (nI (L + 1))).2.2 50 q = if q = 3 * L + 2 then z else if q = 3 * L + 1 then y else if q = 3 * L then x else σ.2.2 50 q := fun q => by
      show (rS σ8 50 (3 * L + 2) z).2.2 50 q = _
      rw [rS_get, hσ8, rS_get, rS_get]
      simp only [true_and]
    have h49 : (m_put (rS σ8 50 (3 * L + 2) z) 49 (nI (L + 1))).1 49 = nI (L + 1) := mp_s _ _ _
    generalize m_put (rS σ8 50 (3 * L + 2) z) 49 (nI (L + 1)) = σ1 at hI hA hB h49
    obtain ⟨a1, a2, a3, -, a5, a6, a7, a8, a9, a10⟩ := h
    refine ⟨?_, ?_, ?_, ⟨?_, fun i w hw => ?_⟩, ?_, ?_, ?_, ?_, ?_, ?_⟩
    · show RC N σ1 (tC M)
      unfold RC at a1 ⊢
      rw [hI 1 (by decide), hI 2 (by decide), hI 3 (by decide), hA 4 (by decide), hA 5 (by decide)]
      exact a1
    · show RowR (σ1.2.2 31) 0 (tC M) (tV M)
      rw [hA 31 (by decide)]
      exact a2
    · show RActs (tC M) (σ1.1 33) (σ1.2.2 32) (tA M)
      rw [hI 33 (by decide), hA 32 (by decide)]
      exact a3
    · show σ1.1 49 = nI (tH M ++ [(x, y, z)]).length
      rw [h49, List.length_append, hL]
      rfl
    · have hw : (tH M ++ [(x, y, z)])[i]? = some w := hw
      by_cases e : i < L
      · rw [List.getElem?_append_left (by omega)] at hw
        have := b4.2 i w hw
        rw [hB, hB, hB, if_neg (by omega), if_neg (by omega), if_neg (by omega), if_neg (by omega), if_neg (by omega), if_neg (by omega), if_neg (by omega), if_neg (by omega), if_neg (by omega)]
        exact this
      · have e2 : i = L := by
          have := (List.getElem?_eq_some_iff.mp hw).1
          simp at this
          omega
        subst e2
        rw [List.getElem?_append_right (by omega), hL, Nat.sub_self] at hw
        obtain rfl := Option.some.inj hw
        rw [hB, hB, hB, if_neg (by omega), if_neg (by omega), if_pos rfl, if_neg (by omega), if_pos rfl, if_pos rfl]
        exact ⟨rfl, rfl, rfl⟩
    · show RImg σ1 (tC M) (tI M)
      unfold RImg at a5 ⊢
      rw [hI 54 (by decide), hI 55 (by decide), hI 56 (by decide), hA 57 (by decide), hA 58 (by decide), hA 59 (by decide)]
      exact a5
    · rw [hI 40 (by decide)]; exact a6
    · rw [hI 7 (by decide)]; exact a7
    · intro i hi
      rw [hA 6 (by decide)]; exact a8 i hi
    · rw [hI 9 (by decide)]; exact a9
    · intro i hi
      rw [hA 10 (by decide)]; exact a10 i hi
theorem op_hear {g : XC} {N xa oa i : Nat} (hN : 2 ^ 20 < N) : St_hear (yRel g N xa oa i) (yRel g N xa oa (i + 6)) g N xa oa := by
  rintro a0 a1 a2 n sl τ σ ⟨M, Z, Ya, Yh, na, ta, cv, la, lh, ra, rh, hB⟩ hbool
  have hB : yBody g N xa oa i n Z Ya Yh na ta cv la lh ra rh M τ σ := hB
  generalize hcc : n + 14000 = cc
  generalize hkk : sl + 97000 = kk
  obtain ⟨hO, hr, hQ, hfr, hS⟩ := y_open hB sl cc kk (by omega) (by omega)
  have hM := hB.2.2.2.2
  have hR0 : RRel N M (m_put σ 0 0) := hB.2.2.2.1.fr hM.1 (RFr.p0 σ 0)
  have hG := hB.2.2.1
  have hW := wf_of hB hQ
  have hx := hQ.2.1.1
  have z0 : (m_put σ 0 0).1 0 = 0 := mp_s _ _ _
  have z1 : (m_put σ 0 0).1 1 = nI (tC M).1 := hR0.1.1
  have h9 := hM.1
  have hMl := hM.le (T1 := yT (i + 6)) (by unfold yT; omega)
  have hw : ∀ a0 a1 a2, kX_X0_hear (jg g cc kk) N ((n, sl, cc, kk), τ) xa a0 a1 a2 oa = yW yH0 (kX_X1_hear (jg g cc kk) N ((n, sl, cc, kk), τ) xa a0 a1 a2) oa := fun a0 a1 a2 => ob1 (f_cls_T hQ.2.1.1) rfl
  rw [hw]
  rcases y_cup (tC M).1 (by omega) a0 with ⟨c0, h0, rfl⟩ | h0
  · have hcup := oc_cup1 (N := N) (m := yMN ((n, sl, cc, kk), τ) ta) (w := xA ((n, sl, cc, kk), τ) xa 0) hO h0
    rw [hS] at hcup
    have hrc := r_isCup1 (N := N) z0 z1 h9 h0
    have o9 : f_obj ((n, sl, cc, kk), τ) 1 xa 9 = some lh := f_obj_T hx (by decide) (by decide) hQ.2.2.1.2.2.2.2
    have hLh := hQ.2.2.2.2.2.1.1
    have hsz := hLh.size N
    rw [hQ.2.2.2.2.2.1.2.1] at hsz
    have h49 : (m_put σ 0 0).1 49 = nI (tH M).length := hR0.2.2.2.1.1
    have hl8 := hM.2.2.2.2.1.1
    have hx29 : kX_X1_hear_29 (jg g cc kk) N ((n, sl, cc, kk), τ) xa = some (.inl (xSetA ((n, sl, cc, kk), τ) xa 7 (upd (xA ((n, sl, cc, kk), τ) xa 7) 2 (tR M 2 + 1)), -1)) := by
      unfold kX_X1_hear_29
      exact ob1 (f_cls_T hx) (ob1 (x_refuse hQ (k := 2) (by decide)) rfl)
    have hr34 : kM_hear_34 N (m_put σ 0 0) = some (rS (m_put σ 0 0) 10 2 (tR M 2 + 1), -1) := by
      unfold kM_hear_34
      exact ob1 (r_refuse hR0 (k := 2) (by decide)).1 rfl
    have hfin : ∀ {x : Option ((XS × Int32) ⊕ XT)} {mop : Option (MS × Int32)}, x = some (.inl (xSetA ((n, sl, cc, kk), τ) xa 7 (upd (xA ((n, sl, cc, kk), τ) xa 7) 2 (tR M 2 + 1)), -1)) → mop = some (rS (m_put σ 0 0) 10 2 (tR M 2 + 1), -1) → ∃ (w : XS × Int32) (σ1 : MS) (r : Int32) (σ2 : MS), yW yH0 x oa = some w ∧ mop = some (σ1, r) ∧ kM_thrown N σ1 = some (σ2, w.2) ∧ (w.2 = 0 → a_long w.1 oa 0 = some r.toInt64) ∧ ∀ n1 : Nat, n ≤ n1 → (∀ q e, x_cell w.1 q = some e → q < n1) → yRel g N xa oa (i + 6) n1 w.1.2 σ2 := fun hx2 hm2 => by
      refine fin2 hx2 (hQ.ref (k := 2)) (hW.og ?_ (Nat.le_refl _) (fun _ => ⟨rfl, rfl⟩)) hm2 (show (m_put σ 0 0).1 0 = 0 from mp_s _ _ _) (r_refuse hR0 (k := 2) (by decide)).2 hMl hG
      exact hW.1
    by_cases h8 : (tH M).length = 8
    · rw [h8] at hsz h49
      refine hfin ?_ ?_
      · unfold kX_X1_hear
        exact ob1 (f_cls_T hx) (ot1 hcup (ob1 o9 (ob1 hLh.cls (ob1 hsz (oit rfl hx29)))))
      · unfold kM_hear
        exact onb rfl (ob1 hrc (oif n10 (oit (by rw [h49]; rfl) hr34)))
    · have hx8 : ¬ nI (tH M).length = 8 := fun z => h8 ((nI_eq (a := (tH M).length) (b := 8) (by omega) (by omega)).mp z)
      rcases y_rng 1 40 (by decide) a1 with ⟨k, hk1, hk2, rfl⟩ | h1
      · obtain ⟨S13, S1, Z1, Yh1, k1, ⟨S12, k2, k3⟩, k4, k5, k6⟩ := x_hear (N := N) hQ hW ⟨hG.1, hG.2.1⟩ (by omega) (by show n + 20 ≤ cc; omega) (by show sl + 300 ≤ kk; omega) (nI c0) (nI k) a2
        obtain ⟨σ7, σ8, σ1, q1, q2, q3, q4, q5⟩ := r_hear hR0 h9 (by omega) (nI c0) (nI k) a2
        have hMh : MOk (yT (i + 6)) (sH M (tH M ++ [(nI c0, nI k, a2)])) := by
          obtain ⟨b1, b2, b3, b4, ⟨b5, b6⟩, b7⟩ := hMl
          refine ⟨b1, b2, b3, b4, ⟨?_, fun y hy => ?_⟩, b7⟩
          · show (tH M ++ [(nI c0, nI k, a2)]).length ≤ 8
            rw [List.length_append]
            show (tH M).length + 1 ≤ 8
            omega
          · have hy : y ∈ tH M ++ [(nI c0, nI k, a2)] := hy
            rw [List.mem_append] at hy
            rcases hy with hy | hy
            · exact b6 y hy
            · rw [List.mem_singleton] at hy
              subst hy
              exact ⟨⟨c0, h0, rfl⟩, ⟨k, hk1, hk2, rfl⟩, hbool⟩
        refine fin2 (S1 := S1) (r := nI ((tH M).length + 1)) (σ1 := σ1) ?_ k6 k5 ?_ (q4.trans z0) q5 hMh hG
        · unfold kX_X1_hear
          refine ob1 (f_cls_T hx) (ot1 hcup (ob1 o9 (ob1 hLh.cls (ob1 hsz (oif hx8 (ob1 (x_inN (a := 1) (b := 40) rfl rfl hk1 hk2 (by decide)) (oif (by decide) (ob1 o9 (ob1 k1 (ob1 k2 (ob1 k3 ?_)))))))))))
          rcases hbool with rfl | rfl
          · exact oit rfl k4
          · exact oif (by decide) k4
        · unfold kM_hear
          refine onb rfl (ob1 hrc (oif n10 (oif (by rw [h49]; exact hx8) (ob1 (r_within1 (a := 1) (b := 40) rfl rfl hk1 hk2 (by decide)) (oif (by decide) (ob1 q1 (ob1 q2 ?_)))))))
          rcases hbool with rfl | rfl
          · exact oit rfl q3
          · exact oif (by decide) q3
      · refine hfin ?_ ?_
        · unfold kX_X1_hear
          exact ob1 (f_cls_T hx) (ot1 hcup (ob1 o9 (ob1 hLh.cls (ob1 hsz (oif hx8 (ob1 (x_in0 h1) (oit rfl hx29)))))))
        · unfold kM_hear
          exact onb rfl (ob1 hrc (oif n10 (oif (by rw [h49]; exact hx8) (ob1 (r_within0 h1) (oit rfl hr34)))))
  · have hx : kX_X1_hear (jg g cc kk) N ((n, sl, cc, kk), τ) xa a0 a1 a2 = some (.inr (((n, sl, cc, kk), τ), 0, 0)) := by
      rw [← hS]
      unfold kX_X1_hear
      exact ob1 (oc_cls hO) (ot2 (oc_cup0 hO hr h0))
    have hm : kM_hear N σ a0 a1 a2 = some (m_put (m_put σ 0 0) 0 1, 0) := by
      unfold kM_hear
      exact onb rfl (ob1 (r_isCup0 z0 z1 h0) (oit rfl rfl))
    exact fin_thr (c := cc) (k := kk) hB hx rfl (KS.refl hQ.2.1.2.2.2.1) hm (mp_s _ _ _) (by decide) (RFr.p00 _ _ _)
