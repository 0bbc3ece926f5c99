/-! plain law: undo -/
theorem RRel.undo {N : Nat} {M : MT} {σ σ1 : MS} {as1 : List MN} {m : MN} (h : RRel N M σ) (hk : RK [33] [31] σ σ1) (hA : RActs (tC M) (σ1.1 33) (σ1.2.2 32) as1) (hR : RowR (σ1.2.2 31) 0 (tC M) m) : RRel N (sV (sA M as1) m) σ1 := by
  obtain ⟨a1, a2, a3, a4, a5, a6, a7, a8, a9, a10⟩ := h
  have i1 : ∀ j, j ≠ 33 → σ1.1 j = σ.1 j := fun j hj => hk.1 j (by simpa using hj)
  have r1 : ∀ j, j ≠ 31 → σ1.2.2 j = σ.2.2 j := fun j hj => hk.2 j (by simpa using hj)
  refine ⟨?_, hR, hA, ?_, ?_, ?_, ?_, fun i hi => ?_, ?_, fun i hi => ?_⟩
  · unfold RC at a1 ⊢
    rw [i1 1 (by decide), i1 2 (by decide), i1 3 (by decide), r1 4 (by decide), r1 5 (by decide)]
    exact a1
  · rw [i1 49 (by decide), r1 50 (by decide)]; exact a4
  · unfold RImg at a5 ⊢
    rw [i1 54 (by decide), i1 55 (by decide), i1 56 (by decide), r1 57 (by decide), r1 58 (by decide), r1 59 (by decide)]
    exact a5
  · rw [i1 40 (by decide)]; exact a6
  · rw [i1 7 (by decide)]; exact a7
  · rw [r1 6 (by decide)]; exact a8 i hi
  · rw [i1 9 (by decide)]; exact a9
  · rw [r1 10 (by decide)]; exact a10 i hi
theorem r_undo {N : Nat} {M : MT} {σ : MS} (hN : 2 ^ 20 < N) (h : RRel N M σ) (h9 : (tC M).1 ≤ 9) {L : Nat} (hL : (tA M).length = L + 1) (h40 : L < 40) {m : MN} (hm : (tA M)[L]? = some m) : ∃ σ1, kM_undo_26 N N (m_put σ 33 (nI L)) 0 = some (σ1, nI L) ∧ RRel N (sV (sA M ((tA M).eraseIdx L)) m) σ1 := by
  refine y_loop (fun n (s : MS) k => kM_undo_26 N n s (nI k)) 64 (fun s k => s.1 = (m_put σ 33 (nI L)).1 ∧ (∀ j, j ≠ 31 → s.2.2 j = σ.2.2 j) ∧ ∀ q, q < k → s.2.2 31 q = σ.2.2 32 (64 * L + q)) (fun r => ∃ σ1, r = some (σ1, nI L) ∧ RRel N (sV (sA M ((tA M).eraseIdx L)) m) σ1) ?_ ?_ 64 N (m_put σ 33 (nI L)) 0 (by omega) (by omega) ⟨rfl, fun _ _ => rfl, fun q hq => by omega⟩
  · rintro n s k hk ⟨h1, h2, h3⟩
    right
    refine ⟨rS s 31 k (s.2.2 32 (64 * L + k)), ?_, h1, fun j hj => (rS_ne _ _ _ _ hj).trans (h2 j hj), fun q hq => ?_⟩
    · show kM_undo_26 N (n + 1) s (nI k) = _
      rw [kM_undo_26, nI_1]
      refine oif (nI_ge (b := 64) hk (by decide)) (ob1 (r_ld (q := 64 * L + k) ?_ (by show 64 * L + k < 2560; omega)) (ob1 (r_st (q := k) rfl (by show k < 128; omega)) rfl))
      rw [h1, mp_s, ix64]
    · rw [rS_get]
      by_cases e : q = k
      · rw [if_pos ⟨rfl, e⟩, h2 32 (by decide), e]
      · rw [if_neg (fun z => e z.2)]
        exact h3 q (by omega)
  · rintro n s ⟨h1, h2, h3⟩
    refine ⟨s, ?_, h.undo ⟨fun j hj => ?_, fun j hj => h2 j (by simpa using hj)⟩ ⟨?_, fun i x hx => ?_⟩ ?_⟩
    · show kM_undo_26 N (n + 1) s (nI 64) = _
      rw [kM_undo_26]
      refine oit (nI_le (b := 64) (Nat.le_refl _) (by decide)) ?_
      rw [h1, mp_s]
    · rw [h1]
      exact mp_n _ _ _ (by simpa using hj)
    · rw [h1, mp_s, List.length_eraseIdx, if_pos (by omega), hL]
      rfl
    · rw [List.getElem?_eraseIdx] at hx
      have hi : i < L := by
        by_cases z : i < L
        · exact z
        · rw [if_neg z, List.getElem?_eq_none (by omega)] at hx
          cases hx
      rw [if_pos hi] at hx
      rw [h2 32 (by decide)]
      exact h.2.2.1.2 i x hx
    · refine (h.2.2.1.2 L m hm).of h9 (fun q hq => ?_)
      rw [Nat.zero_add]
      exact h3 q hq
theorem NightsAt.era {Z : Nat → Prop} {S : XS} {xa : Nat} {rs : List Nat} {ms : List MN} (h : NightsAt Z S xa rs ms) (i : Nat) : NightsAt Z S xa (rs.eraseIdx i) (ms.eraseIdx i) := by
  refine ⟨by rw [List.length_eraseIdx, List.length_eraseIdx, h.1], fun j r m hr hm => ?_⟩
  rw [List.getElem?_eraseIdx] at hr hm
  by_cases e : j < i
  · rw [if_pos e] at hr hm
    exact h.2 j r m hr hm
  · rw [if_neg e] at hr hm
    exact h.2 (j + 1) r m hr hm
theorem op_undo {g : XC} {N xa oa i : Nat} (hN : 2 ^ 20 < N) : St_undo (yRel g N xa oa i) (yRel g N xa oa (i + 6)) g N xa oa := by
  rintro n sl τ σ ⟨M, Z, Ya, Yh, na, ta, cv, la, lh, ra, rh, hB⟩
  have hB : yBody g N xa oa i n Z Ya Yh na ta cv la lh ra rh M τ σ := hB
  generalize hcc : n + 14000 = cc
  generalize hkk : sl + 97000 = kk
  obtain ⟨-, -, hQ, -, -⟩ := y_open hB sl cc kk (by omega) (by omega)
  have hM := hB.2.2.2.2
  have hG := hB.2.2.1
  have hW := wf_of hB hQ
  have hx := hQ.2.1.1
  have hR0 : RRel N M (m_put σ 0 0) := hB.2.2.2.1.fr hM.1 (RFr.p0 σ 0)
  have h33 : (m_put σ 0 0).1 33 = nI (tA M).length := hR0.2.2.1.1
  have o8 : f_obj ((n, sl, cc, kk), τ) 1 xa 8 = some la := f_obj_T hx (by decide) (by decide) hQ.2.2.1.2.2.2.1
  have hLa := hQ.2.2.2.2.1.1
  have hem := hLa.empty N
  have hsz := hLa.size N
  have hlen := hQ.2.2.2.2.1.2.1
  have hMl : MOk (yT (i + 6)) M := hM.le (by unfold yT; omega)
  by_cases h0 : ra = []
  · rw [if_pos h0] at hem
    have hl0 : (tA M).length = 0 := by rw [← hlen, h0]; rfl
    refine ⟨(), (((n, sl, cc, kk), τ), -1), m_put σ 0 0, f_cls_T hx, ?_, ?_, fun n1 hn hfr => y_end hQ hfr (hG.le hn) hR0 hMl⟩
    · unfold kX_X1_undo
      exact ob1 o8 (ob1 hLa.cls (ob1 hem (oif n10 rfl)))
    · unfold kM_undo
      exact onb rfl (oit (by rw [h33, hl0]; rfl) rfl)
  · rw [if_neg h0] at hem
    obtain ⟨L, hL⟩ : ∃ L, (tA M).length = L + 1 := by
      cases hr : (tA M).length with
      | zero => exact absurd (List.length_eq_zero_iff.mp (hlen.trans hr)) h0
      | succ L => exact ⟨L, rfl⟩
    have h40 : L < 40 := by
      have := hM.2.2.2.1.1
      omega
    have hnz := hQ.2.2.2.2.1.2
    have hLr : L < ra.length := by omega
    have hr : ra[L]? = some ra[L] := List.getElem?_eq_getElem hLr
    have hm : (tA M)[L]? = some (tA M)[L] := List.getElem?_eq_getElem (by omega)
    generalize ra[L] = r at hr
    generalize (tA M)[L] = m at hm
    obtain ⟨hz1, hz2⟩ := hnz.2 L r m hr hm
    obtain ⟨cap, hC⟩ := hLa.c
    have hla : Ya la := by
      obtain ⟨-, mc, ba, h1, -⟩ := hC
      exact h1.1
    have hds := hQ.2.2.2.2.2.2.2.2.1
    have hra : ∀ q ∈ ra, v_any (jg g cc kk) ((n, sl, cc, kk), τ) q = some () ∧ q ≠ la := fun q hq => by
      obtain ⟨j, hj, he⟩ := List.getElem_of_mem hq
      have e1 : ra[j]? = some q := by rw [List.getElem?_eq_getElem hj, he]
      have e2 : (tA M)[j]? = some (tA M)[j] := List.getElem?_eq_getElem (by omega)
      obtain ⟨z1, z2⟩ := hnz.2 j q _ e1 e2
      refine ⟨night_any z2, fun z => ?_⟩
      rw [z] at z1
      exact (hds.1 la z1).1 hla
    obtain ⟨S1, b1, b2, b3, b4, b5⟩ := l_remove (N := N) hC hW hra (i := L) hr
    obtain ⟨Ya1, y1, y2, y3⟩ := b5.min
    have hq1 := hQ.act hW b2 y1.l y2 y3 (hnz.era L)
    have hxa : xa < xTop ((n, sl, cc, kk), τ) := hW.2 xa _ hx.cell
    have hrt : r < xTop ((n, sl, cc, kk), τ) := hW.2 r _ hz2.1.2.1.cell
    have hn1 : NightAt S1 r xa m := hz2.same b2.1.1 (b2.2.2.2.2.2 xa hxa (fun z => (hds.2.1 xa z).2.1 rfl)) (b2.2.2.2.2.2 r hrt (hds.1 r hz1).1)
    have tp : xTop ((n, sl, cc, kk), τ) = n := rfl
    have sp : xSl ((n, sl, cc, kk), τ) = sl := rfl
    have cp : xCc S1 = cc := b2.2.2.2.1
    have cs : xCs S1 = kk := b2.2.2.2.2.1
    obtain ⟨S2, m2, k1, k2, k3, k4, k5⟩ := x_copy (g := jg g cc kk) hN b2.1 hn1 (by omega) (by omega)
    have hq2 := hq1.ext b2.1 k2
    have hlt1 : ∀ q, (Z q ∨ Ya1 q ∨ Yh q) → q < xTop S1 := fun q hq => by
      obtain ⟨e, he⟩ := hq1.2.2.2.2.2.2.2.2.2.1 q hq
      exact b2.1.2 q e he
    have hta1 : ta < xTop S1 := b2.1.2 ta _ hq1.2.1.2.1.cell
    have hoa1 : oa < xTop S1 := by
      obtain ⟨f, hf⟩ := hq1.2.2.2.2.2.2.2.1
      exact b2.1.2 oa _ (g_cell hf)
    have hq3 := hq2.x2 (r := xTop S1) k5 ⟨fun z => by have := hlt1 _ (Or.inl z); omega, fun z => by have := hlt1 _ (Or.inr (Or.inl z)); omega, fun z => by have := hlt1 _ (Or.inr (Or.inr z)); omega, by omega, by omega⟩
    obtain ⟨σ2, u1, u2⟩ := r_undo hN hR0 hM.1 hL h40 hm
    have hle : (ra.eraseIdx L).length = L := by
      rw [List.length_eraseIdx, if_pos hLr]
      omega
    have hsz3 := hq3.2.2.2.2.1.1.size N
    rw [hle] at hsz3
    have b1' : kX_J2_remove (jg g cc kk) N ((n, sl, cc, kk), τ) la (nI ra.length - 1) = some (S1, r) := by
      rw [nI_m (by omega), show ra.length - 1 = L by omega]
      exact b1
    refine ⟨(), (xSetR S2 xa 2 (some (xTop S1)), nI L), σ2, f_cls_T hx, ?_, ?_, fun n1 hn hfr => y_end hq3 hfr (hG.le hn) ⟨u2.1, mBe_Row m2 hM.1 u2.2.1, u2.2.2⟩ ?_⟩
    · unfold kX_X1_undo
      refine ob1 o8 (ob1 hLa.cls (ob1 hem (oit rfl (ob1 o8 (ob1 o8 (ob1 hLa.cls (ob1 hsz (ob1 hLa.cls (ob1 b1' ?_)))))))))
      refine ob1 (na_cls hn1) (ob1 (na_cls hn1) (ob1 k1 (ob1 (f_putR_T hq2.2.1.1 (by decide) (by decide)) ?_)))
      exact ob1 (f_obj_T hq3.2.1.1 (by decide) (by decide) hq3.2.2.1.2.2.2.1) (ob1 hq3.2.2.2.2.1.1.cls (ob1 hsz3 rfl))
    · unfold kM_undo
      refine onb rfl (oif ?_ (onb (v := m_put (m_put σ 0 0) 33 (nI L)) ?_ u1))
      · intro z
        have z : (m_put σ 0 0).1 33 = 0 := z
        rw [h33] at z
        have := (nI_eq (a := (tA M).length) (b := 0) (by omega) (by omega)).mp z
        omega
      · rw [h33, hL, nI_m (by omega)]
        rfl
    · obtain ⟨w1, w2, w3, ⟨w4, w5⟩, w6⟩ := hMl
      have hmm : m ∈ tA M := List.mem_of_getElem? hm
      refine ⟨w1, w2, (w5 m hmm).be m2 w1, ⟨?_, fun q hq => w5 q (List.mem_of_mem_eraseIdx hq)⟩, w6⟩
      show ((tA M).eraseIdx L).length ≤ 40
      rw [List.length_eraseIdx]
      split <;> omega
