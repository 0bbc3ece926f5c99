/-! plain law: operations that change the state: their common parts; fault, hours -/
theorem y_end {g : XC} {N xa oa i n1 c k : Nat} {Z Ya Yh : Nat → Prop} {na ta cv la lh : Nat} {ra rh : List Nat} {M : MT} {S1 : XS} {σ1 : MS} (h1 : CRq (jg g c k) xa oa Z Ya Yh na ta cv la lh ra rh M S1) (hfr : ∀ q e, x_cell S1 q = some e → q < n1) (hG : GOk g n1) (hR : RRel N M σ1) (hM : MOk (yT (i + 6)) M) : yRel g N xa oa (i + 6) n1 S1.2 σ1 := by
  have h2 : CRq g xa oa Z Ya Yh na ta cv la lh ra rh M S1 := CRq.g (g := jg g c k) (g1 := g) rfl h1
  exact ⟨M, Z, Ya, Yh, na, ta, cv, la, lh, ra, rh, h2.tab (S1 := ((n1, 0, 0, 0), S1.2)) rfl n1 hfr, hfr, hG, hR, hM⟩
theorem RFr.rk {J K : List Nat} {σ σ1 : MS} (h : RK J K σ σ1) (hJ : ∀ j, j ∈ J → j ∉ [1, 2, 3, 7, 9, 33, 40, 49, 54, 55, 56]) (hK : ∀ j, j ∈ K → j ∉ [4, 5, 6, 10, 31, 32, 50, 57, 58, 59]) : RFr σ σ1 := by
  refine ⟨fun j hj => h.1 j (fun z => hJ j z hj), fun j hj => h.2 j (fun z => hK j z ?_), fun q _ => ?_⟩
  · simp at hj ⊢
    omega
  · rw [h.2 31 (fun z => hK 31 z (by decide))]
theorem RRel.kept {N : Nat} {M : MT} {σ σ1 : MS} {as1 : List MN} (h : RRel N M σ) (hk : RK [33] [32] σ σ1) (hA : RActs (tC M) (σ1.1 33) (σ1.2.2 32) as1) : RRel N (sA M as1) σ1 := by
  obtain ⟨a1, a2, a3, a4, a5, a6, a7, a8, a9, a10⟩ := h
  have i1 : ∀ j, j ≠ 33 → σ1.1 j = σ.1 j := fun j hj => hk.1 j (by simpa using hj)
  have r1 : ∀ j, j ≠ 32 → σ1.2.2 j = σ.2.2 j := fun j hj => hk.2 j (by simpa using hj)
  refine ⟨?_, ?_, hA, ?_, ?_, ?_, ?_, fun i hi => ?_, ?_, fun i hi => ?_⟩
  · unfold RC at a1 ⊢
    rw [i1 1 (by decide), i1 2 (by decide), i1 3 (by decide), r1 4 (by decide), r1 5 (by decide)]
    exact a1
  · rw [r1 31 (by decide)]; exact a2
  · rw [i1 49 (by decide), r1 50 (by decide)]; exact a4
  · unfold RImg at a5 ⊢
    rw [i1 54 (by decide), i1 55 (by decide), i1 56 (by decide), r1 57 (by decide), r1 58 (by decide), r1 59 (by decide)]
    exact a5
  · rw [i1 40 (by decide)]; exact a6
  · rw [i1 7 (by decide)]; exact a7
  · rw [r1 6 (by decide)]; exact a8 i hi
  · rw [i1 9 (by decide)]; exact a9
  · rw [r1 10 (by decide)]; exact a10 i hi
theorem RRel.row {N : Nat} {M : MT} {σ σ1 : MS} {m : MN} (h : RRel N M σ) (hk : FrH 0 σ σ1) (hR : RowR (σ1.2.2 31) 0 (tC M) m) : RRel N (sV M m) σ1 := by
  obtain ⟨a1, a2, a3, a4, a5, a6, a7, a8, a9, a10⟩ := h
  have i1 : ∀ j, j ≠ 38 → j ≠ 39 → σ1.1 j = σ.1 j := hk.1
  have r1 : ∀ j, j ≠ 31 → j ≠ 34 → j ≠ 35 → j ≠ 36 → j ≠ 37 → σ1.2.2 j = σ.2.2 j := hk.2.2.1
  refine ⟨?_, hR, ?_, ?_, ?_, ?_, ?_, fun i hi => ?_, ?_, fun i hi => ?_⟩
  · unfold RC at a1 ⊢
    rw [i1 1 (by decide) (by decide), i1 2 (by decide) (by decide), i1 3 (by decide) (by decide), r1 4 (by decide) (by decide) (by decide) (by decide) (by decide), r1 5 (by decide) (by decide) (by decide) (by decide) (by decide)]
    exact a1
  · rw [i1 33 (by decide) (by decide), r1 32 (by decide) (by decide) (by decide) (by decide) (by decide)]; exact a3
  · rw [i1 49 (by decide) (by decide), r1 50 (by decide) (by decide) (by decide) (by decide) (by decide)]; exact a4
  · unfold RImg at a5 ⊢
    rw [i1 54 (by decide) (by decide), i1 55 (by decide) (by decide), i1 56 (by decide) (by decide), r1 57 (by decide) (by decide) (by decide) (by decide) (by decide), r1 58 (by decide) (by decide) (by decide) (by decide) (by decide), r1 59 (by decide) (by decide) (by decide) (by decide) (by decide)]
    exact a5
  · rw [i1 40 (by decide) (by decide)]; exact a6
  · rw [i1 7 (by decide) (by decide)]; exact a7
  · rw [r1 6 (by decide) (by decide) (by decide) (by decide) (by decide)]; exact a8 i hi
  · rw [i1 9 (by decide) (by decide)]; exact a9
  · rw [r1 10 (by decide) (by decide) (by decide) (by decide) (by decide)]; exact a10 i hi
theorem RRel.refuse {N : Nat} {M : MT} {σ : MS} {k : Nat} {v : Int32} {r : Nat → Int32} (h : RRel N M σ) (hr : ∀ i, i < 3 → (if i = k then v else tR M i) = r i) : RRel N (sR M r) (rS σ 10 k v) := by
  obtain ⟨a1, a2, a3, a4, a5, a6, a7, a8, a9, a10⟩ := h
  have r1 : ∀ j, j ≠ 10 → (rS σ 10 k v).2.2 j = σ.2.2 j := fun j hj => rS_ne _ _ _ _ hj
  refine ⟨?_, ?_, ?_, ?_, ?_, a6, a7, fun i hi => ?_, a9, fun i hi => ?_⟩
  · unfold RC at a1 ⊢
    rw [r1 4 (by decide), r1 5 (by decide)]
    exact a1
  · rw [r1 31 (by decide)]; exact a2
  · rw [r1 32 (by decide)]; exact a3
  · rw [r1 50 (by decide)]; exact a4
  · unfold RImg at a5 ⊢
    rw [r1 57 (by decide), r1 58 (by decide), r1 59 (by decide)]
    exact a5
  · rw [r1 6 (by decide)]; exact a8 i hi
  · show (rS σ 10 k v).2.2 10 i = r i
    rw [rS_get, ← hr i hi]
    by_cases e : i = k
    · rw [if_pos ⟨rfl, e⟩, if_pos e]
    · rw [if_neg (fun z => e z.2), if_neg e]
      exact a10 i hi
section ST
variable {g : XC} {N xa oa : Nat} {Z Ya Yh : Nat → Prop} {na ta cv la lh : Nat} {ra rh : List Nat} {M : MT} {S : XS}
/-- another count of refusals -/
theorem CRq.x7 (h : CRq g xa oa Z Ya Yh na ta cv la lh ra rh M S) {f r : Nat → Int32} (hr : ∀ i, i < 3 → f i = r i) : CRq g xa oa Z Ya Yh na ta cv la lh ra rh (sR M r) (xSetA S xa 7 f) := by
  obtain ⟨c1, c2, c3, c4, c5, c6, c7, c8, c9, c10, c11⟩ := h
  have c9' := c9
  obtain ⟨d1, d2, d3, d4, d5, d6, d7⟩ := c9
  have hfr : ∀ q, q ≠ xa → tSame S (xSetA S xa 7 f) q := fun q h2 => ⟨rfl, rfl, rfl, funext fun j => if_neg (fun z => h2 z.1), rfl, rfl⟩
  have fZ : yFr Z S (xSetA S xa 7 f) := fun q hq => hfr q (d1 q hq).2.2.1
  have fA : yFr Ya S (xSetA S xa 7 f) := fun q hq => hfr q (d2 q hq).2.1
  have fH : yFr Yh S (xSetA S xa 7 f) := fun q hq => hfr q (d3 q hq).1
  have hw : xWF (xSetA S xa 7 f) := c2.2.2.2.1
  obtain ⟨e1, e2, e3, e4, e5, e6⟩ := hfr na c1.1.2.2.1
  refine ⟨c1.keep hw rfl e1 e3 e2 e4, c2, c3, c4.fr fZ.g, ⟨c5.1.fr fA.g, c5.2.keep hw rfl fZ⟩, ⟨c6.1.fr fH.g, c6.2.keep fZ⟩, c7.keep hw rfl (fun _ _ => rfl) fZ, c8, c9', fun q hq => ?_, ?_⟩
  · have he2 := c10 q hq
    rw [x_cell_some] at he2 ⊢
    exact he2
  · obtain ⟨t1, t2, t3, t4⟩ := c11
    refine ⟨fun i hi => ?_, t2, t3, fun i hi => ?_⟩
    · rw [show xA (xSetA S xa 7 f) xa 4 = xA S xa 4 from if_neg (fun z => absurd z.2 (by decide))]
      exact t1 i hi
    · rw [show xA (xSetA S xa 7 f) xa 7 = f from if_pos ⟨rfl, rfl⟩]
      exact hr i hi
theorem x_ref7 (h : CRq g xa oa Z Ya Yh na ta cv la lh ra rh M S) {k : Nat} (hk : k < 3) {β : Type} {F : XS → Option β} {R : Option β} (hF : F (xSetA S xa 7 (upd (xA S xa 7) k (tR M k + 1))) = R) : ((f_obj S 1 xa 7).bind fun v1 => (a_int S 0 v1 (nI k)).bind fun v2 => (a_putI S 0 v1 (nI k) (v2 + 1)).bind F) = R := by
  have hx := h.2.1.1
  have hw := h.2.1.2.2.2.1
  have h1 := a_int_T (S := S) (k := 7) (i := nI k) hx hw (by decide) (show vp_in (nI k) 3 from nI_inn hk (by decide))
  have h2 := a_putI_T (S := S) (k := 7) (i := nI k) (v := tR M k + 1) hx hw (by decide) (show vp_in (nI k) 3 from nI_inn hk (by decide))
  rw [nI_clamp (by omega)] at h1 h2
  have h4 : xA S xa 7 k = tR M k := h.2.2.2.2.2.2.2.2.2.2.2.2.2 k hk
  rw [h4] at h1
  exact ob1 (f_objA_T hx (by decide) (by decide)) (ob1 h1 (ob1 h2 hF))
theorem x_refuse (h : CRq g xa oa Z Ya Yh na ta cv la lh ra rh M S) {k : Nat} (hk : k < 3) : kX_X1_refuse g N S xa (nI k) = some (xSetA S xa 7 (upd (xA S xa 7) k (tR M k + 1)), -1) := by
  unfold kX_X1_refuse
  exact x_ref7 h hk rfl
theorem x_refused (h : CRq g xa oa Z Ya Yh na ta cv la lh ra rh M S) : kX_X1_refused g N S xa = some (xSetA S xa 7 (upd (xA S xa 7) 1 (tR M 1 + 1)), 0) := by
  unfold kX_X1_refused
  exact x_ref7 h (k := 1) (by decide) rfl
theorem CRq.ref (h : CRq g xa oa Z Ya Yh na ta cv la lh ra rh M S) {k : Nat} : CRq g xa oa Z Ya Yh na ta cv la lh ra rh (sR M (upd (tR M) k (tR M k + 1))) (xSetA S xa 7 (upd (xA S xa 7) k (tR M k + 1))) := by
  refine h.x7 (fun i hi => ?_)
  unfold upd
  by_cases e : i = k
  · rw [if_pos e, if_pos e]
  · rw [if_neg e, if_neg e]
    exact h.2.2.2.2.2.2.2.2.2.2.2.2.2 i hi
theorem r_refuse {σ : MS} (h : RRel N M σ) {k : Nat} (hk : k < 3) : kM_refuses N σ (nI k) = some (rS σ 10 k (tR M k + 1), -1) ∧ RRel N (sR M (upd (tR M) k (tR M k + 1))) (rS σ 10 k (tR M k + 1)) := by
  refine ⟨?_, h.refuse (fun i _ => rfl)⟩
  unfold kM_refuses
  refine ob1 (r_ld rfl (show k < 3 from hk)) (ob1 (r_st rfl (show k < 3 from hk)) ?_)
  rw [h.2.2.2.2.2.2.2.2.2 k hk]
end ST
/-! nights' invariants -/
theorem YP.be {C : CC} {V : MN} {T : Int} (m : MN) (h9 : C.1 ≤ 9) (h : YP C V T) : YP C (mBe m V) T := by
  obtain ⟨h1, h2, h3, h4, p, h5, h6⟩ := h
  exact ⟨mBe_YN m h9 h1.1, mBe_0 _ _ _ (by omega), mBe_0 _ _ _ (by omega), mBe_0 _ _ _ (by omega), p, h5, (mBe_I _ _ _ (Or.inr rfl)).trans h6⟩
theorem yRep_I (C : CC) (m : MN) (n i : Nat) (h6 : i ≠ 6) (h13 : i ≠ 13) (h14 : i ≠ 14) : yI (yRep (mPass C) n m) i = yI m i := by
  induction n with
  | zero => rfl
  | succ n ih => exact (mPass_I C _ i h6 h13 h14).trans ih
theorem YP.rep {C : CC} {V : MN} {T : Int} (hs : ∀ k, k < C.1 → 0 ≤ C.2.1 k ∧ C.2.1 k ≤ 20) (h9 : C.1 ≤ 9) (h : YP C V T) (n : Nat) (hT : T + 40000 * n ≤ 900000000) : YP C (yRep (mPass C) n V) (T + 40000 * n) := by
  obtain ⟨h1, h2, h3, h4, p, h5, h6⟩ := h
  exact ⟨mPasses_YN hs h9 h1 n hT, (yRep_I C V n 8 (by decide) (by decide) (by decide)).trans h2, (yRep_I C V n 9 (by decide) (by decide) (by decide)).trans h3, (yRep_I C V n 10 (by decide) (by decide) (by decide)).trans h4, p, h5, (yRep_I C V n 7 (by decide) (by decide) (by decide)).trans h6⟩
theorem yAct_len {as : List MN} {V : MN} (h : as.length ≤ 40) : (yAct as V).length ≤ 40 := by
  unfold yAct
  by_cases e : as.length = 40
  · rw [if_pos e]; simp [e]
  · rw [if_neg e]; simp; omega
theorem yAct_mem {as : List MN} {V m : MN} (h : m ∈ yAct as V) : m ∈ as ∨ m = V := by
  unfold yAct at h
  rw [List.mem_append, List.mem_singleton] at h
  rcases h with h | h
  · left
    by_cases e : as.length = 40
    · rw [if_pos e] at h
      exact List.mem_of_mem_tail h
    · rw [if_neg e] at h
      exact h
  · exact Or.inr h
theorem MOk.keep {M : MT} {T : Int} (h : MOk T M) (m : MN) : MOk T (sA M (yAct (tA M) (mBe m (tV M)))) := by
  obtain ⟨a1, a2, a3, ⟨a4, a5⟩, a6, a7, a8, a9⟩ := h
  refine ⟨a1, a2, a3, ⟨yAct_len a4, fun x hx => ?_⟩, a6, a7, a8, a9⟩
  rcases yAct_mem hx with hx | hx
  · exact a5 x hx
  · rw [hx]
    exact a3.be m a1
theorem MOk.night {M : MT} {T : Int} (h : MOk T M) {m : MN} (hm : YP (tC M) m T) : MOk T (sV M m) := by
  obtain ⟨a1, a2, a3, a4⟩ := h
  exact ⟨a1, a2, hm, a4⟩
/-- the reference's hours on the night itself -/
theorem r_hours {N : Nat} {C : CC} {V : MN} {T : Int} {σ : MS} (hN : 2 ^ 20 < N) (h9 : C.1 ≤ 9) (hs : ∀ k, k < C.1 → 0 ≤ C.2.1 k ∧ C.2.1 k ≤ 20) (hC : RC N σ C) (hR : RowR (σ.2.2 31) 0 C V) (hM : HM σ V) (hm : YN C V T) {n : Nat} (hn : n ≤ 20) (hT : T + 40000 * n ≤ 900000000) : ∃ σ1, kM_hours_41 N N σ (nI n) 0 = some (σ1, yI (yRep (mPass C) n V) 6) ∧ FrH 0 σ σ1 ∧ RowR (σ1.2.2 31) 0 C (yRep (mPass C) n V) := by
  refine y_loop (fun f (s : MS) k => kM_hours_41 N f s (nI n) (nI k)) n (fun s k => k ≤ n ∧ FrH 0 σ s ∧ RowR (s.2.2 31) 0 C (yRep (mPass C) k V)) (fun r => ∃ σ1, r = some (σ1, yI (yRep (mPass C) n V) 6) ∧ FrH 0 σ σ1 ∧ RowR (σ1.2.2 31) 0 C (yRep (mPass C) n V)) ?_ ?_ n N σ 0 (by omega) (by omega) ⟨by omega, FrH.refl 0 σ, hR⟩
  · rintro f s k hk ⟨-, p1, p2⟩
    right
    have hmk := mPasses_YN hs h9 hm k (by omega)
    obtain ⟨s1, q1, q2, q3, -⟩ := r_hour hN (Or.inl rfl) h9 hs (hC.fr p1) p2 (hM.fr p1 (yRep_I C V k 8 (by decide) (by decide) (by decide)) (yRep_I C V k 9 (by decide) (by decide) (by decide)) (yRep_I C V k 10 (by decide) (by decide) (by decide))) hmk (by omega)
    refine ⟨s1, ?_, by omega, p1.trans q2, q3⟩
    show kM_hours_41 N (f + 1) s (nI n) (nI k) = kM_hours_41 N f s1 (nI n) (nI (k + 1))
    rw [kM_hours_41, nI_1]
    exact oif (nI_ge hk (by omega)) (ob1 q1 rfl)
  · rintro f s ⟨-, p1, p2⟩
    refine ⟨s, ?_, p1, p2⟩
    show kM_hours_41 N (f + 1) s (nI n) (nI n) = _
    rw [kM_hours_41]
    refine oit (nI_le (Nat.le_refl _) (by omega)) (ob1 (r_ld (q := 0) rfl (by decide)) ?_)
    rw [p2.1]
theorem op_fault {g : XC} {N xa oa i : Nat} : St_fault (yRel g N xa oa i) (yRel g N xa oa (i + 6)) g N xa oa := by
  rintro n sl τ σ ⟨M, Z, Ya, Yh, na, ta, cv, la, lh, ra, rh, hB⟩
  have hB : yBody g N xa oa i n Z Ya Yh na ta cv la lh ra rh M τ σ := hB
  generalize hcc : n + 14000 = cc
  generalize hkk : sl + 97000 = kk
  obtain ⟨-, -, h3, h4, -⟩ := y_open hB sl cc kk (by omega) (by omega)
  have hx := h3.2.1.1
  have hF : (m_put σ 0 0).1 9 = tF M := (mp_n _ _ _ (by decide)).trans hB.2.2.2.1.2.2.2.2.2.2.2.2.1
  have h6 : xI ((n, sl, cc, kk), τ) xa 6 = tF M := h3.2.2.2.2.2.2.2.2.2.2.2.2.1
  refine ⟨(), (((n, sl, cc, kk), τ), tF M), m_put σ 0 0, f_cls_T hx, ?_, ?_, fun n1 hn hfr => ?_⟩
  · unfold kX_X1_fault
    refine ob1 (f_int_T hx (by decide) (Or.inl (by decide))) ?_
    rw [h6]
  · show some (m_put σ 0 0, (m_put σ 0 0).1 9) = some (m_put σ 0 0, tF M)
    rw [hF]
  · exact y_end h3 hfr (hB.2.2.1.le hn) (hB.2.2.2.1.fr hB.2.2.2.2.1 (RFr.p0 σ 0)) (hB.2.2.2.2.le (by unfold yT; omega))
theorem op_hours {g : XC} {N xa oa i : Nat} (hN : 2 ^ 20 < N) (hi : i ≤ 378) : St_hours (yRel g N xa oa i) (yRel g N xa oa (i + 6)) g N xa oa := by
  rintro a0 n sl τ σ ⟨M, Z, Ya, Yh, na, ta, cv, la, lh, ra, rh, hB⟩
  have hB : yBody g N xa oa i n Z Ya Yh na ta cv la lh ra rh M τ σ := hB
  generalize hcc : n + 14000 = cc
  generalize hkk : sl + 97000 = kk
  obtain ⟨hO, -, h3, h4, -⟩ := y_open hB sl cc kk (by omega) (by omega)
  have hs := hO.spr
  have hx := h3.2.1.1
  have hW : WFr ((n, sl, cc, kk), τ) := ⟨h3.2.1.2.2.2.1, h4⟩
  have hM := hB.2.2.2.2
  have hR0 : RRel N M (m_put σ 0 0) := hB.2.2.2.1.fr hM.1 (RFr.p0 σ 0)
  have hG := hB.2.2.1
  have hT : yT i + 840000 = yT (i + 6) := by unfold yT; omega
  have hT2 : yT i ≤ 60000000 := by unfold yT; omega
  have hV := hM.2.2.1
  have hx25 : kX_X1_hours_25 (jg g cc kk) N ((n, sl, cc, kk), τ) xa = some (xSetA ((n, sl, cc, kk), τ) xa 7 (upd (xA ((n, sl, cc, kk), τ) xa 7) 1 (tR M 1 + 1)), -1) := by
    unfold kX_X1_hours_25
    exact ob1 (f_cls_T hx) (ob1 (x_refuse h3 (k := 1) (by decide)) rfl)
  have hr29 : kM_hours_29 N (m_put σ 0 0) = some (rS (m_put σ 0 0) 10 1 (tR M 1 + 1), -1) := by
    unfold kM_hours_29
    exact ob1 (r_refuse hR0 (k := 1) (by decide)).1 rfl
  have hend : ∀ n1, n ≤ n1 → (∀ q e, x_cell (xSetA ((n, sl, cc, kk), τ) xa 7 (upd (xA ((n, sl, cc, kk), τ) xa 7) 1 (tR M 1 + 1))) q = some e → q < n1) → yRel g N xa oa (i + 6) n1 (xSetA ((n, sl, cc, kk), τ) xa 7 (upd (xA ((n, sl, cc, kk), τ) xa 7) 1 (tR M 1 + 1))).2 (rS (m_put σ 0 0) 10 1 (tR M 1 + 1)) := fun n1 hn hfr => y_end (h3.ref (k := 1)) hfr (hG.le hn) (r_refuse hR0 (k := 1) (by decide)).2 (hM.le (by omega))
  have href : kX_X1_hours (jg g cc kk) N ((n, sl, cc, kk), τ) xa a0 = kX_X1_hours_25 (jg g cc kk) N ((n, sl, cc, kk), τ) xa → kM_hours N σ a0 = kM_hours_29 N (m_put σ 0 0) → ∃ (u0 : Unit) (w : XS × Int32) (σ1 : MS), f_cls ((n, sl, cc, kk), τ) 1 xa = some u0 ∧ kX_X1_hours (jg g cc kk) N ((n, sl, cc, kk), τ) xa a0 = some w ∧ kM_hours N σ a0 = some (σ1, w.2) ∧ ∀ n1 : Nat, n ≤ n1 → (∀ q e, x_cell w.1 q = some e → q < n1) → yRel g N xa oa (i + 6) n1 w.1.2 σ1 := fun e1 e2 => ⟨(), _, _, f_cls_T hx, e1.trans hx25, e2.trans hr29, hend⟩
  rcases y_rng 1 20 (by decide) a0 with ⟨k, hk1, hk2, rfl⟩ | hout
  · have hxi : kX_X1_in (jg g cc kk) N (nI k) 1 20 = some 1 := x_inN (a := 1) (b := 20) rfl rfl hk1 hk2 (by decide)
    have hri : kM_within N (nI k) 1 20 = some 1 := r_within1 (a := 1) (b := 20) rfl rfl hk1 hk2 (by decide)
    have o2 : f_obj ((n, sl, cc, kk), τ) 1 xa 2 = some na := f_obj_T hx (by decide) (by decide) h3.2.2.1.2.1
    have hl6 : (m_put σ 0 0).2.2 31 0 = yI (tV M) 6 := hR0.2.1.1
    by_cases h99 : yI (tV M) 6 + nI k ≤ 9999
    · obtain ⟨S1, Z1, Ya1, m, k1, k2, k3, k4, k5⟩ := x_keep (N := N) hN h3 hW ⟨hG.1, hG.2.1⟩ hM.2.2.2.1.1 (by show n + 10 ≤ cc; omega) (by show sl + 200 ≤ kk; omega)
      have hNW : NW (jg g cc kk) Z1 S1 na xa (tC M) := ⟨k5.1.1, cv, k5.2.2.1.1, k5.2.2.2.1⟩
      obtain ⟨w1, hw⟩ := x_after (m := tV M) (w := xA S1 xa 0) hNW hN (n := k) (by omega) (T := yT i) (by omega) hV.1
      have hn1 : NightAt S1 na xa (tV M) := k5.1
      rw [← na_eq hn1] at hw
      have o3 : f_obj S1 1 xa 2 = some na := f_obj_T k5.2.1.1 (by decide) (by decide) k5.2.2.1.2.1
      obtain ⟨σ1, q1, q2, q3⟩ := r_keep hN hM.1 hM.2.2.2.1.1 hR0.2.2.1 (mBe_Row m hM.1 hR0.2.1)
      have hR1 := hR0.kept q2 q3
      obtain ⟨σ2, u1, u2, u3⟩ := r_hours hN hs.1 hs.2 hR1.1 hR1.2.1 ⟨hV.2.1, Or.inl ⟨hR1.2.2.2.2.2.1, hV.2.2.1, hV.2.2.2.1⟩⟩ hV.1 (n := k) hk2 (by omega)
      refine ⟨(), (nset S1 na xa (yRep (mPass (tC M)) k (tV M)) w1, yI (yRep (mPass (tC M)) k (tV M)) 6), σ2, f_cls_T hx, ?_, ?_, fun n1 hn hfr => ?_⟩
      · unfold kX_X1_hours
        exact ob1 hxi (oif (by decide) (ob1 o2 (ob1 (na_int h3.1 (by decide)) (oit h99 (ob1 (f_cls_T hx) (ob1 k1 (ob1 o3 (ob1 (na_cls k5.1) (ob1 hw (ob1 (n_int k5.1.1 (by decide)) rfl))))))))))
      · unfold kM_hours
        refine onb rfl (ob1 hri (oif (by decide) (ob1 (r_ld (q := 0) rfl (by decide)) ?_)))
        rw [hl6]
        exact oit h99 (ob1 q1 u1)
      · exact y_end (k5.night (yRep (mPass (tC M)) k (tV M)) w1) hfr (hG.le hn) (hR1.row u2 u3) (((hM.keep m).le (by omega)).night ((hV.rep hs.2 hs.1 k (by omega)).le (by omega)))
    · refine href ?_ ?_
      · unfold kX_X1_hours
        exact ob1 hxi (oif (by decide) (ob1 o2 (ob1 (na_int h3.1 (by decide)) (oif h99 rfl))))
      · unfold kM_hours
        refine onb rfl (ob1 hri (oif (by decide) (ob1 (r_ld (q := 0) rfl (by decide)) ?_)))
        rw [hl6]
        exact oif h99 rfl
  · refine href ?_ ?_
    · unfold kX_X1_hours
      exact ob1 (x_in0 hout) (oit rfl rfl)
    · unfold kM_hours
      exact onb rfl (ob1 (r_within0 hout) (oit rfl rfl))
