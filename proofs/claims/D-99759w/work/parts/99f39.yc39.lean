/-! the cave: the reference's operation -/
def byT (M : MT) (i : Nat) : Nat := (tT M i &&& 255).toNatClampNeg
theorem byte_dec : ∀ k : Nat, k < 256 → nI ((iI ((k : Int) - 128) &&& 255).toNatClampNeg) = iI ((k : Int) - 128) &&& 255 ∧ (iI ((k : Int) - 128) &&& 255).toNatClampNeg < 256 ∧ ((iI ((k : Int) - 128) &&& 255).toNatClampNeg < 128 → iI ((k : Int) - 128) = nI ((iI ((k : Int) - 128) &&& 255).toNatClampNeg)) := by decide +kernel
theorem byte_ok {y : Int32} (h : y.toInt8.toInt32 = y) : nI ((y &&& 255).toNatClampNeg) = y &&& 255 ∧ (y &&& 255).toNatClampNeg < 256 ∧ ((y &&& 255).toNatClampNeg < 128 → y = nI ((y &&& 255).toNatClampNeg)) := by
  have e1 : y.toInt = y.toInt8.toInt := by
    have := congrArg Int32.toInt h
    rw [Int8.toInt_toInt32] at this
    exact this.symm
  have l1 := Int8.le_toInt y.toInt8
  have l2 := Int8.toInt_lt y.toInt8
  have := byte_dec (y.toInt + 128).toNat (by omega)
  have e2 : (((y.toInt + 128).toNat : Int) - 128) = y.toInt := by omega
  rw [e2, iI_t] at this
  exact this
/-- what stands at first -/
def s00 (m0 : MN) : LT := ((0, fun _ => 0, none, none), m0, fun _ => false)
def mErr (M : MT) (e : Nat × TK) : MT := (tC M, tV M, tA M, tH M, tI M, tT M, 0, nI e.2.2.1, fun i => if i = 0 then tR M 0 + 1 else tR M i)
def mNew (M : MT) (s : LT) : MT := (s.1, s.2.1, [], [], none, tT M, 0, -1, tR M)
section YC39
variable {N n : Nat} {σ σ1 : MS} {M : MT} {T : Int} {m0 : MN}
theorem r_cave0 {x : Int32} (hR : RRel N M σ) (hx : x < 0 ∨ nI (tN M) < x) : kM_cave N σ x = some (m_put (m_put σ 0 0) 0 1, 0) := by
  have h7 : (m_put σ 0 0).1 7 = nI (tN M) := (mp_n _ _ _ (by decide)).trans hR.2.2.2.2.2.2.1
  have h23 : kM_cave_23 N (m_put σ 0 0) x 0 = some (m_put (m_put σ 0 0) 0 1, 0) := by
    unfold kM_cave_23
    exact ob1 (r_right0 (mp_s _ _ _) (by decide)) (oit rfl rfl)
  unfold kM_cave
  refine onb rfl ?_
  by_cases h0 : x < 0
  · exact oit h0 h23
  · refine oif h0 (oit ?_ h23)
    rw [h7]
    exact hx.resolve_left h0
/-- the row is cleared -/
theorem r_clear (hN : 2 ^ 20 < N) : ∃ σ1, kM_cave_74 N N σ 0 = ((kM_goes N (m_put σ1 22 0)).bind fun w3 => kM_cave_102 N N w3) ∧ σ1.1 = σ.1 ∧ σ1.2.1 = σ.2.1 ∧ (∀ j, j ≠ 26 → σ1.2.2 j = σ.2.2 j) ∧ ∀ q, q < 64 → σ1.2.2 26 q = 0 := by
  refine y_loop (fun f (s : MS) k => kM_cave_74 N f s (nI k)) 64 (fun s k => s.1 = σ.1 ∧ s.2.1 = σ.2.1 ∧ (∀ j, j ≠ 26 → s.2.2 j = σ.2.2 j) ∧ ∀ q, q < k → s.2.2 26 q = 0) (fun r => ∃ σ1, r = ((kM_goes N (m_put σ1 22 0)).bind fun w3 => kM_cave_102 N N w3) ∧ σ1.1 = σ.1 ∧ σ1.2.1 = σ.2.1 ∧ (∀ j, j ≠ 26 → σ1.2.2 j = σ.2.2 j) ∧ ∀ q, q < 64 → σ1.2.2 26 q = 0) ?_ ?_ 64 N σ 0 (by omega) (by omega) ⟨rfl, rfl, fun _ _ => rfl, fun q hq => by omega⟩
  · rintro f s k hk ⟨h1, h2, h3, h4⟩
    right
    refine ⟨rS s 26 k 0, ?_, h1, h2, fun j hj => (rS_ne _ _ _ _ hj).trans (h3 j hj), fun q hq => ?_⟩
    · show kM_cave_74 N (f + 1) s (nI k) = kM_cave_74 N f (rS s 26 k 0) (nI (k + 1))
      rw [kM_cave_74, nI_1]
      exact oif (nI_ge (b := 64) (a := k) hk (by omega)) (ob1 (r_st rfl (by show k < 64; omega)) rfl)
    · rw [rS_26]
      by_cases e : q = k
      · rw [if_pos e]
      · rw [if_neg e]; exact h4 q (by omega)
  · rintro f s ⟨h1, h2, h3, h4⟩
    refine ⟨s, ?_, h1, h2, h3, h4⟩
    show kM_cave_74 N (f + 1) s (nI 64) = _
    rw [kM_cave_74]
    exact oit (nI_le (a := 64) (Nat.le_refl _) (by omega)) (onb rfl rfl)
/-- the row is taken over -/
theorem r_take (hN : 2 ^ 20 < N) : ∃ σ1, kM_cave_195 N N σ 0 = some (σ1, 0) ∧ σ1.1 33 = 0 ∧ σ1.1 49 = 0 ∧ σ1.1 54 = 0 ∧ (∀ j, j ≠ 33 → j ≠ 49 → j ≠ 54 → σ1.1 j = σ.1 j) ∧ (∀ j, j ≠ 31 → σ1.2.2 j = σ.2.2 j) ∧ ∀ q, q < 64 → σ1.2.2 31 q = σ.2.2 26 q := by
  refine y_loop (fun f (s : MS) k => kM_cave_195 N f s (nI k)) 64 (fun s k => s.1 = σ.1 ∧ (∀ j, j ≠ 31 → s.2.2 j = σ.2.2 j) ∧ ∀ q, q < k → s.2.2 31 q = σ.2.2 26 q) (fun r => ∃ σ1, r = some (σ1, 0) ∧ σ1.1 33 = 0 ∧ σ1.1 49 = 0 ∧ σ1.1 54 = 0 ∧ (∀ j, j ≠ 33 → j ≠ 49 → j ≠ 54 → σ1.1 j = σ.1 j) ∧ (∀ j, j ≠ 31 → σ1.2.2 j = σ.2.2 j) ∧ ∀ q, q < 64 → σ1.2.2 31 q = σ.2.2 26 q) ?_ ?_ 64 N σ 0 (by omega) (by omega) ⟨rfl, fun _ _ => rfl, fun q hq => by omega⟩
  · rintro f s k hk ⟨h1, h2, h3⟩
    right
    refine ⟨rS s 31 k (σ.2.2 26 k), ?_, h1, fun j hj => (rS_ne _ _ _ _ hj).trans (h2 j hj), fun q hq => ?_⟩
    · show kM_cave_195 N (f + 1) s (nI k) = kM_cave_195 N f (rS s 31 k (σ.2.2 26 k)) (nI (k + 1))
      rw [kM_cave_195, nI_1]
      refine oif (nI_ge (b := 64) (a := k) hk (by omega)) (ob1 (v := σ.2.2 26 k) ?_ (ob1 (r_st rfl (by show k < 128; omega)) rfl))
      rw [r_ld rfl (by show k < 64; omega), h2 26 (by decide)]
    · rw [rS_26]
      by_cases e : q = k
      · rw [if_pos e, e]
      · rw [if_neg e]; exact h3 q (by omega)
  · rintro f s ⟨h1, h2, h3⟩
    refine ⟨m_put (m_put (m_put s 33 0) 49 0) 54 0, ?_, ?_, ?_, mp_s _ _ _, fun j z1 z2 z3 => ?_, h2, h3⟩
    · show kM_cave_195 N (f + 1) s (nI 64) = _
      rw [kM_cave_195]
      exact oit (nI_le (a := 64) (Nat.le_refl _) (by omega)) (onb rfl (onb rfl (onb rfl rfl)))
    · exact (mp_n _ _ _ (by decide)).trans ((mp_n _ _ _ (by decide)).trans (mp_s _ _ _))
    · exact (mp_n _ _ _ (by decide)).trans (mp_s _ _ _)
    · rw [mp_n _ _ _ z3, mp_n _ _ _ z2, mp_n _ _ _ z1, h1]
theorem fIn_R (hN : 2 ^ 20 < N) {co : List Int32} {φ : Option VF} {x : Int32} {code : Nat → Int32} (h : fIn co φ x) (hl : co.length ≤ 1400) (hc : ∀ i, i < co.length → code i = co.getD i 0) : fOkR N code φ x := by
  cases φ with
  | none => exact h
  | some ψ =>
    obtain ⟨a, h1, pre, seg, post, h2, h3, h4⟩ := h
    have hlen : co.length = a + seg.length + 1 + post.length := by
      rw [h2, List.length_append, List.length_append, List.length_append, h3]
      rfl
    refine ⟨a, by omega, h1, seg_code hN h4 (by omega) (fun i hi => ?_) ?_⟩
    · rw [hc _ (by omega), h2, List.getD_eq_getElem?_getD, List.append_assoc, List.append_assoc, List.getElem?_append_right (by omega), h3, Nat.add_sub_cancel_left, List.getElem?_append_left hi, ← List.getD_eq_getElem?_getD]
    · rw [hc _ (by omega), h2, List.getD_eq_getElem?_getD, List.append_assoc, List.append_assoc, List.getElem?_append_right (by omega), h3, Nat.add_sub_cancel_left, List.getElem?_append_right (Nat.le_refl _), Nat.sub_self]
      rfl
def RCv (N : Nat) (M : MT) (X : Option (MS × Int32)) : PR LT → Prop
  | .inr s => ∃ σ1, X = some (σ1, 0) ∧ σ1.1 0 = 0 ∧ RRel N (mNew M s) σ1
  | .inl e => ∃ σ1, X = some (σ1, nI e.1) ∧ σ1.1 0 = 0 ∧ RRel N (mErr M e) σ1
theorem r_cave1 (hN : 2 ^ 20 < N) (hR : RRel N M σ) (hM : MOk T M) (hn : n ≤ tN M) (H0 : LOk (s00 m0)) : RCv N M (kM_cave N σ (nI n)) (pText n (byT M) (n + 1) (s00 m0) (lxN n (byT M) 0)) := by
  obtain ⟨a1, a2, a3, a4, a5, a6, a7, a8, a9, a10⟩ := hR
  have h700 := hM.2.2.2.2.2.2.1
  have hby := hM.2.2.2.2.2.2.2
  generalize hs1 : m_put (m_put (m_put (m_put (m_put (m_put (m_put (m_put (m_put σ 0 0) 7 0) 9 (-1)) 8 0) 11 (nI n)) 12 0) 19 0) 20 (-1)) 21 (-1) = σ1
  have r1 : σ1.2 = σ.2 := by rw [← hs1]; rfl
  have i1 : ∀ j, j ∉ [0, 7, 9, 8, 11, 12, 19, 20, 21] → σ1.1 j = σ.1 j := fun j hj => by
    simp at hj
    rw [← hs1, mp_n _ _ _ (by omega), mp_n _ _ _ (by omega), mp_n _ _ _ (by omega), mp_n _ _ _ (by omega), mp_n _ _ _ (by omega), mp_n _ _ _ (by omega), mp_n _ _ _ (by omega), mp_n _ _ _ (by omega), mp_n _ _ _ (by omega)]
  have v21 : σ1.1 21 = -1 := by rw [← hs1]; exact mp_s _ _ _
  have v20 : σ1.1 20 = -1 := by rw [← hs1, mp_n _ _ _ (by decide)]; exact mp_s _ _ _
  have v19 : σ1.1 19 = 0 := by rw [← hs1, mp_n _ _ _ (by decide), mp_n _ _ _ (by decide)]; exact mp_s _ _ _
  have v12 : σ1.1 12 = 0 := by rw [← hs1, mp_n _ _ _ (by decide), mp_n _ _ _ (by decide), mp_n _ _ _ (by decide)]; exact mp_s _ _ _
  have v11 : σ1.1 11 = nI n := by rw [← hs1, mp_n _ _ _ (by decide), mp_n _ _ _ (by decide), mp_n _ _ _ (by decide), mp_n _ _ _ (by decide)]; exact mp_s _ _ _
  have v8 : σ1.1 8 = 0 := by rw [← hs1, mp_n _ _ _ (by decide), mp_n _ _ _ (by decide), mp_n _ _ _ (by decide), mp_n _ _ _ (by decide), mp_n _ _ _ (by decide)]; exact mp_s _ _ _
  have v9 : σ1.1 9 = -1 := by rw [← hs1, mp_n _ _ _ (by decide), mp_n _ _ _ (by decide), mp_n _ _ _ (by decide), mp_n _ _ _ (by decide), mp_n _ _ _ (by decide), mp_n _ _ _ (by decide)]; exact mp_s _ _ _
  have v7 : σ1.1 7 = 0 := by rw [← hs1, mp_n _ _ _ (by decide), mp_n _ _ _ (by decide), mp_n _ _ _ (by decide), mp_n _ _ _ (by decide), mp_n _ _ _ (by decide), mp_n _ _ _ (by decide), mp_n _ _ _ (by decide)]; exact mp_s _ _ _
  have v0 : σ1.1 0 = 0 := by rw [← hs1, mp_n _ _ _ (by decide), mp_n _ _ _ (by decide), mp_n _ _ _ (by decide), mp_n _ _ _ (by decide), mp_n _ _ _ (by decide), mp_n _ _ _ (by decide), mp_n _ _ _ (by decide), mp_n _ _ _ (by decide)]; exact mp_s _ _ _
  obtain ⟨σ2, c1, c2, c3, c4, c5⟩ := r_clear (N := N) (σ := σ1) hN
  have e0 : kM_cave N σ (nI n) = ((kM_goes N (m_put σ2 22 0)).bind fun w3 => kM_cave_102 N N w3) := by
    rw [← c1]
    unfold kM_cave
    refine onb rfl (oif (nI_pos (by omega)) (oif ?_ ?_))
    · rw [mp_n _ _ _ (by decide), a7]
      exact nI_nlt hn (by omega)
    · unfold kM_cave_23
      refine ob1 (r_right1 (mp_s _ _ _) (by decide) 1) (oif n10 ?_)
      show kM_cave_74 N N (m_put (m_put (m_put (m_put (m_put (m_put (m_put (m_put (m_put σ 0 0) 7 0) 9 (-1)) 8 0) 11 (nI n)) 12 0) 19 0) 20 (-1)) 21 (-1)) 0 = _
      rw [hs1]
  have T3 : RTp n (byT M) (m_put σ2 22 0) := by
    refine ⟨(mp_n _ _ _ (by decide)).trans (by rw [c2]; exact v11), by omega, fun i hi => ?_, (mp_n _ _ _ (by decide)).trans (by rw [c2]; exact v9)⟩
    · obtain ⟨b1, b2, -⟩ := byte_ok (hby i (by omega))
      refine ⟨?_, b2⟩
      show σ2.2.2 6 i = _
      rw [c4 6 (by decide), r1, a8 i (by omega)]
      exact b1.symm
  obtain ⟨σ3, d1, d2, d3⟩ := r_next (a := 0) hN T3 (Nat.zero_le _) ((mp_n _ _ _ (by decide)).trans (by rw [c2]; exact v12))
  have i3 : ∀ j, j ∉ [12, 13, 14, 15, 16, 17, 22] → σ3.1 j = σ1.1 j := fun j hj => by
    rw [d2.1 j (fun z => hj (by simp at z ⊢; omega)), mp_n _ _ _ (fun z => hj (by rw [z]; decide)), c2]
  have r3 : ∀ j, j ≠ 26 → σ3.2.2 j = σ.2.2 j := fun j hj => by
    rw [d2.2]
    show σ2.2.2 j = _
    rw [c4 j hj, r1]
  have row3 : ∀ q, q < 64 → σ3.2.2 26 q = 0 := fun q hq => by
    rw [d2.2]
    exact c5 q hq
  have hL : RLn n (byT M) [] (s00 m0) (lxN n (byT M) 0) σ3 := by
    refine ⟨⟨(i3 8 (by decide)).trans v8, T3.l d2, d3, (lxN_ok (Nat.zero_le _)).1⟩, ⟨?_, fun i hi => by simp at hi⟩, Nat.zero_le _, (i3 19 (by decide)).trans v19, fun k hk => absurd hk (Nat.not_lt_zero k), (i3 20 (by decide)).trans v20, (i3 21 (by decide)).trans v21, ⟨?_, fun k hk => absurd hk (Nat.not_lt_zero k)⟩, fun q _ z2 => row3 q z2, fun k hk => absurd hk (Nat.not_lt_zero k)⟩
    · rw [d2.1 22 (by decide)]
      exact mp_s _ _ _
    · rw [row3 0 (by decide)]
      exact (H0.2.2.2.2.2.2 6 (Or.inl rfl)).symm
  have hx := r_text hN (n + 1) N (s00 m0) [] (lxN n (byT M) 0) σ3 (by omega) (by omega) H0 hL
  have e1 : kM_cave N σ (nI n) = kM_cave_102 N N σ3 := e0.trans (ob1 d1 rfl)
  rw [e1]
  cases hv : pText n (byT M) (n + 1) (s00 m0) (lxN n (byT M) 0) with
  | inl e =>
    rw [hv] at hx
    obtain ⟨σ4, x1, x2, x3⟩ := hx
    have i4 : ∀ j, j ∈ [0, 1, 2, 3, 7, 33, 40, 49, 54, 55, 56] → σ4.1 j = σ1.1 j := fun j hj => (x3.1 j (by simp at hj ⊢; omega)).trans (i3 j (by simp at hj ⊢; omega))
    have j4 : ∀ j, j ∈ [1, 2, 3, 33, 40, 49, 54, 55, 56] → σ4.1 j = σ.1 j := fun j hj => (i4 j (by simp at hj ⊢; omega)).trans (i1 j (by simp at hj ⊢; omega))
    have r4 : ∀ j, j ∉ [25, 26, 27, 28, 29, 30] → σ4.2.2 j = σ.2.2 j := fun j hj => (x3.2 j hj).trans (r3 j (by simp at hj; omega))
    have rr : ∀ j, j ≠ 10 → (rS σ4 10 0 (tR M 0 + 1)).2.2 j = σ4.2.2 j := fun j hj => rS_ne _ _ _ _ hj
    have hld : m_ld σ4 10 0 = some (tR M 0) := by
      rw [show (0 : Int32) = nI 0 from rfl, r_ld rfl (by decide), r4 10 (by decide), a10 0 (by decide)]
    refine ⟨rS σ4 10 0 (tR M 0 + 1), ?_, (i4 0 (by decide)).trans v0, ?_⟩
    · rw [x1]
      unfold kM_cave_123
      refine ob1 x2.bad (oit rfl (ob1 hld (ob1 (v := rS σ4 10 0 (tR M 0 + 1)) (r_st (q := 0) rfl (by decide)) ?_)))
      show some (rS σ4 10 0 (tR M 0 + 1), σ4.1 8) = _
      rw [x2.1]
    · refine ⟨?_, ?_, ?_, ?_, ?_, (j4 40 (by decide)).trans a6, ?_, fun i hi => absurd hi (Nat.not_lt_zero i), x2.2.2, fun i hi => ?_⟩
      · unfold RC at a1 ⊢
        show σ4.1 1 = _ ∧ (∀ k, k < (tC M).1 → (rS σ4 10 0 (tR M 0 + 1)).2.2 4 k = _) ∧ fOkR N ((rS σ4 10 0 (tR M 0 + 1)).2.2 5) (tC M).2.2.1 (σ4.1 2) ∧ fOkR N ((rS σ4 10 0 (tR M 0 + 1)).2.2 5) (tC M).2.2.2 (σ4.1 3)
        rw [rr 4 (by decide), rr 5 (by decide), r4 4 (by decide), r4 5 (by decide), j4 1 (by decide), j4 2 (by decide), j4 3 (by decide)]
        exact a1
      · show RowR ((rS σ4 10 0 (tR M 0 + 1)).2.2 31) 0 (tC M) (tV M)
        rw [rr 31 (by decide), r4 31 (by decide)]
        exact a2
      · show RActs (tC M) (σ4.1 33) ((rS σ4 10 0 (tR M 0 + 1)).2.2 32) (tA M)
        rw [rr 32 (by decide), r4 32 (by decide), j4 33 (by decide)]
        exact a3
      · show RHeard (σ4.1 49) ((rS σ4 10 0 (tR M 0 + 1)).2.2 50) (tH M)
        rw [rr 50 (by decide), r4 50 (by decide), j4 49 (by decide)]
        exact a4
      · show RImg (rS σ4 10 0 (tR M 0 + 1)) (tC M) (tI M)
        unfold RImg at a5 ⊢
        have z54 : (rS σ4 10 0 (tR M 0 + 1)).1 54 = σ.1 54 := j4 54 (by decide)
        have z55 : (rS σ4 10 0 (tR M 0 + 1)).1 55 = σ.1 55 := j4 55 (by decide)
        have z56 : (rS σ4 10 0 (tR M 0 + 1)).1 56 = σ.1 56 := j4 56 (by decide)
        rw [z54, z55, z56, rr 57 (by decide), rr 58 (by decide), rr 59 (by decide), r4 57 (by decide), r4 58 (by decide), r4 59 (by decide)]
        exact a5
      · show σ4.1 7 = nI 0
        rw [i4 7 (by decide), v7]
        rfl
      · show (rS σ4 10 0 (tR M 0 + 1)).2.2 10 i = if i = 0 then tR M 0 + 1 else tR M i
        rw [rS_26]
        by_cases e : i = 0
        · rw [if_pos e, if_pos e]
        · rw [if_neg e, if_neg e, r4 10 (by decide)]
          exact a10 i hi
  | inr s =>
    rw [hv] at hx
    obtain ⟨σ4, co, t1, x1, x2, x3⟩ := hx
    obtain ⟨y1, y2, y3, y4, y5, y6, y7, y8, y9, y10⟩ := x2
    have hco : co.length ≤ 1400 := by
      have z1 := y1.2.2.2.1
      have z2 := y1.2.2.2.2.1
      omega
    have hS := pText_ok (n + 1) _ _ s (lxN_ok (Nat.zero_le _)).1 H0 hv
    have i4 : ∀ j, j ∈ [0, 7, 40] → σ4.1 j = σ1.1 j := fun j hj => (x3.1 j (by simp at hj ⊢; omega)).trans (i3 j (by simp at hj ⊢; omega))
    have r4 : ∀ j, j ∉ [25, 26, 27, 28, 29, 30] → σ4.2.2 j = σ.2.2 j := fun j hj => (x3.2 j hj).trans (r3 j (by simp at hj; omega))
    generalize hs5 : m_put (m_put (m_put σ4 1 (nI s.1.1)) 2 (σ4.1 20)) 3 (σ4.1 21) = σ5
    have i5 : ∀ j, j ≠ 1 → j ≠ 2 → j ≠ 3 → σ5.1 j = σ4.1 j := fun j z1 z2 z3 => by rw [← hs5, mp_n _ _ _ z3, mp_n _ _ _ z2, mp_n _ _ _ z1]
    have r5 : σ5.2 = σ4.2 := by rw [← hs5]; rfl
    have w1 : σ5.1 1 = nI s.1.1 := by rw [← hs5, mp_n _ _ _ (by decide), mp_n _ _ _ (by decide)]; exact mp_s _ _ _
    have w2 : σ5.1 2 = σ4.1 20 := by rw [← hs5, mp_n _ _ _ (by decide)]; exact mp_s _ _ _
    have w3 : σ5.1 3 = σ4.1 21 := by rw [← hs5]; exact mp_s _ _ _
    obtain ⟨σ6, p1, p2, p3⟩ := r_copies (N := N) (σ := σ5) (k1 := 25) (k2 := 4) hN (by decide) (by decide) (by show 9 < 2 ^ 20; decide)
    obtain ⟨σ7, q1, q2, q3⟩ := r_copies (N := N) (σ := σ6) (k1 := 27) (k2 := 5) hN (by decide) (by decide) (by show 1400 < 2 ^ 20; decide)
    obtain ⟨σ8, u1, u2, u3, u4, u5, u6, u7⟩ := r_take (N := N) (σ := σ7) hN
    have i8 : ∀ j, j ≠ 33 → j ≠ 49 → j ≠ 54 → σ8.1 j = σ5.1 j := fun j z1 z2 z3 => by rw [u5 j z1 z2 z3, q2.1 j (by simp), p2.1 j (by simp)]
    have r8 : ∀ j, j ≠ 31 → j ≠ 5 → j ≠ 4 → σ8.2.2 j = σ4.2.2 j := fun j z1 z2 z3 => by rw [u6 j z1, q2.2 j (by simpa using z2), p2.2 j (by simpa using z3), r5]
    refine ⟨σ8, ?_, ?_, ?_⟩
    · rw [x1]
      unfold kM_cave_123
      refine ob1 y1.good (oif n10 (onb (v := m_put σ4 1 (nI s.1.1)) ?_ (onb (v := m_put (m_put σ4 1 (nI s.1.1)) 2 (σ4.1 20)) ?_ (onb hs5 (ob1 p1 (ob1 q1 u1))))))
      · show m_put σ4 1 (σ4.1 19) = _
        rw [y4]
      · rw [mp_n _ _ _ (by decide)]
    · rw [i8 0 (by decide) (by decide) (by decide), i5 0 (by decide) (by decide) (by decide), i4 0 (by decide), v0]
    · refine ⟨⟨?_, fun k hk => ?_, ?_, ?_⟩, ?_, ⟨u2, fun i m hm => by
        have hm : ([] : List MN)[i]? = some m := hm
        rw [List.getElem?_nil] at hm
        cases hm⟩, ⟨u3, fun i m hm => by
        have hm : ([] : List HT)[i]? = some m := hm
        rw [List.getElem?_nil] at hm
        cases hm⟩, u4, ?_, ?_, fun i hi => absurd hi (Nat.not_lt_zero i), ?_, fun i hi => ?_⟩
      · rw [i8 1 (by decide) (by decide) (by decide)]
        exact w1
      · have hk : k < s.1.1 := hk
        have h9 := hS.1
        rw [u6 4 (by decide), q2.2 4 (by decide), p3 k (by show k < 9; omega), r5]
        exact y5 k hk
      · rw [i8 2 (by decide) (by decide) (by decide), w2, u6 5 (by decide)]
        refine fIn_R hN y6 hco (fun i hi => ?_)
        rw [q3 i (by show i < 1400; omega), p2.2 27 (by decide), r5]
        exact y2.2 i hi
      · rw [i8 3 (by decide) (by decide) (by decide), w3, u6 5 (by decide)]
        refine fIn_R hN y7 hco (fun i hi => ?_)
        rw [q3 i (by show i < 1400; omega), p2.2 27 (by decide), r5]
        exact y2.2 i hi
      · refine y8.of hS.1 (fun q hq => ?_)
        rw [Nat.zero_add, u7 q hq, q2.2 26 (by decide), p2.2 26 (by decide), r5]
      · rw [i8 40 (by decide) (by decide) (by decide), i5 40 (by decide) (by decide) (by decide), i4 40 (by decide), i1 40 (by decide), a6]
      · show σ8.1 7 = nI 0
        rw [i8 7 (by decide) (by decide) (by decide), i5 7 (by decide) (by decide) (by decide), i4 7 (by decide), v7]
        rfl
      · show σ8.1 9 = -1
        rw [i8 9 (by decide) (by decide) (by decide), i5 9 (by decide) (by decide) (by decide)]
        exact y1.2.1.2.2.2
      · show σ8.2.2 10 i = tR M i
        rw [r8 10 (by decide) (by decide) (by decide), r4 10 (by decide)]
        exact a10 i hi
end YC39
