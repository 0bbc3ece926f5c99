/-! plain law: feed -/
theorem by_bit (y : Int32) {i : Nat} (hi : i < 8) : bt (y.toInt8.toInt32) i = bt y i := by
  unfold bt
  rw [Int8.toBitVec_toInt32, Int32.toBitVec_toInt8, BitVec.getLsbD_signExtend, BitVec.getLsbD_signExtend]
  simp [hi, show i < 32 by omega]
theorem by_255 (y : Int32) : y.toInt8.toInt32 &&& 255 = y &&& 255 := by
  apply b_ext
  intro i hi
  rw [b_and, b_and, b_255]
  by_cases h : i < 8
  · rw [by_bit y h]
  · simp [h]
theorem by_by (y : Int32) : y.toInt8.toInt32.toInt8.toInt32 = y.toInt8.toInt32 := by rw [Int8.toInt8_toInt32]
/-- byte k of five numbers in a row -/
def yB (a b c d e : Int32) (k : Nat) : Int32 := (if k < 4 then a else if k < 8 then b else if k < 12 then c else if k < 16 then d else e) >>> (iI (24 - 8 * ((k : Int) % 4)) &&& 31)
def sFd (M : MT) (f : Nat → Int32) : MT := (tC M, tV M, tA M, tH M, tI M, (fun i => if i < tN M then tT M i else (f (i - tN M)).toInt8.toInt32), tN M + 20, tF M, tR M)
theorem xSetA2 (S : XS) (a k : Nat) (f h : Nat → Int32) : xSetA (xSetA S a k f) a k h = xSetA S a k h := by
  refine Prod.ext rfl (Prod.ext rfl (Prod.ext rfl (Prod.ext ?_ rfl)))
  funext b j
  show (if b = a ∧ j = k then h else if b = a ∧ j = k then f else xA S b j) = if b = a ∧ j = k then h else xA S b j
  by_cases e : b = a ∧ j = k
  · rw [if_pos e, if_pos e]
  · rw [if_neg e, if_neg e, if_neg e]
section SL
variable {g : XC} {N xa oa : Nat} {Z Ya Yh : Nat → Prop} {na ta cv la lh : Nat} {ra rh : List Nat} {M : MT} {S : XS}
theorem CRq.x45 (h : CRq g xa oa Z Ya Yh na ta cv la lh ra rh M S) {f b : Nat → Int32} (hf : ∀ i, i < tN M + 20 → f i = if i < tN M then tT M i else (b (i - tN M)).toInt8.toInt32) : CRq g xa oa Z Ya Yh na ta cv la lh ra rh (sFd M b) (xSetI (xSetA S xa 4 f) xa 5 (nI (tN M + 20))) := by
  obtain ⟨c1, c2, c3, c4, c5, c6, c7, c8, c9, c10, c11⟩ := h
  have c9' := c9
  obtain ⟨d1, d2, d3, d4, d5, d6, d7⟩ := c9
  have hfr : ∀ q, q ≠ xa → tSame S (xSetI (xSetA S xa 4 f) xa 5 (nI (tN M + 20))) q := fun q h2 => ⟨rfl, funext fun j => if_neg (fun z => h2 z.1), rfl, funext fun j => if_neg (fun z => h2 z.1), rfl, rfl⟩
  have fZ : yFr Z S (xSetI (xSetA S xa 4 f) xa 5 (nI (tN M + 20))) := fun q hq => hfr q (d1 q hq).2.2.1
  have fA : yFr Ya S (xSetI (xSetA S xa 4 f) xa 5 (nI (tN M + 20))) := fun q hq => hfr q (d2 q hq).2.1
  have fH : yFr Yh S (xSetI (xSetA S xa 4 f) xa 5 (nI (tN M + 20))) := fun q hq => hfr q (d3 q hq).1
  have hw : xWF (xSetI (xSetA S xa 4 f) xa 5 (nI (tN M + 20))) := c2.2.2.2.1
  obtain ⟨e1, e2, e3, e4, e5, e6⟩ := hfr na c1.1.2.2.1
  refine ⟨c1.keep hw rfl e1 e3 e2 e4, c2, c3, c4.fr fZ.g, ⟨c5.1.fr fA.g, c5.2.keep hw rfl fZ⟩, ⟨c6.1.fr fH.g, c6.2.keep fZ⟩, c7.keep hw rfl (fun _ _ => rfl) fZ, c8, c9', fun q hq => ?_, ?_⟩
  · have he2 := c10 q hq
    rw [x_cell_some] at he2 ⊢
    exact he2
  · obtain ⟨t1, t2, t3, t4⟩ := c11
    refine ⟨fun i hi => ?_, if_pos ⟨rfl, rfl⟩, ?_, fun i hi => ?_⟩
    · rw [show xA (xSetI (xSetA S xa 4 f) xa 5 (nI (tN M + 20))) xa 4 = f from if_pos ⟨rfl, rfl⟩]
      exact hf i hi
    · rw [show xI (xSetI (xSetA S xa 4 f) xa 5 (nI (tN M + 20))) xa 6 = xI S xa 6 from if_neg (fun z => absurd z.2 (by decide))]
      exact t3
    · rw [show xA (xSetI (xSetA S xa 4 f) xa 5 (nI (tN M + 20))) xa 7 = xA S xa 7 from if_neg (fun z => absurd z.2 (by decide))]
      exact t4 i hi
theorem x_feed (h : CRq g xa oa Z Ya Yh na ta cv la lh ra rh M S) (hN : 2 ^ 20 < N) (h700 : tN M + 20 ≤ 700) (a b c d e : Int32) : ∃ f, kX_X1_feed_18 g N N S xa a b c d e 0 = some (xSetI (xSetA S xa 4 f) xa 5 (nI (tN M + 20)), nI (tN M + 20)) ∧ ∀ i, i < tN M + 20 → f i = if i < tN M then tT M i else (yB a b c d e (i - tN M)).toInt8.toInt32 := by
  have hx := h.2.1.1
  have hW := h.2.1.2.2.2.1
  obtain ⟨t1, t2, -, -⟩ := h.2.2.2.2.2.2.2.2.2.2
  have o5 : ∀ f, f_int (xSetA S xa 4 f) 1 xa 5 = some (nI (tN M)) := fun f => by
    rw [f_int_T (S := xSetA S xa 4 f) hx (by decide) (by decide)]
    exact congrArg some t2
  have o4 : ∀ f, f_obj (xSetA S xa 4 f) 1 xa 4 = some (xRa S xa 4) := fun f => f_objA_T (S := xSetA S xa 4 f) hx (by decide) (by decide)
  have eS : S = xSetA S xa 4 (xA S xa 4) := by
    refine Prod.ext rfl (Prod.ext rfl (Prod.ext rfl (Prod.ext ?_ rfl)))
    funext b j
    show xA S b j = if b = xa ∧ j = 4 then xA S xa 4 else xA S b j
    by_cases e : b = xa ∧ j = 4
    · rw [if_pos e, e.1, e.2]
    · rw [if_neg e]
  have key := y_loop (fun n (f : Nat → Int32) k => kX_X1_feed_18 g N n (xSetA S xa 4 f) xa a b c d e (nI k)) 20 (fun f k => ∀ i, i < tN M + k → f i = if i < tN M then tT M i else (yB a b c d e (i - tN M)).toInt8.toInt32) (fun r => ∃ f, r = some (xSetI (xSetA S xa 4 f) xa 5 (nI (tN M + 20)), nI (tN M + 20)) ∧ ∀ i, i < tN M + 20 → f i = if i < tN M then tT M i else (yB a b c d e (i - tN M)).toInt8.toInt32) ?_ ?_ 20 N (xA S xa 4) 0 (by omega) (by omega) (fun i hi => by rw [if_pos (by omega)]; exact t1 i (by omega))
  · rw [eS]
    obtain ⟨f, k1, k2⟩ := key
    refine ⟨f, k1.trans ?_, k2⟩
    rw [xSetA2]
  · intro n f k hk hf
    right
    refine ⟨upd f (tN M + k) (yB a b c d e k).toInt8.toInt32, ?_, fun i hi => ?_⟩
    · have hm : nI k - nI k / 4 * 4 = iI ((k : Int) % 4) := by
        rw [show (4 : Int32) = iI 4 from rfl, iI_nI]
        exact iI_mod (by omega) ⟨by omega, by omega⟩ (by omega) ⟨by omega, by omega⟩
      have hsh : (24 : Int32) - 8 * iI ((k : Int) % 4) = iI (24 - 8 * ((k : Int) % 4)) := by
        rw [show (24 : Int32) = iI 24 from rfl, show (8 : Int32) = iI 8 from rfl, iI_mul, iI_sub]
      have h71 : ∀ (K : XS → Nat → Int32 → Int32 → Int32 → Int32 → Int32 → Int32 → Option (XS × Int32)) (x : Int32), yB a b c d e k = x >>> (iI (24 - 8 * ((k : Int) % 4)) &&& 31) → kX_X1_feed_71 g N K (xSetA S xa 4 f) xa a b c d e (nI k) x = K (xSetA S xa 4 (upd f (tN M + k) (yB a b c d e k).toInt8.toInt32)) xa a b c d e (nI (k + 1)) := fun K x hx2 => by
        unfold kX_X1_feed_71
        refine ob1 (o4 f) (ob1 (o5 f) (onb hm ?_))
        rw [hsh, ← hx2, vp_nar_byte, by_by, nI_add]
        have hp := a_putI_T (S := xSetA S xa 4 f) (k := 4) (i := nI (tN M + k)) (v := (yB a b c d e k).toInt8.toInt32) hx hW (by decide) (show vp_in (nI (tN M + k)) 700 from nI_inn (by omega) (by decide))
        rw [nI_clamp (by omega), show xA (xSetA S xa 4 f) xa 4 = f from if_pos ⟨rfl, rfl⟩, xSetA2] at hp
        refine ob1 hp ?_
        rw [nI_1]
      show kX_X1_feed_18 g N (n + 1) (xSetA S xa 4 f) xa a b c d e (nI k) = _
      rw [kX_X1_feed_18]
      refine oif (nI_ge (b := 20) hk (by decide)) ?_
      by_cases g4 : k < 4
      · refine oif (nI_ge (b := 4) g4 (by decide)) (h71 _ _ ?_)
        unfold yB
        rw [if_pos g4]
      refine oit (nI_le (a := 4) (by omega) (by omega)) ?_
      by_cases g8 : k < 8
      · refine oif (nI_ge (b := 8) g8 (by decide)) (h71 _ _ ?_)
        unfold yB
        rw [if_neg g4, if_pos g8]
      refine oit (nI_le (a := 8) (by omega) (by omega)) ?_
      by_cases g12 : k < 12
      · refine oif (nI_ge (b := 12) g12 (by decide)) (h71 _ _ ?_)
        unfold yB
        rw [if_neg g4, if_neg g8, if_pos g12]
      refine oit (nI_le (a := 12) (by omega) (by omega)) ?_
      by_cases g16 : k < 16
      · refine oif (nI_ge (b := 16) g16 (by decide)) (h71 _ _ ?_)
        unfold yB
        rw [if_neg g4, if_neg g8, if_neg g12, if_pos g16]
      refine oit (nI_le (a := 16) (by omega) (by omega)) (h71 _ _ ?_)
      unfold yB
      rw [if_neg g4, if_neg g8, if_neg g12, if_neg g16]
    · unfold upd
      by_cases e1 : i = tN M + k
      · rw [if_pos e1, if_neg (by omega), e1, show tN M + k - tN M = k by omega]
      · rw [if_neg e1]
        exact hf i (by omega)
  · intro n f hf
    refine ⟨f, ?_, hf⟩
    show kX_X1_feed_18 g N (n + 1) (xSetA S xa 4 f) xa a b c d e (nI 20) = _
    rw [kX_X1_feed_18]
    refine oit (nI_le (a := 20) (Nat.le_refl _) (by decide)) (ob1 (o5 f) ?_)
    have e20 : nI (tN M) + 20 = nI (tN M + 20) := nI_add _ 20
    rw [e20]
    refine ob1 (f_putI_T (S := xSetA S xa 4 f) hx (by decide) (by decide)) (ob1 (f_int_T (S := xSetI (xSetA S xa 4 f) xa 5 (nI (tN M + 20))) hx (by decide) (by decide)) ?_)
    rw [show xI (xSetI (xSetA S xa 4 f) xa 5 (nI (tN M + 20))) xa 5 = nI (tN M + 20) from if_pos ⟨rfl, rfl⟩]
end SL
theorem r_lays {N : Nat} {σ : MS} {t : Nat} (hN : 2 ^ 20 < N) (h7 : σ.1 7 = nI t) (ht : t + 4 ≤ 700) (v : Int32) : ∃ σ1, kM_lays N σ v = some σ1 ∧ σ1.1 7 = nI (t + 4) ∧ RK [7] [6] σ σ1 ∧ ∀ q, σ1.2.2 6 q = if t ≤ q ∧ q < t + 4 then (v >>> (iI (24 - 8 * ((q : Int) - t)) &&& 31)) &&& 255 else σ.2.2 6 q := by
  unfold kM_lays
  have e24 : (24 : Int32) = iI (24 - 8 * ((0 : Nat) : Int)) := by decide
  rw [e24]
  refine y_loop (fun n (s : MS) k => kM_lays_3 N n s v (iI (24 - 8 * (k : Int)))) 4 (fun s k => k ≤ 4 ∧ s.1 7 = nI (t + k) ∧ RK [7] [6] σ s ∧ ∀ q, s.2.2 6 q = if t ≤ q ∧ q < t + k then (v >>> (iI (24 - 8 * ((q : Int) - t)) &&& 31)) &&& 255 else σ.2.2 6 q) (fun r => ∃ σ1, r = some σ1 ∧ σ1.1 7 = nI (t + 4) ∧ RK [7] [6] σ σ1 ∧ ∀ q, σ1.2.2 6 q = if t ≤ q ∧ q < t + 4 then (v >>> (iI (24 - 8 * ((q : Int) - t)) &&& 31)) &&& 255 else σ.2.2 6 q) ?_ ?_ 4 N σ 0 (by omega) (by omega) ⟨by omega, h7, ⟨fun _ _ => rfl, fun _ _ => rfl⟩, fun q => by rw [if_neg (by omega)]⟩
  · rintro n s k hk ⟨-, h1, h2, h3⟩
    right
    refine ⟨m_put (rS s 6 (t + k) ((v >>> (iI (24 - 8 * (k : Int)) &&& 31)) &&& 255)) 7 (nI (t + k + 1)), ?_, by omega, mp_s _ _ _, ⟨fun j hj => ?_, fun j hj => ?_⟩, fun q => ?_⟩
    · show kM_lays_3 N (n + 1) s v (iI (24 - 8 * (k : Int))) = _
      rw [kM_lays_3]
      refine oif ?_ (ob1 (r_st (q := t + k) h1 (by show t + k < 700; omega)) (onb (v := m_put (rS s 6 (t + k) ((v >>> (iI (24 - 8 * (k : Int)) &&& 31)) &&& 255)) 7 (nI (t + k + 1))) ?_ ?_))
      · rw [show (0 : Int32) = iI 0 from rfl, iI_lt ⟨by omega, by omega⟩ ⟨by omega, by omega⟩]
        omega
      · have : (rS s 6 (t + k) ((v >>> (iI (24 - 8 * (k : Int)) &&& 31)) &&& 255)).1 7 = nI (t + k) := h1
        rw [this, nI_1]
      · rw [show (-8 : Int32) = iI (-8) from rfl, iI_add]
        congr 2
        omega
    · rw [mp_n _ _ _ (fun z => hj (by simp [z]))]
      exact h2.1 j hj
    · show (rS s 6 (t + k) _).2.2 j = _
      rw [rS_ne _ _ _ _ (fun z => hj (by simp [z]))]
      exact h2.2 j hj
    · show (rS s 6 (t + k) _).2.2 6 q = _
      rw [rS_get, h3]
      by_cases e : q = t + k
      · subst e
        rw [if_pos ⟨rfl, rfl⟩, if_pos (by omega)]
        congr 4
        omega
      · rw [if_neg (fun z => e z.2)]
        by_cases e2 : t ≤ q ∧ q < t + k
        · rw [if_pos e2, if_pos (by omega)]
        · rw [if_neg e2, if_neg (by omega)]
  · rintro n s ⟨-, h1, h2, h3⟩
    refine ⟨s, ?_, h1, h2, h3⟩
    show kM_lays_3 N (n + 1) s v (iI (24 - 8 * ((4 : Nat) : Int))) = _
    rw [kM_lays_3]
    exact oit (by decide) rfl
theorem r_feed {N : Nat} {M : MT} {σ : MS} (hN : 2 ^ 20 < N) (h : RRel N M σ) (h700 : tN M + 20 ≤ 700) (a b c d e : Int32) : ∃ σ1, kM_feed N σ a b c d e = some (σ1, nI (tN M + 20)) ∧ RRel N (sFd M (yB a b c d e)) σ1 := by
  obtain ⟨a1, a2, a3, a4, a5, a6, a7, a8, a9, a10⟩ := h
  have a7' : (m_put σ 0 0).1 7 = nI (tN M) := (mp_n _ _ _ (by decide)).trans a7
  obtain ⟨s1, p1, p2, p3, p4⟩ := r_lays (N := N) hN a7' (by omega) a
  obtain ⟨s2, q1, q2, q3, q4⟩ := r_lays (N := N) hN p2 (by omega) b
  obtain ⟨s3, u1, u2, u3, u4⟩ := r_lays (N := N) hN q2 (by omega) c
  obtain ⟨s4, v1, v2, v3, v4⟩ := r_lays (N := N) hN u2 (by omega) d
  obtain ⟨s5, w1, w2, w3, w4⟩ := r_lays (N := N) hN v2 (by omega) e
  have hI : ∀ j, j ≠ 7 → j ≠ 0 → s5.1 j = σ.1 j := fun j hj hj0 => by
    have hj7 : j ∉ [7] := by simpa using hj
    rw [w3.1 j hj7, v3.1 j hj7, u3.1 j hj7, q3.1 j hj7, p3.1 j hj7, mp_n _ _ _ hj0]
  have hA : ∀ j, j ≠ 6 → s5.2.2 j = σ.2.2 j := fun j hj => by
    have hj6 : j ∉ [6] := by simpa using hj
    rw [w3.2 j hj6, v3.2 j hj6, u3.2 j hj6, q3.2 j hj6, p3.2 j hj6]
    rfl
  refine ⟨s5, ?_, ?_⟩
  · unfold kM_feed
    refine onb rfl (oit ?_ (ob1 p1 (ob1 q1 (ob1 u1 (ob1 v1 (ob1 w1 ?_))))))
    · rw [a7', show (20 : Int32) = nI 20 from rfl, nI_add]
      exact nI_le (b := 700) (by omega) (by decide)
    · rw [w2]
  · refine ⟨?_, ?_, ?_, ?_, ?_, ?_, ?_, fun i hi => ?_, ?_, fun i hi => ?_⟩
    · show RC N s5 (tC M)
      unfold RC at a1 ⊢
      rw [hI 1 (by decide) (by decide), hI 2 (by decide) (by decide), hI 3 (by decide) (by decide), hA 4 (by decide), hA 5 (by decide)]
      exact a1
    · show RowR (s5.2.2 31) 0 (tC M) (tV M)
      rw [hA 31 (by decide)]
      exact a2
    · show RActs (tC M) (s5.1 33) (s5.2.2 32) (tA M)
      rw [hI 33 (by decide) (by decide), hA 32 (by decide)]
      exact a3
    · show RHeard (s5.1 49) (s5.2.2 50) (tH M)
      rw [hI 49 (by decide) (by decide), hA 50 (by decide)]
      exact a4
    · show RImg s5 (tC M) (tI M)
      unfold RImg at a5 ⊢
      rw [hI 54 (by decide) (by decide), hI 55 (by decide) (by decide), hI 56 (by decide) (by decide), hA 57 (by decide), hA 58 (by decide), hA 59 (by decide)]
      exact a5
    · rw [hI 40 (by decide) (by decide)]; exact a6
    · exact w2
    · have hi : i < tN M + 20 := hi
      show s5.2.2 6 i = (if i < tN M then tT M i else (yB a b c d e (i - tN M)).toInt8.toInt32) &&& 255
      rw [w4, v4, u4, q4, p4]
      have e0 : (m_put σ 0 0).2.2 6 i = σ.2.2 6 i := rfl
      by_cases f0 : i < tN M
      · rw [if_neg (by omega), if_neg (by omega), if_neg (by omega), if_neg (by omega), if_neg (by omega), if_pos f0, e0]
        exact a8 i f0
      rw [if_neg f0, by_255]
      obtain ⟨j, rfl⟩ : ∃ j, i = tN M + j := ⟨i - tN M, by omega⟩
      rw [show tN M + j - tN M = j by omega]
      unfold yB
      by_cases f1 : j < 4
      · rw [if_neg (by omega), if_neg (by omega), if_neg (by omega), if_neg (by omega), if_pos (by omega), if_pos f1]
        congr 4
        omega
      by_cases f2 : j < 8
      · rw [if_neg (by omega), if_neg (by omega), if_neg (by omega), if_pos (by omega), if_neg f1, if_pos f2]
        congr 4
        omega
      by_cases f3 : j < 12
      · rw [if_neg (by omega), if_neg (by omega), if_pos (by omega), if_neg f1, if_neg f2, if_pos f3]
        congr 4
        omega
      by_cases f4 : j < 16
      · rw [if_neg (by omega), if_pos (by omega), if_neg f1, if_neg f2, if_neg f3, if_pos f4]
        congr 4
        omega
      · rw [if_pos (by omega), if_neg f1, if_neg f2, if_neg f3, if_neg f4]
        congr 4
        omega
    · rw [hI 9 (by decide) (by decide)]; exact a9
    · rw [hA 10 (by decide)]; exact a10 i hi
theorem op_feed {g : XC} {N xa oa i : Nat} (hN : 2 ^ 20 < N) : St_feed (yRel g N xa oa i) (yRel g N xa oa (i + 6)) g N xa oa := by
  rintro a0 a1 a2 a3 a4 n sl τ σ ⟨M, Z, Ya, Yh, na, ta, cv, la, lh, ra, rh, hB⟩
  have hB : yBody g N xa oa i n Z Ya Yh na ta cv la lh ra rh M τ σ := hB
  generalize hcc : n + 14000 = cc
  generalize hkk : sl + 97000 = kk
  obtain ⟨-, -, hQ, -, -⟩ := y_open hB sl cc kk (by omega) (by omega)
  have hM := hB.2.2.2.2
  have hG := hB.2.2.1
  have hx := hQ.2.1.1
  have hMl := hM.le (T1 := yT (i + 6)) (by unfold yT; omega)
  have hR0 : RRel N M (m_put σ 0 0) := hB.2.2.2.1.fr hM.1 (RFr.p0 σ 0)
  have h7 := hM.2.2.2.2.2.2.1
  have t2 : xI ((n, sl, cc, kk), τ) xa 5 = nI (tN M) := hQ.2.2.2.2.2.2.2.2.2.2.2.1
  have o5 : f_int ((n, sl, cc, kk), τ) 1 xa 5 = some (nI (tN M)) := by
    rw [f_int_T hx (by decide) (by decide), t2]
  have e20 : nI (tN M) + 20 = nI (tN M + 20) := nI_add _ 20
  by_cases h700 : tN M + 20 ≤ 700
  · obtain ⟨f, k1, k2⟩ := x_feed (N := N) hQ hN h700 a0 a1 a2 a3 a4
    obtain ⟨σ1, q1, q2⟩ := r_feed hN hB.2.2.2.1 h700 a0 a1 a2 a3 a4
    refine ⟨(), (_, _), σ1, f_cls_T hx, ?_, q1, fun n1 hn hfr => y_end (hQ.x45 k2) hfr (hG.le hn) q2 ?_⟩
    · unfold kX_X1_feed
      refine ob1 o5 (oit ?_ k1)
      rw [e20]
      exact nI_le (b := 700) (by omega) (by decide)
    · obtain ⟨b1, b2, b3, b4, b5, b6, b7, b8⟩ := hMl
      refine ⟨b1, b2, b3, b4, b5, b6, h700, fun j hj => ?_⟩
      show (if j < tN M then tT M j else (yB a0 a1 a2 a3 a4 (j - tN M)).toInt8.toInt32).toInt8.toInt32 = if j < tN M then tT M j else (yB a0 a1 a2 a3 a4 (j - tN M)).toInt8.toInt32
      by_cases e : j < tN M
      · rw [if_pos e]
        exact b8 j e
      · rw [if_neg e, by_by]
  · refine ⟨(), (((n, sl, cc, kk), τ), -1), m_put σ 0 0, f_cls_T hx, ?_, ?_, fun n1 hn hfr => y_end hQ hfr (hG.le hn) hR0 hMl⟩
    · unfold kX_X1_feed
      refine ob1 o5 (oif ?_ rfl)
      rw [e20]
      exact nI_ge (b := tN M + 20) (a := 700) (by omega) (by omega)
    · unfold kM_feed
      refine onb rfl (oif ?_ rfl)
      have : (m_put σ 0 0).1 7 = nI (tN M) := hR0.2.2.2.2.2.2.1
      rw [this, e20]
      exact nI_ge (b := tN M + 20) (a := 700) (by omega) (by omega)
