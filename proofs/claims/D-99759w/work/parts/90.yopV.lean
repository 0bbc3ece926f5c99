/-! plain law: listen: how many kinds, the reference -/
def kInd (G : Nat → Nat) (l : List Nat) (v : Nat) : Nat := if v ∈ l.map G then 1 else 0
def kSum (G : Nat → Nat) (l : List Nat) : Nat → Nat
  | 0 => 0
  | n + 1 => kSum G l n + kInd G l n
theorem kInd_s (G : Nat → Nat) (l : List Nat) (a v : Nat) : kInd G (l ++ [a]) v = if v = G a then 1 else kInd G l v := by
  unfold kInd
  rw [List.map_append]
  simp only [List.mem_append, List.map_cons, List.map_nil, List.mem_singleton]
  by_cases h : v = G a
  · rw [if_pos h, if_pos (Or.inr h)]
  · by_cases h2 : v ∈ l.map G
    · rw [if_neg h, if_pos (Or.inl h2), if_pos h2]
    · rw [if_neg h, if_neg (fun z => z.elim h2 h), if_neg h2]
theorem kSum_s (G : Nat → Nat) (l : List Nat) (a : Nat) : ∀ n, kSum G (l ++ [a]) n = kSum G l n + if G a < n ∧ G a ∉ l.map G then 1 else 0 := by
  intro n
  induction n with
  | zero => rw [if_neg (fun z => by omega)]; rfl
  | succ n ih =>
    show kSum G (l ++ [a]) n + kInd G (l ++ [a]) n = kSum G l n + kInd G l n + _
    rw [ih, kInd_s]
    by_cases h : n = G a
    · rw [if_pos h, if_neg (fun z => by omega)]
      unfold kInd
      rw [h]
      by_cases h2 : G a ∈ l.map G
      · rw [if_pos h2, if_neg (fun z => z.2 h2)]
      · rw [if_neg h2, if_pos ⟨by omega, h2⟩]
    · rw [if_neg h]
      by_cases h2 : G a < n ∧ G a ∉ l.map G
      · rw [if_pos h2, if_pos ⟨by omega, h2.2⟩]
        omega
      · rw [if_neg h2, if_neg (fun z => h2 ⟨by omega, z.2⟩)]
        omega
theorem kSum_le (G : Nat → Nat) (l : List Nat) : ∀ n, kSum G l n ≤ n := by
  intro n
  induction n with
  | zero => exact Nat.le_refl _
  | succ n ih =>
    have : kInd G l n ≤ 1 := by unfold kInd; split <;> omega
    show kSum G l n + kInd G l n ≤ n + 1
    omega
def lsB (c : Nat → Nat) : Nat → Int32 × Nat
  | 0 => (-1, 0)
  | j + 1 => if (lsB c j).2 < c j then (nI (j + 1), c j) else lsB c j
theorem lsB_le {c : Nat → Nat} {b : Nat} (h : ∀ j, c j ≤ b) : ∀ j, (lsB c j).2 ≤ b := by
  intro j
  induction j with
  | zero => exact Nat.zero_le _
  | succ j ih =>
    unfold lsB
    split
    · exact h j
    · exact ih
/-- what tips in hour j of a guess -/
def lsV (C : CC) (V : MN) (j x : Nat) : Nat := (yI (yRep (mPass C) (j + 1) (gN V (x / 10) (x % 10))) 13).toNatClampNeg
theorem lsV_eq {C : CC} (h9 : C.1 ≤ 9) (V : MN) (j x : Nat) : lsV C V j x < 512 ∧ yI (yRep (mPass C) (j + 1) (gN V (x / 10) (x % 10))) 13 = nI (lsV C V j x) := by
  obtain ⟨t, h1, h2⟩ := mPass_13 h9 (yRep (mPass C) j (gN V (x / 10) (x % 10)))
  have h2 : yI (yRep (mPass C) (j + 1) (gN V (x / 10) (x % 10))) 13 = nI t := h2
  unfold lsV
  rw [h2, nI_clamp (by omega)]
  exact ⟨h1, rfl⟩
section OV
variable {g : XC} {N xa oa n : Nat} {Z Ya Yh : Nat → Prop} {na ta cv la lh : Nat} {ra rh : List Nat} {M : MT} {T : Int} {S S0 S1 : XS} {σ s : MS} {C : CC} {V m : MN} {w : Nat → Int32} {c k t l q : Nat} {hs : List HT}
def lsL (M : MT) (q : Nat) : List Nat := gL (tC M) (tV M) (tH M) q
/-- how many kinds there are in hour j -/
def lsC (M : MT) (j : Nat) : Nat := kSum (lsV (tC M) (tV M) j) (lsL M (10 * (tC M).1)) 512
/-- the reference's table of kinds -/
def lsT (M : MT) (q : Nat) (s : MS) : Prop := ∀ j v, j < 40 → v < 512 → s.2.2 52 (512 * j + v) = nI (kInd (lsV (tC M) (tV M) j) (lsL M q) v)
theorem lsT.eq {s1 : MS} (h : lsT M q s) (e : s1.2.2 52 = s.2.2 52) : lsT M q s1 := fun j v hj hv => by rw [e]; exact h j v hj hv
theorem r_li18 (hN : 2 ^ 20 < N) (x : Int32) (hf : RFr σ s) (hz : s.1 0 = 0) : ∃ s1, kM_listen_18 N N s x 0 = kM_listen_40 N N s1 x 0 ∧ RFr σ s1 ∧ s1.1 0 = 0 ∧ lsT M 0 s1 := by
  refine y_loop (fun f (s : MS) k => kM_listen_18 N f s x (nI k)) 20480 (fun s k => RFr σ s ∧ s.1 0 = 0 ∧ ∀ q, q < k → s.2.2 52 q = 0) (fun r => ∃ s1, r = kM_listen_40 N N s1 x 0 ∧ RFr σ s1 ∧ s1.1 0 = 0 ∧ lsT M 0 s1) ?_ ?_ 20480 N s 0 (by omega) (by omega) ⟨hf, hz, fun q hq => by omega⟩
  · rintro f s k hk ⟨p1, p2, p3⟩
    right
    refine ⟨rS s 52 k 0, ?_, p1.trans (RFr.s _ _ _ _ (Or.inl (by decide))), p2, fun q hq => ?_⟩
    · show kM_listen_18 N (f + 1) s x (nI k) = kM_listen_18 N f (rS s 52 k 0) x (nI (k + 1))
      rw [kM_listen_18]
      refine oif (nI_ge (b := 20480) (a := k) hk (by omega)) (ob1 (r_st rfl (by show k < 20480; exact hk)) ?_)
      rw [nI_1]
    · rw [rS_get]
      by_cases e : q = k
      · rw [if_pos ⟨rfl, e⟩]
      · rw [if_neg (fun z => e z.2)]
        exact p3 q (by omega)
  · rintro f s ⟨p1, p2, p3⟩
    refine ⟨s, ?_, p1, p2, fun j v hj hv => ?_⟩
    · show kM_listen_18 N (f + 1) s x (nI 20480) = _
      rw [kM_listen_18]
      exact oit (nI_le (Nat.le_refl _) (by omega)) rfl
    · rw [p3 _ (by omega)]
      rfl
theorem r_li61 (hN : 2 ^ 20 < N) (h9 : (tC M).1 ≤ 9) (K : MS → Int32 → Int32 → Option (MS × Int32)) (x y : Int32) {q : Nat} (hf : RFr σ s) (hz : s.1 0 = 0) (hT : lsT M q s) (hg : gG (tC M) (tV M) (tH M) q = true) (h51 : ∀ j, j < 40 → s.2.2 51 j = nI (lsV (tC M) (tV M) j q)) : ∃ s1, kM_listen_61 N K N s x y 0 = K s1 x (y + 1) ∧ RFr σ s1 ∧ s1.1 0 = 0 ∧ lsT M (q + 1) s1 := by
  have eL : lsL M (q + 1) = lsL M q ++ [q] := by unfold lsL; rw [gL_s, if_pos hg]
  refine y_loop (fun f (s : MS) k => kM_listen_61 N K f s x y (nI k)) 40 (fun s1 k => RFr σ s1 ∧ s1.1 0 = 0 ∧ s1.2.2 51 = s.2.2 51 ∧ ∀ j v, j < 40 → v < 512 → s1.2.2 52 (512 * j + v) = nI (kInd (lsV (tC M) (tV M) j) (if j < k then lsL M (q + 1) else lsL M q) v)) (fun r => ∃ s1, r = K s1 x (y + 1) ∧ RFr σ s1 ∧ s1.1 0 = 0 ∧ lsT M (q + 1) s1) ?_ ?_ 40 N s 0 (by omega) (by omega) ⟨hf, hz, rfl, fun j v hj hv => by rw [if_neg (by omega)]; exact hT j v hj hv⟩
  · rintro f s1 k hk ⟨p1, p2, p3, p4⟩
    right
    have hv := (lsV_eq h9 (tV M) k q).1
    refine ⟨rS s1 52 (512 * k + lsV (tC M) (tV M) k q) 1, ?_, p1.trans (RFr.s _ _ _ _ (Or.inl (by decide))), p2, by rw [rS_ne _ _ _ _ (by decide)]; exact p3, fun j v hj hv2 => ?_⟩
    · show kM_listen_61 N K (f + 1) s1 x y (nI k) = kM_listen_61 N K f _ x y (nI (k + 1))
      rw [kM_listen_61]
      refine oif (nI_ge (b := 40) (a := k) hk (by omega)) (ob1 (r_ld (q := k) rfl (by show k < 40; exact hk)) ?_)
      rw [p3, h51 k hk]
      refine ob1 (r_st (q := 512 * k + lsV (tC M) (tV M) k q) (by rw [show (512 : Int32) = nI 512 from rfl, ixm, nI_add]) (by show _ < 20480; omega)) ?_
      rw [nI_1]
    · rw [rS_get]
      by_cases e : 512 * j + v = 512 * k + lsV (tC M) (tV M) k q
      · have e1 : j = k := by omega
        subst e1
        have e2 : v = lsV (tC M) (tV M) j q := by omega
        rw [if_pos ⟨rfl, e⟩, if_pos (by omega), eL, kInd_s, if_pos e2]
        rfl
      · rw [if_neg (fun z => e z.2), p4 j v hj hv2]
        by_cases e1 : j = k
        · subst e1
          have e2 : ¬ v = lsV (tC M) (tV M) j q := fun z => e (by omega)
          rw [if_neg (by omega), if_pos (by omega), eL, kInd_s, if_neg e2]
        · by_cases e3 : j < k
          · rw [if_pos e3, if_pos (by omega)]
          · rw [if_neg e3, if_neg (by omega)]
  · rintro f s1 ⟨p1, p2, p3, p4⟩
    refine ⟨s1, ?_, p1, p2, fun j v hj hv => ?_⟩
    · show kM_listen_61 N K (f + 1) s1 x y (nI 40) = _
      rw [kM_listen_61]
      exact oit (nI_le (Nat.le_refl _) (by omega)) rfl
    · rw [p4 j v hj hv, if_pos hj]
theorem r_li117 (hN : 2 ^ 20 < N) (K : MS → Int32 → Int32 → Int32 → Int32 → Option (MS × Int32)) (x a : Int32) {b : Nat} (hb : b ≤ 512) {j : Nat} (hj : j < 40) (hT : lsT M (10 * (tC M).1) s) : kM_listen_117 N K N s x a (nI b) (nI j) 0 0 = if b < lsC M j then K s x (nI (j + 1)) (nI (lsC M j)) (nI (j + 1)) else K s x a (nI b) (nI (j + 1)) := by
  have hc : lsC M j ≤ 512 := kSum_le _ _ _
  refine y_loop (fun f (s1 : MS) k => kM_listen_117 N K f s1 x a (nI b) (nI j) (nI (kSum (lsV (tC M) (tV M) j) (lsL M (10 * (tC M).1)) k)) (nI k)) 512 (fun s1 _ => s1 = s) (fun r => r = if b < lsC M j then K s x (nI (j + 1)) (nI (lsC M j)) (nI (j + 1)) else K s x a (nI b) (nI (j + 1))) ?_ ?_ 512 N s 0 (by omega) (by omega) rfl
  · rintro f s1 k hk rfl
    right
    refine ⟨s1, ?_, rfl⟩
    show kM_listen_117 N K (f + 1) s1 x a (nI b) (nI j) (nI (kSum _ _ k)) (nI k) = kM_listen_117 N K f s1 x a (nI b) (nI j) (nI (kSum _ _ k + kInd _ _ k)) (nI (k + 1))
    rw [kM_listen_117]
    refine oif (nI_ge (b := 512) (a := k) hk (by omega)) (ob1 (r_ld (q := 512 * j + k) (by rw [show (512 : Int32) = nI 512 from rfl, ixm, nI_add]) (by show _ < 20480; omega)) ?_)
    rw [hT j k hj hk]
    refine onb (nI_add _ _) ?_
    rw [nI_1]
  · rintro f s1 rfl
    show kM_listen_117 N K (f + 1) s1 x a (nI b) (nI j) (nI (lsC M j)) (nI 512) = _
    rw [kM_listen_117]
    refine oit (nI_le (Nat.le_refl _) (by omega)) ?_
    unfold kM_listen_167
    by_cases e : b < lsC M j
    · rw [if_pos e]
      refine oit (nI_lt e (by omega)) (onb (nI_1 j) ?_)
      rw [nI_1]
    · rw [if_neg e]
      refine oif (nI_nlt (by omega) (by omega)) ?_
      rw [nI_1]
theorem lsB_M (k : Nat) : (lsB (lsC M) k).2 ≤ 512 := lsB_le (c := lsC M) (b := 512) (fun j => kSum_le _ _ _) k
theorem r_li104 (hN : 2 ^ 20 < N) {q : Nat} (hq : q ≤ 1) (hT : lsT M (10 * (tC M).1) s) : kM_listen_104 N N s (nI q) (-1) 0 0 = some (s, if q = 0 then (lsB (lsC M) 40).1 else nI (lsB (lsC M) 40).2) := by
  have hq0 : nI q = 0 ↔ q = 0 := nI_eq (b := 0) (by omega) (by omega)
  refine y_loop (fun f (s1 : MS) k => kM_listen_104 N f s1 (nI q) (lsB (lsC M) k).1 (nI (lsB (lsC M) k).2) (nI k)) 40 (fun s1 _ => s1 = s) (fun r => r = some (s, if q = 0 then (lsB (lsC M) 40).1 else nI (lsB (lsC M) 40).2)) ?_ ?_ 40 N s 0 (by omega) (by omega) rfl
  · rintro f s1 k hk rfl
    right
    refine ⟨s1, ?_, rfl⟩
    show kM_listen_104 N (f + 1) s1 (nI q) (lsB (lsC M) k).1 (nI (lsB (lsC M) k).2) (nI k) = kM_listen_104 N f s1 (nI q) (if (lsB (lsC M) k).2 < lsC M k then (nI (k + 1), lsC M k) else lsB (lsC M) k).1 (nI (if (lsB (lsC M) k).2 < lsC M k then (nI (k + 1), lsC M k) else lsB (lsC M) k).2) (nI (k + 1))
    rw [kM_listen_104]
    refine oif (nI_ge (b := 40) (a := k) hk (by omega)) ?_
    rw [r_li117 hN _ _ _ (lsB_M k) hk hT]
    by_cases e : (lsB (lsC M) k).2 < lsC M k
    · rw [if_pos e, if_pos e]
    · rw [if_neg e, if_neg e]
  · rintro f s1 rfl
    show kM_listen_104 N (f + 1) s1 (nI q) _ _ (nI 40) = _
    rw [kM_listen_104]
    refine oit (nI_le (Nat.le_refl _) (by omega)) ?_
    by_cases e : q = 0
    · rw [if_pos e]
      exact oit (hq0.mpr e) rfl
    · rw [if_neg e]
      exact oif (fun z => e (hq0.mp z)) rfl
theorem r_li40 (hR : RB N M T σ) {q : Nat} (hq : q ≤ 1) {s : MS} (hf : RFr σ s) (hz : s.1 0 = 0) (hT : lsT M 0 s) : ∃ s1, kM_listen_40 N N s (nI q) 0 = some (s1, if q = 0 then (lsB (lsC M) 40).1 else nI (lsB (lsC M) 40).2) ∧ RFr σ s1 ∧ s1.1 0 = 0 := by
  have hN := hR.2.2.1
  have h9 := hR.2.1.1
  have h10 : ∀ s, RFr σ s → 10 * s.1 1 = nI (10 * (tC M).1) := fun s hf => by
    rw [hf.1 1 (by decide), hR.1.1.1, show (10 : Int32) = nI 10 from rfl, ixm]
  refine y_loop (fun f (s : MS) c => kM_listen_40 N f s (nI q) (nI c)) (10 * (tC M).1) (fun s c => RFr σ s ∧ s.1 0 = 0 ∧ lsT M c s) (fun r => ∃ s1, r = some (s1, if q = 0 then (lsB (lsC M) 40).1 else nI (lsB (lsC M) 40).2) ∧ RFr σ s1 ∧ s1.1 0 = 0) ?_ ?_ (10 * (tC M).1) N s 0 (by omega) (by omega) ⟨hf, hz, hT⟩
  · rintro f s c hc ⟨p1, p2, p3⟩
    right
    obtain ⟨d, t, hd, ht, rfl⟩ : ∃ d t, d < (tC M).1 ∧ t < 10 ∧ c = 10 * d + t := ⟨c / 10, c % 10, by omega, by omega, by omega⟩
    obtain ⟨s1, q1, q2, q3⟩ := r_isGuess hN hR.1 hR.2.1 hR.2.2.2 p1 hd ht
    have hf1 := p1.trans q2.r
    have hz1 : s1.1 0 = 0 := (q2.1 0 (by decide) (by decide)).trans p2
    have hT1 : lsT M (10 * d + t) s1 := p3.eq (q2.2.1 52 (by decide) (by decide) (by decide) (by decide) (by decide) (by decide))
    have hhd : ∀ (R : Option (MS × Int32)), ((if (if gG (tC M) (tV M) (tH M) (10 * d + t) = true then (1 : Int32) else 0) = 0 then kM_listen_91 N (kM_listen_40 N f) s1 (nI q) (nI (10 * d + t)) else kM_listen_61 N (kM_listen_40 N f) N s1 (nI q) (nI (10 * d + t)) 0) = R) → kM_listen_40 N (f + 1) s (nI q) (nI (10 * d + t)) = R := fun R h => by
      rw [kM_listen_40]
      exact oif (by rw [h10 s p1]; exact nI_ge (by omega) (by omega)) (ob1 q1 h)
    by_cases hg : gG (tC M) (tV M) (tH M) (10 * d + t) = true
    · obtain ⟨s2, u1, u2, u3, u4⟩ := r_li61 hN h9 (kM_listen_40 N f) (nI q) (nI (10 * d + t)) hf1 hz1 hT1 hg (fun j hj => by
        rw [q3 hg j hj]
        have := (lsV_eq h9 (tV M) j (10 * d + t)).2
        rw [(dm10 ht).1, (dm10 ht).2] at this
        exact this)
      refine ⟨s2, hhd _ ?_, u2, u3, u4⟩
      rw [if_pos hg, if_neg n10, u1, nI_1]
    · refine ⟨s1, hhd _ ?_, hf1, hz1, ?_⟩
      · rw [if_neg hg]
        refine oit rfl ?_
        unfold kM_listen_91
        rw [nI_1]
      · have e : lsL M (10 * d + t + 1) = lsL M (10 * d + t) := by unfold lsL; rw [gL_s, if_neg hg]
        unfold lsT
        rw [e]
        exact hT1
  · rintro f s ⟨p1, p2, p3⟩
    refine ⟨s, ?_, p1, p2⟩
    show kM_listen_40 N (f + 1) s (nI q) (nI (10 * (tC M).1)) = _
    rw [kM_listen_40]
    exact oit (by rw [h10 s p1]; exact nI_le (Nat.le_refl _) (by omega)) (r_li104 hN hq p3)
end OV
