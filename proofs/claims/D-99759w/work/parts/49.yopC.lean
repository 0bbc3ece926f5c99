/-! plain law: bits of what tips; pause, sound, office -/
theorem yt_or : ∀ k, k < 9 → ∀ t, t < 2 ^ k → (nI t ||| ((1 : Int32) <<< (nI k &&& 31))) = nI (t + 2 ^ k) := by decide +kernel
theorem yt_bit : ∀ c, c < 9 → ∀ t, t < 512 → ((((1 : Int32) <<< (nI c &&& 31)) &&& (nI t ^^^ (-1))) = 0 ↔ ((nI t >>> (nI c &&& 31)) &&& 1) = 1) := by decide +kernel
theorem mSteps_13 (C : CC) (m : MN) : ∀ k, k ≤ 9 → ∃ t, t < 2 ^ k ∧ yI (yIter (mStep C) k (ysI m 13 0)) 13 = nI t := by
  intro k
  induction k with
  | zero => intro _; exact ⟨0, by decide, rfl⟩
  | succ k ih =>
    intro hk
    obtain ⟨t, h1, h2⟩ := ih (by omega)
    show ∃ t, t < 2 ^ (k + 1) ∧ yI (mStep C (yIter (mStep C) k (ysI m 13 0)) k) 13 = nI t
    rw [mStep_13, h2]
    have hp : 2 ^ (k + 1) = 2 * 2 ^ k := by rw [Nat.pow_succ]; omega
    split
    · exact ⟨t, by omega, rfl⟩
    · exact ⟨t + 2 ^ k, by omega, yt_or k (by omega) t h1⟩
theorem mPass_13 {C : CC} (h9 : C.1 ≤ 9) (m : MN) : ∃ t, t < 512 ∧ yI (mPass C m) 13 = nI t := by
  obtain ⟨t, h1, h2⟩ := mSteps_13 C m C.1 h9
  refine ⟨t, Nat.lt_of_lt_of_le h1 (Nat.pow_le_pow_right (by decide) h9), ?_⟩
  unfold mPass
  rw [yI_I, if_neg (by decide), mLeaks_I _ _ _ (by decide)]
  exact h2
theorem pAll_c {C : CC} (h9 : C.1 ≤ 9) (m : MN) {c : Nat} (hc : c < 9) : pAll ((1 : Int32) <<< (nI c &&& 31)) (mPass C m) = true ↔ ((yI (mPass C m) 13 >>> (nI c &&& 31)) &&& 1) = 1 := by
  obtain ⟨t, h1, h2⟩ := mPass_13 h9 m
  rw [pAll_t, h2]
  exact yt_bit c hc t h1
/-! how many bits -/
def bcJ (x0 : Int32) : Int32 :=
  let v2 := x0 - ((((x0 : Int32).toUInt32 >>> ((1 : Int32).toUInt32 &&& Int32.toUInt32 31)).toInt32) &&& 1431655765)
  let v4 := (v2 &&& 858993459) + ((((v2 : Int32).toUInt32 >>> ((2 : Int32).toUInt32 &&& Int32.toUInt32 31)).toInt32) &&& 858993459)
  let v6 := (v4 + (((v4 : Int32).toUInt32 >>> ((4 : Int32).toUInt32 &&& Int32.toUInt32 31)).toInt32)) &&& 252645135
  let v8 := v6 + (((v6 : Int32).toUInt32 >>> ((8 : Int32).toUInt32 &&& Int32.toUInt32 31)).toInt32)
  let v10 := v8 + (((v8 : Int32).toUInt32 >>> ((16 : Int32).toUInt32 &&& Int32.toUInt32 31)).toInt32)
  v10 &&& 63
theorem x_bits (g : XC) (N : Nat) (x : Int32) : kX_J19_bitCount g N x = some (bcJ x) := rfl
def bcM (x : Int32) : Nat → Int32
  | 0 => 0
  | k + 1 => bcM x k + ((x >>> (nI k &&& 31)) &&& 1)
theorem bc_eq : ∀ t, t < 512 → bcM (nI t) 9 = bcJ (nI t) ∧ (bcJ (nI t) = 0 ↔ nI t = 0) ∧ bcJ (nI t) ≤ 9 ∧ 0 ≤ bcJ (nI t) := by decide +kernel
theorem r_bits {N : Nat} (hN : 2 ^ 20 < N) (x : Int32) : kM_bits N x = some (bcM x 9) := by
  unfold kM_bits
  refine y_loop (fun n (s : Int32) k => kM_bits_4 N n x s (nI k)) 9 (fun s k => s = bcM x k) (fun r => r = some (bcM x 9)) ?_ ?_ 9 N 0 0 (by omega) (by omega) rfl
  · rintro n s k hk rfl
    right
    refine ⟨bcM x (k + 1), ?_, rfl⟩
    show kM_bits_4 N (n + 1) x (bcM x k) (nI k) = kM_bits_4 N n x (bcM x (k + 1)) (nI (k + 1))
    rw [kM_bits_4]
    refine oif (nI_ge (b := 9) hk (by decide)) (onb rfl ?_)
    rw [nI_1]
    rfl
  · rintro n s rfl
    show kM_bits_4 N (n + 1) x (bcM x 9) (nI 9) = _
    rw [kM_bits_4]
    exact oit (by decide) rfl
/-! the lowest bit -/
def tzJ (x : Int32) : Int32 := (kX_J19_numberOfTrailingZeros ((fun _ => default), 0, 0, (fun _ => 0), (fun _ => 0), (fun _ => 0), (fun _ => 0), (fun _ => none), (fun _ => none)) 0 x).getD 0

section OC1
variable {g : XC} {N xa oa n : Nat} {Z Ya Yh : Nat → Prop} {na ta cv la lh : Nat} {ra rh : List Nat} {M : MT} {T : Int} {S : XS} {σ : MS} {C : CC} {V m : MN} {w : Nat → Int32}

theorem b_pause (hX : XB g N xa oa n Z Ya Yh na ta cv la lh ra rh M T S) (hR : RB N M T σ) {c : Nat} (hc : c < (tC M).1) : ∃ S1 r, kX_X1_pause g N S xa (nI c) = some (.inl (S1, r)) ∧ KS xa ta oa n S S1 ∧ ∃ σ1, kM_pause N σ (nI c) = some (σ1, r) ∧ σ1.1 0 = 0 ∧ RFr σ σ1 := by
  refine b_of (x := fun S => kX_X1_pause g N S xa (nI c)) hX (fun m w => ?_)
  have hO := hX.oc
  have hs := hO.spr
  have hN := hX.2.2.2.1
  have hT := hX.2.2.2.2.1
  have hV := hX.2.2.1.2.2.1.1
  have hC1 : σ.1 1 = nI (tC M).1 := hR.1.1.1
  have hRV : RowR (σ.2.2 31) 0 (tC M) (tV M) := hR.1.2.1
  obtain ⟨σ2, t1, t2, t3⟩ := r_try hN hR.1 hR.2.1 m (RFr.p0 σ 0)
  generalize tC M = C at *
  generalize tV M = V at *
  have z0 : (m_put σ 0 0).1 0 = 0 := mp_s _ _ _
  have z1 : (m_put σ 0 0).1 1 = nI C.1 := (mp_n _ _ _ (by decide)).trans hC1
  have hB := mBe_YN m hs.1 hV.1
  have fin0 : ∀ σ3, FrH 64 σ2 σ3 → σ3.1 0 = 0 ∧ RFr σ σ3 := fun σ3 h => ⟨(h.1 0 (by decide) (by decide)).trans ((t2.1 0 (by decide) (by decide)).trans z0), (RFr.p0 σ 0).trans (t2.r.trans h.r)⟩
  have hbit := fun m1 : MN => pAll_c hs.1 m1 (c := c) (by omega)
  have hsh : ∀ v : Int32, v = 0 ∨ v ≠ 0 := fun v => by by_cases h : v = 0 <;> simp [h]
  have hof : ∀ (x : Int32) (β : Type) (A B : Option β), ((kX_X1_isOf g N x (nI c)).bind fun w6 => if w6 = 0 then A else B) = if ((x >>> (nI c &&& 31)) &&& 1) = 1 then B else A := fun x β A B => by
    unfold kX_X1_isOf
    by_cases p : ((x >>> (nI c &&& 31)) &&& 1) = 1
    · rw [if_pos p, if_pos p]; rfl
    · rw [if_neg p, if_neg p]; rfl
  obtain ⟨σ3, k1, k2, k3⟩ := r_allTip hN ((1 : Int32) <<< (nI c &&& 31)) (k0 := 0) (d := 200) rfl (by omega) t3
  -- one step that doesn't tip
  have hstep : ∀ (x2 : Int32) f m1 w1 w2 k, k ≤ 200 → pAll ((1 : Int32) <<< (nI c &&& 31)) (mPass C m1) = false → kX_X3_pass g N (nset S ta xa m1 w1) ta = some (nset S ta xa (mPass C m1) w2, ta) → kX_X1_pause_21 g N (f + 1) (nset S ta xa m1 w1) xa (nI c) x2 (nI k) = kX_X1_pause_21 g N f (nset S ta xa (mPass C m1) w2) xa (nI c) x2 (nI (k + 1)) := by
    intro x2 f m1 w1 w2 k hk hp h4
    rw [kX_X1_pause_21]
    refine oif (nI_nlt (a := 200) (b := k) (by omega) (by omega)) (ob1 (oc_ta hO) (ob1 (n_cls hO.1.1) (ob1 h4 (ob1 (n_int hO.1.1 (by decide)) ?_))))
    rw [hof]
    refine oif (fun z => by rw [← hbit] at z; rw [z] at hp; cases hp) ?_
    unfold kX_X1_pause_59
    rw [nI_1]
  have htip : ∀ (x2 : Int32) f m1 w1 w2 k, k ≤ 200 → pAll ((1 : Int32) <<< (nI c &&& 31)) (mPass C m1) = true → kX_X3_pass g N (nset S ta xa m1 w1) ta = some (nset S ta xa (mPass C m1) w2, ta) → kX_X1_pause_21 g N (f + 1) (nset S ta xa m1 w1) xa (nI c) x2 (nI k) = if x2 = (-1) then kX_X1_pause_21 g N f (nset S ta xa (mPass C m1) w2) xa (nI c) (nI k) (nI (k + 1)) else some (.inl (nset S ta xa (mPass C m1) w2, nI k - x2)) := by
    intro x2 f m1 w1 w2 k hk hp h4
    rw [kX_X1_pause_21]
    refine oif (nI_nlt (a := 200) (b := k) (by omega) (by omega)) (ob1 (oc_ta hO) (ob1 (n_cls hO.1.1) (ob1 h4 (ob1 (n_int hO.1.1 (by decide)) ?_))))
    rw [hof]
    refine oit ((hbit m1).mp hp) ?_
    unfold kX_X1_pause_59
    rw [nI_1]
  have hend : ∀ (x2 : Int32) f m1 w1, kX_X1_pause_21 g N (f + 1) (nset S ta xa m1 w1) xa (nI c) x2 (nI 201) = some (.inl (nset S ta xa m1 w1, -1)) := by
    intro x2 f m1 w1
    rw [kX_X1_pause_21]
    exact oit (by decide) rfl
  have hpre : ∀ R, kX_X1_pause_21 g N N (nset S ta xa (mBe m V) w) xa (nI c) (-1) (nI 1) = R → kX_X1_pause g N (nset S ta xa m w) xa (nI c) = R := fun R h => by
    unfold kX_X1_pause
    exact ob1 (oc_cls hO) (ot1 (oc_cup1 hO hc) (ob1 (oc_ta hO) (ob1 (oc_na hO) (ob1 (n_cls hO.1.1) (ob1 (oc_be hO hN) h)))))
  have hrpre : ∀ R, (if yAns (yFd C (pAll ((1 : Int32) <<< (nI c &&& 31))) 200 (0 + 1) (mBe m V)) = (-1) then kM_pause_45 N σ3 (yAns (yFd C (pAll ((1 : Int32) <<< (nI c &&& 31))) 200 (0 + 1) (mBe m V))) (-1) else (kM_allTip N σ3 ((1 : Int32) <<< (nI c &&& 31)) (yAns (yFd C (pAll ((1 : Int32) <<< (nI c &&& 31))) 200 (0 + 1) (mBe m V)))).bind fun w7 => kM_pause_45 N w7.1 (yAns (yFd C (pAll ((1 : Int32) <<< (nI c &&& 31))) 200 (0 + 1) (mBe m V))) w7.2) = R → kM_pause N σ (nI c) = R := fun R h => by
    unfold kM_pause
    exact onb rfl (ob1 (r_isCup1 z0 z1 hs.1 hc) (oif n10 (ob1 t1 (ob1 k1 h))))
  rcases x_find hO hN (fun f S k => kX_X1_pause_21 g N f S xa (nI c) (-1) (nI k)) (pAll ((1 : Int32) <<< (nI c &&& 31))) 200 1 N T (mBe m V) w (by omega) (by omega) (by omega) hB (fun f m1 w1 w2 k h1 h2 _ h3 h4 => hstep (-1) f m1 w1 w2 k (by omega) h3 h4) with ⟨k, f, m1, w1, w2, a1, a2, a3, a4, a5, a50, a51, a6⟩ | ⟨a1, f, m1, w1, a2⟩
  · have e1 : kX_X1_pause_21 g N N (nset S ta xa (mBe m V) w) xa (nI c) (-1) (nI 1) = kX_X1_pause_21 g N f (nset S ta xa (mPass C m1) w2) xa (nI c) (nI k) (nI (k + 1)) := by
      refine Eq.trans a6 ?_
      show kX_X1_pause_21 g N (f + 1) (nset S ta xa m1 w1) xa (nI c) (-1) (nI k) = _
      rw [htip (-1) f m1 w1 w2 k (by omega) a4 a5, if_pos rfl]
    obtain ⟨b1, b2, b3⟩ := k3 k (mPass C m1) a1
    have hY1 : YN C (mPass C m1) (T + 40000 * 201) := (mPass_YN hs.2 hs.1 (by omega) a51).le (by omega)
    have hk1 : ¬ nI k = -1 := fun z => by
      rw [iI_nI, show (-1 : Int32) = iI (-1) by decide] at z
      have := (iI_eq ⟨by omega, by omega⟩ ⟨by decide, by decide⟩).mp z
      omega
    obtain ⟨σ4, q1, q2, -⟩ := r_allTip hN ((1 : Int32) <<< (nI c &&& 31)) (k0 := k) (d := 200 - k) (by omega) (T := T + 40000 * 201) (by omega) (b3.le (by omega))
    rcases x_find hO hN (fun f S j => kX_X1_pause_21 g N f S xa (nI c) (nI k) (nI j)) (pAll ((1 : Int32) <<< (nI c &&& 31))) (200 - k) (k + 1) f (T + 40000 * 201) (mPass C m1) w2 (by omega) (by omega) (by omega) hY1 (fun f m1 w1 w2 j h1 h2 _ h3 h4 => hstep (nI k) f m1 w1 w2 j (by omega) h3 h4) with ⟨j, f2, m2, w3, w4, c1, c2, c3, c4, c5, -, -, c6⟩ | ⟨c1, f2, m2, w3, c2⟩
    · refine ⟨mPass C m2, w4, nI j - nI k, hpre _ (e1.trans (Eq.trans c6 ?_)), σ4, hrpre _ ?_, fin0 σ4 (k2.trans q2)⟩
      · show kX_X1_pause_21 g N (f2 + 1) (nset S ta xa m2 w3) xa (nI c) (nI k) (nI j) = _
        rw [htip (nI k) f2 m2 w3 w4 j (by omega) c4 c5, if_neg hk1]
      · rw [a1]
        show (if nI k = -1 then _ else _) = _
        rw [if_neg hk1]
        refine ob1 q1 ?_
        rw [c1]
        show kM_pause_45 N σ4 (nI k) (nI j) = _
        unfold kM_pause_45
        refine if_neg (fun z => ?_)
        rw [iI_nI, show (-1 : Int32) = iI (-1) by decide] at z
        have := (iI_eq ⟨by omega, by omega⟩ ⟨by decide, by decide⟩).mp z
        omega
    · refine ⟨m2, w3, -1, hpre _ (e1.trans (Eq.trans c2 ?_)), σ4, hrpre _ ?_, fin0 σ4 (k2.trans q2)⟩
      · rw [show k + 1 + (200 - k) = 201 by omega]
        exact hend (nI k) f2 m2 w3
      · rw [a1]
        show (if nI k = -1 then _ else _) = _
        rw [if_neg hk1]
        refine ob1 q1 ?_
        rw [c1]
        rfl
  · refine ⟨m1, w1, -1, hpre _ (Eq.trans a2 (hend (-1) f m1 w1)), σ3, hrpre _ ?_, fin0 σ3 k2⟩
    rw [a1]
    exact oit rfl (oit rfl rfl)
theorem b_sound (hX : XB g N xa oa n Z Ya Yh na ta cv la lh ra rh M T S) (hR : RB N M T σ) {k q : Nat} (hq : q ≤ 1) (h0 : 1 ≤ k) (hk : k ≤ 200) : ∃ S1 r, kX_X1_sound g N S xa (nI k) (nI q) = some (.inl (S1, r)) ∧ KS xa ta oa n S S1 ∧ ∃ σ1, kM_sound N σ (nI k) (nI q) = some (σ1, r) ∧ σ1.1 0 = 0 ∧ RFr σ σ1 := by
  refine b_of (x := fun S => kX_X1_sound g N S xa (nI k) (nI q)) hX (fun m w => ?_)
  have hO := hX.oc
  have hs := hO.spr
  have hN := hX.2.2.2.1
  have hT := hX.2.2.2.2.1
  have hV := hX.2.2.1.2.2.1.1
  have hC1 : σ.1 1 = nI (tC M).1 := hR.1.1.1
  have hRV : RowR (σ.2.2 31) 0 (tC M) (tV M) := hR.1.2.1
  obtain ⟨σ2, t1, t2, t3⟩ := r_try hN hR.1 hR.2.1 m (RFr.p0 σ 0)
  generalize tC M = C at *
  generalize tV M = V at *
  have z0 : (m_put σ 0 0).1 0 = 0 := mp_s _ _ _
  have z1 : (m_put σ 0 0).1 1 = nI C.1 := (mp_n _ _ _ (by decide)).trans hC1
  have hB := mBe_YN m hs.1 hV.1
  have fin0 : ∀ σ3, FrH 64 σ2 σ3 → σ3.1 0 = 0 ∧ RFr σ σ3 := fun σ3 h => ⟨(h.1 0 (by decide) (by decide)).trans ((t2.1 0 (by decide) (by decide)).trans z0), (RFr.p0 σ 0).trans (t2.r.trans h.r)⟩
  let u : MN → (Int32 × Int32 × Int32 × Int32) → Nat → (Int32 × Int32 × Int32 × Int32) := fun m1 v j =>
    let many := bcJ (yI m1 13)
    let row := if many = 0 then v.1 + 1 else 0
    (row, (if v.2.1 < row then row else v.2.1), (if v.2.2.2 < many then nI j else v.2.2.1), (if v.2.2.2 < many then many else v.2.2.2))
  obtain ⟨f, w1, hw⟩ := x_acc (w := w) hO hN (fun f S v j => kX_X1_sound_42 g N f S xa (nI k) (nI q) v.1 v.2.1 v.2.2.1 v.2.2.2 (nI j)) u (0, 0, -1, -1) 1 k (by omega) (by omega) hB (fun f m1 w1 w2 v j h1 h2 _ _ h3 => by
    obtain ⟨v1, v2, v3, v4⟩ := v
    have hm := u (mPass C m1) (v1, v2, v3, v4) j
    show kX_X1_sound_42 g N (f + 1) (nset S ta xa m1 w1) xa (nI k) (nI q) v1 v2 v3 v4 (nI j) = kX_X1_sound_42 g N f (nset S ta xa (mPass C m1) w2) xa (nI k) (nI q) (if bcJ (yI (mPass C m1) 13) = 0 then v1 + 1 else 0) (if v2 < (if bcJ (yI (mPass C m1) 13) = 0 then v1 + 1 else 0) then (if bcJ (yI (mPass C m1) 13) = 0 then v1 + 1 else 0) else v2) (if v4 < bcJ (yI (mPass C m1) 13) then nI j else v3) (if v4 < bcJ (yI (mPass C m1) 13) then bcJ (yI (mPass C m1) 13) else v4) (nI (j + 1))
    rw [kX_X1_sound_42]
    refine oif (nI_nlt (by omega) (by omega)) (ob1 (oc_ta hO) (ob1 (n_cls hO.1.1) (ob1 h3 (ob1 (n_int hO.1.1 (by decide)) (ob1 (x_bits g N _) ?_)))))
    generalize bcJ (yI (mPass C m1) 13) = many
    have e75 : ∀ t0 : Int32, kX_X1_sound_75 g N (kX_X1_sound_42 g N f) (nset S ta xa (mPass C m1) w2) xa (nI k) (nI q) v2 v3 v4 (nI j) many t0 = kX_X1_sound_42 g N f (nset S ta xa (mPass C m1) w2) xa (nI k) (nI q) t0 (if v2 < t0 then t0 else v2) (if v4 < many then nI j else v3) (if v4 < many then many else v4) (nI (j + 1)) := fun t0 => by
      unfold kX_X1_sound_75
      refine onb rfl ?_
      by_cases p : v4 < many
      · rw [if_pos p, if_pos p]
        refine oif (fun z => by rw [le32] at z; rw [lt32] at p; omega) ?_
        unfold kX_X1_sound_95
        refine onb (if_pos p) ?_
        rw [nI_1]
      · rw [if_neg p, if_neg p]
        refine oit (by rw [le32]; rw [lt32] at p; omega) ?_
        unfold kX_X1_sound_95
        refine onb (if_neg p) ?_
        rw [nI_1]
    by_cases p : many = 0
    · refine oit p ((e75 _).trans ?_)
      rw [if_pos p]
    · refine oif p ((e75 _).trans ?_)
      rw [if_neg p])
  obtain ⟨f2, σ3, k1, k2, -⟩ := r_acc hN (fun f s v j => kM_sound_44 N f s (nI k) (nI q) v.1 v.2.1 v.2.2.1 v.2.2.2 (nI j)) u (0, 0, -1, -1) 1 k (by omega) (by omega) t3 (fun f s s1 m1 v j h1 h2 _ h3 h4 => by
    obtain ⟨v1, v2, v3, v4⟩ := v
    show kM_sound_44 N (f + 1) s (nI k) (nI q) v1 v2 v3 v4 (nI j) = kM_sound_44 N f s1 (nI k) (nI q) (if bcJ (yI (mPass C m1) 13) = 0 then v1 + 1 else 0) (if v2 < (if bcJ (yI (mPass C m1) 13) = 0 then v1 + 1 else 0) then (if bcJ (yI (mPass C m1) 13) = 0 then v1 + 1 else 0) else v2) (if v4 < bcJ (yI (mPass C m1) 13) then nI j else v3) (if v4 < bcJ (yI (mPass C m1) 13) then bcJ (yI (mPass C m1) 13) else v4) (nI (j + 1))
    rw [kM_sound_44]
    refine oif (nI_nlt (by omega) (by omega)) (ob1 h3 ?_)
    obtain ⟨t, ht, ht2⟩ := mPass_13 hs.1 m1
    obtain ⟨g1, g2, g3, g4⟩ := bc_eq t ht
    have h38 : s1.1 38 = nI t := h4.2.2.2.1.trans ht2
    rw [ht2]
    have hb : kM_bits N (s1.1 38) = some (bcJ (nI t)) := by rw [r_bits hN, h38, g1]
    have hz : s1.1 38 = 0 ↔ bcJ (nI t) = 0 := by rw [h38]; exact g2.symm
    generalize bcJ (nI t) = many at hb hz
    have e75 : ∀ t0 : Int32, kM_sound_70 N (kM_sound_44 N f) s1 (nI k) (nI q) v2 v3 v4 (nI j) t0 = kM_sound_44 N f s1 (nI k) (nI q) t0 (if v2 < t0 then t0 else v2) (if v4 < many then nI j else v3) (if v4 < many then many else v4) (nI (j + 1)) := fun t0 => by
      unfold kM_sound_70
      refine ob1 (v := if v2 < t0 then t0 else v2) ?_ (ob1 hb ?_)
      · unfold kM_greater
        by_cases p : v2 < t0
        · rw [if_pos p, if_pos (by rw [lt32] at p; rw [le32]; omega)]
        · rw [if_neg p]
          by_cases p2 : v2 ≤ t0
          · rw [if_pos p2]
            congr 1
            apply Int32.toInt_inj.mp
            rw [lt32] at p; rw [le32] at p2; omega
          · rw [if_neg p2]
      · by_cases p : v4 < many
        · refine oit p (ob1 hb ?_)
          unfold kM_sound_107
          rw [nI_1, if_pos p, if_pos p]
        · refine oif p ?_
          unfold kM_sound_107
          rw [nI_1, if_neg p, if_neg p]
    by_cases p : many = 0
    · refine oit (hz.mpr p) ((e75 _).trans ?_)
      rw [if_pos p]
    · refine oif (fun z => p (hz.mp z)) ((e75 _).trans ?_)
      rw [if_neg p])
  refine ⟨yRep (mPass C) k (mBe m V), w1, if q = 0 then (yAc C u (mBe m V) (0, 0, -1, -1) 1 k).2.1 else (yAc C u (mBe m V) (0, 0, -1, -1) 1 k).2.2.1, ?_, σ3, ?_, fin0 σ3 k2⟩
  · show kX_X1_sound g N (nset S ta xa m w) xa (nI k) (nI q) = _
    unfold kX_X1_sound
    refine ot1 (x_oneOf1 (b := 1) rfl hq (by decide)) (ob1 (x_inN (a := 1) (b := 200) rfl rfl h0 hk (by decide)) (ot1 (x_right1 (by decide)) (ob1 (oc_ta hO) (ob1 (oc_na hO) (ob1 (n_cls hO.1.1) (ob1 (oc_be hO hN) (Eq.trans hw ?_)))))))
    generalize yAc C u (mBe m V) (0, 0, -1, -1) 1 k = v
    show kX_X1_sound_42 g N (f + 1) _ xa (nI k) (nI q) v.1 v.2.1 v.2.2.1 v.2.2.2 (nI (1 + k)) = _
    rw [kX_X1_sound_42]
    refine oit (nI_lt (by omega) (by omega)) ?_
    have hq2 : q = 0 ∨ q = 1 := by omega
    rcases hq2 with rfl | rfl <;> rfl
  · unfold kM_sound
    refine onb rfl (ob1 (r_isWhat1 z0 (b := 1) rfl hq (by decide)) (oif n10 (ob1 (r_isSoon1 z0 (a := 1) rfl h0 hk 2) (oif n10 (ob1 t1 (Eq.trans k1 ?_))))))
    generalize yAc C u (mBe m V) (0, 0, -1, -1) 1 k = v
    show kM_sound_44 N (f2 + 1) _ (nI k) (nI q) v.1 v.2.1 v.2.2.1 v.2.2.2 (nI (1 + k)) = _
    rw [kM_sound_44]
    refine oit (nI_lt (by omega) (by omega)) ?_
    have hq2 : q = 0 ∨ q = 1 := by omega
    rcases hq2 with rfl | rfl <;> rfl
end OC1
theorem op_pause {g : XC} {N xa oa i : Nat} (hN : 2 ^ 20 < N) (hi : i ≤ 378) : St_pause (yRel g N xa oa i) (yRel g N xa oa (i + 6)) g N xa oa := by
  rintro a0 n sl τ σ ⟨M, Z, Ya, Yh, na, ta, cv, la, lh, ra, rh, hB⟩
  have hB : yBody g N xa oa i n Z Ya Yh na ta cv la lh ra rh M τ σ := hB
  generalize hcc : n + 14000 = cc
  generalize hkk : sl + 97000 = kk
  obtain ⟨hO, hr, hQ, hfr, hS⟩ := y_open hB sl cc kk (by omega) (by omega)
  have hX := y_xb (sl := sl) (c := cc) (k := kk) hB hN hi (by omega) (by omega)
  have hRB := y_rb hB hN hi
  have z0 : (m_put σ 0 0).1 0 = 0 := mp_s _ _ _
  have z1 : (m_put σ 0 0).1 1 = nI (tC M).1 := (mp_n _ _ _ (by decide)).trans hRB.1.1.1
  have h9 := hRB.2.1.1
  have hw : ∀ a0, kX_X0_pause (jg g cc kk) N ((n, sl, cc, kk), τ) xa a0 oa = yW yH0 (kX_X1_pause (jg g cc kk) N ((n, sl, cc, kk), τ) xa a0) oa := fun a0 => ob1 (f_cls_T hQ.2.1.1) rfl
  rw [hw]
  rcases y_cup (tC M).1 (by omega) a0 with ⟨c0, h0, rfl⟩ | h0
  · -- fits
    obtain ⟨S1, r, hx, hks, hm⟩ := b_pause hX hRB h0
    obtain ⟨σ1, hm1, hm2, hm3⟩ := hm
    exact fin_ok (c := cc) (k := kk) hB hx hks hm1 hm2 hm3
  · have hx : kX_X1_pause (jg g cc kk) N ((n, sl, cc, kk), τ) xa a0 = some (.inr (((n, sl, cc, kk), τ), 0, 0)) := by
      rw [← hS]
      unfold kX_X1_pause
      exact ob1 (oc_cls hO) (ot2 (oc_cup0 hO hr h0))
    have hm : kM_pause N σ a0 = some (m_put (m_put σ 0 0) 0 1, 0) := by
      unfold kM_pause
      exact onb rfl (ob1 (r_isCup0 z0 z1 h0) (oit rfl rfl))
    exact fin_thr (c := cc) (k := kk) hB hx rfl (KS.refl hQ.2.1.2.2.2.1) hm (mp_s _ _ _) (by decide) (RFr.p00 _ _ _)
theorem op_sound {g : XC} {N xa oa i : Nat} (hN : 2 ^ 20 < N) (hi : i ≤ 378) : St_sound (yRel g N xa oa i) (yRel g N xa oa (i + 6)) g N xa oa := by
  rintro a0 a1 n sl τ σ ⟨M, Z, Ya, Yh, na, ta, cv, la, lh, ra, rh, hB⟩
  have hB : yBody g N xa oa i n Z Ya Yh na ta cv la lh ra rh M τ σ := hB
  generalize hcc : n + 14000 = cc
  generalize hkk : sl + 97000 = kk
  obtain ⟨hO, hr, hQ, hfr, hS⟩ := y_open hB sl cc kk (by omega) (by omega)
  have hX := y_xb (sl := sl) (c := cc) (k := kk) hB hN hi (by omega) (by omega)
  have hRB := y_rb hB hN hi
  have z0 : (m_put σ 0 0).1 0 = 0 := mp_s _ _ _
  have z1 : (m_put σ 0 0).1 1 = nI (tC M).1 := (mp_n _ _ _ (by decide)).trans hRB.1.1.1
  have h9 := hRB.2.1.1
  have hw : ∀ a0 a1, kX_X0_sound (jg g cc kk) N ((n, sl, cc, kk), τ) xa a0 a1 oa = yW yH2 (kX_X1_sound (jg g cc kk) N ((n, sl, cc, kk), τ) xa a0 a1) oa := fun a0 a1 => ob1 (f_cls_T hQ.2.1.1) rfl
  rw [hw]
  rcases y_rng 0 1 (by decide) a1 with ⟨q0, -, h0, rfl⟩ | h0
  · -- fits
    rcases y_rng 1 200 (by decide) a0 with ⟨k1, h1, h1', rfl⟩ | h1
    · -- fits
      obtain ⟨S1, r, hx, hks, hm⟩ := b_sound hX hRB h0 h1 h1'
      obtain ⟨σ1, hm1, hm2, hm3⟩ := hm
      exact fin_ok (c := cc) (k := kk) hB hx hks hm1 hm2 hm3
    · have hx : kX_X1_sound (jg g cc kk) N ((n, sl, cc, kk), τ) xa a0 (nI q0) = some (.inr (((n, sl, cc, kk), τ), 1, 0)) := by
        rw [← hS]
        unfold kX_X1_sound
        exact ot1 (x_oneOf1 (b := 1) rfl h0 (by decide)) (ob1 (x_in0 h1) (ot2 (x_right0 hr)))
      have hm : kM_sound N σ a0 (nI q0) = some (m_put (m_put σ 0 0) 0 2, 0) := by
        unfold kM_sound
        exact onb rfl (ob1 (r_isWhat1 z0 (b := 1) rfl h0 (by decide)) (oif n10 (ob1 (r_isSoon0 z0 (by decide) h1) (oit rfl rfl))))
      exact fin_thr (c := cc) (k := kk) hB hx rfl (KS.refl hQ.2.1.2.2.2.1) hm (mp_s _ _ _) (by decide) (RFr.p00 _ _ _)
  · have hx : kX_X1_sound (jg g cc kk) N ((n, sl, cc, kk), τ) xa a0 a1 = some (.inr (((n, sl, cc, kk), τ), 0, 0)) := by
      rw [← hS]
      unfold kX_X1_sound
      exact ot2 (x_oneOf0 hr h0)
    have hm : kM_sound N σ a0 a1 = some (m_put (m_put σ 0 0) 0 1, 0) := by
      unfold kM_sound
      exact onb rfl (ob1 (r_isWhat0 z0 h0) (oit rfl rfl))
    exact fin_thr (c := cc) (k := kk) hB hx rfl (KS.refl hQ.2.1.2.2.2.1) hm (mp_s _ _ _) (by decide) (RFr.p00 _ _ _)
