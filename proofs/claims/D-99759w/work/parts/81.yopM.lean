/-! plain law: years -/
def nxS (v : Int32) : Int32 := v * 1103515245 + 12345
def drV (v x : Int32) : Int32 := ((v >>> ((16 : Int32) &&& 31)) &&& 32767) - ((v >>> ((16 : Int32) &&& 31)) &&& 32767) / x * x
theorem drV_n (v : Int32) {c : Nat} (h0 : 0 < c) (hc : c ≤ 30) : ∃ d, d < c ∧ drV v (nI c) = nI d := by
  have hb : ∀ i, 15 ≤ i → bt 32767 i = false := by
    intro i hi
    by_cases h : i < 32
    · have : ∀ i, i < 32 → 15 ≤ i → bt 32767 i = false := by decide +kernel
      exact this i h hi
    · exact b_big (by omega)
  obtain ⟨q, hq, hq2⟩ : ∃ q : Nat, q < 32768 ∧ (v >>> ((16 : Int32) &&& 31)) &&& 32767 = nI q := by
    generalize hx : (v >>> ((16 : Int32) &&& 31)) &&& 32767 = x
    have hz : ∀ i, 15 ≤ i → bt x i = false := fun i hi => by rw [← hx, b_and, hb i hi, Bool.and_false]
    refine ⟨x.toBitVec.toNat, ?_, ?_⟩
    · apply Nat.lt_of_not_le
      intro hge
      obtain ⟨i, hi, hi2⟩ := Nat.exists_ge_and_testBit_of_ge_two_pow (n := 15) hge
      have h1 := hz i hi
      unfold bt at h1
      rw [BitVec.getLsbD, hi2] at h1
      cases h1
    · apply b_ext
      intro i hi
      rw [bt_nI (by have := x.toBitVec.isLt; have h := hx; apply Nat.lt_of_not_le; intro hge; obtain ⟨j, hj, hj2⟩ := Nat.exists_ge_and_testBit_of_ge_two_pow (n := 31) hge; have h1 := hz j (by omega); unfold bt at h1; rw [BitVec.getLsbD, hj2] at h1; cases h1) hi]
      rfl
  refine ⟨q % c, Nat.mod_lt _ h0, ?_⟩
  unfold drV
  rw [hq2, iI_nI q, iI_nI c, iI_mod (by omega) ⟨by omega, by omega⟩ (by omega) ⟨by omega, by omega⟩, iI_nI]
  exact congrArg iI (by simp)
/-- another seed -/
def sdS (S : XS) (xa : Nat) (v : Int32) : XS := xSetI S xa 13 v
theorem RowR.plugX {ρ : Nat → Int32} {b : Nat} {C : CC} {m : MN} (h : RowR ρ b C m) (h9 : C.1 ≤ 9) {c : Nat} (hc : c < C.1) {x v : Int32} (hx : ∀ i, i < 9 → i ≠ c → bt x i = bt (yI m 7) i) (hv : v = if bt x c = true then 1 else 0) : RowR (upd ρ (b + 55 + c) v) b C (ysI m 7 x) := by
  refine ⟨?_, fun k hk => ?_⟩
  · unfold upd
    rw [if_neg (by omega)]
    exact h.1
  · obtain ⟨h0, h1, h2, h3, h4, h5, h6⟩ := h.2 k hk
    unfold upd
    rw [if_neg (show ¬ b + 1 + k = b + 55 + c by omega), if_neg (show ¬ b + 10 + k = b + 55 + c by omega), if_neg (show ¬ b + 19 + k = b + 55 + c by omega), if_neg (show ¬ b + 28 + k = b + 55 + c by omega), if_neg (show ¬ b + 37 + k = b + 55 + c by omega), if_neg (show ¬ b + 46 + k = b + 55 + c by omega)]
    refine ⟨h0, h1, h2, h3, h4, h5, ?_⟩
    have e7 : yI (ysI m 7 x) 7 = x := rfl
    rw [e7]
    by_cases e : k = c
    · subst e
      rw [if_pos rfl, hv]
      by_cases hb : bt x k = true
      · rw [if_pos hb, if_pos ((bit_is (by omega)).mpr hb)]
      · rw [if_neg hb, if_neg (fun z => hb ((bit_is (by omega)).mp z))]
    · rw [if_neg (show ¬ b + 55 + k = b + 55 + c by omega), h6]
      have hkx := hx k (by omega) e
      by_cases hb : bt x k = true
      · rw [if_pos ((bit_is (by omega)).mpr (hkx ▸ hb)), if_pos ((bit_is (by omega)).mpr hb)]
      · rw [if_neg (fun z => hb (hkx ▸ (bit_is (by omega)).mp z)), if_neg (fun z => hb ((bit_is (by omega)).mp z))]
section ON
variable {g : XC} {N xa oa n : Nat} {Z Ya Yh : Nat → Prop} {na ta cv la lh : Nat} {ra rh : List Nat} {M : MT} {T : Int} {S S1 : XS} {σ s : MS} {C : CC} {V m : MN} {w : Nat → Int32} {c h k : Nat}
theorem OC.sd (hO : OC g Z S xa na ta C V) (v : Int32) : OC g Z (sdS S xa v) xa na ta C V := by
  obtain ⟨⟨h1, cv, h2, h3⟩, h4, h5, h6, h7⟩ := hO
  refine ⟨⟨h1, cv, h2, h3.fr (fun _ _ => ⟨rfl, rfl⟩)⟩, ⟨h4.1, ?_, h4.2.2⟩, h5, h6, h7⟩
  rw [← h4.2.1]
  funext j
  exact if_neg (fun z => h4.1.2.2.1 z.1)
theorem sd_put (hO : OC g Z S xa na ta C V) (v v1 : Int32) : f_putI (nset (sdS S xa v) ta xa m w) 1 xa 13 v1 = some (nset (sdS S xa v1) ta xa m w) := by
  have hty : tyA (nset (sdS S xa v) ta xa m w) 1 xa := hO.1.1.1
  rw [f_putI_T hty (by decide) (by decide)]
  congr 1
  refine Prod.ext rfl (Prod.ext ?_ rfl)
  funext b j
  have hne : xa ≠ ta := fun z => hO.1.1.2.2.1 z.symm
  show (if b = xa ∧ j = 13 then v1 else if b = ta then m.1 j else if b = xa ∧ j = 13 then v else xI S b j) = if b = ta then m.1 j else if b = xa ∧ j = 13 then v1 else xI S b j
  by_cases e1 : b = ta
  · subst e1
    rw [if_neg (fun z => hne z.1.symm), if_pos rfl, if_pos rfl]
  · rw [if_neg e1, if_neg e1]
    by_cases e2 : b = xa ∧ j = 13
    · rw [if_pos e2, if_pos e2]
    · rw [if_neg e2, if_neg e2, if_neg e2]
theorem sd_get (hO : OC g Z S xa na ta C V) (v : Int32) : f_int (nset (sdS S xa v) ta xa m w) 1 xa 13 = some v := by
  have hty : tyA (nset (sdS S xa v) ta xa m w) 1 xa := hO.1.1.1
  rw [f_int_T hty (by decide) (by decide)]
  have hne : xa ≠ ta := fun z => hO.1.1.2.2.1 z.symm
  show some (if xa = ta then m.1 13 else if xa = xa ∧ 13 = 13 then v else xI S xa 13) = some v
  rw [if_neg hne, if_pos ⟨rfl, rfl⟩]
theorem x_draw (hO : OC g Z S xa na ta C V) (v : Int32) {x : Int32} (hx : ¬ x = 0) : kX_X1_draw g N (nset (sdS S xa v) ta xa m w) xa x = some (nset (sdS S xa (nxS v)) ta xa m w, drV (nxS v) x) := by
  unfold kX_X1_draw
  exact ob1 (sd_get hO v) (ob1 (sd_put hO v _) (ob1 (sd_get hO (nxS v)) (oif hx (onb rfl rfl))))
theorem r_draw (σ : MS) {x : Int32} (hx : ¬ x = 0) : kM_draw N σ x = some (m_put σ 53 (nxS (σ.1 53)), drV (nxS (σ.1 53)) x) := by
  unfold kM_draw
  refine onb (v := m_put σ 53 (nxS (σ.1 53))) rfl (oif hx (onb ?_ rfl))
  rw [mp_s]
  rfl
theorem mLead_YN {x : Int} (hm : YN C m T) (hc : c < C.1) (hx : x = -1 ∨ ((c : Int) < x ∧ x < C.1)) : YN C (mLead m c x) T := by
  refine ⟨fun j hj => ?_, fun j hj => ?_⟩
  · have hj0 := hm.1 j hj
    unfold YK at hj0 ⊢
    simp only [mLead_A]
    obtain ⟨a0, a1, a2, a3, a4, a5, a6, a7, a8⟩ := hj0
    by_cases e : j = c
    · subst e
      simp only [true_and, show ¬ (0 : Nat) = 5 by decide, show ¬ (0 : Nat) = 4 by decide, show ¬ (0 : Nat) = 3 by decide, show ¬ (1 : Nat) = 5 by decide, show ¬ (1 : Nat) = 4 by decide, show ¬ (1 : Nat) = 3 by decide, show ¬ (2 : Nat) = 5 by decide, show ¬ (2 : Nat) = 4 by decide, show ¬ (2 : Nat) = 3 by decide, show ¬ (3 : Nat) = 5 by decide, show ¬ (3 : Nat) = 4 by decide, show ¬ (4 : Nat) = 5 by decide, if_true, if_false]
      exact ⟨a0, a1, a2, a3, hx, Or.inl trivial, Or.inl trivial, a7, a8⟩
    · simp only [e, false_and, if_false]
      exact ⟨a0, a1, a2, a3, a4, a5, a6, a7, a8⟩
  · rw [mLead_A, if_neg (by omega), if_neg (by omega), if_neg (by omega)]
    exact hm.2 j hj
theorem RS.i53 (h : RS N s C m T) (v : Int32) : RS N (m_put s 53 v) C m T := by
  obtain ⟨h1, h2, h3, h4, h5⟩ := h
  refine ⟨h1, ?_, h3, ?_, h5⟩
  · unfold RC at h2 ⊢
    rw [mp_n _ _ _ (by decide), mp_n _ _ _ (by decide), mp_n _ _ _ (by decide)]
    exact h2
  · unfold HM at h4 ⊢
    rw [mp_n _ _ _ (by decide)]
    exact h4
theorem RS.row2 {s1 : MS} {m1 : MN} (h : RS N s C m T) (hf : FrH 64 s s1) (hR : RowR (s1.2.2 31) 64 C m1) (hY : YN C m1 T) (h8 : yI m1 8 = yI m 8) (h9 : yI m1 9 = yI m 9) (h10 : yI m1 10 = yI m 10) : RS N s1 C m1 T := ⟨h.1, h.2.1.fr hf, hR, h.2.2.2.1.fr hf h8 h9 h10, hY⟩
theorem j_hap (hO : OC g Z S xa na ta C V) (hs : RS N s C m T) {v : Int32} (h53 : s.1 53 = v) : ∃ v1 m1 s1, kX_X1_befalls g N (nset (sdS S xa v) ta xa m w) xa = some (nset (sdS S xa v1) ta xa m1 w) ∧ kM_happens N s = some s1 ∧ RS N s1 C m1 T ∧ s1.1 53 = v1 ∧ s1.1 0 = s.1 0 ∧ RFr s s1 := by
  have h9 := hO.spr.1
  have hOs := fun v => hO.sd v
  obtain ⟨b, b1, b2⟩ := drV_n (nxS v) (c := 6) (by omega) (by omega)
  have b2 : drV (nxS v) 6 = nI b := b2
  have xd1 := x_draw (g := g) (N := N) (m := m) (w := w) hO v (x := 6) (by decide)
  have rd1 := r_draw (N := N) s (x := 6) (by decide)
  rw [h53] at rd1
  rw [b2] at xd1 rd1
  obtain ⟨s1, hs1⟩ : ∃ s1, s1 = m_put s 53 (nxS v) := ⟨_, rfl⟩
  rw [← hs1] at rd1
  have e53 : s1.1 53 = nxS v := by rw [hs1]; exact mp_s _ _ _
  have f1 : RFr s s1 := by rw [hs1]; exact RFr.put s 53 _ (by decide)
  have z1 : s1.1 0 = s.1 0 := by rw [hs1]; exact mp_n _ _ _ (by decide)
  have q1 : RS N s1 C m T := by rw [hs1]; exact hs.i53 _
  have hC1 : s1.1 1 = nI C.1 := q1.2.1.1
  unfold kX_X1_befalls kM_happens
  by_cases c2 : 2 < b
  · have g2 : (2 : Int32) < nI b := nI_lt (a := 2) c2 (by omega)
    exact ⟨nxS v, m, s1, ob1 (oc_cls (hOs v)) (ob1 xd1 (oit g2 rfl)), ob1 rd1 (oit g2 rfl), q1, e53, z1, f1⟩
  have g2 : ¬ (2 : Int32) < nI b := nI_nlt (a := 2) (by omega) (by omega)
  by_cases c0 : C.1 = 0
  · have g0 : nI C.1 = 0 := by rw [c0]; rfl
    exact ⟨nxS v, m, s1, ob1 (oc_cls (hOs v)) (ob1 xd1 (oif g2 (oc_cups (hOs (nxS v)) (oit g0 rfl)))), ob1 rd1 (oif g2 (oit (hC1.trans g0) rfl)), q1, e53, z1, f1⟩
  have g0 : ¬ nI C.1 = 0 := nI_ne0 (by omega) (by omega)
  obtain ⟨k, k1, k2⟩ := drV_n (nxS (nxS v)) (c := C.1) (by omega) (by omega)
  have xd2 := x_draw (g := g) (N := N) (m := m) (w := w) hO (nxS v) (x := nI C.1) g0
  have rd2 := r_draw (N := N) s1 (x := nI C.1) g0
  rw [e53] at rd2
  rw [k2] at xd2 rd2
  obtain ⟨s2, hs2⟩ : ∃ s2, s2 = m_put s1 53 (nxS (nxS v)) := ⟨_, rfl⟩
  rw [← hs2] at rd2
  have e53' : s2.1 53 = nxS (nxS v) := by rw [hs2]; exact mp_s _ _ _
  have f2 : RFr s s2 := f1.trans (by rw [hs2]; exact RFr.put s1 53 _ (by decide))
  have z2 : s2.1 0 = s.1 0 := by rw [hs2]; exact (mp_n _ _ _ (by decide)).trans z1
  have q2 : RS N s2 C m T := by rw [hs2]; exact q1.i53 _
  have hC2 : s2.1 1 = nI C.1 := q2.2.1.1
  have rd2' : kM_draw N s1 (s1.1 1) = some (s2, nI k) := by rw [hC1]; exact rd2
  have hmC : s1.1 1 = 0 ↔ nI C.1 = 0 := by rw [hC1]
  have pre : ∀ {m1 : MN} {v1 : Int32} {s3 : MS} (X : XS → Option XS) (R : MS → Option MS), X (nset (sdS S xa (nxS (nxS v))) ta xa m w) = some (nset (sdS S xa v1) ta xa m1 w) → R s2 = some s3 → RS N s3 C m1 T → s3.1 53 = v1 → s3.1 0 = s.1 0 → RFr s s3 → (∀ S0, X S0 = if nI b = 0 then (f_obj S0 1 xa 3).bind fun v14 => (f_int S0 2 v14 7).bind fun v15 => (f_putI S0 2 v14 7 (v15 ^^^ ((1 : Int32) <<< (nI k &&& 31)))).bind fun S16 => kX_X1_befalls_54 g N S16 xa (nI b) (nI k) else kX_X1_befalls_54 g N S0 xa (nI b) (nI k)) → (∀ σ, R σ = if nI b = 0 then (m_ld σ 31 (119 + nI k)).bind fun v6 => (m_st σ 31 (119 + nI k) (1 - v6)).bind fun σ7 => kM_happens_53 N σ7 (nI b) (nI k) else kM_happens_53 N σ (nI b) (nI k)) → ∃ v1 m1 s1, ((f_cls (nset (sdS S xa v) ta xa m w) 1 xa).bind fun u1 => (kX_X1_draw g N (nset (sdS S xa v) ta xa m w) xa 6).bind fun w2 => if (2 : Int32) < w2.2 then some w2.1 else (f_obj w2.1 1 xa 1).bind fun v4 => (f_cls w2.1 3 v4).bind fun u5 => (kX_X2_cups g N w2.1 v4).bind fun w6 => if w6.2 = 0 then some w6.1 else (f_obj w6.1 1 xa 1).bind fun v8 => (f_cls w6.1 3 v8).bind fun u9 => (kX_X2_cups g N w6.1 v8).bind fun w10 => (f_cls w10.1 1 xa).bind fun u11 => (kX_X1_draw g N w10.1 xa w10.2).bind fun w12 => if w2.2 = 0 then (f_obj w12.1 1 xa 3).bind fun v14 => (f_int w12.1 2 v14 7).bind fun v15 => (f_putI w12.1 2 v14 7 (v15 ^^^ ((1 : Int32) <<< (w12.2 &&& 31)))).bind fun S16 => kX_X1_befalls_54 g N S16 xa w2.2 w12.2 else kX_X1_befalls_54 g N w12.1 xa w2.2 w12.2) = some (nset (sdS S xa v1) ta xa m1 w) ∧ ((kM_draw N s 6).bind fun w1 => if (2 : Int32) < w1.2 then some w1.1 else if (w1.1.1 1) = 0 then some w1.1 else (kM_draw N w1.1 (w1.1.1 1)).bind fun w4 => if w1.2 = 0 then (m_ld w4.1 31 (119 + w4.2)).bind fun v6 => (m_st w4.1 31 (119 + w4.2) (1 - v6)).bind fun σ7 => kM_happens_53 N σ7 w1.2 w4.2 else kM_happens_53 N w4.1 w1.2 w4.2) = some s1 ∧ RS N s1 C m1 T ∧ s1.1 53 = v1 ∧ s1.1 0 = s.1 0 ∧ RFr s s1 := fun {m1 v1 s3} X R hX hR h1 h2 h3 h4 eX eR =>
    ⟨v1, m1, s3, ob1 (oc_cls (hOs v)) (ob1 xd1 (oif g2 (oc_cups (hOs (nxS v)) (oif g0 (oc_cups (hOs (nxS v)) (ob1 (oc_cls (hOs (nxS v))) (ob1 xd2 ((eX _).symm.trans hX)))))))), ob1 rd1 (oif g2 (oif (fun z => g0 (hmC.mp z)) (ob1 rd2' ((eR _).symm.trans hR)))), h1, h2, h3, h4⟩
  have b012 : b = 0 ∨ b = 1 ∨ b = 2 := by omega
  rcases b012 with rfl | rfl | rfl
  · -- a plug
    have hpl := (q2.2.2.1.2 k k1).2.2.2.2.2.2
    have hx : ∀ i, i < 9 → i ≠ k → bt (yI m 7 ^^^ ((1 : Int32) <<< (nI k &&& 31))) i = bt (yI m 7) i := fun i hi hne => by
      rw [b_xor, bt_one (by omega) (by omega), decide_eq_false hne, Bool.xor_false]
    have hv : (1 : Int32) - (if ((yI m 7 >>> (nI k &&& 31)) &&& 1) = 1 then 1 else 0) = if bt (yI m 7 ^^^ ((1 : Int32) <<< (nI k &&& 31))) k = true then 1 else 0 := by
      rw [b_xor, bt_one (by omega) (by omega)]
      by_cases e : bt (yI m 7) k = true
      · rw [if_pos ((bit_is (by omega)).mpr e), e]; simp
      · rw [if_neg (fun z => e ((bit_is (by omega)).mp z))]
        have e : bt (yI m 7) k = false := by simpa using e
        rw [e]; simp
    have hR := q2.2.2.1.plugX h9 k1 hx hv
    refine pre _ _ (m1 := ysI m 7 (yI m 7 ^^^ ((1 : Int32) <<< (nI k &&& 31)))) (v1 := nxS (nxS v)) (s3 := rS s2 31 (119 + k) ((1 : Int32) - (if ((yI m 7 >>> (nI k &&& 31)) &&& 1) = 1 then 1 else 0))) ?_ ?_ ?_ e53' z2 (f2.trans (RFr.s s2 31 (119 + k) _ (Or.inr ⟨rfl, by omega⟩))) (fun _ => rfl) (fun _ => rfl)
    · refine oit rfl (ob1 (oc_ta (hOs _)) (ob1 (n_int (S := sdS S xa (nxS (nxS v))) hO.1.1 (by decide)) (ob1 (n_putI (S := sdS S xa (nxS (nxS v))) hO.1.1 (by decide)) ?_)))
      unfold kX_X1_befalls_54 kX_X1_befalls_75
      exact oif (by decide) (oif (by decide) rfl)
    · refine oit rfl (ob1 (r_ld (q := 119 + k) (nI_add 119 k) (by show 119 + k < 128; omega)) (ob1 (r_st (q := 119 + k) (nI_add 119 k) (by show 119 + k < 128; omega)) ?_))
      rw [show 119 + k = 64 + 55 + k by omega, hpl]
      unfold kM_happens_53 kM_happens_73
      exact oif (by decide) (oif (by decide) rfl)
    · refine q2.row2 (FrH.s 64 s2 31 (119 + k) _ (Or.inr (Or.inr ⟨rfl, by omega, by omega⟩))) ?_ q2.2.2.2.2 rfl rfl rfl
      rw [rS_arr, show 119 + k = 64 + 55 + k by omega]
      exact hR
  · -- a crack
    obtain ⟨d, d1, d2⟩ := drV_n (nxS (nxS (nxS v))) (c := 30) (by omega) (by omega)
    have d2 : drV (nxS (nxS (nxS v))) 30 = nI d := d2
    have xd3 := x_draw (g := g) (N := N) (m := m) (w := w) hO (nxS (nxS v)) (x := 30) (by decide)
    have rd3 := r_draw (N := N) s2 (x := 30) (by decide)
    rw [e53'] at rd3
    rw [d2] at xd3 rd3
    have q3 : RS N (m_put s2 53 (nxS (nxS (nxS v)))) C m T := q2.i53 _
    have hF : 0 ≤ yA m 1 k ∧ yA m 1 k ≤ 30 := by
      obtain ⟨a0, a1, a2, a3, -⟩ := hs.2.2.2.2.1 k k1
      omega
    obtain ⟨s4, u1, u2, u3⟩ := r_cracks (N := N) (b := 64) (Or.inr rfl) h9 k1 (k := d + 1) (by omega) (by omega) q3.2.2.1 hF
    have xc := x_crack (g := g) (N := N) (S := sdS S xa (nxS (nxS (nxS v)))) (a := ta) (xa := xa) (m := m) (w := w) hO.1.1 (show k < 9 by omega) (k := d + 1) (by omega) (by omega) hF
    refine pre _ _ (m1 := mCrack m k ((d + 1 : Nat) : Int)) (v1 := nxS (nxS (nxS v))) (s3 := s4) ?_ ?_ ?_ ((u2.1 53 (by decide) (by decide)).trans (mp_s _ _ _)) ((u2.1 0 (by decide) (by decide)).trans ((mp_n _ _ _ (by decide)).trans z2)) (f2.trans ((RFr.put s2 53 _ (by decide)).trans u2.r)) (fun _ => rfl) (fun _ => rfl)
    · refine oif (by decide) ?_
      unfold kX_X1_befalls_54 kX_X1_befalls_75
      refine oit rfl (ob1 (oc_ta (hOs _)) (ob1 (oc_cls (hOs _)) (ob1 xd3 (ob1 (n_cls hO.1.1) (ob1 (v := nset (sdS S xa (nxS (nxS (nxS v)))) ta xa (mCrack m k ((d + 1 : Nat) : Int)) w) ?_ (oif (by decide) rfl))))))
      rw [nI_1]
      exact xc
    · refine oif (by decide) ?_
      unfold kM_happens_53 kM_happens_73
      refine oit rfl (ob1 rd3 (ob1 (v := s4) ?_ (oif (by decide) rfl)))
      rw [nI_1]
      exact u1
    · exact q3.row2 u2 u3 (mCrack_YN hs.2.2.2.2 (by omega) (by omega)) rfl rfl rfl
  · -- led
    obtain ⟨d, d1, d2⟩ := drV_n (nxS (nxS (nxS v))) (c := C.1) (by omega) (by omega)
    have xd3 := x_draw (g := g) (N := N) (m := m) (w := w) hO (nxS (nxS v)) (x := nI C.1) g0
    have rd3 := r_draw (N := N) s2 (x := nI C.1) g0
    rw [e53'] at rd3
    rw [d2] at xd3 rd3
    have q3 : RS N (m_put s2 53 (nxS (nxS (nxS v)))) C m T := q2.i53 _
    have rd3' : kM_draw N s2 (s2.1 1) = some (m_put s2 53 (nxS (nxS (nxS v))), nI d) := by rw [hC2]; exact rd3
    obtain ⟨x, hx, hx2⟩ : ∃ x : Int, (x = -1 ∨ ((k : Int) < x ∧ x < C.1)) ∧ (if nI d ≤ nI k then (-1 : Int32) else nI d) = iI x := by
      by_cases e : d ≤ k
      · exact ⟨-1, Or.inl rfl, by rw [if_pos (nI_le e (by omega))]; rfl⟩
      · exact ⟨d, Or.inr (by omega), by rw [if_neg (nI_ge (by omega) (by omega)), iI_nI]⟩
    obtain ⟨s4, u1, u2, u3⟩ := r_leads (N := N) (b := 64) (Or.inr rfl) h9 k1 x q3.2.2.1
    have xc := x_lead (g := g) (N := N) (S := sdS S xa (nxS (nxS (nxS v)))) (a := ta) (xa := xa) (m := m) (w := w) hO.1.1 (show k < 9 by omega) x
    rw [← hx2] at u1 xc
    refine pre _ _ (m1 := mLead m k x) (v1 := nxS (nxS (nxS v))) (s3 := s4) ?_ ?_ ?_ ((u2.1 53 (by decide) (by decide)).trans (mp_s _ _ _)) ((u2.1 0 (by decide) (by decide)).trans ((mp_n _ _ _ (by decide)).trans z2)) (f2.trans ((RFr.put s2 53 _ (by decide)).trans u2.r)) (fun _ => rfl) (fun _ => rfl)
    · refine oif (by decide) ?_
      unfold kX_X1_befalls_54 kX_X1_befalls_75 kX_X1_befalls_107
      refine oif (by decide) (oit rfl (oc_cups (hOs _) (ob1 (oc_cls (hOs _)) (ob1 xd3 (ob1 (oc_ta (hOs _)) ?_)))))
      by_cases e : nI d ≤ nI k
      · rw [if_pos e] at xc
        exact oit e (ob1 (n_cls hO.1.1) (ob1 xc rfl))
      · rw [if_neg e] at xc
        exact oif e (ob1 (n_cls hO.1.1) (ob1 xc rfl))
    · refine oif (by decide) ?_
      unfold kM_happens_53 kM_happens_73 kM_happens_102
      refine oif (by decide) (oit rfl (ob1 rd3' ?_))
      by_cases e : nI d ≤ nI k
      · rw [if_pos e] at u1
        exact oit e (ob1 u1 rfl)
      · rw [if_neg e] at u1
        exact oif e (ob1 u1 rfl)
    · exact q3.row2 u2 u3 (mLead_YN hs.2.2.2.2 k1 hx) rfl rfl rfl
end ON
