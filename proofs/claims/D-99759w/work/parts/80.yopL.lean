/-! plain law: cold -/
def cB (x : Int32) (n : Nat) : Int32 := if bt x n = true then 1 else 0
def cF (m : MN) (b : Int32) : MN := ysI (ysI m 10 b) 9 1
def cM (C : CC) (x : Int32) (m : MN) : Nat → MN
  | 0 => m
  | n + 1 => mPass C (cF (cM C x m n) (cB x n))
def cP (x t : Int32) : Nat → Int32
  | 0 => 1
  | n + 1 => cP x t n * (if bt x n = true then t else 10 - t)
def cT (C : CC) (x : Int32) (m : MN) (c : Nat) : Nat → Bool
  | 0 => false
  | n + 1 => cT C x m c n || bt (yI (cM C x m (n + 1)) 13) c
theorem cF_YN {C : CC} {m : MN} {T : Int} {b : Int32} (h : YN C m T) : YN C (cF m b) T := h
theorem cM_YN {C : CC} {m : MN} {T : Int} (hs : C.1 ≤ 9 ∧ ∀ k, k < C.1 → 0 ≤ C.2.1 k ∧ C.2.1 k ≤ 20) (x : Int32) (h : YN C m T) : ∀ n : Nat, T + 40000 * n ≤ 900000000 → YN C (cM C x m n) (T + 40000 * n) := by
  intro n
  induction n with
  | zero => intro _; simpa [cM] using h
  | succ n ih =>
    intro hT
    have := mPass_YN hs.2 hs.1 (by omega) (cF_YN (b := cB x n) (ih (by omega)))
    have e : T + 40000 * ((n + 1 : Nat) : Int) = T + 40000 * (n : Int) + 40000 := by omega
    rw [e]
    exact this
section OM
variable {g : XC} {N xa oa n : Nat} {Z Ya Yh : Nat → Prop} {na ta cv la lh : Nat} {ra rh : List Nat} {M : MT} {T : Int} {S S1 : XS} {σ s : MS} {C : CC} {V m : MN} {w : Nat → Int32} {c h k : Nat}
theorem x_of (hc : c < 9) (x : Int32) : kX_X1_isOf g N x (nI c) = some (if bt x c = true then 1 else 0) := by
  unfold kX_X1_isOf
  by_cases e : bt x c = true
  · rw [if_pos e]
    exact oit ((bit_is (by omega)).mpr e) rfl
  · rw [if_neg e]
    exact oif (fun z => e ((bit_is (by omega)).mp z)) rfl
theorem x_cold67 (hO : OC g Z S xa na ta C V) (hN : 2 ^ 20 < N) (hc : c < C.1) (hh : h ≤ 5) (hT : T ≤ 800000000) (hm : YN C m T) (K : XS → Nat → Int32 → Int32 → Int32 → Int32 → Int32 → Option ((XS × Int32) ⊕ XT)) (t a x : Int32) : ∃ w1, kX_X1_cold_67 g N K N (nset S ta xa m w) xa (nI c) (nI h) t a x 1 0 0 = K (nset S ta xa (cM C x m h) w1) xa (nI c) (nI h) t (if cT C x m c h = true then a + cP x t h else a) (x + 1) := by
  have h9 := hO.spr.1
  refine y_loop (fun f (p : (Nat → Int32)) i => kX_X1_cold_67 g N K f (nset S ta xa (cM C x m i) p) xa (nI c) (nI h) t a x (cP x t i) (if cT C x m c i = true then 1 else 0) (nI i)) h (fun p i => i ≤ h) (fun r => ∃ w1, r = K (nset S ta xa (cM C x m h) w1) xa (nI c) (nI h) t (if cT C x m c h = true then a + cP x t h else a) (x + 1)) ?_ ?_ h N w 0 (by omega) (by omega) (by omega)
  · intro f p i hi _
    right
    have hY := cM_YN hO.spr x hm i (by omega)
    obtain ⟨w1, hw1⟩ := oc_pass (w := p) hO hN (by omega) (cF_YN (b := cB x i) hY)
    refine ⟨w1, ?_, by omega⟩
    show kX_X1_cold_67 g N K (f + 1) (nset S ta xa (cM C x m i) p) xa (nI c) (nI h) t a x (cP x t i) (if cT C x m c i = true then 1 else 0) (nI i) = kX_X1_cold_67 g N K f (nset S ta xa (cM C x m (i + 1)) w1) xa (nI c) (nI h) t a x (cP x t (i + 1)) (if cT C x m c (i + 1) = true then 1 else 0) (nI (i + 1))
    rw [kX_X1_cold_67]
    have hz : cB x i = 0 ∨ cB x i = 1 := by unfold cB; split <;> simp
    refine oif (nI_ge hi (by omega)) (ob1 (oc_ta hO) (ob1 (x_of (by omega) x) (oz hz (ob1 (n_putI (v := cB x i) hO.1.1 (by decide)) (ob1 (oc_ta hO) (ob1 (n_putI (v := 1) hO.1.1 (by decide)) (ob1 (oc_ta hO) (ob1 (n_int hO.1.1 (by decide)) ?_))))))))
    have h115 : ∀ z : Int32, kX_X1_cold_115 g N K (kX_X1_cold_67 g N K f) (nset S ta xa (cF (cM C x m i) (cB x i)) p) xa (nI c) (nI h) t a x (if cT C x m c i = true then 1 else 0) (nI i) (cP x t i) z = kX_X1_cold_67 g N K f (nset S ta xa (cM C x m (i + 1)) w1) xa (nI c) (nI h) t a x (cP x t i * z) (if cT C x m c (i + 1) = true then 1 else 0) (nI (i + 1)) := fun z => by
      unfold kX_X1_cold_115
      refine onb rfl (ob1 (oc_ta hO) (ob1 (n_cls hO.1.1) (ob1 hw1 (ob1 (n_int hO.1.1 (by decide)) (ob1 (x_of (by omega) _) (onb (v := if cT C x m c (i + 1) = true then 1 else 0) ?_ ?_))))))
      rotate_left
      · rw [nI_1]
        rfl
      · show (if cT C x m c i = true then (1 : Int32) else 0) ||| (if bt (yI (cM C x m (i + 1)) 13) c = true then 1 else 0) = if (cT C x m c i || bt (yI (cM C x m (i + 1)) 13) c) = true then 1 else 0
        cases cT C x m c i <;> cases bt (yI (cM C x m (i + 1)) 13) c <;> decide
    have e10 : yI (ysI (ysI (cM C x m i) 10 (cB x i)) 9 1) 10 = cB x i := rfl
    show (if yI (ysI (ysI (cM C x m i) 10 (cB x i)) 9 1) 10 = 0 then _ else _) = _
    rw [e10]
    have eP : cP x t (i + 1) = cP x t i * (if bt x i = true then t else 10 - t) := rfl
    rw [eP]
    by_cases hb : bt x i = true
    · have : ¬ cB x i = 0 := by unfold cB; rw [if_pos hb]; decide
      rw [if_neg this, if_pos hb]
      exact h115 _
    · have : cB x i = 0 := by unfold cB; rw [if_neg hb]
      rw [if_pos this, if_neg hb]
      exact h115 _
  · intro f p _
    refine ⟨p, ?_⟩
    show kX_X1_cold_67 g N K (f + 1) (nset S ta xa (cM C x m h) p) xa (nI c) (nI h) t a x (cP x t h) (if cT C x m c h = true then 1 else 0) (nI h) = _
    rw [kX_X1_cold_67]
    refine oit (nI_le (Nat.le_refl _) (by omega)) ?_
    unfold kX_X1_cold_155
    by_cases e : cT C x m c h = true
    · rw [if_pos e, if_pos e]
      exact oif n10 (onb rfl rfl)
    · rw [if_neg e, if_neg e]
      exact oit rfl rfl
theorem RS.frost (h : RS N σ C m T) {b : Int32} (hb : b = 0 ∨ b = 1) : RS N (m_put σ 40 b) C (cF m b) T := by
  obtain ⟨h1, h2, h3, h4, h5⟩ := h
  refine ⟨h1, ?_, h3, ?_, h5⟩
  · unfold RC at h2 ⊢
    rw [mp_n _ _ _ (by decide), mp_n _ _ _ (by decide), mp_n _ _ _ (by decide)]
    exact h2
  · refine ⟨h4.1, ?_⟩
    rcases hb with rfl | rfl
    · exact Or.inr (Or.inl ⟨mp_s _ _ _, rfl, rfl⟩)
    · exact Or.inr (Or.inr ⟨mp_s _ _ _, rfl, rfl⟩)
theorem FrH.put40 {s : MS} {b : Nat} (h : FrH b (m_put σ 40 (s.1 40)) s) (x : Int32) : FrH b (m_put σ 40 x) (m_put s 40 x) := by
  refine ⟨fun j h1 h2 => ?_, h.2.1, h.2.2.1, h.2.2.2⟩
  by_cases e : j = 40
  · rw [e, mp_s, mp_s]
  · rw [mp_n _ _ _ e, mp_n _ _ _ e, h.1 j h1 h2, mp_n _ _ _ e]
theorem r_cold74 (hN : 2 ^ 20 < N) (hc : c < 9) (hh : h ≤ 5) (hT : T ≤ 800000000) (hm : RS N s C m T) (hf : FrH 64 (m_put σ 40 (s.1 40)) s) (K : MS → Int32 → Int32 → Int32 → Int32 → Int32 → Option (MS × Int32)) (t a x : Int32) : ∃ s1, kM_cold_74 N K N s (nI c) (nI h) t a x 1 0 0 = K s1 (nI c) (nI h) t (if cT C x m c h = true then a + cP x t h else a) (x + 1) ∧ FrH 64 (m_put σ 40 (s1.1 40)) s1 ∧ RS N s1 C (cM C x m h) (T + 40000 * h) := by
  refine y_loop (fun f (p : MS × Int32) i => kM_cold_74 N K f p.1 (nI c) (nI h) t a x (cP x t i) p.2 (nI i)) h (fun p i => i ≤ h ∧ RS N p.1 C (cM C x m i) (T + 40000 * i) ∧ FrH 64 (m_put σ 40 (p.1.1 40)) p.1 ∧ bt p.2 c = cT C x m c i) (fun r => ∃ s1, r = K s1 (nI c) (nI h) t (if cT C x m c h = true then a + cP x t h else a) (x + 1) ∧ FrH 64 (m_put σ 40 (s1.1 40)) s1 ∧ RS N s1 C (cM C x m h) (T + 40000 * h)) ?_ ?_ h N (s, 0) 0 (by omega) (by omega) ⟨by omega, by simpa [cM] using hm, hf, by rw [b_0]; rfl⟩
  · rintro f ⟨p, v⟩ i hi ⟨-, j1, j2, j3⟩
    right
    have j3 : bt v c = cT C x m c i := j3
    have hz : cB x i = 0 ∨ cB x i = 1 := by unfold cB; split <;> simp
    have hbit : (x >>> (nI i &&& 31)) &&& 1 = cB x i := bit01 (by omega)
    obtain ⟨p1, q1, q2, q3, q4, q5, q6⟩ := r_go hN (j1.frost hz) (by omega)
    have q40 : p1.1 40 = cB x i := (q2.1 40 (by decide) (by decide)).trans (mp_s _ _ _)
    refine ⟨(p1, v ||| yI (cM C x m (i + 1)) 13), ?_, by omega, ?_, ?_, ?_⟩
    · show kM_cold_74 N K (f + 1) p (nI c) (nI h) t a x (cP x t i) v (nI i) = kM_cold_74 N K f p1 (nI c) (nI h) t a x (cP x t (i + 1)) (v ||| yI (cM C x m (i + 1)) 13) (nI (i + 1))
      rw [kM_cold_74]
      refine oif (nI_ge hi (by omega)) (onb (v := m_put p 40 (cB x i)) (by rw [hbit]) ?_)
      have h109 : ∀ z : Int32, kM_cold_109 N K (kM_cold_74 N K f) (m_put p 40 (cB x i)) (nI c) (nI h) t a x v (nI i) (cP x t i) z = kM_cold_74 N K f p1 (nI c) (nI h) t a x (cP x t i * z) (v ||| yI (cM C x m (i + 1)) 13) (nI (i + 1)) := fun z => by
        unfold kM_cold_109
        refine onb rfl (ob1 q1 (onb (v := v ||| yI (cM C x m (i + 1)) 13) (by rw [q5]; rfl) ?_))
        rw [nI_1]
      have eP : cP x t (i + 1) = cP x t i * (if bt x i = true then t else 10 - t) := rfl
      rw [mp_s, eP]
      by_cases hb : bt x i = true
      · have : cB x i = 1 := by unfold cB; rw [if_pos hb]
        rw [if_pos this, if_pos hb]
        exact h109 _
      · have : ¬ cB x i = 1 := by unfold cB; rw [if_neg hb]; decide
        rw [if_neg this, if_neg hb]
        exact h109 _
    · have e : T + 40000 * ((i + 1 : Nat) : Int) = T + 40000 * (i : Int) + 40000 := by omega
      rw [e]
      exact q3
    · show FrH 64 (m_put σ 40 (p1.1 40)) p1
      rw [q40]
      exact (j2.put40 _).trans q2
    · show bt (v ||| yI (cM C x m (i + 1)) 13) c = (cT C x m c i || bt (yI (cM C x m (i + 1)) 13) c)
      rw [b_or, j3]
  · rintro f ⟨p, v⟩ ⟨-, j1, j2, j3⟩
    have j3 : bt v c = cT C x m c h := j3
    refine ⟨p, ?_, j2, j1⟩
    show kM_cold_74 N K (f + 1) p (nI c) (nI h) t a x (cP x t h) v (nI h) = _
    rw [kM_cold_74]
    refine oit (nI_le (Nat.le_refl _) (by omega)) ?_
    unfold kM_cold_151
    have hbit : ((v >>> (nI c &&& 31)) &&& 1) = 1 ↔ cT C x m c h = true := by rw [bit_is (by omega), j3]
    by_cases e : cT C x m c h = true
    · rw [if_pos e]
      exact oit (hbit.mpr e) (onb rfl rfl)
    · rw [if_neg e]
      refine oif (fun z => e (hbit.mp z)) (onb (v := a) ?_ rfl)
      exact Int32.add_zero a
/-- the tried row anew, whatever of frost was put in place -/
theorem r_try40 (hN : 2 ^ 20 < N) (hR : RRel N M σ) (hO : MOk T M) (m : MN) {s : MS} (hf : FrH 64 (m_put σ 40 (s.1 40)) s) (h40 : s.1 40 = -1 ∨ s.1 40 = 0 ∨ s.1 40 = 1) : ∃ s2 m2, kM_tries N s = some s2 ∧ FrH 64 s s2 ∧ RS N s2 (tC M) m2 T ∧ (∀ b, cF m2 b = cF (mBe m (tV M)) b) := by
  obtain ⟨a1, a2, a3, a4, a5, a6, -⟩ := hR
  have hV := hO.2.2.1
  have hRC : RC N s (tC M) := by
    unfold RC at a1 ⊢
    rw [hf.1 1 (by decide) (by decide), hf.1 2 (by decide) (by decide), hf.1 3 (by decide) (by decide), hf.2.2.1 4 (by decide) (by decide) (by decide) (by decide) (by decide), hf.2.2.1 5 (by decide) (by decide) (by decide) (by decide) (by decide), mp_n _ _ _ (by decide), mp_n _ _ _ (by decide), mp_n _ _ _ (by decide)]
    exact a1
  have hRw : RowR (s.2.2 31) 0 (tC M) (tV M) := a2.of hO.1 (fun q hq => by rw [hf.2.2.2 (0 + q) (Or.inl (by omega))]; rfl)
  have h8 := mBe_0 m (tV M) 8 (Or.inl rfl)
  have hY0 := mBe_YN (T := T) m hO.1 hV.1.1
  have hR0 := mBe_Row m hO.1 hRw
  generalize mBe m (tV M) = m0 at h8 hY0 hR0 ⊢
  obtain ⟨x9, x10, hx⟩ : ∃ x9 x10 : Int32, HM s (ysI (ysI m0 9 x9) 10 x10) := by
    rcases h40 with h | h | h
    · exact ⟨0, 0, h8, Or.inl ⟨h, rfl, rfl⟩⟩
    · exact ⟨1, 0, h8, Or.inr (Or.inl ⟨h, rfl, rfl⟩)⟩
    · exact ⟨1, 1, h8, Or.inr (Or.inr ⟨h, rfl, rfl⟩)⟩
  have hY : YN (tC M) (ysI (ysI m0 9 x9) 10 x10) T := hY0
  have hRm : RowR (s.2.2 31) 0 (tC M) (ysI (ysI m0 9 x9) 10 x10) := hR0
  obtain ⟨s2, k1, k2, k3⟩ := r_tries (N := N) hN ⟨hO.1, hO.2.1⟩ hRC hRm hx hY
  refine ⟨s2, ysI (ysI m0 9 x9) 10 x10, k1, k2, k3, fun b => ?_⟩
  refine Prod.ext ?_ rfl
  funext j
  show (if j = 9 then (1 : Int32) else if j = 10 then b else if j = 10 then x10 else if j = 9 then x9 else m0.1 j) = if j = 9 then 1 else if j = 10 then b else m0.1 j
  by_cases e9 : j = 9
  · simp [e9]
  · by_cases e10 : j = 10
    · simp [e10]
    · simp [e9, e10]
theorem cM_c {m1 m2 : MN} (x : Int32) (he : ∀ b, cF m1 b = cF m2 b) : ∀ n, cM C x m1 (n + 1) = cM C x m2 (n + 1) := by
  intro n
  induction n with
  | zero =>
    show mPass C (cF m1 (cB x 0)) = mPass C (cF m2 (cB x 0))
    rw [he]
  | succ n ih =>
    show mPass C (cF (cM C x m1 (n + 1)) _) = mPass C (cF (cM C x m2 (n + 1)) _)
    rw [ih]
theorem cT_c {m1 m2 : MN} (x : Int32) (c : Nat) (he : ∀ b, cF m1 b = cF m2 b) : ∀ n, cT C x m1 c n = cT C x m2 c n := by
  intro n
  induction n with
  | zero => rfl
  | succ n ih =>
    show (cT C x m1 c n || bt (yI (cM C x m1 (n + 1)) 13) c) = (cT C x m2 c n || bt (yI (cM C x m2 (n + 1)) 13) c)
    rw [ih, cM_c x he]
theorem b_cold (hX : XB g N xa oa n Z Ya Yh na ta cv la lh ra rh M T S) (hR : RB N M T σ) {t : Nat} (hc : c < (tC M).1) (h0 : 1 ≤ h) (hh : h ≤ 5) (ht : t ≤ 10) : ∃ S1 r, kX_X1_cold g N S xa (nI c) (nI h) (nI t) = some (.inl (S1, r)) ∧ KS xa ta oa n S S1 ∧ ∃ σ1, kM_cold N σ (nI c) (nI h) (nI t) = some (σ1, r) ∧ σ1.1 0 = 0 ∧ RFr σ σ1 := by
  refine b_of (x := fun S => kX_X1_cold g N S xa (nI c) (nI h) (nI t)) hX (fun m w => ?_)
  have hO := hX.oc
  have hs := hO.spr
  have hN := hX.2.2.2.1
  have hT := hX.2.2.2.2.1
  have hV := hX.2.2.1.2.2.1.1
  have h40 : σ.1 40 = -1 := hR.1.2.2.2.2.2.1
  have hC1 : σ.1 1 = nI (tC M).1 := hR.1.1.1
  have hR0 := hR.1.fr hR.2.1.1 (RFr.p0 σ 0)
  have hTR : ∀ m s, FrH 64 (m_put (m_put σ 0 0) 40 (s.1 40)) s → (s.1 40 = -1 ∨ s.1 40 = 0 ∨ s.1 40 = 1) → ∃ s2 m2, kM_tries N s = some s2 ∧ FrH 64 s s2 ∧ RS N s2 (tC M) m2 T ∧ (∀ b, cF m2 b = cF (mBe m (tV M)) b) := fun m s h1 h2 => r_try40 hN hR0 hR.2.1 m h1 h2
  have z0 : (m_put σ 0 0).1 0 = 0 := mp_s _ _ _
  have z1 : (m_put σ 0 0).1 1 = nI (tC M).1 := (mp_n _ _ _ (by decide)).trans hC1
  have z40 : (m_put σ 0 0).1 40 = -1 := (mp_n _ _ _ (by decide)).trans h40
  generalize tC M = C at *
  generalize tV M = V at *
  have hp := y_pow h (by omega)
  have e2 : ((1 : Int32) <<< (nI h &&& 31)) = nI (2 ^ h) := by
    rw [hp.1, iI_nI]
    exact congrArg iI (by simp)
  have h2h : 2 ^ h ≤ 512 := by
    have := hp.2
    have e : ((2 ^ h : Nat) : Int) = 2 ^ h := by simp
    omega
  obtain ⟨h', rfl⟩ : ∃ h', h = h' + 1 := ⟨h - 1, by omega⟩
  have joint : ∀ (e d f f2 : Nat) (m : MN) (w : Nat → Int32) (s : MS) (a : Int32), d + e = 2 ^ (h' + 1) → e < f → e < f2 → FrH 64 (m_put (m_put σ 0 0) 40 (s.1 40)) s → (s.1 40 = -1 ∨ s.1 40 = 0 ∨ s.1 40 = 1) → ∃ m1 w1 r s1, kX_X1_cold_38 g N f (nset S ta xa m w) xa (nI c) (nI (h' + 1)) (nI t) a (nI d) = some (.inl (nset S ta xa m1 w1, r)) ∧ kM_cold_53 N f2 s (nI c) (nI (h' + 1)) (nI t) a (nI d) = some (m_put s1 40 (-1), r) ∧ FrH 64 (m_put (m_put σ 0 0) 40 (s1.1 40)) s1 := by
    intro e
    induction e with
    | zero =>
      intro d f f2 m w s a hd hf hf2 h1 h2
      obtain ⟨f, rfl⟩ : ∃ f', f = f' + 1 := ⟨f - 1, by omega⟩
      obtain ⟨f2, rfl⟩ : ∃ f', f2 = f' + 1 := ⟨f2 - 1, by omega⟩
      have ed : d = 2 ^ (h' + 1) := by omega
      subst ed
      refine ⟨m, w, a, s, ?_, ?_, h1⟩
      · rw [kX_X1_cold_38, e2]; exact oit (nI_le (Nat.le_refl _) (by omega)) rfl
      · rw [kM_cold_53, e2]; exact oit (nI_le (Nat.le_refl _) (by omega)) (onb rfl rfl)
    | succ e ih =>
      intro d f f2 m w s a hd hf hf2 h1 h2
      obtain ⟨f, rfl⟩ : ∃ f', f = f' + 1 := ⟨f - 1, by omega⟩
      obtain ⟨f2, rfl⟩ : ∃ f', f2 = f' + 1 := ⟨f2 - 1, by omega⟩
      obtain ⟨s2, m2, u1, u2, u3, u4⟩ := hTR m s h1 h2
      have hB0 := mBe_YN m hs.1 hV.1
      obtain ⟨w1, hx⟩ := x_cold67 (w := w) hO hN hc (h := h' + 1) hh (by omega) hB0 (kX_X1_cold_38 g N f) (nI t) a (nI d)
      have e40 : s2.1 40 = s.1 40 := u2.1 40 (by decide) (by decide)
      obtain ⟨s3, hr, v1, v2⟩ := r_cold74 (σ := m_put σ 0 0) hN (show c < 9 by omega) (h := h' + 1) hh (by omega) u3 (by rw [e40]; exact h1.trans u2) (kM_cold_53 N f2) (nI t) a (nI d)
      rw [cT_c (nI d) c u4] at hr
      rw [cM_c (nI d) u4] at v2
      have h40' : s3.1 40 = -1 ∨ s3.1 40 = 0 ∨ s3.1 40 = 1 := by
        rcases v2.2.2.2.1.2 with h | h | h
        · exact Or.inl h.1
        · exact Or.inr (Or.inl h.1)
        · exact Or.inr (Or.inr h.1)
      obtain ⟨m1, w2, r, s1, q1, q2, q3⟩ := ih (d + 1) f f2 _ w1 s3 (if cT C (nI d) (mBe m V) c (h' + 1) = true then a + cP (nI d) (nI t) (h' + 1) else a) (by omega) (by omega) (by omega) v1 h40'
      refine ⟨m1, w2, r, s1, ?_, ?_, q3⟩
      · rw [kX_X1_cold_38, e2]
        refine oif (nI_ge (by omega) (by omega)) (ob1 (oc_ta hO) (ob1 (oc_na hO) (ob1 (n_cls hO.1.1) (ob1 (oc_be hO hN) (hx.trans ?_)))))
        rw [nI_1]
        exact q1
      · rw [kM_cold_53, e2]
        refine oif (nI_ge (by omega) (by omega)) (ob1 u1 (hr.trans ?_))
        rw [nI_1]
        exact q2
  obtain ⟨m1, w1, r, s1, q1, q2, q3⟩ := joint (2 ^ (h' + 1)) 0 N N m w (m_put σ 0 0) 0 (by omega) (by omega) (by omega) (by
    refine ⟨fun j _ _ => ?_, rfl, fun j _ _ _ _ _ => rfl, fun q _ => rfl⟩
    by_cases e : j = 40
    · rw [e, mp_s]
    · rw [mp_n _ _ _ e]) (Or.inl z40)
  refine ⟨m1, w1, r, ?_, m_put s1 40 (-1), ?_, ?_, ?_⟩
  · show kX_X1_cold g N (nset S ta xa m w) xa (nI c) (nI (h' + 1)) (nI t) = _
    unfold kX_X1_cold kX_X1_cold_29
    exact ob1 (oc_cls hO) (ot1 (oc_cup1 hO hc) (ob1 (x_inN (a := 1) (b := 5) rfl rfl h0 hh (by decide)) (oif (by decide) (ob1 (x_inN (a := 0) (b := 10) rfl rfl (by omega) ht (by decide)) (oif (by decide) (ot1 (x_right1 (by decide)) q1))))))
  · unfold kM_cold kM_cold_38
    exact onb rfl (ob1 (r_isCup1 z0 z1 hs.1 hc) (oif n10 (ob1 (r_within1 (a := 1) (b := 5) rfl rfl h0 hh (by decide)) (oif (by decide) (ob1 (r_within1 (a := 0) (b := 10) rfl rfl (by omega) ht (by decide)) (oif (by decide) (ob1 (r_right1 z0 (by decide) 2) (oif n10 q2))))))))
  · rw [mp_n _ _ _ (by decide), q3.1 0 (by decide) (by decide), mp_n _ _ _ (by decide), z0]
  · refine (RFr.p0 σ 0).trans ⟨fun j hj => ?_, fun j hj => ?_, fun q hq => q3.2.2.2 q (Or.inl hq)⟩
    · by_cases e : j = 40
      · rw [e, mp_s, z40]
      · rw [mp_n _ _ _ e, q3.1 j (by rintro rfl; simp at hj) (by rintro rfl; simp at hj), mp_n _ _ _ e]
    · exact q3.2.2.1 j (by rintro rfl; simp at hj) (by rintro rfl; simp at hj) (by rintro rfl; simp at hj) (by rintro rfl; simp at hj) (by rintro rfl; simp at hj)
end OM
theorem op_cold {g : XC} {N xa oa i : Nat} (hN : 2 ^ 20 < N) (hi : i ≤ 378) : St_cold (yRel g N xa oa i) (yRel g N xa oa (i + 6)) g N xa oa := by
  rintro a0 a1 a2 n sl τ σ ⟨M, Z, Ya, Yh, na, ta, cv, la, lh, ra, rh, hB⟩
  have hB : yBody g N xa oa i n Z Ya Yh na ta cv la lh ra rh M τ σ := hB
  generalize hcc : n + 14000 = cc
  generalize hkk : sl + 97000 = kk
  obtain ⟨hO, hr, hQ, hfr, hS⟩ := y_open hB sl cc kk (by omega) (by omega)
  have hX := y_xb (sl := sl) (c := cc) (k := kk) hB hN hi (by omega) (by omega)
  have hRB := y_rb hB hN hi
  have z0 : (m_put σ 0 0).1 0 = 0 := mp_s _ _ _
  have z1 : (m_put σ 0 0).1 1 = nI (tC M).1 := (mp_n _ _ _ (by decide)).trans hRB.1.1.1
  have h9 := hRB.2.1.1
  have hw : ∀ a0 a1 a2, kX_X0_cold (jg g cc kk) N ((n, sl, cc, kk), τ) xa a0 a1 a2 oa = yW yH2 (kX_X1_cold (jg g cc kk) N ((n, sl, cc, kk), τ) xa a0 a1 a2) oa := fun a0 a1 a2 => ob1 (f_cls_T hQ.2.1.1) rfl
  rw [hw]
  rcases y_cup (tC M).1 (by omega) a0 with ⟨c0, h0, rfl⟩ | h0
  · have hx0 : ∀ (a1 a2 : Int32), kX_X1_cold_29 (jg g cc kk) N ((n, sl, cc, kk), τ) xa (nI c0) a1 a2 0 = some (.inr (((n, sl, cc, kk), τ), 1, 0)) := fun a1 a2 => by
      unfold kX_X1_cold_29
      exact ot2 (x_right0 hr)
    have hm0 : ∀ (a1 a2 : Int32), kM_cold_38 N (m_put σ 0 0) (nI c0) a1 a2 0 = some (m_put (m_put σ 0 0) 0 2, 0) := fun a1 a2 => by
      unfold kM_cold_38
      exact ob1 (r_right0 z0 (by decide)) (oit rfl rfl)
    rcases y_rng 1 5 (by decide) a1 with ⟨k1, h1, h1', rfl⟩ | h1
    · rcases y_rng 0 10 (by decide) a2 with ⟨k2, h2, h2', rfl⟩ | h2
      · obtain ⟨S1, r, hx, hks, hm⟩ := b_cold hX hRB h0 h1 h1' h2'
        obtain ⟨σ1, hm1, hm2, hm3⟩ := hm
        exact fin_ok (c := cc) (k := kk) hB hx hks hm1 hm2 hm3
      · have hx : kX_X1_cold (jg g cc kk) N ((n, sl, cc, kk), τ) xa (nI c0) (nI k1) a2 = some (.inr (((n, sl, cc, kk), τ), 1, 0)) := by
          unfold kX_X1_cold
          exact ob1 (f_cls_T hQ.2.1.1) (ot1 (hX.cup h0) (ob1 (x_inN (a := 1) (b := 5) rfl rfl h1 h1' (by decide)) (oif (by decide) (ob1 (x_in0 h2) (oit rfl (hx0 _ _))))))
        have hm : kM_cold N σ (nI c0) (nI k1) a2 = some (m_put (m_put σ 0 0) 0 2, 0) := by
          unfold kM_cold
          exact onb rfl (ob1 (r_isCup1 z0 z1 h9 h0) (oif n10 (ob1 (r_within1 (a := 1) (b := 5) rfl rfl h1 h1' (by decide)) (oif (by decide) (ob1 (r_within0 h2) (oit rfl (hm0 _ _)))))))
        exact fin_thr (c := cc) (k := kk) hB hx rfl (KS.refl hQ.2.1.2.2.2.1) hm (mp_s _ _ _) (by decide) (RFr.p00 _ _ _)
    · have hx : kX_X1_cold (jg g cc kk) N ((n, sl, cc, kk), τ) xa (nI c0) a1 a2 = some (.inr (((n, sl, cc, kk), τ), 1, 0)) := by
        unfold kX_X1_cold
        exact ob1 (f_cls_T hQ.2.1.1) (ot1 (hX.cup h0) (ob1 (x_in0 h1) (oit rfl (hx0 _ _))))
      have hm : kM_cold N σ (nI c0) a1 a2 = some (m_put (m_put σ 0 0) 0 2, 0) := by
        unfold kM_cold
        exact onb rfl (ob1 (r_isCup1 z0 z1 h9 h0) (oif n10 (ob1 (r_within0 h1) (oit rfl (hm0 _ _)))))
      exact fin_thr (c := cc) (k := kk) hB hx rfl (KS.refl hQ.2.1.2.2.2.1) hm (mp_s _ _ _) (by decide) (RFr.p00 _ _ _)
  · have hx : kX_X1_cold (jg g cc kk) N ((n, sl, cc, kk), τ) xa a0 a1 a2 = some (.inr (((n, sl, cc, kk), τ), 0, 0)) := by
      rw [← hS]
      unfold kX_X1_cold
      exact ob1 (oc_cls hO) (ot2 (oc_cup0 hO hr h0))
    have hm : kM_cold N σ a0 a1 a2 = some (m_put (m_put σ 0 0) 0 1, 0) := by
      unfold kM_cold
      exact onb rfl (ob1 (r_isCup0 z0 z1 h0) (oit rfl rfl))
    exact fin_thr (c := cc) (k := kk) hB hx rfl (KS.refl hQ.2.1.2.2.2.1) hm (mp_s _ _ _) (by decide) (RFr.p00 _ _ _)
