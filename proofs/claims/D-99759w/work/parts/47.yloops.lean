/-! plain law: loops over hours, on both sides -/
/-- what is gathered over n hours, told by counters from k0 on -/
def yAc {α : Type} (C : CC) (u : MN → α → Nat → α) (m : MN) (a : α) (k0 : Nat) : Nat → α
  | 0 => a
  | n + 1 => u (yRep (mPass C) (n + 1) m) (yAc C u m a k0 n) (k0 + n)
/-- the first hour in which something is so, how the night is then -/
def yFd (C : CC) (p : MN → Bool) : Nat → Nat → MN → Option (Nat × MN)
  | 0, _, _ => none
  | d + 1, k, m => if p (mPass C m) = true then some (k, mPass C m) else yFd C p d (k + 1) (mPass C m)
/-- what an hour tells the reference -/
def HF (N : Nat) (σ s1 : MS) (C : CC) (m1 : MN) (T : Int) : Prop := RS N s1 C (mPass C m1) T ∧ FrH 64 σ s1 ∧ (∀ k, k < C.1 → s1.2.2 37 k = iI (yA (mPass C m1) 12 k)) ∧ s1.1 38 = yI (mPass C m1) 13 ∧ s1.1 39 = yI (mPass C m1) 14 - yI m1 14
section YL
variable {g : XC} {N xa oa n : Nat} {Z Ya Yh : Nat → Prop} {na ta cv la lh : Nat} {ra rh : List Nat} {M : MT} {T : Int} {S : XS} {σ : MS} {C : CC} {V m : MN} {w : Nat → Int32}
theorem RS.le {T1 : Int} (h : RS N σ C m T) (hT : T ≤ T1) : RS N σ C m T1 := ⟨h.1, h.2.1, h.2.2.1, h.2.2.2.1, h.2.2.2.2.le hT⟩
theorem x_acc {α β : Type} (hO : OC g Z S xa na ta C V) (hN : 2 ^ 20 < N) (L : Nat → XS → α → Nat → Option β) (u : MN → α → Nat → α) (a : α) (k0 n : Nat) (hn : n ≤ 5000) (hT : T + 40000 * n ≤ 900000000) (hm : YN C m T)
    (hs : ∀ f m1 w1 w2 a k, k0 ≤ k → k < k0 + n → YN C m1 (T + 40000 * n) → YN C (mPass C m1) (T + 40000 * n) → kX_X3_pass g N (nset S ta xa m1 w1) ta = some (nset S ta xa (mPass C m1) w2, ta) → L (f + 1) (nset S ta xa m1 w1) a k = L f (nset S ta xa (mPass C m1) w2) (u (mPass C m1) a k) (k + 1)) :
    ∃ f w1, L N (nset S ta xa m w) a k0 = L (f + 1) (nset S ta xa (yRep (mPass C) n m) w1) (yAc C u m a k0 n) (k0 + n) := by
  refine y_loop (fun f (s : MN × (Nat → Int32) × α) k => L f (nset S ta xa s.1 s.2.1) s.2.2 k) (k0 + n) (fun s k => k0 ≤ k ∧ k ≤ k0 + n ∧ s.1 = yRep (mPass C) (k - k0) m ∧ s.2.2 = yAc C u m a k0 (k - k0)) (fun r => ∃ f w1, r = L (f + 1) (nset S ta xa (yRep (mPass C) n m) w1) (yAc C u m a k0 n) (k0 + n)) ?_ ?_ n N (m, w, a) k0 (by omega) (by omega) ⟨by omega, by omega, by rw [Nat.sub_self]; rfl, by rw [Nat.sub_self]; rfl⟩
  · rintro f ⟨m1, w1, a1⟩ k hk ⟨hk0, -, p1, p2⟩
    have p1 : m1 = yRep (mPass C) (k - k0) m := p1
    have p2 : a1 = yAc C u m a k0 (k - k0) := p2
    right
    have hY := mPasses_YN hO.spr.2 hO.spr.1 hm (k - k0) (by omega)
    have hY1 := mPasses_YN hO.spr.2 hO.spr.1 hm (k - k0 + 1) (by omega)
    rw [← p1] at hY
    have hY1 : YN C (mPass C m1) (T + 40000 * ((k - k0 + 1 : Nat) : Int)) := by rw [p1]; exact hY1
    obtain ⟨w2, hw⟩ := oc_pass (w := w1) hO hN (by omega) hY
    have e : k + 1 - k0 = (k - k0) + 1 := by omega
    refine ⟨(mPass C m1, w2, u (mPass C m1) a1 k), hs f m1 w1 w2 a1 k hk0 hk (hY.le (by omega)) (hY1.le (by omega)) hw, by omega, by omega, ?_, ?_⟩
    · rw [e, p1]; rfl
    · rw [e]
      show u (mPass C m1) a1 k = u (yRep (mPass C) (k - k0 + 1) m) (yAc C u m a k0 (k - k0)) (k0 + (k - k0))
      rw [p1, p2, show k0 + (k - k0) = k by omega]
      rfl
  · rintro f ⟨m1, w1, a1⟩ ⟨-, -, p1, p2⟩
    have p1 : m1 = yRep (mPass C) (k0 + n - k0) m := p1
    have p2 : a1 = yAc C u m a k0 (k0 + n - k0) := p2
    rw [show k0 + n - k0 = n by omega] at p1 p2
    refine ⟨f, w1, ?_⟩
    show L (f + 1) (nset S ta xa m1 w1) a1 (k0 + n) = _
    rw [p1, p2]
theorem r_acc {α β : Type} (hN : 2 ^ 20 < N) (L : Nat → MS → α → Nat → Option β) (u : MN → α → Nat → α) (a : α) (k0 n : Nat) (hn : n ≤ 5000) (hT : T + 40000 * n ≤ 900000000) (hm : RS N σ C m T)
    (hs : ∀ f s s1 m1 a k, k0 ≤ k → k < k0 + n → RS N s C m1 (T + 40000 * n) → kM_hourGoes N s 64 = some s1 → HF N σ s1 C m1 (T + 40000 * n) → L (f + 1) s a k = L f s1 (u (mPass C m1) a k) (k + 1)) :
    ∃ f σ1, L N σ a k0 = L (f + 1) σ1 (yAc C u m a k0 n) (k0 + n) ∧ FrH 64 σ σ1 ∧ RS N σ1 C (yRep (mPass C) n m) (T + 40000 * n) := by
  refine y_loop (fun f (s : MS × α) k => L f s.1 s.2 k) (k0 + n) (fun s k => k0 ≤ k ∧ k ≤ k0 + n ∧ FrH 64 σ s.1 ∧ RS N s.1 C (yRep (mPass C) (k - k0) m) (T + 40000 * ((k - k0 : Nat) : Int)) ∧ s.2 = yAc C u m a k0 (k - k0)) (fun r => ∃ f σ1, r = L (f + 1) σ1 (yAc C u m a k0 n) (k0 + n) ∧ FrH 64 σ σ1 ∧ RS N σ1 C (yRep (mPass C) n m) (T + 40000 * n)) ?_ ?_ n N (σ, a) k0 (by omega) (by omega) ⟨by omega, by omega, FrH.refl _ _, by rw [Nat.sub_self]; simpa [yRep] using hm, by rw [Nat.sub_self]; rfl⟩
  · rintro f ⟨s, a1⟩ k hk ⟨hk0, -, p0, p1, p2⟩
    have p1 : RS N s C (yRep (mPass C) (k - k0) m) (T + 40000 * ((k - k0 : Nat) : Int)) := p1
    have p2 : a1 = yAc C u m a k0 (k - k0) := p2
    have e : k + 1 - k0 = (k - k0) + 1 := by omega
    right
    obtain ⟨s1, q1, q2, q3, q4, q5, q6⟩ := r_go hN p1 (by omega)
    refine ⟨(s1, u (mPass C (yRep (mPass C) (k - k0) m)) a1 k), hs f s s1 _ a1 k hk0 hk (p1.le (by omega)) q1 ⟨q3.le (by omega), p0.trans q2, q4, q5, q6⟩, by omega, by omega, p0.trans q2, ?_, ?_⟩
    · rw [e]
      exact q3.le (by omega)
    · rw [e]
      show u (mPass C (yRep (mPass C) (k - k0) m)) a1 k = u (yRep (mPass C) (k - k0 + 1) m) (yAc C u m a k0 (k - k0)) (k0 + (k - k0))
      rw [p2, show k0 + (k - k0) = k by omega]
      rfl
  · rintro f ⟨s, a1⟩ ⟨-, -, p0, p1, p2⟩
    have p1 : RS N s C (yRep (mPass C) (k0 + n - k0) m) (T + 40000 * ((k0 + n - k0 : Nat) : Int)) := p1
    have p2 : a1 = yAc C u m a k0 (k0 + n - k0) := p2
    rw [show k0 + n - k0 = n by omega] at p1 p2
    refine ⟨f, s, ?_, p0, p1⟩
    show L (f + 1) s a1 (k0 + n) = _
    rw [p2]
/-- a search over hours, in the component -/
theorem x_find {β : Type} (hO : OC g Z S xa na ta C V) (hN : 2 ^ 20 < N) (L : Nat → XS → Nat → Option β) (p : MN → Bool) (d : Nat) : ∀ (k0 N1 : Nat) (T : Int) (m : MN) (w : Nat → Int32), d < N1 → d ≤ 5000 → T + 40000 * d ≤ 900000000 → YN C m T →
    (∀ f m1 w1 w2 k, k0 ≤ k → k < k0 + d → YN C (mPass C m1) (T + 40000 * d) → p (mPass C m1) = false → kX_X3_pass g N (nset S ta xa m1 w1) ta = some (nset S ta xa (mPass C m1) w2, ta) → L (f + 1) (nset S ta xa m1 w1) k = L f (nset S ta xa (mPass C m1) w2) (k + 1)) →
    (∃ k f m1 w1 w2, yFd C p d k0 m = some (k, mPass C m1) ∧ k0 ≤ k ∧ k < k0 + d ∧ p (mPass C m1) = true ∧ kX_X3_pass g N (nset S ta xa m1 w1) ta = some (nset S ta xa (mPass C m1) w2, ta) ∧ f + 1 + (k - k0) = N1 ∧ YN C m1 (T + 40000 * d) ∧ L N1 (nset S ta xa m w) k0 = L (f + 1) (nset S ta xa m1 w1) k) ∨
    (yFd C p d k0 m = none ∧ ∃ f m1 w1, L N1 (nset S ta xa m w) k0 = L (f + 1) (nset S ta xa m1 w1) (k0 + d)) := by
  induction d with
  | zero =>
    intro k0 N1 T m w h1 _ _ _ _
    obtain ⟨f, rfl⟩ : ∃ f, N1 = f + 1 := ⟨N1 - 1, by omega⟩
    exact Or.inr ⟨rfl, f, m, w, rfl⟩
  | succ d ih =>
    intro k0 N1 T m w h1 h2 h3 hm hs
    obtain ⟨f, rfl⟩ : ∃ f, N1 = f + 1 := ⟨N1 - 1, by omega⟩
    obtain ⟨w2, hw⟩ := oc_pass (w := w) hO hN (by omega) hm
    by_cases hp : p (mPass C m) = true
    · left
      refine ⟨k0, f, m, w, w2, ?_, by omega, by omega, hp, hw, by omega, hm.le (by omega), rfl⟩
      show (if p (mPass C m) = true then _ else _) = _
      rw [if_pos hp]
    · have hp2 : p (mPass C m) = false := by simpa using hp
      have e : yFd C p (d + 1) k0 m = yFd C p d (k0 + 1) (mPass C m) := by
        show (if p (mPass C m) = true then _ else _) = _
        rw [if_neg hp]
      have hY1 := mPass_YN hO.spr.2 hO.spr.1 (by omega) hm
      rw [e, hs f m w w2 k0 (by omega) (by omega) (hY1.le (by omega)) hp2 hw]
      rcases ih (k0 + 1) f (T + 40000) (mPass C m) w2 (by omega) (by omega) (by omega) hY1 (fun f m1 w1 w2 k h4 h5 hy h6 h7 => hs f m1 w1 w2 k (by omega) (by omega) (hy.le (by omega)) h6 h7) with ⟨k, f1, m1, w1, w3, a1, a2, a3, a4, a5, a6, a7, a8⟩ | ⟨a1, f1, m1, w1, a2⟩
      · exact Or.inl ⟨k, f1, m1, w1, w3, a1, by omega, by omega, a4, a5, by omega, a7.le (by omega), a8⟩
      · exact Or.inr ⟨a1, f1, m1, w1, by rw [a2]; congr 1; omega⟩
/-- a search over hours, in the reference -/
theorem r_find {β : Type} (hN : 2 ^ 20 < N) (L : Nat → MS → Nat → Option β) (p : MN → Bool) (d : Nat) : ∀ (k0 N1 : Nat) (T : Int) (m : MN) (σ : MS), d < N1 → d ≤ 5000 → T + 40000 * d ≤ 900000000 → RS N σ C m T →
    (∀ f s s1 m1 T1 k, k0 ≤ k → k < k0 + d → p (mPass C m1) = false → RS N s C m1 T1 → FrH 64 σ s → kM_hourGoes N s 64 = some s1 → HF N s s1 C m1 (T1 + 40000) → L (f + 1) s k = L f s1 (k + 1)) →
    (∃ k f m1 T1 s s1, yFd C p d k0 m = some (k, mPass C m1) ∧ k0 ≤ k ∧ k < k0 + d ∧ p (mPass C m1) = true ∧ RS N s C m1 T1 ∧ T1 ≤ T + 40000 * d ∧ FrH 64 σ s ∧ kM_hourGoes N s 64 = some s1 ∧ HF N s s1 C m1 (T1 + 40000) ∧ L N1 σ k0 = L (f + 1) s k) ∨
    (yFd C p d k0 m = none ∧ ∃ f s, FrH 64 σ s ∧ L N1 σ k0 = L (f + 1) s (k0 + d)) := by
  induction d with
  | zero =>
    intro k0 N1 T m σ h1 _ _ _ _
    obtain ⟨f, rfl⟩ : ∃ f, N1 = f + 1 := ⟨N1 - 1, by omega⟩
    exact Or.inr ⟨rfl, f, σ, FrH.refl _ _, rfl⟩
  | succ d ih =>
    intro k0 N1 T m σ h1 h2 h3 hm hs
    obtain ⟨f, rfl⟩ : ∃ f, N1 = f + 1 := ⟨N1 - 1, by omega⟩
    obtain ⟨s1, q1, q2, q3, q4, q5, q6⟩ := r_go hN hm (by omega)
    have hF : HF N σ s1 C m (T + 40000) := ⟨q3, q2, q4, q5, q6⟩
    by_cases hp : p (mPass C m) = true
    · left
      refine ⟨k0, f, m, T, σ, s1, ?_, by omega, by omega, hp, hm, by omega, FrH.refl _ _, q1, hF, rfl⟩
      show (if p (mPass C m) = true then _ else _) = _
      rw [if_pos hp]
    · have hp2 : p (mPass C m) = false := by simpa using hp
      have e : yFd C p (d + 1) k0 m = yFd C p d (k0 + 1) (mPass C m) := by
        show (if p (mPass C m) = true then _ else _) = _
        rw [if_neg hp]
      rw [e, hs f σ s1 m T k0 (by omega) (by omega) hp2 hm (FrH.refl _ _) q1 hF]
      rcases ih (k0 + 1) f (T + 40000) (mPass C m) s1 (by omega) (by omega) (by omega) q3 (fun f s s2 m1 T1 k h4 h5 h6 h7 h8 h9 h10 => hs f s s2 m1 T1 k (by omega) (by omega) h6 h7 (q2.trans h8) h9 h10) with ⟨k, f1, m1, T1, s, s2, a1, a2, a3, a4, a5, a6, a7, a8⟩ | ⟨a1, f1, s, a2, a3⟩
      · exact Or.inl ⟨k, f1, m1, T1, s, s2, a1, by omega, by omega, a4, a5, by omega, q2.trans a7, a8⟩
      · exact Or.inr ⟨a1, f1, s, q2.trans a2, by rw [a3]; congr 1; omega⟩
end YL
