/-! the cave: the component's reader, its tokens -/
def rdS (S : XS) (r : Nat) (v : Nat → Int32) : XS := (S.1, (fun b j => if b = r then v j else xI S b j), S.2.2)
theorem rdS_s (S : XS) (r : Nat) (v w : Nat → Int32) : rdS (rdS S r v) r w = rdS S r w := by
  unfold rdS
  refine Prod.ext rfl (Prod.ext ?_ rfl)
  funext b j
  show (if b = r then w j else if b = r then v j else xI S b j) = if b = r then w j else xI S b j
  by_cases h : b = r
  · rw [if_pos h, if_pos h]
  · rw [if_neg h, if_neg h, if_neg h]
def rdU (v : Nat → Int32) (k : Nat) (x : Int32) : Nat → Int32 := fun j => if j = k then x else v j
theorem rdU_t (v : Nat → Int32) (k : Nat) (x : Int32) : rdU v k x k = x := if_pos rfl
theorem rdU_f (v : Nat → Int32) (k : Nat) (x : Int32) {j : Nat} (h : j ≠ k) : rdU v k x j = v j := if_neg h
theorem rdS_set (S : XS) (r k : Nat) (v : Nat → Int32) (x : Int32) : xSetI (rdS S r v) r k x = rdS S r (rdU v k x) := by
  unfold rdS xSetI rdU
  refine Prod.ext rfl (Prod.ext ?_ rfl)
  funext b j
  show (if b = r ∧ j = k then x else if b = r then v j else xI S b j) = if b = r then (if j = k then x else v j) else xI S b j
  by_cases h : b = r
  · by_cases h2 : j = k
    · rw [if_pos ⟨h, h2⟩, if_pos h, if_pos h2]
    · rw [if_neg (fun z => h2 z.2), if_pos h, if_pos h, if_neg h2]
  · rw [if_neg (fun z => h z.1), if_neg h, if_neg h]
/-- the reader, its tape -/
def XRd (S : XS) (r xa sz : Nat) (b : Nat → Nat) : Prop := tyA S 4 r ∧ tyA S 1 xa ∧ xWF S ∧ xR S r 12 = some xa ∧ sz ≤ 700 ∧ ∀ i, i < sz → (xA S xa 4 i) &&& 255 = nI (b i) ∧ b i < 256 ∧ (b i < 128 → xA S xa 4 i = nI (b i))
section YC5
variable {g : XC} {N sz r xa : Nat} {b : Nat → Nat} {S : XS} {v : Nat → Int32}
theorem XRd.rd (h : XRd S r xa sz b) (v : Nat → Int32) : XRd (rdS S r v) r xa sz b := h
theorem rd_int (h : XRd S r xa sz b) {k : Nat} (hk : k < 13) (hd : x_kd 4 k = 0) : f_int (rdS S r v) 4 r k = some (v k) := by
  rw [f_int_T (h.rd v).1 hk (Or.inl hd)]
  exact congrArg some (if_pos rfl)
theorem rd_put (h : XRd S r xa sz b) {k : Nat} (hk : k < 13) (hd : x_kd 4 k = 0) (x : Int32) : f_putI (rdS S r v) 4 r k x = some (rdS S r (rdU v k x)) := by
  rw [f_putI_T (h.rd v).1 hk (Or.inl hd), rdS_set]
theorem rd_cls (h : XRd S r xa sz b) : f_cls (rdS S r v) 4 r = some () := f_cls_T (h.rd v).1
theorem rd_tape (h : XRd S r xa sz b) {p : Nat} (hp : p < sz) : a_int (rdS S r v) 1 (xRa S xa 4) (nI p) = some (xA S xa 4 p) := by
  have h7 := h.2.2.2.2.1
  have := a_int_T (k := 4) (i := nI p) (h.rd v).2.1 (h.rd v).2.2.1 (Or.inr rfl) (nI_in (c := p) (N := 700) (by omega) (by omega))
  rw [nI_clamp (by omega)] at this
  exact this
theorem rd_out (h : XRd S r xa sz b) : f_obj (rdS S r v) 4 r 12 = some xa := f_obj_T (h.rd v).1 (by decide) rfl h.2.2.2.1
theorem rd_arr (h : XRd S r xa sz b) : f_obj (rdS S r v) 1 xa 4 = some (xRa S xa 4) := f_objA_T (h.rd v).2.1 (by decide) (Or.inr rfl)
def hereV (sz : Nat) (b : Nat → Nat) (p : Nat) : Int32 := if p < sz then nI (b p) else -1
theorem x_here (h : XRd S r xa sz b) {p : Nat} (hp : p ≤ sz) (h5 : v 5 = nI p) (h0 : v 0 = nI sz) : kX_X5_here g N (rdS S r v) r = some (rdS S r v, hereV sz b p) := by
  have h7 := h.2.2.2.2.1
  unfold kX_X5_here hereV
  refine ob1 (rd_int h (by decide) rfl) (ob1 (rd_int h (by decide) rfl) ?_)
  rw [h5, h0]
  by_cases e : p < sz
  · rw [if_pos e]
    refine oif (nI_ge e (by omega)) (ob1 (rd_out h) (ob1 (rd_arr h) (ob1 (rd_int h (by decide) rfl) ?_)))
    rw [h5]
    refine ob1 (rd_tape h e) ?_
    rw [(h.2.2.2.2.2 p e).1]
  · rw [if_neg e]
    exact oit (nI_le (by omega) (by omega)) rfl
theorem x_isLetter (h : XRd S r xa sz b) {p : Nat} (hp : p ≤ sz) (h5 : v 5 = nI p) (h0 : v 0 = nI sz) : kX_X5_isLetter g N (rdS S r v) r = some (rdS S r v, if p < sz ∧ cL (b p) = true then 1 else 0) := by
  unfold kX_X5_isLetter
  refine ob1 (rd_cls h) (ob1 (x_here h hp h5 h0) ?_)
  unfold hereV
  by_cases e : p < sz
  · have h256 := (h.2.2.2.2.2 p e).2.1
    rw [if_pos e]
    by_cases hc : cL (b p) = true
    · rw [if_pos ⟨e, hc⟩]
      have := cL_t.mp hc
      exact ob1 (x_inN (a := 97) (b := 122) rfl rfl this.1 this.2 (by decide)) (oz (Or.inr rfl) rfl)
    · rw [if_neg (fun z => hc z.2)]
      refine ob1 (x_in0 ?_) (oz (Or.inl rfl) rfl)
      by_cases z : b p < 97
      · exact Or.inl (nI_lt (b := 97) z (by omega))
      · exact Or.inr (nI_lt (a := 122) (by have : ¬ (97 ≤ b p ∧ b p ≤ 122) := fun y => hc (cL_t.mpr y); omega) (by omega))
  · rw [if_neg e, if_neg (fun z => e z.1)]
    exact ob1 (x_in0 (Or.inl (show (-1 : Int32) < 97 by decide))) (oz (Or.inl rfl) rfl)
theorem x_isDigit (h : XRd S r xa sz b) {p : Nat} (hp : p ≤ sz) (h5 : v 5 = nI p) (h0 : v 0 = nI sz) : kX_X5_isDigit g N (rdS S r v) r = some (rdS S r v, if p < sz ∧ cD (b p) = true then 1 else 0) := by
  unfold kX_X5_isDigit
  refine ob1 (rd_cls h) (ob1 (x_here h hp h5 h0) ?_)
  unfold hereV
  by_cases e : p < sz
  · have h256 := (h.2.2.2.2.2 p e).2.1
    rw [if_pos e]
    by_cases hc : cD (b p) = true
    · rw [if_pos ⟨e, hc⟩]
      have := cD_t.mp hc
      exact ob1 (x_inN (a := 48) (b := 57) rfl rfl this.1 this.2 (by decide)) (oz (Or.inr rfl) rfl)
    · rw [if_neg (fun z => hc z.2)]
      refine ob1 (x_in0 ?_) (oz (Or.inl rfl) rfl)
      by_cases z : b p < 48
      · exact Or.inl (nI_lt (b := 48) z (by omega))
      · exact Or.inr (nI_lt (a := 57) (by have : ¬ (48 ≤ b p ∧ b p ≤ 57) := fun y => hc (cD_t.mpr y); omega) (by omega))
  · rw [if_neg e, if_neg (fun z => e z.1)]
    exact ob1 (x_in0 (Or.inl (show (-1 : Int32) < 48 by decide))) (oz (Or.inl rfl) rfl)
/-- the token, in the reader's fields -/
def XT5 (b : Nat → Nat) (t : TK) (v : Nat → Int32) : Prop := v 5 = nI t.2.2 ∧ v 6 = nI t.1 ∧ v 7 = nI t.2.1 ∧ v 8 = nI t.2.2 ∧ (t.1 = 2 → t.2.2 - t.2.1 ≤ 4 → v 9 = nI (lxV b t.2.1 (t.2.2 - t.2.1)))
def VK (v v1 : Nat → Int32) : Prop := ∀ j, j ∉ [5, 6, 7, 8, 9] → v1 j = v j
theorem VK.refl (v : Nat → Int32) : VK v v := fun _ _ => rfl
theorem VK.trans {v v1 v2 : Nat → Int32} (h : VK v v1) (h2 : VK v1 v2) : VK v v2 := fun j hj => (h2 j hj).trans (h j hj)
theorem VK.u (v : Nat → Int32) {k : Nat} (x : Int32) (hk : k ∈ [5, 6, 7, 8, 9]) : VK v (rdU v k x) := fun j hj => rdU_f _ _ _ (fun z => hj (z ▸ hk))
theorem x_185 (h : XRd S r xa sz b) : kX_X5_next_185 g N (rdS S r v) r = some (rdS S r (rdU v 8 (v 5))) := by
  unfold kX_X5_next_185
  exact ob1 (rd_int h (by decide) rfl) (ob1 (rd_put h (by decide) rfl _) rfl)
theorem x_let (h : XRd S r xa sz b) {q : Nat} : ∀ (d p f : Nat) (v : Nat → Int32), p + d = sz → d < f → v 5 = nI p → v 0 = nI sz → v 7 = nI q → ∃ v1, kX_X5_next_62 g N f (rdS S r v) r = some (rdS S r v1) ∧ VK v v1 ∧ XT5 b (1, q, lxE cL sz b p) v1 := by
  have fin : ∀ (p f : Nat) (v : Nat → Int32), p ≤ sz → ¬ (p < sz ∧ cL (b p) = true) → v 5 = nI p → v 0 = nI sz → v 7 = nI q → ∃ v1, kX_X5_next_62 g N (f + 1) (rdS S r v) r = some (rdS S r v1) ∧ VK v v1 ∧ XT5 b (1, q, lxE cL sz b p) v1 := fun p f v hp hn h5 h0 h7 => by
    have hl := x_isLetter (g := g) (N := N) h hp h5 h0
    rw [if_neg hn] at hl
    refine ⟨rdU (rdU v 6 1) 8 ((rdU v 6 1) 5), ?_, (VK.u _ _ (by decide)).trans (VK.u _ _ (by decide)), ?_⟩
    · rw [kX_X5_next_62]
      exact ob1 (rd_cls h) (ob1 hl (oit rfl (ob1 (rd_put h (by decide) rfl _) (x_185 h))))
    · rw [lxE_f hn]
      refine ⟨(rdU_f _ _ _ (by decide)).trans ((rdU_f _ _ _ (by decide)).trans h5), (rdU_f _ _ _ (by decide)).trans (rdU_t _ _ _), (rdU_f _ _ _ (by decide)).trans ((rdU_f _ _ _ (by decide)).trans h7), (rdU_t _ _ _).trans ((rdU_f _ _ _ (by decide)).trans h5), fun z => ?_⟩
      have z : 1 = 2 := z
      omega
  intro d
  induction d with
  | zero =>
    intro p f v hp hf h5 h0 h7
    obtain ⟨f, rfl⟩ : ∃ e, f = e + 1 := ⟨f - 1, by omega⟩
    exact fin p f v (by omega) (fun z => by omega) h5 h0 h7
  | succ d ih =>
    intro p f v hp hf h5 h0 h7
    obtain ⟨f, rfl⟩ : ∃ e, f = e + 1 := ⟨f - 1, by omega⟩
    by_cases hc : cL (b p) = true
    · have hl := x_isLetter (g := g) (N := N) h (p := p) (by omega) h5 h0
      rw [if_pos ⟨by omega, hc⟩] at hl
      obtain ⟨v1, k1, k2, k3⟩ := ih (p + 1) f (rdU v 5 (nI (p + 1))) (by omega) (by omega) (rdU_t _ _ _) ((rdU_f _ _ _ (by decide)).trans h0) ((rdU_f _ _ _ (by decide)).trans h7)
      rw [lxE_t (by omega) hc]
      refine ⟨v1, ?_, (VK.u _ _ (by decide)).trans k2, k3⟩
      rw [kX_X5_next_62]
      refine ob1 (rd_cls h) (ob1 hl (oif n10 (ob1 (rd_int h (by decide) rfl) ?_)))
      rw [h5, nI_1]
      exact ob1 (rd_put h (by decide) rfl _) k1
    · exact fin p f v (by omega) (fun z => hc z.2) h5 h0 h7
theorem lxV_lt {b : Nat → Nat} {p : Nat} : ∀ {k : Nat}, (∀ i, i < k → 48 ≤ b (p + i) ∧ b (p + i) ≤ 57) → lxV b p k < 10 ^ k := by
  intro k
  induction k with
  | zero => intro _; show 0 < 10 ^ 0; decide
  | succ k ih =>
    intro h
    have h1 := ih (fun i hi => h i (by omega))
    have h2 := h k (by omega)
    show 10 * lxV b p k + (b (p + k) - 48) < 10 ^ (k + 1)
    rw [Nat.pow_succ]
    omega
theorem x_dig (h : XRd S r xa sz b) {q : Nat} : ∀ (d p f m : Nat) (v : Nat → Int32), p + d = sz → d < f → v 5 = nI p → v 0 = nI sz → v 7 = nI q → q ≤ p → (∀ i, q ≤ i → i < p → cD (b i) = true) → v 9 = nI m → m ≤ 100000 → (p - q ≤ 4 → m = lxV b q (p - q)) → ∃ v1, kX_X5_next_102 g N f (rdS S r v) r = some (rdS S r v1) ∧ VK v v1 ∧ XT5 b (2, q, lxE cD sz b p) v1 := by
  have fin : ∀ (p f m : Nat) (v : Nat → Int32), p ≤ sz → ¬ (p < sz ∧ cD (b p) = true) → v 5 = nI p → v 0 = nI sz → v 7 = nI q → v 9 = nI m → (p - q ≤ 4 → m = lxV b q (p - q)) → ∃ v1, kX_X5_next_102 g N (f + 1) (rdS S r v) r = some (rdS S r v1) ∧ VK v v1 ∧ XT5 b (2, q, lxE cD sz b p) v1 := fun p f m v hp hn h5 h0 h7 h9 hm => by
    have hl := x_isDigit (g := g) (N := N) h hp h5 h0
    rw [if_neg hn] at hl
    refine ⟨rdU (rdU v 6 2) 8 ((rdU v 6 2) 5), ?_, (VK.u _ _ (by decide)).trans (VK.u _ _ (by decide)), ?_⟩
    · rw [kX_X5_next_102]
      exact ob1 (rd_cls h) (ob1 hl (oit rfl (ob1 (rd_put h (by decide) rfl _) (x_185 h))))
    · rw [lxE_f hn]
      refine ⟨(rdU_f _ _ _ (by decide)).trans ((rdU_f _ _ _ (by decide)).trans h5), (rdU_f _ _ _ (by decide)).trans (rdU_t _ _ _), (rdU_f _ _ _ (by decide)).trans ((rdU_f _ _ _ (by decide)).trans h7), (rdU_t _ _ _).trans ((rdU_f _ _ _ (by decide)).trans h5), fun _ z => ?_⟩
      exact (rdU_f _ _ _ (by decide)).trans ((rdU_f _ _ _ (by decide)).trans (h9.trans (congrArg nI (hm z))))
  have h700 := h.2.2.2.2.1
  intro d
  induction d with
  | zero =>
    intro p f m v hp hf h5 h0 h7 hqp hD h9 hm1 hm
    obtain ⟨f, rfl⟩ : ∃ e, f = e + 1 := ⟨f - 1, by omega⟩
    exact fin p f m v (by omega) (fun z => by omega) h5 h0 h7 h9 hm
  | succ d ih =>
    intro p f m v hp hf h5 h0 h7 hqp hD h9 hm1 hm
    obtain ⟨f, rfl⟩ : ∃ e, f = e + 1 := ⟨f - 1, by omega⟩
    by_cases hc : cD (b p) = true
    · have hl := x_isDigit (g := g) (N := N) h (p := p) (by omega) h5 h0
      rw [if_pos ⟨by omega, hc⟩] at hl
      have hcc := cD_t.mp hc
      have hD1 : ∀ i, q ≤ i → i < p + 1 → cD (b i) = true := fun i h1 h2 => by
        by_cases e : i = p
        · rw [e]; exact hc
        · exact hD i h1 (by omega)
      have e1 : (10 * v 9 + nI (b p)) - 48 = nI (10 * m + (b p - 48)) := by
        rw [h9, show (10 : Int32) = nI 10 from rfl, ixm, nI_add, show (48 : Int32) = nI 48 from rfl, sub_nI (by omega)]
        exact congrArg nI (by omega)
      obtain ⟨v1, k1, k2, k3⟩ := ih (p + 1) f (if 10 * m + (b p - 48) < 100000 then 10 * m + (b p - 48) else 100000) (rdU (rdU v 9 (nI (if 10 * m + (b p - 48) < 100000 then 10 * m + (b p - 48) else 100000))) 5 (nI (p + 1))) (by omega) (by omega) (rdU_t _ _ _) ((rdU_f _ _ _ (by decide)).trans ((rdU_f _ _ _ (by decide)).trans h0)) ((rdU_f _ _ _ (by decide)).trans ((rdU_f _ _ _ (by decide)).trans h7)) (by omega) hD1 ((rdU_f _ _ _ (by decide)).trans (rdU_t _ _ _)) (by split <;> omega) (fun z => by
        have e0 := hm (by omega)
        have h1 := lxV_lt (b := b) (p := q) (k := p - q) (fun i hi => cD_t.mp (hD (q + i) (by omega) (by omega)))
        have h2 : (10 : Nat) ^ (p - q) ≤ 10 ^ 3 := Nat.pow_le_pow_right (by decide) (by omega)
        have h3 : (10 : Nat) ^ 3 = 1000 := by decide
        rw [if_pos (by omega), e0, show p + 1 - q = (p - q) + 1 by omega]
        show _ = 10 * lxV b q (p - q) + (b (q + (p - q)) - 48)
        rw [show q + (p - q) = p by omega])
      rw [lxE_t (by omega) hc]
      refine ⟨v1, ?_, ((VK.u _ _ (by decide)).trans (VK.u _ _ (by decide))).trans k2, k3⟩
      have hh := x_here (g := g) (N := N) h (p := p) (by omega) h5 h0
      have hv : hereV sz b p = nI (b p) := if_pos (by omega)
      rw [hv] at hh
      have e2 : (if ((((10 * v 9) + nI (b p)) - 48) : Int32) < 100000 then (((10 * v 9) + nI (b p)) - 48) else 100000) = nI (if 10 * m + (b p - 48) < 100000 then 10 * m + (b p - 48) else 100000) := by
        rw [e1]
        by_cases z : 10 * m + (b p - 48) < 100000
        · have z1 : nI (10 * m + (b p - 48)) < (100000 : Int32) := nI_lt (b := 100000) z (by omega)
          rw [if_pos z, if_pos z1]
        · have z1 : ¬ nI (10 * m + (b p - 48)) < (100000 : Int32) := nI_nlt (a := 10 * m + (b p - 48)) (b := 100000) (by omega) (by omega)
          rw [if_neg z, if_neg z1]
          rfl
      rw [kX_X5_next_102]
      refine ob1 (rd_cls h) (ob1 hl (oif n10 (ob1 (rd_int h (by decide) rfl) (ob1 (rd_cls h) (ob1 hh (onb e2 (ob1 (rd_put h (by decide) rfl _) (ob1 (rd_int h (by decide) rfl) ?_))))))))
      rw [rdU_f _ _ _ (by decide), h5, nI_1]
      exact ob1 (rd_put h (by decide) rfl _) k1
    · exact fin p f m v (by omega) (fun z => hc z.2) h5 h0 h7 h9 hm
end YC5
