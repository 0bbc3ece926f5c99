/-! the cave: the reader goes to the next token -/
section YC6
variable {g : XC} {N sz r xa : Nat} {b : Nat → Nat} {S : XS} {v : Nat → Int32}
/-- constants of Strings -/
def GS (g : XC) : Prop := ∀ k, k < 13 → gSi g (gSk g k) = some k ∧ gVi g (gSv g k) = some k
theorem k_sg : ∀ c, c < 256 → (List.range 9).any (fun j => decide ((x_sbyt.getD 8 []).getD j 0 = (nI c).toInt8.toInt32)) = cS c := by decide +kernel
theorem gs_byte (hG : GS g) {k j : Nat} (hk : k < 13) (hj : j < x_slen.getD k 0) (S : XS) : b_int g S (gSv g k) (nI j) = some ((x_sbyt.getD k []).getD j 0) := by
  have h31 := kn_sl k hk
  unfold b_int
  rw [(hG k hk).2]
  show (if ¬ (nI j < 0 ∨ x_slen.getD k 0 ≤ (nI j).toNatClampNeg) then some ((x_sbyt.getD k []).getD (nI j).toNatClampNeg 0) else none) = _
  rw [if_pos (nI_in hj h31), nI_clamp (by omega)]
theorem gs_blen (hG : GS g) {k : Nat} (hk : k < 13) (S : XS) : b_len g S (gSv g k) = some (nI (x_slen.getD k 0)) := by
  unfold b_len
  rw [(hG k hk).2]
  rfl
theorem gs_len (hG : GS g) {k : Nat} (hk : k < 13) (S : XS) : kX_J8_length g N S (gSk g k) = some (S, nI (x_slen.getD k 0)) := by
  have h1 := (hG k hk).1
  have hs : ∀ k, k < 13 → nI (x_slen.getD k 0) >>> ((0 : Int32) &&& 31) = nI (x_slen.getD k 0) := by decide
  unfold kX_J8_length
  refine ob1 h1 (ob1 (gs_blen hG hk S) (ob1 h1 (ob1 (v := (S, 0)) ?_ ?_)))
  · unfold kX_J8_coder
    exact oif n10 (ob1 h1 rfl)
  · rw [hs k hk]
theorem gs_latin (hG : GS g) {k : Nat} (hk : k < 13) (S : XS) : kX_J8_isLatin1 g N S (gSk g k) = some (S, 1) := by
  unfold kX_J8_isLatin1
  exact oif n10 (ob1 (hG k hk).1 (oit rfl rfl))
theorem x_idx (hN : 2 ^ 20 < N) (hG : GS g) {c : Nat} (hc : c < 256) (S : XS) : ∃ w, kX_J8_indexOf g N S (gSk g 8) (nI c) = some (S, w) ∧ (w < 0 ↔ cS c = false) := by
  have h1 := (hG 8 (by decide)).1
  have hsg := k_sg c hc
  have h7 : ∃ w, kX_J9_indexOfChar_7 g N N S (gSv g 8) 9 (nI c).toInt8.toInt32 0 = some (S, w) ∧ (w < 0 ↔ cS c = false) := by
    refine y_loop (fun f (S1 : XS) j => kX_J9_indexOfChar_7 g N f S1 (gSv g 8) 9 (nI c).toInt8.toInt32 (nI j)) 9 (fun S1 j => S1 = S ∧ ∀ i, i < j → ¬ (x_sbyt.getD 8 []).getD i 0 = (nI c).toInt8.toInt32) (fun z => ∃ w, z = some (S, w) ∧ (w < 0 ↔ cS c = false)) ?_ ?_ 9 N S 0 (by omega) (by omega) ⟨rfl, fun i hi => by omega⟩
    · rintro f S1 j hj ⟨rfl, p2⟩
      by_cases e : (x_sbyt.getD 8 []).getD j 0 = (nI c).toInt8.toInt32
      · left
        refine ⟨nI j, ?_, ?_⟩
        · show kX_J9_indexOfChar_7 g N (f + 1) S1 (gSv g 8) 9 (nI c).toInt8.toInt32 (nI j) = _
          rw [kX_J9_indexOfChar_7]
          exact oif (nI_ge (b := 9) (a := j) hj (by omega)) (ob1 (gs_byte hG (by decide) hj _) (oit e rfl))
        · have hs : cS c = true := by
            rw [← hsg, List.any_eq_true]
            exact ⟨j, List.mem_range.mpr hj, decide_eq_true e⟩
          rw [hs]
          constructor
          · intro z; exact absurd z (nI_pos (by omega))
          · intro z; cases z
      · right
        refine ⟨S1, ?_, rfl, fun i hi => ?_⟩
        · show kX_J9_indexOfChar_7 g N (f + 1) S1 (gSv g 8) 9 (nI c).toInt8.toInt32 (nI j) = kX_J9_indexOfChar_7 g N f S1 (gSv g 8) 9 (nI c).toInt8.toInt32 (nI (j + 1))
          rw [kX_J9_indexOfChar_7]
          refine oif (nI_ge (b := 9) (a := j) hj (by omega)) (ob1 (gs_byte hG (by decide) hj _) (oif e ?_))
          rw [nI_1]
        · by_cases ee : i = j
          · rw [ee]; exact e
          · exact p2 i (by omega)
    · rintro f S1 ⟨rfl, p2⟩
      refine ⟨-1, ?_, ?_⟩
      · show kX_J9_indexOfChar_7 g N (f + 1) S1 (gSv g 8) 9 (nI c).toInt8.toInt32 (nI 9) = _
        rw [kX_J9_indexOfChar_7]
        exact oit (nI_le (Nat.le_refl _) (by omega)) rfl
      · have hs : cS c = false := by
          rw [← hsg, List.any_eq_false]
          intro j hj z
          exact p2 j (List.mem_range.mp hj) (of_decide_eq_true z)
        rw [hs]
        exact ⟨fun _ => rfl, fun _ => by decide⟩
  obtain ⟨w, k1, k2⟩ := h7
  refine ⟨w, ?_, k2⟩
  unfold kX_J8_indexOf
  refine ob1 h1 (ob1 (v := (S, w)) ?_ rfl)
  unfold kX_J8_indexOf_2
  refine ob1 h1 (ob1 (gs_latin hG (by decide) S) (oif n10 (ob1 h1 (ob1 h1 (ob1 (gs_len hG (by decide) S) (ob1 (v := (S, w)) ?_ rfl))))))
  unfold kX_J9_indexOf
  have hce : kX_J9_canEncode g N (nI c) = some 1 := by
    unfold kX_J9_canEncode
    exact oif (nI_pos (by omega)) (oif (nI_nlt (a := 255) (b := c) (by omega) (by omega)) rfl)
  refine ob1 hce (oif n10 (onb (v := (0 : Int32)) rfl (ob1 (gs_blen (k := 8) hG (by decide) S) (onb (v := (9 : Int32)) (show (if nI (x_slen.getD 8 0) < nI (x_slen.getD 8 0) then nI (x_slen.getD 8 0) else nI (x_slen.getD 8 0)) = 9 by decide) (oit (by decide) (ob1 (v := (S, w)) ?_ rfl))))))
  unfold kX_J9_indexOfChar
  exact onb rfl k1
theorem x_next (hN : 2 ^ 20 < N) (hG : GS g) (h : XRd S r xa sz b) {a : Nat} (ha : a ≤ sz) (h5 : v 5 = nI a) (h0 : v 0 = nI sz) : ∃ v1, kX_X5_next g N (rdS S r v) r = some (rdS S r v1) ∧ VK v v1 ∧ XT5 b (lxN sz b a) v1 := by
  have h700 := h.2.2.2.2.1
  have hq : ∀ {p : Nat}, p < sz → ∀ k : Nat, k < 256 → (hereV sz b p = nI k ↔ b p = k) := fun {p} hp k hk => by
    have h256 := (h.2.2.2.2.2 p hp).2.1
    have : hereV sz b p = nI (b p) := if_pos hp
    rw [this]
    exact nI_eq (by omega) (by omega)
  -- behind the blanks
  have body : ∀ (p f : Nat) (v : Nat → Int32), p ≤ sz → ¬ (p < sz ∧ cSp (b p) = true) → v 5 = nI p → v 0 = nI sz → ∃ v1, kX_X5_next_0 g N (f + 1) (rdS S r v) r = some (rdS S r v1) ∧ VK v v1 ∧ XT5 b (lxP sz b p) v1 := by
    intro p f v hp hn h5 h0
    have hh := x_here (g := g) (N := N) h hp h5 h0
    have w5 : rdU v 7 (nI p) 5 = nI p := (rdU_f _ _ _ (by decide)).trans h5
    have w0 : rdU v 7 (nI p) 0 = nI sz := (rdU_f _ _ _ (by decide)).trans h0
    have w7 : rdU v 7 (nI p) 7 = nI p := rdU_t _ _ _
    have hh2 := x_here (g := g) (N := N) h hp w5 w0
    have hne : ∀ k : Nat, k = 32 ∨ k = 10 → ¬ hereV sz b p = nI k := fun k hk z => by
      by_cases e : p < sz
      · exact hn ⟨e, decide_eq_true (by have := (hq e k (by omega)).mp z; omega)⟩
      · have : hereV sz b p = -1 := if_neg e
        rw [this] at z
        rcases hk with rfl | rfl <;> exact absurd z (by decide)
    have hvk : VK v (rdU v 7 (nI p)) := VK.u _ _ (by decide)
    have pre : ∀ {R : Option XS}, ((if hereV sz b p = (-1) then
          (f_putI (rdS S r (rdU v 7 (nI p))) 4 r 6 0).bind fun S24 =>
          kX_X5_next_185 g N S24 r
        else
          (f_cls (rdS S r (rdU v 7 (nI p))) 4 r).bind fun u12 =>
          (kX_X5_isLetter g N (rdS S r (rdU v 7 (nI p))) r).bind fun w13 =>
          if w13.2 = 0 then
            (f_cls w13.1 4 r).bind fun u15 =>
            (kX_X5_isDigit g N w13.1 r).bind fun w16 =>
            if w16.2 = 0 then
              (f_cls w16.1 4 r).bind fun u18 =>
              (kX_X5_here g N w16.1 r).bind fun w19 =>
              (gSi g (gSk g 8)).bind fun u20 =>
              (kX_J8_indexOf g N w19.1 (gSk g 8) w19.2).bind fun w21 =>
              if w21.2 < 0 then
                kX_X5_next_172 g N w21.1 r r 4
              else
                kX_X5_next_172 g N w21.1 r r 3
            else
              (f_putI w16.1 4 r 9 0).bind fun S23 =>
              kX_X5_next_102 g N N S23 r
          else
            kX_X5_next_62 g N N w13.1 r) = R) → kX_X5_next_0 g N (f + 1) (rdS S r v) r = R := fun hR => by
      rw [kX_X5_next_0]
      refine ob1 (rd_cls h) (ob1 hh (oif (hne 32 (Or.inl rfl)) (ob1 (rd_cls h) (ob1 hh (oif (hne 10 (Or.inr rfl)) (ob1 (rd_int h (by decide) rfl) ?_))))))
      rw [h5]
      exact ob1 (rd_put h (by decide) rfl _) (ob1 (rd_cls h) (ob1 hh2 hR))
    by_cases e : p < sz
    · have h256 := (h.2.2.2.2.2 p e).2.1
      have hv : hereV sz b p = nI (b p) := if_pos e
      have hnm : ¬ hereV sz b p = -1 := by rw [hv]; exact nI_m1 (by omega)
      have hl := x_isLetter (g := g) (N := N) h hp w5 w0
      have hd := x_isDigit (g := g) (N := N) h hp w5 w0
      by_cases h1 : cL (b p) = true
      · rw [if_pos ⟨e, h1⟩] at hl
        obtain ⟨v1, k1, k2, k3⟩ := x_let (g := g) (N := N) h (q := p) (sz - p) p N (rdU v 7 (nI p)) (by omega) (by omega) w5 w0 w7
        refine ⟨v1, pre (oif hnm (ob1 (rd_cls h) (ob1 hl (oif n10 k1)))), hvk.trans k2, ?_⟩
        unfold lxP
        rw [if_neg (by omega), if_pos h1]
        exact k3
      · rw [if_neg (fun z => h1 z.2)] at hl
        by_cases h2 : cD (b p) = true
        · rw [if_pos ⟨e, h2⟩] at hd
          obtain ⟨v1, k1, k2, k3⟩ := x_dig (g := g) (N := N) h (q := p) (sz - p) p N 0 (rdU (rdU v 7 (nI p)) 9 0) (by omega) (by omega) ((rdU_f _ _ _ (by decide)).trans w5) ((rdU_f _ _ _ (by decide)).trans w0) ((rdU_f _ _ _ (by decide)).trans w7) (Nat.le_refl _) (fun i z1 z2 => by omega) (rdU_t _ _ _) (by omega) (fun _ => by rw [Nat.sub_self]; rfl)
          refine ⟨v1, pre (oif hnm (ob1 (rd_cls h) (ob1 hl (oit rfl (ob1 (rd_cls h) (ob1 hd (oif n10 (ob1 (rd_put h (by decide) rfl _) k1)))))))), hvk.trans ((VK.u _ _ (by decide)).trans k2), ?_⟩
          unfold lxP
          rw [if_neg (by omega), if_neg h1, if_pos h2]
          exact k3
        · rw [if_neg (fun z => h2 z.2)] at hd
          obtain ⟨w, x1, x2⟩ := x_idx (g := g) (N := N) hN hG h256 (rdS S r (rdU v 7 (nI p)))
          have hL : lxP sz b p = (if cS (b p) = true then 3 else 4, p, p + 1) := by
            unfold lxP
            rw [if_neg (by omega), if_neg h1, if_neg h2]
          have h172 : ∀ k : Nat, k = 3 ∨ k = 4 → ∃ v1, kX_X5_next_172 g N (rdS S r (rdU v 7 (nI p))) r r (nI k) = some (rdS S r v1) ∧ VK (rdU v 7 (nI p)) v1 ∧ XT5 b (k, p, p + 1) v1 := fun k hk => by
            have e5 : rdU (rdU v 7 (nI p)) 6 (nI k) 5 + 1 = nI (p + 1) := by rw [rdU_f _ _ _ (by decide), w5, nI_1]
            refine ⟨rdU (rdU (rdU (rdU v 7 (nI p)) 6 (nI k)) 5 (nI (p + 1))) 8 (rdU (rdU (rdU v 7 (nI p)) 6 (nI k)) 5 (nI (p + 1)) 5), ?_, ((VK.u _ _ (by decide)).trans (VK.u _ _ (by decide))).trans (VK.u _ _ (by decide)), ?_⟩
            · unfold kX_X5_next_172
              refine ob1 (rd_put h (by decide) rfl _) (ob1 (rd_int h (by decide) rfl) ?_)
              rw [e5]
              exact ob1 (rd_put h (by decide) rfl _) (x_185 h)
            · refine ⟨(rdU_f _ _ _ (by decide)).trans (rdU_t _ _ _), (rdU_f _ _ _ (by decide)).trans ((rdU_f _ _ _ (by decide)).trans (rdU_t _ _ _)), (rdU_f _ _ _ (by decide)).trans ((rdU_f _ _ _ (by decide)).trans ((rdU_f _ _ _ (by decide)).trans w7)), (rdU_t _ _ _).trans (rdU_t _ _ _), fun z => ?_⟩
              have z : k = 2 := z
              omega
          rw [hv] at hh2
          by_cases hS : cS (b p) = true
          · obtain ⟨v1, k1, k2, k3⟩ := h172 3 (Or.inl rfl)
            refine ⟨v1, pre (oif hnm (ob1 (rd_cls h) (ob1 hl (oit rfl (ob1 (rd_cls h) (ob1 hd (oit rfl (ob1 (rd_cls h) (ob1 hh2 (ob1 (hG 8 (by decide)).1 (ob1 x1 (oif (fun z => ?_) k1)))))))))))), hvk.trans k2, ?_⟩
            · have := x2.mp z
              rw [this] at hS
              cases hS
            · rw [hL, if_pos hS]
              exact k3
          · obtain ⟨v1, k1, k2, k3⟩ := h172 4 (Or.inr rfl)
            refine ⟨v1, pre (oif hnm (ob1 (rd_cls h) (ob1 hl (oit rfl (ob1 (rd_cls h) (ob1 hd (oit rfl (ob1 (rd_cls h) (ob1 hh2 (ob1 (hG 8 (by decide)).1 (ob1 x1 (oit (x2.mpr (by simpa using hS)) k1)))))))))))), hvk.trans k2, ?_⟩
            rw [hL, if_neg hS]
            exact k3
    · have hv : hereV sz b p = -1 := if_neg e
      refine ⟨rdU (rdU (rdU v 7 (nI p)) 6 0) 8 ((rdU (rdU v 7 (nI p)) 6 0) 5), pre (oit hv (ob1 (rd_put h (by decide) rfl _) (x_185 h))), hvk.trans ((VK.u _ _ (by decide)).trans (VK.u _ _ (by decide))), ?_⟩
      unfold lxP
      rw [if_pos (by omega)]
      refine ⟨(rdU_f _ _ _ (by decide)).trans ((rdU_f _ _ _ (by decide)).trans w5), (rdU_f _ _ _ (by decide)).trans (rdU_t _ _ _), (rdU_f _ _ _ (by decide)).trans ((rdU_f _ _ _ (by decide)).trans w7), (rdU_t _ _ _).trans ((rdU_f _ _ _ (by decide)).trans w5), fun z => ?_⟩
      have z : 0 = 2 := z
      omega
  have key : ∀ (d p f : Nat) (v : Nat → Int32), p + d = sz → d < f → v 5 = nI p → v 0 = nI sz → ∃ v1, kX_X5_next_0 g N f (rdS S r v) r = some (rdS S r v1) ∧ VK v v1 ∧ XT5 b (lxP sz b (lxE cSp sz b p)) v1 := by
    intro d
    induction d with
    | zero =>
      intro p f v hp hf h5 h0
      obtain ⟨f, rfl⟩ : ∃ e, f = e + 1 := ⟨f - 1, by omega⟩
      rw [lxE_f (by omega)]
      exact body p f v (by omega) (fun z => by omega) h5 h0
    | succ d ih =>
      intro p f v hp hf h5 h0
      obtain ⟨f, rfl⟩ : ∃ e, f = e + 1 := ⟨f - 1, by omega⟩
      by_cases hc : cSp (b p) = true
      · obtain ⟨v1, k1, k2, k3⟩ := ih (p + 1) f (rdU v 5 (nI (p + 1))) (by omega) (by omega) (rdU_t _ _ _) ((rdU_f _ _ _ (by decide)).trans h0)
        rw [lxE_t (by omega) hc]
        refine ⟨v1, ?_, (VK.u _ _ (by decide)).trans k2, k3⟩
        have hh := x_here (g := g) (N := N) h (p := p) (by omega) h5 h0
        have h18 : kX_X5_next_18 g N (kX_X5_next_0 g N f) (rdS S r v) r = some (rdS S r v1) := by
          unfold kX_X5_next_18
          refine ob1 (rd_int h (by decide) rfl) ?_
          rw [h5, nI_1]
          exact ob1 (rd_put h (by decide) rfl _) k1
        rw [kX_X5_next_0]
        refine ob1 (rd_cls h) (ob1 hh ?_)
        by_cases e : b p = 32
        · exact oit ((hq (by omega) 32 (by omega)).mpr e) h18
        · refine oif (fun z => e ((hq (by omega) 32 (by omega)).mp z)) (ob1 (rd_cls h) (ob1 hh (oit ((hq (by omega) 10 (by omega)).mpr ?_) h18)))
          have := of_decide_eq_true hc
          omega
      · rw [lxE_f (fun z => hc z.2)]
        exact body p f v (by omega) (fun z => hc z.2) h5 h0
  exact key (sz - a) a N v (by omega) (by omega) h5 h0
end YC6
