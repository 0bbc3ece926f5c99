/-! the cave: the reader where it stands -/
/-- below B all but the reader's own numbers is as it was -/
def XFb (r B : Nat) (S S1 : XS) : Prop := XE (fun q => q = r ∨ B ≤ q) S S1 ∧ xOwn S1 r = xOwn S r ∧ xR S1 r = xR S r ∧ xA S1 r = xA S r ∧ xRa S1 r = xRa S r ∧ xG S1 r = xG S r ∧ VK (xI S r) (xI S1 r)
/-- the reader r stands at the token t; its world lies below B0 -/
def XZ (g : XC) (r xa sz B0 : Nat) (b : Nat → Nat) (S : XS) (t : TK) : Prop := XRd S r xa sz b ∧ WFr S ∧ XT5 b t (xI S r) ∧ xI S r 0 = nI sz ∧ tkOk sz b t ∧ (r < B0 ∧ xa < B0 ∧ B0 ≤ xTop S ∧ gSp g 0 < B0 ∧ gSp g 1 < B0) ∧ ∃ an f, xR S r 4 = some an ∧ an < B0 ∧ genAt S an (.inl (4, 6, .inr (.inr (.inr (.inr f))))) ∧ ∀ i, i < 6 → f i = some (gSk g (2 + i))
section YC28
variable {g : XC} {N sz r xa B B0 B1 : Nat} {b : Nat → Nat} {S S1 S2 : XS} {v : Nat → Int32} {t t1 : TK}
theorem XFb.refl (h : WFr S) : XFb r B S S := ⟨XE.refl h, rfl, rfl, rfl, rfl, rfl, VK.refl _⟩
theorem XFb.trans (h : XFb r B S S1) (h2 : XFb r B1 S1 S2) (hB : B ≤ B1) : XFb r B S S2 := by
  obtain ⟨a1, a2, a3, a4, a5, a6, a7⟩ := h
  obtain ⟨b1, b2, b3, b4, b5, b6, b7⟩ := h2
  refine ⟨a1.trans b1 (fun q _ z => ?_), b2.trans a2, b3.trans a3, b4.trans a4, b5.trans a5, b6.trans a6, a7.trans b7⟩
  rcases z with z | z
  · exact Or.inl z
  · exact Or.inr (by omega)
theorem XFb.mono (h : XFb r B1 S S1) (hB : B ≤ B1) : XFb r B S S1 := ⟨h.1.mono (fun q _ z => by
  rcases z with z | z
  · exact Or.inl z
  · exact Or.inr (by omega)), h.2⟩
theorem XFb.xe {P : Nat → Prop} (h : XE P S S1) (hP : ∀ q, P q → B ≤ q) (hr : r < B) (hrt : r < xTop S) : XFb r B S S1 := by
  obtain ⟨t1, t2, t3, t4, t5, t6⟩ := h.2.2.2.2.2 r hrt (fun z => by have := hP r z; omega)
  exact ⟨h.mono (fun q _ z => Or.inr (hP q z)), t1, t3, t4, t5, t6, fun j _ => by rw [t2]⟩
theorem rdS_self (S : XS) (r : Nat) : rdS S r (xI S r) = S := by
  unfold rdS
  refine Prod.ext rfl (Prod.ext ?_ rfl)
  funext q j
  show (if q = r then xI S r j else xI S q j) = xI S q j
  by_cases h : q = r
  · rw [if_pos h, h]
  · rw [if_neg h]
theorem rdS_r (S : XS) (r : Nat) (v : Nat → Int32) : xI (rdS S r v) r = v := by
  funext j
  exact if_pos rfl
theorem rdS_fb (hW : WFr S) (hv : VK (xI S r) v) : XFb r B S (rdS S r v) := by
  refine ⟨⟨⟨hW.1, fun q e he => ?_⟩, Nat.le_refl _, Nat.le_refl _, rfl, rfl, fun q _ hq => ⟨rfl, ?_, rfl, rfl, rfl, rfl⟩⟩, rfl, rfl, rfl, rfl, rfl, by rw [rdS_r]; exact hv⟩
  · show q < xTop S
    have h1 : ∃ e, x_cell (rdS S r v) q = some e := ⟨e, he⟩
    rw [x_cell_some] at h1
    obtain ⟨e2, h2⟩ := x_cell_some (S := S).mpr h1
    exact hW.2 q e2 h2
  · funext j
    exact if_neg (fun z => hq (Or.inl z))
theorem XZ.keep (h : XZ g r xa sz B0 b S t) (hf : XFb r B S S1) (hB : B0 ≤ B) (ht : XT5 b t1 (xI S1 r)) (hk : tkOk sz b t1) : XZ g r xa sz B0 b S1 t1 := by
  obtain ⟨⟨a1, a2, a3, a4, a5, a6⟩, a7, a8, a9, a10, ⟨a11, a12, a13, a14, a15⟩, an, f, a16, a17, a18, a19⟩ := h
  obtain ⟨b1, b2, b3, b4, b5, b6, b7⟩ := hf
  have hxr : xa ≠ r := fun z => by
    have e1 := a1.1
    have e2 := a2.1
    rw [z, e1] at e2
    have := congrArg Prod.fst e2
    have : 4 = 1 := this
    omega
  have hs : ∀ q, q < B0 → q ≠ r → tSame S S1 q := fun q hq hqr => b1.2.2.2.2.2 q (by omega) (fun z => by rcases z with z | z <;> omega)
  have sx := hs xa a12 hxr
  have har : an ≠ r := fun z => by
    have e1 := a1.1
    have e2 := a18.1
    rw [z, e1] at e2
    have := congrArg Prod.fst e2
    have : 4 = 0 := this
    omega
  have sa := hs an a17 har
  have ht2 := b1.2.1
  exact ⟨⟨⟨b2.trans a1.1, a1.2⟩, ⟨sx.1.trans a2.1, a2.2⟩, b1.1.1, by rw [b3]; exact a4, a5, fun i hi => by rw [sx.2.2.2.1]; exact a6 i hi⟩, b1.1, ht, (b7 0 (by decide)).trans a9, hk, ⟨a11, a12, by omega, a14, a15⟩, an, f, by rw [b3]; exact a16, a17, ⟨sa.1.trans a18.1, sa.2.2.2.2.2.trans a18.2⟩, a19⟩
theorem XZ.same (h : XZ g r xa sz B0 b S t) (hf : XFb r B S S1) (hB : B0 ≤ B) (hv : xI S1 r = xI S r) : XZ g r xa sz B0 b S1 t := h.keep hf hB (by rw [hv]; exact h.2.2.1) h.2.2.2.2.1
theorem XZ.cls (h : XZ g r xa sz B0 b S t) : f_cls S 4 r = some () := f_cls_T h.1.1
theorem XZ.int (h : XZ g r xa sz B0 b S t) {k : Nat} (hk : k < 13) (hd : x_kd 4 k = 0) : f_int S 4 r k = some (xI S r k) := f_int_T h.1.1 hk (Or.inl hd)
theorem XZ.sort (h : XZ g r xa sz B0 b S t) : f_int S 4 r 6 = some (nI t.1) := by
  rw [h.int (by decide) rfl, h.2.2.1.2.1]
theorem XZ.next (hN : 2 ^ 20 < N) (hG : GS g) (h : XZ g r xa sz B0 b S t) : ∃ S1, kX_X5_next g N S r = some S1 ∧ XZ g r xa sz B0 b S1 (nxT sz b t) ∧ XFb r (xTop S) S S1 ∧ xTop S1 = xTop S ∧ xSl S1 = xSl S ∧ xI S1 r 7 = nI (nxT sz b t).2.1 := by
  have hk := h.2.2.2.2.1
  obtain ⟨v1, k1, k2, k3⟩ := x_next (g := g) (N := N) (v := xI S r) (a := t.2.2) hN hG h.1 hk.2.1 h.2.2.1.1 h.2.2.2.1
  rw [rdS_self] at k1
  have hf : XFb r (xTop S) S (rdS S r v1) := rdS_fb h.2.1 k2
  refine ⟨rdS S r v1, k1, h.keep hf h.2.2.2.2.2.1.2.2.1 (by rw [rdS_r]; exact k3) (nxT_ok hk).1, hf, rfl, rfl, ?_⟩
  rw [rdS_r]
  exact k3.2.2.1
theorem XZ.is (hN : 2 ^ 20 < N) (hG : GS g) (h : XZ g r xa sz B0 b S t) {k : Nat} (hk : k < 13) : kX_X5_is g N S r (gSk g k) = some (S, if wd b t k = true then 1 else 0) := by
  have ht := h.2.2.2.2.1
  have := x_is (g := g) (N := N) (v := xI S r) hN hG h.1 h.2.2.1 ht.1 ht.2.1 ht.2.2.1 hk
  rw [rdS_self] at this
  exact this
theorem XZ.sg (h : XZ g r xa sz B0 b S t) {c : Nat} (hc : c < 128) : kX_X5_isSign g N S r (nI c) = some (S, if sgT b t c = true then 1 else 0) := by
  have := x_isSign (g := g) (N := N) (v := xI S r) h.1 h.2.2.1 h.2.2.2.2.1 hc
  rw [rdS_self] at this
  exact this
theorem XZ.s1 (h : XZ g r xa sz B0 b S t) {c : Nat} (hc : c < 128) (hs : sgT b t c = true) : kX_X5_isSign g N S r (nI c) = some (S, 1) := by rw [h.sg hc, if_pos hs]
theorem XZ.s0 (h : XZ g r xa sz B0 b S t) {c : Nat} (hc : c < 128) (hs : sgT b t c = false) : kX_X5_isSign g N S r (nI c) = some (S, 0) := by rw [h.sg hc, if_neg (by rw [hs]; decide)]
theorem XZ.pass1 (hN : 2 ^ 20 < N) (hG : GS g) (h : XZ g r xa sz B0 b S t) {k : Nat} (hk : k < 13) (hw : wd b t k = true) : ∃ S1, kX_X5_passes g N S r (gSk g k) = some (S1, 1) ∧ XZ g r xa sz B0 b S1 (nxT sz b t) ∧ XFb r (xTop S) S S1 ∧ xTop S1 = xTop S ∧ xSl S1 = xSl S := by
  obtain ⟨S1, k1, k2, k3, k4, k5, -⟩ := h.next hN hG
  have hi := h.is hN hG hk
  rw [if_pos hw] at hi
  refine ⟨S1, ?_, k2, k3, k4, k5⟩
  unfold kX_X5_passes
  exact ob1 h.cls (ob1 hi (oif n10 (ob1 h.cls (ob1 k1 (oz (Or.inr rfl) rfl)))))
theorem XZ.pass0 (hN : 2 ^ 20 < N) (hG : GS g) (h : XZ g r xa sz B0 b S t) {k : Nat} (hk : k < 13) (hw : ¬ wd b t k = true) : kX_X5_passes g N S r (gSk g k) = some (S, 0) := by
  have hi := h.is hN hG hk
  rw [if_neg hw] at hi
  unfold kX_X5_passes
  exact ob1 h.cls (ob1 hi (oit rfl (oz (Or.inl rfl) rfl)))
theorem k_sgn : ∀ c ∈ [42, 43, 45, 47, 60, 61], (((nI c : Int32).toUInt32 % 65536).toInt32) = nI c ∧ narrow .char (.int (nI c)) = .int (nI c) := by decide +kernel
theorem XZ.sign (hN : 2 ^ 20 < N) (hG : GS g) (h : XZ g r xa sz B0 b S t) {c : Nat} (hc : c ∈ [42, 43, 45, 47, 60, 61]) (hs : sgT b t c = true) : ∃ S1, kX_X5_sign g N S r = some (S1, nI c) ∧ XZ g r xa sz B0 b S1 (nxT sz b t) ∧ XFb r (xTop S) S S1 ∧ xTop S1 = xTop S ∧ xSl S1 = xSl S := by
  obtain ⟨S1, k1, k2, k3, k4, k5, -⟩ := h.next hN hG
  obtain ⟨e1, e2⟩ := k_sgn c hc
  obtain ⟨f1, f2⟩ := sgT_1 hs
  have hk := h.2.2.2.2.1
  have hlt := hk.2.2.2.1 (by omega)
  have hz := hk.2.1
  have h128 : b t.2.1 < 128 := by
    rw [f2]
    simp only [List.mem_cons, List.not_mem_nil, or_false] at hc
    omega
  have hb := (h.1.2.2.2.2.2 t.2.1 (by omega)).2.2 h128
  refine ⟨S1, ?_, k2, k3, k4, k5⟩
  have ho := rd_out (v := xI S r) h.1
  have ha := rd_arr (v := xI S r) h.1
  have htp := rd_tape (v := xI S r) h.1 (p := t.2.1) (by omega)
  rw [rdS_self] at ho ha htp
  unfold kX_X5_sign
  refine ob1 ho (ob1 ha (ob1 (h.int (by decide) rfl) ?_))
  rw [h.2.2.1.2.2.1]
  refine ob1 htp ?_
  rw [hb, f2]
  refine onb e1 (ob1 h.cls (ob1 k1 ?_))
  unfold nchk
  exact if_pos e2
/-- which name the word is -/
theorem XZ.which (hN : 2 ^ 20 < N) (hG : GS g) (h : XZ g r xa sz B0 b S t) {an m k0 : Nat} {f : Nat → Option Nat} (ha : genAt S an (.inl (4, m, .inr (.inr (.inr (.inr f)))))) (hm : m ≤ 6) (hk0 : k0 + m ≤ 13) (hf : ∀ i, i < m → f i = some (gSk g (k0 + i))) : kX_X5_which g N S r an = some (S, match (List.range m).find? (fun i => wd b t (k0 + i)) with
    | some i => nI i
    | none => -1) := by
  unfold kX_X5_which
  refine y_loop (fun n (s : XS) k => kX_X5_which_2 g N n s r an (nI k)) m (fun s k => s = S ∧ ∀ i, i < k → wd b t (k0 + i) = false) (fun z => z = some (S, match (List.range m).find? (fun i => wd b t (k0 + i)) with
    | some i => nI i
    | none => -1)) ?_ ?_ m N S 0 (by omega) (by omega) ⟨rfl, fun i hi => by omega⟩
  · rintro n s k hk ⟨rfl, p2⟩
    have hhd : ∀ {R : Option (XS × Int32)}, ((if (if wd b t (k0 + k) = true then (1 : Int32) else 0) = 0 then kX_X5_which_2 g N n s r an (nI k + 1) else some (s, nI k)) = R) → kX_X5_which_2 g N (n + 1) s r an (nI k) = R := fun hR => by
      rw [kX_X5_which_2]
      exact ob1 (g_alen ha (by decide)) (oif (nI_ge hk (by omega)) (ob1 (g_aobj ha hk (by omega) (hf k hk)) (ob1 h.cls (ob1 (h.is hN hG (by omega)) hR))))
    by_cases e : wd b t (k0 + k) = true
    · left
      refine hhd (oif (by rw [if_pos e]; decide) ?_)
      have hfd : (List.range m).find? (fun i => wd b t (k0 + i)) = some k := by
        rw [List.find?_range_eq_some]
        exact ⟨e, List.mem_range.mpr hk, fun j hj => by rw [p2 j hj]; rfl⟩
      rw [hfd]
    · right
      refine ⟨s, hhd (oit (by rw [if_neg e]) ?_), rfl, fun i hi => ?_⟩
      · rw [nI_1]
      · by_cases ee : i = k
        · rw [ee]; simpa using e
        · exact p2 i (by omega)
  · rintro n s ⟨rfl, p2⟩
    show kX_X5_which_2 g N (n + 1) s r an (nI m) = _
    have hfd : (List.range m).find? (fun i => wd b t (k0 + i)) = none := by
      rw [List.find?_eq_none]
      intro i hi
      rw [p2 i (List.mem_range.mp hi)]
      decide
    rw [hfd, kX_X5_which_2]
    exact ob1 (g_alen ha (by decide)) (oit (nI_le (Nat.le_refl _) (by omega)) rfl)
/-- an error is thrown -/
def XErr {β : Type} (r : Nat) (S : XS) (e : Nat × TK) (res : Option (β ⊕ XT)) : Prop := ∃ S1 w fs, res = some (.inr (S1, 2, w)) ∧ XFb r (xTop S) S S1 ∧ xI S1 r 7 = nI e.2.2.1 ∧ genAt S1 w (.inr (9, fs)) ∧ fs[6]? = some (.int (nI e.1)) ∧ xTop S ≤ w
theorem XErr.pre {β : Type} {e : Nat × TK} {res : Option (β ⊕ XT)} (h : XErr r S1 e res) (hf : XFb r (xTop S) S S1) : XErr r S e res := by
  obtain ⟨S2, w, fs, h1, h2, h3, h4, h5, h6⟩ := h
  have := hf.1.2.1
  exact ⟨S2, w, fs, h1, hf.trans h2 this, h3, h4, h5, by omega⟩
theorem XErr.bind {α β : Type} {e : Nat × TK} {x : Option (α ⊕ XT)} {F : α → Option (β ⊕ XT)} (h : XErr r S e x) : XErr r S e (tbind x F) := by
  obtain ⟨S2, w, fs, h1, h2⟩ := h
  exact ⟨S2, w, fs, ot2 h1, h2⟩
theorem XErr.eq {β : Type} {e : Nat × TK} {x y : Option (β ⊕ XT)} (h : XErr r S e x) (hy : y = x) : XErr r S e y := by rw [hy]; exact h
theorem want1 (k : Int32) : kX_X5_want g N S r 1 k = some (.inl S) := oif n10 rfl
theorem want0 (h : XZ g r xa sz B0 b S t) (k : Nat) (r1 : xTop S + 1 ≤ xCc S) (r2 : xSl S + 7 ≤ xCs S) : XErr r S (k, t) (kX_X5_want g N S r 0 (nI k)) := by
  obtain ⟨S1, S2, fs, a1, a2, a3, a4, a5, a6, a7⟩ := wr_new (g := g) (N := N) (XE.refl (P := fun _ => False) h.2.1) (nI k) r1 r2
  have hrB := h.2.2.2.2.2.1
  have hrt : r < xTop S := by omega
  obtain ⟨t1, t2, t3, t4, t5, t6⟩ := a3.2.2.2.2.2 r hrt (fun z => z)
  refine ⟨S2, xTop S, fs, ?_, XFb.xe a3 (fun q z => absurd z (fun y => y)) hrt hrt, ?_, a5, a6, Nat.le_refl _⟩
  · unfold kX_X5_want
    exact oit rfl (ob1 a1 (ob1 a2 (ob1 (g_cls a5) rfl)))
  · rw [t2]
    exact h.2.2.1.2.2.1
end YC28
