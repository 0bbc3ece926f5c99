/-! the cave: what the component has read -/
/-- the reader, the night under way -/
def XLb (g : XC) (r xa sz B0 : Nat) (b : Nat → Nat) (mk nb B1 : Nat) (S : XS) (t : TK) (s : LT) : Prop := XZ g r xa sz B0 b S t ∧ xR S r 1 = some mk ∧ xR S r 2 = some nb ∧ (∃ on f, xR S r 3 = some on ∧ on < B0 ∧ genAt S on (.inl (4, 2, .inr (.inr (.inr (.inr f))))) ∧ ∀ i, i < 2 → f i = some (gSk g (0 + i))) ∧ NightAt S nb xa s.2.1 ∧ (mk < B0 ∧ nb < B0 ∧ B1 ≤ r ∧ B1 ≤ mk ∧ B1 ≤ nb ∧ xa < B1 ∧ B1 ≤ B0) ∧ (bt (xI S r 10) 0 = s.1.2.2.1.isSome ∧ bt (xI S r 10) 1 = s.1.2.2.2.isSome) ∧ ∀ k, k < 9 → bt (xI S r 11) k = s.2.2 k
/-- the cave under way -/
def XCv (g : XC) (B0 mk B1 : Nat) (S : XS) (C : CC) : Prop := ∃ (ls : Nat) (f1 f2 : Option Nat) (rs : List Nat) (cap : Nat) (Yl Zf : Nat → Prop), genAt S mk (.inr (3, [.ref ls, va_rf f1, va_rf f2])) ∧ ListC g Yl S ls rs cap ∧ rs.length = C.1 ∧ ((∀ i, i < C.1 → ∃ r k, rs[i]? = some r ∧ gIv g r = some k ∧ vb_c k = iI (C.2.1 i)) ∧ ∀ r ∈ rs, r < B1 ∧ ∃ k, gIv g r = some k) ∧ fOk g Zf S C.2.2.1 f1 ∧ fOk g Zf S C.2.2.2 f2 ∧ (∀ q, Yl q → (q = ls ∨ B0 ≤ q) ∧ q < xTop S ∧ ¬ Zf q ∧ q ≠ mk) ∧ (∀ q, Zf q → B0 ≤ q ∧ q < xTop S) ∧ (B1 ≤ ls ∧ ls < B0 ∧ mk < B0)
section YC41
variable {g : XC} {N r xa sz B0 mk nb B1 B : Nat} {b : Nat → Nat} {S S1 : XS} {t t1 : TK} {s : LT} {P : Nat → Prop} {C : CC}
theorem ty_gen {c a : Nat} {e : GE} (h : tyA S c a) (hg : genAt S a e) : False := by
  have h1 := h.1.symm.trans hg.1
  have : c = 0 := congrArg Prod.fst h1
  have := h.2.1
  omega
theorem fOk.z {Z Y : Nat → Prop} {φ : Option VF} {f : Option Nat} (h : fOk g Z S φ f) (hf : yFg Z S S1) (hz : ∀ q, Z q → Y q) : fOk g Y S1 φ f := (h.fr hf).mono hz
/-- below the top nothing of the general map has changed -/
theorem XFb.yfg (h : XFb r B S S1) (hB : xTop S ≤ B) {q : Nat} (hq : q < xTop S) : xOwn S1 q = xOwn S q ∧ xG S1 q = xG S q := by
  by_cases e : q = r
  · rw [e]; exact ⟨h.2.1, h.2.2.2.2.2.1⟩
  · obtain ⟨t1, t2, t3, t4, t5, t6⟩ := h.1.2.2.2.2.2 q hq (fun z => by rcases z with z | z <;> omega)
    exact ⟨t1, t6⟩
theorem XCv.fb (h : XCv g B0 mk B1 S C) (hf : XFb r B S S1) (hB : xTop S ≤ B) (hBt : B0 ≤ xTop S) : XCv g B0 mk B1 S1 C := by
  obtain ⟨ls, f1, f2, rs, cap, Yl, Zf, h1, h2, h3, h4, h5, h6, h7, h8, h9⟩ := h
  have ht := hf.1.2.1
  have fg : ∀ q, q < xTop S → xOwn S1 q = xOwn S q ∧ xG S1 q = xG S q := fun q hq => hf.yfg hB hq
  refine ⟨ls, f1, f2, rs, cap, Yl, Zf, ?_, h2.fr (fun q hq => fg q (h7 q hq).2.1), h3, h4, h5.fr (fun q hq => fg q (h8 q hq).2), h6.fr (fun q hq => fg q (h8 q hq).2), fun q hq => ⟨(h7 q hq).1, by have := (h7 q hq).2.1; omega, (h7 q hq).2.2⟩, fun q hq => ⟨(h8 q hq).1, by have := (h8 q hq).2; omega⟩, h9⟩
  obtain ⟨z1, z2⟩ := fg mk (by omega)
  exact ⟨z1.trans h1.1, z2.trans h1.2⟩
/-- only tables of typed objects have changed -/
theorem XCv.of (h : XCv g B0 mk B1 S C) (ho : xOwn S1 = xOwn S) (hg : xG S1 = xG S) (ht : xTop S1 = xTop S) : XCv g B0 mk B1 S1 C := by
  obtain ⟨ls, f1, f2, rs, cap, Yl, Zf, h1, h2, h3, h4, h5, h6, h7, h8, h9⟩ := h
  have fg : ∀ (Z : Nat → Prop), yFg Z S S1 := fun Z q _ => ⟨by rw [ho], by rw [hg]⟩
  exact ⟨ls, f1, f2, rs, cap, Yl, Zf, ⟨by rw [ho]; exact h1.1, by rw [hg]; exact h1.2⟩, h2.fr (fg _), h3, h4, h5.fr (fg _), h6.fr (fg _), fun q hq => by rw [ht]; exact h7 q hq, fun q hq => by rw [ht]; exact h8 q hq, h9⟩
theorem XLb.fb (h : XLb g r xa sz B0 b mk nb B1 S t s) (hf : XFb r B S S1) (hB : B0 ≤ B) (hz : XZ g r xa sz B0 b S1 t1) : XLb g r xa sz B0 b mk nb B1 S1 t1 s := by
  obtain ⟨h1, h2, h3, ⟨on, f, h4, h5, h6, h7⟩, h8, h9, h10, h11⟩ := h
  obtain ⟨b1, b2, b3, b4, b5, b6, b7⟩ := hf
  obtain ⟨hrB, hxB, hBt, -, -⟩ := h1.2.2.2.2.2.1
  have hs : ∀ q, q < B0 → q ≠ r → tSame S S1 q := fun q hq hqr => b1.2.2.2.2.2 q (by omega) (fun z => by rcases z with z | z <;> omega)
  have sn := hs nb h9.2.1 (fun z => by
    have e1 := h1.1.1.1
    have e2 := h8.1.2.1.1
    rw [z, e1] at e2
    have : 4 = 2 := congrArg Prod.fst e2
    omega)
  have sx := hs xa hxB (fun z => by
    have e1 := h1.1.1.1
    have e2 := h8.1.1.1
    rw [z, e1] at e2
    have : 4 = 1 := congrArg Prod.fst e2
    omega)
  have so := hs on h5 (fun z => ty_gen h1.1.1 (z ▸ h6))
  refine ⟨hz, by rw [b3]; exact h2, by rw [b3]; exact h3, ⟨on, f, by rw [b3]; exact h4, h5, ⟨so.1.trans h6.1, so.2.2.2.2.2.trans h6.2⟩, h7⟩, h8.keep b1.1.1 sx.1 sn.1 sn.2.2.1 sn.2.1 sn.2.2.2.1, h9, ?_, ?_⟩
  · rw [b7 10 (by decide)]; exact h10
  · rw [b7 11 (by decide)]; exact h11
/-- what P marks below B0 are general objects -/
theorem XLb.xe (h : XLb g r xa sz B0 b mk nb B1 S t s) (hE : XE P S S1) (hP : ∀ q, q < B0 → P q → ∃ k fs, genAt S q (.inr (k, fs))) : XLb g r xa sz B0 b mk nb B1 S1 t s := by
  obtain ⟨h1, h2, h3, ⟨on, f, h4, h5, h6, h7⟩, h8, h9, h10, h11⟩ := h
  have hz := h1
  obtain ⟨⟨a1, a2, a3, a4, a5, a6⟩, a7, a8, a9, a10, ⟨a11, a12, a13, a14, a15⟩, an, f2, a16, a17, a18, a19⟩ := h1
  have nty : ∀ c a, a < B0 → tyA S c a → ¬ P a := fun c a ha hty hp => by
    obtain ⟨k, fs, hg⟩ := hP a ha hp
    exact ty_gen hty hg
  have narr : ∀ q x, q < B0 → genAt S q (.inl x) → ¬ P q := fun q x hq hg hp => by
    obtain ⟨k, fs, hg2⟩ := hP q hq hp
    have := hg.2.symm.trans hg2.2
    cases this
  have hs : ∀ q, q < B0 → ¬ P q → tSame S S1 q := fun q hq hp => hE.2.2.2.2.2 q (by omega) hp
  have sr := hs r a11 (nty 4 r a11 a1)
  have sx := hs xa a12 (nty 1 xa a12 a2)
  have sn := hs nb h9.2.1 (nty 2 nb h9.2.1 h8.1.2.1)
  have sa := hs an a17 (narr an _ a17 a18)
  have so := hs on h5 (narr on _ h5 h6)
  have ht := hE.2.1
  refine ⟨⟨⟨⟨sr.1.trans a1.1, a1.2⟩, ⟨sx.1.trans a2.1, a2.2⟩, hE.1.1, by rw [sr.2.2.1]; exact a4, a5, fun i hi => by rw [sx.2.2.2.1]; exact a6 i hi⟩, hE.1, by rw [sr.2.1]; exact a8, by rw [sr.2.1]; exact a9, a10, ⟨a11, a12, by omega, a14, a15⟩, an, f2, by rw [sr.2.2.1]; exact a16, a17, ⟨sa.1.trans a18.1, sa.2.2.2.2.2.trans a18.2⟩, a19⟩, by rw [sr.2.2.1]; exact h2, by rw [sr.2.2.1]; exact h3, ⟨on, f, by rw [sr.2.2.1]; exact h4, h5, ⟨so.1.trans h6.1, so.2.2.2.2.2.trans h6.2⟩, h7⟩, h8.keep hE.1.1 sx.1 sn.1 sn.2.2.1 sn.2.1 sn.2.2.2.1, h9, ?_, ?_⟩
  · rw [sr.2.1]; exact h10
  · rw [sr.2.1]; exact h11
/-- the reader's own numbers: which lines have been, which cups are piped -/
theorem setI_fb (hW : WFr S) {k : Nat} (hk : k ∉ [5, 6, 7, 8, 9]) (v : Int32) : XE (fun q => q = r) S (xSetI S r k v) := by
  refine ⟨⟨hW.1, fun q e he => ?_⟩, Nat.le_refl _, Nat.le_refl _, rfl, rfl, fun q _ hq => ⟨rfl, ?_, rfl, rfl, rfl, rfl⟩⟩
  · show q < xTop S
    have h1 : ∃ e, x_cell (xSetI S r k v) q = some e := ⟨e, he⟩
    rw [x_cell_some] at h1
    obtain ⟨e2, h2⟩ := x_cell_some (S := S).mpr h1
    exact hW.2 q e2 h2
  · funext j
    exact if_neg (fun z => hq z.1)
theorem xI_other (S : XS) (r k : Nat) (v : Int32) {j : Nat} (h : j ≠ k) : xI (xSetI S r k v) r j = xI S r j := if_neg (fun z => h z.2)
theorem xI_self (S : XS) (r k : Nat) (v : Int32) : xI (xSetI S r k v) r k = v := if_pos ⟨rfl, rfl⟩
theorem XLb.setI (h : XLb g r xa sz B0 b mk nb B1 S t s) {k : Nat} (hk : k = 10 ∨ k = 11) (v : Int32) (s1 : LT) (hs : s1.2.1 = s.2.1) (h10 : bt (xI (xSetI S r k v) r 10) 0 = s1.1.2.2.1.isSome ∧ bt (xI (xSetI S r k v) r 10) 1 = s1.1.2.2.2.isSome) (h11 : ∀ j, j < 9 → bt (xI (xSetI S r k v) r 11) j = s1.2.2 j) : XLb g r xa sz B0 b mk nb B1 (xSetI S r k v) t s1 := by
  obtain ⟨h1, h2, h3, ho, h8, h9, -, -⟩ := h
  have hz := h1
  obtain ⟨⟨a1, a2, a3, a4, a5, a6⟩, a7, ⟨v5, v6, v7, v8, v9⟩, a9, a10, a11, an⟩ := h1
  have hx : ∀ j, j ≠ k → xI (xSetI S r k v) r j = xI S r j := fun j hj => xI_other S r k v hj
  have hnr : nb ≠ r := fun z => by
    have e1 := a1.1
    have e2 := h8.1.2.1.1
    rw [z, e1] at e2
    have : 4 = 2 := congrArg Prod.fst e2
    omega
  refine ⟨⟨⟨a1, a2, a3, a4, a5, a6⟩, (setI_fb a7 (by rcases hk with rfl | rfl <;> decide) v).1, ⟨?_, ?_, ?_, ?_, fun z1 z2 => ?_⟩, ?_, a10, a11, an⟩, h2, h3, ho, ⟨h8.1, ?_, by rw [hs]; exact h8.2.2⟩, h9, h10, h11⟩
  · rw [hx 5 (by omega)]; exact v5
  · rw [hx 6 (by omega)]; exact v6
  · rw [hx 7 (by omega)]; exact v7
  · rw [hx 8 (by omega)]; exact v8
  · rw [hx 9 (by omega)]; exact v9 z1 z2
  · rw [hx 0 (by omega)]; exact a9
  · rw [hs, ← h8.2.1]
    funext j
    exact if_neg (fun z => hnr z.1)
/-- the night's numbers -/
theorem XLb.setA (h : XLb g r xa sz B0 b mk nb B1 S t s) {k i : Nat} (x : Int) (s1 : LT) (hs : s1.2.1 = ysA s.2.1 k i x) (h10 : s1.1.2.2.1.isSome = s.1.2.2.1.isSome ∧ s1.1.2.2.2.isSome = s.1.2.2.2.isSome) (h11 : s1.2.2 = s.2.2) : XLb g r xa sz B0 b mk nb B1 (xSetA S nb k (upd (xA S nb k) i (iI x))) t s1 := by
  obtain ⟨h1, h2, h3, ho, h8, h9, h12, h13⟩ := h
  obtain ⟨⟨a1, a2, a3, a4, a5, a6⟩, a7, a8, a9, a10, a11, an⟩ := h1
  have hnx : xa ≠ nb := fun z => h8.1.2.2.1 z.symm
  refine ⟨⟨⟨a1, a2, a3, a4, a5, fun j hj => ?_⟩, ⟨a7.1, fun q e he => ?_⟩, a8, a9, a10, a11, an⟩, h2, h3, ho, ⟨h8.1, ?_, fun j q => ?_⟩, h9, by rw [h10.1, h10.2]; exact h12, by rw [h11]; exact h13⟩
  · have e : xA (xSetA S nb k (upd (xA S nb k) i (iI x))) xa 4 = xA S xa 4 := if_neg (fun z => hnx z.1)
    rw [e]
    exact a6 j hj
  · show q < xTop S
    have h1 : ∃ e, x_cell (xSetA S nb k (upd (xA S nb k) i (iI x))) q = some e := ⟨e, he⟩
    rw [x_cell_some] at h1
    obtain ⟨e2, h2⟩ := x_cell_some (S := S).mpr h1
    exact a7.2 q e2 h2
  · rw [hs]
    exact h8.2.1
  · rw [hs]
    show (if nb = nb ∧ j = k then upd (xA S nb k) i (iI x) else xA S nb j) q = iI (if j = k ∧ q = i then x else s.2.1.2 j q)
    by_cases e : j = k
    · subst e
      rw [if_pos ⟨rfl, rfl⟩]
      unfold upd
      by_cases e2 : q = i
      · rw [if_pos e2, if_pos ⟨rfl, e2⟩]
      · rw [if_neg e2, if_neg (fun z => e2 z.2)]
        exact h8.2.2 j q
    · rw [if_neg (fun z => e z.2), if_neg (fun z => e z.1)]
      exact h8.2.2 j q
theorem XLb.putA (h : XLb g r xa sz B0 b mk nb B1 S t s) {k i : Nat} (hk : nA k) (hi : i < 9) {v : Int32} {x : Int} (hv : v = iI x) : a_putI S 0 (xRa S nb k) (nI i) v = some (xSetA S nb k (upd (xA S nb k) i (iI x))) := by
  obtain ⟨h1, h2, h3, ho, h8, h9, h12, h13⟩ := h
  have h1 := a_putI_T (k := k) (i := nI i) (v := v) h8.1.2.1 h8.1.2.2.2.1 (Or.inl hk) (by rw [nA_len]; exact nI_inn hi (by decide))
  rw [nA_ak hk, nI_clamp (by omega), hv] at h1
  rw [hv]
  exact h1
theorem XLb.objA (h : XLb g r xa sz B0 b mk nb B1 S t s) {k : Nat} (hk : nA k) : f_obj S 2 nb k = some (xRa S nb k) := f_objA_T h.2.2.2.2.1.1.2.1 (nA_lt hk) (Or.inl hk)
theorem XLb.getA (h : XLb g r xa sz B0 b mk nb B1 S t s) {k i : Nat} (hk : nA k) (hi : i < 9) : a_int S 0 (xRa S nb k) (nI i) = some (iI (yA s.2.1 k i)) := by
  have h8 := h.2.2.2.2.1
  have h1 := a_int_T (k := k) (i := nI i) h8.1.2.1 h8.1.2.2.2.1 (Or.inl hk) (by rw [nA_len]; exact nI_inn hi (by decide))
  rw [nA_ak hk, nI_clamp (by omega)] at h1
  rw [h1]
  exact congrArg some (h8.2.2 k i)
theorem XLb.begun (h : XLb g r xa sz B0 b mk nb B1 S t s) : f_obj S 4 r 2 = some nb := f_obj_T h.1.1.1 (by decide) rfl h.2.2.1
theorem XLb.made (h : XLb g r xa sz B0 b mk nb B1 S t s) : f_obj S 4 r 1 = some mk := f_obj_T h.1.1.1 (by decide) rfl h.2.1
theorem XCv.cls (h : XCv g B0 mk B1 S C) : f_cls S 3 mk = some () := by
  obtain ⟨ls, f1, f2, rs, cap, Yl, Zf, h1, -⟩ := h
  exact g_cls h1
theorem XCv.cups (h : XCv g B0 mk B1 S C) : kX_X2_cups g N S mk = some (S, nI C.1) := by
  obtain ⟨ls, f1, f2, rs, cap, Yl, Zf, h1, h2, h3, -⟩ := h
  unfold kX_X2_cups
  refine ob1 (g_obj h1 rfl) (ob1 h2.l.cls (ob1 (h2.l.size N) ?_))
  rw [h3]
end YC41
