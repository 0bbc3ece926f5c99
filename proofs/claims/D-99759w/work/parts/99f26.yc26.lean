/-! the cave: StringBuilders that grow; the thrown object -/
section YC26
variable {g : XC} {N : Nat} {S S0 : XS} {P : Nat → Prop} {c k i : Nat} {fs : List Value}
/-- a step on a general object -/
theorem gp_set (h : XE P S0 S) {e0 : GE} (hg : genAt S c e0) (hP : P c ∨ xTop S0 ≤ c) (e : GE) : XE P S0 (xSetG S c e) ∧ genAt (xSetG S c e) c e ∧ ∀ q e1, q ≠ c → genAt S q e1 → genAt (xSetG S c e) q e1 := by
  refine ⟨h.trans (setG_XE h.1 hg (e := e) (P := fun q => q = c) rfl) (fun q hq z => ?_), setG_at hg, fun q e1 hq h1 => setG_ne h1 hq⟩
  rcases hP with hP | hP
  · rw [z]; exact hP
  · omega
theorem gp_I (h : XE P S0 S) (hg : genAt S c (.inr (k, fs))) (hP : P c ∨ xTop S0 ≤ c) (hi : i < fs.length) (v : Int32) : ∃ S1, f_putI S k c i v = some S1 ∧ XE P S0 S1 ∧ xTop S1 = xTop S ∧ xSl S1 = xSl S ∧ genAt S1 c (.inr (k, fs.set i (.int v))) ∧ ∀ q e, q ≠ c → genAt S q e → genAt S1 q e := by
  obtain ⟨a1, a2, a3⟩ := gp_set h hg hP (.inr (k, fs.set i (.int v)))
  exact ⟨_, g_putI hg hi, a1, rfl, rfl, a2, a3⟩
theorem gp_R (h : XE P S0 S) (hg : genAt S c (.inr (k, fs))) (hP : P c ∨ xTop S0 ≤ c) (hi : i < fs.length) (v : Option Nat) : ∃ S1, f_putR S k c i v = some S1 ∧ XE P S0 S1 ∧ xTop S1 = xTop S ∧ xSl S1 = xSl S ∧ genAt S1 c (.inr (k, fs.set i (va_rf v))) ∧ ∀ q e, q ≠ c → genAt S q e → genAt S1 q e := by
  obtain ⟨a1, a2, a3⟩ := gp_set h hg hP (.inr (k, fs.set i (va_rf v)))
  exact ⟨_, g_putR hg hi, a1, rfl, rfl, a2, a3⟩
theorem genAt.lt_top (hW : WFr S) {q : Nat} {e : GE} (h : genAt S q e) : q < xTop S := hW.2 q e (g_cell h)
theorem gn_at (hW : WFr S) (n : Nat) (e : GE) {q : Nat} {e1 : GE} (h : genAt S q e1) : genAt (newS S n e) q e1 := by
  have := h.lt_top hW
  exact ⟨(newS_own S n e (by omega)).trans h.1, (if_neg (by omega)).trans h.2⟩
theorem gp_new (h : XE P S0 S) (n : Nat) (e : GE) (r1 : xTop S + 1 ≤ xCc S) (r2 : xSl S + n ≤ xCs S) : ∃ S1, xNew S n e = some S1 ∧ XE P S0 S1 ∧ xTop S1 = xTop S + 1 ∧ xSl S1 = xSl S + n ∧ genAt S1 (xTop S) e ∧ ∀ q e1, genAt S q e1 → genAt S1 q e1 :=
  ⟨_, x_newS r1 r2, h.trans (newS_XE h.1 n e P) (fun _ _ z => z), rfl, rfl, newS_at S n e, fun q e1 h1 => gn_at h.1 n e h1⟩
theorem gp_newI (h : XE P S0 S) {n : Nat} (hn : n ≤ 67108864) (k : Nat) (r1 : xTop S + 1 ≤ xCc S) (r2 : xSl S + n ≤ xCs S) : ∃ S1, xNewI S k (nI n) = some S1 ∧ XE P S0 S1 ∧ xTop S1 = xTop S + 1 ∧ xSl S1 = xSl S + n ∧ genAt S1 (xTop S) (.inl (k, n, .inl (fun _ => 0))) ∧ ∀ q e1, genAt S q e1 → genAt S1 q e1 :=
  ⟨_, x_newI hn r1 r2, h.trans (newS_XE h.1 n _ P) (fun _ _ z => z), rfl, rfl, newS_at S n _, fun q e1 h1 => gn_at h.1 n _ h1⟩
def ESb (q : Nat) (x : Int32) (n : Nat) : GE := .inr (11, [.ref q, .int 0, .int x, .int (nI n)])
def EBy (n : Nat) (f : Nat → Int32) : GE := .inl (1, n, .inl f)
/-- a StringBuilder with its capacity -/
def SbC (Z : Nat → Prop) (S : XS) (sb : Nat) (cs : List Nat) (cap : Nat) : Prop := (∀ c ∈ cs, c ∈ [38, 42, 43, 45, 47, 60, 61, 124]) ∧ cs.length ≤ cap ∧ cap < 2 ^ 22 ∧ ∃ q x f, gz Z S sb (ESb q x cs.length) ∧ q ≠ sb ∧ gz Z S q (EBy cap f) ∧ (∀ i, fits .byte (.int (f i)) = true) ∧ ∀ i c, cs[i]? = some c → f i = nI c
theorem SbC.sb {Z : Nat → Prop} {sb cap : Nat} {cs : List Nat} (h : SbC Z S sb cs cap) : SbAt Z S sb cs := by
  obtain ⟨h0, h1, h2, q, x, f, h3, h4, h5, h6, h7⟩ := h
  exact ⟨h0, q, x, cap, f, h3, h1, h2, h4, h5, h6, h7⟩
theorem SbC.fr {Z : Nat → Prop} {S1 : XS} {sb cap : Nat} {cs : List Nat} (h : SbC Z S sb cs cap) (hf : yFg Z S S1) : SbC Z S1 sb cs cap := by
  obtain ⟨h0, h1, h2, q, x, f, h3, h4, h5, h6, h7⟩ := h
  exact ⟨h0, h1, h2, q, x, f, h3.fr hf, h4, h5.fr hf, h6, h7⟩
theorem SbC.cls {Z : Nat → Prop} {sb cap : Nat} {cs : List Nat} (h : SbC Z S sb cs cap) : f_cls S 11 sb = some () := by
  obtain ⟨h0, h1, h2, q, x, f, h3, h4, h5, h6, h7⟩ := h
  exact g_cls h3.2
theorem fits0 : fits .byte (.int 0) = true := by decide
theorem sb_new (hW : WFr S) (r1 : xTop S + 2 ≤ xCc S) (r2 : xSl S + 20 ≤ xCs S) : ∃ S1 S2, xNew S 4 (.inr (11, [.null, .int 0, .int 0, .int 0])) = some S1 ∧ kX_J14_init g N S1 (xTop S) = some S2 ∧ XE (fun _ => False) S S2 ∧ xTop S2 = xTop S + 2 ∧ xSl S2 = xSl S + 20 ∧ SbC (fun q => q = xTop S ∨ q = xTop S + 1) S2 (xTop S) [] 16 ∧ ∀ q e, genAt S q e → genAt S2 q e := by
  have h0 : XE (fun _ => False) S S := XE.refl hW
  obtain ⟨S1, a1, a2, a3, a4, a5, a6⟩ := gp_new h0 4 (.inr (11, [.null, .int 0, .int 0, .int 0])) (by omega) (by omega)
  have c1 : xCc S1 = xCc S := a2.2.2.2.1
  have c2 : xCs S1 = xCs S := a2.2.2.2.2.1
  obtain ⟨S2, b1, b2, b3, b4, b5, b6⟩ := gp_newI a2 (n := 16) (by decide) 1 (by omega) (by omega)
  have a7 := b6 _ _ a5
  obtain ⟨S3, d1, d2, d3, d4, d5, d6⟩ := gp_R b2 a7 (Or.inr (Nat.le_refl _)) (i := 0) (by show 0 < 4; omega) (some (xTop S1))
  obtain ⟨S4, e1, e2, e3, e4, e5, e6⟩ := gp_I d2 d5 (Or.inr (Nat.le_refl _)) (i := 1) (by show 1 < 4; omega) 0
  have hne : xTop S1 ≠ xTop S := by omega
  refine ⟨S1, S4, a1, ?_, e2, by omega, by omega, ⟨fun c hc => (by cases hc), Nat.zero_le _, by decide, xTop S1, 0, fun _ => 0, ⟨Or.inl rfl, e5⟩, hne, ⟨Or.inr a3, e6 _ _ hne (d6 _ _ hne b5)⟩, fun _ => fits0, fun i c hc => by simp at hc⟩, fun q e hq => ?_⟩
  · unfold kX_J14_init kX_J13_init
    exact ob1 (oif n10 (ob1 b1 (ob1 d1 (ob1 e1 rfl)))) rfl
  · have hq1 := hq.lt_top hW
    exact e6 _ _ (by omega) (d6 _ _ (by omega) (b6 _ _ (a6 _ _ hq)))
theorem y_ops : ∀ c ∈ [38, 42, 43, 45, 47, 60, 61, 124], vp_nar .byte ((nI c).toInt8.toInt32) = nI c ∧ fits .byte (.int (nI c)) = true := by decide +kernel
theorem sh0 (x : Int32) : x >>> ((0 : Int32) &&& 31) = x := by
  rw [show ((0 : Int32) &&& 31) = 0 by decide]
  apply Int32.toBitVec.inj
  simp
theorem sl0 (x : Int32) : x <<< ((0 : Int32) &&& 31) = x := by
  rw [show ((0 : Int32) &&& 31) = 0 by decide]
  apply Int32.toBitVec.inj
  simp
theorem s_newLen (g : XC) (N : Nat) {n : Nat} (h : n < 2 ^ 20) : kX_J15_newLength g N (nI n) (nI (n + 1) - nI n) (nI n + ((2 : Int32) <<< ((0 : Int32) &&& 31))) = some (nI (2 * n + 2)) := by
  have e1 : nI (n + 1) - nI n = nI 1 := by rw [iI_nI, iI_nI, iI_nI, iI_sub]; congr 1; omega
  have e2 : nI n + ((2 : Int32) <<< ((0 : Int32) &&& 31)) = nI (n + 2) := by
    rw [sl0, show (2 : Int32) = nI 2 from rfl, nI_add]
  rw [e1, e2]
  unfold kX_J15_newLength
  refine onb (v := nI (n + 2)) (if_pos (nI_lt (by omega) (by omega))) (onb (v := nI (2 * n + 2)) (by rw [nI_add]; exact congrArg nI (by omega)) ?_)
  refine oif (nI_nle (by omega) (by omega)) (oif ?_ rfl)
  intro z
  have := (nI_ltI (a := 2147483639) (b := 2 * n + 2) (by omega) (by omega)).mp z
  omega
/-- one more sign -/
theorem sb_append {Y : Nat → Prop} {sb cap : Nat} {cs : List Nat} {ch : Nat} (h : SbC Y S sb cs cap) (hW : WFr S) (hc : ch ∈ [38, 42, 43, 45, 47, 60, 61, 124]) (hcap : cap < 2 ^ 20) (r1 : xTop S + 1 ≤ xCc S) (r2 : xSl S + (2 * cs.length + 2) ≤ xCs S) : ∃ S1 Y1 cap1, kX_J14_append g N S sb (nI ch) = some (S1, sb) ∧ XE Y S S1 ∧ SbC Y1 S1 sb (cs ++ [ch]) cap1 ∧ (∀ q, Y1 q → Y q ∨ (xTop S ≤ q ∧ q < xTop S1)) ∧ ((cap1 = cap ∧ cs.length < cap ∧ xTop S1 = xTop S ∧ xSl S1 = xSl S) ∨ (cs.length = cap ∧ cap1 = 2 * cap + 2 ∧ xTop S1 = xTop S + 1 ∧ xSl S1 = xSl S + cap1)) := by
  obtain ⟨h0, h1, h2, q, x, f, h3, h4, h5, h6, h7⟩ := h
  have hx0 : XE Y S S := XE.refl hW
  have hlen : (cs ++ [ch]).length = cs.length + 1 := by rw [List.length_append]; rfl
  have h256 : ch < 256 := by
    simp only [List.mem_cons, List.not_mem_nil, or_false] at hc
    omega
  obtain ⟨hb1, hb2⟩ := y_ops ch hc
  -- behind the growth
  have key : ∀ (S3 : XS) (Y1 : Nat → Prop) (q3 cap1 : Nat) (f3 : Nat → Int32), XE Y S S3 → gz Y1 S3 sb (ESb q3 x cs.length) → q3 ≠ sb → gz Y1 S3 q3 (EBy cap1 f3) → cs.length < cap1 → cap1 < 2 ^ 22 → (∀ i, fits .byte (.int (f3 i)) = true) → (∀ i c, cs[i]? = some c → f3 i = nI c) → (∀ q, Y1 q → Y q ∨ xTop S ≤ q) → kX_J13_ensureCapacityInternal g N S sb (nI cs.length + 1) = some S3 → ∃ S1, kX_J14_append g N S sb (nI ch) = some (S1, sb) ∧ XE Y S S1 ∧ SbC Y1 S1 sb (cs ++ [ch]) cap1 ∧ xTop S1 = xTop S3 ∧ xSl S1 = xSl S3 := by
    intro S3 Y1 q3 cap1 f3 g1 g2 g3 g4 g5 g6 g7 g8 g9 hens
    obtain ⟨S4, b1, b2, b3, b4, b5, b6⟩ := gp_I g1 g2.2 (g9 _ g2.1) (i := 3) (by show 3 < 4; omega) (nI (cs.length + 1))
    have g10 := b6 _ _ g3 g4.2
    obtain ⟨d1, d2, d3⟩ := gp_set b2 g10 (g9 _ g4.1) (EBy cap1 (upd f3 cs.length (nI ch)))
    refine ⟨xSetG S4 q3 (EBy cap1 (upd f3 cs.length (nI ch))), ?_, d1, ⟨fun c hcc => ?_, by omega, g6, q3, x, upd f3 cs.length (nI ch), ⟨g2.1, ?_⟩, g3, ⟨g4.1, d2⟩, fun i => ?_, fun i c hcc => ?_⟩, b3, b4⟩
    · unfold kX_J14_append kX_J13_append
      refine ob1 (g_cls h3.2) (ob1 (v := (_, sb)) ?_ rfl)
      refine ob1 (g_int h3.2 rfl) (ob1 (g_cls h3.2) (ob1 hens (ob1 (g_cls g2.2) ?_)))
      have hl1 : kX_J13_isLatin1 g N S3 sb = some (S3, 1) := by
        unfold kX_J13_isLatin1
        exact oif n10 (ob1 (g_int g2.2 rfl) (oit rfl rfl))
      have hce : kX_J9_canEncode_2 g N (nI ch) = some 1 := by
        unfold kX_J9_canEncode_2
        exact oif (nI_nlt (a := 255) (b := ch) (by omega) (by omega)) rfl
      refine ob1 hl1 (oif n10 (ob1 hce (oif n10 (ob1 (g_obj g2.2 rfl) (ob1 (g_int g2.2 rfl) ?_)))))
      rw [nI_1]
      refine ob1 b1 ?_
      rw [hb1]
      exact ob1 (g_aputI (k := 1) (n := cap1) (f := f3) g10 g5 (by omega)) rfl
    · rcases List.mem_append.mp hcc with z | z
      · exact h0 c z
      · rw [List.mem_singleton.mp z]; exact hc
    · have e : (ESb q3 x (cs ++ [ch]).length) = .inr (11, [Value.ref q3, .int 0, .int x, .int (nI cs.length)].set 3 (.int (nI (cs.length + 1)))) := by rw [hlen]; rfl
      rw [e]
      exact d3 _ _ (fun z => g3 z.symm) b5
    · unfold upd
      by_cases e : i = cs.length
      · rw [if_pos e]; exact hb2
      · rw [if_neg e]; exact g7 i
    · unfold upd
      by_cases e : i = cs.length
      · rw [if_pos e]
        rw [e, List.getElem?_append_right (Nat.le_refl _), Nat.sub_self] at hcc
        have hcc : some ch = some c := hcc
        rw [Option.some.inj hcc]
      · rw [if_neg e]
        have hi : i < cs.length := by
          have := (List.getElem?_eq_some_iff.mp hcc).1
          omega
        rw [List.getElem?_append_left hi] at hcc
        exact g8 i c hcc
  have hpre : ∀ {R : Option XS}, ((if (nI cs.length + 1 - nI cap) ≤ 0 then some S else
      (f_obj S 11 sb 0).bind fun v6 =>
      (f_cls S 11 sb).bind fun u7 =>
      (kX_J13_newCapacity g N S sb (nI cs.length + 1)).bind fun w8 =>
      (f_int w8.1 11 sb 1).bind fun v9 =>
      (kX_J16_copyOf_3 g N w8.1 v6 (w8.2 <<< (v9 &&& 31))).bind fun w10 =>
      (f_putR w10.1 11 sb 0 (some w10.2)).bind fun S11 =>
      some S11) = R) → kX_J13_ensureCapacityInternal g N S sb (nI cs.length + 1) = R := fun hR => by
    unfold kX_J13_ensureCapacityInternal
    refine ob1 (g_obj h3.2 rfl) (ob1 (g_alen h5.2 (by decide)) (ob1 (g_int h3.2 rfl) (onb (sh0 _) hR)))
  by_cases hf : cs.length < cap
  · have hle : nI cs.length + 1 - nI cap ≤ 0 := by
      rw [nI_1, iI_nI, iI_nI, iI_sub, show (0 : Int32) = iI 0 from rfl, iI_le (by unfold yR; omega) (by unfold yR; omega)]
      omega
    obtain ⟨S1, k1, k2, k3, k4, k5⟩ := key S Y q cap f hx0 h3 h4 h5 hf h2 h6 h7 (fun q hq => Or.inl hq) (hpre (oit hle rfl))
    exact ⟨S1, Y, cap, k1, k2, k3, fun q hq => Or.inl hq, Or.inl ⟨rfl, hf, k4, k5⟩⟩
  · have hfull : cs.length = cap := by omega
    have hnle : ¬ nI cs.length + 1 - nI cap ≤ 0 := by
      rw [nI_1, iI_nI, iI_nI, iI_sub, show (0 : Int32) = iI 0 from rfl, iI_le (by unfold yR; omega) (by unfold yR; omega)]
      omega
    obtain ⟨S2, b1, b2, b3, b4, b5, b6⟩ := gp_newI hx0 (n := 2 * cap + 2) (by omega) 1 (by omega) (by omega)
    have hq2 := b6 _ _ h5.2
    have hqt := h5.2.lt_top hW
    have hst := h3.2.lt_top hW
    have hcp : a_cpyB S2 q 0 (xTop S) 0 (nI cap) = some (xSetG S2 (xTop S) (EBy (2 * cap + 2) (va_cpy f (fun _ => 0) 0 0 cap))) := by
      unfold a_cpyB
      rw [g_cell hq2]
      dsimp only [EBy]
      rw [g_cell b5]
      show (if (xOwn S2 (xTop S)).1 = 0 ∧ _ then _ else _) = _
      rw [nI_clamp (by omega), show (0 : Int32).toNatClampNeg = 0 by decide]
      refine if_pos ⟨by rw [b5.1], by decide, by decide, nI_pos (by omega), by omega, by omega, ?_⟩
      rw [List.all_eq_true]
      intro i _
      exact h6 _
    obtain ⟨d1, d2, d3⟩ := gp_set b2 b5 (Or.inr (Nat.le_refl _)) (EBy (2 * cap + 2) (va_cpy f (fun _ => 0) 0 0 cap))
    have hs2 := d3 _ _ (by omega) (b6 _ _ h3.2)
    obtain ⟨S4, e1, e2, e3, e4, e5, e6⟩ := gp_R d1 hs2 (Or.inl h3.1) (i := 0) (by show 0 < 4; omega) (some (xTop S))
    have hnc : kX_J13_newCapacity g N S sb (nI cs.length + 1) = some (S, nI (2 * cap + 2)) := by
      unfold kX_J13_newCapacity
      refine ob1 (g_obj h3.2 rfl) (ob1 (g_alen h5.2 (by decide)) (ob1 (g_int h3.2 rfl) (onb (sl0 _) (onb rfl (ob1 (g_int h3.2 rfl) ?_)))))
      rw [hfull, nI_1]
      refine ob1 (s_newLen g N hcap) (oif ?_ (ob1 (g_int h3.2 rfl) ?_))
      · intro z
        have := (nI_eq (a := 2 * cap + 2) (b := 2147483647) (by omega) (by omega)).mp z
        omega
      · rw [sh0]
    have hco : kX_J16_copyOf_3 g N S q (nI (2 * cap + 2)) = some (xSetG S2 (xTop S) (EBy (2 * cap + 2) (va_cpy f (fun _ => 0) 0 0 cap)), xTop S) := by
      unfold kX_J16_copyOf_3
      refine ob1 (g_alen h5.2 (by decide)) (oif (fun z => by have := (nI_eq (by omega) (by omega)).mp z; omega) (ob1 b1 (ob1 (g_alen hq2 (by decide)) (onb (v := nI cap) (if_neg (nI_nlt (by omega) (by omega))) (ob1 hcp rfl)))))
    have hens : kX_J13_ensureCapacityInternal g N S sb (nI cs.length + 1) = some S4 := by
      refine hpre (oif hnle (ob1 (g_obj h3.2 rfl) (ob1 (g_cls h3.2) (ob1 hnc (ob1 (g_int h3.2 rfl) ?_)))))
      rw [sl0]
      exact ob1 hco (ob1 e1 rfl)
    obtain ⟨S1, k1, k2, k3, k4, k5⟩ := key S4 (fun z => z = sb ∨ z = xTop S) (xTop S) (2 * cap + 2) (va_cpy f (fun _ => 0) 0 0 cap) e2 ⟨Or.inl rfl, e5⟩ (by omega) ⟨Or.inr rfl, e6 _ _ (by omega) d2⟩ (by omega) (by omega) (fun i => by
      unfold va_cpy
      split
      · exact h6 _
      · exact fits0) (fun i c hcc => by
      have hi : i < cs.length := (List.getElem?_eq_some_iff.mp hcc).1
      unfold va_cpy
      rw [if_pos (by omega)]
      have := h7 i c hcc
      simpa using this) (fun z hz => by
      rcases hz with rfl | rfl
      · exact Or.inl h3.1
      · exact Or.inr (Nat.le_refl _)) hens
    have t4 : xTop S4 = xTop S + 1 := e3.trans b3
    have s4 : xSl S4 = xSl S + (2 * cap + 2) := e4.trans b4
    refine ⟨S1, _, 2 * cap + 2, k1, k2, k3, fun z hz => ?_, Or.inr ⟨hfull, rfl, by omega, by omega⟩⟩
    rcases hz with rfl | rfl
    · exact Or.inl h3.1
    · exact Or.inr ⟨Nat.le_refl _, by omega⟩
/-- the thrown object -/
theorem wr_new (h : XE P S0 S) (k : Int32) (r1 : xTop S + 1 ≤ xCc S) (r2 : xSl S + 7 ≤ xCs S) : ∃ S1 S2 fs, xNew S 7 (.inr (9, [.null, .null, .null, .null, .null, .int 0, .int 0])) = some S1 ∧ kX_X6_init g N S1 (xTop S) k = some S2 ∧ XE P S0 S2 ∧ xTop S2 = xTop S + 1 ∧ genAt S2 (xTop S) (.inr (9, fs)) ∧ fs[6]? = some (.int k) ∧ ∀ q e, q ≠ xTop S → genAt S q e → genAt S2 q e := by
  have ht := h.2.1
  obtain ⟨S1, a1, a2, a3, a4, a5, a6⟩ := gp_new h 7 (.inr (9, [.null, .null, .null, .null, .null, .int 0, .int 0])) (by omega) (by omega)
  obtain ⟨S2, b1, b2, b3, b4, b5, b6⟩ := gp_R a2 a5 (Or.inr ht) (i := 0) (by show 0 < 7; omega) (some (xTop S))
  obtain ⟨S3, c1, c2, c3, c4, c5, c6⟩ := gp_R b2 b5 (Or.inr ht) (i := 1) (by show 1 < 7; omega) (gOp g 7)
  obtain ⟨S4, d1, d2, d3, d4, d5, d6⟩ := gp_R c2 c5 (Or.inr ht) (i := 2) (by show 2 < 7; omega) (gOp g 9)
  obtain ⟨S5, e1, e2, e3, e4, e5, e6⟩ := gp_R d2 d5 (Or.inr ht) (i := 1) (by show 1 < 7; omega) none
  obtain ⟨S6, f1, f2, f3, f4, f5, f6⟩ := gp_R e2 e5 (Or.inr ht) (i := 3) (by show 3 < 7; omega) none
  obtain ⟨S7, g1, g2, g3, g4, g5, g6⟩ := gp_R f2 f5 (Or.inr ht) (i := 0) (by show 0 < 7; omega) none
  obtain ⟨S8, i1, i2, i3, i4, i5, i6⟩ := gp_R g2 g5 (Or.inr ht) (i := 2) (by show 2 < 7; omega) none
  obtain ⟨S9, j1, j2, j3, j4, j5, j6⟩ := gp_I i2 i5 (Or.inr ht) (i := 6) (by show 6 < 7; omega) k
  refine ⟨S1, S9, _, a1, ?_, j2, by omega, j5, rfl, fun q e hq he => j6 _ _ hq (i6 _ _ hq (g6 _ _ hq (f6 _ _ hq (e6 _ _ hq (d6 _ _ hq (c6 _ _ hq (b6 _ _ hq (a6 _ _ he))))))))⟩
  unfold kX_X6_init kX_J4_init_2 kX_J3_init_2 kX_J3_init_2_41
  exact ob1 (ob1 (ob1 b1 (ob1 c1 (ob1 d1 (oit rfl (ob1 e1 (ob1 f1 (ob1 g1 (oit rfl (ob1 i1 rfl))))))))) rfl) (ob1 j1 rfl)
end YC26
