/-! plain law: lists: shorter ones, new ones, copies -/
theorem setG_top (S : XS) (q : Nat) (e : GE) : xTop (xSetG S q e) = xTop S := rfl
theorem setG_sl (S : XS) (q : Nat) (e : GE) : xSl (xSetG S q e) = xSl S := rfl
theorem setG_ne {S : XS} {q a : Nat} {e e1 : GE} (h : genAt S a e) (hne : a ≠ q) : genAt (xSetG S q e1) a e := ⟨h.1, (if_neg hne).trans h.2⟩
section LB
variable {g : XC} {N : Nat} {S : XS} {l cap v : Nat} {rs : List Nat} {Y : Nat → Prop}
theorem get_era (rs : List Nat) {i : Nat} (hi : i < rs.length) : va_up (va_cpy (fun i => rs[i]?) (fun i => rs[i]?) (i + 1) i (rs.length - 1 - i)) (rs.length - 1) none = fun k => (rs.eraseIdx i)[k]? := by
  funext k
  rw [List.getElem?_eraseIdx]
  unfold va_up va_cpy
  by_cases e : k = rs.length - 1
  · rw [if_pos e]
    by_cases z : k < i
    · omega
    · rw [if_neg z, List.getElem?_eq_none (by omega)]
  · rw [if_neg e]
    by_cases z : k < i
    · rw [if_pos z, if_neg (by omega)]
    · rw [if_neg z]
      by_cases z2 : i ≤ k ∧ k < i + (rs.length - 1 - i)
      · rw [if_pos z2, show i + 1 + (k - i) = k + 1 by omega]
      · rw [if_neg z2, List.getElem?_eq_none (l := rs) (i := k + 1) (by omega)]
        exact List.getElem?_eq_none (by omega)
theorem get_erl (rs : List Nat) (hi : 0 < rs.length) : va_up (fun i => rs[i]?) (rs.length - 1) none = fun k => (rs.eraseIdx (rs.length - 1))[k]? := by
  funext k
  rw [List.getElem?_eraseIdx]
  unfold va_up
  by_cases e : k = rs.length - 1
  · rw [if_pos e, if_neg (by omega), List.getElem?_eq_none (by omega)]
  · rw [if_neg e]
    by_cases z : k < rs.length - 1
    · rw [if_pos z]
    · rw [if_neg z, List.getElem?_eq_none (l := rs) (i := k + 1) (by omega)]
      exact List.getElem?_eq_none (by omega)
theorem l_rem34 {mc : Int32} {ba k : Nat} {f : Nat → Option Nat} (p1 : genAt S l (EL mc ba (k + 1))) (p2 : genAt S ba (EA cap f)) (hne : ba ≠ l) (hk : k < cap) (hc : cap < 2 ^ 22) : kX_J2_fastRemove_34 g N S l ba (nI k) = some (xSetG (xSetG S l (EL mc ba k)) ba (EA cap (va_up f k none))) := by
  unfold kX_J2_fastRemove_34
  have p3 : genAt (xSetG S l (EL mc ba k)) ba (EA cap f) := setG_ne p2 hne
  exact ob1 (g_putI p1 (by show 2 < 3; omega)) (ob1 (g_aputR p3 hk (by omega)) rfl)
theorem nI_m {k : Nat} (h : 0 < k) : nI k - 1 = nI (k - 1) := by
  have e0 : nI (k - 1) + 1 = nI k := by
    rw [nI_1]
    congr 1
    omega
  rw [← e0]
  exact Int32.add_sub_cancel _ _
/-- what a list is after one has gone -/
def LRem (g : XC) (N : Nat) (Y : Nat → Prop) (S : XS) (l ba : Nat) (rs : List Nat) (cap i : Nat) (mc : Int32) : Prop := ∃ S1, kX_J2_fastRemove g N S l ba (nI i) = some S1 ∧ XE Y S S1 ∧ xTop S1 = xTop S ∧ xSl S1 = xSl S ∧ genAt S1 l (EL (mc + 1) ba (rs.length - 1)) ∧ genAt S1 ba (EA cap (fun k => (rs.eraseIdx i)[k]?))
section LR
variable {ba : Nat} {mc : Int32} {i : Nat}
theorem l_fastA (hW : WFr S) (h1 : gz Y S l (EL mc ba rs.length)) (h3 : ba ≠ l) (h4 : rs.length ≤ cap) (h5 : cap < 2 ^ 22) (h6 : gz Y S ba (EA cap (fun i => rs[i]?))) (hi : i < rs.length) (hz : i = rs.length - 1) : LRem g N Y S l ba rs cap i mc := by
  have w2 : XE Y S (xSetG S l (EL (mc + 1) ba rs.length)) := setG_XE hW h1.2 h1.1
  have a2 : genAt (xSetG S l (EL (mc + 1) ba rs.length)) l (EL (mc + 1) ba rs.length) := setG_at h1.2
  have b2 : genAt (xSetG S l (EL (mc + 1) ba rs.length)) ba (EA cap (fun i => rs[i]?)) := setG_ne h6.2 h3
  have q1 := l_rem34 (g := g) (N := N) (S := xSetG S l (EL (mc + 1) ba rs.length)) (k := rs.length - 1) (by rw [show rs.length - 1 + 1 = rs.length by omega]; exact a2) b2 h3 (by omega) h5
  rw [get_erl rs (by omega)] at q1
  have a3 : genAt (xSetG (xSetG S l (EL (mc + 1) ba rs.length)) l (EL (mc + 1) ba (rs.length - 1))) l (EL (mc + 1) ba (rs.length - 1)) := setG_at a2
  have b3 : genAt (xSetG (xSetG S l (EL (mc + 1) ba rs.length)) l (EL (mc + 1) ba (rs.length - 1))) ba (EA cap (fun i => rs[i]?)) := setG_ne b2 h3
  have w3 := w2.trans (setG_XE w2.1 a2 (e := EL (mc + 1) ba (rs.length - 1)) (P := Y) h1.1) (fun _ _ z => z)
  rw [hz]
  have w4 : XE Y S (xSetG (xSetG (xSetG S l (EL (mc + 1) ba rs.length)) l (EL (mc + 1) ba (rs.length - 1))) ba (EA cap (fun k => (rs.eraseIdx (rs.length - 1))[k]?))) := w3.trans (setG_XE w3.1 b3 (P := Y) h6.1) (fun _ _ z => z)
  have a4 : genAt (xSetG (xSetG (xSetG S l (EL (mc + 1) ba rs.length)) l (EL (mc + 1) ba (rs.length - 1))) ba (EA cap (fun k => (rs.eraseIdx (rs.length - 1))[k]?))) l (EL (mc + 1) ba (rs.length - 1)) := setG_ne a3 (fun z => h3 z.symm)
  have b4 : genAt (xSetG (xSetG (xSetG S l (EL (mc + 1) ba rs.length)) l (EL (mc + 1) ba (rs.length - 1))) ba (EA cap (fun k => (rs.eraseIdx (rs.length - 1))[k]?))) ba (EA cap (fun k => (rs.eraseIdx (rs.length - 1))[k]?)) := setG_at b3
  refine ⟨_, ?_, w4, by rw [setG_top, setG_top, setG_top], by rw [setG_sl, setG_sl, setG_sl], a4, b4⟩
  unfold kX_J2_fastRemove
  refine ob1 (g_int h1.2 rfl) (ob1 (g_putI h1.2 (by show 0 < 3; omega)) (ob1 (g_int a2 rfl) (onb (nI_m (by omega)) (oit ?_ q1))))
  rw [nI_m (by omega)]
  exact nI_le (Nat.le_refl _) (by omega)
theorem l_cpy (a2 : genAt S ba (EA cap (fun i => rs[i]?))) (h2 : ¬ (ba = gSp g 0 ∨ ba = gSp g 1)) (h4 : rs.length ≤ cap) (h5 : cap < 2 ^ 22) (hi : i < rs.length) (hrs : ∀ r ∈ rs, v_any g S r = some ()) : a_cpyR g S ba (nI i + 1) ba (nI i) (nI (rs.length - 1) - nI i) = some (xSetG S ba (EA cap (va_cpy (fun i => rs[i]?) (fun i => rs[i]?) (i + 1) i (rs.length - 1 - i)))) := by
  have e1 : nI i + 1 = nI (i + 1) := nI_1 i
  have e2 : nI (rs.length - 1) - nI i = nI (rs.length - 1 - i) := by rw [iI_nI, iI_nI, iI_nI, iI_sub]; congr 1; omega
  have c1 : (nI (i + 1)).toNatClampNeg = i + 1 := nI_clamp (by omega)
  have c2 : (nI i).toNatClampNeg = i := nI_clamp (by omega)
  have c3 : (nI (rs.length - 1 - i)).toNatClampNeg = rs.length - 1 - i := nI_clamp (by omega)
  rw [e1, e2]
  unfold a_cpyR r_src
  rw [if_neg h2, g_cell a2]
  refine ob1 rfl ?_
  refine (if_pos ?_).trans ?_
  rotate_left
  · rw [c1, c2, c3]
    rfl
  · rw [c1, c2, c3]
    refine ⟨by rw [a2.1], nI_pos (by omega), nI_pos (by omega), nI_pos (by omega), by omega, by omega, ?_⟩
    unfold v_anys
    rw [List.all_eq_true]
    intro j hj
    dsimp only
    cases hri : rs[j]? with
    | none => rfl
    | some y =>
      have h8 := hrs y (List.mem_of_getElem? hri)
      dsimp only
      rw [h8]
      rfl
theorem l_fastB (hW : WFr S) (hrs : ∀ r ∈ rs, v_any g S r = some () ∧ r ≠ l) (h1 : gz Y S l (EL mc ba rs.length)) (h2 : ¬ (ba = gSp g 0 ∨ ba = gSp g 1)) (h3 : ba ≠ l) (h4 : rs.length ≤ cap) (h5 : cap < 2 ^ 22) (h6 : gz Y S ba (EA cap (fun i => rs[i]?))) (hi : i < rs.length) (hz : i ≠ rs.length - 1) : LRem g N Y S l ba rs cap i mc := by
  have w2 : XE Y S (xSetG S l (EL (mc + 1) ba rs.length)) := setG_XE hW h1.2 h1.1
  have a2 : genAt (xSetG S l (EL (mc + 1) ba rs.length)) l (EL (mc + 1) ba rs.length) := setG_at h1.2
  have b2 : genAt (xSetG S l (EL (mc + 1) ba rs.length)) ba (EA cap (fun i => rs[i]?)) := setG_ne h6.2 h3
  have hcp := l_cpy (g := g) (i := i) b2 h2 h4 h5 hi (fun r hr => any_setG (hrs r hr).1 (hrs r hr).2)
  have w3 := w2.trans (setG_XE w2.1 b2 (e := EA cap (va_cpy (fun i => rs[i]?) (fun i => rs[i]?) (i + 1) i (rs.length - 1 - i))) (P := Y) h6.1) (fun _ _ z => z)
  have a3 : genAt (xSetG (xSetG S l (EL (mc + 1) ba rs.length)) ba (EA cap (va_cpy (fun i => rs[i]?) (fun i => rs[i]?) (i + 1) i (rs.length - 1 - i)))) l (EL (mc + 1) ba rs.length) := setG_ne a2 (fun z => h3 z.symm)
  have b3 := setG_at (e := EA cap (va_cpy (fun i => rs[i]?) (fun i => rs[i]?) (i + 1) i (rs.length - 1 - i))) b2
  have q1 := l_rem34 (g := g) (N := N) (S := xSetG (xSetG S l (EL (mc + 1) ba rs.length)) ba (EA cap (va_cpy (fun i => rs[i]?) (fun i => rs[i]?) (i + 1) i (rs.length - 1 - i)))) (k := rs.length - 1) (by rw [show rs.length - 1 + 1 = rs.length by omega]; exact a3) b3 h3 (by omega) h5
  rw [get_era rs hi] at q1
  have hst : kX_J2_fastRemove g N S l ba (nI i) = kX_J2_fastRemove_34 g N (xSetG (xSetG S l (EL (mc + 1) ba rs.length)) ba (EA cap (va_cpy (fun i => rs[i]?) (fun i => rs[i]?) (i + 1) i (rs.length - 1 - i)))) l ba (nI (rs.length - 1)) := by
    unfold kX_J2_fastRemove
    refine ob1 (g_int h1.2 rfl) (ob1 (g_putI h1.2 (by show 0 < 3; omega)) (ob1 (g_int a2 rfl) (onb (nI_m (by omega)) (oif ?_ (ob1 hcp rfl)))))
    rw [nI_m (by omega)]
    exact nI_ge (by omega) (by omega)
  rw [q1] at hst
  have t3 := setG_top (xSetG S l (EL (mc + 1) ba rs.length)) ba (EA cap (va_cpy (fun i => rs[i]?) (fun i => rs[i]?) (i + 1) i (rs.length - 1 - i)))
  have u3 := setG_sl (xSetG S l (EL (mc + 1) ba rs.length)) ba (EA cap (va_cpy (fun i => rs[i]?) (fun i => rs[i]?) (i + 1) i (rs.length - 1 - i)))
  replace t3 := t3.trans (setG_top S l _)
  replace u3 := u3.trans (setG_sl S l _)
  generalize xSetG (xSetG S l (EL (mc + 1) ba rs.length)) ba (EA cap (va_cpy (fun i => rs[i]?) (fun i => rs[i]?) (i + 1) i (rs.length - 1 - i))) = S3 at w3 a3 b3 t3 u3 hst
  have w4 : XE Y S (xSetG S3 l (EL (mc + 1) ba (rs.length - 1))) := w3.trans (setG_XE w3.1 a3 (e := EL (mc + 1) ba (rs.length - 1)) (P := Y) h1.1) (fun _ _ z => z)
  have a4 : genAt (xSetG S3 l (EL (mc + 1) ba (rs.length - 1))) l (EL (mc + 1) ba (rs.length - 1)) := setG_at a3
  have b4 := setG_ne (e1 := EL (mc + 1) ba (rs.length - 1)) b3 h3
  have t4 := setG_top S3 l (EL (mc + 1) ba (rs.length - 1))
  have u4 := setG_sl S3 l (EL (mc + 1) ba (rs.length - 1))
  generalize xSetG S3 l (EL (mc + 1) ba (rs.length - 1)) = S4 at w4 a4 b4 t4 u4 hst
  have w5 : XE Y S (xSetG S4 ba (EA cap (fun k => (rs.eraseIdx i)[k]?))) := w4.trans (setG_XE w4.1 b4 (P := Y) h6.1) (fun _ _ z => z)
  exact ⟨_, hst, w5, by rw [setG_top, t4, t3], by rw [setG_sl, u4, u3], setG_ne a4 (fun z => h3 z.symm), setG_at b4⟩
end LR
theorem l_remove (h : ListC g Y S l rs cap) (hW : WFr S) (hrs : ∀ r ∈ rs, v_any g S r = some () ∧ r ≠ l) {i r : Nat} (hr : rs[i]? = some r) : ∃ S1, kX_J2_remove g N S l (nI i) = some (S1, r) ∧ XE Y S S1 ∧ xTop S1 = xTop S ∧ xSl S1 = xSl S ∧ ListC g Y S1 l (rs.eraseIdx i) cap := by
  have hi : i < rs.length := (List.getElem?_eq_some_iff.mp hr).1
  obtain ⟨h0, mc, ba, h1, h2⟩ := h
  rcases h2 with ⟨h2, -, -⟩ | ⟨h2, h3, h4, h5, h6⟩
  · rw [h2] at hi
    exact absurd hi (by simp)
  have hge : (rs.eraseIdx i).length = rs.length - 1 := by
    rw [List.length_eraseIdx]
    simp [hi]
  have hfr : LRem g N Y S l ba rs cap i mc := by
    by_cases hz : i = rs.length - 1
    · exact l_fastA hW h1 h3 h4 h5 h6 hi hz
    · exact l_fastB hW hrs h1 h2 h3 h4 h5 h6 hi hz
  obtain ⟨S1, k1, k2, k3, k4, k5, k6⟩ := hfr
  have hl1 : (rs.eraseIdx i).length < 2 ^ 20 := by rw [hge]; exact Nat.lt_of_le_of_lt (Nat.sub_le _ _) h0
  have hl2 : (rs.eraseIdx i).length ≤ cap := by rw [hge]; exact Nat.le_trans (Nat.sub_le _ _) h4
  refine ⟨S1, ?_, k2, k3, k4, hl1, mc + 1, ba, ⟨h1.1, by rw [hge]; exact k5⟩, Or.inr ⟨h2, h3, hl2, h5, h6.1, k6⟩⟩
  unfold kX_J2_remove kX_J17_checkIndex kX_J11_checkIndex
  refine ob1 (g_int h1.2 rfl) (ob1 (v := (S, nI i)) (ob1 (v := (S, nI i)) (oif (nI_pos (by omega)) (oit (nI_lt hi (by omega)) rfl)) rfl) ?_)
  refine ob1 (g_obj h1.2 rfl) (ob1 (v := r) ?_ (ob1 (g_cls h1.2) (ob1 k1 rfl)))
  exact g_aobj h6.2 (by omega) (by omega) hr
/-- a new list -/
def ELn : GE := .inr (10, [.int 0, .null, .int 0])
theorem l_new (hW : WFr S) (hsp : gSp g 0 < xTop S ∧ gSp g 1 < xTop S) : ∃ S1, kX_J2_init g N (newS S 3 ELn) (xTop S) = some S1 ∧ XE (fun _ => False) S S1 ∧ xTop S1 = xTop S + 1 ∧ xSl S1 = xSl S + 3 ∧ ListC g (fun q => q = xTop S) S1 (xTop S) [] 0 := by
  have a1 := newS_at S 3 ELn
  have w1 := newS_XE hW 3 ELn (fun q => xTop S ≤ q)
  have a2 := setG_at (e := .inr (10, [.int 0, .null, .int 0])) a1
  have w2 := w1.trans (setG_XE w1.1 a1 (e := .inr (10, [.int 0, .null, .int 0])) (P := fun q => xTop S ≤ q) (Nat.le_refl _)) (fun _ _ z => z)
  have w3 := w2.trans (setG_XE w2.1 a2 (e := EL 0 (gSp g 0) 0) (P := fun q => xTop S ≤ q) (Nat.le_refl _)) (fun _ _ z => z)
  refine ⟨xSetG (xSetG (newS S 3 ELn) (xTop S) (.inr (10, [.int 0, .null, .int 0]))) (xTop S) (EL 0 (gSp g 0) 0), ?_, w3.mono (fun q hq z => absurd hq (by omega)), rfl, rfl, by decide, 0, gSp g 0, ⟨rfl, setG_at a2⟩, Or.inl ⟨rfl, rfl, Or.inl rfl⟩⟩
  unfold kX_J2_init kX_J1_init kX_J0_init
  exact ob1 (ob1 rfl (ob1 (g_putI a1 (by show 0 < 3; omega)) rfl)) (ob1 (g_putR a2 (by show 1 < 3; omega)) rfl)
theorem l_copyOf0 {ba n : Nat} (h3 : ba = gSp g 0 ∨ ba = gSp g 1) (hn : n < 2 ^ 22) (hr1 : xTop S + 1 ≤ xCc S) (hr2 : xSl S + n ≤ xCs S) : kX_J16_copyOf g N S ba (nI n) = some (xSetG (newS S n (EA n (fun _ => none))) (xTop S) (EA n (fun i => ([] : List Nat)[i]?)), xTop S) := by
  have p5 : genAt (newS S n (EA n (fun _ => none))) (xTop S) (EA n (fun _ => none)) := newS_at S n _
  have h00 : (0 : Int32).toNatClampNeg = 0 := by decide
  have hcp : a_cpyR g (newS S n (EA n (fun _ => none))) ba 0 (xTop S) 0 0 = some (xSetG (newS S n (EA n (fun _ => none))) (xTop S) (EA n (fun i => ([] : List Nat)[i]?))) := by
    unfold a_cpyR r_src
    rw [if_pos h3]
    refine ob1 rfl ?_
    rw [g_cell p5]
    refine (if_pos ?_).trans ?_
    · rw [h00]
      exact ⟨by rw [p5.1], by decide, by decide, by decide, by decide, by omega, by rfl⟩
    · have e3 : va_cpy (fun _ => none) (fun _ => none) (0 : Int32).toNatClampNeg (0 : Int32).toNatClampNeg (0 : Int32).toNatClampNeg = (fun i => ([] : List Nat)[i]?) := by
        funext k
        unfold va_cpy
        rw [List.getElem?_nil]
        split <;> rfl
      rw [e3]
      rfl
  unfold kX_J16_copyOf kX_J16_copyOf_2
  refine ob1 (v := ()) (by unfold o_arr; exact if_pos h3) (ob1 (v := (_, xTop S)) ?_ rfl)
  refine oit rfl (ob1 (x_newR (n := n) (by omega) hr1 hr2) ?_)
  refine ob1 (v := 0) (by unfold o_len; exact if_pos h3) (onb (v := 0) (if_neg ?_) (ob1 hcp rfl))
  exact nI_pos (by omega)
/-- a list like another: where it lies, a new one -/
theorem l_copy (h : ListC g Y S l rs cap) (hW : WFr S) (hsp : gSp g 0 < xTop S ∧ gSp g 1 < xTop S) (hrs : ∀ r ∈ rs, v_any g S r = some ()) (r1 : xTop S + 2 ≤ xCc S) (r2 : xSl S + 3 + rs.length ≤ xCs S) : ∃ S1, kX_J2_init_2 g N (newS S 3 ELn) (xTop S) l = some S1 ∧ XE (fun _ => False) S S1 ∧ xTop S1 = xTop S + 2 ∧ xSl S1 = xSl S + 3 + rs.length ∧ ∃ cap1, ListC g (fun q => q = xTop S ∨ q = xTop S + 1) S1 (xTop S) rs cap1 := by
  obtain ⟨h0, mc, ba, h1, h2⟩ := h
  have hl : l < xTop S := hW.2 l _ (g_cell h1.2)
  have a1 : genAt (newS S 3 ELn) (xTop S) ELn := newS_at S 3 ELn
  have w1 := newS_XE hW 3 ELn (fun q => xTop S ≤ q)
  have hl1 : genAt (newS S 3 ELn) l (EL mc ba rs.length) := ⟨(newS_own S 3 ELn (Nat.ne_of_lt hl)).trans h1.2.1, (if_neg (Nat.ne_of_lt hl)).trans h1.2.2⟩
  have hany : ∀ r ∈ rs, v_any g (newS S 3 ELn) r = some () := fun r hr => any_new hW (hrs r hr)
  have hba : ∀ e, genAt S ba e → ba < xTop S ∧ genAt (newS S 3 ELn) ba e := fun e he => by
    have hb : ba < xTop S := hW.2 ba _ (g_cell he)
    exact ⟨hb, (newS_own S 3 ELn (Nat.ne_of_lt hb)).trans he.1, (if_neg (Nat.ne_of_lt hb)).trans he.2⟩
  have a2 : genAt (xSetG (newS S 3 ELn) (xTop S) ELn) (xTop S) ELn := setG_at a1
  have w2 := w1.trans (setG_XE w1.1 a1 (e := ELn) (P := fun q => xTop S ≤ q) (Nat.le_refl _)) (fun _ _ z => z)
  have l2 : genAt (xSetG (newS S 3 ELn) (xTop S) ELn) l (EL mc ba rs.length) := setG_ne hl1 (Nat.ne_of_lt hl)
  have any2 : ∀ r ∈ rs, v_any g (xSetG (newS S 3 ELn) (xTop S) ELn) r = some () := fun r hr => any_top hW (hrs r hr)
  have ba2 : ∀ e, genAt S ba e → ba < xTop S ∧ genAt (xSetG (newS S 3 ELn) (xTop S) ELn) ba e := fun e he => ⟨(hba e he).1, setG_ne (hba e he).2 (Nat.ne_of_lt (hba e he).1)⟩
  have tt : xTop (xSetG (newS S 3 ELn) (xTop S) ELn) = xTop S + 1 := rfl
  have uu : xSl (xSetG (newS S 3 ELn) (xTop S) ELn) = xSl S + 3 := rfl
  have cc : xCc (xSetG (newS S 3 ELn) (xTop S) ELn) = xCc S := rfl
  have cs : xCs (xSetG (newS S 3 ELn) (xTop S) ELn) = xCs S := rfl
  have hstart : ∀ R : Option XS, ((f_cls (xSetG (newS S 3 ELn) (xTop S) ELn) 10 l).bind fun _ => (kX_J2_toArray g N (xSetG (newS S 3 ELn) (xTop S) ELn) l).bind fun w3 => (o_len g w3.1 w3.2).bind fun v4 => (f_putI w3.1 10 (xTop S) 2 v4).bind fun S5 => if v4 = 0 then (f_putR S5 10 (xTop S) 1 (some (gSp g 1))).bind fun S7 => some S7 else (f_cls S5 10 l).bind fun _ => if (gSp g 4) = (gSp g 4) then (f_putR S5 10 (xTop S) 1 (some w3.2)).bind fun S13 => some S13 else (f_int S5 10 (xTop S) 2).bind fun v10 => (kX_J16_copyOf_2 g N S5 w3.2 v10 (gSp g 3)).bind fun w11 => (f_putR w11.1 10 (xTop S) 1 (some w11.2)).bind fun S12 => some S12) = R → kX_J2_init_2 g N (newS S 3 ELn) (xTop S) l = R := fun R hR => by
    unfold kX_J2_init_2 kX_J1_init kX_J0_init
    exact ob1 (ob1 rfl (ob1 (g_putI a1 (by show 0 < 3; omega)) rfl)) hR
  clear hba hany hl1 w1 a1
  generalize xSetG (newS S 3 ELn) (xTop S) ELn = S2 at *
  have hc : ∃ S3, kX_J16_copyOf g N S2 ba (nI rs.length) = some (S3, xTop S + 1) ∧ XE (fun q => xTop S ≤ q) S S3 ∧ xTop S3 = xTop S + 2 ∧ xSl S3 = xSl S + 3 + rs.length ∧ genAt S3 (xTop S) ELn ∧ genAt S3 l (EL mc ba rs.length) ∧ genAt S3 (xTop S + 1) (EA rs.length (fun i => rs[i]?)) := by
    have q5 : genAt (newS S2 rs.length (EA rs.length (fun _ => none))) (xTop S2) (EA rs.length (fun _ => none)) := newS_at S2 _ _
    have w3 : XE (fun q => xTop S ≤ q) S (newS S2 rs.length (EA rs.length (fun _ => none))) := w2.trans (newS_XE w2.1 rs.length (EA rs.length (fun _ => none)) (fun q => xTop S ≤ q)) (fun _ _ z => z)
    have w4 : XE (fun q => xTop S ≤ q) S (xSetG (newS S2 rs.length (EA rs.length (fun _ => none))) (xTop S2) (EA rs.length (fun i => rs[i]?))) := w3.trans (setG_XE w3.1 q5 (P := fun q => xTop S ≤ q) (by omega)) (fun _ _ z => z)
    have hold : ∀ q e, q < xTop S2 → genAt S2 q e → genAt (xSetG (newS S2 rs.length (EA rs.length (fun _ => none))) (xTop S2) (EA rs.length (fun i => rs[i]?))) q e := fun q e hq he => by
      have h7 : genAt (newS S2 rs.length (EA rs.length (fun _ => none))) q e := ⟨(newS_own S2 _ _ (Nat.ne_of_lt hq)).trans he.1, (if_neg (Nat.ne_of_lt hq)).trans he.2⟩
      exact setG_ne h7 (Nat.ne_of_lt hq)
    have t5 := setG_top (newS S2 rs.length (EA rs.length (fun _ => none))) (xTop S2) (EA rs.length (fun i => rs[i]?))
    have u5 := setG_sl (newS S2 rs.length (EA rs.length (fun _ => none))) (xTop S2) (EA rs.length (fun i => rs[i]?))
    have t6 : xTop (newS S2 rs.length (EA rs.length (fun _ => none))) = xTop S2 + 1 := rfl
    have u6 : xSl (newS S2 rs.length (EA rs.length (fun _ => none))) = xSl S2 + rs.length := rfl
    have hat : genAt (xSetG (newS S2 rs.length (EA rs.length (fun _ => none))) (xTop S2) (EA rs.length (fun i => rs[i]?))) (xTop S + 1) (EA rs.length (fun i => rs[i]?)) := by
      rw [← tt]
      exact setG_at q5
    refine ⟨xSetG (newS S2 rs.length (EA rs.length (fun _ => none))) (xTop S2) (EA rs.length (fun i => rs[i]?)), ?_, w4, by omega, by omega, hold _ _ (by omega) a2, hold _ _ (by omega) l2, hat⟩
    rcases h2 with ⟨h2, -, h3⟩ | ⟨h2, h3, h4, h5, h6⟩
    · rw [h2]
      have := l_copyOf0 (g := g) (N := N) (S := S2) (n := 0) h3 (by decide) (by omega) (by rw [h2] at r2; simp at r2; omega)
      rw [← tt]
      exact this
    · have hb := ba2 _ h6.2
      rw [← tt]
      exact l_copyOf (N := N) (S := S2) (n := rs.length) h2 hb.2 (Nat.lt_trans hb.1 (by omega)) (Nat.le_refl _) h5 (by omega) h4 (Or.inl h4) (fun _ => rfl) (fun r hr => any_new w2.1 (any2 r hr)) (by omega) (by omega)
  obtain ⟨S3, k1, k2, k3, k4, k5, k6, k7⟩ := hc
  have hsp2 : ¬ (xTop S + 1 = gSp g 0 ∨ xTop S + 1 = gSp g 1) := by omega
  have w5 := k2.trans (setG_XE k2.1 k5 (e := .inr (10, [.int 0, .null, .int (nI rs.length)])) (P := fun q => xTop S ≤ q) (Nat.le_refl _)) (fun _ _ z => z)
  have a5 : genAt (xSetG S3 (xTop S) (.inr (10, [.int 0, .null, .int (nI rs.length)]))) (xTop S) (.inr (10, [.int 0, .null, .int (nI rs.length)])) := setG_at k5
  have l5 := setG_ne (e1 := .inr (10, [.int 0, .null, .int (nI rs.length)])) k6 (Nat.ne_of_lt hl)
  have b5 := setG_ne (e1 := .inr (10, [.int 0, .null, .int (nI rs.length)])) k7 (show xTop S + 1 ≠ xTop S by omega)
  have t5 := setG_top S3 (xTop S) (.inr (10, [.int 0, .null, .int (nI rs.length)]))
  have u5 := setG_sl S3 (xTop S) (.inr (10, [.int 0, .null, .int (nI rs.length)]))
  have p5 : f_putI S3 10 (xTop S) 2 (nI rs.length) = some (xSetG S3 (xTop S) (.inr (10, [.int 0, .null, .int (nI rs.length)]))) := g_putI k5 (by show 2 < 3; omega)
  have hlen : o_len g S3 (xTop S + 1) = some (nI rs.length) := by
    unfold o_len
    rw [if_neg hsp2]
    exact g_alen k7 (by decide)
  have hgo : ∀ R : Option XS, (if nI rs.length = 0 then (f_putR (xSetG S3 (xTop S) (.inr (10, [.int 0, .null, .int (nI rs.length)]))) 10 (xTop S) 1 (some (gSp g 1))).bind fun S7 => some S7 else (f_cls (xSetG S3 (xTop S) (.inr (10, [.int 0, .null, .int (nI rs.length)]))) 10 l).bind fun _ => (f_putR (xSetG S3 (xTop S) (.inr (10, [.int 0, .null, .int (nI rs.length)]))) 10 (xTop S) 1 (some (xTop S + 1))).bind fun S13 => some S13) = R → kX_J2_init_2 g N (newS S 3 ELn) (xTop S) l = R := fun R hR => by
    refine hstart R (ob1 (g_cls l2) (ob1 (v := (S3, xTop S + 1)) ?_ (ob1 hlen (ob1 p5 ?_))))
    · unfold kX_J2_toArray
      exact ob1 (g_obj l2 rfl) (ob1 (g_int l2 rfl) (ob1 k1 rfl))
    · rw [← hR]
      by_cases z : nI rs.length = 0
      · rw [if_pos z, if_pos z]
      · rw [if_neg z, if_neg z]
        refine ob1 (g_cls l5) (oit rfl ?_)
        rw [g_cls l5]
        rfl
  by_cases hz : rs = []
  · subst hz
    have w6 := w5.trans (setG_XE w5.1 a5 (e := EL 0 (gSp g 1) 0) (P := fun q => xTop S ≤ q) (Nat.le_refl _)) (fun _ _ z => z)
    refine ⟨_, hgo _ (oit rfl (ob1 (g_putR a5 (by show 1 < 3; omega)) rfl)), w6.mono (fun q hq z => absurd hq (by omega)), by rw [setG_top, t5, k3], by rw [setG_sl, u5, k4], 0, by simp, 0, gSp g 1, ⟨Or.inl rfl, setG_at a5⟩, Or.inl ⟨rfl, rfl, Or.inr rfl⟩⟩
  · have hlp : 0 < rs.length := List.length_pos_iff.mpr hz
    have hne1 : xTop S + 1 ≠ xTop S := by omega
    have h22 : rs.length < 2 ^ 22 := by omega
    have w6 := w5.trans (setG_XE w5.1 a5 (e := EL 0 (xTop S + 1) rs.length) (P := fun q => xTop S ≤ q) (Nat.le_refl _)) (fun _ _ z => z)
    refine ⟨_, hgo _ (oif ?_ (ob1 (g_cls l5) (ob1 (g_putR (v := some (xTop S + 1)) a5 (by show 1 < 3; omega)) rfl))), w6.mono (fun q hq z => absurd hq (by omega)), by rw [setG_top, t5, k3], by rw [setG_sl, u5, k4], rs.length, h0, 0, xTop S + 1, ⟨Or.inl rfl, setG_at a5⟩, Or.inr ⟨hsp2, hne1, Nat.le_refl _, h22, Or.inr rfl, setG_ne b5 hne1⟩⟩
    intro z
    have := (nI_eq (a := rs.length) (b := 0) (by omega) (by omega)).mp z
    omega
end LB
