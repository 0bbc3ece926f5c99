/-! a new object, made by its constructor in the general map, is taken into the typed tables: nothing of the heap changes -/
def x_isA (c k : Nat) : Bool := x_kd c k == 1 || x_kd c k == 3
theorem x_isA_iff {c k : Nat} : x_isA c k = true ↔ x_kd c k = 1 ∨ x_kd c k = 3 := by simp [x_isA]
def x_rf (fs : List Value) (k : Nat) : Option Nat := match fs[k]? with
  | some (.ref r) => some r
  | _ => none
def x_arr (S : XS) (r : Nat) : Nat → Int32 := match xG S r with
  | some (.inl (_, _, .inl f)) => f
  | _ => fun _ => 0
def x_fit (S : XS) (c : Nat) (fs : List Value) (k : Nat) : Bool := match fs[k]? with
  | some (.int _) => x_kd c k != 2 && !x_isA c k
  | some .null => x_kd c k == 2
  | some (.ref r) => if x_isA c k = true then (decide (xOwn S r = (0, 0, 0)) && (match xG S r with
      | some (.inl (t, n, .inl _)) => decide (t = x_ak c k ∧ n = x_len c k)
      | _ => false) && (List.range (x_N c)).all (fun j => decide (j = k ∨ ¬ x_isA c j = true ∨ x_rf fs j ≠ some r))) else x_kd c k == 2
  | _ => false
def x_who (c : Nat) (fs : List Value) (q : Nat) : Option Nat := (List.range (x_N c)).find? (fun k => x_isA c k && decide (x_rf fs k = some q))
def x_adopt (S : XS) (c a : Nat) : Option XS := match xG S a with
  | some (.inr (c', fs)) => if c' = c ∧ xOwn S a = (0, 0, 0) ∧ 0 < c ∧ c < 10 ∧ fs.length = x_N c ∧ (List.range (x_N c)).all (x_fit S c fs) = true then
      some (S.1,
        (fun b j => if b = a then (match fs[j]? with
          | some (.int v) => v
          | _ => 0) else xI S b j),
        (fun b j => if b = a then x_rf fs j else xR S b j),
        (fun b j => if b = a then x_arr S ((x_rf fs j).getD 0) else xA S b j),
        (fun q => if q = a then (c, 0, 0) else match x_who c fs q with
          | some k => (c + 10, a, k)
          | none => xOwn S q),
        (fun b j => if b = a then (x_rf fs j).getD 0 else xRa S b j),
        xG S)
      else none
  | _ => none
theorem x_who_s {c q k : Nat} {fs : List Value} (h : x_who c fs q = some k) : k < x_N c ∧ x_isA c k = true ∧ x_rf fs k = some q := by
  unfold x_who at h
  have h1 := List.find?_some h
  have h2 := List.mem_of_find?_eq_some h
  simp only [Bool.and_eq_true, decide_eq_true_eq] at h1
  exact ⟨List.mem_range.mp h2, h1.1, h1.2⟩
theorem x_who_n {c q : Nat} {fs : List Value} (h : x_who c fs q = none) {k : Nat} (hk : k < x_N c) (ha : x_isA c k = true) : x_rf fs k ≠ some q := by
  intro e
  unfold x_who at h
  have h1 := List.find?_eq_none.mp h k (List.mem_range.mpr hk)
  simp [ha, e] at h1
/-- an own array's entry fits -/
theorem x_fit_a {S : XS} {c k : Nat} {fs : List Value} (h : x_fit S c fs k = true) (ha : x_isA c k = true) : ∃ r f, x_rf fs k = some r ∧ xOwn S r = (0, 0, 0) ∧ xG S r = some (.inl (x_ak c k, x_len c k, .inl f)) ∧ ∀ j, j < x_N c → j ≠ k → x_isA c j = true → x_rf fs j ≠ some r := by
  unfold x_fit at h
  split at h
  · simp [ha] at h
  · exfalso
    rcases x_isA_iff.mp ha with e | e <;> simp [e] at h
  · rename_i r hr
    rw [if_pos ha] at h
    simp only [Bool.and_eq_true, decide_eq_true_eq] at h
    obtain ⟨⟨h1, h2⟩, h3⟩ := h
    split at h2
    · rename_i t n f hg
      simp only [decide_eq_true_eq] at h2
      obtain ⟨rfl, rfl⟩ := h2
      refine ⟨r, f, by unfold x_rf; rw [hr], h1, hg, fun j hj hjk hja e => ?_⟩
      have h4 := List.all_eq_true.mp h3 j (List.mem_range.mpr hj)
      simp only [decide_eq_true_eq] at h4
      rcases h4 with h4 | h4 | h4
      · exact hjk h4
      · exact h4 hja
      · exact h4 e
    · cases h2
  · cases h
theorem x_kd_big {c k : Nat} (h : x_isA c k = true ∨ x_kd c k = 2) : k < x_N c := by
  have h0 : x_kd c k ≠ 0 := by
    rcases h with h | h
    · rcases x_isA_iff.mp h with e | e <;> omega
    · omega
  clear h
  unfold x_kd at h0
  split at h0 <;> first | decide | exact absurd rfl h0
theorem x_adopt_s {S S1 : XS} {c a : Nat} (hW : xWF S) (h : x_adopt S c a = some S1) : (∀ q, x_cell S1 q = x_cell S q) ∧ xWF S1 ∧ S1.1 = S.1 := by
  unfold x_adopt at h
  split at h
  · rename_i c' fs hg
    by_cases h9 : c' = c ∧ xOwn S a = (0, 0, 0) ∧ 0 < c ∧ c < 10 ∧ fs.length = x_N c ∧ (List.range (x_N c)).all (x_fit S c fs) = true
    · rw [if_pos h9] at h
      obtain ⟨rfl, h1, h2, h3, h4, h5⟩ := h9
      have hfit : ∀ k, k < x_N c' → x_fit S c' fs k = true := fun k hk => List.all_eq_true.mp h5 k (List.mem_range.mpr hk)
      obtain rfl := Option.some.inj h
      generalize hS1 : ((S.1, (fun b j => if b = a then (match fs[j]? with
          | some (.int v) => v
          | _ => 0) else xI S b j), (fun b j => if b = a then x_rf fs j else xR S b j), (fun b j => if b = a then x_arr S ((x_rf fs j).getD 0) else xA S b j), (fun q => if q = a then (c', 0, 0) else match x_who c' fs q with
          | some k => (c' + 10, a, k)
          | none => xOwn S q), (fun b j => if b = a then (x_rf fs j).getD 0 else xRa S b j), xG S) : XS) = S1
      have oa : xOwn S1 a = (c', 0, 0) := by subst hS1; exact if_pos rfl
      have ow : ∀ q k, q ≠ a → x_who c' fs q = some k → xOwn S1 q = (c' + 10, a, k) := by
        intro q k hq hk
        subst hS1
        show (if q = a then _ else match x_who c' fs q with
          | some k => (c' + 10, a, k)
          | none => xOwn S q) = _
        rw [if_neg hq, hk]
      have oo : ∀ q, q ≠ a → x_who c' fs q = none → xOwn S1 q = xOwn S q := by
        intro q hq hk
        subst hS1
        show (if q = a then _ else match x_who c' fs q with
          | some k => (c' + 10, a, k)
          | none => xOwn S q) = _
        rw [if_neg hq, hk]
      have ra : ∀ k, xRa S1 a k = (x_rf fs k).getD 0 := fun k => by subst hS1; exact if_pos rfl
      have rb : ∀ b k, b ≠ a → xRa S1 b k = xRa S b k := fun b k hb => by subst hS1; exact if_neg hb
      have ib : ∀ b k, b ≠ a → xI S1 b k = xI S b k := fun b k hb => by subst hS1; exact if_neg hb
      have rrb : ∀ b k, b ≠ a → xR S1 b k = xR S b k := fun b k hb => by subst hS1; exact if_neg hb
      have ab : ∀ b k, b ≠ a → xA S1 b k = xA S b k := fun b k hb => by subst hS1; exact if_neg hb
      have rra : ∀ k, xR S1 a k = x_rf fs k := fun k => by subst hS1; exact if_pos rfl
      have aa : ∀ k, xA S1 a k = x_arr S ((x_rf fs k).getD 0) := fun k => by subst hS1; exact if_pos rfl
      have ia : ∀ k v, fs[k]? = some (.int v) → xI S1 a k = v := fun k v hv => by
        subst hS1
        show (if a = a then (match fs[k]? with
          | some (.int v) => v
          | _ => 0) else xI S a k) = v
        rw [if_pos rfl, hv]
      have gg : xG S1 = xG S := by subst hS1; rfl
      have e1 : S1.1 = S.1 := by subst hS1; rfl
      clear hS1 h
      -- who owns an array of ours is not a
      have hna : ∀ q, x_who c' fs q = none ∨ xOwn S q = (0, 0, 0) := by
        intro q
        cases hw : x_who c' fs q with
        | none => exact Or.inl rfl
        | some k =>
          obtain ⟨hk, hka, hkr⟩ := x_who_s hw
          obtain ⟨r, f, f1, f2, f3, f4⟩ := x_fit_a (hfit k hk) hka
          rw [hkr] at f1
          cases f1
          exact Or.inr f2
      have haw : ∀ k, x_who c' fs a = some k → False := by
        intro k hk
        obtain ⟨hk1, hka, hkr⟩ := x_who_s hk
        obtain ⟨r, f, f1, f2, f3, f4⟩ := x_fit_a (hfit k hk1) hka
        rw [hkr] at f1
        cases f1
        rw [hg] at f3
        cases f3
      have hF : x_F S1 c' a = fs := by
        apply List.ext_getElem?
        intro k
        by_cases hk : k < x_N c'
        · rw [x_F_get _ _ _ hk]
          have hf := hfit k hk
          unfold x_val
          by_cases k2 : x_kd c' k = 2
          · rw [if_pos k2, rra]
            have hnA : ¬ x_isA c' k = true := fun z => by rcases x_isA_iff.mp z with e | e <;> omega
            unfold x_fit at hf
            unfold x_rf
            split at hf
            · simp [k2] at hf
            · rename_i hv; rw [hv]; rfl
            · rename_i r hv; rw [hv]; rfl
            · cases hf
          · rw [if_neg k2]
            by_cases kA : x_kd c' k = 1 ∨ x_kd c' k = 3
            · rw [if_pos kA, ra]
              obtain ⟨r, f, f1, -⟩ := x_fit_a hf (x_isA_iff.mpr kA)
              rw [f1]
              unfold x_rf at f1
              split at f1
              · rename_i r2 hv
                cases f1
                rw [hv]
                rfl
              · cases f1
            · rw [if_neg kA]
              have hnA : ¬ x_isA c' k = true := fun z => kA (x_isA_iff.mp z)
              unfold x_fit at hf
              split at hf
              · rename_i v hv; rw [ia k v hv, hv]
              · simp [k2] at hf
              · rw [if_neg hnA] at hf; simp [k2] at hf
              · cases hf
        · rw [List.getElem?_eq_none (by rw [x_F_len]; omega), List.getElem?_eq_none (by omega)]
      refine ⟨fun q => ?_, ⟨fun b hb1 hb2 => ?_, fun q hq => ?_⟩, e1⟩
      · by_cases hqa : q = a
        · subst hqa
          unfold x_cell
          rw [oa, h1]
          rw [if_neg (by show ¬ c' = 0; omega), if_pos (show c' < 10 from h3), if_pos rfl]
          show some (Sum.inr (c', x_F S1 c' q)) = xG S q
          rw [hF, hg]
        · cases hw : x_who c' fs q with
          | some k =>
            obtain ⟨hk, hka, hkr⟩ := x_who_s hw
            obtain ⟨r, f, f1, f2, f3, f4⟩ := x_fit_a (hfit k hk) hka
            rw [hkr] at f1
            cases f1
            unfold x_cell
            rw [ow q k hqa hw, f2]
            rw [if_neg (by show ¬ c' + 10 = 0; omega), if_neg (by show ¬ c' + 10 < 10; omega), if_pos rfl, f3]
            show some (Sum.inl (x_ak (c' + 10 - 10) k, x_len (c' + 10 - 10) k, Sum.inl (xA S1 a k))) = _
            rw [show c' + 10 - 10 = c' by omega, aa, hkr]
            show some (Sum.inl (x_ak c' k, x_len c' k, Sum.inl (x_arr S q))) = _
            unfold x_arr
            rw [f3]
          | none =>
            unfold x_cell
            rw [oo q hqa hw, gg]
            by_cases z1 : (xOwn S q).1 = 0
            · rw [if_pos z1, if_pos z1]
            · rw [if_neg z1, if_neg z1]
              by_cases z2 : (xOwn S q).1 < 10
              · rw [if_pos z2, if_pos z2]
                have : x_F S1 (xOwn S q).1 q = x_F S (xOwn S q).1 q := by
                  unfold x_F
                  congr 1
                  funext k
                  unfold x_val
                  rw [rrb q k hqa, rb q k hqa, ib q k hqa]
                rw [this]
              · rw [if_neg z2, if_neg z2]
                have hba : (xOwn S q).2.1 ≠ a := by
                  intro z
                  obtain ⟨-, y2, -, y4⟩ := hW.2 q (by omega)
                  rw [z, h1] at y2
                  have y2 : 0 + 10 = (xOwn S q).1 := y2
                  omega
                rw [ab _ _ hba]
      · by_cases hba : b = a
        · subst hba
          rw [oa]
          refine ⟨rfl, fun k hk => ?_⟩
          have hka : x_isA c' k = true := x_isA_iff.mpr hk
          have hkN := x_kd_big (Or.inl hka)
          obtain ⟨r, f, f1, f2, f3, f4⟩ := x_fit_a (hfit k hkN) hka
          rw [ra, f1]
          show xOwn S1 r = (c' + 10, b, k)
          cases hw : x_who c' fs r with
          | none => exact absurd f1 (x_who_n hw hkN hka)
          | some j =>
            obtain ⟨hj, hja, hjr⟩ := x_who_s hw
            have hjk : j = k := Classical.byContradiction fun z => f4 j hj z hja hjr
            subst hjk
            refine ow r j (fun z => ?_) hw
            rw [z] at hw
            exact haw _ hw
        · cases hw : x_who c' fs b with
          | some k =>
            rw [ow b k hba hw] at hb2
            have hb2 : c' + 10 < 10 := hb2
            omega
          | none =>
            rw [oo b hba hw] at hb1 hb2 ⊢
            obtain ⟨x1, x2⟩ := hW.1 b hb1 hb2
            refine ⟨x1, fun k hk => ?_⟩
            have x3 := x2 k hk
            rw [rb b k hba]
            have hra : xRa S b k ≠ a := by
              intro z
              rw [z, h1] at x3
              have := congrArg Prod.fst x3
              have this : 0 = (xOwn S b).1 + 10 := this
              omega
            have hrw : x_who c' fs (xRa S b k) = none := by
              rcases hna (xRa S b k) with z | z
              · exact z
              · rw [z] at x3
                have := congrArg Prod.fst x3
                have this : 0 = (xOwn S b).1 + 10 := this
                omega
            rw [oo _ hra hrw]
            exact x3
      · by_cases hqa : q = a
        · subst hqa
          rw [oa] at hq
          have hq : 10 ≤ c' := hq
          omega
        · cases hw : x_who c' fs q with
          | some k =>
            obtain ⟨hk, hka, hkr⟩ := x_who_s hw
            rw [ow q k hqa hw]
            show q = xRa S1 a k ∧ (xOwn S1 a).1 + 10 = c' + 10 ∧ (x_kd (c' + 10 - 10) k = 1 ∨ x_kd (c' + 10 - 10) k = 3) ∧ c' + 10 ≠ 10
            rw [ra, hkr, oa, show c' + 10 - 10 = c' by omega]
            exact ⟨rfl, rfl, x_isA_iff.mp hka, by omega⟩
          | none =>
            rw [oo q hqa hw] at hq ⊢
            obtain ⟨y1, y2, y3, y4⟩ := hW.2 q hq
            have hba : (xOwn S q).2.1 ≠ a := by
              intro z
              rw [z, h1] at y2
              have y2 : 0 + 10 = (xOwn S q).1 := y2
              omega
            rw [rb _ _ hba]
            refine ⟨y1, ?_, y3, y4⟩
            have hw2 : x_who c' fs (xOwn S q).2.1 = none := by
              rcases hna (xOwn S q).2.1 with z | z
              · exact z
              · rw [z] at y2
                have y2 : 0 + 10 = (xOwn S q).1 := y2
                omega
            rw [oo _ hba hw2]
            exact y2
    · rw [if_neg h9] at h; cases h
  · cases h
theorem xW_adopt {g : XC} {D : va_G} {A : Nat → Prop} {S S1 : XS} {s : State} {H : Heap} {c a : Nat} (hw : xW g D A S s H) (h : x_adopt S c a = some S1) : xW g D A S1 s H := by
  obtain ⟨⟨w1, w2, w3, w4, w5⟩, w6, w7, w8, w9, w10⟩ := hw
  obtain ⟨h1, h2, h3⟩ := x_adopt_s w2 h
  have t1 : xTop S1 = xTop S := by unfold xTop; rw [h3]
  have t2 : xSl S1 = xSl S := by unfold xSl; rw [h3]
  have t3 : xCc S1 = xCc S := by unfold xCc; rw [h3]
  have t4 : xCs S1 = xCs S := by unfold xCs; rw [h3]
  exact ⟨⟨fun q e0 hq => w1 q e0 (by rw [← h1]; exact hq), h2, by rw [t1]; exact w3, by rw [t2]; exact w4, by rw [t1]; exact w5⟩, by rw [t3]; exact w6, by rw [t4]; exact w7, by rw [t1]; exact w8, by rw [t2]; exact w9, w10⟩
