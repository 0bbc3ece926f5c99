/-! references that may be null in locals; constants; receivers that are constants; copies of arrays -/
/-- which String's bytes lie at an address -/
def gVi (g : XC) (r : Nat) : Option Nat := (List.range 13).find? (fun k => decide (gSv g k = r))
theorem gVi_s {g : XC} {r k : Nat} (h : gVi g r = some k) : k < 13 ∧ r = gSv g k := by
  unfold gVi at h
  have h1 := List.find?_some h
  have h2 := List.mem_of_find?_eq_some h
  exact ⟨List.mem_range.mp h2, (of_decide_eq_true h1).symm⟩
/-- bytes of a String constant, or of an array of ours -/
def b_len (g : XC) (S : XS) (r : Nat) : Option Int32 := match gVi g r with
  | some k => some (Int32.ofNat (x_slen.getD k 0))
  | none => a_len S r
def b_int (g : XC) (S : XS) (r : Nat) (i : Int32) : Option Int32 := match gVi g r with
  | some k => if ¬ (i < 0 ∨ x_slen.getD k 0 ≤ i.toNatClampNeg) then some ((x_sbyt.getD k []).getD i.toNatClampNeg 0) else none
  | none => a_int S 1 r i
/-- length of an Object[]: ours, or an empty one of ArrayList -/
def o_len (g : XC) (S : XS) (r : Nat) : Option Int32 := if r = gSp g 0 ∨ r = gSp g 1 then some 0 else a_len S r
/-- an Object[] lies there -/
def o_arr (g : XC) (S : XS) (r : Nat) : Option Unit := if r = gSp g 0 ∨ r = gSp g 1 then some () else match x_cell S r with
  | some (.inl (3, _)) => some ()
  | _ => none
/-- the cached Integer of an entry -/
def i_at (g : XC) (r : Nat) (i : Int32) : Option Nat := if r = gSp g 2 ∧ ¬ (i < 0 ∨ 256 ≤ i.toNatClampNeg) then some (gIc g i.toNatClampNeg) else none
/-- an object, an int array or a small Integer: what a list may hold -/
def v_any (g : XC) (S : XS) (v : Nat) : Option Unit := match gIv g v with
  | some _ => some ()
  | none => match x_cell S v with
    | some (.inr (c, _)) => if c < 12 then some () else none
    | some (.inl (0, _)) => some ()
    | _ => none
/-- of which class a form is -/
def f_form (S : XS) (a : Nat) : Option Nat := match x_cell S a with
  | some (.inr (c, _)) => if 5 ≤ c ∧ c ≤ 8 then some c else none
  | _ => none
/-- an int array lies there -/
def f_ints (S : XS) (r : Nat) : Option Unit := match x_cell S r with
  | some (.inl (0, _)) => some ()
  | _ => none
theorem xcl_obj : ∀ (c : Nat) (r : vw_C), xcl[c]? = some r → Cond.castable r.1 "java/lang/Object" ∈ lw_tbl := by
  intro c r h
  match c, h with
  | 0, h => cases h; exact q2234
  | 1, h => cases h; exact q2230
  | 2, h => cases h; exact q2233
  | 3, h => cases h; exact q2231
  | 4, h => cases h; exact q2236
  | 5, h => cases h; exact q2238
  | 6, h => cases h; exact q2239
  | 7, h => cases h; exact q2240
  | 8, h => cases h; exact q2242
  | 9, h => cases h; exact q2237
  | 10, h => cases h; exact q2232
  | 11, h => cases h; exact q2241
  | n + 12, h => cases h
theorem x_same_mod {args : Array Value} {s : State} (hts : ∀ w ∈ lw_all, w.before args s = true) (x : ClassId × Class × Nat × Field) (h : s.fieldFound? "java/util/AbstractList" "modCount" "I" = some x) : s.fieldFound? "java/util/ArrayList" "modCount" "I" = some x := u_same (hts _ q180) x h
theorem q_arr_int : Cond.arrayClass .int ∈ lw_all := q188
theorem q_arr_byte : Cond.arrayClass .byte ∈ lw_all := q323
theorem q_arr_long : Cond.arrayClass .long ∈ lw_all := q1372
section XQ
variable {p : Program} {l : Launch} {e : Env} {R : Room} {s : State} {m : MethodId} {args : Array Value} {below : List Frame} {meth : Method} {c : Code} {H : Heap} {locs : List Loc} {cells slots : Nat} {Q : State → Prop}
variable {cc : ByteArray} {pc nL lv lv2 : Nat} {ls : Array Slot} {rest : List Value} {g : XC} {D : va_G} {A : Nat → Prop} {own : String} {S0 S S1 : XS} {idx a : Nat}
theorem lv_aload_nq (hexec : p.tables.exec = Jvm.exec) (hb : c.code = cc) {k : Fin 4} {i : Nat} {x : Option Nat} (hdg : decode cc pc = .ok (.aload_n k, 1)) (hi : (k : Nat) = i) (hl : ls[i]? = some (.val (va_rf x)))
    (kk : W p l e R s m args below meth c H locs cells slots Q (F0 m (pc + 1) ls (va_rf x :: rest))) : W p l e R s m args below meth c H locs cells slots Q (F0 m pc ls rest) := by
  cases x with
  | none => exact lv_aload_nN hexec hb hdg hi hl kk
  | some y => exact lv_aload_n hexec hb hdg hi hl kk
theorem lv_aloadq (hexec : p.tables.exec = Jvm.exec) (hb : c.code = cc) {i : Nat} {x : Option Nat} (hdg : decode cc pc = .ok (.aload i, 2)) (hl : ls[i]? = some (.val (va_rf x)))
    (kk : W p l e R s m args below meth c H locs cells slots Q (F0 m (pc + 2) ls (va_rf x :: rest))) : W p l e R s m args below meth c H locs cells slots Q (F0 m pc ls rest) := by
  cases x with
  | none => exact lv_aloadN hexec hb hdg hl kk
  | some y => exact lv_aload hexec hb hdg hl kk
theorem lv_astore_nq (hexec : p.tables.exec = Jvm.exec) (hb : c.code = cc) {k : Fin 4} {i nL : Nat} {x : Option Nat} {lv lv' : List (Nat × Value)} (hdg : decode cc pc = .ok (.astore_n k, 1)) (hi : (k : Nat) = i) (h : lv_has ls nL lv) (hn : i < nL) (hl : (i, va_rf x) :: lv.filter (fun q => !(q.1 == i) && !(q.1 + 1 == i && q.2.category == 2)) = lv')
    (kk : ∀ ls' : Array Slot, lv_has ls' nL lv' → W p l e R s m args below meth c H locs cells slots Q (F0 m (pc + 1) ls' rest)) : W p l e R s m args below meth c H locs cells slots Q (F0 m pc ls (va_rf x :: rest)) := by
  cases x with
  | none => exact lv_astore_nN hexec hb hdg hi h hn hl kk
  | some y => exact lv_astore_n hexec hb hdg hi h hn hl kk
theorem lv_astoreq (hexec : p.tables.exec = Jvm.exec) (hb : c.code = cc) {i nL : Nat} {x : Option Nat} {lv lv' : List (Nat × Value)} (hdg : decode cc pc = .ok (.astore i, 2)) (h : lv_has ls nL lv) (hn : i < nL) (hl : (i, va_rf x) :: lv.filter (fun q => !(q.1 == i) && !(q.1 + 1 == i && q.2.category == 2)) = lv')
    (kk : ∀ ls' : Array Slot, lv_has ls' nL lv' → W p l e R s m args below meth c H locs cells slots Q (F0 m (pc + 2) ls' rest)) : W p l e R s m args below meth c H locs cells slots Q (F0 m pc ls (va_rf x :: rest)) := by
  cases x with
  | none => exact lv_astoreN hexec hb hdg h hn hl kk
  | some y => exact lv_astore hexec hb hdg h hn hl kk
/-! constants -/
theorem x_phi (hw : xW g D A S s H) : xΦ g A s H := hw.2.2.2.2.2
theorem x_Iv (X : xX g D A own S0 p s m args c cc nL) {b k : Nat} (h : gIv g b = some k) : k < 256 ∧ b = gIc g k := X.2.2.2.2.2.1.2.2.2.2.2.2.2.1 b k h
theorem x_Si (X : xX g D A own S0 p s m args c cc nL) {b k : Nat} (h : gSi g b = some k) : k < 13 ∧ b = gSk g k := X.2.2.2.2.2.1.2.2.2.2.2.2.2.2.2.1 b k h
theorem x_recvI {b k : Nat} (X : xX g D A own S0 p s m args c cc nL) (hw : xW g D A S s H) (hv : gIv g b = some k) : ∃ cell : Cell, H[b]? = some cell ∧ cell.vm.isStatics = false ∧ s.vm.findClass "java/lang/Integer" = some cell.cls := by
  obtain ⟨hk, rfl⟩ := x_Iv X hv
  obtain ⟨-, -, -, -, -, -, -, -, -, hC, -⟩ := x_phi hw
  obtain ⟨cell, h1, h2, h3, -⟩ := hC.1 k hk
  exact ⟨cell, h1, h2, h3⟩
theorem x_strs (hw : xW g D A S s H) : vk_S 13 x_slen x_sbyt (gSk g) (gSv g) A s H := by
  obtain ⟨-, -, -, -, -, -, -, -, -, -, -, h, -⟩ := x_phi hw
  exact h
theorem x_recvS {b k : Nat} (X : xX g D A own S0 p s m args c cc nL) (hw : xW g D A S s H) (hv : gSi g b = some k) : ∃ cell : Cell, H[b]? = some cell ∧ cell.vm.isStatics = false ∧ s.vm.findClass "java/lang/String" = some cell.cls := by
  obtain ⟨hk, rfl⟩ := x_Si X hv
  obtain ⟨cell, h1, h2, h3, -⟩ := ((x_strs hw).1 k hk).1
  exact ⟨cell, h1, h2, h3⟩
/-- a field of a constant object -/
theorem xr_cget {o n d ref : String} {b : Nat} {v : Value} (X : xX g D A own S0 p s m args c cc nL) (hF : va_OF o n d v b A s H) (hl : Cond.fieldLink own idx o n d ∈ lw_all) (hdg : decode cc pc = .ok (.getfield idx, 3))
    (kk : W p l e R s m args below meth c H locs cells slots Q (F0 m (pc + 3) ls (v :: rest))) : W p l e R s m args below meth c H locs cells slots Q (F0 m pc ls (.ref b :: rest)) := by
  obtain ⟨cf, k, fi, f, cell, h1, h2, h3, h4, h5, h6⟩ := hF
  exact W.getf X.1 X.2.1 X.2.2.2.1 (X.2.2.2.2.1 _ hl) h1 h2 h3 h4 (v := v) h5 rfl rfl hdg kk
theorem xr_Ival {b k : Nat} (X : xX g D A own S0 p s m args c cc nL) (hw : xW g D A S s H) (hv : gIv g b = some k) (hl : Cond.fieldLink own idx "java/lang/Integer" "value" "I" ∈ lw_all) (hdg : decode cc pc = .ok (.getfield idx, 3))
    (kk : W p l e R s m args below meth c H locs cells slots Q (F0 m (pc + 3) ls (.int (vb_c k) :: rest))) : W p l e R s m args below meth c H locs cells slots Q (F0 m pc ls (.ref b :: rest)) := by
  obtain ⟨hk, rfl⟩ := x_Iv X hv
  obtain ⟨-, -, -, -, -, -, -, -, -, hC, -⟩ := x_phi hw
  exact xr_cget (ref := "") X (hC.2 k hk) hl hdg kk
theorem xr_Sval {b k : Nat} (X : xX g D A own S0 p s m args c cc nL) (hw : xW g D A S s H) (hv : gSi g b = some k) (hl : Cond.fieldLink own idx "java/lang/String" "value" "[B" ∈ lw_all) (hdg : decode cc pc = .ok (.getfield idx, 3))
    (kk : W p l e R s m args below meth c H locs cells slots Q (F0 m (pc + 3) ls (.ref (gSv g k) :: rest))) : W p l e R s m args below meth c H locs cells slots Q (F0 m pc ls (.ref b :: rest)) := by
  obtain ⟨hk, rfl⟩ := x_Si X hv
  exact xr_cget (ref := "") X ((x_strs hw).1 k hk).2.2.1 hl hdg kk
theorem xr_Scod {b k : Nat} (X : xX g D A own S0 p s m args c cc nL) (hw : xW g D A S s H) (hv : gSi g b = some k) (hl : Cond.fieldLink own idx "java/lang/String" "coder" "B" ∈ lw_all) (hdg : decode cc pc = .ok (.getfield idx, 3))
    (kk : W p l e R s m args below meth c H locs cells slots Q (F0 m (pc + 3) ls (.int 0 :: rest))) : W p l e R s m args below meth c H locs cells slots Q (F0 m pc ls (.ref b :: rest)) := by
  obtain ⟨hk, rfl⟩ := x_Si X hv
  exact xr_cget (ref := "") X ((x_strs hw).1 k hk).2.1 hl hdg kk
/-- length and entries of a constant array -/
theorem xr_tlen {ty : FieldType} {t N : Nat} {f : Nat → Value} (X : xX g D A own S0 p s m args c cc nL) (hT : va_T ty t N f A s H) (hdg : decode cc pc = .ok (.arraylength, 1))
    (kk : W p l e R s m args below meth c H locs cells slots Q (F0 m (pc + 1) ls (.int (Int32.ofNat N) :: rest))) : W p l e R s m args below meth c H locs cells slots Q (F0 m pc ls (.ref t :: rest)) := by
  obtain ⟨cell, h1, h2, h3, h4, h5, h6, h7⟩ := hT
  exact W.alen (n := Int32.ofNat N) X.1 X.2.1 h1 h2 h5 rfl rfl hdg kk
theorem xr_blen {v : Int32} (X : xX g D A own S0 p s m args c cc nL) (hw : xW g D A S s H) (hv : b_len g S a = some v) (hdg : decode cc pc = .ok (.arraylength, 1))
    (kk : W p l e R s m args below meth c H locs cells slots Q (F0 m (pc + 1) ls (.int v :: rest))) : W p l e R s m args below meth c H locs cells slots Q (F0 m pc ls (.ref a :: rest)) := by
  unfold b_len at hv
  cases hi : gVi g a with
  | none => rw [hi] at hv; exact xr_alen X hw hv hdg kk
  | some k =>
    rw [hi] at hv
    obtain ⟨hk, rfl⟩ := gVi_s hi
    obtain rfl := Option.some.inj hv
    exact xr_tlen X ((x_strs hw).1 k hk).2.2.2 hdg kk
theorem xr_bbald {i v : Int32} (X : xX g D A own S0 p s m args c cc nL) (hw : xW g D A S s H) (hv : b_int g S a i = some v) (hdg : decode cc pc = .ok (.baload, 1))
    (kk : W p l e R s m args below meth c H locs cells slots Q (F0 m (pc + 1) ls (.int v :: rest))) : W p l e R s m args below meth c H locs cells slots Q (F0 m pc ls (.int i :: .ref a :: rest)) := by
  unfold b_int at hv
  cases hi : gVi g a with
  | none => rw [hi] at hv; exact xr_bald X hw hv hdg kk
  | some k =>
    rw [hi] at hv
    dsimp only at hv
    obtain ⟨hk, rfl⟩ := gVi_s hi
    by_cases hin : ¬ (i < 0 ∨ x_slen.getD k 0 ≤ i.toNatClampNeg)
    · rw [if_pos hin] at hv
      obtain rfl := Option.some.inj hv
      obtain ⟨cell, h1, h2, h3, h4, h5, h6, h7⟩ := ((x_strs hw).1 k hk).2.2.2
      have hlt : i.toNatClampNeg < x_slen.getD k 0 := Nat.not_le.mp fun q => hin (Or.inr q)
      exact W.bald X.1 X.2.1 h1 h2 h3 (fun q => q.elim (fun q => hin (Or.inl q)) (fun q => by omega)) (h6 _ hlt) rfl rfl hdg kk
    · rw [if_neg hin] at hv; cases hv
theorem x_emp (hw : xW g D A S s H) (h : a = gSp g 0 ∨ a = gSp g 1) : va_T (.object "java/lang/Object") a 0 (fun _ => .null) A s H ∧ va_O "[Ljava/lang/Object;" a A s H := by
  obtain ⟨-, -, h1, h2, h3, h4, -⟩ := x_phi hw
  rcases h with rfl | rfl
  · exact ⟨h1, h3⟩
  · exact ⟨h2, h4⟩
theorem xr_olen {v : Int32} (X : xX g D A own S0 p s m args c cc nL) (hw : xW g D A S s H) (hS : va_S A s.heap H locs) (hv : o_len g S a = some v) (hdg : decode cc pc = .ok (.arraylength, 1))
    (kk : W p l e R s m args below meth c H locs cells slots Q (F0 m (pc + 1) ls (.int v :: rest))) : W p l e R s m args below meth c H locs cells slots Q (F0 m pc ls (.ref a :: rest)) := by
  unfold o_len at hv
  by_cases h0 : a = gSp g 0 ∨ a = gSp g 1
  · rw [if_pos h0] at hv
    obtain rfl := Option.some.inj hv
    exact xr_tlen X (x_emp hw h0).1 hdg kk
  · rw [if_neg h0] at hv
    exact xr_alen X hw hv hdg kk
theorem xr_iat {i : Int32} {v : Nat} (X : xX g D A own S0 p s m args c cc nL) (hw : xW g D A S s H) (hv : i_at g a i = some v) (hdg : decode cc pc = .ok (.aaload, 1))
    (kk : W p l e R s m args below meth c H locs cells slots Q (F0 m (pc + 1) ls (.ref v :: rest))) : W p l e R s m args below meth c H locs cells slots Q (F0 m pc ls (.int i :: .ref a :: rest)) := by
  unfold i_at at hv
  by_cases h0 : a = gSp g 2 ∧ ¬ (i < 0 ∨ 256 ≤ i.toNatClampNeg)
  · rw [if_pos h0] at hv
    obtain rfl := Option.some.inj hv
    obtain ⟨rfl, hin⟩ := h0
    obtain ⟨-, -, -, -, -, -, -, hT, -⟩ := x_phi hw
    obtain ⟨cell, h1, h2, h3, h4, h5, h6, h7⟩ := hT
    have hlt : i.toNatClampNeg < 256 := Nat.not_le.mp fun q => hin (Or.inr q)
    exact W.aald (ty := .object "java/lang/Integer") X.1 X.2.1 h1 h2 rfl h3 (fun q => q.elim (fun q => hin (Or.inl q)) (fun q => by omega)) (h6 _ hlt) rfl rfl hdg kk
  · rw [if_neg h0] at hv; cases hv
/-! what a list may hold -/
theorem x_ints (X : xX g D A own S0 p s m args c cc nL) (hw : xW g D A S s H) {x : vp_A} (h : x_cell S a = some (.inl (0, x))) : ∃ cell : Cell, H[a]? = some cell ∧ cell.vm.isStatics = false ∧ s.vm.findClass "[I" = some cell.cls := by
  have h1 : H[a]? = some (vp_cell (g.1 0) x) := xΩ_at hw.1 h
  refine ⟨_, h1, ?_, ?_⟩
  · obtain ⟨n, y⟩ := x
    rcases y with f | f | f | f | f <;> rfl
  · have h2 := (X.2.2.2.2.2.1.1.2 0 _ (x_ty g (by decide))).2
    obtain ⟨n, y⟩ := x
    rcases y with f | f | f | f | f <;> exact h2
theorem v_any_s {v : Nat} {u : Unit} (X : xX g D A own S0 p s m args c cc nL) (hw : xW g D A S s H) (h : v_any g S v = some u) : va_Any "java/lang/Object" s H v := by
  have key : ∀ C : String, Cond.castable C "java/lang/Object" ∈ lw_tbl → (∃ cell : Cell, H[v]? = some cell ∧ cell.vm.isStatics = false ∧ s.vm.findClass C = some cell.cls) → va_Any "java/lang/Object" s H v := by
    intro C hC hr
    obtain ⟨cell, h1, h2, h3⟩ := hr
    obtain ⟨kC, hkC, -⟩ := Vm.findClass_spec h3
    exact ⟨cell, h1, h2, ⟨kC, hkC⟩, fun comp hcomp => vb_asgC (X.2.2.2.2.2.1.2.1.1 _ hC rfl) comp _ hcomp h3⟩
  unfold v_any at h
  cases hi : gIv g v with
  | some k => exact key _ q2243 (x_recvI X hw hi)
  | none =>
    rw [hi] at h
    dsimp only at h
    split at h
    · rename_i cc2 fs hg
      by_cases hc : cc2 < 12
      · obtain ⟨r, hr⟩ : ∃ r, xcl[cc2]? = some r := ⟨xcl[cc2]'(by exact hc), List.getElem?_eq_getElem _⟩
        exact key r.1 (xcl_obj _ _ hr) (va_recv X.2.2.2.2.2.1.1 (va_P1 (xΩ_at hw.1 hg)) hr (q0 := 0) rfl)
      · rw [if_neg hc] at h; cases h
    · rename_i x hg
      exact key _ q2248 (x_ints X hw hg)
    · cases h
end XQ
