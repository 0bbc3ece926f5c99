/-! new cells, calls, ends over the component's world -/
theorem xNew_s {S S1 : XS} {n : Nat} {e : GE} (h : xNew S n e = some S1) : xTop S + 1 ≤ xCc S ∧ xSl S + n ≤ xCs S ∧ xTop S1 = xTop S + 1 ∧ xSl S1 = xSl S + n ∧ xCc S1 = xCc S ∧ xCs S1 = xCs S ∧ (∀ q, xOwn S1 q = if q = xTop S then (0, 0, 0) else xOwn S q) ∧ (∀ q, xG S1 q = if q = xTop S then some e else xG S q) ∧ xI S1 = xI S ∧ xR S1 = xR S ∧ xA S1 = xA S ∧ xRa S1 = xRa S := by
  unfold xNew at h
  by_cases h2 : xTop S + 1 ≤ xCc S ∧ xSl S + n ≤ xCs S
  · rw [if_pos h2] at h
    obtain rfl := Option.some.inj h
    exact ⟨h2.1, h2.2, rfl, rfl, rfl, rfl, fun _ => rfl, fun _ => rfl, rfl, rfl, rfl, rfl⟩
  · rw [if_neg h2] at h; cases h
theorem x_F_eq {S S1 : XS} (h1 : xI S1 = xI S) (h2 : xR S1 = xR S) (h3 : xRa S1 = xRa S) (c a : Nat) : x_F S1 c a = x_F S c a := by
  unfold x_F
  congr 1
  funext k
  unfold x_val
  rw [h1, h2, h3]
section XN
variable {p : Program} {l : Launch} {e : Env} {R : Room} {s : State} {m : MethodId} {args : Array Value} {below : List Frame} {meth : Method} {c : Code} {H : Heap} {locs : List Loc} {cells slots : Nat} {Q : State → Prop}
variable {cc : ByteArray} {pc nL lv lv2 : Nat} {ls : Array Slot} {rest : List Value} {g : XC} {D : va_G} {A : Nat → Prop} {own : String} {S0 S S1 : XS} {N ci idx a : Nat}
/-- the picture with a new cell -/
theorem xW_new {n : Nat} {e1 : GE} {H1 : Heap} {cell : Cell} (hw : xW g D A S s H) (hS : va_S A s.heap H locs) (hn : xNew S n e1 = some S1) (z : H1.size = H.size + 1) (h1 : H1[H.size]? = some cell) (hsz : cell.slots.size = n) (oq : ∀ q : Nat, q < H.size → H1[q]? = H[q]?) (hat : va_at D xcl (H.size, x_gE g.1 e1) H1) : xW g D A S1 s H1 ∧ va_S A s.heap H1 locs := by
  obtain ⟨n1, n2, n3, n4, n5, n6, n7, n8, n9, n10, n11, n12⟩ := xNew_s hn
  obtain ⟨⟨w1, w2, w3, w4, w5⟩, w6, w7, w8, w9, w10⟩ := hw
  have hlt : ∀ q e0, x_cell S q = some e0 → q < H.size := fun q e0 h => (w1 q e0 h).1.lt
  have hown0 : (xOwn S H.size).1 = 0 := by
    apply Classical.byContradiction
    intro h0
    by_cases h9 : (xOwn S H.size).1 < 10
    · exact Nat.lt_irrefl _ (hlt H.size _ (by unfold x_cell; rw [if_neg h0, if_pos h9]))
    · exact Nat.lt_irrefl _ (hlt H.size _ (by unfold x_cell; rw [if_neg h0, if_neg h9]))
  have htop : xTop S = H.size := w3.symm
  rw [htop] at n7 n8
  have hcell : ∀ q, q ≠ H.size → x_cell S1 q = x_cell S q := by
    intro q hq
    unfold x_cell
    rw [n7 q, if_neg hq, n8 q, if_neg hq, x_F_eq n9 n10 n12, n11]
  have hcell2 : x_cell S1 H.size = some e1 := by
    unfold x_cell
    rw [n7, if_pos rfl, if_pos rfl, n8, if_pos rfl]
  have hA : A H.size := w5 _ (by omega)
  refine ⟨⟨⟨fun q e0 hq => ?_, ⟨fun b hb1 hb2 => ?_, fun b hb => ?_⟩, by rw [z, n3, htop], ?_, fun q hq => w5 q (by omega)⟩, by rw [n5, w6], by rw [n6, w7], by omega, by omega, w10.moved (Vm.Alike.refl _) (fun q hq _ => oq q hq)⟩, ⟨Nat.le_trans hS.1 (by omega), fun x h2 h3 => (oq x (Nat.lt_of_lt_of_le h2 hS.1)).trans (hS.2.1 x h2 h3), hS.2.2⟩⟩
  · by_cases hqe : q = H.size
    · subst hqe
      rw [hcell2] at hq
      cases hq
      exact ⟨hat, hA⟩
    · rw [hcell q hqe] at hq
      exact ⟨(w1 q e0 hq).1.kept (oq q (hlt q e0 hq)), (w1 q e0 hq).2⟩
  · by_cases hbe : b = H.size
    · exfalso
      apply hb1
      rw [n7, if_pos hbe]
    · rw [n7, if_neg hbe] at hb1 hb2 ⊢
      obtain ⟨x1, x2⟩ := w2.1 b hb1 hb2
      refine ⟨x1, fun k hk => ?_⟩
      have x3 := x2 k hk
      have hne : xRa S b k ≠ H.size := by
        intro z2
        rw [z2] at x3
        rw [x3] at hown0
        simp at hown0
      rw [n12, n7, if_neg hne]
      exact x3
  · by_cases hbe : b = H.size
    · exfalso
      rw [n7, if_pos hbe] at hb
      simp at hb
    · rw [n7, if_neg hbe] at hb ⊢
      obtain ⟨x1, x2, x3⟩ := w2.2 b hb
      refine ⟨by rw [n12]; exact x1, ?_, x3⟩
      have hne : (xOwn S b).2.1 ≠ H.size := by
        intro z2
        rw [z2, hown0] at x2
        exact x3.2 (by omega)
      rw [n7, if_neg hne]
      exact x2
  · rw [slotsOf_push z h1 oq, w4, n4, hsz]
theorem xr_new {C : String} {T : u_T} {ty0 : Nat → FieldType} {fs : List Value} (X : xX g D A own S0 p s m args c cc nL) (hw : xW g D A S s H) (hS : va_S A s.heap H locs) (hc : xcl[ci]? = some (C, T, N)) (hin : ∀ w ∈ u_ws C T N, w ∈ lw_all) (hty : ∀ k, k < N → parseFieldDescriptor (T k).2.2.1 = some (ty0 k)) (hcl : Cond.classLink own idx C ∈ lw_all) (hinst : Cond.instantiable C N ∈ lw_all) (hini : Cond.initialized C ∈ lw_all) (hfs : ∀ j, j < N → defaultValue (ty0 j) = vp_V fs j) (hn : xNew S N (.inr (ci, fs)) = some S1) (hdg : decode cc pc = .ok (.new idx, 3))
    (kk : ∀ (H1 : Heap) (cells slots : Nat), xW g D A S1 s H1 → va_S A s.heap H1 locs → W p l e (xRm g S0 lv) s m args below meth c H1 locs cells slots Q (F0 m (pc + 3) ls (.ref (xTop S) :: rest))) : W p l e (xRm g S0 lv) s m args below meth c H locs cells slots Q (F0 m pc ls rest) := by
  obtain ⟨hx, hb, -, hown, hts, ⟨hK, -⟩, hz0, hs0⟩ := X
  obtain ⟨n1, n2, -⟩ := xNew_s hn
  have hKn := hK.1 ci _ hc
  have e3 : H.size = xTop S := hw.1.2.2.1
  have e4 : slotsOf H = xSl S := hw.1.2.2.2.1
  have hcc := hw.2.1
  have hcs := hw.2.2.1
  refine W.tight fun t1 t2 => ?_
  refine W.newcK hx hb hown (hts _ hcl) (hts _ hinst) (hts _ hini) rfl hdg (by simp only [xRm]; omega) (by simp only [xRm]; omega) hKn.2.1 rfl fun H1 kC hkC e1 z1 o1 => ?_
  obtain ⟨c0, k0, i1, i2, -, -, -, i6⟩ := Cond.instantiable_spec (hts _ hinst)
  have hcc0 : c0 = D.1 ci := Option.some.inj (i1.symm.trans hKn.2.1)
  subst hcc0
  have hk0 : k0 = kC := Option.some.inj (i2.symm.trans hkC)
  subst hk0
  obtain ⟨h1, h2⟩ := xW_new hw hS hn z1 e1 (by simp [blank, i6]) o1 ⟨_, hc, (u_born ty0 hts hin hKn hkC e1 hty).to hfs⟩
  clear n1 hcc
  generalize xTop S = tp at kk e3
  subst e3
  exact kk H1 _ _ h1 h2
theorem xr_newI {k : Nat} {n : Int32} {atype : ArrayType} (X : xX g D A own S0 p s m args c cc nL) (hw : xW g D A S s H) (hS : va_S A s.heap H locs) (hk : k < 7) (hel : newarray.typeOf atype = x_el k) (hd : defaultValue (newarray.typeOf atype) = .int 0) (hfn : x_el k = .int ∨ x_el k = .byte ∨ x_el k = .boolean) (harr : Cond.arrayClass (newarray.typeOf atype) ∈ lw_all) (hn : xNewI S k n = some S1) (hdg : decode cc pc = .ok (.newarray atype, 2))
    (kk : ∀ (H1 : Heap) (cells slots : Nat), xW g D A S1 s H1 → va_S A s.heap H1 locs → W p l e (xRm g S0 lv) s m args below meth c H1 locs cells slots Q (F0 m (pc + 2) ls (.ref (xTop S) :: rest))) : W p l e (xRm g S0 lv) s m args below meth c H locs cells slots Q (F0 m pc ls (.int n :: rest)) := by
  obtain ⟨hx, hb, -, hown, hts, ⟨hK, -⟩, hz0, hs0⟩ := X
  unfold xNewI at hn
  by_cases h0 : n < 0 ∨ 67108864 < n.toNatClampNeg
  · rw [if_pos h0] at hn; cases hn
  rw [if_neg h0] at hn
  obtain ⟨n1, n2, -⟩ := xNew_s hn
  have e3 : H.size = xTop S := hw.1.2.2.1
  have e4 : slotsOf H = xSl S := hw.1.2.2.2.1
  have hcc := hw.2.1
  have hcs := hw.2.2.1
  refine W.tight fun t1 t2 => ?_
  refine va_newaK hx hb (hts _ harr) rfl hdg rfl (fun q => h0 (Or.inl q)) rfl ?_ (by simp only [xRm]; omega) (by simp only [xRm]; omega) rfl fun H1 cA e1 z1 o1 hAr hNm => ?_
  · have hcb : componentBytes (newarray.typeOf atype) ≤ 8 := by cases atype <;> decide
    have : n.toNatClampNeg * componentBytes (newarray.typeOf atype) ≤ 67108864 * 8 := Nat.mul_le_mul (by omega) hcb
    omega
  have hcA : cA = g.1 k := by
    have h2 := (hK.2 k _ (x_ty g hk)).2
    rw [hel] at hNm
    have h3 : s.vm.findClass ("[" ++ (x_el k).toString) = some (g.1 k) := by
      rcases hfn with q | q | q <;> (rw [q] at h2 ⊢; exact h2)
    exact Option.some.inj (hNm.symm.trans h3)
  subst hcA
  rw [hd] at e1
  obtain ⟨h1, h2⟩ := xW_new hw hS hn z1 e1 (by rw [arrV_size]) o1 e1
  clear n1 hcc
  generalize xTop S = tp at kk e3
  subst e3
  exact kk H1 _ _ h1 h2
theorem xr_newJ {n : Int32} (X : xX g D A own S0 p s m args c cc nL) (hw : xW g D A S s H) (hS : va_S A s.heap H locs) (harr : Cond.arrayClass .long ∈ lw_all) (hn : xNewJ S n = some S1) (hdg : decode cc pc = .ok (.newarray .long, 2))
    (kk : ∀ (H1 : Heap) (cells slots : Nat), xW g D A S1 s H1 → va_S A s.heap H1 locs → W p l e (xRm g S0 lv) s m args below meth c H1 locs cells slots Q (F0 m (pc + 2) ls (.ref (xTop S) :: rest))) : W p l e (xRm g S0 lv) s m args below meth c H locs cells slots Q (F0 m pc ls (.int n :: rest)) := by
  obtain ⟨hx, hb, -, hown, hts, ⟨hK, -⟩, hz0, hs0⟩ := X
  unfold xNewJ at hn
  by_cases h0 : n < 0 ∨ 67108864 < n.toNatClampNeg
  · rw [if_pos h0] at hn; cases hn
  rw [if_neg h0] at hn
  obtain ⟨n1, n2, -⟩ := xNew_s hn
  have e3 : H.size = xTop S := hw.1.2.2.1
  have e4 : slotsOf H = xSl S := hw.1.2.2.2.1
  have hcc := hw.2.1
  have hcs := hw.2.2.1
  refine W.tight fun t1 t2 => ?_
  refine va_newaK (atype := .long) hx hb (hts _ harr) rfl hdg rfl (fun q => h0 (Or.inl q)) rfl ?_ (by simp only [xRm]; omega) (by simp only [xRm]; omega) rfl fun H1 cA e1 z1 o1 hAr hNm => ?_
  · have hcb : componentBytes (newarray.typeOf .long) ≤ 8 := by decide
    have : n.toNatClampNeg * componentBytes (newarray.typeOf .long) ≤ 67108864 * 8 := Nat.mul_le_mul (by omega) hcb
    omega
  have hcA : cA = g.1 2 := Option.some.inj (hNm.symm.trans (hK.2 2 _ (x_ty g (by decide))).2)
  subst hcA
  obtain ⟨h1, h2⟩ := xW_new hw hS hn z1 e1 (by rw [arrV_size]) o1 e1
  clear n1 hcc
  generalize xTop S = tp at kk e3
  subst e3
  exact kk H1 _ _ h1 h2
theorem xr_newR {k : Nat} {n : Int32} {E : String} (X : xX g D A own S0 p s m args c cc nL) (hw : xW g D A S s H) (hS : va_S A s.heap H locs) (hk : k < 7) (hel : x_el k = .object E) (hcl : Cond.classLink own idx E ∈ lw_all) (hover : Cond.arrayOver (.object E) ∈ lw_tbl) (hn : xNewR S k n = some S1) (hdg : decode cc pc = .ok (.anewarray idx, 3))
    (kk : ∀ (H1 : Heap) (cells slots : Nat), xW g D A S1 s H1 → va_S A s.heap H1 locs → W p l e (xRm g S0 lv) s m args below meth c H1 locs cells slots Q (F0 m (pc + 3) ls (.ref (xTop S) :: rest))) : W p l e (xRm g S0 lv) s m args below meth c H locs cells slots Q (F0 m pc ls (.int n :: rest)) := by
  obtain ⟨hx, hb, -, hown, hts, ⟨hK, hN, -⟩, hz0, hs0⟩ := X
  unfold xNewR at hn
  by_cases h0 : n < 0 ∨ 67108864 < n.toNatClampNeg
  · rw [if_pos h0] at hn; cases hn
  rw [if_neg h0] at hn
  obtain ⟨n1, n2, -⟩ := xNew_s hn
  have e3 : H.size = xTop S := hw.1.2.2.1
  have e4 : slotsOf H = xSl S := hw.1.2.2.2.1
  have hcc := hw.2.1
  have hcs := hw.2.2.1
  refine W.tight fun t1 t2 => ?_
  refine W.anew hx hb hown (hts _ hcl) (va_AO.use (hN.2.2.1 E hover)) rfl hdg rfl (fun q => h0 (Or.inl q)) (by omega) (by simp only [xRm]; omega) (by simp only [xRm]; omega) fun cA kA comp f1 f2 f3 f4 => ?_
  generalize hH1 : H.push ({ cls := cA, slots := Array.replicate n.toNatClampNeg .null, vm := .none } : Cell) = H1
  have z1 : H1.size = H.size + 1 := by rw [← hH1, Array.size_push]
  have e1 : H1[H.size]? = some (arrV cA n.toNatClampNeg (fun _ => .null)) := by rw [← hH1, Array.getElem?_push_size, ← arrV_new]
  have o1 : ∀ q : Nat, q < H.size → H1[q]? = H[q]? := fun q hq => by rw [← hH1, Array.getElem?_push, if_neg (Nat.ne_of_lt hq)]
  have hcA : cA = g.1 k := by
    have h2 := (hK.2 k _ (x_ty g hk)).2
    dsimp only at h2
    rw [hel] at h2
    obtain ⟨-, -, -, -, -, h3⟩ := h2
    exact Option.some.inj (f1.symm.trans h3)
  subst hcA
  obtain ⟨h1, h2⟩ := xW_new hw hS hn z1 e1 (by rw [arrV_size]) o1 e1
  clear n1 hcc
  generalize xTop S = tp at kk e3
  subst e3
  exact kk H1 _ _ h1 h2
/-! calls -/
theorem x_blind {av : List Value} : FrameBlind (xPre g D A av S) := fun a U gg mk q => by
  obtain ⟨q1, q2, q3⟩ := q
  exact ⟨q1, ⟨q2.1, q2.2.1, q2.2.2.1, q2.2.2.2.1, q2.2.2.2.2.1, q2.2.2.2.2.2.moved (Vm.Alike.refl _) (fun _ _ _ => rfl)⟩, xK.same (s := U) (U := U.calling gg mk a) rfl q3⟩
theorem x_to {U : State} (X : xX g D A own S0 p s m args c cc nL) (hw : xW g D A S s H) (hU : U.heap = H) (hW : s.WarmedH U.vm) : xW g D A S U U.heap ∧ xK g D U := by
  refine ⟨?_, X.2.2.2.2.2.1.warm hW⟩
  rw [hU]
  exact ⟨hw.1, hw.2.1, hw.2.2.1, hw.2.2.2.1, hw.2.2.2.2.1, hw.2.2.2.2.2.moved hW.alike (fun _ _ _ => rfl)⟩
theorem x_recv {b : Nat} {C : String} {T : u_T} {u : Unit} (X : xX g D A own S0 p s m args c cc nL) (hw : xW g D A S s H) (hc : xcl[ci]? = some (C, T, N)) (hv : f_cls S ci b = some u) : ∃ cell : Cell, H[b]? = some cell ∧ cell.vm.isStatics = false ∧ s.vm.findClass C = some cell.cls := by
  obtain ⟨hx, hb, -, hown, hts, ⟨hK, -⟩, -, -⟩ := X
  obtain ⟨fs, h1⟩ := f_cls_s hv
  exact va_recv hK (va_P1 (xΩ_at hw.1 h1)) (ci := ci) (q0 := 0) hc rfl
theorem x_preV {b : Nat} {C : String} {T : u_T} {u : Unit} (X : xX g D A own S0 p s m args c cc nL) (hw : xW g D A S s H) (hc : xcl[ci]? = some (C, T, N)) (hv : f_cls S ci b = some u) (As : List Value) : PreV s H C b (xPre g D A (.ref b :: As) S) As :=
  ⟨x_blind, x_recv X hw hc hv, fun U hU hW => ⟨rfl, x_to X hw hU hW⟩⟩
theorem x_preS (X : xX g D A own S0 p s m args c cc nL) (hw : xW g D A S s H) (As : List Value) : PreS s H (xPre g D A As S) As :=
  ⟨x_blind, fun U hU hW => ⟨rfl, x_to X hw hU hW⟩⟩
theorem x_fix (X : xX g D A own S0 p s m args c cc nL) : CallFix p m c cc nL s args lw_all own := ⟨X.1, X.2.1, X.2.2.1, X.2.2.2.1, X.2.2.2.2.1⟩
theorem x_back {S1 : XS} {t : State} {H1 : Heap} (hB : xB g D A S1 t) (ht : t.heap = H1) (hvm : s.vm.Alike t.vm) : xW g D A S1 s H1 := by
  obtain ⟨⟨b1, b2, b3, b4, b5, b6⟩, -⟩ := hB
  rw [ht] at b1 b6
  exact ⟨b1, b2, b3, b4, b5, b6.moved hvm.symm (fun _ _ _ => rfl)⟩
variable {y : MethodName} {bytes : ByteArray} {maxL n index : Nat} {ret : Option FieldType} {As st : List Value}
theorem x_room (h1 : lv < lv2) (h2 : maxL ≤ 21) : (xRm g S lv).frames + 1 ≤ (xRm g S0 lv2).frames ∧ 8 + (maxL + 11) + (xRm g S lv).locals ≤ (xRm g S0 lv2).locals := by
  simp only [xRm]
  omega
theorem x_cv {C : String} (X : xX g D A own S0 p s m args c cc nL) (h1 : lv < lv2) (h2 : maxL ≤ 21) (hy : y.cls = C ∧ y.cls ≠ "java/lang/invoke/MethodHandle" ∧ y.cls ≠ "java/lang/invoke/VarHandle" ∧ (parseMethodDescriptor y.desc).map (fun d => d.parameters.length) = some n) (hw : GoodIn lw_all (wsV own index C y (ws_ y bytes maxL ret))) : CallW (xRm g S0 lv2) s args own C index y bytes maxL ret (ws_ y bytes maxL ret) (xRm g S lv) (g.2.1 - xTop S) (g.2.2.1 - xSl S) n :=
  cwV n X.2.2.2.2.1 hw rfl rfl rfl hy (x_room h1 h2)
theorem x_cs (X : xX g D A own S0 p s m args c cc nL) (h1 : lv < lv2) (h2 : maxL ≤ 21) (hy : y.cls ≠ "java/lang/invoke/MethodHandle" ∧ y.cls ≠ "java/lang/invoke/VarHandle" ∧ (parseMethodDescriptor y.desc).map (fun d => d.parameters.length) = some n) (hw : GoodIn lw_all (va_wsS own index y (ws_ y bytes maxL ret))) : CallB (xRm g S0 lv2) s args own index y bytes maxL ret (ws_ y bytes maxL ret) (xRm g S lv) (g.2.1 - xTop S) (g.2.2.1 - xSl S) n ∧ (Cond.static y).before args s = true :=
  va_cwS n X.2.2.2.2.1 hw rfl rfl rfl hy (x_room h1 h2)
theorem x_ci (X : xX g D A own S0 p s m args c cc nL) (h1 : lv < lv2) (h2 : maxL ≤ 21) (hy1 : y.name = "<init>") (hy : y.cls ≠ "java/lang/invoke/MethodHandle" ∧ y.cls ≠ "java/lang/invoke/VarHandle" ∧ (parseMethodDescriptor y.desc).map (fun d => d.parameters.length) = some n) (hw : GoodIn lw_all (ws_ y bytes maxL none)) (hini : Cond.initialized y.cls ∈ lw_all) (hl : Cond.methodLink own index y ∈ lw_all) (hin : Cond.instanceMethod y ∈ lw_all) : CallB (xRm g S0 lv2) s args own index y bytes maxL none (ws_ y bytes maxL none) (xRm g S lv) (g.2.1 - xTop S) (g.2.2.1 - xSl S) n ∧ y.name = "<init>" ∧ (Cond.instanceMethod y).before args s = true :=
  cwI n X.2.2.2.2.1 hw rfl rfl rfl (X.2.2.2.2.1 _ hini) (X.2.2.2.2.1 _ hl) (X.2.2.2.2.1 _ hin) hy1 hy (x_room h1 h2)
theorem x_cn {host : String} (X : xX g D A own S0 p s m args c cc nL) (h1 : lv < lv2) (h2 : maxL ≤ 21) (hy : y.cls ≠ "java/lang/invoke/MethodHandle" ∧ y.cls ≠ "java/lang/invoke/VarHandle" ∧ (parseMethodDescriptor y.desc).map (fun d => d.parameters.length) = some n) (hw : GoodIn lw_all (ws_ y bytes maxL ret)) (hini : Cond.initialized y.cls ∈ lw_all) (hl : Cond.methodLinkNest own index y host ∈ lw_tbl) : va_CN (xRm g S0 lv2) s args own index y host bytes maxL ret (ws_ y bytes maxL ret) (xRm g S lv) (g.2.1 - xTop S) (g.2.2.1 - xSl S) n :=
  va_cnB n X.2.2.2.2.1 hw rfl rfl rfl (X.2.2.2.2.2.1.2.1.1 _ hl rfl) (X.2.2.2.2.1 _ hini) hy (x_room h1 h2)
theorem x_fits (X : xX g D A own S0 p s m args c cc nL) (hw : xW g D A S s H) (t1 : s.heap.size ≤ H.size) (t2 : slotsOf s.heap ≤ slotsOf H) : (H.size - s.heap.size) + (g.2.1 - xTop S) ≤ (xRm g S0 lv2).cells ∧ (slotsOf H - slotsOf s.heap) + (g.2.2.1 - xSl S) ≤ (xRm g S0 lv2).slots := by
  obtain ⟨-, -, -, -, -, -, hz0, hs0⟩ := X
  have e3 : H.size = xTop S := hw.1.2.2.1
  have e4 : slotsOf H = xSl S := hw.1.2.2.2.1
  have h4 := hw.2.2.2.1
  have h5 := hw.2.2.2.2.1
  simp only [xRm]
  omega
variable {mc ms : Nat} {gg : JFrame} {as : Array Value} {free : Addr → Prop}
theorem xr_reti {w : XS × Int32} (hS : va_S A s.heap H locs) (hr : s.heap.size ≤ H.size → slotsOf s.heap ≤ slotsOf H → va_Run p l e (xRm g S0 lv2) s m args below meth c H locs (H.size - s.heap.size) (slotsOf H - slotsOf s.heap) mc ms (F0 m pc ls st) rest (xQi g D A w as) A)
    (kk : ∀ (H1 : Heap) (locs1 : List Loc) (cells slots : Nat), xW g D A w.1 s H1 → va_S A s.heap H1 locs1 → W p l e (xRm g S0 lv2) s m args below meth c H1 locs1 cells slots Q (F0 m (pc + 3) ls (.int w.2 :: rest))) : W p l e (xRm g S0 lv2) s m args below meth c H locs cells slots Q (F0 m pc ls st) :=
  W.tight fun t1 t2 => va_calli (hr t1 t2) hS (fun _ _ h => h) (fun _ h => h) (fun r2 u t H1 locs1 ht hvm hp hB hz hk hS1 => by
    obtain ⟨rfl, rfl⟩ := hp
    exact kk H1 locs1 _ _ (x_back hB ht hvm) hS1)
theorem xr_retl {w : XS × Int64} (hS : va_S A s.heap H locs) (hr : s.heap.size ≤ H.size → slotsOf s.heap ≤ slotsOf H → va_Run p l e (xRm g S0 lv2) s m args below meth c H locs (H.size - s.heap.size) (slotsOf H - slotsOf s.heap) mc ms (F0 m pc ls st) rest (xQl g D A w as) A)
    (kk : ∀ (H1 : Heap) (locs1 : List Loc) (cells slots : Nat), xW g D A w.1 s H1 → va_S A s.heap H1 locs1 → W p l e (xRm g S0 lv2) s m args below meth c H1 locs1 cells slots Q (F0 m (pc + 3) ls (.long w.2 :: rest))) : W p l e (xRm g S0 lv2) s m args below meth c H locs cells slots Q (F0 m pc ls st) :=
  W.tight fun t1 t2 => va_calll (hr t1 t2) hS (fun _ _ h => h) (fun _ h => h) (fun r2 u t H1 locs1 ht hvm hp hB hz hk hS1 => by
    obtain ⟨rfl, rfl⟩ := hp
    exact kk H1 locs1 _ _ (x_back hB ht hvm) hS1)
theorem xr_retv {w : XS} (hS : va_S A s.heap H locs) (hr : s.heap.size ≤ H.size → slotsOf s.heap ≤ slotsOf H → va_Run p l e (xRm g S0 lv2) s m args below meth c H locs (H.size - s.heap.size) (slotsOf H - slotsOf s.heap) mc ms (F0 m pc ls st) rest (xQv g D A w as) A)
    (kk : ∀ (H1 : Heap) (locs1 : List Loc) (cells slots : Nat), xW g D A w s H1 → va_S A s.heap H1 locs1 → W p l e (xRm g S0 lv2) s m args below meth c H1 locs1 cells slots Q (F0 m (pc + 3) ls rest)) : W p l e (xRm g S0 lv2) s m args below meth c H locs cells slots Q (F0 m pc ls st) :=
  W.tight fun t1 t2 => va_callv (hr t1 t2) hS (fun _ _ h => h) (fun _ h => h) (fun u t H1 locs1 ht hvm hp hB hz hk hS1 => by
    obtain rfl := hp
    exact kk H1 locs1 _ _ (x_back hB ht hvm) hS1)
theorem xr_retr {w : XS × Nat} (hS : va_S A s.heap H locs) (hr : s.heap.size ≤ H.size → slotsOf s.heap ≤ slotsOf H → va_Run p l e (xRm g S0 lv2) s m args below meth c H locs (H.size - s.heap.size) (slotsOf H - slotsOf s.heap) mc ms (F0 m pc ls st) rest (xQr g D A w as) A)
    (kk : ∀ (H1 : Heap) (locs1 : List Loc) (cells slots : Nat), xW g D A w.1 s H1 → va_S A s.heap H1 locs1 → W p l e (xRm g S0 lv2) s m args below meth c H1 locs1 cells slots Q (F0 m (pc + 3) ls (.ref w.2 :: rest))) : W p l e (xRm g S0 lv2) s m args below meth c H locs cells slots Q (F0 m pc ls st) :=
  W.tight fun t1 t2 => va_callr (hr t1 t2) hS (fun _ _ h => h) (fun _ h => h) (fun u ra t H1 locs1 ht hvm hp hB hz hk hS1 => by
    obtain ⟨rfl, hB⟩ := hB
    obtain rfl := hp
    exact kk H1 locs1 _ _ (x_back hB ht hvm) hS1)
variable {Qc : Array Value → State → Outcome → State → Prop}
theorem xr_runV {b : Nat} {C : String} {T : u_T} {u : Unit} (X : xX g D A own S0 p s m args c cc nL) (hw : xW g D A S s H) (hM : Met l y (ws_ y bytes maxL ret) (xRm g S lv) (xPre g D A (.ref b :: As) S) Qc (g.2.1 - xTop S) (g.2.2.1 - xSl S) A) (cw : CallW (xRm g S0 lv2) s args own C index y bytes maxL ret (ws_ y bytes maxL ret) (xRm g S lv) (g.2.1 - xTop S) (g.2.2.1 - xSl S) n) (hc : xcl[ci]? = some (C, T, N)) (hv : f_cls S ci b = some u) (hn : As.length = n) (hsz : ls.size = nL) (hst : st = As.reverse ++ .ref b :: rest) (hr : (rest.map fun v => v.category).sum ≤ 8) (hdg : decode cc pc = .ok (.invokevirtual index, 3)) (t1 : s.heap.size ≤ H.size) (t2 : slotsOf s.heap ≤ slotsOf H) :
    va_Run p l e (xRm g S0 lv2) s m args below meth c H locs (H.size - s.heap.size) (slotsOf H - slotsOf s.heap) (g.2.1 - xTop S) (g.2.2.1 - xSl S) (F0 m pc ls st) rest (Qc (Value.ref b :: As).toArray) A :=
  va_runV (x_fix X) hM cw (x_preV X hw hc hv As) rfl hn hsz hst (lv_room hr) hdg (x_fits X hw t1 t2)
theorem xr_runS (X : xX g D A own S0 p s m args c cc nL) (hw : xW g D A S s H) (hM : Met l y (ws_ y bytes maxL ret) (xRm g S lv) (xPre g D A As S) Qc (g.2.1 - xTop S) (g.2.2.1 - xSl S) A) (cw : CallB (xRm g S0 lv2) s args own index y bytes maxL ret (ws_ y bytes maxL ret) (xRm g S lv) (g.2.1 - xTop S) (g.2.2.1 - xSl S) n ∧ (Cond.static y).before args s = true) (hn : As.length = n) (hsz : ls.size = nL) (hst : st = As.reverse ++ rest) (hr : (rest.map fun v => v.category).sum ≤ 8) (hdg : decode cc pc = .ok (.invokestatic index, 3)) (t1 : s.heap.size ≤ H.size) (t2 : slotsOf s.heap ≤ slotsOf H) :
    va_Run p l e (xRm g S0 lv2) s m args below meth c H locs (H.size - s.heap.size) (slotsOf H - slotsOf s.heap) (g.2.1 - xTop S) (g.2.2.1 - xSl S) (F0 m pc ls st) rest (Qc As.toArray) A :=
  va_runS (x_fix X) hM cw (x_preS X hw As) rfl hn hsz hst (lv_room hr) hdg (x_fits X hw t1 t2)
theorem xr_runSN {host : String} (X : xX g D A own S0 p s m args c cc nL) (hw : xW g D A S s H) (hM : Met l y (ws_ y bytes maxL ret) (xRm g S lv) (xPre g D A As S) Qc (g.2.1 - xTop S) (g.2.2.1 - xSl S) A) (cw : va_CN (xRm g S0 lv2) s args own index y host bytes maxL ret (ws_ y bytes maxL ret) (xRm g S lv) (g.2.1 - xTop S) (g.2.2.1 - xSl S) n) (hstat : Cond.static y ∈ lw_all) (hn : As.length = n) (hsz : ls.size = nL) (hst : st = As.reverse ++ rest) (hr : (rest.map fun v => v.category).sum ≤ 8) (hdg : decode cc pc = .ok (.invokestatic index, 3)) (t1 : s.heap.size ≤ H.size) (t2 : slotsOf s.heap ≤ slotsOf H) :
    va_Run p l e (xRm g S0 lv2) s m args below meth c H locs (H.size - s.heap.size) (slotsOf H - slotsOf s.heap) (g.2.1 - xTop S) (g.2.2.1 - xSl S) (F0 m pc ls st) rest (Qc As.toArray) A :=
  va_runSN (x_fix X) hM ⟨cw, X.2.2.2.2.1 _ hstat, trivial⟩ (x_preS X hw As) rfl hn hsz hst (lv_room hr) hdg (x_fits X hw t1 t2)
theorem xr_runI {b : Nat} (X : xX g D A own S0 p s m args c cc nL) (hw : xW g D A S s H) (hM : Met l y (ws_ y bytes maxL none) (xRm g S lv) (xPre g D A (.ref b :: As) S) Qc (g.2.1 - xTop S) (g.2.2.1 - xSl S) A) (cw : CallB (xRm g S0 lv2) s args own index y bytes maxL none (ws_ y bytes maxL none) (xRm g S lv) (g.2.1 - xTop S) (g.2.2.1 - xSl S) n ∧ y.name = "<init>" ∧ (Cond.instanceMethod y).before args s = true) (hn : As.length = n) (hsz : ls.size = nL) (hst : st = As.reverse ++ .ref b :: rest) (hr : (rest.map fun v => v.category).sum ≤ 8) (hdg : decode cc pc = .ok (.invokespecial index, 3)) (t1 : s.heap.size ≤ H.size) (t2 : slotsOf s.heap ≤ slotsOf H) :
    va_Run p l e (xRm g S0 lv2) s m args below meth c H locs (H.size - s.heap.size) (slotsOf H - slotsOf s.heap) (g.2.1 - xTop S) (g.2.2.1 - xSl S) (F0 m pc ls st) rest (Qc (Value.ref b :: As).toArray) A :=
  va_runI (x_fix X) hM cw (x_preS X hw (.ref b :: As)) rfl hn hsz hst (lv_room hr) hdg (x_fits X hw t1 t2)
theorem xr_runIN {b : Nat} {host : String} (X : xX g D A own S0 p s m args c cc nL) (hw : xW g D A S s H) (hM : Met l y (ws_ y bytes maxL none) (xRm g S lv) (xPre g D A (.ref b :: As) S) Qc (g.2.1 - xTop S) (g.2.2.1 - xSl S) A) (cw : va_CN (xRm g S0 lv2) s args own index y host bytes maxL none (ws_ y bytes maxL none) (xRm g S lv) (g.2.1 - xTop S) (g.2.2.1 - xSl S) n) (hy1 : y.name = "<init>") (hin : Cond.instanceMethod y ∈ lw_all) (hn : As.length = n) (hsz : ls.size = nL) (hst : st = As.reverse ++ .ref b :: rest) (hr : (rest.map fun v => v.category).sum ≤ 8) (hdg : decode cc pc = .ok (.invokespecial index, 3)) (t1 : s.heap.size ≤ H.size) (t2 : slotsOf s.heap ≤ slotsOf H) :
    va_Run p l e (xRm g S0 lv2) s m args below meth c H locs (H.size - s.heap.size) (slotsOf H - slotsOf s.heap) (g.2.1 - xTop S) (g.2.2.1 - xSl S) (F0 m pc ls st) rest (Qc (Value.ref b :: As).toArray) A :=
  va_runIN (x_fix X) hM ⟨cw, hy1, X.2.2.2.2.1 _ hin⟩ (x_preS X hw (.ref b :: As)) rfl hn hsz hst (lv_room hr) hdg (x_fits X hw t1 t2)
/-! ends -/
theorem x_end (X : xX g D A own S0 p s m args c cc nL) (hw : xW g D A S s H) (t1 : s.heap.size ≤ H.size) (t2 : slotsOf s.heap ≤ slotsOf H) : H.size - s.heap.size ≤ g.2.1 - xTop S0 ∧ slotsOf H - slotsOf s.heap ≤ g.2.2.1 - xSl S0 := by
  obtain ⟨-, -, -, -, -, -, hz0, hs0⟩ := X
  have e3 : H.size = xTop S := hw.1.2.2.1
  have e4 : slotsOf H = xSl S := hw.1.2.2.2.1
  have h4 := hw.2.2.2.1
  have h5 := hw.2.2.2.2.1
  omega
theorem x_fin {t : State} (X : xX g D A own S0 p s m args c cc nL) (hw : xW g D A S s H) (ht : t.heap = H) (hW : s.WarmedH t.vm) : xB g D A S t := x_to X hw ht hW
theorem xr_iret {v : Int32} {ty : FieldType} (X : xX g D A own S0 p s m args c cc nL) (hr : meth.sig.returnType = some ty) (hlk : meth.locks = false) (hw : xW g D A S s H) (hS : va_S A s.heap H locs) (hn : narrow ty (.int v) = .int v) (hdg : decode cc pc = .ok (.ireturn, 1)) : W p l e (xRm g S0 lv) s m args below meth c H locs cells slots (MQ below (xQi g D A (S, v)) args s (g.2.1 - xTop S0) (g.2.2.1 - xSl S0) A) (F0 m pc ls [.int v]) :=
  W.tight fun t1 t2 => W.widen (x_end X hw t1 t2).1 (x_end X hw t1 t2).2 (W.zret X.1 X.2.1 hr hn (fun t ht hW => ⟨⟨v, S, rfl, ⟨rfl, rfl⟩, x_fin X hw ht hW⟩, hS.F ht⟩) hS.2.2 hdg hlk)
theorem xr_lret {v : Int64} (X : xX g D A own S0 p s m args c cc nL) (hr : meth.sig.returnType = some .long) (hlk : meth.locks = false) (hw : xW g D A S s H) (hS : va_S A s.heap H locs) (hdg : decode cc pc = .ok (.lreturn, 1)) : W p l e (xRm g S0 lv) s m args below meth c H locs cells slots (MQ below (xQl g D A (S, v)) args s (g.2.1 - xTop S0) (g.2.2.1 - xSl S0) A) (F0 m pc ls [.long v]) :=
  W.tight fun t1 t2 => W.widen (x_end X hw t1 t2).1 (x_end X hw t1 t2).2 (W.lret X.1 X.2.1 hr (fun t ht hW => ⟨⟨v, S, rfl, ⟨rfl, rfl⟩, x_fin X hw ht hW⟩, hS.F ht⟩) hS.2.2 hdg hlk)
theorem xr_vret (X : xX g D A own S0 p s m args c cc nL) (hr : meth.sig.returnType = none) (hlk : meth.locks = false) (hw : xW g D A S s H) (hS : va_S A s.heap H locs) (hdg : decode cc pc = .ok (.return_, 1)) : W p l e (xRm g S0 lv) s m args below meth c H locs cells slots (MQ below (xQv g D A S) args s (g.2.1 - xTop S0) (g.2.2.1 - xSl S0) A) (F0 m pc ls []) :=
  W.tight fun t1 t2 => W.widen (x_end X hw t1 t2).1 (x_end X hw t1 t2).2 (W.vret X.1 X.2.1 hr (fun t ht hW => ⟨⟨S, rfl, rfl, x_fin X hw ht hW⟩, hS.F ht⟩) hS.2.2 hdg hlk)
theorem xr_aret {v : Nat} {rt : FieldType} (X : xX g D A own S0 p s m args c cc nL) (hr : meth.sig.returnType = some rt) (hrt : (∃ n, rt = .object n) ∨ ∃ t, rt = .array t) (hlk : meth.locks = false) (hw : xW g D A S s H) (hS : va_S A s.heap H locs) (hdg : decode cc pc = .ok (.areturn, 1)) : W p l e (xRm g S0 lv) s m args below meth c H locs cells slots (MQ below (xQr g D A (S, v)) args s (g.2.1 - xTop S0) (g.2.2.1 - xSl S0) A) (F0 m pc ls [.ref v]) :=
  W.tight fun t1 t2 => W.widen (x_end X hw t1 t2).1 (x_end X hw t1 t2).2 (W.aret X.1 X.2.1 hr hrt (Or.inr ⟨v, rfl⟩) (fun t ht hW => ⟨⟨S, v, rfl, rfl, rfl, x_fin X hw ht hW⟩, hS.F ht⟩) hS.2.2 hdg hlk)
/-- a method's contract out of the walk of its body -/
theorem x_start {av : List Value} (hy : plainName y.cls = true) (hyc : y.cls = own) (hent : (lg_sl av).length ≤ nL)
    (body : ∀ (p : Program) (e : Env) (s : State) (m : MethodId) (below : List Frame) (meth : Method) (c : Code) (ls : Array Slot), xX g D A own S p s m av.toArray c cc nL → meth.sig.returnType = ret → meth.locks = false → meth.name = y.name → xW g D A S s s.heap → lv_has ls nL (lv_args 0 av) → W p l e (xRm g S lv) s m av.toArray below meth c s.heap [] 0 0 (MQ below Qc av.toArray s (g.2.1 - xTop S) (g.2.2.1 - xSl S) A) (F0 m 0 ls [])) :
    Met l y (ws_ y cc nL ret) (xRm g S lv) (xPre g D A av S) Qc (g.2.1 - xTop S) (g.2.2.1 - xSl S) A := by
  refine Met.ofW (cc := cc) (maxL := nL) (ret := ret) hy rfl ?_
  intro p e s m args below meth c s₁ B hml hv
  obtain ⟨rfl, hw, hK⟩ := hv
  have hts := atoms_spec (ws := ws_ y cc nL ret) B.pre
  have hts : ∀ w ∈ lw_all, w.before av.toArray s = true := fun w h => hts w (List.mem_cons_of_mem _ h)
  have hown : s.vm.findClass y.cls = some m.cls := findClass_of_methodNamed B.named
  rw [hyc] at hown
  have hin : meth.name = y.name := (name_of_methodNamed B.named B.method).1
  have hl := lv_entry av (n := nL) hent
  rw [lg_entry_eq]
  exact body p e s m below meth c _ ⟨B.exec, B.bytes, hml, hown, hts, hK, hw.1.2.2.1, hw.1.2.2.2.1⟩ B.returns B.notSynchronized hin hw hl
end XN
