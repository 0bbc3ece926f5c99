/-! methods that may throw -/
/-- what is thrown: the state, the kind (0 NoSuchElementException, 1 IllegalArgumentException, 2 Wrong), Wrong's address -/
abbrev XT : Type := XS × Nat × Nat
def xEx (k : Nat) : String := match k with
  | 0 => "java/util/NoSuchElementException"
  | 1 => "java/lang/IllegalArgumentException"
  | _ => "DripCups$Wrong"
def xBump (S : XS) (H : Heap) : XS := ((H.size, slotsOf H, xCc S, xCs S), S.2)
/-- the picture behind a throw: how much lies on top isn't told -/
def xBW (g : XC) (D : va_G) (A : Nat → Prop) (S : XS) (U : State) (H : Heap) : Prop := xΩ D xcl g.1 A (xBump S H) H ∧ xCc S = g.2.1 ∧ xCs S = g.2.2.1 ∧ xΦ g A U H
def x_BX (g : XC) (D : va_G) (A : Nat → Prop) : Addr → String → XT → State → Prop := fun q E u t => E = xEx u.2.1 ∧ (u.2.1 = 2 → q = u.2.2 ∧ t.heap.size = xTop u.1 ∧ slotsOf t.heap = xSl u.1) ∧ xBW g D A u.1 t t.heap ∧ xK g D t
def xTi (g : XC) (D : va_G) (A : Nat → Prop) (w : (XS × Int32) ⊕ XT) : Array Value → State → Outcome → State → Prop := va_Qi (fun (r : Int32) (u : XS) => w = .inl (u, r)) (xB g D A) A
def xTv (g : XC) (D : va_G) (A : Nat → Prop) (w : XS ⊕ XT) : Array Value → State → Outcome → State → Prop := va_Qv (fun (u : XS) => w = .inl u) (xB g D A) A
def xTr (g : XC) (D : va_G) (A : Nat → Prop) (w : (XS × Nat) ⊕ XT) : Array Value → State → Outcome → State → Prop := va_Qr (fun (u : XS) => ∃ a, w = .inl (u, a)) (fun u a t => w = .inl (u, a) ∧ xB g D A u t) A
def xTx {α : Type} (g : XC) (D : va_G) (A : Nat → Prop) (w : α ⊕ XT) : Addr → String → State → State → Prop := vx_X (fun u : XT => w = .inr u) (x_BX g D A) A
/-- a call that may throw, then what follows -/
def tcase {α β : Type} (w : α ⊕ XT) (f : α → Option (β ⊕ XT)) : Option (β ⊕ XT) := match w with
  | .inl a => f a
  | .inr u => some (.inr u)
def tbind {α β : Type} (x : Option (α ⊕ XT)) (f : α → Option (β ⊕ XT)) : Option (β ⊕ XT) := x.bind fun w => tcase w f
theorem tb_s {α β : Type} {x : Option (α ⊕ XT)} {f : α → Option (β ⊕ XT)} {r : β ⊕ XT} (h : tbind x f = some r) : ∃ w, x = some w ∧ tcase w f = some r := Option.bind_eq_some_iff.mp h
theorem tc_l {α β : Type} {w : α ⊕ XT} {f : α → Option (β ⊕ XT)} {r : β ⊕ XT} {a : α} (h : w = .inl a) (q : tcase w f = some r) : f a = some r := by subst h; exact q
theorem tc_r {α β : Type} {w : α ⊕ XT} {f : α → Option (β ⊕ XT)} {r : β ⊕ XT} {u : XT} (h : w = .inr u) (q : tcase w f = some r) : r = .inr u := by subst h; exact (Option.some.inj q).symm
/-- room for an exception of the JDK's -/
def t_room {α : Type} (S : XS) (x : Option α) : Option α := if xTop S + 1 ≤ xCc S ∧ xSl S + 6 ≤ xCs S then x else none
theorem t_room_s {α : Type} {S : XS} {x : Option α} {r : α} (h : t_room S x = some r) : (xTop S + 1 ≤ xCc S ∧ xSl S + 6 ≤ xCs S) ∧ x = some r := by
  unfold t_room at h
  by_cases q : xTop S + 1 ≤ xCc S ∧ xSl S + 6 ≤ xCs S
  · rw [if_pos q] at h; exact ⟨q, h⟩
  · rw [if_neg q] at h; cases h
/-! words of a throw -/
def thr_ps : List Nat := [122, 123, 124, 125, 147, 154, 155, 393, 394, 405, 409, 410, 634, 636, 659, 660, 661, 662, 663, 664, 665, 666, 667, 668, 669, 670, 671, 672, 673, 674, 675, 676, 677, 678, 679, 680, 681, 682, 683, 684, 685, 686, 687, 688, 689, 690, 692, 693, 694, 695, 696, 697, 698, 699, 700, 701, 702, 703, 704, 705, 706, 707, 708, 709, 710, 711, 712, 713, 714, 715, 716, 717, 718, 719, 720, 721, 927, 928, 929, 930, 931, 1070, 1071, 1219, 1220, 1221, 1222, 1223, 1224, 1225, 1226, 1227, 1228, 1229, 1230, 1231, 1232, 2223, 2228, 2235, 2244, 2245]
theorem thr_ok {L : List Cond} (h : L.all (fun w => (thr_ps.filterMap (fun i => lw_tbl[i]?)).contains w && (goodWord w || xbad w) && vx_ot w) = true) : ∀ w ∈ L, w ∈ lw_tbl ∧ (goodWord w = true ∨ xbad w = true) ∧ vx_ot w = true := by
  intro w hw
  have h1 := List.all_eq_true.mp h w hw
  simp only [Bool.and_eq_true, Bool.or_eq_true] at h1
  obtain ⟨⟨h1, h2⟩, h3⟩ := h1
  refine ⟨?_, h2, h3⟩
  have h4 : w ∈ thr_ps.filterMap (fun i => lw_tbl[i]?) := by simpa using h1
  obtain ⟨i, -, hi⟩ := List.mem_filterMap.mp h4
  exact List.mem_of_getElem? hi
theorem thr_nsee : ∀ w ∈ vx_at0 "DripCups" 3 "java/util/NoSuchElementException" ["java/lang/RuntimeException", "java/lang/Exception"], w ∈ lw_tbl ∧ (goodWord w = true ∨ xbad w = true) ∧ vx_ot w = true := thr_ok (by decide +kernel)
theorem thr_iae : ∀ w ∈ vx_at0 "DripCups" 9 "java/lang/IllegalArgumentException" ["java/lang/RuntimeException", "java/lang/Exception"], w ∈ lw_tbl ∧ (goodWord w = true ∨ xbad w = true) ∧ vx_ot w = true := thr_ok (by decide +kernel)
theorem xbad_tab {w : Cond} (h : xbad w = true) : w.onTables = true := by cases w <;> first | rfl | cases h
section XTH
variable {p : Program} {l : Launch} {e : Env} {R : Room} {s : State} {m : MethodId} {args : Array Value} {below : List Frame} {meth : Method} {c : Code} {H : Heap} {locs : List Loc} {cells slots : Nat} {Q : State → Prop}
variable {cc : ByteArray} {pc nL lv lv2 : Nat} {ls : Array Slot} {rest st : List Value} {g : XC} {D : va_G} {A : Nat → Prop} {own : String} {S0 S S1 : XS} {idx a : Nat}
/-- what lies behind a throw, seen from the caller -/
def x_thr (g : XC) (D : va_G) (A : Nat → Prop) (s : State) (H1 : Heap) (locs1 : List Loc) (q9 : Addr) (E : String) (ce : Cell) (u : XT) : Prop := H1[q9]? = some ce ∧ ce.vm = .none ∧ s.vm.findClass E = some ce.cls ∧ va_S A s.heap H1 locs1 ∧ E = xEx u.2.1 ∧ (u.2.1 = 2 → q9 = u.2.2 ∧ H1.size = xTop u.1 ∧ slotsOf H1 = xSl u.1) ∧ xBW g D A u.1 s H1
theorem xBW.at {S : XS} {U V : State} {H : Heap} (h : xBW g D A S U H) (hv : U.vm.Alike V.vm) : xBW g D A S V H := ⟨h.1, h.2.1, h.2.2.1, h.2.2.2.moved hv (fun _ _ _ => rfl)⟩
variable {α : Type} {Qc : Array Value → State → Outcome → State → Prop}
/-- a throw goes on to the caller -/
theorem xt_pass {w : α ⊕ XT} {u : XT} {k n : Nat} {E : String} {ce : Cell} {q9 : Addr} (X : xX g D A own S0 p s m args c cc nL) (hlk : meth.locks = false) (hout : ∀ x ∈ c.exceptionTable.toList, False) (hu : w = .inr u) (ht : x_thr g D A s H locs q9 E ce u) (hk : k ≤ g.2.1 - xTop S0) (hn : n ≤ g.2.2.1 - xSl S0) : vx_W p l e R s m args below meth c H locs k n (vx_MQ below Qc (xTx g D A w) args s (g.2.1 - xTop S0) (g.2.2.1 - xSl S0) A) (F0 m pc ls rest) q9 := by
  obtain ⟨h1, h2, h3, h4, h5, h6, h7⟩ := ht
  refine vx_out (fun x hx => absurd hx (fun z => hout x z)) hlk h1 h2 h3 (fun t ht hW => ⟨u, hu, ⟨h5, fun z => by rw [ht]; exact h6 z, ?_, X.2.2.2.2.2.1.warm hW⟩, h4.F ht⟩) h4.2.2 hk hn
  rw [ht]
  exact h7.at hW.alike
theorem xt_thr {E : String} {ce : Cell} {q9 : Addr} {u : XT} {t : State} {H1 : Heap} {locs1 : List Loc} (ht : t.heap = H1) (hvm : s.vm.Alike t.vm) (hB : x_BX g D A q9 E u t) (hS1 : va_S A s.heap H1 locs1) (hce : H1[q9]? = some ce) (hcv : ce.vm = .none) (hcl : s.vm.findClass E = some ce.cls) : x_thr g D A s H1 locs1 q9 E ce u := by
  obtain ⟨b1, b2, b3, -⟩ := hB
  rw [ht] at b2 b3
  exact ⟨hce, hcv, hcl, hS1, b1, b2, b3.at hvm.symm⟩
variable {mc ms : Nat} {as : Array Value}
theorem xt_reti {w : (XS × Int32) ⊕ XT} (hS : va_S A s.heap H locs) (hr : s.heap.size ≤ H.size → slotsOf s.heap ≤ slotsOf H → vx_Run p l e (xRm g S0 lv2) s m args below meth c H locs (H.size - s.heap.size) (slotsOf H - slotsOf s.heap) mc ms (F0 m pc ls st) rest (xTi g D A w as) (xTx g D A w) A)
    (kx : s.heap.size ≤ H.size → slotsOf s.heap ≤ slotsOf H → ∀ (u : XT) (E : String) (ce : Cell) (q9 : Addr) (H1 : Heap) (locs1 : List Loc), w = .inr u → x_thr g D A s H1 locs1 q9 E ce u → vx_W p l e (xRm g S0 lv2) s m args below meth c H1 locs1 (H.size - s.heap.size + mc) (slotsOf H - slotsOf s.heap + ms) Q (F0 m pc ls rest) q9)
    (kk : ∀ r : XS × Int32, w = .inl r → ∀ (H1 : Heap) (locs1 : List Loc) (cells slots : Nat), xW g D A r.1 s H1 → va_S A s.heap H1 locs1 → W p l e (xRm g S0 lv2) s m args below meth c H1 locs1 cells slots Q (F0 m (pc + 3) ls (.int r.2 :: rest))) : W p l e (xRm g S0 lv2) s m args below meth c H locs cells slots Q (F0 m pc ls st) :=
  W.tight fun t1 t2 => vx_calli (hr t1 t2) hS (fun _ _ h => h) (fun _ h => h) (fun _ _ h => h)
    (fun E ce q9 u t H1 locs1 ht hvm hp hB hz hk hS1 hce hcv hcl => kx t1 t2 u E ce q9 H1 locs1 hp (xt_thr ht hvm hB hS1 hce hcv hcl))
    (fun r2 u t H1 locs1 ht hvm hp hB hz hk hS1 => kk (u, r2) hp H1 locs1 _ _ (x_back hB ht hvm) hS1)
theorem xt_retv {w : XS ⊕ XT} (hS : va_S A s.heap H locs) (hr : s.heap.size ≤ H.size → slotsOf s.heap ≤ slotsOf H → vx_Run p l e (xRm g S0 lv2) s m args below meth c H locs (H.size - s.heap.size) (slotsOf H - slotsOf s.heap) mc ms (F0 m pc ls st) rest (xTv g D A w as) (xTx g D A w) A)
    (kx : s.heap.size ≤ H.size → slotsOf s.heap ≤ slotsOf H → ∀ (u : XT) (E : String) (ce : Cell) (q9 : Addr) (H1 : Heap) (locs1 : List Loc), w = .inr u → x_thr g D A s H1 locs1 q9 E ce u → vx_W p l e (xRm g S0 lv2) s m args below meth c H1 locs1 (H.size - s.heap.size + mc) (slotsOf H - slotsOf s.heap + ms) Q (F0 m pc ls rest) q9)
    (kk : ∀ r : XS, w = .inl r → ∀ (H1 : Heap) (locs1 : List Loc) (cells slots : Nat), xW g D A r s H1 → va_S A s.heap H1 locs1 → W p l e (xRm g S0 lv2) s m args below meth c H1 locs1 cells slots Q (F0 m (pc + 3) ls rest)) : W p l e (xRm g S0 lv2) s m args below meth c H locs cells slots Q (F0 m pc ls st) :=
  W.tight fun t1 t2 => vx_callv (hr t1 t2) hS (fun _ _ h => h) (fun _ h => h) (fun _ _ h => h)
    (fun E ce q9 u t H1 locs1 ht hvm hp hB hz hk hS1 hce hcv hcl => kx t1 t2 u E ce q9 H1 locs1 hp (xt_thr ht hvm hB hS1 hce hcv hcl))
    (fun u t H1 locs1 ht hvm hp hB hz hk hS1 => kk u hp H1 locs1 _ _ (x_back hB ht hvm) hS1)
theorem xt_retr {w : (XS × Nat) ⊕ XT} (hS : va_S A s.heap H locs) (hr : s.heap.size ≤ H.size → slotsOf s.heap ≤ slotsOf H → vx_Run p l e (xRm g S0 lv2) s m args below meth c H locs (H.size - s.heap.size) (slotsOf H - slotsOf s.heap) mc ms (F0 m pc ls st) rest (xTr g D A w as) (xTx g D A w) A)
    (kx : s.heap.size ≤ H.size → slotsOf s.heap ≤ slotsOf H → ∀ (u : XT) (E : String) (ce : Cell) (q9 : Addr) (H1 : Heap) (locs1 : List Loc), w = .inr u → x_thr g D A s H1 locs1 q9 E ce u → vx_W p l e (xRm g S0 lv2) s m args below meth c H1 locs1 (H.size - s.heap.size + mc) (slotsOf H - slotsOf s.heap + ms) Q (F0 m pc ls rest) q9)
    (kk : ∀ r : XS × Nat, w = .inl r → ∀ (H1 : Heap) (locs1 : List Loc) (cells slots : Nat), xW g D A r.1 s H1 → va_S A s.heap H1 locs1 → W p l e (xRm g S0 lv2) s m args below meth c H1 locs1 cells slots Q (F0 m (pc + 3) ls (.ref r.2 :: rest))) : W p l e (xRm g S0 lv2) s m args below meth c H locs cells slots Q (F0 m pc ls st) := by
  refine W.tight fun t1 t2 => ?_
  intro T hT X
  rcases hr t1 t2 T hT X with ⟨v, st₀, t, T', L, h0, X', hL, e1, e2, ⟨⟨u, a, hv, hp, hw, hb⟩, hF⟩, st⟩ | ⟨q, st₀, t, T', L, E, ce, h0, X', hL, e1, e2, ⟨u, hp, hb, hF⟩, hce, hcv, hcl, st⟩
  · cases hv
    obtain ⟨k1, k2, k3⟩ := vx_keep h0 e1 hS (fun _ _ h => h) (fun _ h => h) hL hF
    obtain ⟨t2, a1, b1⟩ := kk (u, a) hw T'.heap (locs ++ L) _ _ (x_back hb e1.symm (by rw [← e2]; exact X'.warmed.alike)) k3 T' rfl X'
    exact ⟨t2, st t2 a1, b1⟩
  · obtain ⟨k1, k2, k3⟩ := vx_keep h0 e1 hS (fun _ _ h => h) (fun _ h => h) hL hF
    obtain ⟨t2, a1, b1⟩ := kx t1 t2 u E ce q T'.heap (locs ++ L) hp (xt_thr e1.symm (by rw [← e2]; exact X'.warmed.alike) hb k3 (by rw [e1]; exact hce) hcv hcl) T' rfl X'
    exact ⟨t2, st.trans a1, b1⟩
variable {y : MethodName} {bytes : ByteArray} {maxL n index : Nat} {ret : Option FieldType} {As : List Value} {XCc : Addr → String → State → State → Prop}
theorem xt_runV {b N ci : Nat} {C : String} {T : u_T} {u : Unit} (X : xX g D A own S0 p s m args c cc nL) (hw : xW g D A S s H) (hM : vx_Met l y (ws_ y bytes maxL ret) (xRm g S lv) (xPre g D A (.ref b :: As) S) Qc XCc (g.2.1 - xTop S) (g.2.2.1 - xSl S) A) (cw : CallW (xRm g S0 lv2) s args own C index y bytes maxL ret (ws_ y bytes maxL ret) (xRm g S lv) (g.2.1 - xTop S) (g.2.2.1 - xSl S) n) (hc : xcl[ci]? = some (C, T, N)) (hv : f_cls S ci b = some u) (hn : As.length = n) (hsz : ls.size = nL) (hst : st = As.reverse ++ .ref b :: rest) (hr : (rest.map fun v => v.category).sum ≤ 8) (hdg : decode cc pc = .ok (.invokevirtual index, 3)) (t1 : s.heap.size ≤ H.size) (t2 : slotsOf s.heap ≤ slotsOf H) :
    vx_Run p l e (xRm g S0 lv2) s m args below meth c H locs (H.size - s.heap.size) (slotsOf H - slotsOf s.heap) (g.2.1 - xTop S) (g.2.2.1 - xSl S) (F0 m pc ls st) rest (Qc (Value.ref b :: As).toArray) XCc A :=
  vx_runV (x_fix X) hM cw (x_preV X hw hc hv As) rfl hn hsz hst (lv_room hr) hdg (x_fits X hw t1 t2)
theorem xt_runS (X : xX g D A own S0 p s m args c cc nL) (hw : xW g D A S s H) (hM : vx_Met l y (ws_ y bytes maxL ret) (xRm g S lv) (xPre g D A As S) Qc XCc (g.2.1 - xTop S) (g.2.2.1 - xSl S) A) (cw : CallB (xRm g S0 lv2) s args own index y bytes maxL ret (ws_ y bytes maxL ret) (xRm g S lv) (g.2.1 - xTop S) (g.2.2.1 - xSl S) n ∧ (Cond.static y).before args s = true) (hn : As.length = n) (hsz : ls.size = nL) (hst : st = As.reverse ++ rest) (hr : (rest.map fun v => v.category).sum ≤ 8) (hdg : decode cc pc = .ok (.invokestatic index, 3)) (t1 : s.heap.size ≤ H.size) (t2 : slotsOf s.heap ≤ slotsOf H) :
    vx_Run p l e (xRm g S0 lv2) s m args below meth c H locs (H.size - s.heap.size) (slotsOf H - slotsOf s.heap) (g.2.1 - xTop S) (g.2.2.1 - xSl S) (F0 m pc ls st) rest (Qc As.toArray) XCc A :=
  vx_runS (x_fix X) hM cw (x_preS X hw As) rfl hn hsz hst (lv_room hr) hdg (x_fits X hw t1 t2)
/-! ends -/
theorem xt_iret {v : Int32} {ty : FieldType} {XCc : Addr → String → State → State → Prop} (X : xX g D A own S0 p s m args c cc nL) (hr : meth.sig.returnType = some ty) (hlk : meth.locks = false) (hw : xW g D A S s H) (hS : va_S A s.heap H locs) (hn : narrow ty (.int v) = .int v) (hdg : decode cc pc = .ok (.ireturn, 1)) : W p l e (xRm g S0 lv) s m args below meth c H locs cells slots (vx_MQ below (xTi g D A (.inl (S, v))) XCc args s (g.2.1 - xTop S0) (g.2.2.1 - xSl S0) A) (F0 m pc ls [.int v]) :=
  vx_ret (W.tight fun t1 t2 => W.widen (x_end X hw t1 t2).1 (x_end X hw t1 t2).2 (W.zret X.1 X.2.1 hr hn (fun t ht hW => ⟨⟨v, S, rfl, rfl, x_fin X hw ht hW⟩, hS.F ht⟩) hS.2.2 hdg hlk))
theorem xt_vret {XCc : Addr → String → State → State → Prop} (X : xX g D A own S0 p s m args c cc nL) (hr : meth.sig.returnType = none) (hlk : meth.locks = false) (hw : xW g D A S s H) (hS : va_S A s.heap H locs) (hdg : decode cc pc = .ok (.return_, 1)) : W p l e (xRm g S0 lv) s m args below meth c H locs cells slots (vx_MQ below (xTv g D A (.inl S)) XCc args s (g.2.1 - xTop S0) (g.2.2.1 - xSl S0) A) (F0 m pc ls []) :=
  vx_ret (W.tight fun t1 t2 => W.widen (x_end X hw t1 t2).1 (x_end X hw t1 t2).2 (W.vret X.1 X.2.1 hr (fun t ht hW => ⟨⟨S, rfl, rfl, x_fin X hw ht hW⟩, hS.F ht⟩) hS.2.2 hdg hlk))
theorem xt_aret {v : Nat} {rt : FieldType} {XCc : Addr → String → State → State → Prop} (X : xX g D A own S0 p s m args c cc nL) (hr : meth.sig.returnType = some rt) (hrt : (∃ n, rt = .object n) ∨ ∃ t, rt = .array t) (hlk : meth.locks = false) (hw : xW g D A S s H) (hS : va_S A s.heap H locs) (hdg : decode cc pc = .ok (.areturn, 1)) : W p l e (xRm g S0 lv) s m args below meth c H locs cells slots (vx_MQ below (xTr g D A (.inl (S, v))) XCc args s (g.2.1 - xTop S0) (g.2.2.1 - xSl S0) A) (F0 m pc ls [.ref v]) :=
  vx_ret (W.tight fun t1 t2 => W.widen (x_end X hw t1 t2).1 (x_end X hw t1 t2).2 (W.aret X.1 X.2.1 hr hrt (Or.inr ⟨v, rfl⟩) (fun t ht hW => ⟨⟨S, v, rfl, ⟨v, rfl⟩, rfl, x_fin X hw ht hW⟩, hS.F ht⟩) hS.2.2 hdg hlk))
/-- 'throw x' of a Wrong that was made -/
theorem xt_wrong {u : Unit} (X : xX g D A own S0 p s m args c cc nL) (hlk : meth.locks = false) (hout : ∀ x ∈ c.exceptionTable.toList, False) (hw : xW g D A S s H) (hS : va_S A s.heap H locs) (hv : f_cls S 9 a = some u) (hdg : decode cc pc = .ok (.athrow, 1)) : W p l e (xRm g S0 lv) s m args below meth c H locs cells slots (vx_MQ below Qc (xTx (α := α) g D A (.inr (S, 2, a))) args s (g.2.1 - xTop S0) (g.2.2.1 - xSl S0) A) (F0 m pc ls (.ref a :: rest)) := by
  refine W.tight fun t1 t2 => vx_athrow X.1 X.2.1 hdg ?_
  obtain ⟨fs, hc⟩ := f_cls_s hv
  obtain ⟨r, h1, cell, q1, q2, q3, -⟩ := xΩ_at hw.1 hc
  have hr : r = (RX6, TX6, 7) := Option.some.inj (h1.symm.trans xc9)
  have hcl : s.vm.findClass "DripCups$Wrong" = some cell.cls := by rw [q2]; exact (X.2.2.2.2.2.1.1.1 9 _ xc9).2.1
  have e3 : H.size = xTop S := hw.1.2.2.1
  have e4 : slotsOf H = xSl S := hw.1.2.2.2.1
  have eb : xBump S H = S := by unfold xBump; rw [e3, e4]; rfl
  exact xt_pass X hlk hout rfl ⟨q1, q3, hcl, hS, rfl, fun _ => ⟨rfl, e3, e4⟩, by unfold xBW; rw [eb]; exact ⟨hw.1, hw.2.1, hw.2.2.1, hw.2.2.2.2.2⟩⟩ (x_end X hw t1 t2).1 (x_end X hw t1 t2).2
/-- what is on top isn't told -/
theorem x_bump {H1 : Heap} {U : State} (hw : xW g D A S s H) (hv : s.vm.Alike U.vm) (hz : H.size ≤ H1.size) (hq : ∀ q : Nat, q < H.size → H1[q]? = H[q]?) : xBW g D A S U H1 := by
  obtain ⟨⟨w1, w2, w3, w4, w5⟩, w6, w7, w8, w9, w10⟩ := hw
  refine ⟨⟨fun q e0 h => ?_, w2, rfl, rfl, fun q h => w5 q (Nat.le_trans (by rw [← w3]; exact hz) h)⟩, w6, w7, w10.moved hv (fun q h _ => hq q h)⟩
  have h2 := w1 q e0 h
  exact ⟨h2.1.kept (hq q h2.1.lt), h2.2⟩
/-- 'throw new E()' of one of the JDK's -/
theorem xt_throw0 {k ik ic : Nat} (X : xX g D A "DripCups" S0 p s m args c cc nL) (hlT : l.stackTraces = false) (hlk : meth.locks = false) (hout : ∀ x ∈ c.exceptionTable.toList, False) (hw0 : xW g D A S0 s s.heap) (hw : xW g D A S s H) (hS : va_S A s.heap H locs) (hsz : ls.size = nL) (hrm : xTop S + 1 ≤ xCc S ∧ xSl S + 6 ≤ xCs S) (h2k : k < 2) (hcls : Bundle.fit (xEx k) = true)
    (hat : ∀ w ∈ vx_at0 "DripCups" ic (xEx k) ["java/lang/RuntimeException", "java/lang/Exception"], w ∈ lw_tbl ∧ (goodWord w = true ∨ xbad w = true) ∧ vx_ot w = true) (hk : Cond.classLink "DripCups" ik (xEx k) ∈ lw_all) (hini : Cond.initialized (xEx k) ∈ lw_all) (hr : (rest.map fun v => v.category).sum ≤ 8) (hlv : 5 ≤ lv)
    (d0 : decode cc pc = .ok (.new ik, 3)) (d3 : decode cc (pc + 3) = .ok (.dup, 1)) (d4 : decode cc (pc + 4) = .ok (.invokespecial ic, 3)) (d7 : decode cc (pc + 7) = .ok (.athrow, 1)) :
    W p l e (xRm g S0 lv) s m args below meth c H locs cells slots (vx_MQ below Qc (xTx (α := α) g D A (.inr (S, k, 0))) args s (g.2.1 - xTop S0) (g.2.2.1 - xSl S0) A) (F0 m pc ls rest) := by
  refine W.tight fun t1 t2 => ?_
  have hts := X.2.2.2.2.1
  have hN := X.2.2.2.2.2.1.2.1.1
  have e3 : H.size = xTop S := hw.1.2.2.1
  have e4 : slotsOf H = xSl S := hw.1.2.2.2.1
  have hcc := hw.2.1
  have hcs := hw.2.2.1
  have hz0 := X.2.2.2.2.2.2.1
  have hs0 := X.2.2.2.2.2.2.2
  have hph := x_phi hw0
  obtain ⟨-, -, -, -, -, -, -, -, -, -, -, -, hU, hV, -⟩ := hph
  refine vx_throw0 (A := A) (names := ["java/lang/RuntimeException", "java/lang/Exception"]) X.1 X.2.1 hlT X.2.2.2.1 hcls (by intro n hn; simp only [List.mem_cons, List.not_mem_nil, or_false] at hn; rcases hn with rfl | rfl <;> rfl) (hts _ hk) (hts _ hini) (fun w hw2 => ?_) (fun w hw2 => ?_) hU hV hS (by rw [X.2.2.1]; exact hsz) d0 d3 d4 d7 (fun x hx => absurd hx (fun z => hout x z)) (by simp only [xRm, List.length_cons, List.length_nil]; omega) (by simp only [xRm, List.length_cons, List.length_nil]; omega) (by simp only [xRm]; omega) (by simp only [xRm]; omega) hlk (fun q9 t hW hz hq => ⟨_, rfl, ⟨rfl, fun z => absurd z (by show ¬ k = 2; omega), x_bump hw hW.alike hz hq, X.2.2.2.2.2.1.warm hW⟩, ?_⟩) hS.2.2 (by omega) (by omega)
  · obtain ⟨h1, h2, -⟩ := hat w hw2
    rcases h2 with h2 | h2
    · exact hts w (List.mem_filter.mpr ⟨h1, h2⟩)
    · exact va_Nw.use (xbad_tab h2) (hN w h1 h2)
  · rcases List.mem_cons.mp hw2 with e | hw2
    · rw [e]; unfold vx_ot; rw [(List.mem_filter.mp hk).2]; simp
    · rcases List.mem_cons.mp hw2 with e | hw2
      · rw [e]; unfold vx_ot; rw [(List.mem_filter.mp hini).2]; simp
      · exact (hat w hw2).2.2
  · exact ⟨Nat.le_trans hS.1 hz, fun q h1 h2 => (hq q (Nat.lt_of_lt_of_le h1 hS.1)).trans (hS.2.1 q h1 h2)⟩
/-- a throwing method's contract out of the walk of its body -/
theorem x_startT {l : Launch} {av : List Value} {XCc : Addr → String → State → State → Prop} (hy : plainName y.cls = true) (hyc : y.cls = own) (hent : (lg_sl av).length ≤ nL)
    (body : ∀ (p : Program) (e : Env) (s : State) (m : MethodId) (below : List Frame) (meth : Method) (c : Code) (ls : Array Slot), xX g D A own S p s m av.toArray c cc nL → meth.sig.returnType = ret → meth.locks = false → meth.name = y.name → (∀ x ∈ c.exceptionTable.toList, False) → xW g D A S s s.heap → lv_has ls nL (lv_args 0 av) → W p l e (xRm g S lv) s m av.toArray below meth c s.heap [] 0 0 (vx_MQ below Qc XCc av.toArray s (g.2.1 - xTop S) (g.2.2.1 - xSl S) A) (F0 m 0 ls [])) :
    vx_Met l y (ws_ y cc nL ret) (xRm g S lv) (xPre g D A av S) Qc XCc (g.2.1 - xTop S) (g.2.2.1 - xSl S) A := by
  refine vx_ofW (cc := cc) (maxL := nL) (ret := ret) hy rfl ?_
  intro p e s m args below meth c s₁ B hml hout hv
  obtain ⟨rfl, hw, hK⟩ := hv
  have hts := atoms_spec (ws := ws_ y cc nL ret) B.pre
  have hts : ∀ w ∈ lw_all, w.before av.toArray s = true := fun w h => hts w (List.mem_cons_of_mem _ h)
  have hown : s.vm.findClass y.cls = some m.cls := findClass_of_methodNamed B.named
  rw [hyc] at hown
  have hin : meth.name = y.name := (name_of_methodNamed B.named B.method).1
  have hl := lv_entry av (n := nL) hent
  rw [lg_entry_eq]
  exact body p e s m below meth c _ ⟨B.exec, B.bytes, hml, hown, hts, hK, hw.1.2.2.1, hw.1.2.2.2.1⟩ B.returns B.notSynchronized hin hout hw hl
end XTH
