/-! methods with handlers -/
def hcase {α β : Type} (w : α ⊕ XT) (h : XT → Option β) (f : α → Option β) : Option β := match w with
  | .inl a => f a
  | .inr u => h u
def hbind {α β : Type} (x : Option (α ⊕ XT)) (h : XT → Option β) (f : α → Option β) : Option β := x.bind fun w => hcase w h f
theorem hb_s {α β : Type} {x : Option (α ⊕ XT)} {h : XT → Option β} {f : α → Option β} {r : β} (q : hbind x h f = some r) : ∃ w, x = some w ∧ hcase w h f = some r := Option.bind_eq_some_iff.mp q
theorem hc_l {α β : Type} {w : α ⊕ XT} {h : XT → Option β} {f : α → Option β} {r : β} {a : α} (e : w = .inl a) (q : hcase w h f = some r) : f a = some r := by subst e; exact q
theorem hc_r {α β : Type} {w : α ⊕ XT} {h : XT → Option β} {f : α → Option β} {r : β} {u : XT} (e : w = .inr u) (q : hcase w h f = some r) : h u = some r := by subst e; exact q
/-- an answer, and the state but for what lies unused on top -/
def xSim (S u : XS) : Prop := u.2 = S.2 ∧ xCc u = xCc S ∧ xCs u = xCs S
def xQo (g : XC) (D : va_G) (A : Nat → Prop) (w : XS × Int32) : Array Value → State → Outcome → State → Prop := va_Qi (fun (r : Int32) (u : XS) => r = w.2 ∧ xSim w.1 u) (xB g D A) A
section XH
variable {p : Program} {l : Launch} {e : Env} {R : Room} {s : State} {m : MethodId} {args : Array Value} {below : List Frame} {meth : Method} {c : Code} {H : Heap} {locs : List Loc} {cells slots : Nat} {Q : State → Prop}
variable {cc : ByteArray} {pc nL lv lv2 : Nat} {ls : Array Slot} {rest st : List Value} {g : XC} {D : va_G} {A : Nat → Prop} {own : String} {S0 S S1 : XS} {idx a : Nat}
theorem W.room {gg : JFrame} (kk : H.size ≤ s.heap.size + cells → slotsOf H ≤ slotsOf s.heap + slots → W p l e R s m args below meth c H locs cells slots Q gg) : W p l e R s m args below meth c H locs cells slots Q gg := by
  intro T hT X
  obtain ⟨e1, e2, e3, e4, e5, e6⟩ := X.same
  have hH : (T.setVm s.vm).heap = H := hT
  rw [hH] at e2 e3 e4 e5 e6
  have hsum := slotsOf_split e2 (fun a c0 hc => by
    obtain ⟨c', h1, -, h3, -⟩ := e6 a c0 hc
    exact ⟨c', h1, h3⟩)
  exact kk (by omega) (by omega) T hT X
/-- the world behind a throw that is caught -/
theorem xt_world {u : XT} {q9 : Addr} {E : String} {ce : Cell} {H1 : Heap} {locs1 : List Loc} {gg : JFrame} (X : xX g D A own S0 p s m args c cc nL) (hw : xW g D A S s H) (t1 : s.heap.size ≤ H.size) (t2 : slotsOf s.heap ≤ slotsOf H) (ht : x_thr g D A s H1 locs1 q9 E ce u)
    (kk : xW g D A (xBump u.1 H1) s H1 → W p l e R s m args below meth c H1 locs1 (H.size - s.heap.size + (g.2.1 - xTop S)) (slotsOf H - slotsOf s.heap + (g.2.2.1 - xSl S)) Q gg) : W p l e R s m args below meth c H1 locs1 (H.size - s.heap.size + (g.2.1 - xTop S)) (slotsOf H - slotsOf s.heap + (g.2.2.1 - xSl S)) Q gg := by
  refine W.room fun r1 r2 => kk ?_
  obtain ⟨-, -, -, -, -, -, b1, b2, b3, b4⟩ := ht
  have e3 : H.size = xTop S := hw.1.2.2.1
  have e4 : slotsOf H = xSl S := hw.1.2.2.2.1
  have h4 := hw.2.2.2.1
  have h5 := hw.2.2.2.2.1
  refine ⟨b1, b2, b3, ?_, ?_, b4⟩
  · show H1.size ≤ g.2.1
    omega
  · show slotsOf H1 ≤ g.2.2.1
    omega
theorem xBump_eq {S : XS} {H : Heap} (h1 : H.size = xTop S) (h2 : slotsOf H = xSl S) : xBump S H = S := by unfold xBump; rw [h1, h2]; rfl
/-- caught -/
theorem xt_catch {u : XT} {q9 : Addr} {E : String} {ce : Cell} {H1 : Heap} {locs1 : List Loc} {hh : List (Nat × Nat × Nat × Nat)} (X : xX g D A own S0 p s m args c cc nL) (hw : xW g D A S s H) (t1 : s.heap.size ≤ H.size) (t2 : slotsOf s.heap ≤ slotsOf H) (ht : x_thr g D A s H1 locs1 q9 E ce u) (htab : c.exceptionTable.toList = tableOf hh)
    (pre : List ExceptionTableEntry) (x : ExceptionTableEntry) (suf : List ExceptionTableEntry) (hsplit : tableOf hh = pre ++ x :: suf)
    (hpass : ∀ z ∈ pre, covers z pc = false ∨ (z.catchType ≠ 0 ∧ ∃ nm : String, (Cond.classLink own z.catchType nm).before args s = true ∧ va_Nc (xEx u.2.1) nm s)) (hx : covers x pc = true) (h0 : x.catchType ≠ 0) {name : String} (hlink : Cond.classLink own x.catchType name ∈ lw_all) (hcast : Cond.castable (xEx u.2.1) name ∈ lw_tbl)
    (kk : xW g D A (xBump u.1 H1) s H1 → va_S A s.heap H1 locs1 → W p l e R s m args below meth c H1 locs1 (H.size - s.heap.size + (g.2.1 - xTop S)) (slotsOf H - slotsOf s.heap + (g.2.2.1 - xSl S)) Q (F0 m x.handlerPc ls [.ref q9])) : vx_W p l e R s m args below meth c H1 locs1 (H.size - s.heap.size + (g.2.1 - xTop S)) (slotsOf H - slotsOf s.heap + (g.2.2.1 - xSl S)) Q (F0 m pc ls rest) q9 := by
  have ht0 := ht
  obtain ⟨h1, h2, h3, h4, h5, h6, h7⟩ := ht
  refine vx_catch X.2.2.2.1 pre x suf (htab.trans hsplit) (fun z hz => ?_) hx h0 (X.2.2.2.2.1 _ hlink) (E := E) ?_ h1 h2 h3 (xt_world X hw t1 t2 ht0 fun hw1 => kk hw1 h4)
  · rw [h5]; exact hpass z hz
  · rw [h5]; exact va_Nw.use rfl (X.2.2.2.2.2.1.2.1.1 _ hcast rfl)
theorem xo_iret {v : Int32} {ty : FieldType} {S2 : XS} (X : xX g D A own S0 p s m args c cc nL) (hr : meth.sig.returnType = some ty) (hlk : meth.locks = false) (hw : xW g D A S s H) (hsim : xSim S2 S) (hS : va_S A s.heap H locs) (hn : narrow ty (.int v) = .int v) (hdg : decode cc pc = .ok (.ireturn, 1)) : W p l e (xRm g S0 lv) s m args below meth c H locs cells slots (MQ below (xQo g D A (S2, v)) args s (g.2.1 - xTop S0) (g.2.2.1 - xSl S0) A) (F0 m pc ls [.int v]) :=
  W.tight fun t1 t2 => W.widen (x_end X hw t1 t2).1 (x_end X hw t1 t2).2 (W.zret X.1 X.2.1 hr hn (fun t ht hW => ⟨⟨v, S, rfl, ⟨rfl, hsim⟩, x_fin X hw ht hW⟩, hS.F ht⟩) hS.2.2 hdg hlk)
theorem xSim_rf (S : XS) : xSim S S := ⟨rfl, rfl, rfl⟩
theorem xSim_bump (S : XS) (H : Heap) : xSim S (xBump S H) := ⟨rfl, rfl, rfl⟩
variable {y : MethodName} {ret : Option FieldType} {Qc : Array Value → State → Outcome → State → Prop}
/-- the contract of a method with handlers that throws nothing -/
theorem Met_ofX {l : Launch} {y : MethodName} {ws : List Cond} {rm : Room} {Pc : Array Value → State → Prop} {Qc : Array Value → State → Outcome → State → Prop} {mc ms : Nat} {free : Addr → Prop} (h : vx_Met l y ws rm Pc Qc (fun _ _ _ _ => False) mc ms free) : Met l y ws rm Pc Qc mc ms free := by
  intro p e h1 h2 h3 s m args below h4 h5 h6 h7
  obtain ⟨n, o, q1, q2, q3, q4⟩ := h p e h1 h2 h3 s m args below h4 h5 h6 h7
  rcases q4 with q4 | ⟨q, -, E, ce, L, hf, -⟩
  · exact ⟨n, o, q1, q2, q3, q4⟩
  · exact hf.elim
theorem x_startH {l : Launch} {av : List Value} {hh : List (Nat × Nat × Nat × Nat)} {XCc : Addr → String → State → State → Prop} (hy : plainName y.cls = true) (hyc : y.cls = own) (hent : (lg_sl av).length ≤ nL)
    (body : ∀ (p : Program) (e : Env) (s : State) (m : MethodId) (below : List Frame) (meth : Method) (c : Code) (ls : Array Slot), xX g D A own S p s m av.toArray c cc nL → meth.sig.returnType = ret → meth.locks = false → meth.name = y.name → c.exceptionTable.toList = tableOf hh → xW g D A S s s.heap → lv_has ls nL (lv_args 0 av) → W p l e (xRm g S lv) s m av.toArray below meth c s.heap [] 0 0 (vx_MQ below Qc XCc av.toArray s (g.2.1 - xTop S) (g.2.2.1 - xSl S) A) (F0 m 0 ls [])) :
    vx_Met l y (wsW_ y cc nL ret hh) (xRm g S lv) (xPre g D A av S) Qc XCc (g.2.1 - xTop S) (g.2.2.1 - xSl S) A := by
  refine vx_ofWH (cc := cc) (maxL := nL) (ret := ret) (hh := hh) hy rfl ?_
  intro p e s m args below meth c s₁ B hml hv
  obtain ⟨rfl, hw, hK⟩ := hv
  have hts := atoms_spec (ws := wsW_ y cc nL ret hh) B.pre
  have htab := vx_table (x := y) B (hts _ List.mem_cons_self)
  have hts : ∀ w ∈ lw_all, w.before av.toArray s = true := fun w h => hts w (List.mem_cons_of_mem _ h)
  have hown : s.vm.findClass y.cls = some m.cls := findClass_of_methodNamed B.named
  rw [hyc] at hown
  have hin : meth.name = y.name := (name_of_methodNamed B.named B.method).1
  have hl := lv_entry av (n := nL) hent
  rw [lg_entry_eq]
  exact body p e s m below meth c _ ⟨B.exec, B.bytes, hml, hown, hts, hK, hw.1.2.2.1, hw.1.2.2.2.1⟩ B.returns B.notSynchronized hin htab hw hl
end XH
/-- a throw that this method's table doesn't take goes on to the caller -/
theorem xt_passH {m : MethodId} {p : Program} {l : Launch} {e : Env} {R : Room} {s : State} {args : Array Value} {below : List Frame} {meth : Method} {c : Code} {H : Heap} {locs : List Loc} {cc : ByteArray} {pc nL k n : Nat} {ls : Array Slot} {rest : List Value} {g : XC} {D : va_G} {A : Nat → Prop} {own : String} {S0 : XS} {α : Type} {Qc : Array Value → State → Outcome → State → Prop} {w : α ⊕ XT} {u : XT} {E : String} {ce : Cell} {q9 : Addr} {hh : List (Nat × Nat × Nat × Nat)} (X : xX g D A own S0 p s m args c cc nL) (hlk : meth.locks = false) (htab : c.exceptionTable.toList = tableOf hh) (hout : ∀ x ∈ tableOf hh, covers x pc = false) (hu : w = .inr u) (ht : x_thr g D A s H locs q9 E ce u) (hk : k ≤ g.2.1 - xTop S0) (hn : n ≤ g.2.2.1 - xSl S0) : vx_W p l e R s m args below meth c H locs k n (vx_MQ below Qc (xTx g D A w) args s (g.2.1 - xTop S0) (g.2.2.1 - xSl S0) A) (F0 m pc ls rest) q9 := by
  obtain ⟨h1, h2, h3, h4, h5, h6, h7⟩ := ht
  refine vx_out (fun x hx => hout x (by rw [← htab]; exact hx)) hlk h1 h2 h3 (fun t ht hW => ⟨u, hu, ⟨h5, fun z => by rw [ht]; exact h6 z, ?_, X.2.2.2.2.2.1.warm hW⟩, h4.F ht⟩) h4.2.2 hk hn
  rw [ht]
  exact h7.at hW.alike
section XHC
variable {p : Program} {l : Launch} {e : Env} {R : Room} {s : State} {m : MethodId} {args : Array Value} {below : List Frame} {meth : Method} {c : Code} {H : Heap} {locs : List Loc} {cells slots : Nat} {Q : State → Prop}
variable {cc : ByteArray} {pc nL lv lv2 : Nat} {ls : Array Slot} {rest st : List Value} {g : XC} {D : va_G} {A : Nat → Prop} {own : String} {S0 S S1 : XS} {idx a : Nat}
variable {y : MethodName} {bytes : ByteArray} {maxL n index : Nat} {ret : Option FieldType} {As : List Value} {Qc : Array Value → State → Outcome → State → Prop} {XCc : Addr → String → State → State → Prop} {hh : List (Nat × Nat × Nat × Nat)}
theorem x_cvW {C : String} (X : xX g D A own S0 p s m args c cc nL) (h1 : lv < lv2) (h2 : maxL ≤ 21) (hy : y.cls = C ∧ y.cls ≠ "java/lang/invoke/MethodHandle" ∧ y.cls ≠ "java/lang/invoke/VarHandle" ∧ (parseMethodDescriptor y.desc).map (fun d => d.parameters.length) = some n) (hw : GoodIn lw_all (wsV own index C y (wsW_ y bytes maxL ret hh))) : vx_CVW (xRm g S0 lv2) s args own C index y bytes maxL ret hh (wsW_ y bytes maxL ret hh) (xRm g S lv) (g.2.1 - xTop S) (g.2.2.1 - xSl S) n :=
  vx_cwVW n X.2.2.2.2.1 hw rfl rfl rfl hy (x_room h1 h2)
theorem xt_runVH {b N ci : Nat} {C : String} {T : u_T} {u : Unit} (X : xX g D A own S0 p s m args c cc nL) (hw : xW g D A S s H) (hM : vx_Met l y (wsW_ y bytes maxL ret hh) (xRm g S lv) (xPre g D A (.ref b :: As) S) Qc XCc (g.2.1 - xTop S) (g.2.2.1 - xSl S) A) (cw : vx_CVW (xRm g S0 lv2) s args own C index y bytes maxL ret hh (wsW_ y bytes maxL ret hh) (xRm g S lv) (g.2.1 - xTop S) (g.2.2.1 - xSl S) n) (hc : xcl[ci]? = some (C, T, N)) (hv : f_cls S ci b = some u) (hn : As.length = n) (hsz : ls.size = nL) (hst : st = As.reverse ++ .ref b :: rest) (hr : (rest.map fun v => v.category).sum ≤ 8) (hdg : decode cc pc = .ok (.invokevirtual index, 3)) (t1 : s.heap.size ≤ H.size) (t2 : slotsOf s.heap ≤ slotsOf H) :
    vx_Run p l e (xRm g S0 lv2) s m args below meth c H locs (H.size - s.heap.size) (slotsOf H - slotsOf s.heap) (g.2.1 - xTop S) (g.2.2.1 - xSl S) (F0 m pc ls st) rest (Qc (Value.ref b :: As).toArray) XCc A :=
  vx_runVX (x_fix X) hM cw (x_preV X hw hc hv As) rfl hn hsz hst (lv_room hr) hdg (x_fits X hw t1 t2)
end XHC
