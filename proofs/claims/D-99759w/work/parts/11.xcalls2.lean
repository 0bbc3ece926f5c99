/-! calls through an interface, of inherited methods, of super; Object's constructor -/
section XI
variable {p : Program} {l : Launch} {e : Env} {R : Room} {s : State} {m : MethodId} {args : Array Value} {below : List Frame} {meth : Method} {c : Code} {H : Heap} {locs : List Loc} {cells slots : Nat} {Q : State → Prop}
variable {cc : ByteArray} {pc nL lv lv2 : Nat} {ls : Array Slot} {rest : List Value} {g : XC} {D : va_G} {A : Nat → Prop} {own : String} {S0 S S1 : XS} {N ci idx a : Nat}
variable {x y : MethodName} {bytes : ByteArray} {maxL n index : Nat} {ret : Option FieldType} {As st : List Value}
variable {mc ms : Nat} {gg : JFrame} {as : Array Value} {free : Addr → Prop} {Qc : Array Value → State → Outcome → State → Prop}
theorem x_cf {C : String} (X : xX g D A own S0 p s m args c cc nL) (h1 : lv < lv2) (h2 : maxL ≤ 21) (hx : x.cls ≠ "java/lang/invoke/MethodHandle" ∧ x.cls ≠ "java/lang/invoke/VarHandle" ∧ (parseMethodDescriptor x.desc).map (fun d => d.parameters.length) = some n) (hl : Cond.methodLink own index x ∈ lw_all) (hsel : Cond.selects C x y ∈ lw_all) (hin : Cond.instanceMethod y ∈ lw_all) (hini : Cond.initialized y.cls ∈ lw_all) (hcode : Cond.code y bytes maxL ret ∈ lw_all) (hd : Cond.declares x ∈ lw_tbl) (him : Cond.interfaceMethod x.cls x.cls x.name x.desc ∈ lw_tbl) (hpub : Cond.publicMethod y ∈ lw_tbl) (hunh : Cond.unhidden C x.name x.desc ∈ lw_tbl) (hcast : Cond.castable C x.cls ∈ lw_tbl) : va_CI (xRm g S0 lv2) s args own C index x y bytes maxL ret (ws_ y bytes maxL ret) (xRm g S lv) (g.2.1 - xTop S) (g.2.2.1 - xSl S) n := by
  have hN := X.2.2.2.2.2.1.2.1
  refine va_cwF n X.2.2.2.2.1 (lw_app (fun w hw => ?_) (lw_meth hcode)) rfl rfl rfl ⟨hN.1 _ hd rfl, hN.2.1 x hd ⟨hx.1, hx.2.1⟩ him, hN.1 _ hpub rfl, hN.1 _ hunh rfl, hN.1 _ hcast rfl⟩ hx (x_room h1 h2)
  simp only [List.mem_cons, List.not_mem_nil, or_false] at hw
  rcases hw with e | e | e | e
  · rw [e]; exact hl
  · rw [e]; exact hsel
  · rw [e]; exact hin
  · rw [e]; exact hini
theorem xr_runF {b count : Nat} {C : String} {T : u_T} {u : Unit} (X : xX g D A own S0 p s m args c cc nL) (hw : xW g D A S s H) (hM : Met l y (ws_ y bytes maxL ret) (xRm g S lv) (xPre g D A (.ref b :: As) S) Qc (g.2.1 - xTop S) (g.2.2.1 - xSl S) A) (cw : va_CI (xRm g S0 lv2) s args own C index x y bytes maxL ret (ws_ y bytes maxL ret) (xRm g S lv) (g.2.1 - xTop S) (g.2.2.1 - xSl S) n) (hc : xcl[ci]? = some (C, T, N)) (hv : f_cls S ci b = some u) (hn : As.length = n) (hsz : ls.size = nL) (hst : st = As.reverse ++ .ref b :: rest) (hr : (rest.map fun v => v.category).sum ≤ 8) (hdg : decode cc pc = .ok (.invokeinterface index count, 5)) (t1 : s.heap.size ≤ H.size) (t2 : slotsOf s.heap ≤ slotsOf H) :
    va_Run5 p l e (xRm g S0 lv2) s m args below meth c H locs (H.size - s.heap.size) (slotsOf H - slotsOf s.heap) (g.2.1 - xTop S) (g.2.2.1 - xSl S) (F0 m pc ls st) rest (Qc (Value.ref b :: As).toArray) A :=
  va_runF ((X.2.2.2.2.2.1.1.1 ci _ hc).2) (x_fix X) hM cw (x_preV X hw hc hv As) rfl hn hsz hst (lv_room hr) hdg (x_fits X hw t1 t2)
theorem xr_ret5i {w : XS × Int32} (hS : va_S A s.heap H locs) (hr : s.heap.size ≤ H.size → slotsOf s.heap ≤ slotsOf H → va_Run5 p l e (xRm g S0 lv2) s m args below meth c H locs (H.size - s.heap.size) (slotsOf H - slotsOf s.heap) mc ms (F0 m pc ls st) rest (xQi g D A w as) A)
    (kk : ∀ (H1 : Heap) (locs1 : List Loc) (cells slots : Nat), xW g D A w.1 s H1 → va_S A s.heap H1 locs1 → W p l e (xRm g S0 lv2) s m args below meth c H1 locs1 cells slots Q (F0 m (pc + 5) ls (.int w.2 :: rest))) : W p l e (xRm g S0 lv2) s m args below meth c H locs cells slots Q (F0 m pc ls st) :=
  W.tight fun t1 t2 => va_callFi (hr t1 t2) hS (fun _ _ h => h) (fun _ h => h) (fun r2 u t H1 locs1 ht hvm hp hB hz hk hS1 => by
    obtain ⟨rfl, rfl⟩ := hp
    exact kk H1 locs1 _ _ (x_back hB ht hvm) hS1)
theorem xr_ret5v {w : XS} (hS : va_S A s.heap H locs) (hr : s.heap.size ≤ H.size → slotsOf s.heap ≤ slotsOf H → va_Run5 p l e (xRm g S0 lv2) s m args below meth c H locs (H.size - s.heap.size) (slotsOf H - slotsOf s.heap) mc ms (F0 m pc ls st) rest (xQv g D A w as) A)
    (kk : ∀ (H1 : Heap) (locs1 : List Loc) (cells slots : Nat), xW g D A w s H1 → va_S A s.heap H1 locs1 → W p l e (xRm g S0 lv2) s m args below meth c H1 locs1 cells slots Q (F0 m (pc + 5) ls rest)) : W p l e (xRm g S0 lv2) s m args below meth c H locs cells slots Q (F0 m pc ls st) :=
  W.tight fun t1 t2 => va_callFv (hr t1 t2) hS (fun _ _ h => h) (fun _ h => h) (fun u t H1 locs1 ht hvm hp hB hz hk hS1 => by
    obtain rfl := hp
    exact kk H1 locs1 _ _ (x_back hB ht hvm) hS1)
theorem xr_ret5r {w : XS × Nat} (hS : va_S A s.heap H locs) (hr : s.heap.size ≤ H.size → slotsOf s.heap ≤ slotsOf H → va_Run5 p l e (xRm g S0 lv2) s m args below meth c H locs (H.size - s.heap.size) (slotsOf H - slotsOf s.heap) mc ms (F0 m pc ls st) rest (xQr g D A w as) A)
    (kk : ∀ (H1 : Heap) (locs1 : List Loc) (cells slots : Nat), xW g D A w.1 s H1 → va_S A s.heap H1 locs1 → W p l e (xRm g S0 lv2) s m args below meth c H1 locs1 cells slots Q (F0 m (pc + 5) ls (.ref w.2 :: rest))) : W p l e (xRm g S0 lv2) s m args below meth c H locs cells slots Q (F0 m pc ls st) :=
  W.tight fun t1 t2 => va_callFr (hr t1 t2) hS (fun _ _ h => h) (fun _ h => h) (fun u ra t H1 locs1 ht hvm hp hB hz hk hS1 => by
    obtain ⟨rfl, hB⟩ := hB
    obtain rfl := hp
    exact kk H1 locs1 _ _ (x_back hB ht hvm) hS1)
/-- a method of a class above, of an object of the class C -/
theorem x_cu {C owner : String} (X : xX g D A own S0 p s m args c cc nL) (h1 : lv < lv2) (h2 : maxL ≤ 21) (hyx : y = ⟨owner, x.name, x.desc⟩) (hx : owner ≠ "java/lang/invoke/MethodHandle" ∧ owner ≠ "java/lang/invoke/VarHandle" ∧ (parseMethodDescriptor x.desc).map (fun d => d.parameters.length) = some n) (hl : Cond.methodLink own index x ∈ lw_all) (hsm : Cond.sameMethod x.cls owner x.name x.desc ∈ lw_all) (hsel : Cond.selects C x y ∈ lw_all) (hin : Cond.instanceMethod y ∈ lw_all) (hini : Cond.initialized y.cls ∈ lw_all) (hcode : Cond.code y bytes maxL ret ∈ lw_all) : va_CU (xRm g S0 lv2) s args own C owner index x y bytes maxL ret (ws_ y bytes maxL ret) (xRm g S lv) (g.2.1 - xTop S) (g.2.2.1 - xSl S) n := by
  refine va_cwU n X.2.2.2.2.1 (lw_app (fun w hw => ?_) (lw_meth hcode)) rfl rfl rfl hyx hx (x_room h1 h2)
  simp only [List.mem_cons, List.not_mem_nil, or_false] at hw
  rcases hw with e | e | e | e | e
  · rw [e]; exact hl
  · rw [e]; exact hsm
  · rw [e]; exact hsel
  · rw [e]; exact hin
  · rw [e]; exact hini
theorem xr_runU {b : Nat} {C owner : String} {T : u_T} {u : Unit} (X : xX g D A own S0 p s m args c cc nL) (hw : xW g D A S s H) (hM : Met l y (ws_ y bytes maxL ret) (xRm g S lv) (xPre g D A (.ref b :: As) S) Qc (g.2.1 - xTop S) (g.2.2.1 - xSl S) A) (cw : va_CU (xRm g S0 lv2) s args own C owner index x y bytes maxL ret (ws_ y bytes maxL ret) (xRm g S lv) (g.2.1 - xTop S) (g.2.2.1 - xSl S) n) (hc : xcl[ci]? = some (C, T, N)) (hv : f_cls S ci b = some u) (hn : As.length = n) (hsz : ls.size = nL) (hst : st = As.reverse ++ .ref b :: rest) (hr : (rest.map fun v => v.category).sum ≤ 8) (hdg : decode cc pc = .ok (.invokevirtual index, 3)) (t1 : s.heap.size ≤ H.size) (t2 : slotsOf s.heap ≤ slotsOf H) :
    va_Run p l e (xRm g S0 lv2) s m args below meth c H locs (H.size - s.heap.size) (slotsOf H - slotsOf s.heap) (g.2.1 - xTop S) (g.2.2.1 - xSl S) (F0 m pc ls st) rest (Qc (Value.ref b :: As).toArray) A :=
  va_runU (x_fix X) hM cw (x_preV X hw hc hv As) rfl hn hsz hst (lv_room hr) hdg (x_fits X hw t1 t2)
theorem x_csu (X : xX g D A own S0 p s m args c cc nL) (h1 : lv < lv2) (h2 : maxL ≤ 21) (hx : y.name ≠ "<init>" ∧ (parseMethodDescriptor y.desc).map (fun d => d.parameters.length) = some n) (hl : Cond.methodLink own index y ∈ lw_all) (hsm : Cond.sameMethod y.cls y.cls y.name y.desc ∈ lw_all) (hsup : Cond.superclass own y.cls ∈ lw_all) (hin : Cond.instanceMethod y ∈ lw_all) (hini : Cond.initialized y.cls ∈ lw_all) (hcode : Cond.code y bytes maxL ret ∈ lw_all) : va_CS (xRm g S0 lv2) s args own index y bytes maxL ret (ws_ y bytes maxL ret) (xRm g S lv) (g.2.1 - xTop S) (g.2.2.1 - xSl S) n := by
  refine va_cwSU n X.2.2.2.2.1 (lw_app (fun w hw => ?_) (lw_meth hcode)) rfl rfl rfl hx (x_room h1 h2)
  simp only [List.mem_cons, List.not_mem_nil, or_false] at hw
  rcases hw with e | e | e | e | e
  · rw [e]; exact hl
  · rw [e]; exact hsm
  · rw [e]; exact hsup
  · rw [e]; exact hin
  · rw [e]; exact hini
theorem xr_runSU {b : Nat} {C : String} {T : u_T} {u : Unit} (X : xX g D A own S0 p s m args c cc nL) (hw : xW g D A S s H) (hM : Met l y (ws_ y bytes maxL ret) (xRm g S lv) (xPre g D A (.ref b :: As) S) Qc (g.2.1 - xTop S) (g.2.2.1 - xSl S) A) (cw : va_CS (xRm g S0 lv2) s args own index y bytes maxL ret (ws_ y bytes maxL ret) (xRm g S lv) (g.2.1 - xTop S) (g.2.2.1 - xSl S) n) (hc : xcl[ci]? = some (C, T, N)) (hv : f_cls S ci b = some u) (hn : As.length = n) (hsz : ls.size = nL) (hst : st = As.reverse ++ .ref b :: rest) (hr : (rest.map fun v => v.category).sum ≤ 8) (hdg : decode cc pc = .ok (.invokespecial index, 3)) (t1 : s.heap.size ≤ H.size) (t2 : slotsOf s.heap ≤ slotsOf H) :
    va_Run p l e (xRm g S0 lv2) s m args below meth c H locs (H.size - s.heap.size) (slotsOf H - slotsOf s.heap) (g.2.1 - xTop S) (g.2.2.1 - xSl S) (F0 m pc ls st) rest (Qc (Value.ref b :: As).toArray) A :=
  va_runSU ((X.2.2.2.2.2.1.1.1 ci _ hc).2) (x_fix X) hM cw (x_preV X hw hc hv As) rfl hn hsz hst (lv_room hr) hdg (x_fits X hw t1 t2)
theorem xr_objInit (X : xX g D A own S0 p s m args c cc nL) (hsz : ls.size = nL) (hl : Cond.methodLink own index Lib.objectInit ∈ lw_all) (hin : Cond.instanceMethod Lib.objectInit ∈ lw_all) (hcode : Cond.code Lib.objectInit ⟨#[0xb1]⟩ 1 none ∈ lw_all) (hr : (rest.map fun v => v.category).sum ≤ 8) (hdg : decode cc pc = .ok (.invokespecial index, 3))
    (kk : W p l e (xRm g S0 lv) s m args below meth c H locs cells slots Q (F0 m (pc + 3) ls rest)) : W p l e (xRm g S0 lv) s m args below meth c H locs cells slots Q (F0 m pc ls (.ref a :: rest)) := by
  obtain ⟨hx, hb, hml, hown, hts, -⟩ := X
  refine W.objInit hx hb hown (hts _ hl) (hts _ hin) (hts _ hcode) rfl (by rw [hml]; exact hsz) rfl hdg (by simp only [xRm]; omega) ?_ kk
  have h2 := lv_room (m := m) (pc := pc) (ls := ls) (rest := .ref a :: rest) hr
  simp only [xRm]
  omega
/-- checkcast of an object whose class is the class named -/
theorem xr_cast {C : String} {T : u_T} {u : Unit} {b : Nat} (X : xX g D A own S0 p s m args c cc nL) (hw : xW g D A S s H) (hc : xcl[ci]? = some (C, T, N)) (hv : f_cls S ci b = some u) (hl : Cond.classLink own index C ∈ lw_all) (hdg : decode cc pc = .ok (.checkcast index, 3))
    (kk : W p l e R s m args below meth c H locs cells slots Q (F0 m (pc + 3) ls (.ref b :: rest))) : W p l e R s m args below meth c H locs cells slots Q (F0 m pc ls (.ref b :: rest)) :=
  va_castS X.1 X.2.1 X.2.2.2.1 (X.2.2.2.2.1 _ hl) ((X.2.2.2.2.2.1.1.1 ci _ hc).2) (x_recv X hw hc hv) hdg kk
theorem xr_castY {C nm : String} {T : u_T} {u : Unit} {b : Nat} (X : xX g D A own S0 p s m args c cc nL) (hw : xW g D A S s H) (hc : xcl[ci]? = some (C, T, N)) (hv : f_cls S ci b = some u) (hl : Cond.classLink own index nm ∈ lw_all) (hca : Cond.castable C nm ∈ lw_tbl) (hdg : decode cc pc = .ok (.checkcast index, 3))
    (kk : W p l e R s m args below meth c H locs cells slots Q (F0 m (pc + 3) ls (.ref b :: rest))) : W p l e R s m args below meth c H locs cells slots Q (F0 m pc ls (.ref b :: rest)) :=
  va_castY X.1 X.2.1 X.2.2.2.1 (X.2.2.2.2.1 _ hl) (X.2.2.2.2.2.1.2.1.1 _ hca rfl) (x_recv X hw hc hv) hdg kk
end XI
