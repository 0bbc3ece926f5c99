/-! both objects in one heap -/
/-- the component's tables -/
abbrev XL : Type := (Nat → Nat → Int32) × (Nat → Nat → Option Nat) × (Nat → Nat → Nat → Int32) × (Nat → Nat × Nat × Nat) × (Nat → Nat → Nat) × (Nat → Option GE)
/-- an address of the reference -/
def jR (G : MG) (q : Nat) : Prop := q = G.1 ∨ ∃ k, (m_kd k = 1 ∨ m_kd k = 2) ∧ q = G.2.1 k
/-- the component's addresses: from n0 on, but the reference's -/
def jA (G : MG) (n0 : Nat) (q : Nat) : Prop := n0 ≤ q ∧ ¬ jR G q
def jM (D : va_G) (G : MG) (σ : MS) (H : Heap) : Prop := va_at D xcl (G.1, .inr (0, m_F G σ)) H ∧ ∀ k, (m_kd k = 1 ∨ m_kd k = 2) → va_at D xcl (G.2.1 k, .inl (m_cls G k, m_len k, .inl (σ.2.2 k))) H
/-- the reference's addresses lie from n0 on, apart from one another -/
def jG (G : MG) (n0 : Nat) : Prop := (∀ q, jR G q → n0 ≤ q) ∧ (∀ k, (m_kd k = 1 ∨ m_kd k = 2) → G.2.1 k ≠ G.1) ∧ ∀ j k, (m_kd j = 1 ∨ m_kd j = 2) → (m_kd k = 1 ∨ m_kd k = 2) → j ≠ k → G.2.1 j ≠ G.2.1 k
def jS (g : XC) (D : va_G) (G : MG) (n0 : Nat) (τ : XL) (U : State) (H : Heap) : Prop := xΩ D xcl g.1 (jA G n0) ((H.size, slotsOf H, 0, 0), τ) H ∧ xΦ g (fun q => n0 ≤ q) U H ∧ n0 ≤ H.size
/-- the joint picture -/
def jW (g : XC) (D : va_G) (G : MG) (n0 : Nat) (τ : XL) (σ : MS) (U : State) (H : Heap) : Prop := jS g D G n0 τ U H ∧ jM D G σ H
theorem xΦ.narrow {g : XC} {A B : Nat → Prop} {U : State} {H : Heap} (h : xΦ g A U H) (hAB : ∀ q, B q → A q) : xΦ g B U H := by
  obtain ⟨h1, h2, h3, h4, h5, h6, h7, h8, h9, h10, h11, h12, h13, h14, h15, h16, h17⟩ := h
  exact ⟨h1.narrow hAB, h2.narrow hAB, h3.narrow hAB, h4.narrow hAB, h5.narrow hAB, h6.narrow hAB, h7.narrow hAB, h8.narrow hAB, h9.narrow hAB, h10.narrow hAB, h11.narrow hAB, h12.narrow hAB, h13.narrow hAB, h14.narrow hAB, h15.narrow hAB, h16.narrow hAB, h17.narrow hAB⟩
/-- the caps of one call -/
def jg (g : XC) (c k : Nat) : XC := (g.1, c, k, g.2.2.2)
theorem jS_W {g : XC} {D : va_G} {G : MG} {n0 : Nat} {τ : XL} {U : State} {H : Heap} {c k : Nat} (h : jS g D G n0 τ U H) (hc : H.size ≤ c) (hk : slotsOf H ≤ k) : xW (jg g c k) D (jA G n0) ((H.size, slotsOf H, c, k), τ) U H := by
  obtain ⟨⟨h1, h2, h3, h4, h5⟩, h6, h7⟩ := h
  exact ⟨⟨h1, h2, h3, h4, h5⟩, rfl, rfl, hc, hk, xΦ.narrow (g := g) h6 (fun q hq => hq.1)⟩
theorem jS_of {g : XC} {D : va_G} {G : MG} {n0 : Nat} {S : XS} {s U : State} {H H1 : Heap} (h : xΩ D xcl g.1 (jA G n0) S H1) (hΦ : xΦ g (fun q => n0 ≤ q) s H) (hv : s.vm.Alike U.vm) (hn : n0 ≤ H.size) (hz : H.size ≤ H1.size) (hq : ∀ q : Nat, q < H.size → ¬ jA G n0 q → H1[q]? = H[q]?) (hG : jG G n0) : jS g D G n0 S.2 U H1 := by
  obtain ⟨h1, h2, h3, h4, h5⟩ := h
  refine ⟨⟨h1, h2, rfl, rfl, fun q hq2 => h5 q (by rw [← h3]; exact hq2)⟩, hΦ.moved hv (fun q h8 h9 => hq q h8 (fun z => h9 z.1)), Nat.le_trans hn hz⟩
theorem jM_kept {D : va_G} {G : MG} {n0 : Nat} {σ : MS} {H H1 : Heap} (h : jM D G σ H) (hq : ∀ q : Nat, q < H.size → ¬ jA G n0 q → H1[q]? = H[q]?) : jM D G σ H1 :=
  ⟨h.1.kept (hq _ h.1.lt (fun z => z.2 (Or.inl rfl))), fun k hk => (h.2 k hk).kept (hq _ (h.2 k hk).lt (fun z => z.2 (Or.inr ⟨k, hk, rfl⟩)))⟩
/-- the reference's rows may read and write within the joint picture -/
theorem j_mOk {g : XC} {D : va_G} {G : MG} {n0 : Nat} {τ : XL} {U : State} (hG : jG G n0) : mOk D xcl G (fun σ H => jW g D G n0 τ σ U H) (jR G) := by
  refine ⟨fun σ H h => h.2.1, fun σ H k h hk => h.2.2 k hk, fun σ σ' H H1 h hz hq hat hσ => ?_, fun σ k f H H1 h hk hz hq hat => ?_, Or.inl rfl, fun k hk => Or.inr ⟨k, hk, rfl⟩, rfl⟩
  · obtain ⟨⟨⟨h1, h2, h3, h4, h5⟩, h6, h7⟩, h8⟩ := h
    refine ⟨⟨⟨fun q e0 hc => ?_, h2, rfl, rfl, fun q hq2 => h5 q (by show H.size ≤ q; rw [← hz]; exact hq2)⟩, h6.moved (Vm.Alike.refl _) (fun q _ h9 => hq q (fun z => h9 (by rw [z]; exact hG.1 _ (Or.inl rfl)))), by rw [hz]; exact h7⟩, hat, fun k hk => ?_⟩
    · have h9 := h1 q e0 hc
      exact ⟨h9.1.kept (hq q (fun z => h9.2.2 (Or.inl z))), h9.2⟩
    · rw [hσ]
      exact (h8.2 k hk).kept (hq _ (hG.2.1 k hk))
  · obtain ⟨⟨⟨h1, h2, h3, h4, h5⟩, h6, h7⟩, h8⟩ := h
    refine ⟨⟨⟨fun q e0 hc => ?_, h2, rfl, rfl, fun q hq2 => h5 q (by show H.size ≤ q; rw [← hz]; exact hq2)⟩, h6.moved (Vm.Alike.refl _) (fun q _ h9 => hq q (fun z => h9 (by rw [z]; exact hG.1 _ (Or.inr ⟨k, hk, rfl⟩)))), by rw [hz]; exact h7⟩, ?_, fun j hj => ?_⟩
    · have h9 := h1 q e0 hc
      exact ⟨h9.1.kept (hq q (fun z => h9.2.2 (Or.inr ⟨k, hk, z⟩))), h9.2⟩
    · have e : m_F G (m_set σ k f) = m_F G σ := rfl
      rw [e]
      exact h8.1.kept (hq _ (fun z => hG.2.1 k hk z.symm))
    · by_cases hjk : j = k
      · subst hjk
        have e : (m_set σ j f).2.2 j = f := if_pos rfl
        rw [e]
        exact hat
      · have e : (m_set σ k f).2.2 j = σ.2.2 j := if_neg hjk
        rw [e]
        exact (h8.2 j hj).kept (hq _ (hG.2.2 j k hj hk hjk))
section JL
variable {p : Program} {l : Launch} {e : Env} {s : State} {m : MethodId} {args : Array Value} {below : List Frame} {meth : Method} {c : Code} {H : Heap} {locs : List Loc} {cells slots : Nat} {Q : State → Prop}
variable {cc : ByteArray} {pc nL lv : Nat} {ls : Array Slot} {rest st : List Value} {g : XC} {D : va_G} {G : MG} {n0 : Nat} {τ : XL} {σ : MS} {own : String} {R : Room}
/-- what is fixed in the law's own frame -/
def jX (g : XC) (D : va_G) (G : MG) (n0 : Nat) (own : String) (p : Program) (s : State) (m : MethodId) (args : Array Value) (c : Code) (cc : ByteArray) (nL : Nat) : Prop :=
  CallFix p m c cc nL s args lw_all own ∧ xK g D s ∧ jG G n0 ∧ s.heap.size = n0 ∧ va_K D xcl (m_tys G) s
/-- the heap's growth since the start fits under these bounds -/
def jB (n0 : Nat) (s0 : Nat) (H : Heap) (C K : Nat) : Prop := H.size ≤ n0 + C ∧ slotsOf H ≤ s0 + K
theorem j_pre {U : State} {C K : Nat} (X : jX g D G n0 own p s m args c cc nL) (hw : jW g D G n0 τ σ s H) (hc : H.size ≤ C) (hk : slotsOf H ≤ K) (hU : U.heap = H) (hW : s.WarmedH U.vm) : xW (jg g C K) D (jA G n0) ((H.size, slotsOf H, C, K), τ) U U.heap ∧ xK (jg g C K) D U := by
  refine ⟨?_, X.2.1.warm hW⟩
  rw [hU]
  have h1 := jS_W (c := C) (k := K) hw.1 hc hk
  exact ⟨h1.1, h1.2.1, h1.2.2.1, h1.2.2.2.1, h1.2.2.2.2.1, h1.2.2.2.2.2.moved hW.alike (fun _ _ _ => rfl)⟩
/-- the joint picture behind a call of the component's -/
theorem j_back {C K : Nat} {u : XS} {t : State} {H1 : Heap} (X : jX g D G n0 own p s m args c cc nL) (hw : jW g D G n0 τ σ s H) (hB : xB (jg g C K) D (jA G n0) u t) (ht : t.heap = H1) (hz : H.size ≤ H1.size) (hk : ∀ q : Nat, q < H.size → ¬ jA G n0 q → H1[q]? = H[q]?) : jW g D G n0 u.2 σ s H1 ∧ H1.size ≤ C ∧ slotsOf H1 ≤ K := by
  obtain ⟨⟨b1, b2, b3, b4, b5, -⟩, -⟩ := hB
  rw [ht] at b1
  have e1 : H1.size = xTop u := b1.2.2.1
  have e2 : slotsOf H1 = xSl u := b1.2.2.2.1
  exact ⟨⟨jS_of b1 hw.1.2.1 (Vm.Alike.refl _) hw.1.2.2 hz hk X.2.2.1, jM_kept hw.2 hk⟩, by rw [e1]; exact b4, by rw [e2]; exact b5⟩
theorem j_in {q : Nat} (h : jA G n0 q) : n0 ≤ q := h.1
variable {y : MethodName} {bytes : ByteArray} {maxL n index C K : Nat} {ret : Option FieldType} {As : List Value} {hh : List (Nat × Nat × Nat × Nat)}
/-- a call of one of the law's wrappers -/
theorem jr_wrap {w : XS × Int32} (X : jX g D G n0 own p s m args c cc nL) (hw : jW g D G n0 τ σ s H) (hS : va_S (fun q => n0 ≤ q) s.heap H locs) (hC : H.size ≤ C) (hK : slotsOf H ≤ K) (hCr : C ≤ s.heap.size + R.cells) (hKr : K ≤ slotsOf s.heap + R.slots) (hfr : lv + 2 ≤ R.frames) (hlo : 8 + (maxL + 11) + 40 * (lv + 1) ≤ R.locals)
    (hM : Met l y (wsW_ y bytes maxL ret hh) (xRm (jg g C K) ((H.size, slotsOf H, C, K), τ) lv) (xPre (jg g C K) D (jA G n0) As ((H.size, slotsOf H, C, K), τ)) (xQo (jg g C K) D (jA G n0) w) (C - H.size) (K - slotsOf H) (jA G n0))
    (hl : Cond.methodLink own index y ∈ lw_all) (hstat : Cond.static y ∈ lw_all) (hi : Cond.initialized y.cls ∈ lw_all) (hcode : Cond.codeWith y bytes maxL ret hh ∈ lw_all) (hy : y.cls ≠ "java/lang/invoke/MethodHandle" ∧ y.cls ≠ "java/lang/invoke/VarHandle" ∧ (parseMethodDescriptor y.desc).map (fun d => d.parameters.length) = some n)
    (hn : As.length = n) (hsz : ls.size = nL) (hst : st = As.reverse ++ rest) (hr : (rest.map fun v => v.category).sum ≤ 8) (hdg : decode cc pc = .ok (.invokestatic index, 3))
    (kk : ∀ (H1 : Heap) (locs1 : List Loc) (cells slots : Nat), jW g D G n0 w.1.2 σ s H1 → va_S (fun q => n0 ≤ q) s.heap H1 locs1 → H.size ≤ H1.size → H1.size ≤ C → slotsOf H1 ≤ K → W p l e R s m args below meth c H1 locs1 cells slots Q (F0 m (pc + 3) ls (.int w.2 :: rest))) : W p l e R s m args below meth c H locs cells slots Q (F0 m pc ls st) :=
  W.tight fun t1 t2 => va_calli (vx_runSW X.1 hM (vx_cwSW n X.1.2.2.2.2 (lw_SW hl hstat hi hcode) rfl rfl rfl hy ⟨by simp only [xRm]; omega, by simp only [xRm]; omega⟩) ⟨x_blind, fun U hU hW => ⟨rfl, j_pre X hw hC hK hU hW⟩⟩ rfl hn hsz hst (lv_room hr) hdg ⟨by omega, by omega⟩) hS (fun q _ h => j_in h) (fun q h => j_in h) (fun r2 u t H1 locs1 ht hvm hp hB hz hk hS1 => by
    obtain ⟨rfl, hsim, -⟩ := hp
    obtain ⟨j1, j2, j3⟩ := j_back X hw hB ht hz hk
    rw [hsim] at j1
    exact kk H1 locs1 _ _ j1 hS1 hz j2 j3)
/-- a call of a method of the component's that answers with an int -/
theorem jr_xi {w : XS × Int32} {b ci N : Nat} {Cc : String} {T : u_T} {u0 : Unit} (X : jX g D G n0 own p s m args c cc nL) (hw : jW g D G n0 τ σ s H) (hS : va_S (fun q => n0 ≤ q) s.heap H locs) (hC : H.size ≤ C) (hK : slotsOf H ≤ K) (hCr : C ≤ s.heap.size + R.cells) (hKr : K ≤ slotsOf s.heap + R.slots) (hfr : lv + 2 ≤ R.frames) (hlo : 8 + (maxL + 11) + 40 * (lv + 1) ≤ R.locals)
    (hM : Met l y (ws_ y bytes maxL ret) (xRm (jg g C K) ((H.size, slotsOf H, C, K), τ) lv) (xPre (jg g C K) D (jA G n0) (.ref b :: As) ((H.size, slotsOf H, C, K), τ)) (xQi (jg g C K) D (jA G n0) w) (C - H.size) (K - slotsOf H) (jA G n0))
    (hcl : xcl[ci]? = some (Cc, T, N)) (hcv : f_cls ((H.size, slotsOf H, C, K), τ) ci b = some u0) (hG : GoodIn lw_all (wsV own index Cc y (ws_ y bytes maxL ret))) (hy : y.cls = Cc ∧ y.cls ≠ "java/lang/invoke/MethodHandle" ∧ y.cls ≠ "java/lang/invoke/VarHandle" ∧ (parseMethodDescriptor y.desc).map (fun d => d.parameters.length) = some n)
    (hn : As.length = n) (hsz : ls.size = nL) (hst : st = As.reverse ++ .ref b :: rest) (hr : (rest.map fun v => v.category).sum ≤ 8) (hdg : decode cc pc = .ok (.invokevirtual index, 3))
    (kk : ∀ (H1 : Heap) (locs1 : List Loc) (cells slots : Nat), jW g D G n0 w.1.2 σ s H1 → va_S (fun q => n0 ≤ q) s.heap H1 locs1 → H.size ≤ H1.size → H1.size ≤ C → slotsOf H1 ≤ K → W p l e R s m args below meth c H1 locs1 cells slots Q (F0 m (pc + 3) ls (.int w.2 :: rest))) : W p l e R s m args below meth c H locs cells slots Q (F0 m pc ls st) := by
  have hrc : ∃ cell : Cell, H[b]? = some cell ∧ cell.vm.isStatics = false ∧ s.vm.findClass Cc = some cell.cls := by
    obtain ⟨fs, h1⟩ := f_cls_s hcv
    exact va_recv X.2.1.1 (va_P1 (xΩ_at (jS_W hw.1 hC hK).1 h1)) (ci := ci) (q0 := 0) hcl rfl
  exact W.tight fun t1 t2 => va_calli (va_runV X.1 hM (cwV n X.1.2.2.2.2 hG rfl rfl rfl hy ⟨by simp only [xRm]; omega, by simp only [xRm]; omega⟩) ⟨x_blind, hrc, fun U hU hW => ⟨rfl, j_pre X hw hC hK hU hW⟩⟩ rfl hn hsz hst (lv_room hr) hdg ⟨by omega, by omega⟩) hS (fun q _ h => j_in h) (fun q h => j_in h) (fun r2 u t H1 locs1 ht hvm hp hB hz hk hS1 => by
    obtain ⟨rfl, rfl⟩ := hp
    obtain ⟨j1, j2, j3⟩ := j_back X hw hB ht hz hk
    exact kk H1 locs1 _ _ j1 hS1 hz j2 j3)
theorem jr_xv {w : XS} {b ci N : Nat} {Cc : String} {T : u_T} {u0 : Unit} (X : jX g D G n0 own p s m args c cc nL) (hw : jW g D G n0 τ σ s H) (hS : va_S (fun q => n0 ≤ q) s.heap H locs) (hC : H.size ≤ C) (hK : slotsOf H ≤ K) (hCr : C ≤ s.heap.size + R.cells) (hKr : K ≤ slotsOf s.heap + R.slots) (hfr : lv + 2 ≤ R.frames) (hlo : 8 + (maxL + 11) + 40 * (lv + 1) ≤ R.locals)
    (hM : Met l y (ws_ y bytes maxL ret) (xRm (jg g C K) ((H.size, slotsOf H, C, K), τ) lv) (xPre (jg g C K) D (jA G n0) (.ref b :: As) ((H.size, slotsOf H, C, K), τ)) (xQv (jg g C K) D (jA G n0) w) (C - H.size) (K - slotsOf H) (jA G n0))
    (hcl : xcl[ci]? = some (Cc, T, N)) (hcv : f_cls ((H.size, slotsOf H, C, K), τ) ci b = some u0) (hG : GoodIn lw_all (wsV own index Cc y (ws_ y bytes maxL ret))) (hy : y.cls = Cc ∧ y.cls ≠ "java/lang/invoke/MethodHandle" ∧ y.cls ≠ "java/lang/invoke/VarHandle" ∧ (parseMethodDescriptor y.desc).map (fun d => d.parameters.length) = some n)
    (hn : As.length = n) (hsz : ls.size = nL) (hst : st = As.reverse ++ .ref b :: rest) (hr : (rest.map fun v => v.category).sum ≤ 8) (hdg : decode cc pc = .ok (.invokevirtual index, 3))
    (kk : ∀ (H1 : Heap) (locs1 : List Loc) (cells slots : Nat), jW g D G n0 w.2 σ s H1 → va_S (fun q => n0 ≤ q) s.heap H1 locs1 → H.size ≤ H1.size → H1.size ≤ C → slotsOf H1 ≤ K → W p l e R s m args below meth c H1 locs1 cells slots Q (F0 m (pc + 3) ls rest)) : W p l e R s m args below meth c H locs cells slots Q (F0 m pc ls st) := by
  have hrc : ∃ cell : Cell, H[b]? = some cell ∧ cell.vm.isStatics = false ∧ s.vm.findClass Cc = some cell.cls := by
    obtain ⟨fs, h1⟩ := f_cls_s hcv
    exact va_recv X.2.1.1 (va_P1 (xΩ_at (jS_W hw.1 hC hK).1 h1)) (ci := ci) (q0 := 0) hcl rfl
  exact W.tight fun t1 t2 => va_callv (va_runV X.1 hM (cwV n X.1.2.2.2.2 hG rfl rfl rfl hy ⟨by simp only [xRm]; omega, by simp only [xRm]; omega⟩) ⟨x_blind, hrc, fun U hU hW => ⟨rfl, j_pre X hw hC hK hU hW⟩⟩ rfl hn hsz hst (lv_room hr) hdg ⟨by omega, by omega⟩) hS (fun q _ h => j_in h) (fun q h => j_in h) (fun u t H1 locs1 ht hvm hp hB hz hk hS1 => by
    obtain rfl := hp
    obtain ⟨j1, j2, j3⟩ := j_back X hw hB ht hz hk
    exact kk H1 locs1 _ _ j1 hS1 hz j2 j3)
/-- a call of the reference's that answers with an int -/
theorem jr_mi {σ1 : MS} {r1 : Int32} (X : jX g D G n0 own p s m args c cc nL) (hw : jW g D G n0 τ σ s H) (hS : va_S (fun q => n0 ≤ q) s.heap H locs) (hCr : H.size ≤ s.heap.size + R.cells) (hKr : slotsOf H ≤ slotsOf s.heap + R.slots) (hfr : lv + 2 ≤ R.frames) (hlo : 8 + (maxL + 11) + 40 * (lv + 1) ≤ R.locals)
    (hM : Met l y (ws_ y bytes maxL ret) (mRm lv) (mPre D xcl G (fun σ H => jW g D G n0 τ σ s H) (.ref G.1 :: As) σ) (mQi D xcl G (fun σ H => jW g D G n0 τ σ s H) (jR G) σ1 r1) 0 0 (jR G))
    (hG : GoodIn lw_all (wsV own index RX4 y (ws_ y bytes maxL ret))) (hy : y.cls = RX4 ∧ y.cls ≠ "java/lang/invoke/MethodHandle" ∧ y.cls ≠ "java/lang/invoke/VarHandle" ∧ (parseMethodDescriptor y.desc).map (fun d => d.parameters.length) = some n)
    (hn : As.length = n) (hsz : ls.size = nL) (hst : st = As.reverse ++ .ref G.1 :: rest) (hr : (rest.map fun v => v.category).sum ≤ 8) (hdg : decode cc pc = .ok (.invokevirtual index, 3))
    (kk : ∀ (H1 : Heap) (locs1 : List Loc) (cells slots : Nat), jW g D G n0 τ σ1 s H1 → va_S (fun q => n0 ≤ q) s.heap H1 locs1 → H1.size = H.size → slotsOf H1 ≤ slotsOf H → W p l e R s m args below meth c H1 locs1 cells slots Q (F0 m (pc + 3) ls (.int r1 :: rest))) : W p l e R s m args below meth c H locs cells slots Q (F0 m pc ls st) := by
  have hrc : ∃ cell : Cell, H[G.1]? = some cell ∧ cell.vm.isStatics = false ∧ s.vm.findClass RX4 = some cell.cls := va_recv X.2.1.1 (va_P1 hw.2.1) (ci := 0) (q0 := 0) (show xcl[0]? = some (RX4, TX4, 60) from rfl) rfl
  refine W.tight fun t1 t2 => va_calli (va_runV X.1 hM (cwV n X.1.2.2.2.2 hG rfl rfl rfl hy ⟨by simp only [mRm]; omega, by simp only [mRm]; omega⟩) ⟨m_blind, hrc, fun U hU hW => ⟨rfl, by rw [hU]; exact hw, va_K.moved hW.alike X.2.2.2.2⟩⟩ rfl hn hsz hst (lv_room hr) hdg ⟨by omega, by omega⟩) hS (fun q _ h => X.2.2.1.1 q h) (fun q h => X.2.2.1.1 q h) (fun r2 u t H1 locs1 ht hvm hp hB hz hk hS1 => ?_)
  obtain ⟨rfl, rfl⟩ := hp
  rw [ht] at hB
  refine W.room fun z1 z2 => kk H1 locs1 _ _ hB.1 hS1 (by omega) (by omega)
theorem jr_mv {σ1 : MS} (X : jX g D G n0 own p s m args c cc nL) (hw : jW g D G n0 τ σ s H) (hS : va_S (fun q => n0 ≤ q) s.heap H locs) (hCr : H.size ≤ s.heap.size + R.cells) (hKr : slotsOf H ≤ slotsOf s.heap + R.slots) (hfr : lv + 2 ≤ R.frames) (hlo : 8 + (maxL + 11) + 40 * (lv + 1) ≤ R.locals)
    (hM : Met l y (ws_ y bytes maxL ret) (mRm lv) (mPre D xcl G (fun σ H => jW g D G n0 τ σ s H) (.ref G.1 :: As) σ) (mQv D xcl G (fun σ H => jW g D G n0 τ σ s H) (jR G) σ1) 0 0 (jR G))
    (hG : GoodIn lw_all (wsV own index RX4 y (ws_ y bytes maxL ret))) (hy : y.cls = RX4 ∧ y.cls ≠ "java/lang/invoke/MethodHandle" ∧ y.cls ≠ "java/lang/invoke/VarHandle" ∧ (parseMethodDescriptor y.desc).map (fun d => d.parameters.length) = some n)
    (hn : As.length = n) (hsz : ls.size = nL) (hst : st = As.reverse ++ .ref G.1 :: rest) (hr : (rest.map fun v => v.category).sum ≤ 8) (hdg : decode cc pc = .ok (.invokevirtual index, 3))
    (kk : ∀ (H1 : Heap) (locs1 : List Loc) (cells slots : Nat), jW g D G n0 τ σ1 s H1 → va_S (fun q => n0 ≤ q) s.heap H1 locs1 → H1.size = H.size → slotsOf H1 ≤ slotsOf H → W p l e R s m args below meth c H1 locs1 cells slots Q (F0 m (pc + 3) ls rest)) : W p l e R s m args below meth c H locs cells slots Q (F0 m pc ls st) := by
  have hrc : ∃ cell : Cell, H[G.1]? = some cell ∧ cell.vm.isStatics = false ∧ s.vm.findClass RX4 = some cell.cls := va_recv X.2.1.1 (va_P1 hw.2.1) (ci := 0) (q0 := 0) (show xcl[0]? = some (RX4, TX4, 60) from rfl) rfl
  refine W.tight fun t1 t2 => va_callv (va_runV X.1 hM (cwV n X.1.2.2.2.2 hG rfl rfl rfl hy ⟨by simp only [mRm]; omega, by simp only [mRm]; omega⟩) ⟨m_blind, hrc, fun U hU hW => ⟨rfl, by rw [hU]; exact hw, va_K.moved hW.alike X.2.2.2.2⟩⟩ rfl hn hsz hst (lv_room hr) hdg ⟨by omega, by omega⟩) hS (fun q _ h => X.2.2.1.1 q h) (fun q h => X.2.2.1.1 q h) (fun u t H1 locs1 ht hvm hp hB hz hk hS1 => ?_)
  obtain rfl := hp
  rw [ht] at hB
  refine W.room fun z1 z2 => kk H1 locs1 _ _ hB.1 hS1 (by omega) (by omega)
/-- an entry of the script -/
theorem jr_sld {i k L b : Nat} {xs : Nat → Int32} {v : Int32} (hexec : p.tables.exec = Jvm.exec) (hb : c.code = cc) (hX : va_X b L xs s s.heap) (hbl : b < s.heap.size) (hn : s.heap.size = n0) (hS : va_S (fun q => n0 ≤ q) s.heap H locs) (hv : v = nI (i + k)) (hi : i + k < L) (hL : L ≤ 384) (hdg : decode cc pc = .ok (.iaload, 1))
    (kk : W p l e R s m args below meth c H locs cells slots Q (F0 m (pc + 1) ls (.int (xs (i + k)) :: rest))) : W p l e R s m args below meth c H locs cells slots Q (F0 m pc ls (.int v :: .ref b :: rest)) := by
  subst hv
  refine va_sld hexec hb hX hbl (by omega) hS (vp_in_nI hi (by omega)) hdg ?_
  rw [nI_clamp (by omega)]
  exact kk
/-- the wrappers' answer -/
theorem jr_lald {a C K : Nat} {i : Int32} {v : Int64} {τ0 : XL} (X : jX g D G n0 own p s m args c cc nL) (hw : jW g D G n0 τ σ s H) (hτ : τ0 = τ) {S : XS} (hS2 : S.2 = τ0) (hv : a_long S a i = some v) (hdg : decode cc pc = .ok (.laload, 1))
    (kk : W p l e R s m args below meth c H locs cells slots Q (F0 m (pc + 1) ls (.long v :: rest))) : W p l e R s m args below meth c H locs cells slots Q (F0 m pc ls (.int i :: .ref a :: rest)) := by
  subst hτ hS2
  obtain ⟨n, f, h1, h2, rfl⟩ := a_long_s hv
  exact va_lald X.1.1 X.1.2.1 X.2.1.1 (va_P1 (xΩ_at hw.1.1 h1)) 0 2 rfl (x_ty g (by decide)) h2 hdg kk
theorem lg_cmp_self (x : Int64) : lg_cmp x x = 0 := by
  unfold lg_cmp
  simp
end JL
