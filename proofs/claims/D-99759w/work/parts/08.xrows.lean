/-! rows over the component's world -/
/-- what is fixed: the classes of arrays by their kind, the bounds of cells and of slots, addresses of constants -/
abbrev XC : Type := (Nat → ClassId) × Nat × Nat × (Nat → Nat) × (Nat → Nat) × (Nat → Nat) × (Nat → Nat) × (Nat → Option Nat) × (Nat → Option Nat)
def xcl : List vw_C := [(RX4, TX4, 60), (RX1, TX1, 14), (RX3, TX3, 16), (RX2, TX2, 3), (RX5, TX5, 13), (RX7, TX7, 2), (RX8, TX8, 1), (RX9, TX9, 1), (RX10, TX10, 1), (RX6, TX6, 7), (RJ2, TJ2, 3), (RJ14, TJ14, 4)]
def x_tys (g : XC) : List (ClassId × FieldType) := (List.range 7).map (fun k => (g.1 k, x_el k))
/-- words of the tables that ride in no list -/
def xbad (w : Cond) : Bool := match w with
  | .fieldLinkNest .. => true
  | .methodLinkNest .. => true
  | .castable .. => true
  | .declares .. => true
  | .publicMethod .. => true
  | .unhidden .. => true
  | .interfaceMethod .. => true
  | .privateMethod .. => true
  | _ => false
def xNw (U : State) : Prop := (∀ w ∈ lw_tbl, xbad w = true → va_Nw w U) ∧
  (∀ x : MethodName, Cond.declares x ∈ lw_tbl → (x.cls ≠ "java/lang/invoke/MethodHandle" ∧ x.cls ≠ "java/lang/invoke/VarHandle") → Cond.interfaceMethod x.cls x.cls x.name x.desc ∈ lw_tbl → va_Nw (.interfaceMethod x.cls x.cls x.name x.desc) U) ∧
  (∀ C : String, Cond.arrayOver (.object C) ∈ lw_tbl → va_AO C U) ∧
  va_Nc "java/lang/IllegalArgumentException" "java/util/NoSuchElementException" U ∧
  (Cond.arrayOver (.array .int)).before #[] U = true
theorem va_Nw.warmP {x : MethodName} {s U : State} (hW : s.WarmedH U.vm) (hZ : va_Nw (.publicMethod x) s) : va_Nw (.publicMethod x) U := va_tabs rfl (rfl : (s.setVm U.vm).vm = U.vm) (by rw [Cond.publicMethod_setVm hW.alike]; exact hZ)
theorem va_Nw.warmU {a b c : String} {s U : State} (hW : s.WarmedH U.vm) (hZ : va_Nw (.unhidden a b c) s) : va_Nw (.unhidden a b c) U := va_tabs rfl (rfl : (s.setVm U.vm).vm = U.vm) (by rw [Cond.unhidden_setVm hW.alike]; exact hZ)
theorem im_setVm {s : State} {vm' : Vm} {args : Array Value} {a b n d : String} (h : s.vm.Alike vm') : (Cond.interfaceMethod a b n d).before args (s.setVm vm') = (Cond.interfaceMethod a b n d).before args s := by
  simp only [Cond.before, Cond.holds, Cond.value, State.vm_setVm, h.findClass, State.methodFound?_setVm h, State.methodNamed?_setVm h, arm_isInterface_setVm h]
theorem va_Nw.warmIM {a b n d : String} {s U : State} (hW : s.WarmedH U.vm) (hZ : va_Nw (.interfaceMethod a b n d) s) : va_Nw (.interfaceMethod a b n d) U := va_tabs rfl (rfl : (s.setVm U.vm).vm = U.vm) (by rw [im_setVm hW.alike]; exact hZ)
theorem va_Nw.warmPM {y : MethodName} {s U : State} (hW : s.WarmedH U.vm) (hZ : va_Nw (.privateMethod y) s) : va_Nw (.privateMethod y) U := va_Nw.of rfl (Cond.privateMethod_warm (args' := #[]) hW (va_Nw.use (A := #[]) rfl hZ))
/-- the word of int[][]'s class, in warmer tables -/
theorem x_ao2 {A A' : Array Value} {s U : State} (hal : s.vm.Alike U.vm) (h : (Cond.arrayOver (.array .int)).before A s = true) : (Cond.arrayOver (.array .int)).before A' U = true := by
  simp only [Cond.before, Cond.holds, Cond.value, beq_iff_eq] at h ⊢
  cases hc : s.vm.findClass (FieldType.array .int).toString with
  | none => simp [hc] at h
  | some comp =>
    simp only [hc, Option.bind_some, Option.bind_eq_some_iff, Option.map_eq_some_iff] at h
    obtain ⟨c, hi, k, hk, hb⟩ := h
    obtain ⟨k', hk', he⟩ := hal.2.2 _ _ hk
    have hi' : (U.vm.classes.findIdx? fun (x : Class) => match x.kind with | .array component _ => component == comp | _ => false) = some c := (hal.findIdx?_eqK _ (fun _ => rfl)).trans hi
    have f1 : U.vm.findClass (FieldType.array .int).toString = some comp := by rw [hal.findClass]; exact hc
    rw [f1, Option.bind_some]
    refine (congrArg (fun o : Option Nat => (o.bind _)) hi').trans ?_
    rw [Option.bind_some, hk', Option.map_some]
    congr 1
    have hkind : k'.kind = k.kind := by rw [he]
    simp only [hkind, hal.findClass]
    exact hb
theorem xNw.warm {s U : State} (hW : s.WarmedH U.vm) (h : xNw s) : xNw U := by
  refine ⟨fun w hw hb => ?_, fun x h1 h2 h3 => ?_, fun C hC => va_AO.moved hW.alike (h.2.2.1 C hC), va_Nc.moved hW.alike h.2.2.2.1, x_ao2 hW.alike h.2.2.2.2⟩
  · have h0 := h.1 w hw hb
    cases w <;> first | (cases hb; done) | exact va_Nw.warmF hW h0 | exact va_Nw.warmM hW h0 | exact va_Nw.warmC hW h0 | exact va_Nw.warmD hW h0 | exact va_Nw.warmP hW h0 | exact va_Nw.warmU hW h0 | exact va_Nw.warmIM hW h0 | exact va_Nw.warmPM hW h0
  · have h4 := h.2.1 x h1 h2 h3
    obtain ⟨r, meth, hn, -⟩ := Cond.declares_spec (h.1 _ h1 rfl)
    exact va_tabs rfl (rfl : (s.setVm U.vm).vm = U.vm) (by rw [Cond.interfaceMethod_setVm hW.alike (r := r) hn h2]; exact h4)
theorem xNw.of {A : Array Value} {U : State} (h : ∀ w ∈ lw_tbl, w.before A U = true) (hc : va_Nc "java/lang/IllegalArgumentException" "java/util/NoSuchElementException" U) : xNw U := by
  refine ⟨fun w hw hb => ?_, fun x h1 h2 h3 => va_Nw.of rfl (h _ h3), fun C hC => ?_, hc, x_ao2 (Vm.Alike.refl _) (h _ q1465)⟩
  · have h0 := h w hw
    cases w <;> first | (cases hb; done) | exact va_Nw.of rfl h0
  · have h0 := h _ hC
    exact va_AO.of h0
/-- String constants: entry of the class's pool, text -/
def x_str : List (Nat × String) := [(33, "leaks"), (35, "frost"), (41, "fill"), (43, "holds"), (45, "spring"), (47, "tips"), (49, "cup"), (51, "hour"), (98, ";()+-*/<="), (179, "not"), (189, "and"), (196, "or"), (247, "pipe")]
def x_slen : List Nat := [5, 5, 4, 5, 6, 4, 3, 4, 9, 3, 3, 2, 4]
def x_sbyt : List (List Int32) := [[108, 101, 97, 107, 115], [102, 114, 111, 115, 116], [102, 105, 108, 108], [104, 111, 108, 100, 115], [115, 112, 114, 105, 110, 103], [116, 105, 112, 115], [99, 117, 112], [104, 111, 117, 114], [59, 40, 41, 43, 45, 42, 47, 60, 61], [110, 111, 116], [97, 110, 100], [111, 114], [112, 105, 112, 101]]
/-- addresses: 0 ArrayList's empty array of no capacity, 1 its empty array, 2 the cache of Integers, 3, 4 class objects of Object[] and ArrayList -/
def gSp (g : XC) : Nat → Nat := g.2.2.2.1
/-- small Integers -/
def gIc (g : XC) : Nat → Nat := g.2.2.2.2.1
/-- String constants, their bytes -/
def gSk (g : XC) : Nat → Nat := g.2.2.2.2.2.1
def gSv (g : XC) : Nat → Nat := g.2.2.2.2.2.2.1
/-- which Integer, which String lies at an address -/
def gIv (g : XC) : Nat → Option Nat := g.2.2.2.2.2.2.2.1
def gSi (g : XC) : Nat → Option Nat := g.2.2.2.2.2.2.2.2
/-- statics that hold null or some reference -/
def gOp (g : XC) (k : Nat) : Option Nat := if gSp g k = 0 then none else some (gSp g (k + 1))
/-- Preconditions' formatter: null or some reference -/
def gFm (g : XC) : Option Nat := if gSp g 5 = 0 then none else some (gSp g 6)
/-- constants of the start, that no method changes -/
def xΦ (g : XC) (A : Nat → Prop) (U : State) (H : Heap) : Prop :=
  va_Z "java/util/ArrayList" "DEFAULTCAPACITY_EMPTY_ELEMENTDATA" "[Ljava/lang/Object;" (.ref (gSp g 0)) A U H ∧
  va_Z "java/util/ArrayList" "EMPTY_ELEMENTDATA" "[Ljava/lang/Object;" (.ref (gSp g 1)) A U H ∧
  va_T (.object "java/lang/Object") (gSp g 0) 0 (fun _ => .null) A U H ∧
  va_T (.object "java/lang/Object") (gSp g 1) 0 (fun _ => .null) A U H ∧
  va_O "[Ljava/lang/Object;" (gSp g 0) A U H ∧
  va_O "[Ljava/lang/Object;" (gSp g 1) A U H ∧
  va_Z "java/lang/Integer$IntegerCache" "cache" "[Ljava/lang/Integer;" (.ref (gSp g 2)) A U H ∧
  va_T (.object "java/lang/Integer") (gSp g 2) 256 (fun k => .ref (gIc g k)) A U H ∧
  va_Z "java/lang/Integer$IntegerCache" "high" "I" (.int 127) A U H ∧
  vb_C (gIc g) A U H ∧
  va_Z "java/lang/String" "COMPACT_STRINGS" "Z" (.int 1) A U H ∧
  vk_S 13 x_slen x_sbyt (gSk g) (gSv g) A U H ∧
  vx_Zq Bundle.tN "UNASSIGNED_STACK" Bundle.steD A U H ∧
  vx_Zq Bundle.tN "SUPPRESSED_SENTINEL" Bundle.listD A U H ∧
  va_Z "jdk/internal/util/Preconditions" "SIOOBE_FORMATTER" "Ljava/util/function/BiFunction;" (va_rf (gFm g)) A U H ∧
  va_Z "java/lang/Throwable" "UNASSIGNED_STACK" "[Ljava/lang/StackTraceElement;" (va_rf (gOp g 7)) A U H ∧
  va_Z "java/lang/Throwable" "SUPPRESSED_SENTINEL" "Ljava/util/List;" (va_rf (gOp g 9)) A U H
theorem xΦ.moved {g : XC} {A : Nat → Prop} {u U : State} {H H1 : Heap} (h : xΦ g A u H) (hW : u.vm.Alike U.vm) (hk : ∀ q : Nat, q < H.size → ¬ A q → H1[q]? = H[q]?) : xΦ g A U H1 := by
  obtain ⟨h1, h2, h3, h4, h5, h6, h7, h8, h9, h10, h11, h12, h13, h14, h15, h16, h17⟩ := h
  exact ⟨(h1.kept hk).moved hW, (h2.kept hk).moved hW, (h3.kept hk).moved hW, (h4.kept hk).moved hW, (h5.kept hk).moved hW, (h6.kept hk).moved hW, (h7.kept hk).moved hW, (h8.kept hk).moved hW, (h9.kept hk).moved hW, (h10.kept hk).moved hW, (h11.kept hk).moved hW, (h12.kept hk).moved hW, (h13.kept hk).moved hW, (h14.kept hk).moved hW, (h15.kept hk).moved hW, (h16.kept hk).moved hW, (h17.kept hk).moved hW⟩
/-- what holds of the tables all through, and how the constants' addresses lie -/
def xK (g : XC) (D : va_G) (U : State) : Prop := va_K D xcl (x_tys g) U ∧ xNw U ∧ (∀ (i : Nat) (q : Nat × String), x_str[i]? = some q → vk_R "DripCups$Reader" q.1 q.2 (gSk g i) U) ∧ va_Mi "[Ljava/lang/Object;" (gSp g 3) U ∧ va_Mi "java/util/ArrayList" (gSp g 4) U ∧
  gSp g 0 ≠ gSp g 1 ∧ gSp g 3 ≠ gSp g 4 ∧ (∀ q k, gIv g q = some k → k < 256 ∧ q = gIc g k) ∧ (∀ k, k < 256 → gIv g (gIc g k) = some k) ∧ (∀ q k, gSi g q = some k → k < 13 ∧ q = gSk g k) ∧ (∀ k, k < 13 → gSi g (gSk g k) = some k)
theorem xK.warm {g : XC} {D : va_G} {s U : State} (hW : s.WarmedH U.vm) (h : xK g D s) : xK g D U := ⟨va_K.moved hW.alike h.1, h.2.1.warm hW, fun i q hq => (h.2.2.1 i q hq).warm hW, va_Mi.moved hW.alike h.2.2.2.1, va_Mi.moved hW.alike h.2.2.2.2.1, h.2.2.2.2.2⟩
theorem xK.same {g : XC} {D : va_G} {s U : State} (hv : s.vm = U.vm) (h : xK g D s) : xK g D U := by
  have ha : s.vm.Alike U.vm := by rw [hv]; exact Vm.Alike.refl _
  refine ⟨va_K.moved ha h.1, ⟨fun w hw hb => ?_, fun x h1 h2 h3 => ?_, fun C hC => va_AO.moved ha (h.2.1.2.2.1 C hC), va_Nc.moved ha h.2.1.2.2.2.1, x_ao2 ha h.2.1.2.2.2.2⟩, fun i q hq => (h.2.2.1 i q hq).same hv.symm, va_Mi.moved ha h.2.2.2.1, va_Mi.moved ha h.2.2.2.2.1, h.2.2.2.2.2⟩
  · have h0 := h.2.1.1 w hw hb
    cases w <;> first | (cases hb; done) | exact va_Nw.same rfl hv h0
  · exact va_Nw.same rfl hv (h.2.1.2.1 x h1 h2 h3)
/-- the world: the picture, within the bounds, and the constants -/
def xW (g : XC) (D : va_G) (A : Nat → Prop) (S : XS) (U : State) (H : Heap) : Prop := xΩ D xcl g.1 A S H ∧ xCc S = g.2.1 ∧ xCs S = g.2.2.1 ∧ xTop S ≤ g.2.1 ∧ xSl S ≤ g.2.2.1 ∧ xΦ g A U H
def xRm (g : XC) (S : XS) (lv : Nat) : Room := { frames := lv + 1, cells := g.2.1 - xTop S, slots := g.2.2.1 - xSl S, locals := 40 * (lv + 1) }
def xX (g : XC) (D : va_G) (A : Nat → Prop) (own : String) (S0 : XS) (p : Program) (s : State) (m : MethodId) (args : Array Value) (c : Code) (cc : ByteArray) (nL : Nat) : Prop :=
  p.tables.exec = Jvm.exec ∧ c.code = cc ∧ c.maxLocals = nL ∧ s.vm.findClass own = some m.cls ∧ (∀ w ∈ lw_all, w.before args s = true) ∧ xK g D s ∧ s.heap.size = xTop S0 ∧ slotsOf s.heap = xSl S0
def xPre (g : XC) (D : va_G) (A : Nat → Prop) (av : List Value) (S : XS) : Array Value → State → Prop := va_Pc av (fun U => xW g D A S U U.heap ∧ xK g D U)
def xB (g : XC) (D : va_G) (A : Nat → Prop) : XS → State → Prop := fun u t => xW g D A u t t.heap ∧ xK g D t
def xQi (g : XC) (D : va_G) (A : Nat → Prop) (w : XS × Int32) : Array Value → State → Outcome → State → Prop := va_Qi (fun (r : Int32) (u : XS) => r = w.2 ∧ u = w.1) (xB g D A) A
def xQl (g : XC) (D : va_G) (A : Nat → Prop) (w : XS × Int64) : Array Value → State → Outcome → State → Prop := va_Ql (fun (r : Int64) (u : XS) => r = w.2 ∧ u = w.1) (xB g D A) A
def xQv (g : XC) (D : va_G) (A : Nat → Prop) (w : XS) : Array Value → State → Outcome → State → Prop := va_Qv (fun (u : XS) => u = w) (xB g D A) A
def xQr (g : XC) (D : va_G) (A : Nat → Prop) (w : XS × Nat) : Array Value → State → Outcome → State → Prop := va_Qr (fun (u : XS) => u = w.1) (fun u a t => a = w.2 ∧ xB g D A u t) A
/-! a cell that is written -/
def x_upd (S S1 : XS) (a : Nat) (e0 e1 : GE) : Prop := x_cell S a = some e0 ∧ x_cell S1 a = some e1 ∧ (∀ r, r ≠ a → x_cell S1 r = x_cell S r) ∧ S1.1 = S.1 ∧ (xWF S → xWF S1)
theorem x_typed {S : XS} {a c : Nat} (h : xOwn S a = (c, 0, 0)) (h0 : ¬ xOwn S a = (0, 0, 0)) (hc : c < 10) : x_cell S a = some (.inr (c, x_F S c a)) := by
  unfold x_cell
  rw [h] at h0 ⊢
  have hc0 : c ≠ 0 := fun z => h0 (by rw [z])
  rw [if_neg hc0, if_pos hc]
theorem f_putI_s {S S1 : XS} {c a k : Nat} {v : Int32} (h : f_putI S c a k v = some S1) : ∃ fs, k < fs.length ∧ x_upd S S1 a (.inr (c, fs)) (.inr (c, fs.set k (.int v))) := by
  unfold f_putI at h
  by_cases h0 : xOwn S a = (0, 0, 0)
  · rw [if_pos h0] at h
    have hc : x_cell S a = xG S a := by unfold x_cell; rw [h0]; rfl
    split at h
    · rename_i c' fs hg
      by_cases h2 : c' = c ∧ k < fs.length
      · rw [if_pos h2] at h
        obtain rfl := Option.some.inj h
        obtain ⟨rfl, h3⟩ := h2
        exact ⟨fs, h3, by rw [hc]; exact hg, x_cell_Gs _ _ _ (by rw [h0]), fun r hr => x_cell_G _ _ _ _ hr, rfl, fun z => z⟩
      · rw [if_neg h2] at h; cases h
    · cases h
  · rw [if_neg h0] at h
    by_cases h2 : xOwn S a = (c, 0, 0) ∧ c < 10 ∧ k < x_N c ∧ (x_kd c k = 0 ∨ x_kd c k = 4)
    · rw [if_pos h2] at h
      obtain rfl := Option.some.inj h
      obtain ⟨h3, h4, h5, h6⟩ := h2
      refine ⟨x_F S c a, by rw [x_F_len]; exact h5, x_typed h3 h0 h4, ?_, fun r hr => x_cell_I _ _ _ _ _ hr, rfl, fun z => z⟩
      rw [x_F_set S (xSetI S a k v) c a (v := .int v)]
      · exact x_typed (S := xSetI S a k v) h3 h0 h4
      · have e1 : xI (xSetI S a k v) a k = v := if_pos ⟨rfl, rfl⟩
        unfold x_val
        rw [if_neg (by omega), if_neg (by omega), e1]
      · intro j hj
        have e1 : xI (xSetI S a k v) a j = xI S a j := if_neg (fun z => hj z.2)
        unfold x_val
        rw [e1]
        rfl
    · rw [if_neg h2] at h; cases h
theorem f_putR_s {S S1 : XS} {c a k : Nat} {v : Option Nat} (h : f_putR S c a k v = some S1) : ∃ fs, k < fs.length ∧ x_upd S S1 a (.inr (c, fs)) (.inr (c, fs.set k (va_rf v))) := by
  unfold f_putR at h
  by_cases h0 : xOwn S a = (0, 0, 0)
  · rw [if_pos h0] at h
    have hc : x_cell S a = xG S a := by unfold x_cell; rw [h0]; rfl
    split at h
    · rename_i c' fs hg
      by_cases h2 : c' = c ∧ k < fs.length
      · rw [if_pos h2] at h
        obtain rfl := Option.some.inj h
        obtain ⟨rfl, h3⟩ := h2
        exact ⟨fs, h3, by rw [hc]; exact hg, x_cell_Gs _ _ _ (by rw [h0]), fun r hr => x_cell_G _ _ _ _ hr, rfl, fun z => z⟩
      · rw [if_neg h2] at h; cases h
    · cases h
  · rw [if_neg h0] at h
    by_cases h2 : xOwn S a = (c, 0, 0) ∧ c < 10 ∧ k < x_N c ∧ x_kd c k = 2
    · rw [if_pos h2] at h
      obtain rfl := Option.some.inj h
      obtain ⟨h3, h4, h5, h6⟩ := h2
      refine ⟨x_F S c a, by rw [x_F_len]; exact h5, x_typed h3 h0 h4, ?_, fun r hr => x_cell_R _ _ _ _ _ hr, rfl, fun z => z⟩
      rw [x_F_set S (xSetR S a k v) c a (v := va_rf v)]
      · exact x_typed (S := xSetR S a k v) h3 h0 h4
      · have e1 : xR (xSetR S a k v) a k = v := if_pos ⟨rfl, rfl⟩
        unfold x_val
        rw [if_pos h6, e1]
      · intro j hj
        have e1 : xR (xSetR S a k v) a j = xR S a j := if_neg (fun z => hj z.2)
        unfold x_val
        rw [e1]
        rfl
    · rw [if_neg h2] at h; cases h
theorem a_putI_s {S S1 : XS} {k r : Nat} {i v : Int32} (hW : xWF S) (h : a_putI S k r i v = some S1) : ∃ (n : Nat) (f : Nat → Int32), vp_in i n ∧ x_upd S S1 r (.inl (k, n, .inl f)) (.inl (k, n, .inl (upd f i.toNatClampNeg v))) := by
  unfold a_putI at h
  by_cases h0 : (xOwn S r).1 = 0
  · rw [if_pos h0] at h
    have hc : x_cell S r = xG S r := by unfold x_cell; rw [if_pos h0]
    split at h
    · rename_i k' n f hg
      by_cases h2 : k' = k ∧ ¬ (i < 0 ∨ n ≤ i.toNatClampNeg)
      · rw [if_pos h2] at h
        obtain rfl := Option.some.inj h
        obtain ⟨rfl, h3⟩ := h2
        exact ⟨n, f, h3, by rw [hc]; exact hg, x_cell_Gs _ _ _ h0, fun q hq => x_cell_G _ _ _ _ hq, rfl, fun z => z⟩
      · rw [if_neg h2] at h; cases h
    · cases h
  · rw [if_neg h0] at h
    by_cases h2 : 10 ≤ (xOwn S r).1 ∧ x_ak ((xOwn S r).1 - 10) (xOwn S r).2.2 = k ∧ ¬ (i < 0 ∨ x_len ((xOwn S r).1 - 10) (xOwn S r).2.2 ≤ i.toNatClampNeg)
    · rw [if_pos h2] at h
      obtain rfl := Option.some.inj h
      obtain ⟨h3, h4, h5⟩ := h2
      refine ⟨x_len ((xOwn S r).1 - 10) (xOwn S r).2.2, xA S (xOwn S r).2.1 (xOwn S r).2.2, h5, ?_, ?_, fun q hq => x_cell_A S hW r q _ h3 hq, rfl, fun z => z⟩
      · unfold x_cell
        rw [if_neg h0, if_neg (by omega), h4]
      · rw [x_cell_As S r _ h3, h4]
    · rw [if_neg h2] at h; cases h
theorem a_putJ_s {S S1 : XS} {r : Nat} {i : Int32} {v : Int64} (h : a_putJ S r i v = some S1) : ∃ (n : Nat) (f : Nat → Int64), vp_in i n ∧ x_upd S S1 r (.inl (2, n, .inr (.inl f))) (.inl (2, n, .inr (.inl (vp_updL f i.toNatClampNeg v)))) := by
  unfold a_putJ at h
  split at h
  · rename_i n f hg
    by_cases h2 : (xOwn S r).1 = 0 ∧ ¬ (i < 0 ∨ n ≤ i.toNatClampNeg)
    · rw [if_pos h2] at h
      obtain rfl := Option.some.inj h
      exact ⟨n, f, h2.2, hg, x_cell_Gs _ _ _ h2.1, fun q hq => x_cell_G _ _ _ _ hq, rfl, fun z => z⟩
    · rw [if_neg h2] at h; cases h
  · cases h
theorem a_putR_s {S S1 : XS} {k r : Nat} {i : Int32} {v : Option Nat} (h : a_putR S k r i v = some S1) : ∃ (n : Nat) (f : Nat → Option Nat), vp_in i n ∧ x_upd S S1 r (.inl (k, n, .inr (.inr (.inr (.inr f))))) (.inl (k, n, .inr (.inr (.inr (.inr (va_up f i.toNatClampNeg v)))))) := by
  unfold a_putR at h
  split at h
  · rename_i k' n f hg
    by_cases h2 : (xOwn S r).1 = 0 ∧ k' = k ∧ ¬ (i < 0 ∨ n ≤ i.toNatClampNeg)
    · rw [if_pos h2] at h
      obtain rfl := Option.some.inj h
      obtain ⟨h3, rfl, h4⟩ := h2
      exact ⟨n, f, h4, hg, x_cell_Gs _ _ _ h3, fun q hq => x_cell_G _ _ _ _ hq, rfl, fun z => z⟩
    · rw [if_neg h2] at h; cases h
  · cases h
theorem f_val_s {S : XS} {c a k : Nat} {v : Value} (h : f_val S c a k = some v) : ∃ fs, x_cell S a = some (.inr (c, fs)) ∧ fs[k]? = some v := by
  unfold f_val at h
  split at h
  · rename_i c' fs hg
    by_cases h2 : c' = c
    · rw [if_pos h2] at h
      subst h2
      exact ⟨fs, hg, h⟩
    · rw [if_neg h2] at h; cases h
  · cases h
theorem f_int_s {S : XS} {c a k : Nat} {v : Int32} (h : f_int S c a k = some v) : f_val S c a k = some (.int v) := by
  unfold f_int v_int at h
  split at h
  · rename_i x hx
    rw [hx, Option.some.inj h]
  · cases h
theorem f_ref_s {S : XS} {c a k : Nat} {v : Option Nat} (h : f_ref S c a k = some v) : f_val S c a k = some (va_rf v) := by
  unfold f_ref v_ref at h
  split at h
  · rename_i hx
    obtain rfl := Option.some.inj h
    exact hx
  · rename_i x hx
    obtain rfl := Option.some.inj h
    exact hx
  · cases h
theorem f_obj_s {S : XS} {c a k : Nat} {v : Nat} (h : f_obj S c a k = some v) : f_val S c a k = some (.ref v) := by
  unfold f_obj at h
  obtain ⟨r, h1, h2⟩ := ob_s h
  have h3 : r = some v := h2
  subst h3
  exact f_ref_s h1
theorem a_int_s {S : XS} {k r : Nat} {i v : Int32} (h : a_int S k r i = some v) : ∃ (n : Nat) (f : Nat → Int32), x_cell S r = some (.inl (k, n, .inl f)) ∧ vp_in i n ∧ v = f i.toNatClampNeg := by
  unfold a_int at h
  split at h
  · rename_i k' n f hg
    by_cases h2 : k' = k ∧ ¬ (i < 0 ∨ n ≤ i.toNatClampNeg)
    · rw [if_pos h2] at h
      obtain ⟨rfl, h3⟩ := h2
      exact ⟨n, f, hg, h3, (Option.some.inj h).symm⟩
    · rw [if_neg h2] at h; cases h
  · cases h
theorem a_long_s {S : XS} {r : Nat} {i : Int32} {v : Int64} (h : a_long S r i = some v) : ∃ (n : Nat) (f : Nat → Int64), x_cell S r = some (.inl (2, n, .inr (.inl f))) ∧ vp_in i n ∧ v = f i.toNatClampNeg := by
  unfold a_long at h
  split at h
  · rename_i n f hg
    by_cases h2 : ¬ (i < 0 ∨ n ≤ i.toNatClampNeg)
    · rw [if_pos h2] at h
      exact ⟨n, f, hg, h2, (Option.some.inj h).symm⟩
    · rw [if_neg h2] at h; cases h
  · cases h
theorem a_ref_s {S : XS} {k r : Nat} {i : Int32} {v : Option Nat} (h : a_ref S k r i = some v) : ∃ (n : Nat) (f : Nat → Option Nat), x_cell S r = some (.inl (k, n, .inr (.inr (.inr (.inr f))))) ∧ vp_in i n ∧ v = f i.toNatClampNeg := by
  unfold a_ref at h
  split at h
  · rename_i k' n f hg
    by_cases h2 : k' = k ∧ ¬ (i < 0 ∨ n ≤ i.toNatClampNeg)
    · rw [if_pos h2] at h
      obtain ⟨rfl, h3⟩ := h2
      exact ⟨n, f, hg, h3, (Option.some.inj h).symm⟩
    · rw [if_neg h2] at h; cases h
  · cases h
theorem a_obj_s {S : XS} {k r : Nat} {i : Int32} {v : Nat} (h : a_obj S k r i = some v) : a_ref S k r i = some (some v) := by
  unfold a_obj at h
  obtain ⟨x, h1, h2⟩ := ob_s h
  have h3 : x = some v := h2
  subst h3
  exact h1
theorem a_len_s {S : XS} {r : Nat} {v : Int32} (h : a_len S r = some v) : ∃ (k : Nat) (x : vp_A), x_cell S r = some (.inl (k, x)) ∧ k < 7 ∧ v = Int32.ofNat x.1 := by
  unfold a_len at h
  split at h
  · rename_i k n x hg
    by_cases h2 : k < 7
    · rw [if_pos h2] at h
      exact ⟨k, (n, x), hg, h2, (Option.some.inj h).symm⟩
    · rw [if_neg h2] at h; cases h
  · cases h
theorem f_cls_s {S : XS} {c a : Nat} {u : Unit} (h : f_cls S c a = some u) : ∃ fs, x_cell S a = some (.inr (c, fs)) := by
  unfold f_cls at h
  split at h
  · rename_i c' fs hg
    by_cases h2 : c' = c
    · subst h2
      exact ⟨fs, hg⟩
    · rw [if_neg h2] at h; cases h
  · cases h
section XR
variable {p : Program} {l : Launch} {e : Env} {R : Room} {s : State} {m : MethodId} {args : Array Value} {below : List Frame} {meth : Method} {c : Code} {H : Heap} {locs : List Loc} {cells slots : Nat} {Q : State → Prop}
variable {cc : ByteArray} {pc nL : Nat} {ls : Array Slot} {rest : List Value} {g : XC} {D : va_G} {A : Nat → Prop} {own : String} {S0 S : XS}
theorem x_ty (g : XC) {k : Nat} (h : k < 7) : (x_tys g)[k]? = some (g.1 k, x_el k) := by
  unfold x_tys
  rw [List.getElem?_map, List.getElem?_range h]
  rfl
theorem xW_set {S1 : XS} {H1 : Heap} {a n : Nat} {e0 e1 : GE} (hw : xW g D A S s H) (hS : va_S A s.heap H locs) (hu : x_upd S S1 a e0 e1) (z : H1.size = H.size) (oq : ∀ q : Nat, q ≠ a → H1[q]? = H[q]?) (hz : ∀ r : Nat, (H1[r]?).map (fun c => c.slots.size) = (H[r]?).map (fun c => c.slots.size)) (hat : va_at D xcl (a, x_gE g.1 e1) H1) : xW g D A S1 s H1 ∧ va_S A s.heap H1 (locs ++ [⟨a, n⟩]) := by
  obtain ⟨u1, u2, u3, u4, u5⟩ := hu
  obtain ⟨w1, w2, w3, w4, w5, w6⟩ := hw
  have t1 : xTop S1 = xTop S := by unfold xTop; rw [u4]
  have t2 : xSl S1 = xSl S := by unfold xSl; rw [u4]
  have t3 : xCc S1 = xCc S := by unfold xCc; rw [u4]
  have t4 : xCs S1 = xCs S := by unfold xCs; rw [u4]
  have hA := xΩ_in w1 u1
  exact ⟨⟨xΩ_set w1 u1 u3 u2 (u5 w1.2.1) u4 z oq hz hat, by rw [t3, w2], by rw [t4, w3], by rw [t1]; exact w4, by rw [t2]; exact w5, w6.moved (Vm.Alike.refl _) (fun q _ hq => oq q (fun z => hq (by rw [z]; exact hA)))⟩, hS.put z oq hA⟩
variable {C T} {N ci k idx a : Nat}
theorem xr_val {C : String} {T : u_T} (X : xX g D A own S0 p s m args c cc nL) (hw : xW g D A S s H) (hc : xcl[ci]? = some (C, T, N)) (hin : ∀ w ∈ u_ws C T N, w ∈ lw_all) (k : Nat) (hk : k < N) (hlink : Cond.fieldLink own idx (T k).1 (T k).2.1 (T k).2.2.1 ∈ lw_all) {v : Value} (hv : f_val S ci a k = some v) (hdg : decode cc pc = .ok (.getfield idx, 3))
    (kk : W p l e R s m args below meth c H locs cells slots Q (F0 m (pc + 3) ls (v :: rest))) : W p l e R s m args below meth c H locs cells slots Q (F0 m pc ls (.ref a :: rest)) := by
  obtain ⟨hx, hb, -, hown, hts, ⟨hK, -⟩, -, -⟩ := X
  obtain ⟨fs, h1, h2⟩ := f_val_s hv
  exact va_get hx hb hts hin hown hK (va_P1 (xΩ_at hw.1 h1)) 0 rfl hc k hk (hts _ hlink) (fun _ h => h) h2 hdg kk
theorem xr_valN {C : String} {T : u_T} {host : String} (X : xX g D A own S0 p s m args c cc nL) (hw : xW g D A S s H) (hc : xcl[ci]? = some (C, T, N)) (hin : ∀ w ∈ u_ws C T N, w ∈ lw_all) (k : Nat) (hk : k < N) (hlink : Cond.fieldLinkNest own idx (T k).1 (T k).2.1 (T k).2.2.1 host ∈ lw_tbl) {v : Value} (hv : f_val S ci a k = some v) (hdg : decode cc pc = .ok (.getfield idx, 3))
    (kk : W p l e R s m args below meth c H locs cells slots Q (F0 m (pc + 3) ls (v :: rest))) : W p l e R s m args below meth c H locs cells slots Q (F0 m pc ls (.ref a :: rest)) := by
  obtain ⟨hx, hb, -, hown, hts, ⟨hK, hN, -⟩, -, -⟩ := X
  obtain ⟨fs, h1, h2⟩ := f_val_s hv
  exact va_getN hx hb hts hin hown hK (va_P1 (xΩ_at hw.1 h1)) 0 rfl hc k hk (va_Nw.use rfl (hN.1 _ hlink rfl)) (fun _ h => h) h2 hdg kk
/-- a field of an inherited class, named by the class below -/
theorem xr_valS {C : String} {T : u_T} {ref : String} (X : xX g D A own S0 p s m args c cc nL) (hw : xW g D A S s H) (hc : xcl[ci]? = some (C, T, N)) (hin : ∀ w ∈ u_ws C T N, w ∈ lw_all) (k : Nat) (hk : k < N) (hlink : Cond.fieldLink own idx ref (T k).2.1 (T k).2.2.1 ∈ lw_all) (hsame : ∀ x, s.fieldFound? (T k).1 (T k).2.1 (T k).2.2.1 = some x → s.fieldFound? ref (T k).2.1 (T k).2.2.1 = some x) {v : Value} (hv : f_val S ci a k = some v) (hdg : decode cc pc = .ok (.getfield idx, 3))
    (kk : W p l e R s m args below meth c H locs cells slots Q (F0 m (pc + 3) ls (v :: rest))) : W p l e R s m args below meth c H locs cells slots Q (F0 m pc ls (.ref a :: rest)) := by
  obtain ⟨hx, hb, -, hown, hts, ⟨hK, -⟩, -, -⟩ := X
  obtain ⟨fs, h1, h2⟩ := f_val_s hv
  exact va_get hx hb hts hin hown hK (va_P1 (xΩ_at hw.1 h1)) 0 rfl hc k hk (hts _ hlink) hsame h2 hdg kk
theorem va_at_cell {q : Nat} {ci : Nat} {fs : List Value} (h : va_at D xcl (q, .inr (ci, fs)) H) : ∃ cell : Cell, H[q]? = some cell := by
  obtain ⟨r, h1, cell, h2, -⟩ := h
  exact ⟨cell, h2⟩
end XR
