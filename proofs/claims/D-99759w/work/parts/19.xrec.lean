theorem cx_X1_deep : yX1_deep.cls = RX1 ∧ yX1_deep.cls ≠ "java/lang/invoke/MethodHandle" ∧ yX1_deep.cls ≠ "java/lang/invoke/VarHandle" ∧ (parseMethodDescriptor yX1_deep.desc).map (fun d => d.parameters.length) = some 1 := by decide +kernel
def kX_X1_deep_41 (g : XC) (N : Nat) (E : XS → Nat → Int32 → Option (XS × Int32)) (K6 : XS → Nat → Int32 → Int32 → Int32 → Option (XS × Int32)) (S : XS) (x0 : Nat) (x1 : Int32) (x2 : Int32) (x3 : Int32) : Option (XS × Int32) :=
  K6 S x0 x1 x2 (x3 + 1)
theorem wkX_X1_deep_41 {p : Program} {l : Launch} {e : Env} {s : State} {m : MethodId} {args : Array Value} {below : List Frame} {meth : Method} {c : Code} {g : XC} {D : va_G} {A : Nat → Prop} {S0 : XS} {w : XS × Int32} (X : xX g D A RX1 S0 p s m args c cX1_deep 4) (hr : meth.sig.returnType = (Option.some Jvm.ClassFile.FieldType.int)) (hlk : meth.locks = false) (hnm : meth.name = yX1_deep.name) (N : Nat) (nE : Nat) (E : XS → Nat → Int32 → Option (XS × Int32)) (hE : ∀ (S : XS) (x0 : Nat) (x1 : Int32) (w : XS × Int32), E S x0 x1 = some w → Met l yX1_deep (ws_ yX1_deep cX1_deep 4 (Option.some Jvm.ClassFile.FieldType.int)) (xRm g S (nE + 10)) (xPre g D A [.ref x0, .int x1] S) (xQi g D A w) (g.2.1 - xTop S) (g.2.2.1 - xSl S) A) (K6 : XS → Nat → Int32 → Int32 → Int32 → Option (XS × Int32))
    (hK6 : ∀ (S : XS) (x0 : Nat) (x1 : Int32) (x2 : Int32) (x3 : Int32) (H : Heap) (locs : List Loc) (ls : Array Slot) (cells slots : Nat), K6 S x0 x1 x2 x3 = some w → xW g D A S s H → va_S A s.heap H locs → lv_has ls 4 [(0, .ref x0), (1, .int x1), (2, .int x2), (3, .int x3)] → W p l e (xRm g S0 (nE + 11)) s m args below meth c H locs cells slots (MQ below (xQi g D A w) args s (g.2.1 - xTop S0) (g.2.2.1 - xSl S0) A) (F0 m 6 ls [])) :
    ∀ (S : XS) (x0 : Nat) (x1 : Int32) (x2 : Int32) (x3 : Int32) (H : Heap) (locs : List Loc) (ls : Array Slot) (cells slots : Nat), kX_X1_deep_41 g N E K6 S x0 x1 x2 x3 = some w → xW g D A S s H → va_S A s.heap H locs → lv_has ls 4 [(0, .ref x0), (1, .int x1), (2, .int x2), (3, .int x3)] → W p l e (xRm g S0 (nE + 11)) s m args below meth c H locs cells slots (MQ below (xQi g D A w) args s (g.2.1 - xTop S0) (g.2.2.1 - xSl S0) A) (F0 m 41 ls []) := by
  obtain ⟨hx, hb, -, hown, hts, -⟩ := id X
  intro S x0 x1 x2 x3 H locs ls cells slots hm hw hS hl
  unfold kX_X1_deep_41 at hm
  refine lv_iinc (v := (x3 + 1)) (lv' := [(3, .int (x3 + 1)), (0, .ref x0), (1, .int x1), (2, .int x2)]) hx hb dX1_deep_41 hl (k := 3) rfl rfl (by decide) rfl (fun ls hl => ?_)
  refine lv_goto (tgt := 6) hx hb dX1_deep_44 (by decide) ?_
  exact hK6 S x0 x1 x2 (x3 + 1) H locs ls _ _ hm hw hS (lv_sub hl [1, 2, 3, 0] rfl)
def kX_X1_deep_6 (g : XC) (N : Nat) (E : XS → Nat → Int32 → Option (XS × Int32)) : Nat → XS → Nat → Int32 → Int32 → Int32 → Option (XS × Int32)
  | 0, _, _, _, _, _ => none
  | n + 1, S, x0, x1, x2, x3 =>
    (f_obj S 1 x0 1).bind fun v1 =>
    (f_cls S 3 v1).bind fun u2 =>
    (kX_X2_cups g N S v1).bind fun w3 =>
    if w3.2 ≤ x3 then
      some (w3.1, x2)
    else
      (f_cls w3.1 1 x0).bind fun u5 =>
      (kX_X1_straight g N w3.1 x0 x1).bind fun w6 =>
      (kX_X1_isOf g N w6.2 x3).bind fun w7 =>
      if w7 = 0 then
        kX_X1_deep_41 g N E (kX_X1_deep_6 g N E n) w6.1 x0 x1 x2 x3
      else
        (f_cls w6.1 1 x0).bind fun u9 =>
        (E w6.1 x0 x3).bind fun w10 =>
        bnd (if (x2 : Int32) < (1 + w10.2) then (1 + w10.2) else x2) fun v11 =>
        kX_X1_deep_41 g N E (kX_X1_deep_6 g N E n) w10.1 x0 x1 v11 x3
theorem wkX_X1_deep_6 {p : Program} {l : Launch} {e : Env} {s : State} {m : MethodId} {args : Array Value} {below : List Frame} {meth : Method} {c : Code} {g : XC} {D : va_G} {A : Nat → Prop} {S0 : XS} {w : XS × Int32} (X : xX g D A RX1 S0 p s m args c cX1_deep 4) (hr : meth.sig.returnType = (Option.some Jvm.ClassFile.FieldType.int)) (hlk : meth.locks = false) (hnm : meth.name = yX1_deep.name) (N : Nat) (nE : Nat) (E : XS → Nat → Int32 → Option (XS × Int32)) (hE : ∀ (S : XS) (x0 : Nat) (x1 : Int32) (w : XS × Int32), E S x0 x1 = some w → Met l yX1_deep (ws_ yX1_deep cX1_deep 4 (Option.some Jvm.ClassFile.FieldType.int)) (xRm g S (nE + 10)) (xPre g D A [.ref x0, .int x1] S) (xQi g D A w) (g.2.1 - xTop S) (g.2.2.1 - xSl S) A) :
    ∀ (n : Nat) (S : XS) (x0 : Nat) (x1 : Int32) (x2 : Int32) (x3 : Int32) (H : Heap) (locs : List Loc) (ls : Array Slot) (cells slots : Nat), kX_X1_deep_6 g N E n S x0 x1 x2 x3 = some w → xW g D A S s H → va_S A s.heap H locs → lv_has ls 4 [(0, .ref x0), (1, .int x1), (2, .int x2), (3, .int x3)] → W p l e (xRm g S0 (nE + 11)) s m args below meth c H locs cells slots (MQ below (xQi g D A w) args s (g.2.1 - xTop S0) (g.2.2.1 - xSl S0) A) (F0 m 6 ls []) := by
  obtain ⟨hx, hb, -, hown, hts, -⟩ := id X
  intro n
  induction n with
  | zero =>
    intro S x0 x1 x2 x3 H locs ls cells slots hm
    cases hm
  | succ n ih =>
    intro S x0 x1 x2 x3 H locs ls cells slots hm hw hS hl
    rw [kX_X1_deep_6] at hm
    refine lv_iload_n hx hb dX1_deep_6 rfl (lv_at hl 3 rfl) ?_
    refine lv_aload_n hx hb dX1_deep_7 rfl (lv_at hl 0 rfl) ?_
    obtain ⟨v1, hv1, hm⟩ := ob_s hm
    refine xr_val X hw xc1 in_X1 1 (by decide) q279 (f_obj_s hv1) dX1_deep_8 ?_
    obtain ⟨u2, hu2, hm⟩ := ob_s hm
    obtain ⟨w3, hw3, hm⟩ := ob_s hm
    refine xr_reti hS (xr_runV X hw (met_X2_cups N S v1 w3 hw3) (x_cv X (lv := 1) (by omega) (by decide) cx_X2_cups (lw_V q1172 q463 q464 q116 q465)) xc3 hu2 rfl hl.1 rfl (Nat.le_of_ble_eq_true rfl) dX1_deep_11) (fun H locs cells slots hw hS => ?_)
    refine lv_icmp_ge (tgt := 47) hx hb dX1_deep_14 (by decide) (fun c4 => ?_) (fun c4 => ?_)
    · replace hm := if_t c4 hm
      refine lv_iload_n hx hb dX1_deep_47 rfl (lv_at hl 2 rfl) ?_
      obtain rfl := Option.some.inj hm
      exact xr_iret (v := x2) X hr hlk hw hS rfl dX1_deep_48
    · replace hm := if_f c4 hm
      refine lv_aload_n hx hb dX1_deep_17 rfl (lv_at hl 0 rfl) ?_
      refine lv_iload_n hx hb dX1_deep_18 rfl (lv_at hl 1 rfl) ?_
      obtain ⟨u5, hu5, hm⟩ := ob_s hm
      obtain ⟨w6, hw6, hm⟩ := ob_s hm
      refine xr_reti hS (xr_runV X hw (met_X1_straight N w3.1 x0 x1 w6 hw6) (x_cv X (lv := 1) (by omega) (by decide) cx_X1_straight (lw_V q1197 q1199 qs38 q115 q1200)) xc1 hu5 rfl hl.1 rfl (Nat.le_of_ble_eq_true rfl) dX1_deep_19) (fun H locs cells slots hw hS => ?_)
      refine lv_iload_n hx hb dX1_deep_22 rfl (lv_at hl 3 rfl) ?_
      obtain ⟨w7, hw7, hm⟩ := ob_s hm
      refine xr_reti hS (xr_runS X hw (met_X1_isOf N w6.1 w6.2 x3 w7 hw7) (x_cs X (lv := 0) (by omega) (by decide) cx_X1_isOf (lw_S q1202 q477 q115 q478)) rfl hl.1 rfl (Nat.le_of_ble_eq_true rfl) dX1_deep_23) (fun H locs cells slots hw hS => ?_)
      refine lv_if_eq (tgt := 41) hx hb dX1_deep_26 (by decide) (fun c8 => ?_) (fun c8 => ?_)
      · replace hm := if_t c8 hm
        exact wkX_X1_deep_41 X hr hlk hnm N nE E hE (kX_X1_deep_6 g N E n) ih w6.1 x0 x1 x2 x3 H locs ls _ _ hm hw hS (lv_sub hl [0, 1, 2, 3] rfl)
      · replace hm := if_f c8 hm
        refine lv_iload_n hx hb dX1_deep_29 rfl (lv_at hl 2 rfl) ?_
        refine lv_iconst (v := 1) hx hb dX1_deep_30 (by decide) ?_
        refine lv_aload_n hx hb dX1_deep_31 rfl (lv_at hl 0 rfl) ?_
        refine lv_iload_n hx hb dX1_deep_32 rfl (lv_at hl 3 rfl) ?_
        obtain ⟨u9, hu9, hm⟩ := ob_s hm
        obtain ⟨w10, hw10, hm⟩ := ob_s hm
        refine xr_reti hS (xr_runV X hw (hE w6.1 x0 x3 w10 hw10) (x_cv X (lv := nE + 10) (by omega) (by decide) cx_X1_deep (lw_V q1246 q1248 qs41 q115 q1249)) xc1 hu9 rfl hl.1 rfl (Nat.le_of_ble_eq_true rfl) dX1_deep_33) (fun H locs cells slots hw hS => ?_)
        refine lv_iadd hx hb dX1_deep_36 ?_
        refine xr_mmax X hw hl.1 q1250 q383 q127 q384 (Nat.le_of_ble_eq_true rfl) dX1_deep_37 (fun cells slots => ?_)
        refine lv_topi (fun v11 ev11 => ?_)
        replace hm := bnd_s hm ev11
        refine lv_istore_n (lv' := [(2, .int v11), (0, .ref x0), (1, .int x1), (3, .int x3)]) hx hb dX1_deep_40 rfl hl (by decide) rfl (fun ls hl => ?_)
        exact wkX_X1_deep_41 X hr hlk hnm N nE E hE (kX_X1_deep_6 g N E n) ih w10.1 x0 x1 v11 x3 H locs ls _ _ hm hw hS (lv_sub hl [1, 2, 0, 3] rfl)
def kX_X1_deep (g : XC) (N : Nat) (E : XS → Nat → Int32 → Option (XS × Int32)) (S : XS) (x0 : Nat) (x1 : Int32) : Option (XS × Int32) :=
  bnd (x1 + 1) fun v1 =>
  kX_X1_deep_6 g N E N S x0 x1 0 v1
theorem met_X1_deep {l : Launch} {g : XC} {D : va_G} {A : Nat → Prop} (N : Nat) (nE : Nat) (E : XS → Nat → Int32 → Option (XS × Int32)) (hE : ∀ (S : XS) (x0 : Nat) (x1 : Int32) (w : XS × Int32), E S x0 x1 = some w → Met l yX1_deep (ws_ yX1_deep cX1_deep 4 (Option.some Jvm.ClassFile.FieldType.int)) (xRm g S (nE + 10)) (xPre g D A [.ref x0, .int x1] S) (xQi g D A w) (g.2.1 - xTop S) (g.2.2.1 - xSl S) A) (S : XS) (x0 : Nat) (x1 : Int32) (w : XS × Int32) (hm : kX_X1_deep g N E S x0 x1 = some w) : Met l yX1_deep (ws_ yX1_deep cX1_deep 4 (Option.some Jvm.ClassFile.FieldType.int)) (xRm g S (nE + 11)) (xPre g D A [.ref x0, .int x1] S) (xQi g D A w) (g.2.1 - xTop S) (g.2.2.1 - xSl S) A := by
  refine x_start (own := RX1) (by decide +kernel) rfl (Nat.le_of_ble_eq_true rfl) (fun p e s m below meth c ls X hr hlk hnm hw hl => ?_)
  obtain ⟨hx, hb, -, hown, hts, -⟩ := id X
  have hl : lv_has ls 4 [(0, .ref x0), (1, .int x1)] := hl
  have hg : ∀ (H : Heap) (locs : List Loc) (cells slots : Nat), xW g D A S s H → va_S A s.heap H locs → W p l e (xRm g S (nE + 11)) s m ([.ref x0, .int x1] : List Value).toArray below meth c H locs cells slots (MQ below (xQi g D A w) ([.ref x0, .int x1] : List Value).toArray s (g.2.1 - xTop S) (g.2.2.1 - xSl S) A) (F0 m 0 ls []) := by
    intro H locs cells slots hw hS
    unfold kX_X1_deep at hm
    refine lv_iconst (v := 0) hx hb dX1_deep_0 (by decide) ?_
    refine lv_istore_n (lv' := [(2, .int 0), (0, .ref x0), (1, .int x1)]) hx hb dX1_deep_1 rfl hl (by decide) rfl (fun ls hl => ?_)
    refine lv_iload_n hx hb dX1_deep_2 rfl (lv_at hl 2 rfl) ?_
    refine lv_iconst (v := 1) hx hb dX1_deep_3 (by decide) ?_
    refine lv_iadd hx hb dX1_deep_4 ?_
    refine lv_topi (fun v1 ev1 => ?_)
    replace hm := bnd_s hm ev1
    refine lv_istore_n (lv' := [(3, .int v1), (2, .int 0), (0, .ref x0), (1, .int x1)]) hx hb dX1_deep_5 rfl hl (by decide) rfl (fun ls hl => ?_)
    exact wkX_X1_deep_6 X hr hlk hnm N nE E hE N S x0 x1 0 v1 H locs ls _ _ hm hw hS (lv_sub hl [2, 3, 1, 0] rfl)
  exact hg _ _ _ _ hw va_S.rf
/-- the recursion by its depth -/
def kR_X1_deep (g : XC) (N : Nat) : Nat → XS → Nat → Int32 → Option (XS × Int32)
  | 0, _, _, _ => none
  | n + 1, S, x0, x1 => kX_X1_deep g N (kR_X1_deep g N n) S x0 x1
theorem metR_X1_deep {l : Launch} {g : XC} {D : va_G} {A : Nat → Prop} (N : Nat) : ∀ n : Nat, ∀ (S : XS) (x0 : Nat) (x1 : Int32) (w : XS × Int32), kR_X1_deep g N n S x0 x1 = some w → Met l yX1_deep (ws_ yX1_deep cX1_deep 4 (Option.some Jvm.ClassFile.FieldType.int)) (xRm g S (n + 10)) (xPre g D A [.ref x0, .int x1] S) (xQi g D A w) (g.2.1 - xTop S) (g.2.2.1 - xSl S) A := by
  intro n
  induction n with
  | zero => intro S x0 x1 w h; cases h
  | succ n ih => intro S x0 x1 w h; exact met_X1_deep N n _ ih S x0 x1 w h
def kD_X1_deep (g : XC) (N : Nat) (S : XS) (x0 : Nat) (x1 : Int32) : Option (XS × Int32) := kR_X1_deep g N 12 S x0 x1
theorem metD_X1_deep {l : Launch} {g : XC} {D : va_G} {A : Nat → Prop} (N : Nat) : ∀ (S : XS) (x0 : Nat) (x1 : Int32) (w : XS × Int32), kD_X1_deep g N S x0 x1 = some w → Met l yX1_deep (ws_ yX1_deep cX1_deep 4 (Option.some Jvm.ClassFile.FieldType.int)) (xRm g S (22)) (xPre g D A [.ref x0, .int x1] S) (xQi g D A w) (g.2.1 - xTop S) (g.2.2.1 - xSl S) A := metR_X1_deep N 12
theorem cx_X1_waysTo : yX1_waysTo.cls = RX1 ∧ yX1_waysTo.cls ≠ "java/lang/invoke/MethodHandle" ∧ yX1_waysTo.cls ≠ "java/lang/invoke/VarHandle" ∧ (parseMethodDescriptor yX1_waysTo.desc).map (fun d => d.parameters.length) = some 2 := by decide +kernel
def kX_X1_waysTo_49 (g : XC) (N : Nat) (E : XS → Nat → Int32 → Int32 → Option (XS × Int32)) (K14 : XS → Nat → Int32 → Int32 → Int32 → Int32 → Option (XS × Int32)) (S : XS) (x0 : Nat) (x1 : Int32) (x2 : Int32) (x3 : Int32) (x4 : Int32) : Option (XS × Int32) :=
  K14 S x0 x1 x2 x3 (x4 + 1)
theorem wkX_X1_waysTo_49 {p : Program} {l : Launch} {e : Env} {s : State} {m : MethodId} {args : Array Value} {below : List Frame} {meth : Method} {c : Code} {g : XC} {D : va_G} {A : Nat → Prop} {S0 : XS} {w : XS × Int32} (X : xX g D A RX1 S0 p s m args c cX1_waysTo 5) (hr : meth.sig.returnType = (Option.some Jvm.ClassFile.FieldType.int)) (hlk : meth.locks = false) (hnm : meth.name = yX1_waysTo.name) (N : Nat) (nE : Nat) (E : XS → Nat → Int32 → Int32 → Option (XS × Int32)) (hE : ∀ (S : XS) (x0 : Nat) (x1 : Int32) (x2 : Int32) (w : XS × Int32), E S x0 x1 x2 = some w → Met l yX1_waysTo (ws_ yX1_waysTo cX1_waysTo 5 (Option.some Jvm.ClassFile.FieldType.int)) (xRm g S (nE + 10)) (xPre g D A [.ref x0, .int x1, .int x2] S) (xQi g D A w) (g.2.1 - xTop S) (g.2.2.1 - xSl S) A) (K14 : XS → Nat → Int32 → Int32 → Int32 → Int32 → Option (XS × Int32))
    (hK14 : ∀ (S : XS) (x0 : Nat) (x1 : Int32) (x2 : Int32) (x3 : Int32) (x4 : Int32) (H : Heap) (locs : List Loc) (ls : Array Slot) (cells slots : Nat), K14 S x0 x1 x2 x3 x4 = some w → xW g D A S s H → va_S A s.heap H locs → lv_has ls 5 [(0, .ref x0), (1, .int x1), (2, .int x2), (3, .int x3), (4, .int x4)] → W p l e (xRm g S0 (nE + 11)) s m args below meth c H locs cells slots (MQ below (xQi g D A w) args s (g.2.1 - xTop S0) (g.2.2.1 - xSl S0) A) (F0 m 14 ls [])) :
    ∀ (S : XS) (x0 : Nat) (x1 : Int32) (x2 : Int32) (x3 : Int32) (x4 : Int32) (H : Heap) (locs : List Loc) (ls : Array Slot) (cells slots : Nat), kX_X1_waysTo_49 g N E K14 S x0 x1 x2 x3 x4 = some w → xW g D A S s H → va_S A s.heap H locs → lv_has ls 5 [(0, .ref x0), (1, .int x1), (2, .int x2), (3, .int x3), (4, .int x4)] → W p l e (xRm g S0 (nE + 11)) s m args below meth c H locs cells slots (MQ below (xQi g D A w) args s (g.2.1 - xTop S0) (g.2.2.1 - xSl S0) A) (F0 m 49 ls []) := by
  obtain ⟨hx, hb, -, hown, hts, -⟩ := id X
  intro S x0 x1 x2 x3 x4 H locs ls cells slots hm hw hS hl
  unfold kX_X1_waysTo_49 at hm
  refine lv_iinc (v := (x4 + 1)) (lv' := [(4, .int (x4 + 1)), (0, .ref x0), (1, .int x1), (2, .int x2), (3, .int x3)]) hx hb dX1_waysTo_49 hl (k := 4) rfl rfl (by decide) rfl (fun ls hl => ?_)
  refine lv_goto (tgt := 14) hx hb dX1_waysTo_52 (by decide) ?_
  exact hK14 S x0 x1 x2 x3 (x4 + 1) H locs ls _ _ hm hw hS (lv_sub hl [1, 2, 3, 4, 0] rfl)
def kX_X1_waysTo_14 (g : XC) (N : Nat) (E : XS → Nat → Int32 → Int32 → Option (XS × Int32)) : Nat → XS → Nat → Int32 → Int32 → Int32 → Int32 → Option (XS × Int32)
  | 0, _, _, _, _, _, _ => none
  | n + 1, S, x0, x1, x2, x3, x4 =>
    (f_obj S 1 x0 1).bind fun v1 =>
    (f_cls S 3 v1).bind fun u2 =>
    (kX_X2_cups g N S v1).bind fun w3 =>
    if w3.2 ≤ x4 then
      some (w3.1, x3)
    else
      (f_cls w3.1 1 x0).bind fun u5 =>
      (kX_X1_straight g N w3.1 x0 x1).bind fun w6 =>
      (kX_X1_isOf g N w6.2 x4).bind fun w7 =>
      if w7 = 0 then
        kX_X1_waysTo_49 g N E (kX_X1_waysTo_14 g N E n) w6.1 x0 x1 x2 x3 x4
      else
        (f_cls w6.1 1 x0).bind fun u9 =>
        (E w6.1 x0 x4 x2).bind fun w10 =>
        bnd (x3 + w10.2) fun v11 =>
        kX_X1_waysTo_49 g N E (kX_X1_waysTo_14 g N E n) w10.1 x0 x1 x2 v11 x4
theorem wkX_X1_waysTo_14 {p : Program} {l : Launch} {e : Env} {s : State} {m : MethodId} {args : Array Value} {below : List Frame} {meth : Method} {c : Code} {g : XC} {D : va_G} {A : Nat → Prop} {S0 : XS} {w : XS × Int32} (X : xX g D A RX1 S0 p s m args c cX1_waysTo 5) (hr : meth.sig.returnType = (Option.some Jvm.ClassFile.FieldType.int)) (hlk : meth.locks = false) (hnm : meth.name = yX1_waysTo.name) (N : Nat) (nE : Nat) (E : XS → Nat → Int32 → Int32 → Option (XS × Int32)) (hE : ∀ (S : XS) (x0 : Nat) (x1 : Int32) (x2 : Int32) (w : XS × Int32), E S x0 x1 x2 = some w → Met l yX1_waysTo (ws_ yX1_waysTo cX1_waysTo 5 (Option.some Jvm.ClassFile.FieldType.int)) (xRm g S (nE + 10)) (xPre g D A [.ref x0, .int x1, .int x2] S) (xQi g D A w) (g.2.1 - xTop S) (g.2.2.1 - xSl S) A) :
    ∀ (n : Nat) (S : XS) (x0 : Nat) (x1 : Int32) (x2 : Int32) (x3 : Int32) (x4 : Int32) (H : Heap) (locs : List Loc) (ls : Array Slot) (cells slots : Nat), kX_X1_waysTo_14 g N E n S x0 x1 x2 x3 x4 = some w → xW g D A S s H → va_S A s.heap H locs → lv_has ls 5 [(0, .ref x0), (1, .int x1), (2, .int x2), (3, .int x3), (4, .int x4)] → W p l e (xRm g S0 (nE + 11)) s m args below meth c H locs cells slots (MQ below (xQi g D A w) args s (g.2.1 - xTop S0) (g.2.2.1 - xSl S0) A) (F0 m 14 ls []) := by
  obtain ⟨hx, hb, -, hown, hts, -⟩ := id X
  intro n
  induction n with
  | zero =>
    intro S x0 x1 x2 x3 x4 H locs ls cells slots hm
    cases hm
  | succ n ih =>
    intro S x0 x1 x2 x3 x4 H locs ls cells slots hm hw hS hl
    rw [kX_X1_waysTo_14] at hm
    refine lv_iload hx hb dX1_waysTo_14 (lv_at hl 4 rfl) ?_
    refine lv_aload_n hx hb dX1_waysTo_16 rfl (lv_at hl 0 rfl) ?_
    obtain ⟨v1, hv1, hm⟩ := ob_s hm
    refine xr_val X hw xc1 in_X1 1 (by decide) q279 (f_obj_s hv1) dX1_waysTo_17 ?_
    obtain ⟨u2, hu2, hm⟩ := ob_s hm
    obtain ⟨w3, hw3, hm⟩ := ob_s hm
    refine xr_reti hS (xr_runV X hw (met_X2_cups N S v1 w3 hw3) (x_cv X (lv := 1) (by omega) (by decide) cx_X2_cups (lw_V q1172 q463 q464 q116 q465)) xc3 hu2 rfl hl.1 rfl (Nat.le_of_ble_eq_true rfl) dX1_waysTo_20) (fun H locs cells slots hw hS => ?_)
    refine lv_icmp_ge (tgt := 55) hx hb dX1_waysTo_23 (by decide) (fun c4 => ?_) (fun c4 => ?_)
    · replace hm := if_t c4 hm
      refine lv_iload_n hx hb dX1_waysTo_55 rfl (lv_at hl 3 rfl) ?_
      obtain rfl := Option.some.inj hm
      exact xr_iret (v := x3) X hr hlk hw hS rfl dX1_waysTo_56
    · replace hm := if_f c4 hm
      refine lv_aload_n hx hb dX1_waysTo_26 rfl (lv_at hl 0 rfl) ?_
      refine lv_iload_n hx hb dX1_waysTo_27 rfl (lv_at hl 1 rfl) ?_
      obtain ⟨u5, hu5, hm⟩ := ob_s hm
      obtain ⟨w6, hw6, hm⟩ := ob_s hm
      refine xr_reti hS (xr_runV X hw (met_X1_straight N w3.1 x0 x1 w6 hw6) (x_cv X (lv := 1) (by omega) (by decide) cx_X1_straight (lw_V q1197 q1199 qs38 q115 q1200)) xc1 hu5 rfl hl.1 rfl (Nat.le_of_ble_eq_true rfl) dX1_waysTo_28) (fun H locs cells slots hw hS => ?_)
      refine lv_iload hx hb dX1_waysTo_31 (lv_at hl 4 rfl) ?_
      obtain ⟨w7, hw7, hm⟩ := ob_s hm
      refine xr_reti hS (xr_runS X hw (met_X1_isOf N w6.1 w6.2 x4 w7 hw7) (x_cs X (lv := 0) (by omega) (by decide) cx_X1_isOf (lw_S q1202 q477 q115 q478)) rfl hl.1 rfl (Nat.le_of_ble_eq_true rfl) dX1_waysTo_33) (fun H locs cells slots hw hS => ?_)
      refine lv_if_eq (tgt := 49) hx hb dX1_waysTo_36 (by decide) (fun c8 => ?_) (fun c8 => ?_)
      · replace hm := if_t c8 hm
        exact wkX_X1_waysTo_49 X hr hlk hnm N nE E hE (kX_X1_waysTo_14 g N E n) ih w6.1 x0 x1 x2 x3 x4 H locs ls _ _ hm hw hS (lv_sub hl [0, 1, 2, 3, 4] rfl)
      · replace hm := if_f c8 hm
        refine lv_iload_n hx hb dX1_waysTo_39 rfl (lv_at hl 3 rfl) ?_
        refine lv_aload_n hx hb dX1_waysTo_40 rfl (lv_at hl 0 rfl) ?_
        refine lv_iload hx hb dX1_waysTo_41 (lv_at hl 4 rfl) ?_
        refine lv_iload_n hx hb dX1_waysTo_43 rfl (lv_at hl 2 rfl) ?_
        obtain ⟨u9, hu9, hm⟩ := ob_s hm
        obtain ⟨w10, hw10, hm⟩ := ob_s hm
        refine xr_reti hS (xr_runV X hw (hE w6.1 x0 x4 x2 w10 hw10) (x_cv X (lv := nE + 10) (by omega) (by decide) cx_X1_waysTo (lw_V q1556 q1558 qs54 q115 q1559)) xc1 hu9 rfl hl.1 rfl (Nat.le_of_ble_eq_true rfl) dX1_waysTo_44) (fun H locs cells slots hw hS => ?_)
        refine lv_iadd hx hb dX1_waysTo_47 ?_
        refine lv_topi (fun v11 ev11 => ?_)
        replace hm := bnd_s hm ev11
        refine lv_istore_n (lv' := [(3, .int v11), (0, .ref x0), (1, .int x1), (2, .int x2), (4, .int x4)]) hx hb dX1_waysTo_48 rfl hl (by decide) rfl (fun ls hl => ?_)
        exact wkX_X1_waysTo_49 X hr hlk hnm N nE E hE (kX_X1_waysTo_14 g N E n) ih w10.1 x0 x1 x2 v11 x4 H locs ls _ _ hm hw hS (lv_sub hl [1, 2, 3, 0, 4] rfl)
def kX_X1_waysTo (g : XC) (N : Nat) (E : XS → Nat → Int32 → Int32 → Option (XS × Int32)) (S : XS) (x0 : Nat) (x1 : Int32) (x2 : Int32) : Option (XS × Int32) :=
  if x1 = x2 then
    some (S, 1)
  else
    bnd (x1 + 1) fun v2 =>
    kX_X1_waysTo_14 g N E N S x0 x1 x2 0 v2
theorem met_X1_waysTo {l : Launch} {g : XC} {D : va_G} {A : Nat → Prop} (N : Nat) (nE : Nat) (E : XS → Nat → Int32 → Int32 → Option (XS × Int32)) (hE : ∀ (S : XS) (x0 : Nat) (x1 : Int32) (x2 : Int32) (w : XS × Int32), E S x0 x1 x2 = some w → Met l yX1_waysTo (ws_ yX1_waysTo cX1_waysTo 5 (Option.some Jvm.ClassFile.FieldType.int)) (xRm g S (nE + 10)) (xPre g D A [.ref x0, .int x1, .int x2] S) (xQi g D A w) (g.2.1 - xTop S) (g.2.2.1 - xSl S) A) (S : XS) (x0 : Nat) (x1 : Int32) (x2 : Int32) (w : XS × Int32) (hm : kX_X1_waysTo g N E S x0 x1 x2 = some w) : Met l yX1_waysTo (ws_ yX1_waysTo cX1_waysTo 5 (Option.some Jvm.ClassFile.FieldType.int)) (xRm g S (nE + 11)) (xPre g D A [.ref x0, .int x1, .int x2] S) (xQi g D A w) (g.2.1 - xTop S) (g.2.2.1 - xSl S) A := by
  refine x_start (own := RX1) (by decide +kernel) rfl (Nat.le_of_ble_eq_true rfl) (fun p e s m below meth c ls X hr hlk hnm hw hl => ?_)
  obtain ⟨hx, hb, -, hown, hts, -⟩ := id X
  have hl : lv_has ls 5 [(0, .ref x0), (1, .int x1), (2, .int x2)] := hl
  have hg : ∀ (H : Heap) (locs : List Loc) (cells slots : Nat), xW g D A S s H → va_S A s.heap H locs → W p l e (xRm g S (nE + 11)) s m ([.ref x0, .int x1, .int x2] : List Value).toArray below meth c H locs cells slots (MQ below (xQi g D A w) ([.ref x0, .int x1, .int x2] : List Value).toArray s (g.2.1 - xTop S) (g.2.2.1 - xSl S) A) (F0 m 0 ls []) := by
    intro H locs cells slots hw hS
    unfold kX_X1_waysTo at hm
    refine lv_iload_n hx hb dX1_waysTo_0 rfl (lv_at hl 1 rfl) ?_
    refine lv_iload_n hx hb dX1_waysTo_1 rfl (lv_at hl 2 rfl) ?_
    refine lv_icmp_ne (tgt := 7) hx hb dX1_waysTo_2 (by decide) (fun c1 => ?_) (fun c1 => ?_)
    · replace hm := if_f c1 hm
      refine lv_iconst (v := 0) hx hb dX1_waysTo_7 (by decide) ?_
      refine lv_istore_n (lv' := [(3, .int 0), (0, .ref x0), (1, .int x1), (2, .int x2)]) hx hb dX1_waysTo_8 rfl hl (by decide) rfl (fun ls hl => ?_)
      refine lv_iload_n hx hb dX1_waysTo_9 rfl (lv_at hl 2 rfl) ?_
      refine lv_iconst (v := 1) hx hb dX1_waysTo_10 (by decide) ?_
      refine lv_iadd hx hb dX1_waysTo_11 ?_
      refine lv_topi (fun v2 ev2 => ?_)
      replace hm := bnd_s hm ev2
      refine lv_istore (lv' := [(4, .int v2), (3, .int 0), (0, .ref x0), (1, .int x1), (2, .int x2)]) hx hb dX1_waysTo_12 hl (by decide) rfl (fun ls hl => ?_)
      exact wkX_X1_waysTo_14 X hr hlk hnm N nE E hE N S x0 x1 x2 0 v2 H locs ls _ _ hm hw hS (lv_sub hl [2, 3, 4, 1, 0] rfl)
    · replace hm := if_t c1 hm
      refine lv_iconst (v := 1) hx hb dX1_waysTo_5 (by decide) ?_
      obtain rfl := Option.some.inj hm
      exact xr_iret (v := 1) X hr hlk hw hS rfl dX1_waysTo_6
  exact hg _ _ _ _ hw va_S.rf
/-- the recursion by its depth -/
def kR_X1_waysTo (g : XC) (N : Nat) : Nat → XS → Nat → Int32 → Int32 → Option (XS × Int32)
  | 0, _, _, _, _ => none
  | n + 1, S, x0, x1, x2 => kX_X1_waysTo g N (kR_X1_waysTo g N n) S x0 x1 x2
theorem metR_X1_waysTo {l : Launch} {g : XC} {D : va_G} {A : Nat → Prop} (N : Nat) : ∀ n : Nat, ∀ (S : XS) (x0 : Nat) (x1 : Int32) (x2 : Int32) (w : XS × Int32), kR_X1_waysTo g N n S x0 x1 x2 = some w → Met l yX1_waysTo (ws_ yX1_waysTo cX1_waysTo 5 (Option.some Jvm.ClassFile.FieldType.int)) (xRm g S (n + 10)) (xPre g D A [.ref x0, .int x1, .int x2] S) (xQi g D A w) (g.2.1 - xTop S) (g.2.2.1 - xSl S) A := by
  intro n
  induction n with
  | zero => intro S x0 x1 x2 w h; cases h
  | succ n ih => intro S x0 x1 x2 w h; exact met_X1_waysTo N n _ ih S x0 x1 x2 w h
def kD_X1_waysTo (g : XC) (N : Nat) (S : XS) (x0 : Nat) (x1 : Int32) (x2 : Int32) : Option (XS × Int32) := kR_X1_waysTo g N 12 S x0 x1 x2
theorem metD_X1_waysTo {l : Launch} {g : XC} {D : va_G} {A : Nat → Prop} (N : Nat) : ∀ (S : XS) (x0 : Nat) (x1 : Int32) (x2 : Int32) (w : XS × Int32), kD_X1_waysTo g N S x0 x1 x2 = some w → Met l yX1_waysTo (ws_ yX1_waysTo cX1_waysTo 5 (Option.some Jvm.ClassFile.FieldType.int)) (xRm g S (22)) (xPre g D A [.ref x0, .int x1, .int x2] S) (xQi g D A w) (g.2.1 - xTop S) (g.2.2.1 - xSl S) A := metR_X1_waysTo N 12
