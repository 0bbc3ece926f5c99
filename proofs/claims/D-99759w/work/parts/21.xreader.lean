theorem cx_X5_expression : yX5_expression.cls = RX5 ∧ yX5_expression.cls ≠ "java/lang/invoke/MethodHandle" ∧ yX5_expression.cls ≠ "java/lang/invoke/VarHandle" ∧ (parseMethodDescriptor yX5_expression.desc).map (fun d => d.parameters.length) = some 1 := by decide +kernel
/-! want -/
def kX_X5_want (g : XC) (N : Nat) (S : XS) (x0 : Nat) (x1 : Int32) (x2 : Int32) : Option ((XS) ⊕ XT) :=
  if x1 = 0 then
    (xNew S 7 (.inr (9, [.null, .null, .null, .null, .null, .int 0, .int 0]))).bind fun S2 =>
    (kX_X6_init g N S2 (xTop S) x2).bind fun w3 =>
    (f_cls w3 9 (xTop S)).bind fun u4 =>
    some (.inr (w3, 2, (xTop S)))
  else
    some (.inl S)
theorem cx_X5_want : yX5_want.cls = RX5 ∧ yX5_want.cls ≠ "java/lang/invoke/MethodHandle" ∧ yX5_want.cls ≠ "java/lang/invoke/VarHandle" ∧ (parseMethodDescriptor yX5_want.desc).map (fun d => d.parameters.length) = some 2 := by decide +kernel
theorem met_X5_want {l : Launch} {g : XC} {D : va_G} {A : Nat → Prop} (hlT : l.stackTraces = false) (N : Nat) (S : XS) (x0 : Nat) (x1 : Int32) (x2 : Int32) (w : (XS) ⊕ XT) (hm : kX_X5_want g N S x0 x1 x2 = some w) : vx_Met l yX5_want (ws_ yX5_want cX5_want 3 (Option.none : Option Jvm.ClassFile.FieldType)) (xRm g S 4) (xPre g D A [.ref x0, .int x1, .int x2] S) (xTv g D A w) (xTx g D A w) (g.2.1 - xTop S) (g.2.2.1 - xSl S) A := by
  refine x_startT (own := RX5) (by decide +kernel) rfl (Nat.le_of_ble_eq_true rfl) (fun p e s m below meth c ls X hr hlk hnm hout hw hl => ?_)
  have hw0 := hw
  obtain ⟨hx, hb, -, hown, hts, -⟩ := id X
  have hl : lv_has ls 3 [(0, .ref x0), (1, .int x1), (2, .int x2)] := hl
  have hg : ∀ (H : Heap) (locs : List Loc) (cells slots : Nat), xW g D A S s H → va_S A s.heap H locs → W p l e (xRm g S 4) s m ([.ref x0, .int x1, .int x2] : List Value).toArray below meth c H locs cells slots (vx_MQ below (xTv g D A w) (xTx g D A w) ([.ref x0, .int x1, .int x2] : List Value).toArray s (g.2.1 - xTop S) (g.2.2.1 - xSl S) A) (F0 m 0 ls []) := by
    intro H locs cells slots hw hS
    unfold kX_X5_want at hm
    refine lv_iload_n hx hb dX5_want_0 rfl (lv_at hl 1 rfl) ?_
    refine lv_if_ne (tgt := 13) hx hb dX5_want_1 (by decide) (fun c1 => ?_) (fun c1 => ?_)
    · replace hm := if_f c1 hm
      obtain rfl := Option.some.inj hm
      exact xt_vret X hr hlk hw hS dX5_want_13
    · replace hm := if_t c1 hm
      obtain ⟨S2, hS2, hm⟩ := ob_s hm
      refine xr_new (N := 7) X hw hS xc9 in_X6 tyX6_ok q914 q915 q133 (by intro j hj; exact df_X6 j hj) hS2 dX5_want_4 (fun H cells slots hw hS => ?_)
      refine lv_dup hx hb dX5_want_7 rfl ?_
      refine lv_iload_n hx hb dX5_want_8 rfl (lv_at hl 2 rfl) ?_
      obtain ⟨w3, hw3, hm⟩ := ob_s hm
      refine xr_retv hS (xr_runI X hw (met_X6_init N S2 (xTop S) x2 w3 hw3) (x_ci X (lv := 3) (by omega) (by decide) rfl cx_X6_init (lw_meth q925) q133 q923 q924) rfl hl.1 rfl (Nat.le_of_ble_eq_true rfl) dX5_want_9) (fun H locs cells slots hw hS => ?_)
      obtain ⟨u4, hu4, hm⟩ := ob_s hm
      obtain rfl := Option.some.inj hm
      exact xt_wrong X hlk hout hw hS hu4 dX5_want_12
  exact hg _ _ _ _ hw va_S.rf
/-! numberNow -/
def kX_X5_numberNow_53 (g : XC) (N : Nat) (S : XS) (x0 : Nat) (t0 : Nat) (t1 : Int32) : Option ((XS × Int32) ⊕ XT) :=
  (f_cls S 4 t0).bind fun u1 =>
  tbind (kX_X5_want g N S t0 t1 2) fun r3 =>
  (f_int r3 4 x0 9).bind fun v4 =>
  some (.inl (r3, v4))
theorem wkX_X5_numberNow_53 {p : Program} {l : Launch} {e : Env} {s : State} {m : MethodId} {args : Array Value} {below : List Frame} {meth : Method} {c : Code} {g : XC} {D : va_G} {A : Nat → Prop} {S0 : XS} {w : (XS × Int32) ⊕ XT} (X : xX g D A RX5 S0 p s m args c cX5_numberNow 3) (hr : meth.sig.returnType = (Option.some Jvm.ClassFile.FieldType.int)) (hlk : meth.locks = false) (hnm : meth.name = yX5_numberNow.name) (hlT : l.stackTraces = false) (hout : ∀ x ∈ c.exceptionTable.toList, False) (hw0 : xW g D A S0 s s.heap) (N : Nat) :
    ∀ (S : XS) (x0 : Nat) (t0 : Nat) (t1 : Int32) (H : Heap) (locs : List Loc) (ls : Array Slot) (cells slots : Nat), kX_X5_numberNow_53 g N S x0 t0 t1 = some w → xW g D A S s H → va_S A s.heap H locs → lv_has ls 3 [(0, .ref x0)] → W p l e (xRm g S0 5) s m args below meth c H locs cells slots (vx_MQ below (xTi g D A w) (xTx g D A w) args s (g.2.1 - xTop S0) (g.2.2.1 - xSl S0) A) (F0 m 53 ls [.int t1, .ref t0]) := by
  obtain ⟨hx, hb, -, hown, hts, -⟩ := id X
  intro S x0 t0 t1 H locs ls cells slots hm hw hS hl
  unfold kX_X5_numberNow_53 at hm
  refine lv_iconst (v := 2) hx hb dX5_numberNow_53 (by decide) ?_
  obtain ⟨u1, hu1, hm⟩ := ob_s hm
  obtain ⟨w2, hw2, hm⟩ := tb_s hm
  refine xt_retv hS (xt_runV X hw (met_X5_want hlT N S t0 t1 2 w2 hw2) (x_cv X (lv := 4) (by omega) (by decide) cx_X5_want (lw_V q910 q912 qs20 q126 q913)) xc4 hu1 rfl hl.1 rfl (Nat.le_of_ble_eq_true rfl) dX5_numberNow_54) (fun t1 t2 u E9 ce q9 H1 locs1 hu ht => xt_pass X hlk hout (tc_r hu hm) ht (x_fits (lv2 := 0) X hw t1 t2).1 (x_fits (lv2 := 0) X hw t1 t2).2) (fun r3 hr3 H locs cells slots hw hS => ?_)
  replace hm := tc_l hr3 hm
  refine lv_aload_n hx hb dX5_numberNow_57 rfl (lv_at hl 0 rfl) ?_
  obtain ⟨v4, hv4, hm⟩ := ob_s hm
  refine xr_val X hw xc4 in_X5 9 (by decide) q753 (f_int_s hv4) dX5_numberNow_58 ?_
  obtain rfl := Option.some.inj hm
  exact xt_iret (v := v4) X hr hlk hw hS rfl dX5_numberNow_61
def kX_X5_numberNow_14 (g : XC) (N : Nat) (S : XS) (x0 : Nat) (x1 : Int32) (x2 : Int32) (t0 : Nat) (t1 : Int32) : Option ((XS × Int32) ⊕ XT) :=
  (f_cls S 4 t0).bind fun u1 =>
  tbind (kX_X5_want g N S t0 t1 1) fun r3 =>
  (f_int r3 4 x0 8).bind fun v4 =>
  (f_int r3 4 x0 7).bind fun v5 =>
  if (4 : Int32) < (v4 - v5) then
    kX_X5_numberNow_53 g N r3 x0 x0 0
  else
    (f_int r3 4 x0 9).bind fun v7 =>
    if v7 < x1 then
      kX_X5_numberNow_53 g N r3 x0 x0 0
    else
      (f_int r3 4 x0 9).bind fun v9 =>
      if x2 < v9 then
        kX_X5_numberNow_53 g N r3 x0 x0 0
      else
        kX_X5_numberNow_53 g N r3 x0 x0 1
theorem wkX_X5_numberNow_14 {p : Program} {l : Launch} {e : Env} {s : State} {m : MethodId} {args : Array Value} {below : List Frame} {meth : Method} {c : Code} {g : XC} {D : va_G} {A : Nat → Prop} {S0 : XS} {w : (XS × Int32) ⊕ XT} (X : xX g D A RX5 S0 p s m args c cX5_numberNow 3) (hr : meth.sig.returnType = (Option.some Jvm.ClassFile.FieldType.int)) (hlk : meth.locks = false) (hnm : meth.name = yX5_numberNow.name) (hlT : l.stackTraces = false) (hout : ∀ x ∈ c.exceptionTable.toList, False) (hw0 : xW g D A S0 s s.heap) (N : Nat) :
    ∀ (S : XS) (x0 : Nat) (x1 : Int32) (x2 : Int32) (t0 : Nat) (t1 : Int32) (H : Heap) (locs : List Loc) (ls : Array Slot) (cells slots : Nat), kX_X5_numberNow_14 g N S x0 x1 x2 t0 t1 = some w → xW g D A S s H → va_S A s.heap H locs → lv_has ls 3 [(0, .ref x0), (1, .int x1), (2, .int x2)] → W p l e (xRm g S0 5) s m args below meth c H locs cells slots (vx_MQ below (xTi g D A w) (xTx g D A w) args s (g.2.1 - xTop S0) (g.2.2.1 - xSl S0) A) (F0 m 14 ls [.int t1, .ref t0]) := by
  obtain ⟨hx, hb, -, hown, hts, -⟩ := id X
  intro S x0 x1 x2 t0 t1 H locs ls cells slots hm hw hS hl
  unfold kX_X5_numberNow_14 at hm
  refine lv_iconst (v := 1) hx hb dX5_numberNow_14 (by decide) ?_
  obtain ⟨u1, hu1, hm⟩ := ob_s hm
  obtain ⟨w2, hw2, hm⟩ := tb_s hm
  refine xt_retv hS (xt_runV X hw (met_X5_want hlT N S t0 t1 1 w2 hw2) (x_cv X (lv := 4) (by omega) (by decide) cx_X5_want (lw_V q910 q912 qs20 q126 q913)) xc4 hu1 rfl hl.1 rfl (Nat.le_of_ble_eq_true rfl) dX5_numberNow_15) (fun t1 t2 u E9 ce q9 H1 locs1 hu ht => xt_pass X hlk hout (tc_r hu hm) ht (x_fits (lv2 := 0) X hw t1 t2).1 (x_fits (lv2 := 0) X hw t1 t2).2) (fun r3 hr3 H locs cells slots hw hS => ?_)
  replace hm := tc_l hr3 hm
  refine lv_aload_n hx hb dX5_numberNow_18 rfl (lv_at hl 0 rfl) ?_
  refine lv_aload_n hx hb dX5_numberNow_19 rfl (lv_at hl 0 rfl) ?_
  obtain ⟨v4, hv4, hm⟩ := ob_s hm
  refine xr_val X hw xc4 in_X5 8 (by decide) q752 (f_int_s hv4) dX5_numberNow_20 ?_
  refine lv_aload_n hx hb dX5_numberNow_23 rfl (lv_at hl 0 rfl) ?_
  obtain ⟨v5, hv5, hm⟩ := ob_s hm
  refine xr_val X hw xc4 in_X5 7 (by decide) q750 (f_int_s hv5) dX5_numberNow_24 ?_
  refine lv_isub hx hb dX5_numberNow_27 ?_
  refine lv_iconst (v := 4) hx hb dX5_numberNow_28 (by decide) ?_
  refine lv_icmp_gt (tgt := 52) hx hb dX5_numberNow_29 (by decide) (fun c6 => ?_) (fun c6 => ?_)
  · replace hm := if_t c6 hm
    refine lv_iconst (v := 0) hx hb dX5_numberNow_52 (by decide) ?_
    exact wkX_X5_numberNow_53 X hr hlk hnm hlT hout hw0 N r3 x0 x0 0 H locs ls _ _ hm hw hS (lv_sub hl [0] rfl)
  · replace hm := if_f c6 hm
    refine lv_aload_n hx hb dX5_numberNow_32 rfl (lv_at hl 0 rfl) ?_
    obtain ⟨v7, hv7, hm⟩ := ob_s hm
    refine xr_val X hw xc4 in_X5 9 (by decide) q753 (f_int_s hv7) dX5_numberNow_33 ?_
    refine lv_iload_n hx hb dX5_numberNow_36 rfl (lv_at hl 1 rfl) ?_
    refine lv_icmp_lt (tgt := 52) hx hb dX5_numberNow_37 (by decide) (fun c8 => ?_) (fun c8 => ?_)
    · replace hm := if_t c8 hm
      refine lv_iconst (v := 0) hx hb dX5_numberNow_52 (by decide) ?_
      exact wkX_X5_numberNow_53 X hr hlk hnm hlT hout hw0 N r3 x0 x0 0 H locs ls _ _ hm hw hS (lv_sub hl [0] rfl)
    · replace hm := if_f c8 hm
      refine lv_aload_n hx hb dX5_numberNow_40 rfl (lv_at hl 0 rfl) ?_
      obtain ⟨v9, hv9, hm⟩ := ob_s hm
      refine xr_val X hw xc4 in_X5 9 (by decide) q753 (f_int_s hv9) dX5_numberNow_41 ?_
      refine lv_iload_n hx hb dX5_numberNow_44 rfl (lv_at hl 2 rfl) ?_
      refine lv_icmp_gt (tgt := 52) hx hb dX5_numberNow_45 (by decide) (fun c10 => ?_) (fun c10 => ?_)
      · replace hm := if_t c10 hm
        refine lv_iconst (v := 0) hx hb dX5_numberNow_52 (by decide) ?_
        exact wkX_X5_numberNow_53 X hr hlk hnm hlT hout hw0 N r3 x0 x0 0 H locs ls _ _ hm hw hS (lv_sub hl [0] rfl)
      · replace hm := if_f c10 hm
        refine lv_iconst (v := 1) hx hb dX5_numberNow_48 (by decide) ?_
        refine lv_goto (tgt := 53) hx hb dX5_numberNow_49 (by decide) ?_
        exact wkX_X5_numberNow_53 X hr hlk hnm hlT hout hw0 N r3 x0 x0 1 H locs ls _ _ hm hw hS (lv_sub hl [0] rfl)
def kX_X5_numberNow (g : XC) (N : Nat) (S : XS) (x0 : Nat) (x1 : Int32) (x2 : Int32) : Option ((XS × Int32) ⊕ XT) :=
  (f_int S 4 x0 6).bind fun v1 =>
  if v1 = 2 then
    kX_X5_numberNow_14 g N S x0 x1 x2 x0 1
  else
    kX_X5_numberNow_14 g N S x0 x1 x2 x0 0
theorem cx_X5_numberNow : yX5_numberNow.cls = RX5 ∧ yX5_numberNow.cls ≠ "java/lang/invoke/MethodHandle" ∧ yX5_numberNow.cls ≠ "java/lang/invoke/VarHandle" ∧ (parseMethodDescriptor yX5_numberNow.desc).map (fun d => d.parameters.length) = some 2 := by decide +kernel
theorem met_X5_numberNow {l : Launch} {g : XC} {D : va_G} {A : Nat → Prop} (hlT : l.stackTraces = false) (N : Nat) (S : XS) (x0 : Nat) (x1 : Int32) (x2 : Int32) (w : (XS × Int32) ⊕ XT) (hm : kX_X5_numberNow g N S x0 x1 x2 = some w) : vx_Met l yX5_numberNow (ws_ yX5_numberNow cX5_numberNow 3 (Option.some Jvm.ClassFile.FieldType.int)) (xRm g S 5) (xPre g D A [.ref x0, .int x1, .int x2] S) (xTi g D A w) (xTx g D A w) (g.2.1 - xTop S) (g.2.2.1 - xSl S) A := by
  refine x_startT (own := RX5) (by decide +kernel) rfl (Nat.le_of_ble_eq_true rfl) (fun p e s m below meth c ls X hr hlk hnm hout hw hl => ?_)
  have hw0 := hw
  obtain ⟨hx, hb, -, hown, hts, -⟩ := id X
  have hl : lv_has ls 3 [(0, .ref x0), (1, .int x1), (2, .int x2)] := hl
  have hg : ∀ (H : Heap) (locs : List Loc) (cells slots : Nat), xW g D A S s H → va_S A s.heap H locs → W p l e (xRm g S 5) s m ([.ref x0, .int x1, .int x2] : List Value).toArray below meth c H locs cells slots (vx_MQ below (xTi g D A w) (xTx g D A w) ([.ref x0, .int x1, .int x2] : List Value).toArray s (g.2.1 - xTop S) (g.2.2.1 - xSl S) A) (F0 m 0 ls []) := by
    intro H locs cells slots hw hS
    unfold kX_X5_numberNow at hm
    refine lv_aload_n hx hb dX5_numberNow_0 rfl (lv_at hl 0 rfl) ?_
    refine lv_aload_n hx hb dX5_numberNow_1 rfl (lv_at hl 0 rfl) ?_
    obtain ⟨v1, hv1, hm⟩ := ob_s hm
    refine xr_val X hw xc4 in_X5 6 (by decide) q749 (f_int_s hv1) dX5_numberNow_2 ?_
    refine lv_iconst (v := 2) hx hb dX5_numberNow_5 (by decide) ?_
    refine lv_icmp_ne (tgt := 13) hx hb dX5_numberNow_6 (by decide) (fun c2 => ?_) (fun c2 => ?_)
    · replace hm := if_f c2 hm
      refine lv_iconst (v := 0) hx hb dX5_numberNow_13 (by decide) ?_
      exact wkX_X5_numberNow_14 X hr hlk hnm hlT hout hw0 N S x0 x1 x2 x0 0 H locs ls _ _ hm hw hS (lv_sub hl [0, 1, 2] rfl)
    · replace hm := if_t c2 hm
      refine lv_iconst (v := 1) hx hb dX5_numberNow_9 (by decide) ?_
      refine lv_goto (tgt := 14) hx hb dX5_numberNow_10 (by decide) ?_
      exact wkX_X5_numberNow_14 X hr hlk hnm hlT hout hw0 N S x0 x1 x2 x0 1 H locs ls _ _ hm hw hS (lv_sub hl [0, 1, 2] rfl)
  exact hg _ _ _ _ hw va_S.rf
/-! number -/
def kX_X5_number (g : XC) (N : Nat) (S : XS) (x0 : Nat) (x1 : Int32) (x2 : Int32) : Option ((XS × Int32) ⊕ XT) :=
  (f_cls S 4 x0).bind fun u1 =>
  tbind (kX_X5_numberNow g N S x0 x1 x2) fun r3 =>
  (f_cls r3.1 4 x0).bind fun u4 =>
  (kX_X5_next g N r3.1 x0).bind fun w5 =>
  some (.inl (w5, r3.2))
theorem cx_X5_number : yX5_number.cls = RX5 ∧ yX5_number.cls ≠ "java/lang/invoke/MethodHandle" ∧ yX5_number.cls ≠ "java/lang/invoke/VarHandle" ∧ (parseMethodDescriptor yX5_number.desc).map (fun d => d.parameters.length) = some 2 := by decide +kernel
theorem met_X5_number {l : Launch} {g : XC} {D : va_G} {A : Nat → Prop} (hlT : l.stackTraces = false) (N : Nat) (S : XS) (x0 : Nat) (x1 : Int32) (x2 : Int32) (w : (XS × Int32) ⊕ XT) (hm : kX_X5_number g N S x0 x1 x2 = some w) : vx_Met l yX5_number (ws_ yX5_number cX5_number 4 (Option.some Jvm.ClassFile.FieldType.int)) (xRm g S 6) (xPre g D A [.ref x0, .int x1, .int x2] S) (xTi g D A w) (xTx g D A w) (g.2.1 - xTop S) (g.2.2.1 - xSl S) A := by
  refine x_startT (own := RX5) (by decide +kernel) rfl (Nat.le_of_ble_eq_true rfl) (fun p e s m below meth c ls X hr hlk hnm hout hw hl => ?_)
  have hw0 := hw
  obtain ⟨hx, hb, -, hown, hts, -⟩ := id X
  have hl : lv_has ls 4 [(0, .ref x0), (1, .int x1), (2, .int x2)] := hl
  have hg : ∀ (H : Heap) (locs : List Loc) (cells slots : Nat), xW g D A S s H → va_S A s.heap H locs → W p l e (xRm g S 6) s m ([.ref x0, .int x1, .int x2] : List Value).toArray below meth c H locs cells slots (vx_MQ below (xTi g D A w) (xTx g D A w) ([.ref x0, .int x1, .int x2] : List Value).toArray s (g.2.1 - xTop S) (g.2.2.1 - xSl S) A) (F0 m 0 ls []) := by
    intro H locs cells slots hw hS
    unfold kX_X5_number at hm
    refine lv_aload_n hx hb dX5_number_0 rfl (lv_at hl 0 rfl) ?_
    refine lv_iload_n hx hb dX5_number_1 rfl (lv_at hl 1 rfl) ?_
    refine lv_iload_n hx hb dX5_number_2 rfl (lv_at hl 2 rfl) ?_
    obtain ⟨u1, hu1, hm⟩ := ob_s hm
    obtain ⟨w2, hw2, hm⟩ := tb_s hm
    refine xt_reti hS (xt_runV X hw (met_X5_numberNow hlT N S x0 x1 x2 w2 hw2) (x_cv X (lv := 5) (by omega) (by decide) cx_X5_numberNow (lw_V q975 q977 qs29 q126 q978)) xc4 hu1 rfl hl.1 rfl (Nat.le_of_ble_eq_true rfl) dX5_number_3) (fun t1 t2 u E9 ce q9 H1 locs1 hu ht => xt_pass X hlk hout (tc_r hu hm) ht (x_fits (lv2 := 0) X hw t1 t2).1 (x_fits (lv2 := 0) X hw t1 t2).2) (fun r3 hr3 H locs cells slots hw hS => ?_)
    replace hm := tc_l hr3 hm
    refine lv_istore_n (lv' := [(3, .int r3.2), (0, .ref x0), (1, .int x1), (2, .int x2)]) hx hb dX5_number_6 rfl hl (by decide) rfl (fun ls hl => ?_)
    refine lv_aload_n hx hb dX5_number_7 rfl (lv_at hl 1 rfl) ?_
    obtain ⟨u4, hu4, hm⟩ := ob_s hm
    obtain ⟨w5, hw5, hm⟩ := ob_s hm
    refine xr_retv hS (xr_runV X hw (met_X5_next N r3.1 x0 w5 hw5) (x_cv X (lv := 4) (by omega) (by decide) cx_X5_next (lw_V q788 q790 qs12 q126 q791)) xc4 hu4 rfl hl.1 rfl (Nat.le_of_ble_eq_true rfl) dX5_number_8) (fun H locs cells slots hw hS => ?_)
    refine lv_iload_n hx hb dX5_number_11 rfl (lv_at hl 0 rfl) ?_
    obtain rfl := Option.some.inj hm
    exact xt_iret (v := r3.2) X hr hlk hw hS rfl dX5_number_12
  exact hg _ _ _ _ hw va_S.rf
/-! part -/
theorem cx_X5_part : yX5_part.cls = RX5 ∧ yX5_part.cls ≠ "java/lang/invoke/MethodHandle" ∧ yX5_part.cls ≠ "java/lang/invoke/VarHandle" ∧ (parseMethodDescriptor yX5_part.desc).map (fun d => d.parameters.length) = some 1 := by decide +kernel
def kX_X5_part_100 (g : XC) (N : Nat) (E : XS → Nat → Int32 → Option ((XS × Nat) ⊕ XT)) (S : XS) (x0 : Nat) (x2 : Int32) (t0 : Nat) (t1 : Int32) : Option ((XS × Nat) ⊕ XT) :=
  (f_cls S 4 t0).bind fun u1 =>
  tbind (kX_X5_want g N S t0 t1 3) fun r3 =>
  (f_cls r3 4 x0).bind fun u4 =>
  (kX_X5_next g N r3 x0).bind fun w5 =>
  (xNew w5 1 (.inr (7, [.int 0]))).bind fun S6 =>
  (kX_X9_init g N S6 (xTop w5) x2).bind fun w7 =>
  some (.inl (w7, (xTop w5)))
theorem wkX_X5_part_100 {p : Program} {l : Launch} {e : Env} {s : State} {m : MethodId} {args : Array Value} {below : List Frame} {meth : Method} {c : Code} {g : XC} {D : va_G} {A : Nat → Prop} {S0 : XS} {w : (XS × Nat) ⊕ XT} (X : xX g D A RX5 S0 p s m args c cX5_part 3) (hr : meth.sig.returnType = (Option.some (Jvm.ClassFile.FieldType.object "DripCups$Form"))) (hlk : meth.locks = false) (hnm : meth.name = yX5_part.name) (hlT : l.stackTraces = false) (hout : ∀ x ∈ c.exceptionTable.toList, False) (hw0 : xW g D A S0 s s.heap) (N : Nat) (nE : Nat) (E : XS → Nat → Int32 → Option ((XS × Nat) ⊕ XT)) (hE : ∀ (S : XS) (x0 : Nat) (x1 : Int32) (w : (XS × Nat) ⊕ XT), E S x0 x1 = some w → vx_Met l yX5_expression (ws_ yX5_expression cX5_expression 3 (Option.some (Jvm.ClassFile.FieldType.object "DripCups$Form"))) (xRm g S (nE + 20)) (xPre g D A [.ref x0, .int x1] S) (xTr g D A w) (xTx g D A w) (g.2.1 - xTop S) (g.2.2.1 - xSl S) A) :
    ∀ (S : XS) (x0 : Nat) (x2 : Int32) (t0 : Nat) (t1 : Int32) (H : Heap) (locs : List Loc) (ls : Array Slot) (cells slots : Nat), kX_X5_part_100 g N E S x0 x2 t0 t1 = some w → xW g D A S s H → va_S A s.heap H locs → lv_has ls 3 [(0, .ref x0), (2, .int x2)] → W p l e (xRm g S0 (nE + 21)) s m args below meth c H locs cells slots (vx_MQ below (xTr g D A w) (xTx g D A w) args s (g.2.1 - xTop S0) (g.2.2.1 - xSl S0) A) (F0 m 100 ls [.int t1, .ref t0]) := by
  obtain ⟨hx, hb, -, hown, hts, -⟩ := id X
  intro S x0 x2 t0 t1 H locs ls cells slots hm hw hS hl
  unfold kX_X5_part_100 at hm
  refine lv_iconst (v := 3) hx hb dX5_part_100 (by decide) ?_
  obtain ⟨u1, hu1, hm⟩ := ob_s hm
  obtain ⟨w2, hw2, hm⟩ := tb_s hm
  refine xt_retv hS (xt_runV X hw (met_X5_want hlT N S t0 t1 3 w2 hw2) (x_cv X (lv := 4) (by omega) (by decide) cx_X5_want (lw_V q910 q912 qs20 q126 q913)) xc4 hu1 rfl hl.1 rfl (Nat.le_of_ble_eq_true rfl) dX5_part_101) (fun t1 t2 u E9 ce q9 H1 locs1 hu ht => xt_pass X hlk hout (tc_r hu hm) ht (x_fits (lv2 := 0) X hw t1 t2).1 (x_fits (lv2 := 0) X hw t1 t2).2) (fun r3 hr3 H locs cells slots hw hS => ?_)
  replace hm := tc_l hr3 hm
  refine lv_aload_n hx hb dX5_part_104 rfl (lv_at hl 0 rfl) ?_
  obtain ⟨u4, hu4, hm⟩ := ob_s hm
  obtain ⟨w5, hw5, hm⟩ := ob_s hm
  refine xr_retv hS (xr_runV X hw (met_X5_next N r3 x0 w5 hw5) (x_cv X (lv := 4) (by omega) (by decide) cx_X5_next (lw_V q788 q790 qs12 q126 q791)) xc4 hu4 rfl hl.1 rfl (Nat.le_of_ble_eq_true rfl) dX5_part_105) (fun H locs cells slots hw hS => ?_)
  obtain ⟨S6, hS6, hm⟩ := ob_s hm
  refine xr_new (N := 1) X hw hS xc7 in_X9 tyX9_ok q987 q988 q136 (by intro j hj; exact df_X9 j hj) hS6 dX5_part_108 (fun H cells slots hw hS => ?_)
  refine lv_dup hx hb dX5_part_111 rfl ?_
  refine lv_iload_n hx hb dX5_part_112 rfl (lv_at hl 1 rfl) ?_
  obtain ⟨w7, hw7, hm⟩ := ob_s hm
  refine xr_retv hS (xr_runI X hw (met_X9_init N S6 (xTop w5) x2 w7 hw7) (x_ci X (lv := 0) (by omega) (by decide) rfl cx_X9_init (lw_meth q991) q136 q989 q990) rfl hl.1 rfl (Nat.le_of_ble_eq_true rfl) dX5_part_113) (fun H locs cells slots hw hS => ?_)
  obtain rfl := Option.some.inj hm
  exact xt_aret X hr (by first | exact Or.inl ⟨_, rfl⟩ | exact Or.inr ⟨_, rfl⟩) hlk hw hS dX5_part_116
def kX_X5_part_76 (g : XC) (N : Nat) (E : XS → Nat → Int32 → Option ((XS × Nat) ⊕ XT)) (S : XS) (x0 : Nat) (t0 : Nat) (t1 : Int32) : Option ((XS × Nat) ⊕ XT) :=
  (f_cls S 4 t0).bind fun u1 =>
  tbind (kX_X5_want g N S t0 t1 1) fun r3 =>
  (f_obj r3 4 x0 4).bind fun v4 =>
  (f_cls r3 4 x0).bind fun u5 =>
  (kX_X5_which g N r3 x0 v4).bind fun w6 =>
  if w6.2 = (-1) then
    kX_X5_part_100 g N E w6.1 x0 w6.2 x0 0
  else
    kX_X5_part_100 g N E w6.1 x0 w6.2 x0 1
theorem wkX_X5_part_76 {p : Program} {l : Launch} {e : Env} {s : State} {m : MethodId} {args : Array Value} {below : List Frame} {meth : Method} {c : Code} {g : XC} {D : va_G} {A : Nat → Prop} {S0 : XS} {w : (XS × Nat) ⊕ XT} (X : xX g D A RX5 S0 p s m args c cX5_part 3) (hr : meth.sig.returnType = (Option.some (Jvm.ClassFile.FieldType.object "DripCups$Form"))) (hlk : meth.locks = false) (hnm : meth.name = yX5_part.name) (hlT : l.stackTraces = false) (hout : ∀ x ∈ c.exceptionTable.toList, False) (hw0 : xW g D A S0 s s.heap) (N : Nat) (nE : Nat) (E : XS → Nat → Int32 → Option ((XS × Nat) ⊕ XT)) (hE : ∀ (S : XS) (x0 : Nat) (x1 : Int32) (w : (XS × Nat) ⊕ XT), E S x0 x1 = some w → vx_Met l yX5_expression (ws_ yX5_expression cX5_expression 3 (Option.some (Jvm.ClassFile.FieldType.object "DripCups$Form"))) (xRm g S (nE + 20)) (xPre g D A [.ref x0, .int x1] S) (xTr g D A w) (xTx g D A w) (g.2.1 - xTop S) (g.2.2.1 - xSl S) A) :
    ∀ (S : XS) (x0 : Nat) (t0 : Nat) (t1 : Int32) (H : Heap) (locs : List Loc) (ls : Array Slot) (cells slots : Nat), kX_X5_part_76 g N E S x0 t0 t1 = some w → xW g D A S s H → va_S A s.heap H locs → lv_has ls 3 [(0, .ref x0)] → W p l e (xRm g S0 (nE + 21)) s m args below meth c H locs cells slots (vx_MQ below (xTr g D A w) (xTx g D A w) args s (g.2.1 - xTop S0) (g.2.2.1 - xSl S0) A) (F0 m 76 ls [.int t1, .ref t0]) := by
  obtain ⟨hx, hb, -, hown, hts, -⟩ := id X
  intro S x0 t0 t1 H locs ls cells slots hm hw hS hl
  unfold kX_X5_part_76 at hm
  refine lv_iconst (v := 1) hx hb dX5_part_76 (by decide) ?_
  obtain ⟨u1, hu1, hm⟩ := ob_s hm
  obtain ⟨w2, hw2, hm⟩ := tb_s hm
  refine xt_retv hS (xt_runV X hw (met_X5_want hlT N S t0 t1 1 w2 hw2) (x_cv X (lv := 4) (by omega) (by decide) cx_X5_want (lw_V q910 q912 qs20 q126 q913)) xc4 hu1 rfl hl.1 rfl (Nat.le_of_ble_eq_true rfl) dX5_part_77) (fun t1 t2 u E9 ce q9 H1 locs1 hu ht => xt_pass X hlk hout (tc_r hu hm) ht (x_fits (lv2 := 0) X hw t1 t2).1 (x_fits (lv2 := 0) X hw t1 t2).2) (fun r3 hr3 H locs cells slots hw hS => ?_)
  replace hm := tc_l hr3 hm
  refine lv_aload_n hx hb dX5_part_80 rfl (lv_at hl 0 rfl) ?_
  refine lv_aload_n hx hb dX5_part_81 rfl (lv_at hl 0 rfl) ?_
  obtain ⟨v4, hv4, hm⟩ := ob_s hm
  refine xr_val X hw xc4 in_X5 4 (by decide) q747 (f_obj_s hv4) dX5_part_82 ?_
  obtain ⟨u5, hu5, hm⟩ := ob_s hm
  obtain ⟨w6, hw6, hm⟩ := ob_s hm
  refine xr_reti hS (xr_runV X hw (met_X5_which N r3 x0 v4 w6 hw6) (x_cv X (lv := 5) (by omega) (by decide) cx_X5_which (lw_V q881 q883 qs17 q126 q884)) xc4 hu5 rfl hl.1 rfl (Nat.le_of_ble_eq_true rfl) dX5_part_85) (fun H locs cells slots hw hS => ?_)
  refine lv_istore_n (lv' := [(2, .int w6.2), (0, .ref x0)]) hx hb dX5_part_88 rfl hl (by decide) rfl (fun ls hl => ?_)
  refine lv_aload_n hx hb dX5_part_89 rfl (lv_at hl 1 rfl) ?_
  refine lv_iload_n hx hb dX5_part_90 rfl (lv_at hl 0 rfl) ?_
  refine lv_iconst (v := (-1)) hx hb dX5_part_91 (by decide) ?_
  refine lv_icmp_eq (tgt := 99) hx hb dX5_part_92 (by decide) (fun c7 => ?_) (fun c7 => ?_)
  · replace hm := if_t c7 hm
    refine lv_iconst (v := 0) hx hb dX5_part_99 (by decide) ?_
    exact wkX_X5_part_100 X hr hlk hnm hlT hout hw0 N nE E hE w6.1 x0 w6.2 x0 0 H locs ls _ _ hm hw hS (lv_sub hl [1, 0] rfl)
  · replace hm := if_f c7 hm
    refine lv_iconst (v := 1) hx hb dX5_part_95 (by decide) ?_
    refine lv_goto (tgt := 100) hx hb dX5_part_96 (by decide) ?_
    exact wkX_X5_part_100 X hr hlk hnm hlT hout hw0 N nE E hE w6.1 x0 w6.2 x0 1 H locs ls _ _ hm hw hS (lv_sub hl [1, 0] rfl)
def kX_X5_part (g : XC) (N : Nat) (E : XS → Nat → Int32 → Option ((XS × Nat) ⊕ XT)) (S : XS) (x0 : Nat) (x1 : Int32) : Option ((XS × Nat) ⊕ XT) :=
  (f_int S 4 x0 6).bind fun v1 =>
  if v1 = 2 then
    (xNew S 1 (.inr (6, [.int 0]))).bind fun S20 =>
    (f_cls S20 4 x0).bind fun u21 =>
    tbind (kX_X5_number g N S20 x0 0 9999) fun r23 =>
    (kX_X8_init g N r23.1 (xTop S) r23.2).bind fun w24 =>
    some (.inl (w24, (xTop S)))
  else
    (f_cls S 4 x0).bind fun u3 =>
    (kX_X5_isSign g N S x0 40).bind fun w4 =>
    if w4.2 = 0 then
      (f_int w4.1 4 x0 6).bind fun v6 =>
      if v6 = 1 then
        kX_X5_part_76 g N E w4.1 x0 x0 1
      else
        kX_X5_part_76 g N E w4.1 x0 x0 0
    else
      (f_cls w4.1 4 x0).bind fun u8 =>
      (kX_X5_next g N w4.1 x0).bind fun w9 =>
      (f_cls w9 4 x0).bind fun u10 =>
      tbind (E w9 x0 (x1 + 1)) fun r12 =>
      (f_cls r12.1 4 x0).bind fun u13 =>
      (kX_X5_isSign g N r12.1 x0 41).bind fun w14 =>
      (f_cls w14.1 4 x0).bind fun u15 =>
      tbind (kX_X5_want g N w14.1 x0 w14.2 1) fun r17 =>
      (f_cls r17 4 x0).bind fun u18 =>
      (kX_X5_next g N r17 x0).bind fun w19 =>
      some (.inl (w19, r12.2))
theorem met_X5_part {l : Launch} {g : XC} {D : va_G} {A : Nat → Prop} (hlT : l.stackTraces = false) (N : Nat) (nE : Nat) (E : XS → Nat → Int32 → Option ((XS × Nat) ⊕ XT)) (hE : ∀ (S : XS) (x0 : Nat) (x1 : Int32) (w : (XS × Nat) ⊕ XT), E S x0 x1 = some w → vx_Met l yX5_expression (ws_ yX5_expression cX5_expression 3 (Option.some (Jvm.ClassFile.FieldType.object "DripCups$Form"))) (xRm g S (nE + 20)) (xPre g D A [.ref x0, .int x1] S) (xTr g D A w) (xTx g D A w) (g.2.1 - xTop S) (g.2.2.1 - xSl S) A) (S : XS) (x0 : Nat) (x1 : Int32) (w : (XS × Nat) ⊕ XT) (hm : kX_X5_part g N E S x0 x1 = some w) : vx_Met l yX5_part (ws_ yX5_part cX5_part 3 (Option.some (Jvm.ClassFile.FieldType.object "DripCups$Form"))) (xRm g S (nE + 21)) (xPre g D A [.ref x0, .int x1] S) (xTr g D A w) (xTx g D A w) (g.2.1 - xTop S) (g.2.2.1 - xSl S) A := by
  refine x_startT (own := RX5) (by decide +kernel) rfl (Nat.le_of_ble_eq_true rfl) (fun p e s m below meth c ls X hr hlk hnm hout hw hl => ?_)
  have hw0 := hw
  obtain ⟨hx, hb, -, hown, hts, -⟩ := id X
  have hl : lv_has ls 3 [(0, .ref x0), (1, .int x1)] := hl
  have hg : ∀ (H : Heap) (locs : List Loc) (cells slots : Nat), xW g D A S s H → va_S A s.heap H locs → W p l e (xRm g S (nE + 21)) s m ([.ref x0, .int x1] : List Value).toArray below meth c H locs cells slots (vx_MQ below (xTr g D A w) (xTx g D A w) ([.ref x0, .int x1] : List Value).toArray s (g.2.1 - xTop S) (g.2.2.1 - xSl S) A) (F0 m 0 ls []) := by
    intro H locs cells slots hw hS
    unfold kX_X5_part at hm
    refine lv_aload_n hx hb dX5_part_0 rfl (lv_at hl 0 rfl) ?_
    obtain ⟨v1, hv1, hm⟩ := ob_s hm
    refine xr_val X hw xc4 in_X5 6 (by decide) q749 (f_int_s hv1) dX5_part_1 ?_
    refine lv_iconst (v := 2) hx hb dX5_part_4 (by decide) ?_
    refine lv_icmp_ne (tgt := 24) hx hb dX5_part_5 (by decide) (fun c2 => ?_) (fun c2 => ?_)
    · replace hm := if_f c2 hm
      refine lv_aload_n hx hb dX5_part_24 rfl (lv_at hl 0 rfl) ?_
      refine lv_bipush (v := 40) hx hb dX5_part_25 (by decide) ?_
      obtain ⟨u3, hu3, hm⟩ := ob_s hm
      obtain ⟨w4, hw4, hm⟩ := ob_s hm
      refine xr_reti hS (xr_runV X hw (met_X5_isSign N S x0 40 w4 hw4) (x_cv X (lv := 0) (by omega) (by decide) cx_X5_isSign (lw_V q942 q944 qs22 q126 q945)) xc4 hu3 rfl hl.1 rfl (Nat.le_of_ble_eq_true rfl) dX5_part_27) (fun H locs cells slots hw hS => ?_)
      refine lv_if_eq (tgt := 62) hx hb dX5_part_30 (by decide) (fun c5 => ?_) (fun c5 => ?_)
      · replace hm := if_t c5 hm
        refine lv_aload_n hx hb dX5_part_62 rfl (lv_at hl 0 rfl) ?_
        refine lv_aload_n hx hb dX5_part_63 rfl (lv_at hl 0 rfl) ?_
        obtain ⟨v6, hv6, hm⟩ := ob_s hm
        refine xr_val X hw xc4 in_X5 6 (by decide) q749 (f_int_s hv6) dX5_part_64 ?_
        refine lv_iconst (v := 1) hx hb dX5_part_67 (by decide) ?_
        refine lv_icmp_ne (tgt := 75) hx hb dX5_part_68 (by decide) (fun c7 => ?_) (fun c7 => ?_)
        · replace hm := if_f c7 hm
          refine lv_iconst (v := 0) hx hb dX5_part_75 (by decide) ?_
          exact wkX_X5_part_76 X hr hlk hnm hlT hout hw0 N nE E hE w4.1 x0 x0 0 H locs ls _ _ hm hw hS (lv_sub hl [0] rfl)
        · replace hm := if_t c7 hm
          refine lv_iconst (v := 1) hx hb dX5_part_71 (by decide) ?_
          refine lv_goto (tgt := 76) hx hb dX5_part_72 (by decide) ?_
          exact wkX_X5_part_76 X hr hlk hnm hlT hout hw0 N nE E hE w4.1 x0 x0 1 H locs ls _ _ hm hw hS (lv_sub hl [0] rfl)
      · replace hm := if_f c5 hm
        refine lv_aload_n hx hb dX5_part_33 rfl (lv_at hl 0 rfl) ?_
        obtain ⟨u8, hu8, hm⟩ := ob_s hm
        obtain ⟨w9, hw9, hm⟩ := ob_s hm
        refine xr_retv hS (xr_runV X hw (met_X5_next N w4.1 x0 w9 hw9) (x_cv X (lv := 4) (by omega) (by decide) cx_X5_next (lw_V q788 q790 qs12 q126 q791)) xc4 hu8 rfl hl.1 rfl (Nat.le_of_ble_eq_true rfl) dX5_part_34) (fun H locs cells slots hw hS => ?_)
        refine lv_aload_n hx hb dX5_part_37 rfl (lv_at hl 0 rfl) ?_
        refine lv_iload_n hx hb dX5_part_38 rfl (lv_at hl 1 rfl) ?_
        refine lv_iconst (v := 1) hx hb dX5_part_39 (by decide) ?_
        refine lv_iadd hx hb dX5_part_40 ?_
        obtain ⟨u10, hu10, hm⟩ := ob_s hm
        obtain ⟨w11, hw11, hm⟩ := tb_s hm
        refine xt_retr hS (xt_runV X hw (hE w9 x0 (x1 + 1) w11 hw11) (x_cv X (lv := nE + 20) (by omega) (by decide) cx_X5_expression (lw_V q938 q940 qs21 q126 q941)) xc4 hu10 rfl hl.1 rfl (Nat.le_of_ble_eq_true rfl) dX5_part_41) (fun t1 t2 u E9 ce q9 H1 locs1 hu ht => xt_pass X hlk hout (tc_r hu hm) ht (x_fits (lv2 := 0) X hw t1 t2).1 (x_fits (lv2 := 0) X hw t1 t2).2) (fun r12 hr12 H locs cells slots hw hS => ?_)
        replace hm := tc_l hr12 hm
        refine lv_astore_n (lv' := [(2, .ref r12.2), (0, .ref x0), (1, .int x1)]) hx hb dX5_part_44 rfl hl (by decide) rfl (fun ls hl => ?_)
        refine lv_aload_n hx hb dX5_part_45 rfl (lv_at hl 1 rfl) ?_
        refine lv_aload_n hx hb dX5_part_46 rfl (lv_at hl 1 rfl) ?_
        refine lv_bipush (v := 41) hx hb dX5_part_47 (by decide) ?_
        obtain ⟨u13, hu13, hm⟩ := ob_s hm
        obtain ⟨w14, hw14, hm⟩ := ob_s hm
        refine xr_reti hS (xr_runV X hw (met_X5_isSign N r12.1 x0 41 w14 hw14) (x_cv X (lv := 0) (by omega) (by decide) cx_X5_isSign (lw_V q942 q944 qs22 q126 q945)) xc4 hu13 rfl hl.1 rfl (Nat.le_of_ble_eq_true rfl) dX5_part_49) (fun H locs cells slots hw hS => ?_)
        refine lv_iconst (v := 1) hx hb dX5_part_52 (by decide) ?_
        obtain ⟨u15, hu15, hm⟩ := ob_s hm
        obtain ⟨w16, hw16, hm⟩ := tb_s hm
        refine xt_retv hS (xt_runV X hw (met_X5_want hlT N w14.1 x0 w14.2 1 w16 hw16) (x_cv X (lv := 4) (by omega) (by decide) cx_X5_want (lw_V q910 q912 qs20 q126 q913)) xc4 hu15 rfl hl.1 rfl (Nat.le_of_ble_eq_true rfl) dX5_part_53) (fun t1 t2 u E9 ce q9 H1 locs1 hu ht => xt_pass X hlk hout (tc_r hu hm) ht (x_fits (lv2 := 0) X hw t1 t2).1 (x_fits (lv2 := 0) X hw t1 t2).2) (fun r17 hr17 H locs cells slots hw hS => ?_)
        replace hm := tc_l hr17 hm
        refine lv_aload_n hx hb dX5_part_56 rfl (lv_at hl 1 rfl) ?_
        obtain ⟨u18, hu18, hm⟩ := ob_s hm
        obtain ⟨w19, hw19, hm⟩ := ob_s hm
        refine xr_retv hS (xr_runV X hw (met_X5_next N r17 x0 w19 hw19) (x_cv X (lv := 4) (by omega) (by decide) cx_X5_next (lw_V q788 q790 qs12 q126 q791)) xc4 hu18 rfl hl.1 rfl (Nat.le_of_ble_eq_true rfl) dX5_part_57) (fun H locs cells slots hw hS => ?_)
        refine lv_aload_n hx hb dX5_part_60 rfl (lv_at hl 0 rfl) ?_
        obtain rfl := Option.some.inj hm
        exact xt_aret X hr (by first | exact Or.inl ⟨_, rfl⟩ | exact Or.inr ⟨_, rfl⟩) hlk hw hS dX5_part_61
    · replace hm := if_t c2 hm
      obtain ⟨S20, hS20, hm⟩ := ob_s hm
      refine xr_new (N := 1) X hw hS xc6 in_X8 tyX8_ok q969 q970 q135 (by intro j hj; exact df_X8 j hj) hS20 dX5_part_8 (fun H cells slots hw hS => ?_)
      refine lv_dup hx hb dX5_part_11 rfl ?_
      refine lv_aload_n hx hb dX5_part_12 rfl (lv_at hl 0 rfl) ?_
      refine lv_iconst (v := 0) hx hb dX5_part_13 (by decide) ?_
      refine lv_sipush (v := 9999) hx hb dX5_part_14 (by decide) ?_
      obtain ⟨u21, hu21, hm⟩ := ob_s hm
      obtain ⟨w22, hw22, hm⟩ := tb_s hm
      refine xt_reti hS (xt_runV X hw (met_X5_number hlT N S20 x0 0 9999 w22 hw22) (x_cv X (lv := 6) (by omega) (by decide) cx_X5_number (lw_V q971 q973 qs28 q126 q974)) xc4 hu21 rfl hl.1 rfl (Nat.le_of_ble_eq_true rfl) dX5_part_17) (fun t1 t2 u E9 ce q9 H1 locs1 hu ht => xt_pass X hlk hout (tc_r hu hm) ht (x_fits (lv2 := 0) X hw t1 t2).1 (x_fits (lv2 := 0) X hw t1 t2).2) (fun r23 hr23 H locs cells slots hw hS => ?_)
      replace hm := tc_l hr23 hm
      obtain ⟨w24, hw24, hm⟩ := ob_s hm
      refine xr_retv hS (xr_runI X hw (met_X8_init N r23.1 (xTop S) r23.2 w24 hw24) (x_ci X (lv := 0) (by omega) (by decide) rfl cx_X8_init (lw_meth q981) q135 q979 q980) rfl hl.1 rfl (Nat.le_of_ble_eq_true rfl) dX5_part_20) (fun H locs cells slots hw hS => ?_)
      obtain rfl := Option.some.inj hm
      exact xt_aret X hr (by first | exact Or.inl ⟨_, rfl⟩ | exact Or.inr ⟨_, rfl⟩) hlk hw hS dX5_part_23
  exact hg _ _ _ _ hw va_S.rf
/-! product -/
theorem cx_X5_product : yX5_product.cls = RX5 ∧ yX5_product.cls ≠ "java/lang/invoke/MethodHandle" ∧ yX5_product.cls ≠ "java/lang/invoke/VarHandle" ∧ (parseMethodDescriptor yX5_product.desc).map (fun d => d.parameters.length) = some 1 := by decide +kernel
def kX_X5_product_31 (g : XC) (N : Nat) (E : XS → Nat → Int32 → Option ((XS × Nat) ⊕ XT)) (K13 : XS → Nat → Int32 → Nat → Option ((XS × Nat) ⊕ XT)) (S : XS) (x0 : Nat) (x1 : Int32) (x2 : Nat) : Option ((XS × Nat) ⊕ XT) :=
  (f_cls S 4 x0).bind fun u1 =>
  (kX_X5_sign g N S x0).bind fun w2 =>
  (f_cls w2.1 4 x0).bind fun u3 =>
  tbind (kX_X5_part g N E w2.1 x0 x1) fun r5 =>
  (f_cls r5.1 5 x2).bind fun u6 =>
  (kX_X7_add g N r5.1 x2 w2.2 r5.2).bind fun w7 =>
  K13 w7 x0 x1 x2
theorem wkX_X5_product_31 {p : Program} {l : Launch} {e : Env} {s : State} {m : MethodId} {args : Array Value} {below : List Frame} {meth : Method} {c : Code} {g : XC} {D : va_G} {A : Nat → Prop} {S0 : XS} {w : (XS × Nat) ⊕ XT} (X : xX g D A RX5 S0 p s m args c cX5_product 4) (hr : meth.sig.returnType = (Option.some (Jvm.ClassFile.FieldType.object "DripCups$Form"))) (hlk : meth.locks = false) (hnm : meth.name = yX5_product.name) (hlT : l.stackTraces = false) (hout : ∀ x ∈ c.exceptionTable.toList, False) (hw0 : xW g D A S0 s s.heap) (N : Nat) (nE : Nat) (E : XS → Nat → Int32 → Option ((XS × Nat) ⊕ XT)) (hE : ∀ (S : XS) (x0 : Nat) (x1 : Int32) (w : (XS × Nat) ⊕ XT), E S x0 x1 = some w → vx_Met l yX5_expression (ws_ yX5_expression cX5_expression 3 (Option.some (Jvm.ClassFile.FieldType.object "DripCups$Form"))) (xRm g S (nE + 20)) (xPre g D A [.ref x0, .int x1] S) (xTr g D A w) (xTx g D A w) (g.2.1 - xTop S) (g.2.2.1 - xSl S) A) (K13 : XS → Nat → Int32 → Nat → Option ((XS × Nat) ⊕ XT))
    (hK13 : ∀ (S : XS) (x0 : Nat) (x1 : Int32) (x2 : Nat) (H : Heap) (locs : List Loc) (ls : Array Slot) (cells slots : Nat), K13 S x0 x1 x2 = some w → xW g D A S s H → va_S A s.heap H locs → lv_has ls 4 [(0, .ref x0), (1, .int x1), (2, .ref x2)] → W p l e (xRm g S0 (nE + 22)) s m args below meth c H locs cells slots (vx_MQ below (xTr g D A w) (xTx g D A w) args s (g.2.1 - xTop S0) (g.2.2.1 - xSl S0) A) (F0 m 13 ls [])) :
    ∀ (S : XS) (x0 : Nat) (x1 : Int32) (x2 : Nat) (H : Heap) (locs : List Loc) (ls : Array Slot) (cells slots : Nat), kX_X5_product_31 g N E K13 S x0 x1 x2 = some w → xW g D A S s H → va_S A s.heap H locs → lv_has ls 4 [(0, .ref x0), (1, .int x1), (2, .ref x2)] → W p l e (xRm g S0 (nE + 22)) s m args below meth c H locs cells slots (vx_MQ below (xTr g D A w) (xTx g D A w) args s (g.2.1 - xTop S0) (g.2.2.1 - xSl S0) A) (F0 m 31 ls []) := by
  obtain ⟨hx, hb, -, hown, hts, -⟩ := id X
  intro S x0 x1 x2 H locs ls cells slots hm hw hS hl
  unfold kX_X5_product_31 at hm
  refine lv_aload_n hx hb dX5_product_31 rfl (lv_at hl 0 rfl) ?_
  obtain ⟨u1, hu1, hm⟩ := ob_s hm
  obtain ⟨w2, hw2, hm⟩ := ob_s hm
  refine xr_reti hS (xr_runV X hw (met_X5_sign N S x0 w2 hw2) (x_cv X (lv := 5) (by omega) (by decide) cx_X5_sign (lw_V q1040 q1042 qs30 q126 q1043)) xc4 hu1 rfl hl.1 rfl (Nat.le_of_ble_eq_true rfl) dX5_product_32) (fun H locs cells slots hw hS => ?_)
  refine lv_istore_n (lv' := [(3, .int w2.2), (0, .ref x0), (1, .int x1), (2, .ref x2)]) hx hb dX5_product_35 rfl hl (by decide) rfl (fun ls hl => ?_)
  refine lv_aload_n hx hb dX5_product_36 rfl (lv_at hl 3 rfl) ?_
  refine lv_iload_n hx hb dX5_product_37 rfl (lv_at hl 0 rfl) ?_
  refine lv_aload_n hx hb dX5_product_38 rfl (lv_at hl 1 rfl) ?_
  refine lv_iload_n hx hb dX5_product_39 rfl (lv_at hl 2 rfl) ?_
  obtain ⟨u3, hu3, hm⟩ := ob_s hm
  obtain ⟨w4, hw4, hm⟩ := tb_s hm
  refine xt_retr hS (xt_runV X hw (met_X5_part hlT N nE E hE w2.1 x0 x1 w4 hw4) (x_cv X (lv := nE + 21) (by omega) (by decide) cx_X5_part (lw_V q965 q967 qs27 q126 q968)) xc4 hu3 rfl hl.1 rfl (Nat.le_of_ble_eq_true rfl) dX5_product_40) (fun t1 t2 u E9 ce q9 H1 locs1 hu ht => xt_pass X hlk hout (tc_r hu hm) ht (x_fits (lv2 := 0) X hw t1 t2).1 (x_fits (lv2 := 0) X hw t1 t2).2) (fun r5 hr5 H locs cells slots hw hS => ?_)
  replace hm := tc_l hr5 hm
  obtain ⟨u6, hu6, hm⟩ := ob_s hm
  obtain ⟨w7, hw7, hm⟩ := ob_s hm
  refine xr_retv hS (xr_runV X hw (met_X7_add N r5.1 x2 w2.2 r5.2 w7 hw7) (x_cv X (lv := 7) (by omega) (by decide) cx_X7_add (lw_V q1044 q1045 q1046 q134 q1047)) xc5 hu6 rfl hl.1 rfl (Nat.le_of_ble_eq_true rfl) dX5_product_43) (fun H locs cells slots hw hS => ?_)
  refine lv_goto (tgt := 13) hx hb dX5_product_46 (by decide) ?_
  exact hK13 w7 x0 x1 x2 H locs ls _ _ hm hw hS (lv_sub hl [1, 2, 3] rfl)
def kX_X5_product_13 (g : XC) (N : Nat) (E : XS → Nat → Int32 → Option ((XS × Nat) ⊕ XT)) : Nat → XS → Nat → Int32 → Nat → Option ((XS × Nat) ⊕ XT)
  | 0, _, _, _, _ => none
  | n + 1, S, x0, x1, x2 =>
    (f_cls S 4 x0).bind fun u1 =>
    (kX_X5_isSign g N S x0 42).bind fun w2 =>
    if w2.2 = 0 then
      (f_cls w2.1 4 x0).bind fun u4 =>
      (kX_X5_isSign g N w2.1 x0 47).bind fun w5 =>
      if w5.2 = 0 then
        (f_cls w5.1 5 x2).bind fun u7 =>
        (kX_X7_plain g N w5.1 x2).bind fun w8 =>
        some (.inl (w8.1, w8.2))
      else
        kX_X5_product_31 g N E (kX_X5_product_13 g N E n) w5.1 x0 x1 x2
    else
      kX_X5_product_31 g N E (kX_X5_product_13 g N E n) w2.1 x0 x1 x2
theorem wkX_X5_product_13 {p : Program} {l : Launch} {e : Env} {s : State} {m : MethodId} {args : Array Value} {below : List Frame} {meth : Method} {c : Code} {g : XC} {D : va_G} {A : Nat → Prop} {S0 : XS} {w : (XS × Nat) ⊕ XT} (X : xX g D A RX5 S0 p s m args c cX5_product 4) (hr : meth.sig.returnType = (Option.some (Jvm.ClassFile.FieldType.object "DripCups$Form"))) (hlk : meth.locks = false) (hnm : meth.name = yX5_product.name) (hlT : l.stackTraces = false) (hout : ∀ x ∈ c.exceptionTable.toList, False) (hw0 : xW g D A S0 s s.heap) (N : Nat) (nE : Nat) (E : XS → Nat → Int32 → Option ((XS × Nat) ⊕ XT)) (hE : ∀ (S : XS) (x0 : Nat) (x1 : Int32) (w : (XS × Nat) ⊕ XT), E S x0 x1 = some w → vx_Met l yX5_expression (ws_ yX5_expression cX5_expression 3 (Option.some (Jvm.ClassFile.FieldType.object "DripCups$Form"))) (xRm g S (nE + 20)) (xPre g D A [.ref x0, .int x1] S) (xTr g D A w) (xTx g D A w) (g.2.1 - xTop S) (g.2.2.1 - xSl S) A) :
    ∀ (n : Nat) (S : XS) (x0 : Nat) (x1 : Int32) (x2 : Nat) (H : Heap) (locs : List Loc) (ls : Array Slot) (cells slots : Nat), kX_X5_product_13 g N E n S x0 x1 x2 = some w → xW g D A S s H → va_S A s.heap H locs → lv_has ls 4 [(0, .ref x0), (1, .int x1), (2, .ref x2)] → W p l e (xRm g S0 (nE + 22)) s m args below meth c H locs cells slots (vx_MQ below (xTr g D A w) (xTx g D A w) args s (g.2.1 - xTop S0) (g.2.2.1 - xSl S0) A) (F0 m 13 ls []) := by
  obtain ⟨hx, hb, -, hown, hts, -⟩ := id X
  intro n
  induction n with
  | zero =>
    intro S x0 x1 x2 H locs ls cells slots hm
    cases hm
  | succ n ih =>
    intro S x0 x1 x2 H locs ls cells slots hm hw hS hl
    rw [kX_X5_product_13] at hm
    refine lv_aload_n hx hb dX5_product_13 rfl (lv_at hl 0 rfl) ?_
    refine lv_bipush (v := 42) hx hb dX5_product_14 (by decide) ?_
    obtain ⟨u1, hu1, hm⟩ := ob_s hm
    obtain ⟨w2, hw2, hm⟩ := ob_s hm
    refine xr_reti hS (xr_runV X hw (met_X5_isSign N S x0 42 w2 hw2) (x_cv X (lv := 0) (by omega) (by decide) cx_X5_isSign (lw_V q942 q944 qs22 q126 q945)) xc4 hu1 rfl hl.1 rfl (Nat.le_of_ble_eq_true rfl) dX5_product_16) (fun H locs cells slots hw hS => ?_)
    refine lv_if_ne (tgt := 31) hx hb dX5_product_19 (by decide) (fun c3 => ?_) (fun c3 => ?_)
    · replace hm := if_f c3 hm
      exact wkX_X5_product_31 X hr hlk hnm hlT hout hw0 N nE E hE (kX_X5_product_13 g N E n) ih w2.1 x0 x1 x2 H locs ls _ _ hm hw hS (lv_sub hl [0, 1, 2] rfl)
    · replace hm := if_t c3 hm
      refine lv_aload_n hx hb dX5_product_22 rfl (lv_at hl 0 rfl) ?_
      refine lv_bipush (v := 47) hx hb dX5_product_23 (by decide) ?_
      obtain ⟨u4, hu4, hm⟩ := ob_s hm
      obtain ⟨w5, hw5, hm⟩ := ob_s hm
      refine xr_reti hS (xr_runV X hw (met_X5_isSign N w2.1 x0 47 w5 hw5) (x_cv X (lv := 0) (by omega) (by decide) cx_X5_isSign (lw_V q942 q944 qs22 q126 q945)) xc4 hu4 rfl hl.1 rfl (Nat.le_of_ble_eq_true rfl) dX5_product_25) (fun H locs cells slots hw hS => ?_)
      refine lv_if_eq (tgt := 49) hx hb dX5_product_28 (by decide) (fun c6 => ?_) (fun c6 => ?_)
      · replace hm := if_t c6 hm
        refine lv_aload_n hx hb dX5_product_49 rfl (lv_at hl 2 rfl) ?_
        obtain ⟨u7, hu7, hm⟩ := ob_s hm
        obtain ⟨w8, hw8, hm⟩ := ob_s hm
        refine xr_retr hS (xr_runV X hw (met_X7_plain N w5.1 x2 w8 hw8) (x_cv X (lv := 3) (by omega) (by decide) cx_X7_plain (lw_V q1108 q1109 q1110 q134 q1111)) xc5 hu7 rfl hl.1 rfl (Nat.le_of_ble_eq_true rfl) dX5_product_50) (fun H locs cells slots hw hS => ?_)
        obtain rfl := Option.some.inj hm
        exact xt_aret X hr (by first | exact Or.inl ⟨_, rfl⟩ | exact Or.inr ⟨_, rfl⟩) hlk hw hS dX5_product_53
      · replace hm := if_f c6 hm
        exact wkX_X5_product_31 X hr hlk hnm hlT hout hw0 N nE E hE (kX_X5_product_13 g N E n) ih w5.1 x0 x1 x2 H locs ls _ _ hm hw hS (lv_sub hl [0, 1, 2] rfl)
def kX_X5_product (g : XC) (N : Nat) (E : XS → Nat → Int32 → Option ((XS × Nat) ⊕ XT)) (S : XS) (x0 : Nat) (x1 : Int32) : Option ((XS × Nat) ⊕ XT) :=
  (xNew S 2 (.inr (5, [.null, .null]))).bind fun S1 =>
  (f_cls S1 4 x0).bind fun u2 =>
  tbind (kX_X5_part g N E S1 x0 x1) fun r4 =>
  (kX_X7_init g N r4.1 (xTop S) r4.2).bind fun w5 =>
  kX_X5_product_13 g N E N w5 x0 x1 (xTop S)
theorem met_X5_product {l : Launch} {g : XC} {D : va_G} {A : Nat → Prop} (hlT : l.stackTraces = false) (N : Nat) (nE : Nat) (E : XS → Nat → Int32 → Option ((XS × Nat) ⊕ XT)) (hE : ∀ (S : XS) (x0 : Nat) (x1 : Int32) (w : (XS × Nat) ⊕ XT), E S x0 x1 = some w → vx_Met l yX5_expression (ws_ yX5_expression cX5_expression 3 (Option.some (Jvm.ClassFile.FieldType.object "DripCups$Form"))) (xRm g S (nE + 20)) (xPre g D A [.ref x0, .int x1] S) (xTr g D A w) (xTx g D A w) (g.2.1 - xTop S) (g.2.2.1 - xSl S) A) (S : XS) (x0 : Nat) (x1 : Int32) (w : (XS × Nat) ⊕ XT) (hm : kX_X5_product g N E S x0 x1 = some w) : vx_Met l yX5_product (ws_ yX5_product cX5_product 4 (Option.some (Jvm.ClassFile.FieldType.object "DripCups$Form"))) (xRm g S (nE + 22)) (xPre g D A [.ref x0, .int x1] S) (xTr g D A w) (xTx g D A w) (g.2.1 - xTop S) (g.2.2.1 - xSl S) A := by
  refine x_startT (own := RX5) (by decide +kernel) rfl (Nat.le_of_ble_eq_true rfl) (fun p e s m below meth c ls X hr hlk hnm hout hw hl => ?_)
  have hw0 := hw
  obtain ⟨hx, hb, -, hown, hts, -⟩ := id X
  have hl : lv_has ls 4 [(0, .ref x0), (1, .int x1)] := hl
  have hg : ∀ (H : Heap) (locs : List Loc) (cells slots : Nat), xW g D A S s H → va_S A s.heap H locs → W p l e (xRm g S (nE + 22)) s m ([.ref x0, .int x1] : List Value).toArray below meth c H locs cells slots (vx_MQ below (xTr g D A w) (xTx g D A w) ([.ref x0, .int x1] : List Value).toArray s (g.2.1 - xTop S) (g.2.2.1 - xSl S) A) (F0 m 0 ls []) := by
    intro H locs cells slots hw hS
    unfold kX_X5_product at hm
    obtain ⟨S1, hS1, hm⟩ := ob_s hm
    refine xr_new (N := 2) X hw hS xc5 in_X7 tyX7_ok q946 q947 q134 (by intro j hj; exact df_X7 j hj) hS1 dX5_product_0 (fun H cells slots hw hS => ?_)
    refine lv_dup hx hb dX5_product_3 rfl ?_
    refine lv_aload_n hx hb dX5_product_4 rfl (lv_at hl 0 rfl) ?_
    refine lv_iload_n hx hb dX5_product_5 rfl (lv_at hl 1 rfl) ?_
    obtain ⟨u2, hu2, hm⟩ := ob_s hm
    obtain ⟨w3, hw3, hm⟩ := tb_s hm
    refine xt_retr hS (xt_runV X hw (met_X5_part hlT N nE E hE S1 x0 x1 w3 hw3) (x_cv X (lv := nE + 21) (by omega) (by decide) cx_X5_part (lw_V q965 q967 qs27 q126 q968)) xc4 hu2 rfl hl.1 rfl (Nat.le_of_ble_eq_true rfl) dX5_product_6) (fun t1 t2 u E9 ce q9 H1 locs1 hu ht => xt_pass X hlk hout (tc_r hu hm) ht (x_fits (lv2 := 0) X hw t1 t2).1 (x_fits (lv2 := 0) X hw t1 t2).2) (fun r4 hr4 H locs cells slots hw hS => ?_)
    replace hm := tc_l hr4 hm
    obtain ⟨w5, hw5, hm⟩ := ob_s hm
    refine xr_retv hS (xr_runI X hw (met_X7_init N r4.1 (xTop S) r4.2 w5 hw5) (x_ci X (lv := 7) (by omega) (by decide) rfl cx_X7_init (lw_meth q999) q134 q997 q998) rfl hl.1 rfl (Nat.le_of_ble_eq_true rfl) dX5_product_9) (fun H locs cells slots hw hS => ?_)
    refine lv_astore_n (lv' := [(2, .ref (xTop S)), (0, .ref x0), (1, .int x1)]) hx hb dX5_product_12 rfl hl (by decide) rfl (fun ls hl => ?_)
    exact wkX_X5_product_13 X hr hlk hnm hlT hout hw0 N nE E hE N w5 x0 x1 (xTop S) H locs ls _ _ hm hw hS (lv_sub hl [1, 2, 0] rfl)
  exact hg _ _ _ _ hw va_S.rf
/-! sum -/
theorem cx_X5_sum : yX5_sum.cls = RX5 ∧ yX5_sum.cls ≠ "java/lang/invoke/MethodHandle" ∧ yX5_sum.cls ≠ "java/lang/invoke/VarHandle" ∧ (parseMethodDescriptor yX5_sum.desc).map (fun d => d.parameters.length) = some 1 := by decide +kernel
def kX_X5_sum_31 (g : XC) (N : Nat) (E : XS → Nat → Int32 → Option ((XS × Nat) ⊕ XT)) (K13 : XS → Nat → Int32 → Nat → Option ((XS × Nat) ⊕ XT)) (S : XS) (x0 : Nat) (x1 : Int32) (x2 : Nat) : Option ((XS × Nat) ⊕ XT) :=
  (f_cls S 4 x0).bind fun u1 =>
  (kX_X5_sign g N S x0).bind fun w2 =>
  (f_cls w2.1 4 x0).bind fun u3 =>
  tbind (kX_X5_product g N E w2.1 x0 x1) fun r5 =>
  (f_cls r5.1 5 x2).bind fun u6 =>
  (kX_X7_add g N r5.1 x2 w2.2 r5.2).bind fun w7 =>
  K13 w7 x0 x1 x2
theorem wkX_X5_sum_31 {p : Program} {l : Launch} {e : Env} {s : State} {m : MethodId} {args : Array Value} {below : List Frame} {meth : Method} {c : Code} {g : XC} {D : va_G} {A : Nat → Prop} {S0 : XS} {w : (XS × Nat) ⊕ XT} (X : xX g D A RX5 S0 p s m args c cX5_sum 4) (hr : meth.sig.returnType = (Option.some (Jvm.ClassFile.FieldType.object "DripCups$Form"))) (hlk : meth.locks = false) (hnm : meth.name = yX5_sum.name) (hlT : l.stackTraces = false) (hout : ∀ x ∈ c.exceptionTable.toList, False) (hw0 : xW g D A S0 s s.heap) (N : Nat) (nE : Nat) (E : XS → Nat → Int32 → Option ((XS × Nat) ⊕ XT)) (hE : ∀ (S : XS) (x0 : Nat) (x1 : Int32) (w : (XS × Nat) ⊕ XT), E S x0 x1 = some w → vx_Met l yX5_expression (ws_ yX5_expression cX5_expression 3 (Option.some (Jvm.ClassFile.FieldType.object "DripCups$Form"))) (xRm g S (nE + 20)) (xPre g D A [.ref x0, .int x1] S) (xTr g D A w) (xTx g D A w) (g.2.1 - xTop S) (g.2.2.1 - xSl S) A) (K13 : XS → Nat → Int32 → Nat → Option ((XS × Nat) ⊕ XT))
    (hK13 : ∀ (S : XS) (x0 : Nat) (x1 : Int32) (x2 : Nat) (H : Heap) (locs : List Loc) (ls : Array Slot) (cells slots : Nat), K13 S x0 x1 x2 = some w → xW g D A S s H → va_S A s.heap H locs → lv_has ls 4 [(0, .ref x0), (1, .int x1), (2, .ref x2)] → W p l e (xRm g S0 (nE + 23)) s m args below meth c H locs cells slots (vx_MQ below (xTr g D A w) (xTx g D A w) args s (g.2.1 - xTop S0) (g.2.2.1 - xSl S0) A) (F0 m 13 ls [])) :
    ∀ (S : XS) (x0 : Nat) (x1 : Int32) (x2 : Nat) (H : Heap) (locs : List Loc) (ls : Array Slot) (cells slots : Nat), kX_X5_sum_31 g N E K13 S x0 x1 x2 = some w → xW g D A S s H → va_S A s.heap H locs → lv_has ls 4 [(0, .ref x0), (1, .int x1), (2, .ref x2)] → W p l e (xRm g S0 (nE + 23)) s m args below meth c H locs cells slots (vx_MQ below (xTr g D A w) (xTx g D A w) args s (g.2.1 - xTop S0) (g.2.2.1 - xSl S0) A) (F0 m 31 ls []) := by
  obtain ⟨hx, hb, -, hown, hts, -⟩ := id X
  intro S x0 x1 x2 H locs ls cells slots hm hw hS hl
  unfold kX_X5_sum_31 at hm
  refine lv_aload_n hx hb dX5_sum_31 rfl (lv_at hl 0 rfl) ?_
  obtain ⟨u1, hu1, hm⟩ := ob_s hm
  obtain ⟨w2, hw2, hm⟩ := ob_s hm
  refine xr_reti hS (xr_runV X hw (met_X5_sign N S x0 w2 hw2) (x_cv X (lv := 5) (by omega) (by decide) cx_X5_sign (lw_V q1040 q1042 qs30 q126 q1043)) xc4 hu1 rfl hl.1 rfl (Nat.le_of_ble_eq_true rfl) dX5_sum_32) (fun H locs cells slots hw hS => ?_)
  refine lv_istore_n (lv' := [(3, .int w2.2), (0, .ref x0), (1, .int x1), (2, .ref x2)]) hx hb dX5_sum_35 rfl hl (by decide) rfl (fun ls hl => ?_)
  refine lv_aload_n hx hb dX5_sum_36 rfl (lv_at hl 3 rfl) ?_
  refine lv_iload_n hx hb dX5_sum_37 rfl (lv_at hl 0 rfl) ?_
  refine lv_aload_n hx hb dX5_sum_38 rfl (lv_at hl 1 rfl) ?_
  refine lv_iload_n hx hb dX5_sum_39 rfl (lv_at hl 2 rfl) ?_
  obtain ⟨u3, hu3, hm⟩ := ob_s hm
  obtain ⟨w4, hw4, hm⟩ := tb_s hm
  refine xt_retr hS (xt_runV X hw (met_X5_product hlT N nE E hE w2.1 x0 x1 w4 hw4) (x_cv X (lv := nE + 22) (by omega) (by decide) cx_X5_product (lw_V q961 q963 qs26 q126 q964)) xc4 hu3 rfl hl.1 rfl (Nat.le_of_ble_eq_true rfl) dX5_sum_40) (fun t1 t2 u E9 ce q9 H1 locs1 hu ht => xt_pass X hlk hout (tc_r hu hm) ht (x_fits (lv2 := 0) X hw t1 t2).1 (x_fits (lv2 := 0) X hw t1 t2).2) (fun r5 hr5 H locs cells slots hw hS => ?_)
  replace hm := tc_l hr5 hm
  obtain ⟨u6, hu6, hm⟩ := ob_s hm
  obtain ⟨w7, hw7, hm⟩ := ob_s hm
  refine xr_retv hS (xr_runV X hw (met_X7_add N r5.1 x2 w2.2 r5.2 w7 hw7) (x_cv X (lv := 7) (by omega) (by decide) cx_X7_add (lw_V q1044 q1045 q1046 q134 q1047)) xc5 hu6 rfl hl.1 rfl (Nat.le_of_ble_eq_true rfl) dX5_sum_43) (fun H locs cells slots hw hS => ?_)
  refine lv_goto (tgt := 13) hx hb dX5_sum_46 (by decide) ?_
  exact hK13 w7 x0 x1 x2 H locs ls _ _ hm hw hS (lv_sub hl [1, 2, 3] rfl)
def kX_X5_sum_13 (g : XC) (N : Nat) (E : XS → Nat → Int32 → Option ((XS × Nat) ⊕ XT)) : Nat → XS → Nat → Int32 → Nat → Option ((XS × Nat) ⊕ XT)
  | 0, _, _, _, _ => none
  | n + 1, S, x0, x1, x2 =>
    (f_cls S 4 x0).bind fun u1 =>
    (kX_X5_isSign g N S x0 43).bind fun w2 =>
    if w2.2 = 0 then
      (f_cls w2.1 4 x0).bind fun u4 =>
      (kX_X5_isSign g N w2.1 x0 45).bind fun w5 =>
      if w5.2 = 0 then
        (f_cls w5.1 5 x2).bind fun u7 =>
        (kX_X7_plain g N w5.1 x2).bind fun w8 =>
        some (.inl (w8.1, w8.2))
      else
        kX_X5_sum_31 g N E (kX_X5_sum_13 g N E n) w5.1 x0 x1 x2
    else
      kX_X5_sum_31 g N E (kX_X5_sum_13 g N E n) w2.1 x0 x1 x2
theorem wkX_X5_sum_13 {p : Program} {l : Launch} {e : Env} {s : State} {m : MethodId} {args : Array Value} {below : List Frame} {meth : Method} {c : Code} {g : XC} {D : va_G} {A : Nat → Prop} {S0 : XS} {w : (XS × Nat) ⊕ XT} (X : xX g D A RX5 S0 p s m args c cX5_sum 4) (hr : meth.sig.returnType = (Option.some (Jvm.ClassFile.FieldType.object "DripCups$Form"))) (hlk : meth.locks = false) (hnm : meth.name = yX5_sum.name) (hlT : l.stackTraces = false) (hout : ∀ x ∈ c.exceptionTable.toList, False) (hw0 : xW g D A S0 s s.heap) (N : Nat) (nE : Nat) (E : XS → Nat → Int32 → Option ((XS × Nat) ⊕ XT)) (hE : ∀ (S : XS) (x0 : Nat) (x1 : Int32) (w : (XS × Nat) ⊕ XT), E S x0 x1 = some w → vx_Met l yX5_expression (ws_ yX5_expression cX5_expression 3 (Option.some (Jvm.ClassFile.FieldType.object "DripCups$Form"))) (xRm g S (nE + 20)) (xPre g D A [.ref x0, .int x1] S) (xTr g D A w) (xTx g D A w) (g.2.1 - xTop S) (g.2.2.1 - xSl S) A) :
    ∀ (n : Nat) (S : XS) (x0 : Nat) (x1 : Int32) (x2 : Nat) (H : Heap) (locs : List Loc) (ls : Array Slot) (cells slots : Nat), kX_X5_sum_13 g N E n S x0 x1 x2 = some w → xW g D A S s H → va_S A s.heap H locs → lv_has ls 4 [(0, .ref x0), (1, .int x1), (2, .ref x2)] → W p l e (xRm g S0 (nE + 23)) s m args below meth c H locs cells slots (vx_MQ below (xTr g D A w) (xTx g D A w) args s (g.2.1 - xTop S0) (g.2.2.1 - xSl S0) A) (F0 m 13 ls []) := by
  obtain ⟨hx, hb, -, hown, hts, -⟩ := id X
  intro n
  induction n with
  | zero =>
    intro S x0 x1 x2 H locs ls cells slots hm
    cases hm
  | succ n ih =>
    intro S x0 x1 x2 H locs ls cells slots hm hw hS hl
    rw [kX_X5_sum_13] at hm
    refine lv_aload_n hx hb dX5_sum_13 rfl (lv_at hl 0 rfl) ?_
    refine lv_bipush (v := 43) hx hb dX5_sum_14 (by decide) ?_
    obtain ⟨u1, hu1, hm⟩ := ob_s hm
    obtain ⟨w2, hw2, hm⟩ := ob_s hm
    refine xr_reti hS (xr_runV X hw (met_X5_isSign N S x0 43 w2 hw2) (x_cv X (lv := 0) (by omega) (by decide) cx_X5_isSign (lw_V q942 q944 qs22 q126 q945)) xc4 hu1 rfl hl.1 rfl (Nat.le_of_ble_eq_true rfl) dX5_sum_16) (fun H locs cells slots hw hS => ?_)
    refine lv_if_ne (tgt := 31) hx hb dX5_sum_19 (by decide) (fun c3 => ?_) (fun c3 => ?_)
    · replace hm := if_f c3 hm
      exact wkX_X5_sum_31 X hr hlk hnm hlT hout hw0 N nE E hE (kX_X5_sum_13 g N E n) ih w2.1 x0 x1 x2 H locs ls _ _ hm hw hS (lv_sub hl [0, 1, 2] rfl)
    · replace hm := if_t c3 hm
      refine lv_aload_n hx hb dX5_sum_22 rfl (lv_at hl 0 rfl) ?_
      refine lv_bipush (v := 45) hx hb dX5_sum_23 (by decide) ?_
      obtain ⟨u4, hu4, hm⟩ := ob_s hm
      obtain ⟨w5, hw5, hm⟩ := ob_s hm
      refine xr_reti hS (xr_runV X hw (met_X5_isSign N w2.1 x0 45 w5 hw5) (x_cv X (lv := 0) (by omega) (by decide) cx_X5_isSign (lw_V q942 q944 qs22 q126 q945)) xc4 hu4 rfl hl.1 rfl (Nat.le_of_ble_eq_true rfl) dX5_sum_25) (fun H locs cells slots hw hS => ?_)
      refine lv_if_eq (tgt := 49) hx hb dX5_sum_28 (by decide) (fun c6 => ?_) (fun c6 => ?_)
      · replace hm := if_t c6 hm
        refine lv_aload_n hx hb dX5_sum_49 rfl (lv_at hl 2 rfl) ?_
        obtain ⟨u7, hu7, hm⟩ := ob_s hm
        obtain ⟨w8, hw8, hm⟩ := ob_s hm
        refine xr_retr hS (xr_runV X hw (met_X7_plain N w5.1 x2 w8 hw8) (x_cv X (lv := 3) (by omega) (by decide) cx_X7_plain (lw_V q1108 q1109 q1110 q134 q1111)) xc5 hu7 rfl hl.1 rfl (Nat.le_of_ble_eq_true rfl) dX5_sum_50) (fun H locs cells slots hw hS => ?_)
        obtain rfl := Option.some.inj hm
        exact xt_aret X hr (by first | exact Or.inl ⟨_, rfl⟩ | exact Or.inr ⟨_, rfl⟩) hlk hw hS dX5_sum_53
      · replace hm := if_f c6 hm
        exact wkX_X5_sum_31 X hr hlk hnm hlT hout hw0 N nE E hE (kX_X5_sum_13 g N E n) ih w5.1 x0 x1 x2 H locs ls _ _ hm hw hS (lv_sub hl [0, 1, 2] rfl)
def kX_X5_sum (g : XC) (N : Nat) (E : XS → Nat → Int32 → Option ((XS × Nat) ⊕ XT)) (S : XS) (x0 : Nat) (x1 : Int32) : Option ((XS × Nat) ⊕ XT) :=
  (xNew S 2 (.inr (5, [.null, .null]))).bind fun S1 =>
  (f_cls S1 4 x0).bind fun u2 =>
  tbind (kX_X5_product g N E S1 x0 x1) fun r4 =>
  (kX_X7_init g N r4.1 (xTop S) r4.2).bind fun w5 =>
  kX_X5_sum_13 g N E N w5 x0 x1 (xTop S)
theorem met_X5_sum {l : Launch} {g : XC} {D : va_G} {A : Nat → Prop} (hlT : l.stackTraces = false) (N : Nat) (nE : Nat) (E : XS → Nat → Int32 → Option ((XS × Nat) ⊕ XT)) (hE : ∀ (S : XS) (x0 : Nat) (x1 : Int32) (w : (XS × Nat) ⊕ XT), E S x0 x1 = some w → vx_Met l yX5_expression (ws_ yX5_expression cX5_expression 3 (Option.some (Jvm.ClassFile.FieldType.object "DripCups$Form"))) (xRm g S (nE + 20)) (xPre g D A [.ref x0, .int x1] S) (xTr g D A w) (xTx g D A w) (g.2.1 - xTop S) (g.2.2.1 - xSl S) A) (S : XS) (x0 : Nat) (x1 : Int32) (w : (XS × Nat) ⊕ XT) (hm : kX_X5_sum g N E S x0 x1 = some w) : vx_Met l yX5_sum (ws_ yX5_sum cX5_sum 4 (Option.some (Jvm.ClassFile.FieldType.object "DripCups$Form"))) (xRm g S (nE + 23)) (xPre g D A [.ref x0, .int x1] S) (xTr g D A w) (xTx g D A w) (g.2.1 - xTop S) (g.2.2.1 - xSl S) A := by
  refine x_startT (own := RX5) (by decide +kernel) rfl (Nat.le_of_ble_eq_true rfl) (fun p e s m below meth c ls X hr hlk hnm hout hw hl => ?_)
  have hw0 := hw
  obtain ⟨hx, hb, -, hown, hts, -⟩ := id X
  have hl : lv_has ls 4 [(0, .ref x0), (1, .int x1)] := hl
  have hg : ∀ (H : Heap) (locs : List Loc) (cells slots : Nat), xW g D A S s H → va_S A s.heap H locs → W p l e (xRm g S (nE + 23)) s m ([.ref x0, .int x1] : List Value).toArray below meth c H locs cells slots (vx_MQ below (xTr g D A w) (xTx g D A w) ([.ref x0, .int x1] : List Value).toArray s (g.2.1 - xTop S) (g.2.2.1 - xSl S) A) (F0 m 0 ls []) := by
    intro H locs cells slots hw hS
    unfold kX_X5_sum at hm
    obtain ⟨S1, hS1, hm⟩ := ob_s hm
    refine xr_new (N := 2) X hw hS xc5 in_X7 tyX7_ok q946 q947 q134 (by intro j hj; exact df_X7 j hj) hS1 dX5_sum_0 (fun H cells slots hw hS => ?_)
    refine lv_dup hx hb dX5_sum_3 rfl ?_
    refine lv_aload_n hx hb dX5_sum_4 rfl (lv_at hl 0 rfl) ?_
    refine lv_iload_n hx hb dX5_sum_5 rfl (lv_at hl 1 rfl) ?_
    obtain ⟨u2, hu2, hm⟩ := ob_s hm
    obtain ⟨w3, hw3, hm⟩ := tb_s hm
    refine xt_retr hS (xt_runV X hw (met_X5_product hlT N nE E hE S1 x0 x1 w3 hw3) (x_cv X (lv := nE + 22) (by omega) (by decide) cx_X5_product (lw_V q961 q963 qs26 q126 q964)) xc4 hu2 rfl hl.1 rfl (Nat.le_of_ble_eq_true rfl) dX5_sum_6) (fun t1 t2 u E9 ce q9 H1 locs1 hu ht => xt_pass X hlk hout (tc_r hu hm) ht (x_fits (lv2 := 0) X hw t1 t2).1 (x_fits (lv2 := 0) X hw t1 t2).2) (fun r4 hr4 H locs cells slots hw hS => ?_)
    replace hm := tc_l hr4 hm
    obtain ⟨w5, hw5, hm⟩ := ob_s hm
    refine xr_retv hS (xr_runI X hw (met_X7_init N r4.1 (xTop S) r4.2 w5 hw5) (x_ci X (lv := 7) (by omega) (by decide) rfl cx_X7_init (lw_meth q999) q134 q997 q998) rfl hl.1 rfl (Nat.le_of_ble_eq_true rfl) dX5_sum_9) (fun H locs cells slots hw hS => ?_)
    refine lv_astore_n (lv' := [(2, .ref (xTop S)), (0, .ref x0), (1, .int x1)]) hx hb dX5_sum_12 rfl hl (by decide) rfl (fun ls hl => ?_)
    exact wkX_X5_sum_13 X hr hlk hnm hlT hout hw0 N nE E hE N w5 x0 x1 (xTop S) H locs ls _ _ hm hw hS (lv_sub hl [1, 2, 0] rfl)
  exact hg _ _ _ _ hw va_S.rf
/-! not -/
theorem cx_X5_not : yX5_not.cls = RX5 ∧ yX5_not.cls ≠ "java/lang/invoke/MethodHandle" ∧ yX5_not.cls ≠ "java/lang/invoke/VarHandle" ∧ (parseMethodDescriptor yX5_not.desc).map (fun d => d.parameters.length) = some 1 := by decide +kernel
def kX_X5_not_94 (g : XC) (N : Nat) (E : XS → Nat → Int32 → Option ((XS × Nat) ⊕ XT)) : Nat → XS → Int32 → Option Nat → Int32 → Option ((XS × Nat) ⊕ XT)
  | 0, _, _, _, _ => none
  | n + 1, S, x2, x4, x5 =>
    if x2 ≤ x5 then
      (x4).bind fun a2 =>
      some (.inl (S, a2))
    else
      (xNew S 1 (.inr (8, [.null]))).bind fun S3 =>
      (x4).bind fun a4 =>
      (kX_X10_init g N S3 (xTop S) a4).bind fun w5 =>
      kX_X5_not_94 g N E n w5 x2 (some (xTop S)) (x5 + 1)
theorem wkX_X5_not_94 {p : Program} {l : Launch} {e : Env} {s : State} {m : MethodId} {args : Array Value} {below : List Frame} {meth : Method} {c : Code} {g : XC} {D : va_G} {A : Nat → Prop} {S0 : XS} {w : (XS × Nat) ⊕ XT} (X : xX g D A RX5 S0 p s m args c cX5_not 6) (hr : meth.sig.returnType = (Option.some (Jvm.ClassFile.FieldType.object "DripCups$Form"))) (hlk : meth.locks = false) (hnm : meth.name = yX5_not.name) (hlT : l.stackTraces = false) (hout : ∀ x ∈ c.exceptionTable.toList, False) (hw0 : xW g D A S0 s s.heap) (N : Nat) (nE : Nat) (E : XS → Nat → Int32 → Option ((XS × Nat) ⊕ XT)) (hE : ∀ (S : XS) (x0 : Nat) (x1 : Int32) (w : (XS × Nat) ⊕ XT), E S x0 x1 = some w → vx_Met l yX5_expression (ws_ yX5_expression cX5_expression 3 (Option.some (Jvm.ClassFile.FieldType.object "DripCups$Form"))) (xRm g S (nE + 20)) (xPre g D A [.ref x0, .int x1] S) (xTr g D A w) (xTx g D A w) (g.2.1 - xTop S) (g.2.2.1 - xSl S) A) :
    ∀ (n : Nat) (S : XS) (x2 : Int32) (x4 : Option Nat) (x5 : Int32) (H : Heap) (locs : List Loc) (ls : Array Slot) (cells slots : Nat), kX_X5_not_94 g N E n S x2 x4 x5 = some w → xW g D A S s H → va_S A s.heap H locs → lv_has ls 6 [(2, .int x2), (4, (va_rf x4)), (5, .int x5)] → W p l e (xRm g S0 (nE + 24)) s m args below meth c H locs cells slots (vx_MQ below (xTr g D A w) (xTx g D A w) args s (g.2.1 - xTop S0) (g.2.2.1 - xSl S0) A) (F0 m 94 ls []) := by
  obtain ⟨hx, hb, -, hown, hts, -⟩ := id X
  intro n
  induction n with
  | zero =>
    intro S x2 x4 x5 H locs ls cells slots hm
    cases hm
  | succ n ih =>
    intro S x2 x4 x5 H locs ls cells slots hm hw hS hl
    rw [kX_X5_not_94] at hm
    refine lv_iload hx hb dX5_not_94 (lv_at hl 2 rfl) ?_
    refine lv_iload_n hx hb dX5_not_96 rfl (lv_at hl 0 rfl) ?_
    refine lv_icmp_ge (tgt := 117) hx hb dX5_not_97 (by decide) (fun c1 => ?_) (fun c1 => ?_)
    · replace hm := if_t c1 hm
      refine lv_aloadq hx hb dX5_not_117 (lv_at hl 1 rfl) ?_
      obtain ⟨a2, hqa2, hm9⟩ := ob_s hm
      clear hm
      subst hqa2
      have hm := hm9
      clear hm9
      obtain rfl := Option.some.inj hm
      exact xt_aret X hr (by first | exact Or.inl ⟨_, rfl⟩ | exact Or.inr ⟨_, rfl⟩) hlk hw hS dX5_not_119
    · replace hm := if_f c1 hm
      obtain ⟨S3, hS3, hm⟩ := ob_s hm
      refine xr_new (N := 1) X hw hS xc8 in_X10 tyX10_ok q1112 q1113 q143 (by intro j hj; exact df_X10 j hj) hS3 dX5_not_100 (fun H cells slots hw hS => ?_)
      refine lv_dup hx hb dX5_not_103 rfl ?_
      refine lv_aloadq hx hb dX5_not_104 (lv_at hl 1 rfl) ?_
      obtain ⟨a4, hqa4, hm9⟩ := ob_s hm
      clear hm
      subst hqa4
      have hm := hm9
      clear hm9
      obtain ⟨w5, hw5, hm⟩ := ob_s hm
      refine xr_retv hS (xr_runI X hw (met_X10_init N S3 (xTop S) a4 w5 hw5) (x_ci X (lv := 0) (by omega) (by decide) rfl cx_X10_init (lw_meth q1116) q143 q1114 q1115) rfl hl.1 rfl (Nat.le_of_ble_eq_true rfl) dX5_not_106) (fun H locs cells slots hw hS => ?_)
      refine lv_astore (lv' := [(4, .ref (xTop S)), (2, .int x2), (5, .int x5)]) hx hb dX5_not_109 hl (by decide) rfl (fun ls hl => ?_)
      refine lv_iinc (v := (x5 + 1)) (lv' := [(5, .int (x5 + 1)), (4, .ref (xTop S)), (2, .int x2)]) hx hb dX5_not_111 hl (k := 2) rfl rfl (by decide) rfl (fun ls hl => ?_)
      refine lv_goto (tgt := 94) hx hb dX5_not_114 (by decide) ?_
      exact ih w5 x2 (some (xTop S)) (x5 + 1) H locs ls _ _ hm hw hS (lv_sub hl [2, 1, 0] rfl)
def kX_X5_not_85 (g : XC) (N : Nat) (E : XS → Nat → Int32 → Option ((XS × Nat) ⊕ XT)) (S : XS) (x2 : Int32) (x3 : Nat) : Option ((XS × Nat) ⊕ XT) :=
  (f_cls S 5 x3).bind fun u1 =>
  (kX_X7_plain g N S x3).bind fun w2 =>
  kX_X5_not_94 g N E N w2.1 x2 (some w2.2) 0
theorem wkX_X5_not_85 {p : Program} {l : Launch} {e : Env} {s : State} {m : MethodId} {args : Array Value} {below : List Frame} {meth : Method} {c : Code} {g : XC} {D : va_G} {A : Nat → Prop} {S0 : XS} {w : (XS × Nat) ⊕ XT} (X : xX g D A RX5 S0 p s m args c cX5_not 6) (hr : meth.sig.returnType = (Option.some (Jvm.ClassFile.FieldType.object "DripCups$Form"))) (hlk : meth.locks = false) (hnm : meth.name = yX5_not.name) (hlT : l.stackTraces = false) (hout : ∀ x ∈ c.exceptionTable.toList, False) (hw0 : xW g D A S0 s s.heap) (N : Nat) (nE : Nat) (E : XS → Nat → Int32 → Option ((XS × Nat) ⊕ XT)) (hE : ∀ (S : XS) (x0 : Nat) (x1 : Int32) (w : (XS × Nat) ⊕ XT), E S x0 x1 = some w → vx_Met l yX5_expression (ws_ yX5_expression cX5_expression 3 (Option.some (Jvm.ClassFile.FieldType.object "DripCups$Form"))) (xRm g S (nE + 20)) (xPre g D A [.ref x0, .int x1] S) (xTr g D A w) (xTx g D A w) (g.2.1 - xTop S) (g.2.2.1 - xSl S) A) :
    ∀ (S : XS) (x2 : Int32) (x3 : Nat) (H : Heap) (locs : List Loc) (ls : Array Slot) (cells slots : Nat), kX_X5_not_85 g N E S x2 x3 = some w → xW g D A S s H → va_S A s.heap H locs → lv_has ls 6 [(2, .int x2), (3, .ref x3)] → W p l e (xRm g S0 (nE + 24)) s m args below meth c H locs cells slots (vx_MQ below (xTr g D A w) (xTx g D A w) args s (g.2.1 - xTop S0) (g.2.2.1 - xSl S0) A) (F0 m 85 ls []) := by
  obtain ⟨hx, hb, -, hown, hts, -⟩ := id X
  intro S x2 x3 H locs ls cells slots hm hw hS hl
  unfold kX_X5_not_85 at hm
  refine lv_aload_n hx hb dX5_not_85 rfl (lv_at hl 1 rfl) ?_
  obtain ⟨u1, hu1, hm⟩ := ob_s hm
  obtain ⟨w2, hw2, hm⟩ := ob_s hm
  refine xr_retr hS (xr_runV X hw (met_X7_plain N S x3 w2 hw2) (x_cv X (lv := 3) (by omega) (by decide) cx_X7_plain (lw_V q1108 q1109 q1110 q134 q1111)) xc5 hu1 rfl hl.1 rfl (Nat.le_of_ble_eq_true rfl) dX5_not_86) (fun H locs cells slots hw hS => ?_)
  refine lv_astore (lv' := [(4, .ref w2.2), (2, .int x2), (3, .ref x3)]) hx hb dX5_not_89 hl (by decide) rfl (fun ls hl => ?_)
  refine lv_iconst (v := 0) hx hb dX5_not_91 (by decide) ?_
  refine lv_istore (lv' := [(5, .int 0), (4, .ref w2.2), (2, .int x2), (3, .ref x3)]) hx hb dX5_not_92 hl (by decide) rfl (fun ls hl => ?_)
  exact wkX_X5_not_94 X hr hlk hnm hlT hout hw0 N nE E hE N w2.1 x2 (some w2.2) 0 H locs ls _ _ hm hw hS (lv_sub hl [2, 1, 0] rfl)
def kX_X5_not_68 (g : XC) (N : Nat) (E : XS → Nat → Int32 → Option ((XS × Nat) ⊕ XT)) (S : XS) (x0 : Nat) (x1 : Int32) (x2 : Int32) (x3 : Nat) : Option ((XS × Nat) ⊕ XT) :=
  (f_cls S 4 x0).bind fun u1 =>
  (kX_X5_sign g N S x0).bind fun w2 =>
  (f_cls w2.1 4 x0).bind fun u3 =>
  tbind (kX_X5_sum g N E w2.1 x0 x1) fun r5 =>
  (f_cls r5.1 5 x3).bind fun u6 =>
  (kX_X7_add g N r5.1 x3 w2.2 r5.2).bind fun w7 =>
  kX_X5_not_85 g N E w7 x2 x3
theorem wkX_X5_not_68 {p : Program} {l : Launch} {e : Env} {s : State} {m : MethodId} {args : Array Value} {below : List Frame} {meth : Method} {c : Code} {g : XC} {D : va_G} {A : Nat → Prop} {S0 : XS} {w : (XS × Nat) ⊕ XT} (X : xX g D A RX5 S0 p s m args c cX5_not 6) (hr : meth.sig.returnType = (Option.some (Jvm.ClassFile.FieldType.object "DripCups$Form"))) (hlk : meth.locks = false) (hnm : meth.name = yX5_not.name) (hlT : l.stackTraces = false) (hout : ∀ x ∈ c.exceptionTable.toList, False) (hw0 : xW g D A S0 s s.heap) (N : Nat) (nE : Nat) (E : XS → Nat → Int32 → Option ((XS × Nat) ⊕ XT)) (hE : ∀ (S : XS) (x0 : Nat) (x1 : Int32) (w : (XS × Nat) ⊕ XT), E S x0 x1 = some w → vx_Met l yX5_expression (ws_ yX5_expression cX5_expression 3 (Option.some (Jvm.ClassFile.FieldType.object "DripCups$Form"))) (xRm g S (nE + 20)) (xPre g D A [.ref x0, .int x1] S) (xTr g D A w) (xTx g D A w) (g.2.1 - xTop S) (g.2.2.1 - xSl S) A) :
    ∀ (S : XS) (x0 : Nat) (x1 : Int32) (x2 : Int32) (x3 : Nat) (H : Heap) (locs : List Loc) (ls : Array Slot) (cells slots : Nat), kX_X5_not_68 g N E S x0 x1 x2 x3 = some w → xW g D A S s H → va_S A s.heap H locs → lv_has ls 6 [(0, .ref x0), (1, .int x1), (2, .int x2), (3, .ref x3)] → W p l e (xRm g S0 (nE + 24)) s m args below meth c H locs cells slots (vx_MQ below (xTr g D A w) (xTx g D A w) args s (g.2.1 - xTop S0) (g.2.2.1 - xSl S0) A) (F0 m 68 ls []) := by
  obtain ⟨hx, hb, -, hown, hts, -⟩ := id X
  intro S x0 x1 x2 x3 H locs ls cells slots hm hw hS hl
  unfold kX_X5_not_68 at hm
  refine lv_aload_n hx hb dX5_not_68 rfl (lv_at hl 0 rfl) ?_
  obtain ⟨u1, hu1, hm⟩ := ob_s hm
  obtain ⟨w2, hw2, hm⟩ := ob_s hm
  refine xr_reti hS (xr_runV X hw (met_X5_sign N S x0 w2 hw2) (x_cv X (lv := 5) (by omega) (by decide) cx_X5_sign (lw_V q1040 q1042 qs30 q126 q1043)) xc4 hu1 rfl hl.1 rfl (Nat.le_of_ble_eq_true rfl) dX5_not_69) (fun H locs cells slots hw hS => ?_)
  refine lv_istore (lv' := [(4, .int w2.2), (0, .ref x0), (1, .int x1), (2, .int x2), (3, .ref x3)]) hx hb dX5_not_72 hl (by decide) rfl (fun ls hl => ?_)
  refine lv_aload_n hx hb dX5_not_74 rfl (lv_at hl 4 rfl) ?_
  refine lv_iload hx hb dX5_not_75 (lv_at hl 0 rfl) ?_
  refine lv_aload_n hx hb dX5_not_77 rfl (lv_at hl 1 rfl) ?_
  refine lv_iload_n hx hb dX5_not_78 rfl (lv_at hl 2 rfl) ?_
  obtain ⟨u3, hu3, hm⟩ := ob_s hm
  obtain ⟨w4, hw4, hm⟩ := tb_s hm
  refine xt_retr hS (xt_runV X hw (met_X5_sum hlT N nE E hE w2.1 x0 x1 w4 hw4) (x_cv X (lv := nE + 23) (by omega) (by decide) cx_X5_sum (lw_V q957 q959 qs25 q126 q960)) xc4 hu3 rfl hl.1 rfl (Nat.le_of_ble_eq_true rfl) dX5_not_79) (fun t1 t2 u E9 ce q9 H1 locs1 hu ht => xt_pass X hlk hout (tc_r hu hm) ht (x_fits (lv2 := 0) X hw t1 t2).1 (x_fits (lv2 := 0) X hw t1 t2).2) (fun r5 hr5 H locs cells slots hw hS => ?_)
  replace hm := tc_l hr5 hm
  obtain ⟨u6, hu6, hm⟩ := ob_s hm
  obtain ⟨w7, hw7, hm⟩ := ob_s hm
  refine xr_retv hS (xr_runV X hw (met_X7_add N r5.1 x3 w2.2 r5.2 w7 hw7) (x_cv X (lv := 7) (by omega) (by decide) cx_X7_add (lw_V q1044 q1045 q1046 q134 q1047)) xc5 hu6 rfl hl.1 rfl (Nat.le_of_ble_eq_true rfl) dX5_not_82) (fun H locs cells slots hw hS => ?_)
  exact wkX_X5_not_85 X hr hlk hnm hlT hout hw0 N nE E hE w7 x2 x3 H locs ls _ _ hm hw hS (lv_sub hl [3, 4] rfl)
def kX_X5_not_23 (g : XC) (N : Nat) (E : XS → Nat → Int32 → Option ((XS × Nat) ⊕ XT)) (K2 : XS → Nat → Int32 → Int32 → Option ((XS × Nat) ⊕ XT)) (S : XS) (x0 : Nat) (x1 : Int32) (x2 : Int32) (t0 : Nat) (t1 : Int32) : Option ((XS × Nat) ⊕ XT) :=
  (f_cls S 4 t0).bind fun u1 =>
  tbind (kX_X5_want g N S t0 t1 2) fun r3 =>
  (f_cls r3 4 x0).bind fun u4 =>
  (kX_X5_next g N r3 x0).bind fun w5 =>
  K2 w5 x0 x1 (x2 + 1)
theorem wkX_X5_not_23 {p : Program} {l : Launch} {e : Env} {s : State} {m : MethodId} {args : Array Value} {below : List Frame} {meth : Method} {c : Code} {g : XC} {D : va_G} {A : Nat → Prop} {S0 : XS} {w : (XS × Nat) ⊕ XT} (X : xX g D A RX5 S0 p s m args c cX5_not 6) (hr : meth.sig.returnType = (Option.some (Jvm.ClassFile.FieldType.object "DripCups$Form"))) (hlk : meth.locks = false) (hnm : meth.name = yX5_not.name) (hlT : l.stackTraces = false) (hout : ∀ x ∈ c.exceptionTable.toList, False) (hw0 : xW g D A S0 s s.heap) (N : Nat) (nE : Nat) (E : XS → Nat → Int32 → Option ((XS × Nat) ⊕ XT)) (hE : ∀ (S : XS) (x0 : Nat) (x1 : Int32) (w : (XS × Nat) ⊕ XT), E S x0 x1 = some w → vx_Met l yX5_expression (ws_ yX5_expression cX5_expression 3 (Option.some (Jvm.ClassFile.FieldType.object "DripCups$Form"))) (xRm g S (nE + 20)) (xPre g D A [.ref x0, .int x1] S) (xTr g D A w) (xTx g D A w) (g.2.1 - xTop S) (g.2.2.1 - xSl S) A) (K2 : XS → Nat → Int32 → Int32 → Option ((XS × Nat) ⊕ XT))
    (hK2 : ∀ (S : XS) (x0 : Nat) (x1 : Int32) (x2 : Int32) (H : Heap) (locs : List Loc) (ls : Array Slot) (cells slots : Nat), K2 S x0 x1 x2 = some w → xW g D A S s H → va_S A s.heap H locs → lv_has ls 6 [(0, .ref x0), (1, .int x1), (2, .int x2)] → W p l e (xRm g S0 (nE + 24)) s m args below meth c H locs cells slots (vx_MQ below (xTr g D A w) (xTx g D A w) args s (g.2.1 - xTop S0) (g.2.2.1 - xSl S0) A) (F0 m 2 ls [])) :
    ∀ (S : XS) (x0 : Nat) (x1 : Int32) (x2 : Int32) (t0 : Nat) (t1 : Int32) (H : Heap) (locs : List Loc) (ls : Array Slot) (cells slots : Nat), kX_X5_not_23 g N E K2 S x0 x1 x2 t0 t1 = some w → xW g D A S s H → va_S A s.heap H locs → lv_has ls 6 [(0, .ref x0), (1, .int x1), (2, .int x2)] → W p l e (xRm g S0 (nE + 24)) s m args below meth c H locs cells slots (vx_MQ below (xTr g D A w) (xTx g D A w) args s (g.2.1 - xTop S0) (g.2.2.1 - xSl S0) A) (F0 m 23 ls [.int t1, .ref t0]) := by
  obtain ⟨hx, hb, -, hown, hts, -⟩ := id X
  intro S x0 x1 x2 t0 t1 H locs ls cells slots hm hw hS hl
  unfold kX_X5_not_23 at hm
  refine lv_iconst (v := 2) hx hb dX5_not_23 (by decide) ?_
  obtain ⟨u1, hu1, hm⟩ := ob_s hm
  obtain ⟨w2, hw2, hm⟩ := tb_s hm
  refine xt_retv hS (xt_runV X hw (met_X5_want hlT N S t0 t1 2 w2 hw2) (x_cv X (lv := 4) (by omega) (by decide) cx_X5_want (lw_V q910 q912 qs20 q126 q913)) xc4 hu1 rfl hl.1 rfl (Nat.le_of_ble_eq_true rfl) dX5_not_24) (fun t1 t2 u E9 ce q9 H1 locs1 hu ht => xt_pass X hlk hout (tc_r hu hm) ht (x_fits (lv2 := 0) X hw t1 t2).1 (x_fits (lv2 := 0) X hw t1 t2).2) (fun r3 hr3 H locs cells slots hw hS => ?_)
  replace hm := tc_l hr3 hm
  refine lv_iinc (v := (x2 + 1)) (lv' := [(2, .int (x2 + 1)), (0, .ref x0), (1, .int x1)]) hx hb dX5_not_27 hl (k := 2) rfl rfl (by decide) rfl (fun ls hl => ?_)
  refine lv_aload_n hx hb dX5_not_30 rfl (lv_at hl 1 rfl) ?_
  obtain ⟨u4, hu4, hm⟩ := ob_s hm
  obtain ⟨w5, hw5, hm⟩ := ob_s hm
  refine xr_retv hS (xr_runV X hw (met_X5_next N r3 x0 w5 hw5) (x_cv X (lv := 4) (by omega) (by decide) cx_X5_next (lw_V q788 q790 qs12 q126 q791)) xc4 hu4 rfl hl.1 rfl (Nat.le_of_ble_eq_true rfl) dX5_not_31) (fun H locs cells slots hw hS => ?_)
  refine lv_goto (tgt := 2) hx hb dX5_not_34 (by decide) ?_
  exact hK2 w5 x0 x1 (x2 + 1) H locs ls _ _ hm hw hS (lv_sub hl [1, 2, 0] rfl)
def kX_X5_not_2 (g : XC) (N : Nat) (E : XS → Nat → Int32 → Option ((XS × Nat) ⊕ XT)) : Nat → XS → Nat → Int32 → Int32 → Option ((XS × Nat) ⊕ XT)
  | 0, _, _, _, _ => none
  | n + 1, S, x0, x1, x2 =>
    (f_cls S 4 x0).bind fun u1 =>
    (kX_X5_is g N S x0 (gSk g 9)).bind fun w2 =>
    if w2.2 = 0 then
      (xNew w2.1 2 (.inr (5, [.null, .null]))).bind fun S4 =>
      (f_cls S4 4 x0).bind fun u5 =>
      tbind (kX_X5_sum g N E S4 x0 x1) fun r7 =>
      (kX_X7_init g N r7.1 (xTop w2.1) r7.2).bind fun w8 =>
      (f_cls w8 4 x0).bind fun u9 =>
      (kX_X5_isSign g N w8 x0 60).bind fun w10 =>
      if w10.2 = 0 then
        (f_cls w10.1 4 x0).bind fun u12 =>
        (kX_X5_isSign g N w10.1 x0 61).bind fun w13 =>
        if w13.2 = 0 then
          kX_X5_not_85 g N E w13.1 x2 (xTop w2.1)
        else
          kX_X5_not_68 g N E w13.1 x0 x1 x2 (xTop w2.1)
      else
        kX_X5_not_68 g N E w10.1 x0 x1 x2 (xTop w2.1)
    else
      if (6 : Int32) ≤ x2 then
        kX_X5_not_23 g N E (kX_X5_not_2 g N E n) w2.1 x0 x1 x2 x0 0
      else
        kX_X5_not_23 g N E (kX_X5_not_2 g N E n) w2.1 x0 x1 x2 x0 1
theorem wkX_X5_not_2 {p : Program} {l : Launch} {e : Env} {s : State} {m : MethodId} {args : Array Value} {below : List Frame} {meth : Method} {c : Code} {g : XC} {D : va_G} {A : Nat → Prop} {S0 : XS} {w : (XS × Nat) ⊕ XT} (X : xX g D A RX5 S0 p s m args c cX5_not 6) (hr : meth.sig.returnType = (Option.some (Jvm.ClassFile.FieldType.object "DripCups$Form"))) (hlk : meth.locks = false) (hnm : meth.name = yX5_not.name) (hlT : l.stackTraces = false) (hout : ∀ x ∈ c.exceptionTable.toList, False) (hw0 : xW g D A S0 s s.heap) (N : Nat) (nE : Nat) (E : XS → Nat → Int32 → Option ((XS × Nat) ⊕ XT)) (hE : ∀ (S : XS) (x0 : Nat) (x1 : Int32) (w : (XS × Nat) ⊕ XT), E S x0 x1 = some w → vx_Met l yX5_expression (ws_ yX5_expression cX5_expression 3 (Option.some (Jvm.ClassFile.FieldType.object "DripCups$Form"))) (xRm g S (nE + 20)) (xPre g D A [.ref x0, .int x1] S) (xTr g D A w) (xTx g D A w) (g.2.1 - xTop S) (g.2.2.1 - xSl S) A) :
    ∀ (n : Nat) (S : XS) (x0 : Nat) (x1 : Int32) (x2 : Int32) (H : Heap) (locs : List Loc) (ls : Array Slot) (cells slots : Nat), kX_X5_not_2 g N E n S x0 x1 x2 = some w → xW g D A S s H → va_S A s.heap H locs → lv_has ls 6 [(0, .ref x0), (1, .int x1), (2, .int x2)] → W p l e (xRm g S0 (nE + 24)) s m args below meth c H locs cells slots (vx_MQ below (xTr g D A w) (xTx g D A w) args s (g.2.1 - xTop S0) (g.2.2.1 - xSl S0) A) (F0 m 2 ls []) := by
  obtain ⟨hx, hb, -, hown, hts, -⟩ := id X
  intro n
  induction n with
  | zero =>
    intro S x0 x1 x2 H locs ls cells slots hm
    cases hm
  | succ n ih =>
    intro S x0 x1 x2 H locs ls cells slots hm hw hS hl
    rw [kX_X5_not_2] at hm
    refine lv_aload_n hx hb dX5_not_2 rfl (lv_at hl 0 rfl) ?_
    refine xr_ldcS (i := 9) (q := (179, "not")) X rfl dX5_not_3 ?_
    obtain ⟨u1, hu1, hm⟩ := ob_s hm
    obtain ⟨w2, hw2, hm⟩ := ob_s hm
    refine xr_reti hS (xr_runV X hw (met_X5_is N S x0 (gSk g 9) w2 hw2) (x_cv X (lv := 4) (by omega) (by decide) cx_X5_is (lw_V q885 q887 qs18 q126 q888)) xc4 hu1 rfl hl.1 rfl (Nat.le_of_ble_eq_true rfl) dX5_not_5) (fun H locs cells slots hw hS => ?_)
    refine lv_if_eq (tgt := 37) hx hb dX5_not_8 (by decide) (fun c3 => ?_) (fun c3 => ?_)
    · replace hm := if_t c3 hm
      obtain ⟨S4, hS4, hm⟩ := ob_s hm
      refine xr_new (N := 2) X hw hS xc5 in_X7 tyX7_ok q946 q947 q134 (by intro j hj; exact df_X7 j hj) hS4 dX5_not_37 (fun H cells slots hw hS => ?_)
      refine lv_dup hx hb dX5_not_40 rfl ?_
      refine lv_aload_n hx hb dX5_not_41 rfl (lv_at hl 0 rfl) ?_
      refine lv_iload_n hx hb dX5_not_42 rfl (lv_at hl 1 rfl) ?_
      obtain ⟨u5, hu5, hm⟩ := ob_s hm
      obtain ⟨w6, hw6, hm⟩ := tb_s hm
      refine xt_retr hS (xt_runV X hw (met_X5_sum hlT N nE E hE S4 x0 x1 w6 hw6) (x_cv X (lv := nE + 23) (by omega) (by decide) cx_X5_sum (lw_V q957 q959 qs25 q126 q960)) xc4 hu5 rfl hl.1 rfl (Nat.le_of_ble_eq_true rfl) dX5_not_43) (fun t1 t2 u E9 ce q9 H1 locs1 hu ht => xt_pass X hlk hout (tc_r hu hm) ht (x_fits (lv2 := 0) X hw t1 t2).1 (x_fits (lv2 := 0) X hw t1 t2).2) (fun r7 hr7 H locs cells slots hw hS => ?_)
      replace hm := tc_l hr7 hm
      obtain ⟨w8, hw8, hm⟩ := ob_s hm
      refine xr_retv hS (xr_runI X hw (met_X7_init N r7.1 (xTop w2.1) r7.2 w8 hw8) (x_ci X (lv := 7) (by omega) (by decide) rfl cx_X7_init (lw_meth q999) q134 q997 q998) rfl hl.1 rfl (Nat.le_of_ble_eq_true rfl) dX5_not_46) (fun H locs cells slots hw hS => ?_)
      refine lv_astore_n (lv' := [(3, .ref (xTop w2.1)), (0, .ref x0), (1, .int x1), (2, .int x2)]) hx hb dX5_not_49 rfl hl (by decide) rfl (fun ls hl => ?_)
      refine lv_aload_n hx hb dX5_not_50 rfl (lv_at hl 1 rfl) ?_
      refine lv_bipush (v := 60) hx hb dX5_not_51 (by decide) ?_
      obtain ⟨u9, hu9, hm⟩ := ob_s hm
      obtain ⟨w10, hw10, hm⟩ := ob_s hm
      refine xr_reti hS (xr_runV X hw (met_X5_isSign N w8 x0 60 w10 hw10) (x_cv X (lv := 0) (by omega) (by decide) cx_X5_isSign (lw_V q942 q944 qs22 q126 q945)) xc4 hu9 rfl hl.1 rfl (Nat.le_of_ble_eq_true rfl) dX5_not_53) (fun H locs cells slots hw hS => ?_)
      refine lv_if_ne (tgt := 68) hx hb dX5_not_56 (by decide) (fun c11 => ?_) (fun c11 => ?_)
      · replace hm := if_f c11 hm
        exact wkX_X5_not_68 X hr hlk hnm hlT hout hw0 N nE E hE w10.1 x0 x1 x2 (xTop w2.1) H locs ls _ _ hm hw hS (lv_sub hl [1, 2, 3, 0] rfl)
      · replace hm := if_t c11 hm
        refine lv_aload_n hx hb dX5_not_59 rfl (lv_at hl 1 rfl) ?_
        refine lv_bipush (v := 61) hx hb dX5_not_60 (by decide) ?_
        obtain ⟨u12, hu12, hm⟩ := ob_s hm
        obtain ⟨w13, hw13, hm⟩ := ob_s hm
        refine xr_reti hS (xr_runV X hw (met_X5_isSign N w10.1 x0 61 w13 hw13) (x_cv X (lv := 0) (by omega) (by decide) cx_X5_isSign (lw_V q942 q944 qs22 q126 q945)) xc4 hu12 rfl hl.1 rfl (Nat.le_of_ble_eq_true rfl) dX5_not_62) (fun H locs cells slots hw hS => ?_)
        refine lv_if_eq (tgt := 85) hx hb dX5_not_65 (by decide) (fun c14 => ?_) (fun c14 => ?_)
        · replace hm := if_t c14 hm
          exact wkX_X5_not_85 X hr hlk hnm hlT hout hw0 N nE E hE w13.1 x2 (xTop w2.1) H locs ls _ _ hm hw hS (lv_sub hl [3, 0] rfl)
        · replace hm := if_f c14 hm
          exact wkX_X5_not_68 X hr hlk hnm hlT hout hw0 N nE E hE w13.1 x0 x1 x2 (xTop w2.1) H locs ls _ _ hm hw hS (lv_sub hl [1, 2, 3, 0] rfl)
    · replace hm := if_f c3 hm
      refine lv_aload_n hx hb dX5_not_11 rfl (lv_at hl 0 rfl) ?_
      refine lv_iload_n hx hb dX5_not_12 rfl (lv_at hl 2 rfl) ?_
      refine lv_bipush (v := 6) hx hb dX5_not_13 (by decide) ?_
      refine lv_icmp_ge (tgt := 22) hx hb dX5_not_15 (by decide) (fun c15 => ?_) (fun c15 => ?_)
      · replace hm := if_t c15 hm
        refine lv_iconst (v := 0) hx hb dX5_not_22 (by decide) ?_
        exact wkX_X5_not_23 X hr hlk hnm hlT hout hw0 N nE E hE (kX_X5_not_2 g N E n) ih w2.1 x0 x1 x2 x0 0 H locs ls _ _ hm hw hS (lv_sub hl [0, 1, 2] rfl)
      · replace hm := if_f c15 hm
        refine lv_iconst (v := 1) hx hb dX5_not_18 (by decide) ?_
        refine lv_goto (tgt := 23) hx hb dX5_not_19 (by decide) ?_
        exact wkX_X5_not_23 X hr hlk hnm hlT hout hw0 N nE E hE (kX_X5_not_2 g N E n) ih w2.1 x0 x1 x2 x0 1 H locs ls _ _ hm hw hS (lv_sub hl [0, 1, 2] rfl)
def kX_X5_not (g : XC) (N : Nat) (E : XS → Nat → Int32 → Option ((XS × Nat) ⊕ XT)) (S : XS) (x0 : Nat) (x1 : Int32) : Option ((XS × Nat) ⊕ XT) :=
  kX_X5_not_2 g N E N S x0 x1 0
theorem met_X5_not {l : Launch} {g : XC} {D : va_G} {A : Nat → Prop} (hlT : l.stackTraces = false) (N : Nat) (nE : Nat) (E : XS → Nat → Int32 → Option ((XS × Nat) ⊕ XT)) (hE : ∀ (S : XS) (x0 : Nat) (x1 : Int32) (w : (XS × Nat) ⊕ XT), E S x0 x1 = some w → vx_Met l yX5_expression (ws_ yX5_expression cX5_expression 3 (Option.some (Jvm.ClassFile.FieldType.object "DripCups$Form"))) (xRm g S (nE + 20)) (xPre g D A [.ref x0, .int x1] S) (xTr g D A w) (xTx g D A w) (g.2.1 - xTop S) (g.2.2.1 - xSl S) A) (S : XS) (x0 : Nat) (x1 : Int32) (w : (XS × Nat) ⊕ XT) (hm : kX_X5_not g N E S x0 x1 = some w) : vx_Met l yX5_not (ws_ yX5_not cX5_not 6 (Option.some (Jvm.ClassFile.FieldType.object "DripCups$Form"))) (xRm g S (nE + 24)) (xPre g D A [.ref x0, .int x1] S) (xTr g D A w) (xTx g D A w) (g.2.1 - xTop S) (g.2.2.1 - xSl S) A := by
  refine x_startT (own := RX5) (by decide +kernel) rfl (Nat.le_of_ble_eq_true rfl) (fun p e s m below meth c ls X hr hlk hnm hout hw hl => ?_)
  have hw0 := hw
  obtain ⟨hx, hb, -, hown, hts, -⟩ := id X
  have hl : lv_has ls 6 [(0, .ref x0), (1, .int x1)] := hl
  have hg : ∀ (H : Heap) (locs : List Loc) (cells slots : Nat), xW g D A S s H → va_S A s.heap H locs → W p l e (xRm g S (nE + 24)) s m ([.ref x0, .int x1] : List Value).toArray below meth c H locs cells slots (vx_MQ below (xTr g D A w) (xTx g D A w) ([.ref x0, .int x1] : List Value).toArray s (g.2.1 - xTop S) (g.2.2.1 - xSl S) A) (F0 m 0 ls []) := by
    intro H locs cells slots hw hS
    unfold kX_X5_not at hm
    refine lv_iconst (v := 0) hx hb dX5_not_0 (by decide) ?_
    refine lv_istore_n (lv' := [(2, .int 0), (0, .ref x0), (1, .int x1)]) hx hb dX5_not_1 rfl hl (by decide) rfl (fun ls hl => ?_)
    exact wkX_X5_not_2 X hr hlk hnm hlT hout hw0 N nE E hE N S x0 x1 0 H locs ls _ _ hm hw hS (lv_sub hl [1, 2, 0] rfl)
  exact hg _ _ _ _ hw va_S.rf
/-! and -/
theorem cx_X5_and : yX5_and.cls = RX5 ∧ yX5_and.cls ≠ "java/lang/invoke/MethodHandle" ∧ yX5_and.cls ≠ "java/lang/invoke/VarHandle" ∧ (parseMethodDescriptor yX5_and.desc).map (fun d => d.parameters.length) = some 1 := by decide +kernel
def kX_X5_and_13 (g : XC) (N : Nat) (E : XS → Nat → Int32 → Option ((XS × Nat) ⊕ XT)) : Nat → XS → Nat → Int32 → Nat → Option ((XS × Nat) ⊕ XT)
  | 0, _, _, _, _ => none
  | n + 1, S, x0, x1, x2 =>
    (f_cls S 4 x0).bind fun u1 =>
    (kX_X5_passes g N S x0 (gSk g 10)).bind fun w2 =>
    if w2.2 = 0 then
      (f_cls w2.1 5 x2).bind fun u4 =>
      (kX_X7_plain g N w2.1 x2).bind fun w5 =>
      some (.inl (w5.1, w5.2))
    else
      (f_cls w2.1 4 x0).bind fun u6 =>
      tbind (kX_X5_not g N E w2.1 x0 x1) fun r8 =>
      (f_cls r8.1 5 x2).bind fun u9 =>
      (kX_X7_add g N r8.1 x2 38 r8.2).bind fun w10 =>
      kX_X5_and_13 g N E n w10 x0 x1 x2
theorem wkX_X5_and_13 {p : Program} {l : Launch} {e : Env} {s : State} {m : MethodId} {args : Array Value} {below : List Frame} {meth : Method} {c : Code} {g : XC} {D : va_G} {A : Nat → Prop} {S0 : XS} {w : (XS × Nat) ⊕ XT} (X : xX g D A RX5 S0 p s m args c cX5_and 3) (hr : meth.sig.returnType = (Option.some (Jvm.ClassFile.FieldType.object "DripCups$Form"))) (hlk : meth.locks = false) (hnm : meth.name = yX5_and.name) (hlT : l.stackTraces = false) (hout : ∀ x ∈ c.exceptionTable.toList, False) (hw0 : xW g D A S0 s s.heap) (N : Nat) (nE : Nat) (E : XS → Nat → Int32 → Option ((XS × Nat) ⊕ XT)) (hE : ∀ (S : XS) (x0 : Nat) (x1 : Int32) (w : (XS × Nat) ⊕ XT), E S x0 x1 = some w → vx_Met l yX5_expression (ws_ yX5_expression cX5_expression 3 (Option.some (Jvm.ClassFile.FieldType.object "DripCups$Form"))) (xRm g S (nE + 20)) (xPre g D A [.ref x0, .int x1] S) (xTr g D A w) (xTx g D A w) (g.2.1 - xTop S) (g.2.2.1 - xSl S) A) :
    ∀ (n : Nat) (S : XS) (x0 : Nat) (x1 : Int32) (x2 : Nat) (H : Heap) (locs : List Loc) (ls : Array Slot) (cells slots : Nat), kX_X5_and_13 g N E n S x0 x1 x2 = some w → xW g D A S s H → va_S A s.heap H locs → lv_has ls 3 [(0, .ref x0), (1, .int x1), (2, .ref x2)] → W p l e (xRm g S0 (nE + 25)) s m args below meth c H locs cells slots (vx_MQ below (xTr g D A w) (xTx g D A w) args s (g.2.1 - xTop S0) (g.2.2.1 - xSl S0) A) (F0 m 13 ls []) := by
  obtain ⟨hx, hb, -, hown, hts, -⟩ := id X
  intro n
  induction n with
  | zero =>
    intro S x0 x1 x2 H locs ls cells slots hm
    cases hm
  | succ n ih =>
    intro S x0 x1 x2 H locs ls cells slots hm hw hS hl
    rw [kX_X5_and_13] at hm
    refine lv_aload_n hx hb dX5_and_13 rfl (lv_at hl 0 rfl) ?_
    refine xr_ldcS (i := 10) (q := (189, "and")) X rfl dX5_and_14 ?_
    obtain ⟨u1, hu1, hm⟩ := ob_s hm
    obtain ⟨w2, hw2, hm⟩ := ob_s hm
    refine xr_reti hS (xr_runV X hw (met_X5_passes N S x0 (gSk g 10) w2 hw2) (x_cv X (lv := 5) (by omega) (by decide) cx_X5_passes (lw_V q1123 q1125 qs31 q126 q1126)) xc4 hu1 rfl hl.1 rfl (Nat.le_of_ble_eq_true rfl) dX5_and_16) (fun H locs cells slots hw hS => ?_)
    refine lv_if_eq (tgt := 36) hx hb dX5_and_19 (by decide) (fun c3 => ?_) (fun c3 => ?_)
    · replace hm := if_t c3 hm
      refine lv_aload_n hx hb dX5_and_36 rfl (lv_at hl 2 rfl) ?_
      obtain ⟨u4, hu4, hm⟩ := ob_s hm
      obtain ⟨w5, hw5, hm⟩ := ob_s hm
      refine xr_retr hS (xr_runV X hw (met_X7_plain N w2.1 x2 w5 hw5) (x_cv X (lv := 3) (by omega) (by decide) cx_X7_plain (lw_V q1108 q1109 q1110 q134 q1111)) xc5 hu4 rfl hl.1 rfl (Nat.le_of_ble_eq_true rfl) dX5_and_37) (fun H locs cells slots hw hS => ?_)
      obtain rfl := Option.some.inj hm
      exact xt_aret X hr (by first | exact Or.inl ⟨_, rfl⟩ | exact Or.inr ⟨_, rfl⟩) hlk hw hS dX5_and_40
    · replace hm := if_f c3 hm
      refine lv_aload_n hx hb dX5_and_22 rfl (lv_at hl 2 rfl) ?_
      refine lv_bipush (v := 38) hx hb dX5_and_23 (by decide) ?_
      refine lv_aload_n hx hb dX5_and_25 rfl (lv_at hl 0 rfl) ?_
      refine lv_iload_n hx hb dX5_and_26 rfl (lv_at hl 1 rfl) ?_
      obtain ⟨u6, hu6, hm⟩ := ob_s hm
      obtain ⟨w7, hw7, hm⟩ := tb_s hm
      refine xt_retr hS (xt_runV X hw (met_X5_not hlT N nE E hE w2.1 x0 x1 w7 hw7) (x_cv X (lv := nE + 24) (by omega) (by decide) cx_X5_not (lw_V q952 q954 qs24 q126 q955)) xc4 hu6 rfl hl.1 rfl (Nat.le_of_ble_eq_true rfl) dX5_and_27) (fun t1 t2 u E9 ce q9 H1 locs1 hu ht => xt_pass X hlk hout (tc_r hu hm) ht (x_fits (lv2 := 0) X hw t1 t2).1 (x_fits (lv2 := 0) X hw t1 t2).2) (fun r8 hr8 H locs cells slots hw hS => ?_)
      replace hm := tc_l hr8 hm
      obtain ⟨u9, hu9, hm⟩ := ob_s hm
      obtain ⟨w10, hw10, hm⟩ := ob_s hm
      refine xr_retv hS (xr_runV X hw (met_X7_add N r8.1 x2 38 r8.2 w10 hw10) (x_cv X (lv := 7) (by omega) (by decide) cx_X7_add (lw_V q1044 q1045 q1046 q134 q1047)) xc5 hu9 rfl hl.1 rfl (Nat.le_of_ble_eq_true rfl) dX5_and_30) (fun H locs cells slots hw hS => ?_)
      refine lv_goto (tgt := 13) hx hb dX5_and_33 (by decide) ?_
      exact ih w10 x0 x1 x2 H locs ls _ _ hm hw hS (lv_sub hl [0, 1, 2] rfl)
def kX_X5_and (g : XC) (N : Nat) (E : XS → Nat → Int32 → Option ((XS × Nat) ⊕ XT)) (S : XS) (x0 : Nat) (x1 : Int32) : Option ((XS × Nat) ⊕ XT) :=
  (xNew S 2 (.inr (5, [.null, .null]))).bind fun S1 =>
  (f_cls S1 4 x0).bind fun u2 =>
  tbind (kX_X5_not g N E S1 x0 x1) fun r4 =>
  (kX_X7_init g N r4.1 (xTop S) r4.2).bind fun w5 =>
  kX_X5_and_13 g N E N w5 x0 x1 (xTop S)
theorem met_X5_and {l : Launch} {g : XC} {D : va_G} {A : Nat → Prop} (hlT : l.stackTraces = false) (N : Nat) (nE : Nat) (E : XS → Nat → Int32 → Option ((XS × Nat) ⊕ XT)) (hE : ∀ (S : XS) (x0 : Nat) (x1 : Int32) (w : (XS × Nat) ⊕ XT), E S x0 x1 = some w → vx_Met l yX5_expression (ws_ yX5_expression cX5_expression 3 (Option.some (Jvm.ClassFile.FieldType.object "DripCups$Form"))) (xRm g S (nE + 20)) (xPre g D A [.ref x0, .int x1] S) (xTr g D A w) (xTx g D A w) (g.2.1 - xTop S) (g.2.2.1 - xSl S) A) (S : XS) (x0 : Nat) (x1 : Int32) (w : (XS × Nat) ⊕ XT) (hm : kX_X5_and g N E S x0 x1 = some w) : vx_Met l yX5_and (ws_ yX5_and cX5_and 3 (Option.some (Jvm.ClassFile.FieldType.object "DripCups$Form"))) (xRm g S (nE + 25)) (xPre g D A [.ref x0, .int x1] S) (xTr g D A w) (xTx g D A w) (g.2.1 - xTop S) (g.2.2.1 - xSl S) A := by
  refine x_startT (own := RX5) (by decide +kernel) rfl (Nat.le_of_ble_eq_true rfl) (fun p e s m below meth c ls X hr hlk hnm hout hw hl => ?_)
  have hw0 := hw
  obtain ⟨hx, hb, -, hown, hts, -⟩ := id X
  have hl : lv_has ls 3 [(0, .ref x0), (1, .int x1)] := hl
  have hg : ∀ (H : Heap) (locs : List Loc) (cells slots : Nat), xW g D A S s H → va_S A s.heap H locs → W p l e (xRm g S (nE + 25)) s m ([.ref x0, .int x1] : List Value).toArray below meth c H locs cells slots (vx_MQ below (xTr g D A w) (xTx g D A w) ([.ref x0, .int x1] : List Value).toArray s (g.2.1 - xTop S) (g.2.2.1 - xSl S) A) (F0 m 0 ls []) := by
    intro H locs cells slots hw hS
    unfold kX_X5_and at hm
    obtain ⟨S1, hS1, hm⟩ := ob_s hm
    refine xr_new (N := 2) X hw hS xc5 in_X7 tyX7_ok q946 q947 q134 (by intro j hj; exact df_X7 j hj) hS1 dX5_and_0 (fun H cells slots hw hS => ?_)
    refine lv_dup hx hb dX5_and_3 rfl ?_
    refine lv_aload_n hx hb dX5_and_4 rfl (lv_at hl 0 rfl) ?_
    refine lv_iload_n hx hb dX5_and_5 rfl (lv_at hl 1 rfl) ?_
    obtain ⟨u2, hu2, hm⟩ := ob_s hm
    obtain ⟨w3, hw3, hm⟩ := tb_s hm
    refine xt_retr hS (xt_runV X hw (met_X5_not hlT N nE E hE S1 x0 x1 w3 hw3) (x_cv X (lv := nE + 24) (by omega) (by decide) cx_X5_not (lw_V q952 q954 qs24 q126 q955)) xc4 hu2 rfl hl.1 rfl (Nat.le_of_ble_eq_true rfl) dX5_and_6) (fun t1 t2 u E9 ce q9 H1 locs1 hu ht => xt_pass X hlk hout (tc_r hu hm) ht (x_fits (lv2 := 0) X hw t1 t2).1 (x_fits (lv2 := 0) X hw t1 t2).2) (fun r4 hr4 H locs cells slots hw hS => ?_)
    replace hm := tc_l hr4 hm
    obtain ⟨w5, hw5, hm⟩ := ob_s hm
    refine xr_retv hS (xr_runI X hw (met_X7_init N r4.1 (xTop S) r4.2 w5 hw5) (x_ci X (lv := 7) (by omega) (by decide) rfl cx_X7_init (lw_meth q999) q134 q997 q998) rfl hl.1 rfl (Nat.le_of_ble_eq_true rfl) dX5_and_9) (fun H locs cells slots hw hS => ?_)
    refine lv_astore_n (lv' := [(2, .ref (xTop S)), (0, .ref x0), (1, .int x1)]) hx hb dX5_and_12 rfl hl (by decide) rfl (fun ls hl => ?_)
    exact wkX_X5_and_13 X hr hlk hnm hlT hout hw0 N nE E hE N w5 x0 x1 (xTop S) H locs ls _ _ hm hw hS (lv_sub hl [1, 2, 0] rfl)
  exact hg _ _ _ _ hw va_S.rf
/-! expression -/
def kX_X5_expression_64 (g : XC) (N : Nat) (E : XS → Nat → Int32 → Option ((XS × Nat) ⊕ XT)) : Nat → XS → Nat → Int32 → Nat → Option ((XS × Nat) ⊕ XT)
  | 0, _, _, _, _ => none
  | n + 1, S, x0, x1, x2 =>
    (f_cls S 4 x0).bind fun u1 =>
    (kX_X5_passes g N S x0 (gSk g 11)).bind fun w2 =>
    if w2.2 = 0 then
      (f_cls w2.1 5 x2).bind fun u4 =>
      (kX_X7_plain g N w2.1 x2).bind fun w5 =>
      some (.inl (w5.1, w5.2))
    else
      (f_cls w2.1 4 x0).bind fun u6 =>
      tbind (kX_X5_and g N E w2.1 x0 x1) fun r8 =>
      (f_cls r8.1 5 x2).bind fun u9 =>
      (kX_X7_add g N r8.1 x2 124 r8.2).bind fun w10 =>
      kX_X5_expression_64 g N E n w10 x0 x1 x2
theorem wkX_X5_expression_64 {p : Program} {l : Launch} {e : Env} {s : State} {m : MethodId} {args : Array Value} {below : List Frame} {meth : Method} {c : Code} {g : XC} {D : va_G} {A : Nat → Prop} {S0 : XS} {w : (XS × Nat) ⊕ XT} (X : xX g D A RX5 S0 p s m args c cX5_expression 3) (hr : meth.sig.returnType = (Option.some (Jvm.ClassFile.FieldType.object "DripCups$Form"))) (hlk : meth.locks = false) (hnm : meth.name = yX5_expression.name) (hlT : l.stackTraces = false) (hout : ∀ x ∈ c.exceptionTable.toList, False) (hw0 : xW g D A S0 s s.heap) (N : Nat) (nE : Nat) (E : XS → Nat → Int32 → Option ((XS × Nat) ⊕ XT)) (hE : ∀ (S : XS) (x0 : Nat) (x1 : Int32) (w : (XS × Nat) ⊕ XT), E S x0 x1 = some w → vx_Met l yX5_expression (ws_ yX5_expression cX5_expression 3 (Option.some (Jvm.ClassFile.FieldType.object "DripCups$Form"))) (xRm g S (nE + 20)) (xPre g D A [.ref x0, .int x1] S) (xTr g D A w) (xTx g D A w) (g.2.1 - xTop S) (g.2.2.1 - xSl S) A) :
    ∀ (n : Nat) (S : XS) (x0 : Nat) (x1 : Int32) (x2 : Nat) (H : Heap) (locs : List Loc) (ls : Array Slot) (cells slots : Nat), kX_X5_expression_64 g N E n S x0 x1 x2 = some w → xW g D A S s H → va_S A s.heap H locs → lv_has ls 3 [(0, .ref x0), (1, .int x1), (2, .ref x2)] → W p l e (xRm g S0 (nE + 26)) s m args below meth c H locs cells slots (vx_MQ below (xTr g D A w) (xTx g D A w) args s (g.2.1 - xTop S0) (g.2.2.1 - xSl S0) A) (F0 m 64 ls []) := by
  obtain ⟨hx, hb, -, hown, hts, -⟩ := id X
  intro n
  induction n with
  | zero =>
    intro S x0 x1 x2 H locs ls cells slots hm
    cases hm
  | succ n ih =>
    intro S x0 x1 x2 H locs ls cells slots hm hw hS hl
    rw [kX_X5_expression_64] at hm
    refine lv_aload_n hx hb dX5_expression_64 rfl (lv_at hl 0 rfl) ?_
    refine xr_ldcS (i := 11) (q := (196, "or")) X rfl dX5_expression_65 ?_
    obtain ⟨u1, hu1, hm⟩ := ob_s hm
    obtain ⟨w2, hw2, hm⟩ := ob_s hm
    refine xr_reti hS (xr_runV X hw (met_X5_passes N S x0 (gSk g 11) w2 hw2) (x_cv X (lv := 5) (by omega) (by decide) cx_X5_passes (lw_V q1123 q1125 qs31 q126 q1126)) xc4 hu1 rfl hl.1 rfl (Nat.le_of_ble_eq_true rfl) dX5_expression_67) (fun H locs cells slots hw hS => ?_)
    refine lv_if_eq (tgt := 87) hx hb dX5_expression_70 (by decide) (fun c3 => ?_) (fun c3 => ?_)
    · replace hm := if_t c3 hm
      refine lv_aload_n hx hb dX5_expression_87 rfl (lv_at hl 2 rfl) ?_
      obtain ⟨u4, hu4, hm⟩ := ob_s hm
      obtain ⟨w5, hw5, hm⟩ := ob_s hm
      refine xr_retr hS (xr_runV X hw (met_X7_plain N w2.1 x2 w5 hw5) (x_cv X (lv := 3) (by omega) (by decide) cx_X7_plain (lw_V q1108 q1109 q1110 q134 q1111)) xc5 hu4 rfl hl.1 rfl (Nat.le_of_ble_eq_true rfl) dX5_expression_88) (fun H locs cells slots hw hS => ?_)
      obtain rfl := Option.some.inj hm
      exact xt_aret X hr (by first | exact Or.inl ⟨_, rfl⟩ | exact Or.inr ⟨_, rfl⟩) hlk hw hS dX5_expression_91
    · replace hm := if_f c3 hm
      refine lv_aload_n hx hb dX5_expression_73 rfl (lv_at hl 2 rfl) ?_
      refine lv_bipush (v := 124) hx hb dX5_expression_74 (by decide) ?_
      refine lv_aload_n hx hb dX5_expression_76 rfl (lv_at hl 0 rfl) ?_
      refine lv_iload_n hx hb dX5_expression_77 rfl (lv_at hl 1 rfl) ?_
      obtain ⟨u6, hu6, hm⟩ := ob_s hm
      obtain ⟨w7, hw7, hm⟩ := tb_s hm
      refine xt_retr hS (xt_runV X hw (met_X5_and hlT N nE E hE w2.1 x0 x1 w7 hw7) (x_cv X (lv := nE + 25) (by omega) (by decide) cx_X5_and (lw_V q948 q950 qs23 q126 q951)) xc4 hu6 rfl hl.1 rfl (Nat.le_of_ble_eq_true rfl) dX5_expression_78) (fun t1 t2 u E9 ce q9 H1 locs1 hu ht => xt_pass X hlk hout (tc_r hu hm) ht (x_fits (lv2 := 0) X hw t1 t2).1 (x_fits (lv2 := 0) X hw t1 t2).2) (fun r8 hr8 H locs cells slots hw hS => ?_)
      replace hm := tc_l hr8 hm
      obtain ⟨u9, hu9, hm⟩ := ob_s hm
      obtain ⟨w10, hw10, hm⟩ := ob_s hm
      refine xr_retv hS (xr_runV X hw (met_X7_add N r8.1 x2 124 r8.2 w10 hw10) (x_cv X (lv := 7) (by omega) (by decide) cx_X7_add (lw_V q1044 q1045 q1046 q134 q1047)) xc5 hu9 rfl hl.1 rfl (Nat.le_of_ble_eq_true rfl) dX5_expression_81) (fun H locs cells slots hw hS => ?_)
      refine lv_goto (tgt := 64) hx hb dX5_expression_84 (by decide) ?_
      exact ih w10 x0 x1 x2 H locs ls _ _ hm hw hS (lv_sub hl [0, 1, 2] rfl)
def kX_X5_expression_47 (g : XC) (N : Nat) (E : XS → Nat → Int32 → Option ((XS × Nat) ⊕ XT)) (S : XS) (x0 : Nat) (x1 : Int32) (t0 : Nat) (t1 : Int32) : Option ((XS × Nat) ⊕ XT) :=
  (f_cls S 4 t0).bind fun u1 =>
  tbind (kX_X5_want g N S t0 t1 2) fun r3 =>
  (xNew r3 2 (.inr (5, [.null, .null]))).bind fun S4 =>
  (f_cls S4 4 x0).bind fun u5 =>
  tbind (kX_X5_and g N E S4 x0 x1) fun r7 =>
  (kX_X7_init g N r7.1 (xTop r3) r7.2).bind fun w8 =>
  kX_X5_expression_64 g N E N w8 x0 x1 (xTop r3)
theorem wkX_X5_expression_47 {p : Program} {l : Launch} {e : Env} {s : State} {m : MethodId} {args : Array Value} {below : List Frame} {meth : Method} {c : Code} {g : XC} {D : va_G} {A : Nat → Prop} {S0 : XS} {w : (XS × Nat) ⊕ XT} (X : xX g D A RX5 S0 p s m args c cX5_expression 3) (hr : meth.sig.returnType = (Option.some (Jvm.ClassFile.FieldType.object "DripCups$Form"))) (hlk : meth.locks = false) (hnm : meth.name = yX5_expression.name) (hlT : l.stackTraces = false) (hout : ∀ x ∈ c.exceptionTable.toList, False) (hw0 : xW g D A S0 s s.heap) (N : Nat) (nE : Nat) (E : XS → Nat → Int32 → Option ((XS × Nat) ⊕ XT)) (hE : ∀ (S : XS) (x0 : Nat) (x1 : Int32) (w : (XS × Nat) ⊕ XT), E S x0 x1 = some w → vx_Met l yX5_expression (ws_ yX5_expression cX5_expression 3 (Option.some (Jvm.ClassFile.FieldType.object "DripCups$Form"))) (xRm g S (nE + 20)) (xPre g D A [.ref x0, .int x1] S) (xTr g D A w) (xTx g D A w) (g.2.1 - xTop S) (g.2.2.1 - xSl S) A) :
    ∀ (S : XS) (x0 : Nat) (x1 : Int32) (t0 : Nat) (t1 : Int32) (H : Heap) (locs : List Loc) (ls : Array Slot) (cells slots : Nat), kX_X5_expression_47 g N E S x0 x1 t0 t1 = some w → xW g D A S s H → va_S A s.heap H locs → lv_has ls 3 [(0, .ref x0), (1, .int x1)] → W p l e (xRm g S0 (nE + 26)) s m args below meth c H locs cells slots (vx_MQ below (xTr g D A w) (xTx g D A w) args s (g.2.1 - xTop S0) (g.2.2.1 - xSl S0) A) (F0 m 47 ls [.int t1, .ref t0]) := by
  obtain ⟨hx, hb, -, hown, hts, -⟩ := id X
  intro S x0 x1 t0 t1 H locs ls cells slots hm hw hS hl
  unfold kX_X5_expression_47 at hm
  refine lv_iconst (v := 2) hx hb dX5_expression_47 (by decide) ?_
  obtain ⟨u1, hu1, hm⟩ := ob_s hm
  obtain ⟨w2, hw2, hm⟩ := tb_s hm
  refine xt_retv hS (xt_runV X hw (met_X5_want hlT N S t0 t1 2 w2 hw2) (x_cv X (lv := 4) (by omega) (by decide) cx_X5_want (lw_V q910 q912 qs20 q126 q913)) xc4 hu1 rfl hl.1 rfl (Nat.le_of_ble_eq_true rfl) dX5_expression_48) (fun t1 t2 u E9 ce q9 H1 locs1 hu ht => xt_pass X hlk hout (tc_r hu hm) ht (x_fits (lv2 := 0) X hw t1 t2).1 (x_fits (lv2 := 0) X hw t1 t2).2) (fun r3 hr3 H locs cells slots hw hS => ?_)
  replace hm := tc_l hr3 hm
  obtain ⟨S4, hS4, hm⟩ := ob_s hm
  refine xr_new (N := 2) X hw hS xc5 in_X7 tyX7_ok q946 q947 q134 (by intro j hj; exact df_X7 j hj) hS4 dX5_expression_51 (fun H cells slots hw hS => ?_)
  refine lv_dup hx hb dX5_expression_54 rfl ?_
  refine lv_aload_n hx hb dX5_expression_55 rfl (lv_at hl 0 rfl) ?_
  refine lv_iload_n hx hb dX5_expression_56 rfl (lv_at hl 1 rfl) ?_
  obtain ⟨u5, hu5, hm⟩ := ob_s hm
  obtain ⟨w6, hw6, hm⟩ := tb_s hm
  refine xt_retr hS (xt_runV X hw (met_X5_and hlT N nE E hE S4 x0 x1 w6 hw6) (x_cv X (lv := nE + 25) (by omega) (by decide) cx_X5_and (lw_V q948 q950 qs23 q126 q951)) xc4 hu5 rfl hl.1 rfl (Nat.le_of_ble_eq_true rfl) dX5_expression_57) (fun t1 t2 u E9 ce q9 H1 locs1 hu ht => xt_pass X hlk hout (tc_r hu hm) ht (x_fits (lv2 := 0) X hw t1 t2).1 (x_fits (lv2 := 0) X hw t1 t2).2) (fun r7 hr7 H locs cells slots hw hS => ?_)
  replace hm := tc_l hr7 hm
  obtain ⟨w8, hw8, hm⟩ := ob_s hm
  refine xr_retv hS (xr_runI X hw (met_X7_init N r7.1 (xTop r3) r7.2 w8 hw8) (x_ci X (lv := 7) (by omega) (by decide) rfl cx_X7_init (lw_meth q999) q134 q997 q998) rfl hl.1 rfl (Nat.le_of_ble_eq_true rfl) dX5_expression_60) (fun H locs cells slots hw hS => ?_)
  refine lv_astore_n (lv' := [(2, .ref (xTop r3)), (0, .ref x0), (1, .int x1)]) hx hb dX5_expression_63 rfl hl (by decide) rfl (fun ls hl => ?_)
  exact wkX_X5_expression_64 X hr hlk hnm hlT hout hw0 N nE E hE N w8 x0 x1 (xTop r3) H locs ls _ _ hm hw hS (lv_sub hl [1, 2, 0] rfl)
def kX_X5_expression_31 (g : XC) (N : Nat) (E : XS → Nat → Int32 → Option ((XS × Nat) ⊕ XT)) (S : XS) (x0 : Nat) (x1 : Int32) (t0 : Nat) (t1 : Int32) : Option ((XS × Nat) ⊕ XT) :=
  (f_cls S 4 t0).bind fun u1 =>
  tbind (kX_X5_want g N S t0 t1 1) fun r3 =>
  if (6 : Int32) ≤ x1 then
    kX_X5_expression_47 g N E r3 x0 x1 x0 0
  else
    kX_X5_expression_47 g N E r3 x0 x1 x0 1
theorem wkX_X5_expression_31 {p : Program} {l : Launch} {e : Env} {s : State} {m : MethodId} {args : Array Value} {below : List Frame} {meth : Method} {c : Code} {g : XC} {D : va_G} {A : Nat → Prop} {S0 : XS} {w : (XS × Nat) ⊕ XT} (X : xX g D A RX5 S0 p s m args c cX5_expression 3) (hr : meth.sig.returnType = (Option.some (Jvm.ClassFile.FieldType.object "DripCups$Form"))) (hlk : meth.locks = false) (hnm : meth.name = yX5_expression.name) (hlT : l.stackTraces = false) (hout : ∀ x ∈ c.exceptionTable.toList, False) (hw0 : xW g D A S0 s s.heap) (N : Nat) (nE : Nat) (E : XS → Nat → Int32 → Option ((XS × Nat) ⊕ XT)) (hE : ∀ (S : XS) (x0 : Nat) (x1 : Int32) (w : (XS × Nat) ⊕ XT), E S x0 x1 = some w → vx_Met l yX5_expression (ws_ yX5_expression cX5_expression 3 (Option.some (Jvm.ClassFile.FieldType.object "DripCups$Form"))) (xRm g S (nE + 20)) (xPre g D A [.ref x0, .int x1] S) (xTr g D A w) (xTx g D A w) (g.2.1 - xTop S) (g.2.2.1 - xSl S) A) :
    ∀ (S : XS) (x0 : Nat) (x1 : Int32) (t0 : Nat) (t1 : Int32) (H : Heap) (locs : List Loc) (ls : Array Slot) (cells slots : Nat), kX_X5_expression_31 g N E S x0 x1 t0 t1 = some w → xW g D A S s H → va_S A s.heap H locs → lv_has ls 3 [(0, .ref x0), (1, .int x1)] → W p l e (xRm g S0 (nE + 26)) s m args below meth c H locs cells slots (vx_MQ below (xTr g D A w) (xTx g D A w) args s (g.2.1 - xTop S0) (g.2.2.1 - xSl S0) A) (F0 m 31 ls [.int t1, .ref t0]) := by
  obtain ⟨hx, hb, -, hown, hts, -⟩ := id X
  intro S x0 x1 t0 t1 H locs ls cells slots hm hw hS hl
  unfold kX_X5_expression_31 at hm
  refine lv_iconst (v := 1) hx hb dX5_expression_31 (by decide) ?_
  obtain ⟨u1, hu1, hm⟩ := ob_s hm
  obtain ⟨w2, hw2, hm⟩ := tb_s hm
  refine xt_retv hS (xt_runV X hw (met_X5_want hlT N S t0 t1 1 w2 hw2) (x_cv X (lv := 4) (by omega) (by decide) cx_X5_want (lw_V q910 q912 qs20 q126 q913)) xc4 hu1 rfl hl.1 rfl (Nat.le_of_ble_eq_true rfl) dX5_expression_32) (fun t1 t2 u E9 ce q9 H1 locs1 hu ht => xt_pass X hlk hout (tc_r hu hm) ht (x_fits (lv2 := 0) X hw t1 t2).1 (x_fits (lv2 := 0) X hw t1 t2).2) (fun r3 hr3 H locs cells slots hw hS => ?_)
  replace hm := tc_l hr3 hm
  refine lv_aload_n hx hb dX5_expression_35 rfl (lv_at hl 0 rfl) ?_
  refine lv_iload_n hx hb dX5_expression_36 rfl (lv_at hl 1 rfl) ?_
  refine lv_bipush (v := 6) hx hb dX5_expression_37 (by decide) ?_
  refine lv_icmp_ge (tgt := 46) hx hb dX5_expression_39 (by decide) (fun c4 => ?_) (fun c4 => ?_)
  · replace hm := if_t c4 hm
    refine lv_iconst (v := 0) hx hb dX5_expression_46 (by decide) ?_
    exact wkX_X5_expression_47 X hr hlk hnm hlT hout hw0 N nE E hE r3 x0 x1 x0 0 H locs ls _ _ hm hw hS (lv_sub hl [0, 1] rfl)
  · replace hm := if_f c4 hm
    refine lv_iconst (v := 1) hx hb dX5_expression_42 (by decide) ?_
    refine lv_goto (tgt := 47) hx hb dX5_expression_43 (by decide) ?_
    exact wkX_X5_expression_47 X hr hlk hnm hlT hout hw0 N nE E hE r3 x0 x1 x0 1 H locs ls _ _ hm hw hS (lv_sub hl [0, 1] rfl)
def kX_X5_expression (g : XC) (N : Nat) (E : XS → Nat → Int32 → Option ((XS × Nat) ⊕ XT)) (S : XS) (x0 : Nat) (x1 : Int32) : Option ((XS × Nat) ⊕ XT) :=
  (f_int S 4 x0 6).bind fun v1 =>
  if v1 = 2 then
    kX_X5_expression_31 g N E S x0 x1 x0 1
  else
    (f_int S 4 x0 6).bind fun v3 =>
    if v3 = 1 then
      kX_X5_expression_31 g N E S x0 x1 x0 1
    else
      (f_cls S 4 x0).bind fun u5 =>
      (kX_X5_isSign g N S x0 40).bind fun w6 =>
      if w6.2 = 0 then
        kX_X5_expression_31 g N E w6.1 x0 x1 x0 0
      else
        kX_X5_expression_31 g N E w6.1 x0 x1 x0 1
theorem met_X5_expression {l : Launch} {g : XC} {D : va_G} {A : Nat → Prop} (hlT : l.stackTraces = false) (N : Nat) (nE : Nat) (E : XS → Nat → Int32 → Option ((XS × Nat) ⊕ XT)) (hE : ∀ (S : XS) (x0 : Nat) (x1 : Int32) (w : (XS × Nat) ⊕ XT), E S x0 x1 = some w → vx_Met l yX5_expression (ws_ yX5_expression cX5_expression 3 (Option.some (Jvm.ClassFile.FieldType.object "DripCups$Form"))) (xRm g S (nE + 20)) (xPre g D A [.ref x0, .int x1] S) (xTr g D A w) (xTx g D A w) (g.2.1 - xTop S) (g.2.2.1 - xSl S) A) (S : XS) (x0 : Nat) (x1 : Int32) (w : (XS × Nat) ⊕ XT) (hm : kX_X5_expression g N E S x0 x1 = some w) : vx_Met l yX5_expression (ws_ yX5_expression cX5_expression 3 (Option.some (Jvm.ClassFile.FieldType.object "DripCups$Form"))) (xRm g S (nE + 26)) (xPre g D A [.ref x0, .int x1] S) (xTr g D A w) (xTx g D A w) (g.2.1 - xTop S) (g.2.2.1 - xSl S) A := by
  refine x_startT (own := RX5) (by decide +kernel) rfl (Nat.le_of_ble_eq_true rfl) (fun p e s m below meth c ls X hr hlk hnm hout hw hl => ?_)
  have hw0 := hw
  obtain ⟨hx, hb, -, hown, hts, -⟩ := id X
  have hl : lv_has ls 3 [(0, .ref x0), (1, .int x1)] := hl
  have hg : ∀ (H : Heap) (locs : List Loc) (cells slots : Nat), xW g D A S s H → va_S A s.heap H locs → W p l e (xRm g S (nE + 26)) s m ([.ref x0, .int x1] : List Value).toArray below meth c H locs cells slots (vx_MQ below (xTr g D A w) (xTx g D A w) ([.ref x0, .int x1] : List Value).toArray s (g.2.1 - xTop S) (g.2.2.1 - xSl S) A) (F0 m 0 ls []) := by
    intro H locs cells slots hw hS
    unfold kX_X5_expression at hm
    refine lv_aload_n hx hb dX5_expression_0 rfl (lv_at hl 0 rfl) ?_
    refine lv_aload_n hx hb dX5_expression_1 rfl (lv_at hl 0 rfl) ?_
    obtain ⟨v1, hv1, hm⟩ := ob_s hm
    refine xr_val X hw xc4 in_X5 6 (by decide) q749 (f_int_s hv1) dX5_expression_2 ?_
    refine lv_iconst (v := 2) hx hb dX5_expression_5 (by decide) ?_
    refine lv_icmp_eq (tgt := 26) hx hb dX5_expression_6 (by decide) (fun c2 => ?_) (fun c2 => ?_)
    · replace hm := if_t c2 hm
      refine lv_iconst (v := 1) hx hb dX5_expression_26 (by decide) ?_
      refine lv_goto (tgt := 31) hx hb dX5_expression_27 (by decide) ?_
      exact wkX_X5_expression_31 X hr hlk hnm hlT hout hw0 N nE E hE S x0 x1 x0 1 H locs ls _ _ hm hw hS (lv_sub hl [0, 1] rfl)
    · replace hm := if_f c2 hm
      refine lv_aload_n hx hb dX5_expression_9 rfl (lv_at hl 0 rfl) ?_
      obtain ⟨v3, hv3, hm⟩ := ob_s hm
      refine xr_val X hw xc4 in_X5 6 (by decide) q749 (f_int_s hv3) dX5_expression_10 ?_
      refine lv_iconst (v := 1) hx hb dX5_expression_13 (by decide) ?_
      refine lv_icmp_eq (tgt := 26) hx hb dX5_expression_14 (by decide) (fun c4 => ?_) (fun c4 => ?_)
      · replace hm := if_t c4 hm
        refine lv_iconst (v := 1) hx hb dX5_expression_26 (by decide) ?_
        refine lv_goto (tgt := 31) hx hb dX5_expression_27 (by decide) ?_
        exact wkX_X5_expression_31 X hr hlk hnm hlT hout hw0 N nE E hE S x0 x1 x0 1 H locs ls _ _ hm hw hS (lv_sub hl [0, 1] rfl)
      · replace hm := if_f c4 hm
        refine lv_aload_n hx hb dX5_expression_17 rfl (lv_at hl 0 rfl) ?_
        refine lv_bipush (v := 40) hx hb dX5_expression_18 (by decide) ?_
        obtain ⟨u5, hu5, hm⟩ := ob_s hm
        obtain ⟨w6, hw6, hm⟩ := ob_s hm
        refine xr_reti hS (xr_runV X hw (met_X5_isSign N S x0 40 w6 hw6) (x_cv X (lv := 0) (by omega) (by decide) cx_X5_isSign (lw_V q942 q944 qs22 q126 q945)) xc4 hu5 rfl hl.1 rfl (Nat.le_of_ble_eq_true rfl) dX5_expression_20) (fun H locs cells slots hw hS => ?_)
        refine lv_if_eq (tgt := 30) hx hb dX5_expression_23 (by decide) (fun c7 => ?_) (fun c7 => ?_)
        · replace hm := if_t c7 hm
          refine lv_iconst (v := 0) hx hb dX5_expression_30 (by decide) ?_
          exact wkX_X5_expression_31 X hr hlk hnm hlT hout hw0 N nE E hE w6.1 x0 x1 x0 0 H locs ls _ _ hm hw hS (lv_sub hl [0, 1] rfl)
        · replace hm := if_f c7 hm
          refine lv_iconst (v := 1) hx hb dX5_expression_26 (by decide) ?_
          refine lv_goto (tgt := 31) hx hb dX5_expression_27 (by decide) ?_
          exact wkX_X5_expression_31 X hr hlk hnm hlT hout hw0 N nE E hE w6.1 x0 x1 x0 1 H locs ls _ _ hm hw hS (lv_sub hl [0, 1] rfl)
  exact hg _ _ _ _ hw va_S.rf
/-- expressions by their depth -/
def kR_X5_expression (g : XC) (N : Nat) : Nat → XS → Nat → Int32 → Option ((XS × Nat) ⊕ XT)
  | 0, _, _, _ => none
  | n + 1, S, x0, x1 => kX_X5_expression g N (kR_X5_expression g N n) S x0 x1
theorem metR_X5_expression {l : Launch} {g : XC} {D : va_G} {A : Nat → Prop} (hlT : l.stackTraces = false) (N : Nat) : ∀ n : Nat, ∀ (S : XS) (x0 : Nat) (x1 : Int32) (w : (XS × Nat) ⊕ XT), kR_X5_expression g N n S x0 x1 = some w → vx_Met l yX5_expression (ws_ yX5_expression cX5_expression 3 (Option.some (Jvm.ClassFile.FieldType.object "DripCups$Form"))) (xRm g S (6 * n + 20)) (xPre g D A [.ref x0, .int x1] S) (xTr g D A w) (xTx g D A w) (g.2.1 - xTop S) (g.2.2.1 - xSl S) A := by
  intro n
  induction n with
  | zero => intro S x0 x1 w h; cases h
  | succ n ih =>
    intro S x0 x1 w h
    have h2 := met_X5_expression hlT N (6 * n) _ ih S x0 x1 w h
    have e : 6 * (n + 1) + 20 = 6 * n + 26 := by omega
    rw [e]
    exact h2
def kD_X5_expression (g : XC) (N : Nat) (S : XS) (x0 : Nat) (x1 : Int32) : Option ((XS × Nat) ⊕ XT) := kR_X5_expression g N 8 S x0 x1
theorem metD_X5_expression {l : Launch} {g : XC} {D : va_G} {A : Nat → Prop} (hlT : l.stackTraces = false) (N : Nat) : ∀ (S : XS) (x0 : Nat) (x1 : Int32) (w : (XS × Nat) ⊕ XT), kD_X5_expression g N S x0 x1 = some w → vx_Met l yX5_expression (ws_ yX5_expression cX5_expression 3 (Option.some (Jvm.ClassFile.FieldType.object "DripCups$Form"))) (xRm g S (68)) (xPre g D A [.ref x0, .int x1] S) (xTr g D A w) (xTx g D A w) (g.2.1 - xTop S) (g.2.2.1 - xSl S) A := metR_X5_expression hlT N 8
/-! only -/
def kX_X5_only_17 (g : XC) (N : Nat) (S : XS) (x0 : Nat) (x1 : Int32) (t0 : Nat) (t1 : Int32) : Option ((XS) ⊕ XT) :=
  (f_cls S 4 t0).bind fun u1 =>
  tbind (kX_X5_want g N S t0 t1 5) fun r3 =>
  (f_int r3 4 x0 10).bind fun v4 =>
  (f_putI r3 4 x0 10 (v4 ||| ((1 : Int32) <<< (x1 &&& 31)))).bind fun S5 =>
  (f_cls S5 4 x0).bind fun u6 =>
  (kX_X5_next g N S5 x0).bind fun w7 =>
  (f_cls w7 4 x0).bind fun u8 =>
  tbind (kD_X5_expression g N w7 x0 0) fun r10 =>
  if x1 = 0 then
    (f_obj r10.1 4 x0 1).bind fun v14 =>
    (f_putR r10.1 3 v14 1 (some r10.2)).bind fun S15 =>
    some (.inl S15)
  else
    (f_obj r10.1 4 x0 1).bind fun v12 =>
    (f_putR r10.1 3 v12 2 (some r10.2)).bind fun S13 =>
    some (.inl S13)
theorem wkX_X5_only_17 {p : Program} {l : Launch} {e : Env} {s : State} {m : MethodId} {args : Array Value} {below : List Frame} {meth : Method} {c : Code} {g : XC} {D : va_G} {A : Nat → Prop} {S0 : XS} {w : (XS) ⊕ XT} (X : xX g D A RX5 S0 p s m args c cX5_only 3) (hr : meth.sig.returnType = (Option.none : Option Jvm.ClassFile.FieldType)) (hlk : meth.locks = false) (hnm : meth.name = yX5_only.name) (hlT : l.stackTraces = false) (hout : ∀ x ∈ c.exceptionTable.toList, False) (hw0 : xW g D A S0 s s.heap) (N : Nat) :
    ∀ (S : XS) (x0 : Nat) (x1 : Int32) (t0 : Nat) (t1 : Int32) (H : Heap) (locs : List Loc) (ls : Array Slot) (cells slots : Nat), kX_X5_only_17 g N S x0 x1 t0 t1 = some w → xW g D A S s H → va_S A s.heap H locs → lv_has ls 3 [(0, .ref x0), (1, .int x1)] → W p l e (xRm g S0 69) s m args below meth c H locs cells slots (vx_MQ below (xTv g D A w) (xTx g D A w) args s (g.2.1 - xTop S0) (g.2.2.1 - xSl S0) A) (F0 m 17 ls [.int t1, .ref t0]) := by
  obtain ⟨hx, hb, -, hown, hts, -⟩ := id X
  intro S x0 x1 t0 t1 H locs ls cells slots hm hw hS hl
  unfold kX_X5_only_17 at hm
  refine lv_iconst (v := 5) hx hb dX5_only_17 (by decide) ?_
  obtain ⟨u1, hu1, hm⟩ := ob_s hm
  obtain ⟨w2, hw2, hm⟩ := tb_s hm
  refine xt_retv hS (xt_runV X hw (met_X5_want hlT N S t0 t1 5 w2 hw2) (x_cv X (lv := 4) (by omega) (by decide) cx_X5_want (lw_V q910 q912 qs20 q126 q913)) xc4 hu1 rfl hl.1 rfl (Nat.le_of_ble_eq_true rfl) dX5_only_18) (fun t1 t2 u E9 ce q9 H1 locs1 hu ht => xt_pass X hlk hout (tc_r hu hm) ht (x_fits (lv2 := 0) X hw t1 t2).1 (x_fits (lv2 := 0) X hw t1 t2).2) (fun r3 hr3 H locs cells slots hw hS => ?_)
  replace hm := tc_l hr3 hm
  refine lv_aload_n hx hb dX5_only_21 rfl (lv_at hl 0 rfl) ?_
  refine lv_dup hx hb dX5_only_22 rfl ?_
  obtain ⟨v4, hv4, hm⟩ := ob_s hm
  refine xr_val X hw xc4 in_X5 10 (by decide) q754 (f_int_s hv4) dX5_only_23 ?_
  refine lv_iconst (v := 1) hx hb dX5_only_26 (by decide) ?_
  refine lv_iload_n hx hb dX5_only_27 rfl (lv_at hl 1 rfl) ?_
  refine lv_ishl hx hb dX5_only_28 ?_
  refine lv_ior hx hb dX5_only_29 ?_
  obtain ⟨S5, hS5, hm⟩ := ob_s hm
  refine xr_putI X hw hS xc4 in_X5 tyX5_ok nmX5 10 (by decide) q754 rfl (tyX5_ok 10 (by decide)) rfl rfl hS5 dX5_only_30 (fun H locs hw hS => ?_)
  refine lv_aload_n hx hb dX5_only_33 rfl (lv_at hl 0 rfl) ?_
  obtain ⟨u6, hu6, hm⟩ := ob_s hm
  obtain ⟨w7, hw7, hm⟩ := ob_s hm
  refine xr_retv hS (xr_runV X hw (met_X5_next N S5 x0 w7 hw7) (x_cv X (lv := 4) (by omega) (by decide) cx_X5_next (lw_V q788 q790 qs12 q126 q791)) xc4 hu6 rfl hl.1 rfl (Nat.le_of_ble_eq_true rfl) dX5_only_34) (fun H locs cells slots hw hS => ?_)
  refine lv_aload_n hx hb dX5_only_37 rfl (lv_at hl 0 rfl) ?_
  refine lv_iconst (v := 0) hx hb dX5_only_38 (by decide) ?_
  obtain ⟨u8, hu8, hm⟩ := ob_s hm
  obtain ⟨w9, hw9, hm⟩ := tb_s hm
  refine xt_retr hS (xt_runV X hw (metD_X5_expression hlT N w7 x0 0 w9 hw9) (x_cv X (lv := 68) (by omega) (by decide) cx_X5_expression (lw_V q938 q940 qs21 q126 q941)) xc4 hu8 rfl hl.1 rfl (Nat.le_of_ble_eq_true rfl) dX5_only_39) (fun t1 t2 u E9 ce q9 H1 locs1 hu ht => xt_pass X hlk hout (tc_r hu hm) ht (x_fits (lv2 := 0) X hw t1 t2).1 (x_fits (lv2 := 0) X hw t1 t2).2) (fun r10 hr10 H locs cells slots hw hS => ?_)
  replace hm := tc_l hr10 hm
  refine lv_astore_n (lv' := [(2, .ref r10.2), (0, .ref x0), (1, .int x1)]) hx hb dX5_only_42 rfl hl (by decide) rfl (fun ls hl => ?_)
  refine lv_iload_n hx hb dX5_only_43 rfl (lv_at hl 2 rfl) ?_
  refine lv_if_ne (tgt := 58) hx hb dX5_only_44 (by decide) (fun c11 => ?_) (fun c11 => ?_)
  · replace hm := if_f c11 hm
    refine lv_aload_n hx hb dX5_only_58 rfl (lv_at hl 1 rfl) ?_
    obtain ⟨v12, hv12, hm⟩ := ob_s hm
    refine xr_val X hw xc4 in_X5 1 (by decide) q743 (f_obj_s hv12) dX5_only_59 ?_
    refine lv_aload_n hx hb dX5_only_62 rfl (lv_at hl 0 rfl) ?_
    obtain ⟨S13, hS13, hm⟩ := ob_s hm
    refine xr_putRN (v := (some r10.2)) X hw hS xc3 in_X2 tyX2_ok nmX2 2 (by decide) q196 rfl (tyX2_ok 2 (by decide)) rfl hS13 dX5_only_63 (fun H locs hw hS => ?_)
    obtain rfl := Option.some.inj hm
    exact xt_vret X hr hlk hw hS dX5_only_66
  · replace hm := if_t c11 hm
    refine lv_aload_n hx hb dX5_only_47 rfl (lv_at hl 1 rfl) ?_
    obtain ⟨v14, hv14, hm⟩ := ob_s hm
    refine xr_val X hw xc4 in_X5 1 (by decide) q743 (f_obj_s hv14) dX5_only_48 ?_
    refine lv_aload_n hx hb dX5_only_51 rfl (lv_at hl 0 rfl) ?_
    obtain ⟨S15, hS15, hm⟩ := ob_s hm
    refine xr_putRN (v := (some r10.2)) X hw hS xc3 in_X2 tyX2_ok nmX2 1 (by decide) q194 rfl (tyX2_ok 1 (by decide)) rfl hS15 dX5_only_52 (fun H locs hw hS => ?_)
    refine lv_goto (tgt := 66) hx hb dX5_only_55 (by decide) ?_
    obtain rfl := Option.some.inj hm
    exact xt_vret X hr hlk hw hS dX5_only_66
def kX_X5_only (g : XC) (N : Nat) (S : XS) (x0 : Nat) (x1 : Int32) : Option ((XS) ⊕ XT) :=
  (f_int S 4 x0 10).bind fun v1 =>
  (kX_X1_isOf g N v1 x1).bind fun w2 =>
  if w2 = 0 then
    kX_X5_only_17 g N S x0 x1 x0 1
  else
    kX_X5_only_17 g N S x0 x1 x0 0
theorem cx_X5_only : yX5_only.cls = RX5 ∧ yX5_only.cls ≠ "java/lang/invoke/MethodHandle" ∧ yX5_only.cls ≠ "java/lang/invoke/VarHandle" ∧ (parseMethodDescriptor yX5_only.desc).map (fun d => d.parameters.length) = some 1 := by decide +kernel
theorem met_X5_only {l : Launch} {g : XC} {D : va_G} {A : Nat → Prop} (hlT : l.stackTraces = false) (N : Nat) (S : XS) (x0 : Nat) (x1 : Int32) (w : (XS) ⊕ XT) (hm : kX_X5_only g N S x0 x1 = some w) : vx_Met l yX5_only (ws_ yX5_only cX5_only 3 (Option.none : Option Jvm.ClassFile.FieldType)) (xRm g S 69) (xPre g D A [.ref x0, .int x1] S) (xTv g D A w) (xTx g D A w) (g.2.1 - xTop S) (g.2.2.1 - xSl S) A := by
  refine x_startT (own := RX5) (by decide +kernel) rfl (Nat.le_of_ble_eq_true rfl) (fun p e s m below meth c ls X hr hlk hnm hout hw hl => ?_)
  have hw0 := hw
  obtain ⟨hx, hb, -, hown, hts, -⟩ := id X
  have hl : lv_has ls 3 [(0, .ref x0), (1, .int x1)] := hl
  have hg : ∀ (H : Heap) (locs : List Loc) (cells slots : Nat), xW g D A S s H → va_S A s.heap H locs → W p l e (xRm g S 69) s m ([.ref x0, .int x1] : List Value).toArray below meth c H locs cells slots (vx_MQ below (xTv g D A w) (xTx g D A w) ([.ref x0, .int x1] : List Value).toArray s (g.2.1 - xTop S) (g.2.2.1 - xSl S) A) (F0 m 0 ls []) := by
    intro H locs cells slots hw hS
    unfold kX_X5_only at hm
    refine lv_aload_n hx hb dX5_only_0 rfl (lv_at hl 0 rfl) ?_
    refine lv_aload_n hx hb dX5_only_1 rfl (lv_at hl 0 rfl) ?_
    obtain ⟨v1, hv1, hm⟩ := ob_s hm
    refine xr_val X hw xc4 in_X5 10 (by decide) q754 (f_int_s hv1) dX5_only_2 ?_
    refine lv_iload_n hx hb dX5_only_5 rfl (lv_at hl 1 rfl) ?_
    obtain ⟨w2, hw2, hm⟩ := ob_s hm
    refine xr_reti hS (xr_runSN X hw (met_X1_isOf N S v1 x1 w2 hw2) (x_cn X (lv := 0) (by omega) (by decide) cx_X1_isOf (lw_meth q478) q115 q909) q477 rfl hl.1 rfl (Nat.le_of_ble_eq_true rfl) dX5_only_6) (fun H locs cells slots hw hS => ?_)
    refine lv_if_ne (tgt := 16) hx hb dX5_only_9 (by decide) (fun c3 => ?_) (fun c3 => ?_)
    · replace hm := if_f c3 hm
      refine lv_iconst (v := 0) hx hb dX5_only_16 (by decide) ?_
      exact wkX_X5_only_17 X hr hlk hnm hlT hout hw0 N S x0 x1 x0 0 H locs ls _ _ hm hw hS (lv_sub hl [0, 1] rfl)
    · replace hm := if_t c3 hm
      refine lv_iconst (v := 1) hx hb dX5_only_12 (by decide) ?_
      refine lv_goto (tgt := 17) hx hb dX5_only_13 (by decide) ?_
      exact wkX_X5_only_17 X hr hlk hnm hlT hout hw0 N S x0 x1 x0 1 H locs ls _ _ hm hw hS (lv_sub hl [0, 1] rfl)
  exact hg _ _ _ _ hw va_S.rf
/-! cup -/
def kX_X5_cup_20 (g : XC) (N : Nat) (S : XS) (x0 : Nat) (x1 : Int32) (t0 : Nat) (t1 : Int32) : Option ((XS) ⊕ XT) :=
  (f_cls S 4 t0).bind fun u1 =>
  tbind (kX_X5_want g N S t0 t1 2) fun r3 =>
  (f_cls r3 4 x0).bind fun u4 =>
  (kX_X5_next g N r3 x0).bind fun w5 =>
  (f_obj w5 4 x0 2).bind fun v6 =>
  (f_obj w5 2 v6 0).bind fun v7 =>
  (f_cls w5 4 x0).bind fun u8 =>
  tbind (kX_X5_number g N w5 x0 1 30) fun r10 =>
  (a_putI r10.1 0 v7 x1 r10.2).bind fun S11 =>
  (f_obj S11 4 x0 2).bind fun v12 =>
  (f_obj S11 2 v12 1).bind fun v13 =>
  (f_obj S11 4 x0 2).bind fun v14 =>
  (f_obj S11 2 v14 0).bind fun v15 =>
  (a_int S11 0 v15 x1).bind fun v16 =>
  (f_cls S11 4 x0).bind fun u17 =>
  tbind (kX_X5_number g N S11 x0 0 (v16 - 1)) fun r19 =>
  (a_putI r19.1 0 v13 x1 r19.2).bind fun S20 =>
  (f_obj S20 4 x0 1).bind fun v21 =>
  (f_obj S20 3 v21 0).bind fun v22 =>
  (f_cls S20 4 x0).bind fun u23 =>
  tbind (kX_X5_number g N S20 x0 0 20) fun r25 =>
  (kX_J19_valueOf g N r25.1 r25.2).bind fun w26 =>
  (f_cls w26.1 10 v22).bind fun u27 =>
  (kX_J2_add g N w26.1 v22 w26.2).bind fun w28 =>
  some (.inl w28.1)
theorem wkX_X5_cup_20 {p : Program} {l : Launch} {e : Env} {s : State} {m : MethodId} {args : Array Value} {below : List Frame} {meth : Method} {c : Code} {g : XC} {D : va_G} {A : Nat → Prop} {S0 : XS} {w : (XS) ⊕ XT} (X : xX g D A RX5 S0 p s m args c cX5_cup 2) (hr : meth.sig.returnType = (Option.none : Option Jvm.ClassFile.FieldType)) (hlk : meth.locks = false) (hnm : meth.name = yX5_cup.name) (hlT : l.stackTraces = false) (hout : ∀ x ∈ c.exceptionTable.toList, False) (hw0 : xW g D A S0 s s.heap) (N : Nat) :
    ∀ (S : XS) (x0 : Nat) (x1 : Int32) (t0 : Nat) (t1 : Int32) (H : Heap) (locs : List Loc) (ls : Array Slot) (cells slots : Nat), kX_X5_cup_20 g N S x0 x1 t0 t1 = some w → xW g D A S s H → va_S A s.heap H locs → lv_has ls 2 [(0, .ref x0), (1, .int x1)] → W p l e (xRm g S0 7) s m args below meth c H locs cells slots (vx_MQ below (xTv g D A w) (xTx g D A w) args s (g.2.1 - xTop S0) (g.2.2.1 - xSl S0) A) (F0 m 20 ls [.int t1, .ref t0]) := by
  obtain ⟨hx, hb, -, hown, hts, -⟩ := id X
  intro S x0 x1 t0 t1 H locs ls cells slots hm hw hS hl
  unfold kX_X5_cup_20 at hm
  refine lv_iconst (v := 2) hx hb dX5_cup_20 (by decide) ?_
  obtain ⟨u1, hu1, hm⟩ := ob_s hm
  obtain ⟨w2, hw2, hm⟩ := tb_s hm
  refine xt_retv hS (xt_runV X hw (met_X5_want hlT N S t0 t1 2 w2 hw2) (x_cv X (lv := 4) (by omega) (by decide) cx_X5_want (lw_V q910 q912 qs20 q126 q913)) xc4 hu1 rfl hl.1 rfl (Nat.le_of_ble_eq_true rfl) dX5_cup_21) (fun t1 t2 u E9 ce q9 H1 locs1 hu ht => xt_pass X hlk hout (tc_r hu hm) ht (x_fits (lv2 := 0) X hw t1 t2).1 (x_fits (lv2 := 0) X hw t1 t2).2) (fun r3 hr3 H locs cells slots hw hS => ?_)
  replace hm := tc_l hr3 hm
  refine lv_aload_n hx hb dX5_cup_24 rfl (lv_at hl 0 rfl) ?_
  obtain ⟨u4, hu4, hm⟩ := ob_s hm
  obtain ⟨w5, hw5, hm⟩ := ob_s hm
  refine xr_retv hS (xr_runV X hw (met_X5_next N r3 x0 w5 hw5) (x_cv X (lv := 4) (by omega) (by decide) cx_X5_next (lw_V q788 q790 qs12 q126 q791)) xc4 hu4 rfl hl.1 rfl (Nat.le_of_ble_eq_true rfl) dX5_cup_25) (fun H locs cells slots hw hS => ?_)
  refine lv_aload_n hx hb dX5_cup_28 rfl (lv_at hl 0 rfl) ?_
  obtain ⟨v6, hv6, hm⟩ := ob_s hm
  refine xr_val X hw xc4 in_X5 2 (by decide) q744 (f_obj_s hv6) dX5_cup_29 ?_
  obtain ⟨v7, hv7, hm⟩ := ob_s hm
  refine xr_valN X hw xc2 in_X3 0 (by decide) q212 (f_obj_s hv7) dX5_cup_32 ?_
  refine lv_iload_n hx hb dX5_cup_35 rfl (lv_at hl 1 rfl) ?_
  refine lv_aload_n hx hb dX5_cup_36 rfl (lv_at hl 0 rfl) ?_
  refine lv_iconst (v := 1) hx hb dX5_cup_37 (by decide) ?_
  refine lv_bipush (v := 30) hx hb dX5_cup_38 (by decide) ?_
  obtain ⟨u8, hu8, hm⟩ := ob_s hm
  obtain ⟨w9, hw9, hm⟩ := tb_s hm
  refine xt_reti hS (xt_runV X hw (met_X5_number hlT N w5 x0 1 30 w9 hw9) (x_cv X (lv := 6) (by omega) (by decide) cx_X5_number (lw_V q971 q973 qs28 q126 q974)) xc4 hu8 rfl hl.1 rfl (Nat.le_of_ble_eq_true rfl) dX5_cup_40) (fun t1 t2 u E9 ce q9 H1 locs1 hu ht => xt_pass X hlk hout (tc_r hu hm) ht (x_fits (lv2 := 0) X hw t1 t2).1 (x_fits (lv2 := 0) X hw t1 t2).2) (fun r10 hr10 H locs cells slots hw hS => ?_)
  replace hm := tc_l hr10 hm
  obtain ⟨S11, hS11, hm⟩ := ob_s hm
  refine xr_iast X hw hS hS11 dX5_cup_43 (fun H locs hw hS => ?_)
  refine lv_aload_n hx hb dX5_cup_44 rfl (lv_at hl 0 rfl) ?_
  obtain ⟨v12, hv12, hm⟩ := ob_s hm
  refine xr_val X hw xc4 in_X5 2 (by decide) q744 (f_obj_s hv12) dX5_cup_45 ?_
  obtain ⟨v13, hv13, hm⟩ := ob_s hm
  refine xr_valN X hw xc2 in_X3 1 (by decide) q215 (f_obj_s hv13) dX5_cup_48 ?_
  refine lv_iload_n hx hb dX5_cup_51 rfl (lv_at hl 1 rfl) ?_
  refine lv_aload_n hx hb dX5_cup_52 rfl (lv_at hl 0 rfl) ?_
  refine lv_iconst (v := 0) hx hb dX5_cup_53 (by decide) ?_
  refine lv_aload_n hx hb dX5_cup_54 rfl (lv_at hl 0 rfl) ?_
  obtain ⟨v14, hv14, hm⟩ := ob_s hm
  refine xr_val X hw xc4 in_X5 2 (by decide) q744 (f_obj_s hv14) dX5_cup_55 ?_
  obtain ⟨v15, hv15, hm⟩ := ob_s hm
  refine xr_valN X hw xc2 in_X3 0 (by decide) q212 (f_obj_s hv15) dX5_cup_58 ?_
  refine lv_iload_n hx hb dX5_cup_61 rfl (lv_at hl 1 rfl) ?_
  obtain ⟨v16, hv16, hm⟩ := ob_s hm
  refine xr_iald X hw hv16 dX5_cup_62 ?_
  refine lv_iconst (v := 1) hx hb dX5_cup_63 (by decide) ?_
  refine lv_isub hx hb dX5_cup_64 ?_
  obtain ⟨u17, hu17, hm⟩ := ob_s hm
  obtain ⟨w18, hw18, hm⟩ := tb_s hm
  refine xt_reti hS (xt_runV X hw (met_X5_number hlT N S11 x0 0 (v16 - 1) w18 hw18) (x_cv X (lv := 6) (by omega) (by decide) cx_X5_number (lw_V q971 q973 qs28 q126 q974)) xc4 hu17 rfl hl.1 rfl (Nat.le_of_ble_eq_true rfl) dX5_cup_65) (fun t1 t2 u E9 ce q9 H1 locs1 hu ht => xt_pass X hlk hout (tc_r hu hm) ht (x_fits (lv2 := 0) X hw t1 t2).1 (x_fits (lv2 := 0) X hw t1 t2).2) (fun r19 hr19 H locs cells slots hw hS => ?_)
  replace hm := tc_l hr19 hm
  obtain ⟨S20, hS20, hm⟩ := ob_s hm
  refine xr_iast X hw hS hS20 dX5_cup_68 (fun H locs hw hS => ?_)
  refine lv_aload_n hx hb dX5_cup_69 rfl (lv_at hl 0 rfl) ?_
  obtain ⟨v21, hv21, hm⟩ := ob_s hm
  refine xr_val X hw xc4 in_X5 1 (by decide) q743 (f_obj_s hv21) dX5_cup_70 ?_
  obtain ⟨v22, hv22, hm⟩ := ob_s hm
  refine xr_valN X hw xc3 in_X2 0 (by decide) q192 (f_obj_s hv22) dX5_cup_73 ?_
  refine lv_aload_n hx hb dX5_cup_76 rfl (lv_at hl 0 rfl) ?_
  refine lv_iconst (v := 0) hx hb dX5_cup_77 (by decide) ?_
  refine lv_bipush (v := 20) hx hb dX5_cup_78 (by decide) ?_
  obtain ⟨u23, hu23, hm⟩ := ob_s hm
  obtain ⟨w24, hw24, hm⟩ := tb_s hm
  refine xt_reti hS (xt_runV X hw (met_X5_number hlT N S20 x0 0 20 w24 hw24) (x_cv X (lv := 6) (by omega) (by decide) cx_X5_number (lw_V q971 q973 qs28 q126 q974)) xc4 hu23 rfl hl.1 rfl (Nat.le_of_ble_eq_true rfl) dX5_cup_80) (fun t1 t2 u E9 ce q9 H1 locs1 hu ht => xt_pass X hlk hout (tc_r hu hm) ht (x_fits (lv2 := 0) X hw t1 t2).1 (x_fits (lv2 := 0) X hw t1 t2).2) (fun r25 hr25 H locs cells slots hw hS => ?_)
  replace hm := tc_l hr25 hm
  obtain ⟨w26, hw26, hm⟩ := ob_s hm
  refine xr_retr hS (xr_runS X hw (met_J19_valueOf N r25.1 r25.2 w26 hw26) (x_cs X (lv := 0) (by omega) (by decide) cx_J19_valueOf (lw_S q1133 q1134 q145 q1135)) rfl hl.1 rfl (Nat.le_of_ble_eq_true rfl) dX5_cup_83) (fun H locs cells slots hw hS => ?_)
  obtain ⟨u27, hu27, hm⟩ := ob_s hm
  obtain ⟨w28, hw28, hm⟩ := ob_s hm
  refine xr_ret5i hS (xr_runF (x := ⟨"java/util/List", "add", "(Ljava/lang/Object;)Z"⟩) X hw (met_J2_add N w26.1 v22 w26.2 w28 hw28) (x_cf X (lv := 6) (by omega) (by decide) ci_List_add q1154 q362 q364 q119 q366 q360 q359 q365 q363 q361) xc10 hu27 rfl hl.1 rfl (Nat.le_of_ble_eq_true rfl) dX5_cup_86) (fun H locs cells slots hw hS => ?_)
  refine lv_pop hx hb dX5_cup_91 rfl ?_
  obtain rfl := Option.some.inj hm
  exact xt_vret X hr hlk hw hS dX5_cup_92
def kX_X5_cup (g : XC) (N : Nat) (S : XS) (x0 : Nat) : Option ((XS) ⊕ XT) :=
  (f_obj S 4 x0 1).bind fun v1 =>
  (f_cls S 3 v1).bind fun u2 =>
  (kX_X2_cups g N S v1).bind fun w3 =>
  if (9 : Int32) ≤ w3.2 then
    kX_X5_cup_20 g N w3.1 x0 w3.2 x0 0
  else
    kX_X5_cup_20 g N w3.1 x0 w3.2 x0 1
theorem cx_X5_cup : yX5_cup.cls = RX5 ∧ yX5_cup.cls ≠ "java/lang/invoke/MethodHandle" ∧ yX5_cup.cls ≠ "java/lang/invoke/VarHandle" ∧ (parseMethodDescriptor yX5_cup.desc).map (fun d => d.parameters.length) = some 0 := by decide +kernel
theorem met_X5_cup {l : Launch} {g : XC} {D : va_G} {A : Nat → Prop} (hlT : l.stackTraces = false) (N : Nat) (S : XS) (x0 : Nat) (w : (XS) ⊕ XT) (hm : kX_X5_cup g N S x0 = some w) : vx_Met l yX5_cup (ws_ yX5_cup cX5_cup 2 (Option.none : Option Jvm.ClassFile.FieldType)) (xRm g S 7) (xPre g D A [.ref x0] S) (xTv g D A w) (xTx g D A w) (g.2.1 - xTop S) (g.2.2.1 - xSl S) A := by
  refine x_startT (own := RX5) (by decide +kernel) rfl (Nat.le_of_ble_eq_true rfl) (fun p e s m below meth c ls X hr hlk hnm hout hw hl => ?_)
  have hw0 := hw
  obtain ⟨hx, hb, -, hown, hts, -⟩ := id X
  have hl : lv_has ls 2 [(0, .ref x0)] := hl
  have hg : ∀ (H : Heap) (locs : List Loc) (cells slots : Nat), xW g D A S s H → va_S A s.heap H locs → W p l e (xRm g S 7) s m ([.ref x0] : List Value).toArray below meth c H locs cells slots (vx_MQ below (xTv g D A w) (xTx g D A w) ([.ref x0] : List Value).toArray s (g.2.1 - xTop S) (g.2.2.1 - xSl S) A) (F0 m 0 ls []) := by
    intro H locs cells slots hw hS
    unfold kX_X5_cup at hm
    refine lv_aload_n hx hb dX5_cup_0 rfl (lv_at hl 0 rfl) ?_
    obtain ⟨v1, hv1, hm⟩ := ob_s hm
    refine xr_val X hw xc4 in_X5 1 (by decide) q743 (f_obj_s hv1) dX5_cup_1 ?_
    obtain ⟨u2, hu2, hm⟩ := ob_s hm
    obtain ⟨w3, hw3, hm⟩ := ob_s hm
    refine xr_reti hS (xr_runV X hw (met_X2_cups N S v1 w3 hw3) (x_cv X (lv := 1) (by omega) (by decide) cx_X2_cups (lw_V q1132 q463 q464 q116 q465)) xc3 hu2 rfl hl.1 rfl (Nat.le_of_ble_eq_true rfl) dX5_cup_4) (fun H locs cells slots hw hS => ?_)
    refine lv_istore_n (lv' := [(1, .int w3.2), (0, .ref x0)]) hx hb dX5_cup_7 rfl hl (by decide) rfl (fun ls hl => ?_)
    refine lv_aload_n hx hb dX5_cup_8 rfl (lv_at hl 1 rfl) ?_
    refine lv_iload_n hx hb dX5_cup_9 rfl (lv_at hl 0 rfl) ?_
    refine lv_bipush (v := 9) hx hb dX5_cup_10 (by decide) ?_
    refine lv_icmp_ge (tgt := 19) hx hb dX5_cup_12 (by decide) (fun c4 => ?_) (fun c4 => ?_)
    · replace hm := if_t c4 hm
      refine lv_iconst (v := 0) hx hb dX5_cup_19 (by decide) ?_
      exact wkX_X5_cup_20 X hr hlk hnm hlT hout hw0 N w3.1 x0 w3.2 x0 0 H locs ls _ _ hm hw hS (lv_sub hl [1, 0] rfl)
    · replace hm := if_f c4 hm
      refine lv_iconst (v := 1) hx hb dX5_cup_15 (by decide) ?_
      refine lv_goto (tgt := 20) hx hb dX5_cup_16 (by decide) ?_
      exact wkX_X5_cup_20 X hr hlk hnm hlT hout hw0 N w3.1 x0 w3.2 x0 1 H locs ls _ _ hm hw hS (lv_sub hl [1, 0] rfl)
  exact hg _ _ _ _ hw va_S.rf
/-! cupNow -/
def kX_X5_cupNow_26 (g : XC) (N : Nat) (S : XS) (x1 : Int32) (t0 : Nat) (t1 : Int32) : Option ((XS × Int32) ⊕ XT) :=
  (f_cls S 4 t0).bind fun u1 =>
  tbind (kX_X5_want g N S t0 t1 3) fun r3 =>
  some (.inl (r3, x1))
theorem wkX_X5_cupNow_26 {p : Program} {l : Launch} {e : Env} {s : State} {m : MethodId} {args : Array Value} {below : List Frame} {meth : Method} {c : Code} {g : XC} {D : va_G} {A : Nat → Prop} {S0 : XS} {w : (XS × Int32) ⊕ XT} (X : xX g D A RX5 S0 p s m args c cX5_cupNow 2) (hr : meth.sig.returnType = (Option.some Jvm.ClassFile.FieldType.int)) (hlk : meth.locks = false) (hnm : meth.name = yX5_cupNow.name) (hlT : l.stackTraces = false) (hout : ∀ x ∈ c.exceptionTable.toList, False) (hw0 : xW g D A S0 s s.heap) (N : Nat) :
    ∀ (S : XS) (x1 : Int32) (t0 : Nat) (t1 : Int32) (H : Heap) (locs : List Loc) (ls : Array Slot) (cells slots : Nat), kX_X5_cupNow_26 g N S x1 t0 t1 = some w → xW g D A S s H → va_S A s.heap H locs → lv_has ls 2 [(1, .int x1)] → W p l e (xRm g S0 6) s m args below meth c H locs cells slots (vx_MQ below (xTi g D A w) (xTx g D A w) args s (g.2.1 - xTop S0) (g.2.2.1 - xSl S0) A) (F0 m 26 ls [.int t1, .ref t0]) := by
  obtain ⟨hx, hb, -, hown, hts, -⟩ := id X
  intro S x1 t0 t1 H locs ls cells slots hm hw hS hl
  unfold kX_X5_cupNow_26 at hm
  refine lv_iconst (v := 3) hx hb dX5_cupNow_26 (by decide) ?_
  obtain ⟨u1, hu1, hm⟩ := ob_s hm
  obtain ⟨w2, hw2, hm⟩ := tb_s hm
  refine xt_retv hS (xt_runV X hw (met_X5_want hlT N S t0 t1 3 w2 hw2) (x_cv X (lv := 4) (by omega) (by decide) cx_X5_want (lw_V q910 q912 qs20 q126 q913)) xc4 hu1 rfl hl.1 rfl (Nat.le_of_ble_eq_true rfl) dX5_cupNow_27) (fun t1 t2 u E9 ce q9 H1 locs1 hu ht => xt_pass X hlk hout (tc_r hu hm) ht (x_fits (lv2 := 0) X hw t1 t2).1 (x_fits (lv2 := 0) X hw t1 t2).2) (fun r3 hr3 H locs cells slots hw hS => ?_)
  replace hm := tc_l hr3 hm
  refine lv_iload_n hx hb dX5_cupNow_30 rfl (lv_at hl 0 rfl) ?_
  obtain rfl := Option.some.inj hm
  exact xt_iret (v := x1) X hr hlk hw hS rfl dX5_cupNow_31
def kX_X5_cupNow (g : XC) (N : Nat) (S : XS) (x0 : Nat) : Option ((XS × Int32) ⊕ XT) :=
  (f_cls S 4 x0).bind fun u1 =>
  tbind (kX_X5_numberNow g N S x0 0 9999) fun r3 =>
  (f_obj r3.1 4 x0 1).bind fun v4 =>
  (f_cls r3.1 3 v4).bind fun u5 =>
  (kX_X2_cups g N r3.1 v4).bind fun w6 =>
  if w6.2 ≤ r3.2 then
    kX_X5_cupNow_26 g N w6.1 r3.2 x0 0
  else
    kX_X5_cupNow_26 g N w6.1 r3.2 x0 1
theorem cx_X5_cupNow : yX5_cupNow.cls = RX5 ∧ yX5_cupNow.cls ≠ "java/lang/invoke/MethodHandle" ∧ yX5_cupNow.cls ≠ "java/lang/invoke/VarHandle" ∧ (parseMethodDescriptor yX5_cupNow.desc).map (fun d => d.parameters.length) = some 0 := by decide +kernel
theorem met_X5_cupNow {l : Launch} {g : XC} {D : va_G} {A : Nat → Prop} (hlT : l.stackTraces = false) (N : Nat) (S : XS) (x0 : Nat) (w : (XS × Int32) ⊕ XT) (hm : kX_X5_cupNow g N S x0 = some w) : vx_Met l yX5_cupNow (ws_ yX5_cupNow cX5_cupNow 2 (Option.some Jvm.ClassFile.FieldType.int)) (xRm g S 6) (xPre g D A [.ref x0] S) (xTi g D A w) (xTx g D A w) (g.2.1 - xTop S) (g.2.2.1 - xSl S) A := by
  refine x_startT (own := RX5) (by decide +kernel) rfl (Nat.le_of_ble_eq_true rfl) (fun p e s m below meth c ls X hr hlk hnm hout hw hl => ?_)
  have hw0 := hw
  obtain ⟨hx, hb, -, hown, hts, -⟩ := id X
  have hl : lv_has ls 2 [(0, .ref x0)] := hl
  have hg : ∀ (H : Heap) (locs : List Loc) (cells slots : Nat), xW g D A S s H → va_S A s.heap H locs → W p l e (xRm g S 6) s m ([.ref x0] : List Value).toArray below meth c H locs cells slots (vx_MQ below (xTi g D A w) (xTx g D A w) ([.ref x0] : List Value).toArray s (g.2.1 - xTop S) (g.2.2.1 - xSl S) A) (F0 m 0 ls []) := by
    intro H locs cells slots hw hS
    unfold kX_X5_cupNow at hm
    refine lv_aload_n hx hb dX5_cupNow_0 rfl (lv_at hl 0 rfl) ?_
    refine lv_iconst (v := 0) hx hb dX5_cupNow_1 (by decide) ?_
    refine lv_sipush (v := 9999) hx hb dX5_cupNow_2 (by decide) ?_
    obtain ⟨u1, hu1, hm⟩ := ob_s hm
    obtain ⟨w2, hw2, hm⟩ := tb_s hm
    refine xt_reti hS (xt_runV X hw (met_X5_numberNow hlT N S x0 0 9999 w2 hw2) (x_cv X (lv := 5) (by omega) (by decide) cx_X5_numberNow (lw_V q975 q977 qs29 q126 q978)) xc4 hu1 rfl hl.1 rfl (Nat.le_of_ble_eq_true rfl) dX5_cupNow_5) (fun t1 t2 u E9 ce q9 H1 locs1 hu ht => xt_pass X hlk hout (tc_r hu hm) ht (x_fits (lv2 := 0) X hw t1 t2).1 (x_fits (lv2 := 0) X hw t1 t2).2) (fun r3 hr3 H locs cells slots hw hS => ?_)
    replace hm := tc_l hr3 hm
    refine lv_istore_n (lv' := [(1, .int r3.2), (0, .ref x0)]) hx hb dX5_cupNow_8 rfl hl (by decide) rfl (fun ls hl => ?_)
    refine lv_aload_n hx hb dX5_cupNow_9 rfl (lv_at hl 1 rfl) ?_
    refine lv_iload_n hx hb dX5_cupNow_10 rfl (lv_at hl 0 rfl) ?_
    refine lv_aload_n hx hb dX5_cupNow_11 rfl (lv_at hl 1 rfl) ?_
    obtain ⟨v4, hv4, hm⟩ := ob_s hm
    refine xr_val X hw xc4 in_X5 1 (by decide) q743 (f_obj_s hv4) dX5_cupNow_12 ?_
    obtain ⟨u5, hu5, hm⟩ := ob_s hm
    obtain ⟨w6, hw6, hm⟩ := ob_s hm
    refine xr_reti hS (xr_runV X hw (met_X2_cups N r3.1 v4 w6 hw6) (x_cv X (lv := 1) (by omega) (by decide) cx_X2_cups (lw_V q1132 q463 q464 q116 q465)) xc3 hu5 rfl hl.1 rfl (Nat.le_of_ble_eq_true rfl) dX5_cupNow_15) (fun H locs cells slots hw hS => ?_)
    refine lv_icmp_ge (tgt := 25) hx hb dX5_cupNow_18 (by decide) (fun c7 => ?_) (fun c7 => ?_)
    · replace hm := if_t c7 hm
      refine lv_iconst (v := 0) hx hb dX5_cupNow_25 (by decide) ?_
      exact wkX_X5_cupNow_26 X hr hlk hnm hlT hout hw0 N w6.1 r3.2 x0 0 H locs ls _ _ hm hw hS (lv_sub hl [0] rfl)
    · replace hm := if_f c7 hm
      refine lv_iconst (v := 1) hx hb dX5_cupNow_21 (by decide) ?_
      refine lv_goto (tgt := 26) hx hb dX5_cupNow_22 (by decide) ?_
      exact wkX_X5_cupNow_26 X hr hlk hnm hlT hout hw0 N w6.1 r3.2 x0 1 H locs ls _ _ hm hw hS (lv_sub hl [0] rfl)
  exact hg _ _ _ _ hw va_S.rf
/-! pipe -/
def kX_X5_pipe_115 (g : XC) (N : Nat) (S : XS) (x0 : Nat) (x1 : Int32) : Option ((XS) ⊕ XT) :=
  (f_int S 4 x0 11).bind fun v1 =>
  (f_putI S 4 x0 11 (v1 ||| ((1 : Int32) <<< (x1 &&& 31)))).bind fun S2 =>
  some (.inl S2)
theorem wkX_X5_pipe_115 {p : Program} {l : Launch} {e : Env} {s : State} {m : MethodId} {args : Array Value} {below : List Frame} {meth : Method} {c : Code} {g : XC} {D : va_G} {A : Nat → Prop} {S0 : XS} {w : (XS) ⊕ XT} (X : xX g D A RX5 S0 p s m args c cX5_pipe 4) (hr : meth.sig.returnType = (Option.none : Option Jvm.ClassFile.FieldType)) (hlk : meth.locks = false) (hnm : meth.name = yX5_pipe.name) (hlT : l.stackTraces = false) (hout : ∀ x ∈ c.exceptionTable.toList, False) (hw0 : xW g D A S0 s s.heap) (N : Nat) :
    ∀ (S : XS) (x0 : Nat) (x1 : Int32) (H : Heap) (locs : List Loc) (ls : Array Slot) (cells slots : Nat), kX_X5_pipe_115 g N S x0 x1 = some w → xW g D A S s H → va_S A s.heap H locs → lv_has ls 4 [(0, .ref x0), (1, .int x1)] → W p l e (xRm g S0 7) s m args below meth c H locs cells slots (vx_MQ below (xTv g D A w) (xTx g D A w) args s (g.2.1 - xTop S0) (g.2.2.1 - xSl S0) A) (F0 m 115 ls []) := by
  obtain ⟨hx, hb, -, hown, hts, -⟩ := id X
  intro S x0 x1 H locs ls cells slots hm hw hS hl
  unfold kX_X5_pipe_115 at hm
  refine lv_aload_n hx hb dX5_pipe_115 rfl (lv_at hl 0 rfl) ?_
  refine lv_dup hx hb dX5_pipe_116 rfl ?_
  obtain ⟨v1, hv1, hm⟩ := ob_s hm
  refine xr_val X hw xc4 in_X5 11 (by decide) q755 (f_int_s hv1) dX5_pipe_117 ?_
  refine lv_iconst (v := 1) hx hb dX5_pipe_120 (by decide) ?_
  refine lv_iload_n hx hb dX5_pipe_121 rfl (lv_at hl 1 rfl) ?_
  refine lv_ishl hx hb dX5_pipe_122 ?_
  refine lv_ior hx hb dX5_pipe_123 ?_
  obtain ⟨S2, hS2, hm⟩ := ob_s hm
  refine xr_putI X hw hS xc4 in_X5 tyX5_ok nmX5 11 (by decide) q755 rfl (tyX5_ok 11 (by decide)) rfl rfl hS2 dX5_pipe_124 (fun H locs hw hS => ?_)
  obtain rfl := Option.some.inj hm
  exact xt_vret X hr hlk hw hS dX5_pipe_127
def kX_X5_pipe_97 (g : XC) (N : Nat) (S : XS) (x0 : Nat) (x1 : Int32) (x3 : Int32) (t0 : Nat) (t1 : Int32) : Option ((XS) ⊕ XT) :=
  (f_cls S 4 t0).bind fun u1 =>
  tbind (kX_X5_want g N S t0 t1 4) fun r3 =>
  (f_cls r3 4 x0).bind fun u4 =>
  (kX_X5_next g N r3 x0).bind fun w5 =>
  (f_obj w5 4 x0 2).bind fun v6 =>
  (f_obj w5 2 v6 4).bind fun v7 =>
  (a_putI w5 0 v7 x1 x3).bind fun S8 =>
  kX_X5_pipe_115 g N S8 x0 x1
theorem wkX_X5_pipe_97 {p : Program} {l : Launch} {e : Env} {s : State} {m : MethodId} {args : Array Value} {below : List Frame} {meth : Method} {c : Code} {g : XC} {D : va_G} {A : Nat → Prop} {S0 : XS} {w : (XS) ⊕ XT} (X : xX g D A RX5 S0 p s m args c cX5_pipe 4) (hr : meth.sig.returnType = (Option.none : Option Jvm.ClassFile.FieldType)) (hlk : meth.locks = false) (hnm : meth.name = yX5_pipe.name) (hlT : l.stackTraces = false) (hout : ∀ x ∈ c.exceptionTable.toList, False) (hw0 : xW g D A S0 s s.heap) (N : Nat) :
    ∀ (S : XS) (x0 : Nat) (x1 : Int32) (x3 : Int32) (t0 : Nat) (t1 : Int32) (H : Heap) (locs : List Loc) (ls : Array Slot) (cells slots : Nat), kX_X5_pipe_97 g N S x0 x1 x3 t0 t1 = some w → xW g D A S s H → va_S A s.heap H locs → lv_has ls 4 [(0, .ref x0), (1, .int x1), (3, .int x3)] → W p l e (xRm g S0 7) s m args below meth c H locs cells slots (vx_MQ below (xTv g D A w) (xTx g D A w) args s (g.2.1 - xTop S0) (g.2.2.1 - xSl S0) A) (F0 m 97 ls [.int t1, .ref t0]) := by
  obtain ⟨hx, hb, -, hown, hts, -⟩ := id X
  intro S x0 x1 x3 t0 t1 H locs ls cells slots hm hw hS hl
  unfold kX_X5_pipe_97 at hm
  refine lv_iconst (v := 4) hx hb dX5_pipe_97 (by decide) ?_
  obtain ⟨u1, hu1, hm⟩ := ob_s hm
  obtain ⟨w2, hw2, hm⟩ := tb_s hm
  refine xt_retv hS (xt_runV X hw (met_X5_want hlT N S t0 t1 4 w2 hw2) (x_cv X (lv := 4) (by omega) (by decide) cx_X5_want (lw_V q910 q912 qs20 q126 q913)) xc4 hu1 rfl hl.1 rfl (Nat.le_of_ble_eq_true rfl) dX5_pipe_98) (fun t1 t2 u E9 ce q9 H1 locs1 hu ht => xt_pass X hlk hout (tc_r hu hm) ht (x_fits (lv2 := 0) X hw t1 t2).1 (x_fits (lv2 := 0) X hw t1 t2).2) (fun r3 hr3 H locs cells slots hw hS => ?_)
  replace hm := tc_l hr3 hm
  refine lv_aload_n hx hb dX5_pipe_101 rfl (lv_at hl 0 rfl) ?_
  obtain ⟨u4, hu4, hm⟩ := ob_s hm
  obtain ⟨w5, hw5, hm⟩ := ob_s hm
  refine xr_retv hS (xr_runV X hw (met_X5_next N r3 x0 w5 hw5) (x_cv X (lv := 4) (by omega) (by decide) cx_X5_next (lw_V q788 q790 qs12 q126 q791)) xc4 hu4 rfl hl.1 rfl (Nat.le_of_ble_eq_true rfl) dX5_pipe_102) (fun H locs cells slots hw hS => ?_)
  refine lv_aload_n hx hb dX5_pipe_105 rfl (lv_at hl 0 rfl) ?_
  obtain ⟨v6, hv6, hm⟩ := ob_s hm
  refine xr_val X hw xc4 in_X5 2 (by decide) q744 (f_obj_s hv6) dX5_pipe_106 ?_
  obtain ⟨v7, hv7, hm⟩ := ob_s hm
  refine xr_valN X hw xc2 in_X3 4 (by decide) q222 (f_obj_s hv7) dX5_pipe_109 ?_
  refine lv_iload_n hx hb dX5_pipe_112 rfl (lv_at hl 1 rfl) ?_
  refine lv_iload_n hx hb dX5_pipe_113 rfl (lv_at hl 2 rfl) ?_
  obtain ⟨S8, hS8, hm⟩ := ob_s hm
  refine xr_iast X hw hS hS8 dX5_pipe_114 (fun H locs hw hS => ?_)
  exact wkX_X5_pipe_115 X hr hlk hnm hlT hout hw0 N S8 x0 x1 H locs ls _ _ hm hw hS (lv_sub hl [0, 1] rfl)
def kX_X5_pipe_50 (g : XC) (N : Nat) (S : XS) (x0 : Nat) (x1 : Int32) (x2 : Int32) (t0 : Nat) (t1 : Int32) : Option ((XS) ⊕ XT) :=
  (f_cls S 4 t0).bind fun u1 =>
  tbind (kX_X5_want g N S t0 t1 4) fun r3 =>
  (f_cls r3 4 x0).bind fun u4 =>
  (kX_X5_next g N r3 x0).bind fun w5 =>
  (f_obj w5 4 x0 2).bind fun v6 =>
  (f_obj w5 2 v6 3).bind fun v7 =>
  (a_putI w5 0 v7 x1 x2).bind fun S8 =>
  (f_int S8 4 x0 6).bind fun v9 =>
  if v9 = 2 then
    (f_cls S8 4 x0).bind fun u11 =>
    tbind (kX_X5_cupNow g N S8 x0) fun r13 =>
    if r13.2 ≤ x1 then
      kX_X5_pipe_97 g N r13.1 x0 x1 r13.2 x0 0
    else
      if r13.2 = x2 then
        kX_X5_pipe_97 g N r13.1 x0 x1 r13.2 x0 0
      else
        kX_X5_pipe_97 g N r13.1 x0 x1 r13.2 x0 1
  else
    kX_X5_pipe_115 g N S8 x0 x1
theorem wkX_X5_pipe_50 {p : Program} {l : Launch} {e : Env} {s : State} {m : MethodId} {args : Array Value} {below : List Frame} {meth : Method} {c : Code} {g : XC} {D : va_G} {A : Nat → Prop} {S0 : XS} {w : (XS) ⊕ XT} (X : xX g D A RX5 S0 p s m args c cX5_pipe 4) (hr : meth.sig.returnType = (Option.none : Option Jvm.ClassFile.FieldType)) (hlk : meth.locks = false) (hnm : meth.name = yX5_pipe.name) (hlT : l.stackTraces = false) (hout : ∀ x ∈ c.exceptionTable.toList, False) (hw0 : xW g D A S0 s s.heap) (N : Nat) :
    ∀ (S : XS) (x0 : Nat) (x1 : Int32) (x2 : Int32) (t0 : Nat) (t1 : Int32) (H : Heap) (locs : List Loc) (ls : Array Slot) (cells slots : Nat), kX_X5_pipe_50 g N S x0 x1 x2 t0 t1 = some w → xW g D A S s H → va_S A s.heap H locs → lv_has ls 4 [(0, .ref x0), (1, .int x1), (2, .int x2)] → W p l e (xRm g S0 7) s m args below meth c H locs cells slots (vx_MQ below (xTv g D A w) (xTx g D A w) args s (g.2.1 - xTop S0) (g.2.2.1 - xSl S0) A) (F0 m 50 ls [.int t1, .ref t0]) := by
  obtain ⟨hx, hb, -, hown, hts, -⟩ := id X
  intro S x0 x1 x2 t0 t1 H locs ls cells slots hm hw hS hl
  unfold kX_X5_pipe_50 at hm
  refine lv_iconst (v := 4) hx hb dX5_pipe_50 (by decide) ?_
  obtain ⟨u1, hu1, hm⟩ := ob_s hm
  obtain ⟨w2, hw2, hm⟩ := tb_s hm
  refine xt_retv hS (xt_runV X hw (met_X5_want hlT N S t0 t1 4 w2 hw2) (x_cv X (lv := 4) (by omega) (by decide) cx_X5_want (lw_V q910 q912 qs20 q126 q913)) xc4 hu1 rfl hl.1 rfl (Nat.le_of_ble_eq_true rfl) dX5_pipe_51) (fun t1 t2 u E9 ce q9 H1 locs1 hu ht => xt_pass X hlk hout (tc_r hu hm) ht (x_fits (lv2 := 0) X hw t1 t2).1 (x_fits (lv2 := 0) X hw t1 t2).2) (fun r3 hr3 H locs cells slots hw hS => ?_)
  replace hm := tc_l hr3 hm
  refine lv_aload_n hx hb dX5_pipe_54 rfl (lv_at hl 0 rfl) ?_
  obtain ⟨u4, hu4, hm⟩ := ob_s hm
  obtain ⟨w5, hw5, hm⟩ := ob_s hm
  refine xr_retv hS (xr_runV X hw (met_X5_next N r3 x0 w5 hw5) (x_cv X (lv := 4) (by omega) (by decide) cx_X5_next (lw_V q788 q790 qs12 q126 q791)) xc4 hu4 rfl hl.1 rfl (Nat.le_of_ble_eq_true rfl) dX5_pipe_55) (fun H locs cells slots hw hS => ?_)
  refine lv_aload_n hx hb dX5_pipe_58 rfl (lv_at hl 0 rfl) ?_
  obtain ⟨v6, hv6, hm⟩ := ob_s hm
  refine xr_val X hw xc4 in_X5 2 (by decide) q744 (f_obj_s hv6) dX5_pipe_59 ?_
  obtain ⟨v7, hv7, hm⟩ := ob_s hm
  refine xr_valN X hw xc2 in_X3 3 (by decide) q219 (f_obj_s hv7) dX5_pipe_62 ?_
  refine lv_iload_n hx hb dX5_pipe_65 rfl (lv_at hl 1 rfl) ?_
  refine lv_iload_n hx hb dX5_pipe_66 rfl (lv_at hl 2 rfl) ?_
  obtain ⟨S8, hS8, hm⟩ := ob_s hm
  refine xr_iast X hw hS hS8 dX5_pipe_67 (fun H locs hw hS => ?_)
  refine lv_aload_n hx hb dX5_pipe_68 rfl (lv_at hl 0 rfl) ?_
  obtain ⟨v9, hv9, hm⟩ := ob_s hm
  refine xr_val X hw xc4 in_X5 6 (by decide) q749 (f_int_s hv9) dX5_pipe_69 ?_
  refine lv_iconst (v := 2) hx hb dX5_pipe_72 (by decide) ?_
  refine lv_icmp_ne (tgt := 115) hx hb dX5_pipe_73 (by decide) (fun c10 => ?_) (fun c10 => ?_)
  · replace hm := if_f c10 hm
    exact wkX_X5_pipe_115 X hr hlk hnm hlT hout hw0 N S8 x0 x1 H locs ls _ _ hm hw hS (lv_sub hl [0, 1] rfl)
  · replace hm := if_t c10 hm
    refine lv_aload_n hx hb dX5_pipe_76 rfl (lv_at hl 0 rfl) ?_
    obtain ⟨u11, hu11, hm⟩ := ob_s hm
    obtain ⟨w12, hw12, hm⟩ := tb_s hm
    refine xt_reti hS (xt_runV X hw (met_X5_cupNow hlT N S8 x0 w12 hw12) (x_cv X (lv := 6) (by omega) (by decide) cx_X5_cupNow (lw_V q1160 q1162 qs34 q126 q1163)) xc4 hu11 rfl hl.1 rfl (Nat.le_of_ble_eq_true rfl) dX5_pipe_77) (fun t1 t2 u E9 ce q9 H1 locs1 hu ht => xt_pass X hlk hout (tc_r hu hm) ht (x_fits (lv2 := 0) X hw t1 t2).1 (x_fits (lv2 := 0) X hw t1 t2).2) (fun r13 hr13 H locs cells slots hw hS => ?_)
    replace hm := tc_l hr13 hm
    refine lv_istore_n (lv' := [(3, .int r13.2), (0, .ref x0), (1, .int x1), (2, .int x2)]) hx hb dX5_pipe_80 rfl hl (by decide) rfl (fun ls hl => ?_)
    refine lv_aload_n hx hb dX5_pipe_81 rfl (lv_at hl 1 rfl) ?_
    refine lv_iload_n hx hb dX5_pipe_82 rfl (lv_at hl 0 rfl) ?_
    refine lv_iload_n hx hb dX5_pipe_83 rfl (lv_at hl 2 rfl) ?_
    refine lv_icmp_le (tgt := 96) hx hb dX5_pipe_84 (by decide) (fun c14 => ?_) (fun c14 => ?_)
    · replace hm := if_t c14 hm
      refine lv_iconst (v := 0) hx hb dX5_pipe_96 (by decide) ?_
      exact wkX_X5_pipe_97 X hr hlk hnm hlT hout hw0 N r13.1 x0 x1 r13.2 x0 0 H locs ls _ _ hm hw hS (lv_sub hl [1, 2, 0] rfl)
    · replace hm := if_f c14 hm
      refine lv_iload_n hx hb dX5_pipe_87 rfl (lv_at hl 0 rfl) ?_
      refine lv_iload_n hx hb dX5_pipe_88 rfl (lv_at hl 3 rfl) ?_
      refine lv_icmp_eq (tgt := 96) hx hb dX5_pipe_89 (by decide) (fun c15 => ?_) (fun c15 => ?_)
      · replace hm := if_t c15 hm
        refine lv_iconst (v := 0) hx hb dX5_pipe_96 (by decide) ?_
        exact wkX_X5_pipe_97 X hr hlk hnm hlT hout hw0 N r13.1 x0 x1 r13.2 x0 0 H locs ls _ _ hm hw hS (lv_sub hl [1, 2, 0] rfl)
      · replace hm := if_f c15 hm
        refine lv_iconst (v := 1) hx hb dX5_pipe_92 (by decide) ?_
        refine lv_goto (tgt := 97) hx hb dX5_pipe_93 (by decide) ?_
        exact wkX_X5_pipe_97 X hr hlk hnm hlT hout hw0 N r13.1 x0 x1 r13.2 x0 1 H locs ls _ _ hm hw hS (lv_sub hl [1, 2, 0] rfl)
def kX_X5_pipe_26 (g : XC) (N : Nat) (S : XS) (x0 : Nat) (x1 : Int32) (t0 : Nat) (t1 : Int32) : Option ((XS) ⊕ XT) :=
  (f_cls S 4 t0).bind fun u1 =>
  tbind (kX_X5_want g N S t0 t1 4) fun r3 =>
  (f_cls r3 4 x0).bind fun u4 =>
  (kX_X5_next g N r3 x0).bind fun w5 =>
  (f_cls w5 4 x0).bind fun u6 =>
  tbind (kX_X5_cupNow g N w5 x0) fun r8 =>
  if r8.2 ≤ x1 then
    kX_X5_pipe_50 g N r8.1 x0 x1 r8.2 x0 0
  else
    kX_X5_pipe_50 g N r8.1 x0 x1 r8.2 x0 1
theorem wkX_X5_pipe_26 {p : Program} {l : Launch} {e : Env} {s : State} {m : MethodId} {args : Array Value} {below : List Frame} {meth : Method} {c : Code} {g : XC} {D : va_G} {A : Nat → Prop} {S0 : XS} {w : (XS) ⊕ XT} (X : xX g D A RX5 S0 p s m args c cX5_pipe 4) (hr : meth.sig.returnType = (Option.none : Option Jvm.ClassFile.FieldType)) (hlk : meth.locks = false) (hnm : meth.name = yX5_pipe.name) (hlT : l.stackTraces = false) (hout : ∀ x ∈ c.exceptionTable.toList, False) (hw0 : xW g D A S0 s s.heap) (N : Nat) :
    ∀ (S : XS) (x0 : Nat) (x1 : Int32) (t0 : Nat) (t1 : Int32) (H : Heap) (locs : List Loc) (ls : Array Slot) (cells slots : Nat), kX_X5_pipe_26 g N S x0 x1 t0 t1 = some w → xW g D A S s H → va_S A s.heap H locs → lv_has ls 4 [(0, .ref x0), (1, .int x1)] → W p l e (xRm g S0 7) s m args below meth c H locs cells slots (vx_MQ below (xTv g D A w) (xTx g D A w) args s (g.2.1 - xTop S0) (g.2.2.1 - xSl S0) A) (F0 m 26 ls [.int t1, .ref t0]) := by
  obtain ⟨hx, hb, -, hown, hts, -⟩ := id X
  intro S x0 x1 t0 t1 H locs ls cells slots hm hw hS hl
  unfold kX_X5_pipe_26 at hm
  refine lv_iconst (v := 4) hx hb dX5_pipe_26 (by decide) ?_
  obtain ⟨u1, hu1, hm⟩ := ob_s hm
  obtain ⟨w2, hw2, hm⟩ := tb_s hm
  refine xt_retv hS (xt_runV X hw (met_X5_want hlT N S t0 t1 4 w2 hw2) (x_cv X (lv := 4) (by omega) (by decide) cx_X5_want (lw_V q910 q912 qs20 q126 q913)) xc4 hu1 rfl hl.1 rfl (Nat.le_of_ble_eq_true rfl) dX5_pipe_27) (fun t1 t2 u E9 ce q9 H1 locs1 hu ht => xt_pass X hlk hout (tc_r hu hm) ht (x_fits (lv2 := 0) X hw t1 t2).1 (x_fits (lv2 := 0) X hw t1 t2).2) (fun r3 hr3 H locs cells slots hw hS => ?_)
  replace hm := tc_l hr3 hm
  refine lv_aload_n hx hb dX5_pipe_30 rfl (lv_at hl 0 rfl) ?_
  obtain ⟨u4, hu4, hm⟩ := ob_s hm
  obtain ⟨w5, hw5, hm⟩ := ob_s hm
  refine xr_retv hS (xr_runV X hw (met_X5_next N r3 x0 w5 hw5) (x_cv X (lv := 4) (by omega) (by decide) cx_X5_next (lw_V q788 q790 qs12 q126 q791)) xc4 hu4 rfl hl.1 rfl (Nat.le_of_ble_eq_true rfl) dX5_pipe_31) (fun H locs cells slots hw hS => ?_)
  refine lv_aload_n hx hb dX5_pipe_34 rfl (lv_at hl 0 rfl) ?_
  obtain ⟨u6, hu6, hm⟩ := ob_s hm
  obtain ⟨w7, hw7, hm⟩ := tb_s hm
  refine xt_reti hS (xt_runV X hw (met_X5_cupNow hlT N w5 x0 w7 hw7) (x_cv X (lv := 6) (by omega) (by decide) cx_X5_cupNow (lw_V q1160 q1162 qs34 q126 q1163)) xc4 hu6 rfl hl.1 rfl (Nat.le_of_ble_eq_true rfl) dX5_pipe_35) (fun t1 t2 u E9 ce q9 H1 locs1 hu ht => xt_pass X hlk hout (tc_r hu hm) ht (x_fits (lv2 := 0) X hw t1 t2).1 (x_fits (lv2 := 0) X hw t1 t2).2) (fun r8 hr8 H locs cells slots hw hS => ?_)
  replace hm := tc_l hr8 hm
  refine lv_istore_n (lv' := [(2, .int r8.2), (0, .ref x0), (1, .int x1)]) hx hb dX5_pipe_38 rfl hl (by decide) rfl (fun ls hl => ?_)
  refine lv_aload_n hx hb dX5_pipe_39 rfl (lv_at hl 1 rfl) ?_
  refine lv_iload_n hx hb dX5_pipe_40 rfl (lv_at hl 0 rfl) ?_
  refine lv_iload_n hx hb dX5_pipe_41 rfl (lv_at hl 2 rfl) ?_
  refine lv_icmp_le (tgt := 49) hx hb dX5_pipe_42 (by decide) (fun c9 => ?_) (fun c9 => ?_)
  · replace hm := if_t c9 hm
    refine lv_iconst (v := 0) hx hb dX5_pipe_49 (by decide) ?_
    exact wkX_X5_pipe_50 X hr hlk hnm hlT hout hw0 N r8.1 x0 x1 r8.2 x0 0 H locs ls _ _ hm hw hS (lv_sub hl [1, 2, 0] rfl)
  · replace hm := if_f c9 hm
    refine lv_iconst (v := 1) hx hb dX5_pipe_45 (by decide) ?_
    refine lv_goto (tgt := 50) hx hb dX5_pipe_46 (by decide) ?_
    exact wkX_X5_pipe_50 X hr hlk hnm hlT hout hw0 N r8.1 x0 x1 r8.2 x0 1 H locs ls _ _ hm hw hS (lv_sub hl [1, 2, 0] rfl)
def kX_X5_pipe (g : XC) (N : Nat) (S : XS) (x0 : Nat) : Option ((XS) ⊕ XT) :=
  (f_cls S 4 x0).bind fun u1 =>
  (kX_X5_next g N S x0).bind fun w2 =>
  (f_cls w2 4 x0).bind fun u3 =>
  tbind (kX_X5_cupNow g N w2 x0) fun r5 =>
  (f_int r5.1 4 x0 11).bind fun v6 =>
  (kX_X1_isOf g N v6 r5.2).bind fun w7 =>
  if w7 = 0 then
    kX_X5_pipe_26 g N r5.1 x0 r5.2 x0 1
  else
    kX_X5_pipe_26 g N r5.1 x0 r5.2 x0 0
theorem cx_X5_pipe : yX5_pipe.cls = RX5 ∧ yX5_pipe.cls ≠ "java/lang/invoke/MethodHandle" ∧ yX5_pipe.cls ≠ "java/lang/invoke/VarHandle" ∧ (parseMethodDescriptor yX5_pipe.desc).map (fun d => d.parameters.length) = some 0 := by decide +kernel
theorem met_X5_pipe {l : Launch} {g : XC} {D : va_G} {A : Nat → Prop} (hlT : l.stackTraces = false) (N : Nat) (S : XS) (x0 : Nat) (w : (XS) ⊕ XT) (hm : kX_X5_pipe g N S x0 = some w) : vx_Met l yX5_pipe (ws_ yX5_pipe cX5_pipe 4 (Option.none : Option Jvm.ClassFile.FieldType)) (xRm g S 7) (xPre g D A [.ref x0] S) (xTv g D A w) (xTx g D A w) (g.2.1 - xTop S) (g.2.2.1 - xSl S) A := by
  refine x_startT (own := RX5) (by decide +kernel) rfl (Nat.le_of_ble_eq_true rfl) (fun p e s m below meth c ls X hr hlk hnm hout hw hl => ?_)
  have hw0 := hw
  obtain ⟨hx, hb, -, hown, hts, -⟩ := id X
  have hl : lv_has ls 4 [(0, .ref x0)] := hl
  have hg : ∀ (H : Heap) (locs : List Loc) (cells slots : Nat), xW g D A S s H → va_S A s.heap H locs → W p l e (xRm g S 7) s m ([.ref x0] : List Value).toArray below meth c H locs cells slots (vx_MQ below (xTv g D A w) (xTx g D A w) ([.ref x0] : List Value).toArray s (g.2.1 - xTop S) (g.2.2.1 - xSl S) A) (F0 m 0 ls []) := by
    intro H locs cells slots hw hS
    unfold kX_X5_pipe at hm
    refine lv_aload_n hx hb dX5_pipe_0 rfl (lv_at hl 0 rfl) ?_
    obtain ⟨u1, hu1, hm⟩ := ob_s hm
    obtain ⟨w2, hw2, hm⟩ := ob_s hm
    refine xr_retv hS (xr_runV X hw (met_X5_next N S x0 w2 hw2) (x_cv X (lv := 4) (by omega) (by decide) cx_X5_next (lw_V q788 q790 qs12 q126 q791)) xc4 hu1 rfl hl.1 rfl (Nat.le_of_ble_eq_true rfl) dX5_pipe_1) (fun H locs cells slots hw hS => ?_)
    refine lv_aload_n hx hb dX5_pipe_4 rfl (lv_at hl 0 rfl) ?_
    obtain ⟨u3, hu3, hm⟩ := ob_s hm
    obtain ⟨w4, hw4, hm⟩ := tb_s hm
    refine xt_reti hS (xt_runV X hw (met_X5_cupNow hlT N w2 x0 w4 hw4) (x_cv X (lv := 6) (by omega) (by decide) cx_X5_cupNow (lw_V q1160 q1162 qs34 q126 q1163)) xc4 hu3 rfl hl.1 rfl (Nat.le_of_ble_eq_true rfl) dX5_pipe_5) (fun t1 t2 u E9 ce q9 H1 locs1 hu ht => xt_pass X hlk hout (tc_r hu hm) ht (x_fits (lv2 := 0) X hw t1 t2).1 (x_fits (lv2 := 0) X hw t1 t2).2) (fun r5 hr5 H locs cells slots hw hS => ?_)
    replace hm := tc_l hr5 hm
    refine lv_istore_n (lv' := [(1, .int r5.2), (0, .ref x0)]) hx hb dX5_pipe_8 rfl hl (by decide) rfl (fun ls hl => ?_)
    refine lv_aload_n hx hb dX5_pipe_9 rfl (lv_at hl 1 rfl) ?_
    refine lv_aload_n hx hb dX5_pipe_10 rfl (lv_at hl 1 rfl) ?_
    obtain ⟨v6, hv6, hm⟩ := ob_s hm
    refine xr_val X hw xc4 in_X5 11 (by decide) q755 (f_int_s hv6) dX5_pipe_11 ?_
    refine lv_iload_n hx hb dX5_pipe_14 rfl (lv_at hl 0 rfl) ?_
    obtain ⟨w7, hw7, hm⟩ := ob_s hm
    refine xr_reti hS (xr_runSN X hw (met_X1_isOf N r5.1 v6 r5.2 w7 hw7) (x_cn X (lv := 0) (by omega) (by decide) cx_X1_isOf (lw_meth q478) q115 q909) q477 rfl hl.1 rfl (Nat.le_of_ble_eq_true rfl) dX5_pipe_15) (fun H locs cells slots hw hS => ?_)
    refine lv_if_ne (tgt := 25) hx hb dX5_pipe_18 (by decide) (fun c8 => ?_) (fun c8 => ?_)
    · replace hm := if_f c8 hm
      refine lv_iconst (v := 0) hx hb dX5_pipe_25 (by decide) ?_
      exact wkX_X5_pipe_26 X hr hlk hnm hlT hout hw0 N r5.1 x0 r5.2 x0 0 H locs ls _ _ hm hw hS (lv_sub hl [1, 0] rfl)
    · replace hm := if_t c8 hm
      refine lv_iconst (v := 1) hx hb dX5_pipe_21 (by decide) ?_
      refine lv_goto (tgt := 26) hx hb dX5_pipe_22 (by decide) ?_
      exact wkX_X5_pipe_26 X hr hlk hnm hlT hout hw0 N r5.1 x0 r5.2 x0 1 H locs ls _ _ hm hw hS (lv_sub hl [1, 0] rfl)
  exact hg _ _ _ _ hw va_S.rf
/-! line -/
def kX_X5_line_53 (g : XC) (N : Nat) (S : XS) (x0 : Nat) : Option ((XS) ⊕ XT) :=
  (f_cls S 4 x0).bind fun u1 =>
  (kX_X5_isSign g N S x0 59).bind fun w2 =>
  (f_cls w2.1 4 x0).bind fun u3 =>
  tbind (kX_X5_want g N w2.1 x0 w2.2 1) fun r5 =>
  (f_cls r5 4 x0).bind fun u6 =>
  (kX_X5_next g N r5 x0).bind fun w7 =>
  some (.inl w7)
theorem wkX_X5_line_53 {p : Program} {l : Launch} {e : Env} {s : State} {m : MethodId} {args : Array Value} {below : List Frame} {meth : Method} {c : Code} {g : XC} {D : va_G} {A : Nat → Prop} {S0 : XS} {w : (XS) ⊕ XT} (X : xX g D A RX5 S0 p s m args c cX5_line 2) (hr : meth.sig.returnType = (Option.none : Option Jvm.ClassFile.FieldType)) (hlk : meth.locks = false) (hnm : meth.name = yX5_line.name) (hlT : l.stackTraces = false) (hout : ∀ x ∈ c.exceptionTable.toList, False) (hw0 : xW g D A S0 s s.heap) (N : Nat) :
    ∀ (S : XS) (x0 : Nat) (H : Heap) (locs : List Loc) (ls : Array Slot) (cells slots : Nat), kX_X5_line_53 g N S x0 = some w → xW g D A S s H → va_S A s.heap H locs → lv_has ls 2 [(0, .ref x0)] → W p l e (xRm g S0 70) s m args below meth c H locs cells slots (vx_MQ below (xTv g D A w) (xTx g D A w) args s (g.2.1 - xTop S0) (g.2.2.1 - xSl S0) A) (F0 m 53 ls []) := by
  obtain ⟨hx, hb, -, hown, hts, -⟩ := id X
  intro S x0 H locs ls cells slots hm hw hS hl
  unfold kX_X5_line_53 at hm
  refine lv_aload_n hx hb dX5_line_53 rfl (lv_at hl 0 rfl) ?_
  refine lv_aload_n hx hb dX5_line_54 rfl (lv_at hl 0 rfl) ?_
  refine lv_bipush (v := 59) hx hb dX5_line_55 (by decide) ?_
  obtain ⟨u1, hu1, hm⟩ := ob_s hm
  obtain ⟨w2, hw2, hm⟩ := ob_s hm
  refine xr_reti hS (xr_runV X hw (met_X5_isSign N S x0 59 w2 hw2) (x_cv X (lv := 0) (by omega) (by decide) cx_X5_isSign (lw_V q942 q944 qs22 q126 q945)) xc4 hu1 rfl hl.1 rfl (Nat.le_of_ble_eq_true rfl) dX5_line_57) (fun H locs cells slots hw hS => ?_)
  refine lv_iconst (v := 1) hx hb dX5_line_60 (by decide) ?_
  obtain ⟨u3, hu3, hm⟩ := ob_s hm
  obtain ⟨w4, hw4, hm⟩ := tb_s hm
  refine xt_retv hS (xt_runV X hw (met_X5_want hlT N w2.1 x0 w2.2 1 w4 hw4) (x_cv X (lv := 4) (by omega) (by decide) cx_X5_want (lw_V q910 q912 qs20 q126 q913)) xc4 hu3 rfl hl.1 rfl (Nat.le_of_ble_eq_true rfl) dX5_line_61) (fun t1 t2 u E9 ce q9 H1 locs1 hu ht => xt_pass X hlk hout (tc_r hu hm) ht (x_fits (lv2 := 0) X hw t1 t2).1 (x_fits (lv2 := 0) X hw t1 t2).2) (fun r5 hr5 H locs cells slots hw hS => ?_)
  replace hm := tc_l hr5 hm
  refine lv_aload_n hx hb dX5_line_64 rfl (lv_at hl 0 rfl) ?_
  obtain ⟨u6, hu6, hm⟩ := ob_s hm
  obtain ⟨w7, hw7, hm⟩ := ob_s hm
  refine xr_retv hS (xr_runV X hw (met_X5_next N r5 x0 w7 hw7) (x_cv X (lv := 4) (by omega) (by decide) cx_X5_next (lw_V q788 q790 qs12 q126 q791)) xc4 hu6 rfl hl.1 rfl (Nat.le_of_ble_eq_true rfl) dX5_line_65) (fun H locs cells slots hw hS => ?_)
  obtain rfl := Option.some.inj hm
  exact xt_vret X hr hlk hw hS dX5_line_68
def kX_X5_line (g : XC) (N : Nat) (S : XS) (x0 : Nat) : Option ((XS) ⊕ XT) :=
  (f_obj S 4 x0 3).bind fun v1 =>
  (f_cls S 4 x0).bind fun u2 =>
  (kX_X5_which g N S x0 v1).bind fun w3 =>
  if w3.2 = (-1) then
    (f_cls w3.1 4 x0).bind fun u5 =>
    (kX_X5_is g N w3.1 x0 (gSk g 6)).bind fun w6 =>
    if w6.2 = 0 then
      (f_cls w6.1 4 x0).bind fun u8 =>
      (kX_X5_is g N w6.1 x0 (gSk g 12)).bind fun w9 =>
      (f_cls w9.1 4 x0).bind fun u10 =>
      tbind (kX_X5_want g N w9.1 x0 w9.2 1) fun r12 =>
      (f_cls r12 4 x0).bind fun u13 =>
      tbind (kX_X5_pipe g N r12 x0) fun r15 =>
      kX_X5_line_53 g N r15 x0
    else
      (f_cls w6.1 4 x0).bind fun u16 =>
      tbind (kX_X5_cup g N w6.1 x0) fun r18 =>
      kX_X5_line_53 g N r18 x0
  else
    (f_cls w3.1 4 x0).bind fun u19 =>
    tbind (kX_X5_only g N w3.1 x0 w3.2) fun r21 =>
    kX_X5_line_53 g N r21 x0
theorem cx_X5_line : yX5_line.cls = RX5 ∧ yX5_line.cls ≠ "java/lang/invoke/MethodHandle" ∧ yX5_line.cls ≠ "java/lang/invoke/VarHandle" ∧ (parseMethodDescriptor yX5_line.desc).map (fun d => d.parameters.length) = some 0 := by decide +kernel
theorem met_X5_line {l : Launch} {g : XC} {D : va_G} {A : Nat → Prop} (hlT : l.stackTraces = false) (N : Nat) (S : XS) (x0 : Nat) (w : (XS) ⊕ XT) (hm : kX_X5_line g N S x0 = some w) : vx_Met l yX5_line (ws_ yX5_line cX5_line 2 (Option.none : Option Jvm.ClassFile.FieldType)) (xRm g S 70) (xPre g D A [.ref x0] S) (xTv g D A w) (xTx g D A w) (g.2.1 - xTop S) (g.2.2.1 - xSl S) A := by
  refine x_startT (own := RX5) (by decide +kernel) rfl (Nat.le_of_ble_eq_true rfl) (fun p e s m below meth c ls X hr hlk hnm hout hw hl => ?_)
  have hw0 := hw
  obtain ⟨hx, hb, -, hown, hts, -⟩ := id X
  have hl : lv_has ls 2 [(0, .ref x0)] := hl
  have hg : ∀ (H : Heap) (locs : List Loc) (cells slots : Nat), xW g D A S s H → va_S A s.heap H locs → W p l e (xRm g S 70) s m ([.ref x0] : List Value).toArray below meth c H locs cells slots (vx_MQ below (xTv g D A w) (xTx g D A w) ([.ref x0] : List Value).toArray s (g.2.1 - xTop S) (g.2.2.1 - xSl S) A) (F0 m 0 ls []) := by
    intro H locs cells slots hw hS
    unfold kX_X5_line at hm
    refine lv_aload_n hx hb dX5_line_0 rfl (lv_at hl 0 rfl) ?_
    refine lv_aload_n hx hb dX5_line_1 rfl (lv_at hl 0 rfl) ?_
    obtain ⟨v1, hv1, hm⟩ := ob_s hm
    refine xr_val X hw xc4 in_X5 3 (by decide) q746 (f_obj_s hv1) dX5_line_2 ?_
    obtain ⟨u2, hu2, hm⟩ := ob_s hm
    obtain ⟨w3, hw3, hm⟩ := ob_s hm
    refine xr_reti hS (xr_runV X hw (met_X5_which N S x0 v1 w3 hw3) (x_cv X (lv := 5) (by omega) (by decide) cx_X5_which (lw_V q881 q883 qs17 q126 q884)) xc4 hu2 rfl hl.1 rfl (Nat.le_of_ble_eq_true rfl) dX5_line_5) (fun H locs cells slots hw hS => ?_)
    refine lv_istore_n (lv' := [(1, .int w3.2), (0, .ref x0)]) hx hb dX5_line_8 rfl hl (by decide) rfl (fun ls hl => ?_)
    refine lv_iload_n hx hb dX5_line_9 rfl (lv_at hl 0 rfl) ?_
    refine lv_iconst (v := (-1)) hx hb dX5_line_10 (by decide) ?_
    refine lv_icmp_eq (tgt := 22) hx hb dX5_line_11 (by decide) (fun c4 => ?_) (fun c4 => ?_)
    · replace hm := if_t c4 hm
      refine lv_aload_n hx hb dX5_line_22 rfl (lv_at hl 1 rfl) ?_
      refine xr_ldcS (i := 6) (q := (49, "cup")) X rfl dX5_line_23 ?_
      obtain ⟨u5, hu5, hm⟩ := ob_s hm
      obtain ⟨w6, hw6, hm⟩ := ob_s hm
      refine xr_reti hS (xr_runV X hw (met_X5_is N w3.1 x0 (gSk g 6) w6 hw6) (x_cv X (lv := 4) (by omega) (by decide) cx_X5_is (lw_V q885 q887 qs18 q126 q888)) xc4 hu5 rfl hl.1 rfl (Nat.le_of_ble_eq_true rfl) dX5_line_25) (fun H locs cells slots hw hS => ?_)
      refine lv_if_eq (tgt := 38) hx hb dX5_line_28 (by decide) (fun c7 => ?_) (fun c7 => ?_)
      · replace hm := if_t c7 hm
        refine lv_aload_n hx hb dX5_line_38 rfl (lv_at hl 1 rfl) ?_
        refine lv_aload_n hx hb dX5_line_39 rfl (lv_at hl 1 rfl) ?_
        refine xr_ldcS (i := 12) (q := (247, "pipe")) X rfl dX5_line_40 ?_
        obtain ⟨u8, hu8, hm⟩ := ob_s hm
        obtain ⟨w9, hw9, hm⟩ := ob_s hm
        refine xr_reti hS (xr_runV X hw (met_X5_is N w6.1 x0 (gSk g 12) w9 hw9) (x_cv X (lv := 4) (by omega) (by decide) cx_X5_is (lw_V q885 q887 qs18 q126 q888)) xc4 hu8 rfl hl.1 rfl (Nat.le_of_ble_eq_true rfl) dX5_line_42) (fun H locs cells slots hw hS => ?_)
        refine lv_iconst (v := 1) hx hb dX5_line_45 (by decide) ?_
        obtain ⟨u10, hu10, hm⟩ := ob_s hm
        obtain ⟨w11, hw11, hm⟩ := tb_s hm
        refine xt_retv hS (xt_runV X hw (met_X5_want hlT N w9.1 x0 w9.2 1 w11 hw11) (x_cv X (lv := 4) (by omega) (by decide) cx_X5_want (lw_V q910 q912 qs20 q126 q913)) xc4 hu10 rfl hl.1 rfl (Nat.le_of_ble_eq_true rfl) dX5_line_46) (fun t1 t2 u E9 ce q9 H1 locs1 hu ht => xt_pass X hlk hout (tc_r hu hm) ht (x_fits (lv2 := 0) X hw t1 t2).1 (x_fits (lv2 := 0) X hw t1 t2).2) (fun r12 hr12 H locs cells slots hw hS => ?_)
        replace hm := tc_l hr12 hm
        refine lv_aload_n hx hb dX5_line_49 rfl (lv_at hl 1 rfl) ?_
        obtain ⟨u13, hu13, hm⟩ := ob_s hm
        obtain ⟨w14, hw14, hm⟩ := tb_s hm
        refine xt_retv hS (xt_runV X hw (met_X5_pipe hlT N r12 x0 w14 hw14) (x_cv X (lv := 7) (by omega) (by decide) cx_X5_pipe (lw_V q1156 q1158 qs33 q126 q1159)) xc4 hu13 rfl hl.1 rfl (Nat.le_of_ble_eq_true rfl) dX5_line_50) (fun t1 t2 u E9 ce q9 H1 locs1 hu ht => xt_pass X hlk hout (tc_r hu hm) ht (x_fits (lv2 := 0) X hw t1 t2).1 (x_fits (lv2 := 0) X hw t1 t2).2) (fun r15 hr15 H locs cells slots hw hS => ?_)
        replace hm := tc_l hr15 hm
        exact wkX_X5_line_53 X hr hlk hnm hlT hout hw0 N r15 x0 H locs ls _ _ hm hw hS (lv_sub hl [1] rfl)
      · replace hm := if_f c7 hm
        refine lv_aload_n hx hb dX5_line_31 rfl (lv_at hl 1 rfl) ?_
        obtain ⟨u16, hu16, hm⟩ := ob_s hm
        obtain ⟨w17, hw17, hm⟩ := tb_s hm
        refine xt_retv hS (xt_runV X hw (met_X5_cup hlT N w6.1 x0 w17 hw17) (x_cv X (lv := 7) (by omega) (by decide) cx_X5_cup (lw_V q1128 q1130 qs32 q126 q1131)) xc4 hu16 rfl hl.1 rfl (Nat.le_of_ble_eq_true rfl) dX5_line_32) (fun t1 t2 u E9 ce q9 H1 locs1 hu ht => xt_pass X hlk hout (tc_r hu hm) ht (x_fits (lv2 := 0) X hw t1 t2).1 (x_fits (lv2 := 0) X hw t1 t2).2) (fun r18 hr18 H locs cells slots hw hS => ?_)
        replace hm := tc_l hr18 hm
        refine lv_goto (tgt := 53) hx hb dX5_line_35 (by decide) ?_
        exact wkX_X5_line_53 X hr hlk hnm hlT hout hw0 N r18 x0 H locs ls _ _ hm hw hS (lv_sub hl [1] rfl)
    · replace hm := if_f c4 hm
      refine lv_aload_n hx hb dX5_line_14 rfl (lv_at hl 1 rfl) ?_
      refine lv_iload_n hx hb dX5_line_15 rfl (lv_at hl 0 rfl) ?_
      obtain ⟨u19, hu19, hm⟩ := ob_s hm
      obtain ⟨w20, hw20, hm⟩ := tb_s hm
      refine xt_retv hS (xt_runV X hw (met_X5_only hlT N w3.1 x0 w3.2 w20 hw20) (x_cv X (lv := 69) (by omega) (by decide) cx_X5_only (lw_V q905 q907 qs19 q126 q908)) xc4 hu19 rfl hl.1 rfl (Nat.le_of_ble_eq_true rfl) dX5_line_16) (fun t1 t2 u E9 ce q9 H1 locs1 hu ht => xt_pass X hlk hout (tc_r hu hm) ht (x_fits (lv2 := 0) X hw t1 t2).1 (x_fits (lv2 := 0) X hw t1 t2).2) (fun r21 hr21 H locs cells slots hw hS => ?_)
      replace hm := tc_l hr21 hm
      refine lv_goto (tgt := 53) hx hb dX5_line_19 (by decide) ?_
      exact wkX_X5_line_53 X hr hlk hnm hlT hout hw0 N r21 x0 H locs ls _ _ hm hw hS (lv_sub hl [1] rfl)
  exact hg _ _ _ _ hw va_S.rf
/-! read -/
def kX_X5_read_4 (g : XC) (N : Nat) : Nat → XS → Nat → Option ((XS × Nat) ⊕ XT)
  | 0, _, _ => none
  | n + 1, S, x0 =>
    (f_int S 4 x0 6).bind fun v1 =>
    if v1 = 0 then
      (f_obj S 4 x0 1).bind fun v3 =>
      some (.inl (S, v3))
    else
      (f_cls S 4 x0).bind fun u4 =>
      tbind (kX_X5_line g N S x0) fun r6 =>
      kX_X5_read_4 g N n r6 x0
theorem wkX_X5_read_4 {p : Program} {l : Launch} {e : Env} {s : State} {m : MethodId} {args : Array Value} {below : List Frame} {meth : Method} {c : Code} {g : XC} {D : va_G} {A : Nat → Prop} {S0 : XS} {w : (XS × Nat) ⊕ XT} (X : xX g D A RX5 S0 p s m args c cX5_read 1) (hr : meth.sig.returnType = (Option.some (Jvm.ClassFile.FieldType.object "DripCups$Cave"))) (hlk : meth.locks = false) (hnm : meth.name = yX5_read.name) (hlT : l.stackTraces = false) (hout : ∀ x ∈ c.exceptionTable.toList, False) (hw0 : xW g D A S0 s s.heap) (N : Nat) :
    ∀ (n : Nat) (S : XS) (x0 : Nat) (H : Heap) (locs : List Loc) (ls : Array Slot) (cells slots : Nat), kX_X5_read_4 g N n S x0 = some w → xW g D A S s H → va_S A s.heap H locs → lv_has ls 1 [(0, .ref x0)] → W p l e (xRm g S0 71) s m args below meth c H locs cells slots (vx_MQ below (xTr g D A w) (xTx g D A w) args s (g.2.1 - xTop S0) (g.2.2.1 - xSl S0) A) (F0 m 4 ls []) := by
  obtain ⟨hx, hb, -, hown, hts, -⟩ := id X
  intro n
  induction n with
  | zero =>
    intro S x0 H locs ls cells slots hm
    cases hm
  | succ n ih =>
    intro S x0 H locs ls cells slots hm hw hS hl
    rw [kX_X5_read_4] at hm
    refine lv_aload_n hx hb dX5_read_4 rfl (lv_at hl 0 rfl) ?_
    obtain ⟨v1, hv1, hm⟩ := ob_s hm
    refine xr_val X hw xc4 in_X5 6 (by decide) q749 (f_int_s hv1) dX5_read_5 ?_
    refine lv_if_eq (tgt := 18) hx hb dX5_read_8 (by decide) (fun c2 => ?_) (fun c2 => ?_)
    · replace hm := if_t c2 hm
      refine lv_aload_n hx hb dX5_read_18 rfl (lv_at hl 0 rfl) ?_
      obtain ⟨v3, hv3, hm⟩ := ob_s hm
      refine xr_val X hw xc4 in_X5 1 (by decide) q743 (f_obj_s hv3) dX5_read_19 ?_
      obtain rfl := Option.some.inj hm
      exact xt_aret X hr (by first | exact Or.inl ⟨_, rfl⟩ | exact Or.inr ⟨_, rfl⟩) hlk hw hS dX5_read_22
    · replace hm := if_f c2 hm
      refine lv_aload_n hx hb dX5_read_11 rfl (lv_at hl 0 rfl) ?_
      obtain ⟨u4, hu4, hm⟩ := ob_s hm
      obtain ⟨w5, hw5, hm⟩ := tb_s hm
      refine xt_retv hS (xt_runV X hw (met_X5_line hlT N S x0 w5 hw5) (x_cv X (lv := 70) (by omega) (by decide) cx_X5_line (lw_V q877 q879 qs16 q126 q880)) xc4 hu4 rfl hl.1 rfl (Nat.le_of_ble_eq_true rfl) dX5_read_12) (fun t1 t2 u E9 ce q9 H1 locs1 hu ht => xt_pass X hlk hout (tc_r hu hm) ht (x_fits (lv2 := 0) X hw t1 t2).1 (x_fits (lv2 := 0) X hw t1 t2).2) (fun r6 hr6 H locs cells slots hw hS => ?_)
      replace hm := tc_l hr6 hm
      refine lv_goto (tgt := 4) hx hb dX5_read_15 (by decide) ?_
      exact ih r6 x0 H locs ls _ _ hm hw hS (lv_sub hl [0] rfl)
def kX_X5_read (g : XC) (N : Nat) (S : XS) (x0 : Nat) : Option ((XS × Nat) ⊕ XT) :=
  (f_cls S 4 x0).bind fun u1 =>
  (kX_X5_next g N S x0).bind fun w2 =>
  kX_X5_read_4 g N N w2 x0
theorem cx_X5_read : yX5_read.cls = RX5 ∧ yX5_read.cls ≠ "java/lang/invoke/MethodHandle" ∧ yX5_read.cls ≠ "java/lang/invoke/VarHandle" ∧ (parseMethodDescriptor yX5_read.desc).map (fun d => d.parameters.length) = some 0 := by decide +kernel
theorem met_X5_read {l : Launch} {g : XC} {D : va_G} {A : Nat → Prop} (hlT : l.stackTraces = false) (N : Nat) (S : XS) (x0 : Nat) (w : (XS × Nat) ⊕ XT) (hm : kX_X5_read g N S x0 = some w) : vx_Met l yX5_read (ws_ yX5_read cX5_read 1 (Option.some (Jvm.ClassFile.FieldType.object "DripCups$Cave"))) (xRm g S 71) (xPre g D A [.ref x0] S) (xTr g D A w) (xTx g D A w) (g.2.1 - xTop S) (g.2.2.1 - xSl S) A := by
  refine x_startT (own := RX5) (by decide +kernel) rfl (Nat.le_of_ble_eq_true rfl) (fun p e s m below meth c ls X hr hlk hnm hout hw hl => ?_)
  have hw0 := hw
  obtain ⟨hx, hb, -, hown, hts, -⟩ := id X
  have hl : lv_has ls 1 [(0, .ref x0)] := hl
  have hg : ∀ (H : Heap) (locs : List Loc) (cells slots : Nat), xW g D A S s H → va_S A s.heap H locs → W p l e (xRm g S 71) s m ([.ref x0] : List Value).toArray below meth c H locs cells slots (vx_MQ below (xTr g D A w) (xTx g D A w) ([.ref x0] : List Value).toArray s (g.2.1 - xTop S) (g.2.2.1 - xSl S) A) (F0 m 0 ls []) := by
    intro H locs cells slots hw hS
    unfold kX_X5_read at hm
    refine lv_aload_n hx hb dX5_read_0 rfl (lv_at hl 0 rfl) ?_
    obtain ⟨u1, hu1, hm⟩ := ob_s hm
    obtain ⟨w2, hw2, hm⟩ := ob_s hm
    refine xr_retv hS (xr_runV X hw (met_X5_next N S x0 w2 hw2) (x_cv X (lv := 4) (by omega) (by decide) cx_X5_next (lw_V q788 q790 qs12 q126 q791)) xc4 hu1 rfl hl.1 rfl (Nat.le_of_ble_eq_true rfl) dX5_read_1) (fun H locs cells slots hw hS => ?_)
    exact wkX_X5_read_4 X hr hlk hnm hlT hout hw0 N N w2 x0 H locs ls _ _ hm hw hS (lv_sub hl [0] rfl)
  exact hg _ _ _ _ hw va_S.rf
