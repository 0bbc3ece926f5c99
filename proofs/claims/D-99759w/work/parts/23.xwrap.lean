/-! DripCups.cave -/
def kX_X1_cave_17 (g : XC) (N : Nat) (S : XS) (x0 : Nat) (x1 : Int32) (t0 : Int32) : Option ((XS × Int32) ⊕ XT) :=
  tbind (kX_X1_right g N S t0) fun r2 =>
  (f_putI r2 1 x0 5 0).bind fun S3 =>
  (f_putI S3 1 x0 6 (-1)).bind fun S4 =>
  (xNew S4 13 (.inr (4, [.int 0, .null, .null, .null, .null, .int 0, .int 0, .int 0, .int 0, .int 0, .int 0, .int 0, .null]))).bind fun S5 =>
  (kX_X5_init g N S5 (xTop S4) x0 x1).bind fun w6 =>
  (f_cls w6 4 (xTop S4)).bind fun u7 =>
  hbind (kX_X5_read g N w6 (xTop S4)) (fun u =>
    if u.2.1 = 2 then
      (f_int u.1 4 (xTop S4) 7).bind fun v11 =>
      (f_putI u.1 1 x0 6 v11).bind fun S12 =>
      (f_obj S12 1 x0 7).bind fun v13 =>
      (a_int S12 0 v13 0).bind fun v14 =>
      (a_putI S12 0 v13 0 (v14 + 1)).bind fun S15 =>
      (f_int S15 9 u.2.2 6).bind fun v16 =>
      some (.inl (S15, v16))
    else
    none) <| fun r9 =>
  (f_putR r9.1 1 x0 1 (some r9.2)).bind fun S17 =>
  (f_obj S17 4 (xTop S4) 2).bind fun v18 =>
  (f_putR S17 1 x0 2 (some v18)).bind fun S19 =>
  (xNew S19 3 (.inr (10, [.int 0, .null, .int 0]))).bind fun S20 =>
  (kX_J2_init g N S20 (xTop S19)).bind fun w21 =>
  (f_putR w21 1 x0 8 (some (xTop S19))).bind fun S22 =>
  (xNew S22 3 (.inr (10, [.int 0, .null, .int 0]))).bind fun S23 =>
  (kX_J2_init g N S23 (xTop S22)).bind fun w24 =>
  (f_putR w24 1 x0 9 (some (xTop S22))).bind fun S25 =>
  (f_putR S25 1 x0 10 none).bind fun S26 =>
  some (.inl (S26, 0))
theorem wkX_X1_cave_17 {p : Program} {l : Launch} {e : Env} {s : State} {m : MethodId} {args : Array Value} {below : List Frame} {meth : Method} {c : Code} {g : XC} {D : va_G} {A : Nat → Prop} {S0 : XS} {w : (XS × Int32) ⊕ XT} (X : xX g D A RX1 S0 p s m args c cX1_cave 4) (hr : meth.sig.returnType = (Option.some Jvm.ClassFile.FieldType.int)) (hlk : meth.locks = false) (hnm : meth.name = yX1_cave.name) (hlT : l.stackTraces = false) (htab : c.exceptionTable.toList = tableOf [(40, 48, 51, 75)]) (hw0 : xW g D A S0 s s.heap) (N : Nat) :
    ∀ (S : XS) (x0 : Nat) (x1 : Int32) (t0 : Int32) (H : Heap) (locs : List Loc) (ls : Array Slot) (cells slots : Nat), kX_X1_cave_17 g N S x0 x1 t0 = some w → xW g D A S s H → va_S A s.heap H locs → lv_has ls 4 [(0, .ref x0), (1, .int x1)] → W p l e (xRm g S0 72) s m args below meth c H locs cells slots (vx_MQ below (xTi g D A w) (xTx g D A w) args s (g.2.1 - xTop S0) (g.2.2.1 - xSl S0) A) (F0 m 17 ls [.int t0]) := by
  obtain ⟨hx, hb, -, hown, hts, -⟩ := id X
  intro S x0 x1 t0 H locs ls cells slots hm hw hS hl
  unfold kX_X1_cave_17 at hm
  obtain ⟨w1, hw1, hm⟩ := tb_s hm
  refine xt_retv hS (xt_runS X hw (met_X1_right hlT N S t0 w1 hw1) (x_cs X (lv := 5) (by omega) (by decide) cx_X1_right (lw_S q655 q656 q115 q657)) rfl hl.1 rfl (Nat.le_of_ble_eq_true rfl) dX1_cave_17) (fun t1 t2 u E9 ce q9 H1 locs1 hu ht => xt_passH X hlk htab (by decide) (tc_r hu hm) ht (x_fits (lv2 := 0) X hw t1 t2).1 (x_fits (lv2 := 0) X hw t1 t2).2) (fun r2 hr2 H locs cells slots hw hS => ?_)
  replace hm := tc_l hr2 hm
  refine lv_aload_n hx hb dX1_cave_20 rfl (lv_at hl 0 rfl) ?_
  refine lv_iconst (v := 0) hx hb dX1_cave_21 (by decide) ?_
  obtain ⟨S3, hS3, hm⟩ := ob_s hm
  refine xr_putI X hw hS xc1 in_X1 tyX1_ok nmX1 5 (by decide) q285 rfl (tyX1_ok 5 (by decide)) rfl rfl hS3 dX1_cave_22 (fun H locs hw hS => ?_)
  refine lv_aload_n hx hb dX1_cave_25 rfl (lv_at hl 0 rfl) ?_
  refine lv_iconst (v := (-1)) hx hb dX1_cave_26 (by decide) ?_
  obtain ⟨S4, hS4, hm⟩ := ob_s hm
  refine xr_putI X hw hS xc1 in_X1 tyX1_ok nmX1 6 (by decide) q286 rfl (tyX1_ok 6 (by decide)) rfl rfl hS4 dX1_cave_27 (fun H locs hw hS => ?_)
  obtain ⟨S5, hS5, hm⟩ := ob_s hm
  refine xr_new (N := 13) X hw hS xc4 in_X5 tyX5_ok q722 q723 q126 (by intro j hj; exact df_X5 j hj) hS5 dX1_cave_30 (fun H cells slots hw hS => ?_)
  refine lv_dup hx hb dX1_cave_33 rfl ?_
  refine lv_aload_n hx hb dX1_cave_34 rfl (lv_at hl 0 rfl) ?_
  refine lv_iload_n hx hb dX1_cave_35 rfl (lv_at hl 1 rfl) ?_
  obtain ⟨w6, hw6, hm⟩ := ob_s hm
  refine xr_retv hS (xr_runI X hw (met_X5_init N S5 (xTop S4) x0 x1 w6 hw6) (x_ci X (lv := 4) (by omega) (by decide) rfl cx_X5_init (lw_meth q726) q126 q724 q725) rfl hl.1 rfl (Nat.le_of_ble_eq_true rfl) dX1_cave_36) (fun H locs cells slots hw hS => ?_)
  refine lv_astore_n (lv' := [(2, .ref (xTop S4)), (0, .ref x0), (1, .int x1)]) hx hb dX1_cave_39 rfl hl (by decide) rfl (fun ls hl => ?_)
  refine lv_aload_n hx hb dX1_cave_40 rfl (lv_at hl 1 rfl) ?_
  refine lv_aload_n hx hb dX1_cave_41 rfl (lv_at hl 0 rfl) ?_
  obtain ⟨u7, hu7, hm⟩ := ob_s hm
  obtain ⟨w8, hw8, hm⟩ := hb_s hm
  refine xt_retr hS (xt_runV X hw (met_X5_read hlT N w6 (xTop S4) w8 hw8) (x_cv X (lv := 71) (by omega) (by decide) cx_X5_read (lw_V q784 q785 q786 q126 q787)) xc4 hu7 rfl hl.1 rfl (Nat.le_of_ble_eq_true rfl) dX1_cave_42) (fun t1 t2 u E9 ce q9 H1 locs1 hu ht => ?_) (fun r9 hr9 H locs cells slots hw hS => ?_)
  · replace hm := hc_r hu hm
    by_cases c10 : u.2.1 = 2
    · replace hm := if_t c10 hm
      have h6 := ht.2.2.2.2.2.1 c10
      refine xt_catch X hw t1 t2 ht htab [] (⟨40, 48, 51, 75⟩ : ExceptionTableEntry) [] rfl (fun _ h => absurd h List.not_mem_nil) (by decide) (by decide) q654 (by rw [c10]; exact q916) (fun hw hS => ?_)
      rw [xBump_eq h6.2.1 h6.2.2] at hw
      obtain rfl := h6.1
      refine lv_astore_n (lv' := [(3, .ref u.2.2), (2, .ref (xTop S4)), (0, .ref x0), (1, .int x1)]) hx hb dX1_cave_51 rfl hl (by decide) rfl (fun ls hl => ?_)
      refine lv_aload_n hx hb dX1_cave_52 rfl (lv_at hl 2 rfl) ?_
      refine lv_aload_n hx hb dX1_cave_53 rfl (lv_at hl 1 rfl) ?_
      obtain ⟨v11, hv11, hm⟩ := ob_s hm
      refine xr_valN X hw xc4 in_X5 7 (by decide) q751 (f_int_s hv11) dX1_cave_54 ?_
      obtain ⟨S12, hS12, hm⟩ := ob_s hm
      refine xr_putI X hw hS xc1 in_X1 tyX1_ok nmX1 6 (by decide) q286 rfl (tyX1_ok 6 (by decide)) rfl rfl hS12 dX1_cave_57 (fun H locs hw hS => ?_)
      refine lv_aload_n hx hb dX1_cave_60 rfl (lv_at hl 2 rfl) ?_
      obtain ⟨v13, hv13, hm⟩ := ob_s hm
      refine xr_val X hw xc1 in_X1 7 (by decide) q287 (f_obj_s hv13) dX1_cave_61 ?_
      refine lv_iconst (v := 0) hx hb dX1_cave_64 (by decide) ?_
      refine lv_dup2_11 hx hb dX1_cave_65 rfl rfl ?_
      obtain ⟨v14, hv14, hm⟩ := ob_s hm
      refine xr_iald X hw hv14 dX1_cave_66 ?_
      refine lv_iconst (v := 1) hx hb dX1_cave_67 (by decide) ?_
      refine lv_iadd hx hb dX1_cave_68 ?_
      obtain ⟨S15, hS15, hm⟩ := ob_s hm
      refine xr_iast X hw hS hS15 dX1_cave_69 (fun H locs hw hS => ?_)
      refine lv_aload_n hx hb dX1_cave_70 rfl (lv_at hl 0 rfl) ?_
      obtain ⟨v16, hv16, hm⟩ := ob_s hm
      refine xr_valN X hw xc9 in_X6 6 (by decide) q933 (f_int_s hv16) dX1_cave_71 ?_
      obtain rfl := Option.some.inj hm
      exact xt_iret (v := v16) X hr hlk hw hS rfl dX1_cave_74
    replace hm := if_f c10 hm
    cases hm
  replace hm := hc_l hr9 hm
  obtain ⟨S17, hS17, hm⟩ := ob_s hm
  refine xr_putR (v := (some r9.2)) X hw hS xc1 in_X1 tyX1_ok nmX1 1 (by decide) q279 rfl (tyX1_ok 1 (by decide)) rfl hS17 dX1_cave_45 (fun H locs hw hS => ?_)
  refine lv_goto (tgt := 75) hx hb dX1_cave_48 (by decide) ?_
  refine lv_aload_n hx hb dX1_cave_75 rfl (lv_at hl 1 rfl) ?_
  refine lv_aload_n hx hb dX1_cave_76 rfl (lv_at hl 0 rfl) ?_
  obtain ⟨v18, hv18, hm⟩ := ob_s hm
  refine xr_valN X hw xc4 in_X5 2 (by decide) q745 (f_obj_s hv18) dX1_cave_77 ?_
  obtain ⟨S19, hS19, hm⟩ := ob_s hm
  refine xr_putR (v := (some v18)) X hw hS xc1 in_X1 tyX1_ok nmX1 2 (by decide) q281 rfl (tyX1_ok 2 (by decide)) rfl hS19 dX1_cave_80 (fun H locs hw hS => ?_)
  refine lv_aload_n hx hb dX1_cave_83 rfl (lv_at hl 1 rfl) ?_
  obtain ⟨S20, hS20, hm⟩ := ob_s hm
  refine xr_new (N := 3) X hw hS xc10 in_J2 tyJ2_ok q275 q163 q119 (by intro j hj; exact df_J2 j hj) hS20 dX1_cave_84 (fun H cells slots hw hS => ?_)
  refine lv_dup hx hb dX1_cave_87 rfl ?_
  obtain ⟨w21, hw21, hm⟩ := ob_s hm
  refine xr_retv hS (xr_runI X hw (met_J2_init N S20 (xTop S19) w21 hw21) (x_ci X (lv := 2) (by omega) (by decide) rfl cx_J2_init (lw_meth q166) q119 q276 q165) rfl hl.1 rfl (Nat.le_of_ble_eq_true rfl) dX1_cave_88) (fun H locs cells slots hw hS => ?_)
  obtain ⟨S22, hS22, hm⟩ := ob_s hm
  refine xr_putR (v := (some (xTop S19))) X hw hS xc1 in_X1 tyX1_ok nmX1 8 (by decide) q288 rfl (tyX1_ok 8 (by decide)) rfl hS22 dX1_cave_91 (fun H locs hw hS => ?_)
  refine lv_aload_n hx hb dX1_cave_94 rfl (lv_at hl 1 rfl) ?_
  obtain ⟨S23, hS23, hm⟩ := ob_s hm
  refine xr_new (N := 3) X hw hS xc10 in_J2 tyJ2_ok q275 q163 q119 (by intro j hj; exact df_J2 j hj) hS23 dX1_cave_95 (fun H cells slots hw hS => ?_)
  refine lv_dup hx hb dX1_cave_98 rfl ?_
  obtain ⟨w24, hw24, hm⟩ := ob_s hm
  refine xr_retv hS (xr_runI X hw (met_J2_init N S23 (xTop S22) w24 hw24) (x_ci X (lv := 2) (by omega) (by decide) rfl cx_J2_init (lw_meth q166) q119 q276 q165) rfl hl.1 rfl (Nat.le_of_ble_eq_true rfl) dX1_cave_99) (fun H locs cells slots hw hS => ?_)
  obtain ⟨S25, hS25, hm⟩ := ob_s hm
  refine xr_putR (v := (some (xTop S22))) X hw hS xc1 in_X1 tyX1_ok nmX1 9 (by decide) q289 rfl (tyX1_ok 9 (by decide)) rfl hS25 dX1_cave_102 (fun H locs hw hS => ?_)
  refine lv_aload_n hx hb dX1_cave_105 rfl (lv_at hl 1 rfl) ?_
  refine lv_null hx hb dX1_cave_106 ?_
  obtain ⟨S26, hS26, hm⟩ := ob_s hm
  refine xr_putR (v := none) X hw hS xc1 in_X1 tyX1_ok nmX1 10 (by decide) q290 rfl (tyX1_ok 10 (by decide)) rfl hS26 dX1_cave_107 (fun H locs hw hS => ?_)
  refine lv_iconst (v := 0) hx hb dX1_cave_110 (by decide) ?_
  obtain rfl := Option.some.inj hm
  exact xt_iret (v := 0) X hr hlk hw hS rfl dX1_cave_111
def kX_X1_cave (g : XC) (N : Nat) (S : XS) (x0 : Nat) (x1 : Int32) : Option ((XS × Int32) ⊕ XT) :=
  if x1 < 0 then
    kX_X1_cave_17 g N S x0 x1 0
  else
    (f_int S 1 x0 5).bind fun v2 =>
    if v2 < x1 then
      kX_X1_cave_17 g N S x0 x1 0
    else
      kX_X1_cave_17 g N S x0 x1 1
theorem cx_X1_cave : yX1_cave.cls = RX1 ∧ yX1_cave.cls ≠ "java/lang/invoke/MethodHandle" ∧ yX1_cave.cls ≠ "java/lang/invoke/VarHandle" ∧ (parseMethodDescriptor yX1_cave.desc).map (fun d => d.parameters.length) = some 1 := by decide +kernel
theorem met_X1_cave {l : Launch} {g : XC} {D : va_G} {A : Nat → Prop} (hlT : l.stackTraces = false) (N : Nat) (S : XS) (x0 : Nat) (x1 : Int32) (w : (XS × Int32) ⊕ XT) (hm : kX_X1_cave g N S x0 x1 = some w) : vx_Met l yX1_cave (wsW_ yX1_cave cX1_cave 4 (Option.some Jvm.ClassFile.FieldType.int) [(40, 48, 51, 75)]) (xRm g S 72) (xPre g D A [.ref x0, .int x1] S) (xTi g D A w) (xTx g D A w) (g.2.1 - xTop S) (g.2.2.1 - xSl S) A := by
  refine x_startH (own := RX1) (by decide +kernel) rfl (Nat.le_of_ble_eq_true rfl) (fun p e s m below meth c ls X hr hlk hnm htab hw hl => ?_)
  have hw0 := hw
  obtain ⟨hx, hb, -, hown, hts, -⟩ := id X
  have hl : lv_has ls 4 [(0, .ref x0), (1, .int x1)] := hl
  have hg : ∀ (H : Heap) (locs : List Loc) (cells slots : Nat), xW g D A S s H → va_S A s.heap H locs → W p l e (xRm g S 72) s m ([.ref x0, .int x1] : List Value).toArray below meth c H locs cells slots (vx_MQ below (xTi g D A w) (xTx g D A w) ([.ref x0, .int x1] : List Value).toArray s (g.2.1 - xTop S) (g.2.2.1 - xSl S) A) (F0 m 0 ls []) := by
    intro H locs cells slots hw hS
    unfold kX_X1_cave at hm
    refine lv_iload_n hx hb dX1_cave_0 rfl (lv_at hl 1 rfl) ?_
    refine lv_if_lt (tgt := 16) hx hb dX1_cave_1 (by decide) (fun c1 => ?_) (fun c1 => ?_)
    · replace hm := if_t c1 hm
      refine lv_iconst (v := 0) hx hb dX1_cave_16 (by decide) ?_
      exact wkX_X1_cave_17 X hr hlk hnm hlT htab hw0 N S x0 x1 0 H locs ls _ _ hm hw hS (lv_sub hl [0, 1] rfl)
    · replace hm := if_f c1 hm
      refine lv_iload_n hx hb dX1_cave_4 rfl (lv_at hl 1 rfl) ?_
      refine lv_aload_n hx hb dX1_cave_5 rfl (lv_at hl 0 rfl) ?_
      obtain ⟨v2, hv2, hm⟩ := ob_s hm
      refine xr_val X hw xc1 in_X1 5 (by decide) q285 (f_int_s hv2) dX1_cave_6 ?_
      refine lv_icmp_gt (tgt := 16) hx hb dX1_cave_9 (by decide) (fun c3 => ?_) (fun c3 => ?_)
      · replace hm := if_t c3 hm
        refine lv_iconst (v := 0) hx hb dX1_cave_16 (by decide) ?_
        exact wkX_X1_cave_17 X hr hlk hnm hlT htab hw0 N S x0 x1 0 H locs ls _ _ hm hw hS (lv_sub hl [0, 1] rfl)
      · replace hm := if_f c3 hm
        refine lv_iconst (v := 1) hx hb dX1_cave_12 (by decide) ?_
        refine lv_goto (tgt := 17) hx hb dX1_cave_13 (by decide) ?_
        exact wkX_X1_cave_17 X hr hlk hnm hlT htab hw0 N S x0 x1 1 H locs ls _ _ hm hw hS (lv_sub hl [0, 1] rfl)
  exact hg _ _ _ _ hw va_S.rf
/-! DripCupsLaw.cave -/
def kX_X0_cave (g : XC) (N : Nat) (S : XS) (x0 : Nat) (x1 : Int32) (x2 : Nat) : Option (XS × Int32) :=
  (f_cls S 1 x0).bind fun u1 =>
  hbind (kX_X1_cave g N S x0 x1) (fun u =>
    if u.2.1 = 1 then
      some (u.1, 1)
    else
    none) <| fun r3 =>
  (a_putJ r3.1 x2 0 ((r3.2 : Int32).toInt64)).bind fun S5 =>
  some (S5, 0)
theorem cx_X0_cave : yX0_cave.cls ≠ "java/lang/invoke/MethodHandle" ∧ yX0_cave.cls ≠ "java/lang/invoke/VarHandle" ∧ (parseMethodDescriptor yX0_cave.desc).map (fun d => d.parameters.length) = some 3 := by decide +kernel
theorem met_X0_cave {l : Launch} {g : XC} {D : va_G} {A : Nat → Prop} (hlT : l.stackTraces = false) (N : Nat) (S : XS) (x0 : Nat) (x1 : Int32) (x2 : Nat) (w : XS × Int32) (hm : kX_X0_cave g N S x0 x1 x2 = some w) : Met l yX0_cave (wsW_ yX0_cave cX0_cave 4 (Option.some Jvm.ClassFile.FieldType.int) [(0, 9, 12, 13)]) (xRm g S 73) (xPre g D A [.ref x0, .int x1, .ref x2] S) (xQo g D A w) (g.2.1 - xTop S) (g.2.2.1 - xSl S) A := by
  refine Met_ofX (x_startH (own := RX0) (by decide +kernel) rfl (Nat.le_of_ble_eq_true rfl) (fun p e s m below meth c ls X hr hlk hnm htab hw hl => ?_))
  obtain ⟨hx, hb, -, hown, hts, -⟩ := id X
  have hl : lv_has ls 4 [(0, .ref x0), (1, .int x1), (2, .ref x2)] := hl
  have hg : ∀ (H : Heap) (locs : List Loc) (cells slots : Nat), xW g D A S s H → va_S A s.heap H locs → W p l e (xRm g S 73) s m ([.ref x0, .int x1, .ref x2] : List Value).toArray below meth c H locs cells slots (MQ below (xQo g D A w) ([.ref x0, .int x1, .ref x2] : List Value).toArray s (g.2.1 - xTop S) (g.2.2.1 - xSl S) A) (F0 m 0 ls []) := by
    intro H locs cells slots hw hS
    unfold kX_X0_cave at hm
    refine lv_aload_n hx hb dX0_cave_0 rfl (lv_at hl 2 rfl) ?_
    refine lv_iconst (v := 0) hx hb dX0_cave_1 (by decide) ?_
    refine lv_aload_n hx hb dX0_cave_2 rfl (lv_at hl 0 rfl) ?_
    refine lv_iload_n hx hb dX0_cave_3 rfl (lv_at hl 1 rfl) ?_
    obtain ⟨u1, hu1, hm⟩ := ob_s hm
    obtain ⟨w2, hw2, hm⟩ := hb_s hm
    refine xt_reti hS (xt_runVH X hw (met_X1_cave hlT N S x0 x1 w2 hw2) (x_cvW X (lv := 72) (by omega) (by decide) cx_X1_cave (lw_VW q650 q651 q652 q115 q653)) xc1 hu1 rfl hl.1 rfl (Nat.le_of_ble_eq_true rfl) dX0_cave_4) (fun t1 t2 u E9 ce q9 H1 locs1 hu ht => ?_) (fun r3 hr3 H locs cells slots hw hS => ?_)
    · replace hm := hc_r hu hm
      by_cases c4 : u.2.1 = 1
      · replace hm := if_t c4 hm
        refine xt_catch X hw t1 t2 ht htab [] (⟨0, 9, 12, 13⟩ : ExceptionTableEntry) [] rfl (fun _ h => absurd h List.not_mem_nil) (by decide) (by decide) q649 (by rw [c4]; exact q660) (fun hw hS => ?_)
        refine lv_astore_n (lv' := [(3, .ref q9), (0, .ref x0), (1, .int x1), (2, .ref x2)]) hx hb dX0_cave_12 rfl hl (by decide) rfl (fun ls hl => ?_)
        refine lv_iconst (v := 1) hx hb dX0_cave_13 (by decide) ?_
        obtain rfl := Option.some.inj hm
        exact xo_iret (v := 1) X hr hlk hw (xSim_bump _ _) hS rfl dX0_cave_14
      replace hm := if_f c4 hm
      cases hm
    replace hm := hc_l hr3 hm
    refine lv_i2l hx hb dX0_cave_7 rfl ?_
    obtain ⟨S5, hS5, hm⟩ := ob_s hm
    refine xr_last X hw hS hS5 dX0_cave_8 (fun H locs hw hS => ?_)
    refine lv_goto (tgt := 15) hx hb dX0_cave_9 (by decide) ?_
    refine lv_iconst (v := 0) hx hb dX0_cave_15 (by decide) ?_
    obtain rfl := Option.some.inj hm
    exact xo_iret (v := 0) X hr hlk hw (xSim_rf _) hS rfl dX0_cave_16
  exact vx_ret (hg _ _ _ _ hw va_S.rf)
/-! DripCupsLaw.count -/
def kX_X0_count (g : XC) (N : Nat) (S : XS) (x0 : Nat) (x1 : Int32) (x2 : Nat) : Option (XS × Int32) :=
  (f_cls S 1 x0).bind fun u1 =>
  hbind (kX_X1_count g N S x0 x1) (fun u =>
    if u.2.1 = 0 then
      some (u.1, 1)
    else
    none) <| fun r3 =>
  (a_putJ r3.1 x2 0 ((r3.2 : Int32).toInt64)).bind fun S5 =>
  some (S5, 0)
theorem cx_X0_count : yX0_count.cls ≠ "java/lang/invoke/MethodHandle" ∧ yX0_count.cls ≠ "java/lang/invoke/VarHandle" ∧ (parseMethodDescriptor yX0_count.desc).map (fun d => d.parameters.length) = some 3 := by decide +kernel
theorem met_X0_count {l : Launch} {g : XC} {D : va_G} {A : Nat → Prop} (hlT : l.stackTraces = false) (N : Nat) (S : XS) (x0 : Nat) (x1 : Int32) (x2 : Nat) (w : XS × Int32) (hm : kX_X0_count g N S x0 x1 x2 = some w) : Met l yX0_count (wsW_ yX0_count cX0_count 4 (Option.some Jvm.ClassFile.FieldType.int) [(0, 9, 12, 18)]) (xRm g S 7) (xPre g D A [.ref x0, .int x1, .ref x2] S) (xQo g D A w) (g.2.1 - xTop S) (g.2.2.1 - xSl S) A := by
  refine Met_ofX (x_startH (own := RX0) (by decide +kernel) rfl (Nat.le_of_ble_eq_true rfl) (fun p e s m below meth c ls X hr hlk hnm htab hw hl => ?_))
  obtain ⟨hx, hb, -, hown, hts, -⟩ := id X
  have hl : lv_has ls 4 [(0, .ref x0), (1, .int x1), (2, .ref x2)] := hl
  have hg : ∀ (H : Heap) (locs : List Loc) (cells slots : Nat), xW g D A S s H → va_S A s.heap H locs → W p l e (xRm g S 7) s m ([.ref x0, .int x1, .ref x2] : List Value).toArray below meth c H locs cells slots (MQ below (xQo g D A w) ([.ref x0, .int x1, .ref x2] : List Value).toArray s (g.2.1 - xTop S) (g.2.2.1 - xSl S) A) (F0 m 0 ls []) := by
    intro H locs cells slots hw hS
    unfold kX_X0_count at hm
    refine lv_aload_n hx hb dX0_count_0 rfl (lv_at hl 2 rfl) ?_
    refine lv_iconst (v := 0) hx hb dX0_count_1 (by decide) ?_
    refine lv_aload_n hx hb dX0_count_2 rfl (lv_at hl 0 rfl) ?_
    refine lv_iload_n hx hb dX0_count_3 rfl (lv_at hl 1 rfl) ?_
    obtain ⟨u1, hu1, hm⟩ := ob_s hm
    obtain ⟨w2, hw2, hm⟩ := hb_s hm
    refine xt_reti hS (xt_runV X hw (met_X1_count hlT N S x0 x1 w2 hw2) (x_cv X (lv := 6) (by omega) (by decide) cx_X1_count (lw_V q1168 q1169 q1170 q115 q1171)) xc1 hu1 rfl hl.1 rfl (Nat.le_of_ble_eq_true rfl) dX0_count_4) (fun t1 t2 u E9 ce q9 H1 locs1 hu ht => ?_) (fun r3 hr3 H locs cells slots hw hS => ?_)
    · replace hm := hc_r hu hm
      by_cases c4 : u.2.1 = 0
      · replace hm := if_t c4 hm
        refine xt_catch X hw t1 t2 ht htab [] (⟨0, 9, 12, 18⟩ : ExceptionTableEntry) [] rfl (fun _ h => absurd h List.not_mem_nil) (by decide) (by decide) q1167 (by rw [c4]; exact q1220) (fun hw hS => ?_)
        refine lv_astore_n (lv' := [(3, .ref q9), (0, .ref x0), (1, .int x1), (2, .ref x2)]) hx hb dX0_count_12 rfl hl (by decide) rfl (fun ls hl => ?_)
        refine lv_iconst (v := 1) hx hb dX0_count_13 (by decide) ?_
        obtain rfl := Option.some.inj hm
        exact xo_iret (v := 1) X hr hlk hw (xSim_bump _ _) hS rfl dX0_count_14
      replace hm := if_f c4 hm
      cases hm
    replace hm := hc_l hr3 hm
    refine lv_i2l hx hb dX0_count_7 rfl ?_
    obtain ⟨S5, hS5, hm⟩ := ob_s hm
    refine xr_last X hw hS hS5 dX0_count_8 (fun H locs hw hS => ?_)
    refine lv_goto (tgt := 15) hx hb dX0_count_9 (by decide) ?_
    refine lv_iconst (v := 0) hx hb dX0_count_15 (by decide) ?_
    obtain rfl := Option.some.inj hm
    exact xo_iret (v := 0) X hr hlk hw (xSim_rf _) hS rfl dX0_count_16
  exact vx_ret (hg _ _ _ _ hw va_S.rf)
/-! DripCupsLaw.cup -/
def kX_X0_cup (g : XC) (N : Nat) (S : XS) (x0 : Nat) (x1 : Int32) (x2 : Int32) (x3 : Nat) : Option (XS × Int32) :=
  (f_cls S 1 x0).bind fun u1 =>
  hbind (kX_X1_cup g N S x0 x1 x2) (fun u =>
    if u.2.1 = 0 then
      some (u.1, 1)
    else
    none) <| fun r3 =>
  (a_putJ r3.1 x3 0 ((r3.2 : Int32).toInt64)).bind fun S5 =>
  some (S5, 0)
theorem cx_X0_cup : yX0_cup.cls ≠ "java/lang/invoke/MethodHandle" ∧ yX0_cup.cls ≠ "java/lang/invoke/VarHandle" ∧ (parseMethodDescriptor yX0_cup.desc).map (fun d => d.parameters.length) = some 4 := by decide +kernel
theorem met_X0_cup {l : Launch} {g : XC} {D : va_G} {A : Nat → Prop} (hlT : l.stackTraces = false) (N : Nat) (S : XS) (x0 : Nat) (x1 : Int32) (x2 : Int32) (x3 : Nat) (w : XS × Int32) (hm : kX_X0_cup g N S x0 x1 x2 x3 = some w) : Met l yX0_cup (wsW_ yX0_cup cX0_cup 5 (Option.some Jvm.ClassFile.FieldType.int) [(0, 10, 13, 18)]) (xRm g S 24) (xPre g D A [.ref x0, .int x1, .int x2, .ref x3] S) (xQo g D A w) (g.2.1 - xTop S) (g.2.2.1 - xSl S) A := by
  refine Met_ofX (x_startH (own := RX0) (by decide +kernel) rfl (Nat.le_of_ble_eq_true rfl) (fun p e s m below meth c ls X hr hlk hnm htab hw hl => ?_))
  obtain ⟨hx, hb, -, hown, hts, -⟩ := id X
  have hl : lv_has ls 5 [(0, .ref x0), (1, .int x1), (2, .int x2), (3, .ref x3)] := hl
  have hg : ∀ (H : Heap) (locs : List Loc) (cells slots : Nat), xW g D A S s H → va_S A s.heap H locs → W p l e (xRm g S 24) s m ([.ref x0, .int x1, .int x2, .ref x3] : List Value).toArray below meth c H locs cells slots (MQ below (xQo g D A w) ([.ref x0, .int x1, .int x2, .ref x3] : List Value).toArray s (g.2.1 - xTop S) (g.2.2.1 - xSl S) A) (F0 m 0 ls []) := by
    intro H locs cells slots hw hS
    unfold kX_X0_cup at hm
    refine lv_aload_n hx hb dX0_cup_0 rfl (lv_at hl 3 rfl) ?_
    refine lv_iconst (v := 0) hx hb dX0_cup_1 (by decide) ?_
    refine lv_aload_n hx hb dX0_cup_2 rfl (lv_at hl 0 rfl) ?_
    refine lv_iload_n hx hb dX0_cup_3 rfl (lv_at hl 1 rfl) ?_
    refine lv_iload_n hx hb dX0_cup_4 rfl (lv_at hl 2 rfl) ?_
    obtain ⟨u1, hu1, hm⟩ := ob_s hm
    obtain ⟨w2, hw2, hm⟩ := hb_s hm
    refine xt_reti hS (xt_runV X hw (met_X1_cup hlT N S x0 x1 x2 w2 hw2) (x_cv X (lv := 23) (by omega) (by decide) cx_X1_cup (lw_V q1236 q1237 q1238 q115 q1239)) xc1 hu1 rfl hl.1 rfl (Nat.le_of_ble_eq_true rfl) dX0_cup_5) (fun t1 t2 u E9 ce q9 H1 locs1 hu ht => ?_) (fun r3 hr3 H locs cells slots hw hS => ?_)
    · replace hm := hc_r hu hm
      by_cases c4 : u.2.1 = 0
      · replace hm := if_t c4 hm
        refine xt_catch X hw t1 t2 ht htab [] (⟨0, 10, 13, 18⟩ : ExceptionTableEntry) [] rfl (fun _ h => absurd h List.not_mem_nil) (by decide) (by decide) q1167 (by rw [c4]; exact q1220) (fun hw hS => ?_)
        refine lv_astore (lv' := [(4, .ref q9), (0, .ref x0), (1, .int x1), (2, .int x2), (3, .ref x3)]) hx hb dX0_cup_13 hl (by decide) rfl (fun ls hl => ?_)
        refine lv_iconst (v := 1) hx hb dX0_cup_15 (by decide) ?_
        obtain rfl := Option.some.inj hm
        exact xo_iret (v := 1) X hr hlk hw (xSim_bump _ _) hS rfl dX0_cup_16
      replace hm := if_f c4 hm
      cases hm
    replace hm := hc_l hr3 hm
    refine lv_i2l hx hb dX0_cup_8 rfl ?_
    obtain ⟨S5, hS5, hm⟩ := ob_s hm
    refine xr_last X hw hS hS5 dX0_cup_9 (fun H locs hw hS => ?_)
    refine lv_goto (tgt := 17) hx hb dX0_cup_10 (by decide) ?_
    refine lv_iconst (v := 0) hx hb dX0_cup_17 (by decide) ?_
    obtain rfl := Option.some.inj hm
    exact xo_iret (v := 0) X hr hlk hw (xSim_rf _) hS rfl dX0_cup_18
  exact vx_ret (hg _ _ _ _ hw va_S.rf)
/-! DripCupsLaw.lead -/
def kX_X0_lead_16 (g : XC) (N : Nat) (S : XS) (t0 : Nat) (t1 : Int32) (t2 : Int64) : Option (XS × Int32) :=
  (a_putJ S t0 t1 t2).bind fun S1 =>
  some (S1, 0)
theorem wkX_X0_lead_16 {p : Program} {l : Launch} {e : Env} {s : State} {m : MethodId} {args : Array Value} {below : List Frame} {meth : Method} {c : Code} {g : XC} {D : va_G} {A : Nat → Prop} {S0 : XS} {w : XS × Int32} (X : xX g D A RX0 S0 p s m args c cX0_lead 5) (hr : meth.sig.returnType = (Option.some Jvm.ClassFile.FieldType.int)) (hlk : meth.locks = false) (hnm : meth.name = yX0_lead.name) (hlT : l.stackTraces = false) (htab : c.exceptionTable.toList = tableOf [(0, 17, 20, 18)]) (N : Nat) :
    ∀ (S : XS) (t0 : Nat) (t1 : Int32) (t2 : Int64) (H : Heap) (locs : List Loc) (ls : Array Slot) (cells slots : Nat), kX_X0_lead_16 g N S t0 t1 t2 = some w → xW g D A S s H → va_S A s.heap H locs → lv_has ls 5 [] → W p l e (xRm g S0 9) s m args below meth c H locs cells slots (MQ below (xQo g D A w) args s (g.2.1 - xTop S0) (g.2.2.1 - xSl S0) A) (F0 m 16 ls [.long t2, .int t1, .ref t0]) := by
  obtain ⟨hx, hb, -, hown, hts, -⟩ := id X
  intro S t0 t1 t2 H locs ls cells slots hm hw hS hl
  unfold kX_X0_lead_16 at hm
  obtain ⟨S1, hS1, hm⟩ := ob_s hm
  refine xr_last X hw hS hS1 dX0_lead_16 (fun H locs hw hS => ?_)
  refine lv_goto (tgt := 24) hx hb dX0_lead_17 (by decide) ?_
  refine lv_iconst (v := 0) hx hb dX0_lead_24 (by decide) ?_
  obtain rfl := Option.some.inj hm
  exact xo_iret (v := 0) X hr hlk hw (xSim_rf _) hS rfl dX0_lead_25
def kX_X0_lead (g : XC) (N : Nat) (S : XS) (x0 : Nat) (x1 : Int32) (x2 : Int32) (x3 : Nat) : Option (XS × Int32) :=
  (f_cls S 1 x0).bind fun u1 =>
  hbind (kX_X1_lead g N S x0 x1 x2) (fun u =>
    if u.2.1 = 0 then
      some (u.1, 1)
    else
    none) <| fun r3 =>
  if r3.2 = 0 then
    kX_X0_lead_16 g N r3.1 x3 0 0
  else
    kX_X0_lead_16 g N r3.1 x3 0 1
theorem cx_X0_lead : yX0_lead.cls ≠ "java/lang/invoke/MethodHandle" ∧ yX0_lead.cls ≠ "java/lang/invoke/VarHandle" ∧ (parseMethodDescriptor yX0_lead.desc).map (fun d => d.parameters.length) = some 4 := by decide +kernel
theorem met_X0_lead {l : Launch} {g : XC} {D : va_G} {A : Nat → Prop} (hlT : l.stackTraces = false) (N : Nat) (S : XS) (x0 : Nat) (x1 : Int32) (x2 : Int32) (x3 : Nat) (w : XS × Int32) (hm : kX_X0_lead g N S x0 x1 x2 x3 = some w) : Met l yX0_lead (wsW_ yX0_lead cX0_lead 5 (Option.some Jvm.ClassFile.FieldType.int) [(0, 17, 20, 18)]) (xRm g S 9) (xPre g D A [.ref x0, .int x1, .int x2, .ref x3] S) (xQo g D A w) (g.2.1 - xTop S) (g.2.2.1 - xSl S) A := by
  refine Met_ofX (x_startH (own := RX0) (by decide +kernel) rfl (Nat.le_of_ble_eq_true rfl) (fun p e s m below meth c ls X hr hlk hnm htab hw hl => ?_))
  obtain ⟨hx, hb, -, hown, hts, -⟩ := id X
  have hl : lv_has ls 5 [(0, .ref x0), (1, .int x1), (2, .int x2), (3, .ref x3)] := hl
  have hg : ∀ (H : Heap) (locs : List Loc) (cells slots : Nat), xW g D A S s H → va_S A s.heap H locs → W p l e (xRm g S 9) s m ([.ref x0, .int x1, .int x2, .ref x3] : List Value).toArray below meth c H locs cells slots (MQ below (xQo g D A w) ([.ref x0, .int x1, .int x2, .ref x3] : List Value).toArray s (g.2.1 - xTop S) (g.2.2.1 - xSl S) A) (F0 m 0 ls []) := by
    intro H locs cells slots hw hS
    unfold kX_X0_lead at hm
    refine lv_aload_n hx hb dX0_lead_0 rfl (lv_at hl 3 rfl) ?_
    refine lv_iconst (v := 0) hx hb dX0_lead_1 (by decide) ?_
    refine lv_aload_n hx hb dX0_lead_2 rfl (lv_at hl 0 rfl) ?_
    refine lv_iload_n hx hb dX0_lead_3 rfl (lv_at hl 1 rfl) ?_
    refine lv_iload_n hx hb dX0_lead_4 rfl (lv_at hl 2 rfl) ?_
    obtain ⟨u1, hu1, hm⟩ := ob_s hm
    obtain ⟨w2, hw2, hm⟩ := hb_s hm
    refine xt_reti hS (xt_runV X hw (met_X1_lead hlT N S x0 x1 x2 w2 hw2) (x_cv X (lv := 8) (by omega) (by decide) cx_X1_lead (lw_V q1254 q1255 q1256 q115 q1257)) xc1 hu1 rfl hl.1 rfl (Nat.le_of_ble_eq_true rfl) dX0_lead_5) (fun t1 t2 u E9 ce q9 H1 locs1 hu ht => ?_) (fun r3 hr3 H locs cells slots hw hS => ?_)
    · replace hm := hc_r hu hm
      by_cases c4 : u.2.1 = 0
      · replace hm := if_t c4 hm
        refine xt_catch X hw t1 t2 ht htab [] (⟨0, 17, 20, 18⟩ : ExceptionTableEntry) [] rfl (fun _ h => absurd h List.not_mem_nil) (by decide) (by decide) q1167 (by rw [c4]; exact q1220) (fun hw hS => ?_)
        refine lv_astore (lv' := [(4, .ref q9), (0, .ref x0), (1, .int x1), (2, .int x2), (3, .ref x3)]) hx hb dX0_lead_20 hl (by decide) rfl (fun ls hl => ?_)
        refine lv_iconst (v := 1) hx hb dX0_lead_22 (by decide) ?_
        obtain rfl := Option.some.inj hm
        exact xo_iret (v := 1) X hr hlk hw (xSim_bump _ _) hS rfl dX0_lead_23
      replace hm := if_f c4 hm
      cases hm
    replace hm := hc_l hr3 hm
    refine lv_if_eq (tgt := 15) hx hb dX0_lead_8 (by decide) (fun c5 => ?_) (fun c5 => ?_)
    · replace hm := if_t c5 hm
      refine lv_lconst (v := 0) hx hb dX0_lead_15 rfl ?_
      exact wkX_X0_lead_16 X hr hlk hnm hlT htab N r3.1 x3 0 0 H locs ls _ _ hm hw hS (lv_sub hl [] rfl)
    · replace hm := if_f c5 hm
      refine lv_lconst (v := 1) hx hb dX0_lead_11 rfl ?_
      refine lv_goto (tgt := 16) hx hb dX0_lead_12 (by decide) ?_
      exact wkX_X0_lead_16 X hr hlk hnm hlT htab N r3.1 x3 0 1 H locs ls _ _ hm hw hS (lv_sub hl [] rfl)
  exact vx_ret (hg _ _ _ _ hw va_S.rf)
/-! DripCupsLaw.plug -/
def kX_X0_plug_16 (g : XC) (N : Nat) (S : XS) (t0 : Nat) (t1 : Int32) (t2 : Int64) : Option (XS × Int32) :=
  (a_putJ S t0 t1 t2).bind fun S1 =>
  some (S1, 0)
theorem wkX_X0_plug_16 {p : Program} {l : Launch} {e : Env} {s : State} {m : MethodId} {args : Array Value} {below : List Frame} {meth : Method} {c : Code} {g : XC} {D : va_G} {A : Nat → Prop} {S0 : XS} {w : XS × Int32} (X : xX g D A RX0 S0 p s m args c cX0_plug 5) (hr : meth.sig.returnType = (Option.some Jvm.ClassFile.FieldType.int)) (hlk : meth.locks = false) (hnm : meth.name = yX0_plug.name) (hlT : l.stackTraces = false) (htab : c.exceptionTable.toList = tableOf [(0, 17, 20, 18)]) (N : Nat) :
    ∀ (S : XS) (t0 : Nat) (t1 : Int32) (t2 : Int64) (H : Heap) (locs : List Loc) (ls : Array Slot) (cells slots : Nat), kX_X0_plug_16 g N S t0 t1 t2 = some w → xW g D A S s H → va_S A s.heap H locs → lv_has ls 5 [] → W p l e (xRm g S0 9) s m args below meth c H locs cells slots (MQ below (xQo g D A w) args s (g.2.1 - xTop S0) (g.2.2.1 - xSl S0) A) (F0 m 16 ls [.long t2, .int t1, .ref t0]) := by
  obtain ⟨hx, hb, -, hown, hts, -⟩ := id X
  intro S t0 t1 t2 H locs ls cells slots hm hw hS hl
  unfold kX_X0_plug_16 at hm
  obtain ⟨S1, hS1, hm⟩ := ob_s hm
  refine xr_last X hw hS hS1 dX0_plug_16 (fun H locs hw hS => ?_)
  refine lv_goto (tgt := 24) hx hb dX0_plug_17 (by decide) ?_
  refine lv_iconst (v := 0) hx hb dX0_plug_24 (by decide) ?_
  obtain rfl := Option.some.inj hm
  exact xo_iret (v := 0) X hr hlk hw (xSim_rf _) hS rfl dX0_plug_25
def kX_X0_plug (g : XC) (N : Nat) (S : XS) (x0 : Nat) (x1 : Int32) (x2 : Int32) (x3 : Nat) : Option (XS × Int32) :=
  (f_cls S 1 x0).bind fun u1 =>
  hbind (kX_X1_plug g N S x0 x1 x2) (fun u =>
    if u.2.1 = 0 then
      some (u.1, 1)
    else
    none) <| fun r3 =>
  if r3.2 = 0 then
    kX_X0_plug_16 g N r3.1 x3 0 0
  else
    kX_X0_plug_16 g N r3.1 x3 0 1
theorem cx_X0_plug : yX0_plug.cls ≠ "java/lang/invoke/MethodHandle" ∧ yX0_plug.cls ≠ "java/lang/invoke/VarHandle" ∧ (parseMethodDescriptor yX0_plug.desc).map (fun d => d.parameters.length) = some 4 := by decide +kernel
theorem met_X0_plug {l : Launch} {g : XC} {D : va_G} {A : Nat → Prop} (hlT : l.stackTraces = false) (N : Nat) (S : XS) (x0 : Nat) (x1 : Int32) (x2 : Int32) (x3 : Nat) (w : XS × Int32) (hm : kX_X0_plug g N S x0 x1 x2 x3 = some w) : Met l yX0_plug (wsW_ yX0_plug cX0_plug 5 (Option.some Jvm.ClassFile.FieldType.int) [(0, 17, 20, 18)]) (xRm g S 9) (xPre g D A [.ref x0, .int x1, .int x2, .ref x3] S) (xQo g D A w) (g.2.1 - xTop S) (g.2.2.1 - xSl S) A := by
  refine Met_ofX (x_startH (own := RX0) (by decide +kernel) rfl (Nat.le_of_ble_eq_true rfl) (fun p e s m below meth c ls X hr hlk hnm htab hw hl => ?_))
  obtain ⟨hx, hb, -, hown, hts, -⟩ := id X
  have hl : lv_has ls 5 [(0, .ref x0), (1, .int x1), (2, .int x2), (3, .ref x3)] := hl
  have hg : ∀ (H : Heap) (locs : List Loc) (cells slots : Nat), xW g D A S s H → va_S A s.heap H locs → W p l e (xRm g S 9) s m ([.ref x0, .int x1, .int x2, .ref x3] : List Value).toArray below meth c H locs cells slots (MQ below (xQo g D A w) ([.ref x0, .int x1, .int x2, .ref x3] : List Value).toArray s (g.2.1 - xTop S) (g.2.2.1 - xSl S) A) (F0 m 0 ls []) := by
    intro H locs cells slots hw hS
    unfold kX_X0_plug at hm
    refine lv_aload_n hx hb dX0_plug_0 rfl (lv_at hl 3 rfl) ?_
    refine lv_iconst (v := 0) hx hb dX0_plug_1 (by decide) ?_
    refine lv_aload_n hx hb dX0_plug_2 rfl (lv_at hl 0 rfl) ?_
    refine lv_iload_n hx hb dX0_plug_3 rfl (lv_at hl 1 rfl) ?_
    refine lv_iload_n hx hb dX0_plug_4 rfl (lv_at hl 2 rfl) ?_
    obtain ⟨u1, hu1, hm⟩ := ob_s hm
    obtain ⟨w2, hw2, hm⟩ := hb_s hm
    refine xt_reti hS (xt_runV X hw (met_X1_plug hlT N S x0 x1 x2 w2 hw2) (x_cv X (lv := 8) (by omega) (by decide) cx_X1_plug (lw_V q1273 q1274 q1275 q115 q1276)) xc1 hu1 rfl hl.1 rfl (Nat.le_of_ble_eq_true rfl) dX0_plug_5) (fun t1 t2 u E9 ce q9 H1 locs1 hu ht => ?_) (fun r3 hr3 H locs cells slots hw hS => ?_)
    · replace hm := hc_r hu hm
      by_cases c4 : u.2.1 = 0
      · replace hm := if_t c4 hm
        refine xt_catch X hw t1 t2 ht htab [] (⟨0, 17, 20, 18⟩ : ExceptionTableEntry) [] rfl (fun _ h => absurd h List.not_mem_nil) (by decide) (by decide) q1167 (by rw [c4]; exact q1220) (fun hw hS => ?_)
        refine lv_astore (lv' := [(4, .ref q9), (0, .ref x0), (1, .int x1), (2, .int x2), (3, .ref x3)]) hx hb dX0_plug_20 hl (by decide) rfl (fun ls hl => ?_)
        refine lv_iconst (v := 1) hx hb dX0_plug_22 (by decide) ?_
        obtain rfl := Option.some.inj hm
        exact xo_iret (v := 1) X hr hlk hw (xSim_bump _ _) hS rfl dX0_plug_23
      replace hm := if_f c4 hm
      cases hm
    replace hm := hc_l hr3 hm
    refine lv_if_eq (tgt := 15) hx hb dX0_plug_8 (by decide) (fun c5 => ?_) (fun c5 => ?_)
    · replace hm := if_t c5 hm
      refine lv_lconst (v := 0) hx hb dX0_plug_15 rfl ?_
      exact wkX_X0_plug_16 X hr hlk hnm hlT htab N r3.1 x3 0 0 H locs ls _ _ hm hw hS (lv_sub hl [] rfl)
    · replace hm := if_f c5 hm
      refine lv_lconst (v := 1) hx hb dX0_plug_11 rfl ?_
      refine lv_goto (tgt := 16) hx hb dX0_plug_12 (by decide) ?_
      exact wkX_X0_plug_16 X hr hlk hnm hlT htab N r3.1 x3 0 1 H locs ls _ _ hm hw hS (lv_sub hl [] rfl)
  exact vx_ret (hg _ _ _ _ hw va_S.rf)
/-! DripCupsLaw.pour -/
def kX_X0_pour (g : XC) (N : Nat) (S : XS) (x0 : Nat) (x1 : Int32) (x2 : Int32) (x3 : Nat) : Option (XS × Int32) :=
  (f_cls S 1 x0).bind fun u1 =>
  hbind (kX_X1_pour g N S x0 x1 x2) (fun u =>
    if u.2.1 = 0 then
      some (u.1, 1)
    else
    none) <| fun r3 =>
  (a_putJ r3.1 x3 0 ((r3.2 : Int32).toInt64)).bind fun S5 =>
  some (S5, 0)
theorem cx_X0_pour : yX0_pour.cls ≠ "java/lang/invoke/MethodHandle" ∧ yX0_pour.cls ≠ "java/lang/invoke/VarHandle" ∧ (parseMethodDescriptor yX0_pour.desc).map (fun d => d.parameters.length) = some 4 := by decide +kernel
theorem met_X0_pour {l : Launch} {g : XC} {D : va_G} {A : Nat → Prop} (hlT : l.stackTraces = false) (N : Nat) (S : XS) (x0 : Nat) (x1 : Int32) (x2 : Int32) (x3 : Nat) (w : XS × Int32) (hm : kX_X0_pour g N S x0 x1 x2 x3 = some w) : Met l yX0_pour (wsW_ yX0_pour cX0_pour 5 (Option.some Jvm.ClassFile.FieldType.int) [(0, 10, 13, 18)]) (xRm g S 9) (xPre g D A [.ref x0, .int x1, .int x2, .ref x3] S) (xQo g D A w) (g.2.1 - xTop S) (g.2.2.1 - xSl S) A := by
  refine Met_ofX (x_startH (own := RX0) (by decide +kernel) rfl (Nat.le_of_ble_eq_true rfl) (fun p e s m below meth c ls X hr hlk hnm htab hw hl => ?_))
  obtain ⟨hx, hb, -, hown, hts, -⟩ := id X
  have hl : lv_has ls 5 [(0, .ref x0), (1, .int x1), (2, .int x2), (3, .ref x3)] := hl
  have hg : ∀ (H : Heap) (locs : List Loc) (cells slots : Nat), xW g D A S s H → va_S A s.heap H locs → W p l e (xRm g S 9) s m ([.ref x0, .int x1, .int x2, .ref x3] : List Value).toArray below meth c H locs cells slots (MQ below (xQo g D A w) ([.ref x0, .int x1, .int x2, .ref x3] : List Value).toArray s (g.2.1 - xTop S) (g.2.2.1 - xSl S) A) (F0 m 0 ls []) := by
    intro H locs cells slots hw hS
    unfold kX_X0_pour at hm
    refine lv_aload_n hx hb dX0_pour_0 rfl (lv_at hl 3 rfl) ?_
    refine lv_iconst (v := 0) hx hb dX0_pour_1 (by decide) ?_
    refine lv_aload_n hx hb dX0_pour_2 rfl (lv_at hl 0 rfl) ?_
    refine lv_iload_n hx hb dX0_pour_3 rfl (lv_at hl 1 rfl) ?_
    refine lv_iload_n hx hb dX0_pour_4 rfl (lv_at hl 2 rfl) ?_
    obtain ⟨u1, hu1, hm⟩ := ob_s hm
    obtain ⟨w2, hw2, hm⟩ := hb_s hm
    refine xt_reti hS (xt_runV X hw (met_X1_pour hlT N S x0 x1 x2 w2 hw2) (x_cv X (lv := 8) (by omega) (by decide) cx_X1_pour (lw_V q1280 q1281 q1282 q115 q1283)) xc1 hu1 rfl hl.1 rfl (Nat.le_of_ble_eq_true rfl) dX0_pour_5) (fun t1 t2 u E9 ce q9 H1 locs1 hu ht => ?_) (fun r3 hr3 H locs cells slots hw hS => ?_)
    · replace hm := hc_r hu hm
      by_cases c4 : u.2.1 = 0
      · replace hm := if_t c4 hm
        refine xt_catch X hw t1 t2 ht htab [] (⟨0, 10, 13, 18⟩ : ExceptionTableEntry) [] rfl (fun _ h => absurd h List.not_mem_nil) (by decide) (by decide) q1167 (by rw [c4]; exact q1220) (fun hw hS => ?_)
        refine lv_astore (lv' := [(4, .ref q9), (0, .ref x0), (1, .int x1), (2, .int x2), (3, .ref x3)]) hx hb dX0_pour_13 hl (by decide) rfl (fun ls hl => ?_)
        refine lv_iconst (v := 1) hx hb dX0_pour_15 (by decide) ?_
        obtain rfl := Option.some.inj hm
        exact xo_iret (v := 1) X hr hlk hw (xSim_bump _ _) hS rfl dX0_pour_16
      replace hm := if_f c4 hm
      cases hm
    replace hm := hc_l hr3 hm
    refine lv_i2l hx hb dX0_pour_8 rfl ?_
    obtain ⟨S5, hS5, hm⟩ := ob_s hm
    refine xr_last X hw hS hS5 dX0_pour_9 (fun H locs hw hS => ?_)
    refine lv_goto (tgt := 17) hx hb dX0_pour_10 (by decide) ?_
    refine lv_iconst (v := 0) hx hb dX0_pour_17 (by decide) ?_
    obtain rfl := Option.some.inj hm
    exact xo_iret (v := 0) X hr hlk hw (xSim_rf _) hS rfl dX0_pour_18
  exact vx_ret (hg _ _ _ _ hw va_S.rf)
/-! DripCupsLaw.crack -/
def kX_X0_crack (g : XC) (N : Nat) (S : XS) (x0 : Nat) (x1 : Int32) (x2 : Int32) (x3 : Nat) : Option (XS × Int32) :=
  (f_cls S 1 x0).bind fun u1 =>
  hbind (kX_X1_crack g N S x0 x1 x2) (fun u =>
    if u.2.1 = 0 then
      some (u.1, 1)
    else
    none) <| fun r3 =>
  (a_putJ r3.1 x3 0 ((r3.2 : Int32).toInt64)).bind fun S5 =>
  some (S5, 0)
theorem cx_X0_crack : yX0_crack.cls ≠ "java/lang/invoke/MethodHandle" ∧ yX0_crack.cls ≠ "java/lang/invoke/VarHandle" ∧ (parseMethodDescriptor yX0_crack.desc).map (fun d => d.parameters.length) = some 4 := by decide +kernel
theorem met_X0_crack {l : Launch} {g : XC} {D : va_G} {A : Nat → Prop} (hlT : l.stackTraces = false) (N : Nat) (S : XS) (x0 : Nat) (x1 : Int32) (x2 : Int32) (x3 : Nat) (w : XS × Int32) (hm : kX_X0_crack g N S x0 x1 x2 x3 = some w) : Met l yX0_crack (wsW_ yX0_crack cX0_crack 5 (Option.some Jvm.ClassFile.FieldType.int) [(0, 10, 13, 18)]) (xRm g S 9) (xPre g D A [.ref x0, .int x1, .int x2, .ref x3] S) (xQo g D A w) (g.2.1 - xTop S) (g.2.2.1 - xSl S) A := by
  refine Met_ofX (x_startH (own := RX0) (by decide +kernel) rfl (Nat.le_of_ble_eq_true rfl) (fun p e s m below meth c ls X hr hlk hnm htab hw hl => ?_))
  obtain ⟨hx, hb, -, hown, hts, -⟩ := id X
  have hl : lv_has ls 5 [(0, .ref x0), (1, .int x1), (2, .int x2), (3, .ref x3)] := hl
  have hg : ∀ (H : Heap) (locs : List Loc) (cells slots : Nat), xW g D A S s H → va_S A s.heap H locs → W p l e (xRm g S 9) s m ([.ref x0, .int x1, .int x2, .ref x3] : List Value).toArray below meth c H locs cells slots (MQ below (xQo g D A w) ([.ref x0, .int x1, .int x2, .ref x3] : List Value).toArray s (g.2.1 - xTop S) (g.2.2.1 - xSl S) A) (F0 m 0 ls []) := by
    intro H locs cells slots hw hS
    unfold kX_X0_crack at hm
    refine lv_aload_n hx hb dX0_crack_0 rfl (lv_at hl 3 rfl) ?_
    refine lv_iconst (v := 0) hx hb dX0_crack_1 (by decide) ?_
    refine lv_aload_n hx hb dX0_crack_2 rfl (lv_at hl 0 rfl) ?_
    refine lv_iload_n hx hb dX0_crack_3 rfl (lv_at hl 1 rfl) ?_
    refine lv_iload_n hx hb dX0_crack_4 rfl (lv_at hl 2 rfl) ?_
    obtain ⟨u1, hu1, hm⟩ := ob_s hm
    obtain ⟨w2, hw2, hm⟩ := hb_s hm
    refine xt_reti hS (xt_runV X hw (met_X1_crack hlT N S x0 x1 x2 w2 hw2) (x_cv X (lv := 8) (by omega) (by decide) cx_X1_crack (lw_V q1291 q1292 q1293 q115 q1294)) xc1 hu1 rfl hl.1 rfl (Nat.le_of_ble_eq_true rfl) dX0_crack_5) (fun t1 t2 u E9 ce q9 H1 locs1 hu ht => ?_) (fun r3 hr3 H locs cells slots hw hS => ?_)
    · replace hm := hc_r hu hm
      by_cases c4 : u.2.1 = 0
      · replace hm := if_t c4 hm
        refine xt_catch X hw t1 t2 ht htab [] (⟨0, 10, 13, 18⟩ : ExceptionTableEntry) [] rfl (fun _ h => absurd h List.not_mem_nil) (by decide) (by decide) q1167 (by rw [c4]; exact q1220) (fun hw hS => ?_)
        refine lv_astore (lv' := [(4, .ref q9), (0, .ref x0), (1, .int x1), (2, .int x2), (3, .ref x3)]) hx hb dX0_crack_13 hl (by decide) rfl (fun ls hl => ?_)
        refine lv_iconst (v := 1) hx hb dX0_crack_15 (by decide) ?_
        obtain rfl := Option.some.inj hm
        exact xo_iret (v := 1) X hr hlk hw (xSim_bump _ _) hS rfl dX0_crack_16
      replace hm := if_f c4 hm
      cases hm
    replace hm := hc_l hr3 hm
    refine lv_i2l hx hb dX0_crack_8 rfl ?_
    obtain ⟨S5, hS5, hm⟩ := ob_s hm
    refine xr_last X hw hS hS5 dX0_crack_9 (fun H locs hw hS => ?_)
    refine lv_goto (tgt := 17) hx hb dX0_crack_10 (by decide) ?_
    refine lv_iconst (v := 0) hx hb dX0_crack_17 (by decide) ?_
    obtain rfl := Option.some.inj hm
    exact xo_iret (v := 0) X hr hlk hw (xSim_rf _) hS rfl dX0_crack_18
  exact vx_ret (hg _ _ _ _ hw va_S.rf)
/-! DripCupsLaw.then -/
def kX_X0_then (g : XC) (N : Nat) (S : XS) (x0 : Nat) (x1 : Int32) (x2 : Int32) (x3 : Int32) (x4 : Nat) : Option (XS × Int32) :=
  (f_cls S 1 x0).bind fun u1 =>
  hbind (kX_X1_then g N S x0 x1 x2 x3) (fun u =>
    if u.2.1 = 0 then
      some (u.1, 1)
    else
    if u.2.1 = 1 then
      some (u.1, 2)
    else
    none) <| fun r3 =>
  (a_putJ r3.1 x4 0 ((r3.2 : Int32).toInt64)).bind fun S6 =>
  some (S6, 0)
theorem cx_X0_then : yX0_then.cls ≠ "java/lang/invoke/MethodHandle" ∧ yX0_then.cls ≠ "java/lang/invoke/VarHandle" ∧ (parseMethodDescriptor yX0_then.desc).map (fun d => d.parameters.length) = some 5 := by decide +kernel
theorem met_X0_then {l : Launch} {g : XC} {D : va_G} {A : Nat → Prop} (hlT : l.stackTraces = false) (N : Nat) (S : XS) (x0 : Nat) (x1 : Int32) (x2 : Int32) (x3 : Int32) (x4 : Nat) (w : XS × Int32) (hm : kX_X0_then g N S x0 x1 x2 x3 x4 = some w) : Met l yX0_then (wsW_ yX0_then cX0_then 6 (Option.some Jvm.ClassFile.FieldType.int) [(0, 12, 15, 18), (0, 12, 19, 13)]) (xRm g S 84) (xPre g D A [.ref x0, .int x1, .int x2, .int x3, .ref x4] S) (xQo g D A w) (g.2.1 - xTop S) (g.2.2.1 - xSl S) A := by
  refine Met_ofX (x_startH (own := RX0) (by decide +kernel) rfl (Nat.le_of_ble_eq_true rfl) (fun p e s m below meth c ls X hr hlk hnm htab hw hl => ?_))
  obtain ⟨hx, hb, -, hown, hts, -⟩ := id X
  have hl : lv_has ls 6 [(0, .ref x0), (1, .int x1), (2, .int x2), (3, .int x3), (4, .ref x4)] := hl
  have hg : ∀ (H : Heap) (locs : List Loc) (cells slots : Nat), xW g D A S s H → va_S A s.heap H locs → W p l e (xRm g S 84) s m ([.ref x0, .int x1, .int x2, .int x3, .ref x4] : List Value).toArray below meth c H locs cells slots (MQ below (xQo g D A w) ([.ref x0, .int x1, .int x2, .int x3, .ref x4] : List Value).toArray s (g.2.1 - xTop S) (g.2.2.1 - xSl S) A) (F0 m 0 ls []) := by
    intro H locs cells slots hw hS
    unfold kX_X0_then at hm
    refine lv_aload hx hb dX0_then_0 (lv_at hl 4 rfl) ?_
    refine lv_iconst (v := 0) hx hb dX0_then_2 (by decide) ?_
    refine lv_aload_n hx hb dX0_then_3 rfl (lv_at hl 0 rfl) ?_
    refine lv_iload_n hx hb dX0_then_4 rfl (lv_at hl 1 rfl) ?_
    refine lv_iload_n hx hb dX0_then_5 rfl (lv_at hl 2 rfl) ?_
    refine lv_iload_n hx hb dX0_then_6 rfl (lv_at hl 3 rfl) ?_
    obtain ⟨u1, hu1, hm⟩ := ob_s hm
    obtain ⟨w2, hw2, hm⟩ := hb_s hm
    refine xt_reti hS (xt_runV X hw (met_X1_then hlT N S x0 x1 x2 x3 w2 hw2) (x_cv X (lv := 83) (by omega) (by decide) cx_X1_then (lw_V q1302 q1303 q1304 q115 q1305)) xc1 hu1 rfl hl.1 rfl (Nat.le_of_ble_eq_true rfl) dX0_then_7) (fun t1 t2 u E9 ce q9 H1 locs1 hu ht => ?_) (fun r3 hr3 H locs cells slots hw hS => ?_)
    · replace hm := hc_r hu hm
      by_cases c4 : u.2.1 = 0
      · replace hm := if_t c4 hm
        refine xt_catch X hw t1 t2 ht htab [] (⟨0, 12, 15, 18⟩ : ExceptionTableEntry) [(⟨0, 12, 19, 13⟩ : ExceptionTableEntry)] rfl (fun _ h => absurd h List.not_mem_nil) (by decide) (by decide) q1167 (by rw [c4]; exact q1220) (fun hw hS => ?_)
        refine lv_astore (lv' := [(5, .ref q9), (0, .ref x0), (1, .int x1), (2, .int x2), (3, .int x3), (4, .ref x4)]) hx hb dX0_then_15 hl (by decide) rfl (fun ls hl => ?_)
        refine lv_iconst (v := 1) hx hb dX0_then_17 (by decide) ?_
        obtain rfl := Option.some.inj hm
        exact xo_iret (v := 1) X hr hlk hw (xSim_bump _ _) hS rfl dX0_then_18
      replace hm := if_f c4 hm
      by_cases c5 : u.2.1 = 1
      · replace hm := if_t c5 hm
        refine xt_catch X hw t1 t2 ht htab [(⟨0, 12, 15, 18⟩ : ExceptionTableEntry)] (⟨0, 12, 19, 13⟩ : ExceptionTableEntry) [] rfl (fun z hz => by rw [List.mem_singleton.mp hz]; exact Or.inr ⟨by decide, "java/util/NoSuchElementException", X.2.2.2.2.1 _ q1167, by rw [c5]; exact X.2.2.2.2.2.1.2.1.2.2.2.1⟩) (by decide) (by decide) q649 (by rw [c5]; exact q660) (fun hw hS => ?_)
        refine lv_astore (lv' := [(5, .ref q9), (0, .ref x0), (1, .int x1), (2, .int x2), (3, .int x3), (4, .ref x4)]) hx hb dX0_then_19 hl (by decide) rfl (fun ls hl => ?_)
        refine lv_iconst (v := 2) hx hb dX0_then_21 (by decide) ?_
        obtain rfl := Option.some.inj hm
        exact xo_iret (v := 2) X hr hlk hw (xSim_bump _ _) hS rfl dX0_then_22
      replace hm := if_f c5 hm
      cases hm
    replace hm := hc_l hr3 hm
    refine lv_i2l hx hb dX0_then_10 rfl ?_
    obtain ⟨S6, hS6, hm⟩ := ob_s hm
    refine xr_last X hw hS hS6 dX0_then_11 (fun H locs hw hS => ?_)
    refine lv_goto (tgt := 23) hx hb dX0_then_12 (by decide) ?_
    refine lv_iconst (v := 0) hx hb dX0_then_23 (by decide) ?_
    obtain rfl := Option.some.inj hm
    exact xo_iret (v := 0) X hr hlk hw (xSim_rf _) hS rfl dX0_then_24
  exact vx_ret (hg _ _ _ _ hw va_S.rf)
/-! DripCupsLaw.tipping -/
def kX_X0_tipping (g : XC) (N : Nat) (S : XS) (x0 : Nat) (x1 : Int32) (x2 : Nat) : Option (XS × Int32) :=
  (f_cls S 1 x0).bind fun u1 =>
  hbind (kX_X1_tipping g N S x0 x1) (fun u =>
    if u.2.1 = 1 then
      some (u.1, 1)
    else
    none) <| fun r3 =>
  (a_putJ r3.1 x2 0 ((r3.2 : Int32).toInt64)).bind fun S5 =>
  some (S5, 0)
theorem cx_X0_tipping : yX0_tipping.cls ≠ "java/lang/invoke/MethodHandle" ∧ yX0_tipping.cls ≠ "java/lang/invoke/VarHandle" ∧ (parseMethodDescriptor yX0_tipping.desc).map (fun d => d.parameters.length) = some 3 := by decide +kernel
theorem met_X0_tipping {l : Launch} {g : XC} {D : va_G} {A : Nat → Prop} (hlT : l.stackTraces = false) (N : Nat) (S : XS) (x0 : Nat) (x1 : Int32) (x2 : Nat) (w : XS × Int32) (hm : kX_X0_tipping g N S x0 x1 x2 = some w) : Met l yX0_tipping (wsW_ yX0_tipping cX0_tipping 4 (Option.some Jvm.ClassFile.FieldType.int) [(0, 9, 12, 13)]) (xRm g S 84) (xPre g D A [.ref x0, .int x1, .ref x2] S) (xQo g D A w) (g.2.1 - xTop S) (g.2.2.1 - xSl S) A := by
  refine Met_ofX (x_startH (own := RX0) (by decide +kernel) rfl (Nat.le_of_ble_eq_true rfl) (fun p e s m below meth c ls X hr hlk hnm htab hw hl => ?_))
  obtain ⟨hx, hb, -, hown, hts, -⟩ := id X
  have hl : lv_has ls 4 [(0, .ref x0), (1, .int x1), (2, .ref x2)] := hl
  have hg : ∀ (H : Heap) (locs : List Loc) (cells slots : Nat), xW g D A S s H → va_S A s.heap H locs → W p l e (xRm g S 84) s m ([.ref x0, .int x1, .ref x2] : List Value).toArray below meth c H locs cells slots (MQ below (xQo g D A w) ([.ref x0, .int x1, .ref x2] : List Value).toArray s (g.2.1 - xTop S) (g.2.2.1 - xSl S) A) (F0 m 0 ls []) := by
    intro H locs cells slots hw hS
    unfold kX_X0_tipping at hm
    refine lv_aload_n hx hb dX0_tipping_0 rfl (lv_at hl 2 rfl) ?_
    refine lv_iconst (v := 0) hx hb dX0_tipping_1 (by decide) ?_
    refine lv_aload_n hx hb dX0_tipping_2 rfl (lv_at hl 0 rfl) ?_
    refine lv_iload_n hx hb dX0_tipping_3 rfl (lv_at hl 1 rfl) ?_
    obtain ⟨u1, hu1, hm⟩ := ob_s hm
    obtain ⟨w2, hw2, hm⟩ := hb_s hm
    refine xt_reti hS (xt_runV X hw (met_X1_tipping hlT N S x0 x1 w2 hw2) (x_cv X (lv := 83) (by omega) (by decide) cx_X1_tipping (lw_V q1316 q1317 q1318 q115 q1319)) xc1 hu1 rfl hl.1 rfl (Nat.le_of_ble_eq_true rfl) dX0_tipping_4) (fun t1 t2 u E9 ce q9 H1 locs1 hu ht => ?_) (fun r3 hr3 H locs cells slots hw hS => ?_)
    · replace hm := hc_r hu hm
      by_cases c4 : u.2.1 = 1
      · replace hm := if_t c4 hm
        refine xt_catch X hw t1 t2 ht htab [] (⟨0, 9, 12, 13⟩ : ExceptionTableEntry) [] rfl (fun _ h => absurd h List.not_mem_nil) (by decide) (by decide) q649 (by rw [c4]; exact q660) (fun hw hS => ?_)
        refine lv_astore_n (lv' := [(3, .ref q9), (0, .ref x0), (1, .int x1), (2, .ref x2)]) hx hb dX0_tipping_12 rfl hl (by decide) rfl (fun ls hl => ?_)
        refine lv_iconst (v := 1) hx hb dX0_tipping_13 (by decide) ?_
        obtain rfl := Option.some.inj hm
        exact xo_iret (v := 1) X hr hlk hw (xSim_bump _ _) hS rfl dX0_tipping_14
      replace hm := if_f c4 hm
      cases hm
    replace hm := hc_l hr3 hm
    refine lv_i2l hx hb dX0_tipping_7 rfl ?_
    obtain ⟨S5, hS5, hm⟩ := ob_s hm
    refine xr_last X hw hS hS5 dX0_tipping_8 (fun H locs hw hS => ?_)
    refine lv_goto (tgt := 15) hx hb dX0_tipping_9 (by decide) ?_
    refine lv_iconst (v := 0) hx hb dX0_tipping_15 (by decide) ?_
    obtain rfl := Option.some.inj hm
    exact xo_iret (v := 0) X hr hlk hw (xSim_rf _) hS rfl dX0_tipping_16
  exact vx_ret (hg _ _ _ _ hw va_S.rf)
/-! DripCupsLaw.next -/
def kX_X0_next (g : XC) (N : Nat) (S : XS) (x0 : Nat) (x1 : Int32) (x2 : Nat) : Option (XS × Int32) :=
  (f_cls S 1 x0).bind fun u1 =>
  hbind (kX_X1_next g N S x0 x1) (fun u =>
    if u.2.1 = 0 then
      some (u.1, 1)
    else
    none) <| fun r3 =>
  (a_putJ r3.1 x2 0 ((r3.2 : Int32).toInt64)).bind fun S5 =>
  some (S5, 0)
theorem cx_X0_next : yX0_next.cls ≠ "java/lang/invoke/MethodHandle" ∧ yX0_next.cls ≠ "java/lang/invoke/VarHandle" ∧ (parseMethodDescriptor yX0_next.desc).map (fun d => d.parameters.length) = some 3 := by decide +kernel
theorem met_X0_next {l : Launch} {g : XC} {D : va_G} {A : Nat → Prop} (hlT : l.stackTraces = false) (N : Nat) (S : XS) (x0 : Nat) (x1 : Int32) (x2 : Nat) (w : XS × Int32) (hm : kX_X0_next g N S x0 x1 x2 = some w) : Met l yX0_next (wsW_ yX0_next cX0_next 4 (Option.some Jvm.ClassFile.FieldType.int) [(0, 9, 12, 18)]) (xRm g S 84) (xPre g D A [.ref x0, .int x1, .ref x2] S) (xQo g D A w) (g.2.1 - xTop S) (g.2.2.1 - xSl S) A := by
  refine Met_ofX (x_startH (own := RX0) (by decide +kernel) rfl (Nat.le_of_ble_eq_true rfl) (fun p e s m below meth c ls X hr hlk hnm htab hw hl => ?_))
  obtain ⟨hx, hb, -, hown, hts, -⟩ := id X
  have hl : lv_has ls 4 [(0, .ref x0), (1, .int x1), (2, .ref x2)] := hl
  have hg : ∀ (H : Heap) (locs : List Loc) (cells slots : Nat), xW g D A S s H → va_S A s.heap H locs → W p l e (xRm g S 84) s m ([.ref x0, .int x1, .ref x2] : List Value).toArray below meth c H locs cells slots (MQ below (xQo g D A w) ([.ref x0, .int x1, .ref x2] : List Value).toArray s (g.2.1 - xTop S) (g.2.2.1 - xSl S) A) (F0 m 0 ls []) := by
    intro H locs cells slots hw hS
    unfold kX_X0_next at hm
    refine lv_aload_n hx hb dX0_next_0 rfl (lv_at hl 2 rfl) ?_
    refine lv_iconst (v := 0) hx hb dX0_next_1 (by decide) ?_
    refine lv_aload_n hx hb dX0_next_2 rfl (lv_at hl 0 rfl) ?_
    refine lv_iload_n hx hb dX0_next_3 rfl (lv_at hl 1 rfl) ?_
    obtain ⟨u1, hu1, hm⟩ := ob_s hm
    obtain ⟨w2, hw2, hm⟩ := hb_s hm
    refine xt_reti hS (xt_runV X hw (met_X1_next hlT N S x0 x1 w2 hw2) (x_cv X (lv := 83) (by omega) (by decide) cx_X1_next (lw_V q1323 q1324 q1325 q115 q1326)) xc1 hu1 rfl hl.1 rfl (Nat.le_of_ble_eq_true rfl) dX0_next_4) (fun t1 t2 u E9 ce q9 H1 locs1 hu ht => ?_) (fun r3 hr3 H locs cells slots hw hS => ?_)
    · replace hm := hc_r hu hm
      by_cases c4 : u.2.1 = 0
      · replace hm := if_t c4 hm
        refine xt_catch X hw t1 t2 ht htab [] (⟨0, 9, 12, 18⟩ : ExceptionTableEntry) [] rfl (fun _ h => absurd h List.not_mem_nil) (by decide) (by decide) q1167 (by rw [c4]; exact q1220) (fun hw hS => ?_)
        refine lv_astore_n (lv' := [(3, .ref q9), (0, .ref x0), (1, .int x1), (2, .ref x2)]) hx hb dX0_next_12 rfl hl (by decide) rfl (fun ls hl => ?_)
        refine lv_iconst (v := 1) hx hb dX0_next_13 (by decide) ?_
        obtain rfl := Option.some.inj hm
        exact xo_iret (v := 1) X hr hlk hw (xSim_bump _ _) hS rfl dX0_next_14
      replace hm := if_f c4 hm
      cases hm
    replace hm := hc_l hr3 hm
    refine lv_i2l hx hb dX0_next_7 rfl ?_
    obtain ⟨S5, hS5, hm⟩ := ob_s hm
    refine xr_last X hw hS hS5 dX0_next_8 (fun H locs hw hS => ?_)
    refine lv_goto (tgt := 15) hx hb dX0_next_9 (by decide) ?_
    refine lv_iconst (v := 0) hx hb dX0_next_15 (by decide) ?_
    obtain rfl := Option.some.inj hm
    exact xo_iret (v := 0) X hr hlk hw (xSim_rf _) hS rfl dX0_next_16
  exact vx_ret (hg _ _ _ _ hw va_S.rf)
/-! DripCupsLaw.together -/
def kX_X0_together (g : XC) (N : Nat) (S : XS) (x0 : Nat) (x1 : Int32) (x2 : Nat) : Option (XS × Int32) :=
  (f_cls S 1 x0).bind fun u1 =>
  hbind (kX_X1_together g N S x0 x1) (fun u =>
    if u.2.1 = 1 then
      some (u.1, 1)
    else
    none) <| fun r3 =>
  (a_putJ r3.1 x2 0 ((r3.2 : Int32).toInt64)).bind fun S5 =>
  some (S5, 0)
theorem cx_X0_together : yX0_together.cls ≠ "java/lang/invoke/MethodHandle" ∧ yX0_together.cls ≠ "java/lang/invoke/VarHandle" ∧ (parseMethodDescriptor yX0_together.desc).map (fun d => d.parameters.length) = some 3 := by decide +kernel
theorem met_X0_together {l : Launch} {g : XC} {D : va_G} {A : Nat → Prop} (hlT : l.stackTraces = false) (N : Nat) (S : XS) (x0 : Nat) (x1 : Int32) (x2 : Nat) (w : XS × Int32) (hm : kX_X0_together g N S x0 x1 x2 = some w) : Met l yX0_together (wsW_ yX0_together cX0_together 4 (Option.some Jvm.ClassFile.FieldType.int) [(0, 9, 12, 13)]) (xRm g S 84) (xPre g D A [.ref x0, .int x1, .ref x2] S) (xQo g D A w) (g.2.1 - xTop S) (g.2.2.1 - xSl S) A := by
  refine Met_ofX (x_startH (own := RX0) (by decide +kernel) rfl (Nat.le_of_ble_eq_true rfl) (fun p e s m below meth c ls X hr hlk hnm htab hw hl => ?_))
  obtain ⟨hx, hb, -, hown, hts, -⟩ := id X
  have hl : lv_has ls 4 [(0, .ref x0), (1, .int x1), (2, .ref x2)] := hl
  have hg : ∀ (H : Heap) (locs : List Loc) (cells slots : Nat), xW g D A S s H → va_S A s.heap H locs → W p l e (xRm g S 84) s m ([.ref x0, .int x1, .ref x2] : List Value).toArray below meth c H locs cells slots (MQ below (xQo g D A w) ([.ref x0, .int x1, .ref x2] : List Value).toArray s (g.2.1 - xTop S) (g.2.2.1 - xSl S) A) (F0 m 0 ls []) := by
    intro H locs cells slots hw hS
    unfold kX_X0_together at hm
    refine lv_aload_n hx hb dX0_together_0 rfl (lv_at hl 2 rfl) ?_
    refine lv_iconst (v := 0) hx hb dX0_together_1 (by decide) ?_
    refine lv_aload_n hx hb dX0_together_2 rfl (lv_at hl 0 rfl) ?_
    refine lv_iload_n hx hb dX0_together_3 rfl (lv_at hl 1 rfl) ?_
    obtain ⟨u1, hu1, hm⟩ := ob_s hm
    obtain ⟨w2, hw2, hm⟩ := hb_s hm
    refine xt_reti hS (xt_runV X hw (met_X1_together hlT N S x0 x1 w2 hw2) (x_cv X (lv := 83) (by omega) (by decide) cx_X1_together (lw_V q1338 q1339 q1340 q115 q1341)) xc1 hu1 rfl hl.1 rfl (Nat.le_of_ble_eq_true rfl) dX0_together_4) (fun t1 t2 u E9 ce q9 H1 locs1 hu ht => ?_) (fun r3 hr3 H locs cells slots hw hS => ?_)
    · replace hm := hc_r hu hm
      by_cases c4 : u.2.1 = 1
      · replace hm := if_t c4 hm
        refine xt_catch X hw t1 t2 ht htab [] (⟨0, 9, 12, 13⟩ : ExceptionTableEntry) [] rfl (fun _ h => absurd h List.not_mem_nil) (by decide) (by decide) q649 (by rw [c4]; exact q660) (fun hw hS => ?_)
        refine lv_astore_n (lv' := [(3, .ref q9), (0, .ref x0), (1, .int x1), (2, .ref x2)]) hx hb dX0_together_12 rfl hl (by decide) rfl (fun ls hl => ?_)
        refine lv_iconst (v := 1) hx hb dX0_together_13 (by decide) ?_
        obtain rfl := Option.some.inj hm
        exact xo_iret (v := 1) X hr hlk hw (xSim_bump _ _) hS rfl dX0_together_14
      replace hm := if_f c4 hm
      cases hm
    replace hm := hc_l hr3 hm
    refine lv_i2l hx hb dX0_together_7 rfl ?_
    obtain ⟨S5, hS5, hm⟩ := ob_s hm
    refine xr_last X hw hS hS5 dX0_together_8 (fun H locs hw hS => ?_)
    refine lv_goto (tgt := 15) hx hb dX0_together_9 (by decide) ?_
    refine lv_iconst (v := 0) hx hb dX0_together_15 (by decide) ?_
    obtain rfl := Option.some.inj hm
    exact xo_iret (v := 0) X hr hlk hw (xSim_rf _) hS rfl dX0_together_16
  exact vx_ret (hg _ _ _ _ hw va_S.rf)
/-! DripCupsLaw.sound -/
def kX_X0_sound (g : XC) (N : Nat) (S : XS) (x0 : Nat) (x1 : Int32) (x2 : Int32) (x3 : Nat) : Option (XS × Int32) :=
  (f_cls S 1 x0).bind fun u1 =>
  hbind (kX_X1_sound g N S x0 x1 x2) (fun u =>
    if u.2.1 = 0 then
      some (u.1, 1)
    else
    if u.2.1 = 1 then
      some (u.1, 2)
    else
    none) <| fun r3 =>
  (a_putJ r3.1 x3 0 ((r3.2 : Int32).toInt64)).bind fun S6 =>
  some (S6, 0)
theorem cx_X0_sound : yX0_sound.cls ≠ "java/lang/invoke/MethodHandle" ∧ yX0_sound.cls ≠ "java/lang/invoke/VarHandle" ∧ (parseMethodDescriptor yX0_sound.desc).map (fun d => d.parameters.length) = some 4 := by decide +kernel
theorem met_X0_sound {l : Launch} {g : XC} {D : va_G} {A : Nat → Prop} (hlT : l.stackTraces = false) (N : Nat) (S : XS) (x0 : Nat) (x1 : Int32) (x2 : Int32) (x3 : Nat) (w : XS × Int32) (hm : kX_X0_sound g N S x0 x1 x2 x3 = some w) : Met l yX0_sound (wsW_ yX0_sound cX0_sound 5 (Option.some Jvm.ClassFile.FieldType.int) [(0, 10, 13, 18), (0, 10, 17, 13)]) (xRm g S 82) (xPre g D A [.ref x0, .int x1, .int x2, .ref x3] S) (xQo g D A w) (g.2.1 - xTop S) (g.2.2.1 - xSl S) A := by
  refine Met_ofX (x_startH (own := RX0) (by decide +kernel) rfl (Nat.le_of_ble_eq_true rfl) (fun p e s m below meth c ls X hr hlk hnm htab hw hl => ?_))
  obtain ⟨hx, hb, -, hown, hts, -⟩ := id X
  have hl : lv_has ls 5 [(0, .ref x0), (1, .int x1), (2, .int x2), (3, .ref x3)] := hl
  have hg : ∀ (H : Heap) (locs : List Loc) (cells slots : Nat), xW g D A S s H → va_S A s.heap H locs → W p l e (xRm g S 82) s m ([.ref x0, .int x1, .int x2, .ref x3] : List Value).toArray below meth c H locs cells slots (MQ below (xQo g D A w) ([.ref x0, .int x1, .int x2, .ref x3] : List Value).toArray s (g.2.1 - xTop S) (g.2.2.1 - xSl S) A) (F0 m 0 ls []) := by
    intro H locs cells slots hw hS
    unfold kX_X0_sound at hm
    refine lv_aload_n hx hb dX0_sound_0 rfl (lv_at hl 3 rfl) ?_
    refine lv_iconst (v := 0) hx hb dX0_sound_1 (by decide) ?_
    refine lv_aload_n hx hb dX0_sound_2 rfl (lv_at hl 0 rfl) ?_
    refine lv_iload_n hx hb dX0_sound_3 rfl (lv_at hl 1 rfl) ?_
    refine lv_iload_n hx hb dX0_sound_4 rfl (lv_at hl 2 rfl) ?_
    obtain ⟨u1, hu1, hm⟩ := ob_s hm
    obtain ⟨w2, hw2, hm⟩ := hb_s hm
    refine xt_reti hS (xt_runV X hw (met_X1_sound hlT N S x0 x1 x2 w2 hw2) (x_cv X (lv := 81) (by omega) (by decide) cx_X1_sound (lw_V q1349 q1350 q1351 q115 q1352)) xc1 hu1 rfl hl.1 rfl (Nat.le_of_ble_eq_true rfl) dX0_sound_5) (fun t1 t2 u E9 ce q9 H1 locs1 hu ht => ?_) (fun r3 hr3 H locs cells slots hw hS => ?_)
    · replace hm := hc_r hu hm
      by_cases c4 : u.2.1 = 0
      · replace hm := if_t c4 hm
        refine xt_catch X hw t1 t2 ht htab [] (⟨0, 10, 13, 18⟩ : ExceptionTableEntry) [(⟨0, 10, 17, 13⟩ : ExceptionTableEntry)] rfl (fun _ h => absurd h List.not_mem_nil) (by decide) (by decide) q1167 (by rw [c4]; exact q1220) (fun hw hS => ?_)
        refine lv_astore (lv' := [(4, .ref q9), (0, .ref x0), (1, .int x1), (2, .int x2), (3, .ref x3)]) hx hb dX0_sound_13 hl (by decide) rfl (fun ls hl => ?_)
        refine lv_iconst (v := 1) hx hb dX0_sound_15 (by decide) ?_
        obtain rfl := Option.some.inj hm
        exact xo_iret (v := 1) X hr hlk hw (xSim_bump _ _) hS rfl dX0_sound_16
      replace hm := if_f c4 hm
      by_cases c5 : u.2.1 = 1
      · replace hm := if_t c5 hm
        refine xt_catch X hw t1 t2 ht htab [(⟨0, 10, 13, 18⟩ : ExceptionTableEntry)] (⟨0, 10, 17, 13⟩ : ExceptionTableEntry) [] rfl (fun z hz => by rw [List.mem_singleton.mp hz]; exact Or.inr ⟨by decide, "java/util/NoSuchElementException", X.2.2.2.2.1 _ q1167, by rw [c5]; exact X.2.2.2.2.2.1.2.1.2.2.2.1⟩) (by decide) (by decide) q649 (by rw [c5]; exact q660) (fun hw hS => ?_)
        refine lv_astore (lv' := [(4, .ref q9), (0, .ref x0), (1, .int x1), (2, .int x2), (3, .ref x3)]) hx hb dX0_sound_17 hl (by decide) rfl (fun ls hl => ?_)
        refine lv_iconst (v := 2) hx hb dX0_sound_19 (by decide) ?_
        obtain rfl := Option.some.inj hm
        exact xo_iret (v := 2) X hr hlk hw (xSim_bump _ _) hS rfl dX0_sound_20
      replace hm := if_f c5 hm
      cases hm
    replace hm := hc_l hr3 hm
    refine lv_i2l hx hb dX0_sound_8 rfl ?_
    obtain ⟨S6, hS6, hm⟩ := ob_s hm
    refine xr_last X hw hS hS6 dX0_sound_9 (fun H locs hw hS => ?_)
    refine lv_goto (tgt := 21) hx hb dX0_sound_10 (by decide) ?_
    refine lv_iconst (v := 0) hx hb dX0_sound_21 (by decide) ?_
    obtain rfl := Option.some.inj hm
    exact xo_iret (v := 0) X hr hlk hw (xSim_rf _) hS rfl dX0_sound_22
  exact vx_ret (hg _ _ _ _ hw va_S.rf)
/-! DripCupsLaw.fallen -/
def kX_X0_fallen (g : XC) (N : Nat) (S : XS) (x0 : Nat) (x1 : Int32) (x2 : Int32) (x3 : Nat) : Option (XS × Int32) :=
  (f_cls S 1 x0).bind fun u1 =>
  hbind (kX_X1_fallen g N S x0 x1 x2) (fun u =>
    if u.2.1 = 0 then
      some (u.1, 1)
    else
    if u.2.1 = 1 then
      some (u.1, 2)
    else
    none) <| fun r3 =>
  (a_putJ r3.1 x3 0 ((r3.2 : Int32).toInt64)).bind fun S6 =>
  some (S6, 0)
theorem cx_X0_fallen : yX0_fallen.cls ≠ "java/lang/invoke/MethodHandle" ∧ yX0_fallen.cls ≠ "java/lang/invoke/VarHandle" ∧ (parseMethodDescriptor yX0_fallen.desc).map (fun d => d.parameters.length) = some 4 := by decide +kernel
theorem met_X0_fallen {l : Launch} {g : XC} {D : va_G} {A : Nat → Prop} (hlT : l.stackTraces = false) (N : Nat) (S : XS) (x0 : Nat) (x1 : Int32) (x2 : Int32) (x3 : Nat) (w : XS × Int32) (hm : kX_X0_fallen g N S x0 x1 x2 x3 = some w) : Met l yX0_fallen (wsW_ yX0_fallen cX0_fallen 5 (Option.some Jvm.ClassFile.FieldType.int) [(0, 10, 13, 18), (0, 10, 17, 13)]) (xRm g S 8) (xPre g D A [.ref x0, .int x1, .int x2, .ref x3] S) (xQo g D A w) (g.2.1 - xTop S) (g.2.2.1 - xSl S) A := by
  refine Met_ofX (x_startH (own := RX0) (by decide +kernel) rfl (Nat.le_of_ble_eq_true rfl) (fun p e s m below meth c ls X hr hlk hnm htab hw hl => ?_))
  obtain ⟨hx, hb, -, hown, hts, -⟩ := id X
  have hl : lv_has ls 5 [(0, .ref x0), (1, .int x1), (2, .int x2), (3, .ref x3)] := hl
  have hg : ∀ (H : Heap) (locs : List Loc) (cells slots : Nat), xW g D A S s H → va_S A s.heap H locs → W p l e (xRm g S 8) s m ([.ref x0, .int x1, .int x2, .ref x3] : List Value).toArray below meth c H locs cells slots (MQ below (xQo g D A w) ([.ref x0, .int x1, .int x2, .ref x3] : List Value).toArray s (g.2.1 - xTop S) (g.2.2.1 - xSl S) A) (F0 m 0 ls []) := by
    intro H locs cells slots hw hS
    unfold kX_X0_fallen at hm
    refine lv_aload_n hx hb dX0_fallen_0 rfl (lv_at hl 3 rfl) ?_
    refine lv_iconst (v := 0) hx hb dX0_fallen_1 (by decide) ?_
    refine lv_aload_n hx hb dX0_fallen_2 rfl (lv_at hl 0 rfl) ?_
    refine lv_iload_n hx hb dX0_fallen_3 rfl (lv_at hl 1 rfl) ?_
    refine lv_iload_n hx hb dX0_fallen_4 rfl (lv_at hl 2 rfl) ?_
    obtain ⟨u1, hu1, hm⟩ := ob_s hm
    obtain ⟨w2, hw2, hm⟩ := hb_s hm
    refine xt_reti hS (xt_runV X hw (met_X1_fallen hlT N S x0 x1 x2 w2 hw2) (x_cv X (lv := 7) (by omega) (by decide) cx_X1_fallen (lw_V q1362 q1363 q1364 q115 q1365)) xc1 hu1 rfl hl.1 rfl (Nat.le_of_ble_eq_true rfl) dX0_fallen_5) (fun t1 t2 u E9 ce q9 H1 locs1 hu ht => ?_) (fun r3 hr3 H locs cells slots hw hS => ?_)
    · replace hm := hc_r hu hm
      by_cases c4 : u.2.1 = 0
      · replace hm := if_t c4 hm
        refine xt_catch X hw t1 t2 ht htab [] (⟨0, 10, 13, 18⟩ : ExceptionTableEntry) [(⟨0, 10, 17, 13⟩ : ExceptionTableEntry)] rfl (fun _ h => absurd h List.not_mem_nil) (by decide) (by decide) q1167 (by rw [c4]; exact q1220) (fun hw hS => ?_)
        refine lv_astore (lv' := [(4, .ref q9), (0, .ref x0), (1, .int x1), (2, .int x2), (3, .ref x3)]) hx hb dX0_fallen_13 hl (by decide) rfl (fun ls hl => ?_)
        refine lv_iconst (v := 1) hx hb dX0_fallen_15 (by decide) ?_
        obtain rfl := Option.some.inj hm
        exact xo_iret (v := 1) X hr hlk hw (xSim_bump _ _) hS rfl dX0_fallen_16
      replace hm := if_f c4 hm
      by_cases c5 : u.2.1 = 1
      · replace hm := if_t c5 hm
        refine xt_catch X hw t1 t2 ht htab [(⟨0, 10, 13, 18⟩ : ExceptionTableEntry)] (⟨0, 10, 17, 13⟩ : ExceptionTableEntry) [] rfl (fun z hz => by rw [List.mem_singleton.mp hz]; exact Or.inr ⟨by decide, "java/util/NoSuchElementException", X.2.2.2.2.1 _ q1167, by rw [c5]; exact X.2.2.2.2.2.1.2.1.2.2.2.1⟩) (by decide) (by decide) q649 (by rw [c5]; exact q660) (fun hw hS => ?_)
        refine lv_astore (lv' := [(4, .ref q9), (0, .ref x0), (1, .int x1), (2, .int x2), (3, .ref x3)]) hx hb dX0_fallen_17 hl (by decide) rfl (fun ls hl => ?_)
        refine lv_iconst (v := 2) hx hb dX0_fallen_19 (by decide) ?_
        obtain rfl := Option.some.inj hm
        exact xo_iret (v := 2) X hr hlk hw (xSim_bump _ _) hS rfl dX0_fallen_20
      replace hm := if_f c5 hm
      cases hm
    replace hm := hc_l hr3 hm
    refine lv_i2l hx hb dX0_fallen_8 rfl ?_
    obtain ⟨S6, hS6, hm⟩ := ob_s hm
    refine xr_last X hw hS hS6 dX0_fallen_9 (fun H locs hw hS => ?_)
    refine lv_goto (tgt := 21) hx hb dX0_fallen_10 (by decide) ?_
    refine lv_iconst (v := 0) hx hb dX0_fallen_21 (by decide) ?_
    obtain rfl := Option.some.inj hm
    exact xo_iret (v := 0) X hr hlk hw (xSim_rf _) hS rfl dX0_fallen_22
  exact vx_ret (hg _ _ _ _ hw va_S.rf)
/-! DripCupsLaw.nth -/
def kX_X0_nth (g : XC) (N : Nat) (S : XS) (x0 : Nat) (x1 : Int32) (x2 : Int32) (x3 : Nat) : Option (XS × Int32) :=
  (f_cls S 1 x0).bind fun u1 =>
  hbind (kX_X1_nth g N S x0 x1 x2) (fun u =>
    if u.2.1 = 0 then
      some (u.1, 1)
    else
    if u.2.1 = 1 then
      some (u.1, 2)
    else
    none) <| fun r3 =>
  (a_putJ r3.1 x3 0 ((r3.2 : Int32).toInt64)).bind fun S6 =>
  some (S6, 0)
theorem cx_X0_nth : yX0_nth.cls ≠ "java/lang/invoke/MethodHandle" ∧ yX0_nth.cls ≠ "java/lang/invoke/VarHandle" ∧ (parseMethodDescriptor yX0_nth.desc).map (fun d => d.parameters.length) = some 4 := by decide +kernel
theorem met_X0_nth {l : Launch} {g : XC} {D : va_G} {A : Nat → Prop} (hlT : l.stackTraces = false) (N : Nat) (S : XS) (x0 : Nat) (x1 : Int32) (x2 : Int32) (x3 : Nat) (w : XS × Int32) (hm : kX_X0_nth g N S x0 x1 x2 x3 = some w) : Met l yX0_nth (wsW_ yX0_nth cX0_nth 5 (Option.some Jvm.ClassFile.FieldType.int) [(0, 10, 13, 18), (0, 10, 17, 13)]) (xRm g S 8) (xPre g D A [.ref x0, .int x1, .int x2, .ref x3] S) (xQo g D A w) (g.2.1 - xTop S) (g.2.2.1 - xSl S) A := by
  refine Met_ofX (x_startH (own := RX0) (by decide +kernel) rfl (Nat.le_of_ble_eq_true rfl) (fun p e s m below meth c ls X hr hlk hnm htab hw hl => ?_))
  obtain ⟨hx, hb, -, hown, hts, -⟩ := id X
  have hl : lv_has ls 5 [(0, .ref x0), (1, .int x1), (2, .int x2), (3, .ref x3)] := hl
  have hg : ∀ (H : Heap) (locs : List Loc) (cells slots : Nat), xW g D A S s H → va_S A s.heap H locs → W p l e (xRm g S 8) s m ([.ref x0, .int x1, .int x2, .ref x3] : List Value).toArray below meth c H locs cells slots (MQ below (xQo g D A w) ([.ref x0, .int x1, .int x2, .ref x3] : List Value).toArray s (g.2.1 - xTop S) (g.2.2.1 - xSl S) A) (F0 m 0 ls []) := by
    intro H locs cells slots hw hS
    unfold kX_X0_nth at hm
    refine lv_aload_n hx hb dX0_nth_0 rfl (lv_at hl 3 rfl) ?_
    refine lv_iconst (v := 0) hx hb dX0_nth_1 (by decide) ?_
    refine lv_aload_n hx hb dX0_nth_2 rfl (lv_at hl 0 rfl) ?_
    refine lv_iload_n hx hb dX0_nth_3 rfl (lv_at hl 1 rfl) ?_
    refine lv_iload_n hx hb dX0_nth_4 rfl (lv_at hl 2 rfl) ?_
    obtain ⟨u1, hu1, hm⟩ := ob_s hm
    obtain ⟨w2, hw2, hm⟩ := hb_s hm
    refine xt_reti hS (xt_runV X hw (met_X1_nth hlT N S x0 x1 x2 w2 hw2) (x_cv X (lv := 7) (by omega) (by decide) cx_X1_nth (lw_V q1376 q1377 q1378 q115 q1379)) xc1 hu1 rfl hl.1 rfl (Nat.le_of_ble_eq_true rfl) dX0_nth_5) (fun t1 t2 u E9 ce q9 H1 locs1 hu ht => ?_) (fun r3 hr3 H locs cells slots hw hS => ?_)
    · replace hm := hc_r hu hm
      by_cases c4 : u.2.1 = 0
      · replace hm := if_t c4 hm
        refine xt_catch X hw t1 t2 ht htab [] (⟨0, 10, 13, 18⟩ : ExceptionTableEntry) [(⟨0, 10, 17, 13⟩ : ExceptionTableEntry)] rfl (fun _ h => absurd h List.not_mem_nil) (by decide) (by decide) q1167 (by rw [c4]; exact q1220) (fun hw hS => ?_)
        refine lv_astore (lv' := [(4, .ref q9), (0, .ref x0), (1, .int x1), (2, .int x2), (3, .ref x3)]) hx hb dX0_nth_13 hl (by decide) rfl (fun ls hl => ?_)
        refine lv_iconst (v := 1) hx hb dX0_nth_15 (by decide) ?_
        obtain rfl := Option.some.inj hm
        exact xo_iret (v := 1) X hr hlk hw (xSim_bump _ _) hS rfl dX0_nth_16
      replace hm := if_f c4 hm
      by_cases c5 : u.2.1 = 1
      · replace hm := if_t c5 hm
        refine xt_catch X hw t1 t2 ht htab [(⟨0, 10, 13, 18⟩ : ExceptionTableEntry)] (⟨0, 10, 17, 13⟩ : ExceptionTableEntry) [] rfl (fun z hz => by rw [List.mem_singleton.mp hz]; exact Or.inr ⟨by decide, "java/util/NoSuchElementException", X.2.2.2.2.1 _ q1167, by rw [c5]; exact X.2.2.2.2.2.1.2.1.2.2.2.1⟩) (by decide) (by decide) q649 (by rw [c5]; exact q660) (fun hw hS => ?_)
        refine lv_astore (lv' := [(4, .ref q9), (0, .ref x0), (1, .int x1), (2, .int x2), (3, .ref x3)]) hx hb dX0_nth_17 hl (by decide) rfl (fun ls hl => ?_)
        refine lv_iconst (v := 2) hx hb dX0_nth_19 (by decide) ?_
        obtain rfl := Option.some.inj hm
        exact xo_iret (v := 2) X hr hlk hw (xSim_bump _ _) hS rfl dX0_nth_20
      replace hm := if_f c5 hm
      cases hm
    replace hm := hc_l hr3 hm
    refine lv_i2l hx hb dX0_nth_8 rfl ?_
    obtain ⟨S6, hS6, hm⟩ := ob_s hm
    refine xr_last X hw hS hS6 dX0_nth_9 (fun H locs hw hS => ?_)
    refine lv_goto (tgt := 21) hx hb dX0_nth_10 (by decide) ?_
    refine lv_iconst (v := 0) hx hb dX0_nth_21 (by decide) ?_
    obtain rfl := Option.some.inj hm
    exact xo_iret (v := 0) X hr hlk hw (xSim_rf _) hS rfl dX0_nth_22
  exact vx_ret (hg _ _ _ _ hw va_S.rf)
/-! DripCupsLaw.meeting -/
def kX_X0_meeting (g : XC) (N : Nat) (S : XS) (x0 : Nat) (x1 : Int32) (x2 : Nat) : Option (XS × Int32) :=
  (f_cls S 1 x0).bind fun u1 =>
  hbind (kX_X1_meeting g N S x0 x1) (fun u =>
    if u.2.1 = 1 then
      some (u.1, 1)
    else
    none) <| fun r3 =>
  (a_putJ r3.1 x2 0 ((r3.2 : Int32).toInt64)).bind fun S5 =>
  some (S5, 0)
theorem cx_X0_meeting : yX0_meeting.cls ≠ "java/lang/invoke/MethodHandle" ∧ yX0_meeting.cls ≠ "java/lang/invoke/VarHandle" ∧ (parseMethodDescriptor yX0_meeting.desc).map (fun d => d.parameters.length) = some 3 := by decide +kernel
theorem met_X0_meeting {l : Launch} {g : XC} {D : va_G} {A : Nat → Prop} (hlT : l.stackTraces = false) (N : Nat) (S : XS) (x0 : Nat) (x1 : Int32) (x2 : Nat) (w : XS × Int32) (hm : kX_X0_meeting g N S x0 x1 x2 = some w) : Met l yX0_meeting (wsW_ yX0_meeting cX0_meeting 4 (Option.some Jvm.ClassFile.FieldType.int) [(0, 9, 12, 13)]) (xRm g S 83) (xPre g D A [.ref x0, .int x1, .ref x2] S) (xQo g D A w) (g.2.1 - xTop S) (g.2.2.1 - xSl S) A := by
  refine Met_ofX (x_startH (own := RX0) (by decide +kernel) rfl (Nat.le_of_ble_eq_true rfl) (fun p e s m below meth c ls X hr hlk hnm htab hw hl => ?_))
  obtain ⟨hx, hb, -, hown, hts, -⟩ := id X
  have hl : lv_has ls 4 [(0, .ref x0), (1, .int x1), (2, .ref x2)] := hl
  have hg : ∀ (H : Heap) (locs : List Loc) (cells slots : Nat), xW g D A S s H → va_S A s.heap H locs → W p l e (xRm g S 83) s m ([.ref x0, .int x1, .ref x2] : List Value).toArray below meth c H locs cells slots (MQ below (xQo g D A w) ([.ref x0, .int x1, .ref x2] : List Value).toArray s (g.2.1 - xTop S) (g.2.2.1 - xSl S) A) (F0 m 0 ls []) := by
    intro H locs cells slots hw hS
    unfold kX_X0_meeting at hm
    refine lv_aload_n hx hb dX0_meeting_0 rfl (lv_at hl 2 rfl) ?_
    refine lv_iconst (v := 0) hx hb dX0_meeting_1 (by decide) ?_
    refine lv_aload_n hx hb dX0_meeting_2 rfl (lv_at hl 0 rfl) ?_
    refine lv_iload_n hx hb dX0_meeting_3 rfl (lv_at hl 1 rfl) ?_
    obtain ⟨u1, hu1, hm⟩ := ob_s hm
    obtain ⟨w2, hw2, hm⟩ := hb_s hm
    refine xt_reti hS (xt_runV X hw (met_X1_meeting hlT N S x0 x1 w2 hw2) (x_cv X (lv := 82) (by omega) (by decide) cx_X1_meeting (lw_V q1385 q1386 q1387 q115 q1388)) xc1 hu1 rfl hl.1 rfl (Nat.le_of_ble_eq_true rfl) dX0_meeting_4) (fun t1 t2 u E9 ce q9 H1 locs1 hu ht => ?_) (fun r3 hr3 H locs cells slots hw hS => ?_)
    · replace hm := hc_r hu hm
      by_cases c4 : u.2.1 = 1
      · replace hm := if_t c4 hm
        refine xt_catch X hw t1 t2 ht htab [] (⟨0, 9, 12, 13⟩ : ExceptionTableEntry) [] rfl (fun _ h => absurd h List.not_mem_nil) (by decide) (by decide) q649 (by rw [c4]; exact q660) (fun hw hS => ?_)
        refine lv_astore_n (lv' := [(3, .ref q9), (0, .ref x0), (1, .int x1), (2, .ref x2)]) hx hb dX0_meeting_12 rfl hl (by decide) rfl (fun ls hl => ?_)
        refine lv_iconst (v := 1) hx hb dX0_meeting_13 (by decide) ?_
        obtain rfl := Option.some.inj hm
        exact xo_iret (v := 1) X hr hlk hw (xSim_bump _ _) hS rfl dX0_meeting_14
      replace hm := if_f c4 hm
      cases hm
    replace hm := hc_l hr3 hm
    refine lv_i2l hx hb dX0_meeting_7 rfl ?_
    obtain ⟨S5, hS5, hm⟩ := ob_s hm
    refine xr_last X hw hS hS5 dX0_meeting_8 (fun H locs hw hS => ?_)
    refine lv_goto (tgt := 15) hx hb dX0_meeting_9 (by decide) ?_
    refine lv_iconst (v := 0) hx hb dX0_meeting_15 (by decide) ?_
    obtain rfl := Option.some.inj hm
    exact xo_iret (v := 0) X hr hlk hw (xSim_rf _) hS rfl dX0_meeting_16
  exact vx_ret (hg _ _ _ _ hw va_S.rf)
/-! DripCupsLaw.flow -/
def kX_X0_flow (g : XC) (N : Nat) (S : XS) (x0 : Nat) (x1 : Int32) (x2 : Int32) (x3 : Nat) : Option (XS × Int32) :=
  (f_cls S 1 x0).bind fun u1 =>
  hbind (kX_X1_flow g N S x0 x1 x2) (fun u =>
    if u.2.1 = 0 then
      some (u.1, 1)
    else
    if u.2.1 = 1 then
      some (u.1, 2)
    else
    none) <| fun r3 =>
  (a_putJ r3.1 x3 0 ((r3.2 : Int32).toInt64)).bind fun S6 =>
  some (S6, 0)
theorem cx_X0_flow : yX0_flow.cls ≠ "java/lang/invoke/MethodHandle" ∧ yX0_flow.cls ≠ "java/lang/invoke/VarHandle" ∧ (parseMethodDescriptor yX0_flow.desc).map (fun d => d.parameters.length) = some 4 := by decide +kernel
theorem met_X0_flow {l : Launch} {g : XC} {D : va_G} {A : Nat → Prop} (hlT : l.stackTraces = false) (N : Nat) (S : XS) (x0 : Nat) (x1 : Int32) (x2 : Int32) (x3 : Nat) (w : XS × Int32) (hm : kX_X0_flow g N S x0 x1 x2 x3 = some w) : Met l yX0_flow (wsW_ yX0_flow cX0_flow 5 (Option.some Jvm.ClassFile.FieldType.int) [(0, 10, 13, 18), (0, 10, 17, 13)]) (xRm g S 8) (xPre g D A [.ref x0, .int x1, .int x2, .ref x3] S) (xQo g D A w) (g.2.1 - xTop S) (g.2.2.1 - xSl S) A := by
  refine Met_ofX (x_startH (own := RX0) (by decide +kernel) rfl (Nat.le_of_ble_eq_true rfl) (fun p e s m below meth c ls X hr hlk hnm htab hw hl => ?_))
  obtain ⟨hx, hb, -, hown, hts, -⟩ := id X
  have hl : lv_has ls 5 [(0, .ref x0), (1, .int x1), (2, .int x2), (3, .ref x3)] := hl
  have hg : ∀ (H : Heap) (locs : List Loc) (cells slots : Nat), xW g D A S s H → va_S A s.heap H locs → W p l e (xRm g S 8) s m ([.ref x0, .int x1, .int x2, .ref x3] : List Value).toArray below meth c H locs cells slots (MQ below (xQo g D A w) ([.ref x0, .int x1, .int x2, .ref x3] : List Value).toArray s (g.2.1 - xTop S) (g.2.2.1 - xSl S) A) (F0 m 0 ls []) := by
    intro H locs cells slots hw hS
    unfold kX_X0_flow at hm
    refine lv_aload_n hx hb dX0_flow_0 rfl (lv_at hl 3 rfl) ?_
    refine lv_iconst (v := 0) hx hb dX0_flow_1 (by decide) ?_
    refine lv_aload_n hx hb dX0_flow_2 rfl (lv_at hl 0 rfl) ?_
    refine lv_iload_n hx hb dX0_flow_3 rfl (lv_at hl 1 rfl) ?_
    refine lv_iload_n hx hb dX0_flow_4 rfl (lv_at hl 2 rfl) ?_
    obtain ⟨u1, hu1, hm⟩ := ob_s hm
    obtain ⟨w2, hw2, hm⟩ := hb_s hm
    refine xt_reti hS (xt_runV X hw (met_X1_flow hlT N S x0 x1 x2 w2 hw2) (x_cv X (lv := 7) (by omega) (by decide) cx_X1_flow (lw_V q1396 q1397 q1398 q115 q1399)) xc1 hu1 rfl hl.1 rfl (Nat.le_of_ble_eq_true rfl) dX0_flow_5) (fun t1 t2 u E9 ce q9 H1 locs1 hu ht => ?_) (fun r3 hr3 H locs cells slots hw hS => ?_)
    · replace hm := hc_r hu hm
      by_cases c4 : u.2.1 = 0
      · replace hm := if_t c4 hm
        refine xt_catch X hw t1 t2 ht htab [] (⟨0, 10, 13, 18⟩ : ExceptionTableEntry) [(⟨0, 10, 17, 13⟩ : ExceptionTableEntry)] rfl (fun _ h => absurd h List.not_mem_nil) (by decide) (by decide) q1167 (by rw [c4]; exact q1220) (fun hw hS => ?_)
        refine lv_astore (lv' := [(4, .ref q9), (0, .ref x0), (1, .int x1), (2, .int x2), (3, .ref x3)]) hx hb dX0_flow_13 hl (by decide) rfl (fun ls hl => ?_)
        refine lv_iconst (v := 1) hx hb dX0_flow_15 (by decide) ?_
        obtain rfl := Option.some.inj hm
        exact xo_iret (v := 1) X hr hlk hw (xSim_bump _ _) hS rfl dX0_flow_16
      replace hm := if_f c4 hm
      by_cases c5 : u.2.1 = 1
      · replace hm := if_t c5 hm
        refine xt_catch X hw t1 t2 ht htab [(⟨0, 10, 13, 18⟩ : ExceptionTableEntry)] (⟨0, 10, 17, 13⟩ : ExceptionTableEntry) [] rfl (fun z hz => by rw [List.mem_singleton.mp hz]; exact Or.inr ⟨by decide, "java/util/NoSuchElementException", X.2.2.2.2.1 _ q1167, by rw [c5]; exact X.2.2.2.2.2.1.2.1.2.2.2.1⟩) (by decide) (by decide) q649 (by rw [c5]; exact q660) (fun hw hS => ?_)
        refine lv_astore (lv' := [(4, .ref q9), (0, .ref x0), (1, .int x1), (2, .int x2), (3, .ref x3)]) hx hb dX0_flow_17 hl (by decide) rfl (fun ls hl => ?_)
        refine lv_iconst (v := 2) hx hb dX0_flow_19 (by decide) ?_
        obtain rfl := Option.some.inj hm
        exact xo_iret (v := 2) X hr hlk hw (xSim_bump _ _) hS rfl dX0_flow_20
      replace hm := if_f c5 hm
      cases hm
    replace hm := hc_l hr3 hm
    refine lv_i2l hx hb dX0_flow_8 rfl ?_
    obtain ⟨S6, hS6, hm⟩ := ob_s hm
    refine xr_last X hw hS hS6 dX0_flow_9 (fun H locs hw hS => ?_)
    refine lv_goto (tgt := 21) hx hb dX0_flow_10 (by decide) ?_
    refine lv_iconst (v := 0) hx hb dX0_flow_21 (by decide) ?_
    obtain rfl := Option.some.inj hm
    exact xo_iret (v := 0) X hr hlk hw (xSim_rf _) hS rfl dX0_flow_22
  exact vx_ret (hg _ _ _ _ hw va_S.rf)
/-! DripCupsLaw.tier -/
def kX_X0_tier (g : XC) (N : Nat) (S : XS) (x0 : Nat) (x1 : Int32) (x2 : Int32) (x3 : Nat) : Option (XS × Int32) :=
  (f_cls S 1 x0).bind fun u1 =>
  hbind (kX_X1_tier g N S x0 x1 x2) (fun u =>
    if u.2.1 = 0 then
      some (u.1, 1)
    else
    none) <| fun r3 =>
  (a_putJ r3.1 x3 0 ((r3.2 : Int32).toInt64)).bind fun S5 =>
  some (S5, 0)
theorem cx_X0_tier : yX0_tier.cls ≠ "java/lang/invoke/MethodHandle" ∧ yX0_tier.cls ≠ "java/lang/invoke/VarHandle" ∧ (parseMethodDescriptor yX0_tier.desc).map (fun d => d.parameters.length) = some 4 := by decide +kernel
theorem met_X0_tier {l : Launch} {g : XC} {D : va_G} {A : Nat → Prop} (hlT : l.stackTraces = false) (N : Nat) (S : XS) (x0 : Nat) (x1 : Int32) (x2 : Int32) (x3 : Nat) (w : XS × Int32) (hm : kX_X0_tier g N S x0 x1 x2 x3 = some w) : Met l yX0_tier (wsW_ yX0_tier cX0_tier 5 (Option.some Jvm.ClassFile.FieldType.int) [(0, 10, 13, 18)]) (xRm g S 8) (xPre g D A [.ref x0, .int x1, .int x2, .ref x3] S) (xQo g D A w) (g.2.1 - xTop S) (g.2.2.1 - xSl S) A := by
  refine Met_ofX (x_startH (own := RX0) (by decide +kernel) rfl (Nat.le_of_ble_eq_true rfl) (fun p e s m below meth c ls X hr hlk hnm htab hw hl => ?_))
  obtain ⟨hx, hb, -, hown, hts, -⟩ := id X
  have hl : lv_has ls 5 [(0, .ref x0), (1, .int x1), (2, .int x2), (3, .ref x3)] := hl
  have hg : ∀ (H : Heap) (locs : List Loc) (cells slots : Nat), xW g D A S s H → va_S A s.heap H locs → W p l e (xRm g S 8) s m ([.ref x0, .int x1, .int x2, .ref x3] : List Value).toArray below meth c H locs cells slots (MQ below (xQo g D A w) ([.ref x0, .int x1, .int x2, .ref x3] : List Value).toArray s (g.2.1 - xTop S) (g.2.2.1 - xSl S) A) (F0 m 0 ls []) := by
    intro H locs cells slots hw hS
    unfold kX_X0_tier at hm
    refine lv_aload_n hx hb dX0_tier_0 rfl (lv_at hl 3 rfl) ?_
    refine lv_iconst (v := 0) hx hb dX0_tier_1 (by decide) ?_
    refine lv_aload_n hx hb dX0_tier_2 rfl (lv_at hl 0 rfl) ?_
    refine lv_iload_n hx hb dX0_tier_3 rfl (lv_at hl 1 rfl) ?_
    refine lv_iload_n hx hb dX0_tier_4 rfl (lv_at hl 2 rfl) ?_
    obtain ⟨u1, hu1, hm⟩ := ob_s hm
    obtain ⟨w2, hw2, hm⟩ := hb_s hm
    refine xt_reti hS (xt_runV X hw (met_X1_tier hlT N S x0 x1 x2 w2 hw2) (x_cv X (lv := 7) (by omega) (by decide) cx_X1_tier (lw_V q1403 q1404 q1405 q115 q1406)) xc1 hu1 rfl hl.1 rfl (Nat.le_of_ble_eq_true rfl) dX0_tier_5) (fun t1 t2 u E9 ce q9 H1 locs1 hu ht => ?_) (fun r3 hr3 H locs cells slots hw hS => ?_)
    · replace hm := hc_r hu hm
      by_cases c4 : u.2.1 = 0
      · replace hm := if_t c4 hm
        refine xt_catch X hw t1 t2 ht htab [] (⟨0, 10, 13, 18⟩ : ExceptionTableEntry) [] rfl (fun _ h => absurd h List.not_mem_nil) (by decide) (by decide) q1167 (by rw [c4]; exact q1220) (fun hw hS => ?_)
        refine lv_astore (lv' := [(4, .ref q9), (0, .ref x0), (1, .int x1), (2, .int x2), (3, .ref x3)]) hx hb dX0_tier_13 hl (by decide) rfl (fun ls hl => ?_)
        refine lv_iconst (v := 1) hx hb dX0_tier_15 (by decide) ?_
        obtain rfl := Option.some.inj hm
        exact xo_iret (v := 1) X hr hlk hw (xSim_bump _ _) hS rfl dX0_tier_16
      replace hm := if_f c4 hm
      cases hm
    replace hm := hc_l hr3 hm
    refine lv_i2l hx hb dX0_tier_8 rfl ?_
    obtain ⟨S5, hS5, hm⟩ := ob_s hm
    refine xr_last X hw hS hS5 dX0_tier_9 (fun H locs hw hS => ?_)
    refine lv_goto (tgt := 17) hx hb dX0_tier_10 (by decide) ?_
    refine lv_iconst (v := 0) hx hb dX0_tier_17 (by decide) ?_
    obtain rfl := Option.some.inj hm
    exact xo_iret (v := 0) X hr hlk hw (xSim_rf _) hS rfl dX0_tier_18
  exact vx_ret (hg _ _ _ _ hw va_S.rf)
/-! DripCupsLaw.toCrack -/
def kX_X0_toCrack (g : XC) (N : Nat) (S : XS) (x0 : Nat) (x1 : Int32) (x2 : Int32) (x3 : Int32) (x4 : Int32) (x5 : Nat) : Option (XS × Int32) :=
  (f_cls S 1 x0).bind fun u1 =>
  hbind (kX_X1_toCrack g N S x0 x1 x2 x3 x4) (fun u =>
    if u.2.1 = 0 then
      some (u.1, 1)
    else
    if u.2.1 = 1 then
      some (u.1, 2)
    else
    none) <| fun r3 =>
  (a_putJ r3.1 x5 0 ((r3.2 : Int32).toInt64)).bind fun S6 =>
  some (S6, 0)
theorem cx_X0_toCrack : yX0_toCrack.cls ≠ "java/lang/invoke/MethodHandle" ∧ yX0_toCrack.cls ≠ "java/lang/invoke/VarHandle" ∧ (parseMethodDescriptor yX0_toCrack.desc).map (fun d => d.parameters.length) = some 6 := by decide +kernel
theorem met_X0_toCrack {l : Launch} {g : XC} {D : va_G} {A : Nat → Prop} (hlT : l.stackTraces = false) (N : Nat) (S : XS) (x0 : Nat) (x1 : Int32) (x2 : Int32) (x3 : Int32) (x4 : Int32) (x5 : Nat) (w : XS × Int32) (hm : kX_X0_toCrack g N S x0 x1 x2 x3 x4 x5 = some w) : Met l yX0_toCrack (wsW_ yX0_toCrack cX0_toCrack 7 (Option.some Jvm.ClassFile.FieldType.int) [(0, 14, 17, 18), (0, 14, 21, 13)]) (xRm g S 83) (xPre g D A [.ref x0, .int x1, .int x2, .int x3, .int x4, .ref x5] S) (xQo g D A w) (g.2.1 - xTop S) (g.2.2.1 - xSl S) A := by
  refine Met_ofX (x_startH (own := RX0) (by decide +kernel) rfl (Nat.le_of_ble_eq_true rfl) (fun p e s m below meth c ls X hr hlk hnm htab hw hl => ?_))
  obtain ⟨hx, hb, -, hown, hts, -⟩ := id X
  have hl : lv_has ls 7 [(0, .ref x0), (1, .int x1), (2, .int x2), (3, .int x3), (4, .int x4), (5, .ref x5)] := hl
  have hg : ∀ (H : Heap) (locs : List Loc) (cells slots : Nat), xW g D A S s H → va_S A s.heap H locs → W p l e (xRm g S 83) s m ([.ref x0, .int x1, .int x2, .int x3, .int x4, .ref x5] : List Value).toArray below meth c H locs cells slots (MQ below (xQo g D A w) ([.ref x0, .int x1, .int x2, .int x3, .int x4, .ref x5] : List Value).toArray s (g.2.1 - xTop S) (g.2.2.1 - xSl S) A) (F0 m 0 ls []) := by
    intro H locs cells slots hw hS
    unfold kX_X0_toCrack at hm
    refine lv_aload hx hb dX0_toCrack_0 (lv_at hl 5 rfl) ?_
    refine lv_iconst (v := 0) hx hb dX0_toCrack_2 (by decide) ?_
    refine lv_aload_n hx hb dX0_toCrack_3 rfl (lv_at hl 0 rfl) ?_
    refine lv_iload_n hx hb dX0_toCrack_4 rfl (lv_at hl 1 rfl) ?_
    refine lv_iload_n hx hb dX0_toCrack_5 rfl (lv_at hl 2 rfl) ?_
    refine lv_iload_n hx hb dX0_toCrack_6 rfl (lv_at hl 3 rfl) ?_
    refine lv_iload hx hb dX0_toCrack_7 (lv_at hl 4 rfl) ?_
    obtain ⟨u1, hu1, hm⟩ := ob_s hm
    obtain ⟨w2, hw2, hm⟩ := hb_s hm
    refine xt_reti hS (xt_runV X hw (met_X1_toCrack hlT N S x0 x1 x2 x3 x4 w2 hw2) (x_cv X (lv := 82) (by omega) (by decide) cx_X1_toCrack (lw_V q1410 q1411 q1412 q115 q1413)) xc1 hu1 rfl hl.1 rfl (Nat.le_of_ble_eq_true rfl) dX0_toCrack_9) (fun t1 t2 u E9 ce q9 H1 locs1 hu ht => ?_) (fun r3 hr3 H locs cells slots hw hS => ?_)
    · replace hm := hc_r hu hm
      by_cases c4 : u.2.1 = 0
      · replace hm := if_t c4 hm
        refine xt_catch X hw t1 t2 ht htab [] (⟨0, 14, 17, 18⟩ : ExceptionTableEntry) [(⟨0, 14, 21, 13⟩ : ExceptionTableEntry)] rfl (fun _ h => absurd h List.not_mem_nil) (by decide) (by decide) q1167 (by rw [c4]; exact q1220) (fun hw hS => ?_)
        refine lv_astore (lv' := [(6, .ref q9), (0, .ref x0), (1, .int x1), (2, .int x2), (3, .int x3), (4, .int x4), (5, .ref x5)]) hx hb dX0_toCrack_17 hl (by decide) rfl (fun ls hl => ?_)
        refine lv_iconst (v := 1) hx hb dX0_toCrack_19 (by decide) ?_
        obtain rfl := Option.some.inj hm
        exact xo_iret (v := 1) X hr hlk hw (xSim_bump _ _) hS rfl dX0_toCrack_20
      replace hm := if_f c4 hm
      by_cases c5 : u.2.1 = 1
      · replace hm := if_t c5 hm
        refine xt_catch X hw t1 t2 ht htab [(⟨0, 14, 17, 18⟩ : ExceptionTableEntry)] (⟨0, 14, 21, 13⟩ : ExceptionTableEntry) [] rfl (fun z hz => by rw [List.mem_singleton.mp hz]; exact Or.inr ⟨by decide, "java/util/NoSuchElementException", X.2.2.2.2.1 _ q1167, by rw [c5]; exact X.2.2.2.2.2.1.2.1.2.2.2.1⟩) (by decide) (by decide) q649 (by rw [c5]; exact q660) (fun hw hS => ?_)
        refine lv_astore (lv' := [(6, .ref q9), (0, .ref x0), (1, .int x1), (2, .int x2), (3, .int x3), (4, .int x4), (5, .ref x5)]) hx hb dX0_toCrack_21 hl (by decide) rfl (fun ls hl => ?_)
        refine lv_iconst (v := 2) hx hb dX0_toCrack_23 (by decide) ?_
        obtain rfl := Option.some.inj hm
        exact xo_iret (v := 2) X hr hlk hw (xSim_bump _ _) hS rfl dX0_toCrack_24
      replace hm := if_f c5 hm
      cases hm
    replace hm := hc_l hr3 hm
    refine lv_i2l hx hb dX0_toCrack_12 rfl ?_
    obtain ⟨S6, hS6, hm⟩ := ob_s hm
    refine xr_last X hw hS hS6 dX0_toCrack_13 (fun H locs hw hS => ?_)
    refine lv_goto (tgt := 25) hx hb dX0_toCrack_14 (by decide) ?_
    refine lv_iconst (v := 0) hx hb dX0_toCrack_25 (by decide) ?_
    obtain rfl := Option.some.inj hm
    exact xo_iret (v := 0) X hr hlk hw (xSim_rf _) hS rfl dX0_toCrack_26
  exact vx_ret (hg _ _ _ _ hw va_S.rf)
/-! DripCupsLaw.office -/
def kX_X0_office (g : XC) (N : Nat) (S : XS) (x0 : Nat) (x1 : Int32) (x2 : Int32) (x3 : Nat) : Option (XS × Int32) :=
  (f_cls S 1 x0).bind fun u1 =>
  hbind (kX_X1_office g N S x0 x1 x2) (fun u =>
    if u.2.1 = 0 then
      some (u.1, 1)
    else
    if u.2.1 = 1 then
      some (u.1, 2)
    else
    none) <| fun r3 =>
  (a_putJ r3.1 x3 0 ((r3.2 : Int32).toInt64)).bind fun S6 =>
  some (S6, 0)
theorem cx_X0_office : yX0_office.cls ≠ "java/lang/invoke/MethodHandle" ∧ yX0_office.cls ≠ "java/lang/invoke/VarHandle" ∧ (parseMethodDescriptor yX0_office.desc).map (fun d => d.parameters.length) = some 4 := by decide +kernel
theorem met_X0_office {l : Launch} {g : XC} {D : va_G} {A : Nat → Prop} (hlT : l.stackTraces = false) (N : Nat) (S : XS) (x0 : Nat) (x1 : Int32) (x2 : Int32) (x3 : Nat) (w : XS × Int32) (hm : kX_X0_office g N S x0 x1 x2 x3 = some w) : Met l yX0_office (wsW_ yX0_office cX0_office 5 (Option.some Jvm.ClassFile.FieldType.int) [(0, 10, 13, 18), (0, 10, 17, 13)]) (xRm g S 82) (xPre g D A [.ref x0, .int x1, .int x2, .ref x3] S) (xQo g D A w) (g.2.1 - xTop S) (g.2.2.1 - xSl S) A := by
  refine Met_ofX (x_startH (own := RX0) (by decide +kernel) rfl (Nat.le_of_ble_eq_true rfl) (fun p e s m below meth c ls X hr hlk hnm htab hw hl => ?_))
  obtain ⟨hx, hb, -, hown, hts, -⟩ := id X
  have hl : lv_has ls 5 [(0, .ref x0), (1, .int x1), (2, .int x2), (3, .ref x3)] := hl
  have hg : ∀ (H : Heap) (locs : List Loc) (cells slots : Nat), xW g D A S s H → va_S A s.heap H locs → W p l e (xRm g S 82) s m ([.ref x0, .int x1, .int x2, .ref x3] : List Value).toArray below meth c H locs cells slots (MQ below (xQo g D A w) ([.ref x0, .int x1, .int x2, .ref x3] : List Value).toArray s (g.2.1 - xTop S) (g.2.2.1 - xSl S) A) (F0 m 0 ls []) := by
    intro H locs cells slots hw hS
    unfold kX_X0_office at hm
    refine lv_aload_n hx hb dX0_office_0 rfl (lv_at hl 3 rfl) ?_
    refine lv_iconst (v := 0) hx hb dX0_office_1 (by decide) ?_
    refine lv_aload_n hx hb dX0_office_2 rfl (lv_at hl 0 rfl) ?_
    refine lv_iload_n hx hb dX0_office_3 rfl (lv_at hl 1 rfl) ?_
    refine lv_iload_n hx hb dX0_office_4 rfl (lv_at hl 2 rfl) ?_
    obtain ⟨u1, hu1, hm⟩ := ob_s hm
    obtain ⟨w2, hw2, hm⟩ := hb_s hm
    refine xt_reti hS (xt_runV X hw (met_X1_office hlT N S x0 x1 x2 w2 hw2) (x_cv X (lv := 81) (by omega) (by decide) cx_X1_office (lw_V q1421 q1422 q1423 q115 q1424)) xc1 hu1 rfl hl.1 rfl (Nat.le_of_ble_eq_true rfl) dX0_office_5) (fun t1 t2 u E9 ce q9 H1 locs1 hu ht => ?_) (fun r3 hr3 H locs cells slots hw hS => ?_)
    · replace hm := hc_r hu hm
      by_cases c4 : u.2.1 = 0
      · replace hm := if_t c4 hm
        refine xt_catch X hw t1 t2 ht htab [] (⟨0, 10, 13, 18⟩ : ExceptionTableEntry) [(⟨0, 10, 17, 13⟩ : ExceptionTableEntry)] rfl (fun _ h => absurd h List.not_mem_nil) (by decide) (by decide) q1167 (by rw [c4]; exact q1220) (fun hw hS => ?_)
        refine lv_astore (lv' := [(4, .ref q9), (0, .ref x0), (1, .int x1), (2, .int x2), (3, .ref x3)]) hx hb dX0_office_13 hl (by decide) rfl (fun ls hl => ?_)
        refine lv_iconst (v := 1) hx hb dX0_office_15 (by decide) ?_
        obtain rfl := Option.some.inj hm
        exact xo_iret (v := 1) X hr hlk hw (xSim_bump _ _) hS rfl dX0_office_16
      replace hm := if_f c4 hm
      by_cases c5 : u.2.1 = 1
      · replace hm := if_t c5 hm
        refine xt_catch X hw t1 t2 ht htab [(⟨0, 10, 13, 18⟩ : ExceptionTableEntry)] (⟨0, 10, 17, 13⟩ : ExceptionTableEntry) [] rfl (fun z hz => by rw [List.mem_singleton.mp hz]; exact Or.inr ⟨by decide, "java/util/NoSuchElementException", X.2.2.2.2.1 _ q1167, by rw [c5]; exact X.2.2.2.2.2.1.2.1.2.2.2.1⟩) (by decide) (by decide) q649 (by rw [c5]; exact q660) (fun hw hS => ?_)
        refine lv_astore (lv' := [(4, .ref q9), (0, .ref x0), (1, .int x1), (2, .int x2), (3, .ref x3)]) hx hb dX0_office_17 hl (by decide) rfl (fun ls hl => ?_)
        refine lv_iconst (v := 2) hx hb dX0_office_19 (by decide) ?_
        obtain rfl := Option.some.inj hm
        exact xo_iret (v := 2) X hr hlk hw (xSim_bump _ _) hS rfl dX0_office_20
      replace hm := if_f c5 hm
      cases hm
    replace hm := hc_l hr3 hm
    refine lv_i2l hx hb dX0_office_8 rfl ?_
    obtain ⟨S6, hS6, hm⟩ := ob_s hm
    refine xr_last X hw hS hS6 dX0_office_9 (fun H locs hw hS => ?_)
    refine lv_goto (tgt := 21) hx hb dX0_office_10 (by decide) ?_
    refine lv_iconst (v := 0) hx hb dX0_office_21 (by decide) ?_
    obtain rfl := Option.some.inj hm
    exact xo_iret (v := 0) X hr hlk hw (xSim_rf _) hS rfl dX0_office_22
  exact vx_ret (hg _ _ _ _ hw va_S.rf)
/-! DripCupsLaw.hear -/
def kX_X0_hear (g : XC) (N : Nat) (S : XS) (x0 : Nat) (x1 : Int32) (x2 : Int32) (x3 : Int32) (x4 : Nat) : Option (XS × Int32) :=
  (f_cls S 1 x0).bind fun u1 =>
  hbind (kX_X1_hear g N S x0 x1 x2 x3) (fun u =>
    if u.2.1 = 0 then
      some (u.1, 1)
    else
    none) <| fun r3 =>
  (a_putJ r3.1 x4 0 ((r3.2 : Int32).toInt64)).bind fun S5 =>
  some (S5, 0)
theorem cx_X0_hear : yX0_hear.cls ≠ "java/lang/invoke/MethodHandle" ∧ yX0_hear.cls ≠ "java/lang/invoke/VarHandle" ∧ (parseMethodDescriptor yX0_hear.desc).map (fun d => d.parameters.length) = some 5 := by decide +kernel
theorem met_X0_hear {l : Launch} {g : XC} {D : va_G} {A : Nat → Prop} (hlT : l.stackTraces = false) (N : Nat) (S : XS) (x0 : Nat) (x1 : Int32) (x2 : Int32) (x3 : Int32) (x4 : Nat) (w : XS × Int32) (hm : kX_X0_hear g N S x0 x1 x2 x3 x4 = some w) : Met l yX0_hear (wsW_ yX0_hear cX0_hear 6 (Option.some Jvm.ClassFile.FieldType.int) [(0, 12, 15, 18)]) (xRm g S 8) (xPre g D A [.ref x0, .int x1, .int x2, .int x3, .ref x4] S) (xQo g D A w) (g.2.1 - xTop S) (g.2.2.1 - xSl S) A := by
  refine Met_ofX (x_startH (own := RX0) (by decide +kernel) rfl (Nat.le_of_ble_eq_true rfl) (fun p e s m below meth c ls X hr hlk hnm htab hw hl => ?_))
  obtain ⟨hx, hb, -, hown, hts, -⟩ := id X
  have hl : lv_has ls 6 [(0, .ref x0), (1, .int x1), (2, .int x2), (3, .int x3), (4, .ref x4)] := hl
  have hg : ∀ (H : Heap) (locs : List Loc) (cells slots : Nat), xW g D A S s H → va_S A s.heap H locs → W p l e (xRm g S 8) s m ([.ref x0, .int x1, .int x2, .int x3, .ref x4] : List Value).toArray below meth c H locs cells slots (MQ below (xQo g D A w) ([.ref x0, .int x1, .int x2, .int x3, .ref x4] : List Value).toArray s (g.2.1 - xTop S) (g.2.2.1 - xSl S) A) (F0 m 0 ls []) := by
    intro H locs cells slots hw hS
    unfold kX_X0_hear at hm
    refine lv_aload hx hb dX0_hear_0 (lv_at hl 4 rfl) ?_
    refine lv_iconst (v := 0) hx hb dX0_hear_2 (by decide) ?_
    refine lv_aload_n hx hb dX0_hear_3 rfl (lv_at hl 0 rfl) ?_
    refine lv_iload_n hx hb dX0_hear_4 rfl (lv_at hl 1 rfl) ?_
    refine lv_iload_n hx hb dX0_hear_5 rfl (lv_at hl 2 rfl) ?_
    refine lv_iload_n hx hb dX0_hear_6 rfl (lv_at hl 3 rfl) ?_
    obtain ⟨u1, hu1, hm⟩ := ob_s hm
    obtain ⟨w2, hw2, hm⟩ := hb_s hm
    refine xt_reti hS (xt_runV X hw (met_X1_hear hlT N S x0 x1 x2 x3 w2 hw2) (x_cv X (lv := 7) (by omega) (by decide) cx_X1_hear (lw_V q1432 q1433 q1434 q115 q1435)) xc1 hu1 rfl hl.1 rfl (Nat.le_of_ble_eq_true rfl) dX0_hear_7) (fun t1 t2 u E9 ce q9 H1 locs1 hu ht => ?_) (fun r3 hr3 H locs cells slots hw hS => ?_)
    · replace hm := hc_r hu hm
      by_cases c4 : u.2.1 = 0
      · replace hm := if_t c4 hm
        refine xt_catch X hw t1 t2 ht htab [] (⟨0, 12, 15, 18⟩ : ExceptionTableEntry) [] rfl (fun _ h => absurd h List.not_mem_nil) (by decide) (by decide) q1167 (by rw [c4]; exact q1220) (fun hw hS => ?_)
        refine lv_astore (lv' := [(5, .ref q9), (0, .ref x0), (1, .int x1), (2, .int x2), (3, .int x3), (4, .ref x4)]) hx hb dX0_hear_15 hl (by decide) rfl (fun ls hl => ?_)
        refine lv_iconst (v := 1) hx hb dX0_hear_17 (by decide) ?_
        obtain rfl := Option.some.inj hm
        exact xo_iret (v := 1) X hr hlk hw (xSim_bump _ _) hS rfl dX0_hear_18
      replace hm := if_f c4 hm
      cases hm
    replace hm := hc_l hr3 hm
    refine lv_i2l hx hb dX0_hear_10 rfl ?_
    obtain ⟨S5, hS5, hm⟩ := ob_s hm
    refine xr_last X hw hS hS5 dX0_hear_11 (fun H locs hw hS => ?_)
    refine lv_goto (tgt := 19) hx hb dX0_hear_12 (by decide) ?_
    refine lv_iconst (v := 0) hx hb dX0_hear_19 (by decide) ?_
    obtain rfl := Option.some.inj hm
    exact xo_iret (v := 0) X hr hlk hw (xSim_rf _) hS rfl dX0_hear_20
  exact vx_ret (hg _ _ _ _ hw va_S.rf)
/-! DripCupsLaw.led -/
def kX_X0_led (g : XC) (N : Nat) (S : XS) (x0 : Nat) (x1 : Int32) (x2 : Nat) : Option (XS × Int32) :=
  (f_cls S 1 x0).bind fun u1 =>
  hbind (kX_X1_led g N S x0 x1) (fun u =>
    if u.2.1 = 0 then
      some (u.1, 1)
    else
    none) <| fun r3 =>
  (a_putJ r3.1 x2 0 ((r3.2 : Int32).toInt64)).bind fun S5 =>
  some (S5, 0)
theorem cx_X0_led : yX0_led.cls ≠ "java/lang/invoke/MethodHandle" ∧ yX0_led.cls ≠ "java/lang/invoke/VarHandle" ∧ (parseMethodDescriptor yX0_led.desc).map (fun d => d.parameters.length) = some 3 := by decide +kernel
theorem met_X0_led {l : Launch} {g : XC} {D : va_G} {A : Nat → Prop} (hlT : l.stackTraces = false) (N : Nat) (S : XS) (x0 : Nat) (x1 : Int32) (x2 : Nat) (w : XS × Int32) (hm : kX_X0_led g N S x0 x1 x2 = some w) : Met l yX0_led (wsW_ yX0_led cX0_led 4 (Option.some Jvm.ClassFile.FieldType.int) [(0, 9, 12, 18)]) (xRm g S 84) (xPre g D A [.ref x0, .int x1, .ref x2] S) (xQo g D A w) (g.2.1 - xTop S) (g.2.2.1 - xSl S) A := by
  refine Met_ofX (x_startH (own := RX0) (by decide +kernel) rfl (Nat.le_of_ble_eq_true rfl) (fun p e s m below meth c ls X hr hlk hnm htab hw hl => ?_))
  obtain ⟨hx, hb, -, hown, hts, -⟩ := id X
  have hl : lv_has ls 4 [(0, .ref x0), (1, .int x1), (2, .ref x2)] := hl
  have hg : ∀ (H : Heap) (locs : List Loc) (cells slots : Nat), xW g D A S s H → va_S A s.heap H locs → W p l e (xRm g S 84) s m ([.ref x0, .int x1, .ref x2] : List Value).toArray below meth c H locs cells slots (MQ below (xQo g D A w) ([.ref x0, .int x1, .ref x2] : List Value).toArray s (g.2.1 - xTop S) (g.2.2.1 - xSl S) A) (F0 m 0 ls []) := by
    intro H locs cells slots hw hS
    unfold kX_X0_led at hm
    refine lv_aload_n hx hb dX0_led_0 rfl (lv_at hl 2 rfl) ?_
    refine lv_iconst (v := 0) hx hb dX0_led_1 (by decide) ?_
    refine lv_aload_n hx hb dX0_led_2 rfl (lv_at hl 0 rfl) ?_
    refine lv_iload_n hx hb dX0_led_3 rfl (lv_at hl 1 rfl) ?_
    obtain ⟨u1, hu1, hm⟩ := ob_s hm
    obtain ⟨w2, hw2, hm⟩ := hb_s hm
    refine xt_reti hS (xt_runV X hw (met_X1_led hlT N S x0 x1 w2 hw2) (x_cv X (lv := 83) (by omega) (by decide) cx_X1_led (lw_V q1439 q1440 q1441 q115 q1442)) xc1 hu1 rfl hl.1 rfl (Nat.le_of_ble_eq_true rfl) dX0_led_4) (fun t1 t2 u E9 ce q9 H1 locs1 hu ht => ?_) (fun r3 hr3 H locs cells slots hw hS => ?_)
    · replace hm := hc_r hu hm
      by_cases c4 : u.2.1 = 0
      · replace hm := if_t c4 hm
        refine xt_catch X hw t1 t2 ht htab [] (⟨0, 9, 12, 18⟩ : ExceptionTableEntry) [] rfl (fun _ h => absurd h List.not_mem_nil) (by decide) (by decide) q1167 (by rw [c4]; exact q1220) (fun hw hS => ?_)
        refine lv_astore_n (lv' := [(3, .ref q9), (0, .ref x0), (1, .int x1), (2, .ref x2)]) hx hb dX0_led_12 rfl hl (by decide) rfl (fun ls hl => ?_)
        refine lv_iconst (v := 1) hx hb dX0_led_13 (by decide) ?_
        obtain rfl := Option.some.inj hm
        exact xo_iret (v := 1) X hr hlk hw (xSim_bump _ _) hS rfl dX0_led_14
      replace hm := if_f c4 hm
      cases hm
    replace hm := hc_l hr3 hm
    refine lv_i2l hx hb dX0_led_7 rfl ?_
    obtain ⟨S5, hS5, hm⟩ := ob_s hm
    refine xr_last X hw hS hS5 dX0_led_8 (fun H locs hw hS => ?_)
    refine lv_goto (tgt := 15) hx hb dX0_led_9 (by decide) ?_
    refine lv_iconst (v := 0) hx hb dX0_led_15 (by decide) ?_
    obtain rfl := Option.some.inj hm
    exact xo_iret (v := 0) X hr hlk hw (xSim_rf _) hS rfl dX0_led_16
  exact vx_ret (hg _ _ _ _ hw va_S.rf)
/-! DripCupsLaw.cold -/
def kX_X0_cold (g : XC) (N : Nat) (S : XS) (x0 : Nat) (x1 : Int32) (x2 : Int32) (x3 : Int32) (x4 : Nat) : Option (XS × Int32) :=
  (f_cls S 1 x0).bind fun u1 =>
  hbind (kX_X1_cold g N S x0 x1 x2 x3) (fun u =>
    if u.2.1 = 0 then
      some (u.1, 1)
    else
    if u.2.1 = 1 then
      some (u.1, 2)
    else
    none) <| fun r3 =>
  (a_putJ r3.1 x4 0 ((r3.2 : Int32).toInt64)).bind fun S6 =>
  some (S6, 0)
theorem cx_X0_cold : yX0_cold.cls ≠ "java/lang/invoke/MethodHandle" ∧ yX0_cold.cls ≠ "java/lang/invoke/VarHandle" ∧ (parseMethodDescriptor yX0_cold.desc).map (fun d => d.parameters.length) = some 5 := by decide +kernel
theorem met_X0_cold {l : Launch} {g : XC} {D : va_G} {A : Nat → Prop} (hlT : l.stackTraces = false) (N : Nat) (S : XS) (x0 : Nat) (x1 : Int32) (x2 : Int32) (x3 : Int32) (x4 : Nat) (w : XS × Int32) (hm : kX_X0_cold g N S x0 x1 x2 x3 x4 = some w) : Met l yX0_cold (wsW_ yX0_cold cX0_cold 6 (Option.some Jvm.ClassFile.FieldType.int) [(0, 12, 15, 18), (0, 12, 19, 13)]) (xRm g S 82) (xPre g D A [.ref x0, .int x1, .int x2, .int x3, .ref x4] S) (xQo g D A w) (g.2.1 - xTop S) (g.2.2.1 - xSl S) A := by
  refine Met_ofX (x_startH (own := RX0) (by decide +kernel) rfl (Nat.le_of_ble_eq_true rfl) (fun p e s m below meth c ls X hr hlk hnm htab hw hl => ?_))
  obtain ⟨hx, hb, -, hown, hts, -⟩ := id X
  have hl : lv_has ls 6 [(0, .ref x0), (1, .int x1), (2, .int x2), (3, .int x3), (4, .ref x4)] := hl
  have hg : ∀ (H : Heap) (locs : List Loc) (cells slots : Nat), xW g D A S s H → va_S A s.heap H locs → W p l e (xRm g S 82) s m ([.ref x0, .int x1, .int x2, .int x3, .ref x4] : List Value).toArray below meth c H locs cells slots (MQ below (xQo g D A w) ([.ref x0, .int x1, .int x2, .int x3, .ref x4] : List Value).toArray s (g.2.1 - xTop S) (g.2.2.1 - xSl S) A) (F0 m 0 ls []) := by
    intro H locs cells slots hw hS
    unfold kX_X0_cold at hm
    refine lv_aload hx hb dX0_cold_0 (lv_at hl 4 rfl) ?_
    refine lv_iconst (v := 0) hx hb dX0_cold_2 (by decide) ?_
    refine lv_aload_n hx hb dX0_cold_3 rfl (lv_at hl 0 rfl) ?_
    refine lv_iload_n hx hb dX0_cold_4 rfl (lv_at hl 1 rfl) ?_
    refine lv_iload_n hx hb dX0_cold_5 rfl (lv_at hl 2 rfl) ?_
    refine lv_iload_n hx hb dX0_cold_6 rfl (lv_at hl 3 rfl) ?_
    obtain ⟨u1, hu1, hm⟩ := ob_s hm
    obtain ⟨w2, hw2, hm⟩ := hb_s hm
    refine xt_reti hS (xt_runV X hw (met_X1_cold hlT N S x0 x1 x2 x3 w2 hw2) (x_cv X (lv := 81) (by omega) (by decide) cx_X1_cold (lw_V q1469 q1470 q1471 q115 q1472)) xc1 hu1 rfl hl.1 rfl (Nat.le_of_ble_eq_true rfl) dX0_cold_7) (fun t1 t2 u E9 ce q9 H1 locs1 hu ht => ?_) (fun r3 hr3 H locs cells slots hw hS => ?_)
    · replace hm := hc_r hu hm
      by_cases c4 : u.2.1 = 0
      · replace hm := if_t c4 hm
        refine xt_catch X hw t1 t2 ht htab [] (⟨0, 12, 15, 18⟩ : ExceptionTableEntry) [(⟨0, 12, 19, 13⟩ : ExceptionTableEntry)] rfl (fun _ h => absurd h List.not_mem_nil) (by decide) (by decide) q1167 (by rw [c4]; exact q1220) (fun hw hS => ?_)
        refine lv_astore (lv' := [(5, .ref q9), (0, .ref x0), (1, .int x1), (2, .int x2), (3, .int x3), (4, .ref x4)]) hx hb dX0_cold_15 hl (by decide) rfl (fun ls hl => ?_)
        refine lv_iconst (v := 1) hx hb dX0_cold_17 (by decide) ?_
        obtain rfl := Option.some.inj hm
        exact xo_iret (v := 1) X hr hlk hw (xSim_bump _ _) hS rfl dX0_cold_18
      replace hm := if_f c4 hm
      by_cases c5 : u.2.1 = 1
      · replace hm := if_t c5 hm
        refine xt_catch X hw t1 t2 ht htab [(⟨0, 12, 15, 18⟩ : ExceptionTableEntry)] (⟨0, 12, 19, 13⟩ : ExceptionTableEntry) [] rfl (fun z hz => by rw [List.mem_singleton.mp hz]; exact Or.inr ⟨by decide, "java/util/NoSuchElementException", X.2.2.2.2.1 _ q1167, by rw [c5]; exact X.2.2.2.2.2.1.2.1.2.2.2.1⟩) (by decide) (by decide) q649 (by rw [c5]; exact q660) (fun hw hS => ?_)
        refine lv_astore (lv' := [(5, .ref q9), (0, .ref x0), (1, .int x1), (2, .int x2), (3, .int x3), (4, .ref x4)]) hx hb dX0_cold_19 hl (by decide) rfl (fun ls hl => ?_)
        refine lv_iconst (v := 2) hx hb dX0_cold_21 (by decide) ?_
        obtain rfl := Option.some.inj hm
        exact xo_iret (v := 2) X hr hlk hw (xSim_bump _ _) hS rfl dX0_cold_22
      replace hm := if_f c5 hm
      cases hm
    replace hm := hc_l hr3 hm
    refine lv_i2l hx hb dX0_cold_10 rfl ?_
    obtain ⟨S6, hS6, hm⟩ := ob_s hm
    refine xr_last X hw hS hS6 dX0_cold_11 (fun H locs hw hS => ?_)
    refine lv_goto (tgt := 23) hx hb dX0_cold_12 (by decide) ?_
    refine lv_iconst (v := 0) hx hb dX0_cold_23 (by decide) ?_
    obtain rfl := Option.some.inj hm
    exact xo_iret (v := 0) X hr hlk hw (xSim_rf _) hS rfl dX0_cold_24
  exact vx_ret (hg _ _ _ _ hw va_S.rf)
/-! DripCupsLaw.game -/
def kX_X0_game (g : XC) (N : Nat) (S : XS) (x0 : Nat) (x1 : Int32) (x2 : Int32) (x3 : Int32) (x4 : Nat) : Option (XS × Int32) :=
  (f_cls S 1 x0).bind fun u1 =>
  hbind (kX_X1_game g N S x0 x1 x2 x3) (fun u =>
    if u.2.1 = 0 then
      some (u.1, 1)
    else
    if u.2.1 = 1 then
      some (u.1, 2)
    else
    none) <| fun r3 =>
  (a_putJ r3.1 x4 0 ((r3.2 : Int32).toInt64)).bind fun S6 =>
  some (S6, 0)
theorem cx_X0_game : yX0_game.cls ≠ "java/lang/invoke/MethodHandle" ∧ yX0_game.cls ≠ "java/lang/invoke/VarHandle" ∧ (parseMethodDescriptor yX0_game.desc).map (fun d => d.parameters.length) = some 5 := by decide +kernel
theorem met_X0_game {l : Launch} {g : XC} {D : va_G} {A : Nat → Prop} (hlT : l.stackTraces = false) (N : Nat) (S : XS) (x0 : Nat) (x1 : Int32) (x2 : Int32) (x3 : Int32) (x4 : Nat) (w : XS × Int32) (hm : kX_X0_game g N S x0 x1 x2 x3 x4 = some w) : Met l yX0_game (wsW_ yX0_game cX0_game 6 (Option.some Jvm.ClassFile.FieldType.int) [(0, 12, 15, 18), (0, 12, 19, 13)]) (xRm g S 84) (xPre g D A [.ref x0, .int x1, .int x2, .int x3, .ref x4] S) (xQo g D A w) (g.2.1 - xTop S) (g.2.2.1 - xSl S) A := by
  refine Met_ofX (x_startH (own := RX0) (by decide +kernel) rfl (Nat.le_of_ble_eq_true rfl) (fun p e s m below meth c ls X hr hlk hnm htab hw hl => ?_))
  obtain ⟨hx, hb, -, hown, hts, -⟩ := id X
  have hl : lv_has ls 6 [(0, .ref x0), (1, .int x1), (2, .int x2), (3, .int x3), (4, .ref x4)] := hl
  have hg : ∀ (H : Heap) (locs : List Loc) (cells slots : Nat), xW g D A S s H → va_S A s.heap H locs → W p l e (xRm g S 84) s m ([.ref x0, .int x1, .int x2, .int x3, .ref x4] : List Value).toArray below meth c H locs cells slots (MQ below (xQo g D A w) ([.ref x0, .int x1, .int x2, .int x3, .ref x4] : List Value).toArray s (g.2.1 - xTop S) (g.2.2.1 - xSl S) A) (F0 m 0 ls []) := by
    intro H locs cells slots hw hS
    unfold kX_X0_game at hm
    refine lv_aload hx hb dX0_game_0 (lv_at hl 4 rfl) ?_
    refine lv_iconst (v := 0) hx hb dX0_game_2 (by decide) ?_
    refine lv_aload_n hx hb dX0_game_3 rfl (lv_at hl 0 rfl) ?_
    refine lv_iload_n hx hb dX0_game_4 rfl (lv_at hl 1 rfl) ?_
    refine lv_iload_n hx hb dX0_game_5 rfl (lv_at hl 2 rfl) ?_
    refine lv_iload_n hx hb dX0_game_6 rfl (lv_at hl 3 rfl) ?_
    obtain ⟨u1, hu1, hm⟩ := ob_s hm
    obtain ⟨w2, hw2, hm⟩ := hb_s hm
    refine xt_reti hS (xt_runV X hw (met_X1_game hlT N S x0 x1 x2 x3 w2 hw2) (x_cv X (lv := 83) (by omega) (by decide) cx_X1_game (lw_V q1476 q1477 q1478 q115 q1479)) xc1 hu1 rfl hl.1 rfl (Nat.le_of_ble_eq_true rfl) dX0_game_7) (fun t1 t2 u E9 ce q9 H1 locs1 hu ht => ?_) (fun r3 hr3 H locs cells slots hw hS => ?_)
    · replace hm := hc_r hu hm
      by_cases c4 : u.2.1 = 0
      · replace hm := if_t c4 hm
        refine xt_catch X hw t1 t2 ht htab [] (⟨0, 12, 15, 18⟩ : ExceptionTableEntry) [(⟨0, 12, 19, 13⟩ : ExceptionTableEntry)] rfl (fun _ h => absurd h List.not_mem_nil) (by decide) (by decide) q1167 (by rw [c4]; exact q1220) (fun hw hS => ?_)
        refine lv_astore (lv' := [(5, .ref q9), (0, .ref x0), (1, .int x1), (2, .int x2), (3, .int x3), (4, .ref x4)]) hx hb dX0_game_15 hl (by decide) rfl (fun ls hl => ?_)
        refine lv_iconst (v := 1) hx hb dX0_game_17 (by decide) ?_
        obtain rfl := Option.some.inj hm
        exact xo_iret (v := 1) X hr hlk hw (xSim_bump _ _) hS rfl dX0_game_18
      replace hm := if_f c4 hm
      by_cases c5 : u.2.1 = 1
      · replace hm := if_t c5 hm
        refine xt_catch X hw t1 t2 ht htab [(⟨0, 12, 15, 18⟩ : ExceptionTableEntry)] (⟨0, 12, 19, 13⟩ : ExceptionTableEntry) [] rfl (fun z hz => by rw [List.mem_singleton.mp hz]; exact Or.inr ⟨by decide, "java/util/NoSuchElementException", X.2.2.2.2.1 _ q1167, by rw [c5]; exact X.2.2.2.2.2.1.2.1.2.2.2.1⟩) (by decide) (by decide) q649 (by rw [c5]; exact q660) (fun hw hS => ?_)
        refine lv_astore (lv' := [(5, .ref q9), (0, .ref x0), (1, .int x1), (2, .int x2), (3, .int x3), (4, .ref x4)]) hx hb dX0_game_19 hl (by decide) rfl (fun ls hl => ?_)
        refine lv_iconst (v := 2) hx hb dX0_game_21 (by decide) ?_
        obtain rfl := Option.some.inj hm
        exact xo_iret (v := 2) X hr hlk hw (xSim_bump _ _) hS rfl dX0_game_22
      replace hm := if_f c5 hm
      cases hm
    replace hm := hc_l hr3 hm
    refine lv_i2l hx hb dX0_game_10 rfl ?_
    obtain ⟨S6, hS6, hm⟩ := ob_s hm
    refine xr_last X hw hS hS6 dX0_game_11 (fun H locs hw hS => ?_)
    refine lv_goto (tgt := 23) hx hb dX0_game_12 (by decide) ?_
    refine lv_iconst (v := 0) hx hb dX0_game_23 (by decide) ?_
    obtain rfl := Option.some.inj hm
    exact xo_iret (v := 0) X hr hlk hw (xSim_rf _) hS rfl dX0_game_24
  exact vx_ret (hg _ _ _ _ hw va_S.rf)
/-! DripCupsLaw.years -/
def kX_X0_years (g : XC) (N : Nat) (S : XS) (x0 : Nat) (x1 : Int32) (x2 : Int32) (x3 : Int32) (x4 : Nat) : Option (XS × Int32) :=
  (f_cls S 1 x0).bind fun u1 =>
  hbind (kX_X1_years g N S x0 x1 x2 x3) (fun u =>
    if u.2.1 = 0 then
      some (u.1, 1)
    else
    if u.2.1 = 1 then
      some (u.1, 2)
    else
    none) <| fun r3 =>
  (a_putJ r3.1 x4 0 ((r3.2 : Int32).toInt64)).bind fun S6 =>
  some (S6, 0)
theorem cx_X0_years : yX0_years.cls ≠ "java/lang/invoke/MethodHandle" ∧ yX0_years.cls ≠ "java/lang/invoke/VarHandle" ∧ (parseMethodDescriptor yX0_years.desc).map (fun d => d.parameters.length) = some 5 := by decide +kernel
theorem met_X0_years {l : Launch} {g : XC} {D : va_G} {A : Nat → Prop} (hlT : l.stackTraces = false) (N : Nat) (S : XS) (x0 : Nat) (x1 : Int32) (x2 : Int32) (x3 : Int32) (x4 : Nat) (w : XS × Int32) (hm : kX_X0_years g N S x0 x1 x2 x3 x4 = some w) : Met l yX0_years (wsW_ yX0_years cX0_years 6 (Option.some Jvm.ClassFile.FieldType.int) [(0, 12, 15, 18), (0, 12, 19, 13)]) (xRm g S 82) (xPre g D A [.ref x0, .int x1, .int x2, .int x3, .ref x4] S) (xQo g D A w) (g.2.1 - xTop S) (g.2.2.1 - xSl S) A := by
  refine Met_ofX (x_startH (own := RX0) (by decide +kernel) rfl (Nat.le_of_ble_eq_true rfl) (fun p e s m below meth c ls X hr hlk hnm htab hw hl => ?_))
  obtain ⟨hx, hb, -, hown, hts, -⟩ := id X
  have hl : lv_has ls 6 [(0, .ref x0), (1, .int x1), (2, .int x2), (3, .int x3), (4, .ref x4)] := hl
  have hg : ∀ (H : Heap) (locs : List Loc) (cells slots : Nat), xW g D A S s H → va_S A s.heap H locs → W p l e (xRm g S 82) s m ([.ref x0, .int x1, .int x2, .int x3, .ref x4] : List Value).toArray below meth c H locs cells slots (MQ below (xQo g D A w) ([.ref x0, .int x1, .int x2, .int x3, .ref x4] : List Value).toArray s (g.2.1 - xTop S) (g.2.2.1 - xSl S) A) (F0 m 0 ls []) := by
    intro H locs cells slots hw hS
    unfold kX_X0_years at hm
    refine lv_aload hx hb dX0_years_0 (lv_at hl 4 rfl) ?_
    refine lv_iconst (v := 0) hx hb dX0_years_2 (by decide) ?_
    refine lv_aload_n hx hb dX0_years_3 rfl (lv_at hl 0 rfl) ?_
    refine lv_iload_n hx hb dX0_years_4 rfl (lv_at hl 1 rfl) ?_
    refine lv_iload_n hx hb dX0_years_5 rfl (lv_at hl 2 rfl) ?_
    refine lv_iload_n hx hb dX0_years_6 rfl (lv_at hl 3 rfl) ?_
    obtain ⟨u1, hu1, hm⟩ := ob_s hm
    obtain ⟨w2, hw2, hm⟩ := hb_s hm
    refine xt_reti hS (xt_runV X hw (met_X1_years hlT N S x0 x1 x2 x3 w2 hw2) (x_cv X (lv := 81) (by omega) (by decide) cx_X1_years (lw_V q1487 q1488 q1489 q115 q1490)) xc1 hu1 rfl hl.1 rfl (Nat.le_of_ble_eq_true rfl) dX0_years_7) (fun t1 t2 u E9 ce q9 H1 locs1 hu ht => ?_) (fun r3 hr3 H locs cells slots hw hS => ?_)
    · replace hm := hc_r hu hm
      by_cases c4 : u.2.1 = 0
      · replace hm := if_t c4 hm
        refine xt_catch X hw t1 t2 ht htab [] (⟨0, 12, 15, 18⟩ : ExceptionTableEntry) [(⟨0, 12, 19, 13⟩ : ExceptionTableEntry)] rfl (fun _ h => absurd h List.not_mem_nil) (by decide) (by decide) q1167 (by rw [c4]; exact q1220) (fun hw hS => ?_)
        refine lv_astore (lv' := [(5, .ref q9), (0, .ref x0), (1, .int x1), (2, .int x2), (3, .int x3), (4, .ref x4)]) hx hb dX0_years_15 hl (by decide) rfl (fun ls hl => ?_)
        refine lv_iconst (v := 1) hx hb dX0_years_17 (by decide) ?_
        obtain rfl := Option.some.inj hm
        exact xo_iret (v := 1) X hr hlk hw (xSim_bump _ _) hS rfl dX0_years_18
      replace hm := if_f c4 hm
      by_cases c5 : u.2.1 = 1
      · replace hm := if_t c5 hm
        refine xt_catch X hw t1 t2 ht htab [(⟨0, 12, 15, 18⟩ : ExceptionTableEntry)] (⟨0, 12, 19, 13⟩ : ExceptionTableEntry) [] rfl (fun z hz => by rw [List.mem_singleton.mp hz]; exact Or.inr ⟨by decide, "java/util/NoSuchElementException", X.2.2.2.2.1 _ q1167, by rw [c5]; exact X.2.2.2.2.2.1.2.1.2.2.2.1⟩) (by decide) (by decide) q649 (by rw [c5]; exact q660) (fun hw hS => ?_)
        refine lv_astore (lv' := [(5, .ref q9), (0, .ref x0), (1, .int x1), (2, .int x2), (3, .int x3), (4, .ref x4)]) hx hb dX0_years_19 hl (by decide) rfl (fun ls hl => ?_)
        refine lv_iconst (v := 2) hx hb dX0_years_21 (by decide) ?_
        obtain rfl := Option.some.inj hm
        exact xo_iret (v := 2) X hr hlk hw (xSim_bump _ _) hS rfl dX0_years_22
      replace hm := if_f c5 hm
      cases hm
    replace hm := hc_l hr3 hm
    refine lv_i2l hx hb dX0_years_10 rfl ?_
    obtain ⟨S6, hS6, hm⟩ := ob_s hm
    refine xr_last X hw hS hS6 dX0_years_11 (fun H locs hw hS => ?_)
    refine lv_goto (tgt := 23) hx hb dX0_years_12 (by decide) ?_
    refine lv_iconst (v := 0) hx hb dX0_years_23 (by decide) ?_
    obtain rfl := Option.some.inj hm
    exact xo_iret (v := 0) X hr hlk hw (xSim_rf _) hS rfl dX0_years_24
  exact vx_ret (hg _ _ _ _ hw va_S.rf)
/-! DripCupsLaw.later -/
def kX_X0_later (g : XC) (N : Nat) (S : XS) (x0 : Nat) (x1 : Int32) (x2 : Int32) (x3 : Nat) : Option (XS × Int32) :=
  (f_cls S 1 x0).bind fun u1 =>
  hbind (kX_X1_later g N S x0 x1 x2) (fun u =>
    if u.2.1 = 0 then
      some (u.1, 1)
    else
    if u.2.1 = 1 then
      some (u.1, 2)
    else
    none) <| fun r3 =>
  (a_putJ r3.1 x3 0 ((r3.2 : Int32).toInt64)).bind fun S6 =>
  some (S6, 0)
theorem cx_X0_later : yX0_later.cls ≠ "java/lang/invoke/MethodHandle" ∧ yX0_later.cls ≠ "java/lang/invoke/VarHandle" ∧ (parseMethodDescriptor yX0_later.desc).map (fun d => d.parameters.length) = some 4 := by decide +kernel
theorem met_X0_later {l : Launch} {g : XC} {D : va_G} {A : Nat → Prop} (hlT : l.stackTraces = false) (N : Nat) (S : XS) (x0 : Nat) (x1 : Int32) (x2 : Int32) (x3 : Nat) (w : XS × Int32) (hm : kX_X0_later g N S x0 x1 x2 x3 = some w) : Met l yX0_later (wsW_ yX0_later cX0_later 5 (Option.some Jvm.ClassFile.FieldType.int) [(0, 10, 13, 18), (0, 10, 17, 13)]) (xRm g S 84) (xPre g D A [.ref x0, .int x1, .int x2, .ref x3] S) (xQo g D A w) (g.2.1 - xTop S) (g.2.2.1 - xSl S) A := by
  refine Met_ofX (x_startH (own := RX0) (by decide +kernel) rfl (Nat.le_of_ble_eq_true rfl) (fun p e s m below meth c ls X hr hlk hnm htab hw hl => ?_))
  obtain ⟨hx, hb, -, hown, hts, -⟩ := id X
  have hl : lv_has ls 5 [(0, .ref x0), (1, .int x1), (2, .int x2), (3, .ref x3)] := hl
  have hg : ∀ (H : Heap) (locs : List Loc) (cells slots : Nat), xW g D A S s H → va_S A s.heap H locs → W p l e (xRm g S 84) s m ([.ref x0, .int x1, .int x2, .ref x3] : List Value).toArray below meth c H locs cells slots (MQ below (xQo g D A w) ([.ref x0, .int x1, .int x2, .ref x3] : List Value).toArray s (g.2.1 - xTop S) (g.2.2.1 - xSl S) A) (F0 m 0 ls []) := by
    intro H locs cells slots hw hS
    unfold kX_X0_later at hm
    refine lv_aload_n hx hb dX0_later_0 rfl (lv_at hl 3 rfl) ?_
    refine lv_iconst (v := 0) hx hb dX0_later_1 (by decide) ?_
    refine lv_aload_n hx hb dX0_later_2 rfl (lv_at hl 0 rfl) ?_
    refine lv_iload_n hx hb dX0_later_3 rfl (lv_at hl 1 rfl) ?_
    refine lv_iload_n hx hb dX0_later_4 rfl (lv_at hl 2 rfl) ?_
    obtain ⟨u1, hu1, hm⟩ := ob_s hm
    obtain ⟨w2, hw2, hm⟩ := hb_s hm
    refine xt_reti hS (xt_runV X hw (met_X1_later hlT N S x0 x1 x2 w2 hw2) (x_cv X (lv := 83) (by omega) (by decide) cx_X1_later (lw_V q1503 q1504 q1505 q115 q1506)) xc1 hu1 rfl hl.1 rfl (Nat.le_of_ble_eq_true rfl) dX0_later_5) (fun t1 t2 u E9 ce q9 H1 locs1 hu ht => ?_) (fun r3 hr3 H locs cells slots hw hS => ?_)
    · replace hm := hc_r hu hm
      by_cases c4 : u.2.1 = 0
      · replace hm := if_t c4 hm
        refine xt_catch X hw t1 t2 ht htab [] (⟨0, 10, 13, 18⟩ : ExceptionTableEntry) [(⟨0, 10, 17, 13⟩ : ExceptionTableEntry)] rfl (fun _ h => absurd h List.not_mem_nil) (by decide) (by decide) q1167 (by rw [c4]; exact q1220) (fun hw hS => ?_)
        refine lv_astore (lv' := [(4, .ref q9), (0, .ref x0), (1, .int x1), (2, .int x2), (3, .ref x3)]) hx hb dX0_later_13 hl (by decide) rfl (fun ls hl => ?_)
        refine lv_iconst (v := 1) hx hb dX0_later_15 (by decide) ?_
        obtain rfl := Option.some.inj hm
        exact xo_iret (v := 1) X hr hlk hw (xSim_bump _ _) hS rfl dX0_later_16
      replace hm := if_f c4 hm
      by_cases c5 : u.2.1 = 1
      · replace hm := if_t c5 hm
        refine xt_catch X hw t1 t2 ht htab [(⟨0, 10, 13, 18⟩ : ExceptionTableEntry)] (⟨0, 10, 17, 13⟩ : ExceptionTableEntry) [] rfl (fun z hz => by rw [List.mem_singleton.mp hz]; exact Or.inr ⟨by decide, "java/util/NoSuchElementException", X.2.2.2.2.1 _ q1167, by rw [c5]; exact X.2.2.2.2.2.1.2.1.2.2.2.1⟩) (by decide) (by decide) q649 (by rw [c5]; exact q660) (fun hw hS => ?_)
        refine lv_astore (lv' := [(4, .ref q9), (0, .ref x0), (1, .int x1), (2, .int x2), (3, .ref x3)]) hx hb dX0_later_17 hl (by decide) rfl (fun ls hl => ?_)
        refine lv_iconst (v := 2) hx hb dX0_later_19 (by decide) ?_
        obtain rfl := Option.some.inj hm
        exact xo_iret (v := 2) X hr hlk hw (xSim_bump _ _) hS rfl dX0_later_20
      replace hm := if_f c5 hm
      cases hm
    replace hm := hc_l hr3 hm
    refine lv_i2l hx hb dX0_later_8 rfl ?_
    obtain ⟨S6, hS6, hm⟩ := ob_s hm
    refine xr_last X hw hS hS6 dX0_later_9 (fun H locs hw hS => ?_)
    refine lv_goto (tgt := 21) hx hb dX0_later_10 (by decide) ?_
    refine lv_iconst (v := 0) hx hb dX0_later_21 (by decide) ?_
    obtain rfl := Option.some.inj hm
    exact xo_iret (v := 0) X hr hlk hw (xSim_rf _) hS rfl dX0_later_22
  exact vx_ret (hg _ _ _ _ hw va_S.rf)
/-! DripCupsLaw.oftenest -/
def kX_X0_oftenest (g : XC) (N : Nat) (S : XS) (x0 : Nat) (x1 : Int32) (x2 : Nat) : Option (XS × Int32) :=
  (f_cls S 1 x0).bind fun u1 =>
  hbind (kX_X1_oftenest g N S x0 x1) (fun u =>
    if u.2.1 = 1 then
      some (u.1, 1)
    else
    none) <| fun r3 =>
  (a_putJ r3.1 x2 0 ((r3.2 : Int32).toInt64)).bind fun S5 =>
  some (S5, 0)
theorem cx_X0_oftenest : yX0_oftenest.cls ≠ "java/lang/invoke/MethodHandle" ∧ yX0_oftenest.cls ≠ "java/lang/invoke/VarHandle" ∧ (parseMethodDescriptor yX0_oftenest.desc).map (fun d => d.parameters.length) = some 3 := by decide +kernel
theorem met_X0_oftenest {l : Launch} {g : XC} {D : va_G} {A : Nat → Prop} (hlT : l.stackTraces = false) (N : Nat) (S : XS) (x0 : Nat) (x1 : Int32) (x2 : Nat) (w : XS × Int32) (hm : kX_X0_oftenest g N S x0 x1 x2 = some w) : Met l yX0_oftenest (wsW_ yX0_oftenest cX0_oftenest 4 (Option.some Jvm.ClassFile.FieldType.int) [(0, 9, 12, 13)]) (xRm g S 84) (xPre g D A [.ref x0, .int x1, .ref x2] S) (xQo g D A w) (g.2.1 - xTop S) (g.2.2.1 - xSl S) A := by
  refine Met_ofX (x_startH (own := RX0) (by decide +kernel) rfl (Nat.le_of_ble_eq_true rfl) (fun p e s m below meth c ls X hr hlk hnm htab hw hl => ?_))
  obtain ⟨hx, hb, -, hown, hts, -⟩ := id X
  have hl : lv_has ls 4 [(0, .ref x0), (1, .int x1), (2, .ref x2)] := hl
  have hg : ∀ (H : Heap) (locs : List Loc) (cells slots : Nat), xW g D A S s H → va_S A s.heap H locs → W p l e (xRm g S 84) s m ([.ref x0, .int x1, .ref x2] : List Value).toArray below meth c H locs cells slots (MQ below (xQo g D A w) ([.ref x0, .int x1, .ref x2] : List Value).toArray s (g.2.1 - xTop S) (g.2.2.1 - xSl S) A) (F0 m 0 ls []) := by
    intro H locs cells slots hw hS
    unfold kX_X0_oftenest at hm
    refine lv_aload_n hx hb dX0_oftenest_0 rfl (lv_at hl 2 rfl) ?_
    refine lv_iconst (v := 0) hx hb dX0_oftenest_1 (by decide) ?_
    refine lv_aload_n hx hb dX0_oftenest_2 rfl (lv_at hl 0 rfl) ?_
    refine lv_iload_n hx hb dX0_oftenest_3 rfl (lv_at hl 1 rfl) ?_
    obtain ⟨u1, hu1, hm⟩ := ob_s hm
    obtain ⟨w2, hw2, hm⟩ := hb_s hm
    refine xt_reti hS (xt_runV X hw (met_X1_oftenest hlT N S x0 x1 w2 hw2) (x_cv X (lv := 83) (by omega) (by decide) cx_X1_oftenest (lw_V q1518 q1519 q1520 q115 q1521)) xc1 hu1 rfl hl.1 rfl (Nat.le_of_ble_eq_true rfl) dX0_oftenest_4) (fun t1 t2 u E9 ce q9 H1 locs1 hu ht => ?_) (fun r3 hr3 H locs cells slots hw hS => ?_)
    · replace hm := hc_r hu hm
      by_cases c4 : u.2.1 = 1
      · replace hm := if_t c4 hm
        refine xt_catch X hw t1 t2 ht htab [] (⟨0, 9, 12, 13⟩ : ExceptionTableEntry) [] rfl (fun _ h => absurd h List.not_mem_nil) (by decide) (by decide) q649 (by rw [c4]; exact q660) (fun hw hS => ?_)
        refine lv_astore_n (lv' := [(3, .ref q9), (0, .ref x0), (1, .int x1), (2, .ref x2)]) hx hb dX0_oftenest_12 rfl hl (by decide) rfl (fun ls hl => ?_)
        refine lv_iconst (v := 1) hx hb dX0_oftenest_13 (by decide) ?_
        obtain rfl := Option.some.inj hm
        exact xo_iret (v := 1) X hr hlk hw (xSim_bump _ _) hS rfl dX0_oftenest_14
      replace hm := if_f c4 hm
      cases hm
    replace hm := hc_l hr3 hm
    refine lv_i2l hx hb dX0_oftenest_7 rfl ?_
    obtain ⟨S5, hS5, hm⟩ := ob_s hm
    refine xr_last X hw hS hS5 dX0_oftenest_8 (fun H locs hw hS => ?_)
    refine lv_goto (tgt := 15) hx hb dX0_oftenest_9 (by decide) ?_
    refine lv_iconst (v := 0) hx hb dX0_oftenest_15 (by decide) ?_
    obtain rfl := Option.some.inj hm
    exact xo_iret (v := 0) X hr hlk hw (xSim_rf _) hS rfl dX0_oftenest_16
  exact vx_ret (hg _ _ _ _ hw va_S.rf)
/-! DripCupsLaw.pause -/
def kX_X0_pause (g : XC) (N : Nat) (S : XS) (x0 : Nat) (x1 : Int32) (x2 : Nat) : Option (XS × Int32) :=
  (f_cls S 1 x0).bind fun u1 =>
  hbind (kX_X1_pause g N S x0 x1) (fun u =>
    if u.2.1 = 0 then
      some (u.1, 1)
    else
    none) <| fun r3 =>
  (a_putJ r3.1 x2 0 ((r3.2 : Int32).toInt64)).bind fun S5 =>
  some (S5, 0)
theorem cx_X0_pause : yX0_pause.cls ≠ "java/lang/invoke/MethodHandle" ∧ yX0_pause.cls ≠ "java/lang/invoke/VarHandle" ∧ (parseMethodDescriptor yX0_pause.desc).map (fun d => d.parameters.length) = some 3 := by decide +kernel
theorem met_X0_pause {l : Launch} {g : XC} {D : va_G} {A : Nat → Prop} (hlT : l.stackTraces = false) (N : Nat) (S : XS) (x0 : Nat) (x1 : Int32) (x2 : Nat) (w : XS × Int32) (hm : kX_X0_pause g N S x0 x1 x2 = some w) : Met l yX0_pause (wsW_ yX0_pause cX0_pause 4 (Option.some Jvm.ClassFile.FieldType.int) [(0, 9, 12, 18)]) (xRm g S 82) (xPre g D A [.ref x0, .int x1, .ref x2] S) (xQo g D A w) (g.2.1 - xTop S) (g.2.2.1 - xSl S) A := by
  refine Met_ofX (x_startH (own := RX0) (by decide +kernel) rfl (Nat.le_of_ble_eq_true rfl) (fun p e s m below meth c ls X hr hlk hnm htab hw hl => ?_))
  obtain ⟨hx, hb, -, hown, hts, -⟩ := id X
  have hl : lv_has ls 4 [(0, .ref x0), (1, .int x1), (2, .ref x2)] := hl
  have hg : ∀ (H : Heap) (locs : List Loc) (cells slots : Nat), xW g D A S s H → va_S A s.heap H locs → W p l e (xRm g S 82) s m ([.ref x0, .int x1, .ref x2] : List Value).toArray below meth c H locs cells slots (MQ below (xQo g D A w) ([.ref x0, .int x1, .ref x2] : List Value).toArray s (g.2.1 - xTop S) (g.2.2.1 - xSl S) A) (F0 m 0 ls []) := by
    intro H locs cells slots hw hS
    unfold kX_X0_pause at hm
    refine lv_aload_n hx hb dX0_pause_0 rfl (lv_at hl 2 rfl) ?_
    refine lv_iconst (v := 0) hx hb dX0_pause_1 (by decide) ?_
    refine lv_aload_n hx hb dX0_pause_2 rfl (lv_at hl 0 rfl) ?_
    refine lv_iload_n hx hb dX0_pause_3 rfl (lv_at hl 1 rfl) ?_
    obtain ⟨u1, hu1, hm⟩ := ob_s hm
    obtain ⟨w2, hw2, hm⟩ := hb_s hm
    refine xt_reti hS (xt_runV X hw (met_X1_pause hlT N S x0 x1 w2 hw2) (x_cv X (lv := 81) (by omega) (by decide) cx_X1_pause (lw_V q1525 q1526 q1527 q115 q1528)) xc1 hu1 rfl hl.1 rfl (Nat.le_of_ble_eq_true rfl) dX0_pause_4) (fun t1 t2 u E9 ce q9 H1 locs1 hu ht => ?_) (fun r3 hr3 H locs cells slots hw hS => ?_)
    · replace hm := hc_r hu hm
      by_cases c4 : u.2.1 = 0
      · replace hm := if_t c4 hm
        refine xt_catch X hw t1 t2 ht htab [] (⟨0, 9, 12, 18⟩ : ExceptionTableEntry) [] rfl (fun _ h => absurd h List.not_mem_nil) (by decide) (by decide) q1167 (by rw [c4]; exact q1220) (fun hw hS => ?_)
        refine lv_astore_n (lv' := [(3, .ref q9), (0, .ref x0), (1, .int x1), (2, .ref x2)]) hx hb dX0_pause_12 rfl hl (by decide) rfl (fun ls hl => ?_)
        refine lv_iconst (v := 1) hx hb dX0_pause_13 (by decide) ?_
        obtain rfl := Option.some.inj hm
        exact xo_iret (v := 1) X hr hlk hw (xSim_bump _ _) hS rfl dX0_pause_14
      replace hm := if_f c4 hm
      cases hm
    replace hm := hc_l hr3 hm
    refine lv_i2l hx hb dX0_pause_7 rfl ?_
    obtain ⟨S5, hS5, hm⟩ := ob_s hm
    refine xr_last X hw hS hS5 dX0_pause_8 (fun H locs hw hS => ?_)
    refine lv_goto (tgt := 15) hx hb dX0_pause_9 (by decide) ?_
    refine lv_iconst (v := 0) hx hb dX0_pause_15 (by decide) ?_
    obtain rfl := Option.some.inj hm
    exact xo_iret (v := 0) X hr hlk hw (xSim_rf _) hS rfl dX0_pause_16
  exact vx_ret (hg _ _ _ _ hw va_S.rf)
/-! DripCupsLaw.giver -/
def kX_X0_giver (g : XC) (N : Nat) (S : XS) (x0 : Nat) (x1 : Int32) (x2 : Int32) (x3 : Nat) : Option (XS × Int32) :=
  (f_cls S 1 x0).bind fun u1 =>
  hbind (kX_X1_giver g N S x0 x1 x2) (fun u =>
    if u.2.1 = 0 then
      some (u.1, 1)
    else
    if u.2.1 = 1 then
      some (u.1, 2)
    else
    none) <| fun r3 =>
  (a_putJ r3.1 x3 0 ((r3.2 : Int32).toInt64)).bind fun S6 =>
  some (S6, 0)
theorem cx_X0_giver : yX0_giver.cls ≠ "java/lang/invoke/MethodHandle" ∧ yX0_giver.cls ≠ "java/lang/invoke/VarHandle" ∧ (parseMethodDescriptor yX0_giver.desc).map (fun d => d.parameters.length) = some 4 := by decide +kernel
theorem met_X0_giver {l : Launch} {g : XC} {D : va_G} {A : Nat → Prop} (hlT : l.stackTraces = false) (N : Nat) (S : XS) (x0 : Nat) (x1 : Int32) (x2 : Int32) (x3 : Nat) (w : XS × Int32) (hm : kX_X0_giver g N S x0 x1 x2 x3 = some w) : Met l yX0_giver (wsW_ yX0_giver cX0_giver 5 (Option.some Jvm.ClassFile.FieldType.int) [(0, 10, 13, 18), (0, 10, 17, 13)]) (xRm g S 8) (xPre g D A [.ref x0, .int x1, .int x2, .ref x3] S) (xQo g D A w) (g.2.1 - xTop S) (g.2.2.1 - xSl S) A := by
  refine Met_ofX (x_startH (own := RX0) (by decide +kernel) rfl (Nat.le_of_ble_eq_true rfl) (fun p e s m below meth c ls X hr hlk hnm htab hw hl => ?_))
  obtain ⟨hx, hb, -, hown, hts, -⟩ := id X
  have hl : lv_has ls 5 [(0, .ref x0), (1, .int x1), (2, .int x2), (3, .ref x3)] := hl
  have hg : ∀ (H : Heap) (locs : List Loc) (cells slots : Nat), xW g D A S s H → va_S A s.heap H locs → W p l e (xRm g S 8) s m ([.ref x0, .int x1, .int x2, .ref x3] : List Value).toArray below meth c H locs cells slots (MQ below (xQo g D A w) ([.ref x0, .int x1, .int x2, .ref x3] : List Value).toArray s (g.2.1 - xTop S) (g.2.2.1 - xSl S) A) (F0 m 0 ls []) := by
    intro H locs cells slots hw hS
    unfold kX_X0_giver at hm
    refine lv_aload_n hx hb dX0_giver_0 rfl (lv_at hl 3 rfl) ?_
    refine lv_iconst (v := 0) hx hb dX0_giver_1 (by decide) ?_
    refine lv_aload_n hx hb dX0_giver_2 rfl (lv_at hl 0 rfl) ?_
    refine lv_iload_n hx hb dX0_giver_3 rfl (lv_at hl 1 rfl) ?_
    refine lv_iload_n hx hb dX0_giver_4 rfl (lv_at hl 2 rfl) ?_
    obtain ⟨u1, hu1, hm⟩ := ob_s hm
    obtain ⟨w2, hw2, hm⟩ := hb_s hm
    refine xt_reti hS (xt_runV X hw (met_X1_giver hlT N S x0 x1 x2 w2 hw2) (x_cv X (lv := 7) (by omega) (by decide) cx_X1_giver (lw_V q1532 q1533 q1534 q115 q1535)) xc1 hu1 rfl hl.1 rfl (Nat.le_of_ble_eq_true rfl) dX0_giver_5) (fun t1 t2 u E9 ce q9 H1 locs1 hu ht => ?_) (fun r3 hr3 H locs cells slots hw hS => ?_)
    · replace hm := hc_r hu hm
      by_cases c4 : u.2.1 = 0
      · replace hm := if_t c4 hm
        refine xt_catch X hw t1 t2 ht htab [] (⟨0, 10, 13, 18⟩ : ExceptionTableEntry) [(⟨0, 10, 17, 13⟩ : ExceptionTableEntry)] rfl (fun _ h => absurd h List.not_mem_nil) (by decide) (by decide) q1167 (by rw [c4]; exact q1220) (fun hw hS => ?_)
        refine lv_astore (lv' := [(4, .ref q9), (0, .ref x0), (1, .int x1), (2, .int x2), (3, .ref x3)]) hx hb dX0_giver_13 hl (by decide) rfl (fun ls hl => ?_)
        refine lv_iconst (v := 1) hx hb dX0_giver_15 (by decide) ?_
        obtain rfl := Option.some.inj hm
        exact xo_iret (v := 1) X hr hlk hw (xSim_bump _ _) hS rfl dX0_giver_16
      replace hm := if_f c4 hm
      by_cases c5 : u.2.1 = 1
      · replace hm := if_t c5 hm
        refine xt_catch X hw t1 t2 ht htab [(⟨0, 10, 13, 18⟩ : ExceptionTableEntry)] (⟨0, 10, 17, 13⟩ : ExceptionTableEntry) [] rfl (fun z hz => by rw [List.mem_singleton.mp hz]; exact Or.inr ⟨by decide, "java/util/NoSuchElementException", X.2.2.2.2.1 _ q1167, by rw [c5]; exact X.2.2.2.2.2.1.2.1.2.2.2.1⟩) (by decide) (by decide) q649 (by rw [c5]; exact q660) (fun hw hS => ?_)
        refine lv_astore (lv' := [(4, .ref q9), (0, .ref x0), (1, .int x1), (2, .int x2), (3, .ref x3)]) hx hb dX0_giver_17 hl (by decide) rfl (fun ls hl => ?_)
        refine lv_iconst (v := 2) hx hb dX0_giver_19 (by decide) ?_
        obtain rfl := Option.some.inj hm
        exact xo_iret (v := 2) X hr hlk hw (xSim_bump _ _) hS rfl dX0_giver_20
      replace hm := if_f c5 hm
      cases hm
    replace hm := hc_l hr3 hm
    refine lv_i2l hx hb dX0_giver_8 rfl ?_
    obtain ⟨S6, hS6, hm⟩ := ob_s hm
    refine xr_last X hw hS hS6 dX0_giver_9 (fun H locs hw hS => ?_)
    refine lv_goto (tgt := 21) hx hb dX0_giver_10 (by decide) ?_
    refine lv_iconst (v := 0) hx hb dX0_giver_21 (by decide) ?_
    obtain rfl := Option.some.inj hm
    exact xo_iret (v := 0) X hr hlk hw (xSim_rf _) hS rfl dX0_giver_22
  exact vx_ret (hg _ _ _ _ hw va_S.rf)
/-! DripCupsLaw.toPour -/
def kX_X0_toPour (g : XC) (N : Nat) (S : XS) (x0 : Nat) (x1 : Int32) (x2 : Int32) (x3 : Nat) : Option (XS × Int32) :=
  (f_cls S 1 x0).bind fun u1 =>
  hbind (kX_X1_toPour g N S x0 x1 x2) (fun u =>
    if u.2.1 = 0 then
      some (u.1, 1)
    else
    if u.2.1 = 1 then
      some (u.1, 2)
    else
    none) <| fun r3 =>
  (a_putJ r3.1 x3 0 ((r3.2 : Int32).toInt64)).bind fun S6 =>
  some (S6, 0)
theorem cx_X0_toPour : yX0_toPour.cls ≠ "java/lang/invoke/MethodHandle" ∧ yX0_toPour.cls ≠ "java/lang/invoke/VarHandle" ∧ (parseMethodDescriptor yX0_toPour.desc).map (fun d => d.parameters.length) = some 4 := by decide +kernel
theorem met_X0_toPour {l : Launch} {g : XC} {D : va_G} {A : Nat → Prop} (hlT : l.stackTraces = false) (N : Nat) (S : XS) (x0 : Nat) (x1 : Int32) (x2 : Int32) (x3 : Nat) (w : XS × Int32) (hm : kX_X0_toPour g N S x0 x1 x2 x3 = some w) : Met l yX0_toPour (wsW_ yX0_toPour cX0_toPour 5 (Option.some Jvm.ClassFile.FieldType.int) [(0, 10, 13, 18), (0, 10, 17, 13)]) (xRm g S 83) (xPre g D A [.ref x0, .int x1, .int x2, .ref x3] S) (xQo g D A w) (g.2.1 - xTop S) (g.2.2.1 - xSl S) A := by
  refine Met_ofX (x_startH (own := RX0) (by decide +kernel) rfl (Nat.le_of_ble_eq_true rfl) (fun p e s m below meth c ls X hr hlk hnm htab hw hl => ?_))
  obtain ⟨hx, hb, -, hown, hts, -⟩ := id X
  have hl : lv_has ls 5 [(0, .ref x0), (1, .int x1), (2, .int x2), (3, .ref x3)] := hl
  have hg : ∀ (H : Heap) (locs : List Loc) (cells slots : Nat), xW g D A S s H → va_S A s.heap H locs → W p l e (xRm g S 83) s m ([.ref x0, .int x1, .int x2, .ref x3] : List Value).toArray below meth c H locs cells slots (MQ below (xQo g D A w) ([.ref x0, .int x1, .int x2, .ref x3] : List Value).toArray s (g.2.1 - xTop S) (g.2.2.1 - xSl S) A) (F0 m 0 ls []) := by
    intro H locs cells slots hw hS
    unfold kX_X0_toPour at hm
    refine lv_aload_n hx hb dX0_toPour_0 rfl (lv_at hl 3 rfl) ?_
    refine lv_iconst (v := 0) hx hb dX0_toPour_1 (by decide) ?_
    refine lv_aload_n hx hb dX0_toPour_2 rfl (lv_at hl 0 rfl) ?_
    refine lv_iload_n hx hb dX0_toPour_3 rfl (lv_at hl 1 rfl) ?_
    refine lv_iload_n hx hb dX0_toPour_4 rfl (lv_at hl 2 rfl) ?_
    obtain ⟨u1, hu1, hm⟩ := ob_s hm
    obtain ⟨w2, hw2, hm⟩ := hb_s hm
    refine xt_reti hS (xt_runV X hw (met_X1_toPour hlT N S x0 x1 x2 w2 hw2) (x_cv X (lv := 82) (by omega) (by decide) cx_X1_toPour (lw_V q1545 q1546 q1547 q115 q1548)) xc1 hu1 rfl hl.1 rfl (Nat.le_of_ble_eq_true rfl) dX0_toPour_5) (fun t1 t2 u E9 ce q9 H1 locs1 hu ht => ?_) (fun r3 hr3 H locs cells slots hw hS => ?_)
    · replace hm := hc_r hu hm
      by_cases c4 : u.2.1 = 0
      · replace hm := if_t c4 hm
        refine xt_catch X hw t1 t2 ht htab [] (⟨0, 10, 13, 18⟩ : ExceptionTableEntry) [(⟨0, 10, 17, 13⟩ : ExceptionTableEntry)] rfl (fun _ h => absurd h List.not_mem_nil) (by decide) (by decide) q1167 (by rw [c4]; exact q1220) (fun hw hS => ?_)
        refine lv_astore (lv' := [(4, .ref q9), (0, .ref x0), (1, .int x1), (2, .int x2), (3, .ref x3)]) hx hb dX0_toPour_13 hl (by decide) rfl (fun ls hl => ?_)
        refine lv_iconst (v := 1) hx hb dX0_toPour_15 (by decide) ?_
        obtain rfl := Option.some.inj hm
        exact xo_iret (v := 1) X hr hlk hw (xSim_bump _ _) hS rfl dX0_toPour_16
      replace hm := if_f c4 hm
      by_cases c5 : u.2.1 = 1
      · replace hm := if_t c5 hm
        refine xt_catch X hw t1 t2 ht htab [(⟨0, 10, 13, 18⟩ : ExceptionTableEntry)] (⟨0, 10, 17, 13⟩ : ExceptionTableEntry) [] rfl (fun z hz => by rw [List.mem_singleton.mp hz]; exact Or.inr ⟨by decide, "java/util/NoSuchElementException", X.2.2.2.2.1 _ q1167, by rw [c5]; exact X.2.2.2.2.2.1.2.1.2.2.2.1⟩) (by decide) (by decide) q649 (by rw [c5]; exact q660) (fun hw hS => ?_)
        refine lv_astore (lv' := [(4, .ref q9), (0, .ref x0), (1, .int x1), (2, .int x2), (3, .ref x3)]) hx hb dX0_toPour_17 hl (by decide) rfl (fun ls hl => ?_)
        refine lv_iconst (v := 2) hx hb dX0_toPour_19 (by decide) ?_
        obtain rfl := Option.some.inj hm
        exact xo_iret (v := 2) X hr hlk hw (xSim_bump _ _) hS rfl dX0_toPour_20
      replace hm := if_f c5 hm
      cases hm
    replace hm := hc_l hr3 hm
    refine lv_i2l hx hb dX0_toPour_8 rfl ?_
    obtain ⟨S6, hS6, hm⟩ := ob_s hm
    refine xr_last X hw hS hS6 dX0_toPour_9 (fun H locs hw hS => ?_)
    refine lv_goto (tgt := 21) hx hb dX0_toPour_10 (by decide) ?_
    refine lv_iconst (v := 0) hx hb dX0_toPour_21 (by decide) ?_
    obtain rfl := Option.some.inj hm
    exact xo_iret (v := 0) X hr hlk hw (xSim_rf _) hS rfl dX0_toPour_22
  exact vx_ret (hg _ _ _ _ hw va_S.rf)
/-! DripCupsLaw.ways -/
def kX_X0_ways (g : XC) (N : Nat) (S : XS) (x0 : Nat) (x1 : Int32) (x2 : Int32) (x3 : Nat) : Option (XS × Int32) :=
  (f_cls S 1 x0).bind fun u1 =>
  hbind (kX_X1_ways g N S x0 x1 x2) (fun u =>
    if u.2.1 = 0 then
      some (u.1, 1)
    else
    none) <| fun r3 =>
  (a_putJ r3.1 x3 0 ((r3.2 : Int32).toInt64)).bind fun S5 =>
  some (S5, 0)
theorem cx_X0_ways : yX0_ways.cls ≠ "java/lang/invoke/MethodHandle" ∧ yX0_ways.cls ≠ "java/lang/invoke/VarHandle" ∧ (parseMethodDescriptor yX0_ways.desc).map (fun d => d.parameters.length) = some 4 := by decide +kernel
theorem met_X0_ways {l : Launch} {g : XC} {D : va_G} {A : Nat → Prop} (hlT : l.stackTraces = false) (N : Nat) (S : XS) (x0 : Nat) (x1 : Int32) (x2 : Int32) (x3 : Nat) (w : XS × Int32) (hm : kX_X0_ways g N S x0 x1 x2 x3 = some w) : Met l yX0_ways (wsW_ yX0_ways cX0_ways 5 (Option.some Jvm.ClassFile.FieldType.int) [(0, 10, 13, 18)]) (xRm g S 24) (xPre g D A [.ref x0, .int x1, .int x2, .ref x3] S) (xQo g D A w) (g.2.1 - xTop S) (g.2.2.1 - xSl S) A := by
  refine Met_ofX (x_startH (own := RX0) (by decide +kernel) rfl (Nat.le_of_ble_eq_true rfl) (fun p e s m below meth c ls X hr hlk hnm htab hw hl => ?_))
  obtain ⟨hx, hb, -, hown, hts, -⟩ := id X
  have hl : lv_has ls 5 [(0, .ref x0), (1, .int x1), (2, .int x2), (3, .ref x3)] := hl
  have hg : ∀ (H : Heap) (locs : List Loc) (cells slots : Nat), xW g D A S s H → va_S A s.heap H locs → W p l e (xRm g S 24) s m ([.ref x0, .int x1, .int x2, .ref x3] : List Value).toArray below meth c H locs cells slots (MQ below (xQo g D A w) ([.ref x0, .int x1, .int x2, .ref x3] : List Value).toArray s (g.2.1 - xTop S) (g.2.2.1 - xSl S) A) (F0 m 0 ls []) := by
    intro H locs cells slots hw hS
    unfold kX_X0_ways at hm
    refine lv_aload_n hx hb dX0_ways_0 rfl (lv_at hl 3 rfl) ?_
    refine lv_iconst (v := 0) hx hb dX0_ways_1 (by decide) ?_
    refine lv_aload_n hx hb dX0_ways_2 rfl (lv_at hl 0 rfl) ?_
    refine lv_iload_n hx hb dX0_ways_3 rfl (lv_at hl 1 rfl) ?_
    refine lv_iload_n hx hb dX0_ways_4 rfl (lv_at hl 2 rfl) ?_
    obtain ⟨u1, hu1, hm⟩ := ob_s hm
    obtain ⟨w2, hw2, hm⟩ := hb_s hm
    refine xt_reti hS (xt_runV X hw (met_X1_ways hlT N S x0 x1 x2 w2 hw2) (x_cv X (lv := 23) (by omega) (by decide) cx_X1_ways (lw_V q1552 q1553 q1554 q115 q1555)) xc1 hu1 rfl hl.1 rfl (Nat.le_of_ble_eq_true rfl) dX0_ways_5) (fun t1 t2 u E9 ce q9 H1 locs1 hu ht => ?_) (fun r3 hr3 H locs cells slots hw hS => ?_)
    · replace hm := hc_r hu hm
      by_cases c4 : u.2.1 = 0
      · replace hm := if_t c4 hm
        refine xt_catch X hw t1 t2 ht htab [] (⟨0, 10, 13, 18⟩ : ExceptionTableEntry) [] rfl (fun _ h => absurd h List.not_mem_nil) (by decide) (by decide) q1167 (by rw [c4]; exact q1220) (fun hw hS => ?_)
        refine lv_astore (lv' := [(4, .ref q9), (0, .ref x0), (1, .int x1), (2, .int x2), (3, .ref x3)]) hx hb dX0_ways_13 hl (by decide) rfl (fun ls hl => ?_)
        refine lv_iconst (v := 1) hx hb dX0_ways_15 (by decide) ?_
        obtain rfl := Option.some.inj hm
        exact xo_iret (v := 1) X hr hlk hw (xSim_bump _ _) hS rfl dX0_ways_16
      replace hm := if_f c4 hm
      cases hm
    replace hm := hc_l hr3 hm
    refine lv_i2l hx hb dX0_ways_8 rfl ?_
    obtain ⟨S5, hS5, hm⟩ := ob_s hm
    refine xr_last X hw hS hS5 dX0_ways_9 (fun H locs hw hS => ?_)
    refine lv_goto (tgt := 17) hx hb dX0_ways_10 (by decide) ?_
    refine lv_iconst (v := 0) hx hb dX0_ways_17 (by decide) ?_
    obtain rfl := Option.some.inj hm
    exact xo_iret (v := 0) X hr hlk hw (xSim_rf _) hS rfl dX0_ways_18
  exact vx_ret (hg _ _ _ _ hw va_S.rf)
/-! DripCupsLaw.chorus -/
def kX_X0_chorus (g : XC) (N : Nat) (S : XS) (x0 : Nat) (x1 : Int32) (x2 : Int32) (x3 : Nat) : Option (XS × Int32) :=
  (f_cls S 1 x0).bind fun u1 =>
  hbind (kX_X1_chorus g N S x0 x1 x2) (fun u =>
    if u.2.1 = 1 then
      some (u.1, 1)
    else
    none) <| fun r3 =>
  (a_putJ r3.1 x3 0 ((r3.2 : Int32).toInt64)).bind fun S5 =>
  some (S5, 0)
theorem cx_X0_chorus : yX0_chorus.cls ≠ "java/lang/invoke/MethodHandle" ∧ yX0_chorus.cls ≠ "java/lang/invoke/VarHandle" ∧ (parseMethodDescriptor yX0_chorus.desc).map (fun d => d.parameters.length) = some 4 := by decide +kernel
theorem met_X0_chorus {l : Launch} {g : XC} {D : va_G} {A : Nat → Prop} (hlT : l.stackTraces = false) (N : Nat) (S : XS) (x0 : Nat) (x1 : Int32) (x2 : Int32) (x3 : Nat) (w : XS × Int32) (hm : kX_X0_chorus g N S x0 x1 x2 x3 = some w) : Met l yX0_chorus (wsW_ yX0_chorus cX0_chorus 5 (Option.some Jvm.ClassFile.FieldType.int) [(0, 10, 13, 13)]) (xRm g S 82) (xPre g D A [.ref x0, .int x1, .int x2, .ref x3] S) (xQo g D A w) (g.2.1 - xTop S) (g.2.2.1 - xSl S) A := by
  refine Met_ofX (x_startH (own := RX0) (by decide +kernel) rfl (Nat.le_of_ble_eq_true rfl) (fun p e s m below meth c ls X hr hlk hnm htab hw hl => ?_))
  obtain ⟨hx, hb, -, hown, hts, -⟩ := id X
  have hl : lv_has ls 5 [(0, .ref x0), (1, .int x1), (2, .int x2), (3, .ref x3)] := hl
  have hg : ∀ (H : Heap) (locs : List Loc) (cells slots : Nat), xW g D A S s H → va_S A s.heap H locs → W p l e (xRm g S 82) s m ([.ref x0, .int x1, .int x2, .ref x3] : List Value).toArray below meth c H locs cells slots (MQ below (xQo g D A w) ([.ref x0, .int x1, .int x2, .ref x3] : List Value).toArray s (g.2.1 - xTop S) (g.2.2.1 - xSl S) A) (F0 m 0 ls []) := by
    intro H locs cells slots hw hS
    unfold kX_X0_chorus at hm
    refine lv_aload_n hx hb dX0_chorus_0 rfl (lv_at hl 3 rfl) ?_
    refine lv_iconst (v := 0) hx hb dX0_chorus_1 (by decide) ?_
    refine lv_aload_n hx hb dX0_chorus_2 rfl (lv_at hl 0 rfl) ?_
    refine lv_iload_n hx hb dX0_chorus_3 rfl (lv_at hl 1 rfl) ?_
    refine lv_iload_n hx hb dX0_chorus_4 rfl (lv_at hl 2 rfl) ?_
    obtain ⟨u1, hu1, hm⟩ := ob_s hm
    obtain ⟨w2, hw2, hm⟩ := hb_s hm
    refine xt_reti hS (xt_runV X hw (met_X1_chorus hlT N S x0 x1 x2 w2 hw2) (x_cv X (lv := 81) (by omega) (by decide) cx_X1_chorus (lw_V q1563 q1564 q1565 q115 q1566)) xc1 hu1 rfl hl.1 rfl (Nat.le_of_ble_eq_true rfl) dX0_chorus_5) (fun t1 t2 u E9 ce q9 H1 locs1 hu ht => ?_) (fun r3 hr3 H locs cells slots hw hS => ?_)
    · replace hm := hc_r hu hm
      by_cases c4 : u.2.1 = 1
      · replace hm := if_t c4 hm
        refine xt_catch X hw t1 t2 ht htab [] (⟨0, 10, 13, 13⟩ : ExceptionTableEntry) [] rfl (fun _ h => absurd h List.not_mem_nil) (by decide) (by decide) q649 (by rw [c4]; exact q660) (fun hw hS => ?_)
        refine lv_astore (lv' := [(4, .ref q9), (0, .ref x0), (1, .int x1), (2, .int x2), (3, .ref x3)]) hx hb dX0_chorus_13 hl (by decide) rfl (fun ls hl => ?_)
        refine lv_iconst (v := 1) hx hb dX0_chorus_15 (by decide) ?_
        obtain rfl := Option.some.inj hm
        exact xo_iret (v := 1) X hr hlk hw (xSim_bump _ _) hS rfl dX0_chorus_16
      replace hm := if_f c4 hm
      cases hm
    replace hm := hc_l hr3 hm
    refine lv_i2l hx hb dX0_chorus_8 rfl ?_
    obtain ⟨S5, hS5, hm⟩ := ob_s hm
    refine xr_last X hw hS hS5 dX0_chorus_9 (fun H locs hw hS => ?_)
    refine lv_goto (tgt := 17) hx hb dX0_chorus_10 (by decide) ?_
    refine lv_iconst (v := 0) hx hb dX0_chorus_17 (by decide) ?_
    obtain rfl := Option.some.inj hm
    exact xo_iret (v := 0) X hr hlk hw (xSim_rf _) hS rfl dX0_chorus_18
  exact vx_ret (hg _ _ _ _ hw va_S.rf)
/-! DripCupsLaw.never -/
def kX_X0_never (g : XC) (N : Nat) (S : XS) (x0 : Nat) (x1 : Int32) (x2 : Nat) : Option (XS × Int32) :=
  (f_cls S 1 x0).bind fun u1 =>
  hbind (kX_X1_never g N S x0 x1) (fun u =>
    if u.2.1 = 1 then
      some (u.1, 1)
    else
    none) <| fun r3 =>
  (a_putJ r3.1 x2 0 ((r3.2 : Int32).toInt64)).bind fun S5 =>
  some (S5, 0)
theorem cx_X0_never : yX0_never.cls ≠ "java/lang/invoke/MethodHandle" ∧ yX0_never.cls ≠ "java/lang/invoke/VarHandle" ∧ (parseMethodDescriptor yX0_never.desc).map (fun d => d.parameters.length) = some 3 := by decide +kernel
theorem met_X0_never {l : Launch} {g : XC} {D : va_G} {A : Nat → Prop} (hlT : l.stackTraces = false) (N : Nat) (S : XS) (x0 : Nat) (x1 : Int32) (x2 : Nat) (w : XS × Int32) (hm : kX_X0_never g N S x0 x1 x2 = some w) : Met l yX0_never (wsW_ yX0_never cX0_never 4 (Option.some Jvm.ClassFile.FieldType.int) [(0, 9, 12, 13)]) (xRm g S 82) (xPre g D A [.ref x0, .int x1, .ref x2] S) (xQo g D A w) (g.2.1 - xTop S) (g.2.2.1 - xSl S) A := by
  refine Met_ofX (x_startH (own := RX0) (by decide +kernel) rfl (Nat.le_of_ble_eq_true rfl) (fun p e s m below meth c ls X hr hlk hnm htab hw hl => ?_))
  obtain ⟨hx, hb, -, hown, hts, -⟩ := id X
  have hl : lv_has ls 4 [(0, .ref x0), (1, .int x1), (2, .ref x2)] := hl
  have hg : ∀ (H : Heap) (locs : List Loc) (cells slots : Nat), xW g D A S s H → va_S A s.heap H locs → W p l e (xRm g S 82) s m ([.ref x0, .int x1, .ref x2] : List Value).toArray below meth c H locs cells slots (MQ below (xQo g D A w) ([.ref x0, .int x1, .ref x2] : List Value).toArray s (g.2.1 - xTop S) (g.2.2.1 - xSl S) A) (F0 m 0 ls []) := by
    intro H locs cells slots hw hS
    unfold kX_X0_never at hm
    refine lv_aload_n hx hb dX0_never_0 rfl (lv_at hl 2 rfl) ?_
    refine lv_iconst (v := 0) hx hb dX0_never_1 (by decide) ?_
    refine lv_aload_n hx hb dX0_never_2 rfl (lv_at hl 0 rfl) ?_
    refine lv_iload_n hx hb dX0_never_3 rfl (lv_at hl 1 rfl) ?_
    obtain ⟨u1, hu1, hm⟩ := ob_s hm
    obtain ⟨w2, hw2, hm⟩ := hb_s hm
    refine xt_reti hS (xt_runV X hw (met_X1_never hlT N S x0 x1 w2 hw2) (x_cv X (lv := 81) (by omega) (by decide) cx_X1_never (lw_V q1570 q1571 q1572 q115 q1573)) xc1 hu1 rfl hl.1 rfl (Nat.le_of_ble_eq_true rfl) dX0_never_4) (fun t1 t2 u E9 ce q9 H1 locs1 hu ht => ?_) (fun r3 hr3 H locs cells slots hw hS => ?_)
    · replace hm := hc_r hu hm
      by_cases c4 : u.2.1 = 1
      · replace hm := if_t c4 hm
        refine xt_catch X hw t1 t2 ht htab [] (⟨0, 9, 12, 13⟩ : ExceptionTableEntry) [] rfl (fun _ h => absurd h List.not_mem_nil) (by decide) (by decide) q649 (by rw [c4]; exact q660) (fun hw hS => ?_)
        refine lv_astore_n (lv' := [(3, .ref q9), (0, .ref x0), (1, .int x1), (2, .ref x2)]) hx hb dX0_never_12 rfl hl (by decide) rfl (fun ls hl => ?_)
        refine lv_iconst (v := 1) hx hb dX0_never_13 (by decide) ?_
        obtain rfl := Option.some.inj hm
        exact xo_iret (v := 1) X hr hlk hw (xSim_bump _ _) hS rfl dX0_never_14
      replace hm := if_f c4 hm
      cases hm
    replace hm := hc_l hr3 hm
    refine lv_i2l hx hb dX0_never_7 rfl ?_
    obtain ⟨S5, hS5, hm⟩ := ob_s hm
    refine xr_last X hw hS hS5 dX0_never_8 (fun H locs hw hS => ?_)
    refine lv_goto (tgt := 15) hx hb dX0_never_9 (by decide) ?_
    refine lv_iconst (v := 0) hx hb dX0_never_15 (by decide) ?_
    obtain rfl := Option.some.inj hm
    exact xo_iret (v := 0) X hr hlk hw (xSim_rf _) hS rfl dX0_never_16
  exact vx_ret (hg _ _ _ _ hw va_S.rf)
/-! DripCupsLaw.swell -/
def kX_X0_swell (g : XC) (N : Nat) (S : XS) (x0 : Nat) (x1 : Int32) (x2 : Int32) (x3 : Nat) : Option (XS × Int32) :=
  (f_cls S 1 x0).bind fun u1 =>
  hbind (kX_X1_swell g N S x0 x1 x2) (fun u =>
    if u.2.1 = 0 then
      some (u.1, 1)
    else
    if u.2.1 = 1 then
      some (u.1, 2)
    else
    none) <| fun r3 =>
  (a_putJ r3.1 x3 0 ((r3.2 : Int32).toInt64)).bind fun S6 =>
  some (S6, 0)
theorem cx_X0_swell : yX0_swell.cls ≠ "java/lang/invoke/MethodHandle" ∧ yX0_swell.cls ≠ "java/lang/invoke/VarHandle" ∧ (parseMethodDescriptor yX0_swell.desc).map (fun d => d.parameters.length) = some 4 := by decide +kernel
theorem met_X0_swell {l : Launch} {g : XC} {D : va_G} {A : Nat → Prop} (hlT : l.stackTraces = false) (N : Nat) (S : XS) (x0 : Nat) (x1 : Int32) (x2 : Int32) (x3 : Nat) (w : XS × Int32) (hm : kX_X0_swell g N S x0 x1 x2 x3 = some w) : Met l yX0_swell (wsW_ yX0_swell cX0_swell 5 (Option.some Jvm.ClassFile.FieldType.int) [(0, 10, 13, 18), (0, 10, 17, 13)]) (xRm g S 82) (xPre g D A [.ref x0, .int x1, .int x2, .ref x3] S) (xQo g D A w) (g.2.1 - xTop S) (g.2.2.1 - xSl S) A := by
  refine Met_ofX (x_startH (own := RX0) (by decide +kernel) rfl (Nat.le_of_ble_eq_true rfl) (fun p e s m below meth c ls X hr hlk hnm htab hw hl => ?_))
  obtain ⟨hx, hb, -, hown, hts, -⟩ := id X
  have hl : lv_has ls 5 [(0, .ref x0), (1, .int x1), (2, .int x2), (3, .ref x3)] := hl
  have hg : ∀ (H : Heap) (locs : List Loc) (cells slots : Nat), xW g D A S s H → va_S A s.heap H locs → W p l e (xRm g S 82) s m ([.ref x0, .int x1, .int x2, .ref x3] : List Value).toArray below meth c H locs cells slots (MQ below (xQo g D A w) ([.ref x0, .int x1, .int x2, .ref x3] : List Value).toArray s (g.2.1 - xTop S) (g.2.2.1 - xSl S) A) (F0 m 0 ls []) := by
    intro H locs cells slots hw hS
    unfold kX_X0_swell at hm
    refine lv_aload_n hx hb dX0_swell_0 rfl (lv_at hl 3 rfl) ?_
    refine lv_iconst (v := 0) hx hb dX0_swell_1 (by decide) ?_
    refine lv_aload_n hx hb dX0_swell_2 rfl (lv_at hl 0 rfl) ?_
    refine lv_iload_n hx hb dX0_swell_3 rfl (lv_at hl 1 rfl) ?_
    refine lv_iload_n hx hb dX0_swell_4 rfl (lv_at hl 2 rfl) ?_
    obtain ⟨u1, hu1, hm⟩ := ob_s hm
    obtain ⟨w2, hw2, hm⟩ := hb_s hm
    refine xt_reti hS (xt_runV X hw (met_X1_swell hlT N S x0 x1 x2 w2 hw2) (x_cv X (lv := 81) (by omega) (by decide) cx_X1_swell (lw_V q1577 q1578 q1579 q115 q1580)) xc1 hu1 rfl hl.1 rfl (Nat.le_of_ble_eq_true rfl) dX0_swell_5) (fun t1 t2 u E9 ce q9 H1 locs1 hu ht => ?_) (fun r3 hr3 H locs cells slots hw hS => ?_)
    · replace hm := hc_r hu hm
      by_cases c4 : u.2.1 = 0
      · replace hm := if_t c4 hm
        refine xt_catch X hw t1 t2 ht htab [] (⟨0, 10, 13, 18⟩ : ExceptionTableEntry) [(⟨0, 10, 17, 13⟩ : ExceptionTableEntry)] rfl (fun _ h => absurd h List.not_mem_nil) (by decide) (by decide) q1167 (by rw [c4]; exact q1220) (fun hw hS => ?_)
        refine lv_astore (lv' := [(4, .ref q9), (0, .ref x0), (1, .int x1), (2, .int x2), (3, .ref x3)]) hx hb dX0_swell_13 hl (by decide) rfl (fun ls hl => ?_)
        refine lv_iconst (v := 1) hx hb dX0_swell_15 (by decide) ?_
        obtain rfl := Option.some.inj hm
        exact xo_iret (v := 1) X hr hlk hw (xSim_bump _ _) hS rfl dX0_swell_16
      replace hm := if_f c4 hm
      by_cases c5 : u.2.1 = 1
      · replace hm := if_t c5 hm
        refine xt_catch X hw t1 t2 ht htab [(⟨0, 10, 13, 18⟩ : ExceptionTableEntry)] (⟨0, 10, 17, 13⟩ : ExceptionTableEntry) [] rfl (fun z hz => by rw [List.mem_singleton.mp hz]; exact Or.inr ⟨by decide, "java/util/NoSuchElementException", X.2.2.2.2.1 _ q1167, by rw [c5]; exact X.2.2.2.2.2.1.2.1.2.2.2.1⟩) (by decide) (by decide) q649 (by rw [c5]; exact q660) (fun hw hS => ?_)
        refine lv_astore (lv' := [(4, .ref q9), (0, .ref x0), (1, .int x1), (2, .int x2), (3, .ref x3)]) hx hb dX0_swell_17 hl (by decide) rfl (fun ls hl => ?_)
        refine lv_iconst (v := 2) hx hb dX0_swell_19 (by decide) ?_
        obtain rfl := Option.some.inj hm
        exact xo_iret (v := 2) X hr hlk hw (xSim_bump _ _) hS rfl dX0_swell_20
      replace hm := if_f c5 hm
      cases hm
    replace hm := hc_l hr3 hm
    refine lv_i2l hx hb dX0_swell_8 rfl ?_
    obtain ⟨S6, hS6, hm⟩ := ob_s hm
    refine xr_last X hw hS hS6 dX0_swell_9 (fun H locs hw hS => ?_)
    refine lv_goto (tgt := 21) hx hb dX0_swell_10 (by decide) ?_
    refine lv_iconst (v := 0) hx hb dX0_swell_21 (by decide) ?_
    obtain rfl := Option.some.inj hm
    exact xo_iret (v := 0) X hr hlk hw (xSim_rf _) hS rfl dX0_swell_22
  exact vx_ret (hg _ _ _ _ hw va_S.rf)
