/-! DripCups$Cave.init -/
def kX_X2_init (g : XC) (N : Nat) (S : XS) (x0 : Nat) : Option (XS) :=
  (xNew S 3 (.inr (10, [.int 0, .null, .int 0]))).bind fun S1 =>
  (kX_J2_init g N S1 (xTop S)).bind fun w2 =>
  (f_putR w2 3 x0 0 (some (xTop S))).bind fun S3 =>
  some S3
theorem cx_X2_init : yX2_init.cls ≠ "java/lang/invoke/MethodHandle" ∧ yX2_init.cls ≠ "java/lang/invoke/VarHandle" ∧ (parseMethodDescriptor yX2_init.desc).map (fun d => d.parameters.length) = some 0 := by decide +kernel
theorem met_X2_init {l : Launch} {g : XC} {D : va_G} {A : Nat → Prop} (N : Nat) (S : XS) (x0 : Nat) (w : XS) (hm : kX_X2_init g N S x0 = some w) : Met l yX2_init (ws_ yX2_init cX2_init 1 (Option.none : Option Jvm.ClassFile.FieldType)) (xRm g S 3) (xPre g D A [.ref x0] S) (xQv g D A w) (g.2.1 - xTop S) (g.2.2.1 - xSl S) A := by
  refine x_start (own := RX2) (by decide +kernel) rfl (Nat.le_of_ble_eq_true rfl) (fun p e s m below meth c ls X hr hlk hnm hw hl => ?_)
  obtain ⟨hx, hb, -, hown, hts, -⟩ := id X
  have hl : lv_has ls 1 [(0, .ref x0)] := hl
  have hg : ∀ (H : Heap) (locs : List Loc) (cells slots : Nat), xW g D A S s H → va_S A s.heap H locs → W p l e (xRm g S 3) s m ([.ref x0] : List Value).toArray below meth c H locs cells slots (MQ below (xQv g D A w) ([.ref x0] : List Value).toArray s (g.2.1 - xTop S) (g.2.2.1 - xSl S) A) (F0 m 0 ls []) := by
    intro H locs cells slots hw hS
    unfold kX_X2_init at hm
    refine lv_aload_n hx hb dX2_init_0 rfl (lv_at hl 0 rfl) ?_
    refine xr_objInit X hl.1 q161 q154 q155 (Nat.le_of_ble_eq_true rfl) dX2_init_1 ?_
    refine lv_aload_n hx hb dX2_init_4 rfl (lv_at hl 0 rfl) ?_
    obtain ⟨S1, hS1, hm⟩ := ob_s hm
    refine xr_new (N := 3) X hw hS xc10 in_J2 tyJ2_ok q162 q163 q119 (by intro j hj; exact df_J2 j hj) hS1 dX2_init_5 (fun H cells slots hw hS => ?_)
    refine lv_dup hx hb dX2_init_8 rfl ?_
    obtain ⟨w2, hw2, hm⟩ := ob_s hm
    refine xr_retv hS (xr_runI X hw (met_J2_init N S1 (xTop S) w2 hw2) (x_ci X (lv := 2) (by omega) (by decide) rfl cx_J2_init (lw_meth q166) q119 q164 q165) rfl hl.1 rfl (Nat.le_of_ble_eq_true rfl) dX2_init_9) (fun H locs cells slots hw hS => ?_)
    obtain ⟨S3, hS3, hm⟩ := ob_s hm
    refine xr_putRF (v := (some (xTop S))) X hw hS xc3 in_X2 tyX2_ok nmX2 0 (by decide) q189 rfl hnm rfl (tyX2_ok 0 (by decide)) rfl hS3 dX2_init_12 (fun H locs hw hS => ?_)
    obtain rfl := Option.some.inj hm
    exact xr_vret X hr hlk hw hS dX2_init_15
  exact hg _ _ _ _ hw va_S.rf
/-! DripCups$Night.init -/
def kX_X3_init_75 (g : XC) (N : Nat) : Nat → XS → Nat → Int32 → Option (XS)
  | 0, _, _, _ => none
  | n + 1, S, x0, x2 =>
    if (9 : Int32) ≤ x2 then
      (x_adopt S 2 x0).bind fun S2 =>
      some S2
    else
      (f_obj S 2 x0 3).bind fun v3 =>
      (a_putI S 0 v3 x2 (-1)).bind fun S4 =>
      (f_obj S4 2 x0 4).bind fun v5 =>
      (a_putI S4 0 v5 x2 (-2)).bind fun S6 =>
      kX_X3_init_75 g N n S6 x0 (x2 + 1)
theorem wkX_X3_init_75 {p : Program} {l : Launch} {e : Env} {s : State} {m : MethodId} {args : Array Value} {below : List Frame} {meth : Method} {c : Code} {g : XC} {D : va_G} {A : Nat → Prop} {S0 : XS} {w : XS} (X : xX g D A RX3 S0 p s m args c cX3_init 3) (hr : meth.sig.returnType = (Option.none : Option Jvm.ClassFile.FieldType)) (hlk : meth.locks = false) (hnm : meth.name = yX3_init.name) (N : Nat) :
    ∀ (n : Nat) (S : XS) (x0 : Nat) (x2 : Int32) (H : Heap) (locs : List Loc) (ls : Array Slot) (cells slots : Nat), kX_X3_init_75 g N n S x0 x2 = some w → xW g D A S s H → va_S A s.heap H locs → lv_has ls 3 [(0, .ref x0), (2, .int x2)] → W p l e (xRm g S0 0) s m args below meth c H locs cells slots (MQ below (xQv g D A w) args s (g.2.1 - xTop S0) (g.2.2.1 - xSl S0) A) (F0 m 75 ls []) := by
  obtain ⟨hx, hb, -, hown, hts, -⟩ := id X
  intro n
  induction n with
  | zero =>
    intro S x0 x2 H locs ls cells slots hm
    cases hm
  | succ n ih =>
    intro S x0 x2 H locs ls cells slots hm hw hS hl
    rw [kX_X3_init_75] at hm
    refine lv_iload_n hx hb dX3_init_75 rfl (lv_at hl 1 rfl) ?_
    refine lv_bipush (v := 9) hx hb dX3_init_76 (by decide) ?_
    refine lv_icmp_ge (tgt := 102) hx hb dX3_init_78 (by decide) (fun c1 => ?_) (fun c1 => ?_)
    · replace hm := if_t c1 hm
      obtain ⟨S2, hS2, hm⟩ := ob_s hm
      replace hw := xW_adopt hw hS2
      obtain rfl := Option.some.inj hm
      exact xr_vret X hr hlk hw hS dX3_init_102
    · replace hm := if_f c1 hm
      refine lv_aload_n hx hb dX3_init_81 rfl (lv_at hl 0 rfl) ?_
      obtain ⟨v3, hv3, hm⟩ := ob_s hm
      refine xr_val X hw xc2 in_X3 3 (by decide) q218 (f_obj_s hv3) dX3_init_82 ?_
      refine lv_iload_n hx hb dX3_init_85 rfl (lv_at hl 1 rfl) ?_
      refine lv_iconst (v := (-1)) hx hb dX3_init_86 (by decide) ?_
      obtain ⟨S4, hS4, hm⟩ := ob_s hm
      refine xr_iast X hw hS hS4 dX3_init_87 (fun H locs hw hS => ?_)
      refine lv_aload_n hx hb dX3_init_88 rfl (lv_at hl 0 rfl) ?_
      obtain ⟨v5, hv5, hm⟩ := ob_s hm
      refine xr_val X hw xc2 in_X3 4 (by decide) q221 (f_obj_s hv5) dX3_init_89 ?_
      refine lv_iload_n hx hb dX3_init_92 rfl (lv_at hl 1 rfl) ?_
      refine lv_bipush (v := (-2)) hx hb dX3_init_93 (by decide) ?_
      obtain ⟨S6, hS6, hm⟩ := ob_s hm
      refine xr_iast X hw hS hS6 dX3_init_95 (fun H locs hw hS => ?_)
      refine lv_iinc (v := (x2 + 1)) (lv' := [(2, .int (x2 + 1)), (0, .ref x0)]) hx hb dX3_init_96 hl (k := 1) rfl rfl (by decide) rfl (fun ls hl => ?_)
      refine lv_goto (tgt := 75) hx hb dX3_init_99 (by decide) ?_
      exact ih S6 x0 (x2 + 1) H locs ls _ _ hm hw hS (lv_sub hl [1, 0] rfl)
def kX_X3_init (g : XC) (N : Nat) (S : XS) (x0 : Nat) (x1 : Nat) : Option (XS) :=
  (f_putR S 2 x0 15 (some x1)).bind fun S1 =>
  (xNewI S1 0 9).bind fun S2 =>
  (f_putR S2 2 x0 0 (some (xTop S1))).bind fun S3 =>
  (xNewI S3 0 9).bind fun S4 =>
  (f_putR S4 2 x0 1 (some (xTop S3))).bind fun S5 =>
  (xNewI S5 0 9).bind fun S6 =>
  (f_putR S6 2 x0 2 (some (xTop S5))).bind fun S7 =>
  (xNewI S7 0 9).bind fun S8 =>
  (f_putR S8 2 x0 3 (some (xTop S7))).bind fun S9 =>
  (xNewI S9 0 9).bind fun S10 =>
  (f_putR S10 2 x0 4 (some (xTop S9))).bind fun S11 =>
  (xNewI S11 0 9).bind fun S12 =>
  (f_putR S12 2 x0 5 (some (xTop S11))).bind fun S13 =>
  (xNewI S13 0 9).bind fun S14 =>
  (f_putR S14 2 x0 11 (some (xTop S13))).bind fun S15 =>
  (xNewI S15 0 9).bind fun S16 =>
  (f_putR S16 2 x0 12 (some (xTop S15))).bind fun S17 =>
  kX_X3_init_75 g N N S17 x0 0
theorem cx_X3_init : yX3_init.cls ≠ "java/lang/invoke/MethodHandle" ∧ yX3_init.cls ≠ "java/lang/invoke/VarHandle" ∧ (parseMethodDescriptor yX3_init.desc).map (fun d => d.parameters.length) = some 1 := by decide +kernel
theorem met_X3_init {l : Launch} {g : XC} {D : va_G} {A : Nat → Prop} (N : Nat) (S : XS) (x0 : Nat) (x1 : Nat) (w : XS) (hm : kX_X3_init g N S x0 x1 = some w) : Met l yX3_init (ws_ yX3_init cX3_init 3 (Option.none : Option Jvm.ClassFile.FieldType)) (xRm g S 0) (xPre g D A [.ref x0, .ref x1] S) (xQv g D A w) (g.2.1 - xTop S) (g.2.2.1 - xSl S) A := by
  refine x_start (own := RX3) (by decide +kernel) rfl (Nat.le_of_ble_eq_true rfl) (fun p e s m below meth c ls X hr hlk hnm hw hl => ?_)
  obtain ⟨hx, hb, -, hown, hts, -⟩ := id X
  have hl : lv_has ls 3 [(0, .ref x0), (1, .ref x1)] := hl
  have hg : ∀ (H : Heap) (locs : List Loc) (cells slots : Nat), xW g D A S s H → va_S A s.heap H locs → W p l e (xRm g S 0) s m ([.ref x0, .ref x1] : List Value).toArray below meth c H locs cells slots (MQ below (xQv g D A w) ([.ref x0, .ref x1] : List Value).toArray s (g.2.1 - xTop S) (g.2.2.1 - xSl S) A) (F0 m 0 ls []) := by
    intro H locs cells slots hw hS
    unfold kX_X3_init at hm
    refine lv_aload_n hx hb dX3_init_0 rfl (lv_at hl 0 rfl) ?_
    refine lv_aload_n hx hb dX3_init_1 rfl (lv_at hl 1 rfl) ?_
    obtain ⟨S1, hS1, hm⟩ := ob_s hm
    refine xr_putRF (v := (some x1)) X hw hS xc2 in_X3 tyX3_ok nmX3 15 (by decide) q241 rfl hnm rfl (tyX3_ok 15 (by decide)) rfl hS1 dX3_init_2 (fun H locs hw hS => ?_)
    refine lv_aload_n hx hb dX3_init_5 rfl (lv_at hl 0 rfl) ?_
    refine xr_objInit X hl.1 q209 q154 q155 (Nat.le_of_ble_eq_true rfl) dX3_init_6 ?_
    refine lv_aload_n hx hb dX3_init_9 rfl (lv_at hl 0 rfl) ?_
    refine lv_bipush (v := 9) hx hb dX3_init_10 (by decide) ?_
    obtain ⟨S2, hS2, hm⟩ := ob_s hm
    refine xr_newI (atype := .int) X hw hS (by decide) rfl rfl (by decide) q_arr_int hS2 dX3_init_12 (fun H cells slots hw hS => ?_)
    obtain ⟨S3, hS3, hm⟩ := ob_s hm
    refine xr_putRF (v := (some (xTop S1))) X hw hS xc2 in_X3 tyX3_ok nmX3 0 (by decide) q210 rfl hnm rfl (tyX3_ok 0 (by decide)) rfl hS3 dX3_init_14 (fun H locs hw hS => ?_)
    refine lv_aload_n hx hb dX3_init_17 rfl (lv_at hl 0 rfl) ?_
    refine lv_bipush (v := 9) hx hb dX3_init_18 (by decide) ?_
    obtain ⟨S4, hS4, hm⟩ := ob_s hm
    refine xr_newI (atype := .int) X hw hS (by decide) rfl rfl (by decide) q_arr_int hS4 dX3_init_20 (fun H cells slots hw hS => ?_)
    obtain ⟨S5, hS5, hm⟩ := ob_s hm
    refine xr_putRF (v := (some (xTop S3))) X hw hS xc2 in_X3 tyX3_ok nmX3 1 (by decide) q213 rfl hnm rfl (tyX3_ok 1 (by decide)) rfl hS5 dX3_init_22 (fun H locs hw hS => ?_)
    refine lv_aload_n hx hb dX3_init_25 rfl (lv_at hl 0 rfl) ?_
    refine lv_bipush (v := 9) hx hb dX3_init_26 (by decide) ?_
    obtain ⟨S6, hS6, hm⟩ := ob_s hm
    refine xr_newI (atype := .int) X hw hS (by decide) rfl rfl (by decide) q_arr_int hS6 dX3_init_28 (fun H cells slots hw hS => ?_)
    obtain ⟨S7, hS7, hm⟩ := ob_s hm
    refine xr_putRF (v := (some (xTop S5))) X hw hS xc2 in_X3 tyX3_ok nmX3 2 (by decide) q216 rfl hnm rfl (tyX3_ok 2 (by decide)) rfl hS7 dX3_init_30 (fun H locs hw hS => ?_)
    refine lv_aload_n hx hb dX3_init_33 rfl (lv_at hl 0 rfl) ?_
    refine lv_bipush (v := 9) hx hb dX3_init_34 (by decide) ?_
    obtain ⟨S8, hS8, hm⟩ := ob_s hm
    refine xr_newI (atype := .int) X hw hS (by decide) rfl rfl (by decide) q_arr_int hS8 dX3_init_36 (fun H cells slots hw hS => ?_)
    obtain ⟨S9, hS9, hm⟩ := ob_s hm
    refine xr_putRF (v := (some (xTop S7))) X hw hS xc2 in_X3 tyX3_ok nmX3 3 (by decide) q218 rfl hnm rfl (tyX3_ok 3 (by decide)) rfl hS9 dX3_init_38 (fun H locs hw hS => ?_)
    refine lv_aload_n hx hb dX3_init_41 rfl (lv_at hl 0 rfl) ?_
    refine lv_bipush (v := 9) hx hb dX3_init_42 (by decide) ?_
    obtain ⟨S10, hS10, hm⟩ := ob_s hm
    refine xr_newI (atype := .int) X hw hS (by decide) rfl rfl (by decide) q_arr_int hS10 dX3_init_44 (fun H cells slots hw hS => ?_)
    obtain ⟨S11, hS11, hm⟩ := ob_s hm
    refine xr_putRF (v := (some (xTop S9))) X hw hS xc2 in_X3 tyX3_ok nmX3 4 (by decide) q221 rfl hnm rfl (tyX3_ok 4 (by decide)) rfl hS11 dX3_init_46 (fun H locs hw hS => ?_)
    refine lv_aload_n hx hb dX3_init_49 rfl (lv_at hl 0 rfl) ?_
    refine lv_bipush (v := 9) hx hb dX3_init_50 (by decide) ?_
    obtain ⟨S12, hS12, hm⟩ := ob_s hm
    refine xr_newI (atype := .int) X hw hS (by decide) rfl rfl (by decide) q_arr_int hS12 dX3_init_52 (fun H cells slots hw hS => ?_)
    obtain ⟨S13, hS13, hm⟩ := ob_s hm
    refine xr_putRF (v := (some (xTop S11))) X hw hS xc2 in_X3 tyX3_ok nmX3 5 (by decide) q224 rfl hnm rfl (tyX3_ok 5 (by decide)) rfl hS13 dX3_init_54 (fun H locs hw hS => ?_)
    refine lv_aload_n hx hb dX3_init_57 rfl (lv_at hl 0 rfl) ?_
    refine lv_bipush (v := 9) hx hb dX3_init_58 (by decide) ?_
    obtain ⟨S14, hS14, hm⟩ := ob_s hm
    refine xr_newI (atype := .int) X hw hS (by decide) rfl rfl (by decide) q_arr_int hS14 dX3_init_60 (fun H cells slots hw hS => ?_)
    obtain ⟨S15, hS15, hm⟩ := ob_s hm
    refine xr_putRF (v := (some (xTop S13))) X hw hS xc2 in_X3 tyX3_ok nmX3 11 (by decide) q234 rfl hnm rfl (tyX3_ok 11 (by decide)) rfl hS15 dX3_init_62 (fun H locs hw hS => ?_)
    refine lv_aload_n hx hb dX3_init_65 rfl (lv_at hl 0 rfl) ?_
    refine lv_bipush (v := 9) hx hb dX3_init_66 (by decide) ?_
    obtain ⟨S16, hS16, hm⟩ := ob_s hm
    refine xr_newI (atype := .int) X hw hS (by decide) rfl rfl (by decide) q_arr_int hS16 dX3_init_68 (fun H cells slots hw hS => ?_)
    obtain ⟨S17, hS17, hm⟩ := ob_s hm
    refine xr_putRF (v := (some (xTop S15))) X hw hS xc2 in_X3 tyX3_ok nmX3 12 (by decide) q235 rfl hnm rfl (tyX3_ok 12 (by decide)) rfl hS17 dX3_init_70 (fun H locs hw hS => ?_)
    refine lv_iconst (v := 0) hx hb dX3_init_73 (by decide) ?_
    refine lv_istore_n (lv' := [(2, .int 0), (0, .ref x0), (1, .ref x1)]) hx hb dX3_init_74 rfl hl (by decide) rfl (fun ls hl => ?_)
    exact wkX_X3_init_75 X hr hlk hnm N N S17 x0 0 H locs ls _ _ hm hw hS (lv_sub hl [1, 0] rfl)
  exact hg _ _ _ _ hw va_S.rf
/-! DripCups.init -/
def kX_X1_init (g : XC) (N : Nat) (S : XS) (x0 : Nat) : Option (XS) :=
  (xNewI S 0 6).bind fun S1 =>
  (f_putR S1 1 x0 0 (some (xTop S))).bind fun S2 =>
  (xNew S2 3 (.inr (3, [.null, .null, .null]))).bind fun S3 =>
  (kX_X2_init g N S3 (xTop S2)).bind fun w4 =>
  (f_putR w4 1 x0 1 (some (xTop S2))).bind fun S5 =>
  (xNew S5 16 (.inr (2, [.null, .null, .null, .null, .null, .null, .int 0, .int 0, .int 0, .int 0, .int 0, .null, .null, .int 0, .int 0, .null]))).bind fun S6 =>
  (kX_X3_init g N S6 (xTop S5) x0).bind fun w7 =>
  (f_putR w7 1 x0 2 (some (xTop S5))).bind fun S8 =>
  (xNew S8 16 (.inr (2, [.null, .null, .null, .null, .null, .null, .int 0, .int 0, .int 0, .int 0, .int 0, .null, .null, .int 0, .int 0, .null]))).bind fun S9 =>
  (kX_X3_init g N S9 (xTop S8) x0).bind fun w10 =>
  (f_putR w10 1 x0 3 (some (xTop S8))).bind fun S11 =>
  (xNewI S11 1 700).bind fun S12 =>
  (f_putR S12 1 x0 4 (some (xTop S11))).bind fun S13 =>
  (f_putI S13 1 x0 6 (-1)).bind fun S14 =>
  (xNewI S14 0 3).bind fun S15 =>
  (f_putR S15 1 x0 7 (some (xTop S14))).bind fun S16 =>
  (xNew S16 3 (.inr (10, [.int 0, .null, .int 0]))).bind fun S17 =>
  (kX_J2_init g N S17 (xTop S16)).bind fun w18 =>
  (f_putR w18 1 x0 8 (some (xTop S16))).bind fun S19 =>
  (xNew S19 3 (.inr (10, [.int 0, .null, .int 0]))).bind fun S20 =>
  (kX_J2_init g N S20 (xTop S19)).bind fun w21 =>
  (f_putR w21 1 x0 9 (some (xTop S19))).bind fun S22 =>
  (x_adopt S22 1 x0).bind fun S23 =>
  some S23
theorem cx_X1_init : yX1_init.cls ≠ "java/lang/invoke/MethodHandle" ∧ yX1_init.cls ≠ "java/lang/invoke/VarHandle" ∧ (parseMethodDescriptor yX1_init.desc).map (fun d => d.parameters.length) = some 0 := by decide +kernel
theorem met_X1_init {l : Launch} {g : XC} {D : va_G} {A : Nat → Prop} (N : Nat) (S : XS) (x0 : Nat) (w : XS) (hm : kX_X1_init g N S x0 = some w) : Met l yX1_init (ws_ yX1_init cX1_init 1 (Option.none : Option Jvm.ClassFile.FieldType)) (xRm g S 4) (xPre g D A [.ref x0] S) (xQv g D A w) (g.2.1 - xTop S) (g.2.2.1 - xSl S) A := by
  refine x_start (own := RX1) (by decide +kernel) rfl (Nat.le_of_ble_eq_true rfl) (fun p e s m below meth c ls X hr hlk hnm hw hl => ?_)
  obtain ⟨hx, hb, -, hown, hts, -⟩ := id X
  have hl : lv_has ls 1 [(0, .ref x0)] := hl
  have hg : ∀ (H : Heap) (locs : List Loc) (cells slots : Nat), xW g D A S s H → va_S A s.heap H locs → W p l e (xRm g S 4) s m ([.ref x0] : List Value).toArray below meth c H locs cells slots (MQ below (xQv g D A w) ([.ref x0] : List Value).toArray s (g.2.1 - xTop S) (g.2.2.1 - xSl S) A) (F0 m 0 ls []) := by
    intro H locs cells slots hw hS
    unfold kX_X1_init at hm
    refine lv_aload_n hx hb dX1_init_0 rfl (lv_at hl 0 rfl) ?_
    refine xr_objInit X hl.1 q153 q154 q155 (Nat.le_of_ble_eq_true rfl) dX1_init_1 ?_
    refine lv_aload_n hx hb dX1_init_4 rfl (lv_at hl 0 rfl) ?_
    refine lv_bipush (v := 6) hx hb dX1_init_5 (by decide) ?_
    obtain ⟨S1, hS1, hm⟩ := ob_s hm
    refine xr_newI (atype := .int) X hw hS (by decide) rfl rfl (by decide) q_arr_int hS1 dX1_init_7 (fun H cells slots hw hS => ?_)
    obtain ⟨S2, hS2, hm⟩ := ob_s hm
    refine xr_putRF (v := (some (xTop S))) X hw hS xc1 in_X1 tyX1_ok nmX1 0 (by decide) q277 rfl hnm rfl (tyX1_ok 0 (by decide)) rfl hS2 dX1_init_9 (fun H locs hw hS => ?_)
    refine lv_aload_n hx hb dX1_init_12 rfl (lv_at hl 0 rfl) ?_
    obtain ⟨S3, hS3, hm⟩ := ob_s hm
    refine xr_new (N := 3) X hw hS xc3 in_X2 tyX2_ok q156 q157 q116 (by intro j hj; exact df_X2 j hj) hS3 dX1_init_13 (fun H cells slots hw hS => ?_)
    refine lv_dup hx hb dX1_init_16 rfl ?_
    obtain ⟨w4, hw4, hm⟩ := ob_s hm
    refine xr_retv hS (xr_runIN X hw (met_X2_init N S3 (xTop S2) w4 hw4) (x_cn X (lv := 3) (by omega) (by decide) cx_X2_init (lw_meth q160) q116 q158) rfl q159 rfl hl.1 rfl (Nat.le_of_ble_eq_true rfl) dX1_init_17) (fun H locs cells slots hw hS => ?_)
    obtain ⟨S5, hS5, hm⟩ := ob_s hm
    refine xr_putR (v := (some (xTop S2))) X hw hS xc1 in_X1 tyX1_ok nmX1 1 (by decide) q279 rfl (tyX1_ok 1 (by decide)) rfl hS5 dX1_init_20 (fun H locs hw hS => ?_)
    refine lv_aload_n hx hb dX1_init_23 rfl (lv_at hl 0 rfl) ?_
    obtain ⟨S6, hS6, hm⟩ := ob_s hm
    refine xr_new (N := 16) X hw hS xc2 in_X3 tyX3_ok q204 q205 q120 (by intro j hj; exact df_X3 j hj) hS6 dX1_init_24 (fun H cells slots hw hS => ?_)
    refine lv_dup hx hb dX1_init_27 rfl ?_
    refine lv_aload_n hx hb dX1_init_28 rfl (lv_at hl 0 rfl) ?_
    obtain ⟨w7, hw7, hm⟩ := ob_s hm
    refine xr_retv hS (xr_runI X hw (met_X3_init N S6 (xTop S5) x0 w7 hw7) (x_ci X (lv := 0) (by omega) (by decide) rfl cx_X3_init (lw_meth q208) q120 q206 q207) rfl hl.1 rfl (Nat.le_of_ble_eq_true rfl) dX1_init_29) (fun H locs cells slots hw hS => ?_)
    obtain ⟨S8, hS8, hm⟩ := ob_s hm
    refine xr_putR (v := (some (xTop S5))) X hw hS xc1 in_X1 tyX1_ok nmX1 2 (by decide) q281 rfl (tyX1_ok 2 (by decide)) rfl hS8 dX1_init_32 (fun H locs hw hS => ?_)
    refine lv_aload_n hx hb dX1_init_35 rfl (lv_at hl 0 rfl) ?_
    obtain ⟨S9, hS9, hm⟩ := ob_s hm
    refine xr_new (N := 16) X hw hS xc2 in_X3 tyX3_ok q204 q205 q120 (by intro j hj; exact df_X3 j hj) hS9 dX1_init_36 (fun H cells slots hw hS => ?_)
    refine lv_dup hx hb dX1_init_39 rfl ?_
    refine lv_aload_n hx hb dX1_init_40 rfl (lv_at hl 0 rfl) ?_
    obtain ⟨w10, hw10, hm⟩ := ob_s hm
    refine xr_retv hS (xr_runI X hw (met_X3_init N S9 (xTop S8) x0 w10 hw10) (x_ci X (lv := 0) (by omega) (by decide) rfl cx_X3_init (lw_meth q208) q120 q206 q207) rfl hl.1 rfl (Nat.le_of_ble_eq_true rfl) dX1_init_41) (fun H locs cells slots hw hS => ?_)
    obtain ⟨S11, hS11, hm⟩ := ob_s hm
    refine xr_putRF (v := (some (xTop S8))) X hw hS xc1 in_X1 tyX1_ok nmX1 3 (by decide) q282 rfl hnm rfl (tyX1_ok 3 (by decide)) rfl hS11 dX1_init_44 (fun H locs hw hS => ?_)
    refine lv_aload_n hx hb dX1_init_47 rfl (lv_at hl 0 rfl) ?_
    refine lv_sipush (v := 700) hx hb dX1_init_48 (by decide) ?_
    obtain ⟨S12, hS12, hm⟩ := ob_s hm
    refine xr_newI (atype := .byte) X hw hS (by decide) rfl rfl (by decide) q_arr_byte hS12 dX1_init_51 (fun H cells slots hw hS => ?_)
    obtain ⟨S13, hS13, hm⟩ := ob_s hm
    refine xr_putRF (v := (some (xTop S11))) X hw hS xc1 in_X1 tyX1_ok nmX1 4 (by decide) q284 rfl hnm rfl (tyX1_ok 4 (by decide)) rfl hS13 dX1_init_53 (fun H locs hw hS => ?_)
    refine lv_aload_n hx hb dX1_init_56 rfl (lv_at hl 0 rfl) ?_
    refine lv_iconst (v := (-1)) hx hb dX1_init_57 (by decide) ?_
    obtain ⟨S14, hS14, hm⟩ := ob_s hm
    refine xr_putI X hw hS xc1 in_X1 tyX1_ok nmX1 6 (by decide) q286 rfl (tyX1_ok 6 (by decide)) rfl rfl hS14 dX1_init_58 (fun H locs hw hS => ?_)
    refine lv_aload_n hx hb dX1_init_61 rfl (lv_at hl 0 rfl) ?_
    refine lv_iconst (v := 3) hx hb dX1_init_62 (by decide) ?_
    obtain ⟨S15, hS15, hm⟩ := ob_s hm
    refine xr_newI (atype := .int) X hw hS (by decide) rfl rfl (by decide) q_arr_int hS15 dX1_init_63 (fun H cells slots hw hS => ?_)
    obtain ⟨S16, hS16, hm⟩ := ob_s hm
    refine xr_putRF (v := (some (xTop S14))) X hw hS xc1 in_X1 tyX1_ok nmX1 7 (by decide) q287 rfl hnm rfl (tyX1_ok 7 (by decide)) rfl hS16 dX1_init_65 (fun H locs hw hS => ?_)
    refine lv_aload_n hx hb dX1_init_68 rfl (lv_at hl 0 rfl) ?_
    obtain ⟨S17, hS17, hm⟩ := ob_s hm
    refine xr_new (N := 3) X hw hS xc10 in_J2 tyJ2_ok q275 q163 q119 (by intro j hj; exact df_J2 j hj) hS17 dX1_init_69 (fun H cells slots hw hS => ?_)
    refine lv_dup hx hb dX1_init_72 rfl ?_
    obtain ⟨w18, hw18, hm⟩ := ob_s hm
    refine xr_retv hS (xr_runI X hw (met_J2_init N S17 (xTop S16) w18 hw18) (x_ci X (lv := 2) (by omega) (by decide) rfl cx_J2_init (lw_meth q166) q119 q276 q165) rfl hl.1 rfl (Nat.le_of_ble_eq_true rfl) dX1_init_73) (fun H locs cells slots hw hS => ?_)
    obtain ⟨S19, hS19, hm⟩ := ob_s hm
    refine xr_putR (v := (some (xTop S16))) X hw hS xc1 in_X1 tyX1_ok nmX1 8 (by decide) q288 rfl (tyX1_ok 8 (by decide)) rfl hS19 dX1_init_76 (fun H locs hw hS => ?_)
    refine lv_aload_n hx hb dX1_init_79 rfl (lv_at hl 0 rfl) ?_
    obtain ⟨S20, hS20, hm⟩ := ob_s hm
    refine xr_new (N := 3) X hw hS xc10 in_J2 tyJ2_ok q275 q163 q119 (by intro j hj; exact df_J2 j hj) hS20 dX1_init_80 (fun H cells slots hw hS => ?_)
    refine lv_dup hx hb dX1_init_83 rfl ?_
    obtain ⟨w21, hw21, hm⟩ := ob_s hm
    refine xr_retv hS (xr_runI X hw (met_J2_init N S20 (xTop S19) w21 hw21) (x_ci X (lv := 2) (by omega) (by decide) rfl cx_J2_init (lw_meth q166) q119 q276 q165) rfl hl.1 rfl (Nat.le_of_ble_eq_true rfl) dX1_init_84) (fun H locs cells slots hw hS => ?_)
    obtain ⟨S22, hS22, hm⟩ := ob_s hm
    refine xr_putR (v := (some (xTop S19))) X hw hS xc1 in_X1 tyX1_ok nmX1 9 (by decide) q289 rfl (tyX1_ok 9 (by decide)) rfl hS22 dX1_init_87 (fun H locs hw hS => ?_)
    obtain ⟨S23, hS23, hm⟩ := ob_s hm
    replace hw := xW_adopt hw hS23
    obtain rfl := Option.some.inj hm
    exact xr_vret X hr hlk hw hS dX1_init_90
  exact hg _ _ _ _ hw va_S.rf
/-! DripCups.feed -/
def kX_X1_feed_71 (g : XC) (N : Nat) (K18 : XS → Nat → Int32 → Int32 → Int32 → Int32 → Int32 → Int32 → Option (XS × Int32)) (S : XS) (x0 : Nat) (x1 : Int32) (x2 : Int32) (x3 : Int32) (x4 : Int32) (x5 : Int32) (x6 : Int32) (t0 : Int32) : Option (XS × Int32) :=
  (f_obj S 1 x0 4).bind fun v1 =>
  (f_int S 1 x0 5).bind fun v2 =>
  bnd (x6 - x6 / 4 * 4) fun v3 =>
  (a_putI S 1 v1 (v2 + x6) (vp_nar .byte (((t0 >>> ((24 - (8 * v3)) &&& 31)) : Int32).toInt8.toInt32))).bind fun S4 =>
  K18 S4 x0 x1 x2 x3 x4 x5 (x6 + 1)
theorem wkX_X1_feed_71 {p : Program} {l : Launch} {e : Env} {s : State} {m : MethodId} {args : Array Value} {below : List Frame} {meth : Method} {c : Code} {g : XC} {D : va_G} {A : Nat → Prop} {S0 : XS} {w : XS × Int32} (X : xX g D A RX1 S0 p s m args c cX1_feed 8) (hr : meth.sig.returnType = (Option.some Jvm.ClassFile.FieldType.int)) (hlk : meth.locks = false) (hnm : meth.name = yX1_feed.name) (N : Nat) (K18 : XS → Nat → Int32 → Int32 → Int32 → Int32 → Int32 → Int32 → Option (XS × Int32))
    (hK18 : ∀ (S : XS) (x0 : Nat) (x1 : Int32) (x2 : Int32) (x3 : Int32) (x4 : Int32) (x5 : Int32) (x6 : Int32) (H : Heap) (locs : List Loc) (ls : Array Slot) (cells slots : Nat), K18 S x0 x1 x2 x3 x4 x5 x6 = some w → xW g D A S s H → va_S A s.heap H locs → lv_has ls 8 [(0, .ref x0), (1, .int x1), (2, .int x2), (3, .int x3), (4, .int x4), (5, .int x5), (6, .int x6)] → W p l e (xRm g S0 0) s m args below meth c H locs cells slots (MQ below (xQi g D A w) args s (g.2.1 - xTop S0) (g.2.2.1 - xSl S0) A) (F0 m 18 ls [])) :
    ∀ (S : XS) (x0 : Nat) (x1 : Int32) (x2 : Int32) (x3 : Int32) (x4 : Int32) (x5 : Int32) (x6 : Int32) (t0 : Int32) (H : Heap) (locs : List Loc) (ls : Array Slot) (cells slots : Nat), kX_X1_feed_71 g N K18 S x0 x1 x2 x3 x4 x5 x6 t0 = some w → xW g D A S s H → va_S A s.heap H locs → lv_has ls 8 [(0, .ref x0), (1, .int x1), (2, .int x2), (3, .int x3), (4, .int x4), (5, .int x5), (6, .int x6)] → W p l e (xRm g S0 0) s m args below meth c H locs cells slots (MQ below (xQi g D A w) args s (g.2.1 - xTop S0) (g.2.2.1 - xSl S0) A) (F0 m 71 ls [.int t0]) := by
  obtain ⟨hx, hb, -, hown, hts, -⟩ := id X
  intro S x0 x1 x2 x3 x4 x5 x6 t0 H locs ls cells slots hm hw hS hl
  unfold kX_X1_feed_71 at hm
  refine lv_istore (lv' := [(7, .int t0), (0, .ref x0), (1, .int x1), (2, .int x2), (3, .int x3), (4, .int x4), (5, .int x5), (6, .int x6)]) hx hb dX1_feed_71 hl (by decide) rfl (fun ls hl => ?_)
  refine lv_aload_n hx hb dX1_feed_73 rfl (lv_at hl 1 rfl) ?_
  obtain ⟨v1, hv1, hm⟩ := ob_s hm
  refine xr_val X hw xc1 in_X1 4 (by decide) q284 (f_obj_s hv1) dX1_feed_74 ?_
  refine lv_aload_n hx hb dX1_feed_77 rfl (lv_at hl 1 rfl) ?_
  obtain ⟨v2, hv2, hm⟩ := ob_s hm
  refine xr_val X hw xc1 in_X1 5 (by decide) q285 (f_int_s hv2) dX1_feed_78 ?_
  refine lv_iload hx hb dX1_feed_81 (lv_at hl 7 rfl) ?_
  refine lv_iadd hx hb dX1_feed_83 ?_
  refine lv_iload hx hb dX1_feed_84 (lv_at hl 0 rfl) ?_
  refine lv_bipush (v := 24) hx hb dX1_feed_86 (by decide) ?_
  refine lv_bipush (v := 8) hx hb dX1_feed_88 (by decide) ?_
  refine lv_iload hx hb dX1_feed_90 (lv_at hl 7 rfl) ?_
  refine lv_iconst (v := 4) hx hb dX1_feed_92 (by decide) ?_
  refine lv_irem hx hb dX1_feed_93 (by decide) ?_
  refine lv_topi (fun v3 ev3 => ?_)
  replace hm := bnd_s hm ev3
  refine lv_imul hx hb dX1_feed_94 ?_
  refine lv_isub hx hb dX1_feed_95 ?_
  refine lv_ishr hx hb dX1_feed_96 ?_
  refine lv_i2b hx hb dX1_feed_97 rfl ?_
  obtain ⟨S4, hS4, hm⟩ := ob_s hm
  refine xr_bast X hw hS hS4 dX1_feed_98 (fun H locs hw hS => ?_)
  refine lv_iinc (v := (x6 + 1)) (lv' := [(6, .int (x6 + 1)), (7, .int t0), (0, .ref x0), (1, .int x1), (2, .int x2), (3, .int x3), (4, .int x4), (5, .int x5)]) hx hb dX1_feed_99 hl (k := 7) rfl rfl (by decide) rfl (fun ls hl => ?_)
  refine lv_goto (tgt := 18) hx hb dX1_feed_102 (by decide) ?_
  exact hK18 S4 x0 x1 x2 x3 x4 x5 (x6 + 1) H locs ls _ _ hm hw hS (lv_sub hl [2, 3, 4, 5, 6, 7, 0] rfl)
def kX_X1_feed_18 (g : XC) (N : Nat) : Nat → XS → Nat → Int32 → Int32 → Int32 → Int32 → Int32 → Int32 → Option (XS × Int32)
  | 0, _, _, _, _, _, _, _, _ => none
  | n + 1, S, x0, x1, x2, x3, x4, x5, x6 =>
    if (20 : Int32) ≤ x6 then
      (f_int S 1 x0 5).bind fun v2 =>
      (f_putI S 1 x0 5 (v2 + 20)).bind fun S3 =>
      (f_int S3 1 x0 5).bind fun v4 =>
      some (S3, v4)
    else
      if (4 : Int32) ≤ x6 then
        if (8 : Int32) ≤ x6 then
          if (12 : Int32) ≤ x6 then
            if (16 : Int32) ≤ x6 then
              kX_X1_feed_71 g N (kX_X1_feed_18 g N n) S x0 x1 x2 x3 x4 x5 x6 x5
            else
              kX_X1_feed_71 g N (kX_X1_feed_18 g N n) S x0 x1 x2 x3 x4 x5 x6 x4
          else
            kX_X1_feed_71 g N (kX_X1_feed_18 g N n) S x0 x1 x2 x3 x4 x5 x6 x3
        else
          kX_X1_feed_71 g N (kX_X1_feed_18 g N n) S x0 x1 x2 x3 x4 x5 x6 x2
      else
        kX_X1_feed_71 g N (kX_X1_feed_18 g N n) S x0 x1 x2 x3 x4 x5 x6 x1
theorem wkX_X1_feed_18 {p : Program} {l : Launch} {e : Env} {s : State} {m : MethodId} {args : Array Value} {below : List Frame} {meth : Method} {c : Code} {g : XC} {D : va_G} {A : Nat → Prop} {S0 : XS} {w : XS × Int32} (X : xX g D A RX1 S0 p s m args c cX1_feed 8) (hr : meth.sig.returnType = (Option.some Jvm.ClassFile.FieldType.int)) (hlk : meth.locks = false) (hnm : meth.name = yX1_feed.name) (N : Nat) :
    ∀ (n : Nat) (S : XS) (x0 : Nat) (x1 : Int32) (x2 : Int32) (x3 : Int32) (x4 : Int32) (x5 : Int32) (x6 : Int32) (H : Heap) (locs : List Loc) (ls : Array Slot) (cells slots : Nat), kX_X1_feed_18 g N n S x0 x1 x2 x3 x4 x5 x6 = some w → xW g D A S s H → va_S A s.heap H locs → lv_has ls 8 [(0, .ref x0), (1, .int x1), (2, .int x2), (3, .int x3), (4, .int x4), (5, .int x5), (6, .int x6)] → W p l e (xRm g S0 0) s m args below meth c H locs cells slots (MQ below (xQi g D A w) args s (g.2.1 - xTop S0) (g.2.2.1 - xSl S0) A) (F0 m 18 ls []) := by
  obtain ⟨hx, hb, -, hown, hts, -⟩ := id X
  intro n
  induction n with
  | zero =>
    intro S x0 x1 x2 x3 x4 x5 x6 H locs ls cells slots hm
    cases hm
  | succ n ih =>
    intro S x0 x1 x2 x3 x4 x5 x6 H locs ls cells slots hm hw hS hl
    rw [kX_X1_feed_18] at hm
    refine lv_iload hx hb dX1_feed_18 (lv_at hl 6 rfl) ?_
    refine lv_bipush (v := 20) hx hb dX1_feed_20 (by decide) ?_
    refine lv_icmp_ge (tgt := 105) hx hb dX1_feed_22 (by decide) (fun c1 => ?_) (fun c1 => ?_)
    · replace hm := if_t c1 hm
      refine lv_aload_n hx hb dX1_feed_105 rfl (lv_at hl 0 rfl) ?_
      refine lv_dup hx hb dX1_feed_106 rfl ?_
      obtain ⟨v2, hv2, hm⟩ := ob_s hm
      refine xr_val X hw xc1 in_X1 5 (by decide) q285 (f_int_s hv2) dX1_feed_107 ?_
      refine lv_bipush (v := 20) hx hb dX1_feed_110 (by decide) ?_
      refine lv_iadd hx hb dX1_feed_112 ?_
      obtain ⟨S3, hS3, hm⟩ := ob_s hm
      refine xr_putI X hw hS xc1 in_X1 tyX1_ok nmX1 5 (by decide) q285 rfl (tyX1_ok 5 (by decide)) rfl rfl hS3 dX1_feed_113 (fun H locs hw hS => ?_)
      refine lv_aload_n hx hb dX1_feed_116 rfl (lv_at hl 0 rfl) ?_
      obtain ⟨v4, hv4, hm⟩ := ob_s hm
      refine xr_val X hw xc1 in_X1 5 (by decide) q285 (f_int_s hv4) dX1_feed_117 ?_
      obtain rfl := Option.some.inj hm
      exact xr_iret (v := v4) X hr hlk hw hS rfl dX1_feed_120
    · replace hm := if_f c1 hm
      refine lv_iload hx hb dX1_feed_25 (lv_at hl 6 rfl) ?_
      refine lv_iconst (v := 4) hx hb dX1_feed_27 (by decide) ?_
      refine lv_icmp_ge (tgt := 35) hx hb dX1_feed_28 (by decide) (fun c5 => ?_) (fun c5 => ?_)
      · replace hm := if_t c5 hm
        refine lv_iload hx hb dX1_feed_35 (lv_at hl 6 rfl) ?_
        refine lv_bipush (v := 8) hx hb dX1_feed_37 (by decide) ?_
        refine lv_icmp_ge (tgt := 46) hx hb dX1_feed_39 (by decide) (fun c6 => ?_) (fun c6 => ?_)
        · replace hm := if_t c6 hm
          refine lv_iload hx hb dX1_feed_46 (lv_at hl 6 rfl) ?_
          refine lv_bipush (v := 12) hx hb dX1_feed_48 (by decide) ?_
          refine lv_icmp_ge (tgt := 57) hx hb dX1_feed_50 (by decide) (fun c7 => ?_) (fun c7 => ?_)
          · replace hm := if_t c7 hm
            refine lv_iload hx hb dX1_feed_57 (lv_at hl 6 rfl) ?_
            refine lv_bipush (v := 16) hx hb dX1_feed_59 (by decide) ?_
            refine lv_icmp_ge (tgt := 69) hx hb dX1_feed_61 (by decide) (fun c8 => ?_) (fun c8 => ?_)
            · replace hm := if_t c8 hm
              refine lv_iload hx hb dX1_feed_69 (lv_at hl 5 rfl) ?_
              exact wkX_X1_feed_71 X hr hlk hnm N (kX_X1_feed_18 g N n) ih S x0 x1 x2 x3 x4 x5 x6 x5 H locs ls _ _ hm hw hS (lv_sub hl [0, 1, 2, 3, 4, 5, 6] rfl)
            · replace hm := if_f c8 hm
              refine lv_iload hx hb dX1_feed_64 (lv_at hl 4 rfl) ?_
              refine lv_goto (tgt := 71) hx hb dX1_feed_66 (by decide) ?_
              exact wkX_X1_feed_71 X hr hlk hnm N (kX_X1_feed_18 g N n) ih S x0 x1 x2 x3 x4 x5 x6 x4 H locs ls _ _ hm hw hS (lv_sub hl [0, 1, 2, 3, 4, 5, 6] rfl)
          · replace hm := if_f c7 hm
            refine lv_iload_n hx hb dX1_feed_53 rfl (lv_at hl 3 rfl) ?_
            refine lv_goto (tgt := 71) hx hb dX1_feed_54 (by decide) ?_
            exact wkX_X1_feed_71 X hr hlk hnm N (kX_X1_feed_18 g N n) ih S x0 x1 x2 x3 x4 x5 x6 x3 H locs ls _ _ hm hw hS (lv_sub hl [0, 1, 2, 3, 4, 5, 6] rfl)
        · replace hm := if_f c6 hm
          refine lv_iload_n hx hb dX1_feed_42 rfl (lv_at hl 2 rfl) ?_
          refine lv_goto (tgt := 71) hx hb dX1_feed_43 (by decide) ?_
          exact wkX_X1_feed_71 X hr hlk hnm N (kX_X1_feed_18 g N n) ih S x0 x1 x2 x3 x4 x5 x6 x2 H locs ls _ _ hm hw hS (lv_sub hl [0, 1, 2, 3, 4, 5, 6] rfl)
      · replace hm := if_f c5 hm
        refine lv_iload_n hx hb dX1_feed_31 rfl (lv_at hl 1 rfl) ?_
        refine lv_goto (tgt := 71) hx hb dX1_feed_32 (by decide) ?_
        exact wkX_X1_feed_71 X hr hlk hnm N (kX_X1_feed_18 g N n) ih S x0 x1 x2 x3 x4 x5 x6 x1 H locs ls _ _ hm hw hS (lv_sub hl [0, 1, 2, 3, 4, 5, 6] rfl)
def kX_X1_feed (g : XC) (N : Nat) (S : XS) (x0 : Nat) (x1 : Int32) (x2 : Int32) (x3 : Int32) (x4 : Int32) (x5 : Int32) : Option (XS × Int32) :=
  (f_int S 1 x0 5).bind fun v1 =>
  if (v1 + 20) ≤ 700 then
    kX_X1_feed_18 g N N S x0 x1 x2 x3 x4 x5 0
  else
    some (S, (-1))
theorem cx_X1_feed : yX1_feed.cls = RX1 ∧ yX1_feed.cls ≠ "java/lang/invoke/MethodHandle" ∧ yX1_feed.cls ≠ "java/lang/invoke/VarHandle" ∧ (parseMethodDescriptor yX1_feed.desc).map (fun d => d.parameters.length) = some 5 := by decide +kernel
theorem met_X1_feed {l : Launch} {g : XC} {D : va_G} {A : Nat → Prop} (N : Nat) (S : XS) (x0 : Nat) (x1 : Int32) (x2 : Int32) (x3 : Int32) (x4 : Int32) (x5 : Int32) (w : XS × Int32) (hm : kX_X1_feed g N S x0 x1 x2 x3 x4 x5 = some w) : Met l yX1_feed (ws_ yX1_feed cX1_feed 8 (Option.some Jvm.ClassFile.FieldType.int)) (xRm g S 0) (xPre g D A [.ref x0, .int x1, .int x2, .int x3, .int x4, .int x5] S) (xQi g D A w) (g.2.1 - xTop S) (g.2.2.1 - xSl S) A := by
  refine x_start (own := RX1) (by decide +kernel) rfl (Nat.le_of_ble_eq_true rfl) (fun p e s m below meth c ls X hr hlk hnm hw hl => ?_)
  obtain ⟨hx, hb, -, hown, hts, -⟩ := id X
  have hl : lv_has ls 8 [(0, .ref x0), (1, .int x1), (2, .int x2), (3, .int x3), (4, .int x4), (5, .int x5)] := hl
  have hg : ∀ (H : Heap) (locs : List Loc) (cells slots : Nat), xW g D A S s H → va_S A s.heap H locs → W p l e (xRm g S 0) s m ([.ref x0, .int x1, .int x2, .int x3, .int x4, .int x5] : List Value).toArray below meth c H locs cells slots (MQ below (xQi g D A w) ([.ref x0, .int x1, .int x2, .int x3, .int x4, .int x5] : List Value).toArray s (g.2.1 - xTop S) (g.2.2.1 - xSl S) A) (F0 m 0 ls []) := by
    intro H locs cells slots hw hS
    unfold kX_X1_feed at hm
    refine lv_aload_n hx hb dX1_feed_0 rfl (lv_at hl 0 rfl) ?_
    obtain ⟨v1, hv1, hm⟩ := ob_s hm
    refine xr_val X hw xc1 in_X1 5 (by decide) q285 (f_int_s hv1) dX1_feed_1 ?_
    refine lv_bipush (v := 20) hx hb dX1_feed_4 (by decide) ?_
    refine lv_iadd hx hb dX1_feed_6 ?_
    refine lv_sipush (v := 700) hx hb dX1_feed_7 (by decide) ?_
    refine lv_icmp_le (tgt := 15) hx hb dX1_feed_10 (by decide) (fun c2 => ?_) (fun c2 => ?_)
    · replace hm := if_t c2 hm
      refine lv_iconst (v := 0) hx hb dX1_feed_15 (by decide) ?_
      refine lv_istore (lv' := [(6, .int 0), (0, .ref x0), (1, .int x1), (2, .int x2), (3, .int x3), (4, .int x4), (5, .int x5)]) hx hb dX1_feed_16 hl (by decide) rfl (fun ls hl => ?_)
      exact wkX_X1_feed_18 X hr hlk hnm N N S x0 x1 x2 x3 x4 x5 0 H locs ls _ _ hm hw hS (lv_sub hl [1, 2, 3, 4, 5, 6, 0] rfl)
    · replace hm := if_f c2 hm
      refine lv_iconst (v := (-1)) hx hb dX1_feed_13 (by decide) ?_
      obtain rfl := Option.some.inj hm
      exact xr_iret (v := (-1)) X hr hlk hw hS rfl dX1_feed_14
  exact hg _ _ _ _ hw va_S.rf
/-! DripCups.fault -/
def kX_X1_fault (g : XC) (N : Nat) (S : XS) (x0 : Nat) : Option (XS × Int32) :=
  (f_int S 1 x0 6).bind fun v1 =>
  some (S, v1)
theorem cx_X1_fault : yX1_fault.cls = RX1 ∧ yX1_fault.cls ≠ "java/lang/invoke/MethodHandle" ∧ yX1_fault.cls ≠ "java/lang/invoke/VarHandle" ∧ (parseMethodDescriptor yX1_fault.desc).map (fun d => d.parameters.length) = some 0 := by decide +kernel
theorem met_X1_fault {l : Launch} {g : XC} {D : va_G} {A : Nat → Prop} (N : Nat) (S : XS) (x0 : Nat) (w : XS × Int32) (hm : kX_X1_fault g N S x0 = some w) : Met l yX1_fault (ws_ yX1_fault cX1_fault 1 (Option.some Jvm.ClassFile.FieldType.int)) (xRm g S 0) (xPre g D A [.ref x0] S) (xQi g D A w) (g.2.1 - xTop S) (g.2.2.1 - xSl S) A := by
  refine x_start (own := RX1) (by decide +kernel) rfl (Nat.le_of_ble_eq_true rfl) (fun p e s m below meth c ls X hr hlk hnm hw hl => ?_)
  obtain ⟨hx, hb, -, hown, hts, -⟩ := id X
  have hl : lv_has ls 1 [(0, .ref x0)] := hl
  have hg : ∀ (H : Heap) (locs : List Loc) (cells slots : Nat), xW g D A S s H → va_S A s.heap H locs → W p l e (xRm g S 0) s m ([.ref x0] : List Value).toArray below meth c H locs cells slots (MQ below (xQi g D A w) ([.ref x0] : List Value).toArray s (g.2.1 - xTop S) (g.2.2.1 - xSl S) A) (F0 m 0 ls []) := by
    intro H locs cells slots hw hS
    unfold kX_X1_fault at hm
    refine lv_aload_n hx hb dX1_fault_0 rfl (lv_at hl 0 rfl) ?_
    obtain ⟨v1, hv1, hm⟩ := ob_s hm
    refine xr_val X hw xc1 in_X1 6 (by decide) q286 (f_int_s hv1) dX1_fault_1 ?_
    obtain rfl := Option.some.inj hm
    exact xr_iret (v := v1) X hr hlk hw hS rfl dX1_fault_4
  exact hg _ _ _ _ hw va_S.rf
/-! DripCups.in -/
def kX_X1_in (g : XC) (N : Nat) (x0 : Int32) (x1 : Int32) (x2 : Int32) : Option (Int32) :=
  if x0 < x1 then
    some 0
  else
    if x2 < x0 then
      some 0
    else
      some 1
theorem cx_X1_in : yX1_in.cls ≠ "java/lang/invoke/MethodHandle" ∧ yX1_in.cls ≠ "java/lang/invoke/VarHandle" ∧ (parseMethodDescriptor yX1_in.desc).map (fun d => d.parameters.length) = some 3 := by decide +kernel
theorem met_X1_in {l : Launch} {g : XC} {D : va_G} {A : Nat → Prop} (N : Nat) (S : XS) (x0 : Int32) (x1 : Int32) (x2 : Int32) (w : Int32) (hm : kX_X1_in g N x0 x1 x2 = some w) : Met l yX1_in (ws_ yX1_in cX1_in 3 (Option.some Jvm.ClassFile.FieldType.boolean)) (xRm g S 0) (xPre g D A [.int x0, .int x1, .int x2] S) (xQi g D A (S, w)) (g.2.1 - xTop S) (g.2.2.1 - xSl S) A := by
  refine x_start (own := RX1) (by decide +kernel) rfl (Nat.le_of_ble_eq_true rfl) (fun p e s m below meth c ls X hr hlk hnm hw hl => ?_)
  obtain ⟨hx, hb, -, hown, hts, -⟩ := id X
  have hl : lv_has ls 3 [(0, .int x0), (1, .int x1), (2, .int x2)] := hl
  have hg : ∀ (H : Heap) (locs : List Loc) (cells slots : Nat), xW g D A S s H → va_S A s.heap H locs → W p l e (xRm g S 0) s m ([.int x0, .int x1, .int x2] : List Value).toArray below meth c H locs cells slots (MQ below (xQi g D A (S, w)) ([.int x0, .int x1, .int x2] : List Value).toArray s (g.2.1 - xTop S) (g.2.2.1 - xSl S) A) (F0 m 0 ls []) := by
    intro H locs cells slots hw hS
    unfold kX_X1_in at hm
    refine lv_iload_n hx hb dX1_in_0 rfl (lv_at hl 0 rfl) ?_
    refine lv_iload_n hx hb dX1_in_1 rfl (lv_at hl 1 rfl) ?_
    refine lv_icmp_lt (tgt := 14) hx hb dX1_in_2 (by decide) (fun c1 => ?_) (fun c1 => ?_)
    · replace hm := if_t c1 hm
      refine lv_iconst (v := 0) hx hb dX1_in_14 (by decide) ?_
      obtain rfl := Option.some.inj hm
      exact xr_iret (v := 0) X hr hlk hw hS rfl dX1_in_15
    · replace hm := if_f c1 hm
      refine lv_iload_n hx hb dX1_in_5 rfl (lv_at hl 0 rfl) ?_
      refine lv_iload_n hx hb dX1_in_6 rfl (lv_at hl 2 rfl) ?_
      refine lv_icmp_gt (tgt := 14) hx hb dX1_in_7 (by decide) (fun c2 => ?_) (fun c2 => ?_)
      · replace hm := if_t c2 hm
        refine lv_iconst (v := 0) hx hb dX1_in_14 (by decide) ?_
        obtain rfl := Option.some.inj hm
        exact xr_iret (v := 0) X hr hlk hw hS rfl dX1_in_15
      · replace hm := if_f c2 hm
        refine lv_iconst (v := 1) hx hb dX1_in_10 (by decide) ?_
        refine lv_goto (tgt := 15) hx hb dX1_in_11 (by decide) ?_
        obtain rfl := Option.some.inj hm
        exact xr_iret (v := 1) X hr hlk hw hS rfl dX1_in_15
  exact hg _ _ _ _ hw va_S.rf
/-! DripCups$Night.be -/
def kX_X3_be_2 (g : XC) (N : Nat) : Nat → XS → Nat → Nat → Int32 → Option (XS × Nat)
  | 0, _, _, _, _ => none
  | n + 1, S, x0, x1, x2 =>
    if (9 : Int32) ≤ x2 then
      (f_int S 2 x1 6).bind fun v2 =>
      (f_putI S 2 x0 6 v2).bind fun S3 =>
      (f_int S3 2 x1 7).bind fun v4 =>
      (f_putI S3 2 x0 7 v4).bind fun S5 =>
      (f_putI S5 2 x0 8 0).bind fun S6 =>
      (f_putI S6 2 x0 9 0).bind fun S7 =>
      (f_putI S7 2 x0 10 0).bind fun S8 =>
      (f_putI S8 2 x0 14 0).bind fun S9 =>
      some (S9, x0)
    else
      (f_obj S 2 x0 0).bind fun v10 =>
      (f_obj S 2 x1 0).bind fun v11 =>
      (a_int S 0 v11 x2).bind fun v12 =>
      (a_putI S 0 v10 x2 v12).bind fun S13 =>
      (f_obj S13 2 x0 1).bind fun v14 =>
      (f_obj S13 2 x1 1).bind fun v15 =>
      (a_int S13 0 v15 x2).bind fun v16 =>
      (a_putI S13 0 v14 x2 v16).bind fun S17 =>
      (f_obj S17 2 x0 2).bind fun v18 =>
      (f_obj S17 2 x1 2).bind fun v19 =>
      (a_int S17 0 v19 x2).bind fun v20 =>
      (a_putI S17 0 v18 x2 v20).bind fun S21 =>
      (f_obj S21 2 x0 3).bind fun v22 =>
      (f_obj S21 2 x1 3).bind fun v23 =>
      (a_int S21 0 v23 x2).bind fun v24 =>
      (a_putI S21 0 v22 x2 v24).bind fun S25 =>
      (f_obj S25 2 x0 4).bind fun v26 =>
      (f_obj S25 2 x1 4).bind fun v27 =>
      (a_int S25 0 v27 x2).bind fun v28 =>
      (a_putI S25 0 v26 x2 v28).bind fun S29 =>
      (f_obj S29 2 x0 5).bind fun v30 =>
      (f_obj S29 2 x1 5).bind fun v31 =>
      (a_int S29 0 v31 x2).bind fun v32 =>
      (a_putI S29 0 v30 x2 v32).bind fun S33 =>
      (f_obj S33 2 x0 11).bind fun v34 =>
      (a_putI S33 0 v34 x2 0).bind fun S35 =>
      kX_X3_be_2 g N n S35 x0 x1 (x2 + 1)
theorem wkX_X3_be_2 {p : Program} {l : Launch} {e : Env} {s : State} {m : MethodId} {args : Array Value} {below : List Frame} {meth : Method} {c : Code} {g : XC} {D : va_G} {A : Nat → Prop} {S0 : XS} {w : XS × Nat} (X : xX g D A RX3 S0 p s m args c cX3_be 3) (hr : meth.sig.returnType = (Option.some (Jvm.ClassFile.FieldType.object "DripCups$Night"))) (hlk : meth.locks = false) (hnm : meth.name = yX3_be.name) (N : Nat) :
    ∀ (n : Nat) (S : XS) (x0 : Nat) (x1 : Nat) (x2 : Int32) (H : Heap) (locs : List Loc) (ls : Array Slot) (cells slots : Nat), kX_X3_be_2 g N n S x0 x1 x2 = some w → xW g D A S s H → va_S A s.heap H locs → lv_has ls 3 [(0, .ref x0), (1, .ref x1), (2, .int x2)] → W p l e (xRm g S0 0) s m args below meth c H locs cells slots (MQ below (xQr g D A w) args s (g.2.1 - xTop S0) (g.2.2.1 - xSl S0) A) (F0 m 2 ls []) := by
  obtain ⟨hx, hb, -, hown, hts, -⟩ := id X
  intro n
  induction n with
  | zero =>
    intro S x0 x1 x2 H locs ls cells slots hm
    cases hm
  | succ n ih =>
    intro S x0 x1 x2 H locs ls cells slots hm hw hS hl
    rw [kX_X3_be_2] at hm
    refine lv_iload_n hx hb dX3_be_2 rfl (lv_at hl 2 rfl) ?_
    refine lv_bipush (v := 9) hx hb dX3_be_3 (by decide) ?_
    refine lv_icmp_ge (tgt := 93) hx hb dX3_be_5 (by decide) (fun c1 => ?_) (fun c1 => ?_)
    · replace hm := if_t c1 hm
      refine lv_aload_n hx hb dX3_be_93 rfl (lv_at hl 0 rfl) ?_
      refine lv_aload_n hx hb dX3_be_94 rfl (lv_at hl 1 rfl) ?_
      obtain ⟨v2, hv2, hm⟩ := ob_s hm
      refine xr_val X hw xc2 in_X3 6 (by decide) q225 (f_int_s hv2) dX3_be_95 ?_
      obtain ⟨S3, hS3, hm⟩ := ob_s hm
      refine xr_putI X hw hS xc2 in_X3 tyX3_ok nmX3 6 (by decide) q225 rfl (tyX3_ok 6 (by decide)) rfl rfl hS3 dX3_be_98 (fun H locs hw hS => ?_)
      refine lv_aload_n hx hb dX3_be_101 rfl (lv_at hl 0 rfl) ?_
      refine lv_aload_n hx hb dX3_be_102 rfl (lv_at hl 1 rfl) ?_
      obtain ⟨v4, hv4, hm⟩ := ob_s hm
      refine xr_val X hw xc2 in_X3 7 (by decide) q227 (f_int_s hv4) dX3_be_103 ?_
      obtain ⟨S5, hS5, hm⟩ := ob_s hm
      refine xr_putI X hw hS xc2 in_X3 tyX3_ok nmX3 7 (by decide) q227 rfl (tyX3_ok 7 (by decide)) rfl rfl hS5 dX3_be_106 (fun H locs hw hS => ?_)
      refine lv_aload_n hx hb dX3_be_109 rfl (lv_at hl 0 rfl) ?_
      refine lv_iconst (v := 0) hx hb dX3_be_110 (by decide) ?_
      obtain ⟨S6, hS6, hm⟩ := ob_s hm
      refine xr_putI X hw hS xc2 in_X3 tyX3_ok nmX3 8 (by decide) q229 rfl (tyX3_ok 8 (by decide)) rfl rfl hS6 dX3_be_111 (fun H locs hw hS => ?_)
      refine lv_aload_n hx hb dX3_be_114 rfl (lv_at hl 0 rfl) ?_
      refine lv_iconst (v := 0) hx hb dX3_be_115 (by decide) ?_
      obtain ⟨S7, hS7, hm⟩ := ob_s hm
      refine xr_putI X hw hS xc2 in_X3 tyX3_ok nmX3 9 (by decide) q230 rfl (tyX3_ok 9 (by decide)) rfl rfl hS7 dX3_be_116 (fun H locs hw hS => ?_)
      refine lv_aload_n hx hb dX3_be_119 rfl (lv_at hl 0 rfl) ?_
      refine lv_iconst (v := 0) hx hb dX3_be_120 (by decide) ?_
      obtain ⟨S8, hS8, hm⟩ := ob_s hm
      refine xr_putI X hw hS xc2 in_X3 tyX3_ok nmX3 10 (by decide) q232 rfl (tyX3_ok 10 (by decide)) rfl rfl hS8 dX3_be_121 (fun H locs hw hS => ?_)
      refine lv_aload_n hx hb dX3_be_124 rfl (lv_at hl 0 rfl) ?_
      refine lv_iconst (v := 0) hx hb dX3_be_125 (by decide) ?_
      obtain ⟨S9, hS9, hm⟩ := ob_s hm
      refine xr_putI X hw hS xc2 in_X3 tyX3_ok nmX3 14 (by decide) q239 rfl (tyX3_ok 14 (by decide)) rfl rfl hS9 dX3_be_126 (fun H locs hw hS => ?_)
      refine lv_aload_n hx hb dX3_be_129 rfl (lv_at hl 0 rfl) ?_
      obtain rfl := Option.some.inj hm
      exact xr_aret X hr (by first | exact Or.inl ⟨_, rfl⟩ | exact Or.inr ⟨_, rfl⟩) hlk hw hS dX3_be_130
    · replace hm := if_f c1 hm
      refine lv_aload_n hx hb dX3_be_8 rfl (lv_at hl 0 rfl) ?_
      obtain ⟨v10, hv10, hm⟩ := ob_s hm
      refine xr_val X hw xc2 in_X3 0 (by decide) q210 (f_obj_s hv10) dX3_be_9 ?_
      refine lv_iload_n hx hb dX3_be_12 rfl (lv_at hl 2 rfl) ?_
      refine lv_aload_n hx hb dX3_be_13 rfl (lv_at hl 1 rfl) ?_
      obtain ⟨v11, hv11, hm⟩ := ob_s hm
      refine xr_val X hw xc2 in_X3 0 (by decide) q210 (f_obj_s hv11) dX3_be_14 ?_
      refine lv_iload_n hx hb dX3_be_17 rfl (lv_at hl 2 rfl) ?_
      obtain ⟨v12, hv12, hm⟩ := ob_s hm
      refine xr_iald X hw hv12 dX3_be_18 ?_
      obtain ⟨S13, hS13, hm⟩ := ob_s hm
      refine xr_iast X hw hS hS13 dX3_be_19 (fun H locs hw hS => ?_)
      refine lv_aload_n hx hb dX3_be_20 rfl (lv_at hl 0 rfl) ?_
      obtain ⟨v14, hv14, hm⟩ := ob_s hm
      refine xr_val X hw xc2 in_X3 1 (by decide) q213 (f_obj_s hv14) dX3_be_21 ?_
      refine lv_iload_n hx hb dX3_be_24 rfl (lv_at hl 2 rfl) ?_
      refine lv_aload_n hx hb dX3_be_25 rfl (lv_at hl 1 rfl) ?_
      obtain ⟨v15, hv15, hm⟩ := ob_s hm
      refine xr_val X hw xc2 in_X3 1 (by decide) q213 (f_obj_s hv15) dX3_be_26 ?_
      refine lv_iload_n hx hb dX3_be_29 rfl (lv_at hl 2 rfl) ?_
      obtain ⟨v16, hv16, hm⟩ := ob_s hm
      refine xr_iald X hw hv16 dX3_be_30 ?_
      obtain ⟨S17, hS17, hm⟩ := ob_s hm
      refine xr_iast X hw hS hS17 dX3_be_31 (fun H locs hw hS => ?_)
      refine lv_aload_n hx hb dX3_be_32 rfl (lv_at hl 0 rfl) ?_
      obtain ⟨v18, hv18, hm⟩ := ob_s hm
      refine xr_val X hw xc2 in_X3 2 (by decide) q216 (f_obj_s hv18) dX3_be_33 ?_
      refine lv_iload_n hx hb dX3_be_36 rfl (lv_at hl 2 rfl) ?_
      refine lv_aload_n hx hb dX3_be_37 rfl (lv_at hl 1 rfl) ?_
      obtain ⟨v19, hv19, hm⟩ := ob_s hm
      refine xr_val X hw xc2 in_X3 2 (by decide) q216 (f_obj_s hv19) dX3_be_38 ?_
      refine lv_iload_n hx hb dX3_be_41 rfl (lv_at hl 2 rfl) ?_
      obtain ⟨v20, hv20, hm⟩ := ob_s hm
      refine xr_iald X hw hv20 dX3_be_42 ?_
      obtain ⟨S21, hS21, hm⟩ := ob_s hm
      refine xr_iast X hw hS hS21 dX3_be_43 (fun H locs hw hS => ?_)
      refine lv_aload_n hx hb dX3_be_44 rfl (lv_at hl 0 rfl) ?_
      obtain ⟨v22, hv22, hm⟩ := ob_s hm
      refine xr_val X hw xc2 in_X3 3 (by decide) q218 (f_obj_s hv22) dX3_be_45 ?_
      refine lv_iload_n hx hb dX3_be_48 rfl (lv_at hl 2 rfl) ?_
      refine lv_aload_n hx hb dX3_be_49 rfl (lv_at hl 1 rfl) ?_
      obtain ⟨v23, hv23, hm⟩ := ob_s hm
      refine xr_val X hw xc2 in_X3 3 (by decide) q218 (f_obj_s hv23) dX3_be_50 ?_
      refine lv_iload_n hx hb dX3_be_53 rfl (lv_at hl 2 rfl) ?_
      obtain ⟨v24, hv24, hm⟩ := ob_s hm
      refine xr_iald X hw hv24 dX3_be_54 ?_
      obtain ⟨S25, hS25, hm⟩ := ob_s hm
      refine xr_iast X hw hS hS25 dX3_be_55 (fun H locs hw hS => ?_)
      refine lv_aload_n hx hb dX3_be_56 rfl (lv_at hl 0 rfl) ?_
      obtain ⟨v26, hv26, hm⟩ := ob_s hm
      refine xr_val X hw xc2 in_X3 4 (by decide) q221 (f_obj_s hv26) dX3_be_57 ?_
      refine lv_iload_n hx hb dX3_be_60 rfl (lv_at hl 2 rfl) ?_
      refine lv_aload_n hx hb dX3_be_61 rfl (lv_at hl 1 rfl) ?_
      obtain ⟨v27, hv27, hm⟩ := ob_s hm
      refine xr_val X hw xc2 in_X3 4 (by decide) q221 (f_obj_s hv27) dX3_be_62 ?_
      refine lv_iload_n hx hb dX3_be_65 rfl (lv_at hl 2 rfl) ?_
      obtain ⟨v28, hv28, hm⟩ := ob_s hm
      refine xr_iald X hw hv28 dX3_be_66 ?_
      obtain ⟨S29, hS29, hm⟩ := ob_s hm
      refine xr_iast X hw hS hS29 dX3_be_67 (fun H locs hw hS => ?_)
      refine lv_aload_n hx hb dX3_be_68 rfl (lv_at hl 0 rfl) ?_
      obtain ⟨v30, hv30, hm⟩ := ob_s hm
      refine xr_val X hw xc2 in_X3 5 (by decide) q224 (f_obj_s hv30) dX3_be_69 ?_
      refine lv_iload_n hx hb dX3_be_72 rfl (lv_at hl 2 rfl) ?_
      refine lv_aload_n hx hb dX3_be_73 rfl (lv_at hl 1 rfl) ?_
      obtain ⟨v31, hv31, hm⟩ := ob_s hm
      refine xr_val X hw xc2 in_X3 5 (by decide) q224 (f_obj_s hv31) dX3_be_74 ?_
      refine lv_iload_n hx hb dX3_be_77 rfl (lv_at hl 2 rfl) ?_
      obtain ⟨v32, hv32, hm⟩ := ob_s hm
      refine xr_iald X hw hv32 dX3_be_78 ?_
      obtain ⟨S33, hS33, hm⟩ := ob_s hm
      refine xr_iast X hw hS hS33 dX3_be_79 (fun H locs hw hS => ?_)
      refine lv_aload_n hx hb dX3_be_80 rfl (lv_at hl 0 rfl) ?_
      obtain ⟨v34, hv34, hm⟩ := ob_s hm
      refine xr_val X hw xc2 in_X3 11 (by decide) q234 (f_obj_s hv34) dX3_be_81 ?_
      refine lv_iload_n hx hb dX3_be_84 rfl (lv_at hl 2 rfl) ?_
      refine lv_iconst (v := 0) hx hb dX3_be_85 (by decide) ?_
      obtain ⟨S35, hS35, hm⟩ := ob_s hm
      refine xr_iast X hw hS hS35 dX3_be_86 (fun H locs hw hS => ?_)
      refine lv_iinc (v := (x2 + 1)) (lv' := [(2, .int (x2 + 1)), (0, .ref x0), (1, .ref x1)]) hx hb dX3_be_87 hl (k := 2) rfl rfl (by decide) rfl (fun ls hl => ?_)
      refine lv_goto (tgt := 2) hx hb dX3_be_90 (by decide) ?_
      exact ih S35 x0 x1 (x2 + 1) H locs ls _ _ hm hw hS (lv_sub hl [1, 2, 0] rfl)
def kX_X3_be (g : XC) (N : Nat) (S : XS) (x0 : Nat) (x1 : Nat) : Option (XS × Nat) :=
  kX_X3_be_2 g N N S x0 x1 0
theorem cx_X3_be : yX3_be.cls = RX3 ∧ yX3_be.cls ≠ "java/lang/invoke/MethodHandle" ∧ yX3_be.cls ≠ "java/lang/invoke/VarHandle" ∧ (parseMethodDescriptor yX3_be.desc).map (fun d => d.parameters.length) = some 1 := by decide +kernel
theorem met_X3_be {l : Launch} {g : XC} {D : va_G} {A : Nat → Prop} (N : Nat) (S : XS) (x0 : Nat) (x1 : Nat) (w : XS × Nat) (hm : kX_X3_be g N S x0 x1 = some w) : Met l yX3_be (ws_ yX3_be cX3_be 3 (Option.some (Jvm.ClassFile.FieldType.object "DripCups$Night"))) (xRm g S 0) (xPre g D A [.ref x0, .ref x1] S) (xQr g D A w) (g.2.1 - xTop S) (g.2.2.1 - xSl S) A := by
  refine x_start (own := RX3) (by decide +kernel) rfl (Nat.le_of_ble_eq_true rfl) (fun p e s m below meth c ls X hr hlk hnm hw hl => ?_)
  obtain ⟨hx, hb, -, hown, hts, -⟩ := id X
  have hl : lv_has ls 3 [(0, .ref x0), (1, .ref x1)] := hl
  have hg : ∀ (H : Heap) (locs : List Loc) (cells slots : Nat), xW g D A S s H → va_S A s.heap H locs → W p l e (xRm g S 0) s m ([.ref x0, .ref x1] : List Value).toArray below meth c H locs cells slots (MQ below (xQr g D A w) ([.ref x0, .ref x1] : List Value).toArray s (g.2.1 - xTop S) (g.2.2.1 - xSl S) A) (F0 m 0 ls []) := by
    intro H locs cells slots hw hS
    unfold kX_X3_be at hm
    refine lv_iconst (v := 0) hx hb dX3_be_0 (by decide) ?_
    refine lv_istore_n (lv' := [(2, .int 0), (0, .ref x0), (1, .ref x1)]) hx hb dX3_be_1 rfl hl (by decide) rfl (fun ls hl => ?_)
    exact wkX_X3_be_2 X hr hlk hnm N N S x0 x1 0 H locs ls _ _ hm hw hS (lv_sub hl [1, 2, 0] rfl)
  exact hg _ _ _ _ hw va_S.rf
/-! DripCups$Night.copy -/
def kX_X3_copy (g : XC) (N : Nat) (S : XS) (x0 : Nat) : Option (XS × Nat) :=
  (xNew S 16 (.inr (2, [.null, .null, .null, .null, .null, .null, .int 0, .int 0, .int 0, .int 0, .int 0, .null, .null, .int 0, .int 0, .null]))).bind fun S1 =>
  (f_obj S1 2 x0 15).bind fun v2 =>
  (kX_X3_init g N S1 (xTop S) v2).bind fun w3 =>
  (f_cls w3 2 (xTop S)).bind fun u4 =>
  (kX_X3_be g N w3 (xTop S) x0).bind fun w5 =>
  some (w5.1, w5.2)
theorem cx_X3_copy : yX3_copy.cls = RX3 ∧ yX3_copy.cls ≠ "java/lang/invoke/MethodHandle" ∧ yX3_copy.cls ≠ "java/lang/invoke/VarHandle" ∧ (parseMethodDescriptor yX3_copy.desc).map (fun d => d.parameters.length) = some 0 := by decide +kernel
theorem met_X3_copy {l : Launch} {g : XC} {D : va_G} {A : Nat → Prop} (N : Nat) (S : XS) (x0 : Nat) (w : XS × Nat) (hm : kX_X3_copy g N S x0 = some w) : Met l yX3_copy (ws_ yX3_copy cX3_copy 1 (Option.some (Jvm.ClassFile.FieldType.object "DripCups$Night"))) (xRm g S 1) (xPre g D A [.ref x0] S) (xQr g D A w) (g.2.1 - xTop S) (g.2.2.1 - xSl S) A := by
  refine x_start (own := RX3) (by decide +kernel) rfl (Nat.le_of_ble_eq_true rfl) (fun p e s m below meth c ls X hr hlk hnm hw hl => ?_)
  obtain ⟨hx, hb, -, hown, hts, -⟩ := id X
  have hl : lv_has ls 1 [(0, .ref x0)] := hl
  have hg : ∀ (H : Heap) (locs : List Loc) (cells slots : Nat), xW g D A S s H → va_S A s.heap H locs → W p l e (xRm g S 1) s m ([.ref x0] : List Value).toArray below meth c H locs cells slots (MQ below (xQr g D A w) ([.ref x0] : List Value).toArray s (g.2.1 - xTop S) (g.2.2.1 - xSl S) A) (F0 m 0 ls []) := by
    intro H locs cells slots hw hS
    unfold kX_X3_copy at hm
    obtain ⟨S1, hS1, hm⟩ := ob_s hm
    refine xr_new (N := 16) X hw hS xc2 in_X3 tyX3_ok q351 q205 q120 (by intro j hj; exact df_X3 j hj) hS1 dX3_copy_0 (fun H cells slots hw hS => ?_)
    refine lv_dup hx hb dX3_copy_3 rfl ?_
    refine lv_aload_n hx hb dX3_copy_4 rfl (lv_at hl 0 rfl) ?_
    obtain ⟨v2, hv2, hm⟩ := ob_s hm
    refine xr_val X hw xc2 in_X3 15 (by decide) q241 (f_obj_s hv2) dX3_copy_5 ?_
    obtain ⟨w3, hw3, hm⟩ := ob_s hm
    refine xr_retv hS (xr_runI X hw (met_X3_init N S1 (xTop S) v2 w3 hw3) (x_ci X (lv := 0) (by omega) (by decide) rfl cx_X3_init (lw_meth q208) q120 q352 q207) rfl hl.1 rfl (Nat.le_of_ble_eq_true rfl) dX3_copy_8) (fun H locs cells slots hw hS => ?_)
    refine lv_aload_n hx hb dX3_copy_11 rfl (lv_at hl 0 rfl) ?_
    obtain ⟨u4, hu4, hm⟩ := ob_s hm
    obtain ⟨w5, hw5, hm⟩ := ob_s hm
    refine xr_retr hS (xr_runV X hw (met_X3_be N w3 (xTop S) x0 w5 hw5) (x_cv X (lv := 0) (by omega) (by decide) cx_X3_be (lw_V q353 q354 q355 q120 q356)) xc2 hu4 rfl hl.1 rfl (Nat.le_of_ble_eq_true rfl) dX3_copy_12) (fun H locs cells slots hw hS => ?_)
    obtain rfl := Option.some.inj hm
    exact xr_aret X hr (by first | exact Or.inl ⟨_, rfl⟩ | exact Or.inr ⟨_, rfl⟩) hlk hw hS dX3_copy_15
  exact hg _ _ _ _ hw va_S.rf
/-! DripCups.keep -/
def kX_X1_keep (g : XC) (N : Nat) (S : XS) (x0 : Nat) : Option (XS) :=
  (f_obj S 1 x0 8).bind fun v1 =>
  (f_obj S 1 x0 2).bind fun v2 =>
  (f_cls S 2 v2).bind fun u3 =>
  (kX_X3_copy g N S v2).bind fun w4 =>
  (f_cls w4.1 10 v1).bind fun u5 =>
  (kX_J2_add g N w4.1 v1 w4.2).bind fun w6 =>
  (f_obj w6.1 1 x0 8).bind fun v7 =>
  (f_cls w6.1 10 v7).bind fun u8 =>
  (kX_J2_size g N w6.1 v7).bind fun w9 =>
  if w9.2 ≤ 40 then
    some w9.1
  else
    (f_obj w9.1 1 x0 8).bind fun v11 =>
    (f_cls w9.1 10 v11).bind fun u12 =>
    (kX_J2_remove g N w9.1 v11 0).bind fun w13 =>
    some w13.1
theorem cx_X1_keep : yX1_keep.cls = RX1 ∧ yX1_keep.cls ≠ "java/lang/invoke/MethodHandle" ∧ yX1_keep.cls ≠ "java/lang/invoke/VarHandle" ∧ (parseMethodDescriptor yX1_keep.desc).map (fun d => d.parameters.length) = some 0 := by decide +kernel
theorem met_X1_keep {l : Launch} {g : XC} {D : va_G} {A : Nat → Prop} (N : Nat) (S : XS) (x0 : Nat) (w : XS) (hm : kX_X1_keep g N S x0 = some w) : Met l yX1_keep (ws_ yX1_keep cX1_keep 1 (Option.none : Option Jvm.ClassFile.FieldType)) (xRm g S 7) (xPre g D A [.ref x0] S) (xQv g D A w) (g.2.1 - xTop S) (g.2.2.1 - xSl S) A := by
  refine x_start (own := RX1) (by decide +kernel) rfl (Nat.le_of_ble_eq_true rfl) (fun p e s m below meth c ls X hr hlk hnm hw hl => ?_)
  obtain ⟨hx, hb, -, hown, hts, -⟩ := id X
  have hl : lv_has ls 1 [(0, .ref x0)] := hl
  have hg : ∀ (H : Heap) (locs : List Loc) (cells slots : Nat), xW g D A S s H → va_S A s.heap H locs → W p l e (xRm g S 7) s m ([.ref x0] : List Value).toArray below meth c H locs cells slots (MQ below (xQv g D A w) ([.ref x0] : List Value).toArray s (g.2.1 - xTop S) (g.2.2.1 - xSl S) A) (F0 m 0 ls []) := by
    intro H locs cells slots hw hS
    unfold kX_X1_keep at hm
    refine lv_aload_n hx hb dX1_keep_0 rfl (lv_at hl 0 rfl) ?_
    obtain ⟨v1, hv1, hm⟩ := ob_s hm
    refine xr_val X hw xc1 in_X1 8 (by decide) q288 (f_obj_s hv1) dX1_keep_1 ?_
    refine lv_aload_n hx hb dX1_keep_4 rfl (lv_at hl 0 rfl) ?_
    obtain ⟨v2, hv2, hm⟩ := ob_s hm
    refine xr_val X hw xc1 in_X1 2 (by decide) q281 (f_obj_s hv2) dX1_keep_5 ?_
    obtain ⟨u3, hu3, hm⟩ := ob_s hm
    obtain ⟨w4, hw4, hm⟩ := ob_s hm
    refine xr_retr hS (xr_runV X hw (met_X3_copy N S v2 w4 hw4) (x_cv X (lv := 1) (by omega) (by decide) cx_X3_copy (lw_V q347 q348 q349 q120 q350)) xc2 hu3 rfl hl.1 rfl (Nat.le_of_ble_eq_true rfl) dX1_keep_8) (fun H locs cells slots hw hS => ?_)
    obtain ⟨u5, hu5, hm⟩ := ob_s hm
    obtain ⟨w6, hw6, hm⟩ := ob_s hm
    refine xr_ret5i hS (xr_runF (x := ⟨"java/util/List", "add", "(Ljava/lang/Object;)Z"⟩) X hw (met_J2_add N w4.1 v1 w4.2 w6 hw6) (x_cf X (lv := 6) (by omega) (by decide) ci_List_add q358 q362 q364 q119 q366 q360 q359 q365 q363 q361) xc10 hu5 rfl hl.1 rfl (Nat.le_of_ble_eq_true rfl) dX1_keep_11) (fun H locs cells slots hw hS => ?_)
    refine lv_pop hx hb dX1_keep_16 rfl ?_
    refine lv_aload_n hx hb dX1_keep_17 rfl (lv_at hl 0 rfl) ?_
    obtain ⟨v7, hv7, hm⟩ := ob_s hm
    refine xr_val X hw xc1 in_X1 8 (by decide) q288 (f_obj_s hv7) dX1_keep_18 ?_
    obtain ⟨u8, hu8, hm⟩ := ob_s hm
    obtain ⟨w9, hw9, hm⟩ := ob_s hm
    refine xr_ret5i hS (xr_runF (x := ⟨"java/util/List", "size", "()I"⟩) X hw (met_J2_size N w6.1 v7 w9 hw9) (x_cf X (lv := 0) (by omega) (by decide) ci_List_size q426 q429 q431 q119 q433 q428 q427 q432 q430 q361) xc10 hu8 rfl hl.1 rfl (Nat.le_of_ble_eq_true rfl) dX1_keep_21) (fun H locs cells slots hw hS => ?_)
    refine lv_bipush (v := 40) hx hb dX1_keep_26 (by decide) ?_
    refine lv_icmp_le (tgt := 42) hx hb dX1_keep_28 (by decide) (fun c10 => ?_) (fun c10 => ?_)
    · replace hm := if_t c10 hm
      obtain rfl := Option.some.inj hm
      exact xr_vret X hr hlk hw hS dX1_keep_42
    · replace hm := if_f c10 hm
      refine lv_aload_n hx hb dX1_keep_31 rfl (lv_at hl 0 rfl) ?_
      obtain ⟨v11, hv11, hm⟩ := ob_s hm
      refine xr_val X hw xc1 in_X1 8 (by decide) q288 (f_obj_s hv11) dX1_keep_32 ?_
      refine lv_iconst (v := 0) hx hb dX1_keep_35 (by decide) ?_
      obtain ⟨u12, hu12, hm⟩ := ob_s hm
      obtain ⟨w13, hw13, hm⟩ := ob_s hm
      refine xr_ret5r hS (xr_runF (x := ⟨"java/util/List", "remove", "(I)Ljava/lang/Object;"⟩) X hw (met_J2_remove N w9.1 v11 0 w13 hw13) (x_cf X (lv := 2) (by omega) (by decide) ci_List_remove q435 q438 q440 q119 q442 q437 q436 q441 q439 q361) xc10 hu12 rfl hl.1 rfl (Nat.le_of_ble_eq_true rfl) dX1_keep_36) (fun H locs cells slots hw hS => ?_)
      refine lv_pop hx hb dX1_keep_41 rfl ?_
      obtain rfl := Option.some.inj hm
      exact xr_vret X hr hlk hw hS dX1_keep_42
  exact hg _ _ _ _ hw va_S.rf
/-! DripCups$Cave.cups -/
def kX_X2_cups (g : XC) (N : Nat) (S : XS) (x0 : Nat) : Option (XS × Int32) :=
  (f_obj S 3 x0 0).bind fun v1 =>
  (f_cls S 10 v1).bind fun u2 =>
  (kX_J2_size g N S v1).bind fun w3 =>
  some (w3.1, w3.2)
theorem cx_X2_cups : yX2_cups.cls = RX2 ∧ yX2_cups.cls ≠ "java/lang/invoke/MethodHandle" ∧ yX2_cups.cls ≠ "java/lang/invoke/VarHandle" ∧ (parseMethodDescriptor yX2_cups.desc).map (fun d => d.parameters.length) = some 0 := by decide +kernel
theorem met_X2_cups {l : Launch} {g : XC} {D : va_G} {A : Nat → Prop} (N : Nat) (S : XS) (x0 : Nat) (w : XS × Int32) (hm : kX_X2_cups g N S x0 = some w) : Met l yX2_cups (ws_ yX2_cups cX2_cups 1 (Option.some Jvm.ClassFile.FieldType.int)) (xRm g S 1) (xPre g D A [.ref x0] S) (xQi g D A w) (g.2.1 - xTop S) (g.2.2.1 - xSl S) A := by
  refine x_start (own := RX2) (by decide +kernel) rfl (Nat.le_of_ble_eq_true rfl) (fun p e s m below meth c ls X hr hlk hnm hw hl => ?_)
  obtain ⟨hx, hb, -, hown, hts, -⟩ := id X
  have hl : lv_has ls 1 [(0, .ref x0)] := hl
  have hg : ∀ (H : Heap) (locs : List Loc) (cells slots : Nat), xW g D A S s H → va_S A s.heap H locs → W p l e (xRm g S 1) s m ([.ref x0] : List Value).toArray below meth c H locs cells slots (MQ below (xQi g D A w) ([.ref x0] : List Value).toArray s (g.2.1 - xTop S) (g.2.2.1 - xSl S) A) (F0 m 0 ls []) := by
    intro H locs cells slots hw hS
    unfold kX_X2_cups at hm
    refine lv_aload_n hx hb dX2_cups_0 rfl (lv_at hl 0 rfl) ?_
    obtain ⟨v1, hv1, hm⟩ := ob_s hm
    refine xr_val X hw xc3 in_X2 0 (by decide) q189 (f_obj_s hv1) dX2_cups_1 ?_
    obtain ⟨u2, hu2, hm⟩ := ob_s hm
    obtain ⟨w3, hw3, hm⟩ := ob_s hm
    refine xr_ret5i hS (xr_runF (x := ⟨"java/util/List", "size", "()I"⟩) X hw (met_J2_size N S v1 w3 hw3) (x_cf X (lv := 0) (by omega) (by decide) ci_List_size q467 q429 q431 q119 q433 q428 q427 q432 q430 q361) xc10 hu2 rfl hl.1 rfl (Nat.le_of_ble_eq_true rfl) dX2_cups_4) (fun H locs cells slots hw hS => ?_)
    obtain rfl := Option.some.inj hm
    exact xr_iret (v := w3.2) X hr hlk hw hS rfl dX2_cups_9
  exact hg _ _ _ _ hw va_S.rf
/-! DripCups.isOf -/
def kX_X1_isOf (g : XC) (N : Nat) (x0 : Int32) (x1 : Int32) : Option (Int32) :=
  if ((x0 >>> (x1 &&& 31)) &&& 1) = 1 then
    some 1
  else
    some 0
theorem cx_X1_isOf : yX1_isOf.cls ≠ "java/lang/invoke/MethodHandle" ∧ yX1_isOf.cls ≠ "java/lang/invoke/VarHandle" ∧ (parseMethodDescriptor yX1_isOf.desc).map (fun d => d.parameters.length) = some 2 := by decide +kernel
theorem met_X1_isOf {l : Launch} {g : XC} {D : va_G} {A : Nat → Prop} (N : Nat) (S : XS) (x0 : Int32) (x1 : Int32) (w : Int32) (hm : kX_X1_isOf g N x0 x1 = some w) : Met l yX1_isOf (ws_ yX1_isOf cX1_isOf 2 (Option.some Jvm.ClassFile.FieldType.boolean)) (xRm g S 0) (xPre g D A [.int x0, .int x1] S) (xQi g D A (S, w)) (g.2.1 - xTop S) (g.2.2.1 - xSl S) A := by
  refine x_start (own := RX1) (by decide +kernel) rfl (Nat.le_of_ble_eq_true rfl) (fun p e s m below meth c ls X hr hlk hnm hw hl => ?_)
  obtain ⟨hx, hb, -, hown, hts, -⟩ := id X
  have hl : lv_has ls 2 [(0, .int x0), (1, .int x1)] := hl
  have hg : ∀ (H : Heap) (locs : List Loc) (cells slots : Nat), xW g D A S s H → va_S A s.heap H locs → W p l e (xRm g S 0) s m ([.int x0, .int x1] : List Value).toArray below meth c H locs cells slots (MQ below (xQi g D A (S, w)) ([.int x0, .int x1] : List Value).toArray s (g.2.1 - xTop S) (g.2.2.1 - xSl S) A) (F0 m 0 ls []) := by
    intro H locs cells slots hw hS
    unfold kX_X1_isOf at hm
    refine lv_iload_n hx hb dX1_isOf_0 rfl (lv_at hl 0 rfl) ?_
    refine lv_iload_n hx hb dX1_isOf_1 rfl (lv_at hl 1 rfl) ?_
    refine lv_ishr hx hb dX1_isOf_2 ?_
    refine lv_iconst (v := 1) hx hb dX1_isOf_3 (by decide) ?_
    refine lv_iand hx hb dX1_isOf_4 ?_
    refine lv_iconst (v := 1) hx hb dX1_isOf_5 (by decide) ?_
    refine lv_icmp_ne (tgt := 13) hx hb dX1_isOf_6 (by decide) (fun c1 => ?_) (fun c1 => ?_)
    · replace hm := if_f c1 hm
      refine lv_iconst (v := 0) hx hb dX1_isOf_13 (by decide) ?_
      obtain rfl := Option.some.inj hm
      exact xr_iret (v := 0) X hr hlk hw hS rfl dX1_isOf_14
    · replace hm := if_t c1 hm
      refine lv_iconst (v := 1) hx hb dX1_isOf_9 (by decide) ?_
      refine lv_goto (tgt := 14) hx hb dX1_isOf_10 (by decide) ?_
      obtain rfl := Option.some.inj hm
      exact xr_iret (v := 1) X hr hlk hw hS rfl dX1_isOf_14
  exact hg _ _ _ _ hw va_S.rf
/-! DripCups$Night.isPlugged -/
def kX_X3_isPlugged (g : XC) (N : Nat) (S : XS) (x0 : Nat) (x1 : Int32) : Option (XS × Int32) :=
  (f_int S 2 x0 7).bind fun v1 =>
  (kX_X1_isOf g N v1 x1).bind fun w2 =>
  zchk w2 <|
  some (S, w2)
theorem cx_X3_isPlugged : yX3_isPlugged.cls = RX3 ∧ yX3_isPlugged.cls ≠ "java/lang/invoke/MethodHandle" ∧ yX3_isPlugged.cls ≠ "java/lang/invoke/VarHandle" ∧ (parseMethodDescriptor yX3_isPlugged.desc).map (fun d => d.parameters.length) = some 1 := by decide +kernel
theorem met_X3_isPlugged {l : Launch} {g : XC} {D : va_G} {A : Nat → Prop} (N : Nat) (S : XS) (x0 : Nat) (x1 : Int32) (w : XS × Int32) (hm : kX_X3_isPlugged g N S x0 x1 = some w) : Met l yX3_isPlugged (ws_ yX3_isPlugged cX3_isPlugged 2 (Option.some Jvm.ClassFile.FieldType.boolean)) (xRm g S 1) (xPre g D A [.ref x0, .int x1] S) (xQi g D A w) (g.2.1 - xTop S) (g.2.2.1 - xSl S) A := by
  refine x_start (own := RX3) (by decide +kernel) rfl (Nat.le_of_ble_eq_true rfl) (fun p e s m below meth c ls X hr hlk hnm hw hl => ?_)
  obtain ⟨hx, hb, -, hown, hts, -⟩ := id X
  have hl : lv_has ls 2 [(0, .ref x0), (1, .int x1)] := hl
  have hg : ∀ (H : Heap) (locs : List Loc) (cells slots : Nat), xW g D A S s H → va_S A s.heap H locs → W p l e (xRm g S 1) s m ([.ref x0, .int x1] : List Value).toArray below meth c H locs cells slots (MQ below (xQi g D A w) ([.ref x0, .int x1] : List Value).toArray s (g.2.1 - xTop S) (g.2.2.1 - xSl S) A) (F0 m 0 ls []) := by
    intro H locs cells slots hw hS
    unfold kX_X3_isPlugged at hm
    refine lv_aload_n hx hb dX3_isPlugged_0 rfl (lv_at hl 0 rfl) ?_
    obtain ⟨v1, hv1, hm⟩ := ob_s hm
    refine xr_val X hw xc2 in_X3 7 (by decide) q227 (f_int_s hv1) dX3_isPlugged_1 ?_
    refine lv_iload_n hx hb dX3_isPlugged_4 rfl (lv_at hl 1 rfl) ?_
    obtain ⟨w2, hw2, hm⟩ := ob_s hm
    refine xr_reti hS (xr_runSN X hw (met_X1_isOf N S v1 x1 w2 hw2) (x_cn X (lv := 0) (by omega) (by decide) cx_X1_isOf (lw_meth q478) q115 q476) q477 rfl hl.1 rfl (Nat.le_of_ble_eq_true rfl) dX3_isPlugged_5) (fun H locs cells slots hw hS => ?_)
    obtain ⟨z3, hm⟩ := zchk_s hm
    obtain rfl := Option.some.inj hm
    exact xr_iret (v := w2) X hr hlk hw hS (z_nar z3) dX3_isPlugged_8
  exact hg _ _ _ _ hw va_S.rf
/-! DripCups$Night.asked -/
def kX_X3_asked (g : XC) (N : Nat) (S : XS) (x0 : Nat) (x1 : Nat) (x2 : Int32) : Option (XS × Int32) :=
  (f_obj S 2 x0 15).bind fun v1 =>
  (f_obj S 1 v1 0).bind fun v2 =>
  (f_obj S 2 x0 1).bind fun v3 =>
  (a_int S 0 v3 x2).bind fun v4 =>
  (a_putI S 0 v2 0 v4).bind fun S5 =>
  (f_obj S5 2 x0 15).bind fun v6 =>
  (f_obj S5 1 v6 0).bind fun v7 =>
  (f_obj S5 2 x0 0).bind fun v8 =>
  (a_int S5 0 v8 x2).bind fun v9 =>
  (a_putI S5 0 v7 1 v9).bind fun S10 =>
  (f_obj S10 2 x0 15).bind fun v11 =>
  (f_obj S10 1 v11 0).bind fun v12 =>
  (f_obj S10 2 x0 15).bind fun v13 =>
  (f_obj S10 1 v13 1).bind fun v14 =>
  (f_obj S10 3 v14 0).bind fun v15 =>
  (f_cls S10 10 v15).bind fun u16 =>
  (kX_J2_get g N S10 v15 x2).bind fun w17 =>
  (gIv g w17.2).bind fun k18 =>
  (gIv g w17.2).bind fun u19 =>
  (kX_J19_intValue g N w17.1 w17.2).bind fun w20 =>
  (a_putI w20.1 0 v12 2 w20.2).bind fun S21 =>
  (f_obj S21 2 x0 15).bind fun v22 =>
  (f_obj S21 1 v22 0).bind fun v23 =>
  (f_obj S21 2 x0 2).bind fun v24 =>
  (a_int S21 0 v24 x2).bind fun v25 =>
  (a_putI S21 0 v23 3 v25).bind fun S26 =>
  (f_obj S26 2 x0 15).bind fun v27 =>
  (f_obj S26 1 v27 0).bind fun v28 =>
  (a_putI S26 0 v28 4 x2).bind fun S29 =>
  (f_obj S29 2 x0 15).bind fun v30 =>
  (f_obj S29 1 v30 0).bind fun v31 =>
  (f_int S29 2 x0 6).bind fun v32 =>
  (a_putI S29 0 v31 5 v32).bind fun S33 =>
  (f_obj S33 2 x0 15).bind fun v34 =>
  (f_obj S33 1 v34 0).bind fun v35 =>
  (kX_form g N 72 S33 x1 v35).bind fun w36 =>
  some (w36.1, w36.2)
theorem cx_X3_asked : yX3_asked.cls = RX3 ∧ yX3_asked.cls ≠ "java/lang/invoke/MethodHandle" ∧ yX3_asked.cls ≠ "java/lang/invoke/VarHandle" ∧ (parseMethodDescriptor yX3_asked.desc).map (fun d => d.parameters.length) = some 2 := by decide +kernel
theorem met_X3_asked {l : Launch} {g : XC} {D : va_G} {A : Nat → Prop} (N : Nat) (S : XS) (x0 : Nat) (x1 : Nat) (x2 : Int32) (w : XS × Int32) (hm : kX_X3_asked g N S x0 x1 x2 = some w) : Met l yX3_asked (ws_ yX3_asked cX3_asked 3 (Option.some Jvm.ClassFile.FieldType.int)) (xRm g S 78) (xPre g D A [.ref x0, .ref x1, .int x2] S) (xQi g D A w) (g.2.1 - xTop S) (g.2.2.1 - xSl S) A := by
  refine x_start (own := RX3) (by decide +kernel) rfl (Nat.le_of_ble_eq_true rfl) (fun p e s m below meth c ls X hr hlk hnm hw hl => ?_)
  obtain ⟨hx, hb, -, hown, hts, -⟩ := id X
  have hl : lv_has ls 3 [(0, .ref x0), (1, .ref x1), (2, .int x2)] := hl
  have hg : ∀ (H : Heap) (locs : List Loc) (cells slots : Nat), xW g D A S s H → va_S A s.heap H locs → W p l e (xRm g S 78) s m ([.ref x0, .ref x1, .int x2] : List Value).toArray below meth c H locs cells slots (MQ below (xQi g D A w) ([.ref x0, .ref x1, .int x2] : List Value).toArray s (g.2.1 - xTop S) (g.2.2.1 - xSl S) A) (F0 m 0 ls []) := by
    intro H locs cells slots hw hS
    unfold kX_X3_asked at hm
    refine lv_aload_n hx hb dX3_asked_0 rfl (lv_at hl 0 rfl) ?_
    obtain ⟨v1, hv1, hm⟩ := ob_s hm
    refine xr_val X hw xc2 in_X3 15 (by decide) q241 (f_obj_s hv1) dX3_asked_1 ?_
    obtain ⟨v2, hv2, hm⟩ := ob_s hm
    refine xr_valN X hw xc1 in_X1 0 (by decide) q278 (f_obj_s hv2) dX3_asked_4 ?_
    refine lv_iconst (v := 0) hx hb dX3_asked_7 (by decide) ?_
    refine lv_aload_n hx hb dX3_asked_8 rfl (lv_at hl 0 rfl) ?_
    obtain ⟨v3, hv3, hm⟩ := ob_s hm
    refine xr_val X hw xc2 in_X3 1 (by decide) q213 (f_obj_s hv3) dX3_asked_9 ?_
    refine lv_iload_n hx hb dX3_asked_12 rfl (lv_at hl 2 rfl) ?_
    obtain ⟨v4, hv4, hm⟩ := ob_s hm
    refine xr_iald X hw hv4 dX3_asked_13 ?_
    obtain ⟨S5, hS5, hm⟩ := ob_s hm
    refine xr_iast X hw hS hS5 dX3_asked_14 (fun H locs hw hS => ?_)
    refine lv_aload_n hx hb dX3_asked_15 rfl (lv_at hl 0 rfl) ?_
    obtain ⟨v6, hv6, hm⟩ := ob_s hm
    refine xr_val X hw xc2 in_X3 15 (by decide) q241 (f_obj_s hv6) dX3_asked_16 ?_
    obtain ⟨v7, hv7, hm⟩ := ob_s hm
    refine xr_valN X hw xc1 in_X1 0 (by decide) q278 (f_obj_s hv7) dX3_asked_19 ?_
    refine lv_iconst (v := 1) hx hb dX3_asked_22 (by decide) ?_
    refine lv_aload_n hx hb dX3_asked_23 rfl (lv_at hl 0 rfl) ?_
    obtain ⟨v8, hv8, hm⟩ := ob_s hm
    refine xr_val X hw xc2 in_X3 0 (by decide) q210 (f_obj_s hv8) dX3_asked_24 ?_
    refine lv_iload_n hx hb dX3_asked_27 rfl (lv_at hl 2 rfl) ?_
    obtain ⟨v9, hv9, hm⟩ := ob_s hm
    refine xr_iald X hw hv9 dX3_asked_28 ?_
    obtain ⟨S10, hS10, hm⟩ := ob_s hm
    refine xr_iast X hw hS hS10 dX3_asked_29 (fun H locs hw hS => ?_)
    refine lv_aload_n hx hb dX3_asked_30 rfl (lv_at hl 0 rfl) ?_
    obtain ⟨v11, hv11, hm⟩ := ob_s hm
    refine xr_val X hw xc2 in_X3 15 (by decide) q241 (f_obj_s hv11) dX3_asked_31 ?_
    obtain ⟨v12, hv12, hm⟩ := ob_s hm
    refine xr_valN X hw xc1 in_X1 0 (by decide) q278 (f_obj_s hv12) dX3_asked_34 ?_
    refine lv_iconst (v := 2) hx hb dX3_asked_37 (by decide) ?_
    refine lv_aload_n hx hb dX3_asked_38 rfl (lv_at hl 0 rfl) ?_
    obtain ⟨v13, hv13, hm⟩ := ob_s hm
    refine xr_val X hw xc2 in_X3 15 (by decide) q241 (f_obj_s hv13) dX3_asked_39 ?_
    obtain ⟨v14, hv14, hm⟩ := ob_s hm
    refine xr_valN X hw xc1 in_X1 1 (by decide) q280 (f_obj_s hv14) dX3_asked_42 ?_
    obtain ⟨v15, hv15, hm⟩ := ob_s hm
    refine xr_valN X hw xc3 in_X2 0 (by decide) q190 (f_obj_s hv15) dX3_asked_45 ?_
    refine lv_iload_n hx hb dX3_asked_48 rfl (lv_at hl 2 rfl) ?_
    obtain ⟨u16, hu16, hm⟩ := ob_s hm
    obtain ⟨w17, hw17, hm⟩ := ob_s hm
    refine xr_ret5r hS (xr_runF (x := ⟨"java/util/List", "get", "(I)Ljava/lang/Object;"⟩) X hw (met_J2_get N S10 v15 x2 w17 hw17) (x_cf X (lv := 2) (by omega) (by decide) ci_List_get q484 q487 q489 q119 q491 q486 q485 q490 q488 q361) xc10 hu16 rfl hl.1 rfl (Nat.le_of_ble_eq_true rfl) dX3_asked_49) (fun H locs cells slots hw hS => ?_)
    obtain ⟨k18, hk18, hm⟩ := ob_s hm
    refine xr_castI X hw hk18 q496 dX3_asked_54 ?_
    obtain ⟨u19, hu19, hm⟩ := ob_s hm
    obtain ⟨w20, hw20, hm⟩ := ob_s hm
    refine xr_reti hS (xr_runVX X hw (met_J19_intValue N w17.1 w17.2 w20 hw20) (x_cv X (lv := 0) (by omega) (by decide) cx_J19_intValue (lw_V q497 q498 q499 q145 q500)) (x_recvI X hw hu19) rfl hl.1 rfl (Nat.le_of_ble_eq_true rfl) dX3_asked_57) (fun H locs cells slots hw hS => ?_)
    obtain ⟨S21, hS21, hm⟩ := ob_s hm
    refine xr_iast X hw hS hS21 dX3_asked_60 (fun H locs hw hS => ?_)
    refine lv_aload_n hx hb dX3_asked_61 rfl (lv_at hl 0 rfl) ?_
    obtain ⟨v22, hv22, hm⟩ := ob_s hm
    refine xr_val X hw xc2 in_X3 15 (by decide) q241 (f_obj_s hv22) dX3_asked_62 ?_
    obtain ⟨v23, hv23, hm⟩ := ob_s hm
    refine xr_valN X hw xc1 in_X1 0 (by decide) q278 (f_obj_s hv23) dX3_asked_65 ?_
    refine lv_iconst (v := 3) hx hb dX3_asked_68 (by decide) ?_
    refine lv_aload_n hx hb dX3_asked_69 rfl (lv_at hl 0 rfl) ?_
    obtain ⟨v24, hv24, hm⟩ := ob_s hm
    refine xr_val X hw xc2 in_X3 2 (by decide) q216 (f_obj_s hv24) dX3_asked_70 ?_
    refine lv_iload_n hx hb dX3_asked_73 rfl (lv_at hl 2 rfl) ?_
    obtain ⟨v25, hv25, hm⟩ := ob_s hm
    refine xr_iald X hw hv25 dX3_asked_74 ?_
    obtain ⟨S26, hS26, hm⟩ := ob_s hm
    refine xr_iast X hw hS hS26 dX3_asked_75 (fun H locs hw hS => ?_)
    refine lv_aload_n hx hb dX3_asked_76 rfl (lv_at hl 0 rfl) ?_
    obtain ⟨v27, hv27, hm⟩ := ob_s hm
    refine xr_val X hw xc2 in_X3 15 (by decide) q241 (f_obj_s hv27) dX3_asked_77 ?_
    obtain ⟨v28, hv28, hm⟩ := ob_s hm
    refine xr_valN X hw xc1 in_X1 0 (by decide) q278 (f_obj_s hv28) dX3_asked_80 ?_
    refine lv_iconst (v := 4) hx hb dX3_asked_83 (by decide) ?_
    refine lv_iload_n hx hb dX3_asked_84 rfl (lv_at hl 2 rfl) ?_
    obtain ⟨S29, hS29, hm⟩ := ob_s hm
    refine xr_iast X hw hS hS29 dX3_asked_85 (fun H locs hw hS => ?_)
    refine lv_aload_n hx hb dX3_asked_86 rfl (lv_at hl 0 rfl) ?_
    obtain ⟨v30, hv30, hm⟩ := ob_s hm
    refine xr_val X hw xc2 in_X3 15 (by decide) q241 (f_obj_s hv30) dX3_asked_87 ?_
    obtain ⟨v31, hv31, hm⟩ := ob_s hm
    refine xr_valN X hw xc1 in_X1 0 (by decide) q278 (f_obj_s hv31) dX3_asked_90 ?_
    refine lv_iconst (v := 5) hx hb dX3_asked_93 (by decide) ?_
    refine lv_aload_n hx hb dX3_asked_94 rfl (lv_at hl 0 rfl) ?_
    obtain ⟨v32, hv32, hm⟩ := ob_s hm
    refine xr_val X hw xc2 in_X3 6 (by decide) q225 (f_int_s hv32) dX3_asked_95 ?_
    obtain ⟨S33, hS33, hm⟩ := ob_s hm
    refine xr_iast X hw hS hS33 dX3_asked_98 (fun H locs hw hS => ?_)
    refine lv_aload_n hx hb dX3_asked_99 rfl (lv_at hl 1 rfl) ?_
    refine lv_aload_n hx hb dX3_asked_100 rfl (lv_at hl 0 rfl) ?_
    obtain ⟨v34, hv34, hm⟩ := ob_s hm
    refine xr_val X hw xc2 in_X3 15 (by decide) q241 (f_obj_s hv34) dX3_asked_101 ?_
    obtain ⟨v35, hv35, hm⟩ := ob_s hm
    refine xr_valN X hw xc1 in_X1 0 (by decide) q278 (f_obj_s hv35) dX3_asked_104 ?_
    obtain ⟨w36, hw36, hm⟩ := ob_s hm
    refine xr_ret5i hS (xr_runForm (lv := 77) X hw (kX_formOK N 72) hw36 (by omega) q502 hl.1 rfl (Nat.le_of_ble_eq_true rfl) dX3_asked_107) (fun H locs cells slots hw hS => ?_)
    obtain rfl := Option.some.inj hm
    exact xr_iret (v := w36.2) X hr hlk hw hS rfl dX3_asked_112
  exact hg _ _ _ _ hw va_S.rf
/-! DripCups$Night.runs -/
def kX_X3_runs_67 (g : XC) (N : Nat) (S : XS) (x0 : Nat) (x1 : Int32) (t0 : Int32) : Option (XS × Int32) :=
  if t0 = 0 then
    (f_obj S 2 x0 15).bind fun v2 =>
    (f_obj S 1 v2 1).bind fun v3 =>
    (f_obj S 3 v3 0).bind fun v4 =>
    (f_cls S 10 v4).bind fun u5 =>
    (kX_J2_get g N S v4 x1).bind fun w6 =>
    (gIv g w6.2).bind fun k7 =>
    (gIv g w6.2).bind fun u8 =>
    (kX_J19_intValue g N w6.1 w6.2).bind fun w9 =>
    some (w9.1, w9.2)
  else
    some (S, 0)
theorem wkX_X3_runs_67 {p : Program} {l : Launch} {e : Env} {s : State} {m : MethodId} {args : Array Value} {below : List Frame} {meth : Method} {c : Code} {g : XC} {D : va_G} {A : Nat → Prop} {S0 : XS} {w : XS × Int32} (X : xX g D A RX3 S0 p s m args c cX3_runs 3) (hr : meth.sig.returnType = (Option.some Jvm.ClassFile.FieldType.int)) (hlk : meth.locks = false) (hnm : meth.name = yX3_runs.name) (N : Nat) :
    ∀ (S : XS) (x0 : Nat) (x1 : Int32) (t0 : Int32) (H : Heap) (locs : List Loc) (ls : Array Slot) (cells slots : Nat), kX_X3_runs_67 g N S x0 x1 t0 = some w → xW g D A S s H → va_S A s.heap H locs → lv_has ls 3 [(0, .ref x0), (1, .int x1)] → W p l e (xRm g S0 79) s m args below meth c H locs cells slots (MQ below (xQi g D A w) args s (g.2.1 - xTop S0) (g.2.2.1 - xSl S0) A) (F0 m 67 ls [.int t0]) := by
  obtain ⟨hx, hb, -, hown, hts, -⟩ := id X
  intro S x0 x1 t0 H locs ls cells slots hm hw hS hl
  unfold kX_X3_runs_67 at hm
  refine lv_istore_n (lv' := [(2, .int t0), (0, .ref x0), (1, .int x1)]) hx hb dX3_runs_67 rfl hl (by decide) rfl (fun ls hl => ?_)
  refine lv_iload_n hx hb dX3_runs_68 rfl (lv_at hl 0 rfl) ?_
  refine lv_if_eq (tgt := 76) hx hb dX3_runs_69 (by decide) (fun c1 => ?_) (fun c1 => ?_)
  · replace hm := if_t c1 hm
    refine lv_aload_n hx hb dX3_runs_76 rfl (lv_at hl 1 rfl) ?_
    obtain ⟨v2, hv2, hm⟩ := ob_s hm
    refine xr_val X hw xc2 in_X3 15 (by decide) q241 (f_obj_s hv2) dX3_runs_77 ?_
    obtain ⟨v3, hv3, hm⟩ := ob_s hm
    refine xr_valN X hw xc1 in_X1 1 (by decide) q280 (f_obj_s hv3) dX3_runs_80 ?_
    obtain ⟨v4, hv4, hm⟩ := ob_s hm
    refine xr_valN X hw xc3 in_X2 0 (by decide) q190 (f_obj_s hv4) dX3_runs_83 ?_
    refine lv_iload_n hx hb dX3_runs_86 rfl (lv_at hl 2 rfl) ?_
    obtain ⟨u5, hu5, hm⟩ := ob_s hm
    obtain ⟨w6, hw6, hm⟩ := ob_s hm
    refine xr_ret5r hS (xr_runF (x := ⟨"java/util/List", "get", "(I)Ljava/lang/Object;"⟩) X hw (met_J2_get N S v4 x1 w6 hw6) (x_cf X (lv := 2) (by omega) (by decide) ci_List_get q484 q487 q489 q119 q491 q486 q485 q490 q488 q361) xc10 hu5 rfl hl.1 rfl (Nat.le_of_ble_eq_true rfl) dX3_runs_87) (fun H locs cells slots hw hS => ?_)
    obtain ⟨k7, hk7, hm⟩ := ob_s hm
    refine xr_castI X hw hk7 q496 dX3_runs_92 ?_
    obtain ⟨u8, hu8, hm⟩ := ob_s hm
    obtain ⟨w9, hw9, hm⟩ := ob_s hm
    refine xr_reti hS (xr_runVX X hw (met_J19_intValue N w6.1 w6.2 w9 hw9) (x_cv X (lv := 0) (by omega) (by decide) cx_J19_intValue (lw_V q497 q498 q499 q145 q500)) (x_recvI X hw hu8) rfl hl.1 rfl (Nat.le_of_ble_eq_true rfl) dX3_runs_95) (fun H locs cells slots hw hS => ?_)
    obtain rfl := Option.some.inj hm
    exact xr_iret (v := w9.2) X hr hlk hw hS rfl dX3_runs_98
  · replace hm := if_f c1 hm
    refine lv_iconst (v := 0) hx hb dX3_runs_72 (by decide) ?_
    refine lv_goto (tgt := 98) hx hb dX3_runs_73 (by decide) ?_
    obtain rfl := Option.some.inj hm
    exact xr_iret (v := 0) X hr hlk hw hS rfl dX3_runs_98
def kX_X3_runs (g : XC) (N : Nat) (S : XS) (x0 : Nat) (x1 : Int32) : Option (XS × Int32) :=
  (f_cls S 2 x0).bind fun u1 =>
  (kX_X3_isPlugged g N S x0 x1).bind fun w2 =>
  if w2.2 = 0 then
    (f_int w2.1 2 x0 10).bind fun v4 =>
    if v4 = 0 then
      (f_int w2.1 2 x0 8).bind fun v6 =>
      if v6 = 0 then
        (f_int w2.1 2 x0 9).bind fun v8 =>
        if v8 = 0 then
          (f_obj w2.1 2 x0 15).bind fun v10 =>
          (f_obj w2.1 1 v10 1).bind fun v11 =>
          (f_ref w2.1 3 v11 2).bind fun v12 =>
          match v12 with
          | none =>
            kX_X3_runs_67 g N w2.1 x0 x1 0
          | some a14 =>
            (f_obj w2.1 2 x0 15).bind fun v15 =>
            (f_obj w2.1 1 v15 1).bind fun v16 =>
            (f_ref w2.1 3 v16 2).bind fun v17 =>
            (v17).bind fun a18 =>
            (f_cls w2.1 2 x0).bind fun u19 =>
            (kX_X3_asked g N w2.1 x0 a18 x1).bind fun w20 =>
            if w20.2 ≤ 0 then
              kX_X3_runs_67 g N w20.1 x0 x1 0
            else
              kX_X3_runs_67 g N w20.1 x0 x1 1
        else
          kX_X3_runs_67 g N w2.1 x0 x1 0
      else
        kX_X3_runs_67 g N w2.1 x0 x1 0
    else
      some (w2.1, 0)
  else
    some (w2.1, 0)
theorem cx_X3_runs : yX3_runs.cls = RX3 ∧ yX3_runs.cls ≠ "java/lang/invoke/MethodHandle" ∧ yX3_runs.cls ≠ "java/lang/invoke/VarHandle" ∧ (parseMethodDescriptor yX3_runs.desc).map (fun d => d.parameters.length) = some 1 := by decide +kernel
theorem met_X3_runs {l : Launch} {g : XC} {D : va_G} {A : Nat → Prop} (N : Nat) (S : XS) (x0 : Nat) (x1 : Int32) (w : XS × Int32) (hm : kX_X3_runs g N S x0 x1 = some w) : Met l yX3_runs (ws_ yX3_runs cX3_runs 3 (Option.some Jvm.ClassFile.FieldType.int)) (xRm g S 79) (xPre g D A [.ref x0, .int x1] S) (xQi g D A w) (g.2.1 - xTop S) (g.2.2.1 - xSl S) A := by
  refine x_start (own := RX3) (by decide +kernel) rfl (Nat.le_of_ble_eq_true rfl) (fun p e s m below meth c ls X hr hlk hnm hw hl => ?_)
  obtain ⟨hx, hb, -, hown, hts, -⟩ := id X
  have hl : lv_has ls 3 [(0, .ref x0), (1, .int x1)] := hl
  have hg : ∀ (H : Heap) (locs : List Loc) (cells slots : Nat), xW g D A S s H → va_S A s.heap H locs → W p l e (xRm g S 79) s m ([.ref x0, .int x1] : List Value).toArray below meth c H locs cells slots (MQ below (xQi g D A w) ([.ref x0, .int x1] : List Value).toArray s (g.2.1 - xTop S) (g.2.2.1 - xSl S) A) (F0 m 0 ls []) := by
    intro H locs cells slots hw hS
    unfold kX_X3_runs at hm
    refine lv_aload_n hx hb dX3_runs_0 rfl (lv_at hl 0 rfl) ?_
    refine lv_iload_n hx hb dX3_runs_1 rfl (lv_at hl 1 rfl) ?_
    obtain ⟨u1, hu1, hm⟩ := ob_s hm
    obtain ⟨w2, hw2, hm⟩ := ob_s hm
    refine xr_reti hS (xr_runV X hw (met_X3_isPlugged N S x0 x1 w2 hw2) (x_cv X (lv := 1) (by omega) (by decide) cx_X3_isPlugged (lw_V q472 q473 q474 q120 q475)) xc2 hu1 rfl hl.1 rfl (Nat.le_of_ble_eq_true rfl) dX3_runs_2) (fun H locs cells slots hw hS => ?_)
    refine lv_if_ne (tgt := 15) hx hb dX3_runs_5 (by decide) (fun c3 => ?_) (fun c3 => ?_)
    · replace hm := if_f c3 hm
      refine lv_iconst (v := 0) hx hb dX3_runs_15 (by decide) ?_
      obtain rfl := Option.some.inj hm
      exact xr_iret (v := 0) X hr hlk hw hS rfl dX3_runs_16
    · replace hm := if_t c3 hm
      refine lv_aload_n hx hb dX3_runs_8 rfl (lv_at hl 0 rfl) ?_
      obtain ⟨v4, hv4, hm⟩ := ob_s hm
      refine xr_val X hw xc2 in_X3 10 (by decide) q232 (f_int_s hv4) dX3_runs_9 ?_
      refine lv_if_eq (tgt := 17) hx hb dX3_runs_12 (by decide) (fun c5 => ?_) (fun c5 => ?_)
      · replace hm := if_t c5 hm
        refine lv_aload_n hx hb dX3_runs_17 rfl (lv_at hl 0 rfl) ?_
        obtain ⟨v6, hv6, hm⟩ := ob_s hm
        refine xr_val X hw xc2 in_X3 8 (by decide) q229 (f_int_s hv6) dX3_runs_18 ?_
        refine lv_if_ne (tgt := 66) hx hb dX3_runs_21 (by decide) (fun c7 => ?_) (fun c7 => ?_)
        · replace hm := if_f c7 hm
          refine lv_iconst (v := 0) hx hb dX3_runs_66 (by decide) ?_
          exact wkX_X3_runs_67 X hr hlk hnm N w2.1 x0 x1 0 H locs ls _ _ hm hw hS (lv_sub hl [0, 1] rfl)
        · replace hm := if_t c7 hm
          refine lv_aload_n hx hb dX3_runs_24 rfl (lv_at hl 0 rfl) ?_
          obtain ⟨v8, hv8, hm⟩ := ob_s hm
          refine xr_val X hw xc2 in_X3 9 (by decide) q230 (f_int_s hv8) dX3_runs_25 ?_
          refine lv_if_ne (tgt := 66) hx hb dX3_runs_28 (by decide) (fun c9 => ?_) (fun c9 => ?_)
          · replace hm := if_f c9 hm
            refine lv_iconst (v := 0) hx hb dX3_runs_66 (by decide) ?_
            exact wkX_X3_runs_67 X hr hlk hnm N w2.1 x0 x1 0 H locs ls _ _ hm hw hS (lv_sub hl [0, 1] rfl)
          · replace hm := if_t c9 hm
            refine lv_aload_n hx hb dX3_runs_31 rfl (lv_at hl 0 rfl) ?_
            obtain ⟨v10, hv10, hm⟩ := ob_s hm
            refine xr_val X hw xc2 in_X3 15 (by decide) q241 (f_obj_s hv10) dX3_runs_32 ?_
            obtain ⟨v11, hv11, hm⟩ := ob_s hm
            refine xr_valN X hw xc1 in_X1 1 (by decide) q280 (f_obj_s hv11) dX3_runs_35 ?_
            obtain ⟨v12, hv12, hm⟩ := ob_s hm
            refine xr_valN X hw xc3 in_X2 2 (by decide) q195 (f_ref_s hv12) dX3_runs_38 ?_
            cases v12 with
            | none =>
              refine lv_ifnullN (tgt := 66) hx hb dX3_runs_41 (by decide) ?_
              refine lv_iconst (v := 0) hx hb dX3_runs_66 (by decide) ?_
              exact wkX_X3_runs_67 X hr hlk hnm N w2.1 x0 x1 0 H locs ls _ _ hm hw hS (lv_sub hl [0, 1] rfl)
            | some a14 =>
              refine lv_ifnull hx hb dX3_runs_41 ?_
              refine lv_aload_n hx hb dX3_runs_44 rfl (lv_at hl 0 rfl) ?_
              refine lv_aload_n hx hb dX3_runs_45 rfl (lv_at hl 0 rfl) ?_
              obtain ⟨v15, hv15, hm⟩ := ob_s hm
              refine xr_val X hw xc2 in_X3 15 (by decide) q241 (f_obj_s hv15) dX3_runs_46 ?_
              obtain ⟨v16, hv16, hm⟩ := ob_s hm
              refine xr_valN X hw xc1 in_X1 1 (by decide) q280 (f_obj_s hv16) dX3_runs_49 ?_
              obtain ⟨v17, hv17, hm⟩ := ob_s hm
              refine xr_valN X hw xc3 in_X2 2 (by decide) q195 (f_ref_s hv17) dX3_runs_52 ?_
              refine lv_iload_n hx hb dX3_runs_55 rfl (lv_at hl 1 rfl) ?_
              obtain ⟨a18, hqa18, hm9⟩ := ob_s hm
              clear hm
              subst hqa18
              have hm := hm9
              clear hm9
              obtain ⟨u19, hu19, hm⟩ := ob_s hm
              obtain ⟨w20, hw20, hm⟩ := ob_s hm
              refine xr_reti hS (xr_runV X hw (met_X3_asked N w2.1 x0 a18 x1 w20 hw20) (x_cv X (lv := 78) (by omega) (by decide) cx_X3_asked (lw_V q479 q481 qs7 q120 q482)) xc2 hu19 rfl hl.1 rfl (Nat.le_of_ble_eq_true rfl) dX3_runs_56) (fun H locs cells slots hw hS => ?_)
              refine lv_if_le (tgt := 66) hx hb dX3_runs_59 (by decide) (fun c21 => ?_) (fun c21 => ?_)
              · replace hm := if_t c21 hm
                refine lv_iconst (v := 0) hx hb dX3_runs_66 (by decide) ?_
                exact wkX_X3_runs_67 X hr hlk hnm N w20.1 x0 x1 0 H locs ls _ _ hm hw hS (lv_sub hl [0, 1] rfl)
              · replace hm := if_f c21 hm
                refine lv_iconst (v := 1) hx hb dX3_runs_62 (by decide) ?_
                refine lv_goto (tgt := 67) hx hb dX3_runs_63 (by decide) ?_
                exact wkX_X3_runs_67 X hr hlk hnm N w20.1 x0 x1 1 H locs ls _ _ hm hw hS (lv_sub hl [0, 1] rfl)
      · replace hm := if_f c5 hm
        refine lv_iconst (v := 0) hx hb dX3_runs_15 (by decide) ?_
        obtain rfl := Option.some.inj hm
        exact xr_iret (v := 0) X hr hlk hw hS rfl dX3_runs_16
  exact hg _ _ _ _ hw va_S.rf
/-! DripCups$Night.drop -/
def kX_X3_drop (g : XC) (N : Nat) (S : XS) (x0 : Nat) (x1 : Int32) (x2 : Int32) : Option (XS) :=
  if x1 = (-1) then
    (f_int S 2 x0 14).bind fun v5 =>
    (f_putI S 2 x0 14 (v5 + x2)).bind fun S6 =>
    some S6
  else
    (f_obj S 2 x0 11).bind fun v2 =>
    (a_int S 0 v2 x1).bind fun v3 =>
    (a_putI S 0 v2 x1 (v3 + x2)).bind fun S4 =>
    some S4
theorem cx_X3_drop : yX3_drop.cls = RX3 ∧ yX3_drop.cls ≠ "java/lang/invoke/MethodHandle" ∧ yX3_drop.cls ≠ "java/lang/invoke/VarHandle" ∧ (parseMethodDescriptor yX3_drop.desc).map (fun d => d.parameters.length) = some 2 := by decide +kernel
theorem met_X3_drop {l : Launch} {g : XC} {D : va_G} {A : Nat → Prop} (N : Nat) (S : XS) (x0 : Nat) (x1 : Int32) (x2 : Int32) (w : XS) (hm : kX_X3_drop g N S x0 x1 x2 = some w) : Met l yX3_drop (ws_ yX3_drop cX3_drop 3 (Option.none : Option Jvm.ClassFile.FieldType)) (xRm g S 0) (xPre g D A [.ref x0, .int x1, .int x2] S) (xQv g D A w) (g.2.1 - xTop S) (g.2.2.1 - xSl S) A := by
  refine x_start (own := RX3) (by decide +kernel) rfl (Nat.le_of_ble_eq_true rfl) (fun p e s m below meth c ls X hr hlk hnm hw hl => ?_)
  obtain ⟨hx, hb, -, hown, hts, -⟩ := id X
  have hl : lv_has ls 3 [(0, .ref x0), (1, .int x1), (2, .int x2)] := hl
  have hg : ∀ (H : Heap) (locs : List Loc) (cells slots : Nat), xW g D A S s H → va_S A s.heap H locs → W p l e (xRm g S 0) s m ([.ref x0, .int x1, .int x2] : List Value).toArray below meth c H locs cells slots (MQ below (xQv g D A w) ([.ref x0, .int x1, .int x2] : List Value).toArray s (g.2.1 - xTop S) (g.2.2.1 - xSl S) A) (F0 m 0 ls []) := by
    intro H locs cells slots hw hS
    unfold kX_X3_drop at hm
    refine lv_iload_n hx hb dX3_drop_0 rfl (lv_at hl 1 rfl) ?_
    refine lv_iconst (v := (-1)) hx hb dX3_drop_1 (by decide) ?_
    refine lv_icmp_ne (tgt := 18) hx hb dX3_drop_2 (by decide) (fun c1 => ?_) (fun c1 => ?_)
    · replace hm := if_f c1 hm
      refine lv_aload_n hx hb dX3_drop_18 rfl (lv_at hl 0 rfl) ?_
      obtain ⟨v2, hv2, hm⟩ := ob_s hm
      refine xr_val X hw xc2 in_X3 11 (by decide) q234 (f_obj_s hv2) dX3_drop_19 ?_
      refine lv_iload_n hx hb dX3_drop_22 rfl (lv_at hl 1 rfl) ?_
      refine lv_dup2_11 hx hb dX3_drop_23 rfl rfl ?_
      obtain ⟨v3, hv3, hm⟩ := ob_s hm
      refine xr_iald X hw hv3 dX3_drop_24 ?_
      refine lv_iload_n hx hb dX3_drop_25 rfl (lv_at hl 2 rfl) ?_
      refine lv_iadd hx hb dX3_drop_26 ?_
      obtain ⟨S4, hS4, hm⟩ := ob_s hm
      refine xr_iast X hw hS hS4 dX3_drop_27 (fun H locs hw hS => ?_)
      obtain rfl := Option.some.inj hm
      exact xr_vret X hr hlk hw hS dX3_drop_28
    · replace hm := if_t c1 hm
      refine lv_aload_n hx hb dX3_drop_5 rfl (lv_at hl 0 rfl) ?_
      refine lv_dup hx hb dX3_drop_6 rfl ?_
      obtain ⟨v5, hv5, hm⟩ := ob_s hm
      refine xr_val X hw xc2 in_X3 14 (by decide) q239 (f_int_s hv5) dX3_drop_7 ?_
      refine lv_iload_n hx hb dX3_drop_10 rfl (lv_at hl 2 rfl) ?_
      refine lv_iadd hx hb dX3_drop_11 ?_
      obtain ⟨S6, hS6, hm⟩ := ob_s hm
      refine xr_putI X hw hS xc2 in_X3 tyX3_ok nmX3 14 (by decide) q239 rfl (tyX3_ok 14 (by decide)) rfl rfl hS6 dX3_drop_12 (fun H locs hw hS => ?_)
      refine lv_goto (tgt := 28) hx hb dX3_drop_15 (by decide) ?_
      obtain rfl := Option.some.inj hm
      exact xr_vret X hr hlk hw hS dX3_drop_28
  exact hg _ _ _ _ hw va_S.rf
/-! DripCups$Night.into -/
def kX_X3_into_24 (g : XC) (N : Nat) (S : XS) (x0 : Nat) (x1 : Int32) : Option (XS × Int32) :=
  (f_obj S 2 x0 3).bind fun v1 =>
  (a_int S 0 v1 x1).bind fun v2 =>
  some (S, v2)
theorem wkX_X3_into_24 {p : Program} {l : Launch} {e : Env} {s : State} {m : MethodId} {args : Array Value} {below : List Frame} {meth : Method} {c : Code} {g : XC} {D : va_G} {A : Nat → Prop} {S0 : XS} {w : XS × Int32} (X : xX g D A RX3 S0 p s m args c cX3_into 3) (hr : meth.sig.returnType = (Option.some Jvm.ClassFile.FieldType.int)) (hlk : meth.locks = false) (hnm : meth.name = yX3_into.name) (N : Nat) :
    ∀ (S : XS) (x0 : Nat) (x1 : Int32) (H : Heap) (locs : List Loc) (ls : Array Slot) (cells slots : Nat), kX_X3_into_24 g N S x0 x1 = some w → xW g D A S s H → va_S A s.heap H locs → lv_has ls 3 [(0, .ref x0), (1, .int x1)] → W p l e (xRm g S0 0) s m args below meth c H locs cells slots (MQ below (xQi g D A w) args s (g.2.1 - xTop S0) (g.2.2.1 - xSl S0) A) (F0 m 24 ls []) := by
  obtain ⟨hx, hb, -, hown, hts, -⟩ := id X
  intro S x0 x1 H locs ls cells slots hm hw hS hl
  unfold kX_X3_into_24 at hm
  refine lv_aload_n hx hb dX3_into_24 rfl (lv_at hl 0 rfl) ?_
  obtain ⟨v1, hv1, hm⟩ := ob_s hm
  refine xr_val X hw xc2 in_X3 3 (by decide) q218 (f_obj_s hv1) dX3_into_25 ?_
  refine lv_iload_n hx hb dX3_into_28 rfl (lv_at hl 1 rfl) ?_
  obtain ⟨v2, hv2, hm⟩ := ob_s hm
  refine xr_iald X hw hv2 dX3_into_29 ?_
  refine lv_goto (tgt := 39) hx hb dX3_into_30 (by decide) ?_
  obtain rfl := Option.some.inj hm
  exact xr_iret (v := v2) X hr hlk hw hS rfl dX3_into_39
def kX_X3_into (g : XC) (N : Nat) (S : XS) (x0 : Nat) (x1 : Int32) (x2 : Int32) : Option (XS × Int32) :=
  (f_obj S 2 x0 4).bind fun v1 =>
  (a_int S 0 v1 x1).bind fun v2 =>
  if v2 = (-2) then
    kX_X3_into_24 g N S x0 x1
  else
    (f_obj S 2 x0 5).bind fun v4 =>
    (a_int S 0 v4 x1).bind fun v5 =>
    bnd ((v5 + x2) - (v5 + x2) / 2 * 2) fun v6 =>
    if v6 = 0 then
      kX_X3_into_24 g N S x0 x1
    else
      (f_obj S 2 x0 4).bind fun v8 =>
      (a_int S 0 v8 x1).bind fun v9 =>
      some (S, v9)
theorem cx_X3_into : yX3_into.cls = RX3 ∧ yX3_into.cls ≠ "java/lang/invoke/MethodHandle" ∧ yX3_into.cls ≠ "java/lang/invoke/VarHandle" ∧ (parseMethodDescriptor yX3_into.desc).map (fun d => d.parameters.length) = some 2 := by decide +kernel
theorem met_X3_into {l : Launch} {g : XC} {D : va_G} {A : Nat → Prop} (N : Nat) (S : XS) (x0 : Nat) (x1 : Int32) (x2 : Int32) (w : XS × Int32) (hm : kX_X3_into g N S x0 x1 x2 = some w) : Met l yX3_into (ws_ yX3_into cX3_into 3 (Option.some Jvm.ClassFile.FieldType.int)) (xRm g S 0) (xPre g D A [.ref x0, .int x1, .int x2] S) (xQi g D A w) (g.2.1 - xTop S) (g.2.2.1 - xSl S) A := by
  refine x_start (own := RX3) (by decide +kernel) rfl (Nat.le_of_ble_eq_true rfl) (fun p e s m below meth c ls X hr hlk hnm hw hl => ?_)
  obtain ⟨hx, hb, -, hown, hts, -⟩ := id X
  have hl : lv_has ls 3 [(0, .ref x0), (1, .int x1), (2, .int x2)] := hl
  have hg : ∀ (H : Heap) (locs : List Loc) (cells slots : Nat), xW g D A S s H → va_S A s.heap H locs → W p l e (xRm g S 0) s m ([.ref x0, .int x1, .int x2] : List Value).toArray below meth c H locs cells slots (MQ below (xQi g D A w) ([.ref x0, .int x1, .int x2] : List Value).toArray s (g.2.1 - xTop S) (g.2.2.1 - xSl S) A) (F0 m 0 ls []) := by
    intro H locs cells slots hw hS
    unfold kX_X3_into at hm
    refine lv_aload_n hx hb dX3_into_0 rfl (lv_at hl 0 rfl) ?_
    obtain ⟨v1, hv1, hm⟩ := ob_s hm
    refine xr_val X hw xc2 in_X3 4 (by decide) q221 (f_obj_s hv1) dX3_into_1 ?_
    refine lv_iload_n hx hb dX3_into_4 rfl (lv_at hl 1 rfl) ?_
    obtain ⟨v2, hv2, hm⟩ := ob_s hm
    refine xr_iald X hw hv2 dX3_into_5 ?_
    refine lv_bipush (v := (-2)) hx hb dX3_into_6 (by decide) ?_
    refine lv_icmp_eq (tgt := 24) hx hb dX3_into_8 (by decide) (fun c3 => ?_) (fun c3 => ?_)
    · replace hm := if_t c3 hm
      exact wkX_X3_into_24 X hr hlk hnm N S x0 x1 H locs ls _ _ hm hw hS (lv_sub hl [0, 1] rfl)
    · replace hm := if_f c3 hm
      refine lv_aload_n hx hb dX3_into_11 rfl (lv_at hl 0 rfl) ?_
      obtain ⟨v4, hv4, hm⟩ := ob_s hm
      refine xr_val X hw xc2 in_X3 5 (by decide) q224 (f_obj_s hv4) dX3_into_12 ?_
      refine lv_iload_n hx hb dX3_into_15 rfl (lv_at hl 1 rfl) ?_
      obtain ⟨v5, hv5, hm⟩ := ob_s hm
      refine xr_iald X hw hv5 dX3_into_16 ?_
      refine lv_iload_n hx hb dX3_into_17 rfl (lv_at hl 2 rfl) ?_
      refine lv_iadd hx hb dX3_into_18 ?_
      refine lv_iconst (v := 2) hx hb dX3_into_19 (by decide) ?_
      refine lv_irem hx hb dX3_into_20 (by decide) ?_
      refine lv_topi (fun v6 ev6 => ?_)
      replace hm := bnd_s hm ev6
      refine lv_if_ne (tgt := 33) hx hb dX3_into_21 (by decide) (fun c7 => ?_) (fun c7 => ?_)
      · replace hm := if_f c7 hm
        refine lv_aload_n hx hb dX3_into_33 rfl (lv_at hl 0 rfl) ?_
        obtain ⟨v8, hv8, hm⟩ := ob_s hm
        refine xr_val X hw xc2 in_X3 4 (by decide) q221 (f_obj_s hv8) dX3_into_34 ?_
        refine lv_iload_n hx hb dX3_into_37 rfl (lv_at hl 1 rfl) ?_
        obtain ⟨v9, hv9, hm⟩ := ob_s hm
        refine xr_iald X hw hv9 dX3_into_38 ?_
        obtain rfl := Option.some.inj hm
        exact xr_iret (v := v9) X hr hlk hw hS rfl dX3_into_39
      · replace hm := if_t c7 hm
        exact wkX_X3_into_24 X hr hlk hnm N S x0 x1 H locs ls _ _ hm hw hS (lv_sub hl [0, 1] rfl)
  exact hg _ _ _ _ hw va_S.rf
/-! DripCups$Night.settle -/
def kX_X3_settle (g : XC) (N : Nat) (S : XS) (x0 : Nat) (x1 : Int32) : Option (XS × Int32) :=
  (f_obj S 2 x0 1).bind fun v1 =>
  (a_int S 0 v1 x1).bind fun v2 =>
  (f_obj S 2 x0 11).bind fun v3 =>
  (a_int S 0 v3 x1).bind fun v4 =>
  (a_putI S 0 v1 x1 (v2 + v4)).bind fun S5 =>
  (f_obj S5 2 x0 11).bind fun v6 =>
  (a_putI S5 0 v6 x1 0).bind fun S7 =>
  (f_obj S7 2 x0 1).bind fun v8 =>
  (a_int S7 0 v8 x1).bind fun v9 =>
  (f_obj S7 2 x0 0).bind fun v10 =>
  (a_int S7 0 v10 x1).bind fun v11 =>
  if v11 = 0 then none else
  bnd (v9 / v11) fun v13 =>
  (f_obj S7 2 x0 1).bind fun v14 =>
  (a_int S7 0 v14 x1).bind fun v15 =>
  (f_obj S7 2 x0 0).bind fun v16 =>
  (a_int S7 0 v16 x1).bind fun v17 =>
  if v17 = 0 then none else
  bnd (v15 - v15 / v17 * v17) fun v19 =>
  (a_putI S7 0 v14 x1 v19).bind fun S20 =>
  (f_obj S20 2 x0 2).bind fun v21 =>
  (f_obj S20 2 x0 2).bind fun v22 =>
  (a_int S20 0 v22 x1).bind fun v23 =>
  bnd (if ((v23 + v13) : Int32) < 1000000000 then (v23 + v13) else 1000000000) fun v24 =>
  (a_putI S20 0 v21 x1 v24).bind fun S25 =>
  (f_obj S25 2 x0 4).bind fun v26 =>
  (a_int S25 0 v26 x1).bind fun v27 =>
  if v27 = (-2) then
    (f_obj S25 2 x0 3).bind fun v44 =>
    (a_int S25 0 v44 x1).bind fun v45 =>
    (f_cls S25 2 x0).bind fun u46 =>
    (kX_X3_drop g N S25 x0 v45 v13).bind fun w47 =>
    some (w47, v13)
  else
    (f_cls S25 2 x0).bind fun u29 =>
    (kX_X3_into g N S25 x0 x1 0).bind fun w30 =>
    bnd ((v13 + 1) / 2) fun v31 =>
    (f_cls w30.1 2 x0).bind fun u32 =>
    (kX_X3_drop g N w30.1 x0 w30.2 v31).bind fun w33 =>
    (f_cls w33 2 x0).bind fun u34 =>
    (kX_X3_into g N w33 x0 x1 1).bind fun w35 =>
    bnd (v13 / 2) fun v36 =>
    (f_cls w35.1 2 x0).bind fun u37 =>
    (kX_X3_drop g N w35.1 x0 w35.2 v36).bind fun w38 =>
    (f_obj w38 2 x0 5).bind fun v39 =>
    (f_obj w38 2 x0 5).bind fun v40 =>
    (a_int w38 0 v40 x1).bind fun v41 =>
    bnd ((v41 + v13) - (v41 + v13) / 2 * 2) fun v42 =>
    (a_putI w38 0 v39 x1 v42).bind fun S43 =>
    some (S43, v13)
theorem cx_X3_settle : yX3_settle.cls = RX3 ∧ yX3_settle.cls ≠ "java/lang/invoke/MethodHandle" ∧ yX3_settle.cls ≠ "java/lang/invoke/VarHandle" ∧ (parseMethodDescriptor yX3_settle.desc).map (fun d => d.parameters.length) = some 1 := by decide +kernel
theorem met_X3_settle {l : Launch} {g : XC} {D : va_G} {A : Nat → Prop} (N : Nat) (S : XS) (x0 : Nat) (x1 : Int32) (w : XS × Int32) (hm : kX_X3_settle g N S x0 x1 = some w) : Met l yX3_settle (ws_ yX3_settle cX3_settle 3 (Option.some Jvm.ClassFile.FieldType.int)) (xRm g S 1) (xPre g D A [.ref x0, .int x1] S) (xQi g D A w) (g.2.1 - xTop S) (g.2.2.1 - xSl S) A := by
  refine x_start (own := RX3) (by decide +kernel) rfl (Nat.le_of_ble_eq_true rfl) (fun p e s m below meth c ls X hr hlk hnm hw hl => ?_)
  obtain ⟨hx, hb, -, hown, hts, -⟩ := id X
  have hl : lv_has ls 3 [(0, .ref x0), (1, .int x1)] := hl
  have hg : ∀ (H : Heap) (locs : List Loc) (cells slots : Nat), xW g D A S s H → va_S A s.heap H locs → W p l e (xRm g S 1) s m ([.ref x0, .int x1] : List Value).toArray below meth c H locs cells slots (MQ below (xQi g D A w) ([.ref x0, .int x1] : List Value).toArray s (g.2.1 - xTop S) (g.2.2.1 - xSl S) A) (F0 m 0 ls []) := by
    intro H locs cells slots hw hS
    unfold kX_X3_settle at hm
    refine lv_aload_n hx hb dX3_settle_0 rfl (lv_at hl 0 rfl) ?_
    obtain ⟨v1, hv1, hm⟩ := ob_s hm
    refine xr_val X hw xc2 in_X3 1 (by decide) q213 (f_obj_s hv1) dX3_settle_1 ?_
    refine lv_iload_n hx hb dX3_settle_4 rfl (lv_at hl 1 rfl) ?_
    refine lv_dup2_11 hx hb dX3_settle_5 rfl rfl ?_
    obtain ⟨v2, hv2, hm⟩ := ob_s hm
    refine xr_iald X hw hv2 dX3_settle_6 ?_
    refine lv_aload_n hx hb dX3_settle_7 rfl (lv_at hl 0 rfl) ?_
    obtain ⟨v3, hv3, hm⟩ := ob_s hm
    refine xr_val X hw xc2 in_X3 11 (by decide) q234 (f_obj_s hv3) dX3_settle_8 ?_
    refine lv_iload_n hx hb dX3_settle_11 rfl (lv_at hl 1 rfl) ?_
    obtain ⟨v4, hv4, hm⟩ := ob_s hm
    refine xr_iald X hw hv4 dX3_settle_12 ?_
    refine lv_iadd hx hb dX3_settle_13 ?_
    obtain ⟨S5, hS5, hm⟩ := ob_s hm
    refine xr_iast X hw hS hS5 dX3_settle_14 (fun H locs hw hS => ?_)
    refine lv_aload_n hx hb dX3_settle_15 rfl (lv_at hl 0 rfl) ?_
    obtain ⟨v6, hv6, hm⟩ := ob_s hm
    refine xr_val X hw xc2 in_X3 11 (by decide) q234 (f_obj_s hv6) dX3_settle_16 ?_
    refine lv_iload_n hx hb dX3_settle_19 rfl (lv_at hl 1 rfl) ?_
    refine lv_iconst (v := 0) hx hb dX3_settle_20 (by decide) ?_
    obtain ⟨S7, hS7, hm⟩ := ob_s hm
    refine xr_iast X hw hS hS7 dX3_settle_21 (fun H locs hw hS => ?_)
    refine lv_aload_n hx hb dX3_settle_22 rfl (lv_at hl 0 rfl) ?_
    obtain ⟨v8, hv8, hm⟩ := ob_s hm
    refine xr_val X hw xc2 in_X3 1 (by decide) q213 (f_obj_s hv8) dX3_settle_23 ?_
    refine lv_iload_n hx hb dX3_settle_26 rfl (lv_at hl 1 rfl) ?_
    obtain ⟨v9, hv9, hm⟩ := ob_s hm
    refine xr_iald X hw hv9 dX3_settle_27 ?_
    refine lv_aload_n hx hb dX3_settle_28 rfl (lv_at hl 0 rfl) ?_
    obtain ⟨v10, hv10, hm⟩ := ob_s hm
    refine xr_val X hw xc2 in_X3 0 (by decide) q210 (f_obj_s hv10) dX3_settle_29 ?_
    refine lv_iload_n hx hb dX3_settle_32 rfl (lv_at hl 1 rfl) ?_
    obtain ⟨v11, hv11, hm⟩ := ob_s hm
    refine xr_iald X hw hv11 dX3_settle_33 ?_
    by_cases c12 : v11 = 0
    · replace hm := if_t c12 hm
      cases hm
    replace hm := if_f c12 hm
    refine lv_idiv hx hb dX3_settle_34 c12 ?_
    refine lv_topi (fun v13 ev13 => ?_)
    replace hm := bnd_s hm ev13
    refine lv_istore_n (lv' := [(2, .int v13), (0, .ref x0), (1, .int x1)]) hx hb dX3_settle_35 rfl hl (by decide) rfl (fun ls hl => ?_)
    refine lv_aload_n hx hb dX3_settle_36 rfl (lv_at hl 1 rfl) ?_
    obtain ⟨v14, hv14, hm⟩ := ob_s hm
    refine xr_val X hw xc2 in_X3 1 (by decide) q213 (f_obj_s hv14) dX3_settle_37 ?_
    refine lv_iload_n hx hb dX3_settle_40 rfl (lv_at hl 2 rfl) ?_
    refine lv_dup2_11 hx hb dX3_settle_41 rfl rfl ?_
    obtain ⟨v15, hv15, hm⟩ := ob_s hm
    refine xr_iald X hw hv15 dX3_settle_42 ?_
    refine lv_aload_n hx hb dX3_settle_43 rfl (lv_at hl 1 rfl) ?_
    obtain ⟨v16, hv16, hm⟩ := ob_s hm
    refine xr_val X hw xc2 in_X3 0 (by decide) q210 (f_obj_s hv16) dX3_settle_44 ?_
    refine lv_iload_n hx hb dX3_settle_47 rfl (lv_at hl 2 rfl) ?_
    obtain ⟨v17, hv17, hm⟩ := ob_s hm
    refine xr_iald X hw hv17 dX3_settle_48 ?_
    by_cases c18 : v17 = 0
    · replace hm := if_t c18 hm
      cases hm
    replace hm := if_f c18 hm
    refine lv_irem hx hb dX3_settle_49 c18 ?_
    refine lv_topi (fun v19 ev19 => ?_)
    replace hm := bnd_s hm ev19
    obtain ⟨S20, hS20, hm⟩ := ob_s hm
    refine xr_iast X hw hS hS20 dX3_settle_50 (fun H locs hw hS => ?_)
    refine lv_aload_n hx hb dX3_settle_51 rfl (lv_at hl 1 rfl) ?_
    obtain ⟨v21, hv21, hm⟩ := ob_s hm
    refine xr_val X hw xc2 in_X3 2 (by decide) q216 (f_obj_s hv21) dX3_settle_52 ?_
    refine lv_iload_n hx hb dX3_settle_55 rfl (lv_at hl 2 rfl) ?_
    refine lv_ldc (v := 1000000000) hx hb hown (hts _ q572) dX3_settle_56 ?_
    refine lv_aload_n hx hb dX3_settle_58 rfl (lv_at hl 1 rfl) ?_
    obtain ⟨v22, hv22, hm⟩ := ob_s hm
    refine xr_val X hw xc2 in_X3 2 (by decide) q216 (f_obj_s hv22) dX3_settle_59 ?_
    refine lv_iload_n hx hb dX3_settle_62 rfl (lv_at hl 2 rfl) ?_
    obtain ⟨v23, hv23, hm⟩ := ob_s hm
    refine xr_iald X hw hv23 dX3_settle_63 ?_
    refine lv_iload_n hx hb dX3_settle_64 rfl (lv_at hl 0 rfl) ?_
    refine lv_iadd hx hb dX3_settle_65 ?_
    refine xr_mmin X hw hl.1 q573 q418 q127 q419 (Nat.le_of_ble_eq_true rfl) dX3_settle_66 (fun cells slots => ?_)
    refine lv_topi (fun v24 ev24 => ?_)
    replace hm := bnd_s hm ev24
    obtain ⟨S25, hS25, hm⟩ := ob_s hm
    refine xr_iast X hw hS hS25 dX3_settle_69 (fun H locs hw hS => ?_)
    refine lv_aload_n hx hb dX3_settle_70 rfl (lv_at hl 1 rfl) ?_
    obtain ⟨v26, hv26, hm⟩ := ob_s hm
    refine xr_val X hw xc2 in_X3 4 (by decide) q221 (f_obj_s hv26) dX3_settle_71 ?_
    refine lv_iload_n hx hb dX3_settle_74 rfl (lv_at hl 2 rfl) ?_
    obtain ⟨v27, hv27, hm⟩ := ob_s hm
    refine xr_iald X hw hv27 dX3_settle_75 ?_
    refine lv_bipush (v := (-2)) hx hb dX3_settle_76 (by decide) ?_
    refine lv_icmp_ne (tgt := 95) hx hb dX3_settle_78 (by decide) (fun c28 => ?_) (fun c28 => ?_)
    · replace hm := if_f c28 hm
      refine lv_aload_n hx hb dX3_settle_95 rfl (lv_at hl 1 rfl) ?_
      refine lv_aload_n hx hb dX3_settle_96 rfl (lv_at hl 1 rfl) ?_
      refine lv_iload_n hx hb dX3_settle_97 rfl (lv_at hl 2 rfl) ?_
      refine lv_iconst (v := 0) hx hb dX3_settle_98 (by decide) ?_
      obtain ⟨u29, hu29, hm⟩ := ob_s hm
      obtain ⟨w30, hw30, hm⟩ := ob_s hm
      refine xr_reti hS (xr_runV X hw (met_X3_into N S25 x0 x1 0 w30 hw30) (x_cv X (lv := 0) (by omega) (by decide) cx_X3_into (lw_V q578 q579 q580 q120 q581)) xc2 hu29 rfl hl.1 rfl (Nat.le_of_ble_eq_true rfl) dX3_settle_99) (fun H locs cells slots hw hS => ?_)
      refine lv_iload_n hx hb dX3_settle_102 rfl (lv_at hl 0 rfl) ?_
      refine lv_iconst (v := 1) hx hb dX3_settle_103 (by decide) ?_
      refine lv_iadd hx hb dX3_settle_104 ?_
      refine lv_iconst (v := 2) hx hb dX3_settle_105 (by decide) ?_
      refine lv_idiv hx hb dX3_settle_106 (by decide) ?_
      refine lv_topi (fun v31 ev31 => ?_)
      replace hm := bnd_s hm ev31
      obtain ⟨u32, hu32, hm⟩ := ob_s hm
      obtain ⟨w33, hw33, hm⟩ := ob_s hm
      refine xr_retv hS (xr_runV X hw (met_X3_drop N w30.1 x0 w30.2 v31 w33 hw33) (x_cv X (lv := 0) (by omega) (by decide) cx_X3_drop (lw_V q574 q576 qs9 q120 q577)) xc2 hu32 rfl hl.1 rfl (Nat.le_of_ble_eq_true rfl) dX3_settle_107) (fun H locs cells slots hw hS => ?_)
      refine lv_aload_n hx hb dX3_settle_110 rfl (lv_at hl 1 rfl) ?_
      refine lv_aload_n hx hb dX3_settle_111 rfl (lv_at hl 1 rfl) ?_
      refine lv_iload_n hx hb dX3_settle_112 rfl (lv_at hl 2 rfl) ?_
      refine lv_iconst (v := 1) hx hb dX3_settle_113 (by decide) ?_
      obtain ⟨u34, hu34, hm⟩ := ob_s hm
      obtain ⟨w35, hw35, hm⟩ := ob_s hm
      refine xr_reti hS (xr_runV X hw (met_X3_into N w33 x0 x1 1 w35 hw35) (x_cv X (lv := 0) (by omega) (by decide) cx_X3_into (lw_V q578 q579 q580 q120 q581)) xc2 hu34 rfl hl.1 rfl (Nat.le_of_ble_eq_true rfl) dX3_settle_114) (fun H locs cells slots hw hS => ?_)
      refine lv_iload_n hx hb dX3_settle_117 rfl (lv_at hl 0 rfl) ?_
      refine lv_iconst (v := 2) hx hb dX3_settle_118 (by decide) ?_
      refine lv_idiv hx hb dX3_settle_119 (by decide) ?_
      refine lv_topi (fun v36 ev36 => ?_)
      replace hm := bnd_s hm ev36
      obtain ⟨u37, hu37, hm⟩ := ob_s hm
      obtain ⟨w38, hw38, hm⟩ := ob_s hm
      refine xr_retv hS (xr_runV X hw (met_X3_drop N w35.1 x0 w35.2 v36 w38 hw38) (x_cv X (lv := 0) (by omega) (by decide) cx_X3_drop (lw_V q574 q576 qs9 q120 q577)) xc2 hu37 rfl hl.1 rfl (Nat.le_of_ble_eq_true rfl) dX3_settle_120) (fun H locs cells slots hw hS => ?_)
      refine lv_aload_n hx hb dX3_settle_123 rfl (lv_at hl 1 rfl) ?_
      obtain ⟨v39, hv39, hm⟩ := ob_s hm
      refine xr_val X hw xc2 in_X3 5 (by decide) q224 (f_obj_s hv39) dX3_settle_124 ?_
      refine lv_iload_n hx hb dX3_settle_127 rfl (lv_at hl 2 rfl) ?_
      refine lv_aload_n hx hb dX3_settle_128 rfl (lv_at hl 1 rfl) ?_
      obtain ⟨v40, hv40, hm⟩ := ob_s hm
      refine xr_val X hw xc2 in_X3 5 (by decide) q224 (f_obj_s hv40) dX3_settle_129 ?_
      refine lv_iload_n hx hb dX3_settle_132 rfl (lv_at hl 2 rfl) ?_
      obtain ⟨v41, hv41, hm⟩ := ob_s hm
      refine xr_iald X hw hv41 dX3_settle_133 ?_
      refine lv_iload_n hx hb dX3_settle_134 rfl (lv_at hl 0 rfl) ?_
      refine lv_iadd hx hb dX3_settle_135 ?_
      refine lv_iconst (v := 2) hx hb dX3_settle_136 (by decide) ?_
      refine lv_irem hx hb dX3_settle_137 (by decide) ?_
      refine lv_topi (fun v42 ev42 => ?_)
      replace hm := bnd_s hm ev42
      obtain ⟨S43, hS43, hm⟩ := ob_s hm
      refine xr_iast X hw hS hS43 dX3_settle_138 (fun H locs hw hS => ?_)
      refine lv_iload_n hx hb dX3_settle_139 rfl (lv_at hl 0 rfl) ?_
      obtain rfl := Option.some.inj hm
      exact xr_iret (v := v13) X hr hlk hw hS rfl dX3_settle_140
    · replace hm := if_t c28 hm
      refine lv_aload_n hx hb dX3_settle_81 rfl (lv_at hl 1 rfl) ?_
      refine lv_aload_n hx hb dX3_settle_82 rfl (lv_at hl 1 rfl) ?_
      obtain ⟨v44, hv44, hm⟩ := ob_s hm
      refine xr_val X hw xc2 in_X3 3 (by decide) q218 (f_obj_s hv44) dX3_settle_83 ?_
      refine lv_iload_n hx hb dX3_settle_86 rfl (lv_at hl 2 rfl) ?_
      obtain ⟨v45, hv45, hm⟩ := ob_s hm
      refine xr_iald X hw hv45 dX3_settle_87 ?_
      refine lv_iload_n hx hb dX3_settle_88 rfl (lv_at hl 0 rfl) ?_
      obtain ⟨u46, hu46, hm⟩ := ob_s hm
      obtain ⟨w47, hw47, hm⟩ := ob_s hm
      refine xr_retv hS (xr_runV X hw (met_X3_drop N S25 x0 v45 v13 w47 hw47) (x_cv X (lv := 0) (by omega) (by decide) cx_X3_drop (lw_V q574 q576 qs9 q120 q577)) xc2 hu46 rfl hl.1 rfl (Nat.le_of_ble_eq_true rfl) dX3_settle_89) (fun H locs cells slots hw hS => ?_)
      refine lv_goto (tgt := 139) hx hb dX3_settle_92 (by decide) ?_
      refine lv_iload_n hx hb dX3_settle_139 rfl (lv_at hl 0 rfl) ?_
      obtain rfl := Option.some.inj hm
      exact xr_iret (v := v13) X hr hlk hw hS rfl dX3_settle_140
  exact hg _ _ _ _ hw va_S.rf
/-! DripCups$Night.leaks -/
def kX_X3_leaks (g : XC) (N : Nat) (S : XS) (x0 : Nat) (x1 : Int32) : Option (XS × Int32) :=
  (f_obj S 2 x0 1).bind fun v1 =>
  (a_int S 0 v1 x1).bind fun v2 =>
  (f_obj S 2 x0 15).bind fun v3 =>
  (f_obj S 1 v3 1).bind fun v4 =>
  (f_ref S 3 v4 1).bind fun v5 =>
  (v5).bind fun a6 =>
  (f_cls S 2 x0).bind fun u7 =>
  (kX_X3_asked g N S x0 a6 x1).bind fun w8 =>
  bnd (if (w8.2 : Int32) < v2 then w8.2 else v2) fun v9 =>
  bnd (if (0 : Int32) < v9 then v9 else 0) fun v10 =>
  some (w8.1, v10)
theorem cx_X3_leaks : yX3_leaks.cls = RX3 ∧ yX3_leaks.cls ≠ "java/lang/invoke/MethodHandle" ∧ yX3_leaks.cls ≠ "java/lang/invoke/VarHandle" ∧ (parseMethodDescriptor yX3_leaks.desc).map (fun d => d.parameters.length) = some 1 := by decide +kernel
theorem met_X3_leaks {l : Launch} {g : XC} {D : va_G} {A : Nat → Prop} (N : Nat) (S : XS) (x0 : Nat) (x1 : Int32) (w : XS × Int32) (hm : kX_X3_leaks g N S x0 x1 = some w) : Met l yX3_leaks (ws_ yX3_leaks cX3_leaks 2 (Option.some Jvm.ClassFile.FieldType.int)) (xRm g S 79) (xPre g D A [.ref x0, .int x1] S) (xQi g D A w) (g.2.1 - xTop S) (g.2.2.1 - xSl S) A := by
  refine x_start (own := RX3) (by decide +kernel) rfl (Nat.le_of_ble_eq_true rfl) (fun p e s m below meth c ls X hr hlk hnm hw hl => ?_)
  obtain ⟨hx, hb, -, hown, hts, -⟩ := id X
  have hl : lv_has ls 2 [(0, .ref x0), (1, .int x1)] := hl
  have hg : ∀ (H : Heap) (locs : List Loc) (cells slots : Nat), xW g D A S s H → va_S A s.heap H locs → W p l e (xRm g S 79) s m ([.ref x0, .int x1] : List Value).toArray below meth c H locs cells slots (MQ below (xQi g D A w) ([.ref x0, .int x1] : List Value).toArray s (g.2.1 - xTop S) (g.2.2.1 - xSl S) A) (F0 m 0 ls []) := by
    intro H locs cells slots hw hS
    unfold kX_X3_leaks at hm
    refine lv_iconst (v := 0) hx hb dX3_leaks_0 (by decide) ?_
    refine lv_aload_n hx hb dX3_leaks_1 rfl (lv_at hl 0 rfl) ?_
    obtain ⟨v1, hv1, hm⟩ := ob_s hm
    refine xr_val X hw xc2 in_X3 1 (by decide) q213 (f_obj_s hv1) dX3_leaks_2 ?_
    refine lv_iload_n hx hb dX3_leaks_5 rfl (lv_at hl 1 rfl) ?_
    obtain ⟨v2, hv2, hm⟩ := ob_s hm
    refine xr_iald X hw hv2 dX3_leaks_6 ?_
    refine lv_aload_n hx hb dX3_leaks_7 rfl (lv_at hl 0 rfl) ?_
    refine lv_aload_n hx hb dX3_leaks_8 rfl (lv_at hl 0 rfl) ?_
    obtain ⟨v3, hv3, hm⟩ := ob_s hm
    refine xr_val X hw xc2 in_X3 15 (by decide) q241 (f_obj_s hv3) dX3_leaks_9 ?_
    obtain ⟨v4, hv4, hm⟩ := ob_s hm
    refine xr_valN X hw xc1 in_X1 1 (by decide) q280 (f_obj_s hv4) dX3_leaks_12 ?_
    obtain ⟨v5, hv5, hm⟩ := ob_s hm
    refine xr_valN X hw xc3 in_X2 1 (by decide) q193 (f_ref_s hv5) dX3_leaks_15 ?_
    refine lv_iload_n hx hb dX3_leaks_18 rfl (lv_at hl 1 rfl) ?_
    obtain ⟨a6, hqa6, hm9⟩ := ob_s hm
    clear hm
    subst hqa6
    have hm := hm9
    clear hm9
    obtain ⟨u7, hu7, hm⟩ := ob_s hm
    obtain ⟨w8, hw8, hm⟩ := ob_s hm
    refine xr_reti hS (xr_runV X hw (met_X3_asked N S x0 a6 x1 w8 hw8) (x_cv X (lv := 78) (by omega) (by decide) cx_X3_asked (lw_V q479 q481 qs7 q120 q482)) xc2 hu7 rfl hl.1 rfl (Nat.le_of_ble_eq_true rfl) dX3_leaks_19) (fun H locs cells slots hw hS => ?_)
    refine xr_mmin X hw hl.1 q573 q418 q127 q419 (Nat.le_of_ble_eq_true rfl) dX3_leaks_22 (fun cells slots => ?_)
    refine lv_topi (fun v9 ev9 => ?_)
    replace hm := bnd_s hm ev9
    refine xr_mmax X hw hl.1 q586 q383 q127 q384 (Nat.le_of_ble_eq_true rfl) dX3_leaks_25 (fun cells slots => ?_)
    refine lv_topi (fun v10 ev10 => ?_)
    replace hm := bnd_s hm ev10
    obtain rfl := Option.some.inj hm
    exact xr_iret (v := v10) X hr hlk hw hS rfl dX3_leaks_28
  exact hg _ _ _ _ hw va_S.rf
/-! DripCups$Night.pass -/
def kX_X3_pass_141 (g : XC) (N : Nat) (S : XS) (x0 : Nat) : Option (XS × Nat) :=
  (f_int S 2 x0 6).bind fun v1 =>
  (f_putI S 2 x0 6 (v1 + 1)).bind fun S2 =>
  some (S2, x0)
theorem wkX_X3_pass_141 {p : Program} {l : Launch} {e : Env} {s : State} {m : MethodId} {args : Array Value} {below : List Frame} {meth : Method} {c : Code} {g : XC} {D : va_G} {A : Nat → Prop} {S0 : XS} {w : XS × Nat} (X : xX g D A RX3 S0 p s m args c cX3_pass 3) (hr : meth.sig.returnType = (Option.some (Jvm.ClassFile.FieldType.object "DripCups$Night"))) (hlk : meth.locks = false) (hnm : meth.name = yX3_pass.name) (N : Nat) :
    ∀ (S : XS) (x0 : Nat) (H : Heap) (locs : List Loc) (ls : Array Slot) (cells slots : Nat), kX_X3_pass_141 g N S x0 = some w → xW g D A S s H → va_S A s.heap H locs → lv_has ls 3 [(0, .ref x0)] → W p l e (xRm g S0 80) s m args below meth c H locs cells slots (MQ below (xQr g D A w) args s (g.2.1 - xTop S0) (g.2.2.1 - xSl S0) A) (F0 m 141 ls []) := by
  obtain ⟨hx, hb, -, hown, hts, -⟩ := id X
  intro S x0 H locs ls cells slots hm hw hS hl
  unfold kX_X3_pass_141 at hm
  refine lv_aload_n hx hb dX3_pass_141 rfl (lv_at hl 0 rfl) ?_
  refine lv_dup hx hb dX3_pass_142 rfl ?_
  obtain ⟨v1, hv1, hm⟩ := ob_s hm
  refine xr_val X hw xc2 in_X3 6 (by decide) q225 (f_int_s hv1) dX3_pass_143 ?_
  refine lv_iconst (v := 1) hx hb dX3_pass_146 (by decide) ?_
  refine lv_iadd hx hb dX3_pass_147 ?_
  obtain ⟨S2, hS2, hm⟩ := ob_s hm
  refine xr_putI X hw hS xc2 in_X3 tyX3_ok nmX3 6 (by decide) q225 rfl (tyX3_ok 6 (by decide)) rfl rfl hS2 dX3_pass_148 (fun H locs hw hS => ?_)
  refine lv_aload_n hx hb dX3_pass_151 rfl (lv_at hl 0 rfl) ?_
  obtain rfl := Option.some.inj hm
  exact xr_aret X hr (by first | exact Or.inl ⟨_, rfl⟩ | exact Or.inr ⟨_, rfl⟩) hlk hw hS dX3_pass_152
def kX_X3_pass_75 (g : XC) (N : Nat) : Nat → XS → Nat → Int32 → Option (XS × Nat)
  | 0, _, _, _ => none
  | n + 1, S, x0, x1 =>
    (f_obj S 2 x0 15).bind fun v1 =>
    (f_obj S 1 v1 1).bind fun v2 =>
    (f_cls S 3 v2).bind fun u3 =>
    (kX_X2_cups g N S v2).bind fun w4 =>
    if w4.2 ≤ x1 then
      kX_X3_pass_141 g N w4.1 x0
    else
      (f_obj w4.1 2 x0 15).bind fun v6 =>
      (f_obj w4.1 1 v6 1).bind fun v7 =>
      (f_ref w4.1 3 v7 1).bind fun v8 =>
      match v8 with
      | none =>
        kX_X3_pass_141 g N w4.1 x0
      | some a10 =>
        (f_int w4.1 2 x0 8).bind fun v11 =>
        if v11 = 0 then
          (f_cls w4.1 2 x0).bind fun u13 =>
          (kX_X3_leaks g N w4.1 x0 x1).bind fun w14 =>
          (f_obj w14.1 2 x0 1).bind fun v15 =>
          (a_int w14.1 0 v15 x1).bind fun v16 =>
          (a_putI w14.1 0 v15 x1 (v16 - w14.2)).bind fun S17 =>
          (f_int S17 2 x0 14).bind fun v18 =>
          (f_putI S17 2 x0 14 (v18 + w14.2)).bind fun S19 =>
          kX_X3_pass_75 g N n S19 x0 (x1 + 1)
        else
          kX_X3_pass_141 g N w4.1 x0
theorem wkX_X3_pass_75 {p : Program} {l : Launch} {e : Env} {s : State} {m : MethodId} {args : Array Value} {below : List Frame} {meth : Method} {c : Code} {g : XC} {D : va_G} {A : Nat → Prop} {S0 : XS} {w : XS × Nat} (X : xX g D A RX3 S0 p s m args c cX3_pass 3) (hr : meth.sig.returnType = (Option.some (Jvm.ClassFile.FieldType.object "DripCups$Night"))) (hlk : meth.locks = false) (hnm : meth.name = yX3_pass.name) (N : Nat) :
    ∀ (n : Nat) (S : XS) (x0 : Nat) (x1 : Int32) (H : Heap) (locs : List Loc) (ls : Array Slot) (cells slots : Nat), kX_X3_pass_75 g N n S x0 x1 = some w → xW g D A S s H → va_S A s.heap H locs → lv_has ls 3 [(0, .ref x0), (1, .int x1)] → W p l e (xRm g S0 80) s m args below meth c H locs cells slots (MQ below (xQr g D A w) args s (g.2.1 - xTop S0) (g.2.2.1 - xSl S0) A) (F0 m 75 ls []) := by
  obtain ⟨hx, hb, -, hown, hts, -⟩ := id X
  intro n
  induction n with
  | zero =>
    intro S x0 x1 H locs ls cells slots hm
    cases hm
  | succ n ih =>
    intro S x0 x1 H locs ls cells slots hm hw hS hl
    rw [kX_X3_pass_75] at hm
    refine lv_iload_n hx hb dX3_pass_75 rfl (lv_at hl 1 rfl) ?_
    refine lv_aload_n hx hb dX3_pass_76 rfl (lv_at hl 0 rfl) ?_
    obtain ⟨v1, hv1, hm⟩ := ob_s hm
    refine xr_val X hw xc2 in_X3 15 (by decide) q241 (f_obj_s hv1) dX3_pass_77 ?_
    obtain ⟨v2, hv2, hm⟩ := ob_s hm
    refine xr_valN X hw xc1 in_X1 1 (by decide) q280 (f_obj_s hv2) dX3_pass_80 ?_
    obtain ⟨u3, hu3, hm⟩ := ob_s hm
    obtain ⟨w4, hw4, hm⟩ := ob_s hm
    refine xr_reti hS (xr_runV X hw (met_X2_cups N S v2 w4 hw4) (x_cv X (lv := 1) (by omega) (by decide) cx_X2_cups (lw_V q462 q463 q464 q116 q465)) xc3 hu3 rfl hl.1 rfl (Nat.le_of_ble_eq_true rfl) dX3_pass_83) (fun H locs cells slots hw hS => ?_)
    refine lv_icmp_ge (tgt := 141) hx hb dX3_pass_86 (by decide) (fun c5 => ?_) (fun c5 => ?_)
    · replace hm := if_t c5 hm
      exact wkX_X3_pass_141 X hr hlk hnm N w4.1 x0 H locs ls _ _ hm hw hS (lv_sub hl [0] rfl)
    · replace hm := if_f c5 hm
      refine lv_aload_n hx hb dX3_pass_89 rfl (lv_at hl 0 rfl) ?_
      obtain ⟨v6, hv6, hm⟩ := ob_s hm
      refine xr_val X hw xc2 in_X3 15 (by decide) q241 (f_obj_s hv6) dX3_pass_90 ?_
      obtain ⟨v7, hv7, hm⟩ := ob_s hm
      refine xr_valN X hw xc1 in_X1 1 (by decide) q280 (f_obj_s hv7) dX3_pass_93 ?_
      obtain ⟨v8, hv8, hm⟩ := ob_s hm
      refine xr_valN X hw xc3 in_X2 1 (by decide) q193 (f_ref_s hv8) dX3_pass_96 ?_
      cases v8 with
      | none =>
        refine lv_ifnullN (tgt := 141) hx hb dX3_pass_99 (by decide) ?_
        exact wkX_X3_pass_141 X hr hlk hnm N w4.1 x0 H locs ls _ _ hm hw hS (lv_sub hl [0] rfl)
      | some a10 =>
        refine lv_ifnull hx hb dX3_pass_99 ?_
        refine lv_aload_n hx hb dX3_pass_102 rfl (lv_at hl 0 rfl) ?_
        obtain ⟨v11, hv11, hm⟩ := ob_s hm
        refine xr_val X hw xc2 in_X3 8 (by decide) q229 (f_int_s hv11) dX3_pass_103 ?_
        refine lv_if_ne (tgt := 141) hx hb dX3_pass_106 (by decide) (fun c12 => ?_) (fun c12 => ?_)
        · replace hm := if_f c12 hm
          exact wkX_X3_pass_141 X hr hlk hnm N w4.1 x0 H locs ls _ _ hm hw hS (lv_sub hl [0] rfl)
        · replace hm := if_t c12 hm
          refine lv_aload_n hx hb dX3_pass_109 rfl (lv_at hl 0 rfl) ?_
          refine lv_iload_n hx hb dX3_pass_110 rfl (lv_at hl 1 rfl) ?_
          obtain ⟨u13, hu13, hm⟩ := ob_s hm
          obtain ⟨w14, hw14, hm⟩ := ob_s hm
          refine xr_reti hS (xr_runV X hw (met_X3_leaks N w4.1 x0 x1 w14 hw14) (x_cv X (lv := 79) (by omega) (by decide) cx_X3_leaks (lw_V q582 q584 qs10 q120 q585)) xc2 hu13 rfl hl.1 rfl (Nat.le_of_ble_eq_true rfl) dX3_pass_111) (fun H locs cells slots hw hS => ?_)
          refine lv_istore_n (lv' := [(2, .int w14.2), (0, .ref x0), (1, .int x1)]) hx hb dX3_pass_114 rfl hl (by decide) rfl (fun ls hl => ?_)
          refine lv_aload_n hx hb dX3_pass_115 rfl (lv_at hl 1 rfl) ?_
          obtain ⟨v15, hv15, hm⟩ := ob_s hm
          refine xr_val X hw xc2 in_X3 1 (by decide) q213 (f_obj_s hv15) dX3_pass_116 ?_
          refine lv_iload_n hx hb dX3_pass_119 rfl (lv_at hl 2 rfl) ?_
          refine lv_dup2_11 hx hb dX3_pass_120 rfl rfl ?_
          obtain ⟨v16, hv16, hm⟩ := ob_s hm
          refine xr_iald X hw hv16 dX3_pass_121 ?_
          refine lv_iload_n hx hb dX3_pass_122 rfl (lv_at hl 0 rfl) ?_
          refine lv_isub hx hb dX3_pass_123 ?_
          obtain ⟨S17, hS17, hm⟩ := ob_s hm
          refine xr_iast X hw hS hS17 dX3_pass_124 (fun H locs hw hS => ?_)
          refine lv_aload_n hx hb dX3_pass_125 rfl (lv_at hl 1 rfl) ?_
          refine lv_dup hx hb dX3_pass_126 rfl ?_
          obtain ⟨v18, hv18, hm⟩ := ob_s hm
          refine xr_val X hw xc2 in_X3 14 (by decide) q239 (f_int_s hv18) dX3_pass_127 ?_
          refine lv_iload_n hx hb dX3_pass_130 rfl (lv_at hl 0 rfl) ?_
          refine lv_iadd hx hb dX3_pass_131 ?_
          obtain ⟨S19, hS19, hm⟩ := ob_s hm
          refine xr_putI X hw hS xc2 in_X3 tyX3_ok nmX3 14 (by decide) q239 rfl (tyX3_ok 14 (by decide)) rfl rfl hS19 dX3_pass_132 (fun H locs hw hS => ?_)
          refine lv_iinc (v := (x1 + 1)) (lv' := [(1, .int (x1 + 1)), (2, .int w14.2), (0, .ref x0)]) hx hb dX3_pass_135 hl (k := 2) rfl rfl (by decide) rfl (fun ls hl => ?_)
          refine lv_goto (tgt := 75) hx hb dX3_pass_138 (by decide) ?_
          exact ih S19 x0 (x1 + 1) H locs ls _ _ hm hw hS (lv_sub hl [2, 0] rfl)
def kX_X3_pass_67 (g : XC) (N : Nat) (K7 : XS → Nat → Int32 → Option (XS × Nat)) (S : XS) (x0 : Nat) (x1 : Int32) : Option (XS × Nat) :=
  K7 S x0 (x1 + 1)
theorem wkX_X3_pass_67 {p : Program} {l : Launch} {e : Env} {s : State} {m : MethodId} {args : Array Value} {below : List Frame} {meth : Method} {c : Code} {g : XC} {D : va_G} {A : Nat → Prop} {S0 : XS} {w : XS × Nat} (X : xX g D A RX3 S0 p s m args c cX3_pass 3) (hr : meth.sig.returnType = (Option.some (Jvm.ClassFile.FieldType.object "DripCups$Night"))) (hlk : meth.locks = false) (hnm : meth.name = yX3_pass.name) (N : Nat) (K7 : XS → Nat → Int32 → Option (XS × Nat))
    (hK7 : ∀ (S : XS) (x0 : Nat) (x1 : Int32) (H : Heap) (locs : List Loc) (ls : Array Slot) (cells slots : Nat), K7 S x0 x1 = some w → xW g D A S s H → va_S A s.heap H locs → lv_has ls 3 [(0, .ref x0), (1, .int x1)] → W p l e (xRm g S0 80) s m args below meth c H locs cells slots (MQ below (xQr g D A w) args s (g.2.1 - xTop S0) (g.2.2.1 - xSl S0) A) (F0 m 7 ls [])) :
    ∀ (S : XS) (x0 : Nat) (x1 : Int32) (H : Heap) (locs : List Loc) (ls : Array Slot) (cells slots : Nat), kX_X3_pass_67 g N K7 S x0 x1 = some w → xW g D A S s H → va_S A s.heap H locs → lv_has ls 3 [(0, .ref x0), (1, .int x1)] → W p l e (xRm g S0 80) s m args below meth c H locs cells slots (MQ below (xQr g D A w) args s (g.2.1 - xTop S0) (g.2.2.1 - xSl S0) A) (F0 m 67 ls []) := by
  obtain ⟨hx, hb, -, hown, hts, -⟩ := id X
  intro S x0 x1 H locs ls cells slots hm hw hS hl
  unfold kX_X3_pass_67 at hm
  refine lv_iinc (v := (x1 + 1)) (lv' := [(1, .int (x1 + 1)), (0, .ref x0)]) hx hb dX3_pass_67 hl (k := 1) rfl rfl (by decide) rfl (fun ls hl => ?_)
  refine lv_goto (tgt := 7) hx hb dX3_pass_70 (by decide) ?_
  exact hK7 S x0 (x1 + 1) H locs ls _ _ hm hw hS (lv_sub hl [1, 0] rfl)
def kX_X3_pass_7 (g : XC) (N : Nat) : Nat → XS → Nat → Int32 → Option (XS × Nat)
  | 0, _, _, _ => none
  | n + 1, S, x0, x1 =>
    (f_obj S 2 x0 15).bind fun v1 =>
    (f_obj S 1 v1 1).bind fun v2 =>
    (f_cls S 3 v2).bind fun u3 =>
    (kX_X2_cups g N S v2).bind fun w4 =>
    if w4.2 ≤ x1 then
      kX_X3_pass_75 g N N w4.1 x0 0
    else
      (f_obj w4.1 2 x0 11).bind fun v6 =>
      (a_int w4.1 0 v6 x1).bind fun v7 =>
      (f_cls w4.1 2 x0).bind fun u8 =>
      (kX_X3_runs g N w4.1 x0 x1).bind fun w9 =>
      (a_putI w9.1 0 v6 x1 (v7 + w9.2)).bind fun S10 =>
      (f_obj S10 2 x0 12).bind fun v11 =>
      (f_cls S10 2 x0).bind fun u12 =>
      (kX_X3_settle g N S10 x0 x1).bind fun w13 =>
      (a_putI w13.1 0 v11 x1 w13.2).bind fun S14 =>
      (f_obj S14 2 x0 12).bind fun v15 =>
      (a_int S14 0 v15 x1).bind fun v16 =>
      if v16 ≤ 0 then
        kX_X3_pass_67 g N (kX_X3_pass_7 g N n) S14 x0 x1
      else
        (f_int S14 2 x0 13).bind fun v18 =>
        (f_putI S14 2 x0 13 (v18 ||| ((1 : Int32) <<< (x1 &&& 31)))).bind fun S19 =>
        kX_X3_pass_67 g N (kX_X3_pass_7 g N n) S19 x0 x1
theorem wkX_X3_pass_7 {p : Program} {l : Launch} {e : Env} {s : State} {m : MethodId} {args : Array Value} {below : List Frame} {meth : Method} {c : Code} {g : XC} {D : va_G} {A : Nat → Prop} {S0 : XS} {w : XS × Nat} (X : xX g D A RX3 S0 p s m args c cX3_pass 3) (hr : meth.sig.returnType = (Option.some (Jvm.ClassFile.FieldType.object "DripCups$Night"))) (hlk : meth.locks = false) (hnm : meth.name = yX3_pass.name) (N : Nat) :
    ∀ (n : Nat) (S : XS) (x0 : Nat) (x1 : Int32) (H : Heap) (locs : List Loc) (ls : Array Slot) (cells slots : Nat), kX_X3_pass_7 g N n S x0 x1 = some w → xW g D A S s H → va_S A s.heap H locs → lv_has ls 3 [(0, .ref x0), (1, .int x1)] → W p l e (xRm g S0 80) s m args below meth c H locs cells slots (MQ below (xQr g D A w) args s (g.2.1 - xTop S0) (g.2.2.1 - xSl S0) A) (F0 m 7 ls []) := by
  obtain ⟨hx, hb, -, hown, hts, -⟩ := id X
  intro n
  induction n with
  | zero =>
    intro S x0 x1 H locs ls cells slots hm
    cases hm
  | succ n ih =>
    intro S x0 x1 H locs ls cells slots hm hw hS hl
    rw [kX_X3_pass_7] at hm
    refine lv_iload_n hx hb dX3_pass_7 rfl (lv_at hl 1 rfl) ?_
    refine lv_aload_n hx hb dX3_pass_8 rfl (lv_at hl 0 rfl) ?_
    obtain ⟨v1, hv1, hm⟩ := ob_s hm
    refine xr_val X hw xc2 in_X3 15 (by decide) q241 (f_obj_s hv1) dX3_pass_9 ?_
    obtain ⟨v2, hv2, hm⟩ := ob_s hm
    refine xr_valN X hw xc1 in_X1 1 (by decide) q280 (f_obj_s hv2) dX3_pass_12 ?_
    obtain ⟨u3, hu3, hm⟩ := ob_s hm
    obtain ⟨w4, hw4, hm⟩ := ob_s hm
    refine xr_reti hS (xr_runV X hw (met_X2_cups N S v2 w4 hw4) (x_cv X (lv := 1) (by omega) (by decide) cx_X2_cups (lw_V q462 q463 q464 q116 q465)) xc3 hu3 rfl hl.1 rfl (Nat.le_of_ble_eq_true rfl) dX3_pass_15) (fun H locs cells slots hw hS => ?_)
    refine lv_icmp_ge (tgt := 73) hx hb dX3_pass_18 (by decide) (fun c5 => ?_) (fun c5 => ?_)
    · replace hm := if_t c5 hm
      refine lv_iconst (v := 0) hx hb dX3_pass_73 (by decide) ?_
      refine lv_istore_n (lv' := [(1, .int 0), (0, .ref x0)]) hx hb dX3_pass_74 rfl hl (by decide) rfl (fun ls hl => ?_)
      exact wkX_X3_pass_75 X hr hlk hnm N N w4.1 x0 0 H locs ls _ _ hm hw hS (lv_sub hl [1, 0] rfl)
    · replace hm := if_f c5 hm
      refine lv_aload_n hx hb dX3_pass_21 rfl (lv_at hl 0 rfl) ?_
      obtain ⟨v6, hv6, hm⟩ := ob_s hm
      refine xr_val X hw xc2 in_X3 11 (by decide) q234 (f_obj_s hv6) dX3_pass_22 ?_
      refine lv_iload_n hx hb dX3_pass_25 rfl (lv_at hl 1 rfl) ?_
      refine lv_dup2_11 hx hb dX3_pass_26 rfl rfl ?_
      obtain ⟨v7, hv7, hm⟩ := ob_s hm
      refine xr_iald X hw hv7 dX3_pass_27 ?_
      refine lv_aload_n hx hb dX3_pass_28 rfl (lv_at hl 0 rfl) ?_
      refine lv_iload_n hx hb dX3_pass_29 rfl (lv_at hl 1 rfl) ?_
      obtain ⟨u8, hu8, hm⟩ := ob_s hm
      obtain ⟨w9, hw9, hm⟩ := ob_s hm
      refine xr_reti hS (xr_runV X hw (met_X3_runs N w4.1 x0 x1 w9 hw9) (x_cv X (lv := 79) (by omega) (by decide) cx_X3_runs (lw_V q468 q470 qs6 q120 q471)) xc2 hu8 rfl hl.1 rfl (Nat.le_of_ble_eq_true rfl) dX3_pass_30) (fun H locs cells slots hw hS => ?_)
      refine lv_iadd hx hb dX3_pass_33 ?_
      obtain ⟨S10, hS10, hm⟩ := ob_s hm
      refine xr_iast X hw hS hS10 dX3_pass_34 (fun H locs hw hS => ?_)
      refine lv_aload_n hx hb dX3_pass_35 rfl (lv_at hl 0 rfl) ?_
      obtain ⟨v11, hv11, hm⟩ := ob_s hm
      refine xr_val X hw xc2 in_X3 12 (by decide) q235 (f_obj_s hv11) dX3_pass_36 ?_
      refine lv_iload_n hx hb dX3_pass_39 rfl (lv_at hl 1 rfl) ?_
      refine lv_aload_n hx hb dX3_pass_40 rfl (lv_at hl 0 rfl) ?_
      refine lv_iload_n hx hb dX3_pass_41 rfl (lv_at hl 1 rfl) ?_
      obtain ⟨u12, hu12, hm⟩ := ob_s hm
      obtain ⟨w13, hw13, hm⟩ := ob_s hm
      refine xr_reti hS (xr_runV X hw (met_X3_settle N S10 x0 x1 w13 hw13) (x_cv X (lv := 1) (by omega) (by decide) cx_X3_settle (lw_V q568 q570 qs8 q120 q571)) xc2 hu12 rfl hl.1 rfl (Nat.le_of_ble_eq_true rfl) dX3_pass_42) (fun H locs cells slots hw hS => ?_)
      obtain ⟨S14, hS14, hm⟩ := ob_s hm
      refine xr_iast X hw hS hS14 dX3_pass_45 (fun H locs hw hS => ?_)
      refine lv_aload_n hx hb dX3_pass_46 rfl (lv_at hl 0 rfl) ?_
      obtain ⟨v15, hv15, hm⟩ := ob_s hm
      refine xr_val X hw xc2 in_X3 12 (by decide) q235 (f_obj_s hv15) dX3_pass_47 ?_
      refine lv_iload_n hx hb dX3_pass_50 rfl (lv_at hl 1 rfl) ?_
      obtain ⟨v16, hv16, hm⟩ := ob_s hm
      refine xr_iald X hw hv16 dX3_pass_51 ?_
      refine lv_if_le (tgt := 67) hx hb dX3_pass_52 (by decide) (fun c17 => ?_) (fun c17 => ?_)
      · replace hm := if_t c17 hm
        exact wkX_X3_pass_67 X hr hlk hnm N (kX_X3_pass_7 g N n) ih S14 x0 x1 H locs ls _ _ hm hw hS (lv_sub hl [0, 1] rfl)
      · replace hm := if_f c17 hm
        refine lv_aload_n hx hb dX3_pass_55 rfl (lv_at hl 0 rfl) ?_
        refine lv_dup hx hb dX3_pass_56 rfl ?_
        obtain ⟨v18, hv18, hm⟩ := ob_s hm
        refine xr_val X hw xc2 in_X3 13 (by decide) q237 (f_int_s hv18) dX3_pass_57 ?_
        refine lv_iconst (v := 1) hx hb dX3_pass_60 (by decide) ?_
        refine lv_iload_n hx hb dX3_pass_61 rfl (lv_at hl 1 rfl) ?_
        refine lv_ishl hx hb dX3_pass_62 ?_
        refine lv_ior hx hb dX3_pass_63 ?_
        obtain ⟨S19, hS19, hm⟩ := ob_s hm
        refine xr_putI X hw hS xc2 in_X3 tyX3_ok nmX3 13 (by decide) q237 rfl (tyX3_ok 13 (by decide)) rfl rfl hS19 dX3_pass_64 (fun H locs hw hS => ?_)
        exact wkX_X3_pass_67 X hr hlk hnm N (kX_X3_pass_7 g N n) ih S19 x0 x1 H locs ls _ _ hm hw hS (lv_sub hl [0, 1] rfl)
def kX_X3_pass (g : XC) (N : Nat) (S : XS) (x0 : Nat) : Option (XS × Nat) :=
  (f_putI S 2 x0 13 0).bind fun S1 =>
  kX_X3_pass_7 g N N S1 x0 0
theorem cx_X3_pass : yX3_pass.cls = RX3 ∧ yX3_pass.cls ≠ "java/lang/invoke/MethodHandle" ∧ yX3_pass.cls ≠ "java/lang/invoke/VarHandle" ∧ (parseMethodDescriptor yX3_pass.desc).map (fun d => d.parameters.length) = some 0 := by decide +kernel
theorem met_X3_pass {l : Launch} {g : XC} {D : va_G} {A : Nat → Prop} (N : Nat) (S : XS) (x0 : Nat) (w : XS × Nat) (hm : kX_X3_pass g N S x0 = some w) : Met l yX3_pass (ws_ yX3_pass cX3_pass 3 (Option.some (Jvm.ClassFile.FieldType.object "DripCups$Night"))) (xRm g S 80) (xPre g D A [.ref x0] S) (xQr g D A w) (g.2.1 - xTop S) (g.2.2.1 - xSl S) A := by
  refine x_start (own := RX3) (by decide +kernel) rfl (Nat.le_of_ble_eq_true rfl) (fun p e s m below meth c ls X hr hlk hnm hw hl => ?_)
  obtain ⟨hx, hb, -, hown, hts, -⟩ := id X
  have hl : lv_has ls 3 [(0, .ref x0)] := hl
  have hg : ∀ (H : Heap) (locs : List Loc) (cells slots : Nat), xW g D A S s H → va_S A s.heap H locs → W p l e (xRm g S 80) s m ([.ref x0] : List Value).toArray below meth c H locs cells slots (MQ below (xQr g D A w) ([.ref x0] : List Value).toArray s (g.2.1 - xTop S) (g.2.2.1 - xSl S) A) (F0 m 0 ls []) := by
    intro H locs cells slots hw hS
    unfold kX_X3_pass at hm
    refine lv_aload_n hx hb dX3_pass_0 rfl (lv_at hl 0 rfl) ?_
    refine lv_iconst (v := 0) hx hb dX3_pass_1 (by decide) ?_
    obtain ⟨S1, hS1, hm⟩ := ob_s hm
    refine xr_putI X hw hS xc2 in_X3 tyX3_ok nmX3 13 (by decide) q237 rfl (tyX3_ok 13 (by decide)) rfl rfl hS1 dX3_pass_2 (fun H locs hw hS => ?_)
    refine lv_iconst (v := 0) hx hb dX3_pass_5 (by decide) ?_
    refine lv_istore_n (lv' := [(1, .int 0), (0, .ref x0)]) hx hb dX3_pass_6 rfl hl (by decide) rfl (fun ls hl => ?_)
    exact wkX_X3_pass_7 X hr hlk hnm N N S1 x0 0 H locs ls _ _ hm hw hS (lv_sub hl [1, 0] rfl)
  exact hg _ _ _ _ hw va_S.rf
/-! DripCups$Night.after -/
def kX_X3_after_2 (g : XC) (N : Nat) : Nat → XS → Nat → Int32 → Int32 → Option (XS × Nat)
  | 0, _, _, _, _ => none
  | n + 1, S, x0, x1, x2 =>
    if x1 ≤ x2 then
      some (S, x0)
    else
      (f_cls S 2 x0).bind fun u2 =>
      (kX_X3_pass g N S x0).bind fun w3 =>
      kX_X3_after_2 g N n w3.1 x0 x1 (x2 + 1)
theorem wkX_X3_after_2 {p : Program} {l : Launch} {e : Env} {s : State} {m : MethodId} {args : Array Value} {below : List Frame} {meth : Method} {c : Code} {g : XC} {D : va_G} {A : Nat → Prop} {S0 : XS} {w : XS × Nat} (X : xX g D A RX3 S0 p s m args c cX3_after 3) (hr : meth.sig.returnType = (Option.some (Jvm.ClassFile.FieldType.object "DripCups$Night"))) (hlk : meth.locks = false) (hnm : meth.name = yX3_after.name) (N : Nat) :
    ∀ (n : Nat) (S : XS) (x0 : Nat) (x1 : Int32) (x2 : Int32) (H : Heap) (locs : List Loc) (ls : Array Slot) (cells slots : Nat), kX_X3_after_2 g N n S x0 x1 x2 = some w → xW g D A S s H → va_S A s.heap H locs → lv_has ls 3 [(0, .ref x0), (1, .int x1), (2, .int x2)] → W p l e (xRm g S0 81) s m args below meth c H locs cells slots (MQ below (xQr g D A w) args s (g.2.1 - xTop S0) (g.2.2.1 - xSl S0) A) (F0 m 2 ls []) := by
  obtain ⟨hx, hb, -, hown, hts, -⟩ := id X
  intro n
  induction n with
  | zero =>
    intro S x0 x1 x2 H locs ls cells slots hm
    cases hm
  | succ n ih =>
    intro S x0 x1 x2 H locs ls cells slots hm hw hS hl
    rw [kX_X3_after_2] at hm
    refine lv_iload_n hx hb dX3_after_2 rfl (lv_at hl 2 rfl) ?_
    refine lv_iload_n hx hb dX3_after_3 rfl (lv_at hl 1 rfl) ?_
    refine lv_icmp_ge (tgt := 18) hx hb dX3_after_4 (by decide) (fun c1 => ?_) (fun c1 => ?_)
    · replace hm := if_t c1 hm
      refine lv_aload_n hx hb dX3_after_18 rfl (lv_at hl 0 rfl) ?_
      obtain rfl := Option.some.inj hm
      exact xr_aret X hr (by first | exact Or.inl ⟨_, rfl⟩ | exact Or.inr ⟨_, rfl⟩) hlk hw hS dX3_after_19
    · replace hm := if_f c1 hm
      refine lv_aload_n hx hb dX3_after_7 rfl (lv_at hl 0 rfl) ?_
      obtain ⟨u2, hu2, hm⟩ := ob_s hm
      obtain ⟨w3, hw3, hm⟩ := ob_s hm
      refine xr_retr hS (xr_runV X hw (met_X3_pass N S x0 w3 hw3) (x_cv X (lv := 80) (by omega) (by decide) cx_X3_pass (lw_V q458 q459 q460 q120 q461)) xc2 hu2 rfl hl.1 rfl (Nat.le_of_ble_eq_true rfl) dX3_after_8) (fun H locs cells slots hw hS => ?_)
      refine lv_pop hx hb dX3_after_11 rfl ?_
      refine lv_iinc (v := (x2 + 1)) (lv' := [(2, .int (x2 + 1)), (0, .ref x0), (1, .int x1)]) hx hb dX3_after_12 hl (k := 2) rfl rfl (by decide) rfl (fun ls hl => ?_)
      refine lv_goto (tgt := 2) hx hb dX3_after_15 (by decide) ?_
      exact ih w3.1 x0 x1 (x2 + 1) H locs ls _ _ hm hw hS (lv_sub hl [1, 2, 0] rfl)
def kX_X3_after (g : XC) (N : Nat) (S : XS) (x0 : Nat) (x1 : Int32) : Option (XS × Nat) :=
  kX_X3_after_2 g N N S x0 x1 0
theorem cx_X3_after : yX3_after.cls = RX3 ∧ yX3_after.cls ≠ "java/lang/invoke/MethodHandle" ∧ yX3_after.cls ≠ "java/lang/invoke/VarHandle" ∧ (parseMethodDescriptor yX3_after.desc).map (fun d => d.parameters.length) = some 1 := by decide +kernel
theorem met_X3_after {l : Launch} {g : XC} {D : va_G} {A : Nat → Prop} (N : Nat) (S : XS) (x0 : Nat) (x1 : Int32) (w : XS × Nat) (hm : kX_X3_after g N S x0 x1 = some w) : Met l yX3_after (ws_ yX3_after cX3_after 3 (Option.some (Jvm.ClassFile.FieldType.object "DripCups$Night"))) (xRm g S 81) (xPre g D A [.ref x0, .int x1] S) (xQr g D A w) (g.2.1 - xTop S) (g.2.2.1 - xSl S) A := by
  refine x_start (own := RX3) (by decide +kernel) rfl (Nat.le_of_ble_eq_true rfl) (fun p e s m below meth c ls X hr hlk hnm hw hl => ?_)
  obtain ⟨hx, hb, -, hown, hts, -⟩ := id X
  have hl : lv_has ls 3 [(0, .ref x0), (1, .int x1)] := hl
  have hg : ∀ (H : Heap) (locs : List Loc) (cells slots : Nat), xW g D A S s H → va_S A s.heap H locs → W p l e (xRm g S 81) s m ([.ref x0, .int x1] : List Value).toArray below meth c H locs cells slots (MQ below (xQr g D A w) ([.ref x0, .int x1] : List Value).toArray s (g.2.1 - xTop S) (g.2.2.1 - xSl S) A) (F0 m 0 ls []) := by
    intro H locs cells slots hw hS
    unfold kX_X3_after at hm
    refine lv_iconst (v := 0) hx hb dX3_after_0 (by decide) ?_
    refine lv_istore_n (lv' := [(2, .int 0), (0, .ref x0), (1, .int x1)]) hx hb dX3_after_1 rfl hl (by decide) rfl (fun ls hl => ?_)
    exact wkX_X3_after_2 X hr hlk hnm N N S x0 x1 0 H locs ls _ _ hm hw hS (lv_sub hl [1, 2, 0] rfl)
  exact hg _ _ _ _ hw va_S.rf
/-! DripCups.refuse -/
def kX_X1_refuse (g : XC) (N : Nat) (S : XS) (x0 : Nat) (x1 : Int32) : Option (XS × Int32) :=
  (f_obj S 1 x0 7).bind fun v1 =>
  (a_int S 0 v1 x1).bind fun v2 =>
  (a_putI S 0 v1 x1 (v2 + 1)).bind fun S3 =>
  some (S3, (-1))
theorem cx_X1_refuse : yX1_refuse.cls = RX1 ∧ yX1_refuse.cls ≠ "java/lang/invoke/MethodHandle" ∧ yX1_refuse.cls ≠ "java/lang/invoke/VarHandle" ∧ (parseMethodDescriptor yX1_refuse.desc).map (fun d => d.parameters.length) = some 1 := by decide +kernel
theorem met_X1_refuse {l : Launch} {g : XC} {D : va_G} {A : Nat → Prop} (N : Nat) (S : XS) (x0 : Nat) (x1 : Int32) (w : XS × Int32) (hm : kX_X1_refuse g N S x0 x1 = some w) : Met l yX1_refuse (ws_ yX1_refuse cX1_refuse 2 (Option.some Jvm.ClassFile.FieldType.int)) (xRm g S 0) (xPre g D A [.ref x0, .int x1] S) (xQi g D A w) (g.2.1 - xTop S) (g.2.2.1 - xSl S) A := by
  refine x_start (own := RX1) (by decide +kernel) rfl (Nat.le_of_ble_eq_true rfl) (fun p e s m below meth c ls X hr hlk hnm hw hl => ?_)
  obtain ⟨hx, hb, -, hown, hts, -⟩ := id X
  have hl : lv_has ls 2 [(0, .ref x0), (1, .int x1)] := hl
  have hg : ∀ (H : Heap) (locs : List Loc) (cells slots : Nat), xW g D A S s H → va_S A s.heap H locs → W p l e (xRm g S 0) s m ([.ref x0, .int x1] : List Value).toArray below meth c H locs cells slots (MQ below (xQi g D A w) ([.ref x0, .int x1] : List Value).toArray s (g.2.1 - xTop S) (g.2.2.1 - xSl S) A) (F0 m 0 ls []) := by
    intro H locs cells slots hw hS
    unfold kX_X1_refuse at hm
    refine lv_aload_n hx hb dX1_refuse_0 rfl (lv_at hl 0 rfl) ?_
    obtain ⟨v1, hv1, hm⟩ := ob_s hm
    refine xr_val X hw xc1 in_X1 7 (by decide) q287 (f_obj_s hv1) dX1_refuse_1 ?_
    refine lv_iload_n hx hb dX1_refuse_4 rfl (lv_at hl 1 rfl) ?_
    refine lv_dup2_11 hx hb dX1_refuse_5 rfl rfl ?_
    obtain ⟨v2, hv2, hm⟩ := ob_s hm
    refine xr_iald X hw hv2 dX1_refuse_6 ?_
    refine lv_iconst (v := 1) hx hb dX1_refuse_7 (by decide) ?_
    refine lv_iadd hx hb dX1_refuse_8 ?_
    obtain ⟨S3, hS3, hm⟩ := ob_s hm
    refine xr_iast X hw hS hS3 dX1_refuse_9 (fun H locs hw hS => ?_)
    refine lv_iconst (v := (-1)) hx hb dX1_refuse_10 (by decide) ?_
    obtain rfl := Option.some.inj hm
    exact xr_iret (v := (-1)) X hr hlk hw hS rfl dX1_refuse_11
  exact hg _ _ _ _ hw va_S.rf
/-! DripCups.hours -/
def kX_X1_hours_25 (g : XC) (N : Nat) (S : XS) (x0 : Nat) : Option (XS × Int32) :=
  (f_cls S 1 x0).bind fun u1 =>
  (kX_X1_refuse g N S x0 1).bind fun w2 =>
  some (w2.1, w2.2)
theorem wkX_X1_hours_25 {p : Program} {l : Launch} {e : Env} {s : State} {m : MethodId} {args : Array Value} {below : List Frame} {meth : Method} {c : Code} {g : XC} {D : va_G} {A : Nat → Prop} {S0 : XS} {w : XS × Int32} (X : xX g D A RX1 S0 p s m args c cX1_hours 2) (hr : meth.sig.returnType = (Option.some Jvm.ClassFile.FieldType.int)) (hlk : meth.locks = false) (hnm : meth.name = yX1_hours.name) (N : Nat) :
    ∀ (S : XS) (x0 : Nat) (H : Heap) (locs : List Loc) (ls : Array Slot) (cells slots : Nat), kX_X1_hours_25 g N S x0 = some w → xW g D A S s H → va_S A s.heap H locs → lv_has ls 2 [(0, .ref x0)] → W p l e (xRm g S0 82) s m args below meth c H locs cells slots (MQ below (xQi g D A w) args s (g.2.1 - xTop S0) (g.2.2.1 - xSl S0) A) (F0 m 25 ls []) := by
  obtain ⟨hx, hb, -, hown, hts, -⟩ := id X
  intro S x0 H locs ls cells slots hm hw hS hl
  unfold kX_X1_hours_25 at hm
  refine lv_aload_n hx hb dX1_hours_25 rfl (lv_at hl 0 rfl) ?_
  refine lv_iconst (v := 1) hx hb dX1_hours_26 (by decide) ?_
  obtain ⟨u1, hu1, hm⟩ := ob_s hm
  obtain ⟨w2, hw2, hm⟩ := ob_s hm
  refine xr_reti hS (xr_runV X hw (met_X1_refuse N S x0 1 w2 hw2) (x_cv X (lv := 0) (by omega) (by decide) cx_X1_refuse (lw_V q339 q341 qs0 q115 q342)) xc1 hu1 rfl hl.1 rfl (Nat.le_of_ble_eq_true rfl) dX1_hours_27) (fun H locs cells slots hw hS => ?_)
  obtain rfl := Option.some.inj hm
  exact xr_iret (v := w2.2) X hr hlk hw hS rfl dX1_hours_30
def kX_X1_hours (g : XC) (N : Nat) (S : XS) (x0 : Nat) (x1 : Int32) : Option (XS × Int32) :=
  (kX_X1_in g N x1 1 20).bind fun w1 =>
  if w1 = 0 then
    kX_X1_hours_25 g N S x0
  else
    (f_obj S 1 x0 2).bind fun v3 =>
    (f_int S 2 v3 6).bind fun v4 =>
    if (v4 + x1) ≤ 9999 then
      (f_cls S 1 x0).bind fun u6 =>
      (kX_X1_keep g N S x0).bind fun w7 =>
      (f_obj w7 1 x0 2).bind fun v8 =>
      (f_cls w7 2 v8).bind fun u9 =>
      (kX_X3_after g N w7 v8 x1).bind fun w10 =>
      (f_int w10.1 2 w10.2 6).bind fun v11 =>
      some (w10.1, v11)
    else
      kX_X1_hours_25 g N S x0
theorem cx_X1_hours : yX1_hours.cls = RX1 ∧ yX1_hours.cls ≠ "java/lang/invoke/MethodHandle" ∧ yX1_hours.cls ≠ "java/lang/invoke/VarHandle" ∧ (parseMethodDescriptor yX1_hours.desc).map (fun d => d.parameters.length) = some 1 := by decide +kernel
theorem met_X1_hours {l : Launch} {g : XC} {D : va_G} {A : Nat → Prop} (N : Nat) (S : XS) (x0 : Nat) (x1 : Int32) (w : XS × Int32) (hm : kX_X1_hours g N S x0 x1 = some w) : Met l yX1_hours (ws_ yX1_hours cX1_hours 2 (Option.some Jvm.ClassFile.FieldType.int)) (xRm g S 82) (xPre g D A [.ref x0, .int x1] S) (xQi g D A w) (g.2.1 - xTop S) (g.2.2.1 - xSl S) A := by
  refine x_start (own := RX1) (by decide +kernel) rfl (Nat.le_of_ble_eq_true rfl) (fun p e s m below meth c ls X hr hlk hnm hw hl => ?_)
  obtain ⟨hx, hb, -, hown, hts, -⟩ := id X
  have hl : lv_has ls 2 [(0, .ref x0), (1, .int x1)] := hl
  have hg : ∀ (H : Heap) (locs : List Loc) (cells slots : Nat), xW g D A S s H → va_S A s.heap H locs → W p l e (xRm g S 82) s m ([.ref x0, .int x1] : List Value).toArray below meth c H locs cells slots (MQ below (xQi g D A w) ([.ref x0, .int x1] : List Value).toArray s (g.2.1 - xTop S) (g.2.2.1 - xSl S) A) (F0 m 0 ls []) := by
    intro H locs cells slots hw hS
    unfold kX_X1_hours at hm
    refine lv_iload_n hx hb dX1_hours_0 rfl (lv_at hl 1 rfl) ?_
    refine lv_iconst (v := 1) hx hb dX1_hours_1 (by decide) ?_
    refine lv_bipush (v := 20) hx hb dX1_hours_2 (by decide) ?_
    obtain ⟨w1, hw1, hm⟩ := ob_s hm
    refine xr_reti hS (xr_runS X hw (met_X1_in N S x1 1 20 w1 hw1) (x_cs X (lv := 0) (by omega) (by decide) cx_X1_in (lw_S q336 q337 q115 q338)) rfl hl.1 rfl (Nat.le_of_ble_eq_true rfl) dX1_hours_4) (fun H locs cells slots hw hS => ?_)
    refine lv_if_eq (tgt := 25) hx hb dX1_hours_7 (by decide) (fun c2 => ?_) (fun c2 => ?_)
    · replace hm := if_t c2 hm
      exact wkX_X1_hours_25 X hr hlk hnm N S x0 H locs ls _ _ hm hw hS (lv_sub hl [0] rfl)
    · replace hm := if_f c2 hm
      refine lv_aload_n hx hb dX1_hours_10 rfl (lv_at hl 0 rfl) ?_
      obtain ⟨v3, hv3, hm⟩ := ob_s hm
      refine xr_val X hw xc1 in_X1 2 (by decide) q281 (f_obj_s hv3) dX1_hours_11 ?_
      obtain ⟨v4, hv4, hm⟩ := ob_s hm
      refine xr_valN X hw xc2 in_X3 6 (by decide) q226 (f_int_s hv4) dX1_hours_14 ?_
      refine lv_iload_n hx hb dX1_hours_17 rfl (lv_at hl 1 rfl) ?_
      refine lv_iadd hx hb dX1_hours_18 ?_
      refine lv_sipush (v := 9999) hx hb dX1_hours_19 (by decide) ?_
      refine lv_icmp_le (tgt := 31) hx hb dX1_hours_22 (by decide) (fun c5 => ?_) (fun c5 => ?_)
      · replace hm := if_t c5 hm
        refine lv_aload_n hx hb dX1_hours_31 rfl (lv_at hl 0 rfl) ?_
        obtain ⟨u6, hu6, hm⟩ := ob_s hm
        obtain ⟨w7, hw7, hm⟩ := ob_s hm
        refine xr_retv hS (xr_runV X hw (met_X1_keep N S x0 w7 hw7) (x_cv X (lv := 7) (by omega) (by decide) cx_X1_keep (lw_V q343 q345 qs1 q115 q346)) xc1 hu6 rfl hl.1 rfl (Nat.le_of_ble_eq_true rfl) dX1_hours_32) (fun H locs cells slots hw hS => ?_)
        refine lv_aload_n hx hb dX1_hours_35 rfl (lv_at hl 0 rfl) ?_
        obtain ⟨v8, hv8, hm⟩ := ob_s hm
        refine xr_val X hw xc1 in_X1 2 (by decide) q281 (f_obj_s hv8) dX1_hours_36 ?_
        refine lv_iload_n hx hb dX1_hours_39 rfl (lv_at hl 1 rfl) ?_
        obtain ⟨u9, hu9, hm⟩ := ob_s hm
        obtain ⟨w10, hw10, hm⟩ := ob_s hm
        refine xr_retr hS (xr_runV X hw (met_X3_after N w7 v8 x1 w10 hw10) (x_cv X (lv := 81) (by omega) (by decide) cx_X3_after (lw_V q454 q455 q456 q120 q457)) xc2 hu9 rfl hl.1 rfl (Nat.le_of_ble_eq_true rfl) dX1_hours_40) (fun H locs cells slots hw hS => ?_)
        obtain ⟨v11, hv11, hm⟩ := ob_s hm
        refine xr_valN X hw xc2 in_X3 6 (by decide) q226 (f_int_s hv11) dX1_hours_43 ?_
        obtain rfl := Option.some.inj hm
        exact xr_iret (v := v11) X hr hlk hw hS rfl dX1_hours_46
      · replace hm := if_f c5 hm
        exact wkX_X1_hours_25 X hr hlk hnm N S x0 H locs ls _ _ hm hw hS (lv_sub hl [0] rfl)
  exact hg _ _ _ _ hw va_S.rf
/-! DripCups.undo -/
def kX_X1_undo (g : XC) (N : Nat) (S : XS) (x0 : Nat) : Option (XS × Int32) :=
  (f_obj S 1 x0 8).bind fun v1 =>
  (f_cls S 10 v1).bind fun u2 =>
  (kX_J2_isEmpty g N S v1).bind fun w3 =>
  if w3.2 = 0 then
    (f_obj w3.1 1 x0 8).bind fun v5 =>
    (f_obj w3.1 1 x0 8).bind fun v6 =>
    (f_cls w3.1 10 v6).bind fun u7 =>
    (kX_J2_size g N w3.1 v6).bind fun w8 =>
    (f_cls w8.1 10 v5).bind fun u9 =>
    (kX_J2_remove g N w8.1 v5 (w8.2 - 1)).bind fun w10 =>
    (f_cls w10.1 2 w10.2).bind fun u11 =>
    (f_cls w10.1 2 w10.2).bind fun u12 =>
    (kX_X3_copy g N w10.1 w10.2).bind fun w13 =>
    (f_putR w13.1 1 x0 2 (some w13.2)).bind fun S14 =>
    (f_obj S14 1 x0 8).bind fun v15 =>
    (f_cls S14 10 v15).bind fun u16 =>
    (kX_J2_size g N S14 v15).bind fun w17 =>
    some (w17.1, w17.2)
  else
    some (w3.1, (-1))
theorem cx_X1_undo : yX1_undo.cls = RX1 ∧ yX1_undo.cls ≠ "java/lang/invoke/MethodHandle" ∧ yX1_undo.cls ≠ "java/lang/invoke/VarHandle" ∧ (parseMethodDescriptor yX1_undo.desc).map (fun d => d.parameters.length) = some 0 := by decide +kernel
theorem met_X1_undo {l : Launch} {g : XC} {D : va_G} {A : Nat → Prop} (N : Nat) (S : XS) (x0 : Nat) (w : XS × Int32) (hm : kX_X1_undo g N S x0 = some w) : Met l yX1_undo (ws_ yX1_undo cX1_undo 1 (Option.some Jvm.ClassFile.FieldType.int)) (xRm g S 3) (xPre g D A [.ref x0] S) (xQi g D A w) (g.2.1 - xTop S) (g.2.2.1 - xSl S) A := by
  refine x_start (own := RX1) (by decide +kernel) rfl (Nat.le_of_ble_eq_true rfl) (fun p e s m below meth c ls X hr hlk hnm hw hl => ?_)
  obtain ⟨hx, hb, -, hown, hts, -⟩ := id X
  have hl : lv_has ls 1 [(0, .ref x0)] := hl
  have hg : ∀ (H : Heap) (locs : List Loc) (cells slots : Nat), xW g D A S s H → va_S A s.heap H locs → W p l e (xRm g S 3) s m ([.ref x0] : List Value).toArray below meth c H locs cells slots (MQ below (xQi g D A w) ([.ref x0] : List Value).toArray s (g.2.1 - xTop S) (g.2.2.1 - xSl S) A) (F0 m 0 ls []) := by
    intro H locs cells slots hw hS
    unfold kX_X1_undo at hm
    refine lv_aload_n hx hb dX1_undo_0 rfl (lv_at hl 0 rfl) ?_
    obtain ⟨v1, hv1, hm⟩ := ob_s hm
    refine xr_val X hw xc1 in_X1 8 (by decide) q288 (f_obj_s hv1) dX1_undo_1 ?_
    obtain ⟨u2, hu2, hm⟩ := ob_s hm
    obtain ⟨w3, hw3, hm⟩ := ob_s hm
    refine xr_ret5i hS (xr_runF (x := ⟨"java/util/List", "isEmpty", "()Z"⟩) X hw (met_J2_isEmpty N S v1 w3 hw3) (x_cf X (lv := 0) (by omega) (by decide) ci_List_isEmpty q592 q595 q597 q119 q599 q594 q593 q598 q596 q361) xc10 hu2 rfl hl.1 rfl (Nat.le_of_ble_eq_true rfl) dX1_undo_4) (fun H locs cells slots hw hS => ?_)
    refine lv_if_eq (tgt := 14) hx hb dX1_undo_9 (by decide) (fun c4 => ?_) (fun c4 => ?_)
    · replace hm := if_t c4 hm
      refine lv_aload_n hx hb dX1_undo_14 rfl (lv_at hl 0 rfl) ?_
      refine lv_aload_n hx hb dX1_undo_15 rfl (lv_at hl 0 rfl) ?_
      obtain ⟨v5, hv5, hm⟩ := ob_s hm
      refine xr_val X hw xc1 in_X1 8 (by decide) q288 (f_obj_s hv5) dX1_undo_16 ?_
      refine lv_aload_n hx hb dX1_undo_19 rfl (lv_at hl 0 rfl) ?_
      obtain ⟨v6, hv6, hm⟩ := ob_s hm
      refine xr_val X hw xc1 in_X1 8 (by decide) q288 (f_obj_s hv6) dX1_undo_20 ?_
      obtain ⟨u7, hu7, hm⟩ := ob_s hm
      obtain ⟨w8, hw8, hm⟩ := ob_s hm
      refine xr_ret5i hS (xr_runF (x := ⟨"java/util/List", "size", "()I"⟩) X hw (met_J2_size N w3.1 v6 w8 hw8) (x_cf X (lv := 0) (by omega) (by decide) ci_List_size q426 q429 q431 q119 q433 q428 q427 q432 q430 q361) xc10 hu7 rfl hl.1 rfl (Nat.le_of_ble_eq_true rfl) dX1_undo_23) (fun H locs cells slots hw hS => ?_)
      refine lv_iconst (v := 1) hx hb dX1_undo_28 (by decide) ?_
      refine lv_isub hx hb dX1_undo_29 ?_
      obtain ⟨u9, hu9, hm⟩ := ob_s hm
      obtain ⟨w10, hw10, hm⟩ := ob_s hm
      refine xr_ret5r hS (xr_runF (x := ⟨"java/util/List", "remove", "(I)Ljava/lang/Object;"⟩) X hw (met_J2_remove N w8.1 v5 (w8.2 - 1) w10 hw10) (x_cf X (lv := 2) (by omega) (by decide) ci_List_remove q435 q438 q440 q119 q442 q437 q436 q441 q439 q361) xc10 hu9 rfl hl.1 rfl (Nat.le_of_ble_eq_true rfl) dX1_undo_30) (fun H locs cells slots hw hS => ?_)
      obtain ⟨u11, hu11, hm⟩ := ob_s hm
      refine xr_cast X hw xc2 hu11 q204 dX1_undo_35 ?_
      obtain ⟨u12, hu12, hm⟩ := ob_s hm
      obtain ⟨w13, hw13, hm⟩ := ob_s hm
      refine xr_retr hS (xr_runV X hw (met_X3_copy N w10.1 w10.2 w13 hw13) (x_cv X (lv := 1) (by omega) (by decide) cx_X3_copy (lw_V q347 q348 q349 q120 q350)) xc2 hu12 rfl hl.1 rfl (Nat.le_of_ble_eq_true rfl) dX1_undo_38) (fun H locs cells slots hw hS => ?_)
      obtain ⟨S14, hS14, hm⟩ := ob_s hm
      refine xr_putR (v := (some w13.2)) X hw hS xc1 in_X1 tyX1_ok nmX1 2 (by decide) q281 rfl (tyX1_ok 2 (by decide)) rfl hS14 dX1_undo_41 (fun H locs hw hS => ?_)
      refine lv_aload_n hx hb dX1_undo_44 rfl (lv_at hl 0 rfl) ?_
      obtain ⟨v15, hv15, hm⟩ := ob_s hm
      refine xr_val X hw xc1 in_X1 8 (by decide) q288 (f_obj_s hv15) dX1_undo_45 ?_
      obtain ⟨u16, hu16, hm⟩ := ob_s hm
      obtain ⟨w17, hw17, hm⟩ := ob_s hm
      refine xr_ret5i hS (xr_runF (x := ⟨"java/util/List", "size", "()I"⟩) X hw (met_J2_size N S14 v15 w17 hw17) (x_cf X (lv := 0) (by omega) (by decide) ci_List_size q426 q429 q431 q119 q433 q428 q427 q432 q430 q361) xc10 hu16 rfl hl.1 rfl (Nat.le_of_ble_eq_true rfl) dX1_undo_48) (fun H locs cells slots hw hS => ?_)
      obtain rfl := Option.some.inj hm
      exact xr_iret (v := w17.2) X hr hlk hw hS rfl dX1_undo_53
    · replace hm := if_f c4 hm
      refine lv_iconst (v := (-1)) hx hb dX1_undo_12 (by decide) ?_
      obtain rfl := Option.some.inj hm
      exact xr_iret (v := (-1)) X hr hlk hw hS rfl dX1_undo_13
  exact hg _ _ _ _ hw va_S.rf
/-! DripCups.forget -/
def kX_X1_forget (g : XC) (N : Nat) (S : XS) (x0 : Nat) : Option (XS) :=
  (xNew S 3 (.inr (10, [.int 0, .null, .int 0]))).bind fun S1 =>
  (kX_J2_init g N S1 (xTop S)).bind fun w2 =>
  (f_putR w2 1 x0 9 (some (xTop S))).bind fun S3 =>
  some S3
theorem cx_X1_forget : yX1_forget.cls = RX1 ∧ yX1_forget.cls ≠ "java/lang/invoke/MethodHandle" ∧ yX1_forget.cls ≠ "java/lang/invoke/VarHandle" ∧ (parseMethodDescriptor yX1_forget.desc).map (fun d => d.parameters.length) = some 0 := by decide +kernel
theorem met_X1_forget {l : Launch} {g : XC} {D : va_G} {A : Nat → Prop} (N : Nat) (S : XS) (x0 : Nat) (w : XS) (hm : kX_X1_forget g N S x0 = some w) : Met l yX1_forget (ws_ yX1_forget cX1_forget 1 (Option.none : Option Jvm.ClassFile.FieldType)) (xRm g S 3) (xPre g D A [.ref x0] S) (xQv g D A w) (g.2.1 - xTop S) (g.2.2.1 - xSl S) A := by
  refine x_start (own := RX1) (by decide +kernel) rfl (Nat.le_of_ble_eq_true rfl) (fun p e s m below meth c ls X hr hlk hnm hw hl => ?_)
  obtain ⟨hx, hb, -, hown, hts, -⟩ := id X
  have hl : lv_has ls 1 [(0, .ref x0)] := hl
  have hg : ∀ (H : Heap) (locs : List Loc) (cells slots : Nat), xW g D A S s H → va_S A s.heap H locs → W p l e (xRm g S 3) s m ([.ref x0] : List Value).toArray below meth c H locs cells slots (MQ below (xQv g D A w) ([.ref x0] : List Value).toArray s (g.2.1 - xTop S) (g.2.2.1 - xSl S) A) (F0 m 0 ls []) := by
    intro H locs cells slots hw hS
    unfold kX_X1_forget at hm
    refine lv_aload_n hx hb dX1_forget_0 rfl (lv_at hl 0 rfl) ?_
    obtain ⟨S1, hS1, hm⟩ := ob_s hm
    refine xr_new (N := 3) X hw hS xc10 in_J2 tyJ2_ok q275 q163 q119 (by intro j hj; exact df_J2 j hj) hS1 dX1_forget_1 (fun H cells slots hw hS => ?_)
    refine lv_dup hx hb dX1_forget_4 rfl ?_
    obtain ⟨w2, hw2, hm⟩ := ob_s hm
    refine xr_retv hS (xr_runI X hw (met_J2_init N S1 (xTop S) w2 hw2) (x_ci X (lv := 2) (by omega) (by decide) rfl cx_J2_init (lw_meth q166) q119 q276 q165) rfl hl.1 rfl (Nat.le_of_ble_eq_true rfl) dX1_forget_5) (fun H locs cells slots hw hS => ?_)
    obtain ⟨S3, hS3, hm⟩ := ob_s hm
    refine xr_putR (v := (some (xTop S))) X hw hS xc1 in_X1 tyX1_ok nmX1 9 (by decide) q289 rfl (tyX1_ok 9 (by decide)) rfl hS3 dX1_forget_8 (fun H locs hw hS => ?_)
    obtain rfl := Option.some.inj hm
    exact xr_vret X hr hlk hw hS dX1_forget_11
  exact hg _ _ _ _ hw va_S.rf
/-! DripCups$Night.isAsFull -/
def kX_X3_isAsFull_39 (g : XC) (N : Nat) (K4 : XS → Nat → Nat → Int32 → Int32 → Option (XS × Int32)) (S : XS) (x0 : Nat) (x1 : Nat) (x3 : Int32) (t0 : Int32) (t1 : Int32) : Option (XS × Int32) :=
  bnd (t0 &&& t1) fun v1 =>
  K4 S x0 x1 v1 (x3 + 1)
theorem wkX_X3_isAsFull_39 {p : Program} {l : Launch} {e : Env} {s : State} {m : MethodId} {args : Array Value} {below : List Frame} {meth : Method} {c : Code} {g : XC} {D : va_G} {A : Nat → Prop} {S0 : XS} {w : XS × Int32} (X : xX g D A RX3 S0 p s m args c cX3_isAsFull 4) (hr : meth.sig.returnType = (Option.some Jvm.ClassFile.FieldType.boolean)) (hlk : meth.locks = false) (hnm : meth.name = yX3_isAsFull.name) (N : Nat) (K4 : XS → Nat → Nat → Int32 → Int32 → Option (XS × Int32))
    (hK4 : ∀ (S : XS) (x0 : Nat) (x1 : Nat) (x2 : Int32) (x3 : Int32) (H : Heap) (locs : List Loc) (ls : Array Slot) (cells slots : Nat), K4 S x0 x1 x2 x3 = some w → xW g D A S s H → va_S A s.heap H locs → lv_has ls 4 [(0, .ref x0), (1, .ref x1), (2, .int x2), (3, .int x3)] → W p l e (xRm g S0 2) s m args below meth c H locs cells slots (MQ below (xQi g D A w) args s (g.2.1 - xTop S0) (g.2.2.1 - xSl S0) A) (F0 m 4 ls [])) :
    ∀ (S : XS) (x0 : Nat) (x1 : Nat) (x3 : Int32) (t0 : Int32) (t1 : Int32) (H : Heap) (locs : List Loc) (ls : Array Slot) (cells slots : Nat), kX_X3_isAsFull_39 g N K4 S x0 x1 x3 t0 t1 = some w → xW g D A S s H → va_S A s.heap H locs → lv_has ls 4 [(0, .ref x0), (1, .ref x1), (3, .int x3)] → W p l e (xRm g S0 2) s m args below meth c H locs cells slots (MQ below (xQi g D A w) args s (g.2.1 - xTop S0) (g.2.2.1 - xSl S0) A) (F0 m 39 ls [.int t1, .int t0]) := by
  obtain ⟨hx, hb, -, hown, hts, -⟩ := id X
  intro S x0 x1 x3 t0 t1 H locs ls cells slots hm hw hS hl
  unfold kX_X3_isAsFull_39 at hm
  refine lv_iand hx hb dX3_isAsFull_39 ?_
  refine lv_topi (fun v1 ev1 => ?_)
  replace hm := bnd_s hm ev1
  refine lv_istore_n (lv' := [(2, .int v1), (0, .ref x0), (1, .ref x1), (3, .int x3)]) hx hb dX3_isAsFull_40 rfl hl (by decide) rfl (fun ls hl => ?_)
  refine lv_iinc (v := (x3 + 1)) (lv' := [(3, .int (x3 + 1)), (2, .int v1), (0, .ref x0), (1, .ref x1)]) hx hb dX3_isAsFull_41 hl (k := 3) rfl rfl (by decide) rfl (fun ls hl => ?_)
  refine lv_goto (tgt := 4) hx hb dX3_isAsFull_44 (by decide) ?_
  exact hK4 S x0 x1 v1 (x3 + 1) H locs ls _ _ hm hw hS (lv_sub hl [2, 3, 1, 0] rfl)
def kX_X3_isAsFull_4 (g : XC) (N : Nat) : Nat → XS → Nat → Nat → Int32 → Int32 → Option (XS × Int32)
  | 0, _, _, _, _, _ => none
  | n + 1, S, x0, x1, x2, x3 =>
    (f_obj S 2 x0 15).bind fun v1 =>
    (f_obj S 1 v1 1).bind fun v2 =>
    (f_cls S 3 v2).bind fun u3 =>
    (kX_X2_cups g N S v2).bind fun w4 =>
    if w4.2 ≤ x3 then
      zchk x2 <|
      some (w4.1, x2)
    else
      (f_obj w4.1 2 x0 1).bind fun v7 =>
      (a_int w4.1 0 v7 x3).bind fun v8 =>
      (f_obj w4.1 2 x1 1).bind fun v9 =>
      (a_int w4.1 0 v9 x3).bind fun v10 =>
      if v8 = v10 then
        kX_X3_isAsFull_39 g N (kX_X3_isAsFull_4 g N n) w4.1 x0 x1 x3 x2 1
      else
        kX_X3_isAsFull_39 g N (kX_X3_isAsFull_4 g N n) w4.1 x0 x1 x3 x2 0
theorem wkX_X3_isAsFull_4 {p : Program} {l : Launch} {e : Env} {s : State} {m : MethodId} {args : Array Value} {below : List Frame} {meth : Method} {c : Code} {g : XC} {D : va_G} {A : Nat → Prop} {S0 : XS} {w : XS × Int32} (X : xX g D A RX3 S0 p s m args c cX3_isAsFull 4) (hr : meth.sig.returnType = (Option.some Jvm.ClassFile.FieldType.boolean)) (hlk : meth.locks = false) (hnm : meth.name = yX3_isAsFull.name) (N : Nat) :
    ∀ (n : Nat) (S : XS) (x0 : Nat) (x1 : Nat) (x2 : Int32) (x3 : Int32) (H : Heap) (locs : List Loc) (ls : Array Slot) (cells slots : Nat), kX_X3_isAsFull_4 g N n S x0 x1 x2 x3 = some w → xW g D A S s H → va_S A s.heap H locs → lv_has ls 4 [(0, .ref x0), (1, .ref x1), (2, .int x2), (3, .int x3)] → W p l e (xRm g S0 2) s m args below meth c H locs cells slots (MQ below (xQi g D A w) args s (g.2.1 - xTop S0) (g.2.2.1 - xSl S0) A) (F0 m 4 ls []) := by
  obtain ⟨hx, hb, -, hown, hts, -⟩ := id X
  intro n
  induction n with
  | zero =>
    intro S x0 x1 x2 x3 H locs ls cells slots hm
    cases hm
  | succ n ih =>
    intro S x0 x1 x2 x3 H locs ls cells slots hm hw hS hl
    rw [kX_X3_isAsFull_4] at hm
    refine lv_iload_n hx hb dX3_isAsFull_4 rfl (lv_at hl 3 rfl) ?_
    refine lv_aload_n hx hb dX3_isAsFull_5 rfl (lv_at hl 0 rfl) ?_
    obtain ⟨v1, hv1, hm⟩ := ob_s hm
    refine xr_val X hw xc2 in_X3 15 (by decide) q241 (f_obj_s hv1) dX3_isAsFull_6 ?_
    obtain ⟨v2, hv2, hm⟩ := ob_s hm
    refine xr_valN X hw xc1 in_X1 1 (by decide) q280 (f_obj_s hv2) dX3_isAsFull_9 ?_
    obtain ⟨u3, hu3, hm⟩ := ob_s hm
    obtain ⟨w4, hw4, hm⟩ := ob_s hm
    refine xr_reti hS (xr_runV X hw (met_X2_cups N S v2 w4 hw4) (x_cv X (lv := 1) (by omega) (by decide) cx_X2_cups (lw_V q462 q463 q464 q116 q465)) xc3 hu3 rfl hl.1 rfl (Nat.le_of_ble_eq_true rfl) dX3_isAsFull_12) (fun H locs cells slots hw hS => ?_)
    refine lv_icmp_ge (tgt := 47) hx hb dX3_isAsFull_15 (by decide) (fun c5 => ?_) (fun c5 => ?_)
    · replace hm := if_t c5 hm
      refine lv_iload_n hx hb dX3_isAsFull_47 rfl (lv_at hl 2 rfl) ?_
      obtain ⟨z6, hm⟩ := zchk_s hm
      obtain rfl := Option.some.inj hm
      exact xr_iret (v := x2) X hr hlk hw hS (z_nar z6) dX3_isAsFull_48
    · replace hm := if_f c5 hm
      refine lv_iload_n hx hb dX3_isAsFull_18 rfl (lv_at hl 2 rfl) ?_
      refine lv_aload_n hx hb dX3_isAsFull_19 rfl (lv_at hl 0 rfl) ?_
      obtain ⟨v7, hv7, hm⟩ := ob_s hm
      refine xr_val X hw xc2 in_X3 1 (by decide) q213 (f_obj_s hv7) dX3_isAsFull_20 ?_
      refine lv_iload_n hx hb dX3_isAsFull_23 rfl (lv_at hl 3 rfl) ?_
      obtain ⟨v8, hv8, hm⟩ := ob_s hm
      refine xr_iald X hw hv8 dX3_isAsFull_24 ?_
      refine lv_aload_n hx hb dX3_isAsFull_25 rfl (lv_at hl 1 rfl) ?_
      obtain ⟨v9, hv9, hm⟩ := ob_s hm
      refine xr_val X hw xc2 in_X3 1 (by decide) q213 (f_obj_s hv9) dX3_isAsFull_26 ?_
      refine lv_iload_n hx hb dX3_isAsFull_29 rfl (lv_at hl 3 rfl) ?_
      obtain ⟨v10, hv10, hm⟩ := ob_s hm
      refine xr_iald X hw hv10 dX3_isAsFull_30 ?_
      refine lv_icmp_ne (tgt := 38) hx hb dX3_isAsFull_31 (by decide) (fun c11 => ?_) (fun c11 => ?_)
      · replace hm := if_f c11 hm
        refine lv_iconst (v := 0) hx hb dX3_isAsFull_38 (by decide) ?_
        exact wkX_X3_isAsFull_39 X hr hlk hnm N (kX_X3_isAsFull_4 g N n) ih w4.1 x0 x1 x3 x2 0 H locs ls _ _ hm hw hS (lv_sub hl [0, 1, 3] rfl)
      · replace hm := if_t c11 hm
        refine lv_iconst (v := 1) hx hb dX3_isAsFull_34 (by decide) ?_
        refine lv_goto (tgt := 39) hx hb dX3_isAsFull_35 (by decide) ?_
        exact wkX_X3_isAsFull_39 X hr hlk hnm N (kX_X3_isAsFull_4 g N n) ih w4.1 x0 x1 x3 x2 1 H locs ls _ _ hm hw hS (lv_sub hl [0, 1, 3] rfl)
def kX_X3_isAsFull (g : XC) (N : Nat) (S : XS) (x0 : Nat) (x1 : Nat) : Option (XS × Int32) :=
  kX_X3_isAsFull_4 g N N S x0 x1 1 0
theorem cx_X3_isAsFull : yX3_isAsFull.cls = RX3 ∧ yX3_isAsFull.cls ≠ "java/lang/invoke/MethodHandle" ∧ yX3_isAsFull.cls ≠ "java/lang/invoke/VarHandle" ∧ (parseMethodDescriptor yX3_isAsFull.desc).map (fun d => d.parameters.length) = some 1 := by decide +kernel
theorem met_X3_isAsFull {l : Launch} {g : XC} {D : va_G} {A : Nat → Prop} (N : Nat) (S : XS) (x0 : Nat) (x1 : Nat) (w : XS × Int32) (hm : kX_X3_isAsFull g N S x0 x1 = some w) : Met l yX3_isAsFull (ws_ yX3_isAsFull cX3_isAsFull 4 (Option.some Jvm.ClassFile.FieldType.boolean)) (xRm g S 2) (xPre g D A [.ref x0, .ref x1] S) (xQi g D A w) (g.2.1 - xTop S) (g.2.2.1 - xSl S) A := by
  refine x_start (own := RX3) (by decide +kernel) rfl (Nat.le_of_ble_eq_true rfl) (fun p e s m below meth c ls X hr hlk hnm hw hl => ?_)
  obtain ⟨hx, hb, -, hown, hts, -⟩ := id X
  have hl : lv_has ls 4 [(0, .ref x0), (1, .ref x1)] := hl
  have hg : ∀ (H : Heap) (locs : List Loc) (cells slots : Nat), xW g D A S s H → va_S A s.heap H locs → W p l e (xRm g S 2) s m ([.ref x0, .ref x1] : List Value).toArray below meth c H locs cells slots (MQ below (xQi g D A w) ([.ref x0, .ref x1] : List Value).toArray s (g.2.1 - xTop S) (g.2.2.1 - xSl S) A) (F0 m 0 ls []) := by
    intro H locs cells slots hw hS
    unfold kX_X3_isAsFull at hm
    refine lv_iconst (v := 1) hx hb dX3_isAsFull_0 (by decide) ?_
    refine lv_istore_n (lv' := [(2, .int 1), (0, .ref x0), (1, .ref x1)]) hx hb dX3_isAsFull_1 rfl hl (by decide) rfl (fun ls hl => ?_)
    refine lv_iconst (v := 0) hx hb dX3_isAsFull_2 (by decide) ?_
    refine lv_istore_n (lv' := [(3, .int 0), (2, .int 1), (0, .ref x0), (1, .ref x1)]) hx hb dX3_isAsFull_3 rfl hl (by decide) rfl (fun ls hl => ?_)
    exact wkX_X3_isAsFull_4 X hr hlk hnm N N S x0 x1 1 0 H locs ls _ _ hm hw hS (lv_sub hl [2, 3, 1, 0] rfl)
  exact hg _ _ _ _ hw va_S.rf
/-! DripCups.round -/
def kX_X1_round_14 (g : XC) (N : Nat) : Nat → XS → Nat → Int32 → Option (XS × Int32)
  | 0, _, _, _ => none
  | n + 1, S, x0, x1 =>
    if (200 : Int32) < x1 then
      some (S, (-1))
    else
      (f_obj S 1 x0 3).bind fun v2 =>
      (f_cls S 2 v2).bind fun u3 =>
      (kX_X3_pass g N S v2).bind fun w4 =>
      (f_obj w4.1 1 x0 2).bind fun v5 =>
      (f_cls w4.1 2 w4.2).bind fun u6 =>
      (kX_X3_isAsFull g N w4.1 w4.2 v5).bind fun w7 =>
      if w7.2 = 0 then
        kX_X1_round_14 g N n w7.1 x0 (x1 + 1)
      else
        some (w7.1, x1)
theorem wkX_X1_round_14 {p : Program} {l : Launch} {e : Env} {s : State} {m : MethodId} {args : Array Value} {below : List Frame} {meth : Method} {c : Code} {g : XC} {D : va_G} {A : Nat → Prop} {S0 : XS} {w : XS × Int32} (X : xX g D A RX1 S0 p s m args c cX1_round 2) (hr : meth.sig.returnType = (Option.some Jvm.ClassFile.FieldType.int)) (hlk : meth.locks = false) (hnm : meth.name = yX1_round.name) (N : Nat) :
    ∀ (n : Nat) (S : XS) (x0 : Nat) (x1 : Int32) (H : Heap) (locs : List Loc) (ls : Array Slot) (cells slots : Nat), kX_X1_round_14 g N n S x0 x1 = some w → xW g D A S s H → va_S A s.heap H locs → lv_has ls 2 [(0, .ref x0), (1, .int x1)] → W p l e (xRm g S0 81) s m args below meth c H locs cells slots (MQ below (xQi g D A w) args s (g.2.1 - xTop S0) (g.2.2.1 - xSl S0) A) (F0 m 14 ls []) := by
  obtain ⟨hx, hb, -, hown, hts, -⟩ := id X
  intro n
  induction n with
  | zero =>
    intro S x0 x1 H locs ls cells slots hm
    cases hm
  | succ n ih =>
    intro S x0 x1 H locs ls cells slots hm hw hS hl
    rw [kX_X1_round_14] at hm
    refine lv_iload_n hx hb dX1_round_14 rfl (lv_at hl 1 rfl) ?_
    refine lv_sipush (v := 200) hx hb dX1_round_15 (by decide) ?_
    refine lv_icmp_gt (tgt := 46) hx hb dX1_round_18 (by decide) (fun c1 => ?_) (fun c1 => ?_)
    · replace hm := if_t c1 hm
      refine lv_iconst (v := (-1)) hx hb dX1_round_46 (by decide) ?_
      obtain rfl := Option.some.inj hm
      exact xr_iret (v := (-1)) X hr hlk hw hS rfl dX1_round_47
    · replace hm := if_f c1 hm
      refine lv_aload_n hx hb dX1_round_21 rfl (lv_at hl 0 rfl) ?_
      obtain ⟨v2, hv2, hm⟩ := ob_s hm
      refine xr_val X hw xc1 in_X1 3 (by decide) q282 (f_obj_s hv2) dX1_round_22 ?_
      obtain ⟨u3, hu3, hm⟩ := ob_s hm
      obtain ⟨w4, hw4, hm⟩ := ob_s hm
      refine xr_retr hS (xr_runV X hw (met_X3_pass N S v2 w4 hw4) (x_cv X (lv := 80) (by omega) (by decide) cx_X3_pass (lw_V q609 q459 q460 q120 q461)) xc2 hu3 rfl hl.1 rfl (Nat.le_of_ble_eq_true rfl) dX1_round_25) (fun H locs cells slots hw hS => ?_)
      refine lv_aload_n hx hb dX1_round_28 rfl (lv_at hl 0 rfl) ?_
      obtain ⟨v5, hv5, hm⟩ := ob_s hm
      refine xr_val X hw xc1 in_X1 2 (by decide) q281 (f_obj_s hv5) dX1_round_29 ?_
      obtain ⟨u6, hu6, hm⟩ := ob_s hm
      obtain ⟨w7, hw7, hm⟩ := ob_s hm
      refine xr_reti hS (xr_runV X hw (met_X3_isAsFull N w4.1 w4.2 v5 w7 hw7) (x_cv X (lv := 2) (by omega) (by decide) cx_X3_isAsFull (lw_V q610 q611 q612 q120 q613)) xc2 hu6 rfl hl.1 rfl (Nat.le_of_ble_eq_true rfl) dX1_round_32) (fun H locs cells slots hw hS => ?_)
      refine lv_if_eq (tgt := 40) hx hb dX1_round_35 (by decide) (fun c8 => ?_) (fun c8 => ?_)
      · replace hm := if_t c8 hm
        refine lv_iinc (v := (x1 + 1)) (lv' := [(1, .int (x1 + 1)), (0, .ref x0)]) hx hb dX1_round_40 hl (k := 1) rfl rfl (by decide) rfl (fun ls hl => ?_)
        refine lv_goto (tgt := 14) hx hb dX1_round_43 (by decide) ?_
        exact ih w7.1 x0 (x1 + 1) H locs ls _ _ hm hw hS (lv_sub hl [1, 0] rfl)
      · replace hm := if_f c8 hm
        refine lv_iload_n hx hb dX1_round_38 rfl (lv_at hl 1 rfl) ?_
        obtain rfl := Option.some.inj hm
        exact xr_iret (v := x1) X hr hlk hw hS rfl dX1_round_39
def kX_X1_round (g : XC) (N : Nat) (S : XS) (x0 : Nat) : Option (XS × Int32) :=
  (f_obj S 1 x0 3).bind fun v1 =>
  (f_obj S 1 x0 2).bind fun v2 =>
  (f_cls S 2 v1).bind fun u3 =>
  (kX_X3_be g N S v1 v2).bind fun w4 =>
  kX_X1_round_14 g N N w4.1 x0 1
theorem cx_X1_round : yX1_round.cls = RX1 ∧ yX1_round.cls ≠ "java/lang/invoke/MethodHandle" ∧ yX1_round.cls ≠ "java/lang/invoke/VarHandle" ∧ (parseMethodDescriptor yX1_round.desc).map (fun d => d.parameters.length) = some 0 := by decide +kernel
theorem met_X1_round {l : Launch} {g : XC} {D : va_G} {A : Nat → Prop} (N : Nat) (S : XS) (x0 : Nat) (w : XS × Int32) (hm : kX_X1_round g N S x0 = some w) : Met l yX1_round (ws_ yX1_round cX1_round 2 (Option.some Jvm.ClassFile.FieldType.int)) (xRm g S 81) (xPre g D A [.ref x0] S) (xQi g D A w) (g.2.1 - xTop S) (g.2.2.1 - xSl S) A := by
  refine x_start (own := RX1) (by decide +kernel) rfl (Nat.le_of_ble_eq_true rfl) (fun p e s m below meth c ls X hr hlk hnm hw hl => ?_)
  obtain ⟨hx, hb, -, hown, hts, -⟩ := id X
  have hl : lv_has ls 2 [(0, .ref x0)] := hl
  have hg : ∀ (H : Heap) (locs : List Loc) (cells slots : Nat), xW g D A S s H → va_S A s.heap H locs → W p l e (xRm g S 81) s m ([.ref x0] : List Value).toArray below meth c H locs cells slots (MQ below (xQi g D A w) ([.ref x0] : List Value).toArray s (g.2.1 - xTop S) (g.2.2.1 - xSl S) A) (F0 m 0 ls []) := by
    intro H locs cells slots hw hS
    unfold kX_X1_round at hm
    refine lv_aload_n hx hb dX1_round_0 rfl (lv_at hl 0 rfl) ?_
    obtain ⟨v1, hv1, hm⟩ := ob_s hm
    refine xr_val X hw xc1 in_X1 3 (by decide) q282 (f_obj_s hv1) dX1_round_1 ?_
    refine lv_aload_n hx hb dX1_round_4 rfl (lv_at hl 0 rfl) ?_
    obtain ⟨v2, hv2, hm⟩ := ob_s hm
    refine xr_val X hw xc1 in_X1 2 (by decide) q281 (f_obj_s hv2) dX1_round_5 ?_
    obtain ⟨u3, hu3, hm⟩ := ob_s hm
    obtain ⟨w4, hw4, hm⟩ := ob_s hm
    refine xr_retr hS (xr_runV X hw (met_X3_be N S v1 v2 w4 hw4) (x_cv X (lv := 0) (by omega) (by decide) cx_X3_be (lw_V q608 q354 q355 q120 q356)) xc2 hu3 rfl hl.1 rfl (Nat.le_of_ble_eq_true rfl) dX1_round_8) (fun H locs cells slots hw hS => ?_)
    refine lv_pop hx hb dX1_round_11 rfl ?_
    refine lv_iconst (v := 1) hx hb dX1_round_12 (by decide) ?_
    refine lv_istore_n (lv' := [(1, .int 1), (0, .ref x0)]) hx hb dX1_round_13 rfl hl (by decide) rfl (fun ls hl => ?_)
    exact wkX_X1_round_14 X hr hlk hnm N N w4.1 x0 1 H locs ls _ _ hm hw hS (lv_sub hl [1, 0] rfl)
  exact hg _ _ _ _ hw va_S.rf
/-! DripCups.image -/
def kX_X1_image (g : XC) (N : Nat) (S : XS) (x0 : Nat) : Option (XS) :=
  (f_obj S 1 x0 2).bind fun v1 =>
  (f_cls S 2 v1).bind fun u2 =>
  (kX_X3_copy g N S v1).bind fun w3 =>
  (f_putR w3.1 1 x0 10 (some w3.2)).bind fun S4 =>
  (xNew S4 3 (.inr (10, [.int 0, .null, .int 0]))).bind fun S5 =>
  (f_obj S5 1 x0 8).bind fun v6 =>
  (kX_J2_init_2 g N S5 (xTop S4) v6).bind fun w7 =>
  (f_putR w7 1 x0 11 (some (xTop S4))).bind fun S8 =>
  (xNew S8 3 (.inr (10, [.int 0, .null, .int 0]))).bind fun S9 =>
  (f_obj S9 1 x0 9).bind fun v10 =>
  (kX_J2_init_2 g N S9 (xTop S8) v10).bind fun w11 =>
  (f_putR w11 1 x0 12 (some (xTop S8))).bind fun S12 =>
  some S12
theorem cx_X1_image : yX1_image.cls = RX1 ∧ yX1_image.cls ≠ "java/lang/invoke/MethodHandle" ∧ yX1_image.cls ≠ "java/lang/invoke/VarHandle" ∧ (parseMethodDescriptor yX1_image.desc).map (fun d => d.parameters.length) = some 0 := by decide +kernel
theorem met_X1_image {l : Launch} {g : XC} {D : va_G} {A : Nat → Prop} (N : Nat) (S : XS) (x0 : Nat) (w : XS) (hm : kX_X1_image g N S x0 = some w) : Met l yX1_image (ws_ yX1_image cX1_image 1 (Option.none : Option Jvm.ClassFile.FieldType)) (xRm g S 5) (xPre g D A [.ref x0] S) (xQv g D A w) (g.2.1 - xTop S) (g.2.2.1 - xSl S) A := by
  refine x_start (own := RX1) (by decide +kernel) rfl (Nat.le_of_ble_eq_true rfl) (fun p e s m below meth c ls X hr hlk hnm hw hl => ?_)
  obtain ⟨hx, hb, -, hown, hts, -⟩ := id X
  have hl : lv_has ls 1 [(0, .ref x0)] := hl
  have hg : ∀ (H : Heap) (locs : List Loc) (cells slots : Nat), xW g D A S s H → va_S A s.heap H locs → W p l e (xRm g S 5) s m ([.ref x0] : List Value).toArray below meth c H locs cells slots (MQ below (xQv g D A w) ([.ref x0] : List Value).toArray s (g.2.1 - xTop S) (g.2.2.1 - xSl S) A) (F0 m 0 ls []) := by
    intro H locs cells slots hw hS
    unfold kX_X1_image at hm
    refine lv_aload_n hx hb dX1_image_0 rfl (lv_at hl 0 rfl) ?_
    refine lv_aload_n hx hb dX1_image_1 rfl (lv_at hl 0 rfl) ?_
    obtain ⟨v1, hv1, hm⟩ := ob_s hm
    refine xr_val X hw xc1 in_X1 2 (by decide) q281 (f_obj_s hv1) dX1_image_2 ?_
    obtain ⟨u2, hu2, hm⟩ := ob_s hm
    obtain ⟨w3, hw3, hm⟩ := ob_s hm
    refine xr_retr hS (xr_runV X hw (met_X3_copy N S v1 w3 hw3) (x_cv X (lv := 1) (by omega) (by decide) cx_X3_copy (lw_V q347 q348 q349 q120 q350)) xc2 hu2 rfl hl.1 rfl (Nat.le_of_ble_eq_true rfl) dX1_image_5) (fun H locs cells slots hw hS => ?_)
    obtain ⟨S4, hS4, hm⟩ := ob_s hm
    refine xr_putR (v := (some w3.2)) X hw hS xc1 in_X1 tyX1_ok nmX1 10 (by decide) q290 rfl (tyX1_ok 10 (by decide)) rfl hS4 dX1_image_8 (fun H locs hw hS => ?_)
    refine lv_aload_n hx hb dX1_image_11 rfl (lv_at hl 0 rfl) ?_
    obtain ⟨S5, hS5, hm⟩ := ob_s hm
    refine xr_new (N := 3) X hw hS xc10 in_J2 tyJ2_ok q275 q163 q119 (by intro j hj; exact df_J2 j hj) hS5 dX1_image_12 (fun H cells slots hw hS => ?_)
    refine lv_dup hx hb dX1_image_15 rfl ?_
    refine lv_aload_n hx hb dX1_image_16 rfl (lv_at hl 0 rfl) ?_
    obtain ⟨v6, hv6, hm⟩ := ob_s hm
    refine xr_val X hw xc1 in_X1 8 (by decide) q288 (f_obj_s hv6) dX1_image_17 ?_
    obtain ⟨w7, hw7, hm⟩ := ob_s hm
    refine xr_retv hS (xr_runI X hw (met_J2_init_2 N S5 (xTop S4) v6 w7 hw7) (x_ci X (lv := 4) (by omega) (by decide) rfl cx_J2_init_2 (lw_meth q620) q119 q618 q619) rfl hl.1 rfl (Nat.le_of_ble_eq_true rfl) dX1_image_20) (fun H locs cells slots hw hS => ?_)
    obtain ⟨S8, hS8, hm⟩ := ob_s hm
    refine xr_putR (v := (some (xTop S4))) X hw hS xc1 in_X1 tyX1_ok nmX1 11 (by decide) q291 rfl (tyX1_ok 11 (by decide)) rfl hS8 dX1_image_23 (fun H locs hw hS => ?_)
    refine lv_aload_n hx hb dX1_image_26 rfl (lv_at hl 0 rfl) ?_
    obtain ⟨S9, hS9, hm⟩ := ob_s hm
    refine xr_new (N := 3) X hw hS xc10 in_J2 tyJ2_ok q275 q163 q119 (by intro j hj; exact df_J2 j hj) hS9 dX1_image_27 (fun H cells slots hw hS => ?_)
    refine lv_dup hx hb dX1_image_30 rfl ?_
    refine lv_aload_n hx hb dX1_image_31 rfl (lv_at hl 0 rfl) ?_
    obtain ⟨v10, hv10, hm⟩ := ob_s hm
    refine xr_val X hw xc1 in_X1 9 (by decide) q289 (f_obj_s hv10) dX1_image_32 ?_
    obtain ⟨w11, hw11, hm⟩ := ob_s hm
    refine xr_retv hS (xr_runI X hw (met_J2_init_2 N S9 (xTop S8) v10 w11 hw11) (x_ci X (lv := 4) (by omega) (by decide) rfl cx_J2_init_2 (lw_meth q620) q119 q618 q619) rfl hl.1 rfl (Nat.le_of_ble_eq_true rfl) dX1_image_35) (fun H locs cells slots hw hS => ?_)
    obtain ⟨S12, hS12, hm⟩ := ob_s hm
    refine xr_putR (v := (some (xTop S8))) X hw hS xc1 in_X1 tyX1_ok nmX1 12 (by decide) q292 rfl (tyX1_ok 12 (by decide)) rfl hS12 dX1_image_38 (fun H locs hw hS => ?_)
    obtain rfl := Option.some.inj hm
    exact xr_vret X hr hlk hw hS dX1_image_41
  exact hg _ _ _ _ hw va_S.rf
/-! DripCups.restore -/
def kX_X1_restore (g : XC) (N : Nat) (S : XS) (x0 : Nat) : Option (XS × Int32) :=
  (f_ref S 1 x0 10).bind fun v1 =>
  match v1 with
  | none =>
    some (S, 0)
  | some a3 =>
    (f_ref S 1 x0 10).bind fun v4 =>
    (v4).bind fun a5 =>
    (f_cls S 2 a5).bind fun u6 =>
    (kX_X3_copy g N S a5).bind fun w7 =>
    (f_putR w7.1 1 x0 2 (some w7.2)).bind fun S8 =>
    (xNew S8 3 (.inr (10, [.int 0, .null, .int 0]))).bind fun S9 =>
    (f_obj S9 1 x0 11).bind fun v10 =>
    (kX_J2_init_2 g N S9 (xTop S8) v10).bind fun w11 =>
    (f_putR w11 1 x0 8 (some (xTop S8))).bind fun S12 =>
    (xNew S12 3 (.inr (10, [.int 0, .null, .int 0]))).bind fun S13 =>
    (f_obj S13 1 x0 12).bind fun v14 =>
    (kX_J2_init_2 g N S13 (xTop S12) v14).bind fun w15 =>
    (f_putR w15 1 x0 9 (some (xTop S12))).bind fun S16 =>
    some (S16, 1)
theorem cx_X1_restore : yX1_restore.cls = RX1 ∧ yX1_restore.cls ≠ "java/lang/invoke/MethodHandle" ∧ yX1_restore.cls ≠ "java/lang/invoke/VarHandle" ∧ (parseMethodDescriptor yX1_restore.desc).map (fun d => d.parameters.length) = some 0 := by decide +kernel
theorem met_X1_restore {l : Launch} {g : XC} {D : va_G} {A : Nat → Prop} (N : Nat) (S : XS) (x0 : Nat) (w : XS × Int32) (hm : kX_X1_restore g N S x0 = some w) : Met l yX1_restore (ws_ yX1_restore cX1_restore 1 (Option.some Jvm.ClassFile.FieldType.boolean)) (xRm g S 5) (xPre g D A [.ref x0] S) (xQi g D A w) (g.2.1 - xTop S) (g.2.2.1 - xSl S) A := by
  refine x_start (own := RX1) (by decide +kernel) rfl (Nat.le_of_ble_eq_true rfl) (fun p e s m below meth c ls X hr hlk hnm hw hl => ?_)
  obtain ⟨hx, hb, -, hown, hts, -⟩ := id X
  have hl : lv_has ls 1 [(0, .ref x0)] := hl
  have hg : ∀ (H : Heap) (locs : List Loc) (cells slots : Nat), xW g D A S s H → va_S A s.heap H locs → W p l e (xRm g S 5) s m ([.ref x0] : List Value).toArray below meth c H locs cells slots (MQ below (xQi g D A w) ([.ref x0] : List Value).toArray s (g.2.1 - xTop S) (g.2.2.1 - xSl S) A) (F0 m 0 ls []) := by
    intro H locs cells slots hw hS
    unfold kX_X1_restore at hm
    refine lv_aload_n hx hb dX1_restore_0 rfl (lv_at hl 0 rfl) ?_
    obtain ⟨v1, hv1, hm⟩ := ob_s hm
    refine xr_val X hw xc1 in_X1 10 (by decide) q290 (f_ref_s hv1) dX1_restore_1 ?_
    cases v1 with
    | none =>
      refine lv_ifnonnullN hx hb dX1_restore_4 ?_
      refine lv_iconst (v := 0) hx hb dX1_restore_7 (by decide) ?_
      obtain rfl := Option.some.inj hm
      exact xr_iret (v := 0) X hr hlk hw hS rfl dX1_restore_8
    | some a3 =>
      refine lv_ifnonnull (tgt := 9) hx hb dX1_restore_4 (by decide) ?_
      refine lv_aload_n hx hb dX1_restore_9 rfl (lv_at hl 0 rfl) ?_
      refine lv_aload_n hx hb dX1_restore_10 rfl (lv_at hl 0 rfl) ?_
      obtain ⟨v4, hv4, hm⟩ := ob_s hm
      refine xr_val X hw xc1 in_X1 10 (by decide) q290 (f_ref_s hv4) dX1_restore_11 ?_
      obtain ⟨a5, hqa5, hm9⟩ := ob_s hm
      clear hm
      subst hqa5
      have hm := hm9
      clear hm9
      obtain ⟨u6, hu6, hm⟩ := ob_s hm
      obtain ⟨w7, hw7, hm⟩ := ob_s hm
      refine xr_retr hS (xr_runV X hw (met_X3_copy N S a5 w7 hw7) (x_cv X (lv := 1) (by omega) (by decide) cx_X3_copy (lw_V q347 q348 q349 q120 q350)) xc2 hu6 rfl hl.1 rfl (Nat.le_of_ble_eq_true rfl) dX1_restore_14) (fun H locs cells slots hw hS => ?_)
      obtain ⟨S8, hS8, hm⟩ := ob_s hm
      refine xr_putR (v := (some w7.2)) X hw hS xc1 in_X1 tyX1_ok nmX1 2 (by decide) q281 rfl (tyX1_ok 2 (by decide)) rfl hS8 dX1_restore_17 (fun H locs hw hS => ?_)
      refine lv_aload_n hx hb dX1_restore_20 rfl (lv_at hl 0 rfl) ?_
      obtain ⟨S9, hS9, hm⟩ := ob_s hm
      refine xr_new (N := 3) X hw hS xc10 in_J2 tyJ2_ok q275 q163 q119 (by intro j hj; exact df_J2 j hj) hS9 dX1_restore_21 (fun H cells slots hw hS => ?_)
      refine lv_dup hx hb dX1_restore_24 rfl ?_
      refine lv_aload_n hx hb dX1_restore_25 rfl (lv_at hl 0 rfl) ?_
      obtain ⟨v10, hv10, hm⟩ := ob_s hm
      refine xr_val X hw xc1 in_X1 11 (by decide) q291 (f_obj_s hv10) dX1_restore_26 ?_
      obtain ⟨w11, hw11, hm⟩ := ob_s hm
      refine xr_retv hS (xr_runI X hw (met_J2_init_2 N S9 (xTop S8) v10 w11 hw11) (x_ci X (lv := 4) (by omega) (by decide) rfl cx_J2_init_2 (lw_meth q620) q119 q618 q619) rfl hl.1 rfl (Nat.le_of_ble_eq_true rfl) dX1_restore_29) (fun H locs cells slots hw hS => ?_)
      obtain ⟨S12, hS12, hm⟩ := ob_s hm
      refine xr_putR (v := (some (xTop S8))) X hw hS xc1 in_X1 tyX1_ok nmX1 8 (by decide) q288 rfl (tyX1_ok 8 (by decide)) rfl hS12 dX1_restore_32 (fun H locs hw hS => ?_)
      refine lv_aload_n hx hb dX1_restore_35 rfl (lv_at hl 0 rfl) ?_
      obtain ⟨S13, hS13, hm⟩ := ob_s hm
      refine xr_new (N := 3) X hw hS xc10 in_J2 tyJ2_ok q275 q163 q119 (by intro j hj; exact df_J2 j hj) hS13 dX1_restore_36 (fun H cells slots hw hS => ?_)
      refine lv_dup hx hb dX1_restore_39 rfl ?_
      refine lv_aload_n hx hb dX1_restore_40 rfl (lv_at hl 0 rfl) ?_
      obtain ⟨v14, hv14, hm⟩ := ob_s hm
      refine xr_val X hw xc1 in_X1 12 (by decide) q292 (f_obj_s hv14) dX1_restore_41 ?_
      obtain ⟨w15, hw15, hm⟩ := ob_s hm
      refine xr_retv hS (xr_runI X hw (met_J2_init_2 N S13 (xTop S12) v14 w15 hw15) (x_ci X (lv := 4) (by omega) (by decide) rfl cx_J2_init_2 (lw_meth q620) q119 q618 q619) rfl hl.1 rfl (Nat.le_of_ble_eq_true rfl) dX1_restore_44) (fun H locs cells slots hw hS => ?_)
      obtain ⟨S16, hS16, hm⟩ := ob_s hm
      refine xr_putR (v := (some (xTop S12))) X hw hS xc1 in_X1 tyX1_ok nmX1 9 (by decide) q289 rfl (tyX1_ok 9 (by decide)) rfl hS16 dX1_restore_47 (fun H locs hw hS => ?_)
      refine lv_iconst (v := 1) hx hb dX1_restore_50 (by decide) ?_
      obtain rfl := Option.some.inj hm
      exact xr_iret (v := 1) X hr hlk hw hS rfl dX1_restore_51
  exact hg _ _ _ _ hw va_S.rf
/-! DripCups.straight -/
def kX_X1_straight_36 (g : XC) (N : Nat) (K4 : XS → Nat → Int32 → Int32 → Int32 → Option (XS × Int32)) (S : XS) (x0 : Nat) (x1 : Int32) (x2 : Int32) (x3 : Int32) : Option (XS × Int32) :=
  K4 S x0 x1 x2 (x3 + 1)
theorem wkX_X1_straight_36 {p : Program} {l : Launch} {e : Env} {s : State} {m : MethodId} {args : Array Value} {below : List Frame} {meth : Method} {c : Code} {g : XC} {D : va_G} {A : Nat → Prop} {S0 : XS} {w : XS × Int32} (X : xX g D A RX1 S0 p s m args c cX1_straight 4) (hr : meth.sig.returnType = (Option.some Jvm.ClassFile.FieldType.int)) (hlk : meth.locks = false) (hnm : meth.name = yX1_straight.name) (N : Nat) (K4 : XS → Nat → Int32 → Int32 → Int32 → Option (XS × Int32))
    (hK4 : ∀ (S : XS) (x0 : Nat) (x1 : Int32) (x2 : Int32) (x3 : Int32) (H : Heap) (locs : List Loc) (ls : Array Slot) (cells slots : Nat), K4 S x0 x1 x2 x3 = some w → xW g D A S s H → va_S A s.heap H locs → lv_has ls 4 [(0, .ref x0), (1, .int x1), (2, .int x2), (3, .int x3)] → W p l e (xRm g S0 1) s m args below meth c H locs cells slots (MQ below (xQi g D A w) args s (g.2.1 - xTop S0) (g.2.2.1 - xSl S0) A) (F0 m 4 ls [])) :
    ∀ (S : XS) (x0 : Nat) (x1 : Int32) (x2 : Int32) (x3 : Int32) (H : Heap) (locs : List Loc) (ls : Array Slot) (cells slots : Nat), kX_X1_straight_36 g N K4 S x0 x1 x2 x3 = some w → xW g D A S s H → va_S A s.heap H locs → lv_has ls 4 [(0, .ref x0), (1, .int x1), (2, .int x2), (3, .int x3)] → W p l e (xRm g S0 1) s m args below meth c H locs cells slots (MQ below (xQi g D A w) args s (g.2.1 - xTop S0) (g.2.2.1 - xSl S0) A) (F0 m 36 ls []) := by
  obtain ⟨hx, hb, -, hown, hts, -⟩ := id X
  intro S x0 x1 x2 x3 H locs ls cells slots hm hw hS hl
  unfold kX_X1_straight_36 at hm
  refine lv_iinc (v := (x3 + 1)) (lv' := [(3, .int (x3 + 1)), (0, .ref x0), (1, .int x1), (2, .int x2)]) hx hb dX1_straight_36 hl (k := 3) rfl rfl (by decide) rfl (fun ls hl => ?_)
  refine lv_goto (tgt := 4) hx hb dX1_straight_39 (by decide) ?_
  exact hK4 S x0 x1 x2 (x3 + 1) H locs ls _ _ hm hw hS (lv_sub hl [1, 2, 3, 0] rfl)
def kX_X1_straight_4 (g : XC) (N : Nat) : Nat → XS → Nat → Int32 → Int32 → Int32 → Option (XS × Int32)
  | 0, _, _, _, _, _ => none
  | n + 1, S, x0, x1, x2, x3 =>
    if (2 : Int32) ≤ x3 then
      some (S, x2)
    else
      (f_obj S 1 x0 2).bind fun v2 =>
      (f_cls S 2 v2).bind fun u3 =>
      (kX_X3_into g N S v2 x1 x3).bind fun w4 =>
      if w4.2 = (-1) then
        kX_X1_straight_36 g N (kX_X1_straight_4 g N n) w4.1 x0 x1 x2 x3
      else
        (f_obj w4.1 1 x0 2).bind fun v6 =>
        (f_cls w4.1 2 v6).bind fun u7 =>
        (kX_X3_into g N w4.1 v6 x1 x3).bind fun w8 =>
        bnd (x2 ||| ((1 : Int32) <<< (w8.2 &&& 31))) fun v9 =>
        kX_X1_straight_36 g N (kX_X1_straight_4 g N n) w8.1 x0 x1 v9 x3
theorem wkX_X1_straight_4 {p : Program} {l : Launch} {e : Env} {s : State} {m : MethodId} {args : Array Value} {below : List Frame} {meth : Method} {c : Code} {g : XC} {D : va_G} {A : Nat → Prop} {S0 : XS} {w : XS × Int32} (X : xX g D A RX1 S0 p s m args c cX1_straight 4) (hr : meth.sig.returnType = (Option.some Jvm.ClassFile.FieldType.int)) (hlk : meth.locks = false) (hnm : meth.name = yX1_straight.name) (N : Nat) :
    ∀ (n : Nat) (S : XS) (x0 : Nat) (x1 : Int32) (x2 : Int32) (x3 : Int32) (H : Heap) (locs : List Loc) (ls : Array Slot) (cells slots : Nat), kX_X1_straight_4 g N n S x0 x1 x2 x3 = some w → xW g D A S s H → va_S A s.heap H locs → lv_has ls 4 [(0, .ref x0), (1, .int x1), (2, .int x2), (3, .int x3)] → W p l e (xRm g S0 1) s m args below meth c H locs cells slots (MQ below (xQi g D A w) args s (g.2.1 - xTop S0) (g.2.2.1 - xSl S0) A) (F0 m 4 ls []) := by
  obtain ⟨hx, hb, -, hown, hts, -⟩ := id X
  intro n
  induction n with
  | zero =>
    intro S x0 x1 x2 x3 H locs ls cells slots hm
    cases hm
  | succ n ih =>
    intro S x0 x1 x2 x3 H locs ls cells slots hm hw hS hl
    rw [kX_X1_straight_4] at hm
    refine lv_iload_n hx hb dX1_straight_4 rfl (lv_at hl 3 rfl) ?_
    refine lv_iconst (v := 2) hx hb dX1_straight_5 (by decide) ?_
    refine lv_icmp_ge (tgt := 42) hx hb dX1_straight_6 (by decide) (fun c1 => ?_) (fun c1 => ?_)
    · replace hm := if_t c1 hm
      refine lv_iload_n hx hb dX1_straight_42 rfl (lv_at hl 2 rfl) ?_
      obtain rfl := Option.some.inj hm
      exact xr_iret (v := x2) X hr hlk hw hS rfl dX1_straight_43
    · replace hm := if_f c1 hm
      refine lv_aload_n hx hb dX1_straight_9 rfl (lv_at hl 0 rfl) ?_
      obtain ⟨v2, hv2, hm⟩ := ob_s hm
      refine xr_val X hw xc1 in_X1 2 (by decide) q281 (f_obj_s hv2) dX1_straight_10 ?_
      refine lv_iload_n hx hb dX1_straight_13 rfl (lv_at hl 1 rfl) ?_
      refine lv_iload_n hx hb dX1_straight_14 rfl (lv_at hl 3 rfl) ?_
      obtain ⟨u3, hu3, hm⟩ := ob_s hm
      obtain ⟨w4, hw4, hm⟩ := ob_s hm
      refine xr_reti hS (xr_runV X hw (met_X3_into N S v2 x1 x3 w4 hw4) (x_cv X (lv := 0) (by omega) (by decide) cx_X3_into (lw_V q1201 q579 q580 q120 q581)) xc2 hu3 rfl hl.1 rfl (Nat.le_of_ble_eq_true rfl) dX1_straight_15) (fun H locs cells slots hw hS => ?_)
      refine lv_iconst (v := (-1)) hx hb dX1_straight_18 (by decide) ?_
      refine lv_icmp_eq (tgt := 36) hx hb dX1_straight_19 (by decide) (fun c5 => ?_) (fun c5 => ?_)
      · replace hm := if_t c5 hm
        exact wkX_X1_straight_36 X hr hlk hnm N (kX_X1_straight_4 g N n) ih w4.1 x0 x1 x2 x3 H locs ls _ _ hm hw hS (lv_sub hl [0, 1, 2, 3] rfl)
      · replace hm := if_f c5 hm
        refine lv_iload_n hx hb dX1_straight_22 rfl (lv_at hl 2 rfl) ?_
        refine lv_iconst (v := 1) hx hb dX1_straight_23 (by decide) ?_
        refine lv_aload_n hx hb dX1_straight_24 rfl (lv_at hl 0 rfl) ?_
        obtain ⟨v6, hv6, hm⟩ := ob_s hm
        refine xr_val X hw xc1 in_X1 2 (by decide) q281 (f_obj_s hv6) dX1_straight_25 ?_
        refine lv_iload_n hx hb dX1_straight_28 rfl (lv_at hl 1 rfl) ?_
        refine lv_iload_n hx hb dX1_straight_29 rfl (lv_at hl 3 rfl) ?_
        obtain ⟨u7, hu7, hm⟩ := ob_s hm
        obtain ⟨w8, hw8, hm⟩ := ob_s hm
        refine xr_reti hS (xr_runV X hw (met_X3_into N w4.1 v6 x1 x3 w8 hw8) (x_cv X (lv := 0) (by omega) (by decide) cx_X3_into (lw_V q1201 q579 q580 q120 q581)) xc2 hu7 rfl hl.1 rfl (Nat.le_of_ble_eq_true rfl) dX1_straight_30) (fun H locs cells slots hw hS => ?_)
        refine lv_ishl hx hb dX1_straight_33 ?_
        refine lv_ior hx hb dX1_straight_34 ?_
        refine lv_topi (fun v9 ev9 => ?_)
        replace hm := bnd_s hm ev9
        refine lv_istore_n (lv' := [(2, .int v9), (0, .ref x0), (1, .int x1), (3, .int x3)]) hx hb dX1_straight_35 rfl hl (by decide) rfl (fun ls hl => ?_)
        exact wkX_X1_straight_36 X hr hlk hnm N (kX_X1_straight_4 g N n) ih w8.1 x0 x1 v9 x3 H locs ls _ _ hm hw hS (lv_sub hl [1, 2, 0, 3] rfl)
def kX_X1_straight (g : XC) (N : Nat) (S : XS) (x0 : Nat) (x1 : Int32) : Option (XS × Int32) :=
  kX_X1_straight_4 g N N S x0 x1 0 0
theorem cx_X1_straight : yX1_straight.cls = RX1 ∧ yX1_straight.cls ≠ "java/lang/invoke/MethodHandle" ∧ yX1_straight.cls ≠ "java/lang/invoke/VarHandle" ∧ (parseMethodDescriptor yX1_straight.desc).map (fun d => d.parameters.length) = some 1 := by decide +kernel
theorem met_X1_straight {l : Launch} {g : XC} {D : va_G} {A : Nat → Prop} (N : Nat) (S : XS) (x0 : Nat) (x1 : Int32) (w : XS × Int32) (hm : kX_X1_straight g N S x0 x1 = some w) : Met l yX1_straight (ws_ yX1_straight cX1_straight 4 (Option.some Jvm.ClassFile.FieldType.int)) (xRm g S 1) (xPre g D A [.ref x0, .int x1] S) (xQi g D A w) (g.2.1 - xTop S) (g.2.2.1 - xSl S) A := by
  refine x_start (own := RX1) (by decide +kernel) rfl (Nat.le_of_ble_eq_true rfl) (fun p e s m below meth c ls X hr hlk hnm hw hl => ?_)
  obtain ⟨hx, hb, -, hown, hts, -⟩ := id X
  have hl : lv_has ls 4 [(0, .ref x0), (1, .int x1)] := hl
  have hg : ∀ (H : Heap) (locs : List Loc) (cells slots : Nat), xW g D A S s H → va_S A s.heap H locs → W p l e (xRm g S 1) s m ([.ref x0, .int x1] : List Value).toArray below meth c H locs cells slots (MQ below (xQi g D A w) ([.ref x0, .int x1] : List Value).toArray s (g.2.1 - xTop S) (g.2.2.1 - xSl S) A) (F0 m 0 ls []) := by
    intro H locs cells slots hw hS
    unfold kX_X1_straight at hm
    refine lv_iconst (v := 0) hx hb dX1_straight_0 (by decide) ?_
    refine lv_istore_n (lv' := [(2, .int 0), (0, .ref x0), (1, .int x1)]) hx hb dX1_straight_1 rfl hl (by decide) rfl (fun ls hl => ?_)
    refine lv_iconst (v := 0) hx hb dX1_straight_2 (by decide) ?_
    refine lv_istore_n (lv' := [(3, .int 0), (2, .int 0), (0, .ref x0), (1, .int x1)]) hx hb dX1_straight_3 rfl hl (by decide) rfl (fun ls hl => ?_)
    exact wkX_X1_straight_4 X hr hlk hnm N N S x0 x1 0 0 H locs ls _ _ hm hw hS (lv_sub hl [2, 3, 1, 0] rfl)
  exact hg _ _ _ _ hw va_S.rf
/-! DripCups.below -/
def kX_X1_below_37 (g : XC) (N : Nat) (K10 : XS → Nat → Int32 → Int32 → Option (XS × Int32)) (S : XS) (x0 : Nat) (x2 : Int32) (x3 : Int32) : Option (XS × Int32) :=
  K10 S x0 x2 (x3 + 1)
theorem wkX_X1_below_37 {p : Program} {l : Launch} {e : Env} {s : State} {m : MethodId} {args : Array Value} {below : List Frame} {meth : Method} {c : Code} {g : XC} {D : va_G} {A : Nat → Prop} {S0 : XS} {w : XS × Int32} (X : xX g D A RX1 S0 p s m args c cX1_below 4) (hr : meth.sig.returnType = (Option.some Jvm.ClassFile.FieldType.int)) (hlk : meth.locks = false) (hnm : meth.name = yX1_below.name) (N : Nat) (K10 : XS → Nat → Int32 → Int32 → Option (XS × Int32))
    (hK10 : ∀ (S : XS) (x0 : Nat) (x2 : Int32) (x3 : Int32) (H : Heap) (locs : List Loc) (ls : Array Slot) (cells slots : Nat), K10 S x0 x2 x3 = some w → xW g D A S s H → va_S A s.heap H locs → lv_has ls 4 [(0, .ref x0), (2, .int x2), (3, .int x3)] → W p l e (xRm g S0 2) s m args below meth c H locs cells slots (MQ below (xQi g D A w) args s (g.2.1 - xTop S0) (g.2.2.1 - xSl S0) A) (F0 m 10 ls [])) :
    ∀ (S : XS) (x0 : Nat) (x2 : Int32) (x3 : Int32) (H : Heap) (locs : List Loc) (ls : Array Slot) (cells slots : Nat), kX_X1_below_37 g N K10 S x0 x2 x3 = some w → xW g D A S s H → va_S A s.heap H locs → lv_has ls 4 [(0, .ref x0), (2, .int x2), (3, .int x3)] → W p l e (xRm g S0 2) s m args below meth c H locs cells slots (MQ below (xQi g D A w) args s (g.2.1 - xTop S0) (g.2.2.1 - xSl S0) A) (F0 m 37 ls []) := by
  obtain ⟨hx, hb, -, hown, hts, -⟩ := id X
  intro S x0 x2 x3 H locs ls cells slots hm hw hS hl
  unfold kX_X1_below_37 at hm
  refine lv_iinc (v := (x3 + 1)) (lv' := [(3, .int (x3 + 1)), (0, .ref x0), (2, .int x2)]) hx hb dX1_below_37 hl (k := 2) rfl rfl (by decide) rfl (fun ls hl => ?_)
  refine lv_goto (tgt := 10) hx hb dX1_below_40 (by decide) ?_
  exact hK10 S x0 x2 (x3 + 1) H locs ls _ _ hm hw hS (lv_sub hl [1, 2, 0] rfl)
def kX_X1_below_10 (g : XC) (N : Nat) : Nat → XS → Nat → Int32 → Int32 → Option (XS × Int32)
  | 0, _, _, _, _ => none
  | n + 1, S, x0, x2, x3 =>
    (f_obj S 1 x0 1).bind fun v1 =>
    (f_cls S 3 v1).bind fun u2 =>
    (kX_X2_cups g N S v1).bind fun w3 =>
    if w3.2 ≤ x3 then
      some (w3.1, x2)
    else
      (kX_X1_isOf g N x2 x3).bind fun w5 =>
      if w5 = 0 then
        kX_X1_below_37 g N (kX_X1_below_10 g N n) w3.1 x0 x2 x3
      else
        (f_cls w3.1 1 x0).bind fun u7 =>
        (kX_X1_straight g N w3.1 x0 x3).bind fun w8 =>
        bnd (x2 ||| w8.2) fun v9 =>
        kX_X1_below_37 g N (kX_X1_below_10 g N n) w8.1 x0 v9 x3
theorem wkX_X1_below_10 {p : Program} {l : Launch} {e : Env} {s : State} {m : MethodId} {args : Array Value} {below : List Frame} {meth : Method} {c : Code} {g : XC} {D : va_G} {A : Nat → Prop} {S0 : XS} {w : XS × Int32} (X : xX g D A RX1 S0 p s m args c cX1_below 4) (hr : meth.sig.returnType = (Option.some Jvm.ClassFile.FieldType.int)) (hlk : meth.locks = false) (hnm : meth.name = yX1_below.name) (N : Nat) :
    ∀ (n : Nat) (S : XS) (x0 : Nat) (x2 : Int32) (x3 : Int32) (H : Heap) (locs : List Loc) (ls : Array Slot) (cells slots : Nat), kX_X1_below_10 g N n S x0 x2 x3 = some w → xW g D A S s H → va_S A s.heap H locs → lv_has ls 4 [(0, .ref x0), (2, .int x2), (3, .int x3)] → W p l e (xRm g S0 2) s m args below meth c H locs cells slots (MQ below (xQi g D A w) args s (g.2.1 - xTop S0) (g.2.2.1 - xSl S0) A) (F0 m 10 ls []) := by
  obtain ⟨hx, hb, -, hown, hts, -⟩ := id X
  intro n
  induction n with
  | zero =>
    intro S x0 x2 x3 H locs ls cells slots hm
    cases hm
  | succ n ih =>
    intro S x0 x2 x3 H locs ls cells slots hm hw hS hl
    rw [kX_X1_below_10] at hm
    refine lv_iload_n hx hb dX1_below_10 rfl (lv_at hl 2 rfl) ?_
    refine lv_aload_n hx hb dX1_below_11 rfl (lv_at hl 0 rfl) ?_
    obtain ⟨v1, hv1, hm⟩ := ob_s hm
    refine xr_val X hw xc1 in_X1 1 (by decide) q279 (f_obj_s hv1) dX1_below_12 ?_
    obtain ⟨u2, hu2, hm⟩ := ob_s hm
    obtain ⟨w3, hw3, hm⟩ := ob_s hm
    refine xr_reti hS (xr_runV X hw (met_X2_cups N S v1 w3 hw3) (x_cv X (lv := 1) (by omega) (by decide) cx_X2_cups (lw_V q1172 q463 q464 q116 q465)) xc3 hu2 rfl hl.1 rfl (Nat.le_of_ble_eq_true rfl) dX1_below_15) (fun H locs cells slots hw hS => ?_)
    refine lv_icmp_ge (tgt := 43) hx hb dX1_below_18 (by decide) (fun c4 => ?_) (fun c4 => ?_)
    · replace hm := if_t c4 hm
      refine lv_iload_n hx hb dX1_below_43 rfl (lv_at hl 1 rfl) ?_
      obtain rfl := Option.some.inj hm
      exact xr_iret (v := x2) X hr hlk hw hS rfl dX1_below_44
    · replace hm := if_f c4 hm
      refine lv_iload_n hx hb dX1_below_21 rfl (lv_at hl 1 rfl) ?_
      refine lv_iload_n hx hb dX1_below_22 rfl (lv_at hl 2 rfl) ?_
      obtain ⟨w5, hw5, hm⟩ := ob_s hm
      refine xr_reti hS (xr_runS X hw (met_X1_isOf N w3.1 x2 x3 w5 hw5) (x_cs X (lv := 0) (by omega) (by decide) cx_X1_isOf (lw_S q1202 q477 q115 q478)) rfl hl.1 rfl (Nat.le_of_ble_eq_true rfl) dX1_below_23) (fun H locs cells slots hw hS => ?_)
      refine lv_if_eq (tgt := 37) hx hb dX1_below_26 (by decide) (fun c6 => ?_) (fun c6 => ?_)
      · replace hm := if_t c6 hm
        exact wkX_X1_below_37 X hr hlk hnm N (kX_X1_below_10 g N n) ih w3.1 x0 x2 x3 H locs ls _ _ hm hw hS (lv_sub hl [0, 1, 2] rfl)
      · replace hm := if_f c6 hm
        refine lv_iload_n hx hb dX1_below_29 rfl (lv_at hl 1 rfl) ?_
        refine lv_aload_n hx hb dX1_below_30 rfl (lv_at hl 0 rfl) ?_
        refine lv_iload_n hx hb dX1_below_31 rfl (lv_at hl 2 rfl) ?_
        obtain ⟨u7, hu7, hm⟩ := ob_s hm
        obtain ⟨w8, hw8, hm⟩ := ob_s hm
        refine xr_reti hS (xr_runV X hw (met_X1_straight N w3.1 x0 x3 w8 hw8) (x_cv X (lv := 1) (by omega) (by decide) cx_X1_straight (lw_V q1197 q1199 qs38 q115 q1200)) xc1 hu7 rfl hl.1 rfl (Nat.le_of_ble_eq_true rfl) dX1_below_32) (fun H locs cells slots hw hS => ?_)
        refine lv_ior hx hb dX1_below_35 ?_
        refine lv_topi (fun v9 ev9 => ?_)
        replace hm := bnd_s hm ev9
        refine lv_istore_n (lv' := [(2, .int v9), (0, .ref x0), (3, .int x3)]) hx hb dX1_below_36 rfl hl (by decide) rfl (fun ls hl => ?_)
        exact wkX_X1_below_37 X hr hlk hnm N (kX_X1_below_10 g N n) ih w8.1 x0 v9 x3 H locs ls _ _ hm hw hS (lv_sub hl [1, 0, 2] rfl)
def kX_X1_below (g : XC) (N : Nat) (S : XS) (x0 : Nat) (x1 : Int32) : Option (XS × Int32) :=
  (f_cls S 1 x0).bind fun u1 =>
  (kX_X1_straight g N S x0 x1).bind fun w2 =>
  bnd (x1 + 1) fun v3 =>
  kX_X1_below_10 g N N w2.1 x0 w2.2 v3
theorem cx_X1_below : yX1_below.cls = RX1 ∧ yX1_below.cls ≠ "java/lang/invoke/MethodHandle" ∧ yX1_below.cls ≠ "java/lang/invoke/VarHandle" ∧ (parseMethodDescriptor yX1_below.desc).map (fun d => d.parameters.length) = some 1 := by decide +kernel
theorem met_X1_below {l : Launch} {g : XC} {D : va_G} {A : Nat → Prop} (N : Nat) (S : XS) (x0 : Nat) (x1 : Int32) (w : XS × Int32) (hm : kX_X1_below g N S x0 x1 = some w) : Met l yX1_below (ws_ yX1_below cX1_below 4 (Option.some Jvm.ClassFile.FieldType.int)) (xRm g S 2) (xPre g D A [.ref x0, .int x1] S) (xQi g D A w) (g.2.1 - xTop S) (g.2.2.1 - xSl S) A := by
  refine x_start (own := RX1) (by decide +kernel) rfl (Nat.le_of_ble_eq_true rfl) (fun p e s m below meth c ls X hr hlk hnm hw hl => ?_)
  obtain ⟨hx, hb, -, hown, hts, -⟩ := id X
  have hl : lv_has ls 4 [(0, .ref x0), (1, .int x1)] := hl
  have hg : ∀ (H : Heap) (locs : List Loc) (cells slots : Nat), xW g D A S s H → va_S A s.heap H locs → W p l e (xRm g S 2) s m ([.ref x0, .int x1] : List Value).toArray below meth c H locs cells slots (MQ below (xQi g D A w) ([.ref x0, .int x1] : List Value).toArray s (g.2.1 - xTop S) (g.2.2.1 - xSl S) A) (F0 m 0 ls []) := by
    intro H locs cells slots hw hS
    unfold kX_X1_below at hm
    refine lv_aload_n hx hb dX1_below_0 rfl (lv_at hl 0 rfl) ?_
    refine lv_iload_n hx hb dX1_below_1 rfl (lv_at hl 1 rfl) ?_
    obtain ⟨u1, hu1, hm⟩ := ob_s hm
    obtain ⟨w2, hw2, hm⟩ := ob_s hm
    refine xr_reti hS (xr_runV X hw (met_X1_straight N S x0 x1 w2 hw2) (x_cv X (lv := 1) (by omega) (by decide) cx_X1_straight (lw_V q1197 q1199 qs38 q115 q1200)) xc1 hu1 rfl hl.1 rfl (Nat.le_of_ble_eq_true rfl) dX1_below_2) (fun H locs cells slots hw hS => ?_)
    refine lv_istore_n (lv' := [(2, .int w2.2), (0, .ref x0), (1, .int x1)]) hx hb dX1_below_5 rfl hl (by decide) rfl (fun ls hl => ?_)
    refine lv_iload_n hx hb dX1_below_6 rfl (lv_at hl 2 rfl) ?_
    refine lv_iconst (v := 1) hx hb dX1_below_7 (by decide) ?_
    refine lv_iadd hx hb dX1_below_8 ?_
    refine lv_topi (fun v3 ev3 => ?_)
    replace hm := bnd_s hm ev3
    refine lv_istore_n (lv' := [(3, .int v3), (2, .int w2.2), (0, .ref x0), (1, .int x1)]) hx hb dX1_below_9 rfl hl (by decide) rfl (fun ls hl => ?_)
    exact wkX_X1_below_10 X hr hlk hnm N N w2.1 x0 w2.2 v3 H locs ls _ _ hm hw hS (lv_sub hl [2, 1, 0] rfl)
  exact hg _ _ _ _ hw va_S.rf
/-! DripCups.above -/
def kX_X1_above_27 (g : XC) (N : Nat) (K4 : XS → Nat → Int32 → Int32 → Int32 → Option (XS × Int32)) (S : XS) (x0 : Nat) (x1 : Int32) (x2 : Int32) (x3 : Int32) : Option (XS × Int32) :=
  K4 S x0 x1 x2 (x3 + 1)
theorem wkX_X1_above_27 {p : Program} {l : Launch} {e : Env} {s : State} {m : MethodId} {args : Array Value} {below : List Frame} {meth : Method} {c : Code} {g : XC} {D : va_G} {A : Nat → Prop} {S0 : XS} {w : XS × Int32} (X : xX g D A RX1 S0 p s m args c cX1_above 4) (hr : meth.sig.returnType = (Option.some Jvm.ClassFile.FieldType.int)) (hlk : meth.locks = false) (hnm : meth.name = yX1_above.name) (N : Nat) (K4 : XS → Nat → Int32 → Int32 → Int32 → Option (XS × Int32))
    (hK4 : ∀ (S : XS) (x0 : Nat) (x1 : Int32) (x2 : Int32) (x3 : Int32) (H : Heap) (locs : List Loc) (ls : Array Slot) (cells slots : Nat), K4 S x0 x1 x2 x3 = some w → xW g D A S s H → va_S A s.heap H locs → lv_has ls 4 [(0, .ref x0), (1, .int x1), (2, .int x2), (3, .int x3)] → W p l e (xRm g S0 3) s m args below meth c H locs cells slots (MQ below (xQi g D A w) args s (g.2.1 - xTop S0) (g.2.2.1 - xSl S0) A) (F0 m 4 ls [])) :
    ∀ (S : XS) (x0 : Nat) (x1 : Int32) (x2 : Int32) (x3 : Int32) (H : Heap) (locs : List Loc) (ls : Array Slot) (cells slots : Nat), kX_X1_above_27 g N K4 S x0 x1 x2 x3 = some w → xW g D A S s H → va_S A s.heap H locs → lv_has ls 4 [(0, .ref x0), (1, .int x1), (2, .int x2), (3, .int x3)] → W p l e (xRm g S0 3) s m args below meth c H locs cells slots (MQ below (xQi g D A w) args s (g.2.1 - xTop S0) (g.2.2.1 - xSl S0) A) (F0 m 27 ls []) := by
  obtain ⟨hx, hb, -, hown, hts, -⟩ := id X
  intro S x0 x1 x2 x3 H locs ls cells slots hm hw hS hl
  unfold kX_X1_above_27 at hm
  refine lv_iinc (v := (x3 + 1)) (lv' := [(3, .int (x3 + 1)), (0, .ref x0), (1, .int x1), (2, .int x2)]) hx hb dX1_above_27 hl (k := 3) rfl rfl (by decide) rfl (fun ls hl => ?_)
  refine lv_goto (tgt := 4) hx hb dX1_above_30 (by decide) ?_
  exact hK4 S x0 x1 x2 (x3 + 1) H locs ls _ _ hm hw hS (lv_sub hl [1, 2, 3, 0] rfl)
def kX_X1_above_4 (g : XC) (N : Nat) : Nat → XS → Nat → Int32 → Int32 → Int32 → Option (XS × Int32)
  | 0, _, _, _, _, _ => none
  | n + 1, S, x0, x1, x2, x3 =>
    if x1 ≤ x3 then
      some (S, x2)
    else
      (f_cls S 1 x0).bind fun u2 =>
      (kX_X1_below g N S x0 x3).bind fun w3 =>
      (kX_X1_isOf g N w3.2 x1).bind fun w4 =>
      if w4 = 0 then
        kX_X1_above_27 g N (kX_X1_above_4 g N n) w3.1 x0 x1 x2 x3
      else
        bnd (x2 ||| ((1 : Int32) <<< (x3 &&& 31))) fun v6 =>
        kX_X1_above_27 g N (kX_X1_above_4 g N n) w3.1 x0 x1 v6 x3
theorem wkX_X1_above_4 {p : Program} {l : Launch} {e : Env} {s : State} {m : MethodId} {args : Array Value} {below : List Frame} {meth : Method} {c : Code} {g : XC} {D : va_G} {A : Nat → Prop} {S0 : XS} {w : XS × Int32} (X : xX g D A RX1 S0 p s m args c cX1_above 4) (hr : meth.sig.returnType = (Option.some Jvm.ClassFile.FieldType.int)) (hlk : meth.locks = false) (hnm : meth.name = yX1_above.name) (N : Nat) :
    ∀ (n : Nat) (S : XS) (x0 : Nat) (x1 : Int32) (x2 : Int32) (x3 : Int32) (H : Heap) (locs : List Loc) (ls : Array Slot) (cells slots : Nat), kX_X1_above_4 g N n S x0 x1 x2 x3 = some w → xW g D A S s H → va_S A s.heap H locs → lv_has ls 4 [(0, .ref x0), (1, .int x1), (2, .int x2), (3, .int x3)] → W p l e (xRm g S0 3) s m args below meth c H locs cells slots (MQ below (xQi g D A w) args s (g.2.1 - xTop S0) (g.2.2.1 - xSl S0) A) (F0 m 4 ls []) := by
  obtain ⟨hx, hb, -, hown, hts, -⟩ := id X
  intro n
  induction n with
  | zero =>
    intro S x0 x1 x2 x3 H locs ls cells slots hm
    cases hm
  | succ n ih =>
    intro S x0 x1 x2 x3 H locs ls cells slots hm hw hS hl
    rw [kX_X1_above_4] at hm
    refine lv_iload_n hx hb dX1_above_4 rfl (lv_at hl 3 rfl) ?_
    refine lv_iload_n hx hb dX1_above_5 rfl (lv_at hl 1 rfl) ?_
    refine lv_icmp_ge (tgt := 33) hx hb dX1_above_6 (by decide) (fun c1 => ?_) (fun c1 => ?_)
    · replace hm := if_t c1 hm
      refine lv_iload_n hx hb dX1_above_33 rfl (lv_at hl 2 rfl) ?_
      obtain rfl := Option.some.inj hm
      exact xr_iret (v := x2) X hr hlk hw hS rfl dX1_above_34
    · replace hm := if_f c1 hm
      refine lv_aload_n hx hb dX1_above_9 rfl (lv_at hl 0 rfl) ?_
      refine lv_iload_n hx hb dX1_above_10 rfl (lv_at hl 3 rfl) ?_
      obtain ⟨u2, hu2, hm⟩ := ob_s hm
      obtain ⟨w3, hw3, hm⟩ := ob_s hm
      refine xr_reti hS (xr_runV X hw (met_X1_below N S x0 x3 w3 hw3) (x_cv X (lv := 2) (by omega) (by decide) cx_X1_below (lw_V q1193 q1195 qs37 q115 q1196)) xc1 hu2 rfl hl.1 rfl (Nat.le_of_ble_eq_true rfl) dX1_above_11) (fun H locs cells slots hw hS => ?_)
      refine lv_iload_n hx hb dX1_above_14 rfl (lv_at hl 1 rfl) ?_
      obtain ⟨w4, hw4, hm⟩ := ob_s hm
      refine xr_reti hS (xr_runS X hw (met_X1_isOf N w3.1 w3.2 x1 w4 hw4) (x_cs X (lv := 0) (by omega) (by decide) cx_X1_isOf (lw_S q1202 q477 q115 q478)) rfl hl.1 rfl (Nat.le_of_ble_eq_true rfl) dX1_above_15) (fun H locs cells slots hw hS => ?_)
      refine lv_if_eq (tgt := 27) hx hb dX1_above_18 (by decide) (fun c5 => ?_) (fun c5 => ?_)
      · replace hm := if_t c5 hm
        exact wkX_X1_above_27 X hr hlk hnm N (kX_X1_above_4 g N n) ih w3.1 x0 x1 x2 x3 H locs ls _ _ hm hw hS (lv_sub hl [0, 1, 2, 3] rfl)
      · replace hm := if_f c5 hm
        refine lv_iload_n hx hb dX1_above_21 rfl (lv_at hl 2 rfl) ?_
        refine lv_iconst (v := 1) hx hb dX1_above_22 (by decide) ?_
        refine lv_iload_n hx hb dX1_above_23 rfl (lv_at hl 3 rfl) ?_
        refine lv_ishl hx hb dX1_above_24 ?_
        refine lv_ior hx hb dX1_above_25 ?_
        refine lv_topi (fun v6 ev6 => ?_)
        replace hm := bnd_s hm ev6
        refine lv_istore_n (lv' := [(2, .int v6), (0, .ref x0), (1, .int x1), (3, .int x3)]) hx hb dX1_above_26 rfl hl (by decide) rfl (fun ls hl => ?_)
        exact wkX_X1_above_27 X hr hlk hnm N (kX_X1_above_4 g N n) ih w3.1 x0 x1 v6 x3 H locs ls _ _ hm hw hS (lv_sub hl [1, 2, 0, 3] rfl)
def kX_X1_above (g : XC) (N : Nat) (S : XS) (x0 : Nat) (x1 : Int32) : Option (XS × Int32) :=
  kX_X1_above_4 g N N S x0 x1 0 0
theorem cx_X1_above : yX1_above.cls = RX1 ∧ yX1_above.cls ≠ "java/lang/invoke/MethodHandle" ∧ yX1_above.cls ≠ "java/lang/invoke/VarHandle" ∧ (parseMethodDescriptor yX1_above.desc).map (fun d => d.parameters.length) = some 1 := by decide +kernel
theorem met_X1_above {l : Launch} {g : XC} {D : va_G} {A : Nat → Prop} (N : Nat) (S : XS) (x0 : Nat) (x1 : Int32) (w : XS × Int32) (hm : kX_X1_above g N S x0 x1 = some w) : Met l yX1_above (ws_ yX1_above cX1_above 4 (Option.some Jvm.ClassFile.FieldType.int)) (xRm g S 3) (xPre g D A [.ref x0, .int x1] S) (xQi g D A w) (g.2.1 - xTop S) (g.2.2.1 - xSl S) A := by
  refine x_start (own := RX1) (by decide +kernel) rfl (Nat.le_of_ble_eq_true rfl) (fun p e s m below meth c ls X hr hlk hnm hw hl => ?_)
  obtain ⟨hx, hb, -, hown, hts, -⟩ := id X
  have hl : lv_has ls 4 [(0, .ref x0), (1, .int x1)] := hl
  have hg : ∀ (H : Heap) (locs : List Loc) (cells slots : Nat), xW g D A S s H → va_S A s.heap H locs → W p l e (xRm g S 3) s m ([.ref x0, .int x1] : List Value).toArray below meth c H locs cells slots (MQ below (xQi g D A w) ([.ref x0, .int x1] : List Value).toArray s (g.2.1 - xTop S) (g.2.2.1 - xSl S) A) (F0 m 0 ls []) := by
    intro H locs cells slots hw hS
    unfold kX_X1_above at hm
    refine lv_iconst (v := 0) hx hb dX1_above_0 (by decide) ?_
    refine lv_istore_n (lv' := [(2, .int 0), (0, .ref x0), (1, .int x1)]) hx hb dX1_above_1 rfl hl (by decide) rfl (fun ls hl => ?_)
    refine lv_iconst (v := 0) hx hb dX1_above_2 (by decide) ?_
    refine lv_istore_n (lv' := [(3, .int 0), (2, .int 0), (0, .ref x0), (1, .int x1)]) hx hb dX1_above_3 rfl hl (by decide) rfl (fun ls hl => ?_)
    exact wkX_X1_above_4 X hr hlk hnm N N S x0 x1 0 0 H locs ls _ _ hm hw hS (lv_sub hl [2, 3, 1, 0] rfl)
  exact hg _ _ _ _ hw va_S.rf
/-! DripCups.roots -/
def kX_X1_roots_29 (g : XC) (N : Nat) (K4 : XS → Nat → Int32 → Int32 → Option (XS × Int32)) (S : XS) (x0 : Nat) (x1 : Int32) (x2 : Int32) : Option (XS × Int32) :=
  K4 S x0 x1 (x2 + 1)
theorem wkX_X1_roots_29 {p : Program} {l : Launch} {e : Env} {s : State} {m : MethodId} {args : Array Value} {below : List Frame} {meth : Method} {c : Code} {g : XC} {D : va_G} {A : Nat → Prop} {S0 : XS} {w : XS × Int32} (X : xX g D A RX1 S0 p s m args c cX1_roots 3) (hr : meth.sig.returnType = (Option.some Jvm.ClassFile.FieldType.int)) (hlk : meth.locks = false) (hnm : meth.name = yX1_roots.name) (N : Nat) (K4 : XS → Nat → Int32 → Int32 → Option (XS × Int32))
    (hK4 : ∀ (S : XS) (x0 : Nat) (x1 : Int32) (x2 : Int32) (H : Heap) (locs : List Loc) (ls : Array Slot) (cells slots : Nat), K4 S x0 x1 x2 = some w → xW g D A S s H → va_S A s.heap H locs → lv_has ls 3 [(0, .ref x0), (1, .int x1), (2, .int x2)] → W p l e (xRm g S0 4) s m args below meth c H locs cells slots (MQ below (xQi g D A w) args s (g.2.1 - xTop S0) (g.2.2.1 - xSl S0) A) (F0 m 4 ls [])) :
    ∀ (S : XS) (x0 : Nat) (x1 : Int32) (x2 : Int32) (H : Heap) (locs : List Loc) (ls : Array Slot) (cells slots : Nat), kX_X1_roots_29 g N K4 S x0 x1 x2 = some w → xW g D A S s H → va_S A s.heap H locs → lv_has ls 3 [(0, .ref x0), (1, .int x1), (2, .int x2)] → W p l e (xRm g S0 4) s m args below meth c H locs cells slots (MQ below (xQi g D A w) args s (g.2.1 - xTop S0) (g.2.2.1 - xSl S0) A) (F0 m 29 ls []) := by
  obtain ⟨hx, hb, -, hown, hts, -⟩ := id X
  intro S x0 x1 x2 H locs ls cells slots hm hw hS hl
  unfold kX_X1_roots_29 at hm
  refine lv_iinc (v := (x2 + 1)) (lv' := [(2, .int (x2 + 1)), (0, .ref x0), (1, .int x1)]) hx hb dX1_roots_29 hl (k := 2) rfl rfl (by decide) rfl (fun ls hl => ?_)
  refine lv_goto (tgt := 4) hx hb dX1_roots_32 (by decide) ?_
  exact hK4 S x0 x1 (x2 + 1) H locs ls _ _ hm hw hS (lv_sub hl [1, 2, 0] rfl)
def kX_X1_roots_4 (g : XC) (N : Nat) : Nat → XS → Nat → Int32 → Int32 → Option (XS × Int32)
  | 0, _, _, _, _ => none
  | n + 1, S, x0, x1, x2 =>
    (f_obj S 1 x0 1).bind fun v1 =>
    (f_cls S 3 v1).bind fun u2 =>
    (kX_X2_cups g N S v1).bind fun w3 =>
    if w3.2 ≤ x2 then
      some (w3.1, x1)
    else
      (f_cls w3.1 1 x0).bind fun u5 =>
      (kX_X1_above g N w3.1 x0 x2).bind fun w6 =>
      if w6.2 = 0 then
        bnd (x1 ||| ((1 : Int32) <<< (x2 &&& 31))) fun v8 =>
        kX_X1_roots_29 g N (kX_X1_roots_4 g N n) w6.1 x0 v8 x2
      else
        kX_X1_roots_29 g N (kX_X1_roots_4 g N n) w6.1 x0 x1 x2
theorem wkX_X1_roots_4 {p : Program} {l : Launch} {e : Env} {s : State} {m : MethodId} {args : Array Value} {below : List Frame} {meth : Method} {c : Code} {g : XC} {D : va_G} {A : Nat → Prop} {S0 : XS} {w : XS × Int32} (X : xX g D A RX1 S0 p s m args c cX1_roots 3) (hr : meth.sig.returnType = (Option.some Jvm.ClassFile.FieldType.int)) (hlk : meth.locks = false) (hnm : meth.name = yX1_roots.name) (N : Nat) :
    ∀ (n : Nat) (S : XS) (x0 : Nat) (x1 : Int32) (x2 : Int32) (H : Heap) (locs : List Loc) (ls : Array Slot) (cells slots : Nat), kX_X1_roots_4 g N n S x0 x1 x2 = some w → xW g D A S s H → va_S A s.heap H locs → lv_has ls 3 [(0, .ref x0), (1, .int x1), (2, .int x2)] → W p l e (xRm g S0 4) s m args below meth c H locs cells slots (MQ below (xQi g D A w) args s (g.2.1 - xTop S0) (g.2.2.1 - xSl S0) A) (F0 m 4 ls []) := by
  obtain ⟨hx, hb, -, hown, hts, -⟩ := id X
  intro n
  induction n with
  | zero =>
    intro S x0 x1 x2 H locs ls cells slots hm
    cases hm
  | succ n ih =>
    intro S x0 x1 x2 H locs ls cells slots hm hw hS hl
    rw [kX_X1_roots_4] at hm
    refine lv_iload_n hx hb dX1_roots_4 rfl (lv_at hl 2 rfl) ?_
    refine lv_aload_n hx hb dX1_roots_5 rfl (lv_at hl 0 rfl) ?_
    obtain ⟨v1, hv1, hm⟩ := ob_s hm
    refine xr_val X hw xc1 in_X1 1 (by decide) q279 (f_obj_s hv1) dX1_roots_6 ?_
    obtain ⟨u2, hu2, hm⟩ := ob_s hm
    obtain ⟨w3, hw3, hm⟩ := ob_s hm
    refine xr_reti hS (xr_runV X hw (met_X2_cups N S v1 w3 hw3) (x_cv X (lv := 1) (by omega) (by decide) cx_X2_cups (lw_V q1172 q463 q464 q116 q465)) xc3 hu2 rfl hl.1 rfl (Nat.le_of_ble_eq_true rfl) dX1_roots_9) (fun H locs cells slots hw hS => ?_)
    refine lv_icmp_ge (tgt := 35) hx hb dX1_roots_12 (by decide) (fun c4 => ?_) (fun c4 => ?_)
    · replace hm := if_t c4 hm
      refine lv_iload_n hx hb dX1_roots_35 rfl (lv_at hl 1 rfl) ?_
      obtain rfl := Option.some.inj hm
      exact xr_iret (v := x1) X hr hlk hw hS rfl dX1_roots_36
    · replace hm := if_f c4 hm
      refine lv_aload_n hx hb dX1_roots_15 rfl (lv_at hl 0 rfl) ?_
      refine lv_iload_n hx hb dX1_roots_16 rfl (lv_at hl 2 rfl) ?_
      obtain ⟨u5, hu5, hm⟩ := ob_s hm
      obtain ⟨w6, hw6, hm⟩ := ob_s hm
      refine xr_reti hS (xr_runV X hw (met_X1_above N w3.1 x0 x2 w6 hw6) (x_cv X (lv := 3) (by omega) (by decide) cx_X1_above (lw_V q1189 q1191 qs36 q115 q1192)) xc1 hu5 rfl hl.1 rfl (Nat.le_of_ble_eq_true rfl) dX1_roots_17) (fun H locs cells slots hw hS => ?_)
      refine lv_if_ne (tgt := 29) hx hb dX1_roots_20 (by decide) (fun c7 => ?_) (fun c7 => ?_)
      · replace hm := if_f c7 hm
        exact wkX_X1_roots_29 X hr hlk hnm N (kX_X1_roots_4 g N n) ih w6.1 x0 x1 x2 H locs ls _ _ hm hw hS (lv_sub hl [0, 1, 2] rfl)
      · replace hm := if_t c7 hm
        refine lv_iload_n hx hb dX1_roots_23 rfl (lv_at hl 1 rfl) ?_
        refine lv_iconst (v := 1) hx hb dX1_roots_24 (by decide) ?_
        refine lv_iload_n hx hb dX1_roots_25 rfl (lv_at hl 2 rfl) ?_
        refine lv_ishl hx hb dX1_roots_26 ?_
        refine lv_ior hx hb dX1_roots_27 ?_
        refine lv_topi (fun v8 ev8 => ?_)
        replace hm := bnd_s hm ev8
        refine lv_istore_n (lv' := [(1, .int v8), (0, .ref x0), (2, .int x2)]) hx hb dX1_roots_28 rfl hl (by decide) rfl (fun ls hl => ?_)
        exact wkX_X1_roots_29 X hr hlk hnm N (kX_X1_roots_4 g N n) ih w6.1 x0 v8 x2 H locs ls _ _ hm hw hS (lv_sub hl [1, 0, 2] rfl)
def kX_X1_roots (g : XC) (N : Nat) (S : XS) (x0 : Nat) : Option (XS × Int32) :=
  kX_X1_roots_4 g N N S x0 0 0
theorem cx_X1_roots : yX1_roots.cls = RX1 ∧ yX1_roots.cls ≠ "java/lang/invoke/MethodHandle" ∧ yX1_roots.cls ≠ "java/lang/invoke/VarHandle" ∧ (parseMethodDescriptor yX1_roots.desc).map (fun d => d.parameters.length) = some 0 := by decide +kernel
theorem met_X1_roots {l : Launch} {g : XC} {D : va_G} {A : Nat → Prop} (N : Nat) (S : XS) (x0 : Nat) (w : XS × Int32) (hm : kX_X1_roots g N S x0 = some w) : Met l yX1_roots (ws_ yX1_roots cX1_roots 3 (Option.some Jvm.ClassFile.FieldType.int)) (xRm g S 4) (xPre g D A [.ref x0] S) (xQi g D A w) (g.2.1 - xTop S) (g.2.2.1 - xSl S) A := by
  refine x_start (own := RX1) (by decide +kernel) rfl (Nat.le_of_ble_eq_true rfl) (fun p e s m below meth c ls X hr hlk hnm hw hl => ?_)
  obtain ⟨hx, hb, -, hown, hts, -⟩ := id X
  have hl : lv_has ls 3 [(0, .ref x0)] := hl
  have hg : ∀ (H : Heap) (locs : List Loc) (cells slots : Nat), xW g D A S s H → va_S A s.heap H locs → W p l e (xRm g S 4) s m ([.ref x0] : List Value).toArray below meth c H locs cells slots (MQ below (xQi g D A w) ([.ref x0] : List Value).toArray s (g.2.1 - xTop S) (g.2.2.1 - xSl S) A) (F0 m 0 ls []) := by
    intro H locs cells slots hw hS
    unfold kX_X1_roots at hm
    refine lv_iconst (v := 0) hx hb dX1_roots_0 (by decide) ?_
    refine lv_istore_n (lv' := [(1, .int 0), (0, .ref x0)]) hx hb dX1_roots_1 rfl hl (by decide) rfl (fun ls hl => ?_)
    refine lv_iconst (v := 0) hx hb dX1_roots_2 (by decide) ?_
    refine lv_istore_n (lv' := [(2, .int 0), (1, .int 0), (0, .ref x0)]) hx hb dX1_roots_3 rfl hl (by decide) rfl (fun ls hl => ?_)
    exact wkX_X1_roots_4 X hr hlk hnm N N S x0 0 0 H locs ls _ _ hm hw hS (lv_sub hl [2, 1, 0] rfl)
  exact hg _ _ _ _ hw va_S.rf
/-! DripCups.alike -/
def kX_X1_alike_114 (g : XC) (N : Nat) (K4 : XS → Nat → Int32 → Int32 → Option (XS × Int32)) (K17 : XS → Nat → Int32 → Int32 → Int32 → Option (XS × Int32)) (S : XS) (x0 : Nat) (x1 : Int32) (x2 : Int32) (x3 : Int32) : Option (XS × Int32) :=
  K17 S x0 x1 x2 (x3 + 1)
theorem wkX_X1_alike_114 {p : Program} {l : Launch} {e : Env} {s : State} {m : MethodId} {args : Array Value} {below : List Frame} {meth : Method} {c : Code} {g : XC} {D : va_G} {A : Nat → Prop} {S0 : XS} {w : XS × Int32} (X : xX g D A RX1 S0 p s m args c cX1_alike 5) (hr : meth.sig.returnType = (Option.some Jvm.ClassFile.FieldType.int)) (hlk : meth.locks = false) (hnm : meth.name = yX1_alike.name) (N : Nat) (K4 : XS → Nat → Int32 → Int32 → Option (XS × Int32)) (K17 : XS → Nat → Int32 → Int32 → Int32 → Option (XS × Int32))
    (hK4 : ∀ (S : XS) (x0 : Nat) (x1 : Int32) (x2 : Int32) (H : Heap) (locs : List Loc) (ls : Array Slot) (cells slots : Nat), K4 S x0 x1 x2 = some w → xW g D A S s H → va_S A s.heap H locs → lv_has ls 5 [(0, .ref x0), (1, .int x1), (2, .int x2)] → W p l e (xRm g S0 3) s m args below meth c H locs cells slots (MQ below (xQi g D A w) args s (g.2.1 - xTop S0) (g.2.2.1 - xSl S0) A) (F0 m 4 ls []))
    (hK17 : ∀ (S : XS) (x0 : Nat) (x1 : Int32) (x2 : Int32) (x3 : Int32) (H : Heap) (locs : List Loc) (ls : Array Slot) (cells slots : Nat), K17 S x0 x1 x2 x3 = some w → xW g D A S s H → va_S A s.heap H locs → lv_has ls 5 [(0, .ref x0), (1, .int x1), (2, .int x2), (3, .int x3)] → W p l e (xRm g S0 3) s m args below meth c H locs cells slots (MQ below (xQi g D A w) args s (g.2.1 - xTop S0) (g.2.2.1 - xSl S0) A) (F0 m 17 ls [])) :
    ∀ (S : XS) (x0 : Nat) (x1 : Int32) (x2 : Int32) (x3 : Int32) (H : Heap) (locs : List Loc) (ls : Array Slot) (cells slots : Nat), kX_X1_alike_114 g N K4 K17 S x0 x1 x2 x3 = some w → xW g D A S s H → va_S A s.heap H locs → lv_has ls 5 [(0, .ref x0), (1, .int x1), (2, .int x2), (3, .int x3)] → W p l e (xRm g S0 3) s m args below meth c H locs cells slots (MQ below (xQi g D A w) args s (g.2.1 - xTop S0) (g.2.2.1 - xSl S0) A) (F0 m 114 ls []) := by
  obtain ⟨hx, hb, -, hown, hts, -⟩ := id X
  intro S x0 x1 x2 x3 H locs ls cells slots hm hw hS hl
  unfold kX_X1_alike_114 at hm
  refine lv_iinc (v := (x3 + 1)) (lv' := [(3, .int (x3 + 1)), (0, .ref x0), (1, .int x1), (2, .int x2)]) hx hb dX1_alike_114 hl (k := 3) rfl rfl (by decide) rfl (fun ls hl => ?_)
  refine lv_goto (tgt := 17) hx hb dX1_alike_117 (by decide) ?_
  exact hK17 S x0 x1 x2 (x3 + 1) H locs ls _ _ hm hw hS (lv_sub hl [1, 2, 3, 0] rfl)
def kX_X1_alike_69 (g : XC) (N : Nat) (K4 : XS → Nat → Int32 → Int32 → Option (XS × Int32)) (K17 : XS → Nat → Int32 → Int32 → Int32 → Option (XS × Int32)) (S : XS) (x0 : Nat) (x1 : Int32) (x2 : Int32) (x3 : Int32) (t0 : Int32) : Option (XS × Int32) :=
  if t0 = 0 then
    kX_X1_alike_114 g N K4 K17 S x0 x1 x2 x3
  else
    (f_obj S 1 x0 1).bind fun v2 =>
    (f_obj S 3 v2 0).bind fun v3 =>
    (f_cls S 10 v3).bind fun u4 =>
    (kX_J2_get g N S v3 x2).bind fun w5 =>
    (gIv g w5.2).bind fun k6 =>
    (f_obj w5.1 1 x0 1).bind fun v7 =>
    (f_obj w5.1 3 v7 0).bind fun v8 =>
    (f_cls w5.1 10 v8).bind fun u9 =>
    (kX_J2_get g N w5.1 v8 x3).bind fun w10 =>
    (gIv g w5.2).bind fun u11 =>
    (kX_J19_equals g N w10.1 w5.2 w10.2).bind fun w12 =>
    if w12.2 = 0 then
      kX_X1_alike_114 g N K4 K17 w12.1 x0 x1 x2 x3
    else
      kX_X1_alike_114 g N K4 K17 w12.1 x0 (x1 + 1) x2 x3
theorem wkX_X1_alike_69 {p : Program} {l : Launch} {e : Env} {s : State} {m : MethodId} {args : Array Value} {below : List Frame} {meth : Method} {c : Code} {g : XC} {D : va_G} {A : Nat → Prop} {S0 : XS} {w : XS × Int32} (X : xX g D A RX1 S0 p s m args c cX1_alike 5) (hr : meth.sig.returnType = (Option.some Jvm.ClassFile.FieldType.int)) (hlk : meth.locks = false) (hnm : meth.name = yX1_alike.name) (N : Nat) (K4 : XS → Nat → Int32 → Int32 → Option (XS × Int32)) (K17 : XS → Nat → Int32 → Int32 → Int32 → Option (XS × Int32))
    (hK4 : ∀ (S : XS) (x0 : Nat) (x1 : Int32) (x2 : Int32) (H : Heap) (locs : List Loc) (ls : Array Slot) (cells slots : Nat), K4 S x0 x1 x2 = some w → xW g D A S s H → va_S A s.heap H locs → lv_has ls 5 [(0, .ref x0), (1, .int x1), (2, .int x2)] → W p l e (xRm g S0 3) s m args below meth c H locs cells slots (MQ below (xQi g D A w) args s (g.2.1 - xTop S0) (g.2.2.1 - xSl S0) A) (F0 m 4 ls []))
    (hK17 : ∀ (S : XS) (x0 : Nat) (x1 : Int32) (x2 : Int32) (x3 : Int32) (H : Heap) (locs : List Loc) (ls : Array Slot) (cells slots : Nat), K17 S x0 x1 x2 x3 = some w → xW g D A S s H → va_S A s.heap H locs → lv_has ls 5 [(0, .ref x0), (1, .int x1), (2, .int x2), (3, .int x3)] → W p l e (xRm g S0 3) s m args below meth c H locs cells slots (MQ below (xQi g D A w) args s (g.2.1 - xTop S0) (g.2.2.1 - xSl S0) A) (F0 m 17 ls [])) :
    ∀ (S : XS) (x0 : Nat) (x1 : Int32) (x2 : Int32) (x3 : Int32) (t0 : Int32) (H : Heap) (locs : List Loc) (ls : Array Slot) (cells slots : Nat), kX_X1_alike_69 g N K4 K17 S x0 x1 x2 x3 t0 = some w → xW g D A S s H → va_S A s.heap H locs → lv_has ls 5 [(0, .ref x0), (1, .int x1), (2, .int x2), (3, .int x3)] → W p l e (xRm g S0 3) s m args below meth c H locs cells slots (MQ below (xQi g D A w) args s (g.2.1 - xTop S0) (g.2.2.1 - xSl S0) A) (F0 m 69 ls [.int t0]) := by
  obtain ⟨hx, hb, -, hown, hts, -⟩ := id X
  intro S x0 x1 x2 x3 t0 H locs ls cells slots hm hw hS hl
  unfold kX_X1_alike_69 at hm
  refine lv_istore (lv' := [(4, .int t0), (0, .ref x0), (1, .int x1), (2, .int x2), (3, .int x3)]) hx hb dX1_alike_69 hl (by decide) rfl (fun ls hl => ?_)
  refine lv_iload hx hb dX1_alike_71 (lv_at hl 0 rfl) ?_
  refine lv_if_eq (tgt := 114) hx hb dX1_alike_73 (by decide) (fun c1 => ?_) (fun c1 => ?_)
  · replace hm := if_t c1 hm
    exact wkX_X1_alike_114 X hr hlk hnm N K4 K17 hK4 hK17 S x0 x1 x2 x3 H locs ls _ _ hm hw hS (lv_sub hl [1, 2, 3, 4] rfl)
  · replace hm := if_f c1 hm
    refine lv_aload_n hx hb dX1_alike_76 rfl (lv_at hl 1 rfl) ?_
    obtain ⟨v2, hv2, hm⟩ := ob_s hm
    refine xr_val X hw xc1 in_X1 1 (by decide) q279 (f_obj_s hv2) dX1_alike_77 ?_
    obtain ⟨v3, hv3, hm⟩ := ob_s hm
    refine xr_valN X hw xc3 in_X2 0 (by decide) q191 (f_obj_s hv3) dX1_alike_80 ?_
    refine lv_iload_n hx hb dX1_alike_83 rfl (lv_at hl 3 rfl) ?_
    obtain ⟨u4, hu4, hm⟩ := ob_s hm
    obtain ⟨w5, hw5, hm⟩ := ob_s hm
    refine xr_ret5r hS (xr_runF (x := ⟨"java/util/List", "get", "(I)Ljava/lang/Object;"⟩) X hw (met_J2_get N S v3 x2 w5 hw5) (x_cf X (lv := 2) (by omega) (by decide) ci_List_get q1208 q487 q489 q119 q491 q486 q485 q490 q488 q361) xc10 hu4 rfl hl.1 rfl (Nat.le_of_ble_eq_true rfl) dX1_alike_84) (fun H locs cells slots hw hS => ?_)
    obtain ⟨k6, hk6, hm⟩ := ob_s hm
    refine xr_castI X hw hk6 q1209 dX1_alike_89 ?_
    refine lv_aload_n hx hb dX1_alike_92 rfl (lv_at hl 1 rfl) ?_
    obtain ⟨v7, hv7, hm⟩ := ob_s hm
    refine xr_val X hw xc1 in_X1 1 (by decide) q279 (f_obj_s hv7) dX1_alike_93 ?_
    obtain ⟨v8, hv8, hm⟩ := ob_s hm
    refine xr_valN X hw xc3 in_X2 0 (by decide) q191 (f_obj_s hv8) dX1_alike_96 ?_
    refine lv_iload_n hx hb dX1_alike_99 rfl (lv_at hl 4 rfl) ?_
    obtain ⟨u9, hu9, hm⟩ := ob_s hm
    obtain ⟨w10, hw10, hm⟩ := ob_s hm
    refine xr_ret5r hS (xr_runF (x := ⟨"java/util/List", "get", "(I)Ljava/lang/Object;"⟩) X hw (met_J2_get N w5.1 v8 x3 w10 hw10) (x_cf X (lv := 2) (by omega) (by decide) ci_List_get q1208 q487 q489 q119 q491 q486 q485 q490 q488 q361) xc10 hu9 rfl hl.1 rfl (Nat.le_of_ble_eq_true rfl) dX1_alike_100) (fun H locs cells slots hw hS => ?_)
    obtain ⟨u11, hu11, hm⟩ := ob_s hm
    obtain ⟨w12, hw12, hm⟩ := ob_s hm
    refine xr_reti hS (xr_runVX X hw (met_J19_equals N w10.1 w5.2 w10.2 w12 hw12) (x_cv X (lv := 1) (by omega) (by decide) cx_J19_equals (lw_V q1210 q1211 q1212 q145 q1213)) (x_recvI X hw hu11) rfl hl.1 rfl (Nat.le_of_ble_eq_true rfl) dX1_alike_105) (fun H locs cells slots hw hS => ?_)
    refine lv_if_eq (tgt := 114) hx hb dX1_alike_108 (by decide) (fun c13 => ?_) (fun c13 => ?_)
    · replace hm := if_t c13 hm
      exact wkX_X1_alike_114 X hr hlk hnm N K4 K17 hK4 hK17 w12.1 x0 x1 x2 x3 H locs ls _ _ hm hw hS (lv_sub hl [1, 2, 3, 4] rfl)
    · replace hm := if_f c13 hm
      refine lv_iinc (v := (x1 + 1)) (lv' := [(1, .int (x1 + 1)), (4, .int t0), (0, .ref x0), (2, .int x2), (3, .int x3)]) hx hb dX1_alike_111 hl (k := 2) rfl rfl (by decide) rfl (fun ls hl => ?_)
      exact wkX_X1_alike_114 X hr hlk hnm N K4 K17 hK4 hK17 w12.1 x0 (x1 + 1) x2 x3 H locs ls _ _ hm hw hS (lv_sub hl [2, 0, 3, 4] rfl)
def kX_X1_alike_17 (g : XC) (N : Nat) (K4 : XS → Nat → Int32 → Int32 → Option (XS × Int32)) : Nat → XS → Nat → Int32 → Int32 → Int32 → Option (XS × Int32)
  | 0, _, _, _, _, _ => none
  | n + 1, S, x0, x1, x2, x3 =>
    if x2 ≤ x3 then
      K4 S x0 x1 (x2 + 1)
    else
      (f_obj S 1 x0 2).bind fun v2 =>
      (f_obj S 2 v2 0).bind fun v3 =>
      (a_int S 0 v3 x2).bind fun v4 =>
      (f_obj S 1 x0 2).bind fun v5 =>
      (f_obj S 2 v5 0).bind fun v6 =>
      (a_int S 0 v6 x3).bind fun v7 =>
      if v4 = v7 then
        (f_obj S 1 x0 2).bind fun v9 =>
        (f_obj S 2 v9 1).bind fun v10 =>
        (a_int S 0 v10 x2).bind fun v11 =>
        (f_obj S 1 x0 2).bind fun v12 =>
        (f_obj S 2 v12 1).bind fun v13 =>
        (a_int S 0 v13 x3).bind fun v14 =>
        if v11 = v14 then
          kX_X1_alike_69 g N K4 (kX_X1_alike_17 g N K4 n) S x0 x1 x2 x3 1
        else
          kX_X1_alike_69 g N K4 (kX_X1_alike_17 g N K4 n) S x0 x1 x2 x3 0
      else
        kX_X1_alike_69 g N K4 (kX_X1_alike_17 g N K4 n) S x0 x1 x2 x3 0
theorem wkX_X1_alike_17 {p : Program} {l : Launch} {e : Env} {s : State} {m : MethodId} {args : Array Value} {below : List Frame} {meth : Method} {c : Code} {g : XC} {D : va_G} {A : Nat → Prop} {S0 : XS} {w : XS × Int32} (X : xX g D A RX1 S0 p s m args c cX1_alike 5) (hr : meth.sig.returnType = (Option.some Jvm.ClassFile.FieldType.int)) (hlk : meth.locks = false) (hnm : meth.name = yX1_alike.name) (N : Nat) (K4 : XS → Nat → Int32 → Int32 → Option (XS × Int32))
    (hK4 : ∀ (S : XS) (x0 : Nat) (x1 : Int32) (x2 : Int32) (H : Heap) (locs : List Loc) (ls : Array Slot) (cells slots : Nat), K4 S x0 x1 x2 = some w → xW g D A S s H → va_S A s.heap H locs → lv_has ls 5 [(0, .ref x0), (1, .int x1), (2, .int x2)] → W p l e (xRm g S0 3) s m args below meth c H locs cells slots (MQ below (xQi g D A w) args s (g.2.1 - xTop S0) (g.2.2.1 - xSl S0) A) (F0 m 4 ls [])) :
    ∀ (n : Nat) (S : XS) (x0 : Nat) (x1 : Int32) (x2 : Int32) (x3 : Int32) (H : Heap) (locs : List Loc) (ls : Array Slot) (cells slots : Nat), kX_X1_alike_17 g N K4 n S x0 x1 x2 x3 = some w → xW g D A S s H → va_S A s.heap H locs → lv_has ls 5 [(0, .ref x0), (1, .int x1), (2, .int x2), (3, .int x3)] → W p l e (xRm g S0 3) s m args below meth c H locs cells slots (MQ below (xQi g D A w) args s (g.2.1 - xTop S0) (g.2.2.1 - xSl S0) A) (F0 m 17 ls []) := by
  obtain ⟨hx, hb, -, hown, hts, -⟩ := id X
  intro n
  induction n with
  | zero =>
    intro S x0 x1 x2 x3 H locs ls cells slots hm
    cases hm
  | succ n ih =>
    intro S x0 x1 x2 x3 H locs ls cells slots hm hw hS hl
    rw [kX_X1_alike_17] at hm
    refine lv_iload_n hx hb dX1_alike_17 rfl (lv_at hl 3 rfl) ?_
    refine lv_iload_n hx hb dX1_alike_18 rfl (lv_at hl 2 rfl) ?_
    refine lv_icmp_ge (tgt := 120) hx hb dX1_alike_19 (by decide) (fun c1 => ?_) (fun c1 => ?_)
    · replace hm := if_t c1 hm
      refine lv_iinc (v := (x2 + 1)) (lv' := [(2, .int (x2 + 1)), (0, .ref x0), (1, .int x1), (3, .int x3)]) hx hb dX1_alike_120 hl (k := 2) rfl rfl (by decide) rfl (fun ls hl => ?_)
      refine lv_goto (tgt := 4) hx hb dX1_alike_123 (by decide) ?_
      exact hK4 S x0 x1 (x2 + 1) H locs ls _ _ hm hw hS (lv_sub hl [1, 2, 0] rfl)
    · replace hm := if_f c1 hm
      refine lv_aload_n hx hb dX1_alike_22 rfl (lv_at hl 0 rfl) ?_
      obtain ⟨v2, hv2, hm⟩ := ob_s hm
      refine xr_val X hw xc1 in_X1 2 (by decide) q281 (f_obj_s hv2) dX1_alike_23 ?_
      obtain ⟨v3, hv3, hm⟩ := ob_s hm
      refine xr_valN X hw xc2 in_X3 0 (by decide) q211 (f_obj_s hv3) dX1_alike_26 ?_
      refine lv_iload_n hx hb dX1_alike_29 rfl (lv_at hl 2 rfl) ?_
      obtain ⟨v4, hv4, hm⟩ := ob_s hm
      refine xr_iald X hw hv4 dX1_alike_30 ?_
      refine lv_aload_n hx hb dX1_alike_31 rfl (lv_at hl 0 rfl) ?_
      obtain ⟨v5, hv5, hm⟩ := ob_s hm
      refine xr_val X hw xc1 in_X1 2 (by decide) q281 (f_obj_s hv5) dX1_alike_32 ?_
      obtain ⟨v6, hv6, hm⟩ := ob_s hm
      refine xr_valN X hw xc2 in_X3 0 (by decide) q211 (f_obj_s hv6) dX1_alike_35 ?_
      refine lv_iload_n hx hb dX1_alike_38 rfl (lv_at hl 3 rfl) ?_
      obtain ⟨v7, hv7, hm⟩ := ob_s hm
      refine xr_iald X hw hv7 dX1_alike_39 ?_
      refine lv_icmp_ne (tgt := 68) hx hb dX1_alike_40 (by decide) (fun c8 => ?_) (fun c8 => ?_)
      · replace hm := if_f c8 hm
        refine lv_iconst (v := 0) hx hb dX1_alike_68 (by decide) ?_
        exact wkX_X1_alike_69 X hr hlk hnm N K4 (kX_X1_alike_17 g N K4 n) hK4 ih S x0 x1 x2 x3 0 H locs ls _ _ hm hw hS (lv_sub hl [0, 1, 2, 3] rfl)
      · replace hm := if_t c8 hm
        refine lv_aload_n hx hb dX1_alike_43 rfl (lv_at hl 0 rfl) ?_
        obtain ⟨v9, hv9, hm⟩ := ob_s hm
        refine xr_val X hw xc1 in_X1 2 (by decide) q281 (f_obj_s hv9) dX1_alike_44 ?_
        obtain ⟨v10, hv10, hm⟩ := ob_s hm
        refine xr_valN X hw xc2 in_X3 1 (by decide) q214 (f_obj_s hv10) dX1_alike_47 ?_
        refine lv_iload_n hx hb dX1_alike_50 rfl (lv_at hl 2 rfl) ?_
        obtain ⟨v11, hv11, hm⟩ := ob_s hm
        refine xr_iald X hw hv11 dX1_alike_51 ?_
        refine lv_aload_n hx hb dX1_alike_52 rfl (lv_at hl 0 rfl) ?_
        obtain ⟨v12, hv12, hm⟩ := ob_s hm
        refine xr_val X hw xc1 in_X1 2 (by decide) q281 (f_obj_s hv12) dX1_alike_53 ?_
        obtain ⟨v13, hv13, hm⟩ := ob_s hm
        refine xr_valN X hw xc2 in_X3 1 (by decide) q214 (f_obj_s hv13) dX1_alike_56 ?_
        refine lv_iload_n hx hb dX1_alike_59 rfl (lv_at hl 3 rfl) ?_
        obtain ⟨v14, hv14, hm⟩ := ob_s hm
        refine xr_iald X hw hv14 dX1_alike_60 ?_
        refine lv_icmp_ne (tgt := 68) hx hb dX1_alike_61 (by decide) (fun c15 => ?_) (fun c15 => ?_)
        · replace hm := if_f c15 hm
          refine lv_iconst (v := 0) hx hb dX1_alike_68 (by decide) ?_
          exact wkX_X1_alike_69 X hr hlk hnm N K4 (kX_X1_alike_17 g N K4 n) hK4 ih S x0 x1 x2 x3 0 H locs ls _ _ hm hw hS (lv_sub hl [0, 1, 2, 3] rfl)
        · replace hm := if_t c15 hm
          refine lv_iconst (v := 1) hx hb dX1_alike_64 (by decide) ?_
          refine lv_goto (tgt := 69) hx hb dX1_alike_65 (by decide) ?_
          exact wkX_X1_alike_69 X hr hlk hnm N K4 (kX_X1_alike_17 g N K4 n) hK4 ih S x0 x1 x2 x3 1 H locs ls _ _ hm hw hS (lv_sub hl [0, 1, 2, 3] rfl)
def kX_X1_alike_4 (g : XC) (N : Nat) : Nat → XS → Nat → Int32 → Int32 → Option (XS × Int32)
  | 0, _, _, _, _ => none
  | n + 1, S, x0, x1, x2 =>
    (f_obj S 1 x0 1).bind fun v1 =>
    (f_cls S 3 v1).bind fun u2 =>
    (kX_X2_cups g N S v1).bind fun w3 =>
    if w3.2 ≤ x2 then
      some (w3.1, x1)
    else
      kX_X1_alike_17 g N (kX_X1_alike_4 g N n) N w3.1 x0 x1 x2 0
theorem wkX_X1_alike_4 {p : Program} {l : Launch} {e : Env} {s : State} {m : MethodId} {args : Array Value} {below : List Frame} {meth : Method} {c : Code} {g : XC} {D : va_G} {A : Nat → Prop} {S0 : XS} {w : XS × Int32} (X : xX g D A RX1 S0 p s m args c cX1_alike 5) (hr : meth.sig.returnType = (Option.some Jvm.ClassFile.FieldType.int)) (hlk : meth.locks = false) (hnm : meth.name = yX1_alike.name) (N : Nat) :
    ∀ (n : Nat) (S : XS) (x0 : Nat) (x1 : Int32) (x2 : Int32) (H : Heap) (locs : List Loc) (ls : Array Slot) (cells slots : Nat), kX_X1_alike_4 g N n S x0 x1 x2 = some w → xW g D A S s H → va_S A s.heap H locs → lv_has ls 5 [(0, .ref x0), (1, .int x1), (2, .int x2)] → W p l e (xRm g S0 3) s m args below meth c H locs cells slots (MQ below (xQi g D A w) args s (g.2.1 - xTop S0) (g.2.2.1 - xSl S0) A) (F0 m 4 ls []) := by
  obtain ⟨hx, hb, -, hown, hts, -⟩ := id X
  intro n
  induction n with
  | zero =>
    intro S x0 x1 x2 H locs ls cells slots hm
    cases hm
  | succ n ih =>
    intro S x0 x1 x2 H locs ls cells slots hm hw hS hl
    rw [kX_X1_alike_4] at hm
    refine lv_iload_n hx hb dX1_alike_4 rfl (lv_at hl 2 rfl) ?_
    refine lv_aload_n hx hb dX1_alike_5 rfl (lv_at hl 0 rfl) ?_
    obtain ⟨v1, hv1, hm⟩ := ob_s hm
    refine xr_val X hw xc1 in_X1 1 (by decide) q279 (f_obj_s hv1) dX1_alike_6 ?_
    obtain ⟨u2, hu2, hm⟩ := ob_s hm
    obtain ⟨w3, hw3, hm⟩ := ob_s hm
    refine xr_reti hS (xr_runV X hw (met_X2_cups N S v1 w3 hw3) (x_cv X (lv := 1) (by omega) (by decide) cx_X2_cups (lw_V q1172 q463 q464 q116 q465)) xc3 hu2 rfl hl.1 rfl (Nat.le_of_ble_eq_true rfl) dX1_alike_9) (fun H locs cells slots hw hS => ?_)
    refine lv_icmp_ge (tgt := 126) hx hb dX1_alike_12 (by decide) (fun c4 => ?_) (fun c4 => ?_)
    · replace hm := if_t c4 hm
      refine lv_iload_n hx hb dX1_alike_126 rfl (lv_at hl 1 rfl) ?_
      obtain rfl := Option.some.inj hm
      exact xr_iret (v := x1) X hr hlk hw hS rfl dX1_alike_127
    · replace hm := if_f c4 hm
      refine lv_iconst (v := 0) hx hb dX1_alike_15 (by decide) ?_
      refine lv_istore_n (lv' := [(3, .int 0), (0, .ref x0), (1, .int x1), (2, .int x2)]) hx hb dX1_alike_16 rfl hl (by decide) rfl (fun ls hl => ?_)
      exact wkX_X1_alike_17 X hr hlk hnm N (kX_X1_alike_4 g N n) ih N w3.1 x0 x1 x2 0 H locs ls _ _ hm hw hS (lv_sub hl [1, 2, 3, 0] rfl)
def kX_X1_alike (g : XC) (N : Nat) (S : XS) (x0 : Nat) : Option (XS × Int32) :=
  kX_X1_alike_4 g N N S x0 0 0
theorem cx_X1_alike : yX1_alike.cls = RX1 ∧ yX1_alike.cls ≠ "java/lang/invoke/MethodHandle" ∧ yX1_alike.cls ≠ "java/lang/invoke/VarHandle" ∧ (parseMethodDescriptor yX1_alike.desc).map (fun d => d.parameters.length) = some 0 := by decide +kernel
theorem met_X1_alike {l : Launch} {g : XC} {D : va_G} {A : Nat → Prop} (N : Nat) (S : XS) (x0 : Nat) (w : XS × Int32) (hm : kX_X1_alike g N S x0 = some w) : Met l yX1_alike (ws_ yX1_alike cX1_alike 5 (Option.some Jvm.ClassFile.FieldType.int)) (xRm g S 3) (xPre g D A [.ref x0] S) (xQi g D A w) (g.2.1 - xTop S) (g.2.2.1 - xSl S) A := by
  refine x_start (own := RX1) (by decide +kernel) rfl (Nat.le_of_ble_eq_true rfl) (fun p e s m below meth c ls X hr hlk hnm hw hl => ?_)
  obtain ⟨hx, hb, -, hown, hts, -⟩ := id X
  have hl : lv_has ls 5 [(0, .ref x0)] := hl
  have hg : ∀ (H : Heap) (locs : List Loc) (cells slots : Nat), xW g D A S s H → va_S A s.heap H locs → W p l e (xRm g S 3) s m ([.ref x0] : List Value).toArray below meth c H locs cells slots (MQ below (xQi g D A w) ([.ref x0] : List Value).toArray s (g.2.1 - xTop S) (g.2.2.1 - xSl S) A) (F0 m 0 ls []) := by
    intro H locs cells slots hw hS
    unfold kX_X1_alike at hm
    refine lv_iconst (v := 0) hx hb dX1_alike_0 (by decide) ?_
    refine lv_istore_n (lv' := [(1, .int 0), (0, .ref x0)]) hx hb dX1_alike_1 rfl hl (by decide) rfl (fun ls hl => ?_)
    refine lv_iconst (v := 0) hx hb dX1_alike_2 (by decide) ?_
    refine lv_istore_n (lv' := [(2, .int 0), (1, .int 0), (0, .ref x0)]) hx hb dX1_alike_3 rfl hl (by decide) rfl (fun ls hl => ?_)
    exact wkX_X1_alike_4 X hr hlk hnm N N S x0 0 0 H locs ls _ _ hm hw hS (lv_sub hl [2, 1, 0] rfl)
  exact hg _ _ _ _ hw va_S.rf
/-! DripCups.refused -/
def kX_X1_refused (g : XC) (N : Nat) (S : XS) (x0 : Nat) : Option (XS × Int32) :=
  (f_obj S 1 x0 7).bind fun v1 =>
  (a_int S 0 v1 1).bind fun v2 =>
  (a_putI S 0 v1 1 (v2 + 1)).bind fun S3 =>
  some (S3, 0)
theorem cx_X1_refused : yX1_refused.cls = RX1 ∧ yX1_refused.cls ≠ "java/lang/invoke/MethodHandle" ∧ yX1_refused.cls ≠ "java/lang/invoke/VarHandle" ∧ (parseMethodDescriptor yX1_refused.desc).map (fun d => d.parameters.length) = some 0 := by decide +kernel
theorem met_X1_refused {l : Launch} {g : XC} {D : va_G} {A : Nat → Prop} (N : Nat) (S : XS) (x0 : Nat) (w : XS × Int32) (hm : kX_X1_refused g N S x0 = some w) : Met l yX1_refused (ws_ yX1_refused cX1_refused 1 (Option.some Jvm.ClassFile.FieldType.boolean)) (xRm g S 0) (xPre g D A [.ref x0] S) (xQi g D A w) (g.2.1 - xTop S) (g.2.2.1 - xSl S) A := by
  refine x_start (own := RX1) (by decide +kernel) rfl (Nat.le_of_ble_eq_true rfl) (fun p e s m below meth c ls X hr hlk hnm hw hl => ?_)
  obtain ⟨hx, hb, -, hown, hts, -⟩ := id X
  have hl : lv_has ls 1 [(0, .ref x0)] := hl
  have hg : ∀ (H : Heap) (locs : List Loc) (cells slots : Nat), xW g D A S s H → va_S A s.heap H locs → W p l e (xRm g S 0) s m ([.ref x0] : List Value).toArray below meth c H locs cells slots (MQ below (xQi g D A w) ([.ref x0] : List Value).toArray s (g.2.1 - xTop S) (g.2.2.1 - xSl S) A) (F0 m 0 ls []) := by
    intro H locs cells slots hw hS
    unfold kX_X1_refused at hm
    refine lv_aload_n hx hb dX1_refused_0 rfl (lv_at hl 0 rfl) ?_
    obtain ⟨v1, hv1, hm⟩ := ob_s hm
    refine xr_val X hw xc1 in_X1 7 (by decide) q287 (f_obj_s hv1) dX1_refused_1 ?_
    refine lv_iconst (v := 1) hx hb dX1_refused_4 (by decide) ?_
    refine lv_dup2_11 hx hb dX1_refused_5 rfl rfl ?_
    obtain ⟨v2, hv2, hm⟩ := ob_s hm
    refine xr_iald X hw hv2 dX1_refused_6 ?_
    refine lv_iconst (v := 1) hx hb dX1_refused_7 (by decide) ?_
    refine lv_iadd hx hb dX1_refused_8 ?_
    obtain ⟨S3, hS3, hm⟩ := ob_s hm
    refine xr_iast X hw hS hS3 dX1_refused_9 (fun H locs hw hS => ?_)
    refine lv_iconst (v := 0) hx hb dX1_refused_10 (by decide) ?_
    obtain rfl := Option.some.inj hm
    exact xr_iret (v := 0) X hr hlk hw hS rfl dX1_refused_11
  exact hg _ _ _ _ hw va_S.rf
/-! DripCups.tryOn -/
def kX_X1_tryOn (g : XC) (N : Nat) (S : XS) (x0 : Nat) (x1 : Int32) : Option (XS × Nat) :=
  (f_obj S 1 x0 3).bind fun v1 =>
  (f_obj S 1 x0 2).bind fun v2 =>
  (f_cls S 2 v1).bind fun u3 =>
  (kX_X3_be g N S v1 v2).bind fun w4 =>
  (f_cls w4.1 2 w4.2).bind fun u5 =>
  (kX_X3_after g N w4.1 w4.2 x1).bind fun w6 =>
  some (w6.1, w6.2)
theorem cx_X1_tryOn : yX1_tryOn.cls = RX1 ∧ yX1_tryOn.cls ≠ "java/lang/invoke/MethodHandle" ∧ yX1_tryOn.cls ≠ "java/lang/invoke/VarHandle" ∧ (parseMethodDescriptor yX1_tryOn.desc).map (fun d => d.parameters.length) = some 1 := by decide +kernel
theorem met_X1_tryOn {l : Launch} {g : XC} {D : va_G} {A : Nat → Prop} (N : Nat) (S : XS) (x0 : Nat) (x1 : Int32) (w : XS × Nat) (hm : kX_X1_tryOn g N S x0 x1 = some w) : Met l yX1_tryOn (ws_ yX1_tryOn cX1_tryOn 2 (Option.some (Jvm.ClassFile.FieldType.object "DripCups$Night"))) (xRm g S 82) (xPre g D A [.ref x0, .int x1] S) (xQr g D A w) (g.2.1 - xTop S) (g.2.2.1 - xSl S) A := by
  refine x_start (own := RX1) (by decide +kernel) rfl (Nat.le_of_ble_eq_true rfl) (fun p e s m below meth c ls X hr hlk hnm hw hl => ?_)
  obtain ⟨hx, hb, -, hown, hts, -⟩ := id X
  have hl : lv_has ls 2 [(0, .ref x0), (1, .int x1)] := hl
  have hg : ∀ (H : Heap) (locs : List Loc) (cells slots : Nat), xW g D A S s H → va_S A s.heap H locs → W p l e (xRm g S 82) s m ([.ref x0, .int x1] : List Value).toArray below meth c H locs cells slots (MQ below (xQr g D A w) ([.ref x0, .int x1] : List Value).toArray s (g.2.1 - xTop S) (g.2.2.1 - xSl S) A) (F0 m 0 ls []) := by
    intro H locs cells slots hw hS
    unfold kX_X1_tryOn at hm
    refine lv_aload_n hx hb dX1_tryOn_0 rfl (lv_at hl 0 rfl) ?_
    obtain ⟨v1, hv1, hm⟩ := ob_s hm
    refine xr_val X hw xc1 in_X1 3 (by decide) q282 (f_obj_s hv1) dX1_tryOn_1 ?_
    refine lv_aload_n hx hb dX1_tryOn_4 rfl (lv_at hl 0 rfl) ?_
    obtain ⟨v2, hv2, hm⟩ := ob_s hm
    refine xr_val X hw xc1 in_X1 2 (by decide) q281 (f_obj_s hv2) dX1_tryOn_5 ?_
    obtain ⟨u3, hu3, hm⟩ := ob_s hm
    obtain ⟨w4, hw4, hm⟩ := ob_s hm
    refine xr_retr hS (xr_runV X hw (met_X3_be N S v1 v2 w4 hw4) (x_cv X (lv := 0) (by omega) (by decide) cx_X3_be (lw_V q608 q354 q355 q120 q356)) xc2 hu3 rfl hl.1 rfl (Nat.le_of_ble_eq_true rfl) dX1_tryOn_8) (fun H locs cells slots hw hS => ?_)
    refine lv_iload_n hx hb dX1_tryOn_11 rfl (lv_at hl 1 rfl) ?_
    obtain ⟨u5, hu5, hm⟩ := ob_s hm
    obtain ⟨w6, hw6, hm⟩ := ob_s hm
    refine xr_retr hS (xr_runV X hw (met_X3_after N w4.1 w4.2 x1 w6 hw6) (x_cv X (lv := 81) (by omega) (by decide) cx_X3_after (lw_V q454 q455 q456 q120 q457)) xc2 hu5 rfl hl.1 rfl (Nat.le_of_ble_eq_true rfl) dX1_tryOn_12) (fun H locs cells slots hw hS => ?_)
    obtain rfl := Option.some.inj hm
    exact xr_aret X hr (by first | exact Or.inl ⟨_, rfl⟩ | exact Or.inr ⟨_, rfl⟩) hlk hw hS dX1_tryOn_15
  exact hg _ _ _ _ hw va_S.rf
/-! DripCups.firstOn -/
def kX_X1_firstOn_2 (g : XC) (N : Nat) : Nat → XS → Nat → Int32 → Int32 → Int32 → Option (XS × Int32)
  | 0, _, _, _, _, _ => none
  | n + 1, S, x0, x1, x2, x3 =>
    if x2 < x3 then
      some (S, (-1))
    else
      (f_obj S 1 x0 3).bind fun v2 =>
      (f_cls S 2 v2).bind fun u3 =>
      (kX_X3_pass g N S v2).bind fun w4 =>
      (f_int w4.1 2 w4.2 13).bind fun v5 =>
      if (x1 &&& (v5 ^^^ (-1))) = 0 then
        some (w4.1, x3)
      else
        kX_X1_firstOn_2 g N n w4.1 x0 x1 x2 (x3 + 1)
theorem wkX_X1_firstOn_2 {p : Program} {l : Launch} {e : Env} {s : State} {m : MethodId} {args : Array Value} {below : List Frame} {meth : Method} {c : Code} {g : XC} {D : va_G} {A : Nat → Prop} {S0 : XS} {w : XS × Int32} (X : xX g D A RX1 S0 p s m args c cX1_firstOn 4) (hr : meth.sig.returnType = (Option.some Jvm.ClassFile.FieldType.int)) (hlk : meth.locks = false) (hnm : meth.name = yX1_firstOn.name) (N : Nat) :
    ∀ (n : Nat) (S : XS) (x0 : Nat) (x1 : Int32) (x2 : Int32) (x3 : Int32) (H : Heap) (locs : List Loc) (ls : Array Slot) (cells slots : Nat), kX_X1_firstOn_2 g N n S x0 x1 x2 x3 = some w → xW g D A S s H → va_S A s.heap H locs → lv_has ls 4 [(0, .ref x0), (1, .int x1), (2, .int x2), (3, .int x3)] → W p l e (xRm g S0 81) s m args below meth c H locs cells slots (MQ below (xQi g D A w) args s (g.2.1 - xTop S0) (g.2.2.1 - xSl S0) A) (F0 m 2 ls []) := by
  obtain ⟨hx, hb, -, hown, hts, -⟩ := id X
  intro n
  induction n with
  | zero =>
    intro S x0 x1 x2 x3 H locs ls cells slots hm
    cases hm
  | succ n ih =>
    intro S x0 x1 x2 x3 H locs ls cells slots hm hw hS hl
    rw [kX_X1_firstOn_2] at hm
    refine lv_iload_n hx hb dX1_firstOn_2 rfl (lv_at hl 3 rfl) ?_
    refine lv_iload_n hx hb dX1_firstOn_3 rfl (lv_at hl 2 rfl) ?_
    refine lv_icmp_gt (tgt := 32) hx hb dX1_firstOn_4 (by decide) (fun c1 => ?_) (fun c1 => ?_)
    · replace hm := if_t c1 hm
      refine lv_iconst (v := (-1)) hx hb dX1_firstOn_32 (by decide) ?_
      obtain rfl := Option.some.inj hm
      exact xr_iret (v := (-1)) X hr hlk hw hS rfl dX1_firstOn_33
    · replace hm := if_f c1 hm
      refine lv_iload_n hx hb dX1_firstOn_7 rfl (lv_at hl 1 rfl) ?_
      refine lv_aload_n hx hb dX1_firstOn_8 rfl (lv_at hl 0 rfl) ?_
      obtain ⟨v2, hv2, hm⟩ := ob_s hm
      refine xr_val X hw xc1 in_X1 3 (by decide) q282 (f_obj_s hv2) dX1_firstOn_9 ?_
      obtain ⟨u3, hu3, hm⟩ := ob_s hm
      obtain ⟨w4, hw4, hm⟩ := ob_s hm
      refine xr_retr hS (xr_runV X hw (met_X3_pass N S v2 w4 hw4) (x_cv X (lv := 80) (by omega) (by decide) cx_X3_pass (lw_V q609 q459 q460 q120 q461)) xc2 hu3 rfl hl.1 rfl (Nat.le_of_ble_eq_true rfl) dX1_firstOn_12) (fun H locs cells slots hw hS => ?_)
      obtain ⟨v5, hv5, hm⟩ := ob_s hm
      refine xr_valN X hw xc2 in_X3 13 (by decide) q238 (f_int_s hv5) dX1_firstOn_15 ?_
      refine lv_iconst (v := (-1)) hx hb dX1_firstOn_18 (by decide) ?_
      refine lv_ixor hx hb dX1_firstOn_19 ?_
      refine lv_iand hx hb dX1_firstOn_20 ?_
      refine lv_if_ne (tgt := 26) hx hb dX1_firstOn_21 (by decide) (fun c6 => ?_) (fun c6 => ?_)
      · replace hm := if_f c6 hm
        refine lv_iinc (v := (x3 + 1)) (lv' := [(3, .int (x3 + 1)), (0, .ref x0), (1, .int x1), (2, .int x2)]) hx hb dX1_firstOn_26 hl (k := 3) rfl rfl (by decide) rfl (fun ls hl => ?_)
        refine lv_goto (tgt := 2) hx hb dX1_firstOn_29 (by decide) ?_
        exact ih w4.1 x0 x1 x2 (x3 + 1) H locs ls _ _ hm hw hS (lv_sub hl [1, 2, 3, 0] rfl)
      · replace hm := if_t c6 hm
        refine lv_iload_n hx hb dX1_firstOn_24 rfl (lv_at hl 3 rfl) ?_
        obtain rfl := Option.some.inj hm
        exact xr_iret (v := x3) X hr hlk hw hS rfl dX1_firstOn_25
def kX_X1_firstOn (g : XC) (N : Nat) (S : XS) (x0 : Nat) (x1 : Int32) (x2 : Int32) : Option (XS × Int32) :=
  kX_X1_firstOn_2 g N N S x0 x1 x2 1
theorem cx_X1_firstOn : yX1_firstOn.cls = RX1 ∧ yX1_firstOn.cls ≠ "java/lang/invoke/MethodHandle" ∧ yX1_firstOn.cls ≠ "java/lang/invoke/VarHandle" ∧ (parseMethodDescriptor yX1_firstOn.desc).map (fun d => d.parameters.length) = some 2 := by decide +kernel
theorem met_X1_firstOn {l : Launch} {g : XC} {D : va_G} {A : Nat → Prop} (N : Nat) (S : XS) (x0 : Nat) (x1 : Int32) (x2 : Int32) (w : XS × Int32) (hm : kX_X1_firstOn g N S x0 x1 x2 = some w) : Met l yX1_firstOn (ws_ yX1_firstOn cX1_firstOn 4 (Option.some Jvm.ClassFile.FieldType.int)) (xRm g S 81) (xPre g D A [.ref x0, .int x1, .int x2] S) (xQi g D A w) (g.2.1 - xTop S) (g.2.2.1 - xSl S) A := by
  refine x_start (own := RX1) (by decide +kernel) rfl (Nat.le_of_ble_eq_true rfl) (fun p e s m below meth c ls X hr hlk hnm hw hl => ?_)
  obtain ⟨hx, hb, -, hown, hts, -⟩ := id X
  have hl : lv_has ls 4 [(0, .ref x0), (1, .int x1), (2, .int x2)] := hl
  have hg : ∀ (H : Heap) (locs : List Loc) (cells slots : Nat), xW g D A S s H → va_S A s.heap H locs → W p l e (xRm g S 81) s m ([.ref x0, .int x1, .int x2] : List Value).toArray below meth c H locs cells slots (MQ below (xQi g D A w) ([.ref x0, .int x1, .int x2] : List Value).toArray s (g.2.1 - xTop S) (g.2.2.1 - xSl S) A) (F0 m 0 ls []) := by
    intro H locs cells slots hw hS
    unfold kX_X1_firstOn at hm
    refine lv_iconst (v := 1) hx hb dX1_firstOn_0 (by decide) ?_
    refine lv_istore_n (lv' := [(3, .int 1), (0, .ref x0), (1, .int x1), (2, .int x2)]) hx hb dX1_firstOn_1 rfl hl (by decide) rfl (fun ls hl => ?_)
    exact wkX_X1_firstOn_2 X hr hlk hnm N N S x0 x1 x2 1 H locs ls _ _ hm hw hS (lv_sub hl [1, 2, 3, 0] rfl)
  exact hg _ _ _ _ hw va_S.rf
/-! DripCups.firstOf -/
def kX_X1_firstOf (g : XC) (N : Nat) (S : XS) (x0 : Nat) (x1 : Int32) (x2 : Int32) : Option (XS × Int32) :=
  (f_obj S 1 x0 3).bind fun v1 =>
  (f_obj S 1 x0 2).bind fun v2 =>
  (f_cls S 2 v1).bind fun u3 =>
  (kX_X3_be g N S v1 v2).bind fun w4 =>
  (f_cls w4.1 1 x0).bind fun u5 =>
  (kX_X1_firstOn g N w4.1 x0 x1 x2).bind fun w6 =>
  some (w6.1, w6.2)
theorem cx_X1_firstOf : yX1_firstOf.cls = RX1 ∧ yX1_firstOf.cls ≠ "java/lang/invoke/MethodHandle" ∧ yX1_firstOf.cls ≠ "java/lang/invoke/VarHandle" ∧ (parseMethodDescriptor yX1_firstOf.desc).map (fun d => d.parameters.length) = some 2 := by decide +kernel
theorem met_X1_firstOf {l : Launch} {g : XC} {D : va_G} {A : Nat → Prop} (N : Nat) (S : XS) (x0 : Nat) (x1 : Int32) (x2 : Int32) (w : XS × Int32) (hm : kX_X1_firstOf g N S x0 x1 x2 = some w) : Met l yX1_firstOf (ws_ yX1_firstOf cX1_firstOf 3 (Option.some Jvm.ClassFile.FieldType.int)) (xRm g S 82) (xPre g D A [.ref x0, .int x1, .int x2] S) (xQi g D A w) (g.2.1 - xTop S) (g.2.2.1 - xSl S) A := by
  refine x_start (own := RX1) (by decide +kernel) rfl (Nat.le_of_ble_eq_true rfl) (fun p e s m below meth c ls X hr hlk hnm hw hl => ?_)
  obtain ⟨hx, hb, -, hown, hts, -⟩ := id X
  have hl : lv_has ls 3 [(0, .ref x0), (1, .int x1), (2, .int x2)] := hl
  have hg : ∀ (H : Heap) (locs : List Loc) (cells slots : Nat), xW g D A S s H → va_S A s.heap H locs → W p l e (xRm g S 82) s m ([.ref x0, .int x1, .int x2] : List Value).toArray below meth c H locs cells slots (MQ below (xQi g D A w) ([.ref x0, .int x1, .int x2] : List Value).toArray s (g.2.1 - xTop S) (g.2.2.1 - xSl S) A) (F0 m 0 ls []) := by
    intro H locs cells slots hw hS
    unfold kX_X1_firstOf at hm
    refine lv_aload_n hx hb dX1_firstOf_0 rfl (lv_at hl 0 rfl) ?_
    obtain ⟨v1, hv1, hm⟩ := ob_s hm
    refine xr_val X hw xc1 in_X1 3 (by decide) q282 (f_obj_s hv1) dX1_firstOf_1 ?_
    refine lv_aload_n hx hb dX1_firstOf_4 rfl (lv_at hl 0 rfl) ?_
    obtain ⟨v2, hv2, hm⟩ := ob_s hm
    refine xr_val X hw xc1 in_X1 2 (by decide) q281 (f_obj_s hv2) dX1_firstOf_5 ?_
    obtain ⟨u3, hu3, hm⟩ := ob_s hm
    obtain ⟨w4, hw4, hm⟩ := ob_s hm
    refine xr_retr hS (xr_runV X hw (met_X3_be N S v1 v2 w4 hw4) (x_cv X (lv := 0) (by omega) (by decide) cx_X3_be (lw_V q608 q354 q355 q120 q356)) xc2 hu3 rfl hl.1 rfl (Nat.le_of_ble_eq_true rfl) dX1_firstOf_8) (fun H locs cells slots hw hS => ?_)
    refine lv_pop hx hb dX1_firstOf_11 rfl ?_
    refine lv_aload_n hx hb dX1_firstOf_12 rfl (lv_at hl 0 rfl) ?_
    refine lv_iload_n hx hb dX1_firstOf_13 rfl (lv_at hl 1 rfl) ?_
    refine lv_iload_n hx hb dX1_firstOf_14 rfl (lv_at hl 2 rfl) ?_
    obtain ⟨u5, hu5, hm⟩ := ob_s hm
    obtain ⟨w6, hw6, hm⟩ := ob_s hm
    refine xr_reti hS (xr_runV X hw (met_X1_firstOn N w4.1 x0 x1 x2 w6 hw6) (x_cv X (lv := 81) (by omega) (by decide) cx_X1_firstOn (lw_V q1331 q1333 qs45 q115 q1334)) xc1 hu5 rfl hl.1 rfl (Nat.le_of_ble_eq_true rfl) dX1_firstOf_15) (fun H locs cells slots hw hS => ?_)
    obtain rfl := Option.some.inj hm
    exact xr_iret (v := w6.2) X hr hlk hw hS rfl dX1_firstOf_18
  exact hg _ _ _ _ hw va_S.rf
/-! DripCups.isSo -/
def kX_X1_isSo_119 (g : XC) (N : Nat) (K45 : XS → Nat → Int32 → Int32 → Option (XS × Int32)) (K60 : XS → Nat → Int32 → Int32 → Int32 → Option (XS × Int32)) (S : XS) (x0 : Nat) (x1 : Int32) (x2 : Int32) (x3 : Int32) : Option (XS × Int32) :=
  K60 S x0 x1 x2 (x3 + 1)
theorem wkX_X1_isSo_119 {p : Program} {l : Launch} {e : Env} {s : State} {m : MethodId} {args : Array Value} {below : List Frame} {meth : Method} {c : Code} {g : XC} {D : va_G} {A : Nat → Prop} {S0 : XS} {w : XS × Int32} (X : xX g D A RX1 S0 p s m args c cX1_isSo 5) (hr : meth.sig.returnType = (Option.some Jvm.ClassFile.FieldType.boolean)) (hlk : meth.locks = false) (hnm : meth.name = yX1_isSo.name) (N : Nat) (K45 : XS → Nat → Int32 → Int32 → Option (XS × Int32)) (K60 : XS → Nat → Int32 → Int32 → Int32 → Option (XS × Int32))
    (hK45 : ∀ (S : XS) (x0 : Nat) (x1 : Int32) (x2 : Int32) (H : Heap) (locs : List Loc) (ls : Array Slot) (cells slots : Nat), K45 S x0 x1 x2 = some w → xW g D A S s H → va_S A s.heap H locs → lv_has ls 5 [(0, .ref x0), (1, .int x1), (2, .int x2)] → W p l e (xRm g S0 81) s m args below meth c H locs cells slots (MQ below (xQi g D A w) args s (g.2.1 - xTop S0) (g.2.2.1 - xSl S0) A) (F0 m 45 ls []))
    (hK60 : ∀ (S : XS) (x0 : Nat) (x1 : Int32) (x2 : Int32) (x3 : Int32) (H : Heap) (locs : List Loc) (ls : Array Slot) (cells slots : Nat), K60 S x0 x1 x2 x3 = some w → xW g D A S s H → va_S A s.heap H locs → lv_has ls 5 [(0, .ref x0), (1, .int x1), (2, .int x2), (3, .int x3)] → W p l e (xRm g S0 81) s m args below meth c H locs cells slots (MQ below (xQi g D A w) args s (g.2.1 - xTop S0) (g.2.2.1 - xSl S0) A) (F0 m 60 ls [])) :
    ∀ (S : XS) (x0 : Nat) (x1 : Int32) (x2 : Int32) (x3 : Int32) (H : Heap) (locs : List Loc) (ls : Array Slot) (cells slots : Nat), kX_X1_isSo_119 g N K45 K60 S x0 x1 x2 x3 = some w → xW g D A S s H → va_S A s.heap H locs → lv_has ls 5 [(0, .ref x0), (1, .int x1), (2, .int x2), (3, .int x3)] → W p l e (xRm g S0 81) s m args below meth c H locs cells slots (MQ below (xQi g D A w) args s (g.2.1 - xTop S0) (g.2.2.1 - xSl S0) A) (F0 m 119 ls []) := by
  obtain ⟨hx, hb, -, hown, hts, -⟩ := id X
  intro S x0 x1 x2 x3 H locs ls cells slots hm hw hS hl
  unfold kX_X1_isSo_119 at hm
  refine lv_iinc (v := (x3 + 1)) (lv' := [(3, .int (x3 + 1)), (0, .ref x0), (1, .int x1), (2, .int x2)]) hx hb dX1_isSo_119 hl (k := 3) rfl rfl (by decide) rfl (fun ls hl => ?_)
  refine lv_goto (tgt := 60) hx hb dX1_isSo_122 (by decide) ?_
  exact hK60 S x0 x1 x2 (x3 + 1) H locs ls _ _ hm hw hS (lv_sub hl [1, 2, 3, 0] rfl)
def kX_X1_isSo_60 (g : XC) (N : Nat) (K45 : XS → Nat → Int32 → Int32 → Option (XS × Int32)) : Nat → XS → Nat → Int32 → Int32 → Int32 → Option (XS × Int32)
  | 0, _, _, _, _, _ => none
  | n + 1, S, x0, x1, x2, x3 =>
    (f_obj S 1 x0 9).bind fun v1 =>
    (f_cls S 10 v1).bind fun u2 =>
    (kX_J2_size g N S v1).bind fun w3 =>
    if w3.2 ≤ x3 then
      K45 w3.1 x0 x1 (x2 + 1)
    else
      (f_obj w3.1 1 x0 9).bind fun v5 =>
      (f_cls w3.1 10 v5).bind fun u6 =>
      (kX_J2_get g N w3.1 v5 x3).bind fun w7 =>
      (f_ints w7.1 w7.2).bind fun k8 =>
      (a_int w7.1 0 w7.2 1).bind fun v9 =>
      if v9 = x2 then
        (f_obj w7.1 1 x0 3).bind fun v11 =>
        (f_int w7.1 2 v11 13).bind fun v12 =>
        (a_int w7.1 0 w7.2 0).bind fun v13 =>
        (a_int w7.1 0 w7.2 2).bind fun v14 =>
        if ((v12 >>> (v13 &&& 31)) &&& 1) = v14 then
          kX_X1_isSo_119 g N K45 (kX_X1_isSo_60 g N K45 n) w7.1 x0 x1 x2 x3
        else
          some (w7.1, 0)
      else
        kX_X1_isSo_119 g N K45 (kX_X1_isSo_60 g N K45 n) w7.1 x0 x1 x2 x3
theorem wkX_X1_isSo_60 {p : Program} {l : Launch} {e : Env} {s : State} {m : MethodId} {args : Array Value} {below : List Frame} {meth : Method} {c : Code} {g : XC} {D : va_G} {A : Nat → Prop} {S0 : XS} {w : XS × Int32} (X : xX g D A RX1 S0 p s m args c cX1_isSo 5) (hr : meth.sig.returnType = (Option.some Jvm.ClassFile.FieldType.boolean)) (hlk : meth.locks = false) (hnm : meth.name = yX1_isSo.name) (N : Nat) (K45 : XS → Nat → Int32 → Int32 → Option (XS × Int32))
    (hK45 : ∀ (S : XS) (x0 : Nat) (x1 : Int32) (x2 : Int32) (H : Heap) (locs : List Loc) (ls : Array Slot) (cells slots : Nat), K45 S x0 x1 x2 = some w → xW g D A S s H → va_S A s.heap H locs → lv_has ls 5 [(0, .ref x0), (1, .int x1), (2, .int x2)] → W p l e (xRm g S0 81) s m args below meth c H locs cells slots (MQ below (xQi g D A w) args s (g.2.1 - xTop S0) (g.2.2.1 - xSl S0) A) (F0 m 45 ls [])) :
    ∀ (n : Nat) (S : XS) (x0 : Nat) (x1 : Int32) (x2 : Int32) (x3 : Int32) (H : Heap) (locs : List Loc) (ls : Array Slot) (cells slots : Nat), kX_X1_isSo_60 g N K45 n S x0 x1 x2 x3 = some w → xW g D A S s H → va_S A s.heap H locs → lv_has ls 5 [(0, .ref x0), (1, .int x1), (2, .int x2), (3, .int x3)] → W p l e (xRm g S0 81) s m args below meth c H locs cells slots (MQ below (xQi g D A w) args s (g.2.1 - xTop S0) (g.2.2.1 - xSl S0) A) (F0 m 60 ls []) := by
  obtain ⟨hx, hb, -, hown, hts, -⟩ := id X
  intro n
  induction n with
  | zero =>
    intro S x0 x1 x2 x3 H locs ls cells slots hm
    cases hm
  | succ n ih =>
    intro S x0 x1 x2 x3 H locs ls cells slots hm hw hS hl
    rw [kX_X1_isSo_60] at hm
    refine lv_iload_n hx hb dX1_isSo_60 rfl (lv_at hl 3 rfl) ?_
    refine lv_aload_n hx hb dX1_isSo_61 rfl (lv_at hl 0 rfl) ?_
    obtain ⟨v1, hv1, hm⟩ := ob_s hm
    refine xr_val X hw xc1 in_X1 9 (by decide) q289 (f_obj_s hv1) dX1_isSo_62 ?_
    obtain ⟨u2, hu2, hm⟩ := ob_s hm
    obtain ⟨w3, hw3, hm⟩ := ob_s hm
    refine xr_ret5i hS (xr_runF (x := ⟨"java/util/List", "size", "()I"⟩) X hw (met_J2_size N S v1 w3 hw3) (x_cf X (lv := 0) (by omega) (by decide) ci_List_size q426 q429 q431 q119 q433 q428 q427 q432 q430 q361) xc10 hu2 rfl hl.1 rfl (Nat.le_of_ble_eq_true rfl) dX1_isSo_65) (fun H locs cells slots hw hS => ?_)
    refine lv_icmp_ge (tgt := 125) hx hb dX1_isSo_70 (by decide) (fun c4 => ?_) (fun c4 => ?_)
    · replace hm := if_t c4 hm
      refine lv_iinc (v := (x2 + 1)) (lv' := [(2, .int (x2 + 1)), (0, .ref x0), (1, .int x1), (3, .int x3)]) hx hb dX1_isSo_125 hl (k := 2) rfl rfl (by decide) rfl (fun ls hl => ?_)
      refine lv_goto (tgt := 45) hx hb dX1_isSo_128 (by decide) ?_
      exact hK45 w3.1 x0 x1 (x2 + 1) H locs ls _ _ hm hw hS (lv_sub hl [1, 2, 0] rfl)
    · replace hm := if_f c4 hm
      refine lv_aload_n hx hb dX1_isSo_73 rfl (lv_at hl 0 rfl) ?_
      obtain ⟨v5, hv5, hm⟩ := ob_s hm
      refine xr_val X hw xc1 in_X1 9 (by decide) q289 (f_obj_s hv5) dX1_isSo_74 ?_
      refine lv_iload_n hx hb dX1_isSo_77 rfl (lv_at hl 3 rfl) ?_
      obtain ⟨u6, hu6, hm⟩ := ob_s hm
      obtain ⟨w7, hw7, hm⟩ := ob_s hm
      refine xr_ret5r hS (xr_runF (x := ⟨"java/util/List", "get", "(I)Ljava/lang/Object;"⟩) X hw (met_J2_get N w3.1 v5 x3 w7 hw7) (x_cf X (lv := 2) (by omega) (by decide) ci_List_get q1208 q487 q489 q119 q491 q486 q485 q490 q488 q361) xc10 hu6 rfl hl.1 rfl (Nat.le_of_ble_eq_true rfl) dX1_isSo_78) (fun H locs cells slots hw hS => ?_)
      obtain ⟨k8, hk8, hm⟩ := ob_s hm
      refine xr_castA X hw hk8 q1447 dX1_isSo_83 ?_
      refine lv_astore (lv' := [(4, .ref w7.2), (0, .ref x0), (1, .int x1), (2, .int x2), (3, .int x3)]) hx hb dX1_isSo_86 hl (by decide) rfl (fun ls hl => ?_)
      refine lv_aload hx hb dX1_isSo_88 (lv_at hl 0 rfl) ?_
      refine lv_iconst (v := 1) hx hb dX1_isSo_90 (by decide) ?_
      obtain ⟨v9, hv9, hm⟩ := ob_s hm
      refine xr_iald X hw hv9 dX1_isSo_91 ?_
      refine lv_iload_n hx hb dX1_isSo_92 rfl (lv_at hl 3 rfl) ?_
      refine lv_icmp_ne (tgt := 119) hx hb dX1_isSo_93 (by decide) (fun c10 => ?_) (fun c10 => ?_)
      · replace hm := if_f c10 hm
        exact wkX_X1_isSo_119 X hr hlk hnm N K45 (kX_X1_isSo_60 g N K45 n) hK45 ih w7.1 x0 x1 x2 x3 H locs ls _ _ hm hw hS (lv_sub hl [1, 2, 3, 4] rfl)
      · replace hm := if_t c10 hm
        refine lv_aload_n hx hb dX1_isSo_96 rfl (lv_at hl 1 rfl) ?_
        obtain ⟨v11, hv11, hm⟩ := ob_s hm
        refine xr_val X hw xc1 in_X1 3 (by decide) q282 (f_obj_s hv11) dX1_isSo_97 ?_
        obtain ⟨v12, hv12, hm⟩ := ob_s hm
        refine xr_valN X hw xc2 in_X3 13 (by decide) q238 (f_int_s hv12) dX1_isSo_100 ?_
        refine lv_aload hx hb dX1_isSo_103 (lv_at hl 0 rfl) ?_
        refine lv_iconst (v := 0) hx hb dX1_isSo_105 (by decide) ?_
        obtain ⟨v13, hv13, hm⟩ := ob_s hm
        refine xr_iald X hw hv13 dX1_isSo_106 ?_
        refine lv_ishr hx hb dX1_isSo_107 ?_
        refine lv_iconst (v := 1) hx hb dX1_isSo_108 (by decide) ?_
        refine lv_iand hx hb dX1_isSo_109 ?_
        refine lv_aload hx hb dX1_isSo_110 (lv_at hl 0 rfl) ?_
        refine lv_iconst (v := 2) hx hb dX1_isSo_112 (by decide) ?_
        obtain ⟨v14, hv14, hm⟩ := ob_s hm
        refine xr_iald X hw hv14 dX1_isSo_113 ?_
        refine lv_icmp_eq (tgt := 119) hx hb dX1_isSo_114 (by decide) (fun c15 => ?_) (fun c15 => ?_)
        · replace hm := if_t c15 hm
          exact wkX_X1_isSo_119 X hr hlk hnm N K45 (kX_X1_isSo_60 g N K45 n) hK45 ih w7.1 x0 x1 x2 x3 H locs ls _ _ hm hw hS (lv_sub hl [1, 2, 3, 4] rfl)
        · replace hm := if_f c15 hm
          refine lv_iconst (v := 0) hx hb dX1_isSo_117 (by decide) ?_
          obtain rfl := Option.some.inj hm
          exact xr_iret (v := 0) X hr hlk hw hS rfl dX1_isSo_118
def kX_X1_isSo_45 (g : XC) (N : Nat) : Nat → XS → Nat → Int32 → Int32 → Option (XS × Int32)
  | 0, _, _, _, _ => none
  | n + 1, S, x0, x1, x2 =>
    if x1 < x2 then
      some (S, 1)
    else
      (f_obj S 1 x0 3).bind fun v2 =>
      (f_cls S 2 v2).bind fun u3 =>
      (kX_X3_pass g N S v2).bind fun w4 =>
      kX_X1_isSo_60 g N (kX_X1_isSo_45 g N n) N w4.1 x0 x1 x2 0
theorem wkX_X1_isSo_45 {p : Program} {l : Launch} {e : Env} {s : State} {m : MethodId} {args : Array Value} {below : List Frame} {meth : Method} {c : Code} {g : XC} {D : va_G} {A : Nat → Prop} {S0 : XS} {w : XS × Int32} (X : xX g D A RX1 S0 p s m args c cX1_isSo 5) (hr : meth.sig.returnType = (Option.some Jvm.ClassFile.FieldType.boolean)) (hlk : meth.locks = false) (hnm : meth.name = yX1_isSo.name) (N : Nat) :
    ∀ (n : Nat) (S : XS) (x0 : Nat) (x1 : Int32) (x2 : Int32) (H : Heap) (locs : List Loc) (ls : Array Slot) (cells slots : Nat), kX_X1_isSo_45 g N n S x0 x1 x2 = some w → xW g D A S s H → va_S A s.heap H locs → lv_has ls 5 [(0, .ref x0), (1, .int x1), (2, .int x2)] → W p l e (xRm g S0 81) s m args below meth c H locs cells slots (MQ below (xQi g D A w) args s (g.2.1 - xTop S0) (g.2.2.1 - xSl S0) A) (F0 m 45 ls []) := by
  obtain ⟨hx, hb, -, hown, hts, -⟩ := id X
  intro n
  induction n with
  | zero =>
    intro S x0 x1 x2 H locs ls cells slots hm
    cases hm
  | succ n ih =>
    intro S x0 x1 x2 H locs ls cells slots hm hw hS hl
    rw [kX_X1_isSo_45] at hm
    refine lv_iload_n hx hb dX1_isSo_45 rfl (lv_at hl 2 rfl) ?_
    refine lv_iload_n hx hb dX1_isSo_46 rfl (lv_at hl 1 rfl) ?_
    refine lv_icmp_gt (tgt := 131) hx hb dX1_isSo_47 (by decide) (fun c1 => ?_) (fun c1 => ?_)
    · replace hm := if_t c1 hm
      refine lv_iconst (v := 1) hx hb dX1_isSo_131 (by decide) ?_
      obtain rfl := Option.some.inj hm
      exact xr_iret (v := 1) X hr hlk hw hS rfl dX1_isSo_132
    · replace hm := if_f c1 hm
      refine lv_aload_n hx hb dX1_isSo_50 rfl (lv_at hl 0 rfl) ?_
      obtain ⟨v2, hv2, hm⟩ := ob_s hm
      refine xr_val X hw xc1 in_X1 3 (by decide) q282 (f_obj_s hv2) dX1_isSo_51 ?_
      obtain ⟨u3, hu3, hm⟩ := ob_s hm
      obtain ⟨w4, hw4, hm⟩ := ob_s hm
      refine xr_retr hS (xr_runV X hw (met_X3_pass N S v2 w4 hw4) (x_cv X (lv := 80) (by omega) (by decide) cx_X3_pass (lw_V q609 q459 q460 q120 q461)) xc2 hu3 rfl hl.1 rfl (Nat.le_of_ble_eq_true rfl) dX1_isSo_54) (fun H locs cells slots hw hS => ?_)
      refine lv_pop hx hb dX1_isSo_57 rfl ?_
      refine lv_iconst (v := 0) hx hb dX1_isSo_58 (by decide) ?_
      refine lv_istore_n (lv' := [(3, .int 0), (0, .ref x0), (1, .int x1), (2, .int x2)]) hx hb dX1_isSo_59 rfl hl (by decide) rfl (fun ls hl => ?_)
      exact wkX_X1_isSo_60 X hr hlk hnm N (kX_X1_isSo_45 g N n) ih N w4.1 x0 x1 x2 0 H locs ls _ _ hm hw hS (lv_sub hl [1, 2, 3, 0] rfl)
def kX_X1_isSo_4 (g : XC) (N : Nat) : Nat → XS → Nat → Int32 → Int32 → Option (XS × Int32)
  | 0, _, _, _, _ => none
  | n + 1, S, x0, x1, x2 =>
    (f_obj S 1 x0 9).bind fun v1 =>
    (f_cls S 10 v1).bind fun u2 =>
    (kX_J2_size g N S v1).bind fun w3 =>
    if w3.2 ≤ x2 then
      kX_X1_isSo_45 g N N w3.1 x0 x1 1
    else
      (f_obj w3.1 1 x0 9).bind fun v5 =>
      (f_cls w3.1 10 v5).bind fun u6 =>
      (kX_J2_get g N w3.1 v5 x2).bind fun w7 =>
      (f_ints w7.1 w7.2).bind fun k8 =>
      (a_int w7.1 0 w7.2 1).bind fun v9 =>
      bnd (if (x1 : Int32) < v9 then v9 else x1) fun v10 =>
      kX_X1_isSo_4 g N n w7.1 x0 v10 (x2 + 1)
theorem wkX_X1_isSo_4 {p : Program} {l : Launch} {e : Env} {s : State} {m : MethodId} {args : Array Value} {below : List Frame} {meth : Method} {c : Code} {g : XC} {D : va_G} {A : Nat → Prop} {S0 : XS} {w : XS × Int32} (X : xX g D A RX1 S0 p s m args c cX1_isSo 5) (hr : meth.sig.returnType = (Option.some Jvm.ClassFile.FieldType.boolean)) (hlk : meth.locks = false) (hnm : meth.name = yX1_isSo.name) (N : Nat) :
    ∀ (n : Nat) (S : XS) (x0 : Nat) (x1 : Int32) (x2 : Int32) (H : Heap) (locs : List Loc) (ls : Array Slot) (cells slots : Nat), kX_X1_isSo_4 g N n S x0 x1 x2 = some w → xW g D A S s H → va_S A s.heap H locs → lv_has ls 5 [(0, .ref x0), (1, .int x1), (2, .int x2)] → W p l e (xRm g S0 81) s m args below meth c H locs cells slots (MQ below (xQi g D A w) args s (g.2.1 - xTop S0) (g.2.2.1 - xSl S0) A) (F0 m 4 ls []) := by
  obtain ⟨hx, hb, -, hown, hts, -⟩ := id X
  intro n
  induction n with
  | zero =>
    intro S x0 x1 x2 H locs ls cells slots hm
    cases hm
  | succ n ih =>
    intro S x0 x1 x2 H locs ls cells slots hm hw hS hl
    rw [kX_X1_isSo_4] at hm
    refine lv_iload_n hx hb dX1_isSo_4 rfl (lv_at hl 2 rfl) ?_
    refine lv_aload_n hx hb dX1_isSo_5 rfl (lv_at hl 0 rfl) ?_
    obtain ⟨v1, hv1, hm⟩ := ob_s hm
    refine xr_val X hw xc1 in_X1 9 (by decide) q289 (f_obj_s hv1) dX1_isSo_6 ?_
    obtain ⟨u2, hu2, hm⟩ := ob_s hm
    obtain ⟨w3, hw3, hm⟩ := ob_s hm
    refine xr_ret5i hS (xr_runF (x := ⟨"java/util/List", "size", "()I"⟩) X hw (met_J2_size N S v1 w3 hw3) (x_cf X (lv := 0) (by omega) (by decide) ci_List_size q426 q429 q431 q119 q433 q428 q427 q432 q430 q361) xc10 hu2 rfl hl.1 rfl (Nat.le_of_ble_eq_true rfl) dX1_isSo_9) (fun H locs cells slots hw hS => ?_)
    refine lv_icmp_ge (tgt := 43) hx hb dX1_isSo_14 (by decide) (fun c4 => ?_) (fun c4 => ?_)
    · replace hm := if_t c4 hm
      refine lv_iconst (v := 1) hx hb dX1_isSo_43 (by decide) ?_
      refine lv_istore_n (lv' := [(2, .int 1), (0, .ref x0), (1, .int x1)]) hx hb dX1_isSo_44 rfl hl (by decide) rfl (fun ls hl => ?_)
      exact wkX_X1_isSo_45 X hr hlk hnm N N w3.1 x0 x1 1 H locs ls _ _ hm hw hS (lv_sub hl [1, 2, 0] rfl)
    · replace hm := if_f c4 hm
      refine lv_iload_n hx hb dX1_isSo_17 rfl (lv_at hl 1 rfl) ?_
      refine lv_aload_n hx hb dX1_isSo_18 rfl (lv_at hl 0 rfl) ?_
      obtain ⟨v5, hv5, hm⟩ := ob_s hm
      refine xr_val X hw xc1 in_X1 9 (by decide) q289 (f_obj_s hv5) dX1_isSo_19 ?_
      refine lv_iload_n hx hb dX1_isSo_22 rfl (lv_at hl 2 rfl) ?_
      obtain ⟨u6, hu6, hm⟩ := ob_s hm
      obtain ⟨w7, hw7, hm⟩ := ob_s hm
      refine xr_ret5r hS (xr_runF (x := ⟨"java/util/List", "get", "(I)Ljava/lang/Object;"⟩) X hw (met_J2_get N w3.1 v5 x2 w7 hw7) (x_cf X (lv := 2) (by omega) (by decide) ci_List_get q1208 q487 q489 q119 q491 q486 q485 q490 q488 q361) xc10 hu6 rfl hl.1 rfl (Nat.le_of_ble_eq_true rfl) dX1_isSo_23) (fun H locs cells slots hw hS => ?_)
      obtain ⟨k8, hk8, hm⟩ := ob_s hm
      refine xr_castA X hw hk8 q1447 dX1_isSo_28 ?_
      refine lv_iconst (v := 1) hx hb dX1_isSo_31 (by decide) ?_
      obtain ⟨v9, hv9, hm⟩ := ob_s hm
      refine xr_iald X hw hv9 dX1_isSo_32 ?_
      refine xr_mmax X hw hl.1 q1250 q383 q127 q384 (Nat.le_of_ble_eq_true rfl) dX1_isSo_33 (fun cells slots => ?_)
      refine lv_topi (fun v10 ev10 => ?_)
      replace hm := bnd_s hm ev10
      refine lv_istore_n (lv' := [(1, .int v10), (0, .ref x0), (2, .int x2)]) hx hb dX1_isSo_36 rfl hl (by decide) rfl (fun ls hl => ?_)
      refine lv_iinc (v := (x2 + 1)) (lv' := [(2, .int (x2 + 1)), (1, .int v10), (0, .ref x0)]) hx hb dX1_isSo_37 hl (k := 2) rfl rfl (by decide) rfl (fun ls hl => ?_)
      refine lv_goto (tgt := 4) hx hb dX1_isSo_40 (by decide) ?_
      exact ih w7.1 x0 v10 (x2 + 1) H locs ls _ _ hm hw hS (lv_sub hl [2, 1, 0] rfl)
def kX_X1_isSo (g : XC) (N : Nat) (S : XS) (x0 : Nat) : Option (XS × Int32) :=
  kX_X1_isSo_4 g N N S x0 0 0
theorem cx_X1_isSo : yX1_isSo.cls = RX1 ∧ yX1_isSo.cls ≠ "java/lang/invoke/MethodHandle" ∧ yX1_isSo.cls ≠ "java/lang/invoke/VarHandle" ∧ (parseMethodDescriptor yX1_isSo.desc).map (fun d => d.parameters.length) = some 0 := by decide +kernel
theorem met_X1_isSo {l : Launch} {g : XC} {D : va_G} {A : Nat → Prop} (N : Nat) (S : XS) (x0 : Nat) (w : XS × Int32) (hm : kX_X1_isSo g N S x0 = some w) : Met l yX1_isSo (ws_ yX1_isSo cX1_isSo 5 (Option.some Jvm.ClassFile.FieldType.boolean)) (xRm g S 81) (xPre g D A [.ref x0] S) (xQi g D A w) (g.2.1 - xTop S) (g.2.2.1 - xSl S) A := by
  refine x_start (own := RX1) (by decide +kernel) rfl (Nat.le_of_ble_eq_true rfl) (fun p e s m below meth c ls X hr hlk hnm hw hl => ?_)
  obtain ⟨hx, hb, -, hown, hts, -⟩ := id X
  have hl : lv_has ls 5 [(0, .ref x0)] := hl
  have hg : ∀ (H : Heap) (locs : List Loc) (cells slots : Nat), xW g D A S s H → va_S A s.heap H locs → W p l e (xRm g S 81) s m ([.ref x0] : List Value).toArray below meth c H locs cells slots (MQ below (xQi g D A w) ([.ref x0] : List Value).toArray s (g.2.1 - xTop S) (g.2.2.1 - xSl S) A) (F0 m 0 ls []) := by
    intro H locs cells slots hw hS
    unfold kX_X1_isSo at hm
    refine lv_iconst (v := 0) hx hb dX1_isSo_0 (by decide) ?_
    refine lv_istore_n (lv' := [(1, .int 0), (0, .ref x0)]) hx hb dX1_isSo_1 rfl hl (by decide) rfl (fun ls hl => ?_)
    refine lv_iconst (v := 0) hx hb dX1_isSo_2 (by decide) ?_
    refine lv_istore_n (lv' := [(2, .int 0), (1, .int 0), (0, .ref x0)]) hx hb dX1_isSo_3 rfl hl (by decide) rfl (fun ls hl => ?_)
    exact wkX_X1_isSo_4 X hr hlk hnm N N S x0 0 0 H locs ls _ _ hm hw hS (lv_sub hl [2, 1, 0] rfl)
  exact hg _ _ _ _ hw va_S.rf
/-! DripCups$Night.isLed -/
def kX_X3_isLed (g : XC) (N : Nat) (S : XS) (x0 : Nat) (x1 : Int32) (x2 : Int32) : Option (XS × Int32) :=
  (f_obj S 2 x0 4).bind fun v1 =>
  (a_int S 0 v1 x1).bind fun v2 =>
  if v2 = (-2) then
    (f_obj S 2 x0 3).bind fun v4 =>
    (a_int S 0 v4 x1).bind fun v5 =>
    if v5 = x2 then
      some (S, 1)
    else
      some (S, 0)
  else
    some (S, 0)
theorem cx_X3_isLed : yX3_isLed.cls = RX3 ∧ yX3_isLed.cls ≠ "java/lang/invoke/MethodHandle" ∧ yX3_isLed.cls ≠ "java/lang/invoke/VarHandle" ∧ (parseMethodDescriptor yX3_isLed.desc).map (fun d => d.parameters.length) = some 2 := by decide +kernel
theorem met_X3_isLed {l : Launch} {g : XC} {D : va_G} {A : Nat → Prop} (N : Nat) (S : XS) (x0 : Nat) (x1 : Int32) (x2 : Int32) (w : XS × Int32) (hm : kX_X3_isLed g N S x0 x1 x2 = some w) : Met l yX3_isLed (ws_ yX3_isLed cX3_isLed 3 (Option.some Jvm.ClassFile.FieldType.boolean)) (xRm g S 0) (xPre g D A [.ref x0, .int x1, .int x2] S) (xQi g D A w) (g.2.1 - xTop S) (g.2.2.1 - xSl S) A := by
  refine x_start (own := RX3) (by decide +kernel) rfl (Nat.le_of_ble_eq_true rfl) (fun p e s m below meth c ls X hr hlk hnm hw hl => ?_)
  obtain ⟨hx, hb, -, hown, hts, -⟩ := id X
  have hl : lv_has ls 3 [(0, .ref x0), (1, .int x1), (2, .int x2)] := hl
  have hg : ∀ (H : Heap) (locs : List Loc) (cells slots : Nat), xW g D A S s H → va_S A s.heap H locs → W p l e (xRm g S 0) s m ([.ref x0, .int x1, .int x2] : List Value).toArray below meth c H locs cells slots (MQ below (xQi g D A w) ([.ref x0, .int x1, .int x2] : List Value).toArray s (g.2.1 - xTop S) (g.2.2.1 - xSl S) A) (F0 m 0 ls []) := by
    intro H locs cells slots hw hS
    unfold kX_X3_isLed at hm
    refine lv_aload_n hx hb dX3_isLed_0 rfl (lv_at hl 0 rfl) ?_
    obtain ⟨v1, hv1, hm⟩ := ob_s hm
    refine xr_val X hw xc2 in_X3 4 (by decide) q221 (f_obj_s hv1) dX3_isLed_1 ?_
    refine lv_iload_n hx hb dX3_isLed_4 rfl (lv_at hl 1 rfl) ?_
    obtain ⟨v2, hv2, hm⟩ := ob_s hm
    refine xr_iald X hw hv2 dX3_isLed_5 ?_
    refine lv_bipush (v := (-2)) hx hb dX3_isLed_6 (by decide) ?_
    refine lv_icmp_ne (tgt := 25) hx hb dX3_isLed_8 (by decide) (fun c3 => ?_) (fun c3 => ?_)
    · replace hm := if_f c3 hm
      refine lv_iconst (v := 0) hx hb dX3_isLed_25 (by decide) ?_
      obtain rfl := Option.some.inj hm
      exact xr_iret (v := 0) X hr hlk hw hS rfl dX3_isLed_26
    · replace hm := if_t c3 hm
      refine lv_aload_n hx hb dX3_isLed_11 rfl (lv_at hl 0 rfl) ?_
      obtain ⟨v4, hv4, hm⟩ := ob_s hm
      refine xr_val X hw xc2 in_X3 3 (by decide) q218 (f_obj_s hv4) dX3_isLed_12 ?_
      refine lv_iload_n hx hb dX3_isLed_15 rfl (lv_at hl 1 rfl) ?_
      obtain ⟨v5, hv5, hm⟩ := ob_s hm
      refine xr_iald X hw hv5 dX3_isLed_16 ?_
      refine lv_iload_n hx hb dX3_isLed_17 rfl (lv_at hl 2 rfl) ?_
      refine lv_icmp_ne (tgt := 25) hx hb dX3_isLed_18 (by decide) (fun c6 => ?_) (fun c6 => ?_)
      · replace hm := if_f c6 hm
        refine lv_iconst (v := 0) hx hb dX3_isLed_25 (by decide) ?_
        obtain rfl := Option.some.inj hm
        exact xr_iret (v := 0) X hr hlk hw hS rfl dX3_isLed_26
      · replace hm := if_t c6 hm
        refine lv_iconst (v := 1) hx hb dX3_isLed_21 (by decide) ?_
        refine lv_goto (tgt := 26) hx hb dX3_isLed_22 (by decide) ?_
        obtain rfl := Option.some.inj hm
        exact xr_iret (v := 1) X hr hlk hw hS rfl dX3_isLed_26
  exact hg _ _ _ _ hw va_S.rf
/-! DripCups$Night.lead -/
def kX_X3_lead (g : XC) (N : Nat) (S : XS) (x0 : Nat) (x1 : Int32) (x2 : Int32) : Option (XS) :=
  (f_obj S 2 x0 3).bind fun v1 =>
  (a_putI S 0 v1 x1 x2).bind fun S2 =>
  (f_obj S2 2 x0 4).bind fun v3 =>
  (a_putI S2 0 v3 x1 (-2)).bind fun S4 =>
  (f_obj S4 2 x0 5).bind fun v5 =>
  (a_putI S4 0 v5 x1 0).bind fun S6 =>
  some S6
theorem cx_X3_lead : yX3_lead.cls = RX3 ∧ yX3_lead.cls ≠ "java/lang/invoke/MethodHandle" ∧ yX3_lead.cls ≠ "java/lang/invoke/VarHandle" ∧ (parseMethodDescriptor yX3_lead.desc).map (fun d => d.parameters.length) = some 2 := by decide +kernel
theorem met_X3_lead {l : Launch} {g : XC} {D : va_G} {A : Nat → Prop} (N : Nat) (S : XS) (x0 : Nat) (x1 : Int32) (x2 : Int32) (w : XS) (hm : kX_X3_lead g N S x0 x1 x2 = some w) : Met l yX3_lead (ws_ yX3_lead cX3_lead 3 (Option.none : Option Jvm.ClassFile.FieldType)) (xRm g S 0) (xPre g D A [.ref x0, .int x1, .int x2] S) (xQv g D A w) (g.2.1 - xTop S) (g.2.2.1 - xSl S) A := by
  refine x_start (own := RX3) (by decide +kernel) rfl (Nat.le_of_ble_eq_true rfl) (fun p e s m below meth c ls X hr hlk hnm hw hl => ?_)
  obtain ⟨hx, hb, -, hown, hts, -⟩ := id X
  have hl : lv_has ls 3 [(0, .ref x0), (1, .int x1), (2, .int x2)] := hl
  have hg : ∀ (H : Heap) (locs : List Loc) (cells slots : Nat), xW g D A S s H → va_S A s.heap H locs → W p l e (xRm g S 0) s m ([.ref x0, .int x1, .int x2] : List Value).toArray below meth c H locs cells slots (MQ below (xQv g D A w) ([.ref x0, .int x1, .int x2] : List Value).toArray s (g.2.1 - xTop S) (g.2.2.1 - xSl S) A) (F0 m 0 ls []) := by
    intro H locs cells slots hw hS
    unfold kX_X3_lead at hm
    refine lv_aload_n hx hb dX3_lead_0 rfl (lv_at hl 0 rfl) ?_
    obtain ⟨v1, hv1, hm⟩ := ob_s hm
    refine xr_val X hw xc2 in_X3 3 (by decide) q218 (f_obj_s hv1) dX3_lead_1 ?_
    refine lv_iload_n hx hb dX3_lead_4 rfl (lv_at hl 1 rfl) ?_
    refine lv_iload_n hx hb dX3_lead_5 rfl (lv_at hl 2 rfl) ?_
    obtain ⟨S2, hS2, hm⟩ := ob_s hm
    refine xr_iast X hw hS hS2 dX3_lead_6 (fun H locs hw hS => ?_)
    refine lv_aload_n hx hb dX3_lead_7 rfl (lv_at hl 0 rfl) ?_
    obtain ⟨v3, hv3, hm⟩ := ob_s hm
    refine xr_val X hw xc2 in_X3 4 (by decide) q221 (f_obj_s hv3) dX3_lead_8 ?_
    refine lv_iload_n hx hb dX3_lead_11 rfl (lv_at hl 1 rfl) ?_
    refine lv_bipush (v := (-2)) hx hb dX3_lead_12 (by decide) ?_
    obtain ⟨S4, hS4, hm⟩ := ob_s hm
    refine xr_iast X hw hS hS4 dX3_lead_14 (fun H locs hw hS => ?_)
    refine lv_aload_n hx hb dX3_lead_15 rfl (lv_at hl 0 rfl) ?_
    obtain ⟨v5, hv5, hm⟩ := ob_s hm
    refine xr_val X hw xc2 in_X3 5 (by decide) q224 (f_obj_s hv5) dX3_lead_16 ?_
    refine lv_iload_n hx hb dX3_lead_19 rfl (lv_at hl 1 rfl) ?_
    refine lv_iconst (v := 0) hx hb dX3_lead_20 (by decide) ?_
    obtain ⟨S6, hS6, hm⟩ := ob_s hm
    refine xr_iast X hw hS hS6 dX3_lead_21 (fun H locs hw hS => ?_)
    obtain rfl := Option.some.inj hm
    exact xr_vret X hr hlk hw hS dX3_lead_22
  exact hg _ _ _ _ hw va_S.rf
/-! DripCups.leadTo -/
def kX_X1_leadTo_32 (g : XC) (N : Nat) (S : XS) (x0 : Nat) (t0 : Nat) (t1 : Int32) (t2 : Int32) : Option (XS × Nat) :=
  (f_cls S 2 t0).bind fun u1 =>
  (kX_X3_lead g N S t0 t1 t2).bind fun w2 =>
  (f_obj w2 1 x0 3).bind fun v3 =>
  some (w2, v3)
theorem wkX_X1_leadTo_32 {p : Program} {l : Launch} {e : Env} {s : State} {m : MethodId} {args : Array Value} {below : List Frame} {meth : Method} {c : Code} {g : XC} {D : va_G} {A : Nat → Prop} {S0 : XS} {w : XS × Nat} (X : xX g D A RX1 S0 p s m args c cX1_leadTo 2) (hr : meth.sig.returnType = (Option.some (Jvm.ClassFile.FieldType.object "DripCups$Night"))) (hlk : meth.locks = false) (hnm : meth.name = yX1_leadTo.name) (N : Nat) :
    ∀ (S : XS) (x0 : Nat) (t0 : Nat) (t1 : Int32) (t2 : Int32) (H : Heap) (locs : List Loc) (ls : Array Slot) (cells slots : Nat), kX_X1_leadTo_32 g N S x0 t0 t1 t2 = some w → xW g D A S s H → va_S A s.heap H locs → lv_has ls 2 [(0, .ref x0)] → W p l e (xRm g S0 1) s m args below meth c H locs cells slots (MQ below (xQr g D A w) args s (g.2.1 - xTop S0) (g.2.2.1 - xSl S0) A) (F0 m 32 ls [.int t2, .int t1, .ref t0]) := by
  obtain ⟨hx, hb, -, hown, hts, -⟩ := id X
  intro S x0 t0 t1 t2 H locs ls cells slots hm hw hS hl
  unfold kX_X1_leadTo_32 at hm
  obtain ⟨u1, hu1, hm⟩ := ob_s hm
  obtain ⟨w2, hw2, hm⟩ := ob_s hm
  refine xr_retv hS (xr_runV X hw (met_X3_lead N S t0 t1 t2 w2 hw2) (x_cv X (lv := 0) (by omega) (by decide) cx_X3_lead (lw_V q1266 q1267 q1268 q120 q1269)) xc2 hu1 rfl hl.1 rfl (Nat.le_of_ble_eq_true rfl) dX1_leadTo_32) (fun H locs cells slots hw hS => ?_)
  refine lv_aload_n hx hb dX1_leadTo_35 rfl (lv_at hl 0 rfl) ?_
  obtain ⟨v3, hv3, hm⟩ := ob_s hm
  refine xr_val X hw xc1 in_X1 3 (by decide) q282 (f_obj_s hv3) dX1_leadTo_36 ?_
  obtain rfl := Option.some.inj hm
  exact xr_aret X hr (by first | exact Or.inl ⟨_, rfl⟩ | exact Or.inr ⟨_, rfl⟩) hlk hw hS dX1_leadTo_39
def kX_X1_leadTo (g : XC) (N : Nat) (S : XS) (x0 : Nat) (x1 : Int32) : Option (XS × Nat) :=
  (f_obj S 1 x0 3).bind fun v1 =>
  (f_obj S 1 x0 2).bind fun v2 =>
  (f_cls S 2 v1).bind fun u3 =>
  (kX_X3_be g N S v1 v2).bind fun w4 =>
  bnd (x1 / 10) fun v5 =>
  bnd (x1 - x1 / 10 * 10) fun v6 =>
  if v6 = 9 then
    kX_X1_leadTo_32 g N w4.1 x0 w4.2 v5 (-1)
  else
    bnd (x1 - x1 / 10 * 10) fun v8 =>
    kX_X1_leadTo_32 g N w4.1 x0 w4.2 v5 v8
theorem cx_X1_leadTo : yX1_leadTo.cls = RX1 ∧ yX1_leadTo.cls ≠ "java/lang/invoke/MethodHandle" ∧ yX1_leadTo.cls ≠ "java/lang/invoke/VarHandle" ∧ (parseMethodDescriptor yX1_leadTo.desc).map (fun d => d.parameters.length) = some 1 := by decide +kernel
theorem met_X1_leadTo {l : Launch} {g : XC} {D : va_G} {A : Nat → Prop} (N : Nat) (S : XS) (x0 : Nat) (x1 : Int32) (w : XS × Nat) (hm : kX_X1_leadTo g N S x0 x1 = some w) : Met l yX1_leadTo (ws_ yX1_leadTo cX1_leadTo 2 (Option.some (Jvm.ClassFile.FieldType.object "DripCups$Night"))) (xRm g S 1) (xPre g D A [.ref x0, .int x1] S) (xQr g D A w) (g.2.1 - xTop S) (g.2.2.1 - xSl S) A := by
  refine x_start (own := RX1) (by decide +kernel) rfl (Nat.le_of_ble_eq_true rfl) (fun p e s m below meth c ls X hr hlk hnm hw hl => ?_)
  obtain ⟨hx, hb, -, hown, hts, -⟩ := id X
  have hl : lv_has ls 2 [(0, .ref x0), (1, .int x1)] := hl
  have hg : ∀ (H : Heap) (locs : List Loc) (cells slots : Nat), xW g D A S s H → va_S A s.heap H locs → W p l e (xRm g S 1) s m ([.ref x0, .int x1] : List Value).toArray below meth c H locs cells slots (MQ below (xQr g D A w) ([.ref x0, .int x1] : List Value).toArray s (g.2.1 - xTop S) (g.2.2.1 - xSl S) A) (F0 m 0 ls []) := by
    intro H locs cells slots hw hS
    unfold kX_X1_leadTo at hm
    refine lv_aload_n hx hb dX1_leadTo_0 rfl (lv_at hl 0 rfl) ?_
    obtain ⟨v1, hv1, hm⟩ := ob_s hm
    refine xr_val X hw xc1 in_X1 3 (by decide) q282 (f_obj_s hv1) dX1_leadTo_1 ?_
    refine lv_aload_n hx hb dX1_leadTo_4 rfl (lv_at hl 0 rfl) ?_
    obtain ⟨v2, hv2, hm⟩ := ob_s hm
    refine xr_val X hw xc1 in_X1 2 (by decide) q281 (f_obj_s hv2) dX1_leadTo_5 ?_
    obtain ⟨u3, hu3, hm⟩ := ob_s hm
    obtain ⟨w4, hw4, hm⟩ := ob_s hm
    refine xr_retr hS (xr_runV X hw (met_X3_be N S v1 v2 w4 hw4) (x_cv X (lv := 0) (by omega) (by decide) cx_X3_be (lw_V q608 q354 q355 q120 q356)) xc2 hu3 rfl hl.1 rfl (Nat.le_of_ble_eq_true rfl) dX1_leadTo_8) (fun H locs cells slots hw hS => ?_)
    refine lv_iload_n hx hb dX1_leadTo_11 rfl (lv_at hl 1 rfl) ?_
    refine lv_bipush (v := 10) hx hb dX1_leadTo_12 (by decide) ?_
    refine lv_idiv hx hb dX1_leadTo_14 (by decide) ?_
    refine lv_topi (fun v5 ev5 => ?_)
    replace hm := bnd_s hm ev5
    refine lv_iload_n hx hb dX1_leadTo_15 rfl (lv_at hl 1 rfl) ?_
    refine lv_bipush (v := 10) hx hb dX1_leadTo_16 (by decide) ?_
    refine lv_irem hx hb dX1_leadTo_18 (by decide) ?_
    refine lv_topi (fun v6 ev6 => ?_)
    replace hm := bnd_s hm ev6
    refine lv_bipush (v := 9) hx hb dX1_leadTo_19 (by decide) ?_
    refine lv_icmp_ne (tgt := 28) hx hb dX1_leadTo_21 (by decide) (fun c7 => ?_) (fun c7 => ?_)
    · replace hm := if_f c7 hm
      refine lv_iload_n hx hb dX1_leadTo_28 rfl (lv_at hl 1 rfl) ?_
      refine lv_bipush (v := 10) hx hb dX1_leadTo_29 (by decide) ?_
      refine lv_irem hx hb dX1_leadTo_31 (by decide) ?_
      refine lv_topi (fun v8 ev8 => ?_)
      replace hm := bnd_s hm ev8
      exact wkX_X1_leadTo_32 X hr hlk hnm N w4.1 x0 w4.2 v5 v8 H locs ls _ _ hm hw hS (lv_sub hl [0] rfl)
    · replace hm := if_t c7 hm
      refine lv_iconst (v := (-1)) hx hb dX1_leadTo_24 (by decide) ?_
      refine lv_goto (tgt := 32) hx hb dX1_leadTo_25 (by decide) ?_
      exact wkX_X1_leadTo_32 X hr hlk hnm N w4.1 x0 w4.2 v5 (-1) H locs ls _ _ hm hw hS (lv_sub hl [0] rfl)
  exact hg _ _ _ _ hw va_S.rf
/-! DripCups.others -/
def kX_X1_others_106 (g : XC) (N : Nat) (K10 : XS → Nat → Nat → Int32 → Option (XS × Nat)) (K25 : XS → Nat → Nat → Int32 → Int32 → Option (XS × Nat)) (S : XS) (x0 : Nat) (x1 : Nat) (x2 : Int32) (x3 : Int32) : Option (XS × Nat) :=
  K25 S x0 x1 x2 (x3 + 1)
theorem wkX_X1_others_106 {p : Program} {l : Launch} {e : Env} {s : State} {m : MethodId} {args : Array Value} {below : List Frame} {meth : Method} {c : Code} {g : XC} {D : va_G} {A : Nat → Prop} {S0 : XS} {w : XS × Nat} (X : xX g D A RX1 S0 p s m args c cX1_others 4) (hr : meth.sig.returnType = (Option.some (Jvm.ClassFile.FieldType.object "java/util/List"))) (hlk : meth.locks = false) (hnm : meth.name = yX1_others.name) (N : Nat) (K10 : XS → Nat → Nat → Int32 → Option (XS × Nat)) (K25 : XS → Nat → Nat → Int32 → Int32 → Option (XS × Nat))
    (hK10 : ∀ (S : XS) (x0 : Nat) (x1 : Nat) (x2 : Int32) (H : Heap) (locs : List Loc) (ls : Array Slot) (cells slots : Nat), K10 S x0 x1 x2 = some w → xW g D A S s H → va_S A s.heap H locs → lv_has ls 4 [(0, .ref x0), (1, .ref x1), (2, .int x2)] → W p l e (xRm g S0 82) s m args below meth c H locs cells slots (MQ below (xQr g D A w) args s (g.2.1 - xTop S0) (g.2.2.1 - xSl S0) A) (F0 m 10 ls []))
    (hK25 : ∀ (S : XS) (x0 : Nat) (x1 : Nat) (x2 : Int32) (x3 : Int32) (H : Heap) (locs : List Loc) (ls : Array Slot) (cells slots : Nat), K25 S x0 x1 x2 x3 = some w → xW g D A S s H → va_S A s.heap H locs → lv_has ls 4 [(0, .ref x0), (1, .ref x1), (2, .int x2), (3, .int x3)] → W p l e (xRm g S0 82) s m args below meth c H locs cells slots (MQ below (xQr g D A w) args s (g.2.1 - xTop S0) (g.2.2.1 - xSl S0) A) (F0 m 25 ls [])) :
    ∀ (S : XS) (x0 : Nat) (x1 : Nat) (x2 : Int32) (x3 : Int32) (H : Heap) (locs : List Loc) (ls : Array Slot) (cells slots : Nat), kX_X1_others_106 g N K10 K25 S x0 x1 x2 x3 = some w → xW g D A S s H → va_S A s.heap H locs → lv_has ls 4 [(0, .ref x0), (1, .ref x1), (2, .int x2), (3, .int x3)] → W p l e (xRm g S0 82) s m args below meth c H locs cells slots (MQ below (xQr g D A w) args s (g.2.1 - xTop S0) (g.2.2.1 - xSl S0) A) (F0 m 106 ls []) := by
  obtain ⟨hx, hb, -, hown, hts, -⟩ := id X
  intro S x0 x1 x2 x3 H locs ls cells slots hm hw hS hl
  unfold kX_X1_others_106 at hm
  refine lv_iinc (v := (x3 + 1)) (lv' := [(3, .int (x3 + 1)), (0, .ref x0), (1, .ref x1), (2, .int x2)]) hx hb dX1_others_106 hl (k := 3) rfl rfl (by decide) rfl (fun ls hl => ?_)
  refine lv_goto (tgt := 25) hx hb dX1_others_109 (by decide) ?_
  exact hK25 S x0 x1 x2 (x3 + 1) H locs ls _ _ hm hw hS (lv_sub hl [1, 2, 3, 0] rfl)
def kX_X1_others_63 (g : XC) (N : Nat) (K10 : XS → Nat → Nat → Int32 → Option (XS × Nat)) (K25 : XS → Nat → Nat → Int32 → Int32 → Option (XS × Nat)) (S : XS) (x0 : Nat) (x1 : Nat) (x2 : Int32) (x3 : Int32) (t0 : Nat) (t1 : Int32) (t2 : Int32) : Option (XS × Nat) :=
  (f_cls S 2 t0).bind fun u1 =>
  (kX_X3_isLed g N S t0 t1 t2).bind fun w2 =>
  if w2.2 = 0 then
    (f_cls w2.1 1 x0).bind fun u4 =>
    (kX_X1_leadTo g N w2.1 x0 ((10 * x2) + x3)).bind fun w5 =>
    (f_cls w5.1 1 x0).bind fun u6 =>
    (kX_X1_isSo g N w5.1 x0).bind fun w7 =>
    if w7.2 = 0 then
      kX_X1_others_106 g N K10 K25 w7.1 x0 x1 x2 x3
    else
      (kX_J19_valueOf g N w7.1 ((10 * x2) + x3)).bind fun w9 =>
      (f_cls w9.1 10 x1).bind fun u10 =>
      (kX_J2_add g N w9.1 x1 w9.2).bind fun w11 =>
      kX_X1_others_106 g N K10 K25 w11.1 x0 x1 x2 x3
  else
    kX_X1_others_106 g N K10 K25 w2.1 x0 x1 x2 x3
theorem wkX_X1_others_63 {p : Program} {l : Launch} {e : Env} {s : State} {m : MethodId} {args : Array Value} {below : List Frame} {meth : Method} {c : Code} {g : XC} {D : va_G} {A : Nat → Prop} {S0 : XS} {w : XS × Nat} (X : xX g D A RX1 S0 p s m args c cX1_others 4) (hr : meth.sig.returnType = (Option.some (Jvm.ClassFile.FieldType.object "java/util/List"))) (hlk : meth.locks = false) (hnm : meth.name = yX1_others.name) (N : Nat) (K10 : XS → Nat → Nat → Int32 → Option (XS × Nat)) (K25 : XS → Nat → Nat → Int32 → Int32 → Option (XS × Nat))
    (hK10 : ∀ (S : XS) (x0 : Nat) (x1 : Nat) (x2 : Int32) (H : Heap) (locs : List Loc) (ls : Array Slot) (cells slots : Nat), K10 S x0 x1 x2 = some w → xW g D A S s H → va_S A s.heap H locs → lv_has ls 4 [(0, .ref x0), (1, .ref x1), (2, .int x2)] → W p l e (xRm g S0 82) s m args below meth c H locs cells slots (MQ below (xQr g D A w) args s (g.2.1 - xTop S0) (g.2.2.1 - xSl S0) A) (F0 m 10 ls []))
    (hK25 : ∀ (S : XS) (x0 : Nat) (x1 : Nat) (x2 : Int32) (x3 : Int32) (H : Heap) (locs : List Loc) (ls : Array Slot) (cells slots : Nat), K25 S x0 x1 x2 x3 = some w → xW g D A S s H → va_S A s.heap H locs → lv_has ls 4 [(0, .ref x0), (1, .ref x1), (2, .int x2), (3, .int x3)] → W p l e (xRm g S0 82) s m args below meth c H locs cells slots (MQ below (xQr g D A w) args s (g.2.1 - xTop S0) (g.2.2.1 - xSl S0) A) (F0 m 25 ls [])) :
    ∀ (S : XS) (x0 : Nat) (x1 : Nat) (x2 : Int32) (x3 : Int32) (t0 : Nat) (t1 : Int32) (t2 : Int32) (H : Heap) (locs : List Loc) (ls : Array Slot) (cells slots : Nat), kX_X1_others_63 g N K10 K25 S x0 x1 x2 x3 t0 t1 t2 = some w → xW g D A S s H → va_S A s.heap H locs → lv_has ls 4 [(0, .ref x0), (1, .ref x1), (2, .int x2), (3, .int x3)] → W p l e (xRm g S0 82) s m args below meth c H locs cells slots (MQ below (xQr g D A w) args s (g.2.1 - xTop S0) (g.2.2.1 - xSl S0) A) (F0 m 63 ls [.int t2, .int t1, .ref t0]) := by
  obtain ⟨hx, hb, -, hown, hts, -⟩ := id X
  intro S x0 x1 x2 x3 t0 t1 t2 H locs ls cells slots hm hw hS hl
  unfold kX_X1_others_63 at hm
  obtain ⟨u1, hu1, hm⟩ := ob_s hm
  obtain ⟨w2, hw2, hm⟩ := ob_s hm
  refine xr_reti hS (xr_runV X hw (met_X3_isLed N S t0 t1 t2 w2 hw2) (x_cv X (lv := 0) (by omega) (by decide) cx_X3_isLed (lw_V q1258 q1259 q1260 q120 q1261)) xc2 hu1 rfl hl.1 rfl (Nat.le_of_ble_eq_true rfl) dX1_others_63) (fun H locs cells slots hw hS => ?_)
  refine lv_if_eq (tgt := 72) hx hb dX1_others_66 (by decide) (fun c3 => ?_) (fun c3 => ?_)
  · replace hm := if_t c3 hm
    refine lv_aload_n hx hb dX1_others_72 rfl (lv_at hl 0 rfl) ?_
    refine lv_bipush (v := 10) hx hb dX1_others_73 (by decide) ?_
    refine lv_iload_n hx hb dX1_others_75 rfl (lv_at hl 2 rfl) ?_
    refine lv_imul hx hb dX1_others_76 ?_
    refine lv_iload_n hx hb dX1_others_77 rfl (lv_at hl 3 rfl) ?_
    refine lv_iadd hx hb dX1_others_78 ?_
    obtain ⟨u4, hu4, hm⟩ := ob_s hm
    obtain ⟨w5, hw5, hm⟩ := ob_s hm
    refine xr_retr hS (xr_runV X hw (met_X1_leadTo N w2.1 x0 ((10 * x2) + x3) w5 hw5) (x_cv X (lv := 1) (by omega) (by decide) cx_X1_leadTo (lw_V q1452 q1454 qs49 q115 q1455)) xc1 hu4 rfl hl.1 rfl (Nat.le_of_ble_eq_true rfl) dX1_others_79) (fun H locs cells slots hw hS => ?_)
    refine lv_pop hx hb dX1_others_82 rfl ?_
    refine lv_aload_n hx hb dX1_others_83 rfl (lv_at hl 0 rfl) ?_
    obtain ⟨u6, hu6, hm⟩ := ob_s hm
    obtain ⟨w7, hw7, hm⟩ := ob_s hm
    refine xr_reti hS (xr_runV X hw (met_X1_isSo N w5.1 x0 w7 hw7) (x_cv X (lv := 81) (by omega) (by decide) cx_X1_isSo (lw_V q1443 q1445 qs47 q115 q1446)) xc1 hu6 rfl hl.1 rfl (Nat.le_of_ble_eq_true rfl) dX1_others_84) (fun H locs cells slots hw hS => ?_)
    refine lv_if_eq (tgt := 106) hx hb dX1_others_87 (by decide) (fun c8 => ?_) (fun c8 => ?_)
    · replace hm := if_t c8 hm
      exact wkX_X1_others_106 X hr hlk hnm N K10 K25 hK10 hK25 w7.1 x0 x1 x2 x3 H locs ls _ _ hm hw hS (lv_sub hl [0, 1, 2, 3] rfl)
    · replace hm := if_f c8 hm
      refine lv_aload_n hx hb dX1_others_90 rfl (lv_at hl 1 rfl) ?_
      refine lv_bipush (v := 10) hx hb dX1_others_91 (by decide) ?_
      refine lv_iload_n hx hb dX1_others_93 rfl (lv_at hl 2 rfl) ?_
      refine lv_imul hx hb dX1_others_94 ?_
      refine lv_iload_n hx hb dX1_others_95 rfl (lv_at hl 3 rfl) ?_
      refine lv_iadd hx hb dX1_others_96 ?_
      obtain ⟨w9, hw9, hm⟩ := ob_s hm
      refine xr_retr hS (xr_runS X hw (met_J19_valueOf N w7.1 ((10 * x2) + x3) w9 hw9) (x_cs X (lv := 0) (by omega) (by decide) cx_J19_valueOf (lw_S q1456 q1134 q145 q1135)) rfl hl.1 rfl (Nat.le_of_ble_eq_true rfl) dX1_others_97) (fun H locs cells slots hw hS => ?_)
      obtain ⟨u10, hu10, hm⟩ := ob_s hm
      obtain ⟨w11, hw11, hm⟩ := ob_s hm
      refine xr_ret5i hS (xr_runF (x := ⟨"java/util/List", "add", "(Ljava/lang/Object;)Z"⟩) X hw (met_J2_add N w9.1 x1 w9.2 w11 hw11) (x_cf X (lv := 6) (by omega) (by decide) ci_List_add q358 q362 q364 q119 q366 q360 q359 q365 q363 q361) xc10 hu10 rfl hl.1 rfl (Nat.le_of_ble_eq_true rfl) dX1_others_100) (fun H locs cells slots hw hS => ?_)
      refine lv_pop hx hb dX1_others_105 rfl ?_
      exact wkX_X1_others_106 X hr hlk hnm N K10 K25 hK10 hK25 w11.1 x0 x1 x2 x3 H locs ls _ _ hm hw hS (lv_sub hl [0, 1, 2, 3] rfl)
  · replace hm := if_f c3 hm
    refine lv_goto (tgt := 106) hx hb dX1_others_69 (by decide) ?_
    exact wkX_X1_others_106 X hr hlk hnm N K10 K25 hK10 hK25 w2.1 x0 x1 x2 x3 H locs ls _ _ hm hw hS (lv_sub hl [0, 1, 2, 3] rfl)
def kX_X1_others_25 (g : XC) (N : Nat) (K10 : XS → Nat → Nat → Int32 → Option (XS × Nat)) : Nat → XS → Nat → Nat → Int32 → Int32 → Option (XS × Nat)
  | 0, _, _, _, _, _ => none
  | n + 1, S, x0, x1, x2, x3 =>
    if (9 : Int32) < x3 then
      K10 S x0 x1 (x2 + 1)
    else
      (f_obj S 1 x0 1).bind fun v2 =>
      (f_cls S 3 v2).bind fun u3 =>
      (kX_X2_cups g N S v2).bind fun w4 =>
      (kX_X1_in g N x3 w4.2 8).bind fun w5 =>
      if w5 = 0 then
        (f_obj w4.1 1 x0 2).bind fun v7 =>
        if x3 = 9 then
          kX_X1_others_63 g N K10 (kX_X1_others_25 g N K10 n) w4.1 x0 x1 x2 x3 v7 x2 (-1)
        else
          kX_X1_others_63 g N K10 (kX_X1_others_25 g N K10 n) w4.1 x0 x1 x2 x3 v7 x2 x3
      else
        kX_X1_others_106 g N K10 (kX_X1_others_25 g N K10 n) w4.1 x0 x1 x2 x3
theorem wkX_X1_others_25 {p : Program} {l : Launch} {e : Env} {s : State} {m : MethodId} {args : Array Value} {below : List Frame} {meth : Method} {c : Code} {g : XC} {D : va_G} {A : Nat → Prop} {S0 : XS} {w : XS × Nat} (X : xX g D A RX1 S0 p s m args c cX1_others 4) (hr : meth.sig.returnType = (Option.some (Jvm.ClassFile.FieldType.object "java/util/List"))) (hlk : meth.locks = false) (hnm : meth.name = yX1_others.name) (N : Nat) (K10 : XS → Nat → Nat → Int32 → Option (XS × Nat))
    (hK10 : ∀ (S : XS) (x0 : Nat) (x1 : Nat) (x2 : Int32) (H : Heap) (locs : List Loc) (ls : Array Slot) (cells slots : Nat), K10 S x0 x1 x2 = some w → xW g D A S s H → va_S A s.heap H locs → lv_has ls 4 [(0, .ref x0), (1, .ref x1), (2, .int x2)] → W p l e (xRm g S0 82) s m args below meth c H locs cells slots (MQ below (xQr g D A w) args s (g.2.1 - xTop S0) (g.2.2.1 - xSl S0) A) (F0 m 10 ls [])) :
    ∀ (n : Nat) (S : XS) (x0 : Nat) (x1 : Nat) (x2 : Int32) (x3 : Int32) (H : Heap) (locs : List Loc) (ls : Array Slot) (cells slots : Nat), kX_X1_others_25 g N K10 n S x0 x1 x2 x3 = some w → xW g D A S s H → va_S A s.heap H locs → lv_has ls 4 [(0, .ref x0), (1, .ref x1), (2, .int x2), (3, .int x3)] → W p l e (xRm g S0 82) s m args below meth c H locs cells slots (MQ below (xQr g D A w) args s (g.2.1 - xTop S0) (g.2.2.1 - xSl S0) A) (F0 m 25 ls []) := by
  obtain ⟨hx, hb, -, hown, hts, -⟩ := id X
  intro n
  induction n with
  | zero =>
    intro S x0 x1 x2 x3 H locs ls cells slots hm
    cases hm
  | succ n ih =>
    intro S x0 x1 x2 x3 H locs ls cells slots hm hw hS hl
    rw [kX_X1_others_25] at hm
    refine lv_iload_n hx hb dX1_others_25 rfl (lv_at hl 3 rfl) ?_
    refine lv_bipush (v := 9) hx hb dX1_others_26 (by decide) ?_
    refine lv_icmp_gt (tgt := 112) hx hb dX1_others_28 (by decide) (fun c1 => ?_) (fun c1 => ?_)
    · replace hm := if_t c1 hm
      refine lv_iinc (v := (x2 + 1)) (lv' := [(2, .int (x2 + 1)), (0, .ref x0), (1, .ref x1), (3, .int x3)]) hx hb dX1_others_112 hl (k := 2) rfl rfl (by decide) rfl (fun ls hl => ?_)
      refine lv_goto (tgt := 10) hx hb dX1_others_115 (by decide) ?_
      exact hK10 S x0 x1 (x2 + 1) H locs ls _ _ hm hw hS (lv_sub hl [1, 2, 0] rfl)
    · replace hm := if_f c1 hm
      refine lv_iload_n hx hb dX1_others_31 rfl (lv_at hl 3 rfl) ?_
      refine lv_aload_n hx hb dX1_others_32 rfl (lv_at hl 0 rfl) ?_
      obtain ⟨v2, hv2, hm⟩ := ob_s hm
      refine xr_val X hw xc1 in_X1 1 (by decide) q279 (f_obj_s hv2) dX1_others_33 ?_
      obtain ⟨u3, hu3, hm⟩ := ob_s hm
      obtain ⟨w4, hw4, hm⟩ := ob_s hm
      refine xr_reti hS (xr_runV X hw (met_X2_cups N S v2 w4 hw4) (x_cv X (lv := 1) (by omega) (by decide) cx_X2_cups (lw_V q1172 q463 q464 q116 q465)) xc3 hu3 rfl hl.1 rfl (Nat.le_of_ble_eq_true rfl) dX1_others_36) (fun H locs cells slots hw hS => ?_)
      refine lv_bipush (v := 8) hx hb dX1_others_39 (by decide) ?_
      obtain ⟨w5, hw5, hm⟩ := ob_s hm
      refine xr_reti hS (xr_runS X hw (met_X1_in N w4.1 x3 w4.2 8 w5 hw5) (x_cs X (lv := 0) (by omega) (by decide) cx_X1_in (lw_S q336 q337 q115 q338)) rfl hl.1 rfl (Nat.le_of_ble_eq_true rfl) dX1_others_41) (fun H locs cells slots hw hS => ?_)
      refine lv_if_ne (tgt := 106) hx hb dX1_others_44 (by decide) (fun c6 => ?_) (fun c6 => ?_)
      · replace hm := if_f c6 hm
        exact wkX_X1_others_106 X hr hlk hnm N K10 (kX_X1_others_25 g N K10 n) hK10 ih w4.1 x0 x1 x2 x3 H locs ls _ _ hm hw hS (lv_sub hl [0, 1, 2, 3] rfl)
      · replace hm := if_t c6 hm
        refine lv_aload_n hx hb dX1_others_47 rfl (lv_at hl 0 rfl) ?_
        obtain ⟨v7, hv7, hm⟩ := ob_s hm
        refine xr_val X hw xc1 in_X1 2 (by decide) q281 (f_obj_s hv7) dX1_others_48 ?_
        refine lv_iload_n hx hb dX1_others_51 rfl (lv_at hl 2 rfl) ?_
        refine lv_iload_n hx hb dX1_others_52 rfl (lv_at hl 3 rfl) ?_
        refine lv_bipush (v := 9) hx hb dX1_others_53 (by decide) ?_
        refine lv_icmp_ne (tgt := 62) hx hb dX1_others_55 (by decide) (fun c8 => ?_) (fun c8 => ?_)
        · replace hm := if_f c8 hm
          refine lv_iload_n hx hb dX1_others_62 rfl (lv_at hl 3 rfl) ?_
          exact wkX_X1_others_63 X hr hlk hnm N K10 (kX_X1_others_25 g N K10 n) hK10 ih w4.1 x0 x1 x2 x3 v7 x2 x3 H locs ls _ _ hm hw hS (lv_sub hl [0, 1, 2, 3] rfl)
        · replace hm := if_t c8 hm
          refine lv_iconst (v := (-1)) hx hb dX1_others_58 (by decide) ?_
          refine lv_goto (tgt := 63) hx hb dX1_others_59 (by decide) ?_
          exact wkX_X1_others_63 X hr hlk hnm N K10 (kX_X1_others_25 g N K10 n) hK10 ih w4.1 x0 x1 x2 x3 v7 x2 (-1) H locs ls _ _ hm hw hS (lv_sub hl [0, 1, 2, 3] rfl)
def kX_X1_others_10 (g : XC) (N : Nat) : Nat → XS → Nat → Nat → Int32 → Option (XS × Nat)
  | 0, _, _, _, _ => none
  | n + 1, S, x0, x1, x2 =>
    (f_obj S 1 x0 1).bind fun v1 =>
    (f_cls S 3 v1).bind fun u2 =>
    (kX_X2_cups g N S v1).bind fun w3 =>
    if w3.2 ≤ x2 then
      some (w3.1, x1)
    else
      bnd (x2 + 1) fun v5 =>
      kX_X1_others_25 g N (kX_X1_others_10 g N n) N w3.1 x0 x1 x2 v5
theorem wkX_X1_others_10 {p : Program} {l : Launch} {e : Env} {s : State} {m : MethodId} {args : Array Value} {below : List Frame} {meth : Method} {c : Code} {g : XC} {D : va_G} {A : Nat → Prop} {S0 : XS} {w : XS × Nat} (X : xX g D A RX1 S0 p s m args c cX1_others 4) (hr : meth.sig.returnType = (Option.some (Jvm.ClassFile.FieldType.object "java/util/List"))) (hlk : meth.locks = false) (hnm : meth.name = yX1_others.name) (N : Nat) :
    ∀ (n : Nat) (S : XS) (x0 : Nat) (x1 : Nat) (x2 : Int32) (H : Heap) (locs : List Loc) (ls : Array Slot) (cells slots : Nat), kX_X1_others_10 g N n S x0 x1 x2 = some w → xW g D A S s H → va_S A s.heap H locs → lv_has ls 4 [(0, .ref x0), (1, .ref x1), (2, .int x2)] → W p l e (xRm g S0 82) s m args below meth c H locs cells slots (MQ below (xQr g D A w) args s (g.2.1 - xTop S0) (g.2.2.1 - xSl S0) A) (F0 m 10 ls []) := by
  obtain ⟨hx, hb, -, hown, hts, -⟩ := id X
  intro n
  induction n with
  | zero =>
    intro S x0 x1 x2 H locs ls cells slots hm
    cases hm
  | succ n ih =>
    intro S x0 x1 x2 H locs ls cells slots hm hw hS hl
    rw [kX_X1_others_10] at hm
    refine lv_iload_n hx hb dX1_others_10 rfl (lv_at hl 2 rfl) ?_
    refine lv_aload_n hx hb dX1_others_11 rfl (lv_at hl 0 rfl) ?_
    obtain ⟨v1, hv1, hm⟩ := ob_s hm
    refine xr_val X hw xc1 in_X1 1 (by decide) q279 (f_obj_s hv1) dX1_others_12 ?_
    obtain ⟨u2, hu2, hm⟩ := ob_s hm
    obtain ⟨w3, hw3, hm⟩ := ob_s hm
    refine xr_reti hS (xr_runV X hw (met_X2_cups N S v1 w3 hw3) (x_cv X (lv := 1) (by omega) (by decide) cx_X2_cups (lw_V q1172 q463 q464 q116 q465)) xc3 hu2 rfl hl.1 rfl (Nat.le_of_ble_eq_true rfl) dX1_others_15) (fun H locs cells slots hw hS => ?_)
    refine lv_icmp_ge (tgt := 118) hx hb dX1_others_18 (by decide) (fun c4 => ?_) (fun c4 => ?_)
    · replace hm := if_t c4 hm
      refine lv_aload_n hx hb dX1_others_118 rfl (lv_at hl 1 rfl) ?_
      obtain rfl := Option.some.inj hm
      exact xr_aret X hr (by first | exact Or.inl ⟨_, rfl⟩ | exact Or.inr ⟨_, rfl⟩) hlk hw hS dX1_others_119
    · replace hm := if_f c4 hm
      refine lv_iload_n hx hb dX1_others_21 rfl (lv_at hl 2 rfl) ?_
      refine lv_iconst (v := 1) hx hb dX1_others_22 (by decide) ?_
      refine lv_iadd hx hb dX1_others_23 ?_
      refine lv_topi (fun v5 ev5 => ?_)
      replace hm := bnd_s hm ev5
      refine lv_istore_n (lv' := [(3, .int v5), (0, .ref x0), (1, .ref x1), (2, .int x2)]) hx hb dX1_others_24 rfl hl (by decide) rfl (fun ls hl => ?_)
      exact wkX_X1_others_25 X hr hlk hnm N (kX_X1_others_10 g N n) ih N w3.1 x0 x1 x2 v5 H locs ls _ _ hm hw hS (lv_sub hl [1, 2, 3, 0] rfl)
def kX_X1_others (g : XC) (N : Nat) (S : XS) (x0 : Nat) : Option (XS × Nat) :=
  (xNew S 3 (.inr (10, [.int 0, .null, .int 0]))).bind fun S1 =>
  (kX_J2_init g N S1 (xTop S)).bind fun w2 =>
  kX_X1_others_10 g N N w2 x0 (xTop S) 0
theorem cx_X1_others : yX1_others.cls = RX1 ∧ yX1_others.cls ≠ "java/lang/invoke/MethodHandle" ∧ yX1_others.cls ≠ "java/lang/invoke/VarHandle" ∧ (parseMethodDescriptor yX1_others.desc).map (fun d => d.parameters.length) = some 0 := by decide +kernel
theorem met_X1_others {l : Launch} {g : XC} {D : va_G} {A : Nat → Prop} (N : Nat) (S : XS) (x0 : Nat) (w : XS × Nat) (hm : kX_X1_others g N S x0 = some w) : Met l yX1_others (ws_ yX1_others cX1_others 4 (Option.some (Jvm.ClassFile.FieldType.object "java/util/List"))) (xRm g S 82) (xPre g D A [.ref x0] S) (xQr g D A w) (g.2.1 - xTop S) (g.2.2.1 - xSl S) A := by
  refine x_start (own := RX1) (by decide +kernel) rfl (Nat.le_of_ble_eq_true rfl) (fun p e s m below meth c ls X hr hlk hnm hw hl => ?_)
  obtain ⟨hx, hb, -, hown, hts, -⟩ := id X
  have hl : lv_has ls 4 [(0, .ref x0)] := hl
  have hg : ∀ (H : Heap) (locs : List Loc) (cells slots : Nat), xW g D A S s H → va_S A s.heap H locs → W p l e (xRm g S 82) s m ([.ref x0] : List Value).toArray below meth c H locs cells slots (MQ below (xQr g D A w) ([.ref x0] : List Value).toArray s (g.2.1 - xTop S) (g.2.2.1 - xSl S) A) (F0 m 0 ls []) := by
    intro H locs cells slots hw hS
    unfold kX_X1_others at hm
    obtain ⟨S1, hS1, hm⟩ := ob_s hm
    refine xr_new (N := 3) X hw hS xc10 in_J2 tyJ2_ok q275 q163 q119 (by intro j hj; exact df_J2 j hj) hS1 dX1_others_0 (fun H cells slots hw hS => ?_)
    refine lv_dup hx hb dX1_others_3 rfl ?_
    obtain ⟨w2, hw2, hm⟩ := ob_s hm
    refine xr_retv hS (xr_runI X hw (met_J2_init N S1 (xTop S) w2 hw2) (x_ci X (lv := 2) (by omega) (by decide) rfl cx_J2_init (lw_meth q166) q119 q276 q165) rfl hl.1 rfl (Nat.le_of_ble_eq_true rfl) dX1_others_4) (fun H locs cells slots hw hS => ?_)
    refine lv_astore_n (lv' := [(1, .ref (xTop S)), (0, .ref x0)]) hx hb dX1_others_7 rfl hl (by decide) rfl (fun ls hl => ?_)
    refine lv_iconst (v := 0) hx hb dX1_others_8 (by decide) ?_
    refine lv_istore_n (lv' := [(2, .int 0), (1, .ref (xTop S)), (0, .ref x0)]) hx hb dX1_others_9 rfl hl (by decide) rfl (fun ls hl => ?_)
    exact wkX_X1_others_10 X hr hlk hnm N N w2 x0 (xTop S) 0 H locs ls _ _ hm hw hS (lv_sub hl [2, 1, 0] rfl)
  exact hg _ _ _ _ hw va_S.rf
/-! DripCups.gains -/
def kX_X1_gains_53 (g : XC) (N : Nat) (S : XS) (x0 : Nat) (x1 : Int32) (x2 : Int32) (x3 : Int32) (x4 : Int32) : Option (XS × Nat) :=
  (f_obj S 1 x0 3).bind fun v1 =>
  (f_cls S 2 v1).bind fun u2 =>
  (kX_X3_after g N S v1 12).bind fun w3 =>
  (f_obj w3.1 1 x0 3).bind fun v4 =>
  (f_obj w3.1 2 v4 2).bind fun v5 =>
  (a_int w3.1 0 v5 x1).bind fun v6 =>
  (f_obj w3.1 1 x0 2).bind fun v7 =>
  (f_obj w3.1 2 v7 2).bind fun v8 =>
  (a_int w3.1 0 v8 x1).bind fun v9 =>
  (f_obj w3.1 1 x0 3).bind fun v10 =>
  (f_obj w3.1 2 v10 2).bind fun v11 =>
  (a_int w3.1 0 v11 x2).bind fun v12 =>
  (f_obj w3.1 1 x0 2).bind fun v13 =>
  (f_obj w3.1 2 v13 2).bind fun v14 =>
  (a_int w3.1 0 v14 x2).bind fun v15 =>
  bnd (((v6 - v9) - v12) + v15) fun v16 =>
  (xNewI w3.1 0 2).bind fun S17 =>
  bnd (v16 / 2) fun v18 =>
  (a_putI S17 0 (xTop w3.1) 0 (v18 - x3)).bind fun S19 =>
  bnd ((-v16) / 2) fun v20 =>
  (a_putI S19 0 (xTop w3.1) 1 (v20 - x4)).bind fun S21 =>
  some (S21, (xTop w3.1))
theorem wkX_X1_gains_53 {p : Program} {l : Launch} {e : Env} {s : State} {m : MethodId} {args : Array Value} {below : List Frame} {meth : Method} {c : Code} {g : XC} {D : va_G} {A : Nat → Prop} {S0 : XS} {w : XS × Nat} (X : xX g D A RX1 S0 p s m args c cX1_gains 6) (hr : meth.sig.returnType = (Option.some (Jvm.ClassFile.FieldType.array Jvm.ClassFile.FieldType.int))) (hlk : meth.locks = false) (hnm : meth.name = yX1_gains.name) (N : Nat) :
    ∀ (S : XS) (x0 : Nat) (x1 : Int32) (x2 : Int32) (x3 : Int32) (x4 : Int32) (H : Heap) (locs : List Loc) (ls : Array Slot) (cells slots : Nat), kX_X1_gains_53 g N S x0 x1 x2 x3 x4 = some w → xW g D A S s H → va_S A s.heap H locs → lv_has ls 6 [(0, .ref x0), (1, .int x1), (2, .int x2), (3, .int x3), (4, .int x4)] → W p l e (xRm g S0 82) s m args below meth c H locs cells slots (MQ below (xQr g D A w) args s (g.2.1 - xTop S0) (g.2.2.1 - xSl S0) A) (F0 m 53 ls []) := by
  obtain ⟨hx, hb, -, hown, hts, -⟩ := id X
  intro S x0 x1 x2 x3 x4 H locs ls cells slots hm hw hS hl
  unfold kX_X1_gains_53 at hm
  refine lv_aload_n hx hb dX1_gains_53 rfl (lv_at hl 0 rfl) ?_
  obtain ⟨v1, hv1, hm⟩ := ob_s hm
  refine xr_val X hw xc1 in_X1 3 (by decide) q282 (f_obj_s hv1) dX1_gains_54 ?_
  refine lv_bipush (v := 12) hx hb dX1_gains_57 (by decide) ?_
  obtain ⟨u2, hu2, hm⟩ := ob_s hm
  obtain ⟨w3, hw3, hm⟩ := ob_s hm
  refine xr_retr hS (xr_runV X hw (met_X3_after N S v1 12 w3 hw3) (x_cv X (lv := 81) (by omega) (by decide) cx_X3_after (lw_V q454 q455 q456 q120 q457)) xc2 hu2 rfl hl.1 rfl (Nat.le_of_ble_eq_true rfl) dX1_gains_59) (fun H locs cells slots hw hS => ?_)
  refine lv_pop hx hb dX1_gains_62 rfl ?_
  refine lv_aload_n hx hb dX1_gains_63 rfl (lv_at hl 0 rfl) ?_
  obtain ⟨v4, hv4, hm⟩ := ob_s hm
  refine xr_val X hw xc1 in_X1 3 (by decide) q282 (f_obj_s hv4) dX1_gains_64 ?_
  obtain ⟨v5, hv5, hm⟩ := ob_s hm
  refine xr_valN X hw xc2 in_X3 2 (by decide) q217 (f_obj_s hv5) dX1_gains_67 ?_
  refine lv_iload_n hx hb dX1_gains_70 rfl (lv_at hl 1 rfl) ?_
  obtain ⟨v6, hv6, hm⟩ := ob_s hm
  refine xr_iald X hw hv6 dX1_gains_71 ?_
  refine lv_aload_n hx hb dX1_gains_72 rfl (lv_at hl 0 rfl) ?_
  obtain ⟨v7, hv7, hm⟩ := ob_s hm
  refine xr_val X hw xc1 in_X1 2 (by decide) q281 (f_obj_s hv7) dX1_gains_73 ?_
  obtain ⟨v8, hv8, hm⟩ := ob_s hm
  refine xr_valN X hw xc2 in_X3 2 (by decide) q217 (f_obj_s hv8) dX1_gains_76 ?_
  refine lv_iload_n hx hb dX1_gains_79 rfl (lv_at hl 1 rfl) ?_
  obtain ⟨v9, hv9, hm⟩ := ob_s hm
  refine xr_iald X hw hv9 dX1_gains_80 ?_
  refine lv_isub hx hb dX1_gains_81 ?_
  refine lv_aload_n hx hb dX1_gains_82 rfl (lv_at hl 0 rfl) ?_
  obtain ⟨v10, hv10, hm⟩ := ob_s hm
  refine xr_val X hw xc1 in_X1 3 (by decide) q282 (f_obj_s hv10) dX1_gains_83 ?_
  obtain ⟨v11, hv11, hm⟩ := ob_s hm
  refine xr_valN X hw xc2 in_X3 2 (by decide) q217 (f_obj_s hv11) dX1_gains_86 ?_
  refine lv_iload_n hx hb dX1_gains_89 rfl (lv_at hl 2 rfl) ?_
  obtain ⟨v12, hv12, hm⟩ := ob_s hm
  refine xr_iald X hw hv12 dX1_gains_90 ?_
  refine lv_isub hx hb dX1_gains_91 ?_
  refine lv_aload_n hx hb dX1_gains_92 rfl (lv_at hl 0 rfl) ?_
  obtain ⟨v13, hv13, hm⟩ := ob_s hm
  refine xr_val X hw xc1 in_X1 2 (by decide) q281 (f_obj_s hv13) dX1_gains_93 ?_
  obtain ⟨v14, hv14, hm⟩ := ob_s hm
  refine xr_valN X hw xc2 in_X3 2 (by decide) q217 (f_obj_s hv14) dX1_gains_96 ?_
  refine lv_iload_n hx hb dX1_gains_99 rfl (lv_at hl 2 rfl) ?_
  obtain ⟨v15, hv15, hm⟩ := ob_s hm
  refine xr_iald X hw hv15 dX1_gains_100 ?_
  refine lv_iadd hx hb dX1_gains_101 ?_
  refine lv_topi (fun v16 ev16 => ?_)
  replace hm := bnd_s hm ev16
  refine lv_istore (lv' := [(5, .int v16), (0, .ref x0), (1, .int x1), (2, .int x2), (3, .int x3), (4, .int x4)]) hx hb dX1_gains_102 hl (by decide) rfl (fun ls hl => ?_)
  refine lv_iconst (v := 2) hx hb dX1_gains_104 (by decide) ?_
  obtain ⟨S17, hS17, hm⟩ := ob_s hm
  refine xr_newI (atype := .int) X hw hS (by decide) rfl rfl (by decide) q_arr_int hS17 dX1_gains_105 (fun H cells slots hw hS => ?_)
  refine lv_dup hx hb dX1_gains_107 rfl ?_
  refine lv_iconst (v := 0) hx hb dX1_gains_108 (by decide) ?_
  refine lv_iload hx hb dX1_gains_109 (lv_at hl 0 rfl) ?_
  refine lv_iconst (v := 2) hx hb dX1_gains_111 (by decide) ?_
  refine lv_idiv hx hb dX1_gains_112 (by decide) ?_
  refine lv_topi (fun v18 ev18 => ?_)
  replace hm := bnd_s hm ev18
  refine lv_iload_n hx hb dX1_gains_113 rfl (lv_at hl 4 rfl) ?_
  refine lv_isub hx hb dX1_gains_114 ?_
  obtain ⟨S19, hS19, hm⟩ := ob_s hm
  refine xr_iast X hw hS hS19 dX1_gains_115 (fun H locs hw hS => ?_)
  refine lv_dup hx hb dX1_gains_116 rfl ?_
  refine lv_iconst (v := 1) hx hb dX1_gains_117 (by decide) ?_
  refine lv_iload hx hb dX1_gains_118 (lv_at hl 0 rfl) ?_
  refine lv_ineg hx hb dX1_gains_120 ?_
  refine lv_iconst (v := 2) hx hb dX1_gains_121 (by decide) ?_
  refine lv_idiv hx hb dX1_gains_122 (by decide) ?_
  refine lv_topi (fun v20 ev20 => ?_)
  replace hm := bnd_s hm ev20
  refine lv_iload hx hb dX1_gains_123 (lv_at hl 5 rfl) ?_
  refine lv_isub hx hb dX1_gains_125 ?_
  obtain ⟨S21, hS21, hm⟩ := ob_s hm
  refine xr_iast X hw hS hS21 dX1_gains_126 (fun H locs hw hS => ?_)
  obtain rfl := Option.some.inj hm
  exact xr_aret X hr (by first | exact Or.inl ⟨_, rfl⟩ | exact Or.inr ⟨_, rfl⟩) hlk hw hS dX1_gains_127
def kX_X1_gains_32 (g : XC) (N : Nat) (S : XS) (x0 : Nat) (x1 : Int32) (x2 : Int32) (x3 : Int32) (x4 : Int32) : Option (XS × Nat) :=
  if x4 = 1 then
    (f_obj S 1 x0 3).bind fun v2 =>
    (f_int S 2 v2 7).bind fun v3 =>
    (f_putI S 2 v2 7 (v3 ||| ((1 : Int32) <<< (x2 &&& 31)))).bind fun S4 =>
    kX_X1_gains_53 g N S4 x0 x1 x2 x3 x4
  else
    kX_X1_gains_53 g N S x0 x1 x2 x3 x4
theorem wkX_X1_gains_32 {p : Program} {l : Launch} {e : Env} {s : State} {m : MethodId} {args : Array Value} {below : List Frame} {meth : Method} {c : Code} {g : XC} {D : va_G} {A : Nat → Prop} {S0 : XS} {w : XS × Nat} (X : xX g D A RX1 S0 p s m args c cX1_gains 6) (hr : meth.sig.returnType = (Option.some (Jvm.ClassFile.FieldType.array Jvm.ClassFile.FieldType.int))) (hlk : meth.locks = false) (hnm : meth.name = yX1_gains.name) (N : Nat) :
    ∀ (S : XS) (x0 : Nat) (x1 : Int32) (x2 : Int32) (x3 : Int32) (x4 : Int32) (H : Heap) (locs : List Loc) (ls : Array Slot) (cells slots : Nat), kX_X1_gains_32 g N S x0 x1 x2 x3 x4 = some w → xW g D A S s H → va_S A s.heap H locs → lv_has ls 6 [(0, .ref x0), (1, .int x1), (2, .int x2), (3, .int x3), (4, .int x4)] → W p l e (xRm g S0 82) s m args below meth c H locs cells slots (MQ below (xQr g D A w) args s (g.2.1 - xTop S0) (g.2.2.1 - xSl S0) A) (F0 m 32 ls []) := by
  obtain ⟨hx, hb, -, hown, hts, -⟩ := id X
  intro S x0 x1 x2 x3 x4 H locs ls cells slots hm hw hS hl
  unfold kX_X1_gains_32 at hm
  refine lv_iload hx hb dX1_gains_32 (lv_at hl 4 rfl) ?_
  refine lv_iconst (v := 1) hx hb dX1_gains_34 (by decide) ?_
  refine lv_icmp_ne (tgt := 53) hx hb dX1_gains_35 (by decide) (fun c1 => ?_) (fun c1 => ?_)
  · replace hm := if_f c1 hm
    exact wkX_X1_gains_53 X hr hlk hnm N S x0 x1 x2 x3 x4 H locs ls _ _ hm hw hS (lv_sub hl [0, 1, 2, 3, 4] rfl)
  · replace hm := if_t c1 hm
    refine lv_aload_n hx hb dX1_gains_38 rfl (lv_at hl 0 rfl) ?_
    obtain ⟨v2, hv2, hm⟩ := ob_s hm
    refine xr_val X hw xc1 in_X1 3 (by decide) q282 (f_obj_s hv2) dX1_gains_39 ?_
    refine lv_dup hx hb dX1_gains_42 rfl ?_
    obtain ⟨v3, hv3, hm⟩ := ob_s hm
    refine xr_valN X hw xc2 in_X3 7 (by decide) q228 (f_int_s hv3) dX1_gains_43 ?_
    refine lv_iconst (v := 1) hx hb dX1_gains_46 (by decide) ?_
    refine lv_iload_n hx hb dX1_gains_47 rfl (lv_at hl 2 rfl) ?_
    refine lv_ishl hx hb dX1_gains_48 ?_
    refine lv_ior hx hb dX1_gains_49 ?_
    obtain ⟨S4, hS4, hm⟩ := ob_s hm
    refine xr_putIN X hw hS xc2 in_X3 tyX3_ok nmX3 7 (by decide) q228 rfl (tyX3_ok 7 (by decide)) rfl rfl hS4 dX1_gains_50 (fun H locs hw hS => ?_)
    exact wkX_X1_gains_53 X hr hlk hnm N S4 x0 x1 x2 x3 x4 H locs ls _ _ hm hw hS (lv_sub hl [0, 1, 2, 3, 4] rfl)
def kX_X1_gains (g : XC) (N : Nat) (S : XS) (x0 : Nat) (x1 : Int32) (x2 : Int32) (x3 : Int32) (x4 : Int32) : Option (XS × Nat) :=
  (f_obj S 1 x0 3).bind fun v1 =>
  (f_obj S 1 x0 2).bind fun v2 =>
  (f_cls S 2 v1).bind fun u3 =>
  (kX_X3_be g N S v1 v2).bind fun w4 =>
  if x3 = 1 then
    (f_obj w4.1 1 x0 3).bind fun v6 =>
    (f_int w4.1 2 v6 7).bind fun v7 =>
    (f_putI w4.1 2 v6 7 (v7 ||| ((1 : Int32) <<< (x1 &&& 31)))).bind fun S8 =>
    kX_X1_gains_32 g N S8 x0 x1 x2 x3 x4
  else
    kX_X1_gains_32 g N w4.1 x0 x1 x2 x3 x4
theorem cx_X1_gains : yX1_gains.cls = RX1 ∧ yX1_gains.cls ≠ "java/lang/invoke/MethodHandle" ∧ yX1_gains.cls ≠ "java/lang/invoke/VarHandle" ∧ (parseMethodDescriptor yX1_gains.desc).map (fun d => d.parameters.length) = some 4 := by decide +kernel
theorem met_X1_gains {l : Launch} {g : XC} {D : va_G} {A : Nat → Prop} (N : Nat) (S : XS) (x0 : Nat) (x1 : Int32) (x2 : Int32) (x3 : Int32) (x4 : Int32) (w : XS × Nat) (hm : kX_X1_gains g N S x0 x1 x2 x3 x4 = some w) : Met l yX1_gains (ws_ yX1_gains cX1_gains 6 (Option.some (Jvm.ClassFile.FieldType.array Jvm.ClassFile.FieldType.int))) (xRm g S 82) (xPre g D A [.ref x0, .int x1, .int x2, .int x3, .int x4] S) (xQr g D A w) (g.2.1 - xTop S) (g.2.2.1 - xSl S) A := by
  refine x_start (own := RX1) (by decide +kernel) rfl (Nat.le_of_ble_eq_true rfl) (fun p e s m below meth c ls X hr hlk hnm hw hl => ?_)
  obtain ⟨hx, hb, -, hown, hts, -⟩ := id X
  have hl : lv_has ls 6 [(0, .ref x0), (1, .int x1), (2, .int x2), (3, .int x3), (4, .int x4)] := hl
  have hg : ∀ (H : Heap) (locs : List Loc) (cells slots : Nat), xW g D A S s H → va_S A s.heap H locs → W p l e (xRm g S 82) s m ([.ref x0, .int x1, .int x2, .int x3, .int x4] : List Value).toArray below meth c H locs cells slots (MQ below (xQr g D A w) ([.ref x0, .int x1, .int x2, .int x3, .int x4] : List Value).toArray s (g.2.1 - xTop S) (g.2.2.1 - xSl S) A) (F0 m 0 ls []) := by
    intro H locs cells slots hw hS
    unfold kX_X1_gains at hm
    refine lv_aload_n hx hb dX1_gains_0 rfl (lv_at hl 0 rfl) ?_
    obtain ⟨v1, hv1, hm⟩ := ob_s hm
    refine xr_val X hw xc1 in_X1 3 (by decide) q282 (f_obj_s hv1) dX1_gains_1 ?_
    refine lv_aload_n hx hb dX1_gains_4 rfl (lv_at hl 0 rfl) ?_
    obtain ⟨v2, hv2, hm⟩ := ob_s hm
    refine xr_val X hw xc1 in_X1 2 (by decide) q281 (f_obj_s hv2) dX1_gains_5 ?_
    obtain ⟨u3, hu3, hm⟩ := ob_s hm
    obtain ⟨w4, hw4, hm⟩ := ob_s hm
    refine xr_retr hS (xr_runV X hw (met_X3_be N S v1 v2 w4 hw4) (x_cv X (lv := 0) (by omega) (by decide) cx_X3_be (lw_V q608 q354 q355 q120 q356)) xc2 hu3 rfl hl.1 rfl (Nat.le_of_ble_eq_true rfl) dX1_gains_8) (fun H locs cells slots hw hS => ?_)
    refine lv_pop hx hb dX1_gains_11 rfl ?_
    refine lv_iload_n hx hb dX1_gains_12 rfl (lv_at hl 3 rfl) ?_
    refine lv_iconst (v := 1) hx hb dX1_gains_13 (by decide) ?_
    refine lv_icmp_ne (tgt := 32) hx hb dX1_gains_14 (by decide) (fun c5 => ?_) (fun c5 => ?_)
    · replace hm := if_f c5 hm
      exact wkX_X1_gains_32 X hr hlk hnm N w4.1 x0 x1 x2 x3 x4 H locs ls _ _ hm hw hS (lv_sub hl [0, 1, 2, 3, 4] rfl)
    · replace hm := if_t c5 hm
      refine lv_aload_n hx hb dX1_gains_17 rfl (lv_at hl 0 rfl) ?_
      obtain ⟨v6, hv6, hm⟩ := ob_s hm
      refine xr_val X hw xc1 in_X1 3 (by decide) q282 (f_obj_s hv6) dX1_gains_18 ?_
      refine lv_dup hx hb dX1_gains_21 rfl ?_
      obtain ⟨v7, hv7, hm⟩ := ob_s hm
      refine xr_valN X hw xc2 in_X3 7 (by decide) q228 (f_int_s hv7) dX1_gains_22 ?_
      refine lv_iconst (v := 1) hx hb dX1_gains_25 (by decide) ?_
      refine lv_iload_n hx hb dX1_gains_26 rfl (lv_at hl 1 rfl) ?_
      refine lv_ishl hx hb dX1_gains_27 ?_
      refine lv_ior hx hb dX1_gains_28 ?_
      obtain ⟨S8, hS8, hm⟩ := ob_s hm
      refine xr_putIN X hw hS xc2 in_X3 tyX3_ok nmX3 7 (by decide) q228 rfl (tyX3_ok 7 (by decide)) rfl rfl hS8 dX1_gains_29 (fun H locs hw hS => ?_)
      exact wkX_X1_gains_32 X hr hlk hnm N S8 x0 x1 x2 x3 x4 H locs ls _ _ hm hw hS (lv_sub hl [0, 1, 2, 3, 4] rfl)
  exact hg _ _ _ _ hw va_S.rf
/-! DripCups.draw -/
def kX_X1_draw (g : XC) (N : Nat) (S : XS) (x0 : Nat) (x1 : Int32) : Option (XS × Int32) :=
  (f_int S 1 x0 13).bind fun v1 =>
  (f_putI S 1 x0 13 ((v1 * 1103515245) + 12345)).bind fun S2 =>
  (f_int S2 1 x0 13).bind fun v3 =>
  if x1 = 0 then none else
  bnd (((v3 >>> ((16 : Int32) &&& 31)) &&& 32767) - ((v3 >>> ((16 : Int32) &&& 31)) &&& 32767) / x1 * x1) fun v5 =>
  some (S2, v5)
theorem cx_X1_draw : yX1_draw.cls = RX1 ∧ yX1_draw.cls ≠ "java/lang/invoke/MethodHandle" ∧ yX1_draw.cls ≠ "java/lang/invoke/VarHandle" ∧ (parseMethodDescriptor yX1_draw.desc).map (fun d => d.parameters.length) = some 1 := by decide +kernel
theorem met_X1_draw {l : Launch} {g : XC} {D : va_G} {A : Nat → Prop} (N : Nat) (S : XS) (x0 : Nat) (x1 : Int32) (w : XS × Int32) (hm : kX_X1_draw g N S x0 x1 = some w) : Met l yX1_draw (ws_ yX1_draw cX1_draw 2 (Option.some Jvm.ClassFile.FieldType.int)) (xRm g S 0) (xPre g D A [.ref x0, .int x1] S) (xQi g D A w) (g.2.1 - xTop S) (g.2.2.1 - xSl S) A := by
  refine x_start (own := RX1) (by decide +kernel) rfl (Nat.le_of_ble_eq_true rfl) (fun p e s m below meth c ls X hr hlk hnm hw hl => ?_)
  obtain ⟨hx, hb, -, hown, hts, -⟩ := id X
  have hl : lv_has ls 2 [(0, .ref x0), (1, .int x1)] := hl
  have hg : ∀ (H : Heap) (locs : List Loc) (cells slots : Nat), xW g D A S s H → va_S A s.heap H locs → W p l e (xRm g S 0) s m ([.ref x0, .int x1] : List Value).toArray below meth c H locs cells slots (MQ below (xQi g D A w) ([.ref x0, .int x1] : List Value).toArray s (g.2.1 - xTop S) (g.2.2.1 - xSl S) A) (F0 m 0 ls []) := by
    intro H locs cells slots hw hS
    unfold kX_X1_draw at hm
    refine lv_aload_n hx hb dX1_draw_0 rfl (lv_at hl 0 rfl) ?_
    refine lv_aload_n hx hb dX1_draw_1 rfl (lv_at hl 0 rfl) ?_
    obtain ⟨v1, hv1, hm⟩ := ob_s hm
    refine xr_val X hw xc1 in_X1 13 (by decide) q293 (f_int_s hv1) dX1_draw_2 ?_
    refine lv_ldcw (v := 1103515245) hx hb hown (hts _ q1499) dX1_draw_5 ?_
    refine lv_imul hx hb dX1_draw_8 ?_
    refine lv_sipush (v := 12345) hx hb dX1_draw_9 (by decide) ?_
    refine lv_iadd hx hb dX1_draw_12 ?_
    obtain ⟨S2, hS2, hm⟩ := ob_s hm
    refine xr_putI X hw hS xc1 in_X1 tyX1_ok nmX1 13 (by decide) q293 rfl (tyX1_ok 13 (by decide)) rfl rfl hS2 dX1_draw_13 (fun H locs hw hS => ?_)
    refine lv_aload_n hx hb dX1_draw_16 rfl (lv_at hl 0 rfl) ?_
    obtain ⟨v3, hv3, hm⟩ := ob_s hm
    refine xr_val X hw xc1 in_X1 13 (by decide) q293 (f_int_s hv3) dX1_draw_17 ?_
    refine lv_bipush (v := 16) hx hb dX1_draw_20 (by decide) ?_
    refine lv_ishr hx hb dX1_draw_22 ?_
    refine lv_sipush (v := 32767) hx hb dX1_draw_23 (by decide) ?_
    refine lv_iand hx hb dX1_draw_26 ?_
    refine lv_iload_n hx hb dX1_draw_27 rfl (lv_at hl 1 rfl) ?_
    by_cases c4 : x1 = 0
    · replace hm := if_t c4 hm
      cases hm
    replace hm := if_f c4 hm
    refine lv_irem hx hb dX1_draw_28 c4 ?_
    refine lv_topi (fun v5 ev5 => ?_)
    replace hm := bnd_s hm ev5
    obtain rfl := Option.some.inj hm
    exact xr_iret (v := v5) X hr hlk hw hS rfl dX1_draw_29
  exact hg _ _ _ _ hw va_S.rf
/-! DripCups$Night.crack -/
def kX_X3_crack (g : XC) (N : Nat) (S : XS) (x0 : Nat) (x1 : Int32) (x2 : Int32) : Option (XS) :=
  (f_obj S 2 x0 0).bind fun v1 =>
  (a_putI S 0 v1 x1 x2).bind fun S2 =>
  (f_obj S2 2 x0 1).bind fun v3 =>
  (f_obj S2 2 x0 1).bind fun v4 =>
  (a_int S2 0 v4 x1).bind fun v5 =>
  bnd (if ((x2 - 1) : Int32) < v5 then (x2 - 1) else v5) fun v6 =>
  (a_putI S2 0 v3 x1 v6).bind fun S7 =>
  some S7
theorem cx_X3_crack : yX3_crack.cls = RX3 ∧ yX3_crack.cls ≠ "java/lang/invoke/MethodHandle" ∧ yX3_crack.cls ≠ "java/lang/invoke/VarHandle" ∧ (parseMethodDescriptor yX3_crack.desc).map (fun d => d.parameters.length) = some 2 := by decide +kernel
theorem met_X3_crack {l : Launch} {g : XC} {D : va_G} {A : Nat → Prop} (N : Nat) (S : XS) (x0 : Nat) (x1 : Int32) (x2 : Int32) (w : XS) (hm : kX_X3_crack g N S x0 x1 x2 = some w) : Met l yX3_crack (ws_ yX3_crack cX3_crack 3 (Option.none : Option Jvm.ClassFile.FieldType)) (xRm g S 1) (xPre g D A [.ref x0, .int x1, .int x2] S) (xQv g D A w) (g.2.1 - xTop S) (g.2.2.1 - xSl S) A := by
  refine x_start (own := RX3) (by decide +kernel) rfl (Nat.le_of_ble_eq_true rfl) (fun p e s m below meth c ls X hr hlk hnm hw hl => ?_)
  obtain ⟨hx, hb, -, hown, hts, -⟩ := id X
  have hl : lv_has ls 3 [(0, .ref x0), (1, .int x1), (2, .int x2)] := hl
  have hg : ∀ (H : Heap) (locs : List Loc) (cells slots : Nat), xW g D A S s H → va_S A s.heap H locs → W p l e (xRm g S 1) s m ([.ref x0, .int x1, .int x2] : List Value).toArray below meth c H locs cells slots (MQ below (xQv g D A w) ([.ref x0, .int x1, .int x2] : List Value).toArray s (g.2.1 - xTop S) (g.2.2.1 - xSl S) A) (F0 m 0 ls []) := by
    intro H locs cells slots hw hS
    unfold kX_X3_crack at hm
    refine lv_aload_n hx hb dX3_crack_0 rfl (lv_at hl 0 rfl) ?_
    obtain ⟨v1, hv1, hm⟩ := ob_s hm
    refine xr_val X hw xc2 in_X3 0 (by decide) q210 (f_obj_s hv1) dX3_crack_1 ?_
    refine lv_iload_n hx hb dX3_crack_4 rfl (lv_at hl 1 rfl) ?_
    refine lv_iload_n hx hb dX3_crack_5 rfl (lv_at hl 2 rfl) ?_
    obtain ⟨S2, hS2, hm⟩ := ob_s hm
    refine xr_iast X hw hS hS2 dX3_crack_6 (fun H locs hw hS => ?_)
    refine lv_aload_n hx hb dX3_crack_7 rfl (lv_at hl 0 rfl) ?_
    obtain ⟨v3, hv3, hm⟩ := ob_s hm
    refine xr_val X hw xc2 in_X3 1 (by decide) q213 (f_obj_s hv3) dX3_crack_8 ?_
    refine lv_iload_n hx hb dX3_crack_11 rfl (lv_at hl 1 rfl) ?_
    refine lv_aload_n hx hb dX3_crack_12 rfl (lv_at hl 0 rfl) ?_
    obtain ⟨v4, hv4, hm⟩ := ob_s hm
    refine xr_val X hw xc2 in_X3 1 (by decide) q213 (f_obj_s hv4) dX3_crack_13 ?_
    refine lv_iload_n hx hb dX3_crack_16 rfl (lv_at hl 1 rfl) ?_
    obtain ⟨v5, hv5, hm⟩ := ob_s hm
    refine xr_iald X hw hv5 dX3_crack_17 ?_
    refine lv_iload_n hx hb dX3_crack_18 rfl (lv_at hl 2 rfl) ?_
    refine lv_iconst (v := 1) hx hb dX3_crack_19 (by decide) ?_
    refine lv_isub hx hb dX3_crack_20 ?_
    refine xr_mmin X hw hl.1 q573 q418 q127 q419 (Nat.le_of_ble_eq_true rfl) dX3_crack_21 (fun cells slots => ?_)
    refine lv_topi (fun v6 ev6 => ?_)
    replace hm := bnd_s hm ev6
    obtain ⟨S7, hS7, hm⟩ := ob_s hm
    refine xr_iast X hw hS hS7 dX3_crack_24 (fun H locs hw hS => ?_)
    obtain rfl := Option.some.inj hm
    exact xr_vret X hr hlk hw hS dX3_crack_25
  exact hg _ _ _ _ hw va_S.rf
/-! DripCups.befalls -/
def kX_X1_befalls_107 (g : XC) (N : Nat) (S : XS) (t0 : Nat) (t1 : Int32) (t2 : Int32) : Option (XS) :=
  (f_cls S 2 t0).bind fun u1 =>
  (kX_X3_lead g N S t0 t1 t2).bind fun w2 =>
  some w2
theorem wkX_X1_befalls_107 {p : Program} {l : Launch} {e : Env} {s : State} {m : MethodId} {args : Array Value} {below : List Frame} {meth : Method} {c : Code} {g : XC} {D : va_G} {A : Nat → Prop} {S0 : XS} {w : XS} (X : xX g D A RX1 S0 p s m args c cX1_befalls 4) (hr : meth.sig.returnType = (Option.none : Option Jvm.ClassFile.FieldType)) (hlk : meth.locks = false) (hnm : meth.name = yX1_befalls.name) (N : Nat) :
    ∀ (S : XS) (t0 : Nat) (t1 : Int32) (t2 : Int32) (H : Heap) (locs : List Loc) (ls : Array Slot) (cells slots : Nat), kX_X1_befalls_107 g N S t0 t1 t2 = some w → xW g D A S s H → va_S A s.heap H locs → lv_has ls 4 [] → W p l e (xRm g S0 2) s m args below meth c H locs cells slots (MQ below (xQv g D A w) args s (g.2.1 - xTop S0) (g.2.2.1 - xSl S0) A) (F0 m 107 ls [.int t2, .int t1, .ref t0]) := by
  obtain ⟨hx, hb, -, hown, hts, -⟩ := id X
  intro S t0 t1 t2 H locs ls cells slots hm hw hS hl
  unfold kX_X1_befalls_107 at hm
  obtain ⟨u1, hu1, hm⟩ := ob_s hm
  obtain ⟨w2, hw2, hm⟩ := ob_s hm
  refine xr_retv hS (xr_runV X hw (met_X3_lead N S t0 t1 t2 w2 hw2) (x_cv X (lv := 0) (by omega) (by decide) cx_X3_lead (lw_V q1266 q1267 q1268 q120 q1269)) xc2 hu1 rfl hl.1 rfl (Nat.le_of_ble_eq_true rfl) dX1_befalls_107) (fun H locs cells slots hw hS => ?_)
  obtain rfl := Option.some.inj hm
  exact xr_vret X hr hlk hw hS dX1_befalls_110
def kX_X1_befalls_75 (g : XC) (N : Nat) (S : XS) (x0 : Nat) (x1 : Int32) (x2 : Int32) : Option (XS) :=
  if x1 = 2 then
    (f_obj S 1 x0 1).bind fun v2 =>
    (f_cls S 3 v2).bind fun u3 =>
    (kX_X2_cups g N S v2).bind fun w4 =>
    (f_cls w4.1 1 x0).bind fun u5 =>
    (kX_X1_draw g N w4.1 x0 w4.2).bind fun w6 =>
    (f_obj w6.1 1 x0 3).bind fun v7 =>
    if w6.2 ≤ x2 then
      kX_X1_befalls_107 g N w6.1 v7 x2 (-1)
    else
      kX_X1_befalls_107 g N w6.1 v7 x2 w6.2
  else
    some S
theorem wkX_X1_befalls_75 {p : Program} {l : Launch} {e : Env} {s : State} {m : MethodId} {args : Array Value} {below : List Frame} {meth : Method} {c : Code} {g : XC} {D : va_G} {A : Nat → Prop} {S0 : XS} {w : XS} (X : xX g D A RX1 S0 p s m args c cX1_befalls 4) (hr : meth.sig.returnType = (Option.none : Option Jvm.ClassFile.FieldType)) (hlk : meth.locks = false) (hnm : meth.name = yX1_befalls.name) (N : Nat) :
    ∀ (S : XS) (x0 : Nat) (x1 : Int32) (x2 : Int32) (H : Heap) (locs : List Loc) (ls : Array Slot) (cells slots : Nat), kX_X1_befalls_75 g N S x0 x1 x2 = some w → xW g D A S s H → va_S A s.heap H locs → lv_has ls 4 [(0, .ref x0), (1, .int x1), (2, .int x2)] → W p l e (xRm g S0 2) s m args below meth c H locs cells slots (MQ below (xQv g D A w) args s (g.2.1 - xTop S0) (g.2.2.1 - xSl S0) A) (F0 m 75 ls []) := by
  obtain ⟨hx, hb, -, hown, hts, -⟩ := id X
  intro S x0 x1 x2 H locs ls cells slots hm hw hS hl
  unfold kX_X1_befalls_75 at hm
  refine lv_iload_n hx hb dX1_befalls_75 rfl (lv_at hl 1 rfl) ?_
  refine lv_iconst (v := 2) hx hb dX1_befalls_76 (by decide) ?_
  refine lv_icmp_ne (tgt := 110) hx hb dX1_befalls_77 (by decide) (fun c1 => ?_) (fun c1 => ?_)
  · replace hm := if_f c1 hm
    obtain rfl := Option.some.inj hm
    exact xr_vret X hr hlk hw hS dX1_befalls_110
  · replace hm := if_t c1 hm
    refine lv_aload_n hx hb dX1_befalls_80 rfl (lv_at hl 0 rfl) ?_
    refine lv_aload_n hx hb dX1_befalls_81 rfl (lv_at hl 0 rfl) ?_
    obtain ⟨v2, hv2, hm⟩ := ob_s hm
    refine xr_val X hw xc1 in_X1 1 (by decide) q279 (f_obj_s hv2) dX1_befalls_82 ?_
    obtain ⟨u3, hu3, hm⟩ := ob_s hm
    obtain ⟨w4, hw4, hm⟩ := ob_s hm
    refine xr_reti hS (xr_runV X hw (met_X2_cups N S v2 w4 hw4) (x_cv X (lv := 1) (by omega) (by decide) cx_X2_cups (lw_V q1172 q463 q464 q116 q465)) xc3 hu3 rfl hl.1 rfl (Nat.le_of_ble_eq_true rfl) dX1_befalls_85) (fun H locs cells slots hw hS => ?_)
    obtain ⟨u5, hu5, hm⟩ := ob_s hm
    obtain ⟨w6, hw6, hm⟩ := ob_s hm
    refine xr_reti hS (xr_runV X hw (met_X1_draw N w4.1 x0 w4.2 w6 hw6) (x_cv X (lv := 0) (by omega) (by decide) cx_X1_draw (lw_V q1495 q1497 qs52 q115 q1498)) xc1 hu5 rfl hl.1 rfl (Nat.le_of_ble_eq_true rfl) dX1_befalls_88) (fun H locs cells slots hw hS => ?_)
    refine lv_istore_n (lv' := [(3, .int w6.2), (0, .ref x0), (1, .int x1), (2, .int x2)]) hx hb dX1_befalls_91 rfl hl (by decide) rfl (fun ls hl => ?_)
    refine lv_aload_n hx hb dX1_befalls_92 rfl (lv_at hl 1 rfl) ?_
    obtain ⟨v7, hv7, hm⟩ := ob_s hm
    refine xr_val X hw xc1 in_X1 3 (by decide) q282 (f_obj_s hv7) dX1_befalls_93 ?_
    refine lv_iload_n hx hb dX1_befalls_96 rfl (lv_at hl 3 rfl) ?_
    refine lv_iload_n hx hb dX1_befalls_97 rfl (lv_at hl 0 rfl) ?_
    refine lv_iload_n hx hb dX1_befalls_98 rfl (lv_at hl 3 rfl) ?_
    refine lv_icmp_le (tgt := 106) hx hb dX1_befalls_99 (by decide) (fun c8 => ?_) (fun c8 => ?_)
    · replace hm := if_t c8 hm
      refine lv_iconst (v := (-1)) hx hb dX1_befalls_106 (by decide) ?_
      exact wkX_X1_befalls_107 X hr hlk hnm N w6.1 v7 x2 (-1) H locs ls _ _ hm hw hS (lv_sub hl [] rfl)
    · replace hm := if_f c8 hm
      refine lv_iload_n hx hb dX1_befalls_102 rfl (lv_at hl 0 rfl) ?_
      refine lv_goto (tgt := 107) hx hb dX1_befalls_103 (by decide) ?_
      exact wkX_X1_befalls_107 X hr hlk hnm N w6.1 v7 x2 w6.2 H locs ls _ _ hm hw hS (lv_sub hl [] rfl)
def kX_X1_befalls_54 (g : XC) (N : Nat) (S : XS) (x0 : Nat) (x1 : Int32) (x2 : Int32) : Option (XS) :=
  if x1 = 1 then
    (f_obj S 1 x0 3).bind fun v2 =>
    (f_cls S 1 x0).bind fun u3 =>
    (kX_X1_draw g N S x0 30).bind fun w4 =>
    (f_cls w4.1 2 v2).bind fun u5 =>
    (kX_X3_crack g N w4.1 v2 x2 (w4.2 + 1)).bind fun w6 =>
    kX_X1_befalls_75 g N w6 x0 x1 x2
  else
    kX_X1_befalls_75 g N S x0 x1 x2
theorem wkX_X1_befalls_54 {p : Program} {l : Launch} {e : Env} {s : State} {m : MethodId} {args : Array Value} {below : List Frame} {meth : Method} {c : Code} {g : XC} {D : va_G} {A : Nat → Prop} {S0 : XS} {w : XS} (X : xX g D A RX1 S0 p s m args c cX1_befalls 4) (hr : meth.sig.returnType = (Option.none : Option Jvm.ClassFile.FieldType)) (hlk : meth.locks = false) (hnm : meth.name = yX1_befalls.name) (N : Nat) :
    ∀ (S : XS) (x0 : Nat) (x1 : Int32) (x2 : Int32) (H : Heap) (locs : List Loc) (ls : Array Slot) (cells slots : Nat), kX_X1_befalls_54 g N S x0 x1 x2 = some w → xW g D A S s H → va_S A s.heap H locs → lv_has ls 4 [(0, .ref x0), (1, .int x1), (2, .int x2)] → W p l e (xRm g S0 2) s m args below meth c H locs cells slots (MQ below (xQv g D A w) args s (g.2.1 - xTop S0) (g.2.2.1 - xSl S0) A) (F0 m 54 ls []) := by
  obtain ⟨hx, hb, -, hown, hts, -⟩ := id X
  intro S x0 x1 x2 H locs ls cells slots hm hw hS hl
  unfold kX_X1_befalls_54 at hm
  refine lv_iload_n hx hb dX1_befalls_54 rfl (lv_at hl 1 rfl) ?_
  refine lv_iconst (v := 1) hx hb dX1_befalls_55 (by decide) ?_
  refine lv_icmp_ne (tgt := 75) hx hb dX1_befalls_56 (by decide) (fun c1 => ?_) (fun c1 => ?_)
  · replace hm := if_f c1 hm
    exact wkX_X1_befalls_75 X hr hlk hnm N S x0 x1 x2 H locs ls _ _ hm hw hS (lv_sub hl [0, 1, 2] rfl)
  · replace hm := if_t c1 hm
    refine lv_aload_n hx hb dX1_befalls_59 rfl (lv_at hl 0 rfl) ?_
    obtain ⟨v2, hv2, hm⟩ := ob_s hm
    refine xr_val X hw xc1 in_X1 3 (by decide) q282 (f_obj_s hv2) dX1_befalls_60 ?_
    refine lv_iload_n hx hb dX1_befalls_63 rfl (lv_at hl 2 rfl) ?_
    refine lv_aload_n hx hb dX1_befalls_64 rfl (lv_at hl 0 rfl) ?_
    refine lv_bipush (v := 30) hx hb dX1_befalls_65 (by decide) ?_
    obtain ⟨u3, hu3, hm⟩ := ob_s hm
    obtain ⟨w4, hw4, hm⟩ := ob_s hm
    refine xr_reti hS (xr_runV X hw (met_X1_draw N S x0 30 w4 hw4) (x_cv X (lv := 0) (by omega) (by decide) cx_X1_draw (lw_V q1495 q1497 qs52 q115 q1498)) xc1 hu3 rfl hl.1 rfl (Nat.le_of_ble_eq_true rfl) dX1_befalls_67) (fun H locs cells slots hw hS => ?_)
    refine lv_iconst (v := 1) hx hb dX1_befalls_70 (by decide) ?_
    refine lv_iadd hx hb dX1_befalls_71 ?_
    obtain ⟨u5, hu5, hm⟩ := ob_s hm
    obtain ⟨w6, hw6, hm⟩ := ob_s hm
    refine xr_retv hS (xr_runV X hw (met_X3_crack N w4.1 v2 x2 (w4.2 + 1) w6 hw6) (x_cv X (lv := 1) (by omega) (by decide) cx_X3_crack (lw_V q1295 q1296 q1297 q120 q1298)) xc2 hu5 rfl hl.1 rfl (Nat.le_of_ble_eq_true rfl) dX1_befalls_72) (fun H locs cells slots hw hS => ?_)
    exact wkX_X1_befalls_75 X hr hlk hnm N w6 x0 x1 x2 H locs ls _ _ hm hw hS (lv_sub hl [0, 1, 2] rfl)
def kX_X1_befalls (g : XC) (N : Nat) (S : XS) (x0 : Nat) : Option (XS) :=
  (f_cls S 1 x0).bind fun u1 =>
  (kX_X1_draw g N S x0 6).bind fun w2 =>
  if (2 : Int32) < w2.2 then
    some w2.1
  else
    (f_obj w2.1 1 x0 1).bind fun v4 =>
    (f_cls w2.1 3 v4).bind fun u5 =>
    (kX_X2_cups g N w2.1 v4).bind fun w6 =>
    if w6.2 = 0 then
      some w6.1
    else
      (f_obj w6.1 1 x0 1).bind fun v8 =>
      (f_cls w6.1 3 v8).bind fun u9 =>
      (kX_X2_cups g N w6.1 v8).bind fun w10 =>
      (f_cls w10.1 1 x0).bind fun u11 =>
      (kX_X1_draw g N w10.1 x0 w10.2).bind fun w12 =>
      if w2.2 = 0 then
        (f_obj w12.1 1 x0 3).bind fun v14 =>
        (f_int w12.1 2 v14 7).bind fun v15 =>
        (f_putI w12.1 2 v14 7 (v15 ^^^ ((1 : Int32) <<< (w12.2 &&& 31)))).bind fun S16 =>
        kX_X1_befalls_54 g N S16 x0 w2.2 w12.2
      else
        kX_X1_befalls_54 g N w12.1 x0 w2.2 w12.2
theorem cx_X1_befalls : yX1_befalls.cls = RX1 ∧ yX1_befalls.cls ≠ "java/lang/invoke/MethodHandle" ∧ yX1_befalls.cls ≠ "java/lang/invoke/VarHandle" ∧ (parseMethodDescriptor yX1_befalls.desc).map (fun d => d.parameters.length) = some 0 := by decide +kernel
theorem met_X1_befalls {l : Launch} {g : XC} {D : va_G} {A : Nat → Prop} (N : Nat) (S : XS) (x0 : Nat) (w : XS) (hm : kX_X1_befalls g N S x0 = some w) : Met l yX1_befalls (ws_ yX1_befalls cX1_befalls 4 (Option.none : Option Jvm.ClassFile.FieldType)) (xRm g S 2) (xPre g D A [.ref x0] S) (xQv g D A w) (g.2.1 - xTop S) (g.2.2.1 - xSl S) A := by
  refine x_start (own := RX1) (by decide +kernel) rfl (Nat.le_of_ble_eq_true rfl) (fun p e s m below meth c ls X hr hlk hnm hw hl => ?_)
  obtain ⟨hx, hb, -, hown, hts, -⟩ := id X
  have hl : lv_has ls 4 [(0, .ref x0)] := hl
  have hg : ∀ (H : Heap) (locs : List Loc) (cells slots : Nat), xW g D A S s H → va_S A s.heap H locs → W p l e (xRm g S 2) s m ([.ref x0] : List Value).toArray below meth c H locs cells slots (MQ below (xQv g D A w) ([.ref x0] : List Value).toArray s (g.2.1 - xTop S) (g.2.2.1 - xSl S) A) (F0 m 0 ls []) := by
    intro H locs cells slots hw hS
    unfold kX_X1_befalls at hm
    refine lv_aload_n hx hb dX1_befalls_0 rfl (lv_at hl 0 rfl) ?_
    refine lv_bipush (v := 6) hx hb dX1_befalls_1 (by decide) ?_
    obtain ⟨u1, hu1, hm⟩ := ob_s hm
    obtain ⟨w2, hw2, hm⟩ := ob_s hm
    refine xr_reti hS (xr_runV X hw (met_X1_draw N S x0 6 w2 hw2) (x_cv X (lv := 0) (by omega) (by decide) cx_X1_draw (lw_V q1495 q1497 qs52 q115 q1498)) xc1 hu1 rfl hl.1 rfl (Nat.le_of_ble_eq_true rfl) dX1_befalls_3) (fun H locs cells slots hw hS => ?_)
    refine lv_istore_n (lv' := [(1, .int w2.2), (0, .ref x0)]) hx hb dX1_befalls_6 rfl hl (by decide) rfl (fun ls hl => ?_)
    refine lv_iload_n hx hb dX1_befalls_7 rfl (lv_at hl 0 rfl) ?_
    refine lv_iconst (v := 2) hx hb dX1_befalls_8 (by decide) ?_
    refine lv_icmp_gt (tgt := 22) hx hb dX1_befalls_9 (by decide) (fun c3 => ?_) (fun c3 => ?_)
    · replace hm := if_t c3 hm
      obtain rfl := Option.some.inj hm
      exact xr_vret X hr hlk hw hS dX1_befalls_22
    · replace hm := if_f c3 hm
      refine lv_aload_n hx hb dX1_befalls_12 rfl (lv_at hl 1 rfl) ?_
      obtain ⟨v4, hv4, hm⟩ := ob_s hm
      refine xr_val X hw xc1 in_X1 1 (by decide) q279 (f_obj_s hv4) dX1_befalls_13 ?_
      obtain ⟨u5, hu5, hm⟩ := ob_s hm
      obtain ⟨w6, hw6, hm⟩ := ob_s hm
      refine xr_reti hS (xr_runV X hw (met_X2_cups N w2.1 v4 w6 hw6) (x_cv X (lv := 1) (by omega) (by decide) cx_X2_cups (lw_V q1172 q463 q464 q116 q465)) xc3 hu5 rfl hl.1 rfl (Nat.le_of_ble_eq_true rfl) dX1_befalls_16) (fun H locs cells slots hw hS => ?_)
      refine lv_if_ne (tgt := 23) hx hb dX1_befalls_19 (by decide) (fun c7 => ?_) (fun c7 => ?_)
      · replace hm := if_f c7 hm
        refine lv_aload_n hx hb dX1_befalls_23 rfl (lv_at hl 1 rfl) ?_
        refine lv_aload_n hx hb dX1_befalls_24 rfl (lv_at hl 1 rfl) ?_
        obtain ⟨v8, hv8, hm⟩ := ob_s hm
        refine xr_val X hw xc1 in_X1 1 (by decide) q279 (f_obj_s hv8) dX1_befalls_25 ?_
        obtain ⟨u9, hu9, hm⟩ := ob_s hm
        obtain ⟨w10, hw10, hm⟩ := ob_s hm
        refine xr_reti hS (xr_runV X hw (met_X2_cups N w6.1 v8 w10 hw10) (x_cv X (lv := 1) (by omega) (by decide) cx_X2_cups (lw_V q1172 q463 q464 q116 q465)) xc3 hu9 rfl hl.1 rfl (Nat.le_of_ble_eq_true rfl) dX1_befalls_28) (fun H locs cells slots hw hS => ?_)
        obtain ⟨u11, hu11, hm⟩ := ob_s hm
        obtain ⟨w12, hw12, hm⟩ := ob_s hm
        refine xr_reti hS (xr_runV X hw (met_X1_draw N w10.1 x0 w10.2 w12 hw12) (x_cv X (lv := 0) (by omega) (by decide) cx_X1_draw (lw_V q1495 q1497 qs52 q115 q1498)) xc1 hu11 rfl hl.1 rfl (Nat.le_of_ble_eq_true rfl) dX1_befalls_31) (fun H locs cells slots hw hS => ?_)
        refine lv_istore_n (lv' := [(2, .int w12.2), (1, .int w2.2), (0, .ref x0)]) hx hb dX1_befalls_34 rfl hl (by decide) rfl (fun ls hl => ?_)
        refine lv_iload_n hx hb dX1_befalls_35 rfl (lv_at hl 1 rfl) ?_
        refine lv_if_ne (tgt := 54) hx hb dX1_befalls_36 (by decide) (fun c13 => ?_) (fun c13 => ?_)
        · replace hm := if_f c13 hm
          exact wkX_X1_befalls_54 X hr hlk hnm N w12.1 x0 w2.2 w12.2 H locs ls _ _ hm hw hS (lv_sub hl [2, 1, 0] rfl)
        · replace hm := if_t c13 hm
          refine lv_aload_n hx hb dX1_befalls_39 rfl (lv_at hl 2 rfl) ?_
          obtain ⟨v14, hv14, hm⟩ := ob_s hm
          refine xr_val X hw xc1 in_X1 3 (by decide) q282 (f_obj_s hv14) dX1_befalls_40 ?_
          refine lv_dup hx hb dX1_befalls_43 rfl ?_
          obtain ⟨v15, hv15, hm⟩ := ob_s hm
          refine xr_valN X hw xc2 in_X3 7 (by decide) q228 (f_int_s hv15) dX1_befalls_44 ?_
          refine lv_iconst (v := 1) hx hb dX1_befalls_47 (by decide) ?_
          refine lv_iload_n hx hb dX1_befalls_48 rfl (lv_at hl 0 rfl) ?_
          refine lv_ishl hx hb dX1_befalls_49 ?_
          refine lv_ixor hx hb dX1_befalls_50 ?_
          obtain ⟨S16, hS16, hm⟩ := ob_s hm
          refine xr_putIN X hw hS xc2 in_X3 tyX3_ok nmX3 7 (by decide) q228 rfl (tyX3_ok 7 (by decide)) rfl rfl hS16 dX1_befalls_51 (fun H locs hw hS => ?_)
          exact wkX_X1_befalls_54 X hr hlk hnm N S16 x0 w2.2 w12.2 H locs ls _ _ hm hw hS (lv_sub hl [2, 1, 0] rfl)
      · replace hm := if_t c7 hm
        obtain rfl := Option.some.inj hm
        exact xr_vret X hr hlk hw hS dX1_befalls_22
  exact hg _ _ _ _ hw va_S.rf
/-! DripCups.gives -/
def kX_X1_gives (g : XC) (N : Nat) (S : XS) (x0 : Nat) (x1 : Int32) (x2 : Int32) (x3 : Int64) : Option (XS × Int64) :=
  (f_obj S 1 x0 2).bind fun v1 =>
  (f_obj S 2 v1 4).bind fun v2 =>
  (a_int S 0 v2 x1).bind fun v3 =>
  if v3 = (-2) then
    (f_obj S 1 x0 2).bind fun v15 =>
    (f_obj S 2 v15 3).bind fun v16 =>
    (a_int S 0 v16 x1).bind fun v17 =>
    if v17 = x2 then
      some (S, x3)
    else
      some (S, 0)
  else
    (f_obj S 1 x0 2).bind fun v5 =>
    (f_cls S 2 v5).bind fun u6 =>
    (kX_X3_into g N S v5 x1 0).bind fun w7 =>
    if w7.2 = x2 then
      bnd ((x3 + 1) / 2) fun v14 =>
      some (w7.1, v14)
    else
      (f_obj w7.1 1 x0 2).bind fun v9 =>
      (f_cls w7.1 2 v9).bind fun u10 =>
      (kX_X3_into g N w7.1 v9 x1 1).bind fun w11 =>
      if w11.2 = x2 then
        bnd (x3 / 2) fun v13 =>
        some (w11.1, v13)
      else
        some (w11.1, 0)
theorem cx_X1_gives : yX1_gives.cls = RX1 ∧ yX1_gives.cls ≠ "java/lang/invoke/MethodHandle" ∧ yX1_gives.cls ≠ "java/lang/invoke/VarHandle" ∧ (parseMethodDescriptor yX1_gives.desc).map (fun d => d.parameters.length) = some 3 := by decide +kernel
theorem met_X1_gives {l : Launch} {g : XC} {D : va_G} {A : Nat → Prop} (N : Nat) (S : XS) (x0 : Nat) (x1 : Int32) (x2 : Int32) (x3 : Int64) (w : XS × Int64) (hm : kX_X1_gives g N S x0 x1 x2 x3 = some w) : Met l yX1_gives (ws_ yX1_gives cX1_gives 5 (Option.some Jvm.ClassFile.FieldType.long)) (xRm g S 1) (xPre g D A [.ref x0, .int x1, .int x2, .long x3] S) (xQl g D A w) (g.2.1 - xTop S) (g.2.2.1 - xSl S) A := by
  refine x_start (own := RX1) (by decide +kernel) rfl (Nat.le_of_ble_eq_true rfl) (fun p e s m below meth c ls X hr hlk hnm hw hl => ?_)
  obtain ⟨hx, hb, -, hown, hts, -⟩ := id X
  have hl : lv_has ls 5 [(0, .ref x0), (1, .int x1), (2, .int x2), (3, .long x3)] := hl
  have hg : ∀ (H : Heap) (locs : List Loc) (cells slots : Nat), xW g D A S s H → va_S A s.heap H locs → W p l e (xRm g S 1) s m ([.ref x0, .int x1, .int x2, .long x3] : List Value).toArray below meth c H locs cells slots (MQ below (xQl g D A w) ([.ref x0, .int x1, .int x2, .long x3] : List Value).toArray s (g.2.1 - xTop S) (g.2.2.1 - xSl S) A) (F0 m 0 ls []) := by
    intro H locs cells slots hw hS
    unfold kX_X1_gives at hm
    refine lv_aload_n hx hb dX1_gives_0 rfl (lv_at hl 0 rfl) ?_
    obtain ⟨v1, hv1, hm⟩ := ob_s hm
    refine xr_val X hw xc1 in_X1 2 (by decide) q281 (f_obj_s hv1) dX1_gives_1 ?_
    obtain ⟨v2, hv2, hm⟩ := ob_s hm
    refine xr_valN X hw xc2 in_X3 4 (by decide) q223 (f_obj_s hv2) dX1_gives_4 ?_
    refine lv_iload_n hx hb dX1_gives_7 rfl (lv_at hl 1 rfl) ?_
    obtain ⟨v3, hv3, hm⟩ := ob_s hm
    refine xr_iald X hw hv3 dX1_gives_8 ?_
    refine lv_bipush (v := (-2)) hx hb dX1_gives_9 (by decide) ?_
    refine lv_icmp_ne (tgt := 33) hx hb dX1_gives_11 (by decide) (fun c4 => ?_) (fun c4 => ?_)
    · replace hm := if_f c4 hm
      refine lv_aload_n hx hb dX1_gives_33 rfl (lv_at hl 0 rfl) ?_
      obtain ⟨v5, hv5, hm⟩ := ob_s hm
      refine xr_val X hw xc1 in_X1 2 (by decide) q281 (f_obj_s hv5) dX1_gives_34 ?_
      refine lv_iload_n hx hb dX1_gives_37 rfl (lv_at hl 1 rfl) ?_
      refine lv_iconst (v := 0) hx hb dX1_gives_38 (by decide) ?_
      obtain ⟨u6, hu6, hm⟩ := ob_s hm
      obtain ⟨w7, hw7, hm⟩ := ob_s hm
      refine xr_reti hS (xr_runV X hw (met_X3_into N S v5 x1 0 w7 hw7) (x_cv X (lv := 0) (by omega) (by decide) cx_X3_into (lw_V q1201 q579 q580 q120 q581)) xc2 hu6 rfl hl.1 rfl (Nat.le_of_ble_eq_true rfl) dX1_gives_39) (fun H locs cells slots hw hS => ?_)
      refine lv_iload_n hx hb dX1_gives_42 rfl (lv_at hl 2 rfl) ?_
      refine lv_icmp_ne (tgt := 56) hx hb dX1_gives_43 (by decide) (fun c8 => ?_) (fun c8 => ?_)
      · replace hm := if_f c8 hm
        refine lv_aload_n hx hb dX1_gives_56 rfl (lv_at hl 0 rfl) ?_
        obtain ⟨v9, hv9, hm⟩ := ob_s hm
        refine xr_val X hw xc1 in_X1 2 (by decide) q281 (f_obj_s hv9) dX1_gives_57 ?_
        refine lv_iload_n hx hb dX1_gives_60 rfl (lv_at hl 1 rfl) ?_
        refine lv_iconst (v := 1) hx hb dX1_gives_61 (by decide) ?_
        obtain ⟨u10, hu10, hm⟩ := ob_s hm
        obtain ⟨w11, hw11, hm⟩ := ob_s hm
        refine xr_reti hS (xr_runV X hw (met_X3_into N w7.1 v9 x1 1 w11 hw11) (x_cv X (lv := 0) (by omega) (by decide) cx_X3_into (lw_V q1201 q579 q580 q120 q581)) xc2 hu10 rfl hl.1 rfl (Nat.le_of_ble_eq_true rfl) dX1_gives_62) (fun H locs cells slots hw hS => ?_)
        refine lv_iload_n hx hb dX1_gives_65 rfl (lv_at hl 2 rfl) ?_
        refine lv_icmp_ne (tgt := 77) hx hb dX1_gives_66 (by decide) (fun c12 => ?_) (fun c12 => ?_)
        · replace hm := if_f c12 hm
          refine lv_lconst (v := 0) hx hb dX1_gives_77 rfl ?_
          obtain rfl := Option.some.inj hm
          exact xr_lret X hr hlk hw hS dX1_gives_78
        · replace hm := if_t c12 hm
          refine lv_lload_n hx hb dX1_gives_69 rfl (lv_at hl 3 rfl) ?_
          refine lv_ldc2 (v := 2) hx hb hown (hts _ q1541) dX1_gives_70 ?_
          refine lv_ldiv hx hb dX1_gives_73 (by decide) ?_
          refine lv_topl (fun v13 ev13 => ?_)
          replace hm := bnd_s hm ev13
          refine lv_goto (tgt := 78) hx hb dX1_gives_74 (by decide) ?_
          obtain rfl := Option.some.inj hm
          exact xr_lret X hr hlk hw hS dX1_gives_78
      · replace hm := if_t c8 hm
        refine lv_lload_n hx hb dX1_gives_46 rfl (lv_at hl 3 rfl) ?_
        refine lv_lconst (v := 1) hx hb dX1_gives_47 rfl ?_
        refine lv_ladd hx hb dX1_gives_48 ?_
        refine lv_ldc2 (v := 2) hx hb hown (hts _ q1541) dX1_gives_49 ?_
        refine lv_ldiv hx hb dX1_gives_52 (by decide) ?_
        refine lv_topl (fun v14 ev14 => ?_)
        replace hm := bnd_s hm ev14
        refine lv_goto (tgt := 78) hx hb dX1_gives_53 (by decide) ?_
        obtain rfl := Option.some.inj hm
        exact xr_lret X hr hlk hw hS dX1_gives_78
    · replace hm := if_t c4 hm
      refine lv_aload_n hx hb dX1_gives_14 rfl (lv_at hl 0 rfl) ?_
      obtain ⟨v15, hv15, hm⟩ := ob_s hm
      refine xr_val X hw xc1 in_X1 2 (by decide) q281 (f_obj_s hv15) dX1_gives_15 ?_
      obtain ⟨v16, hv16, hm⟩ := ob_s hm
      refine xr_valN X hw xc2 in_X3 3 (by decide) q220 (f_obj_s hv16) dX1_gives_18 ?_
      refine lv_iload_n hx hb dX1_gives_21 rfl (lv_at hl 1 rfl) ?_
      obtain ⟨v17, hv17, hm⟩ := ob_s hm
      refine xr_iald X hw hv17 dX1_gives_22 ?_
      refine lv_iload_n hx hb dX1_gives_23 rfl (lv_at hl 2 rfl) ?_
      refine lv_icmp_ne (tgt := 31) hx hb dX1_gives_24 (by decide) (fun c18 => ?_) (fun c18 => ?_)
      · replace hm := if_f c18 hm
        refine lv_lconst (v := 0) hx hb dX1_gives_31 rfl ?_
        obtain rfl := Option.some.inj hm
        exact xr_lret X hr hlk hw hS dX1_gives_32
      · replace hm := if_t c18 hm
        refine lv_lload_n hx hb dX1_gives_27 rfl (lv_at hl 3 rfl) ?_
        refine lv_goto (tgt := 32) hx hb dX1_gives_28 (by decide) ?_
        obtain rfl := Option.some.inj hm
        exact xr_lret X hr hlk hw hS dX1_gives_32
  exact hg _ _ _ _ hw va_S.rf
/-! DripCups$Night.allFill -/
def kX_X3_allFill_4 (g : XC) (N : Nat) : Nat → XS → Nat → Int32 → Int32 → Option (XS × Int32)
  | 0, _, _, _, _ => none
  | n + 1, S, x0, x1, x2 =>
    (f_obj S 2 x0 15).bind fun v1 =>
    (f_obj S 1 v1 1).bind fun v2 =>
    (f_cls S 3 v2).bind fun u3 =>
    (kX_X2_cups g N S v2).bind fun w4 =>
    if w4.2 ≤ x2 then
      some (w4.1, x1)
    else
      (f_obj w4.1 2 x0 1).bind fun v6 =>
      (a_int w4.1 0 v6 x2).bind fun v7 =>
      bnd (x1 + v7) fun v8 =>
      kX_X3_allFill_4 g N n w4.1 x0 v8 (x2 + 1)
theorem wkX_X3_allFill_4 {p : Program} {l : Launch} {e : Env} {s : State} {m : MethodId} {args : Array Value} {below : List Frame} {meth : Method} {c : Code} {g : XC} {D : va_G} {A : Nat → Prop} {S0 : XS} {w : XS × Int32} (X : xX g D A RX3 S0 p s m args c cX3_allFill 3) (hr : meth.sig.returnType = (Option.some Jvm.ClassFile.FieldType.int)) (hlk : meth.locks = false) (hnm : meth.name = yX3_allFill.name) (N : Nat) :
    ∀ (n : Nat) (S : XS) (x0 : Nat) (x1 : Int32) (x2 : Int32) (H : Heap) (locs : List Loc) (ls : Array Slot) (cells slots : Nat), kX_X3_allFill_4 g N n S x0 x1 x2 = some w → xW g D A S s H → va_S A s.heap H locs → lv_has ls 3 [(0, .ref x0), (1, .int x1), (2, .int x2)] → W p l e (xRm g S0 2) s m args below meth c H locs cells slots (MQ below (xQi g D A w) args s (g.2.1 - xTop S0) (g.2.2.1 - xSl S0) A) (F0 m 4 ls []) := by
  obtain ⟨hx, hb, -, hown, hts, -⟩ := id X
  intro n
  induction n with
  | zero =>
    intro S x0 x1 x2 H locs ls cells slots hm
    cases hm
  | succ n ih =>
    intro S x0 x1 x2 H locs ls cells slots hm hw hS hl
    rw [kX_X3_allFill_4] at hm
    refine lv_iload_n hx hb dX3_allFill_4 rfl (lv_at hl 2 rfl) ?_
    refine lv_aload_n hx hb dX3_allFill_5 rfl (lv_at hl 0 rfl) ?_
    obtain ⟨v1, hv1, hm⟩ := ob_s hm
    refine xr_val X hw xc2 in_X3 15 (by decide) q241 (f_obj_s hv1) dX3_allFill_6 ?_
    obtain ⟨v2, hv2, hm⟩ := ob_s hm
    refine xr_valN X hw xc1 in_X1 1 (by decide) q280 (f_obj_s hv2) dX3_allFill_9 ?_
    obtain ⟨u3, hu3, hm⟩ := ob_s hm
    obtain ⟨w4, hw4, hm⟩ := ob_s hm
    refine xr_reti hS (xr_runV X hw (met_X2_cups N S v2 w4 hw4) (x_cv X (lv := 1) (by omega) (by decide) cx_X2_cups (lw_V q462 q463 q464 q116 q465)) xc3 hu3 rfl hl.1 rfl (Nat.le_of_ble_eq_true rfl) dX3_allFill_12) (fun H locs cells slots hw hS => ?_)
    refine lv_icmp_ge (tgt := 33) hx hb dX3_allFill_15 (by decide) (fun c5 => ?_) (fun c5 => ?_)
    · replace hm := if_t c5 hm
      refine lv_iload_n hx hb dX3_allFill_33 rfl (lv_at hl 1 rfl) ?_
      obtain rfl := Option.some.inj hm
      exact xr_iret (v := x1) X hr hlk hw hS rfl dX3_allFill_34
    · replace hm := if_f c5 hm
      refine lv_iload_n hx hb dX3_allFill_18 rfl (lv_at hl 1 rfl) ?_
      refine lv_aload_n hx hb dX3_allFill_19 rfl (lv_at hl 0 rfl) ?_
      obtain ⟨v6, hv6, hm⟩ := ob_s hm
      refine xr_val X hw xc2 in_X3 1 (by decide) q213 (f_obj_s hv6) dX3_allFill_20 ?_
      refine lv_iload_n hx hb dX3_allFill_23 rfl (lv_at hl 2 rfl) ?_
      obtain ⟨v7, hv7, hm⟩ := ob_s hm
      refine xr_iald X hw hv7 dX3_allFill_24 ?_
      refine lv_iadd hx hb dX3_allFill_25 ?_
      refine lv_topi (fun v8 ev8 => ?_)
      replace hm := bnd_s hm ev8
      refine lv_istore_n (lv' := [(1, .int v8), (0, .ref x0), (2, .int x2)]) hx hb dX3_allFill_26 rfl hl (by decide) rfl (fun ls hl => ?_)
      refine lv_iinc (v := (x2 + 1)) (lv' := [(2, .int (x2 + 1)), (1, .int v8), (0, .ref x0)]) hx hb dX3_allFill_27 hl (k := 2) rfl rfl (by decide) rfl (fun ls hl => ?_)
      refine lv_goto (tgt := 4) hx hb dX3_allFill_30 (by decide) ?_
      exact ih w4.1 x0 v8 (x2 + 1) H locs ls _ _ hm hw hS (lv_sub hl [2, 1, 0] rfl)
def kX_X3_allFill (g : XC) (N : Nat) (S : XS) (x0 : Nat) : Option (XS × Int32) :=
  kX_X3_allFill_4 g N N S x0 0 0
theorem cx_X3_allFill : yX3_allFill.cls = RX3 ∧ yX3_allFill.cls ≠ "java/lang/invoke/MethodHandle" ∧ yX3_allFill.cls ≠ "java/lang/invoke/VarHandle" ∧ (parseMethodDescriptor yX3_allFill.desc).map (fun d => d.parameters.length) = some 0 := by decide +kernel
theorem met_X3_allFill {l : Launch} {g : XC} {D : va_G} {A : Nat → Prop} (N : Nat) (S : XS) (x0 : Nat) (w : XS × Int32) (hm : kX_X3_allFill g N S x0 = some w) : Met l yX3_allFill (ws_ yX3_allFill cX3_allFill 3 (Option.some Jvm.ClassFile.FieldType.int)) (xRm g S 2) (xPre g D A [.ref x0] S) (xQi g D A w) (g.2.1 - xTop S) (g.2.2.1 - xSl S) A := by
  refine x_start (own := RX3) (by decide +kernel) rfl (Nat.le_of_ble_eq_true rfl) (fun p e s m below meth c ls X hr hlk hnm hw hl => ?_)
  obtain ⟨hx, hb, -, hown, hts, -⟩ := id X
  have hl : lv_has ls 3 [(0, .ref x0)] := hl
  have hg : ∀ (H : Heap) (locs : List Loc) (cells slots : Nat), xW g D A S s H → va_S A s.heap H locs → W p l e (xRm g S 2) s m ([.ref x0] : List Value).toArray below meth c H locs cells slots (MQ below (xQi g D A w) ([.ref x0] : List Value).toArray s (g.2.1 - xTop S) (g.2.2.1 - xSl S) A) (F0 m 0 ls []) := by
    intro H locs cells slots hw hS
    unfold kX_X3_allFill at hm
    refine lv_iconst (v := 0) hx hb dX3_allFill_0 (by decide) ?_
    refine lv_istore_n (lv' := [(1, .int 0), (0, .ref x0)]) hx hb dX3_allFill_1 rfl hl (by decide) rfl (fun ls hl => ?_)
    refine lv_iconst (v := 0) hx hb dX3_allFill_2 (by decide) ?_
    refine lv_istore_n (lv' := [(2, .int 0), (1, .int 0), (0, .ref x0)]) hx hb dX3_allFill_3 rfl hl (by decide) rfl (fun ls hl => ?_)
    exact wkX_X3_allFill_4 X hr hlk hnm N N S x0 0 0 H locs ls _ _ hm hw hS (lv_sub hl [2, 1, 0] rfl)
  exact hg _ _ _ _ hw va_S.rf
/-! DripCups$Night.allTips -/
def kX_X3_allTips_4 (g : XC) (N : Nat) : Nat → XS → Nat → Int64 → Int32 → Option (XS × Int32)
  | 0, _, _, _, _ => none
  | n + 1, S, x0, x1, x3 =>
    (f_obj S 2 x0 15).bind fun v1 =>
    (f_obj S 1 v1 1).bind fun v2 =>
    (f_cls S 3 v2).bind fun u3 =>
    (kX_X2_cups g N S v2).bind fun w4 =>
    if w4.2 ≤ x3 then
      bnd (if (x1 : Int64) < 1000000000 then x1 else 1000000000) fun v6 =>
      some (w4.1, (v6 : Int64).toInt32)
    else
      (f_obj w4.1 2 x0 2).bind fun v7 =>
      (a_int w4.1 0 v7 x3).bind fun v8 =>
      bnd (x1 + (v8 : Int32).toInt64) fun v9 =>
      kX_X3_allTips_4 g N n w4.1 x0 v9 (x3 + 1)
theorem wkX_X3_allTips_4 {p : Program} {l : Launch} {e : Env} {s : State} {m : MethodId} {args : Array Value} {below : List Frame} {meth : Method} {c : Code} {g : XC} {D : va_G} {A : Nat → Prop} {S0 : XS} {w : XS × Int32} (X : xX g D A RX3 S0 p s m args c cX3_allTips 4) (hr : meth.sig.returnType = (Option.some Jvm.ClassFile.FieldType.int)) (hlk : meth.locks = false) (hnm : meth.name = yX3_allTips.name) (N : Nat) :
    ∀ (n : Nat) (S : XS) (x0 : Nat) (x1 : Int64) (x3 : Int32) (H : Heap) (locs : List Loc) (ls : Array Slot) (cells slots : Nat), kX_X3_allTips_4 g N n S x0 x1 x3 = some w → xW g D A S s H → va_S A s.heap H locs → lv_has ls 4 [(0, .ref x0), (1, .long x1), (3, .int x3)] → W p l e (xRm g S0 2) s m args below meth c H locs cells slots (MQ below (xQi g D A w) args s (g.2.1 - xTop S0) (g.2.2.1 - xSl S0) A) (F0 m 4 ls []) := by
  obtain ⟨hx, hb, -, hown, hts, -⟩ := id X
  intro n
  induction n with
  | zero =>
    intro S x0 x1 x3 H locs ls cells slots hm
    cases hm
  | succ n ih =>
    intro S x0 x1 x3 H locs ls cells slots hm hw hS hl
    rw [kX_X3_allTips_4] at hm
    refine lv_iload_n hx hb dX3_allTips_4 rfl (lv_at hl 2 rfl) ?_
    refine lv_aload_n hx hb dX3_allTips_5 rfl (lv_at hl 0 rfl) ?_
    obtain ⟨v1, hv1, hm⟩ := ob_s hm
    refine xr_val X hw xc2 in_X3 15 (by decide) q241 (f_obj_s hv1) dX3_allTips_6 ?_
    obtain ⟨v2, hv2, hm⟩ := ob_s hm
    refine xr_valN X hw xc1 in_X1 1 (by decide) q280 (f_obj_s hv2) dX3_allTips_9 ?_
    obtain ⟨u3, hu3, hm⟩ := ob_s hm
    obtain ⟨w4, hw4, hm⟩ := ob_s hm
    refine xr_reti hS (xr_runV X hw (met_X2_cups N S v2 w4 hw4) (x_cv X (lv := 1) (by omega) (by decide) cx_X2_cups (lw_V q462 q463 q464 q116 q465)) xc3 hu3 rfl hl.1 rfl (Nat.le_of_ble_eq_true rfl) dX3_allTips_12) (fun H locs cells slots hw hS => ?_)
    refine lv_icmp_ge (tgt := 34) hx hb dX3_allTips_15 (by decide) (fun c5 => ?_) (fun c5 => ?_)
    · replace hm := if_t c5 hm
      refine lv_ldc2 (v := 1000000000) hx hb hown (hts _ q1181) dX3_allTips_34 ?_
      refine lv_lload_n hx hb dX3_allTips_37 rfl (lv_at hl 1 rfl) ?_
      refine xr_mminJ X hw hl.1 q1182 q1183 q127 q1184 (Nat.le_of_ble_eq_true rfl) dX3_allTips_38 (fun cells slots => ?_)
      refine lv_topl (fun v6 ev6 => ?_)
      replace hm := bnd_s hm ev6
      refine lv_l2i hx hb dX3_allTips_41 rfl ?_
      obtain rfl := Option.some.inj hm
      exact xr_iret (v := (v6 : Int64).toInt32) X hr hlk hw hS rfl dX3_allTips_42
    · replace hm := if_f c5 hm
      refine lv_lload_n hx hb dX3_allTips_18 rfl (lv_at hl 1 rfl) ?_
      refine lv_aload_n hx hb dX3_allTips_19 rfl (lv_at hl 0 rfl) ?_
      obtain ⟨v7, hv7, hm⟩ := ob_s hm
      refine xr_val X hw xc2 in_X3 2 (by decide) q216 (f_obj_s hv7) dX3_allTips_20 ?_
      refine lv_iload_n hx hb dX3_allTips_23 rfl (lv_at hl 2 rfl) ?_
      obtain ⟨v8, hv8, hm⟩ := ob_s hm
      refine xr_iald X hw hv8 dX3_allTips_24 ?_
      refine lv_i2l hx hb dX3_allTips_25 rfl ?_
      refine lv_ladd hx hb dX3_allTips_26 ?_
      refine lv_topl (fun v9 ev9 => ?_)
      replace hm := bnd_s hm ev9
      refine lv_lstore_n (lv' := [(1, .long v9), (0, .ref x0), (3, .int x3)]) hx hb dX3_allTips_27 rfl hl (by decide) rfl (fun ls hl => ?_)
      refine lv_iinc (v := (x3 + 1)) (lv' := [(3, .int (x3 + 1)), (1, .long v9), (0, .ref x0)]) hx hb dX3_allTips_28 hl (k := 2) rfl rfl (by decide) rfl (fun ls hl => ?_)
      refine lv_goto (tgt := 4) hx hb dX3_allTips_31 (by decide) ?_
      exact ih w4.1 x0 v9 (x3 + 1) H locs ls _ _ hm hw hS (lv_sub hl [2, 1, 0] rfl)
def kX_X3_allTips (g : XC) (N : Nat) (S : XS) (x0 : Nat) : Option (XS × Int32) :=
  kX_X3_allTips_4 g N N S x0 0 0
theorem cx_X3_allTips : yX3_allTips.cls = RX3 ∧ yX3_allTips.cls ≠ "java/lang/invoke/MethodHandle" ∧ yX3_allTips.cls ≠ "java/lang/invoke/VarHandle" ∧ (parseMethodDescriptor yX3_allTips.desc).map (fun d => d.parameters.length) = some 0 := by decide +kernel
theorem met_X3_allTips {l : Launch} {g : XC} {D : va_G} {A : Nat → Prop} (N : Nat) (S : XS) (x0 : Nat) (w : XS × Int32) (hm : kX_X3_allTips g N S x0 = some w) : Met l yX3_allTips (ws_ yX3_allTips cX3_allTips 4 (Option.some Jvm.ClassFile.FieldType.int)) (xRm g S 2) (xPre g D A [.ref x0] S) (xQi g D A w) (g.2.1 - xTop S) (g.2.2.1 - xSl S) A := by
  refine x_start (own := RX3) (by decide +kernel) rfl (Nat.le_of_ble_eq_true rfl) (fun p e s m below meth c ls X hr hlk hnm hw hl => ?_)
  obtain ⟨hx, hb, -, hown, hts, -⟩ := id X
  have hl : lv_has ls 4 [(0, .ref x0)] := hl
  have hg : ∀ (H : Heap) (locs : List Loc) (cells slots : Nat), xW g D A S s H → va_S A s.heap H locs → W p l e (xRm g S 2) s m ([.ref x0] : List Value).toArray below meth c H locs cells slots (MQ below (xQi g D A w) ([.ref x0] : List Value).toArray s (g.2.1 - xTop S) (g.2.2.1 - xSl S) A) (F0 m 0 ls []) := by
    intro H locs cells slots hw hS
    unfold kX_X3_allTips at hm
    refine lv_lconst (v := 0) hx hb dX3_allTips_0 rfl ?_
    refine lv_lstore_n (lv' := [(1, .long 0), (0, .ref x0)]) hx hb dX3_allTips_1 rfl hl (by decide) rfl (fun ls hl => ?_)
    refine lv_iconst (v := 0) hx hb dX3_allTips_2 (by decide) ?_
    refine lv_istore_n (lv' := [(3, .int 0), (1, .long 0), (0, .ref x0)]) hx hb dX3_allTips_3 rfl hl (by decide) rfl (fun ls hl => ?_)
    exact wkX_X3_allTips_4 X hr hlk hnm N N S x0 0 0 H locs ls _ _ hm hw hS (lv_sub hl [2, 1, 0] rfl)
  exact hg _ _ _ _ hw va_S.rf
/-! DripCups$Night.pour -/
def kX_X3_pour_47 (g : XC) (N : Nat) (K15 : XS → Nat → Int32 → Int32 → Int32 → Option (XS × Int32)) (S : XS) (x0 : Nat) (x1 : Int32) (x3 : Int32) (x4 : Int32) : Option (XS × Int32) :=
  K15 S x0 x1 x3 (x4 + 1)
theorem wkX_X3_pour_47 {p : Program} {l : Launch} {e : Env} {s : State} {m : MethodId} {args : Array Value} {below : List Frame} {meth : Method} {c : Code} {g : XC} {D : va_G} {A : Nat → Prop} {S0 : XS} {w : XS × Int32} (X : xX g D A RX3 S0 p s m args c cX3_pour 6) (hr : meth.sig.returnType = (Option.some Jvm.ClassFile.FieldType.int)) (hlk : meth.locks = false) (hnm : meth.name = yX3_pour.name) (N : Nat) (K15 : XS → Nat → Int32 → Int32 → Int32 → Option (XS × Int32))
    (hK15 : ∀ (S : XS) (x0 : Nat) (x1 : Int32) (x3 : Int32) (x4 : Int32) (H : Heap) (locs : List Loc) (ls : Array Slot) (cells slots : Nat), K15 S x0 x1 x3 x4 = some w → xW g D A S s H → va_S A s.heap H locs → lv_has ls 6 [(0, .ref x0), (1, .int x1), (3, .int x3), (4, .int x4)] → W p l e (xRm g S0 2) s m args below meth c H locs cells slots (MQ below (xQi g D A w) args s (g.2.1 - xTop S0) (g.2.2.1 - xSl S0) A) (F0 m 15 ls [])) :
    ∀ (S : XS) (x0 : Nat) (x1 : Int32) (x3 : Int32) (x4 : Int32) (H : Heap) (locs : List Loc) (ls : Array Slot) (cells slots : Nat), kX_X3_pour_47 g N K15 S x0 x1 x3 x4 = some w → xW g D A S s H → va_S A s.heap H locs → lv_has ls 6 [(0, .ref x0), (1, .int x1), (3, .int x3), (4, .int x4)] → W p l e (xRm g S0 2) s m args below meth c H locs cells slots (MQ below (xQi g D A w) args s (g.2.1 - xTop S0) (g.2.2.1 - xSl S0) A) (F0 m 47 ls []) := by
  obtain ⟨hx, hb, -, hown, hts, -⟩ := id X
  intro S x0 x1 x3 x4 H locs ls cells slots hm hw hS hl
  unfold kX_X3_pour_47 at hm
  refine lv_iinc (v := (x4 + 1)) (lv' := [(4, .int (x4 + 1)), (0, .ref x0), (1, .int x1), (3, .int x3)]) hx hb dX3_pour_47 hl (k := 3) rfl rfl (by decide) rfl (fun ls hl => ?_)
  refine lv_goto (tgt := 15) hx hb dX3_pour_50 (by decide) ?_
  exact hK15 S x0 x1 x3 (x4 + 1) H locs ls _ _ hm hw hS (lv_sub hl [1, 2, 3, 0] rfl)
def kX_X3_pour_15 (g : XC) (N : Nat) : Nat → XS → Nat → Int32 → Int32 → Int32 → Option (XS × Int32)
  | 0, _, _, _, _, _ => none
  | n + 1, S, x0, x1, x3, x4 =>
    (f_obj S 2 x0 15).bind fun v1 =>
    (f_obj S 1 v1 1).bind fun v2 =>
    (f_cls S 3 v2).bind fun u3 =>
    (kX_X2_cups g N S v2).bind fun w4 =>
    if w4.2 ≤ x4 then
      some (w4.1, x3)
    else
      (f_cls w4.1 2 x0).bind fun u6 =>
      (kX_X3_settle g N w4.1 x0 x4).bind fun w7 =>
      if x4 = x1 then
        kX_X3_pour_47 g N (kX_X3_pour_15 g N n) w7.1 x0 x1 w7.2 x4
      else
        kX_X3_pour_47 g N (kX_X3_pour_15 g N n) w7.1 x0 x1 x3 x4
theorem wkX_X3_pour_15 {p : Program} {l : Launch} {e : Env} {s : State} {m : MethodId} {args : Array Value} {below : List Frame} {meth : Method} {c : Code} {g : XC} {D : va_G} {A : Nat → Prop} {S0 : XS} {w : XS × Int32} (X : xX g D A RX3 S0 p s m args c cX3_pour 6) (hr : meth.sig.returnType = (Option.some Jvm.ClassFile.FieldType.int)) (hlk : meth.locks = false) (hnm : meth.name = yX3_pour.name) (N : Nat) :
    ∀ (n : Nat) (S : XS) (x0 : Nat) (x1 : Int32) (x3 : Int32) (x4 : Int32) (H : Heap) (locs : List Loc) (ls : Array Slot) (cells slots : Nat), kX_X3_pour_15 g N n S x0 x1 x3 x4 = some w → xW g D A S s H → va_S A s.heap H locs → lv_has ls 6 [(0, .ref x0), (1, .int x1), (3, .int x3), (4, .int x4)] → W p l e (xRm g S0 2) s m args below meth c H locs cells slots (MQ below (xQi g D A w) args s (g.2.1 - xTop S0) (g.2.2.1 - xSl S0) A) (F0 m 15 ls []) := by
  obtain ⟨hx, hb, -, hown, hts, -⟩ := id X
  intro n
  induction n with
  | zero =>
    intro S x0 x1 x3 x4 H locs ls cells slots hm
    cases hm
  | succ n ih =>
    intro S x0 x1 x3 x4 H locs ls cells slots hm hw hS hl
    rw [kX_X3_pour_15] at hm
    refine lv_iload hx hb dX3_pour_15 (lv_at hl 3 rfl) ?_
    refine lv_aload_n hx hb dX3_pour_17 rfl (lv_at hl 0 rfl) ?_
    obtain ⟨v1, hv1, hm⟩ := ob_s hm
    refine xr_val X hw xc2 in_X3 15 (by decide) q241 (f_obj_s hv1) dX3_pour_18 ?_
    obtain ⟨v2, hv2, hm⟩ := ob_s hm
    refine xr_valN X hw xc1 in_X1 1 (by decide) q280 (f_obj_s hv2) dX3_pour_21 ?_
    obtain ⟨u3, hu3, hm⟩ := ob_s hm
    obtain ⟨w4, hw4, hm⟩ := ob_s hm
    refine xr_reti hS (xr_runV X hw (met_X2_cups N S v2 w4 hw4) (x_cv X (lv := 1) (by omega) (by decide) cx_X2_cups (lw_V q462 q463 q464 q116 q465)) xc3 hu3 rfl hl.1 rfl (Nat.le_of_ble_eq_true rfl) dX3_pour_24) (fun H locs cells slots hw hS => ?_)
    refine lv_icmp_ge (tgt := 53) hx hb dX3_pour_27 (by decide) (fun c5 => ?_) (fun c5 => ?_)
    · replace hm := if_t c5 hm
      refine lv_iload_n hx hb dX3_pour_53 rfl (lv_at hl 2 rfl) ?_
      obtain rfl := Option.some.inj hm
      exact xr_iret (v := x3) X hr hlk hw hS rfl dX3_pour_54
    · replace hm := if_f c5 hm
      refine lv_aload_n hx hb dX3_pour_30 rfl (lv_at hl 0 rfl) ?_
      refine lv_iload hx hb dX3_pour_31 (lv_at hl 3 rfl) ?_
      obtain ⟨u6, hu6, hm⟩ := ob_s hm
      obtain ⟨w7, hw7, hm⟩ := ob_s hm
      refine xr_reti hS (xr_runV X hw (met_X3_settle N w4.1 x0 x4 w7 hw7) (x_cv X (lv := 1) (by omega) (by decide) cx_X3_settle (lw_V q568 q570 qs8 q120 q571)) xc2 hu6 rfl hl.1 rfl (Nat.le_of_ble_eq_true rfl) dX3_pour_33) (fun H locs cells slots hw hS => ?_)
      refine lv_istore (lv' := [(5, .int w7.2), (0, .ref x0), (1, .int x1), (3, .int x3), (4, .int x4)]) hx hb dX3_pour_36 hl (by decide) rfl (fun ls hl => ?_)
      refine lv_iload hx hb dX3_pour_38 (lv_at hl 4 rfl) ?_
      refine lv_iload_n hx hb dX3_pour_40 rfl (lv_at hl 2 rfl) ?_
      refine lv_icmp_ne (tgt := 47) hx hb dX3_pour_41 (by decide) (fun c8 => ?_) (fun c8 => ?_)
      · replace hm := if_f c8 hm
        exact wkX_X3_pour_47 X hr hlk hnm N (kX_X3_pour_15 g N n) ih w7.1 x0 x1 x3 x4 H locs ls _ _ hm hw hS (lv_sub hl [1, 2, 3, 4] rfl)
      · replace hm := if_t c8 hm
        refine lv_iload hx hb dX3_pour_44 (lv_at hl 0 rfl) ?_
        refine lv_istore_n (lv' := [(3, .int w7.2), (5, .int w7.2), (0, .ref x0), (1, .int x1), (4, .int x4)]) hx hb dX3_pour_46 rfl hl (by decide) rfl (fun ls hl => ?_)
        exact wkX_X3_pour_47 X hr hlk hnm N (kX_X3_pour_15 g N n) ih w7.1 x0 x1 w7.2 x4 H locs ls _ _ hm hw hS (lv_sub hl [2, 3, 0, 4] rfl)
def kX_X3_pour (g : XC) (N : Nat) (S : XS) (x0 : Nat) (x1 : Int32) (x2 : Int32) : Option (XS × Int32) :=
  (f_obj S 2 x0 11).bind fun v1 =>
  (a_int S 0 v1 x1).bind fun v2 =>
  (a_putI S 0 v1 x1 (v2 + x2)).bind fun S3 =>
  kX_X3_pour_15 g N N S3 x0 x1 0 x1
theorem cx_X3_pour : yX3_pour.cls = RX3 ∧ yX3_pour.cls ≠ "java/lang/invoke/MethodHandle" ∧ yX3_pour.cls ≠ "java/lang/invoke/VarHandle" ∧ (parseMethodDescriptor yX3_pour.desc).map (fun d => d.parameters.length) = some 2 := by decide +kernel
theorem met_X3_pour {l : Launch} {g : XC} {D : va_G} {A : Nat → Prop} (N : Nat) (S : XS) (x0 : Nat) (x1 : Int32) (x2 : Int32) (w : XS × Int32) (hm : kX_X3_pour g N S x0 x1 x2 = some w) : Met l yX3_pour (ws_ yX3_pour cX3_pour 6 (Option.some Jvm.ClassFile.FieldType.int)) (xRm g S 2) (xPre g D A [.ref x0, .int x1, .int x2] S) (xQi g D A w) (g.2.1 - xTop S) (g.2.2.1 - xSl S) A := by
  refine x_start (own := RX3) (by decide +kernel) rfl (Nat.le_of_ble_eq_true rfl) (fun p e s m below meth c ls X hr hlk hnm hw hl => ?_)
  obtain ⟨hx, hb, -, hown, hts, -⟩ := id X
  have hl : lv_has ls 6 [(0, .ref x0), (1, .int x1), (2, .int x2)] := hl
  have hg : ∀ (H : Heap) (locs : List Loc) (cells slots : Nat), xW g D A S s H → va_S A s.heap H locs → W p l e (xRm g S 2) s m ([.ref x0, .int x1, .int x2] : List Value).toArray below meth c H locs cells slots (MQ below (xQi g D A w) ([.ref x0, .int x1, .int x2] : List Value).toArray s (g.2.1 - xTop S) (g.2.2.1 - xSl S) A) (F0 m 0 ls []) := by
    intro H locs cells slots hw hS
    unfold kX_X3_pour at hm
    refine lv_iconst (v := 0) hx hb dX3_pour_0 (by decide) ?_
    refine lv_istore_n (lv' := [(3, .int 0), (0, .ref x0), (1, .int x1), (2, .int x2)]) hx hb dX3_pour_1 rfl hl (by decide) rfl (fun ls hl => ?_)
    refine lv_aload_n hx hb dX3_pour_2 rfl (lv_at hl 1 rfl) ?_
    obtain ⟨v1, hv1, hm⟩ := ob_s hm
    refine xr_val X hw xc2 in_X3 11 (by decide) q234 (f_obj_s hv1) dX3_pour_3 ?_
    refine lv_iload_n hx hb dX3_pour_6 rfl (lv_at hl 2 rfl) ?_
    refine lv_dup2_11 hx hb dX3_pour_7 rfl rfl ?_
    obtain ⟨v2, hv2, hm⟩ := ob_s hm
    refine xr_iald X hw hv2 dX3_pour_8 ?_
    refine lv_iload_n hx hb dX3_pour_9 rfl (lv_at hl 3 rfl) ?_
    refine lv_iadd hx hb dX3_pour_10 ?_
    obtain ⟨S3, hS3, hm⟩ := ob_s hm
    refine xr_iast X hw hS hS3 dX3_pour_11 (fun H locs hw hS => ?_)
    refine lv_iload_n hx hb dX3_pour_12 rfl (lv_at hl 2 rfl) ?_
    refine lv_istore (lv' := [(4, .int x1), (3, .int 0), (0, .ref x0), (1, .int x1), (2, .int x2)]) hx hb dX3_pour_13 hl (by decide) rfl (fun ls hl => ?_)
    exact wkX_X3_pour_15 X hr hlk hnm N N S3 x0 x1 0 x1 H locs ls _ _ hm hw hS (lv_sub hl [2, 3, 1, 0] rfl)
  exact hg _ _ _ _ hw va_S.rf
/-! DripCups$Night.flows -/
def kX_X3_flows_173 (g : XC) (N : Nat) (K7 : XS → Nat → Int32 → Nat → Int32 → Option (XS × Nat)) (S : XS) (x0 : Nat) (x1 : Int32) (x2 : Nat) (x3 : Int32) : Option (XS × Nat) :=
  K7 S x0 x1 x2 (x3 + 1)
theorem wkX_X3_flows_173 {p : Program} {l : Launch} {e : Env} {s : State} {m : MethodId} {args : Array Value} {below : List Frame} {meth : Method} {c : Code} {g : XC} {D : va_G} {A : Nat → Prop} {S0 : XS} {w : XS × Nat} (X : xX g D A RX3 S0 p s m args c cX3_flows 6) (hr : meth.sig.returnType = (Option.some (Jvm.ClassFile.FieldType.array Jvm.ClassFile.FieldType.long))) (hlk : meth.locks = false) (hnm : meth.name = yX3_flows.name) (N : Nat) (K7 : XS → Nat → Int32 → Nat → Int32 → Option (XS × Nat))
    (hK7 : ∀ (S : XS) (x0 : Nat) (x1 : Int32) (x2 : Nat) (x3 : Int32) (H : Heap) (locs : List Loc) (ls : Array Slot) (cells slots : Nat), K7 S x0 x1 x2 x3 = some w → xW g D A S s H → va_S A s.heap H locs → lv_has ls 6 [(0, .ref x0), (1, .int x1), (2, .ref x2), (3, .int x3)] → W p l e (xRm g S0 3) s m args below meth c H locs cells slots (MQ below (xQr g D A w) args s (g.2.1 - xTop S0) (g.2.2.1 - xSl S0) A) (F0 m 7 ls [])) :
    ∀ (S : XS) (x0 : Nat) (x1 : Int32) (x2 : Nat) (x3 : Int32) (H : Heap) (locs : List Loc) (ls : Array Slot) (cells slots : Nat), kX_X3_flows_173 g N K7 S x0 x1 x2 x3 = some w → xW g D A S s H → va_S A s.heap H locs → lv_has ls 6 [(0, .ref x0), (1, .int x1), (2, .ref x2), (3, .int x3)] → W p l e (xRm g S0 3) s m args below meth c H locs cells slots (MQ below (xQr g D A w) args s (g.2.1 - xTop S0) (g.2.2.1 - xSl S0) A) (F0 m 173 ls []) := by
  obtain ⟨hx, hb, -, hown, hts, -⟩ := id X
  intro S x0 x1 x2 x3 H locs ls cells slots hm hw hS hl
  unfold kX_X3_flows_173 at hm
  refine lv_iinc (v := (x3 + 1)) (lv' := [(3, .int (x3 + 1)), (0, .ref x0), (1, .int x1), (2, .ref x2)]) hx hb dX3_flows_173 hl (k := 3) rfl rfl (by decide) rfl (fun ls hl => ?_)
  refine lv_goto (tgt := 7) hx hb dX3_flows_176 (by decide) ?_
  exact hK7 S x0 x1 x2 (x3 + 1) H locs ls _ _ hm hw hS (lv_sub hl [1, 2, 3, 0] rfl)
def kX_X3_flows_135 (g : XC) (N : Nat) (K7 : XS → Nat → Int32 → Nat → Int32 → Option (XS × Nat)) (S : XS) (x0 : Nat) (x1 : Int32) (x2 : Nat) (x3 : Int32) (x4 : Int64) : Option (XS × Nat) :=
  (f_obj S 2 x0 4).bind fun v1 =>
  (a_int S 0 v1 x3).bind fun v2 =>
  if v2 = (-2) then
    kX_X3_flows_173 g N K7 S x0 x1 x2 x3
  else
    (f_cls S 2 x0).bind fun u4 =>
    (kX_X3_into g N S x0 x3 1).bind fun w5 =>
    if w5.2 = (-1) then
      kX_X3_flows_173 g N K7 w5.1 x0 x1 x2 x3
    else
      (f_cls w5.1 2 x0).bind fun u7 =>
      (kX_X3_into g N w5.1 x0 x3 1).bind fun w8 =>
      (a_long w8.1 x2 w8.2).bind fun v9 =>
      bnd (x4 / 2) fun v10 =>
      (a_putJ w8.1 x2 w8.2 (v9 + v10)).bind fun S11 =>
      kX_X3_flows_173 g N K7 S11 x0 x1 x2 x3
theorem wkX_X3_flows_135 {p : Program} {l : Launch} {e : Env} {s : State} {m : MethodId} {args : Array Value} {below : List Frame} {meth : Method} {c : Code} {g : XC} {D : va_G} {A : Nat → Prop} {S0 : XS} {w : XS × Nat} (X : xX g D A RX3 S0 p s m args c cX3_flows 6) (hr : meth.sig.returnType = (Option.some (Jvm.ClassFile.FieldType.array Jvm.ClassFile.FieldType.long))) (hlk : meth.locks = false) (hnm : meth.name = yX3_flows.name) (N : Nat) (K7 : XS → Nat → Int32 → Nat → Int32 → Option (XS × Nat))
    (hK7 : ∀ (S : XS) (x0 : Nat) (x1 : Int32) (x2 : Nat) (x3 : Int32) (H : Heap) (locs : List Loc) (ls : Array Slot) (cells slots : Nat), K7 S x0 x1 x2 x3 = some w → xW g D A S s H → va_S A s.heap H locs → lv_has ls 6 [(0, .ref x0), (1, .int x1), (2, .ref x2), (3, .int x3)] → W p l e (xRm g S0 3) s m args below meth c H locs cells slots (MQ below (xQr g D A w) args s (g.2.1 - xTop S0) (g.2.2.1 - xSl S0) A) (F0 m 7 ls [])) :
    ∀ (S : XS) (x0 : Nat) (x1 : Int32) (x2 : Nat) (x3 : Int32) (x4 : Int64) (H : Heap) (locs : List Loc) (ls : Array Slot) (cells slots : Nat), kX_X3_flows_135 g N K7 S x0 x1 x2 x3 x4 = some w → xW g D A S s H → va_S A s.heap H locs → lv_has ls 6 [(0, .ref x0), (1, .int x1), (2, .ref x2), (3, .int x3), (4, .long x4)] → W p l e (xRm g S0 3) s m args below meth c H locs cells slots (MQ below (xQr g D A w) args s (g.2.1 - xTop S0) (g.2.2.1 - xSl S0) A) (F0 m 135 ls []) := by
  obtain ⟨hx, hb, -, hown, hts, -⟩ := id X
  intro S x0 x1 x2 x3 x4 H locs ls cells slots hm hw hS hl
  unfold kX_X3_flows_135 at hm
  refine lv_aload_n hx hb dX3_flows_135 rfl (lv_at hl 0 rfl) ?_
  obtain ⟨v1, hv1, hm⟩ := ob_s hm
  refine xr_val X hw xc2 in_X3 4 (by decide) q221 (f_obj_s hv1) dX3_flows_136 ?_
  refine lv_iload_n hx hb dX3_flows_139 rfl (lv_at hl 3 rfl) ?_
  obtain ⟨v2, hv2, hm⟩ := ob_s hm
  refine xr_iald X hw hv2 dX3_flows_140 ?_
  refine lv_bipush (v := (-2)) hx hb dX3_flows_141 (by decide) ?_
  refine lv_icmp_eq (tgt := 173) hx hb dX3_flows_143 (by decide) (fun c3 => ?_) (fun c3 => ?_)
  · replace hm := if_t c3 hm
    exact wkX_X3_flows_173 X hr hlk hnm N K7 hK7 S x0 x1 x2 x3 H locs ls _ _ hm hw hS (lv_sub hl [0, 1, 2, 3] rfl)
  · replace hm := if_f c3 hm
    refine lv_aload_n hx hb dX3_flows_146 rfl (lv_at hl 0 rfl) ?_
    refine lv_iload_n hx hb dX3_flows_147 rfl (lv_at hl 3 rfl) ?_
    refine lv_iconst (v := 1) hx hb dX3_flows_148 (by decide) ?_
    obtain ⟨u4, hu4, hm⟩ := ob_s hm
    obtain ⟨w5, hw5, hm⟩ := ob_s hm
    refine xr_reti hS (xr_runV X hw (met_X3_into N S x0 x3 1 w5 hw5) (x_cv X (lv := 0) (by omega) (by decide) cx_X3_into (lw_V q578 q579 q580 q120 q581)) xc2 hu4 rfl hl.1 rfl (Nat.le_of_ble_eq_true rfl) dX3_flows_149) (fun H locs cells slots hw hS => ?_)
    refine lv_iconst (v := (-1)) hx hb dX3_flows_152 (by decide) ?_
    refine lv_icmp_eq (tgt := 173) hx hb dX3_flows_153 (by decide) (fun c6 => ?_) (fun c6 => ?_)
    · replace hm := if_t c6 hm
      exact wkX_X3_flows_173 X hr hlk hnm N K7 hK7 w5.1 x0 x1 x2 x3 H locs ls _ _ hm hw hS (lv_sub hl [0, 1, 2, 3] rfl)
    · replace hm := if_f c6 hm
      refine lv_aload_n hx hb dX3_flows_156 rfl (lv_at hl 2 rfl) ?_
      refine lv_aload_n hx hb dX3_flows_157 rfl (lv_at hl 0 rfl) ?_
      refine lv_iload_n hx hb dX3_flows_158 rfl (lv_at hl 3 rfl) ?_
      refine lv_iconst (v := 1) hx hb dX3_flows_159 (by decide) ?_
      obtain ⟨u7, hu7, hm⟩ := ob_s hm
      obtain ⟨w8, hw8, hm⟩ := ob_s hm
      refine xr_reti hS (xr_runV X hw (met_X3_into N w5.1 x0 x3 1 w8 hw8) (x_cv X (lv := 0) (by omega) (by decide) cx_X3_into (lw_V q578 q579 q580 q120 q581)) xc2 hu7 rfl hl.1 rfl (Nat.le_of_ble_eq_true rfl) dX3_flows_160) (fun H locs cells slots hw hS => ?_)
      refine lv_dup2_11 hx hb dX3_flows_163 rfl rfl ?_
      obtain ⟨v9, hv9, hm⟩ := ob_s hm
      refine xr_lald X hw hv9 dX3_flows_164 ?_
      refine lv_lload hx hb dX3_flows_165 (lv_at hl 4 rfl) ?_
      refine lv_ldc2 (v := 2) hx hb hown (hts _ q1371) dX3_flows_167 ?_
      refine lv_ldiv hx hb dX3_flows_170 (by decide) ?_
      refine lv_topl (fun v10 ev10 => ?_)
      replace hm := bnd_s hm ev10
      refine lv_ladd hx hb dX3_flows_171 ?_
      obtain ⟨S11, hS11, hm⟩ := ob_s hm
      refine xr_last X hw hS hS11 dX3_flows_172 (fun H locs hw hS => ?_)
      exact wkX_X3_flows_173 X hr hlk hnm N K7 hK7 S11 x0 x1 x2 x3 H locs ls _ _ hm hw hS (lv_sub hl [0, 1, 2, 3] rfl)
def kX_X3_flows_133 (g : XC) (N : Nat) (K7 : XS → Nat → Int32 → Nat → Int32 → Option (XS × Nat)) (S : XS) (x0 : Nat) (x1 : Int32) (x2 : Nat) (x3 : Int32) (x4 : Int64) (t0 : Nat) (t1 : Int32) (t2 : Int64) (t3 : Int64) : Option (XS × Nat) :=
  (a_putJ S t0 t1 (t2 + t3)).bind fun S1 =>
  kX_X3_flows_135 g N K7 S1 x0 x1 x2 x3 x4
theorem wkX_X3_flows_133 {p : Program} {l : Launch} {e : Env} {s : State} {m : MethodId} {args : Array Value} {below : List Frame} {meth : Method} {c : Code} {g : XC} {D : va_G} {A : Nat → Prop} {S0 : XS} {w : XS × Nat} (X : xX g D A RX3 S0 p s m args c cX3_flows 6) (hr : meth.sig.returnType = (Option.some (Jvm.ClassFile.FieldType.array Jvm.ClassFile.FieldType.long))) (hlk : meth.locks = false) (hnm : meth.name = yX3_flows.name) (N : Nat) (K7 : XS → Nat → Int32 → Nat → Int32 → Option (XS × Nat))
    (hK7 : ∀ (S : XS) (x0 : Nat) (x1 : Int32) (x2 : Nat) (x3 : Int32) (H : Heap) (locs : List Loc) (ls : Array Slot) (cells slots : Nat), K7 S x0 x1 x2 x3 = some w → xW g D A S s H → va_S A s.heap H locs → lv_has ls 6 [(0, .ref x0), (1, .int x1), (2, .ref x2), (3, .int x3)] → W p l e (xRm g S0 3) s m args below meth c H locs cells slots (MQ below (xQr g D A w) args s (g.2.1 - xTop S0) (g.2.2.1 - xSl S0) A) (F0 m 7 ls [])) :
    ∀ (S : XS) (x0 : Nat) (x1 : Int32) (x2 : Nat) (x3 : Int32) (x4 : Int64) (t0 : Nat) (t1 : Int32) (t2 : Int64) (t3 : Int64) (H : Heap) (locs : List Loc) (ls : Array Slot) (cells slots : Nat), kX_X3_flows_133 g N K7 S x0 x1 x2 x3 x4 t0 t1 t2 t3 = some w → xW g D A S s H → va_S A s.heap H locs → lv_has ls 6 [(0, .ref x0), (1, .int x1), (2, .ref x2), (3, .int x3), (4, .long x4)] → W p l e (xRm g S0 3) s m args below meth c H locs cells slots (MQ below (xQr g D A w) args s (g.2.1 - xTop S0) (g.2.2.1 - xSl S0) A) (F0 m 133 ls [.long t3, .long t2, .int t1, .ref t0]) := by
  obtain ⟨hx, hb, -, hown, hts, -⟩ := id X
  intro S x0 x1 x2 x3 x4 t0 t1 t2 t3 H locs ls cells slots hm hw hS hl
  unfold kX_X3_flows_133 at hm
  refine lv_ladd hx hb dX3_flows_133 ?_
  obtain ⟨S1, hS1, hm⟩ := ob_s hm
  refine xr_last X hw hS hS1 dX3_flows_134 (fun H locs hw hS => ?_)
  exact wkX_X3_flows_135 X hr hlk hnm N K7 hK7 S1 x0 x1 x2 x3 x4 H locs ls _ _ hm hw hS (lv_sub hl [0, 1, 2, 3, 4] rfl)
def kX_X3_flows_61 (g : XC) (N : Nat) (K7 : XS → Nat → Int32 → Nat → Int32 → Option (XS × Nat)) (S : XS) (x0 : Nat) (x1 : Int32) (x2 : Nat) (x3 : Int32) : Option (XS × Nat) :=
  (f_obj S 2 x0 1).bind fun v1 =>
  (a_int S 0 v1 x3).bind fun v2 =>
  (a_long S x2 x3).bind fun v3 =>
  (f_obj S 2 x0 0).bind fun v4 =>
  (a_int S 0 v4 x3).bind fun v5 =>
  if (v5 : Int32).toInt64 = 0 then none else
  bnd (((v2 : Int32).toInt64 + v3) / (v5 : Int32).toInt64) fun v7 =>
  (a_putJ S x2 (9 + x3) v7).bind fun S8 =>
  (f_cls S8 2 x0).bind fun u9 =>
  (kX_X3_into g N S8 x0 x3 0).bind fun w10 =>
  if w10.2 = (-1) then
    kX_X3_flows_135 g N K7 w10.1 x0 x1 x2 x3 v7
  else
    (f_cls w10.1 2 x0).bind fun u12 =>
    (kX_X3_into g N w10.1 x0 x3 0).bind fun w13 =>
    (a_long w13.1 x2 w13.2).bind fun v14 =>
    (f_obj w13.1 2 x0 4).bind fun v15 =>
    (a_int w13.1 0 v15 x3).bind fun v16 =>
    if v16 = (-2) then
      kX_X3_flows_133 g N K7 w13.1 x0 x1 x2 x3 v7 x2 w13.2 v14 v7
    else
      bnd ((v7 + 1) / 2) fun v18 =>
      kX_X3_flows_133 g N K7 w13.1 x0 x1 x2 x3 v7 x2 w13.2 v14 v18
theorem wkX_X3_flows_61 {p : Program} {l : Launch} {e : Env} {s : State} {m : MethodId} {args : Array Value} {below : List Frame} {meth : Method} {c : Code} {g : XC} {D : va_G} {A : Nat → Prop} {S0 : XS} {w : XS × Nat} (X : xX g D A RX3 S0 p s m args c cX3_flows 6) (hr : meth.sig.returnType = (Option.some (Jvm.ClassFile.FieldType.array Jvm.ClassFile.FieldType.long))) (hlk : meth.locks = false) (hnm : meth.name = yX3_flows.name) (N : Nat) (K7 : XS → Nat → Int32 → Nat → Int32 → Option (XS × Nat))
    (hK7 : ∀ (S : XS) (x0 : Nat) (x1 : Int32) (x2 : Nat) (x3 : Int32) (H : Heap) (locs : List Loc) (ls : Array Slot) (cells slots : Nat), K7 S x0 x1 x2 x3 = some w → xW g D A S s H → va_S A s.heap H locs → lv_has ls 6 [(0, .ref x0), (1, .int x1), (2, .ref x2), (3, .int x3)] → W p l e (xRm g S0 3) s m args below meth c H locs cells slots (MQ below (xQr g D A w) args s (g.2.1 - xTop S0) (g.2.2.1 - xSl S0) A) (F0 m 7 ls [])) :
    ∀ (S : XS) (x0 : Nat) (x1 : Int32) (x2 : Nat) (x3 : Int32) (H : Heap) (locs : List Loc) (ls : Array Slot) (cells slots : Nat), kX_X3_flows_61 g N K7 S x0 x1 x2 x3 = some w → xW g D A S s H → va_S A s.heap H locs → lv_has ls 6 [(0, .ref x0), (1, .int x1), (2, .ref x2), (3, .int x3)] → W p l e (xRm g S0 3) s m args below meth c H locs cells slots (MQ below (xQr g D A w) args s (g.2.1 - xTop S0) (g.2.2.1 - xSl S0) A) (F0 m 61 ls []) := by
  obtain ⟨hx, hb, -, hown, hts, -⟩ := id X
  intro S x0 x1 x2 x3 H locs ls cells slots hm hw hS hl
  unfold kX_X3_flows_61 at hm
  refine lv_aload_n hx hb dX3_flows_61 rfl (lv_at hl 0 rfl) ?_
  obtain ⟨v1, hv1, hm⟩ := ob_s hm
  refine xr_val X hw xc2 in_X3 1 (by decide) q213 (f_obj_s hv1) dX3_flows_62 ?_
  refine lv_iload_n hx hb dX3_flows_65 rfl (lv_at hl 3 rfl) ?_
  obtain ⟨v2, hv2, hm⟩ := ob_s hm
  refine xr_iald X hw hv2 dX3_flows_66 ?_
  refine lv_i2l hx hb dX3_flows_67 rfl ?_
  refine lv_aload_n hx hb dX3_flows_68 rfl (lv_at hl 2 rfl) ?_
  refine lv_iload_n hx hb dX3_flows_69 rfl (lv_at hl 3 rfl) ?_
  obtain ⟨v3, hv3, hm⟩ := ob_s hm
  refine xr_lald X hw hv3 dX3_flows_70 ?_
  refine lv_ladd hx hb dX3_flows_71 ?_
  refine lv_aload_n hx hb dX3_flows_72 rfl (lv_at hl 0 rfl) ?_
  obtain ⟨v4, hv4, hm⟩ := ob_s hm
  refine xr_val X hw xc2 in_X3 0 (by decide) q210 (f_obj_s hv4) dX3_flows_73 ?_
  refine lv_iload_n hx hb dX3_flows_76 rfl (lv_at hl 3 rfl) ?_
  obtain ⟨v5, hv5, hm⟩ := ob_s hm
  refine xr_iald X hw hv5 dX3_flows_77 ?_
  refine lv_i2l hx hb dX3_flows_78 rfl ?_
  by_cases c6 : (v5 : Int32).toInt64 = 0
  · replace hm := if_t c6 hm
    cases hm
  replace hm := if_f c6 hm
  refine lv_ldiv hx hb dX3_flows_79 c6 ?_
  refine lv_topl (fun v7 ev7 => ?_)
  replace hm := bnd_s hm ev7
  refine lv_lstore (lv' := [(4, .long v7), (0, .ref x0), (1, .int x1), (2, .ref x2), (3, .int x3)]) hx hb dX3_flows_80 hl (by decide) rfl (fun ls hl => ?_)
  refine lv_aload_n hx hb dX3_flows_82 rfl (lv_at hl 3 rfl) ?_
  refine lv_bipush (v := 9) hx hb dX3_flows_83 (by decide) ?_
  refine lv_iload_n hx hb dX3_flows_85 rfl (lv_at hl 4 rfl) ?_
  refine lv_iadd hx hb dX3_flows_86 ?_
  refine lv_lload hx hb dX3_flows_87 (lv_at hl 0 rfl) ?_
  obtain ⟨S8, hS8, hm⟩ := ob_s hm
  refine xr_last X hw hS hS8 dX3_flows_89 (fun H locs hw hS => ?_)
  refine lv_aload_n hx hb dX3_flows_90 rfl (lv_at hl 1 rfl) ?_
  refine lv_iload_n hx hb dX3_flows_91 rfl (lv_at hl 4 rfl) ?_
  refine lv_iconst (v := 0) hx hb dX3_flows_92 (by decide) ?_
  obtain ⟨u9, hu9, hm⟩ := ob_s hm
  obtain ⟨w10, hw10, hm⟩ := ob_s hm
  refine xr_reti hS (xr_runV X hw (met_X3_into N S8 x0 x3 0 w10 hw10) (x_cv X (lv := 0) (by omega) (by decide) cx_X3_into (lw_V q578 q579 q580 q120 q581)) xc2 hu9 rfl hl.1 rfl (Nat.le_of_ble_eq_true rfl) dX3_flows_93) (fun H locs cells slots hw hS => ?_)
  refine lv_iconst (v := (-1)) hx hb dX3_flows_96 (by decide) ?_
  refine lv_icmp_eq (tgt := 135) hx hb dX3_flows_97 (by decide) (fun c11 => ?_) (fun c11 => ?_)
  · replace hm := if_t c11 hm
    exact wkX_X3_flows_135 X hr hlk hnm N K7 hK7 w10.1 x0 x1 x2 x3 v7 H locs ls _ _ hm hw hS (lv_sub hl [1, 2, 3, 4, 0] rfl)
  · replace hm := if_f c11 hm
    refine lv_aload_n hx hb dX3_flows_100 rfl (lv_at hl 3 rfl) ?_
    refine lv_aload_n hx hb dX3_flows_101 rfl (lv_at hl 1 rfl) ?_
    refine lv_iload_n hx hb dX3_flows_102 rfl (lv_at hl 4 rfl) ?_
    refine lv_iconst (v := 0) hx hb dX3_flows_103 (by decide) ?_
    obtain ⟨u12, hu12, hm⟩ := ob_s hm
    obtain ⟨w13, hw13, hm⟩ := ob_s hm
    refine xr_reti hS (xr_runV X hw (met_X3_into N w10.1 x0 x3 0 w13 hw13) (x_cv X (lv := 0) (by omega) (by decide) cx_X3_into (lw_V q578 q579 q580 q120 q581)) xc2 hu12 rfl hl.1 rfl (Nat.le_of_ble_eq_true rfl) dX3_flows_104) (fun H locs cells slots hw hS => ?_)
    refine lv_dup2_11 hx hb dX3_flows_107 rfl rfl ?_
    obtain ⟨v14, hv14, hm⟩ := ob_s hm
    refine xr_lald X hw hv14 dX3_flows_108 ?_
    refine lv_aload_n hx hb dX3_flows_109 rfl (lv_at hl 1 rfl) ?_
    obtain ⟨v15, hv15, hm⟩ := ob_s hm
    refine xr_val X hw xc2 in_X3 4 (by decide) q221 (f_obj_s hv15) dX3_flows_110 ?_
    refine lv_iload_n hx hb dX3_flows_113 rfl (lv_at hl 4 rfl) ?_
    obtain ⟨v16, hv16, hm⟩ := ob_s hm
    refine xr_iald X hw hv16 dX3_flows_114 ?_
    refine lv_bipush (v := (-2)) hx hb dX3_flows_115 (by decide) ?_
    refine lv_icmp_ne (tgt := 125) hx hb dX3_flows_117 (by decide) (fun c17 => ?_) (fun c17 => ?_)
    · replace hm := if_f c17 hm
      refine lv_lload hx hb dX3_flows_125 (lv_at hl 0 rfl) ?_
      refine lv_lconst (v := 1) hx hb dX3_flows_127 rfl ?_
      refine lv_ladd hx hb dX3_flows_128 ?_
      refine lv_ldc2 (v := 2) hx hb hown (hts _ q1371) dX3_flows_129 ?_
      refine lv_ldiv hx hb dX3_flows_132 (by decide) ?_
      refine lv_topl (fun v18 ev18 => ?_)
      replace hm := bnd_s hm ev18
      exact wkX_X3_flows_133 X hr hlk hnm N K7 hK7 w13.1 x0 x1 x2 x3 v7 x2 w13.2 v14 v18 H locs ls _ _ hm hw hS (lv_sub hl [1, 2, 3, 4, 0] rfl)
    · replace hm := if_t c17 hm
      refine lv_lload hx hb dX3_flows_120 (lv_at hl 0 rfl) ?_
      refine lv_goto (tgt := 133) hx hb dX3_flows_122 (by decide) ?_
      exact wkX_X3_flows_133 X hr hlk hnm N K7 hK7 w13.1 x0 x1 x2 x3 v7 x2 w13.2 v14 v7 H locs ls _ _ hm hw hS (lv_sub hl [1, 2, 3, 4, 0] rfl)
def kX_X3_flows_7 (g : XC) (N : Nat) : Nat → XS → Nat → Int32 → Nat → Int32 → Option (XS × Nat)
  | 0, _, _, _, _, _ => none
  | n + 1, S, x0, x1, x2, x3 =>
    (f_obj S 2 x0 15).bind fun v1 =>
    (f_obj S 1 v1 1).bind fun v2 =>
    (f_cls S 3 v2).bind fun u3 =>
    (kX_X2_cups g N S v2).bind fun w4 =>
    if w4.2 ≤ x3 then
      some (w4.1, x2)
    else
      (f_cls w4.1 2 x0).bind fun u6 =>
      (kX_X3_isPlugged g N w4.1 x0 x3).bind fun w7 =>
      if w7.2 = 0 then
        (a_long w7.1 x2 x3).bind fun v9 =>
        (f_obj w7.1 2 x0 15).bind fun v10 =>
        (f_obj w7.1 1 v10 1).bind fun v11 =>
        (f_obj w7.1 3 v11 0).bind fun v12 =>
        (f_cls w7.1 10 v12).bind fun u13 =>
        (kX_J2_get g N w7.1 v12 x3).bind fun w14 =>
        (gIv g w14.2).bind fun k15 =>
        (gIv g w14.2).bind fun u16 =>
        (kX_J19_intValue g N w14.1 w14.2).bind fun w17 =>
        (a_putJ w17.1 x2 x3 (v9 + ((w17.2 : Int32).toInt64 * (x1 : Int32).toInt64))).bind fun S18 =>
        kX_X3_flows_61 g N (kX_X3_flows_7 g N n) S18 x0 x1 x2 x3
      else
        kX_X3_flows_61 g N (kX_X3_flows_7 g N n) w7.1 x0 x1 x2 x3
theorem wkX_X3_flows_7 {p : Program} {l : Launch} {e : Env} {s : State} {m : MethodId} {args : Array Value} {below : List Frame} {meth : Method} {c : Code} {g : XC} {D : va_G} {A : Nat → Prop} {S0 : XS} {w : XS × Nat} (X : xX g D A RX3 S0 p s m args c cX3_flows 6) (hr : meth.sig.returnType = (Option.some (Jvm.ClassFile.FieldType.array Jvm.ClassFile.FieldType.long))) (hlk : meth.locks = false) (hnm : meth.name = yX3_flows.name) (N : Nat) :
    ∀ (n : Nat) (S : XS) (x0 : Nat) (x1 : Int32) (x2 : Nat) (x3 : Int32) (H : Heap) (locs : List Loc) (ls : Array Slot) (cells slots : Nat), kX_X3_flows_7 g N n S x0 x1 x2 x3 = some w → xW g D A S s H → va_S A s.heap H locs → lv_has ls 6 [(0, .ref x0), (1, .int x1), (2, .ref x2), (3, .int x3)] → W p l e (xRm g S0 3) s m args below meth c H locs cells slots (MQ below (xQr g D A w) args s (g.2.1 - xTop S0) (g.2.2.1 - xSl S0) A) (F0 m 7 ls []) := by
  obtain ⟨hx, hb, -, hown, hts, -⟩ := id X
  intro n
  induction n with
  | zero =>
    intro S x0 x1 x2 x3 H locs ls cells slots hm
    cases hm
  | succ n ih =>
    intro S x0 x1 x2 x3 H locs ls cells slots hm hw hS hl
    rw [kX_X3_flows_7] at hm
    refine lv_iload_n hx hb dX3_flows_7 rfl (lv_at hl 3 rfl) ?_
    refine lv_aload_n hx hb dX3_flows_8 rfl (lv_at hl 0 rfl) ?_
    obtain ⟨v1, hv1, hm⟩ := ob_s hm
    refine xr_val X hw xc2 in_X3 15 (by decide) q241 (f_obj_s hv1) dX3_flows_9 ?_
    obtain ⟨v2, hv2, hm⟩ := ob_s hm
    refine xr_valN X hw xc1 in_X1 1 (by decide) q280 (f_obj_s hv2) dX3_flows_12 ?_
    obtain ⟨u3, hu3, hm⟩ := ob_s hm
    obtain ⟨w4, hw4, hm⟩ := ob_s hm
    refine xr_reti hS (xr_runV X hw (met_X2_cups N S v2 w4 hw4) (x_cv X (lv := 1) (by omega) (by decide) cx_X2_cups (lw_V q462 q463 q464 q116 q465)) xc3 hu3 rfl hl.1 rfl (Nat.le_of_ble_eq_true rfl) dX3_flows_15) (fun H locs cells slots hw hS => ?_)
    refine lv_icmp_ge (tgt := 179) hx hb dX3_flows_18 (by decide) (fun c5 => ?_) (fun c5 => ?_)
    · replace hm := if_t c5 hm
      refine lv_aload_n hx hb dX3_flows_179 rfl (lv_at hl 2 rfl) ?_
      obtain rfl := Option.some.inj hm
      exact xr_aret X hr (by first | exact Or.inl ⟨_, rfl⟩ | exact Or.inr ⟨_, rfl⟩) hlk hw hS dX3_flows_180
    · replace hm := if_f c5 hm
      refine lv_aload_n hx hb dX3_flows_21 rfl (lv_at hl 0 rfl) ?_
      refine lv_iload_n hx hb dX3_flows_22 rfl (lv_at hl 3 rfl) ?_
      obtain ⟨u6, hu6, hm⟩ := ob_s hm
      obtain ⟨w7, hw7, hm⟩ := ob_s hm
      refine xr_reti hS (xr_runV X hw (met_X3_isPlugged N w4.1 x0 x3 w7 hw7) (x_cv X (lv := 1) (by omega) (by decide) cx_X3_isPlugged (lw_V q472 q473 q474 q120 q475)) xc2 hu6 rfl hl.1 rfl (Nat.le_of_ble_eq_true rfl) dX3_flows_23) (fun H locs cells slots hw hS => ?_)
      refine lv_if_ne (tgt := 61) hx hb dX3_flows_26 (by decide) (fun c8 => ?_) (fun c8 => ?_)
      · replace hm := if_f c8 hm
        exact wkX_X3_flows_61 X hr hlk hnm N (kX_X3_flows_7 g N n) ih w7.1 x0 x1 x2 x3 H locs ls _ _ hm hw hS (lv_sub hl [0, 1, 2, 3] rfl)
      · replace hm := if_t c8 hm
        refine lv_aload_n hx hb dX3_flows_29 rfl (lv_at hl 2 rfl) ?_
        refine lv_iload_n hx hb dX3_flows_30 rfl (lv_at hl 3 rfl) ?_
        refine lv_dup2_11 hx hb dX3_flows_31 rfl rfl ?_
        obtain ⟨v9, hv9, hm⟩ := ob_s hm
        refine xr_lald X hw hv9 dX3_flows_32 ?_
        refine lv_aload_n hx hb dX3_flows_33 rfl (lv_at hl 0 rfl) ?_
        obtain ⟨v10, hv10, hm⟩ := ob_s hm
        refine xr_val X hw xc2 in_X3 15 (by decide) q241 (f_obj_s hv10) dX3_flows_34 ?_
        obtain ⟨v11, hv11, hm⟩ := ob_s hm
        refine xr_valN X hw xc1 in_X1 1 (by decide) q280 (f_obj_s hv11) dX3_flows_37 ?_
        obtain ⟨v12, hv12, hm⟩ := ob_s hm
        refine xr_valN X hw xc3 in_X2 0 (by decide) q190 (f_obj_s hv12) dX3_flows_40 ?_
        refine lv_iload_n hx hb dX3_flows_43 rfl (lv_at hl 3 rfl) ?_
        obtain ⟨u13, hu13, hm⟩ := ob_s hm
        obtain ⟨w14, hw14, hm⟩ := ob_s hm
        refine xr_ret5r hS (xr_runF (x := ⟨"java/util/List", "get", "(I)Ljava/lang/Object;"⟩) X hw (met_J2_get N w7.1 v12 x3 w14 hw14) (x_cf X (lv := 2) (by omega) (by decide) ci_List_get q484 q487 q489 q119 q491 q486 q485 q490 q488 q361) xc10 hu13 rfl hl.1 rfl (Nat.le_of_ble_eq_true rfl) dX3_flows_44) (fun H locs cells slots hw hS => ?_)
        obtain ⟨k15, hk15, hm⟩ := ob_s hm
        refine xr_castI X hw hk15 q496 dX3_flows_49 ?_
        obtain ⟨u16, hu16, hm⟩ := ob_s hm
        obtain ⟨w17, hw17, hm⟩ := ob_s hm
        refine xr_reti hS (xr_runVX X hw (met_J19_intValue N w14.1 w14.2 w17 hw17) (x_cv X (lv := 0) (by omega) (by decide) cx_J19_intValue (lw_V q497 q498 q499 q145 q500)) (x_recvI X hw hu16) rfl hl.1 rfl (Nat.le_of_ble_eq_true rfl) dX3_flows_52) (fun H locs cells slots hw hS => ?_)
        refine lv_i2l hx hb dX3_flows_55 rfl ?_
        refine lv_iload_n hx hb dX3_flows_56 rfl (lv_at hl 1 rfl) ?_
        refine lv_i2l hx hb dX3_flows_57 rfl ?_
        refine lv_lmul hx hb dX3_flows_58 ?_
        refine lv_ladd hx hb dX3_flows_59 ?_
        obtain ⟨S18, hS18, hm⟩ := ob_s hm
        refine xr_last X hw hS hS18 dX3_flows_60 (fun H locs hw hS => ?_)
        exact wkX_X3_flows_61 X hr hlk hnm N (kX_X3_flows_7 g N n) ih S18 x0 x1 x2 x3 H locs ls _ _ hm hw hS (lv_sub hl [0, 1, 2, 3] rfl)
def kX_X3_flows (g : XC) (N : Nat) (S : XS) (x0 : Nat) (x1 : Int32) : Option (XS × Nat) :=
  (xNewJ S 18).bind fun S1 =>
  kX_X3_flows_7 g N N S1 x0 x1 (xTop S) 0
theorem cx_X3_flows : yX3_flows.cls = RX3 ∧ yX3_flows.cls ≠ "java/lang/invoke/MethodHandle" ∧ yX3_flows.cls ≠ "java/lang/invoke/VarHandle" ∧ (parseMethodDescriptor yX3_flows.desc).map (fun d => d.parameters.length) = some 1 := by decide +kernel
theorem met_X3_flows {l : Launch} {g : XC} {D : va_G} {A : Nat → Prop} (N : Nat) (S : XS) (x0 : Nat) (x1 : Int32) (w : XS × Nat) (hm : kX_X3_flows g N S x0 x1 = some w) : Met l yX3_flows (ws_ yX3_flows cX3_flows 6 (Option.some (Jvm.ClassFile.FieldType.array Jvm.ClassFile.FieldType.long))) (xRm g S 3) (xPre g D A [.ref x0, .int x1] S) (xQr g D A w) (g.2.1 - xTop S) (g.2.2.1 - xSl S) A := by
  refine x_start (own := RX3) (by decide +kernel) rfl (Nat.le_of_ble_eq_true rfl) (fun p e s m below meth c ls X hr hlk hnm hw hl => ?_)
  obtain ⟨hx, hb, -, hown, hts, -⟩ := id X
  have hl : lv_has ls 6 [(0, .ref x0), (1, .int x1)] := hl
  have hg : ∀ (H : Heap) (locs : List Loc) (cells slots : Nat), xW g D A S s H → va_S A s.heap H locs → W p l e (xRm g S 3) s m ([.ref x0, .int x1] : List Value).toArray below meth c H locs cells slots (MQ below (xQr g D A w) ([.ref x0, .int x1] : List Value).toArray s (g.2.1 - xTop S) (g.2.2.1 - xSl S) A) (F0 m 0 ls []) := by
    intro H locs cells slots hw hS
    unfold kX_X3_flows at hm
    refine lv_bipush (v := 18) hx hb dX3_flows_0 (by decide) ?_
    obtain ⟨S1, hS1, hm⟩ := ob_s hm
    refine xr_newJ X hw hS q_arr_long hS1 dX3_flows_2 (fun H cells slots hw hS => ?_)
    refine lv_astore_n (lv' := [(2, .ref (xTop S)), (0, .ref x0), (1, .int x1)]) hx hb dX3_flows_4 rfl hl (by decide) rfl (fun ls hl => ?_)
    refine lv_iconst (v := 0) hx hb dX3_flows_5 (by decide) ?_
    refine lv_istore_n (lv' := [(3, .int 0), (2, .ref (xTop S)), (0, .ref x0), (1, .int x1)]) hx hb dX3_flows_6 rfl hl (by decide) rfl (fun ls hl => ?_)
    exact wkX_X3_flows_7 X hr hlk hnm N N S1 x0 x1 (xTop S) 0 H locs ls _ _ hm hw hS (lv_sub hl [2, 3, 1, 0] rfl)
  exact hg _ _ _ _ hw va_S.rf
/-! DripCups$Night.bare -/
def kX_X3_bare (g : XC) (N : Nat) (S : XS) (x0 : Nat) : Option (XS × Nat) :=
  (f_putI S 2 x0 8 1).bind fun S1 =>
  some (S1, x0)
theorem cx_X3_bare : yX3_bare.cls = RX3 ∧ yX3_bare.cls ≠ "java/lang/invoke/MethodHandle" ∧ yX3_bare.cls ≠ "java/lang/invoke/VarHandle" ∧ (parseMethodDescriptor yX3_bare.desc).map (fun d => d.parameters.length) = some 0 := by decide +kernel
theorem met_X3_bare {l : Launch} {g : XC} {D : va_G} {A : Nat → Prop} (N : Nat) (S : XS) (x0 : Nat) (w : XS × Nat) (hm : kX_X3_bare g N S x0 = some w) : Met l yX3_bare (ws_ yX3_bare cX3_bare 1 (Option.some (Jvm.ClassFile.FieldType.object "DripCups$Night"))) (xRm g S 0) (xPre g D A [.ref x0] S) (xQr g D A w) (g.2.1 - xTop S) (g.2.2.1 - xSl S) A := by
  refine x_start (own := RX3) (by decide +kernel) rfl (Nat.le_of_ble_eq_true rfl) (fun p e s m below meth c ls X hr hlk hnm hw hl => ?_)
  obtain ⟨hx, hb, -, hown, hts, -⟩ := id X
  have hl : lv_has ls 1 [(0, .ref x0)] := hl
  have hg : ∀ (H : Heap) (locs : List Loc) (cells slots : Nat), xW g D A S s H → va_S A s.heap H locs → W p l e (xRm g S 0) s m ([.ref x0] : List Value).toArray below meth c H locs cells slots (MQ below (xQr g D A w) ([.ref x0] : List Value).toArray s (g.2.1 - xTop S) (g.2.2.1 - xSl S) A) (F0 m 0 ls []) := by
    intro H locs cells slots hw hS
    unfold kX_X3_bare at hm
    refine lv_aload_n hx hb dX3_bare_0 rfl (lv_at hl 0 rfl) ?_
    refine lv_iconst (v := 1) hx hb dX3_bare_1 (by decide) ?_
    obtain ⟨S1, hS1, hm⟩ := ob_s hm
    refine xr_putI X hw hS xc2 in_X3 tyX3_ok nmX3 8 (by decide) q229 rfl (tyX3_ok 8 (by decide)) rfl rfl hS1 dX3_bare_2 (fun H locs hw hS => ?_)
    refine lv_aload_n hx hb dX3_bare_5 rfl (lv_at hl 0 rfl) ?_
    obtain rfl := Option.some.inj hm
    exact xr_aret X hr (by first | exact Or.inl ⟨_, rfl⟩ | exact Or.inr ⟨_, rfl⟩) hlk hw hS dX3_bare_6
  exact hg _ _ _ _ hw va_S.rf
/-! DripCups$Night.fullest -/
def kX_X3_fullest_40 (g : XC) (N : Nat) (K4 : XS → Nat → Int32 → Int32 → Option (XS × Int32)) (S : XS) (x0 : Nat) (x1 : Int32) (x2 : Int32) : Option (XS × Int32) :=
  K4 S x0 x1 (x2 + 1)
theorem wkX_X3_fullest_40 {p : Program} {l : Launch} {e : Env} {s : State} {m : MethodId} {args : Array Value} {below : List Frame} {meth : Method} {c : Code} {g : XC} {D : va_G} {A : Nat → Prop} {S0 : XS} {w : XS × Int32} (X : xX g D A RX3 S0 p s m args c cX3_fullest 3) (hr : meth.sig.returnType = (Option.some Jvm.ClassFile.FieldType.int)) (hlk : meth.locks = false) (hnm : meth.name = yX3_fullest.name) (N : Nat) (K4 : XS → Nat → Int32 → Int32 → Option (XS × Int32))
    (hK4 : ∀ (S : XS) (x0 : Nat) (x1 : Int32) (x2 : Int32) (H : Heap) (locs : List Loc) (ls : Array Slot) (cells slots : Nat), K4 S x0 x1 x2 = some w → xW g D A S s H → va_S A s.heap H locs → lv_has ls 3 [(0, .ref x0), (1, .int x1), (2, .int x2)] → W p l e (xRm g S0 2) s m args below meth c H locs cells slots (MQ below (xQi g D A w) args s (g.2.1 - xTop S0) (g.2.2.1 - xSl S0) A) (F0 m 4 ls [])) :
    ∀ (S : XS) (x0 : Nat) (x1 : Int32) (x2 : Int32) (H : Heap) (locs : List Loc) (ls : Array Slot) (cells slots : Nat), kX_X3_fullest_40 g N K4 S x0 x1 x2 = some w → xW g D A S s H → va_S A s.heap H locs → lv_has ls 3 [(0, .ref x0), (1, .int x1), (2, .int x2)] → W p l e (xRm g S0 2) s m args below meth c H locs cells slots (MQ below (xQi g D A w) args s (g.2.1 - xTop S0) (g.2.2.1 - xSl S0) A) (F0 m 40 ls []) := by
  obtain ⟨hx, hb, -, hown, hts, -⟩ := id X
  intro S x0 x1 x2 H locs ls cells slots hm hw hS hl
  unfold kX_X3_fullest_40 at hm
  refine lv_iinc (v := (x2 + 1)) (lv' := [(2, .int (x2 + 1)), (0, .ref x0), (1, .int x1)]) hx hb dX3_fullest_40 hl (k := 2) rfl rfl (by decide) rfl (fun ls hl => ?_)
  refine lv_goto (tgt := 4) hx hb dX3_fullest_43 (by decide) ?_
  exact hK4 S x0 x1 (x2 + 1) H locs ls _ _ hm hw hS (lv_sub hl [1, 2, 0] rfl)
def kX_X3_fullest_38 (g : XC) (N : Nat) (K4 : XS → Nat → Int32 → Int32 → Option (XS × Int32)) (S : XS) (x0 : Nat) (x2 : Int32) : Option (XS × Int32) :=
  kX_X3_fullest_40 g N K4 S x0 x2 x2
theorem wkX_X3_fullest_38 {p : Program} {l : Launch} {e : Env} {s : State} {m : MethodId} {args : Array Value} {below : List Frame} {meth : Method} {c : Code} {g : XC} {D : va_G} {A : Nat → Prop} {S0 : XS} {w : XS × Int32} (X : xX g D A RX3 S0 p s m args c cX3_fullest 3) (hr : meth.sig.returnType = (Option.some Jvm.ClassFile.FieldType.int)) (hlk : meth.locks = false) (hnm : meth.name = yX3_fullest.name) (N : Nat) (K4 : XS → Nat → Int32 → Int32 → Option (XS × Int32))
    (hK4 : ∀ (S : XS) (x0 : Nat) (x1 : Int32) (x2 : Int32) (H : Heap) (locs : List Loc) (ls : Array Slot) (cells slots : Nat), K4 S x0 x1 x2 = some w → xW g D A S s H → va_S A s.heap H locs → lv_has ls 3 [(0, .ref x0), (1, .int x1), (2, .int x2)] → W p l e (xRm g S0 2) s m args below meth c H locs cells slots (MQ below (xQi g D A w) args s (g.2.1 - xTop S0) (g.2.2.1 - xSl S0) A) (F0 m 4 ls [])) :
    ∀ (S : XS) (x0 : Nat) (x2 : Int32) (H : Heap) (locs : List Loc) (ls : Array Slot) (cells slots : Nat), kX_X3_fullest_38 g N K4 S x0 x2 = some w → xW g D A S s H → va_S A s.heap H locs → lv_has ls 3 [(0, .ref x0), (2, .int x2)] → W p l e (xRm g S0 2) s m args below meth c H locs cells slots (MQ below (xQi g D A w) args s (g.2.1 - xTop S0) (g.2.2.1 - xSl S0) A) (F0 m 38 ls []) := by
  obtain ⟨hx, hb, -, hown, hts, -⟩ := id X
  intro S x0 x2 H locs ls cells slots hm hw hS hl
  unfold kX_X3_fullest_38 at hm
  refine lv_iload_n hx hb dX3_fullest_38 rfl (lv_at hl 1 rfl) ?_
  refine lv_istore_n (lv' := [(1, .int x2), (0, .ref x0), (2, .int x2)]) hx hb dX3_fullest_39 rfl hl (by decide) rfl (fun ls hl => ?_)
  exact wkX_X3_fullest_40 X hr hlk hnm N K4 hK4 S x0 x2 x2 H locs ls _ _ hm hw hS (lv_sub hl [1, 0, 2] rfl)
def kX_X3_fullest_4 (g : XC) (N : Nat) : Nat → XS → Nat → Int32 → Int32 → Option (XS × Int32)
  | 0, _, _, _, _ => none
  | n + 1, S, x0, x1, x2 =>
    (f_obj S 2 x0 15).bind fun v1 =>
    (f_obj S 1 v1 1).bind fun v2 =>
    (f_cls S 3 v2).bind fun u3 =>
    (kX_X2_cups g N S v2).bind fun w4 =>
    if w4.2 ≤ x2 then
      some (w4.1, x1)
    else
      if x1 = (-1) then
        kX_X3_fullest_38 g N (kX_X3_fullest_4 g N n) w4.1 x0 x2
      else
        (f_obj w4.1 2 x0 1).bind fun v7 =>
        (a_int w4.1 0 v7 x2).bind fun v8 =>
        (f_obj w4.1 2 x0 1).bind fun v9 =>
        (a_int w4.1 0 v9 x1).bind fun v10 =>
        if v8 ≤ v10 then
          kX_X3_fullest_40 g N (kX_X3_fullest_4 g N n) w4.1 x0 x1 x2
        else
          kX_X3_fullest_38 g N (kX_X3_fullest_4 g N n) w4.1 x0 x2
theorem wkX_X3_fullest_4 {p : Program} {l : Launch} {e : Env} {s : State} {m : MethodId} {args : Array Value} {below : List Frame} {meth : Method} {c : Code} {g : XC} {D : va_G} {A : Nat → Prop} {S0 : XS} {w : XS × Int32} (X : xX g D A RX3 S0 p s m args c cX3_fullest 3) (hr : meth.sig.returnType = (Option.some Jvm.ClassFile.FieldType.int)) (hlk : meth.locks = false) (hnm : meth.name = yX3_fullest.name) (N : Nat) :
    ∀ (n : Nat) (S : XS) (x0 : Nat) (x1 : Int32) (x2 : Int32) (H : Heap) (locs : List Loc) (ls : Array Slot) (cells slots : Nat), kX_X3_fullest_4 g N n S x0 x1 x2 = some w → xW g D A S s H → va_S A s.heap H locs → lv_has ls 3 [(0, .ref x0), (1, .int x1), (2, .int x2)] → W p l e (xRm g S0 2) s m args below meth c H locs cells slots (MQ below (xQi g D A w) args s (g.2.1 - xTop S0) (g.2.2.1 - xSl S0) A) (F0 m 4 ls []) := by
  obtain ⟨hx, hb, -, hown, hts, -⟩ := id X
  intro n
  induction n with
  | zero =>
    intro S x0 x1 x2 H locs ls cells slots hm
    cases hm
  | succ n ih =>
    intro S x0 x1 x2 H locs ls cells slots hm hw hS hl
    rw [kX_X3_fullest_4] at hm
    refine lv_iload_n hx hb dX3_fullest_4 rfl (lv_at hl 2 rfl) ?_
    refine lv_aload_n hx hb dX3_fullest_5 rfl (lv_at hl 0 rfl) ?_
    obtain ⟨v1, hv1, hm⟩ := ob_s hm
    refine xr_val X hw xc2 in_X3 15 (by decide) q241 (f_obj_s hv1) dX3_fullest_6 ?_
    obtain ⟨v2, hv2, hm⟩ := ob_s hm
    refine xr_valN X hw xc1 in_X1 1 (by decide) q280 (f_obj_s hv2) dX3_fullest_9 ?_
    obtain ⟨u3, hu3, hm⟩ := ob_s hm
    obtain ⟨w4, hw4, hm⟩ := ob_s hm
    refine xr_reti hS (xr_runV X hw (met_X2_cups N S v2 w4 hw4) (x_cv X (lv := 1) (by omega) (by decide) cx_X2_cups (lw_V q462 q463 q464 q116 q465)) xc3 hu3 rfl hl.1 rfl (Nat.le_of_ble_eq_true rfl) dX3_fullest_12) (fun H locs cells slots hw hS => ?_)
    refine lv_icmp_ge (tgt := 46) hx hb dX3_fullest_15 (by decide) (fun c5 => ?_) (fun c5 => ?_)
    · replace hm := if_t c5 hm
      refine lv_iload_n hx hb dX3_fullest_46 rfl (lv_at hl 1 rfl) ?_
      obtain rfl := Option.some.inj hm
      exact xr_iret (v := x1) X hr hlk hw hS rfl dX3_fullest_47
    · replace hm := if_f c5 hm
      refine lv_iload_n hx hb dX3_fullest_18 rfl (lv_at hl 1 rfl) ?_
      refine lv_iconst (v := (-1)) hx hb dX3_fullest_19 (by decide) ?_
      refine lv_icmp_eq (tgt := 38) hx hb dX3_fullest_20 (by decide) (fun c6 => ?_) (fun c6 => ?_)
      · replace hm := if_t c6 hm
        exact wkX_X3_fullest_38 X hr hlk hnm N (kX_X3_fullest_4 g N n) ih w4.1 x0 x2 H locs ls _ _ hm hw hS (lv_sub hl [0, 2] rfl)
      · replace hm := if_f c6 hm
        refine lv_aload_n hx hb dX3_fullest_23 rfl (lv_at hl 0 rfl) ?_
        obtain ⟨v7, hv7, hm⟩ := ob_s hm
        refine xr_val X hw xc2 in_X3 1 (by decide) q213 (f_obj_s hv7) dX3_fullest_24 ?_
        refine lv_iload_n hx hb dX3_fullest_27 rfl (lv_at hl 2 rfl) ?_
        obtain ⟨v8, hv8, hm⟩ := ob_s hm
        refine xr_iald X hw hv8 dX3_fullest_28 ?_
        refine lv_aload_n hx hb dX3_fullest_29 rfl (lv_at hl 0 rfl) ?_
        obtain ⟨v9, hv9, hm⟩ := ob_s hm
        refine xr_val X hw xc2 in_X3 1 (by decide) q213 (f_obj_s hv9) dX3_fullest_30 ?_
        refine lv_iload_n hx hb dX3_fullest_33 rfl (lv_at hl 1 rfl) ?_
        obtain ⟨v10, hv10, hm⟩ := ob_s hm
        refine xr_iald X hw hv10 dX3_fullest_34 ?_
        refine lv_icmp_le (tgt := 40) hx hb dX3_fullest_35 (by decide) (fun c11 => ?_) (fun c11 => ?_)
        · replace hm := if_t c11 hm
          exact wkX_X3_fullest_40 X hr hlk hnm N (kX_X3_fullest_4 g N n) ih w4.1 x0 x1 x2 H locs ls _ _ hm hw hS (lv_sub hl [0, 1, 2] rfl)
        · replace hm := if_f c11 hm
          exact wkX_X3_fullest_38 X hr hlk hnm N (kX_X3_fullest_4 g N n) ih w4.1 x0 x2 H locs ls _ _ hm hw hS (lv_sub hl [0, 2] rfl)
def kX_X3_fullest (g : XC) (N : Nat) (S : XS) (x0 : Nat) : Option (XS × Int32) :=
  kX_X3_fullest_4 g N N S x0 (-1) 0
theorem cx_X3_fullest : yX3_fullest.cls = RX3 ∧ yX3_fullest.cls ≠ "java/lang/invoke/MethodHandle" ∧ yX3_fullest.cls ≠ "java/lang/invoke/VarHandle" ∧ (parseMethodDescriptor yX3_fullest.desc).map (fun d => d.parameters.length) = some 0 := by decide +kernel
theorem met_X3_fullest {l : Launch} {g : XC} {D : va_G} {A : Nat → Prop} (N : Nat) (S : XS) (x0 : Nat) (w : XS × Int32) (hm : kX_X3_fullest g N S x0 = some w) : Met l yX3_fullest (ws_ yX3_fullest cX3_fullest 3 (Option.some Jvm.ClassFile.FieldType.int)) (xRm g S 2) (xPre g D A [.ref x0] S) (xQi g D A w) (g.2.1 - xTop S) (g.2.2.1 - xSl S) A := by
  refine x_start (own := RX3) (by decide +kernel) rfl (Nat.le_of_ble_eq_true rfl) (fun p e s m below meth c ls X hr hlk hnm hw hl => ?_)
  obtain ⟨hx, hb, -, hown, hts, -⟩ := id X
  have hl : lv_has ls 3 [(0, .ref x0)] := hl
  have hg : ∀ (H : Heap) (locs : List Loc) (cells slots : Nat), xW g D A S s H → va_S A s.heap H locs → W p l e (xRm g S 2) s m ([.ref x0] : List Value).toArray below meth c H locs cells slots (MQ below (xQi g D A w) ([.ref x0] : List Value).toArray s (g.2.1 - xTop S) (g.2.2.1 - xSl S) A) (F0 m 0 ls []) := by
    intro H locs cells slots hw hS
    unfold kX_X3_fullest at hm
    refine lv_iconst (v := (-1)) hx hb dX3_fullest_0 (by decide) ?_
    refine lv_istore_n (lv' := [(1, .int (-1)), (0, .ref x0)]) hx hb dX3_fullest_1 rfl hl (by decide) rfl (fun ls hl => ?_)
    refine lv_iconst (v := 0) hx hb dX3_fullest_2 (by decide) ?_
    refine lv_istore_n (lv' := [(2, .int 0), (1, .int (-1)), (0, .ref x0)]) hx hb dX3_fullest_3 rfl hl (by decide) rfl (fun ls hl => ?_)
    exact wkX_X3_fullest_4 X hr hlk hnm N N S x0 (-1) 0 H locs ls _ _ hm hw hS (lv_sub hl [2, 1, 0] rfl)
  exact hg _ _ _ _ hw va_S.rf
/-! DripCups$Night.dry -/
def kX_X3_dry_33 (g : XC) (N : Nat) (K4 : XS → Nat → Int32 → Int32 → Option (XS × Int32)) (S : XS) (x0 : Nat) (x1 : Int32) (x2 : Int32) : Option (XS × Int32) :=
  K4 S x0 x1 (x2 + 1)
theorem wkX_X3_dry_33 {p : Program} {l : Launch} {e : Env} {s : State} {m : MethodId} {args : Array Value} {below : List Frame} {meth : Method} {c : Code} {g : XC} {D : va_G} {A : Nat → Prop} {S0 : XS} {w : XS × Int32} (X : xX g D A RX3 S0 p s m args c cX3_dry 3) (hr : meth.sig.returnType = (Option.some Jvm.ClassFile.FieldType.int)) (hlk : meth.locks = false) (hnm : meth.name = yX3_dry.name) (N : Nat) (K4 : XS → Nat → Int32 → Int32 → Option (XS × Int32))
    (hK4 : ∀ (S : XS) (x0 : Nat) (x1 : Int32) (x2 : Int32) (H : Heap) (locs : List Loc) (ls : Array Slot) (cells slots : Nat), K4 S x0 x1 x2 = some w → xW g D A S s H → va_S A s.heap H locs → lv_has ls 3 [(0, .ref x0), (1, .int x1), (2, .int x2)] → W p l e (xRm g S0 2) s m args below meth c H locs cells slots (MQ below (xQi g D A w) args s (g.2.1 - xTop S0) (g.2.2.1 - xSl S0) A) (F0 m 4 ls [])) :
    ∀ (S : XS) (x0 : Nat) (x1 : Int32) (x2 : Int32) (H : Heap) (locs : List Loc) (ls : Array Slot) (cells slots : Nat), kX_X3_dry_33 g N K4 S x0 x1 x2 = some w → xW g D A S s H → va_S A s.heap H locs → lv_has ls 3 [(0, .ref x0), (1, .int x1), (2, .int x2)] → W p l e (xRm g S0 2) s m args below meth c H locs cells slots (MQ below (xQi g D A w) args s (g.2.1 - xTop S0) (g.2.2.1 - xSl S0) A) (F0 m 33 ls []) := by
  obtain ⟨hx, hb, -, hown, hts, -⟩ := id X
  intro S x0 x1 x2 H locs ls cells slots hm hw hS hl
  unfold kX_X3_dry_33 at hm
  refine lv_iinc (v := (x2 + 1)) (lv' := [(2, .int (x2 + 1)), (0, .ref x0), (1, .int x1)]) hx hb dX3_dry_33 hl (k := 2) rfl rfl (by decide) rfl (fun ls hl => ?_)
  refine lv_goto (tgt := 4) hx hb dX3_dry_36 (by decide) ?_
  exact hK4 S x0 x1 (x2 + 1) H locs ls _ _ hm hw hS (lv_sub hl [1, 2, 0] rfl)
def kX_X3_dry_4 (g : XC) (N : Nat) : Nat → XS → Nat → Int32 → Int32 → Option (XS × Int32)
  | 0, _, _, _, _ => none
  | n + 1, S, x0, x1, x2 =>
    (f_obj S 2 x0 15).bind fun v1 =>
    (f_obj S 1 v1 1).bind fun v2 =>
    (f_cls S 3 v2).bind fun u3 =>
    (kX_X2_cups g N S v2).bind fun w4 =>
    if w4.2 ≤ x2 then
      some (w4.1, x1)
    else
      (f_obj w4.1 2 x0 1).bind fun v6 =>
      (a_int w4.1 0 v6 x2).bind fun v7 =>
      if v7 = 0 then
        bnd (x1 ||| ((1 : Int32) <<< (x2 &&& 31))) fun v9 =>
        kX_X3_dry_33 g N (kX_X3_dry_4 g N n) w4.1 x0 v9 x2
      else
        kX_X3_dry_33 g N (kX_X3_dry_4 g N n) w4.1 x0 x1 x2
theorem wkX_X3_dry_4 {p : Program} {l : Launch} {e : Env} {s : State} {m : MethodId} {args : Array Value} {below : List Frame} {meth : Method} {c : Code} {g : XC} {D : va_G} {A : Nat → Prop} {S0 : XS} {w : XS × Int32} (X : xX g D A RX3 S0 p s m args c cX3_dry 3) (hr : meth.sig.returnType = (Option.some Jvm.ClassFile.FieldType.int)) (hlk : meth.locks = false) (hnm : meth.name = yX3_dry.name) (N : Nat) :
    ∀ (n : Nat) (S : XS) (x0 : Nat) (x1 : Int32) (x2 : Int32) (H : Heap) (locs : List Loc) (ls : Array Slot) (cells slots : Nat), kX_X3_dry_4 g N n S x0 x1 x2 = some w → xW g D A S s H → va_S A s.heap H locs → lv_has ls 3 [(0, .ref x0), (1, .int x1), (2, .int x2)] → W p l e (xRm g S0 2) s m args below meth c H locs cells slots (MQ below (xQi g D A w) args s (g.2.1 - xTop S0) (g.2.2.1 - xSl S0) A) (F0 m 4 ls []) := by
  obtain ⟨hx, hb, -, hown, hts, -⟩ := id X
  intro n
  induction n with
  | zero =>
    intro S x0 x1 x2 H locs ls cells slots hm
    cases hm
  | succ n ih =>
    intro S x0 x1 x2 H locs ls cells slots hm hw hS hl
    rw [kX_X3_dry_4] at hm
    refine lv_iload_n hx hb dX3_dry_4 rfl (lv_at hl 2 rfl) ?_
    refine lv_aload_n hx hb dX3_dry_5 rfl (lv_at hl 0 rfl) ?_
    obtain ⟨v1, hv1, hm⟩ := ob_s hm
    refine xr_val X hw xc2 in_X3 15 (by decide) q241 (f_obj_s hv1) dX3_dry_6 ?_
    obtain ⟨v2, hv2, hm⟩ := ob_s hm
    refine xr_valN X hw xc1 in_X1 1 (by decide) q280 (f_obj_s hv2) dX3_dry_9 ?_
    obtain ⟨u3, hu3, hm⟩ := ob_s hm
    obtain ⟨w4, hw4, hm⟩ := ob_s hm
    refine xr_reti hS (xr_runV X hw (met_X2_cups N S v2 w4 hw4) (x_cv X (lv := 1) (by omega) (by decide) cx_X2_cups (lw_V q462 q463 q464 q116 q465)) xc3 hu3 rfl hl.1 rfl (Nat.le_of_ble_eq_true rfl) dX3_dry_12) (fun H locs cells slots hw hS => ?_)
    refine lv_icmp_ge (tgt := 39) hx hb dX3_dry_15 (by decide) (fun c5 => ?_) (fun c5 => ?_)
    · replace hm := if_t c5 hm
      refine lv_iload_n hx hb dX3_dry_39 rfl (lv_at hl 1 rfl) ?_
      obtain rfl := Option.some.inj hm
      exact xr_iret (v := x1) X hr hlk hw hS rfl dX3_dry_40
    · replace hm := if_f c5 hm
      refine lv_aload_n hx hb dX3_dry_18 rfl (lv_at hl 0 rfl) ?_
      obtain ⟨v6, hv6, hm⟩ := ob_s hm
      refine xr_val X hw xc2 in_X3 1 (by decide) q213 (f_obj_s hv6) dX3_dry_19 ?_
      refine lv_iload_n hx hb dX3_dry_22 rfl (lv_at hl 2 rfl) ?_
      obtain ⟨v7, hv7, hm⟩ := ob_s hm
      refine xr_iald X hw hv7 dX3_dry_23 ?_
      refine lv_if_ne (tgt := 33) hx hb dX3_dry_24 (by decide) (fun c8 => ?_) (fun c8 => ?_)
      · replace hm := if_f c8 hm
        exact wkX_X3_dry_33 X hr hlk hnm N (kX_X3_dry_4 g N n) ih w4.1 x0 x1 x2 H locs ls _ _ hm hw hS (lv_sub hl [0, 1, 2] rfl)
      · replace hm := if_t c8 hm
        refine lv_iload_n hx hb dX3_dry_27 rfl (lv_at hl 1 rfl) ?_
        refine lv_iconst (v := 1) hx hb dX3_dry_28 (by decide) ?_
        refine lv_iload_n hx hb dX3_dry_29 rfl (lv_at hl 2 rfl) ?_
        refine lv_ishl hx hb dX3_dry_30 ?_
        refine lv_ior hx hb dX3_dry_31 ?_
        refine lv_topi (fun v9 ev9 => ?_)
        replace hm := bnd_s hm ev9
        refine lv_istore_n (lv' := [(1, .int v9), (0, .ref x0), (2, .int x2)]) hx hb dX3_dry_32 rfl hl (by decide) rfl (fun ls hl => ?_)
        exact wkX_X3_dry_33 X hr hlk hnm N (kX_X3_dry_4 g N n) ih w4.1 x0 v9 x2 H locs ls _ _ hm hw hS (lv_sub hl [1, 0, 2] rfl)
def kX_X3_dry (g : XC) (N : Nat) (S : XS) (x0 : Nat) : Option (XS × Int32) :=
  kX_X3_dry_4 g N N S x0 0 0
theorem cx_X3_dry : yX3_dry.cls = RX3 ∧ yX3_dry.cls ≠ "java/lang/invoke/MethodHandle" ∧ yX3_dry.cls ≠ "java/lang/invoke/VarHandle" ∧ (parseMethodDescriptor yX3_dry.desc).map (fun d => d.parameters.length) = some 0 := by decide +kernel
theorem met_X3_dry {l : Launch} {g : XC} {D : va_G} {A : Nat → Prop} (N : Nat) (S : XS) (x0 : Nat) (w : XS × Int32) (hm : kX_X3_dry g N S x0 = some w) : Met l yX3_dry (ws_ yX3_dry cX3_dry 3 (Option.some Jvm.ClassFile.FieldType.int)) (xRm g S 2) (xPre g D A [.ref x0] S) (xQi g D A w) (g.2.1 - xTop S) (g.2.2.1 - xSl S) A := by
  refine x_start (own := RX3) (by decide +kernel) rfl (Nat.le_of_ble_eq_true rfl) (fun p e s m below meth c ls X hr hlk hnm hw hl => ?_)
  obtain ⟨hx, hb, -, hown, hts, -⟩ := id X
  have hl : lv_has ls 3 [(0, .ref x0)] := hl
  have hg : ∀ (H : Heap) (locs : List Loc) (cells slots : Nat), xW g D A S s H → va_S A s.heap H locs → W p l e (xRm g S 2) s m ([.ref x0] : List Value).toArray below meth c H locs cells slots (MQ below (xQi g D A w) ([.ref x0] : List Value).toArray s (g.2.1 - xTop S) (g.2.2.1 - xSl S) A) (F0 m 0 ls []) := by
    intro H locs cells slots hw hS
    unfold kX_X3_dry at hm
    refine lv_iconst (v := 0) hx hb dX3_dry_0 (by decide) ?_
    refine lv_istore_n (lv' := [(1, .int 0), (0, .ref x0)]) hx hb dX3_dry_1 rfl hl (by decide) rfl (fun ls hl => ?_)
    refine lv_iconst (v := 0) hx hb dX3_dry_2 (by decide) ?_
    refine lv_istore_n (lv' := [(2, .int 0), (1, .int 0), (0, .ref x0)]) hx hb dX3_dry_3 rfl hl (by decide) rfl (fun ls hl => ?_)
    exact wkX_X3_dry_4 X hr hlk hnm N N S x0 0 0 H locs ls _ _ hm hw hS (lv_sub hl [2, 1, 0] rfl)
  exact hg _ _ _ _ hw va_S.rf
/-! DripCups$Reader.init -/
def kX_X5_init (g : XC) (N : Nat) (S : XS) (x0 : Nat) (x1 : Nat) (x2 : Int32) : Option (XS) :=
  (f_putR S 4 x0 12 (some x1)).bind fun S1 =>
  (xNew S1 3 (.inr (3, [.null, .null, .null]))).bind fun S2 =>
  (kX_X2_init g N S2 (xTop S1)).bind fun w3 =>
  (f_putR w3 4 x0 1 (some (xTop S1))).bind fun S4 =>
  (xNew S4 16 (.inr (2, [.null, .null, .null, .null, .null, .null, .int 0, .int 0, .int 0, .int 0, .int 0, .null, .null, .int 0, .int 0, .null]))).bind fun S5 =>
  (f_obj S5 4 x0 12).bind fun v6 =>
  (kX_X3_init g N S5 (xTop S4) v6).bind fun w7 =>
  (f_putR w7 4 x0 2 (some (xTop S4))).bind fun S8 =>
  (xNewR S8 4 2).bind fun S9 =>
  (gSi g (gSk g 0)).bind fun k11 =>
  (a_putR S9 4 (xTop S8) 0 (some (gSk g 0))).bind fun S10 =>
  (gSi g (gSk g 1)).bind fun k13 =>
  (a_putR S10 4 (xTop S8) 1 (some (gSk g 1))).bind fun S12 =>
  (f_putR S12 4 x0 3 (some (xTop S8))).bind fun S14 =>
  (xNewR S14 4 6).bind fun S15 =>
  (gSi g (gSk g 2)).bind fun k17 =>
  (a_putR S15 4 (xTop S14) 0 (some (gSk g 2))).bind fun S16 =>
  (gSi g (gSk g 3)).bind fun k19 =>
  (a_putR S16 4 (xTop S14) 1 (some (gSk g 3))).bind fun S18 =>
  (gSi g (gSk g 4)).bind fun k21 =>
  (a_putR S18 4 (xTop S14) 2 (some (gSk g 4))).bind fun S20 =>
  (gSi g (gSk g 5)).bind fun k23 =>
  (a_putR S20 4 (xTop S14) 3 (some (gSk g 5))).bind fun S22 =>
  (gSi g (gSk g 6)).bind fun k25 =>
  (a_putR S22 4 (xTop S14) 4 (some (gSk g 6))).bind fun S24 =>
  (gSi g (gSk g 7)).bind fun k27 =>
  (a_putR S24 4 (xTop S14) 5 (some (gSk g 7))).bind fun S26 =>
  (f_putR S26 4 x0 4 (some (xTop S14))).bind fun S28 =>
  (f_putI S28 4 x0 0 x2).bind fun S29 =>
  (x_adopt S29 4 x0).bind fun S30 =>
  some S30
theorem cx_X5_init : yX5_init.cls ≠ "java/lang/invoke/MethodHandle" ∧ yX5_init.cls ≠ "java/lang/invoke/VarHandle" ∧ (parseMethodDescriptor yX5_init.desc).map (fun d => d.parameters.length) = some 2 := by decide +kernel
theorem met_X5_init {l : Launch} {g : XC} {D : va_G} {A : Nat → Prop} (N : Nat) (S : XS) (x0 : Nat) (x1 : Nat) (x2 : Int32) (w : XS) (hm : kX_X5_init g N S x0 x1 x2 = some w) : Met l yX5_init (ws_ yX5_init cX5_init 3 (Option.none : Option Jvm.ClassFile.FieldType)) (xRm g S 4) (xPre g D A [.ref x0, .ref x1, .int x2] S) (xQv g D A w) (g.2.1 - xTop S) (g.2.2.1 - xSl S) A := by
  refine x_start (own := RX5) (by decide +kernel) rfl (Nat.le_of_ble_eq_true rfl) (fun p e s m below meth c ls X hr hlk hnm hw hl => ?_)
  obtain ⟨hx, hb, -, hown, hts, -⟩ := id X
  have hl : lv_has ls 3 [(0, .ref x0), (1, .ref x1), (2, .int x2)] := hl
  have hg : ∀ (H : Heap) (locs : List Loc) (cells slots : Nat), xW g D A S s H → va_S A s.heap H locs → W p l e (xRm g S 4) s m ([.ref x0, .ref x1, .int x2] : List Value).toArray below meth c H locs cells slots (MQ below (xQv g D A w) ([.ref x0, .ref x1, .int x2] : List Value).toArray s (g.2.1 - xTop S) (g.2.2.1 - xSl S) A) (F0 m 0 ls []) := by
    intro H locs cells slots hw hS
    unfold kX_X5_init at hm
    refine lv_aload_n hx hb dX5_init_0 rfl (lv_at hl 0 rfl) ?_
    refine lv_aload_n hx hb dX5_init_1 rfl (lv_at hl 1 rfl) ?_
    obtain ⟨S1, hS1, hm⟩ := ob_s hm
    refine xr_putRF (v := (some x1)) X hw hS xc4 in_X5 tyX5_ok nmX5 12 (by decide) q756 rfl hnm rfl (tyX5_ok 12 (by decide)) rfl hS1 dX5_init_2 (fun H locs hw hS => ?_)
    refine lv_aload_n hx hb dX5_init_5 rfl (lv_at hl 0 rfl) ?_
    refine xr_objInit X hl.1 q727 q154 q155 (Nat.le_of_ble_eq_true rfl) dX5_init_6 ?_
    refine lv_aload_n hx hb dX5_init_9 rfl (lv_at hl 0 rfl) ?_
    obtain ⟨S2, hS2, hm⟩ := ob_s hm
    refine xr_new (N := 3) X hw hS xc3 in_X2 tyX2_ok q728 q157 q116 (by intro j hj; exact df_X2 j hj) hS2 dX5_init_10 (fun H cells slots hw hS => ?_)
    refine lv_dup hx hb dX5_init_13 rfl ?_
    obtain ⟨w3, hw3, hm⟩ := ob_s hm
    refine xr_retv hS (xr_runIN X hw (met_X2_init N S2 (xTop S1) w3 hw3) (x_cn X (lv := 3) (by omega) (by decide) cx_X2_init (lw_meth q160) q116 q729) rfl q159 rfl hl.1 rfl (Nat.le_of_ble_eq_true rfl) dX5_init_14) (fun H locs cells slots hw hS => ?_)
    obtain ⟨S4, hS4, hm⟩ := ob_s hm
    refine xr_putRF (v := (some (xTop S1))) X hw hS xc4 in_X5 tyX5_ok nmX5 1 (by decide) q743 rfl hnm rfl (tyX5_ok 1 (by decide)) rfl hS4 dX5_init_17 (fun H locs hw hS => ?_)
    refine lv_aload_n hx hb dX5_init_20 rfl (lv_at hl 0 rfl) ?_
    obtain ⟨S5, hS5, hm⟩ := ob_s hm
    refine xr_new (N := 16) X hw hS xc2 in_X3 tyX3_ok q730 q205 q120 (by intro j hj; exact df_X3 j hj) hS5 dX5_init_21 (fun H cells slots hw hS => ?_)
    refine lv_dup hx hb dX5_init_24 rfl ?_
    refine lv_aload_n hx hb dX5_init_25 rfl (lv_at hl 0 rfl) ?_
    obtain ⟨v6, hv6, hm⟩ := ob_s hm
    refine xr_val X hw xc4 in_X5 12 (by decide) q756 (f_obj_s hv6) dX5_init_26 ?_
    obtain ⟨w7, hw7, hm⟩ := ob_s hm
    refine xr_retv hS (xr_runI X hw (met_X3_init N S5 (xTop S4) v6 w7 hw7) (x_ci X (lv := 0) (by omega) (by decide) rfl cx_X3_init (lw_meth q208) q120 q731 q207) rfl hl.1 rfl (Nat.le_of_ble_eq_true rfl) dX5_init_29) (fun H locs cells slots hw hS => ?_)
    obtain ⟨S8, hS8, hm⟩ := ob_s hm
    refine xr_putRF (v := (some (xTop S4))) X hw hS xc4 in_X5 tyX5_ok nmX5 2 (by decide) q744 rfl hnm rfl (tyX5_ok 2 (by decide)) rfl hS8 dX5_init_32 (fun H locs hw hS => ?_)
    refine lv_aload_n hx hb dX5_init_35 rfl (lv_at hl 0 rfl) ?_
    refine lv_iconst (v := 2) hx hb dX5_init_36 (by decide) ?_
    obtain ⟨S9, hS9, hm⟩ := ob_s hm
    refine xr_newR (k := 4) X hw hS (by decide) rfl q732 q733 hS9 dX5_init_37 (fun H cells slots hw hS => ?_)
    refine lv_dup hx hb dX5_init_40 rfl ?_
    refine lv_iconst (v := 0) hx hb dX5_init_41 (by decide) ?_
    refine xr_ldcS (i := 0) (q := (33, "leaks")) X rfl dX5_init_42 ?_
    obtain ⟨k11, hk11, hm⟩ := ob_s hm
    obtain ⟨S10, hS10, hm⟩ := ob_s hm
    refine xr_aastS X hw hS hk11 hS10 dX5_init_44 (fun H locs hw hS => ?_)
    refine lv_dup hx hb dX5_init_45 rfl ?_
    refine lv_iconst (v := 1) hx hb dX5_init_46 (by decide) ?_
    refine xr_ldcS (i := 1) (q := (35, "frost")) X rfl dX5_init_47 ?_
    obtain ⟨k13, hk13, hm⟩ := ob_s hm
    obtain ⟨S12, hS12, hm⟩ := ob_s hm
    refine xr_aastS X hw hS hk13 hS12 dX5_init_49 (fun H locs hw hS => ?_)
    obtain ⟨S14, hS14, hm⟩ := ob_s hm
    refine xr_putRF (v := (some (xTop S8))) X hw hS xc4 in_X5 tyX5_ok nmX5 3 (by decide) q746 rfl hnm rfl (tyX5_ok 3 (by decide)) rfl hS14 dX5_init_50 (fun H locs hw hS => ?_)
    refine lv_aload_n hx hb dX5_init_53 rfl (lv_at hl 0 rfl) ?_
    refine lv_bipush (v := 6) hx hb dX5_init_54 (by decide) ?_
    obtain ⟨S15, hS15, hm⟩ := ob_s hm
    refine xr_newR (k := 4) X hw hS (by decide) rfl q732 q733 hS15 dX5_init_56 (fun H cells slots hw hS => ?_)
    refine lv_dup hx hb dX5_init_59 rfl ?_
    refine lv_iconst (v := 0) hx hb dX5_init_60 (by decide) ?_
    refine xr_ldcS (i := 2) (q := (41, "fill")) X rfl dX5_init_61 ?_
    obtain ⟨k17, hk17, hm⟩ := ob_s hm
    obtain ⟨S16, hS16, hm⟩ := ob_s hm
    refine xr_aastS X hw hS hk17 hS16 dX5_init_63 (fun H locs hw hS => ?_)
    refine lv_dup hx hb dX5_init_64 rfl ?_
    refine lv_iconst (v := 1) hx hb dX5_init_65 (by decide) ?_
    refine xr_ldcS (i := 3) (q := (43, "holds")) X rfl dX5_init_66 ?_
    obtain ⟨k19, hk19, hm⟩ := ob_s hm
    obtain ⟨S18, hS18, hm⟩ := ob_s hm
    refine xr_aastS X hw hS hk19 hS18 dX5_init_68 (fun H locs hw hS => ?_)
    refine lv_dup hx hb dX5_init_69 rfl ?_
    refine lv_iconst (v := 2) hx hb dX5_init_70 (by decide) ?_
    refine xr_ldcS (i := 4) (q := (45, "spring")) X rfl dX5_init_71 ?_
    obtain ⟨k21, hk21, hm⟩ := ob_s hm
    obtain ⟨S20, hS20, hm⟩ := ob_s hm
    refine xr_aastS X hw hS hk21 hS20 dX5_init_73 (fun H locs hw hS => ?_)
    refine lv_dup hx hb dX5_init_74 rfl ?_
    refine lv_iconst (v := 3) hx hb dX5_init_75 (by decide) ?_
    refine xr_ldcS (i := 5) (q := (47, "tips")) X rfl dX5_init_76 ?_
    obtain ⟨k23, hk23, hm⟩ := ob_s hm
    obtain ⟨S22, hS22, hm⟩ := ob_s hm
    refine xr_aastS X hw hS hk23 hS22 dX5_init_78 (fun H locs hw hS => ?_)
    refine lv_dup hx hb dX5_init_79 rfl ?_
    refine lv_iconst (v := 4) hx hb dX5_init_80 (by decide) ?_
    refine xr_ldcS (i := 6) (q := (49, "cup")) X rfl dX5_init_81 ?_
    obtain ⟨k25, hk25, hm⟩ := ob_s hm
    obtain ⟨S24, hS24, hm⟩ := ob_s hm
    refine xr_aastS X hw hS hk25 hS24 dX5_init_83 (fun H locs hw hS => ?_)
    refine lv_dup hx hb dX5_init_84 rfl ?_
    refine lv_iconst (v := 5) hx hb dX5_init_85 (by decide) ?_
    refine xr_ldcS (i := 7) (q := (51, "hour")) X rfl dX5_init_86 ?_
    obtain ⟨k27, hk27, hm⟩ := ob_s hm
    obtain ⟨S26, hS26, hm⟩ := ob_s hm
    refine xr_aastS X hw hS hk27 hS26 dX5_init_88 (fun H locs hw hS => ?_)
    obtain ⟨S28, hS28, hm⟩ := ob_s hm
    refine xr_putRF (v := (some (xTop S14))) X hw hS xc4 in_X5 tyX5_ok nmX5 4 (by decide) q747 rfl hnm rfl (tyX5_ok 4 (by decide)) rfl hS28 dX5_init_89 (fun H locs hw hS => ?_)
    refine lv_aload_n hx hb dX5_init_92 rfl (lv_at hl 0 rfl) ?_
    refine lv_iload_n hx hb dX5_init_93 rfl (lv_at hl 2 rfl) ?_
    obtain ⟨S29, hS29, hm⟩ := ob_s hm
    refine xr_putIF X hw hS xc4 in_X5 tyX5_ok nmX5 0 (by decide) q742 rfl hnm rfl (tyX5_ok 0 (by decide)) rfl rfl hS29 dX5_init_94 (fun H locs hw hS => ?_)
    obtain ⟨S30, hS30, hm⟩ := ob_s hm
    replace hw := xW_adopt hw hS30
    obtain rfl := Option.some.inj hm
    exact xr_vret X hr hlk hw hS dX5_init_97
  exact hg _ _ _ _ hw va_S.rf
/-! DripCups$Reader.here -/
def kX_X5_here (g : XC) (N : Nat) (S : XS) (x0 : Nat) : Option (XS × Int32) :=
  (f_int S 4 x0 5).bind fun v1 =>
  (f_int S 4 x0 0).bind fun v2 =>
  if v2 ≤ v1 then
    some (S, (-1))
  else
    (f_obj S 4 x0 12).bind fun v4 =>
    (f_obj S 1 v4 4).bind fun v5 =>
    (f_int S 4 x0 5).bind fun v6 =>
    (a_int S 1 v5 v6).bind fun v7 =>
    some (S, (v7 &&& 255))
theorem cx_X5_here : yX5_here.cls = RX5 ∧ yX5_here.cls ≠ "java/lang/invoke/MethodHandle" ∧ yX5_here.cls ≠ "java/lang/invoke/VarHandle" ∧ (parseMethodDescriptor yX5_here.desc).map (fun d => d.parameters.length) = some 0 := by decide +kernel
theorem met_X5_here {l : Launch} {g : XC} {D : va_G} {A : Nat → Prop} (N : Nat) (S : XS) (x0 : Nat) (w : XS × Int32) (hm : kX_X5_here g N S x0 = some w) : Met l yX5_here (ws_ yX5_here cX5_here 1 (Option.some Jvm.ClassFile.FieldType.int)) (xRm g S 0) (xPre g D A [.ref x0] S) (xQi g D A w) (g.2.1 - xTop S) (g.2.2.1 - xSl S) A := by
  refine x_start (own := RX5) (by decide +kernel) rfl (Nat.le_of_ble_eq_true rfl) (fun p e s m below meth c ls X hr hlk hnm hw hl => ?_)
  obtain ⟨hx, hb, -, hown, hts, -⟩ := id X
  have hl : lv_has ls 1 [(0, .ref x0)] := hl
  have hg : ∀ (H : Heap) (locs : List Loc) (cells slots : Nat), xW g D A S s H → va_S A s.heap H locs → W p l e (xRm g S 0) s m ([.ref x0] : List Value).toArray below meth c H locs cells slots (MQ below (xQi g D A w) ([.ref x0] : List Value).toArray s (g.2.1 - xTop S) (g.2.2.1 - xSl S) A) (F0 m 0 ls []) := by
    intro H locs cells slots hw hS
    unfold kX_X5_here at hm
    refine lv_aload_n hx hb dX5_here_0 rfl (lv_at hl 0 rfl) ?_
    obtain ⟨v1, hv1, hm⟩ := ob_s hm
    refine xr_val X hw xc4 in_X5 5 (by decide) q748 (f_int_s hv1) dX5_here_1 ?_
    refine lv_aload_n hx hb dX5_here_4 rfl (lv_at hl 0 rfl) ?_
    obtain ⟨v2, hv2, hm⟩ := ob_s hm
    refine xr_val X hw xc4 in_X5 0 (by decide) q742 (f_int_s hv2) dX5_here_5 ?_
    refine lv_icmp_ge (tgt := 30) hx hb dX5_here_8 (by decide) (fun c3 => ?_) (fun c3 => ?_)
    · replace hm := if_t c3 hm
      refine lv_iconst (v := (-1)) hx hb dX5_here_30 (by decide) ?_
      obtain rfl := Option.some.inj hm
      exact xr_iret (v := (-1)) X hr hlk hw hS rfl dX5_here_31
    · replace hm := if_f c3 hm
      refine lv_aload_n hx hb dX5_here_11 rfl (lv_at hl 0 rfl) ?_
      obtain ⟨v4, hv4, hm⟩ := ob_s hm
      refine xr_val X hw xc4 in_X5 12 (by decide) q756 (f_obj_s hv4) dX5_here_12 ?_
      obtain ⟨v5, hv5, hm⟩ := ob_s hm
      refine xr_valN X hw xc1 in_X1 4 (by decide) q283 (f_obj_s hv5) dX5_here_15 ?_
      refine lv_aload_n hx hb dX5_here_18 rfl (lv_at hl 0 rfl) ?_
      obtain ⟨v6, hv6, hm⟩ := ob_s hm
      refine xr_val X hw xc4 in_X5 5 (by decide) q748 (f_int_s hv6) dX5_here_19 ?_
      obtain ⟨v7, hv7, hm⟩ := ob_s hm
      refine xr_bald X hw hv7 dX5_here_22 ?_
      refine lv_sipush (v := 255) hx hb dX5_here_23 (by decide) ?_
      refine lv_iand hx hb dX5_here_26 ?_
      refine lv_goto (tgt := 31) hx hb dX5_here_27 (by decide) ?_
      obtain rfl := Option.some.inj hm
      exact xr_iret (v := (v7 &&& 255)) X hr hlk hw hS rfl dX5_here_31
  exact hg _ _ _ _ hw va_S.rf
/-! DripCups$Reader.isLetter -/
def kX_X5_isLetter (g : XC) (N : Nat) (S : XS) (x0 : Nat) : Option (XS × Int32) :=
  (f_cls S 4 x0).bind fun u1 =>
  (kX_X5_here g N S x0).bind fun w2 =>
  (kX_X1_in g N w2.2 97 122).bind fun w3 =>
  zchk w3 <|
  some (w2.1, w3)
theorem cx_X5_isLetter : yX5_isLetter.cls = RX5 ∧ yX5_isLetter.cls ≠ "java/lang/invoke/MethodHandle" ∧ yX5_isLetter.cls ≠ "java/lang/invoke/VarHandle" ∧ (parseMethodDescriptor yX5_isLetter.desc).map (fun d => d.parameters.length) = some 0 := by decide +kernel
theorem met_X5_isLetter {l : Launch} {g : XC} {D : va_G} {A : Nat → Prop} (N : Nat) (S : XS) (x0 : Nat) (w : XS × Int32) (hm : kX_X5_isLetter g N S x0 = some w) : Met l yX5_isLetter (ws_ yX5_isLetter cX5_isLetter 1 (Option.some Jvm.ClassFile.FieldType.boolean)) (xRm g S 1) (xPre g D A [.ref x0] S) (xQi g D A w) (g.2.1 - xTop S) (g.2.2.1 - xSl S) A := by
  refine x_start (own := RX5) (by decide +kernel) rfl (Nat.le_of_ble_eq_true rfl) (fun p e s m below meth c ls X hr hlk hnm hw hl => ?_)
  obtain ⟨hx, hb, -, hown, hts, -⟩ := id X
  have hl : lv_has ls 1 [(0, .ref x0)] := hl
  have hg : ∀ (H : Heap) (locs : List Loc) (cells slots : Nat), xW g D A S s H → va_S A s.heap H locs → W p l e (xRm g S 1) s m ([.ref x0] : List Value).toArray below meth c H locs cells slots (MQ below (xQi g D A w) ([.ref x0] : List Value).toArray s (g.2.1 - xTop S) (g.2.2.1 - xSl S) A) (F0 m 0 ls []) := by
    intro H locs cells slots hw hS
    unfold kX_X5_isLetter at hm
    refine lv_aload_n hx hb dX5_isLetter_0 rfl (lv_at hl 0 rfl) ?_
    obtain ⟨u1, hu1, hm⟩ := ob_s hm
    obtain ⟨w2, hw2, hm⟩ := ob_s hm
    refine xr_reti hS (xr_runV X hw (met_X5_here N S x0 w2 hw2) (x_cv X (lv := 0) (by omega) (by decide) cx_X5_here (lw_V q792 q794 qs13 q126 q795)) xc4 hu1 rfl hl.1 rfl (Nat.le_of_ble_eq_true rfl) dX5_isLetter_1) (fun H locs cells slots hw hS => ?_)
    refine lv_bipush (v := 97) hx hb dX5_isLetter_4 (by decide) ?_
    refine lv_bipush (v := 122) hx hb dX5_isLetter_6 (by decide) ?_
    obtain ⟨w3, hw3, hm⟩ := ob_s hm
    refine xr_reti hS (xr_runSN X hw (met_X1_in N w2.1 w2.2 97 122 w3 hw3) (x_cn X (lv := 0) (by omega) (by decide) cx_X1_in (lw_meth q338) q115 q800) q337 rfl hl.1 rfl (Nat.le_of_ble_eq_true rfl) dX5_isLetter_8) (fun H locs cells slots hw hS => ?_)
    obtain ⟨z4, hm⟩ := zchk_s hm
    obtain rfl := Option.some.inj hm
    exact xr_iret (v := w3) X hr hlk hw hS (z_nar z4) dX5_isLetter_11
  exact hg _ _ _ _ hw va_S.rf
/-! DripCups$Reader.isDigit -/
def kX_X5_isDigit (g : XC) (N : Nat) (S : XS) (x0 : Nat) : Option (XS × Int32) :=
  (f_cls S 4 x0).bind fun u1 =>
  (kX_X5_here g N S x0).bind fun w2 =>
  (kX_X1_in g N w2.2 48 57).bind fun w3 =>
  zchk w3 <|
  some (w2.1, w3)
theorem cx_X5_isDigit : yX5_isDigit.cls = RX5 ∧ yX5_isDigit.cls ≠ "java/lang/invoke/MethodHandle" ∧ yX5_isDigit.cls ≠ "java/lang/invoke/VarHandle" ∧ (parseMethodDescriptor yX5_isDigit.desc).map (fun d => d.parameters.length) = some 0 := by decide +kernel
theorem met_X5_isDigit {l : Launch} {g : XC} {D : va_G} {A : Nat → Prop} (N : Nat) (S : XS) (x0 : Nat) (w : XS × Int32) (hm : kX_X5_isDigit g N S x0 = some w) : Met l yX5_isDigit (ws_ yX5_isDigit cX5_isDigit 1 (Option.some Jvm.ClassFile.FieldType.boolean)) (xRm g S 1) (xPre g D A [.ref x0] S) (xQi g D A w) (g.2.1 - xTop S) (g.2.2.1 - xSl S) A := by
  refine x_start (own := RX5) (by decide +kernel) rfl (Nat.le_of_ble_eq_true rfl) (fun p e s m below meth c ls X hr hlk hnm hw hl => ?_)
  obtain ⟨hx, hb, -, hown, hts, -⟩ := id X
  have hl : lv_has ls 1 [(0, .ref x0)] := hl
  have hg : ∀ (H : Heap) (locs : List Loc) (cells slots : Nat), xW g D A S s H → va_S A s.heap H locs → W p l e (xRm g S 1) s m ([.ref x0] : List Value).toArray below meth c H locs cells slots (MQ below (xQi g D A w) ([.ref x0] : List Value).toArray s (g.2.1 - xTop S) (g.2.2.1 - xSl S) A) (F0 m 0 ls []) := by
    intro H locs cells slots hw hS
    unfold kX_X5_isDigit at hm
    refine lv_aload_n hx hb dX5_isDigit_0 rfl (lv_at hl 0 rfl) ?_
    obtain ⟨u1, hu1, hm⟩ := ob_s hm
    obtain ⟨w2, hw2, hm⟩ := ob_s hm
    refine xr_reti hS (xr_runV X hw (met_X5_here N S x0 w2 hw2) (x_cv X (lv := 0) (by omega) (by decide) cx_X5_here (lw_V q792 q794 qs13 q126 q795)) xc4 hu1 rfl hl.1 rfl (Nat.le_of_ble_eq_true rfl) dX5_isDigit_1) (fun H locs cells slots hw hS => ?_)
    refine lv_bipush (v := 48) hx hb dX5_isDigit_4 (by decide) ?_
    refine lv_bipush (v := 57) hx hb dX5_isDigit_6 (by decide) ?_
    obtain ⟨w3, hw3, hm⟩ := ob_s hm
    refine xr_reti hS (xr_runSN X hw (met_X1_in N w2.1 w2.2 48 57 w3 hw3) (x_cn X (lv := 0) (by omega) (by decide) cx_X1_in (lw_meth q338) q115 q800) q337 rfl hl.1 rfl (Nat.le_of_ble_eq_true rfl) dX5_isDigit_8) (fun H locs cells slots hw hS => ?_)
    obtain ⟨z4, hm⟩ := zchk_s hm
    obtain rfl := Option.some.inj hm
    exact xr_iret (v := w3) X hr hlk hw hS (z_nar z4) dX5_isDigit_11
  exact hg _ _ _ _ hw va_S.rf
/-! DripCups$Reader.next -/
def kX_X5_next_18 (g : XC) (N : Nat) (K0 : XS → Nat → Option (XS)) (S : XS) (x0 : Nat) : Option (XS) :=
  (f_int S 4 x0 5).bind fun v1 =>
  (f_putI S 4 x0 5 (v1 + 1)).bind fun S2 =>
  K0 S2 x0
theorem wkX_X5_next_18 {p : Program} {l : Launch} {e : Env} {s : State} {m : MethodId} {args : Array Value} {below : List Frame} {meth : Method} {c : Code} {g : XC} {D : va_G} {A : Nat → Prop} {S0 : XS} {w : XS} (X : xX g D A RX5 S0 p s m args c cX5_next 1) (hr : meth.sig.returnType = (Option.none : Option Jvm.ClassFile.FieldType)) (hlk : meth.locks = false) (hnm : meth.name = yX5_next.name) (N : Nat) (K0 : XS → Nat → Option (XS))
    (hK0 : ∀ (S : XS) (x0 : Nat) (H : Heap) (locs : List Loc) (ls : Array Slot) (cells slots : Nat), K0 S x0 = some w → xW g D A S s H → va_S A s.heap H locs → lv_has ls 1 [(0, .ref x0)] → W p l e (xRm g S0 4) s m args below meth c H locs cells slots (MQ below (xQv g D A w) args s (g.2.1 - xTop S0) (g.2.2.1 - xSl S0) A) (F0 m 0 ls [])) :
    ∀ (S : XS) (x0 : Nat) (H : Heap) (locs : List Loc) (ls : Array Slot) (cells slots : Nat), kX_X5_next_18 g N K0 S x0 = some w → xW g D A S s H → va_S A s.heap H locs → lv_has ls 1 [(0, .ref x0)] → W p l e (xRm g S0 4) s m args below meth c H locs cells slots (MQ below (xQv g D A w) args s (g.2.1 - xTop S0) (g.2.2.1 - xSl S0) A) (F0 m 18 ls []) := by
  obtain ⟨hx, hb, -, hown, hts, -⟩ := id X
  intro S x0 H locs ls cells slots hm hw hS hl
  unfold kX_X5_next_18 at hm
  refine lv_aload_n hx hb dX5_next_18 rfl (lv_at hl 0 rfl) ?_
  refine lv_dup hx hb dX5_next_19 rfl ?_
  obtain ⟨v1, hv1, hm⟩ := ob_s hm
  refine xr_val X hw xc4 in_X5 5 (by decide) q748 (f_int_s hv1) dX5_next_20 ?_
  refine lv_iconst (v := 1) hx hb dX5_next_23 (by decide) ?_
  refine lv_iadd hx hb dX5_next_24 ?_
  obtain ⟨S2, hS2, hm⟩ := ob_s hm
  refine xr_putI X hw hS xc4 in_X5 tyX5_ok nmX5 5 (by decide) q748 rfl (tyX5_ok 5 (by decide)) rfl rfl hS2 dX5_next_25 (fun H locs hw hS => ?_)
  refine lv_goto (tgt := 0) hx hb dX5_next_28 (by decide) ?_
  exact hK0 S2 x0 H locs ls _ _ hm hw hS (lv_sub hl [0] rfl)
def kX_X5_next_185 (g : XC) (N : Nat) (S : XS) (x0 : Nat) : Option (XS) :=
  (f_int S 4 x0 5).bind fun v1 =>
  (f_putI S 4 x0 8 v1).bind fun S2 =>
  some S2
theorem wkX_X5_next_185 {p : Program} {l : Launch} {e : Env} {s : State} {m : MethodId} {args : Array Value} {below : List Frame} {meth : Method} {c : Code} {g : XC} {D : va_G} {A : Nat → Prop} {S0 : XS} {w : XS} (X : xX g D A RX5 S0 p s m args c cX5_next 1) (hr : meth.sig.returnType = (Option.none : Option Jvm.ClassFile.FieldType)) (hlk : meth.locks = false) (hnm : meth.name = yX5_next.name) (N : Nat) :
    ∀ (S : XS) (x0 : Nat) (H : Heap) (locs : List Loc) (ls : Array Slot) (cells slots : Nat), kX_X5_next_185 g N S x0 = some w → xW g D A S s H → va_S A s.heap H locs → lv_has ls 1 [(0, .ref x0)] → W p l e (xRm g S0 4) s m args below meth c H locs cells slots (MQ below (xQv g D A w) args s (g.2.1 - xTop S0) (g.2.2.1 - xSl S0) A) (F0 m 185 ls []) := by
  obtain ⟨hx, hb, -, hown, hts, -⟩ := id X
  intro S x0 H locs ls cells slots hm hw hS hl
  unfold kX_X5_next_185 at hm
  refine lv_aload_n hx hb dX5_next_185 rfl (lv_at hl 0 rfl) ?_
  refine lv_aload_n hx hb dX5_next_186 rfl (lv_at hl 0 rfl) ?_
  obtain ⟨v1, hv1, hm⟩ := ob_s hm
  refine xr_val X hw xc4 in_X5 5 (by decide) q748 (f_int_s hv1) dX5_next_187 ?_
  obtain ⟨S2, hS2, hm⟩ := ob_s hm
  refine xr_putI X hw hS xc4 in_X5 tyX5_ok nmX5 8 (by decide) q752 rfl (tyX5_ok 8 (by decide)) rfl rfl hS2 dX5_next_190 (fun H locs hw hS => ?_)
  obtain rfl := Option.some.inj hm
  exact xr_vret X hr hlk hw hS dX5_next_193
def kX_X5_next_172 (g : XC) (N : Nat) (S : XS) (x0 : Nat) (t0 : Nat) (t1 : Int32) : Option (XS) :=
  (f_putI S 4 t0 6 t1).bind fun S1 =>
  (f_int S1 4 x0 5).bind fun v2 =>
  (f_putI S1 4 x0 5 (v2 + 1)).bind fun S3 =>
  kX_X5_next_185 g N S3 x0
theorem wkX_X5_next_172 {p : Program} {l : Launch} {e : Env} {s : State} {m : MethodId} {args : Array Value} {below : List Frame} {meth : Method} {c : Code} {g : XC} {D : va_G} {A : Nat → Prop} {S0 : XS} {w : XS} (X : xX g D A RX5 S0 p s m args c cX5_next 1) (hr : meth.sig.returnType = (Option.none : Option Jvm.ClassFile.FieldType)) (hlk : meth.locks = false) (hnm : meth.name = yX5_next.name) (N : Nat) :
    ∀ (S : XS) (x0 : Nat) (t0 : Nat) (t1 : Int32) (H : Heap) (locs : List Loc) (ls : Array Slot) (cells slots : Nat), kX_X5_next_172 g N S x0 t0 t1 = some w → xW g D A S s H → va_S A s.heap H locs → lv_has ls 1 [(0, .ref x0)] → W p l e (xRm g S0 4) s m args below meth c H locs cells slots (MQ below (xQv g D A w) args s (g.2.1 - xTop S0) (g.2.2.1 - xSl S0) A) (F0 m 172 ls [.int t1, .ref t0]) := by
  obtain ⟨hx, hb, -, hown, hts, -⟩ := id X
  intro S x0 t0 t1 H locs ls cells slots hm hw hS hl
  unfold kX_X5_next_172 at hm
  obtain ⟨S1, hS1, hm⟩ := ob_s hm
  refine xr_putI X hw hS xc4 in_X5 tyX5_ok nmX5 6 (by decide) q749 rfl (tyX5_ok 6 (by decide)) rfl rfl hS1 dX5_next_172 (fun H locs hw hS => ?_)
  refine lv_aload_n hx hb dX5_next_175 rfl (lv_at hl 0 rfl) ?_
  refine lv_dup hx hb dX5_next_176 rfl ?_
  obtain ⟨v2, hv2, hm⟩ := ob_s hm
  refine xr_val X hw xc4 in_X5 5 (by decide) q748 (f_int_s hv2) dX5_next_177 ?_
  refine lv_iconst (v := 1) hx hb dX5_next_180 (by decide) ?_
  refine lv_iadd hx hb dX5_next_181 ?_
  obtain ⟨S3, hS3, hm⟩ := ob_s hm
  refine xr_putI X hw hS xc4 in_X5 tyX5_ok nmX5 5 (by decide) q748 rfl (tyX5_ok 5 (by decide)) rfl rfl hS3 dX5_next_182 (fun H locs hw hS => ?_)
  exact wkX_X5_next_185 X hr hlk hnm N S3 x0 H locs ls _ _ hm hw hS (lv_sub hl [0] rfl)
def kX_X5_next_102 (g : XC) (N : Nat) : Nat → XS → Nat → Option (XS)
  | 0, _, _ => none
  | n + 1, S, x0 =>
    (f_cls S 4 x0).bind fun u1 =>
    (kX_X5_isDigit g N S x0).bind fun w2 =>
    if w2.2 = 0 then
      (f_putI w2.1 4 x0 6 2).bind fun S4 =>
      kX_X5_next_185 g N S4 x0
    else
      (f_int w2.1 4 x0 9).bind fun v5 =>
      (f_cls w2.1 4 x0).bind fun u6 =>
      (kX_X5_here g N w2.1 x0).bind fun w7 =>
      bnd (if ((((10 * v5) + w7.2) - 48) : Int32) < 100000 then (((10 * v5) + w7.2) - 48) else 100000) fun v8 =>
      (f_putI w7.1 4 x0 9 v8).bind fun S9 =>
      (f_int S9 4 x0 5).bind fun v10 =>
      (f_putI S9 4 x0 5 (v10 + 1)).bind fun S11 =>
      kX_X5_next_102 g N n S11 x0
theorem wkX_X5_next_102 {p : Program} {l : Launch} {e : Env} {s : State} {m : MethodId} {args : Array Value} {below : List Frame} {meth : Method} {c : Code} {g : XC} {D : va_G} {A : Nat → Prop} {S0 : XS} {w : XS} (X : xX g D A RX5 S0 p s m args c cX5_next 1) (hr : meth.sig.returnType = (Option.none : Option Jvm.ClassFile.FieldType)) (hlk : meth.locks = false) (hnm : meth.name = yX5_next.name) (N : Nat) :
    ∀ (n : Nat) (S : XS) (x0 : Nat) (H : Heap) (locs : List Loc) (ls : Array Slot) (cells slots : Nat), kX_X5_next_102 g N n S x0 = some w → xW g D A S s H → va_S A s.heap H locs → lv_has ls 1 [(0, .ref x0)] → W p l e (xRm g S0 4) s m args below meth c H locs cells slots (MQ below (xQv g D A w) args s (g.2.1 - xTop S0) (g.2.2.1 - xSl S0) A) (F0 m 102 ls []) := by
  obtain ⟨hx, hb, -, hown, hts, -⟩ := id X
  intro n
  induction n with
  | zero =>
    intro S x0 H locs ls cells slots hm
    cases hm
  | succ n ih =>
    intro S x0 H locs ls cells slots hm hw hS hl
    rw [kX_X5_next_102] at hm
    refine lv_aload_n hx hb dX5_next_102 rfl (lv_at hl 0 rfl) ?_
    obtain ⟨u1, hu1, hm⟩ := ob_s hm
    obtain ⟨w2, hw2, hm⟩ := ob_s hm
    refine xr_reti hS (xr_runV X hw (met_X5_isDigit N S x0 w2 hw2) (x_cv X (lv := 1) (by omega) (by decide) cx_X5_isDigit (lw_V q801 q803 qs15 q126 q804)) xc4 hu1 rfl hl.1 rfl (Nat.le_of_ble_eq_true rfl) dX5_next_103) (fun H locs cells slots hw hS => ?_)
    refine lv_if_eq (tgt := 146) hx hb dX5_next_106 (by decide) (fun c3 => ?_) (fun c3 => ?_)
    · replace hm := if_t c3 hm
      refine lv_aload_n hx hb dX5_next_146 rfl (lv_at hl 0 rfl) ?_
      refine lv_iconst (v := 2) hx hb dX5_next_147 (by decide) ?_
      obtain ⟨S4, hS4, hm⟩ := ob_s hm
      refine xr_putI X hw hS xc4 in_X5 tyX5_ok nmX5 6 (by decide) q749 rfl (tyX5_ok 6 (by decide)) rfl rfl hS4 dX5_next_148 (fun H locs hw hS => ?_)
      refine lv_goto (tgt := 185) hx hb dX5_next_151 (by decide) ?_
      exact wkX_X5_next_185 X hr hlk hnm N S4 x0 H locs ls _ _ hm hw hS (lv_sub hl [0] rfl)
    · replace hm := if_f c3 hm
      refine lv_aload_n hx hb dX5_next_109 rfl (lv_at hl 0 rfl) ?_
      refine lv_ldc (v := 100000) hx hb hown (hts _ q805) dX5_next_110 ?_
      refine lv_bipush (v := 10) hx hb dX5_next_112 (by decide) ?_
      refine lv_aload_n hx hb dX5_next_114 rfl (lv_at hl 0 rfl) ?_
      obtain ⟨v5, hv5, hm⟩ := ob_s hm
      refine xr_val X hw xc4 in_X5 9 (by decide) q753 (f_int_s hv5) dX5_next_115 ?_
      refine lv_imul hx hb dX5_next_118 ?_
      refine lv_aload_n hx hb dX5_next_119 rfl (lv_at hl 0 rfl) ?_
      obtain ⟨u6, hu6, hm⟩ := ob_s hm
      obtain ⟨w7, hw7, hm⟩ := ob_s hm
      refine xr_reti hS (xr_runV X hw (met_X5_here N w2.1 x0 w7 hw7) (x_cv X (lv := 0) (by omega) (by decide) cx_X5_here (lw_V q792 q794 qs13 q126 q795)) xc4 hu6 rfl hl.1 rfl (Nat.le_of_ble_eq_true rfl) dX5_next_120) (fun H locs cells slots hw hS => ?_)
      refine lv_iadd hx hb dX5_next_123 ?_
      refine lv_bipush (v := 48) hx hb dX5_next_124 (by decide) ?_
      refine lv_isub hx hb dX5_next_126 ?_
      refine xr_mmin X hw hl.1 q806 q418 q127 q419 (Nat.le_of_ble_eq_true rfl) dX5_next_127 (fun cells slots => ?_)
      refine lv_topi (fun v8 ev8 => ?_)
      replace hm := bnd_s hm ev8
      obtain ⟨S9, hS9, hm⟩ := ob_s hm
      refine xr_putI X hw hS xc4 in_X5 tyX5_ok nmX5 9 (by decide) q753 rfl (tyX5_ok 9 (by decide)) rfl rfl hS9 dX5_next_130 (fun H locs hw hS => ?_)
      refine lv_aload_n hx hb dX5_next_133 rfl (lv_at hl 0 rfl) ?_
      refine lv_dup hx hb dX5_next_134 rfl ?_
      obtain ⟨v10, hv10, hm⟩ := ob_s hm
      refine xr_val X hw xc4 in_X5 5 (by decide) q748 (f_int_s hv10) dX5_next_135 ?_
      refine lv_iconst (v := 1) hx hb dX5_next_138 (by decide) ?_
      refine lv_iadd hx hb dX5_next_139 ?_
      obtain ⟨S11, hS11, hm⟩ := ob_s hm
      refine xr_putI X hw hS xc4 in_X5 tyX5_ok nmX5 5 (by decide) q748 rfl (tyX5_ok 5 (by decide)) rfl rfl hS11 dX5_next_140 (fun H locs hw hS => ?_)
      refine lv_goto (tgt := 102) hx hb dX5_next_143 (by decide) ?_
      exact ih S11 x0 H locs ls _ _ hm hw hS (lv_sub hl [0] rfl)
def kX_X5_next_62 (g : XC) (N : Nat) : Nat → XS → Nat → Option (XS)
  | 0, _, _ => none
  | n + 1, S, x0 =>
    (f_cls S 4 x0).bind fun u1 =>
    (kX_X5_isLetter g N S x0).bind fun w2 =>
    if w2.2 = 0 then
      (f_putI w2.1 4 x0 6 1).bind fun S4 =>
      kX_X5_next_185 g N S4 x0
    else
      (f_int w2.1 4 x0 5).bind fun v5 =>
      (f_putI w2.1 4 x0 5 (v5 + 1)).bind fun S6 =>
      kX_X5_next_62 g N n S6 x0
theorem wkX_X5_next_62 {p : Program} {l : Launch} {e : Env} {s : State} {m : MethodId} {args : Array Value} {below : List Frame} {meth : Method} {c : Code} {g : XC} {D : va_G} {A : Nat → Prop} {S0 : XS} {w : XS} (X : xX g D A RX5 S0 p s m args c cX5_next 1) (hr : meth.sig.returnType = (Option.none : Option Jvm.ClassFile.FieldType)) (hlk : meth.locks = false) (hnm : meth.name = yX5_next.name) (N : Nat) :
    ∀ (n : Nat) (S : XS) (x0 : Nat) (H : Heap) (locs : List Loc) (ls : Array Slot) (cells slots : Nat), kX_X5_next_62 g N n S x0 = some w → xW g D A S s H → va_S A s.heap H locs → lv_has ls 1 [(0, .ref x0)] → W p l e (xRm g S0 4) s m args below meth c H locs cells slots (MQ below (xQv g D A w) args s (g.2.1 - xTop S0) (g.2.2.1 - xSl S0) A) (F0 m 62 ls []) := by
  obtain ⟨hx, hb, -, hown, hts, -⟩ := id X
  intro n
  induction n with
  | zero =>
    intro S x0 H locs ls cells slots hm
    cases hm
  | succ n ih =>
    intro S x0 H locs ls cells slots hm hw hS hl
    rw [kX_X5_next_62] at hm
    refine lv_aload_n hx hb dX5_next_62 rfl (lv_at hl 0 rfl) ?_
    obtain ⟨u1, hu1, hm⟩ := ob_s hm
    obtain ⟨w2, hw2, hm⟩ := ob_s hm
    refine xr_reti hS (xr_runV X hw (met_X5_isLetter N S x0 w2 hw2) (x_cv X (lv := 1) (by omega) (by decide) cx_X5_isLetter (lw_V q796 q798 qs14 q126 q799)) xc4 hu1 rfl hl.1 rfl (Nat.le_of_ble_eq_true rfl) dX5_next_63) (fun H locs cells slots hw hS => ?_)
    refine lv_if_eq (tgt := 82) hx hb dX5_next_66 (by decide) (fun c3 => ?_) (fun c3 => ?_)
    · replace hm := if_t c3 hm
      refine lv_aload_n hx hb dX5_next_82 rfl (lv_at hl 0 rfl) ?_
      refine lv_iconst (v := 1) hx hb dX5_next_83 (by decide) ?_
      obtain ⟨S4, hS4, hm⟩ := ob_s hm
      refine xr_putI X hw hS xc4 in_X5 tyX5_ok nmX5 6 (by decide) q749 rfl (tyX5_ok 6 (by decide)) rfl rfl hS4 dX5_next_84 (fun H locs hw hS => ?_)
      refine lv_goto (tgt := 185) hx hb dX5_next_87 (by decide) ?_
      exact wkX_X5_next_185 X hr hlk hnm N S4 x0 H locs ls _ _ hm hw hS (lv_sub hl [0] rfl)
    · replace hm := if_f c3 hm
      refine lv_aload_n hx hb dX5_next_69 rfl (lv_at hl 0 rfl) ?_
      refine lv_dup hx hb dX5_next_70 rfl ?_
      obtain ⟨v5, hv5, hm⟩ := ob_s hm
      refine xr_val X hw xc4 in_X5 5 (by decide) q748 (f_int_s hv5) dX5_next_71 ?_
      refine lv_iconst (v := 1) hx hb dX5_next_74 (by decide) ?_
      refine lv_iadd hx hb dX5_next_75 ?_
      obtain ⟨S6, hS6, hm⟩ := ob_s hm
      refine xr_putI X hw hS xc4 in_X5 tyX5_ok nmX5 5 (by decide) q748 rfl (tyX5_ok 5 (by decide)) rfl rfl hS6 dX5_next_76 (fun H locs hw hS => ?_)
      refine lv_goto (tgt := 62) hx hb dX5_next_79 (by decide) ?_
      exact ih S6 x0 H locs ls _ _ hm hw hS (lv_sub hl [0] rfl)
def kX_X5_next_0 (g : XC) (N : Nat) : Nat → XS → Nat → Option (XS)
  | 0, _, _ => none
  | n + 1, S, x0 =>
    (f_cls S 4 x0).bind fun u1 =>
    (kX_X5_here g N S x0).bind fun w2 =>
    if w2.2 = 32 then
      kX_X5_next_18 g N (kX_X5_next_0 g N n) w2.1 x0
    else
      (f_cls w2.1 4 x0).bind fun u4 =>
      (kX_X5_here g N w2.1 x0).bind fun w5 =>
      if w5.2 = 10 then
        kX_X5_next_18 g N (kX_X5_next_0 g N n) w5.1 x0
      else
        (f_int w5.1 4 x0 5).bind fun v7 =>
        (f_putI w5.1 4 x0 7 v7).bind fun S8 =>
        (f_cls S8 4 x0).bind fun u9 =>
        (kX_X5_here g N S8 x0).bind fun w10 =>
        if w10.2 = (-1) then
          (f_putI w10.1 4 x0 6 0).bind fun S24 =>
          kX_X5_next_185 g N S24 x0
        else
          (f_cls w10.1 4 x0).bind fun u12 =>
          (kX_X5_isLetter g N w10.1 x0).bind fun w13 =>
          if w13.2 = 0 then
            (f_cls w13.1 4 x0).bind fun u15 =>
            (kX_X5_isDigit g N w13.1 x0).bind fun w16 =>
            if w16.2 = 0 then
              (f_cls w16.1 4 x0).bind fun u18 =>
              (kX_X5_here g N w16.1 x0).bind fun w19 =>
              (gSi g (gSk g 8)).bind fun u20 =>
              (kX_J8_indexOf g N w19.1 (gSk g 8) w19.2).bind fun w21 =>
              if w21.2 < 0 then
                kX_X5_next_172 g N w21.1 x0 x0 4
              else
                kX_X5_next_172 g N w21.1 x0 x0 3
            else
              (f_putI w16.1 4 x0 9 0).bind fun S23 =>
              kX_X5_next_102 g N N S23 x0
          else
            kX_X5_next_62 g N N w13.1 x0
theorem wkX_X5_next_0 {p : Program} {l : Launch} {e : Env} {s : State} {m : MethodId} {args : Array Value} {below : List Frame} {meth : Method} {c : Code} {g : XC} {D : va_G} {A : Nat → Prop} {S0 : XS} {w : XS} (X : xX g D A RX5 S0 p s m args c cX5_next 1) (hr : meth.sig.returnType = (Option.none : Option Jvm.ClassFile.FieldType)) (hlk : meth.locks = false) (hnm : meth.name = yX5_next.name) (N : Nat) :
    ∀ (n : Nat) (S : XS) (x0 : Nat) (H : Heap) (locs : List Loc) (ls : Array Slot) (cells slots : Nat), kX_X5_next_0 g N n S x0 = some w → xW g D A S s H → va_S A s.heap H locs → lv_has ls 1 [(0, .ref x0)] → W p l e (xRm g S0 4) s m args below meth c H locs cells slots (MQ below (xQv g D A w) args s (g.2.1 - xTop S0) (g.2.2.1 - xSl S0) A) (F0 m 0 ls []) := by
  obtain ⟨hx, hb, -, hown, hts, -⟩ := id X
  intro n
  induction n with
  | zero =>
    intro S x0 H locs ls cells slots hm
    cases hm
  | succ n ih =>
    intro S x0 H locs ls cells slots hm hw hS hl
    rw [kX_X5_next_0] at hm
    refine lv_aload_n hx hb dX5_next_0 rfl (lv_at hl 0 rfl) ?_
    obtain ⟨u1, hu1, hm⟩ := ob_s hm
    obtain ⟨w2, hw2, hm⟩ := ob_s hm
    refine xr_reti hS (xr_runV X hw (met_X5_here N S x0 w2 hw2) (x_cv X (lv := 0) (by omega) (by decide) cx_X5_here (lw_V q792 q794 qs13 q126 q795)) xc4 hu1 rfl hl.1 rfl (Nat.le_of_ble_eq_true rfl) dX5_next_1) (fun H locs cells slots hw hS => ?_)
    refine lv_bipush (v := 32) hx hb dX5_next_4 (by decide) ?_
    refine lv_icmp_eq (tgt := 18) hx hb dX5_next_6 (by decide) (fun c3 => ?_) (fun c3 => ?_)
    · replace hm := if_t c3 hm
      exact wkX_X5_next_18 X hr hlk hnm N (kX_X5_next_0 g N n) ih w2.1 x0 H locs ls _ _ hm hw hS (lv_sub hl [0] rfl)
    · replace hm := if_f c3 hm
      refine lv_aload_n hx hb dX5_next_9 rfl (lv_at hl 0 rfl) ?_
      obtain ⟨u4, hu4, hm⟩ := ob_s hm
      obtain ⟨w5, hw5, hm⟩ := ob_s hm
      refine xr_reti hS (xr_runV X hw (met_X5_here N w2.1 x0 w5 hw5) (x_cv X (lv := 0) (by omega) (by decide) cx_X5_here (lw_V q792 q794 qs13 q126 q795)) xc4 hu4 rfl hl.1 rfl (Nat.le_of_ble_eq_true rfl) dX5_next_10) (fun H locs cells slots hw hS => ?_)
      refine lv_bipush (v := 10) hx hb dX5_next_13 (by decide) ?_
      refine lv_icmp_ne (tgt := 31) hx hb dX5_next_15 (by decide) (fun c6 => ?_) (fun c6 => ?_)
      · replace hm := if_f c6 hm
        refine lv_aload_n hx hb dX5_next_31 rfl (lv_at hl 0 rfl) ?_
        refine lv_aload_n hx hb dX5_next_32 rfl (lv_at hl 0 rfl) ?_
        obtain ⟨v7, hv7, hm⟩ := ob_s hm
        refine xr_val X hw xc4 in_X5 5 (by decide) q748 (f_int_s hv7) dX5_next_33 ?_
        obtain ⟨S8, hS8, hm⟩ := ob_s hm
        refine xr_putI X hw hS xc4 in_X5 tyX5_ok nmX5 7 (by decide) q750 rfl (tyX5_ok 7 (by decide)) rfl rfl hS8 dX5_next_36 (fun H locs hw hS => ?_)
        refine lv_aload_n hx hb dX5_next_39 rfl (lv_at hl 0 rfl) ?_
        obtain ⟨u9, hu9, hm⟩ := ob_s hm
        obtain ⟨w10, hw10, hm⟩ := ob_s hm
        refine xr_reti hS (xr_runV X hw (met_X5_here N S8 x0 w10 hw10) (x_cv X (lv := 0) (by omega) (by decide) cx_X5_here (lw_V q792 q794 qs13 q126 q795)) xc4 hu9 rfl hl.1 rfl (Nat.le_of_ble_eq_true rfl) dX5_next_40) (fun H locs cells slots hw hS => ?_)
        refine lv_iconst (v := (-1)) hx hb dX5_next_43 (by decide) ?_
        refine lv_icmp_ne (tgt := 55) hx hb dX5_next_44 (by decide) (fun c11 => ?_) (fun c11 => ?_)
        · replace hm := if_f c11 hm
          refine lv_aload_n hx hb dX5_next_55 rfl (lv_at hl 0 rfl) ?_
          obtain ⟨u12, hu12, hm⟩ := ob_s hm
          obtain ⟨w13, hw13, hm⟩ := ob_s hm
          refine xr_reti hS (xr_runV X hw (met_X5_isLetter N w10.1 x0 w13 hw13) (x_cv X (lv := 1) (by omega) (by decide) cx_X5_isLetter (lw_V q796 q798 qs14 q126 q799)) xc4 hu12 rfl hl.1 rfl (Nat.le_of_ble_eq_true rfl) dX5_next_56) (fun H locs cells slots hw hS => ?_)
          refine lv_if_eq (tgt := 90) hx hb dX5_next_59 (by decide) (fun c14 => ?_) (fun c14 => ?_)
          · replace hm := if_t c14 hm
            refine lv_aload_n hx hb dX5_next_90 rfl (lv_at hl 0 rfl) ?_
            obtain ⟨u15, hu15, hm⟩ := ob_s hm
            obtain ⟨w16, hw16, hm⟩ := ob_s hm
            refine xr_reti hS (xr_runV X hw (met_X5_isDigit N w13.1 x0 w16 hw16) (x_cv X (lv := 1) (by omega) (by decide) cx_X5_isDigit (lw_V q801 q803 qs15 q126 q804)) xc4 hu15 rfl hl.1 rfl (Nat.le_of_ble_eq_true rfl) dX5_next_91) (fun H locs cells slots hw hS => ?_)
            refine lv_if_eq (tgt := 154) hx hb dX5_next_94 (by decide) (fun c17 => ?_) (fun c17 => ?_)
            · replace hm := if_t c17 hm
              refine lv_aload_n hx hb dX5_next_154 rfl (lv_at hl 0 rfl) ?_
              refine xr_ldcS (i := 8) (q := (98, ";()+-*/<=")) X rfl dX5_next_155 ?_
              refine lv_aload_n hx hb dX5_next_157 rfl (lv_at hl 0 rfl) ?_
              obtain ⟨u18, hu18, hm⟩ := ob_s hm
              obtain ⟨w19, hw19, hm⟩ := ob_s hm
              refine xr_reti hS (xr_runV X hw (met_X5_here N w16.1 x0 w19 hw19) (x_cv X (lv := 0) (by omega) (by decide) cx_X5_here (lw_V q792 q794 qs13 q126 q795)) xc4 hu18 rfl hl.1 rfl (Nat.le_of_ble_eq_true rfl) dX5_next_158) (fun H locs cells slots hw hS => ?_)
              obtain ⟨u20, hu20, hm⟩ := ob_s hm
              obtain ⟨w21, hw21, hm⟩ := ob_s hm
              refine xr_reti hS (xr_runVX X hw (met_J8_indexOf N w19.1 (gSk g 8) w19.2 w21 hw21) (x_cv X (lv := 3) (by omega) (by decide) cx_J8_indexOf (lw_V q808 q809 q810 q128 q811)) (x_recvS X hw hu20) rfl hl.1 rfl (Nat.le_of_ble_eq_true rfl) dX5_next_161) (fun H locs cells slots hw hS => ?_)
              refine lv_if_lt (tgt := 171) hx hb dX5_next_164 (by decide) (fun c22 => ?_) (fun c22 => ?_)
              · replace hm := if_t c22 hm
                refine lv_iconst (v := 4) hx hb dX5_next_171 (by decide) ?_
                exact wkX_X5_next_172 X hr hlk hnm N w21.1 x0 x0 4 H locs ls _ _ hm hw hS (lv_sub hl [0] rfl)
              · replace hm := if_f c22 hm
                refine lv_iconst (v := 3) hx hb dX5_next_167 (by decide) ?_
                refine lv_goto (tgt := 172) hx hb dX5_next_168 (by decide) ?_
                exact wkX_X5_next_172 X hr hlk hnm N w21.1 x0 x0 3 H locs ls _ _ hm hw hS (lv_sub hl [0] rfl)
            · replace hm := if_f c17 hm
              refine lv_aload_n hx hb dX5_next_97 rfl (lv_at hl 0 rfl) ?_
              refine lv_iconst (v := 0) hx hb dX5_next_98 (by decide) ?_
              obtain ⟨S23, hS23, hm⟩ := ob_s hm
              refine xr_putI X hw hS xc4 in_X5 tyX5_ok nmX5 9 (by decide) q753 rfl (tyX5_ok 9 (by decide)) rfl rfl hS23 dX5_next_99 (fun H locs hw hS => ?_)
              exact wkX_X5_next_102 X hr hlk hnm N N S23 x0 H locs ls _ _ hm hw hS (lv_sub hl [0] rfl)
          · replace hm := if_f c14 hm
            exact wkX_X5_next_62 X hr hlk hnm N N w13.1 x0 H locs ls _ _ hm hw hS (lv_sub hl [0] rfl)
        · replace hm := if_t c11 hm
          refine lv_aload_n hx hb dX5_next_47 rfl (lv_at hl 0 rfl) ?_
          refine lv_iconst (v := 0) hx hb dX5_next_48 (by decide) ?_
          obtain ⟨S24, hS24, hm⟩ := ob_s hm
          refine xr_putI X hw hS xc4 in_X5 tyX5_ok nmX5 6 (by decide) q749 rfl (tyX5_ok 6 (by decide)) rfl rfl hS24 dX5_next_49 (fun H locs hw hS => ?_)
          refine lv_goto (tgt := 185) hx hb dX5_next_52 (by decide) ?_
          exact wkX_X5_next_185 X hr hlk hnm N S24 x0 H locs ls _ _ hm hw hS (lv_sub hl [0] rfl)
      · replace hm := if_t c6 hm
        exact wkX_X5_next_18 X hr hlk hnm N (kX_X5_next_0 g N n) ih w5.1 x0 H locs ls _ _ hm hw hS (lv_sub hl [0] rfl)
def kX_X5_next (g : XC) (N : Nat) (S : XS) (x0 : Nat) : Option (XS) :=
  kX_X5_next_0 g N N S x0
theorem cx_X5_next : yX5_next.cls = RX5 ∧ yX5_next.cls ≠ "java/lang/invoke/MethodHandle" ∧ yX5_next.cls ≠ "java/lang/invoke/VarHandle" ∧ (parseMethodDescriptor yX5_next.desc).map (fun d => d.parameters.length) = some 0 := by decide +kernel
theorem met_X5_next {l : Launch} {g : XC} {D : va_G} {A : Nat → Prop} (N : Nat) (S : XS) (x0 : Nat) (w : XS) (hm : kX_X5_next g N S x0 = some w) : Met l yX5_next (ws_ yX5_next cX5_next 1 (Option.none : Option Jvm.ClassFile.FieldType)) (xRm g S 4) (xPre g D A [.ref x0] S) (xQv g D A w) (g.2.1 - xTop S) (g.2.2.1 - xSl S) A := by
  refine x_start (own := RX5) (by decide +kernel) rfl (Nat.le_of_ble_eq_true rfl) (fun p e s m below meth c ls X hr hlk hnm hw hl => ?_)
  obtain ⟨hx, hb, -, hown, hts, -⟩ := id X
  have hl : lv_has ls 1 [(0, .ref x0)] := hl
  have hg : ∀ (H : Heap) (locs : List Loc) (cells slots : Nat), xW g D A S s H → va_S A s.heap H locs → W p l e (xRm g S 4) s m ([.ref x0] : List Value).toArray below meth c H locs cells slots (MQ below (xQv g D A w) ([.ref x0] : List Value).toArray s (g.2.1 - xTop S) (g.2.2.1 - xSl S) A) (F0 m 0 ls []) := by
    intro H locs cells slots hw hS
    unfold kX_X5_next at hm
    exact wkX_X5_next_0 X hr hlk hnm N N S x0 H locs ls _ _ hm hw hS (lv_sub hl [0] rfl)
  exact hg _ _ _ _ hw va_S.rf
/-! DripCups$Reader.is -/
def kX_X5_is_28 (g : XC) (N : Nat) : Nat → XS → Nat → Nat → Int32 → Option (XS × Int32)
  | 0, _, _, _, _ => none
  | n + 1, S, x0, x1, x2 =>
    (gSi g x1).bind fun u1 =>
    (kX_J8_length g N S x1).bind fun w2 =>
    if w2.2 ≤ x2 then
      some (w2.1, 1)
    else
      (gSi g x1).bind fun u4 =>
      (kX_J8_charAt g N w2.1 x1 x2).bind fun w5 =>
      (f_obj w5.1 4 x0 12).bind fun v6 =>
      (f_obj w5.1 1 v6 4).bind fun v7 =>
      (f_int w5.1 4 x0 7).bind fun v8 =>
      (a_int w5.1 1 v7 (v8 + x2)).bind fun v9 =>
      if w5.2 = (v9 &&& 255) then
        kX_X5_is_28 g N n w5.1 x0 x1 (x2 + 1)
      else
        some (w5.1, 0)
theorem wkX_X5_is_28 {p : Program} {l : Launch} {e : Env} {s : State} {m : MethodId} {args : Array Value} {below : List Frame} {meth : Method} {c : Code} {g : XC} {D : va_G} {A : Nat → Prop} {S0 : XS} {w : XS × Int32} (X : xX g D A RX5 S0 p s m args c cX5_is 3) (hr : meth.sig.returnType = (Option.some Jvm.ClassFile.FieldType.boolean)) (hlk : meth.locks = false) (hnm : meth.name = yX5_is.name) (N : Nat) :
    ∀ (n : Nat) (S : XS) (x0 : Nat) (x1 : Nat) (x2 : Int32) (H : Heap) (locs : List Loc) (ls : Array Slot) (cells slots : Nat), kX_X5_is_28 g N n S x0 x1 x2 = some w → xW g D A S s H → va_S A s.heap H locs → lv_has ls 3 [(0, .ref x0), (1, .ref x1), (2, .int x2)] → W p l e (xRm g S0 4) s m args below meth c H locs cells slots (MQ below (xQi g D A w) args s (g.2.1 - xTop S0) (g.2.2.1 - xSl S0) A) (F0 m 28 ls []) := by
  obtain ⟨hx, hb, -, hown, hts, -⟩ := id X
  intro n
  induction n with
  | zero =>
    intro S x0 x1 x2 H locs ls cells slots hm
    cases hm
  | succ n ih =>
    intro S x0 x1 x2 H locs ls cells slots hm hw hS hl
    rw [kX_X5_is_28] at hm
    refine lv_iload_n hx hb dX5_is_28 rfl (lv_at hl 2 rfl) ?_
    refine lv_aload_n hx hb dX5_is_29 rfl (lv_at hl 1 rfl) ?_
    obtain ⟨u1, hu1, hm⟩ := ob_s hm
    obtain ⟨w2, hw2, hm⟩ := ob_s hm
    refine xr_reti hS (xr_runVX X hw (met_J8_length N S x1 w2 hw2) (x_cv X (lv := 1) (by omega) (by decide) cx_J8_length (lw_V q889 q823 q824 q128 q825)) (x_recvS X hw hu1) rfl hl.1 rfl (Nat.le_of_ble_eq_true rfl) dX5_is_30) (fun H locs cells slots hw hS => ?_)
    refine lv_icmp_ge (tgt := 70) hx hb dX5_is_33 (by decide) (fun c3 => ?_) (fun c3 => ?_)
    · replace hm := if_t c3 hm
      refine lv_iconst (v := 1) hx hb dX5_is_70 (by decide) ?_
      obtain rfl := Option.some.inj hm
      exact xr_iret (v := 1) X hr hlk hw hS rfl dX5_is_71
    · replace hm := if_f c3 hm
      refine lv_aload_n hx hb dX5_is_36 rfl (lv_at hl 1 rfl) ?_
      refine lv_iload_n hx hb dX5_is_37 rfl (lv_at hl 2 rfl) ?_
      obtain ⟨u4, hu4, hm⟩ := ob_s hm
      obtain ⟨w5, hw5, hm⟩ := ob_s hm
      refine xr_reti hS (xr_runVX X hw (met_J8_charAt N w2.1 x1 x2 w5 hw5) (x_cv X (lv := 3) (by omega) (by decide) cx_J8_charAt (lw_V q890 q891 q892 q128 q893)) (x_recvS X hw hu4) rfl hl.1 rfl (Nat.le_of_ble_eq_true rfl) dX5_is_38) (fun H locs cells slots hw hS => ?_)
      refine lv_aload_n hx hb dX5_is_41 rfl (lv_at hl 0 rfl) ?_
      obtain ⟨v6, hv6, hm⟩ := ob_s hm
      refine xr_val X hw xc4 in_X5 12 (by decide) q756 (f_obj_s hv6) dX5_is_42 ?_
      obtain ⟨v7, hv7, hm⟩ := ob_s hm
      refine xr_valN X hw xc1 in_X1 4 (by decide) q283 (f_obj_s hv7) dX5_is_45 ?_
      refine lv_aload_n hx hb dX5_is_48 rfl (lv_at hl 0 rfl) ?_
      obtain ⟨v8, hv8, hm⟩ := ob_s hm
      refine xr_val X hw xc4 in_X5 7 (by decide) q750 (f_int_s hv8) dX5_is_49 ?_
      refine lv_iload_n hx hb dX5_is_52 rfl (lv_at hl 2 rfl) ?_
      refine lv_iadd hx hb dX5_is_53 ?_
      obtain ⟨v9, hv9, hm⟩ := ob_s hm
      refine xr_bald X hw hv9 dX5_is_54 ?_
      refine lv_sipush (v := 255) hx hb dX5_is_55 (by decide) ?_
      refine lv_iand hx hb dX5_is_58 ?_
      refine lv_icmp_eq (tgt := 64) hx hb dX5_is_59 (by decide) (fun c10 => ?_) (fun c10 => ?_)
      · replace hm := if_t c10 hm
        refine lv_iinc (v := (x2 + 1)) (lv' := [(2, .int (x2 + 1)), (0, .ref x0), (1, .ref x1)]) hx hb dX5_is_64 hl (k := 2) rfl rfl (by decide) rfl (fun ls hl => ?_)
        refine lv_goto (tgt := 28) hx hb dX5_is_67 (by decide) ?_
        exact ih w5.1 x0 x1 (x2 + 1) H locs ls _ _ hm hw hS (lv_sub hl [1, 2, 0] rfl)
      · replace hm := if_f c10 hm
        refine lv_iconst (v := 0) hx hb dX5_is_62 (by decide) ?_
        obtain rfl := Option.some.inj hm
        exact xr_iret (v := 0) X hr hlk hw hS rfl dX5_is_63
def kX_X5_is (g : XC) (N : Nat) (S : XS) (x0 : Nat) (x1 : Nat) : Option (XS × Int32) :=
  (f_int S 4 x0 6).bind fun v1 =>
  if v1 = 1 then
    (gSi g x1).bind fun u3 =>
    (kX_J8_length g N S x1).bind fun w4 =>
    (f_int w4.1 4 x0 8).bind fun v5 =>
    (f_int w4.1 4 x0 7).bind fun v6 =>
    if w4.2 = (v5 - v6) then
      kX_X5_is_28 g N N w4.1 x0 x1 0
    else
      some (w4.1, 0)
  else
    some (S, 0)
theorem cx_X5_is : yX5_is.cls = RX5 ∧ yX5_is.cls ≠ "java/lang/invoke/MethodHandle" ∧ yX5_is.cls ≠ "java/lang/invoke/VarHandle" ∧ (parseMethodDescriptor yX5_is.desc).map (fun d => d.parameters.length) = some 1 := by decide +kernel
theorem met_X5_is {l : Launch} {g : XC} {D : va_G} {A : Nat → Prop} (N : Nat) (S : XS) (x0 : Nat) (x1 : Nat) (w : XS × Int32) (hm : kX_X5_is g N S x0 x1 = some w) : Met l yX5_is (ws_ yX5_is cX5_is 3 (Option.some Jvm.ClassFile.FieldType.boolean)) (xRm g S 4) (xPre g D A [.ref x0, .ref x1] S) (xQi g D A w) (g.2.1 - xTop S) (g.2.2.1 - xSl S) A := by
  refine x_start (own := RX5) (by decide +kernel) rfl (Nat.le_of_ble_eq_true rfl) (fun p e s m below meth c ls X hr hlk hnm hw hl => ?_)
  obtain ⟨hx, hb, -, hown, hts, -⟩ := id X
  have hl : lv_has ls 3 [(0, .ref x0), (1, .ref x1)] := hl
  have hg : ∀ (H : Heap) (locs : List Loc) (cells slots : Nat), xW g D A S s H → va_S A s.heap H locs → W p l e (xRm g S 4) s m ([.ref x0, .ref x1] : List Value).toArray below meth c H locs cells slots (MQ below (xQi g D A w) ([.ref x0, .ref x1] : List Value).toArray s (g.2.1 - xTop S) (g.2.2.1 - xSl S) A) (F0 m 0 ls []) := by
    intro H locs cells slots hw hS
    unfold kX_X5_is at hm
    refine lv_aload_n hx hb dX5_is_0 rfl (lv_at hl 0 rfl) ?_
    obtain ⟨v1, hv1, hm⟩ := ob_s hm
    refine xr_val X hw xc4 in_X5 6 (by decide) q749 (f_int_s hv1) dX5_is_1 ?_
    refine lv_iconst (v := 1) hx hb dX5_is_4 (by decide) ?_
    refine lv_icmp_ne (tgt := 24) hx hb dX5_is_5 (by decide) (fun c2 => ?_) (fun c2 => ?_)
    · replace hm := if_f c2 hm
      refine lv_iconst (v := 0) hx hb dX5_is_24 (by decide) ?_
      obtain rfl := Option.some.inj hm
      exact xr_iret (v := 0) X hr hlk hw hS rfl dX5_is_25
    · replace hm := if_t c2 hm
      refine lv_aload_n hx hb dX5_is_8 rfl (lv_at hl 1 rfl) ?_
      obtain ⟨u3, hu3, hm⟩ := ob_s hm
      obtain ⟨w4, hw4, hm⟩ := ob_s hm
      refine xr_reti hS (xr_runVX X hw (met_J8_length N S x1 w4 hw4) (x_cv X (lv := 1) (by omega) (by decide) cx_J8_length (lw_V q889 q823 q824 q128 q825)) (x_recvS X hw hu3) rfl hl.1 rfl (Nat.le_of_ble_eq_true rfl) dX5_is_9) (fun H locs cells slots hw hS => ?_)
      refine lv_aload_n hx hb dX5_is_12 rfl (lv_at hl 0 rfl) ?_
      obtain ⟨v5, hv5, hm⟩ := ob_s hm
      refine xr_val X hw xc4 in_X5 8 (by decide) q752 (f_int_s hv5) dX5_is_13 ?_
      refine lv_aload_n hx hb dX5_is_16 rfl (lv_at hl 0 rfl) ?_
      obtain ⟨v6, hv6, hm⟩ := ob_s hm
      refine xr_val X hw xc4 in_X5 7 (by decide) q750 (f_int_s hv6) dX5_is_17 ?_
      refine lv_isub hx hb dX5_is_20 ?_
      refine lv_icmp_eq (tgt := 26) hx hb dX5_is_21 (by decide) (fun c7 => ?_) (fun c7 => ?_)
      · replace hm := if_t c7 hm
        refine lv_iconst (v := 0) hx hb dX5_is_26 (by decide) ?_
        refine lv_istore_n (lv' := [(2, .int 0), (0, .ref x0), (1, .ref x1)]) hx hb dX5_is_27 rfl hl (by decide) rfl (fun ls hl => ?_)
        exact wkX_X5_is_28 X hr hlk hnm N N w4.1 x0 x1 0 H locs ls _ _ hm hw hS (lv_sub hl [1, 2, 0] rfl)
      · replace hm := if_f c7 hm
        refine lv_iconst (v := 0) hx hb dX5_is_24 (by decide) ?_
        obtain rfl := Option.some.inj hm
        exact xr_iret (v := 0) X hr hlk hw hS rfl dX5_is_25
  exact hg _ _ _ _ hw va_S.rf
/-! DripCups$Reader.which -/
def kX_X5_which_2 (g : XC) (N : Nat) : Nat → XS → Nat → Nat → Int32 → Option (XS × Int32)
  | 0, _, _, _, _ => none
  | n + 1, S, x0, x1, x2 =>
    (a_len S x1).bind fun v1 =>
    if v1 ≤ x2 then
      some (S, (-1))
    else
      (a_obj S 4 x1 x2).bind fun v3 =>
      (f_cls S 4 x0).bind fun u4 =>
      (kX_X5_is g N S x0 v3).bind fun w5 =>
      if w5.2 = 0 then
        kX_X5_which_2 g N n w5.1 x0 x1 (x2 + 1)
      else
        some (w5.1, x2)
theorem wkX_X5_which_2 {p : Program} {l : Launch} {e : Env} {s : State} {m : MethodId} {args : Array Value} {below : List Frame} {meth : Method} {c : Code} {g : XC} {D : va_G} {A : Nat → Prop} {S0 : XS} {w : XS × Int32} (X : xX g D A RX5 S0 p s m args c cX5_which 3) (hr : meth.sig.returnType = (Option.some Jvm.ClassFile.FieldType.int)) (hlk : meth.locks = false) (hnm : meth.name = yX5_which.name) (N : Nat) :
    ∀ (n : Nat) (S : XS) (x0 : Nat) (x1 : Nat) (x2 : Int32) (H : Heap) (locs : List Loc) (ls : Array Slot) (cells slots : Nat), kX_X5_which_2 g N n S x0 x1 x2 = some w → xW g D A S s H → va_S A s.heap H locs → lv_has ls 3 [(0, .ref x0), (1, .ref x1), (2, .int x2)] → W p l e (xRm g S0 5) s m args below meth c H locs cells slots (MQ below (xQi g D A w) args s (g.2.1 - xTop S0) (g.2.2.1 - xSl S0) A) (F0 m 2 ls []) := by
  obtain ⟨hx, hb, -, hown, hts, -⟩ := id X
  intro n
  induction n with
  | zero =>
    intro S x0 x1 x2 H locs ls cells slots hm
    cases hm
  | succ n ih =>
    intro S x0 x1 x2 H locs ls cells slots hm hw hS hl
    rw [kX_X5_which_2] at hm
    refine lv_iload_n hx hb dX5_which_2 rfl (lv_at hl 2 rfl) ?_
    refine lv_aload_n hx hb dX5_which_3 rfl (lv_at hl 1 rfl) ?_
    obtain ⟨v1, hv1, hm⟩ := ob_s hm
    refine xr_alen X hw hv1 dX5_which_4 ?_
    refine lv_icmp_ge (tgt := 26) hx hb dX5_which_5 (by decide) (fun c2 => ?_) (fun c2 => ?_)
    · replace hm := if_t c2 hm
      refine lv_iconst (v := (-1)) hx hb dX5_which_26 (by decide) ?_
      obtain rfl := Option.some.inj hm
      exact xr_iret (v := (-1)) X hr hlk hw hS rfl dX5_which_27
    · replace hm := if_f c2 hm
      refine lv_aload_n hx hb dX5_which_8 rfl (lv_at hl 0 rfl) ?_
      refine lv_aload_n hx hb dX5_which_9 rfl (lv_at hl 1 rfl) ?_
      refine lv_iload_n hx hb dX5_which_10 rfl (lv_at hl 2 rfl) ?_
      obtain ⟨v3, hv3, hm⟩ := ob_s hm
      refine xr_aaldS (v := some v3) X hw (a_obj_s hv3) dX5_which_11 ?_
      obtain ⟨u4, hu4, hm⟩ := ob_s hm
      obtain ⟨w5, hw5, hm⟩ := ob_s hm
      refine xr_reti hS (xr_runV X hw (met_X5_is N S x0 v3 w5 hw5) (x_cv X (lv := 4) (by omega) (by decide) cx_X5_is (lw_V q885 q887 qs18 q126 q888)) xc4 hu4 rfl hl.1 rfl (Nat.le_of_ble_eq_true rfl) dX5_which_12) (fun H locs cells slots hw hS => ?_)
      refine lv_if_eq (tgt := 20) hx hb dX5_which_15 (by decide) (fun c6 => ?_) (fun c6 => ?_)
      · replace hm := if_t c6 hm
        refine lv_iinc (v := (x2 + 1)) (lv' := [(2, .int (x2 + 1)), (0, .ref x0), (1, .ref x1)]) hx hb dX5_which_20 hl (k := 2) rfl rfl (by decide) rfl (fun ls hl => ?_)
        refine lv_goto (tgt := 2) hx hb dX5_which_23 (by decide) ?_
        exact ih w5.1 x0 x1 (x2 + 1) H locs ls _ _ hm hw hS (lv_sub hl [1, 2, 0] rfl)
      · replace hm := if_f c6 hm
        refine lv_iload_n hx hb dX5_which_18 rfl (lv_at hl 2 rfl) ?_
        obtain rfl := Option.some.inj hm
        exact xr_iret (v := x2) X hr hlk hw hS rfl dX5_which_19
def kX_X5_which (g : XC) (N : Nat) (S : XS) (x0 : Nat) (x1 : Nat) : Option (XS × Int32) :=
  kX_X5_which_2 g N N S x0 x1 0
theorem cx_X5_which : yX5_which.cls = RX5 ∧ yX5_which.cls ≠ "java/lang/invoke/MethodHandle" ∧ yX5_which.cls ≠ "java/lang/invoke/VarHandle" ∧ (parseMethodDescriptor yX5_which.desc).map (fun d => d.parameters.length) = some 1 := by decide +kernel
theorem met_X5_which {l : Launch} {g : XC} {D : va_G} {A : Nat → Prop} (N : Nat) (S : XS) (x0 : Nat) (x1 : Nat) (w : XS × Int32) (hm : kX_X5_which g N S x0 x1 = some w) : Met l yX5_which (ws_ yX5_which cX5_which 3 (Option.some Jvm.ClassFile.FieldType.int)) (xRm g S 5) (xPre g D A [.ref x0, .ref x1] S) (xQi g D A w) (g.2.1 - xTop S) (g.2.2.1 - xSl S) A := by
  refine x_start (own := RX5) (by decide +kernel) rfl (Nat.le_of_ble_eq_true rfl) (fun p e s m below meth c ls X hr hlk hnm hw hl => ?_)
  obtain ⟨hx, hb, -, hown, hts, -⟩ := id X
  have hl : lv_has ls 3 [(0, .ref x0), (1, .ref x1)] := hl
  have hg : ∀ (H : Heap) (locs : List Loc) (cells slots : Nat), xW g D A S s H → va_S A s.heap H locs → W p l e (xRm g S 5) s m ([.ref x0, .ref x1] : List Value).toArray below meth c H locs cells slots (MQ below (xQi g D A w) ([.ref x0, .ref x1] : List Value).toArray s (g.2.1 - xTop S) (g.2.2.1 - xSl S) A) (F0 m 0 ls []) := by
    intro H locs cells slots hw hS
    unfold kX_X5_which at hm
    refine lv_iconst (v := 0) hx hb dX5_which_0 (by decide) ?_
    refine lv_istore_n (lv' := [(2, .int 0), (0, .ref x0), (1, .ref x1)]) hx hb dX5_which_1 rfl hl (by decide) rfl (fun ls hl => ?_)
    exact wkX_X5_which_2 X hr hlk hnm N N S x0 x1 0 H locs ls _ _ hm hw hS (lv_sub hl [1, 2, 0] rfl)
  exact hg _ _ _ _ hw va_S.rf
/-! DripCups$Reader.isSign -/
def kX_X5_isSign (g : XC) (N : Nat) (S : XS) (x0 : Nat) (x1 : Int32) : Option (XS × Int32) :=
  (f_int S 4 x0 6).bind fun v1 =>
  if v1 = 3 then
    (f_obj S 4 x0 12).bind fun v3 =>
    (f_obj S 1 v3 4).bind fun v4 =>
    (f_int S 4 x0 7).bind fun v5 =>
    (a_int S 1 v4 v5).bind fun v6 =>
    if v6 = x1 then
      some (S, 1)
    else
      some (S, 0)
  else
    some (S, 0)
theorem cx_X5_isSign : yX5_isSign.cls = RX5 ∧ yX5_isSign.cls ≠ "java/lang/invoke/MethodHandle" ∧ yX5_isSign.cls ≠ "java/lang/invoke/VarHandle" ∧ (parseMethodDescriptor yX5_isSign.desc).map (fun d => d.parameters.length) = some 1 := by decide +kernel
theorem met_X5_isSign {l : Launch} {g : XC} {D : va_G} {A : Nat → Prop} (N : Nat) (S : XS) (x0 : Nat) (x1 : Int32) (w : XS × Int32) (hm : kX_X5_isSign g N S x0 x1 = some w) : Met l yX5_isSign (ws_ yX5_isSign cX5_isSign 2 (Option.some Jvm.ClassFile.FieldType.boolean)) (xRm g S 0) (xPre g D A [.ref x0, .int x1] S) (xQi g D A w) (g.2.1 - xTop S) (g.2.2.1 - xSl S) A := by
  refine x_start (own := RX5) (by decide +kernel) rfl (Nat.le_of_ble_eq_true rfl) (fun p e s m below meth c ls X hr hlk hnm hw hl => ?_)
  obtain ⟨hx, hb, -, hown, hts, -⟩ := id X
  have hl : lv_has ls 2 [(0, .ref x0), (1, .int x1)] := hl
  have hg : ∀ (H : Heap) (locs : List Loc) (cells slots : Nat), xW g D A S s H → va_S A s.heap H locs → W p l e (xRm g S 0) s m ([.ref x0, .int x1] : List Value).toArray below meth c H locs cells slots (MQ below (xQi g D A w) ([.ref x0, .int x1] : List Value).toArray s (g.2.1 - xTop S) (g.2.2.1 - xSl S) A) (F0 m 0 ls []) := by
    intro H locs cells slots hw hS
    unfold kX_X5_isSign at hm
    refine lv_aload_n hx hb dX5_isSign_0 rfl (lv_at hl 0 rfl) ?_
    obtain ⟨v1, hv1, hm⟩ := ob_s hm
    refine xr_val X hw xc4 in_X5 6 (by decide) q749 (f_int_s hv1) dX5_isSign_1 ?_
    refine lv_iconst (v := 3) hx hb dX5_isSign_4 (by decide) ?_
    refine lv_icmp_ne (tgt := 28) hx hb dX5_isSign_5 (by decide) (fun c2 => ?_) (fun c2 => ?_)
    · replace hm := if_f c2 hm
      refine lv_iconst (v := 0) hx hb dX5_isSign_28 (by decide) ?_
      obtain rfl := Option.some.inj hm
      exact xr_iret (v := 0) X hr hlk hw hS rfl dX5_isSign_29
    · replace hm := if_t c2 hm
      refine lv_aload_n hx hb dX5_isSign_8 rfl (lv_at hl 0 rfl) ?_
      obtain ⟨v3, hv3, hm⟩ := ob_s hm
      refine xr_val X hw xc4 in_X5 12 (by decide) q756 (f_obj_s hv3) dX5_isSign_9 ?_
      obtain ⟨v4, hv4, hm⟩ := ob_s hm
      refine xr_valN X hw xc1 in_X1 4 (by decide) q283 (f_obj_s hv4) dX5_isSign_12 ?_
      refine lv_aload_n hx hb dX5_isSign_15 rfl (lv_at hl 0 rfl) ?_
      obtain ⟨v5, hv5, hm⟩ := ob_s hm
      refine xr_val X hw xc4 in_X5 7 (by decide) q750 (f_int_s hv5) dX5_isSign_16 ?_
      obtain ⟨v6, hv6, hm⟩ := ob_s hm
      refine xr_bald X hw hv6 dX5_isSign_19 ?_
      refine lv_iload_n hx hb dX5_isSign_20 rfl (lv_at hl 1 rfl) ?_
      refine lv_icmp_ne (tgt := 28) hx hb dX5_isSign_21 (by decide) (fun c7 => ?_) (fun c7 => ?_)
      · replace hm := if_f c7 hm
        refine lv_iconst (v := 0) hx hb dX5_isSign_28 (by decide) ?_
        obtain rfl := Option.some.inj hm
        exact xr_iret (v := 0) X hr hlk hw hS rfl dX5_isSign_29
      · replace hm := if_t c7 hm
        refine lv_iconst (v := 1) hx hb dX5_isSign_24 (by decide) ?_
        refine lv_goto (tgt := 29) hx hb dX5_isSign_25 (by decide) ?_
        obtain rfl := Option.some.inj hm
        exact xr_iret (v := 1) X hr hlk hw hS rfl dX5_isSign_29
  exact hg _ _ _ _ hw va_S.rf
/-! DripCups$Reader.sign -/
def kX_X5_sign (g : XC) (N : Nat) (S : XS) (x0 : Nat) : Option (XS × Int32) :=
  (f_obj S 4 x0 12).bind fun v1 =>
  (f_obj S 1 v1 4).bind fun v2 =>
  (f_int S 4 x0 7).bind fun v3 =>
  (a_int S 1 v2 v3).bind fun v4 =>
  bnd (((v4 : Int32).toUInt32 % 65536).toInt32) fun v5 =>
  (f_cls S 4 x0).bind fun u6 =>
  (kX_X5_next g N S x0).bind fun w7 =>
  nchk .char v5 <|
  some (w7, v5)
theorem cx_X5_sign : yX5_sign.cls = RX5 ∧ yX5_sign.cls ≠ "java/lang/invoke/MethodHandle" ∧ yX5_sign.cls ≠ "java/lang/invoke/VarHandle" ∧ (parseMethodDescriptor yX5_sign.desc).map (fun d => d.parameters.length) = some 0 := by decide +kernel
theorem met_X5_sign {l : Launch} {g : XC} {D : va_G} {A : Nat → Prop} (N : Nat) (S : XS) (x0 : Nat) (w : XS × Int32) (hm : kX_X5_sign g N S x0 = some w) : Met l yX5_sign (ws_ yX5_sign cX5_sign 2 (Option.some Jvm.ClassFile.FieldType.char)) (xRm g S 5) (xPre g D A [.ref x0] S) (xQi g D A w) (g.2.1 - xTop S) (g.2.2.1 - xSl S) A := by
  refine x_start (own := RX5) (by decide +kernel) rfl (Nat.le_of_ble_eq_true rfl) (fun p e s m below meth c ls X hr hlk hnm hw hl => ?_)
  obtain ⟨hx, hb, -, hown, hts, -⟩ := id X
  have hl : lv_has ls 2 [(0, .ref x0)] := hl
  have hg : ∀ (H : Heap) (locs : List Loc) (cells slots : Nat), xW g D A S s H → va_S A s.heap H locs → W p l e (xRm g S 5) s m ([.ref x0] : List Value).toArray below meth c H locs cells slots (MQ below (xQi g D A w) ([.ref x0] : List Value).toArray s (g.2.1 - xTop S) (g.2.2.1 - xSl S) A) (F0 m 0 ls []) := by
    intro H locs cells slots hw hS
    unfold kX_X5_sign at hm
    refine lv_aload_n hx hb dX5_sign_0 rfl (lv_at hl 0 rfl) ?_
    obtain ⟨v1, hv1, hm⟩ := ob_s hm
    refine xr_val X hw xc4 in_X5 12 (by decide) q756 (f_obj_s hv1) dX5_sign_1 ?_
    obtain ⟨v2, hv2, hm⟩ := ob_s hm
    refine xr_valN X hw xc1 in_X1 4 (by decide) q283 (f_obj_s hv2) dX5_sign_4 ?_
    refine lv_aload_n hx hb dX5_sign_7 rfl (lv_at hl 0 rfl) ?_
    obtain ⟨v3, hv3, hm⟩ := ob_s hm
    refine xr_val X hw xc4 in_X5 7 (by decide) q750 (f_int_s hv3) dX5_sign_8 ?_
    obtain ⟨v4, hv4, hm⟩ := ob_s hm
    refine xr_bald X hw hv4 dX5_sign_11 ?_
    refine lv_i2c hx hb dX5_sign_12 rfl ?_
    refine lv_topi (fun v5 ev5 => ?_)
    replace hm := bnd_s hm ev5
    refine lv_istore_n (lv' := [(1, .int v5), (0, .ref x0)]) hx hb dX5_sign_13 rfl hl (by decide) rfl (fun ls hl => ?_)
    refine lv_aload_n hx hb dX5_sign_14 rfl (lv_at hl 1 rfl) ?_
    obtain ⟨u6, hu6, hm⟩ := ob_s hm
    obtain ⟨w7, hw7, hm⟩ := ob_s hm
    refine xr_retv hS (xr_runV X hw (met_X5_next N S x0 w7 hw7) (x_cv X (lv := 4) (by omega) (by decide) cx_X5_next (lw_V q788 q790 qs12 q126 q791)) xc4 hu6 rfl hl.1 rfl (Nat.le_of_ble_eq_true rfl) dX5_sign_15) (fun H locs cells slots hw hS => ?_)
    refine lv_iload_n hx hb dX5_sign_18 rfl (lv_at hl 0 rfl) ?_
    obtain ⟨z8, hm⟩ := nchk_s hm
    obtain rfl := Option.some.inj hm
    exact xr_iret (v := v5) X hr hlk hw hS z8 dX5_sign_19
  exact hg _ _ _ _ hw va_S.rf
/-! DripCups$Reader.passes -/
def kX_X5_passes (g : XC) (N : Nat) (S : XS) (x0 : Nat) (x1 : Nat) : Option (XS × Int32) :=
  (f_cls S 4 x0).bind fun u1 =>
  (kX_X5_is g N S x0 x1).bind fun w2 =>
  if w2.2 = 0 then
    zchk w2.2 <|
    some (w2.1, w2.2)
  else
    (f_cls w2.1 4 x0).bind fun u5 =>
    (kX_X5_next g N w2.1 x0).bind fun w6 =>
    zchk w2.2 <|
    some (w6, w2.2)
theorem cx_X5_passes : yX5_passes.cls = RX5 ∧ yX5_passes.cls ≠ "java/lang/invoke/MethodHandle" ∧ yX5_passes.cls ≠ "java/lang/invoke/VarHandle" ∧ (parseMethodDescriptor yX5_passes.desc).map (fun d => d.parameters.length) = some 1 := by decide +kernel
theorem met_X5_passes {l : Launch} {g : XC} {D : va_G} {A : Nat → Prop} (N : Nat) (S : XS) (x0 : Nat) (x1 : Nat) (w : XS × Int32) (hm : kX_X5_passes g N S x0 x1 = some w) : Met l yX5_passes (ws_ yX5_passes cX5_passes 3 (Option.some Jvm.ClassFile.FieldType.boolean)) (xRm g S 5) (xPre g D A [.ref x0, .ref x1] S) (xQi g D A w) (g.2.1 - xTop S) (g.2.2.1 - xSl S) A := by
  refine x_start (own := RX5) (by decide +kernel) rfl (Nat.le_of_ble_eq_true rfl) (fun p e s m below meth c ls X hr hlk hnm hw hl => ?_)
  obtain ⟨hx, hb, -, hown, hts, -⟩ := id X
  have hl : lv_has ls 3 [(0, .ref x0), (1, .ref x1)] := hl
  have hg : ∀ (H : Heap) (locs : List Loc) (cells slots : Nat), xW g D A S s H → va_S A s.heap H locs → W p l e (xRm g S 5) s m ([.ref x0, .ref x1] : List Value).toArray below meth c H locs cells slots (MQ below (xQi g D A w) ([.ref x0, .ref x1] : List Value).toArray s (g.2.1 - xTop S) (g.2.2.1 - xSl S) A) (F0 m 0 ls []) := by
    intro H locs cells slots hw hS
    unfold kX_X5_passes at hm
    refine lv_aload_n hx hb dX5_passes_0 rfl (lv_at hl 0 rfl) ?_
    refine lv_aload_n hx hb dX5_passes_1 rfl (lv_at hl 1 rfl) ?_
    obtain ⟨u1, hu1, hm⟩ := ob_s hm
    obtain ⟨w2, hw2, hm⟩ := ob_s hm
    refine xr_reti hS (xr_runV X hw (met_X5_is N S x0 x1 w2 hw2) (x_cv X (lv := 4) (by omega) (by decide) cx_X5_is (lw_V q885 q887 qs18 q126 q888)) xc4 hu1 rfl hl.1 rfl (Nat.le_of_ble_eq_true rfl) dX5_passes_2) (fun H locs cells slots hw hS => ?_)
    refine lv_istore_n (lv' := [(2, .int w2.2), (0, .ref x0), (1, .ref x1)]) hx hb dX5_passes_5 rfl hl (by decide) rfl (fun ls hl => ?_)
    refine lv_iload_n hx hb dX5_passes_6 rfl (lv_at hl 0 rfl) ?_
    refine lv_if_eq (tgt := 14) hx hb dX5_passes_7 (by decide) (fun c3 => ?_) (fun c3 => ?_)
    · replace hm := if_t c3 hm
      refine lv_iload_n hx hb dX5_passes_14 rfl (lv_at hl 0 rfl) ?_
      obtain ⟨z4, hm⟩ := zchk_s hm
      obtain rfl := Option.some.inj hm
      exact xr_iret (v := w2.2) X hr hlk hw hS (z_nar z4) dX5_passes_15
    · replace hm := if_f c3 hm
      refine lv_aload_n hx hb dX5_passes_10 rfl (lv_at hl 1 rfl) ?_
      obtain ⟨u5, hu5, hm⟩ := ob_s hm
      obtain ⟨w6, hw6, hm⟩ := ob_s hm
      refine xr_retv hS (xr_runV X hw (met_X5_next N w2.1 x0 w6 hw6) (x_cv X (lv := 4) (by omega) (by decide) cx_X5_next (lw_V q788 q790 qs12 q126 q791)) xc4 hu5 rfl hl.1 rfl (Nat.le_of_ble_eq_true rfl) dX5_passes_11) (fun H locs cells slots hw hS => ?_)
      refine lv_iload_n hx hb dX5_passes_14 rfl (lv_at hl 0 rfl) ?_
      obtain ⟨z7, hm⟩ := zchk_s hm
      obtain rfl := Option.some.inj hm
      exact xr_iret (v := w2.2) X hr hlk hw hS (z_nar z7) dX5_passes_15
  exact hg _ _ _ _ hw va_S.rf
/-! java/lang/Throwable.init_2 -/
def kX_J3_init_2_41 (g : XC) (N : Nat) (S : XS) (x0 : Nat) (x3 : Int32) : Option (XS) :=
  (f_putR S 9 x0 3 none).bind fun S1 =>
  (f_putR S1 9 x0 0 none).bind fun S2 =>
  if x3 = 0 then
    (f_putR S2 9 x0 2 none).bind fun S4 =>
    some S4
  else
    some S2
theorem wkX_J3_init_2_41 {p : Program} {l : Launch} {e : Env} {s : State} {m : MethodId} {args : Array Value} {below : List Frame} {meth : Method} {c : Code} {g : XC} {D : va_G} {A : Nat → Prop} {S0 : XS} {w : XS} (X : xX g D A RJ3 S0 p s m args c cJ3_init_2 5) (hr : meth.sig.returnType = (Option.none : Option Jvm.ClassFile.FieldType)) (hlk : meth.locks = false) (hnm : meth.name = yJ3_init_2.name) (N : Nat) :
    ∀ (S : XS) (x0 : Nat) (x3 : Int32) (H : Heap) (locs : List Loc) (ls : Array Slot) (cells slots : Nat), kX_J3_init_2_41 g N S x0 x3 = some w → xW g D A S s H → va_S A s.heap H locs → lv_has ls 5 [(0, .ref x0), (1, .null), (2, .null), (3, .int x3)] → W p l e (xRm g S0 1) s m args below meth c H locs cells slots (MQ below (xQv g D A w) args s (g.2.1 - xTop S0) (g.2.2.1 - xSl S0) A) (F0 m 41 ls []) := by
  obtain ⟨hx, hb, -, hown, hts, -⟩ := id X
  intro S x0 x3 H locs ls cells slots hm hw hS hl
  unfold kX_J3_init_2_41 at hm
  refine lv_aload_n hx hb dJ3_init_2_41 rfl (lv_at hl 0 rfl) ?_
  refine lv_aload_nN hx hb dJ3_init_2_42 rfl (lv_at hl 1 rfl) ?_
  obtain ⟨S1, hS1, hm⟩ := ob_s hm
  refine xr_putR (v := none) X hw hS xc9 in_X6 tyX6_ok nmX6 3 (by decide) q710 rfl (tyX6_ok 3 (by decide)) rfl hS1 dJ3_init_2_43 (fun H locs hw hS => ?_)
  refine lv_aload_n hx hb dJ3_init_2_46 rfl (lv_at hl 0 rfl) ?_
  refine lv_aload_nN hx hb dJ3_init_2_47 rfl (lv_at hl 2 rfl) ?_
  obtain ⟨S2, hS2, hm⟩ := ob_s hm
  refine xr_putR (v := none) X hw hS xc9 in_X6 tyX6_ok nmX6 0 (by decide) q711 rfl (tyX6_ok 0 (by decide)) rfl hS2 dJ3_init_2_48 (fun H locs hw hS => ?_)
  refine lv_iload_n hx hb dJ3_init_2_51 rfl (lv_at hl 3 rfl) ?_
  refine lv_if_ne (tgt := 60) hx hb dJ3_init_2_52 (by decide) (fun c3 => ?_) (fun c3 => ?_)
  · replace hm := if_f c3 hm
    obtain rfl := Option.some.inj hm
    exact xr_vret X hr hlk hw hS dJ3_init_2_60
  · replace hm := if_t c3 hm
    refine lv_aload_n hx hb dJ3_init_2_55 rfl (lv_at hl 0 rfl) ?_
    refine lv_null hx hb dJ3_init_2_56 ?_
    obtain ⟨S4, hS4, hm⟩ := ob_s hm
    refine xr_putR (v := none) X hw hS xc9 in_X6 tyX6_ok nmX6 2 (by decide) q713 rfl (tyX6_ok 2 (by decide)) rfl hS4 dJ3_init_2_57 (fun H locs hw hS => ?_)
    obtain rfl := Option.some.inj hm
    exact xr_vret X hr hlk hw hS dJ3_init_2_60
def kX_J3_init_2 (g : XC) (N : Nat) (S : XS) (x0 : Nat) (x3 : Int32) (x4 : Int32) : Option (XS) :=
  (f_putR S 9 x0 0 (some x0)).bind fun S1 =>
  (f_putR S1 9 x0 1 (gOp g 7)).bind fun S2 =>
  (f_putR S2 9 x0 2 (gOp g 9)).bind fun S3 =>
  if x4 = 0 then
    (f_putR S3 9 x0 1 none).bind fun S5 =>
    kX_J3_init_2_41 g N S5 x0 x3
  else
    none
theorem cx_J3_init_2 : yJ3_init_2.cls ≠ "java/lang/invoke/MethodHandle" ∧ yJ3_init_2.cls ≠ "java/lang/invoke/VarHandle" ∧ (parseMethodDescriptor yJ3_init_2.desc).map (fun d => d.parameters.length) = some 4 := by decide +kernel
theorem met_J3_init_2 {l : Launch} {g : XC} {D : va_G} {A : Nat → Prop} (N : Nat) (S : XS) (x0 : Nat) (x3 : Int32) (x4 : Int32) (w : XS) (hm : kX_J3_init_2 g N S x0 x3 x4 = some w) : Met l yJ3_init_2 (ws_ yJ3_init_2 cJ3_init_2 5 (Option.none : Option Jvm.ClassFile.FieldType)) (xRm g S 1) (xPre g D A [.ref x0, .null, .null, .int x3, .int x4] S) (xQv g D A w) (g.2.1 - xTop S) (g.2.2.1 - xSl S) A := by
  refine x_start (own := RJ3) (by decide +kernel) rfl (Nat.le_of_ble_eq_true rfl) (fun p e s m below meth c ls X hr hlk hnm hw hl => ?_)
  obtain ⟨hx, hb, -, hown, hts, -⟩ := id X
  have hl : lv_has ls 5 [(0, .ref x0), (1, .null), (2, .null), (3, .int x3), (4, .int x4)] := hl
  have hg : ∀ (H : Heap) (locs : List Loc) (cells slots : Nat), xW g D A S s H → va_S A s.heap H locs → W p l e (xRm g S 1) s m ([.ref x0, .null, .null, .int x3, .int x4] : List Value).toArray below meth c H locs cells slots (MQ below (xQv g D A w) ([.ref x0, .null, .null, .int x3, .int x4] : List Value).toArray s (g.2.1 - xTop S) (g.2.2.1 - xSl S) A) (F0 m 0 ls []) := by
    intro H locs cells slots hw hS
    unfold kX_J3_init_2 at hm
    refine lv_aload_n hx hb dJ3_init_2_0 rfl (lv_at hl 0 rfl) ?_
    refine xr_objInit X hl.1 q683 q154 q155 (Nat.le_of_ble_eq_true rfl) dJ3_init_2_1 ?_
    refine lv_aload_n hx hb dJ3_init_2_4 rfl (lv_at hl 0 rfl) ?_
    refine lv_aload_n hx hb dJ3_init_2_5 rfl (lv_at hl 0 rfl) ?_
    obtain ⟨S1, hS1, hm⟩ := ob_s hm
    refine xr_putR (v := (some x0)) X hw hS xc9 in_X6 tyX6_ok nmX6 0 (by decide) q711 rfl (tyX6_ok 0 (by decide)) rfl hS1 dJ3_init_2_6 (fun H locs hw hS => ?_)
    refine lv_aload_n hx hb dJ3_init_2_9 rfl (lv_at hl 0 rfl) ?_
    refine xr_sref X (x_phi hw).2.2.2.2.2.2.2.2.2.2.2.2.2.2.2.1 q684 dJ3_init_2_10 ?_
    obtain ⟨S2, hS2, hm⟩ := ob_s hm
    refine xr_putR (v := (gOp g 7)) X hw hS xc9 in_X6 tyX6_ok nmX6 1 (by decide) q712 rfl (tyX6_ok 1 (by decide)) rfl hS2 dJ3_init_2_13 (fun H locs hw hS => ?_)
    refine lv_aload_n hx hb dJ3_init_2_16 rfl (lv_at hl 0 rfl) ?_
    refine xr_sref X (x_phi hw).2.2.2.2.2.2.2.2.2.2.2.2.2.2.2.2 q686 dJ3_init_2_17 ?_
    obtain ⟨S3, hS3, hm⟩ := ob_s hm
    refine xr_putR (v := (gOp g 9)) X hw hS xc9 in_X6 tyX6_ok nmX6 2 (by decide) q713 rfl (tyX6_ok 2 (by decide)) rfl hS3 dJ3_init_2_20 (fun H locs hw hS => ?_)
    refine lv_iload hx hb dJ3_init_2_23 (lv_at hl 4 rfl) ?_
    refine lv_if_eq (tgt := 36) hx hb dJ3_init_2_25 (by decide) (fun c4 => ?_) (fun c4 => ?_)
    · replace hm := if_t c4 hm
      refine lv_aload_n hx hb dJ3_init_2_36 rfl (lv_at hl 0 rfl) ?_
      refine lv_null hx hb dJ3_init_2_37 ?_
      obtain ⟨S5, hS5, hm⟩ := ob_s hm
      refine xr_putR (v := none) X hw hS xc9 in_X6 tyX6_ok nmX6 1 (by decide) q712 rfl (tyX6_ok 1 (by decide)) rfl hS5 dJ3_init_2_38 (fun H locs hw hS => ?_)
      exact wkX_J3_init_2_41 X hr hlk hnm N S5 x0 x3 H locs ls _ _ hm hw hS (lv_sub hl [0, 1, 2, 3] rfl)
    · replace hm := if_f c4 hm
      refine lv_aload_n hx hb dJ3_init_2_28 rfl (lv_at hl 0 rfl) ?_
      cases hm
  exact hg _ _ _ _ hw va_S.rf
/-! java/lang/Exception.init_2 -/
def kX_J4_init_2 (g : XC) (N : Nat) (S : XS) (x0 : Nat) (x3 : Int32) (x4 : Int32) : Option (XS) :=
  (kX_J3_init_2 g N S x0 x3 x4).bind fun w1 =>
  some w1
theorem cx_J4_init_2 : yJ4_init_2.cls ≠ "java/lang/invoke/MethodHandle" ∧ yJ4_init_2.cls ≠ "java/lang/invoke/VarHandle" ∧ (parseMethodDescriptor yJ4_init_2.desc).map (fun d => d.parameters.length) = some 4 := by decide +kernel
theorem met_J4_init_2 {l : Launch} {g : XC} {D : va_G} {A : Nat → Prop} (N : Nat) (S : XS) (x0 : Nat) (x3 : Int32) (x4 : Int32) (w : XS) (hm : kX_J4_init_2 g N S x0 x3 x4 = some w) : Met l yJ4_init_2 (ws_ yJ4_init_2 cJ4_init_2 5 (Option.none : Option Jvm.ClassFile.FieldType)) (xRm g S 2) (xPre g D A [.ref x0, .null, .null, .int x3, .int x4] S) (xQv g D A w) (g.2.1 - xTop S) (g.2.2.1 - xSl S) A := by
  refine x_start (own := RJ4) (by decide +kernel) rfl (Nat.le_of_ble_eq_true rfl) (fun p e s m below meth c ls X hr hlk hnm hw hl => ?_)
  obtain ⟨hx, hb, -, hown, hts, -⟩ := id X
  have hl : lv_has ls 5 [(0, .ref x0), (1, .null), (2, .null), (3, .int x3), (4, .int x4)] := hl
  have hg : ∀ (H : Heap) (locs : List Loc) (cells slots : Nat), xW g D A S s H → va_S A s.heap H locs → W p l e (xRm g S 2) s m ([.ref x0, .null, .null, .int x3, .int x4] : List Value).toArray below meth c H locs cells slots (MQ below (xQv g D A w) ([.ref x0, .null, .null, .int x3, .int x4] : List Value).toArray s (g.2.1 - xTop S) (g.2.2.1 - xSl S) A) (F0 m 0 ls []) := by
    intro H locs cells slots hw hS
    unfold kX_J4_init_2 at hm
    refine lv_aload_n hx hb dJ4_init_2_0 rfl (lv_at hl 0 rfl) ?_
    refine lv_aload_nN hx hb dJ4_init_2_1 rfl (lv_at hl 1 rfl) ?_
    refine lv_aload_nN hx hb dJ4_init_2_2 rfl (lv_at hl 2 rfl) ?_
    refine lv_iload_n hx hb dJ4_init_2_3 rfl (lv_at hl 3 rfl) ?_
    refine lv_iload hx hb dJ4_init_2_4 (lv_at hl 4 rfl) ?_
    obtain ⟨w1, hw1, hm⟩ := ob_s hm
    refine xr_retv hS (xr_runI X hw (met_J3_init_2 N S x0 x3 x4 w1 hw1) (x_ci X (lv := 1) (by omega) (by decide) rfl cx_J3_init_2 (lw_meth q931) q122 q929 q930) rfl hl.1 rfl (Nat.le_of_ble_eq_true rfl) dJ4_init_2_6) (fun H locs cells slots hw hS => ?_)
    obtain rfl := Option.some.inj hm
    exact xr_vret X hr hlk hw hS dJ4_init_2_9
  exact hg _ _ _ _ hw va_S.rf
/-! DripCups$Wrong.init -/
def kX_X6_init (g : XC) (N : Nat) (S : XS) (x0 : Nat) (x1 : Int32) : Option (XS) :=
  (kX_J4_init_2 g N S x0 0 0).bind fun w1 =>
  (f_putI w1 9 x0 6 x1).bind fun S2 =>
  some S2
theorem cx_X6_init : yX6_init.cls ≠ "java/lang/invoke/MethodHandle" ∧ yX6_init.cls ≠ "java/lang/invoke/VarHandle" ∧ (parseMethodDescriptor yX6_init.desc).map (fun d => d.parameters.length) = some 1 := by decide +kernel
theorem met_X6_init {l : Launch} {g : XC} {D : va_G} {A : Nat → Prop} (N : Nat) (S : XS) (x0 : Nat) (x1 : Int32) (w : XS) (hm : kX_X6_init g N S x0 x1 = some w) : Met l yX6_init (ws_ yX6_init cX6_init 2 (Option.none : Option Jvm.ClassFile.FieldType)) (xRm g S 3) (xPre g D A [.ref x0, .int x1] S) (xQv g D A w) (g.2.1 - xTop S) (g.2.2.1 - xSl S) A := by
  refine x_start (own := RX6) (by decide +kernel) rfl (Nat.le_of_ble_eq_true rfl) (fun p e s m below meth c ls X hr hlk hnm hw hl => ?_)
  obtain ⟨hx, hb, -, hown, hts, -⟩ := id X
  have hl : lv_has ls 2 [(0, .ref x0), (1, .int x1)] := hl
  have hg : ∀ (H : Heap) (locs : List Loc) (cells slots : Nat), xW g D A S s H → va_S A s.heap H locs → W p l e (xRm g S 3) s m ([.ref x0, .int x1] : List Value).toArray below meth c H locs cells slots (MQ below (xQv g D A w) ([.ref x0, .int x1] : List Value).toArray s (g.2.1 - xTop S) (g.2.2.1 - xSl S) A) (F0 m 0 ls []) := by
    intro H locs cells slots hw hS
    unfold kX_X6_init at hm
    refine lv_aload_n hx hb dX6_init_0 rfl (lv_at hl 0 rfl) ?_
    refine lv_null hx hb dX6_init_1 ?_
    refine lv_null hx hb dX6_init_2 ?_
    refine lv_iconst (v := 0) hx hb dX6_init_3 (by decide) ?_
    refine lv_iconst (v := 0) hx hb dX6_init_4 (by decide) ?_
    obtain ⟨w1, hw1, hm⟩ := ob_s hm
    refine xr_retv hS (xr_runI X hw (met_J4_init_2 N S x0 0 0 w1 hw1) (x_ci X (lv := 2) (by omega) (by decide) rfl cx_J4_init_2 (lw_meth q928) q123 q926 q927) rfl hl.1 rfl (Nat.le_of_ble_eq_true rfl) dX6_init_5) (fun H locs cells slots hw hS => ?_)
    refine lv_aload_n hx hb dX6_init_8 rfl (lv_at hl 0 rfl) ?_
    refine lv_iload_n hx hb dX6_init_9 rfl (lv_at hl 1 rfl) ?_
    obtain ⟨S2, hS2, hm⟩ := ob_s hm
    refine xr_putIF X hw hS xc9 in_X6 tyX6_ok nmX6 6 (by decide) q932 rfl hnm rfl (tyX6_ok 6 (by decide)) rfl rfl hS2 dX6_init_10 (fun H locs hw hS => ?_)
    obtain rfl := Option.some.inj hm
    exact xr_vret X hr hlk hw hS dX6_init_13
  exact hg _ _ _ _ hw va_S.rf
/-! DripCups$Chain.init -/
def kX_X7_init (g : XC) (N : Nat) (S : XS) (x0 : Nat) (x1 : Nat) : Option (XS) :=
  (xNew S 3 (.inr (10, [.int 0, .null, .int 0]))).bind fun S1 =>
  (kX_J2_init g N S1 (xTop S)).bind fun w2 =>
  (f_putR w2 5 x0 0 (some (xTop S))).bind fun S3 =>
  (xNew S3 4 (.inr (11, [.null, .int 0, .int 0, .int 0]))).bind fun S4 =>
  (kX_J14_init g N S4 (xTop S3)).bind fun w5 =>
  (f_putR w5 5 x0 1 (some (xTop S3))).bind fun S6 =>
  (f_obj S6 5 x0 0).bind fun v7 =>
  (f_cls S6 10 v7).bind fun u8 =>
  (kX_J2_add g N S6 v7 x1).bind fun w9 =>
  some w9.1
theorem cx_X7_init : yX7_init.cls ≠ "java/lang/invoke/MethodHandle" ∧ yX7_init.cls ≠ "java/lang/invoke/VarHandle" ∧ (parseMethodDescriptor yX7_init.desc).map (fun d => d.parameters.length) = some 1 := by decide +kernel
theorem met_X7_init {l : Launch} {g : XC} {D : va_G} {A : Nat → Prop} (N : Nat) (S : XS) (x0 : Nat) (x1 : Nat) (w : XS) (hm : kX_X7_init g N S x0 x1 = some w) : Met l yX7_init (ws_ yX7_init cX7_init 2 (Option.none : Option Jvm.ClassFile.FieldType)) (xRm g S 7) (xPre g D A [.ref x0, .ref x1] S) (xQv g D A w) (g.2.1 - xTop S) (g.2.2.1 - xSl S) A := by
  refine x_start (own := RX7) (by decide +kernel) rfl (Nat.le_of_ble_eq_true rfl) (fun p e s m below meth c ls X hr hlk hnm hw hl => ?_)
  obtain ⟨hx, hb, -, hown, hts, -⟩ := id X
  have hl : lv_has ls 2 [(0, .ref x0), (1, .ref x1)] := hl
  have hg : ∀ (H : Heap) (locs : List Loc) (cells slots : Nat), xW g D A S s H → va_S A s.heap H locs → W p l e (xRm g S 7) s m ([.ref x0, .ref x1] : List Value).toArray below meth c H locs cells slots (MQ below (xQv g D A w) ([.ref x0, .ref x1] : List Value).toArray s (g.2.1 - xTop S) (g.2.2.1 - xSl S) A) (F0 m 0 ls []) := by
    intro H locs cells slots hw hS
    unfold kX_X7_init at hm
    refine lv_aload_n hx hb dX7_init_0 rfl (lv_at hl 0 rfl) ?_
    refine xr_objInit X hl.1 q1000 q154 q155 (Nat.le_of_ble_eq_true rfl) dX7_init_1 ?_
    refine lv_aload_n hx hb dX7_init_4 rfl (lv_at hl 0 rfl) ?_
    obtain ⟨S1, hS1, hm⟩ := ob_s hm
    refine xr_new (N := 3) X hw hS xc10 in_J2 tyJ2_ok q1001 q163 q119 (by intro j hj; exact df_J2 j hj) hS1 dX7_init_5 (fun H cells slots hw hS => ?_)
    refine lv_dup hx hb dX7_init_8 rfl ?_
    obtain ⟨w2, hw2, hm⟩ := ob_s hm
    refine xr_retv hS (xr_runI X hw (met_J2_init N S1 (xTop S) w2 hw2) (x_ci X (lv := 2) (by omega) (by decide) rfl cx_J2_init (lw_meth q166) q119 q1002 q165) rfl hl.1 rfl (Nat.le_of_ble_eq_true rfl) dX7_init_9) (fun H locs cells slots hw hS => ?_)
    obtain ⟨S3, hS3, hm⟩ := ob_s hm
    refine xr_putRF (v := (some (xTop S))) X hw hS xc5 in_X7 tyX7_ok nmX7 0 (by decide) q1033 rfl hnm rfl (tyX7_ok 0 (by decide)) rfl hS3 dX7_init_12 (fun H locs hw hS => ?_)
    refine lv_aload_n hx hb dX7_init_15 rfl (lv_at hl 0 rfl) ?_
    obtain ⟨S4, hS4, hm⟩ := ob_s hm
    refine xr_new (N := 4) X hw hS xc11 in_J14 tyJ14_ok q1003 q1004 q138 (by intro j hj; exact df_J14 j hj) hS4 dX7_init_16 (fun H cells slots hw hS => ?_)
    refine lv_dup hx hb dX7_init_19 rfl ?_
    obtain ⟨w5, hw5, hm⟩ := ob_s hm
    refine xr_retv hS (xr_runI X hw (met_J14_init N S4 (xTop S3) w5 hw5) (x_ci X (lv := 1) (by omega) (by decide) rfl cx_J14_init (lw_meth q1007) q138 q1005 q1006) rfl hl.1 rfl (Nat.le_of_ble_eq_true rfl) dX7_init_20) (fun H locs cells slots hw hS => ?_)
    obtain ⟨S6, hS6, hm⟩ := ob_s hm
    refine xr_putRF (v := (some (xTop S3))) X hw hS xc5 in_X7 tyX7_ok nmX7 1 (by decide) q1034 rfl hnm rfl (tyX7_ok 1 (by decide)) rfl hS6 dX7_init_23 (fun H locs hw hS => ?_)
    refine lv_aload_n hx hb dX7_init_26 rfl (lv_at hl 0 rfl) ?_
    obtain ⟨v7, hv7, hm⟩ := ob_s hm
    refine xr_val X hw xc5 in_X7 0 (by decide) q1033 (f_obj_s hv7) dX7_init_27 ?_
    refine lv_aload_n hx hb dX7_init_30 rfl (lv_at hl 1 rfl) ?_
    obtain ⟨u8, hu8, hm⟩ := ob_s hm
    obtain ⟨w9, hw9, hm⟩ := ob_s hm
    refine xr_ret5i hS (xr_runF (x := ⟨"java/util/List", "add", "(Ljava/lang/Object;)Z"⟩) X hw (met_J2_add N S6 v7 x1 w9 hw9) (x_cf X (lv := 6) (by omega) (by decide) ci_List_add q1032 q362 q364 q119 q366 q360 q359 q365 q363 q361) xc10 hu8 rfl hl.1 rfl (Nat.le_of_ble_eq_true rfl) dX7_init_31) (fun H locs cells slots hw hS => ?_)
    refine lv_pop hx hb dX7_init_36 rfl ?_
    obtain rfl := Option.some.inj hm
    exact xr_vret X hr hlk hw hS dX7_init_37
  exact hg _ _ _ _ hw va_S.rf
/-! DripCups$Chain.add -/
def kX_X7_add (g : XC) (N : Nat) (S : XS) (x0 : Nat) (x1 : Int32) (x2 : Nat) : Option (XS) :=
  (f_obj S 5 x0 1).bind fun v1 =>
  (f_cls S 11 v1).bind fun u2 =>
  (kX_J14_append g N S v1 x1).bind fun w3 =>
  (f_obj w3.1 5 x0 0).bind fun v4 =>
  (f_cls w3.1 10 v4).bind fun u5 =>
  (kX_J2_add g N w3.1 v4 x2).bind fun w6 =>
  some w6.1
theorem cx_X7_add : yX7_add.cls = RX7 ∧ yX7_add.cls ≠ "java/lang/invoke/MethodHandle" ∧ yX7_add.cls ≠ "java/lang/invoke/VarHandle" ∧ (parseMethodDescriptor yX7_add.desc).map (fun d => d.parameters.length) = some 2 := by decide +kernel
theorem met_X7_add {l : Launch} {g : XC} {D : va_G} {A : Nat → Prop} (N : Nat) (S : XS) (x0 : Nat) (x1 : Int32) (x2 : Nat) (w : XS) (hm : kX_X7_add g N S x0 x1 x2 = some w) : Met l yX7_add (ws_ yX7_add cX7_add 3 (Option.none : Option Jvm.ClassFile.FieldType)) (xRm g S 7) (xPre g D A [.ref x0, .int x1, .ref x2] S) (xQv g D A w) (g.2.1 - xTop S) (g.2.2.1 - xSl S) A := by
  refine x_start (own := RX7) (by decide +kernel) rfl (Nat.le_of_ble_eq_true rfl) (fun p e s m below meth c ls X hr hlk hnm hw hl => ?_)
  obtain ⟨hx, hb, -, hown, hts, -⟩ := id X
  have hl : lv_has ls 3 [(0, .ref x0), (1, .int x1), (2, .ref x2)] := hl
  have hg : ∀ (H : Heap) (locs : List Loc) (cells slots : Nat), xW g D A S s H → va_S A s.heap H locs → W p l e (xRm g S 7) s m ([.ref x0, .int x1, .ref x2] : List Value).toArray below meth c H locs cells slots (MQ below (xQv g D A w) ([.ref x0, .int x1, .ref x2] : List Value).toArray s (g.2.1 - xTop S) (g.2.2.1 - xSl S) A) (F0 m 0 ls []) := by
    intro H locs cells slots hw hS
    unfold kX_X7_add at hm
    refine lv_aload_n hx hb dX7_add_0 rfl (lv_at hl 0 rfl) ?_
    obtain ⟨v1, hv1, hm⟩ := ob_s hm
    refine xr_val X hw xc5 in_X7 1 (by decide) q1034 (f_obj_s hv1) dX7_add_1 ?_
    refine lv_iload_n hx hb dX7_add_4 rfl (lv_at hl 1 rfl) ?_
    obtain ⟨u2, hu2, hm⟩ := ob_s hm
    obtain ⟨w3, hw3, hm⟩ := ob_s hm
    refine xr_retr hS (xr_runV X hw (met_J14_append N S v1 x1 w3 hw3) (x_cv X (lv := 5) (by omega) (by decide) cx_J14_append (lw_V q1048 q1049 q1050 q138 q1051)) xc11 hu2 rfl hl.1 rfl (Nat.le_of_ble_eq_true rfl) dX7_add_5) (fun H locs cells slots hw hS => ?_)
    refine lv_pop hx hb dX7_add_8 rfl ?_
    refine lv_aload_n hx hb dX7_add_9 rfl (lv_at hl 0 rfl) ?_
    obtain ⟨v4, hv4, hm⟩ := ob_s hm
    refine xr_val X hw xc5 in_X7 0 (by decide) q1033 (f_obj_s hv4) dX7_add_10 ?_
    refine lv_aload_n hx hb dX7_add_13 rfl (lv_at hl 2 rfl) ?_
    obtain ⟨u5, hu5, hm⟩ := ob_s hm
    obtain ⟨w6, hw6, hm⟩ := ob_s hm
    refine xr_ret5i hS (xr_runF (x := ⟨"java/util/List", "add", "(Ljava/lang/Object;)Z"⟩) X hw (met_J2_add N w3.1 v4 x2 w6 hw6) (x_cf X (lv := 6) (by omega) (by decide) ci_List_add q1032 q362 q364 q119 q366 q360 q359 q365 q363 q361) xc10 hu5 rfl hl.1 rfl (Nat.le_of_ble_eq_true rfl) dX7_add_14) (fun H locs cells slots hw hS => ?_)
    refine lv_pop hx hb dX7_add_19 rfl ?_
    obtain rfl := Option.some.inj hm
    exact xr_vret X hr hlk hw hS dX7_add_20
  exact hg _ _ _ _ hw va_S.rf
/-! DripCups$Chain.plain -/
def kX_X7_plain (g : XC) (N : Nat) (S : XS) (x0 : Nat) : Option (XS × Nat) :=
  (f_obj S 5 x0 0).bind fun v1 =>
  (f_cls S 10 v1).bind fun u2 =>
  (kX_J2_size g N S v1).bind fun w3 =>
  if w3.2 = 1 then
    (f_obj w3.1 5 x0 0).bind fun v5 =>
    (f_cls w3.1 10 v5).bind fun u6 =>
    (kX_J2_get g N w3.1 v5 0).bind fun w7 =>
    (f_form w7.1 w7.2).bind fun k8 =>
    some (w7.1, w7.2)
  else
    some (w3.1, x0)
theorem cx_X7_plain : yX7_plain.cls = RX7 ∧ yX7_plain.cls ≠ "java/lang/invoke/MethodHandle" ∧ yX7_plain.cls ≠ "java/lang/invoke/VarHandle" ∧ (parseMethodDescriptor yX7_plain.desc).map (fun d => d.parameters.length) = some 0 := by decide +kernel
theorem met_X7_plain {l : Launch} {g : XC} {D : va_G} {A : Nat → Prop} (N : Nat) (S : XS) (x0 : Nat) (w : XS × Nat) (hm : kX_X7_plain g N S x0 = some w) : Met l yX7_plain (ws_ yX7_plain cX7_plain 1 (Option.some (Jvm.ClassFile.FieldType.object "DripCups$Form"))) (xRm g S 3) (xPre g D A [.ref x0] S) (xQr g D A w) (g.2.1 - xTop S) (g.2.2.1 - xSl S) A := by
  refine x_start (own := RX7) (by decide +kernel) rfl (Nat.le_of_ble_eq_true rfl) (fun p e s m below meth c ls X hr hlk hnm hw hl => ?_)
  obtain ⟨hx, hb, -, hown, hts, -⟩ := id X
  have hl : lv_has ls 1 [(0, .ref x0)] := hl
  have hg : ∀ (H : Heap) (locs : List Loc) (cells slots : Nat), xW g D A S s H → va_S A s.heap H locs → W p l e (xRm g S 3) s m ([.ref x0] : List Value).toArray below meth c H locs cells slots (MQ below (xQr g D A w) ([.ref x0] : List Value).toArray s (g.2.1 - xTop S) (g.2.2.1 - xSl S) A) (F0 m 0 ls []) := by
    intro H locs cells slots hw hS
    unfold kX_X7_plain at hm
    refine lv_aload_n hx hb dX7_plain_0 rfl (lv_at hl 0 rfl) ?_
    obtain ⟨v1, hv1, hm⟩ := ob_s hm
    refine xr_val X hw xc5 in_X7 0 (by decide) q1033 (f_obj_s hv1) dX7_plain_1 ?_
    obtain ⟨u2, hu2, hm⟩ := ob_s hm
    obtain ⟨w3, hw3, hm⟩ := ob_s hm
    refine xr_ret5i hS (xr_runF (x := ⟨"java/util/List", "size", "()I"⟩) X hw (met_J2_size N S v1 w3 hw3) (x_cf X (lv := 0) (by omega) (by decide) ci_List_size q537 q429 q431 q119 q433 q428 q427 q432 q430 q361) xc10 hu2 rfl hl.1 rfl (Nat.le_of_ble_eq_true rfl) dX7_plain_4) (fun H locs cells slots hw hS => ?_)
    refine lv_iconst (v := 1) hx hb dX7_plain_9 (by decide) ?_
    refine lv_icmp_ne (tgt := 29) hx hb dX7_plain_10 (by decide) (fun c4 => ?_) (fun c4 => ?_)
    · replace hm := if_f c4 hm
      refine lv_aload_n hx hb dX7_plain_29 rfl (lv_at hl 0 rfl) ?_
      obtain rfl := Option.some.inj hm
      exact xr_aret X hr (by first | exact Or.inl ⟨_, rfl⟩ | exact Or.inr ⟨_, rfl⟩) hlk hw hS dX7_plain_30
    · replace hm := if_t c4 hm
      refine lv_aload_n hx hb dX7_plain_13 rfl (lv_at hl 0 rfl) ?_
      obtain ⟨v5, hv5, hm⟩ := ob_s hm
      refine xr_val X hw xc5 in_X7 0 (by decide) q1033 (f_obj_s hv5) dX7_plain_14 ?_
      refine lv_iconst (v := 0) hx hb dX7_plain_17 (by decide) ?_
      obtain ⟨u6, hu6, hm⟩ := ob_s hm
      obtain ⟨w7, hw7, hm⟩ := ob_s hm
      refine xr_ret5r hS (xr_runF (x := ⟨"java/util/List", "get", "(I)Ljava/lang/Object;"⟩) X hw (met_J2_get N w3.1 v5 0 w7 hw7) (x_cf X (lv := 2) (by omega) (by decide) ci_List_get q512 q487 q489 q119 q491 q486 q485 q490 q488 q361) xc10 hu6 rfl hl.1 rfl (Nat.le_of_ble_eq_true rfl) dX7_plain_18) (fun H locs cells slots hw hS => ?_)
      obtain ⟨k8, hk8, hm⟩ := ob_s hm
      refine xr_castF X hw hk8 q513 dX7_plain_23 ?_
      refine lv_goto (tgt := 30) hx hb dX7_plain_26 (by decide) ?_
      obtain rfl := Option.some.inj hm
      exact xr_aret X hr (by first | exact Or.inl ⟨_, rfl⟩ | exact Or.inr ⟨_, rfl⟩) hlk hw hS dX7_plain_30
  exact hg _ _ _ _ hw va_S.rf
/-! DripCups$Number.init -/
def kX_X8_init (g : XC) (N : Nat) (S : XS) (x0 : Nat) (x1 : Int32) : Option (XS) :=
  (f_putI S 6 x0 0 x1).bind fun S1 =>
  some S1
theorem cx_X8_init : yX8_init.cls ≠ "java/lang/invoke/MethodHandle" ∧ yX8_init.cls ≠ "java/lang/invoke/VarHandle" ∧ (parseMethodDescriptor yX8_init.desc).map (fun d => d.parameters.length) = some 1 := by decide +kernel
theorem met_X8_init {l : Launch} {g : XC} {D : va_G} {A : Nat → Prop} (N : Nat) (S : XS) (x0 : Nat) (x1 : Int32) (w : XS) (hm : kX_X8_init g N S x0 x1 = some w) : Met l yX8_init (ws_ yX8_init cX8_init 2 (Option.none : Option Jvm.ClassFile.FieldType)) (xRm g S 0) (xPre g D A [.ref x0, .int x1] S) (xQv g D A w) (g.2.1 - xTop S) (g.2.2.1 - xSl S) A := by
  refine x_start (own := RX8) (by decide +kernel) rfl (Nat.le_of_ble_eq_true rfl) (fun p e s m below meth c ls X hr hlk hnm hw hl => ?_)
  obtain ⟨hx, hb, -, hown, hts, -⟩ := id X
  have hl : lv_has ls 2 [(0, .ref x0), (1, .int x1)] := hl
  have hg : ∀ (H : Heap) (locs : List Loc) (cells slots : Nat), xW g D A S s H → va_S A s.heap H locs → W p l e (xRm g S 0) s m ([.ref x0, .int x1] : List Value).toArray below meth c H locs cells slots (MQ below (xQv g D A w) ([.ref x0, .int x1] : List Value).toArray s (g.2.1 - xTop S) (g.2.2.1 - xSl S) A) (F0 m 0 ls []) := by
    intro H locs cells slots hw hS
    unfold kX_X8_init at hm
    refine lv_aload_n hx hb dX8_init_0 rfl (lv_at hl 0 rfl) ?_
    refine xr_objInit X hl.1 q982 q154 q155 (Nat.le_of_ble_eq_true rfl) dX8_init_1 ?_
    refine lv_aload_n hx hb dX8_init_4 rfl (lv_at hl 0 rfl) ?_
    refine lv_iload_n hx hb dX8_init_5 rfl (lv_at hl 1 rfl) ?_
    obtain ⟨S1, hS1, hm⟩ := ob_s hm
    refine xr_putIF X hw hS xc6 in_X8 tyX8_ok nmX8 0 (by decide) q983 rfl hnm rfl (tyX8_ok 0 (by decide)) rfl rfl hS1 dX8_init_6 (fun H locs hw hS => ?_)
    obtain rfl := Option.some.inj hm
    exact xr_vret X hr hlk hw hS dX8_init_9
  exact hg _ _ _ _ hw va_S.rf
/-! DripCups$Value.init -/
def kX_X9_init (g : XC) (N : Nat) (S : XS) (x0 : Nat) (x1 : Int32) : Option (XS) :=
  (f_putI S 7 x0 0 x1).bind fun S1 =>
  some S1
theorem cx_X9_init : yX9_init.cls ≠ "java/lang/invoke/MethodHandle" ∧ yX9_init.cls ≠ "java/lang/invoke/VarHandle" ∧ (parseMethodDescriptor yX9_init.desc).map (fun d => d.parameters.length) = some 1 := by decide +kernel
theorem met_X9_init {l : Launch} {g : XC} {D : va_G} {A : Nat → Prop} (N : Nat) (S : XS) (x0 : Nat) (x1 : Int32) (w : XS) (hm : kX_X9_init g N S x0 x1 = some w) : Met l yX9_init (ws_ yX9_init cX9_init 2 (Option.none : Option Jvm.ClassFile.FieldType)) (xRm g S 0) (xPre g D A [.ref x0, .int x1] S) (xQv g D A w) (g.2.1 - xTop S) (g.2.2.1 - xSl S) A := by
  refine x_start (own := RX9) (by decide +kernel) rfl (Nat.le_of_ble_eq_true rfl) (fun p e s m below meth c ls X hr hlk hnm hw hl => ?_)
  obtain ⟨hx, hb, -, hown, hts, -⟩ := id X
  have hl : lv_has ls 2 [(0, .ref x0), (1, .int x1)] := hl
  have hg : ∀ (H : Heap) (locs : List Loc) (cells slots : Nat), xW g D A S s H → va_S A s.heap H locs → W p l e (xRm g S 0) s m ([.ref x0, .int x1] : List Value).toArray below meth c H locs cells slots (MQ below (xQv g D A w) ([.ref x0, .int x1] : List Value).toArray s (g.2.1 - xTop S) (g.2.2.1 - xSl S) A) (F0 m 0 ls []) := by
    intro H locs cells slots hw hS
    unfold kX_X9_init at hm
    refine lv_aload_n hx hb dX9_init_0 rfl (lv_at hl 0 rfl) ?_
    refine xr_objInit X hl.1 q992 q154 q155 (Nat.le_of_ble_eq_true rfl) dX9_init_1 ?_
    refine lv_aload_n hx hb dX9_init_4 rfl (lv_at hl 0 rfl) ?_
    refine lv_iload_n hx hb dX9_init_5 rfl (lv_at hl 1 rfl) ?_
    obtain ⟨S1, hS1, hm⟩ := ob_s hm
    refine xr_putIF X hw hS xc7 in_X9 tyX9_ok nmX9 0 (by decide) q993 rfl hnm rfl (tyX9_ok 0 (by decide)) rfl rfl hS1 dX9_init_6 (fun H locs hw hS => ?_)
    obtain rfl := Option.some.inj hm
    exact xr_vret X hr hlk hw hS dX9_init_9
  exact hg _ _ _ _ hw va_S.rf
/-! DripCups$Not.init -/
def kX_X10_init (g : XC) (N : Nat) (S : XS) (x0 : Nat) (x1 : Nat) : Option (XS) :=
  (f_putR S 8 x0 0 (some x1)).bind fun S1 =>
  some S1
theorem cx_X10_init : yX10_init.cls ≠ "java/lang/invoke/MethodHandle" ∧ yX10_init.cls ≠ "java/lang/invoke/VarHandle" ∧ (parseMethodDescriptor yX10_init.desc).map (fun d => d.parameters.length) = some 1 := by decide +kernel
theorem met_X10_init {l : Launch} {g : XC} {D : va_G} {A : Nat → Prop} (N : Nat) (S : XS) (x0 : Nat) (x1 : Nat) (w : XS) (hm : kX_X10_init g N S x0 x1 = some w) : Met l yX10_init (ws_ yX10_init cX10_init 2 (Option.none : Option Jvm.ClassFile.FieldType)) (xRm g S 0) (xPre g D A [.ref x0, .ref x1] S) (xQv g D A w) (g.2.1 - xTop S) (g.2.2.1 - xSl S) A := by
  refine x_start (own := RX10) (by decide +kernel) rfl (Nat.le_of_ble_eq_true rfl) (fun p e s m below meth c ls X hr hlk hnm hw hl => ?_)
  obtain ⟨hx, hb, -, hown, hts, -⟩ := id X
  have hl : lv_has ls 2 [(0, .ref x0), (1, .ref x1)] := hl
  have hg : ∀ (H : Heap) (locs : List Loc) (cells slots : Nat), xW g D A S s H → va_S A s.heap H locs → W p l e (xRm g S 0) s m ([.ref x0, .ref x1] : List Value).toArray below meth c H locs cells slots (MQ below (xQv g D A w) ([.ref x0, .ref x1] : List Value).toArray s (g.2.1 - xTop S) (g.2.2.1 - xSl S) A) (F0 m 0 ls []) := by
    intro H locs cells slots hw hS
    unfold kX_X10_init at hm
    refine lv_aload_n hx hb dX10_init_0 rfl (lv_at hl 0 rfl) ?_
    refine xr_objInit X hl.1 q1117 q154 q155 (Nat.le_of_ble_eq_true rfl) dX10_init_1 ?_
    refine lv_aload_n hx hb dX10_init_4 rfl (lv_at hl 0 rfl) ?_
    refine lv_aload_n hx hb dX10_init_5 rfl (lv_at hl 1 rfl) ?_
    obtain ⟨S1, hS1, hm⟩ := ob_s hm
    refine xr_putRF (v := (some x1)) X hw hS xc8 in_X10 tyX10_ok nmX10 0 (by decide) q1118 rfl hnm rfl (tyX10_ok 0 (by decide)) rfl hS1 dX10_init_6 (fun H locs hw hS => ?_)
    obtain rfl := Option.some.inj hm
    exact xr_vret X hr hlk hw hS dX10_init_9
  exact hg _ _ _ _ hw va_S.rf
