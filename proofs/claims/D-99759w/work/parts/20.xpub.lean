/-! java/lang/Throwable.init -/
def kX_J3_init (g : XC) (N : Nat) (S : XS) (x0 : Nat) : Option (XS) :=
  (f_putR S 9 x0 0 (some x0)).bind fun S1 =>
  (f_putR S1 9 x0 1 (gOp g 7)).bind fun S2 =>
  (f_putR S2 9 x0 2 (gOp g 9)).bind fun S3 =>
  none
theorem cx_J3_init : yJ3_init.cls ≠ "java/lang/invoke/MethodHandle" ∧ yJ3_init.cls ≠ "java/lang/invoke/VarHandle" ∧ (parseMethodDescriptor yJ3_init.desc).map (fun d => d.parameters.length) = some 0 := by decide +kernel
theorem met_J3_init {l : Launch} {g : XC} {D : va_G} {A : Nat → Prop} (N : Nat) (S : XS) (x0 : Nat) (w : XS) (hm : kX_J3_init g N S x0 = some w) : Met l yJ3_init (ws_ yJ3_init cJ3_init 1 (Option.none : Option Jvm.ClassFile.FieldType)) (xRm g S 1) (xPre g D A [.ref x0] S) (xQv g D A w) (g.2.1 - xTop S) (g.2.2.1 - xSl S) A := by
  refine x_start (own := RJ3) (by decide +kernel) rfl (Nat.le_of_ble_eq_true rfl) (fun p e s m below meth c ls X hr hlk hnm hw hl => ?_)
  obtain ⟨hx, hb, -, hown, hts, -⟩ := id X
  have hl : lv_has ls 1 [(0, .ref x0)] := hl
  have hg : ∀ (H : Heap) (locs : List Loc) (cells slots : Nat), xW g D A S s H → va_S A s.heap H locs → W p l e (xRm g S 1) s m ([.ref x0] : List Value).toArray below meth c H locs cells slots (MQ below (xQv g D A w) ([.ref x0] : List Value).toArray s (g.2.1 - xTop S) (g.2.2.1 - xSl S) A) (F0 m 0 ls []) := by
    intro H locs cells slots hw hS
    unfold kX_J3_init at hm
    refine lv_aload_n hx hb dJ3_init_0 rfl (lv_at hl 0 rfl) ?_
    refine xr_objInit X hl.1 q683 q154 q155 (Nat.le_of_ble_eq_true rfl) dJ3_init_1 ?_
    refine lv_aload_n hx hb dJ3_init_4 rfl (lv_at hl 0 rfl) ?_
    refine lv_aload_n hx hb dJ3_init_5 rfl (lv_at hl 0 rfl) ?_
    obtain ⟨S1, hS1, hm⟩ := ob_s hm
    refine xr_putR (v := (some x0)) X hw hS xc9 in_X6 tyX6_ok nmX6 0 (by decide) q711 rfl (tyX6_ok 0 (by decide)) rfl hS1 dJ3_init_6 (fun H locs hw hS => ?_)
    refine lv_aload_n hx hb dJ3_init_9 rfl (lv_at hl 0 rfl) ?_
    refine xr_sref X (x_phi hw).2.2.2.2.2.2.2.2.2.2.2.2.2.2.2.1 q684 dJ3_init_10 ?_
    obtain ⟨S2, hS2, hm⟩ := ob_s hm
    refine xr_putR (v := (gOp g 7)) X hw hS xc9 in_X6 tyX6_ok nmX6 1 (by decide) q712 rfl (tyX6_ok 1 (by decide)) rfl hS2 dJ3_init_13 (fun H locs hw hS => ?_)
    refine lv_aload_n hx hb dJ3_init_16 rfl (lv_at hl 0 rfl) ?_
    refine xr_sref X (x_phi hw).2.2.2.2.2.2.2.2.2.2.2.2.2.2.2.2 q686 dJ3_init_17 ?_
    obtain ⟨S3, hS3, hm⟩ := ob_s hm
    refine xr_putR (v := (gOp g 9)) X hw hS xc9 in_X6 tyX6_ok nmX6 2 (by decide) q713 rfl (tyX6_ok 2 (by decide)) rfl hS3 dJ3_init_20 (fun H locs hw hS => ?_)
    refine lv_aload_n hx hb dJ3_init_23 rfl (lv_at hl 0 rfl) ?_
    cases hm
  exact hg _ _ _ _ hw va_S.rf
/-! java/lang/Exception.init -/
def kX_J4_init (g : XC) (N : Nat) (S : XS) (x0 : Nat) : Option (XS) :=
  (kX_J3_init g N S x0).bind fun w1 =>
  some w1
theorem cx_J4_init : yJ4_init.cls ≠ "java/lang/invoke/MethodHandle" ∧ yJ4_init.cls ≠ "java/lang/invoke/VarHandle" ∧ (parseMethodDescriptor yJ4_init.desc).map (fun d => d.parameters.length) = some 0 := by decide +kernel
theorem met_J4_init {l : Launch} {g : XC} {D : va_G} {A : Nat → Prop} (N : Nat) (S : XS) (x0 : Nat) (w : XS) (hm : kX_J4_init g N S x0 = some w) : Met l yJ4_init (ws_ yJ4_init cJ4_init 1 (Option.none : Option Jvm.ClassFile.FieldType)) (xRm g S 2) (xPre g D A [.ref x0] S) (xQv g D A w) (g.2.1 - xTop S) (g.2.2.1 - xSl S) A := by
  refine x_start (own := RJ4) (by decide +kernel) rfl (Nat.le_of_ble_eq_true rfl) (fun p e s m below meth c ls X hr hlk hnm hw hl => ?_)
  obtain ⟨hx, hb, -, hown, hts, -⟩ := id X
  have hl : lv_has ls 1 [(0, .ref x0)] := hl
  have hg : ∀ (H : Heap) (locs : List Loc) (cells slots : Nat), xW g D A S s H → va_S A s.heap H locs → W p l e (xRm g S 2) s m ([.ref x0] : List Value).toArray below meth c H locs cells slots (MQ below (xQv g D A w) ([.ref x0] : List Value).toArray s (g.2.1 - xTop S) (g.2.2.1 - xSl S) A) (F0 m 0 ls []) := by
    intro H locs cells slots hw hS
    unfold kX_J4_init at hm
    refine lv_aload_n hx hb dJ4_init_0 rfl (lv_at hl 0 rfl) ?_
    obtain ⟨w1, hw1, hm⟩ := ob_s hm
    refine xr_retv hS (xr_runI X hw (met_J3_init N S x0 w1 hw1) (x_ci X (lv := 1) (by omega) (by decide) rfl cx_J3_init (lw_meth q682) q122 q708 q681) rfl hl.1 rfl (Nat.le_of_ble_eq_true rfl) dJ4_init_1) (fun H locs cells slots hw hS => ?_)
    obtain rfl := Option.some.inj hm
    exact xr_vret X hr hlk hw hS dJ4_init_4
  exact hg _ _ _ _ hw va_S.rf
/-! java/lang/RuntimeException.init -/
def kX_J5_init (g : XC) (N : Nat) (S : XS) (x0 : Nat) : Option (XS) :=
  (kX_J4_init g N S x0).bind fun w1 =>
  some w1
theorem cx_J5_init : yJ5_init.cls ≠ "java/lang/invoke/MethodHandle" ∧ yJ5_init.cls ≠ "java/lang/invoke/VarHandle" ∧ (parseMethodDescriptor yJ5_init.desc).map (fun d => d.parameters.length) = some 0 := by decide +kernel
theorem met_J5_init {l : Launch} {g : XC} {D : va_G} {A : Nat → Prop} (N : Nat) (S : XS) (x0 : Nat) (w : XS) (hm : kX_J5_init g N S x0 = some w) : Met l yJ5_init (ws_ yJ5_init cJ5_init 1 (Option.none : Option Jvm.ClassFile.FieldType)) (xRm g S 3) (xPre g D A [.ref x0] S) (xQv g D A w) (g.2.1 - xTop S) (g.2.2.1 - xSl S) A := by
  refine x_start (own := RJ5) (by decide +kernel) rfl (Nat.le_of_ble_eq_true rfl) (fun p e s m below meth c ls X hr hlk hnm hw hl => ?_)
  obtain ⟨hx, hb, -, hown, hts, -⟩ := id X
  have hl : lv_has ls 1 [(0, .ref x0)] := hl
  have hg : ∀ (H : Heap) (locs : List Loc) (cells slots : Nat), xW g D A S s H → va_S A s.heap H locs → W p l e (xRm g S 3) s m ([.ref x0] : List Value).toArray below meth c H locs cells slots (MQ below (xQv g D A w) ([.ref x0] : List Value).toArray s (g.2.1 - xTop S) (g.2.2.1 - xSl S) A) (F0 m 0 ls []) := by
    intro H locs cells slots hw hS
    unfold kX_J5_init at hm
    refine lv_aload_n hx hb dJ5_init_0 rfl (lv_at hl 0 rfl) ?_
    obtain ⟨w1, hw1, hm⟩ := ob_s hm
    refine xr_retv hS (xr_runI X hw (met_J4_init N S x0 w1 hw1) (x_ci X (lv := 2) (by omega) (by decide) rfl cx_J4_init (lw_meth q707) q123 q705 q706) rfl hl.1 rfl (Nat.le_of_ble_eq_true rfl) dJ5_init_1) (fun H locs cells slots hw hS => ?_)
    obtain rfl := Option.some.inj hm
    exact xr_vret X hr hlk hw hS dJ5_init_4
  exact hg _ _ _ _ hw va_S.rf
/-! java/lang/IllegalArgumentException.init -/
def kX_J6_init (g : XC) (N : Nat) (S : XS) (x0 : Nat) : Option (XS) :=
  (kX_J5_init g N S x0).bind fun w1 =>
  some w1
theorem cx_J6_init : yJ6_init.cls ≠ "java/lang/invoke/MethodHandle" ∧ yJ6_init.cls ≠ "java/lang/invoke/VarHandle" ∧ (parseMethodDescriptor yJ6_init.desc).map (fun d => d.parameters.length) = some 0 := by decide +kernel
theorem met_J6_init {l : Launch} {g : XC} {D : va_G} {A : Nat → Prop} (N : Nat) (S : XS) (x0 : Nat) (w : XS) (hm : kX_J6_init g N S x0 = some w) : Met l yJ6_init (ws_ yJ6_init cJ6_init 1 (Option.none : Option Jvm.ClassFile.FieldType)) (xRm g S 4) (xPre g D A [.ref x0] S) (xQv g D A w) (g.2.1 - xTop S) (g.2.2.1 - xSl S) A := by
  refine x_start (own := RJ6) (by decide +kernel) rfl (Nat.le_of_ble_eq_true rfl) (fun p e s m below meth c ls X hr hlk hnm hw hl => ?_)
  obtain ⟨hx, hb, -, hown, hts, -⟩ := id X
  have hl : lv_has ls 1 [(0, .ref x0)] := hl
  have hg : ∀ (H : Heap) (locs : List Loc) (cells slots : Nat), xW g D A S s H → va_S A s.heap H locs → W p l e (xRm g S 4) s m ([.ref x0] : List Value).toArray below meth c H locs cells slots (MQ below (xQv g D A w) ([.ref x0] : List Value).toArray s (g.2.1 - xTop S) (g.2.2.1 - xSl S) A) (F0 m 0 ls []) := by
    intro H locs cells slots hw hS
    unfold kX_J6_init at hm
    refine lv_aload_n hx hb dJ6_init_0 rfl (lv_at hl 0 rfl) ?_
    obtain ⟨w1, hw1, hm⟩ := ob_s hm
    refine xr_retv hS (xr_runI X hw (met_J5_init N S x0 w1 hw1) (x_ci X (lv := 3) (by omega) (by decide) rfl cx_J5_init (lw_meth q704) q124 q702 q703) rfl hl.1 rfl (Nat.le_of_ble_eq_true rfl) dJ6_init_1) (fun H locs cells slots hw hS => ?_)
    obtain rfl := Option.some.inj hm
    exact xr_vret X hr hlk hw hS dJ6_init_4
  exact hg _ _ _ _ hw va_S.rf
/-! DripCups.right -/
def kX_X1_right (g : XC) (N : Nat) (S : XS) (x0 : Int32) : Option ((XS) ⊕ XT) :=
  if x0 = 0 then
    t_room S <| some (.inr (S, 1, 0))
  else
    some (.inl S)
theorem cx_X1_right : yX1_right.cls ≠ "java/lang/invoke/MethodHandle" ∧ yX1_right.cls ≠ "java/lang/invoke/VarHandle" ∧ (parseMethodDescriptor yX1_right.desc).map (fun d => d.parameters.length) = some 1 := by decide +kernel
theorem met_X1_right {l : Launch} {g : XC} {D : va_G} {A : Nat → Prop} (hlT : l.stackTraces = false) (N : Nat) (S : XS) (x0 : Int32) (w : (XS) ⊕ XT) (hm : kX_X1_right g N S x0 = some w) : vx_Met l yX1_right (ws_ yX1_right cX1_right 1 (Option.none : Option Jvm.ClassFile.FieldType)) (xRm g S 5) (xPre g D A [.int x0] S) (xTv g D A w) (xTx g D A w) (g.2.1 - xTop S) (g.2.2.1 - xSl S) A := by
  refine x_startT (own := RX1) (by decide +kernel) rfl (Nat.le_of_ble_eq_true rfl) (fun p e s m below meth c ls X hr hlk hnm hout hw hl => ?_)
  have hw0 := hw
  obtain ⟨hx, hb, -, hown, hts, -⟩ := id X
  have hl : lv_has ls 1 [(0, .int x0)] := hl
  have hg : ∀ (H : Heap) (locs : List Loc) (cells slots : Nat), xW g D A S s H → va_S A s.heap H locs → W p l e (xRm g S 5) s m ([.int x0] : List Value).toArray below meth c H locs cells slots (vx_MQ below (xTv g D A w) (xTx g D A w) ([.int x0] : List Value).toArray s (g.2.1 - xTop S) (g.2.2.1 - xSl S) A) (F0 m 0 ls []) := by
    intro H locs cells slots hw hS
    unfold kX_X1_right at hm
    refine lv_iload_n hx hb dX1_right_0 rfl (lv_at hl 0 rfl) ?_
    refine lv_if_ne (tgt := 12) hx hb dX1_right_1 (by decide) (fun c1 => ?_) (fun c1 => ?_)
    · replace hm := if_f c1 hm
      obtain rfl := Option.some.inj hm
      exact xt_vret X hr hlk hw hS dX1_right_12
    · replace hm := if_t c1 hm
      obtain ⟨hrm, hm⟩ := t_room_s hm
      obtain rfl := Option.some.inj hm
      exact xt_throw0 (k := 1) X hlT hlk hout hw0 hw hS hl.1 hrm (by decide) (by decide +kernel) thr_iae q658 q125 (Nat.le_of_ble_eq_true rfl) (by omega) dX1_right_4 dX1_right_7 dX1_right_8 dX1_right_11
  exact hg _ _ _ _ hw va_S.rf
/-! java/util/NoSuchElementException.init -/
def kX_J20_init (g : XC) (N : Nat) (S : XS) (x0 : Nat) : Option (XS) :=
  (kX_J5_init g N S x0).bind fun w1 =>
  some w1
theorem cx_J20_init : yJ20_init.cls ≠ "java/lang/invoke/MethodHandle" ∧ yJ20_init.cls ≠ "java/lang/invoke/VarHandle" ∧ (parseMethodDescriptor yJ20_init.desc).map (fun d => d.parameters.length) = some 0 := by decide +kernel
theorem met_J20_init {l : Launch} {g : XC} {D : va_G} {A : Nat → Prop} (N : Nat) (S : XS) (x0 : Nat) (w : XS) (hm : kX_J20_init g N S x0 = some w) : Met l yJ20_init (ws_ yJ20_init cJ20_init 1 (Option.none : Option Jvm.ClassFile.FieldType)) (xRm g S 4) (xPre g D A [.ref x0] S) (xQv g D A w) (g.2.1 - xTop S) (g.2.2.1 - xSl S) A := by
  refine x_start (own := RJ20) (by decide +kernel) rfl (Nat.le_of_ble_eq_true rfl) (fun p e s m below meth c ls X hr hlk hnm hw hl => ?_)
  obtain ⟨hx, hb, -, hown, hts, -⟩ := id X
  have hl : lv_has ls 1 [(0, .ref x0)] := hl
  have hg : ∀ (H : Heap) (locs : List Loc) (cells slots : Nat), xW g D A S s H → va_S A s.heap H locs → W p l e (xRm g S 4) s m ([.ref x0] : List Value).toArray below meth c H locs cells slots (MQ below (xQv g D A w) ([.ref x0] : List Value).toArray s (g.2.1 - xTop S) (g.2.2.1 - xSl S) A) (F0 m 0 ls []) := by
    intro H locs cells slots hw hS
    unfold kX_J20_init at hm
    refine lv_aload_n hx hb dJ20_init_0 rfl (lv_at hl 0 rfl) ?_
    obtain ⟨w1, hw1, hm⟩ := ob_s hm
    refine xr_retv hS (xr_runI X hw (met_J5_init N S x0 w1 hw1) (x_ci X (lv := 3) (by omega) (by decide) rfl cx_J5_init (lw_meth q704) q124 q1230 q703) rfl hl.1 rfl (Nat.le_of_ble_eq_true rfl) dJ20_init_1) (fun H locs cells slots hw hS => ?_)
    obtain rfl := Option.some.inj hm
    exact xr_vret X hr hlk hw hS dJ20_init_4
  exact hg _ _ _ _ hw va_S.rf
/-! DripCups.found -/
def kX_X1_found (g : XC) (N : Nat) (S : XS) (x0 : Int32) : Option ((XS) ⊕ XT) :=
  if x0 = 0 then
    t_room S <| some (.inr (S, 0, 0))
  else
    some (.inl S)
theorem cx_X1_found : yX1_found.cls ≠ "java/lang/invoke/MethodHandle" ∧ yX1_found.cls ≠ "java/lang/invoke/VarHandle" ∧ (parseMethodDescriptor yX1_found.desc).map (fun d => d.parameters.length) = some 1 := by decide +kernel
theorem met_X1_found {l : Launch} {g : XC} {D : va_G} {A : Nat → Prop} (hlT : l.stackTraces = false) (N : Nat) (S : XS) (x0 : Int32) (w : (XS) ⊕ XT) (hm : kX_X1_found g N S x0 = some w) : vx_Met l yX1_found (ws_ yX1_found cX1_found 1 (Option.none : Option Jvm.ClassFile.FieldType)) (xRm g S 5) (xPre g D A [.int x0] S) (xTv g D A w) (xTx g D A w) (g.2.1 - xTop S) (g.2.2.1 - xSl S) A := by
  refine x_startT (own := RX1) (by decide +kernel) rfl (Nat.le_of_ble_eq_true rfl) (fun p e s m below meth c ls X hr hlk hnm hout hw hl => ?_)
  have hw0 := hw
  obtain ⟨hx, hb, -, hown, hts, -⟩ := id X
  have hl : lv_has ls 1 [(0, .int x0)] := hl
  have hg : ∀ (H : Heap) (locs : List Loc) (cells slots : Nat), xW g D A S s H → va_S A s.heap H locs → W p l e (xRm g S 5) s m ([.int x0] : List Value).toArray below meth c H locs cells slots (vx_MQ below (xTv g D A w) (xTx g D A w) ([.int x0] : List Value).toArray s (g.2.1 - xTop S) (g.2.2.1 - xSl S) A) (F0 m 0 ls []) := by
    intro H locs cells slots hw hS
    unfold kX_X1_found at hm
    refine lv_iload_n hx hb dX1_found_0 rfl (lv_at hl 0 rfl) ?_
    refine lv_if_ne (tgt := 12) hx hb dX1_found_1 (by decide) (fun c1 => ?_) (fun c1 => ?_)
    · replace hm := if_f c1 hm
      obtain rfl := Option.some.inj hm
      exact xt_vret X hr hlk hw hS dX1_found_12
    · replace hm := if_t c1 hm
      obtain ⟨hrm, hm⟩ := t_room_s hm
      obtain rfl := Option.some.inj hm
      exact xt_throw0 (k := 0) X hlT hlk hout hw0 hw hS hl.1 hrm (by decide) (by decide +kernel) thr_nsee q1218 q147 (Nat.le_of_ble_eq_true rfl) (by omega) dX1_found_4 dX1_found_7 dX1_found_8 dX1_found_11
  exact hg _ _ _ _ hw va_S.rf
/-! DripCups.count -/
def kX_X1_count (g : XC) (N : Nat) (S : XS) (x0 : Nat) (x1 : Int32) : Option ((XS × Int32) ⊕ XT) :=
  if x1 = 0 then
    (f_obj S 1 x0 1).bind fun v2 =>
    (f_cls S 3 v2).bind fun u3 =>
    (kX_X2_cups g N S v2).bind fun w4 =>
    some (.inl (w4.1, w4.2))
  else
  if x1 = 1 then
    (f_obj S 1 x0 2).bind fun v6 =>
    (f_int S 2 v6 6).bind fun v7 =>
    some (.inl (S, v7))
  else
  if x1 = 2 then
    (f_obj S 1 x0 2).bind fun v9 =>
    (f_int S 2 v9 7).bind fun v10 =>
    some (.inl (S, v10))
  else
  if x1 = 3 then
    (f_obj S 1 x0 2).bind fun v12 =>
    (f_cls S 2 v12).bind fun u13 =>
    (kX_X3_allFill g N S v12).bind fun w14 =>
    some (.inl (w14.1, w14.2))
  else
  if x1 = 4 then
    (f_obj S 1 x0 2).bind fun v16 =>
    (f_cls S 2 v16).bind fun u17 =>
    (kX_X3_allTips g N S v16).bind fun w18 =>
    some (.inl (w18.1, w18.2))
  else
  if x1 = 5 then
    (f_cls S 1 x0).bind fun u20 =>
    (kX_X1_roots g N S x0).bind fun w21 =>
    some (.inl (w21.1, w21.2))
  else
  if x1 = 6 then
    (f_cls S 1 x0).bind fun u23 =>
    (kX_X1_alike g N S x0).bind fun w24 =>
    some (.inl (w24.1, w24.2))
  else
  if x1 = 7 then
    (f_obj S 1 x0 8).bind fun v26 =>
    (f_cls S 10 v26).bind fun u27 =>
    (kX_J2_size g N S v26).bind fun w28 =>
    some (.inl (w28.1, w28.2))
  else
  if x1 = 8 then
    (f_obj S 1 x0 9).bind fun v30 =>
    (f_cls S 10 v30).bind fun u31 =>
    (kX_J2_size g N S v30).bind fun w32 =>
    some (.inl (w32.1, w32.2))
  else
  if x1 = 9 then
    (f_int S 1 x0 5).bind fun v34 =>
    some (.inl (S, v34))
  else
  (kX_X1_in g N x1 10 12).bind fun w35 =>
  tbind (kX_X1_found g N S w35) fun r37 =>
  (f_obj r37 1 x0 7).bind fun v38 =>
  (a_int r37 0 v38 (x1 - 10)).bind fun v39 =>
  some (.inl (r37, v39))
theorem cx_X1_count : yX1_count.cls = RX1 ∧ yX1_count.cls ≠ "java/lang/invoke/MethodHandle" ∧ yX1_count.cls ≠ "java/lang/invoke/VarHandle" ∧ (parseMethodDescriptor yX1_count.desc).map (fun d => d.parameters.length) = some 1 := by decide +kernel
theorem met_X1_count {l : Launch} {g : XC} {D : va_G} {A : Nat → Prop} (hlT : l.stackTraces = false) (N : Nat) (S : XS) (x0 : Nat) (x1 : Int32) (w : (XS × Int32) ⊕ XT) (hm : kX_X1_count g N S x0 x1 = some w) : vx_Met l yX1_count (ws_ yX1_count cX1_count 2 (Option.some Jvm.ClassFile.FieldType.int)) (xRm g S 6) (xPre g D A [.ref x0, .int x1] S) (xTi g D A w) (xTx g D A w) (g.2.1 - xTop S) (g.2.2.1 - xSl S) A := by
  refine x_startT (own := RX1) (by decide +kernel) rfl (Nat.le_of_ble_eq_true rfl) (fun p e s m below meth c ls X hr hlk hnm hout hw hl => ?_)
  have hw0 := hw
  obtain ⟨hx, hb, -, hown, hts, -⟩ := id X
  have hl : lv_has ls 2 [(0, .ref x0), (1, .int x1)] := hl
  have hg : ∀ (H : Heap) (locs : List Loc) (cells slots : Nat), xW g D A S s H → va_S A s.heap H locs → W p l e (xRm g S 6) s m ([.ref x0, .int x1] : List Value).toArray below meth c H locs cells slots (vx_MQ below (xTi g D A w) (xTx g D A w) ([.ref x0, .int x1] : List Value).toArray s (g.2.1 - xTop S) (g.2.2.1 - xSl S) A) (F0 m 0 ls []) := by
    intro H locs cells slots hw hS
    unfold kX_X1_count at hm
    refine lv_iload_n hx hb dX1_count_0 rfl (lv_at hl 1 rfl) ?_
    by_cases c1 : x1 = 0
    · replace hm := if_t c1 hm
      refine lv_tableIn (off := 55) (tgt := 56) hx hb dX1_count_1 (by rw [c1]; decide) (by rw [c1]; decide) (by rw [c1]; rfl) (by decide) ?_
      refine lv_aload_n hx hb dX1_count_56 rfl (lv_at hl 0 rfl) ?_
      obtain ⟨v2, hv2, hm⟩ := ob_s hm
      refine xr_val X hw xc1 in_X1 1 (by decide) q279 (f_obj_s hv2) dX1_count_57 ?_
      obtain ⟨u3, hu3, hm⟩ := ob_s hm
      obtain ⟨w4, hw4, hm⟩ := ob_s hm
      refine xr_reti hS (xr_runV X hw (met_X2_cups N S v2 w4 hw4) (x_cv X (lv := 1) (by omega) (by decide) cx_X2_cups (lw_V q1172 q463 q464 q116 q465)) xc3 hu3 rfl hl.1 rfl (Nat.le_of_ble_eq_true rfl) dX1_count_60) (fun H locs cells slots hw hS => ?_)
      obtain rfl := Option.some.inj hm
      exact xt_iret (v := w4.2) X hr hlk hw hS rfl dX1_count_63
    replace hm := if_f c1 hm
    by_cases c5 : x1 = 1
    · replace hm := if_t c5 hm
      refine lv_tableIn (off := 63) (tgt := 64) hx hb dX1_count_1 (by rw [c5]; decide) (by rw [c5]; decide) (by rw [c5]; rfl) (by decide) ?_
      refine lv_aload_n hx hb dX1_count_64 rfl (lv_at hl 0 rfl) ?_
      obtain ⟨v6, hv6, hm⟩ := ob_s hm
      refine xr_val X hw xc1 in_X1 2 (by decide) q281 (f_obj_s hv6) dX1_count_65 ?_
      obtain ⟨v7, hv7, hm⟩ := ob_s hm
      refine xr_valN X hw xc2 in_X3 6 (by decide) q226 (f_int_s hv7) dX1_count_68 ?_
      obtain rfl := Option.some.inj hm
      exact xt_iret (v := v7) X hr hlk hw hS rfl dX1_count_71
    replace hm := if_f c5 hm
    by_cases c8 : x1 = 2
    · replace hm := if_t c8 hm
      refine lv_tableIn (off := 71) (tgt := 72) hx hb dX1_count_1 (by rw [c8]; decide) (by rw [c8]; decide) (by rw [c8]; rfl) (by decide) ?_
      refine lv_aload_n hx hb dX1_count_72 rfl (lv_at hl 0 rfl) ?_
      obtain ⟨v9, hv9, hm⟩ := ob_s hm
      refine xr_val X hw xc1 in_X1 2 (by decide) q281 (f_obj_s hv9) dX1_count_73 ?_
      obtain ⟨v10, hv10, hm⟩ := ob_s hm
      refine xr_valN X hw xc2 in_X3 7 (by decide) q228 (f_int_s hv10) dX1_count_76 ?_
      obtain rfl := Option.some.inj hm
      exact xt_iret (v := v10) X hr hlk hw hS rfl dX1_count_79
    replace hm := if_f c8 hm
    by_cases c11 : x1 = 3
    · replace hm := if_t c11 hm
      refine lv_tableIn (off := 79) (tgt := 80) hx hb dX1_count_1 (by rw [c11]; decide) (by rw [c11]; decide) (by rw [c11]; rfl) (by decide) ?_
      refine lv_aload_n hx hb dX1_count_80 rfl (lv_at hl 0 rfl) ?_
      obtain ⟨v12, hv12, hm⟩ := ob_s hm
      refine xr_val X hw xc1 in_X1 2 (by decide) q281 (f_obj_s hv12) dX1_count_81 ?_
      obtain ⟨u13, hu13, hm⟩ := ob_s hm
      obtain ⟨w14, hw14, hm⟩ := ob_s hm
      refine xr_reti hS (xr_runV X hw (met_X3_allFill N S v12 w14 hw14) (x_cv X (lv := 2) (by omega) (by decide) cx_X3_allFill (lw_V q1173 q1174 q1175 q120 q1176)) xc2 hu13 rfl hl.1 rfl (Nat.le_of_ble_eq_true rfl) dX1_count_84) (fun H locs cells slots hw hS => ?_)
      obtain rfl := Option.some.inj hm
      exact xt_iret (v := w14.2) X hr hlk hw hS rfl dX1_count_87
    replace hm := if_f c11 hm
    by_cases c15 : x1 = 4
    · replace hm := if_t c15 hm
      refine lv_tableIn (off := 87) (tgt := 88) hx hb dX1_count_1 (by rw [c15]; decide) (by rw [c15]; decide) (by rw [c15]; rfl) (by decide) ?_
      refine lv_aload_n hx hb dX1_count_88 rfl (lv_at hl 0 rfl) ?_
      obtain ⟨v16, hv16, hm⟩ := ob_s hm
      refine xr_val X hw xc1 in_X1 2 (by decide) q281 (f_obj_s hv16) dX1_count_89 ?_
      obtain ⟨u17, hu17, hm⟩ := ob_s hm
      obtain ⟨w18, hw18, hm⟩ := ob_s hm
      refine xr_reti hS (xr_runV X hw (met_X3_allTips N S v16 w18 hw18) (x_cv X (lv := 2) (by omega) (by decide) cx_X3_allTips (lw_V q1177 q1178 q1179 q120 q1180)) xc2 hu17 rfl hl.1 rfl (Nat.le_of_ble_eq_true rfl) dX1_count_92) (fun H locs cells slots hw hS => ?_)
      obtain rfl := Option.some.inj hm
      exact xt_iret (v := w18.2) X hr hlk hw hS rfl dX1_count_95
    replace hm := if_f c15 hm
    by_cases c19 : x1 = 5
    · replace hm := if_t c19 hm
      refine lv_tableIn (off := 95) (tgt := 96) hx hb dX1_count_1 (by rw [c19]; decide) (by rw [c19]; decide) (by rw [c19]; rfl) (by decide) ?_
      refine lv_aload_n hx hb dX1_count_96 rfl (lv_at hl 0 rfl) ?_
      obtain ⟨u20, hu20, hm⟩ := ob_s hm
      obtain ⟨w21, hw21, hm⟩ := ob_s hm
      refine xr_reti hS (xr_runV X hw (met_X1_roots N S x0 w21 hw21) (x_cv X (lv := 4) (by omega) (by decide) cx_X1_roots (lw_V q1185 q1187 qs35 q115 q1188)) xc1 hu20 rfl hl.1 rfl (Nat.le_of_ble_eq_true rfl) dX1_count_97) (fun H locs cells slots hw hS => ?_)
      obtain rfl := Option.some.inj hm
      exact xt_iret (v := w21.2) X hr hlk hw hS rfl dX1_count_100
    replace hm := if_f c19 hm
    by_cases c22 : x1 = 6
    · replace hm := if_t c22 hm
      refine lv_tableIn (off := 100) (tgt := 101) hx hb dX1_count_1 (by rw [c22]; decide) (by rw [c22]; decide) (by rw [c22]; rfl) (by decide) ?_
      refine lv_aload_n hx hb dX1_count_101 rfl (lv_at hl 0 rfl) ?_
      obtain ⟨u23, hu23, hm⟩ := ob_s hm
      obtain ⟨w24, hw24, hm⟩ := ob_s hm
      refine xr_reti hS (xr_runV X hw (met_X1_alike N S x0 w24 hw24) (x_cv X (lv := 3) (by omega) (by decide) cx_X1_alike (lw_V q1203 q1205 qs39 q115 q1206)) xc1 hu23 rfl hl.1 rfl (Nat.le_of_ble_eq_true rfl) dX1_count_102) (fun H locs cells slots hw hS => ?_)
      obtain rfl := Option.some.inj hm
      exact xt_iret (v := w24.2) X hr hlk hw hS rfl dX1_count_105
    replace hm := if_f c22 hm
    by_cases c25 : x1 = 7
    · replace hm := if_t c25 hm
      refine lv_tableIn (off := 105) (tgt := 106) hx hb dX1_count_1 (by rw [c25]; decide) (by rw [c25]; decide) (by rw [c25]; rfl) (by decide) ?_
      refine lv_aload_n hx hb dX1_count_106 rfl (lv_at hl 0 rfl) ?_
      obtain ⟨v26, hv26, hm⟩ := ob_s hm
      refine xr_val X hw xc1 in_X1 8 (by decide) q288 (f_obj_s hv26) dX1_count_107 ?_
      obtain ⟨u27, hu27, hm⟩ := ob_s hm
      obtain ⟨w28, hw28, hm⟩ := ob_s hm
      refine xr_ret5i hS (xr_runF (x := ⟨"java/util/List", "size", "()I"⟩) X hw (met_J2_size N S v26 w28 hw28) (x_cf X (lv := 0) (by omega) (by decide) ci_List_size q426 q429 q431 q119 q433 q428 q427 q432 q430 q361) xc10 hu27 rfl hl.1 rfl (Nat.le_of_ble_eq_true rfl) dX1_count_110) (fun H locs cells slots hw hS => ?_)
      obtain rfl := Option.some.inj hm
      exact xt_iret (v := w28.2) X hr hlk hw hS rfl dX1_count_115
    replace hm := if_f c25 hm
    by_cases c29 : x1 = 8
    · replace hm := if_t c29 hm
      refine lv_tableIn (off := 115) (tgt := 116) hx hb dX1_count_1 (by rw [c29]; decide) (by rw [c29]; decide) (by rw [c29]; rfl) (by decide) ?_
      refine lv_aload_n hx hb dX1_count_116 rfl (lv_at hl 0 rfl) ?_
      obtain ⟨v30, hv30, hm⟩ := ob_s hm
      refine xr_val X hw xc1 in_X1 9 (by decide) q289 (f_obj_s hv30) dX1_count_117 ?_
      obtain ⟨u31, hu31, hm⟩ := ob_s hm
      obtain ⟨w32, hw32, hm⟩ := ob_s hm
      refine xr_ret5i hS (xr_runF (x := ⟨"java/util/List", "size", "()I"⟩) X hw (met_J2_size N S v30 w32 hw32) (x_cf X (lv := 0) (by omega) (by decide) ci_List_size q426 q429 q431 q119 q433 q428 q427 q432 q430 q361) xc10 hu31 rfl hl.1 rfl (Nat.le_of_ble_eq_true rfl) dX1_count_120) (fun H locs cells slots hw hS => ?_)
      obtain rfl := Option.some.inj hm
      exact xt_iret (v := w32.2) X hr hlk hw hS rfl dX1_count_125
    replace hm := if_f c29 hm
    by_cases c33 : x1 = 9
    · replace hm := if_t c33 hm
      refine lv_tableIn (off := 125) (tgt := 126) hx hb dX1_count_1 (by rw [c33]; decide) (by rw [c33]; decide) (by rw [c33]; rfl) (by decide) ?_
      refine lv_aload_n hx hb dX1_count_126 rfl (lv_at hl 0 rfl) ?_
      obtain ⟨v34, hv34, hm⟩ := ob_s hm
      refine xr_val X hw xc1 in_X1 5 (by decide) q285 (f_int_s hv34) dX1_count_127 ?_
      obtain rfl := Option.some.inj hm
      exact xt_iret (v := v34) X hr hlk hw hS rfl dX1_count_130
    replace hm := if_f c33 hm
    refine lv_tableOut (tgt := 131) hx hb dX1_count_1 (tab_out x1 [0, 1, 2, 3, 4, 5, 6, 7, 8, 9] (by decide) (by simp only [List.forall_mem_cons]; exact ⟨c1, c5, c8, c11, c15, c19, c22, c25, c29, c33, fun _ h => absurd h List.not_mem_nil⟩)) (by decide) ?_
    refine lv_iload_n hx hb dX1_count_131 rfl (lv_at hl 1 rfl) ?_
    refine lv_bipush (v := 10) hx hb dX1_count_132 (by decide) ?_
    refine lv_bipush (v := 12) hx hb dX1_count_134 (by decide) ?_
    obtain ⟨w35, hw35, hm⟩ := ob_s hm
    refine xr_reti hS (xr_runS X hw (met_X1_in N S x1 10 12 w35 hw35) (x_cs X (lv := 0) (by omega) (by decide) cx_X1_in (lw_S q336 q337 q115 q338)) rfl hl.1 rfl (Nat.le_of_ble_eq_true rfl) dX1_count_136) (fun H locs cells slots hw hS => ?_)
    obtain ⟨w36, hw36, hm⟩ := tb_s hm
    refine xt_retv hS (xt_runS X hw (met_X1_found hlT N S w35 w36 hw36) (x_cs X (lv := 5) (by omega) (by decide) cx_X1_found (lw_S q1215 q1216 q115 q1217)) rfl hl.1 rfl (Nat.le_of_ble_eq_true rfl) dX1_count_139) (fun t1 t2 u E9 ce q9 H1 locs1 hu ht => xt_pass X hlk hout (tc_r hu hm) ht (x_fits (lv2 := 0) X hw t1 t2).1 (x_fits (lv2 := 0) X hw t1 t2).2) (fun r37 hr37 H locs cells slots hw hS => ?_)
    replace hm := tc_l hr37 hm
    refine lv_aload_n hx hb dX1_count_142 rfl (lv_at hl 0 rfl) ?_
    obtain ⟨v38, hv38, hm⟩ := ob_s hm
    refine xr_val X hw xc1 in_X1 7 (by decide) q287 (f_obj_s hv38) dX1_count_143 ?_
    refine lv_iload_n hx hb dX1_count_146 rfl (lv_at hl 1 rfl) ?_
    refine lv_bipush (v := 10) hx hb dX1_count_147 (by decide) ?_
    refine lv_isub hx hb dX1_count_149 ?_
    obtain ⟨v39, hv39, hm⟩ := ob_s hm
    refine xr_iald X hw hv39 dX1_count_150 ?_
    obtain rfl := Option.some.inj hm
    exact xt_iret (v := v39) X hr hlk hw hS rfl dX1_count_151
  exact hg _ _ _ _ hw va_S.rf
/-! DripCups.aCup -/
def kX_X1_aCup (g : XC) (N : Nat) (S : XS) (x0 : Nat) (x1 : Int32) : Option ((XS) ⊕ XT) :=
  (f_obj S 1 x0 1).bind fun v1 =>
  (f_cls S 3 v1).bind fun u2 =>
  (kX_X2_cups g N S v1).bind fun w3 =>
  (kX_X1_in g N x1 0 (w3.2 - 1)).bind fun w4 =>
  tbind (kX_X1_found g N w3.1 w4) fun r6 =>
  some (.inl r6)
theorem cx_X1_aCup : yX1_aCup.cls = RX1 ∧ yX1_aCup.cls ≠ "java/lang/invoke/MethodHandle" ∧ yX1_aCup.cls ≠ "java/lang/invoke/VarHandle" ∧ (parseMethodDescriptor yX1_aCup.desc).map (fun d => d.parameters.length) = some 1 := by decide +kernel
theorem met_X1_aCup {l : Launch} {g : XC} {D : va_G} {A : Nat → Prop} (hlT : l.stackTraces = false) (N : Nat) (S : XS) (x0 : Nat) (x1 : Int32) (w : (XS) ⊕ XT) (hm : kX_X1_aCup g N S x0 x1 = some w) : vx_Met l yX1_aCup (ws_ yX1_aCup cX1_aCup 2 (Option.none : Option Jvm.ClassFile.FieldType)) (xRm g S 6) (xPre g D A [.ref x0, .int x1] S) (xTv g D A w) (xTx g D A w) (g.2.1 - xTop S) (g.2.2.1 - xSl S) A := by
  refine x_startT (own := RX1) (by decide +kernel) rfl (Nat.le_of_ble_eq_true rfl) (fun p e s m below meth c ls X hr hlk hnm hout hw hl => ?_)
  have hw0 := hw
  obtain ⟨hx, hb, -, hown, hts, -⟩ := id X
  have hl : lv_has ls 2 [(0, .ref x0), (1, .int x1)] := hl
  have hg : ∀ (H : Heap) (locs : List Loc) (cells slots : Nat), xW g D A S s H → va_S A s.heap H locs → W p l e (xRm g S 6) s m ([.ref x0, .int x1] : List Value).toArray below meth c H locs cells slots (vx_MQ below (xTv g D A w) (xTx g D A w) ([.ref x0, .int x1] : List Value).toArray s (g.2.1 - xTop S) (g.2.2.1 - xSl S) A) (F0 m 0 ls []) := by
    intro H locs cells slots hw hS
    unfold kX_X1_aCup at hm
    refine lv_iload_n hx hb dX1_aCup_0 rfl (lv_at hl 1 rfl) ?_
    refine lv_iconst (v := 0) hx hb dX1_aCup_1 (by decide) ?_
    refine lv_aload_n hx hb dX1_aCup_2 rfl (lv_at hl 0 rfl) ?_
    obtain ⟨v1, hv1, hm⟩ := ob_s hm
    refine xr_val X hw xc1 in_X1 1 (by decide) q279 (f_obj_s hv1) dX1_aCup_3 ?_
    obtain ⟨u2, hu2, hm⟩ := ob_s hm
    obtain ⟨w3, hw3, hm⟩ := ob_s hm
    refine xr_reti hS (xr_runV X hw (met_X2_cups N S v1 w3 hw3) (x_cv X (lv := 1) (by omega) (by decide) cx_X2_cups (lw_V q1172 q463 q464 q116 q465)) xc3 hu2 rfl hl.1 rfl (Nat.le_of_ble_eq_true rfl) dX1_aCup_6) (fun H locs cells slots hw hS => ?_)
    refine lv_iconst (v := 1) hx hb dX1_aCup_9 (by decide) ?_
    refine lv_isub hx hb dX1_aCup_10 ?_
    obtain ⟨w4, hw4, hm⟩ := ob_s hm
    refine xr_reti hS (xr_runS X hw (met_X1_in N w3.1 x1 0 (w3.2 - 1) w4 hw4) (x_cs X (lv := 0) (by omega) (by decide) cx_X1_in (lw_S q336 q337 q115 q338)) rfl hl.1 rfl (Nat.le_of_ble_eq_true rfl) dX1_aCup_11) (fun H locs cells slots hw hS => ?_)
    obtain ⟨w5, hw5, hm⟩ := tb_s hm
    refine xt_retv hS (xt_runS X hw (met_X1_found hlT N w3.1 w4 w5 hw5) (x_cs X (lv := 5) (by omega) (by decide) cx_X1_found (lw_S q1215 q1216 q115 q1217)) rfl hl.1 rfl (Nat.le_of_ble_eq_true rfl) dX1_aCup_14) (fun t1 t2 u E9 ce q9 H1 locs1 hu ht => xt_pass X hlk hout (tc_r hu hm) ht (x_fits (lv2 := 0) X hw t1 t2).1 (x_fits (lv2 := 0) X hw t1 t2).2) (fun r6 hr6 H locs cells slots hw hS => ?_)
    replace hm := tc_l hr6 hm
    obtain rfl := Option.some.inj hm
    exact xt_vret X hr hlk hw hS dX1_aCup_17
  exact hg _ _ _ _ hw va_S.rf
/-! DripCups.cup -/
def kX_X1_cup_156 (g : XC) (N : Nat) (S : XS) (x0 : Nat) (x1 : Int32) (t0 : Int32) : Option ((XS × Int32) ⊕ XT) :=
  tbind (kX_X1_found g N S t0) fun r2 =>
  (f_obj r2 1 x0 2).bind fun v3 =>
  (f_obj r2 2 v3 0).bind fun v4 =>
  (a_int r2 0 v4 x1).bind fun v5 =>
  (f_obj r2 1 x0 2).bind fun v6 =>
  (f_obj r2 2 v6 1).bind fun v7 =>
  (a_int r2 0 v7 x1).bind fun v8 =>
  some (.inl (r2, (v5 - v8)))
theorem wkX_X1_cup_156 {p : Program} {l : Launch} {e : Env} {s : State} {m : MethodId} {args : Array Value} {below : List Frame} {meth : Method} {c : Code} {g : XC} {D : va_G} {A : Nat → Prop} {S0 : XS} {w : (XS × Int32) ⊕ XT} (X : xX g D A RX1 S0 p s m args c cX1_cup 3) (hr : meth.sig.returnType = (Option.some Jvm.ClassFile.FieldType.int)) (hlk : meth.locks = false) (hnm : meth.name = yX1_cup.name) (hlT : l.stackTraces = false) (hout : ∀ x ∈ c.exceptionTable.toList, False) (hw0 : xW g D A S0 s s.heap) (N : Nat) :
    ∀ (S : XS) (x0 : Nat) (x1 : Int32) (t0 : Int32) (H : Heap) (locs : List Loc) (ls : Array Slot) (cells slots : Nat), kX_X1_cup_156 g N S x0 x1 t0 = some w → xW g D A S s H → va_S A s.heap H locs → lv_has ls 3 [(0, .ref x0), (1, .int x1)] → W p l e (xRm g S0 23) s m args below meth c H locs cells slots (vx_MQ below (xTi g D A w) (xTx g D A w) args s (g.2.1 - xTop S0) (g.2.2.1 - xSl S0) A) (F0 m 156 ls [.int t0]) := by
  obtain ⟨hx, hb, -, hown, hts, -⟩ := id X
  intro S x0 x1 t0 H locs ls cells slots hm hw hS hl
  unfold kX_X1_cup_156 at hm
  obtain ⟨w1, hw1, hm⟩ := tb_s hm
  refine xt_retv hS (xt_runS X hw (met_X1_found hlT N S t0 w1 hw1) (x_cs X (lv := 5) (by omega) (by decide) cx_X1_found (lw_S q1215 q1216 q115 q1217)) rfl hl.1 rfl (Nat.le_of_ble_eq_true rfl) dX1_cup_156) (fun t1 t2 u E9 ce q9 H1 locs1 hu ht => xt_pass X hlk hout (tc_r hu hm) ht (x_fits (lv2 := 0) X hw t1 t2).1 (x_fits (lv2 := 0) X hw t1 t2).2) (fun r2 hr2 H locs cells slots hw hS => ?_)
  replace hm := tc_l hr2 hm
  refine lv_aload_n hx hb dX1_cup_159 rfl (lv_at hl 0 rfl) ?_
  obtain ⟨v3, hv3, hm⟩ := ob_s hm
  refine xr_val X hw xc1 in_X1 2 (by decide) q281 (f_obj_s hv3) dX1_cup_160 ?_
  obtain ⟨v4, hv4, hm⟩ := ob_s hm
  refine xr_valN X hw xc2 in_X3 0 (by decide) q211 (f_obj_s hv4) dX1_cup_163 ?_
  refine lv_iload_n hx hb dX1_cup_166 rfl (lv_at hl 1 rfl) ?_
  obtain ⟨v5, hv5, hm⟩ := ob_s hm
  refine xr_iald X hw hv5 dX1_cup_167 ?_
  refine lv_aload_n hx hb dX1_cup_168 rfl (lv_at hl 0 rfl) ?_
  obtain ⟨v6, hv6, hm⟩ := ob_s hm
  refine xr_val X hw xc1 in_X1 2 (by decide) q281 (f_obj_s hv6) dX1_cup_169 ?_
  obtain ⟨v7, hv7, hm⟩ := ob_s hm
  refine xr_valN X hw xc2 in_X3 1 (by decide) q214 (f_obj_s hv7) dX1_cup_172 ?_
  refine lv_iload_n hx hb dX1_cup_175 rfl (lv_at hl 1 rfl) ?_
  obtain ⟨v8, hv8, hm⟩ := ob_s hm
  refine xr_iald X hw hv8 dX1_cup_176 ?_
  refine lv_isub hx hb dX1_cup_177 ?_
  obtain rfl := Option.some.inj hm
  exact xt_iret (v := (v5 - v8)) X hr hlk hw hS rfl dX1_cup_178
def kX_X1_cup (g : XC) (N : Nat) (S : XS) (x0 : Nat) (x1 : Int32) (x2 : Int32) : Option ((XS × Int32) ⊕ XT) :=
  (f_cls S 1 x0).bind fun u1 =>
  tbind (kX_X1_aCup g N S x0 x1) fun r3 =>
  if x2 = 0 then
    (f_obj r3 1 x0 2).bind fun v5 =>
    (f_obj r3 2 v5 0).bind fun v6 =>
    (a_int r3 0 v6 x1).bind fun v7 =>
    some (.inl (r3, v7))
  else
  if x2 = 1 then
    (f_obj r3 1 x0 2).bind fun v9 =>
    (f_obj r3 2 v9 1).bind fun v10 =>
    (a_int r3 0 v10 x1).bind fun v11 =>
    some (.inl (r3, v11))
  else
  if x2 = 2 then
    (f_obj r3 1 x0 1).bind fun v13 =>
    (f_obj r3 3 v13 0).bind fun v14 =>
    (f_cls r3 10 v14).bind fun u15 =>
    (kX_J2_get g N r3 v14 x1).bind fun w16 =>
    (gIv g w16.2).bind fun k17 =>
    (gIv g w16.2).bind fun u18 =>
    (kX_J19_intValue g N w16.1 w16.2).bind fun w19 =>
    some (.inl (w19.1, w19.2))
  else
  if x2 = 3 then
    (f_obj r3 1 x0 2).bind fun v21 =>
    (f_cls r3 2 v21).bind fun u22 =>
    (kX_X3_into g N r3 v21 x1 0).bind fun w23 =>
    some (.inl (w23.1, w23.2))
  else
  if x2 = 4 then
    (f_obj r3 1 x0 2).bind fun v25 =>
    (f_cls r3 2 v25).bind fun u26 =>
    (kX_X3_into g N r3 v25 x1 1).bind fun w27 =>
    some (.inl (w27.1, w27.2))
  else
  if x2 = 5 then
    (f_obj r3 1 x0 2).bind fun v29 =>
    (f_obj r3 2 v29 2).bind fun v30 =>
    (a_int r3 0 v30 x1).bind fun v31 =>
    some (.inl (r3, v31))
  else
  if x2 = 6 then
    (f_obj r3 1 x0 2).bind fun v33 =>
    (f_cls r3 2 v33).bind fun u34 =>
    (kX_X3_isPlugged g N r3 v33 x1).bind fun w35 =>
    if w35.2 = 0 then
      some (.inl (w35.1, 0))
    else
      some (.inl (w35.1, 1))
  else
  if x2 = 7 then
    (f_cls r3 1 x0).bind fun u38 =>
    (kD_X1_deep g N r3 x0 x1).bind fun w39 =>
    some (.inl (w39.1, w39.2))
  else
  if x2 = 8 then
    kX_X1_cup_156 g N r3 x0 x1 1
  else
    kX_X1_cup_156 g N r3 x0 x1 0
theorem cx_X1_cup : yX1_cup.cls = RX1 ∧ yX1_cup.cls ≠ "java/lang/invoke/MethodHandle" ∧ yX1_cup.cls ≠ "java/lang/invoke/VarHandle" ∧ (parseMethodDescriptor yX1_cup.desc).map (fun d => d.parameters.length) = some 2 := by decide +kernel
theorem met_X1_cup {l : Launch} {g : XC} {D : va_G} {A : Nat → Prop} (hlT : l.stackTraces = false) (N : Nat) (S : XS) (x0 : Nat) (x1 : Int32) (x2 : Int32) (w : (XS × Int32) ⊕ XT) (hm : kX_X1_cup g N S x0 x1 x2 = some w) : vx_Met l yX1_cup (ws_ yX1_cup cX1_cup 3 (Option.some Jvm.ClassFile.FieldType.int)) (xRm g S 23) (xPre g D A [.ref x0, .int x1, .int x2] S) (xTi g D A w) (xTx g D A w) (g.2.1 - xTop S) (g.2.2.1 - xSl S) A := by
  refine x_startT (own := RX1) (by decide +kernel) rfl (Nat.le_of_ble_eq_true rfl) (fun p e s m below meth c ls X hr hlk hnm hout hw hl => ?_)
  have hw0 := hw
  obtain ⟨hx, hb, -, hown, hts, -⟩ := id X
  have hl : lv_has ls 3 [(0, .ref x0), (1, .int x1), (2, .int x2)] := hl
  have hg : ∀ (H : Heap) (locs : List Loc) (cells slots : Nat), xW g D A S s H → va_S A s.heap H locs → W p l e (xRm g S 23) s m ([.ref x0, .int x1, .int x2] : List Value).toArray below meth c H locs cells slots (vx_MQ below (xTi g D A w) (xTx g D A w) ([.ref x0, .int x1, .int x2] : List Value).toArray s (g.2.1 - xTop S) (g.2.2.1 - xSl S) A) (F0 m 0 ls []) := by
    intro H locs cells slots hw hS
    unfold kX_X1_cup at hm
    refine lv_aload_n hx hb dX1_cup_0 rfl (lv_at hl 0 rfl) ?_
    refine lv_iload_n hx hb dX1_cup_1 rfl (lv_at hl 1 rfl) ?_
    obtain ⟨u1, hu1, hm⟩ := ob_s hm
    obtain ⟨w2, hw2, hm⟩ := tb_s hm
    refine xt_retv hS (xt_runV X hw (met_X1_aCup hlT N S x0 x1 w2 hw2) (x_cv X (lv := 6) (by omega) (by decide) cx_X1_aCup (lw_V q1240 q1242 qs40 q115 q1243)) xc1 hu1 rfl hl.1 rfl (Nat.le_of_ble_eq_true rfl) dX1_cup_2) (fun t1 t2 u E9 ce q9 H1 locs1 hu ht => xt_pass X hlk hout (tc_r hu hm) ht (x_fits (lv2 := 0) X hw t1 t2).1 (x_fits (lv2 := 0) X hw t1 t2).2) (fun r3 hr3 H locs cells slots hw hS => ?_)
    replace hm := tc_l hr3 hm
    refine lv_iload_n hx hb dX1_cup_5 rfl (lv_at hl 2 rfl) ?_
    by_cases c4 : x2 = 0
    · replace hm := if_t c4 hm
      refine lv_tableIn (off := 46) (tgt := 52) hx hb dX1_cup_6 (by rw [c4]; decide) (by rw [c4]; decide) (by rw [c4]; rfl) (by decide) ?_
      refine lv_aload_n hx hb dX1_cup_52 rfl (lv_at hl 0 rfl) ?_
      obtain ⟨v5, hv5, hm⟩ := ob_s hm
      refine xr_val X hw xc1 in_X1 2 (by decide) q281 (f_obj_s hv5) dX1_cup_53 ?_
      obtain ⟨v6, hv6, hm⟩ := ob_s hm
      refine xr_valN X hw xc2 in_X3 0 (by decide) q211 (f_obj_s hv6) dX1_cup_56 ?_
      refine lv_iload_n hx hb dX1_cup_59 rfl (lv_at hl 1 rfl) ?_
      obtain ⟨v7, hv7, hm⟩ := ob_s hm
      refine xr_iald X hw hv7 dX1_cup_60 ?_
      obtain rfl := Option.some.inj hm
      exact xt_iret (v := v7) X hr hlk hw hS rfl dX1_cup_61
    replace hm := if_f c4 hm
    by_cases c8 : x2 = 1
    · replace hm := if_t c8 hm
      refine lv_tableIn (off := 56) (tgt := 62) hx hb dX1_cup_6 (by rw [c8]; decide) (by rw [c8]; decide) (by rw [c8]; rfl) (by decide) ?_
      refine lv_aload_n hx hb dX1_cup_62 rfl (lv_at hl 0 rfl) ?_
      obtain ⟨v9, hv9, hm⟩ := ob_s hm
      refine xr_val X hw xc1 in_X1 2 (by decide) q281 (f_obj_s hv9) dX1_cup_63 ?_
      obtain ⟨v10, hv10, hm⟩ := ob_s hm
      refine xr_valN X hw xc2 in_X3 1 (by decide) q214 (f_obj_s hv10) dX1_cup_66 ?_
      refine lv_iload_n hx hb dX1_cup_69 rfl (lv_at hl 1 rfl) ?_
      obtain ⟨v11, hv11, hm⟩ := ob_s hm
      refine xr_iald X hw hv11 dX1_cup_70 ?_
      obtain rfl := Option.some.inj hm
      exact xt_iret (v := v11) X hr hlk hw hS rfl dX1_cup_71
    replace hm := if_f c8 hm
    by_cases c12 : x2 = 2
    · replace hm := if_t c12 hm
      refine lv_tableIn (off := 66) (tgt := 72) hx hb dX1_cup_6 (by rw [c12]; decide) (by rw [c12]; decide) (by rw [c12]; rfl) (by decide) ?_
      refine lv_aload_n hx hb dX1_cup_72 rfl (lv_at hl 0 rfl) ?_
      obtain ⟨v13, hv13, hm⟩ := ob_s hm
      refine xr_val X hw xc1 in_X1 1 (by decide) q279 (f_obj_s hv13) dX1_cup_73 ?_
      obtain ⟨v14, hv14, hm⟩ := ob_s hm
      refine xr_valN X hw xc3 in_X2 0 (by decide) q191 (f_obj_s hv14) dX1_cup_76 ?_
      refine lv_iload_n hx hb dX1_cup_79 rfl (lv_at hl 1 rfl) ?_
      obtain ⟨u15, hu15, hm⟩ := ob_s hm
      obtain ⟨w16, hw16, hm⟩ := ob_s hm
      refine xr_ret5r hS (xr_runF (x := ⟨"java/util/List", "get", "(I)Ljava/lang/Object;"⟩) X hw (met_J2_get N r3 v14 x1 w16 hw16) (x_cf X (lv := 2) (by omega) (by decide) ci_List_get q1208 q487 q489 q119 q491 q486 q485 q490 q488 q361) xc10 hu15 rfl hl.1 rfl (Nat.le_of_ble_eq_true rfl) dX1_cup_80) (fun H locs cells slots hw hS => ?_)
      obtain ⟨k17, hk17, hm⟩ := ob_s hm
      refine xr_castI X hw hk17 q1209 dX1_cup_85 ?_
      obtain ⟨u18, hu18, hm⟩ := ob_s hm
      obtain ⟨w19, hw19, hm⟩ := ob_s hm
      refine xr_reti hS (xr_runVX X hw (met_J19_intValue N w16.1 w16.2 w19 hw19) (x_cv X (lv := 0) (by omega) (by decide) cx_J19_intValue (lw_V q1244 q498 q499 q145 q500)) (x_recvI X hw hu18) rfl hl.1 rfl (Nat.le_of_ble_eq_true rfl) dX1_cup_88) (fun H locs cells slots hw hS => ?_)
      obtain rfl := Option.some.inj hm
      exact xt_iret (v := w19.2) X hr hlk hw hS rfl dX1_cup_91
    replace hm := if_f c12 hm
    by_cases c20 : x2 = 3
    · replace hm := if_t c20 hm
      refine lv_tableIn (off := 86) (tgt := 92) hx hb dX1_cup_6 (by rw [c20]; decide) (by rw [c20]; decide) (by rw [c20]; rfl) (by decide) ?_
      refine lv_aload_n hx hb dX1_cup_92 rfl (lv_at hl 0 rfl) ?_
      obtain ⟨v21, hv21, hm⟩ := ob_s hm
      refine xr_val X hw xc1 in_X1 2 (by decide) q281 (f_obj_s hv21) dX1_cup_93 ?_
      refine lv_iload_n hx hb dX1_cup_96 rfl (lv_at hl 1 rfl) ?_
      refine lv_iconst (v := 0) hx hb dX1_cup_97 (by decide) ?_
      obtain ⟨u22, hu22, hm⟩ := ob_s hm
      obtain ⟨w23, hw23, hm⟩ := ob_s hm
      refine xr_reti hS (xr_runV X hw (met_X3_into N r3 v21 x1 0 w23 hw23) (x_cv X (lv := 0) (by omega) (by decide) cx_X3_into (lw_V q1201 q579 q580 q120 q581)) xc2 hu22 rfl hl.1 rfl (Nat.le_of_ble_eq_true rfl) dX1_cup_98) (fun H locs cells slots hw hS => ?_)
      obtain rfl := Option.some.inj hm
      exact xt_iret (v := w23.2) X hr hlk hw hS rfl dX1_cup_101
    replace hm := if_f c20 hm
    by_cases c24 : x2 = 4
    · replace hm := if_t c24 hm
      refine lv_tableIn (off := 96) (tgt := 102) hx hb dX1_cup_6 (by rw [c24]; decide) (by rw [c24]; decide) (by rw [c24]; rfl) (by decide) ?_
      refine lv_aload_n hx hb dX1_cup_102 rfl (lv_at hl 0 rfl) ?_
      obtain ⟨v25, hv25, hm⟩ := ob_s hm
      refine xr_val X hw xc1 in_X1 2 (by decide) q281 (f_obj_s hv25) dX1_cup_103 ?_
      refine lv_iload_n hx hb dX1_cup_106 rfl (lv_at hl 1 rfl) ?_
      refine lv_iconst (v := 1) hx hb dX1_cup_107 (by decide) ?_
      obtain ⟨u26, hu26, hm⟩ := ob_s hm
      obtain ⟨w27, hw27, hm⟩ := ob_s hm
      refine xr_reti hS (xr_runV X hw (met_X3_into N r3 v25 x1 1 w27 hw27) (x_cv X (lv := 0) (by omega) (by decide) cx_X3_into (lw_V q1201 q579 q580 q120 q581)) xc2 hu26 rfl hl.1 rfl (Nat.le_of_ble_eq_true rfl) dX1_cup_108) (fun H locs cells slots hw hS => ?_)
      obtain rfl := Option.some.inj hm
      exact xt_iret (v := w27.2) X hr hlk hw hS rfl dX1_cup_111
    replace hm := if_f c24 hm
    by_cases c28 : x2 = 5
    · replace hm := if_t c28 hm
      refine lv_tableIn (off := 106) (tgt := 112) hx hb dX1_cup_6 (by rw [c28]; decide) (by rw [c28]; decide) (by rw [c28]; rfl) (by decide) ?_
      refine lv_aload_n hx hb dX1_cup_112 rfl (lv_at hl 0 rfl) ?_
      obtain ⟨v29, hv29, hm⟩ := ob_s hm
      refine xr_val X hw xc1 in_X1 2 (by decide) q281 (f_obj_s hv29) dX1_cup_113 ?_
      obtain ⟨v30, hv30, hm⟩ := ob_s hm
      refine xr_valN X hw xc2 in_X3 2 (by decide) q217 (f_obj_s hv30) dX1_cup_116 ?_
      refine lv_iload_n hx hb dX1_cup_119 rfl (lv_at hl 1 rfl) ?_
      obtain ⟨v31, hv31, hm⟩ := ob_s hm
      refine xr_iald X hw hv31 dX1_cup_120 ?_
      obtain rfl := Option.some.inj hm
      exact xt_iret (v := v31) X hr hlk hw hS rfl dX1_cup_121
    replace hm := if_f c28 hm
    by_cases c32 : x2 = 6
    · replace hm := if_t c32 hm
      refine lv_tableIn (off := 116) (tgt := 122) hx hb dX1_cup_6 (by rw [c32]; decide) (by rw [c32]; decide) (by rw [c32]; rfl) (by decide) ?_
      refine lv_aload_n hx hb dX1_cup_122 rfl (lv_at hl 0 rfl) ?_
      obtain ⟨v33, hv33, hm⟩ := ob_s hm
      refine xr_val X hw xc1 in_X1 2 (by decide) q281 (f_obj_s hv33) dX1_cup_123 ?_
      refine lv_iload_n hx hb dX1_cup_126 rfl (lv_at hl 1 rfl) ?_
      obtain ⟨u34, hu34, hm⟩ := ob_s hm
      obtain ⟨w35, hw35, hm⟩ := ob_s hm
      refine xr_reti hS (xr_runV X hw (met_X3_isPlugged N r3 v33 x1 w35 hw35) (x_cv X (lv := 1) (by omega) (by decide) cx_X3_isPlugged (lw_V q1245 q473 q474 q120 q475)) xc2 hu34 rfl hl.1 rfl (Nat.le_of_ble_eq_true rfl) dX1_cup_127) (fun H locs cells slots hw hS => ?_)
      refine lv_if_eq (tgt := 137) hx hb dX1_cup_130 (by decide) (fun c36 => ?_) (fun c36 => ?_)
      · replace hm := if_t c36 hm
        refine lv_iconst (v := 0) hx hb dX1_cup_137 (by decide) ?_
        obtain rfl := Option.some.inj hm
        exact xt_iret (v := 0) X hr hlk hw hS rfl dX1_cup_138
      · replace hm := if_f c36 hm
        refine lv_iconst (v := 1) hx hb dX1_cup_133 (by decide) ?_
        refine lv_goto (tgt := 138) hx hb dX1_cup_134 (by decide) ?_
        obtain rfl := Option.some.inj hm
        exact xt_iret (v := 1) X hr hlk hw hS rfl dX1_cup_138
    replace hm := if_f c32 hm
    by_cases c37 : x2 = 7
    · replace hm := if_t c37 hm
      refine lv_tableIn (off := 133) (tgt := 139) hx hb dX1_cup_6 (by rw [c37]; decide) (by rw [c37]; decide) (by rw [c37]; rfl) (by decide) ?_
      refine lv_aload_n hx hb dX1_cup_139 rfl (lv_at hl 0 rfl) ?_
      refine lv_iload_n hx hb dX1_cup_140 rfl (lv_at hl 1 rfl) ?_
      obtain ⟨u38, hu38, hm⟩ := ob_s hm
      obtain ⟨w39, hw39, hm⟩ := ob_s hm
      refine xr_reti hS (xr_runV X hw (metD_X1_deep N r3 x0 x1 w39 hw39) (x_cv X (lv := 22) (by omega) (by decide) cx_X1_deep (lw_V q1246 q1248 qs41 q115 q1249)) xc1 hu38 rfl hl.1 rfl (Nat.le_of_ble_eq_true rfl) dX1_cup_141) (fun H locs cells slots hw hS => ?_)
      obtain rfl := Option.some.inj hm
      exact xt_iret (v := w39.2) X hr hlk hw hS rfl dX1_cup_144
    replace hm := if_f c37 hm
    refine lv_tableOut (tgt := 145) hx hb dX1_cup_6 (tab_out x2 [0, 1, 2, 3, 4, 5, 6, 7] (by decide) (by simp only [List.forall_mem_cons]; exact ⟨c4, c8, c12, c20, c24, c28, c32, c37, fun _ h => absurd h List.not_mem_nil⟩)) (by decide) ?_
    refine lv_iload_n hx hb dX1_cup_145 rfl (lv_at hl 2 rfl) ?_
    refine lv_bipush (v := 8) hx hb dX1_cup_146 (by decide) ?_
    refine lv_icmp_ne (tgt := 155) hx hb dX1_cup_148 (by decide) (fun c40 => ?_) (fun c40 => ?_)
    · replace hm := if_f c40 hm
      refine lv_iconst (v := 0) hx hb dX1_cup_155 (by decide) ?_
      exact wkX_X1_cup_156 X hr hlk hnm hlT hout hw0 N r3 x0 x1 0 H locs ls _ _ hm hw hS (lv_sub hl [0, 1] rfl)
    · replace hm := if_t c40 hm
      refine lv_iconst (v := 1) hx hb dX1_cup_151 (by decide) ?_
      refine lv_goto (tgt := 156) hx hb dX1_cup_152 (by decide) ?_
      exact wkX_X1_cup_156 X hr hlk hnm hlT hout hw0 N r3 x0 x1 1 H locs ls _ _ hm hw hS (lv_sub hl [0, 1] rfl)
  exact hg _ _ _ _ hw va_S.rf
/-! DripCups.lead -/
def kX_X1_lead_43 (g : XC) (N : Nat) (S : XS) (x0 : Nat) : Option ((XS × Int32) ⊕ XT) :=
  (f_cls S 1 x0).bind fun u1 =>
  (kX_X1_refused g N S x0).bind fun w2 =>
  zchk w2.2 <|
  some (.inl (w2.1, w2.2))
theorem wkX_X1_lead_43 {p : Program} {l : Launch} {e : Env} {s : State} {m : MethodId} {args : Array Value} {below : List Frame} {meth : Method} {c : Code} {g : XC} {D : va_G} {A : Nat → Prop} {S0 : XS} {w : (XS × Int32) ⊕ XT} (X : xX g D A RX1 S0 p s m args c cX1_lead 3) (hr : meth.sig.returnType = (Option.some Jvm.ClassFile.FieldType.boolean)) (hlk : meth.locks = false) (hnm : meth.name = yX1_lead.name) (hlT : l.stackTraces = false) (hout : ∀ x ∈ c.exceptionTable.toList, False) (hw0 : xW g D A S0 s s.heap) (N : Nat) :
    ∀ (S : XS) (x0 : Nat) (H : Heap) (locs : List Loc) (ls : Array Slot) (cells slots : Nat), kX_X1_lead_43 g N S x0 = some w → xW g D A S s H → va_S A s.heap H locs → lv_has ls 3 [(0, .ref x0)] → W p l e (xRm g S0 8) s m args below meth c H locs cells slots (vx_MQ below (xTi g D A w) (xTx g D A w) args s (g.2.1 - xTop S0) (g.2.2.1 - xSl S0) A) (F0 m 43 ls []) := by
  obtain ⟨hx, hb, -, hown, hts, -⟩ := id X
  intro S x0 H locs ls cells slots hm hw hS hl
  unfold kX_X1_lead_43 at hm
  refine lv_aload_n hx hb dX1_lead_43 rfl (lv_at hl 0 rfl) ?_
  obtain ⟨u1, hu1, hm⟩ := ob_s hm
  obtain ⟨w2, hw2, hm⟩ := ob_s hm
  refine xr_reti hS (xr_runV X hw (met_X1_refused N S x0 w2 hw2) (x_cv X (lv := 0) (by omega) (by decide) cx_X1_refused (lw_V q1262 q1264 qs42 q115 q1265)) xc1 hu1 rfl hl.1 rfl (Nat.le_of_ble_eq_true rfl) dX1_lead_44) (fun H locs cells slots hw hS => ?_)
  obtain ⟨z3, hm⟩ := zchk_s hm
  obtain rfl := Option.some.inj hm
  exact xt_iret (v := w2.2) X hr hlk hw hS (z_nar z3) dX1_lead_47
def kX_X1_lead (g : XC) (N : Nat) (S : XS) (x0 : Nat) (x1 : Int32) (x2 : Int32) : Option ((XS × Int32) ⊕ XT) :=
  (f_cls S 1 x0).bind fun u1 =>
  tbind (kX_X1_aCup g N S x0 x1) fun r3 =>
  (f_obj r3 1 x0 1).bind fun v4 =>
  (f_cls r3 3 v4).bind fun u5 =>
  (kX_X2_cups g N r3 v4).bind fun w6 =>
  (kX_X1_in g N x2 (-1) (w6.2 - 1)).bind fun w7 =>
  tbind (kX_X1_found g N w6.1 w7) fun r9 =>
  (f_obj r9 1 x0 2).bind fun v10 =>
  (f_cls r9 2 v10).bind fun u11 =>
  (kX_X3_isLed g N r9 v10 x1 x2).bind fun w12 =>
  if w12.2 = 0 then
    (kX_X1_in g N x2 0 x1).bind fun w14 =>
    if w14 = 0 then
      (f_cls w12.1 1 x0).bind fun u16 =>
      (kX_X1_keep g N w12.1 x0).bind fun w17 =>
      (f_obj w17 1 x0 2).bind fun v18 =>
      (f_cls w17 2 v18).bind fun u19 =>
      (kX_X3_lead g N w17 v18 x1 x2).bind fun w20 =>
      some (.inl (w20, 1))
    else
      kX_X1_lead_43 g N w12.1 x0
  else
    kX_X1_lead_43 g N w12.1 x0
theorem cx_X1_lead : yX1_lead.cls = RX1 ∧ yX1_lead.cls ≠ "java/lang/invoke/MethodHandle" ∧ yX1_lead.cls ≠ "java/lang/invoke/VarHandle" ∧ (parseMethodDescriptor yX1_lead.desc).map (fun d => d.parameters.length) = some 2 := by decide +kernel
theorem met_X1_lead {l : Launch} {g : XC} {D : va_G} {A : Nat → Prop} (hlT : l.stackTraces = false) (N : Nat) (S : XS) (x0 : Nat) (x1 : Int32) (x2 : Int32) (w : (XS × Int32) ⊕ XT) (hm : kX_X1_lead g N S x0 x1 x2 = some w) : vx_Met l yX1_lead (ws_ yX1_lead cX1_lead 3 (Option.some Jvm.ClassFile.FieldType.boolean)) (xRm g S 8) (xPre g D A [.ref x0, .int x1, .int x2] S) (xTi g D A w) (xTx g D A w) (g.2.1 - xTop S) (g.2.2.1 - xSl S) A := by
  refine x_startT (own := RX1) (by decide +kernel) rfl (Nat.le_of_ble_eq_true rfl) (fun p e s m below meth c ls X hr hlk hnm hout hw hl => ?_)
  have hw0 := hw
  obtain ⟨hx, hb, -, hown, hts, -⟩ := id X
  have hl : lv_has ls 3 [(0, .ref x0), (1, .int x1), (2, .int x2)] := hl
  have hg : ∀ (H : Heap) (locs : List Loc) (cells slots : Nat), xW g D A S s H → va_S A s.heap H locs → W p l e (xRm g S 8) s m ([.ref x0, .int x1, .int x2] : List Value).toArray below meth c H locs cells slots (vx_MQ below (xTi g D A w) (xTx g D A w) ([.ref x0, .int x1, .int x2] : List Value).toArray s (g.2.1 - xTop S) (g.2.2.1 - xSl S) A) (F0 m 0 ls []) := by
    intro H locs cells slots hw hS
    unfold kX_X1_lead at hm
    refine lv_aload_n hx hb dX1_lead_0 rfl (lv_at hl 0 rfl) ?_
    refine lv_iload_n hx hb dX1_lead_1 rfl (lv_at hl 1 rfl) ?_
    obtain ⟨u1, hu1, hm⟩ := ob_s hm
    obtain ⟨w2, hw2, hm⟩ := tb_s hm
    refine xt_retv hS (xt_runV X hw (met_X1_aCup hlT N S x0 x1 w2 hw2) (x_cv X (lv := 6) (by omega) (by decide) cx_X1_aCup (lw_V q1240 q1242 qs40 q115 q1243)) xc1 hu1 rfl hl.1 rfl (Nat.le_of_ble_eq_true rfl) dX1_lead_2) (fun t1 t2 u E9 ce q9 H1 locs1 hu ht => xt_pass X hlk hout (tc_r hu hm) ht (x_fits (lv2 := 0) X hw t1 t2).1 (x_fits (lv2 := 0) X hw t1 t2).2) (fun r3 hr3 H locs cells slots hw hS => ?_)
    replace hm := tc_l hr3 hm
    refine lv_iload_n hx hb dX1_lead_5 rfl (lv_at hl 2 rfl) ?_
    refine lv_iconst (v := (-1)) hx hb dX1_lead_6 (by decide) ?_
    refine lv_aload_n hx hb dX1_lead_7 rfl (lv_at hl 0 rfl) ?_
    obtain ⟨v4, hv4, hm⟩ := ob_s hm
    refine xr_val X hw xc1 in_X1 1 (by decide) q279 (f_obj_s hv4) dX1_lead_8 ?_
    obtain ⟨u5, hu5, hm⟩ := ob_s hm
    obtain ⟨w6, hw6, hm⟩ := ob_s hm
    refine xr_reti hS (xr_runV X hw (met_X2_cups N r3 v4 w6 hw6) (x_cv X (lv := 1) (by omega) (by decide) cx_X2_cups (lw_V q1172 q463 q464 q116 q465)) xc3 hu5 rfl hl.1 rfl (Nat.le_of_ble_eq_true rfl) dX1_lead_11) (fun H locs cells slots hw hS => ?_)
    refine lv_iconst (v := 1) hx hb dX1_lead_14 (by decide) ?_
    refine lv_isub hx hb dX1_lead_15 ?_
    obtain ⟨w7, hw7, hm⟩ := ob_s hm
    refine xr_reti hS (xr_runS X hw (met_X1_in N w6.1 x2 (-1) (w6.2 - 1) w7 hw7) (x_cs X (lv := 0) (by omega) (by decide) cx_X1_in (lw_S q336 q337 q115 q338)) rfl hl.1 rfl (Nat.le_of_ble_eq_true rfl) dX1_lead_16) (fun H locs cells slots hw hS => ?_)
    obtain ⟨w8, hw8, hm⟩ := tb_s hm
    refine xt_retv hS (xt_runS X hw (met_X1_found hlT N w6.1 w7 w8 hw8) (x_cs X (lv := 5) (by omega) (by decide) cx_X1_found (lw_S q1215 q1216 q115 q1217)) rfl hl.1 rfl (Nat.le_of_ble_eq_true rfl) dX1_lead_19) (fun t1 t2 u E9 ce q9 H1 locs1 hu ht => xt_pass X hlk hout (tc_r hu hm) ht (x_fits (lv2 := 0) X hw t1 t2).1 (x_fits (lv2 := 0) X hw t1 t2).2) (fun r9 hr9 H locs cells slots hw hS => ?_)
    replace hm := tc_l hr9 hm
    refine lv_aload_n hx hb dX1_lead_22 rfl (lv_at hl 0 rfl) ?_
    obtain ⟨v10, hv10, hm⟩ := ob_s hm
    refine xr_val X hw xc1 in_X1 2 (by decide) q281 (f_obj_s hv10) dX1_lead_23 ?_
    refine lv_iload_n hx hb dX1_lead_26 rfl (lv_at hl 1 rfl) ?_
    refine lv_iload_n hx hb dX1_lead_27 rfl (lv_at hl 2 rfl) ?_
    obtain ⟨u11, hu11, hm⟩ := ob_s hm
    obtain ⟨w12, hw12, hm⟩ := ob_s hm
    refine xr_reti hS (xr_runV X hw (met_X3_isLed N r9 v10 x1 x2 w12 hw12) (x_cv X (lv := 0) (by omega) (by decide) cx_X3_isLed (lw_V q1258 q1259 q1260 q120 q1261)) xc2 hu11 rfl hl.1 rfl (Nat.le_of_ble_eq_true rfl) dX1_lead_28) (fun H locs cells slots hw hS => ?_)
    refine lv_if_ne (tgt := 43) hx hb dX1_lead_31 (by decide) (fun c13 => ?_) (fun c13 => ?_)
    · replace hm := if_f c13 hm
      exact wkX_X1_lead_43 X hr hlk hnm hlT hout hw0 N w12.1 x0 H locs ls _ _ hm hw hS (lv_sub hl [0] rfl)
    · replace hm := if_t c13 hm
      refine lv_iload_n hx hb dX1_lead_34 rfl (lv_at hl 2 rfl) ?_
      refine lv_iconst (v := 0) hx hb dX1_lead_35 (by decide) ?_
      refine lv_iload_n hx hb dX1_lead_36 rfl (lv_at hl 1 rfl) ?_
      obtain ⟨w14, hw14, hm⟩ := ob_s hm
      refine xr_reti hS (xr_runS X hw (met_X1_in N w12.1 x2 0 x1 w14 hw14) (x_cs X (lv := 0) (by omega) (by decide) cx_X1_in (lw_S q336 q337 q115 q338)) rfl hl.1 rfl (Nat.le_of_ble_eq_true rfl) dX1_lead_37) (fun H locs cells slots hw hS => ?_)
      refine lv_if_eq (tgt := 48) hx hb dX1_lead_40 (by decide) (fun c15 => ?_) (fun c15 => ?_)
      · replace hm := if_t c15 hm
        refine lv_aload_n hx hb dX1_lead_48 rfl (lv_at hl 0 rfl) ?_
        obtain ⟨u16, hu16, hm⟩ := ob_s hm
        obtain ⟨w17, hw17, hm⟩ := ob_s hm
        refine xr_retv hS (xr_runV X hw (met_X1_keep N w12.1 x0 w17 hw17) (x_cv X (lv := 7) (by omega) (by decide) cx_X1_keep (lw_V q343 q345 qs1 q115 q346)) xc1 hu16 rfl hl.1 rfl (Nat.le_of_ble_eq_true rfl) dX1_lead_49) (fun H locs cells slots hw hS => ?_)
        refine lv_aload_n hx hb dX1_lead_52 rfl (lv_at hl 0 rfl) ?_
        obtain ⟨v18, hv18, hm⟩ := ob_s hm
        refine xr_val X hw xc1 in_X1 2 (by decide) q281 (f_obj_s hv18) dX1_lead_53 ?_
        refine lv_iload_n hx hb dX1_lead_56 rfl (lv_at hl 1 rfl) ?_
        refine lv_iload_n hx hb dX1_lead_57 rfl (lv_at hl 2 rfl) ?_
        obtain ⟨u19, hu19, hm⟩ := ob_s hm
        obtain ⟨w20, hw20, hm⟩ := ob_s hm
        refine xr_retv hS (xr_runV X hw (met_X3_lead N w17 v18 x1 x2 w20 hw20) (x_cv X (lv := 0) (by omega) (by decide) cx_X3_lead (lw_V q1266 q1267 q1268 q120 q1269)) xc2 hu19 rfl hl.1 rfl (Nat.le_of_ble_eq_true rfl) dX1_lead_58) (fun H locs cells slots hw hS => ?_)
        refine lv_iconst (v := 1) hx hb dX1_lead_61 (by decide) ?_
        obtain rfl := Option.some.inj hm
        exact xt_iret (v := 1) X hr hlk hw hS rfl dX1_lead_62
      · replace hm := if_f c15 hm
        exact wkX_X1_lead_43 X hr hlk hnm hlT hout hw0 N w12.1 x0 H locs ls _ _ hm hw hS (lv_sub hl [0] rfl)
  exact hg _ _ _ _ hw va_S.rf
/-! DripCups.plug -/
def kX_X1_plug (g : XC) (N : Nat) (S : XS) (x0 : Nat) (x1 : Int32) (x2 : Int32) : Option ((XS × Int32) ⊕ XT) :=
  (f_cls S 1 x0).bind fun u1 =>
  tbind (kX_X1_aCup g N S x0 x1) fun r3 =>
  (f_obj r3 1 x0 2).bind fun v4 =>
  (f_cls r3 2 v4).bind fun u5 =>
  (kX_X3_isPlugged g N r3 v4 x1).bind fun w6 =>
  if w6.2 = x2 then
    (f_cls w6.1 1 x0).bind fun u13 =>
    (kX_X1_refused g N w6.1 x0).bind fun w14 =>
    zchk w14.2 <|
    some (.inl (w14.1, w14.2))
  else
    (f_cls w6.1 1 x0).bind fun u8 =>
    (kX_X1_keep g N w6.1 x0).bind fun w9 =>
    (f_obj w9 1 x0 2).bind fun v10 =>
    (f_int w9 2 v10 7).bind fun v11 =>
    (f_putI w9 2 v10 7 (v11 ^^^ ((1 : Int32) <<< (x1 &&& 31)))).bind fun S12 =>
    some (.inl (S12, 1))
theorem cx_X1_plug : yX1_plug.cls = RX1 ∧ yX1_plug.cls ≠ "java/lang/invoke/MethodHandle" ∧ yX1_plug.cls ≠ "java/lang/invoke/VarHandle" ∧ (parseMethodDescriptor yX1_plug.desc).map (fun d => d.parameters.length) = some 2 := by decide +kernel
theorem met_X1_plug {l : Launch} {g : XC} {D : va_G} {A : Nat → Prop} (hlT : l.stackTraces = false) (N : Nat) (S : XS) (x0 : Nat) (x1 : Int32) (x2 : Int32) (w : (XS × Int32) ⊕ XT) (hm : kX_X1_plug g N S x0 x1 x2 = some w) : vx_Met l yX1_plug (ws_ yX1_plug cX1_plug 3 (Option.some Jvm.ClassFile.FieldType.boolean)) (xRm g S 8) (xPre g D A [.ref x0, .int x1, .int x2] S) (xTi g D A w) (xTx g D A w) (g.2.1 - xTop S) (g.2.2.1 - xSl S) A := by
  refine x_startT (own := RX1) (by decide +kernel) rfl (Nat.le_of_ble_eq_true rfl) (fun p e s m below meth c ls X hr hlk hnm hout hw hl => ?_)
  have hw0 := hw
  obtain ⟨hx, hb, -, hown, hts, -⟩ := id X
  have hl : lv_has ls 3 [(0, .ref x0), (1, .int x1), (2, .int x2)] := hl
  have hg : ∀ (H : Heap) (locs : List Loc) (cells slots : Nat), xW g D A S s H → va_S A s.heap H locs → W p l e (xRm g S 8) s m ([.ref x0, .int x1, .int x2] : List Value).toArray below meth c H locs cells slots (vx_MQ below (xTi g D A w) (xTx g D A w) ([.ref x0, .int x1, .int x2] : List Value).toArray s (g.2.1 - xTop S) (g.2.2.1 - xSl S) A) (F0 m 0 ls []) := by
    intro H locs cells slots hw hS
    unfold kX_X1_plug at hm
    refine lv_aload_n hx hb dX1_plug_0 rfl (lv_at hl 0 rfl) ?_
    refine lv_iload_n hx hb dX1_plug_1 rfl (lv_at hl 1 rfl) ?_
    obtain ⟨u1, hu1, hm⟩ := ob_s hm
    obtain ⟨w2, hw2, hm⟩ := tb_s hm
    refine xt_retv hS (xt_runV X hw (met_X1_aCup hlT N S x0 x1 w2 hw2) (x_cv X (lv := 6) (by omega) (by decide) cx_X1_aCup (lw_V q1240 q1242 qs40 q115 q1243)) xc1 hu1 rfl hl.1 rfl (Nat.le_of_ble_eq_true rfl) dX1_plug_2) (fun t1 t2 u E9 ce q9 H1 locs1 hu ht => xt_pass X hlk hout (tc_r hu hm) ht (x_fits (lv2 := 0) X hw t1 t2).1 (x_fits (lv2 := 0) X hw t1 t2).2) (fun r3 hr3 H locs cells slots hw hS => ?_)
    replace hm := tc_l hr3 hm
    refine lv_aload_n hx hb dX1_plug_5 rfl (lv_at hl 0 rfl) ?_
    obtain ⟨v4, hv4, hm⟩ := ob_s hm
    refine xr_val X hw xc1 in_X1 2 (by decide) q281 (f_obj_s hv4) dX1_plug_6 ?_
    refine lv_iload_n hx hb dX1_plug_9 rfl (lv_at hl 1 rfl) ?_
    obtain ⟨u5, hu5, hm⟩ := ob_s hm
    obtain ⟨w6, hw6, hm⟩ := ob_s hm
    refine xr_reti hS (xr_runV X hw (met_X3_isPlugged N r3 v4 x1 w6 hw6) (x_cv X (lv := 1) (by omega) (by decide) cx_X3_isPlugged (lw_V q1245 q473 q474 q120 q475)) xc2 hu5 rfl hl.1 rfl (Nat.le_of_ble_eq_true rfl) dX1_plug_10) (fun H locs cells slots hw hS => ?_)
    refine lv_iload_n hx hb dX1_plug_13 rfl (lv_at hl 2 rfl) ?_
    refine lv_icmp_ne (tgt := 22) hx hb dX1_plug_14 (by decide) (fun c7 => ?_) (fun c7 => ?_)
    · replace hm := if_f c7 hm
      refine lv_aload_n hx hb dX1_plug_22 rfl (lv_at hl 0 rfl) ?_
      obtain ⟨u8, hu8, hm⟩ := ob_s hm
      obtain ⟨w9, hw9, hm⟩ := ob_s hm
      refine xr_retv hS (xr_runV X hw (met_X1_keep N w6.1 x0 w9 hw9) (x_cv X (lv := 7) (by omega) (by decide) cx_X1_keep (lw_V q343 q345 qs1 q115 q346)) xc1 hu8 rfl hl.1 rfl (Nat.le_of_ble_eq_true rfl) dX1_plug_23) (fun H locs cells slots hw hS => ?_)
      refine lv_aload_n hx hb dX1_plug_26 rfl (lv_at hl 0 rfl) ?_
      obtain ⟨v10, hv10, hm⟩ := ob_s hm
      refine xr_val X hw xc1 in_X1 2 (by decide) q281 (f_obj_s hv10) dX1_plug_27 ?_
      refine lv_dup hx hb dX1_plug_30 rfl ?_
      obtain ⟨v11, hv11, hm⟩ := ob_s hm
      refine xr_valN X hw xc2 in_X3 7 (by decide) q228 (f_int_s hv11) dX1_plug_31 ?_
      refine lv_iconst (v := 1) hx hb dX1_plug_34 (by decide) ?_
      refine lv_iload_n hx hb dX1_plug_35 rfl (lv_at hl 1 rfl) ?_
      refine lv_ishl hx hb dX1_plug_36 ?_
      refine lv_ixor hx hb dX1_plug_37 ?_
      obtain ⟨S12, hS12, hm⟩ := ob_s hm
      refine xr_putIN X hw hS xc2 in_X3 tyX3_ok nmX3 7 (by decide) q228 rfl (tyX3_ok 7 (by decide)) rfl rfl hS12 dX1_plug_38 (fun H locs hw hS => ?_)
      refine lv_iconst (v := 1) hx hb dX1_plug_41 (by decide) ?_
      obtain rfl := Option.some.inj hm
      exact xt_iret (v := 1) X hr hlk hw hS rfl dX1_plug_42
    · replace hm := if_t c7 hm
      refine lv_aload_n hx hb dX1_plug_17 rfl (lv_at hl 0 rfl) ?_
      obtain ⟨u13, hu13, hm⟩ := ob_s hm
      obtain ⟨w14, hw14, hm⟩ := ob_s hm
      refine xr_reti hS (xr_runV X hw (met_X1_refused N w6.1 x0 w14 hw14) (x_cv X (lv := 0) (by omega) (by decide) cx_X1_refused (lw_V q1262 q1264 qs42 q115 q1265)) xc1 hu13 rfl hl.1 rfl (Nat.le_of_ble_eq_true rfl) dX1_plug_18) (fun H locs cells slots hw hS => ?_)
      obtain ⟨z15, hm⟩ := zchk_s hm
      obtain rfl := Option.some.inj hm
      exact xt_iret (v := w14.2) X hr hlk hw hS (z_nar z15) dX1_plug_21
  exact hg _ _ _ _ hw va_S.rf
/-! DripCups.pour -/
def kX_X1_pour (g : XC) (N : Nat) (S : XS) (x0 : Nat) (x1 : Int32) (x2 : Int32) : Option ((XS × Int32) ⊕ XT) :=
  (f_cls S 1 x0).bind fun u1 =>
  tbind (kX_X1_aCup g N S x0 x1) fun r3 =>
  (kX_X1_in g N x2 1 50).bind fun w4 =>
  if w4 = 0 then
    (f_cls r3 1 x0).bind fun u11 =>
    (kX_X1_refuse g N r3 x0 1).bind fun w12 =>
    some (.inl (w12.1, w12.2))
  else
    (f_cls r3 1 x0).bind fun u6 =>
    (kX_X1_keep g N r3 x0).bind fun w7 =>
    (f_obj w7 1 x0 2).bind fun v8 =>
    (f_cls w7 2 v8).bind fun u9 =>
    (kX_X3_pour g N w7 v8 x1 x2).bind fun w10 =>
    some (.inl (w10.1, w10.2))
theorem cx_X1_pour : yX1_pour.cls = RX1 ∧ yX1_pour.cls ≠ "java/lang/invoke/MethodHandle" ∧ yX1_pour.cls ≠ "java/lang/invoke/VarHandle" ∧ (parseMethodDescriptor yX1_pour.desc).map (fun d => d.parameters.length) = some 2 := by decide +kernel
theorem met_X1_pour {l : Launch} {g : XC} {D : va_G} {A : Nat → Prop} (hlT : l.stackTraces = false) (N : Nat) (S : XS) (x0 : Nat) (x1 : Int32) (x2 : Int32) (w : (XS × Int32) ⊕ XT) (hm : kX_X1_pour g N S x0 x1 x2 = some w) : vx_Met l yX1_pour (ws_ yX1_pour cX1_pour 3 (Option.some Jvm.ClassFile.FieldType.int)) (xRm g S 8) (xPre g D A [.ref x0, .int x1, .int x2] S) (xTi g D A w) (xTx g D A w) (g.2.1 - xTop S) (g.2.2.1 - xSl S) A := by
  refine x_startT (own := RX1) (by decide +kernel) rfl (Nat.le_of_ble_eq_true rfl) (fun p e s m below meth c ls X hr hlk hnm hout hw hl => ?_)
  have hw0 := hw
  obtain ⟨hx, hb, -, hown, hts, -⟩ := id X
  have hl : lv_has ls 3 [(0, .ref x0), (1, .int x1), (2, .int x2)] := hl
  have hg : ∀ (H : Heap) (locs : List Loc) (cells slots : Nat), xW g D A S s H → va_S A s.heap H locs → W p l e (xRm g S 8) s m ([.ref x0, .int x1, .int x2] : List Value).toArray below meth c H locs cells slots (vx_MQ below (xTi g D A w) (xTx g D A w) ([.ref x0, .int x1, .int x2] : List Value).toArray s (g.2.1 - xTop S) (g.2.2.1 - xSl S) A) (F0 m 0 ls []) := by
    intro H locs cells slots hw hS
    unfold kX_X1_pour at hm
    refine lv_aload_n hx hb dX1_pour_0 rfl (lv_at hl 0 rfl) ?_
    refine lv_iload_n hx hb dX1_pour_1 rfl (lv_at hl 1 rfl) ?_
    obtain ⟨u1, hu1, hm⟩ := ob_s hm
    obtain ⟨w2, hw2, hm⟩ := tb_s hm
    refine xt_retv hS (xt_runV X hw (met_X1_aCup hlT N S x0 x1 w2 hw2) (x_cv X (lv := 6) (by omega) (by decide) cx_X1_aCup (lw_V q1240 q1242 qs40 q115 q1243)) xc1 hu1 rfl hl.1 rfl (Nat.le_of_ble_eq_true rfl) dX1_pour_2) (fun t1 t2 u E9 ce q9 H1 locs1 hu ht => xt_pass X hlk hout (tc_r hu hm) ht (x_fits (lv2 := 0) X hw t1 t2).1 (x_fits (lv2 := 0) X hw t1 t2).2) (fun r3 hr3 H locs cells slots hw hS => ?_)
    replace hm := tc_l hr3 hm
    refine lv_iload_n hx hb dX1_pour_5 rfl (lv_at hl 2 rfl) ?_
    refine lv_iconst (v := 1) hx hb dX1_pour_6 (by decide) ?_
    refine lv_bipush (v := 50) hx hb dX1_pour_7 (by decide) ?_
    obtain ⟨w4, hw4, hm⟩ := ob_s hm
    refine xr_reti hS (xr_runS X hw (met_X1_in N r3 x2 1 50 w4 hw4) (x_cs X (lv := 0) (by omega) (by decide) cx_X1_in (lw_S q336 q337 q115 q338)) rfl hl.1 rfl (Nat.le_of_ble_eq_true rfl) dX1_pour_9) (fun H locs cells slots hw hS => ?_)
    refine lv_if_ne (tgt := 21) hx hb dX1_pour_12 (by decide) (fun c5 => ?_) (fun c5 => ?_)
    · replace hm := if_f c5 hm
      refine lv_aload_n hx hb dX1_pour_21 rfl (lv_at hl 0 rfl) ?_
      obtain ⟨u6, hu6, hm⟩ := ob_s hm
      obtain ⟨w7, hw7, hm⟩ := ob_s hm
      refine xr_retv hS (xr_runV X hw (met_X1_keep N r3 x0 w7 hw7) (x_cv X (lv := 7) (by omega) (by decide) cx_X1_keep (lw_V q343 q345 qs1 q115 q346)) xc1 hu6 rfl hl.1 rfl (Nat.le_of_ble_eq_true rfl) dX1_pour_22) (fun H locs cells slots hw hS => ?_)
      refine lv_aload_n hx hb dX1_pour_25 rfl (lv_at hl 0 rfl) ?_
      obtain ⟨v8, hv8, hm⟩ := ob_s hm
      refine xr_val X hw xc1 in_X1 2 (by decide) q281 (f_obj_s hv8) dX1_pour_26 ?_
      refine lv_iload_n hx hb dX1_pour_29 rfl (lv_at hl 1 rfl) ?_
      refine lv_iload_n hx hb dX1_pour_30 rfl (lv_at hl 2 rfl) ?_
      obtain ⟨u9, hu9, hm⟩ := ob_s hm
      obtain ⟨w10, hw10, hm⟩ := ob_s hm
      refine xr_reti hS (xr_runV X hw (met_X3_pour N w7 v8 x1 x2 w10 hw10) (x_cv X (lv := 2) (by omega) (by decide) cx_X3_pour (lw_V q1284 q1285 q1286 q120 q1287)) xc2 hu9 rfl hl.1 rfl (Nat.le_of_ble_eq_true rfl) dX1_pour_31) (fun H locs cells slots hw hS => ?_)
      obtain rfl := Option.some.inj hm
      exact xt_iret (v := w10.2) X hr hlk hw hS rfl dX1_pour_34
    · replace hm := if_t c5 hm
      refine lv_aload_n hx hb dX1_pour_15 rfl (lv_at hl 0 rfl) ?_
      refine lv_iconst (v := 1) hx hb dX1_pour_16 (by decide) ?_
      obtain ⟨u11, hu11, hm⟩ := ob_s hm
      obtain ⟨w12, hw12, hm⟩ := ob_s hm
      refine xr_reti hS (xr_runV X hw (met_X1_refuse N r3 x0 1 w12 hw12) (x_cv X (lv := 0) (by omega) (by decide) cx_X1_refuse (lw_V q339 q341 qs0 q115 q342)) xc1 hu11 rfl hl.1 rfl (Nat.le_of_ble_eq_true rfl) dX1_pour_17) (fun H locs cells slots hw hS => ?_)
      obtain rfl := Option.some.inj hm
      exact xt_iret (v := w12.2) X hr hlk hw hS rfl dX1_pour_20
  exact hg _ _ _ _ hw va_S.rf
/-! DripCups.crack -/
def kX_X1_crack_30 (g : XC) (N : Nat) (S : XS) (x0 : Nat) : Option ((XS × Int32) ⊕ XT) :=
  (f_cls S 1 x0).bind fun u1 =>
  (kX_X1_refuse g N S x0 1).bind fun w2 =>
  some (.inl (w2.1, w2.2))
theorem wkX_X1_crack_30 {p : Program} {l : Launch} {e : Env} {s : State} {m : MethodId} {args : Array Value} {below : List Frame} {meth : Method} {c : Code} {g : XC} {D : va_G} {A : Nat → Prop} {S0 : XS} {w : (XS × Int32) ⊕ XT} (X : xX g D A RX1 S0 p s m args c cX1_crack 4) (hr : meth.sig.returnType = (Option.some Jvm.ClassFile.FieldType.int)) (hlk : meth.locks = false) (hnm : meth.name = yX1_crack.name) (hlT : l.stackTraces = false) (hout : ∀ x ∈ c.exceptionTable.toList, False) (hw0 : xW g D A S0 s s.heap) (N : Nat) :
    ∀ (S : XS) (x0 : Nat) (H : Heap) (locs : List Loc) (ls : Array Slot) (cells slots : Nat), kX_X1_crack_30 g N S x0 = some w → xW g D A S s H → va_S A s.heap H locs → lv_has ls 4 [(0, .ref x0)] → W p l e (xRm g S0 8) s m args below meth c H locs cells slots (vx_MQ below (xTi g D A w) (xTx g D A w) args s (g.2.1 - xTop S0) (g.2.2.1 - xSl S0) A) (F0 m 30 ls []) := by
  obtain ⟨hx, hb, -, hown, hts, -⟩ := id X
  intro S x0 H locs ls cells slots hm hw hS hl
  unfold kX_X1_crack_30 at hm
  refine lv_aload_n hx hb dX1_crack_30 rfl (lv_at hl 0 rfl) ?_
  refine lv_iconst (v := 1) hx hb dX1_crack_31 (by decide) ?_
  obtain ⟨u1, hu1, hm⟩ := ob_s hm
  obtain ⟨w2, hw2, hm⟩ := ob_s hm
  refine xr_reti hS (xr_runV X hw (met_X1_refuse N S x0 1 w2 hw2) (x_cv X (lv := 0) (by omega) (by decide) cx_X1_refuse (lw_V q339 q341 qs0 q115 q342)) xc1 hu1 rfl hl.1 rfl (Nat.le_of_ble_eq_true rfl) dX1_crack_32) (fun H locs cells slots hw hS => ?_)
  obtain rfl := Option.some.inj hm
  exact xt_iret (v := w2.2) X hr hlk hw hS rfl dX1_crack_35
def kX_X1_crack (g : XC) (N : Nat) (S : XS) (x0 : Nat) (x1 : Int32) (x2 : Int32) : Option ((XS × Int32) ⊕ XT) :=
  (f_cls S 1 x0).bind fun u1 =>
  tbind (kX_X1_aCup g N S x0 x1) fun r3 =>
  (f_obj r3 1 x0 2).bind fun v4 =>
  (f_obj r3 2 v4 0).bind fun v5 =>
  (a_int r3 0 v5 x1).bind fun v6 =>
  (kX_X1_in g N x2 1 30).bind fun w7 =>
  if w7 = 0 then
    kX_X1_crack_30 g N r3 x0
  else
    if x2 = v6 then
      kX_X1_crack_30 g N r3 x0
    else
      (f_cls r3 1 x0).bind fun u10 =>
      (kX_X1_keep g N r3 x0).bind fun w11 =>
      (f_obj w11 1 x0 2).bind fun v12 =>
      (f_cls w11 2 v12).bind fun u13 =>
      (kX_X3_crack g N w11 v12 x1 x2).bind fun w14 =>
      some (.inl (w14, v6))
theorem cx_X1_crack : yX1_crack.cls = RX1 ∧ yX1_crack.cls ≠ "java/lang/invoke/MethodHandle" ∧ yX1_crack.cls ≠ "java/lang/invoke/VarHandle" ∧ (parseMethodDescriptor yX1_crack.desc).map (fun d => d.parameters.length) = some 2 := by decide +kernel
theorem met_X1_crack {l : Launch} {g : XC} {D : va_G} {A : Nat → Prop} (hlT : l.stackTraces = false) (N : Nat) (S : XS) (x0 : Nat) (x1 : Int32) (x2 : Int32) (w : (XS × Int32) ⊕ XT) (hm : kX_X1_crack g N S x0 x1 x2 = some w) : vx_Met l yX1_crack (ws_ yX1_crack cX1_crack 4 (Option.some Jvm.ClassFile.FieldType.int)) (xRm g S 8) (xPre g D A [.ref x0, .int x1, .int x2] S) (xTi g D A w) (xTx g D A w) (g.2.1 - xTop S) (g.2.2.1 - xSl S) A := by
  refine x_startT (own := RX1) (by decide +kernel) rfl (Nat.le_of_ble_eq_true rfl) (fun p e s m below meth c ls X hr hlk hnm hout hw hl => ?_)
  have hw0 := hw
  obtain ⟨hx, hb, -, hown, hts, -⟩ := id X
  have hl : lv_has ls 4 [(0, .ref x0), (1, .int x1), (2, .int x2)] := hl
  have hg : ∀ (H : Heap) (locs : List Loc) (cells slots : Nat), xW g D A S s H → va_S A s.heap H locs → W p l e (xRm g S 8) s m ([.ref x0, .int x1, .int x2] : List Value).toArray below meth c H locs cells slots (vx_MQ below (xTi g D A w) (xTx g D A w) ([.ref x0, .int x1, .int x2] : List Value).toArray s (g.2.1 - xTop S) (g.2.2.1 - xSl S) A) (F0 m 0 ls []) := by
    intro H locs cells slots hw hS
    unfold kX_X1_crack at hm
    refine lv_aload_n hx hb dX1_crack_0 rfl (lv_at hl 0 rfl) ?_
    refine lv_iload_n hx hb dX1_crack_1 rfl (lv_at hl 1 rfl) ?_
    obtain ⟨u1, hu1, hm⟩ := ob_s hm
    obtain ⟨w2, hw2, hm⟩ := tb_s hm
    refine xt_retv hS (xt_runV X hw (met_X1_aCup hlT N S x0 x1 w2 hw2) (x_cv X (lv := 6) (by omega) (by decide) cx_X1_aCup (lw_V q1240 q1242 qs40 q115 q1243)) xc1 hu1 rfl hl.1 rfl (Nat.le_of_ble_eq_true rfl) dX1_crack_2) (fun t1 t2 u E9 ce q9 H1 locs1 hu ht => xt_pass X hlk hout (tc_r hu hm) ht (x_fits (lv2 := 0) X hw t1 t2).1 (x_fits (lv2 := 0) X hw t1 t2).2) (fun r3 hr3 H locs cells slots hw hS => ?_)
    replace hm := tc_l hr3 hm
    refine lv_aload_n hx hb dX1_crack_5 rfl (lv_at hl 0 rfl) ?_
    obtain ⟨v4, hv4, hm⟩ := ob_s hm
    refine xr_val X hw xc1 in_X1 2 (by decide) q281 (f_obj_s hv4) dX1_crack_6 ?_
    obtain ⟨v5, hv5, hm⟩ := ob_s hm
    refine xr_valN X hw xc2 in_X3 0 (by decide) q211 (f_obj_s hv5) dX1_crack_9 ?_
    refine lv_iload_n hx hb dX1_crack_12 rfl (lv_at hl 1 rfl) ?_
    obtain ⟨v6, hv6, hm⟩ := ob_s hm
    refine xr_iald X hw hv6 dX1_crack_13 ?_
    refine lv_istore_n (lv' := [(3, .int v6), (0, .ref x0), (1, .int x1), (2, .int x2)]) hx hb dX1_crack_14 rfl hl (by decide) rfl (fun ls hl => ?_)
    refine lv_iload_n hx hb dX1_crack_15 rfl (lv_at hl 3 rfl) ?_
    refine lv_iconst (v := 1) hx hb dX1_crack_16 (by decide) ?_
    refine lv_bipush (v := 30) hx hb dX1_crack_17 (by decide) ?_
    obtain ⟨w7, hw7, hm⟩ := ob_s hm
    refine xr_reti hS (xr_runS X hw (met_X1_in N r3 x2 1 30 w7 hw7) (x_cs X (lv := 0) (by omega) (by decide) cx_X1_in (lw_S q336 q337 q115 q338)) rfl hl.1 rfl (Nat.le_of_ble_eq_true rfl) dX1_crack_19) (fun H locs cells slots hw hS => ?_)
    refine lv_if_eq (tgt := 30) hx hb dX1_crack_22 (by decide) (fun c8 => ?_) (fun c8 => ?_)
    · replace hm := if_t c8 hm
      exact wkX_X1_crack_30 X hr hlk hnm hlT hout hw0 N r3 x0 H locs ls _ _ hm hw hS (lv_sub hl [1] rfl)
    · replace hm := if_f c8 hm
      refine lv_iload_n hx hb dX1_crack_25 rfl (lv_at hl 3 rfl) ?_
      refine lv_iload_n hx hb dX1_crack_26 rfl (lv_at hl 0 rfl) ?_
      refine lv_icmp_ne (tgt := 36) hx hb dX1_crack_27 (by decide) (fun c9 => ?_) (fun c9 => ?_)
      · replace hm := if_f c9 hm
        refine lv_aload_n hx hb dX1_crack_36 rfl (lv_at hl 1 rfl) ?_
        obtain ⟨u10, hu10, hm⟩ := ob_s hm
        obtain ⟨w11, hw11, hm⟩ := ob_s hm
        refine xr_retv hS (xr_runV X hw (met_X1_keep N r3 x0 w11 hw11) (x_cv X (lv := 7) (by omega) (by decide) cx_X1_keep (lw_V q343 q345 qs1 q115 q346)) xc1 hu10 rfl hl.1 rfl (Nat.le_of_ble_eq_true rfl) dX1_crack_37) (fun H locs cells slots hw hS => ?_)
        refine lv_aload_n hx hb dX1_crack_40 rfl (lv_at hl 1 rfl) ?_
        obtain ⟨v12, hv12, hm⟩ := ob_s hm
        refine xr_val X hw xc1 in_X1 2 (by decide) q281 (f_obj_s hv12) dX1_crack_41 ?_
        refine lv_iload_n hx hb dX1_crack_44 rfl (lv_at hl 2 rfl) ?_
        refine lv_iload_n hx hb dX1_crack_45 rfl (lv_at hl 3 rfl) ?_
        obtain ⟨u13, hu13, hm⟩ := ob_s hm
        obtain ⟨w14, hw14, hm⟩ := ob_s hm
        refine xr_retv hS (xr_runV X hw (met_X3_crack N w11 v12 x1 x2 w14 hw14) (x_cv X (lv := 1) (by omega) (by decide) cx_X3_crack (lw_V q1295 q1296 q1297 q120 q1298)) xc2 hu13 rfl hl.1 rfl (Nat.le_of_ble_eq_true rfl) dX1_crack_46) (fun H locs cells slots hw hS => ?_)
        refine lv_iload_n hx hb dX1_crack_49 rfl (lv_at hl 0 rfl) ?_
        obtain rfl := Option.some.inj hm
        exact xt_iret (v := v6) X hr hlk hw hS rfl dX1_crack_50
      · replace hm := if_t c9 hm
        exact wkX_X1_crack_30 X hr hlk hnm hlT hout hw0 N r3 x0 H locs ls _ _ hm hw hS (lv_sub hl [1] rfl)
  exact hg _ _ _ _ hw va_S.rf
/-! DripCups.oneOf -/
def kX_X1_oneOf (g : XC) (N : Nat) (S : XS) (x0 : Int32) (x1 : Int32) : Option ((XS) ⊕ XT) :=
  (kX_X1_in g N x0 0 x1).bind fun w1 =>
  tbind (kX_X1_found g N S w1) fun r3 =>
  some (.inl r3)
theorem cx_X1_oneOf : yX1_oneOf.cls ≠ "java/lang/invoke/MethodHandle" ∧ yX1_oneOf.cls ≠ "java/lang/invoke/VarHandle" ∧ (parseMethodDescriptor yX1_oneOf.desc).map (fun d => d.parameters.length) = some 2 := by decide +kernel
theorem met_X1_oneOf {l : Launch} {g : XC} {D : va_G} {A : Nat → Prop} (hlT : l.stackTraces = false) (N : Nat) (S : XS) (x0 : Int32) (x1 : Int32) (w : (XS) ⊕ XT) (hm : kX_X1_oneOf g N S x0 x1 = some w) : vx_Met l yX1_oneOf (ws_ yX1_oneOf cX1_oneOf 2 (Option.none : Option Jvm.ClassFile.FieldType)) (xRm g S 6) (xPre g D A [.int x0, .int x1] S) (xTv g D A w) (xTx g D A w) (g.2.1 - xTop S) (g.2.2.1 - xSl S) A := by
  refine x_startT (own := RX1) (by decide +kernel) rfl (Nat.le_of_ble_eq_true rfl) (fun p e s m below meth c ls X hr hlk hnm hout hw hl => ?_)
  have hw0 := hw
  obtain ⟨hx, hb, -, hown, hts, -⟩ := id X
  have hl : lv_has ls 2 [(0, .int x0), (1, .int x1)] := hl
  have hg : ∀ (H : Heap) (locs : List Loc) (cells slots : Nat), xW g D A S s H → va_S A s.heap H locs → W p l e (xRm g S 6) s m ([.int x0, .int x1] : List Value).toArray below meth c H locs cells slots (vx_MQ below (xTv g D A w) (xTx g D A w) ([.int x0, .int x1] : List Value).toArray s (g.2.1 - xTop S) (g.2.2.1 - xSl S) A) (F0 m 0 ls []) := by
    intro H locs cells slots hw hS
    unfold kX_X1_oneOf at hm
    refine lv_iload_n hx hb dX1_oneOf_0 rfl (lv_at hl 0 rfl) ?_
    refine lv_iconst (v := 0) hx hb dX1_oneOf_1 (by decide) ?_
    refine lv_iload_n hx hb dX1_oneOf_2 rfl (lv_at hl 1 rfl) ?_
    obtain ⟨w1, hw1, hm⟩ := ob_s hm
    refine xr_reti hS (xr_runS X hw (met_X1_in N S x0 0 x1 w1 hw1) (x_cs X (lv := 0) (by omega) (by decide) cx_X1_in (lw_S q336 q337 q115 q338)) rfl hl.1 rfl (Nat.le_of_ble_eq_true rfl) dX1_oneOf_3) (fun H locs cells slots hw hS => ?_)
    obtain ⟨w2, hw2, hm⟩ := tb_s hm
    refine xt_retv hS (xt_runS X hw (met_X1_found hlT N S w1 w2 hw2) (x_cs X (lv := 5) (by omega) (by decide) cx_X1_found (lw_S q1215 q1216 q115 q1217)) rfl hl.1 rfl (Nat.le_of_ble_eq_true rfl) dX1_oneOf_6) (fun t1 t2 u E9 ce q9 H1 locs1 hu ht => xt_pass X hlk hout (tc_r hu hm) ht (x_fits (lv2 := 0) X hw t1 t2).1 (x_fits (lv2 := 0) X hw t1 t2).2) (fun r3 hr3 H locs cells slots hw hS => ?_)
    replace hm := tc_l hr3 hm
    obtain rfl := Option.some.inj hm
    exact xt_vret X hr hlk hw hS dX1_oneOf_9
  exact hg _ _ _ _ hw va_S.rf
/-! DripCups.then -/
def kX_X1_then (g : XC) (N : Nat) (S : XS) (x0 : Nat) (x1 : Int32) (x2 : Int32) (x3 : Int32) : Option ((XS × Int32) ⊕ XT) :=
  (f_cls S 1 x0).bind fun u1 =>
  tbind (kX_X1_aCup g N S x0 x1) fun r3 =>
  tbind (kX_X1_oneOf g N r3 x3 1) fun r5 =>
  (kX_X1_in g N x2 0 200).bind fun w6 =>
  tbind (kX_X1_right g N r5 w6) fun r8 =>
  if x3 = 0 then
    (f_cls r8 1 x0).bind fun u17 =>
    (kX_X1_tryOn g N r8 x0 x2).bind fun w18 =>
    (f_obj w18.1 2 w18.2 1).bind fun v19 =>
    (a_int w18.1 0 v19 x1).bind fun v20 =>
    some (.inl (w18.1, v20))
  else
    (f_cls r8 1 x0).bind fun u10 =>
    (kX_X1_tryOn g N r8 x0 x2).bind fun w11 =>
    (f_obj w11.1 2 w11.2 2).bind fun v12 =>
    (a_int w11.1 0 v12 x1).bind fun v13 =>
    (f_obj w11.1 1 x0 2).bind fun v14 =>
    (f_obj w11.1 2 v14 2).bind fun v15 =>
    (a_int w11.1 0 v15 x1).bind fun v16 =>
    some (.inl (w11.1, (v13 - v16)))
theorem cx_X1_then : yX1_then.cls = RX1 ∧ yX1_then.cls ≠ "java/lang/invoke/MethodHandle" ∧ yX1_then.cls ≠ "java/lang/invoke/VarHandle" ∧ (parseMethodDescriptor yX1_then.desc).map (fun d => d.parameters.length) = some 3 := by decide +kernel
theorem met_X1_then {l : Launch} {g : XC} {D : va_G} {A : Nat → Prop} (hlT : l.stackTraces = false) (N : Nat) (S : XS) (x0 : Nat) (x1 : Int32) (x2 : Int32) (x3 : Int32) (w : (XS × Int32) ⊕ XT) (hm : kX_X1_then g N S x0 x1 x2 x3 = some w) : vx_Met l yX1_then (ws_ yX1_then cX1_then 4 (Option.some Jvm.ClassFile.FieldType.int)) (xRm g S 83) (xPre g D A [.ref x0, .int x1, .int x2, .int x3] S) (xTi g D A w) (xTx g D A w) (g.2.1 - xTop S) (g.2.2.1 - xSl S) A := by
  refine x_startT (own := RX1) (by decide +kernel) rfl (Nat.le_of_ble_eq_true rfl) (fun p e s m below meth c ls X hr hlk hnm hout hw hl => ?_)
  have hw0 := hw
  obtain ⟨hx, hb, -, hown, hts, -⟩ := id X
  have hl : lv_has ls 4 [(0, .ref x0), (1, .int x1), (2, .int x2), (3, .int x3)] := hl
  have hg : ∀ (H : Heap) (locs : List Loc) (cells slots : Nat), xW g D A S s H → va_S A s.heap H locs → W p l e (xRm g S 83) s m ([.ref x0, .int x1, .int x2, .int x3] : List Value).toArray below meth c H locs cells slots (vx_MQ below (xTi g D A w) (xTx g D A w) ([.ref x0, .int x1, .int x2, .int x3] : List Value).toArray s (g.2.1 - xTop S) (g.2.2.1 - xSl S) A) (F0 m 0 ls []) := by
    intro H locs cells slots hw hS
    unfold kX_X1_then at hm
    refine lv_aload_n hx hb dX1_then_0 rfl (lv_at hl 0 rfl) ?_
    refine lv_iload_n hx hb dX1_then_1 rfl (lv_at hl 1 rfl) ?_
    obtain ⟨u1, hu1, hm⟩ := ob_s hm
    obtain ⟨w2, hw2, hm⟩ := tb_s hm
    refine xt_retv hS (xt_runV X hw (met_X1_aCup hlT N S x0 x1 w2 hw2) (x_cv X (lv := 6) (by omega) (by decide) cx_X1_aCup (lw_V q1240 q1242 qs40 q115 q1243)) xc1 hu1 rfl hl.1 rfl (Nat.le_of_ble_eq_true rfl) dX1_then_2) (fun t1 t2 u E9 ce q9 H1 locs1 hu ht => xt_pass X hlk hout (tc_r hu hm) ht (x_fits (lv2 := 0) X hw t1 t2).1 (x_fits (lv2 := 0) X hw t1 t2).2) (fun r3 hr3 H locs cells slots hw hS => ?_)
    replace hm := tc_l hr3 hm
    refine lv_iload_n hx hb dX1_then_5 rfl (lv_at hl 3 rfl) ?_
    refine lv_iconst (v := 1) hx hb dX1_then_6 (by decide) ?_
    obtain ⟨w4, hw4, hm⟩ := tb_s hm
    refine xt_retv hS (xt_runS X hw (met_X1_oneOf hlT N r3 x3 1 w4 hw4) (x_cs X (lv := 6) (by omega) (by decide) cx_X1_oneOf (lw_S q1306 q1307 q115 q1308)) rfl hl.1 rfl (Nat.le_of_ble_eq_true rfl) dX1_then_7) (fun t1 t2 u E9 ce q9 H1 locs1 hu ht => xt_pass X hlk hout (tc_r hu hm) ht (x_fits (lv2 := 0) X hw t1 t2).1 (x_fits (lv2 := 0) X hw t1 t2).2) (fun r5 hr5 H locs cells slots hw hS => ?_)
    replace hm := tc_l hr5 hm
    refine lv_iload_n hx hb dX1_then_10 rfl (lv_at hl 2 rfl) ?_
    refine lv_iconst (v := 0) hx hb dX1_then_11 (by decide) ?_
    refine lv_sipush (v := 200) hx hb dX1_then_12 (by decide) ?_
    obtain ⟨w6, hw6, hm⟩ := ob_s hm
    refine xr_reti hS (xr_runS X hw (met_X1_in N r5 x2 0 200 w6 hw6) (x_cs X (lv := 0) (by omega) (by decide) cx_X1_in (lw_S q336 q337 q115 q338)) rfl hl.1 rfl (Nat.le_of_ble_eq_true rfl) dX1_then_15) (fun H locs cells slots hw hS => ?_)
    obtain ⟨w7, hw7, hm⟩ := tb_s hm
    refine xt_retv hS (xt_runS X hw (met_X1_right hlT N r5 w6 w7 hw7) (x_cs X (lv := 5) (by omega) (by decide) cx_X1_right (lw_S q655 q656 q115 q657)) rfl hl.1 rfl (Nat.le_of_ble_eq_true rfl) dX1_then_18) (fun t1 t2 u E9 ce q9 H1 locs1 hu ht => xt_pass X hlk hout (tc_r hu hm) ht (x_fits (lv2 := 0) X hw t1 t2).1 (x_fits (lv2 := 0) X hw t1 t2).2) (fun r8 hr8 H locs cells slots hw hS => ?_)
    replace hm := tc_l hr8 hm
    refine lv_iload_n hx hb dX1_then_21 rfl (lv_at hl 3 rfl) ?_
    refine lv_if_ne (tgt := 38) hx hb dX1_then_22 (by decide) (fun c9 => ?_) (fun c9 => ?_)
    · replace hm := if_f c9 hm
      refine lv_aload_n hx hb dX1_then_38 rfl (lv_at hl 0 rfl) ?_
      refine lv_iload_n hx hb dX1_then_39 rfl (lv_at hl 2 rfl) ?_
      obtain ⟨u10, hu10, hm⟩ := ob_s hm
      obtain ⟨w11, hw11, hm⟩ := ob_s hm
      refine xr_retr hS (xr_runV X hw (met_X1_tryOn N r8 x0 x2 w11 hw11) (x_cv X (lv := 82) (by omega) (by decide) cx_X1_tryOn (lw_V q1309 q1311 qs43 q115 q1312)) xc1 hu10 rfl hl.1 rfl (Nat.le_of_ble_eq_true rfl) dX1_then_40) (fun H locs cells slots hw hS => ?_)
      obtain ⟨v12, hv12, hm⟩ := ob_s hm
      refine xr_valN X hw xc2 in_X3 2 (by decide) q217 (f_obj_s hv12) dX1_then_43 ?_
      refine lv_iload_n hx hb dX1_then_46 rfl (lv_at hl 1 rfl) ?_
      obtain ⟨v13, hv13, hm⟩ := ob_s hm
      refine xr_iald X hw hv13 dX1_then_47 ?_
      refine lv_aload_n hx hb dX1_then_48 rfl (lv_at hl 0 rfl) ?_
      obtain ⟨v14, hv14, hm⟩ := ob_s hm
      refine xr_val X hw xc1 in_X1 2 (by decide) q281 (f_obj_s hv14) dX1_then_49 ?_
      obtain ⟨v15, hv15, hm⟩ := ob_s hm
      refine xr_valN X hw xc2 in_X3 2 (by decide) q217 (f_obj_s hv15) dX1_then_52 ?_
      refine lv_iload_n hx hb dX1_then_55 rfl (lv_at hl 1 rfl) ?_
      obtain ⟨v16, hv16, hm⟩ := ob_s hm
      refine xr_iald X hw hv16 dX1_then_56 ?_
      refine lv_isub hx hb dX1_then_57 ?_
      obtain rfl := Option.some.inj hm
      exact xt_iret (v := (v13 - v16)) X hr hlk hw hS rfl dX1_then_58
    · replace hm := if_t c9 hm
      refine lv_aload_n hx hb dX1_then_25 rfl (lv_at hl 0 rfl) ?_
      refine lv_iload_n hx hb dX1_then_26 rfl (lv_at hl 2 rfl) ?_
      obtain ⟨u17, hu17, hm⟩ := ob_s hm
      obtain ⟨w18, hw18, hm⟩ := ob_s hm
      refine xr_retr hS (xr_runV X hw (met_X1_tryOn N r8 x0 x2 w18 hw18) (x_cv X (lv := 82) (by omega) (by decide) cx_X1_tryOn (lw_V q1309 q1311 qs43 q115 q1312)) xc1 hu17 rfl hl.1 rfl (Nat.le_of_ble_eq_true rfl) dX1_then_27) (fun H locs cells slots hw hS => ?_)
      obtain ⟨v19, hv19, hm⟩ := ob_s hm
      refine xr_valN X hw xc2 in_X3 1 (by decide) q214 (f_obj_s hv19) dX1_then_30 ?_
      refine lv_iload_n hx hb dX1_then_33 rfl (lv_at hl 1 rfl) ?_
      obtain ⟨v20, hv20, hm⟩ := ob_s hm
      refine xr_iald X hw hv20 dX1_then_34 ?_
      refine lv_goto (tgt := 58) hx hb dX1_then_35 (by decide) ?_
      obtain rfl := Option.some.inj hm
      exact xt_iret (v := v20) X hr hlk hw hS rfl dX1_then_58
  exact hg _ _ _ _ hw va_S.rf
/-! DripCups.tipping -/
def kX_X1_tipping (g : XC) (N : Nat) (S : XS) (x0 : Nat) (x1 : Int32) : Option ((XS × Int32) ⊕ XT) :=
  (kX_X1_in g N x1 1 200).bind fun w1 =>
  tbind (kX_X1_right g N S w1) fun r3 =>
  (f_cls r3 1 x0).bind fun u4 =>
  (kX_X1_tryOn g N r3 x0 x1).bind fun w5 =>
  (f_int w5.1 2 w5.2 13).bind fun v6 =>
  some (.inl (w5.1, v6))
theorem cx_X1_tipping : yX1_tipping.cls = RX1 ∧ yX1_tipping.cls ≠ "java/lang/invoke/MethodHandle" ∧ yX1_tipping.cls ≠ "java/lang/invoke/VarHandle" ∧ (parseMethodDescriptor yX1_tipping.desc).map (fun d => d.parameters.length) = some 1 := by decide +kernel
theorem met_X1_tipping {l : Launch} {g : XC} {D : va_G} {A : Nat → Prop} (hlT : l.stackTraces = false) (N : Nat) (S : XS) (x0 : Nat) (x1 : Int32) (w : (XS × Int32) ⊕ XT) (hm : kX_X1_tipping g N S x0 x1 = some w) : vx_Met l yX1_tipping (ws_ yX1_tipping cX1_tipping 2 (Option.some Jvm.ClassFile.FieldType.int)) (xRm g S 83) (xPre g D A [.ref x0, .int x1] S) (xTi g D A w) (xTx g D A w) (g.2.1 - xTop S) (g.2.2.1 - xSl S) A := by
  refine x_startT (own := RX1) (by decide +kernel) rfl (Nat.le_of_ble_eq_true rfl) (fun p e s m below meth c ls X hr hlk hnm hout hw hl => ?_)
  have hw0 := hw
  obtain ⟨hx, hb, -, hown, hts, -⟩ := id X
  have hl : lv_has ls 2 [(0, .ref x0), (1, .int x1)] := hl
  have hg : ∀ (H : Heap) (locs : List Loc) (cells slots : Nat), xW g D A S s H → va_S A s.heap H locs → W p l e (xRm g S 83) s m ([.ref x0, .int x1] : List Value).toArray below meth c H locs cells slots (vx_MQ below (xTi g D A w) (xTx g D A w) ([.ref x0, .int x1] : List Value).toArray s (g.2.1 - xTop S) (g.2.2.1 - xSl S) A) (F0 m 0 ls []) := by
    intro H locs cells slots hw hS
    unfold kX_X1_tipping at hm
    refine lv_iload_n hx hb dX1_tipping_0 rfl (lv_at hl 1 rfl) ?_
    refine lv_iconst (v := 1) hx hb dX1_tipping_1 (by decide) ?_
    refine lv_sipush (v := 200) hx hb dX1_tipping_2 (by decide) ?_
    obtain ⟨w1, hw1, hm⟩ := ob_s hm
    refine xr_reti hS (xr_runS X hw (met_X1_in N S x1 1 200 w1 hw1) (x_cs X (lv := 0) (by omega) (by decide) cx_X1_in (lw_S q336 q337 q115 q338)) rfl hl.1 rfl (Nat.le_of_ble_eq_true rfl) dX1_tipping_5) (fun H locs cells slots hw hS => ?_)
    obtain ⟨w2, hw2, hm⟩ := tb_s hm
    refine xt_retv hS (xt_runS X hw (met_X1_right hlT N S w1 w2 hw2) (x_cs X (lv := 5) (by omega) (by decide) cx_X1_right (lw_S q655 q656 q115 q657)) rfl hl.1 rfl (Nat.le_of_ble_eq_true rfl) dX1_tipping_8) (fun t1 t2 u E9 ce q9 H1 locs1 hu ht => xt_pass X hlk hout (tc_r hu hm) ht (x_fits (lv2 := 0) X hw t1 t2).1 (x_fits (lv2 := 0) X hw t1 t2).2) (fun r3 hr3 H locs cells slots hw hS => ?_)
    replace hm := tc_l hr3 hm
    refine lv_aload_n hx hb dX1_tipping_11 rfl (lv_at hl 0 rfl) ?_
    refine lv_iload_n hx hb dX1_tipping_12 rfl (lv_at hl 1 rfl) ?_
    obtain ⟨u4, hu4, hm⟩ := ob_s hm
    obtain ⟨w5, hw5, hm⟩ := ob_s hm
    refine xr_retr hS (xr_runV X hw (met_X1_tryOn N r3 x0 x1 w5 hw5) (x_cv X (lv := 82) (by omega) (by decide) cx_X1_tryOn (lw_V q1309 q1311 qs43 q115 q1312)) xc1 hu4 rfl hl.1 rfl (Nat.le_of_ble_eq_true rfl) dX1_tipping_13) (fun H locs cells slots hw hS => ?_)
    obtain ⟨v6, hv6, hm⟩ := ob_s hm
    refine xr_valN X hw xc2 in_X3 13 (by decide) q238 (f_int_s hv6) dX1_tipping_16 ?_
    obtain rfl := Option.some.inj hm
    exact xt_iret (v := v6) X hr hlk hw hS rfl dX1_tipping_19
  exact hg _ _ _ _ hw va_S.rf
/-! DripCups.next -/
def kX_X1_next (g : XC) (N : Nat) (S : XS) (x0 : Nat) (x1 : Int32) : Option ((XS × Int32) ⊕ XT) :=
  (f_cls S 1 x0).bind fun u1 =>
  tbind (kX_X1_aCup g N S x0 x1) fun r3 =>
  (f_cls r3 1 x0).bind fun u4 =>
  (kX_X1_firstOf g N r3 x0 ((1 : Int32) <<< (x1 &&& 31)) 200).bind fun w5 =>
  some (.inl (w5.1, w5.2))
theorem cx_X1_next : yX1_next.cls = RX1 ∧ yX1_next.cls ≠ "java/lang/invoke/MethodHandle" ∧ yX1_next.cls ≠ "java/lang/invoke/VarHandle" ∧ (parseMethodDescriptor yX1_next.desc).map (fun d => d.parameters.length) = some 1 := by decide +kernel
theorem met_X1_next {l : Launch} {g : XC} {D : va_G} {A : Nat → Prop} (hlT : l.stackTraces = false) (N : Nat) (S : XS) (x0 : Nat) (x1 : Int32) (w : (XS × Int32) ⊕ XT) (hm : kX_X1_next g N S x0 x1 = some w) : vx_Met l yX1_next (ws_ yX1_next cX1_next 2 (Option.some Jvm.ClassFile.FieldType.int)) (xRm g S 83) (xPre g D A [.ref x0, .int x1] S) (xTi g D A w) (xTx g D A w) (g.2.1 - xTop S) (g.2.2.1 - xSl S) A := by
  refine x_startT (own := RX1) (by decide +kernel) rfl (Nat.le_of_ble_eq_true rfl) (fun p e s m below meth c ls X hr hlk hnm hout hw hl => ?_)
  have hw0 := hw
  obtain ⟨hx, hb, -, hown, hts, -⟩ := id X
  have hl : lv_has ls 2 [(0, .ref x0), (1, .int x1)] := hl
  have hg : ∀ (H : Heap) (locs : List Loc) (cells slots : Nat), xW g D A S s H → va_S A s.heap H locs → W p l e (xRm g S 83) s m ([.ref x0, .int x1] : List Value).toArray below meth c H locs cells slots (vx_MQ below (xTi g D A w) (xTx g D A w) ([.ref x0, .int x1] : List Value).toArray s (g.2.1 - xTop S) (g.2.2.1 - xSl S) A) (F0 m 0 ls []) := by
    intro H locs cells slots hw hS
    unfold kX_X1_next at hm
    refine lv_aload_n hx hb dX1_next_0 rfl (lv_at hl 0 rfl) ?_
    refine lv_iload_n hx hb dX1_next_1 rfl (lv_at hl 1 rfl) ?_
    obtain ⟨u1, hu1, hm⟩ := ob_s hm
    obtain ⟨w2, hw2, hm⟩ := tb_s hm
    refine xt_retv hS (xt_runV X hw (met_X1_aCup hlT N S x0 x1 w2 hw2) (x_cv X (lv := 6) (by omega) (by decide) cx_X1_aCup (lw_V q1240 q1242 qs40 q115 q1243)) xc1 hu1 rfl hl.1 rfl (Nat.le_of_ble_eq_true rfl) dX1_next_2) (fun t1 t2 u E9 ce q9 H1 locs1 hu ht => xt_pass X hlk hout (tc_r hu hm) ht (x_fits (lv2 := 0) X hw t1 t2).1 (x_fits (lv2 := 0) X hw t1 t2).2) (fun r3 hr3 H locs cells slots hw hS => ?_)
    replace hm := tc_l hr3 hm
    refine lv_aload_n hx hb dX1_next_5 rfl (lv_at hl 0 rfl) ?_
    refine lv_iconst (v := 1) hx hb dX1_next_6 (by decide) ?_
    refine lv_iload_n hx hb dX1_next_7 rfl (lv_at hl 1 rfl) ?_
    refine lv_ishl hx hb dX1_next_8 ?_
    refine lv_sipush (v := 200) hx hb dX1_next_9 (by decide) ?_
    obtain ⟨u4, hu4, hm⟩ := ob_s hm
    obtain ⟨w5, hw5, hm⟩ := ob_s hm
    refine xr_reti hS (xr_runV X hw (met_X1_firstOf N r3 x0 ((1 : Int32) <<< (x1 &&& 31)) 200 w5 hw5) (x_cv X (lv := 82) (by omega) (by decide) cx_X1_firstOf (lw_V q1327 q1329 qs44 q115 q1330)) xc1 hu4 rfl hl.1 rfl (Nat.le_of_ble_eq_true rfl) dX1_next_12) (fun H locs cells slots hw hS => ?_)
    obtain rfl := Option.some.inj hm
    exact xt_iret (v := w5.2) X hr hlk hw hS rfl dX1_next_15
  exact hg _ _ _ _ hw va_S.rf
/-! DripCups.someCups -/
def kX_X1_someCups (g : XC) (N : Nat) (S : XS) (x0 : Nat) (x1 : Int32) : Option ((XS) ⊕ XT) :=
  (f_obj S 1 x0 1).bind fun v1 =>
  (f_cls S 3 v1).bind fun u2 =>
  (kX_X2_cups g N S v1).bind fun w3 =>
  (kX_X1_in g N x1 0 (((1 : Int32) <<< (w3.2 &&& 31)) - 1)).bind fun w4 =>
  tbind (kX_X1_right g N w3.1 w4) fun r6 =>
  some (.inl r6)
theorem cx_X1_someCups : yX1_someCups.cls = RX1 ∧ yX1_someCups.cls ≠ "java/lang/invoke/MethodHandle" ∧ yX1_someCups.cls ≠ "java/lang/invoke/VarHandle" ∧ (parseMethodDescriptor yX1_someCups.desc).map (fun d => d.parameters.length) = some 1 := by decide +kernel
theorem met_X1_someCups {l : Launch} {g : XC} {D : va_G} {A : Nat → Prop} (hlT : l.stackTraces = false) (N : Nat) (S : XS) (x0 : Nat) (x1 : Int32) (w : (XS) ⊕ XT) (hm : kX_X1_someCups g N S x0 x1 = some w) : vx_Met l yX1_someCups (ws_ yX1_someCups cX1_someCups 2 (Option.none : Option Jvm.ClassFile.FieldType)) (xRm g S 6) (xPre g D A [.ref x0, .int x1] S) (xTv g D A w) (xTx g D A w) (g.2.1 - xTop S) (g.2.2.1 - xSl S) A := by
  refine x_startT (own := RX1) (by decide +kernel) rfl (Nat.le_of_ble_eq_true rfl) (fun p e s m below meth c ls X hr hlk hnm hout hw hl => ?_)
  have hw0 := hw
  obtain ⟨hx, hb, -, hown, hts, -⟩ := id X
  have hl : lv_has ls 2 [(0, .ref x0), (1, .int x1)] := hl
  have hg : ∀ (H : Heap) (locs : List Loc) (cells slots : Nat), xW g D A S s H → va_S A s.heap H locs → W p l e (xRm g S 6) s m ([.ref x0, .int x1] : List Value).toArray below meth c H locs cells slots (vx_MQ below (xTv g D A w) (xTx g D A w) ([.ref x0, .int x1] : List Value).toArray s (g.2.1 - xTop S) (g.2.2.1 - xSl S) A) (F0 m 0 ls []) := by
    intro H locs cells slots hw hS
    unfold kX_X1_someCups at hm
    refine lv_iload_n hx hb dX1_someCups_0 rfl (lv_at hl 1 rfl) ?_
    refine lv_iconst (v := 0) hx hb dX1_someCups_1 (by decide) ?_
    refine lv_iconst (v := 1) hx hb dX1_someCups_2 (by decide) ?_
    refine lv_aload_n hx hb dX1_someCups_3 rfl (lv_at hl 0 rfl) ?_
    obtain ⟨v1, hv1, hm⟩ := ob_s hm
    refine xr_val X hw xc1 in_X1 1 (by decide) q279 (f_obj_s hv1) dX1_someCups_4 ?_
    obtain ⟨u2, hu2, hm⟩ := ob_s hm
    obtain ⟨w3, hw3, hm⟩ := ob_s hm
    refine xr_reti hS (xr_runV X hw (met_X2_cups N S v1 w3 hw3) (x_cv X (lv := 1) (by omega) (by decide) cx_X2_cups (lw_V q1172 q463 q464 q116 q465)) xc3 hu2 rfl hl.1 rfl (Nat.le_of_ble_eq_true rfl) dX1_someCups_7) (fun H locs cells slots hw hS => ?_)
    refine lv_ishl hx hb dX1_someCups_10 ?_
    refine lv_iconst (v := 1) hx hb dX1_someCups_11 (by decide) ?_
    refine lv_isub hx hb dX1_someCups_12 ?_
    obtain ⟨w4, hw4, hm⟩ := ob_s hm
    refine xr_reti hS (xr_runS X hw (met_X1_in N w3.1 x1 0 (((1 : Int32) <<< (w3.2 &&& 31)) - 1) w4 hw4) (x_cs X (lv := 0) (by omega) (by decide) cx_X1_in (lw_S q336 q337 q115 q338)) rfl hl.1 rfl (Nat.le_of_ble_eq_true rfl) dX1_someCups_13) (fun H locs cells slots hw hS => ?_)
    obtain ⟨w5, hw5, hm⟩ := tb_s hm
    refine xt_retv hS (xt_runS X hw (met_X1_right hlT N w3.1 w4 w5 hw5) (x_cs X (lv := 5) (by omega) (by decide) cx_X1_right (lw_S q655 q656 q115 q657)) rfl hl.1 rfl (Nat.le_of_ble_eq_true rfl) dX1_someCups_16) (fun t1 t2 u E9 ce q9 H1 locs1 hu ht => xt_pass X hlk hout (tc_r hu hm) ht (x_fits (lv2 := 0) X hw t1 t2).1 (x_fits (lv2 := 0) X hw t1 t2).2) (fun r6 hr6 H locs cells slots hw hS => ?_)
    replace hm := tc_l hr6 hm
    obtain rfl := Option.some.inj hm
    exact xt_vret X hr hlk hw hS dX1_someCups_19
  exact hg _ _ _ _ hw va_S.rf
/-! DripCups.together -/
def kX_X1_together (g : XC) (N : Nat) (S : XS) (x0 : Nat) (x1 : Int32) : Option ((XS × Int32) ⊕ XT) :=
  (f_cls S 1 x0).bind fun u1 =>
  tbind (kX_X1_someCups g N S x0 x1) fun r3 =>
  (f_cls r3 1 x0).bind fun u4 =>
  (kX_X1_firstOf g N r3 x0 x1 200).bind fun w5 =>
  some (.inl (w5.1, w5.2))
theorem cx_X1_together : yX1_together.cls = RX1 ∧ yX1_together.cls ≠ "java/lang/invoke/MethodHandle" ∧ yX1_together.cls ≠ "java/lang/invoke/VarHandle" ∧ (parseMethodDescriptor yX1_together.desc).map (fun d => d.parameters.length) = some 1 := by decide +kernel
theorem met_X1_together {l : Launch} {g : XC} {D : va_G} {A : Nat → Prop} (hlT : l.stackTraces = false) (N : Nat) (S : XS) (x0 : Nat) (x1 : Int32) (w : (XS × Int32) ⊕ XT) (hm : kX_X1_together g N S x0 x1 = some w) : vx_Met l yX1_together (ws_ yX1_together cX1_together 2 (Option.some Jvm.ClassFile.FieldType.int)) (xRm g S 83) (xPre g D A [.ref x0, .int x1] S) (xTi g D A w) (xTx g D A w) (g.2.1 - xTop S) (g.2.2.1 - xSl S) A := by
  refine x_startT (own := RX1) (by decide +kernel) rfl (Nat.le_of_ble_eq_true rfl) (fun p e s m below meth c ls X hr hlk hnm hout hw hl => ?_)
  have hw0 := hw
  obtain ⟨hx, hb, -, hown, hts, -⟩ := id X
  have hl : lv_has ls 2 [(0, .ref x0), (1, .int x1)] := hl
  have hg : ∀ (H : Heap) (locs : List Loc) (cells slots : Nat), xW g D A S s H → va_S A s.heap H locs → W p l e (xRm g S 83) s m ([.ref x0, .int x1] : List Value).toArray below meth c H locs cells slots (vx_MQ below (xTi g D A w) (xTx g D A w) ([.ref x0, .int x1] : List Value).toArray s (g.2.1 - xTop S) (g.2.2.1 - xSl S) A) (F0 m 0 ls []) := by
    intro H locs cells slots hw hS
    unfold kX_X1_together at hm
    refine lv_aload_n hx hb dX1_together_0 rfl (lv_at hl 0 rfl) ?_
    refine lv_iload_n hx hb dX1_together_1 rfl (lv_at hl 1 rfl) ?_
    obtain ⟨u1, hu1, hm⟩ := ob_s hm
    obtain ⟨w2, hw2, hm⟩ := tb_s hm
    refine xt_retv hS (xt_runV X hw (met_X1_someCups hlT N S x0 x1 w2 hw2) (x_cv X (lv := 6) (by omega) (by decide) cx_X1_someCups (lw_V q1342 q1344 qs46 q115 q1345)) xc1 hu1 rfl hl.1 rfl (Nat.le_of_ble_eq_true rfl) dX1_together_2) (fun t1 t2 u E9 ce q9 H1 locs1 hu ht => xt_pass X hlk hout (tc_r hu hm) ht (x_fits (lv2 := 0) X hw t1 t2).1 (x_fits (lv2 := 0) X hw t1 t2).2) (fun r3 hr3 H locs cells slots hw hS => ?_)
    replace hm := tc_l hr3 hm
    refine lv_aload_n hx hb dX1_together_5 rfl (lv_at hl 0 rfl) ?_
    refine lv_iload_n hx hb dX1_together_6 rfl (lv_at hl 1 rfl) ?_
    refine lv_sipush (v := 200) hx hb dX1_together_7 (by decide) ?_
    obtain ⟨u4, hu4, hm⟩ := ob_s hm
    obtain ⟨w5, hw5, hm⟩ := ob_s hm
    refine xr_reti hS (xr_runV X hw (met_X1_firstOf N r3 x0 x1 200 w5 hw5) (x_cv X (lv := 82) (by omega) (by decide) cx_X1_firstOf (lw_V q1327 q1329 qs44 q115 q1330)) xc1 hu4 rfl hl.1 rfl (Nat.le_of_ble_eq_true rfl) dX1_together_10) (fun H locs cells slots hw hS => ?_)
    obtain rfl := Option.some.inj hm
    exact xt_iret (v := w5.2) X hr hlk hw hS rfl dX1_together_13
  exact hg _ _ _ _ hw va_S.rf
/-! DripCups.sound -/
def kX_X1_sound_95 (g : XC) (N : Nat) (K42 : XS → Nat → Int32 → Int32 → Int32 → Int32 → Int32 → Int32 → Int32 → Option ((XS × Int32) ⊕ XT)) (S : XS) (x0 : Nat) (x1 : Int32) (x2 : Int32) (x3 : Int32) (x4 : Int32) (x5 : Int32) (x6 : Int32) (x7 : Int32) (x8 : Int32) : Option ((XS × Int32) ⊕ XT) :=
  bnd (if (x6 : Int32) < x8 then x8 else x6) fun v1 =>
  K42 S x0 x1 x2 x3 x4 x5 v1 (x7 + 1)
theorem wkX_X1_sound_95 {p : Program} {l : Launch} {e : Env} {s : State} {m : MethodId} {args : Array Value} {below : List Frame} {meth : Method} {c : Code} {g : XC} {D : va_G} {A : Nat → Prop} {S0 : XS} {w : (XS × Int32) ⊕ XT} (X : xX g D A RX1 S0 p s m args c cX1_sound 9) (hr : meth.sig.returnType = (Option.some Jvm.ClassFile.FieldType.int)) (hlk : meth.locks = false) (hnm : meth.name = yX1_sound.name) (hlT : l.stackTraces = false) (hout : ∀ x ∈ c.exceptionTable.toList, False) (hw0 : xW g D A S0 s s.heap) (N : Nat) (K42 : XS → Nat → Int32 → Int32 → Int32 → Int32 → Int32 → Int32 → Int32 → Option ((XS × Int32) ⊕ XT))
    (hK42 : ∀ (S : XS) (x0 : Nat) (x1 : Int32) (x2 : Int32) (x3 : Int32) (x4 : Int32) (x5 : Int32) (x6 : Int32) (x7 : Int32) (H : Heap) (locs : List Loc) (ls : Array Slot) (cells slots : Nat), K42 S x0 x1 x2 x3 x4 x5 x6 x7 = some w → xW g D A S s H → va_S A s.heap H locs → lv_has ls 9 [(0, .ref x0), (1, .int x1), (2, .int x2), (3, .int x3), (4, .int x4), (5, .int x5), (6, .int x6), (7, .int x7)] → W p l e (xRm g S0 81) s m args below meth c H locs cells slots (vx_MQ below (xTi g D A w) (xTx g D A w) args s (g.2.1 - xTop S0) (g.2.2.1 - xSl S0) A) (F0 m 42 ls [])) :
    ∀ (S : XS) (x0 : Nat) (x1 : Int32) (x2 : Int32) (x3 : Int32) (x4 : Int32) (x5 : Int32) (x6 : Int32) (x7 : Int32) (x8 : Int32) (H : Heap) (locs : List Loc) (ls : Array Slot) (cells slots : Nat), kX_X1_sound_95 g N K42 S x0 x1 x2 x3 x4 x5 x6 x7 x8 = some w → xW g D A S s H → va_S A s.heap H locs → lv_has ls 9 [(0, .ref x0), (1, .int x1), (2, .int x2), (3, .int x3), (4, .int x4), (5, .int x5), (6, .int x6), (7, .int x7), (8, .int x8)] → W p l e (xRm g S0 81) s m args below meth c H locs cells slots (vx_MQ below (xTi g D A w) (xTx g D A w) args s (g.2.1 - xTop S0) (g.2.2.1 - xSl S0) A) (F0 m 95 ls []) := by
  obtain ⟨hx, hb, -, hown, hts, -⟩ := id X
  intro S x0 x1 x2 x3 x4 x5 x6 x7 x8 H locs ls cells slots hm hw hS hl
  unfold kX_X1_sound_95 at hm
  refine lv_iload hx hb dX1_sound_95 (lv_at hl 6 rfl) ?_
  refine lv_iload hx hb dX1_sound_97 (lv_at hl 8 rfl) ?_
  refine xr_mmax X hw hl.1 q1250 q383 q127 q384 (Nat.le_of_ble_eq_true rfl) dX1_sound_99 (fun cells slots => ?_)
  refine lv_topi (fun v1 ev1 => ?_)
  replace hm := bnd_s hm ev1
  refine lv_istore (lv' := [(6, .int v1), (0, .ref x0), (1, .int x1), (2, .int x2), (3, .int x3), (4, .int x4), (5, .int x5), (7, .int x7), (8, .int x8)]) hx hb dX1_sound_102 hl (by decide) rfl (fun ls hl => ?_)
  refine lv_iinc (v := (x7 + 1)) (lv' := [(7, .int (x7 + 1)), (6, .int v1), (0, .ref x0), (1, .int x1), (2, .int x2), (3, .int x3), (4, .int x4), (5, .int x5), (8, .int x8)]) hx hb dX1_sound_104 hl (k := 7) rfl rfl (by decide) rfl (fun ls hl => ?_)
  refine lv_goto (tgt := 42) hx hb dX1_sound_107 (by decide) ?_
  exact hK42 S x0 x1 x2 x3 x4 x5 v1 (x7 + 1) H locs ls _ _ hm hw hS (lv_sub hl [2, 3, 4, 5, 6, 7, 1, 0] rfl)
def kX_X1_sound_75 (g : XC) (N : Nat) (K42 : XS → Nat → Int32 → Int32 → Int32 → Int32 → Int32 → Int32 → Int32 → Option ((XS × Int32) ⊕ XT)) (S : XS) (x0 : Nat) (x1 : Int32) (x2 : Int32) (x4 : Int32) (x5 : Int32) (x6 : Int32) (x7 : Int32) (x8 : Int32) (t0 : Int32) : Option ((XS × Int32) ⊕ XT) :=
  bnd (if (x4 : Int32) < t0 then t0 else x4) fun v1 =>
  if x8 ≤ x6 then
    kX_X1_sound_95 g N K42 S x0 x1 x2 t0 v1 x5 x6 x7 x8
  else
    kX_X1_sound_95 g N K42 S x0 x1 x2 t0 v1 x7 x6 x7 x8
theorem wkX_X1_sound_75 {p : Program} {l : Launch} {e : Env} {s : State} {m : MethodId} {args : Array Value} {below : List Frame} {meth : Method} {c : Code} {g : XC} {D : va_G} {A : Nat → Prop} {S0 : XS} {w : (XS × Int32) ⊕ XT} (X : xX g D A RX1 S0 p s m args c cX1_sound 9) (hr : meth.sig.returnType = (Option.some Jvm.ClassFile.FieldType.int)) (hlk : meth.locks = false) (hnm : meth.name = yX1_sound.name) (hlT : l.stackTraces = false) (hout : ∀ x ∈ c.exceptionTable.toList, False) (hw0 : xW g D A S0 s s.heap) (N : Nat) (K42 : XS → Nat → Int32 → Int32 → Int32 → Int32 → Int32 → Int32 → Int32 → Option ((XS × Int32) ⊕ XT))
    (hK42 : ∀ (S : XS) (x0 : Nat) (x1 : Int32) (x2 : Int32) (x3 : Int32) (x4 : Int32) (x5 : Int32) (x6 : Int32) (x7 : Int32) (H : Heap) (locs : List Loc) (ls : Array Slot) (cells slots : Nat), K42 S x0 x1 x2 x3 x4 x5 x6 x7 = some w → xW g D A S s H → va_S A s.heap H locs → lv_has ls 9 [(0, .ref x0), (1, .int x1), (2, .int x2), (3, .int x3), (4, .int x4), (5, .int x5), (6, .int x6), (7, .int x7)] → W p l e (xRm g S0 81) s m args below meth c H locs cells slots (vx_MQ below (xTi g D A w) (xTx g D A w) args s (g.2.1 - xTop S0) (g.2.2.1 - xSl S0) A) (F0 m 42 ls [])) :
    ∀ (S : XS) (x0 : Nat) (x1 : Int32) (x2 : Int32) (x4 : Int32) (x5 : Int32) (x6 : Int32) (x7 : Int32) (x8 : Int32) (t0 : Int32) (H : Heap) (locs : List Loc) (ls : Array Slot) (cells slots : Nat), kX_X1_sound_75 g N K42 S x0 x1 x2 x4 x5 x6 x7 x8 t0 = some w → xW g D A S s H → va_S A s.heap H locs → lv_has ls 9 [(0, .ref x0), (1, .int x1), (2, .int x2), (4, .int x4), (5, .int x5), (6, .int x6), (7, .int x7), (8, .int x8)] → W p l e (xRm g S0 81) s m args below meth c H locs cells slots (vx_MQ below (xTi g D A w) (xTx g D A w) args s (g.2.1 - xTop S0) (g.2.2.1 - xSl S0) A) (F0 m 75 ls [.int t0]) := by
  obtain ⟨hx, hb, -, hown, hts, -⟩ := id X
  intro S x0 x1 x2 x4 x5 x6 x7 x8 t0 H locs ls cells slots hm hw hS hl
  unfold kX_X1_sound_75 at hm
  refine lv_istore_n (lv' := [(3, .int t0), (0, .ref x0), (1, .int x1), (2, .int x2), (4, .int x4), (5, .int x5), (6, .int x6), (7, .int x7), (8, .int x8)]) hx hb dX1_sound_75 rfl hl (by decide) rfl (fun ls hl => ?_)
  refine lv_iload hx hb dX1_sound_76 (lv_at hl 4 rfl) ?_
  refine lv_iload_n hx hb dX1_sound_78 rfl (lv_at hl 0 rfl) ?_
  refine xr_mmax X hw hl.1 q1250 q383 q127 q384 (Nat.le_of_ble_eq_true rfl) dX1_sound_79 (fun cells slots => ?_)
  refine lv_topi (fun v1 ev1 => ?_)
  replace hm := bnd_s hm ev1
  refine lv_istore (lv' := [(4, .int v1), (3, .int t0), (0, .ref x0), (1, .int x1), (2, .int x2), (5, .int x5), (6, .int x6), (7, .int x7), (8, .int x8)]) hx hb dX1_sound_82 hl (by decide) rfl (fun ls hl => ?_)
  refine lv_iload hx hb dX1_sound_84 (lv_at hl 8 rfl) ?_
  refine lv_iload hx hb dX1_sound_86 (lv_at hl 6 rfl) ?_
  refine lv_icmp_le (tgt := 95) hx hb dX1_sound_88 (by decide) (fun c2 => ?_) (fun c2 => ?_)
  · replace hm := if_t c2 hm
    exact wkX_X1_sound_95 X hr hlk hnm hlT hout hw0 N K42 hK42 S x0 x1 x2 t0 v1 x5 x6 x7 x8 H locs ls _ _ hm hw hS (lv_sub hl [2, 3, 4, 1, 0, 5, 6, 7, 8] rfl)
  · replace hm := if_f c2 hm
    refine lv_iload hx hb dX1_sound_91 (lv_at hl 7 rfl) ?_
    refine lv_istore (lv' := [(5, .int x7), (4, .int v1), (3, .int t0), (0, .ref x0), (1, .int x1), (2, .int x2), (6, .int x6), (7, .int x7), (8, .int x8)]) hx hb dX1_sound_93 hl (by decide) rfl (fun ls hl => ?_)
    exact wkX_X1_sound_95 X hr hlk hnm hlT hout hw0 N K42 hK42 S x0 x1 x2 t0 v1 x7 x6 x7 x8 H locs ls _ _ hm hw hS (lv_sub hl [3, 4, 5, 2, 1, 0, 6, 7, 8] rfl)
def kX_X1_sound_42 (g : XC) (N : Nat) : Nat → XS → Nat → Int32 → Int32 → Int32 → Int32 → Int32 → Int32 → Int32 → Option ((XS × Int32) ⊕ XT)
  | 0, _, _, _, _, _, _, _, _, _ => none
  | n + 1, S, x0, x1, x2, x3, x4, x5, x6, x7 =>
    if x1 < x7 then
      if x2 = 0 then
        some (.inl (S, x4))
      else
        some (.inl (S, x5))
    else
      (f_obj S 1 x0 3).bind fun v3 =>
      (f_cls S 2 v3).bind fun u4 =>
      (kX_X3_pass g N S v3).bind fun w5 =>
      (f_int w5.1 2 w5.2 13).bind fun v6 =>
      (kX_J19_bitCount g N v6).bind fun w7 =>
      if w7 = 0 then
        kX_X1_sound_75 g N (kX_X1_sound_42 g N n) w5.1 x0 x1 x2 x4 x5 x6 x7 w7 (x3 + 1)
      else
        kX_X1_sound_75 g N (kX_X1_sound_42 g N n) w5.1 x0 x1 x2 x4 x5 x6 x7 w7 0
theorem wkX_X1_sound_42 {p : Program} {l : Launch} {e : Env} {s : State} {m : MethodId} {args : Array Value} {below : List Frame} {meth : Method} {c : Code} {g : XC} {D : va_G} {A : Nat → Prop} {S0 : XS} {w : (XS × Int32) ⊕ XT} (X : xX g D A RX1 S0 p s m args c cX1_sound 9) (hr : meth.sig.returnType = (Option.some Jvm.ClassFile.FieldType.int)) (hlk : meth.locks = false) (hnm : meth.name = yX1_sound.name) (hlT : l.stackTraces = false) (hout : ∀ x ∈ c.exceptionTable.toList, False) (hw0 : xW g D A S0 s s.heap) (N : Nat) :
    ∀ (n : Nat) (S : XS) (x0 : Nat) (x1 : Int32) (x2 : Int32) (x3 : Int32) (x4 : Int32) (x5 : Int32) (x6 : Int32) (x7 : Int32) (H : Heap) (locs : List Loc) (ls : Array Slot) (cells slots : Nat), kX_X1_sound_42 g N n S x0 x1 x2 x3 x4 x5 x6 x7 = some w → xW g D A S s H → va_S A s.heap H locs → lv_has ls 9 [(0, .ref x0), (1, .int x1), (2, .int x2), (3, .int x3), (4, .int x4), (5, .int x5), (6, .int x6), (7, .int x7)] → W p l e (xRm g S0 81) s m args below meth c H locs cells slots (vx_MQ below (xTi g D A w) (xTx g D A w) args s (g.2.1 - xTop S0) (g.2.2.1 - xSl S0) A) (F0 m 42 ls []) := by
  obtain ⟨hx, hb, -, hown, hts, -⟩ := id X
  intro n
  induction n with
  | zero =>
    intro S x0 x1 x2 x3 x4 x5 x6 x7 H locs ls cells slots hm
    cases hm
  | succ n ih =>
    intro S x0 x1 x2 x3 x4 x5 x6 x7 H locs ls cells slots hm hw hS hl
    rw [kX_X1_sound_42] at hm
    refine lv_iload hx hb dX1_sound_42 (lv_at hl 7 rfl) ?_
    refine lv_iload_n hx hb dX1_sound_44 rfl (lv_at hl 1 rfl) ?_
    refine lv_icmp_gt (tgt := 110) hx hb dX1_sound_45 (by decide) (fun c1 => ?_) (fun c1 => ?_)
    · replace hm := if_t c1 hm
      refine lv_iload_n hx hb dX1_sound_110 rfl (lv_at hl 2 rfl) ?_
      refine lv_if_ne (tgt := 119) hx hb dX1_sound_111 (by decide) (fun c2 => ?_) (fun c2 => ?_)
      · replace hm := if_f c2 hm
        refine lv_iload hx hb dX1_sound_119 (lv_at hl 5 rfl) ?_
        obtain rfl := Option.some.inj hm
        exact xt_iret (v := x5) X hr hlk hw hS rfl dX1_sound_121
      · replace hm := if_t c2 hm
        refine lv_iload hx hb dX1_sound_114 (lv_at hl 4 rfl) ?_
        refine lv_goto (tgt := 121) hx hb dX1_sound_116 (by decide) ?_
        obtain rfl := Option.some.inj hm
        exact xt_iret (v := x4) X hr hlk hw hS rfl dX1_sound_121
    · replace hm := if_f c1 hm
      refine lv_aload_n hx hb dX1_sound_48 rfl (lv_at hl 0 rfl) ?_
      obtain ⟨v3, hv3, hm⟩ := ob_s hm
      refine xr_val X hw xc1 in_X1 3 (by decide) q282 (f_obj_s hv3) dX1_sound_49 ?_
      obtain ⟨u4, hu4, hm⟩ := ob_s hm
      obtain ⟨w5, hw5, hm⟩ := ob_s hm
      refine xr_retr hS (xr_runV X hw (met_X3_pass N S v3 w5 hw5) (x_cv X (lv := 80) (by omega) (by decide) cx_X3_pass (lw_V q609 q459 q460 q120 q461)) xc2 hu4 rfl hl.1 rfl (Nat.le_of_ble_eq_true rfl) dX1_sound_52) (fun H locs cells slots hw hS => ?_)
      obtain ⟨v6, hv6, hm⟩ := ob_s hm
      refine xr_valN X hw xc2 in_X3 13 (by decide) q238 (f_int_s hv6) dX1_sound_55 ?_
      obtain ⟨w7, hw7, hm⟩ := ob_s hm
      refine xr_reti hS (xr_runS X hw (met_J19_bitCount N w5.1 v6 w7 hw7) (x_cs X (lv := 0) (by omega) (by decide) cx_J19_bitCount (lw_S q1353 q1354 q145 q1355)) rfl hl.1 rfl (Nat.le_of_ble_eq_true rfl) dX1_sound_58) (fun H locs cells slots hw hS => ?_)
      refine lv_istore (lv' := [(8, .int w7), (0, .ref x0), (1, .int x1), (2, .int x2), (3, .int x3), (4, .int x4), (5, .int x5), (6, .int x6), (7, .int x7)]) hx hb dX1_sound_61 hl (by decide) rfl (fun ls hl => ?_)
      refine lv_iload hx hb dX1_sound_63 (lv_at hl 0 rfl) ?_
      refine lv_if_ne (tgt := 74) hx hb dX1_sound_65 (by decide) (fun c8 => ?_) (fun c8 => ?_)
      · replace hm := if_f c8 hm
        refine lv_iconst (v := 0) hx hb dX1_sound_74 (by decide) ?_
        exact wkX_X1_sound_75 X hr hlk hnm hlT hout hw0 N (kX_X1_sound_42 g N n) ih w5.1 x0 x1 x2 x4 x5 x6 x7 w7 0 H locs ls _ _ hm hw hS (lv_sub hl [1, 2, 3, 5, 6, 7, 8, 0] rfl)
      · replace hm := if_t c8 hm
        refine lv_iload_n hx hb dX1_sound_68 rfl (lv_at hl 4 rfl) ?_
        refine lv_iconst (v := 1) hx hb dX1_sound_69 (by decide) ?_
        refine lv_iadd hx hb dX1_sound_70 ?_
        refine lv_goto (tgt := 75) hx hb dX1_sound_71 (by decide) ?_
        exact wkX_X1_sound_75 X hr hlk hnm hlT hout hw0 N (kX_X1_sound_42 g N n) ih w5.1 x0 x1 x2 x4 x5 x6 x7 w7 (x3 + 1) H locs ls _ _ hm hw hS (lv_sub hl [1, 2, 3, 5, 6, 7, 8, 0] rfl)
def kX_X1_sound (g : XC) (N : Nat) (S : XS) (x0 : Nat) (x1 : Int32) (x2 : Int32) : Option ((XS × Int32) ⊕ XT) :=
  tbind (kX_X1_oneOf g N S x2 1) fun r2 =>
  (kX_X1_in g N x1 1 200).bind fun w3 =>
  tbind (kX_X1_right g N r2 w3) fun r5 =>
  (f_obj r5 1 x0 3).bind fun v6 =>
  (f_obj r5 1 x0 2).bind fun v7 =>
  (f_cls r5 2 v6).bind fun u8 =>
  (kX_X3_be g N r5 v6 v7).bind fun w9 =>
  kX_X1_sound_42 g N N w9.1 x0 x1 x2 0 0 (-1) (-1) 1
theorem cx_X1_sound : yX1_sound.cls = RX1 ∧ yX1_sound.cls ≠ "java/lang/invoke/MethodHandle" ∧ yX1_sound.cls ≠ "java/lang/invoke/VarHandle" ∧ (parseMethodDescriptor yX1_sound.desc).map (fun d => d.parameters.length) = some 2 := by decide +kernel
theorem met_X1_sound {l : Launch} {g : XC} {D : va_G} {A : Nat → Prop} (hlT : l.stackTraces = false) (N : Nat) (S : XS) (x0 : Nat) (x1 : Int32) (x2 : Int32) (w : (XS × Int32) ⊕ XT) (hm : kX_X1_sound g N S x0 x1 x2 = some w) : vx_Met l yX1_sound (ws_ yX1_sound cX1_sound 9 (Option.some Jvm.ClassFile.FieldType.int)) (xRm g S 81) (xPre g D A [.ref x0, .int x1, .int x2] S) (xTi g D A w) (xTx g D A w) (g.2.1 - xTop S) (g.2.2.1 - xSl S) A := by
  refine x_startT (own := RX1) (by decide +kernel) rfl (Nat.le_of_ble_eq_true rfl) (fun p e s m below meth c ls X hr hlk hnm hout hw hl => ?_)
  have hw0 := hw
  obtain ⟨hx, hb, -, hown, hts, -⟩ := id X
  have hl : lv_has ls 9 [(0, .ref x0), (1, .int x1), (2, .int x2)] := hl
  have hg : ∀ (H : Heap) (locs : List Loc) (cells slots : Nat), xW g D A S s H → va_S A s.heap H locs → W p l e (xRm g S 81) s m ([.ref x0, .int x1, .int x2] : List Value).toArray below meth c H locs cells slots (vx_MQ below (xTi g D A w) (xTx g D A w) ([.ref x0, .int x1, .int x2] : List Value).toArray s (g.2.1 - xTop S) (g.2.2.1 - xSl S) A) (F0 m 0 ls []) := by
    intro H locs cells slots hw hS
    unfold kX_X1_sound at hm
    refine lv_iload_n hx hb dX1_sound_0 rfl (lv_at hl 2 rfl) ?_
    refine lv_iconst (v := 1) hx hb dX1_sound_1 (by decide) ?_
    obtain ⟨w1, hw1, hm⟩ := tb_s hm
    refine xt_retv hS (xt_runS X hw (met_X1_oneOf hlT N S x2 1 w1 hw1) (x_cs X (lv := 6) (by omega) (by decide) cx_X1_oneOf (lw_S q1306 q1307 q115 q1308)) rfl hl.1 rfl (Nat.le_of_ble_eq_true rfl) dX1_sound_2) (fun t1 t2 u E9 ce q9 H1 locs1 hu ht => xt_pass X hlk hout (tc_r hu hm) ht (x_fits (lv2 := 0) X hw t1 t2).1 (x_fits (lv2 := 0) X hw t1 t2).2) (fun r2 hr2 H locs cells slots hw hS => ?_)
    replace hm := tc_l hr2 hm
    refine lv_iload_n hx hb dX1_sound_5 rfl (lv_at hl 1 rfl) ?_
    refine lv_iconst (v := 1) hx hb dX1_sound_6 (by decide) ?_
    refine lv_sipush (v := 200) hx hb dX1_sound_7 (by decide) ?_
    obtain ⟨w3, hw3, hm⟩ := ob_s hm
    refine xr_reti hS (xr_runS X hw (met_X1_in N r2 x1 1 200 w3 hw3) (x_cs X (lv := 0) (by omega) (by decide) cx_X1_in (lw_S q336 q337 q115 q338)) rfl hl.1 rfl (Nat.le_of_ble_eq_true rfl) dX1_sound_10) (fun H locs cells slots hw hS => ?_)
    obtain ⟨w4, hw4, hm⟩ := tb_s hm
    refine xt_retv hS (xt_runS X hw (met_X1_right hlT N r2 w3 w4 hw4) (x_cs X (lv := 5) (by omega) (by decide) cx_X1_right (lw_S q655 q656 q115 q657)) rfl hl.1 rfl (Nat.le_of_ble_eq_true rfl) dX1_sound_13) (fun t1 t2 u E9 ce q9 H1 locs1 hu ht => xt_pass X hlk hout (tc_r hu hm) ht (x_fits (lv2 := 0) X hw t1 t2).1 (x_fits (lv2 := 0) X hw t1 t2).2) (fun r5 hr5 H locs cells slots hw hS => ?_)
    replace hm := tc_l hr5 hm
    refine lv_iconst (v := 0) hx hb dX1_sound_16 (by decide) ?_
    refine lv_istore_n (lv' := [(3, .int 0), (0, .ref x0), (1, .int x1), (2, .int x2)]) hx hb dX1_sound_17 rfl hl (by decide) rfl (fun ls hl => ?_)
    refine lv_iconst (v := 0) hx hb dX1_sound_18 (by decide) ?_
    refine lv_istore (lv' := [(4, .int 0), (3, .int 0), (0, .ref x0), (1, .int x1), (2, .int x2)]) hx hb dX1_sound_19 hl (by decide) rfl (fun ls hl => ?_)
    refine lv_iconst (v := (-1)) hx hb dX1_sound_21 (by decide) ?_
    refine lv_istore (lv' := [(5, .int (-1)), (4, .int 0), (3, .int 0), (0, .ref x0), (1, .int x1), (2, .int x2)]) hx hb dX1_sound_22 hl (by decide) rfl (fun ls hl => ?_)
    refine lv_iconst (v := (-1)) hx hb dX1_sound_24 (by decide) ?_
    refine lv_istore (lv' := [(6, .int (-1)), (5, .int (-1)), (4, .int 0), (3, .int 0), (0, .ref x0), (1, .int x1), (2, .int x2)]) hx hb dX1_sound_25 hl (by decide) rfl (fun ls hl => ?_)
    refine lv_aload_n hx hb dX1_sound_27 rfl (lv_at hl 4 rfl) ?_
    obtain ⟨v6, hv6, hm⟩ := ob_s hm
    refine xr_val X hw xc1 in_X1 3 (by decide) q282 (f_obj_s hv6) dX1_sound_28 ?_
    refine lv_aload_n hx hb dX1_sound_31 rfl (lv_at hl 4 rfl) ?_
    obtain ⟨v7, hv7, hm⟩ := ob_s hm
    refine xr_val X hw xc1 in_X1 2 (by decide) q281 (f_obj_s hv7) dX1_sound_32 ?_
    obtain ⟨u8, hu8, hm⟩ := ob_s hm
    obtain ⟨w9, hw9, hm⟩ := ob_s hm
    refine xr_retr hS (xr_runV X hw (met_X3_be N r5 v6 v7 w9 hw9) (x_cv X (lv := 0) (by omega) (by decide) cx_X3_be (lw_V q608 q354 q355 q120 q356)) xc2 hu8 rfl hl.1 rfl (Nat.le_of_ble_eq_true rfl) dX1_sound_35) (fun H locs cells slots hw hS => ?_)
    refine lv_pop hx hb dX1_sound_38 rfl ?_
    refine lv_iconst (v := 1) hx hb dX1_sound_39 (by decide) ?_
    refine lv_istore (lv' := [(7, .int 1), (6, .int (-1)), (5, .int (-1)), (4, .int 0), (3, .int 0), (0, .ref x0), (1, .int x1), (2, .int x2)]) hx hb dX1_sound_40 hl (by decide) rfl (fun ls hl => ?_)
    exact wkX_X1_sound_42 X hr hlk hnm hlT hout hw0 N N w9.1 x0 x1 x2 0 0 (-1) (-1) 1 H locs ls _ _ hm hw hS (lv_sub hl [5, 6, 7, 4, 3, 2, 1, 0] rfl)
  exact hg _ _ _ _ hw va_S.rf
/-! DripCups.fallen -/
def kX_X1_fallen (g : XC) (N : Nat) (S : XS) (x0 : Nat) (x1 : Int32) (x2 : Int32) : Option ((XS × Int32) ⊕ XT) :=
  (f_cls S 1 x0).bind fun u1 =>
  tbind (kX_X1_aCup g N S x0 x1) fun r3 =>
  (kX_X1_in g N x2 0 1000000).bind fun w4 =>
  tbind (kX_X1_right g N r3 w4) fun r6 =>
  (f_obj r6 1 x0 2).bind fun v7 =>
  (f_cls r6 2 v7).bind fun u8 =>
  (kX_X3_flows g N r6 v7 x2).bind fun w9 =>
  (a_long w9.1 w9.2 (9 + x1)).bind fun v10 =>
  some (.inl (w9.1, (v10 : Int64).toInt32))
theorem cx_X1_fallen : yX1_fallen.cls = RX1 ∧ yX1_fallen.cls ≠ "java/lang/invoke/MethodHandle" ∧ yX1_fallen.cls ≠ "java/lang/invoke/VarHandle" ∧ (parseMethodDescriptor yX1_fallen.desc).map (fun d => d.parameters.length) = some 2 := by decide +kernel
theorem met_X1_fallen {l : Launch} {g : XC} {D : va_G} {A : Nat → Prop} (hlT : l.stackTraces = false) (N : Nat) (S : XS) (x0 : Nat) (x1 : Int32) (x2 : Int32) (w : (XS × Int32) ⊕ XT) (hm : kX_X1_fallen g N S x0 x1 x2 = some w) : vx_Met l yX1_fallen (ws_ yX1_fallen cX1_fallen 3 (Option.some Jvm.ClassFile.FieldType.int)) (xRm g S 7) (xPre g D A [.ref x0, .int x1, .int x2] S) (xTi g D A w) (xTx g D A w) (g.2.1 - xTop S) (g.2.2.1 - xSl S) A := by
  refine x_startT (own := RX1) (by decide +kernel) rfl (Nat.le_of_ble_eq_true rfl) (fun p e s m below meth c ls X hr hlk hnm hout hw hl => ?_)
  have hw0 := hw
  obtain ⟨hx, hb, -, hown, hts, -⟩ := id X
  have hl : lv_has ls 3 [(0, .ref x0), (1, .int x1), (2, .int x2)] := hl
  have hg : ∀ (H : Heap) (locs : List Loc) (cells slots : Nat), xW g D A S s H → va_S A s.heap H locs → W p l e (xRm g S 7) s m ([.ref x0, .int x1, .int x2] : List Value).toArray below meth c H locs cells slots (vx_MQ below (xTi g D A w) (xTx g D A w) ([.ref x0, .int x1, .int x2] : List Value).toArray s (g.2.1 - xTop S) (g.2.2.1 - xSl S) A) (F0 m 0 ls []) := by
    intro H locs cells slots hw hS
    unfold kX_X1_fallen at hm
    refine lv_aload_n hx hb dX1_fallen_0 rfl (lv_at hl 0 rfl) ?_
    refine lv_iload_n hx hb dX1_fallen_1 rfl (lv_at hl 1 rfl) ?_
    obtain ⟨u1, hu1, hm⟩ := ob_s hm
    obtain ⟨w2, hw2, hm⟩ := tb_s hm
    refine xt_retv hS (xt_runV X hw (met_X1_aCup hlT N S x0 x1 w2 hw2) (x_cv X (lv := 6) (by omega) (by decide) cx_X1_aCup (lw_V q1240 q1242 qs40 q115 q1243)) xc1 hu1 rfl hl.1 rfl (Nat.le_of_ble_eq_true rfl) dX1_fallen_2) (fun t1 t2 u E9 ce q9 H1 locs1 hu ht => xt_pass X hlk hout (tc_r hu hm) ht (x_fits (lv2 := 0) X hw t1 t2).1 (x_fits (lv2 := 0) X hw t1 t2).2) (fun r3 hr3 H locs cells slots hw hS => ?_)
    replace hm := tc_l hr3 hm
    refine lv_iload_n hx hb dX1_fallen_5 rfl (lv_at hl 2 rfl) ?_
    refine lv_iconst (v := 0) hx hb dX1_fallen_6 (by decide) ?_
    refine lv_ldc (v := 1000000) hx hb hown (hts _ q1366) dX1_fallen_7 ?_
    obtain ⟨w4, hw4, hm⟩ := ob_s hm
    refine xr_reti hS (xr_runS X hw (met_X1_in N r3 x2 0 1000000 w4 hw4) (x_cs X (lv := 0) (by omega) (by decide) cx_X1_in (lw_S q336 q337 q115 q338)) rfl hl.1 rfl (Nat.le_of_ble_eq_true rfl) dX1_fallen_9) (fun H locs cells slots hw hS => ?_)
    obtain ⟨w5, hw5, hm⟩ := tb_s hm
    refine xt_retv hS (xt_runS X hw (met_X1_right hlT N r3 w4 w5 hw5) (x_cs X (lv := 5) (by omega) (by decide) cx_X1_right (lw_S q655 q656 q115 q657)) rfl hl.1 rfl (Nat.le_of_ble_eq_true rfl) dX1_fallen_12) (fun t1 t2 u E9 ce q9 H1 locs1 hu ht => xt_pass X hlk hout (tc_r hu hm) ht (x_fits (lv2 := 0) X hw t1 t2).1 (x_fits (lv2 := 0) X hw t1 t2).2) (fun r6 hr6 H locs cells slots hw hS => ?_)
    replace hm := tc_l hr6 hm
    refine lv_aload_n hx hb dX1_fallen_15 rfl (lv_at hl 0 rfl) ?_
    obtain ⟨v7, hv7, hm⟩ := ob_s hm
    refine xr_val X hw xc1 in_X1 2 (by decide) q281 (f_obj_s hv7) dX1_fallen_16 ?_
    refine lv_iload_n hx hb dX1_fallen_19 rfl (lv_at hl 2 rfl) ?_
    obtain ⟨u8, hu8, hm⟩ := ob_s hm
    obtain ⟨w9, hw9, hm⟩ := ob_s hm
    refine xr_retr hS (xr_runV X hw (met_X3_flows N r6 v7 x2 w9 hw9) (x_cv X (lv := 3) (by omega) (by decide) cx_X3_flows (lw_V q1367 q1368 q1369 q120 q1370)) xc2 hu8 rfl hl.1 rfl (Nat.le_of_ble_eq_true rfl) dX1_fallen_20) (fun H locs cells slots hw hS => ?_)
    refine lv_bipush (v := 9) hx hb dX1_fallen_23 (by decide) ?_
    refine lv_iload_n hx hb dX1_fallen_25 rfl (lv_at hl 1 rfl) ?_
    refine lv_iadd hx hb dX1_fallen_26 ?_
    obtain ⟨v10, hv10, hm⟩ := ob_s hm
    refine xr_lald X hw hv10 dX1_fallen_27 ?_
    refine lv_l2i hx hb dX1_fallen_28 rfl ?_
    obtain rfl := Option.some.inj hm
    exact xt_iret (v := (v10 : Int64).toInt32) X hr hlk hw hS rfl dX1_fallen_29
  exact hg _ _ _ _ hw va_S.rf
/-! DripCups.nth -/
def kX_X1_nth_23 (g : XC) (N : Nat) : Nat → XS → Nat → Int32 → Int32 → Int32 → Int32 → Option ((XS × Int32) ⊕ XT)
  | 0, _, _, _, _, _, _ => none
  | n + 1, S, x0, x1, x2, x3, x4 =>
    if x4 ≤ x3 then
      if x3 ≤ 1000000 then
        some (.inl (S, x3))
      else
        some (.inl (S, (-1)))
    else
      bnd ((x3 + x4) / 2) fun v3 =>
      (f_obj S 1 x0 2).bind fun v4 =>
      (f_cls S 2 v4).bind fun u5 =>
      (kX_X3_flows g N S v4 v3).bind fun w6 =>
      (a_long w6.1 w6.2 (9 + x1)).bind fun v7 =>
      if (lg_cmp v7 ((x2 : Int32).toInt64)) < 0 then
        bnd (v3 + 1) fun v9 =>
        kX_X1_nth_23 g N n w6.1 x0 x1 x2 v9 x4
      else
        kX_X1_nth_23 g N n w6.1 x0 x1 x2 x3 v3
theorem wkX_X1_nth_23 {p : Program} {l : Launch} {e : Env} {s : State} {m : MethodId} {args : Array Value} {below : List Frame} {meth : Method} {c : Code} {g : XC} {D : va_G} {A : Nat → Prop} {S0 : XS} {w : (XS × Int32) ⊕ XT} (X : xX g D A RX1 S0 p s m args c cX1_nth 6) (hr : meth.sig.returnType = (Option.some Jvm.ClassFile.FieldType.int)) (hlk : meth.locks = false) (hnm : meth.name = yX1_nth.name) (hlT : l.stackTraces = false) (hout : ∀ x ∈ c.exceptionTable.toList, False) (hw0 : xW g D A S0 s s.heap) (N : Nat) :
    ∀ (n : Nat) (S : XS) (x0 : Nat) (x1 : Int32) (x2 : Int32) (x3 : Int32) (x4 : Int32) (H : Heap) (locs : List Loc) (ls : Array Slot) (cells slots : Nat), kX_X1_nth_23 g N n S x0 x1 x2 x3 x4 = some w → xW g D A S s H → va_S A s.heap H locs → lv_has ls 6 [(0, .ref x0), (1, .int x1), (2, .int x2), (3, .int x3), (4, .int x4)] → W p l e (xRm g S0 7) s m args below meth c H locs cells slots (vx_MQ below (xTi g D A w) (xTx g D A w) args s (g.2.1 - xTop S0) (g.2.2.1 - xSl S0) A) (F0 m 23 ls []) := by
  obtain ⟨hx, hb, -, hown, hts, -⟩ := id X
  intro n
  induction n with
  | zero =>
    intro S x0 x1 x2 x3 x4 H locs ls cells slots hm
    cases hm
  | succ n ih =>
    intro S x0 x1 x2 x3 x4 H locs ls cells slots hm hw hS hl
    rw [kX_X1_nth_23] at hm
    refine lv_iload_n hx hb dX1_nth_23 rfl (lv_at hl 3 rfl) ?_
    refine lv_iload hx hb dX1_nth_24 (lv_at hl 4 rfl) ?_
    refine lv_icmp_ge (tgt := 72) hx hb dX1_nth_26 (by decide) (fun c1 => ?_) (fun c1 => ?_)
    · replace hm := if_t c1 hm
      refine lv_iload_n hx hb dX1_nth_72 rfl (lv_at hl 3 rfl) ?_
      refine lv_ldc (v := 1000000) hx hb hown (hts _ q1366) dX1_nth_73 ?_
      refine lv_icmp_le (tgt := 82) hx hb dX1_nth_75 (by decide) (fun c2 => ?_) (fun c2 => ?_)
      · replace hm := if_t c2 hm
        refine lv_iload_n hx hb dX1_nth_82 rfl (lv_at hl 3 rfl) ?_
        obtain rfl := Option.some.inj hm
        exact xt_iret (v := x3) X hr hlk hw hS rfl dX1_nth_83
      · replace hm := if_f c2 hm
        refine lv_iconst (v := (-1)) hx hb dX1_nth_78 (by decide) ?_
        refine lv_goto (tgt := 83) hx hb dX1_nth_79 (by decide) ?_
        obtain rfl := Option.some.inj hm
        exact xt_iret (v := (-1)) X hr hlk hw hS rfl dX1_nth_83
    · replace hm := if_f c1 hm
      refine lv_iload_n hx hb dX1_nth_29 rfl (lv_at hl 3 rfl) ?_
      refine lv_iload hx hb dX1_nth_30 (lv_at hl 4 rfl) ?_
      refine lv_iadd hx hb dX1_nth_32 ?_
      refine lv_iconst (v := 2) hx hb dX1_nth_33 (by decide) ?_
      refine lv_idiv hx hb dX1_nth_34 (by decide) ?_
      refine lv_topi (fun v3 ev3 => ?_)
      replace hm := bnd_s hm ev3
      refine lv_istore (lv' := [(5, .int v3), (0, .ref x0), (1, .int x1), (2, .int x2), (3, .int x3), (4, .int x4)]) hx hb dX1_nth_35 hl (by decide) rfl (fun ls hl => ?_)
      refine lv_aload_n hx hb dX1_nth_37 rfl (lv_at hl 1 rfl) ?_
      obtain ⟨v4, hv4, hm⟩ := ob_s hm
      refine xr_val X hw xc1 in_X1 2 (by decide) q281 (f_obj_s hv4) dX1_nth_38 ?_
      refine lv_iload hx hb dX1_nth_41 (lv_at hl 0 rfl) ?_
      obtain ⟨u5, hu5, hm⟩ := ob_s hm
      obtain ⟨w6, hw6, hm⟩ := ob_s hm
      refine xr_retr hS (xr_runV X hw (met_X3_flows N S v4 v3 w6 hw6) (x_cv X (lv := 3) (by omega) (by decide) cx_X3_flows (lw_V q1367 q1368 q1369 q120 q1370)) xc2 hu5 rfl hl.1 rfl (Nat.le_of_ble_eq_true rfl) dX1_nth_43) (fun H locs cells slots hw hS => ?_)
      refine lv_bipush (v := 9) hx hb dX1_nth_46 (by decide) ?_
      refine lv_iload_n hx hb dX1_nth_48 rfl (lv_at hl 2 rfl) ?_
      refine lv_iadd hx hb dX1_nth_49 ?_
      obtain ⟨v7, hv7, hm⟩ := ob_s hm
      refine xr_lald X hw hv7 dX1_nth_50 ?_
      refine lv_iload_n hx hb dX1_nth_51 rfl (lv_at hl 3 rfl) ?_
      refine lv_i2l hx hb dX1_nth_52 rfl ?_
      refine W.lcmp hx hb dX1_nth_53 ?_
      refine lv_if_lt (tgt := 64) hx hb dX1_nth_54 (by decide) (fun c8 => ?_) (fun c8 => ?_)
      · replace hm := if_t c8 hm
        refine lv_iload hx hb dX1_nth_64 (lv_at hl 0 rfl) ?_
        refine lv_iconst (v := 1) hx hb dX1_nth_66 (by decide) ?_
        refine lv_iadd hx hb dX1_nth_67 ?_
        refine lv_topi (fun v9 ev9 => ?_)
        replace hm := bnd_s hm ev9
        refine lv_istore_n (lv' := [(3, .int v9), (5, .int v3), (0, .ref x0), (1, .int x1), (2, .int x2), (4, .int x4)]) hx hb dX1_nth_68 rfl hl (by decide) rfl (fun ls hl => ?_)
        refine lv_goto (tgt := 23) hx hb dX1_nth_69 (by decide) ?_
        exact ih w6.1 x0 x1 x2 v9 x4 H locs ls _ _ hm hw hS (lv_sub hl [2, 3, 4, 0, 5] rfl)
      · replace hm := if_f c8 hm
        refine lv_iload hx hb dX1_nth_57 (lv_at hl 0 rfl) ?_
        refine lv_istore (lv' := [(4, .int v3), (5, .int v3), (0, .ref x0), (1, .int x1), (2, .int x2), (3, .int x3)]) hx hb dX1_nth_59 hl (by decide) rfl (fun ls hl => ?_)
        refine lv_goto (tgt := 69) hx hb dX1_nth_61 (by decide) ?_
        refine lv_goto (tgt := 23) hx hb dX1_nth_69 (by decide) ?_
        exact ih w6.1 x0 x1 x2 x3 v3 H locs ls _ _ hm hw hS (lv_sub hl [2, 3, 4, 5, 0] rfl)
def kX_X1_nth (g : XC) (N : Nat) (S : XS) (x0 : Nat) (x1 : Int32) (x2 : Int32) : Option ((XS × Int32) ⊕ XT) :=
  (f_cls S 1 x0).bind fun u1 =>
  tbind (kX_X1_aCup g N S x0 x1) fun r3 =>
  (kX_X1_in g N x2 1 100000000).bind fun w4 =>
  tbind (kX_X1_right g N r3 w4) fun r6 =>
  kX_X1_nth_23 g N N r6 x0 x1 x2 1 1000001
theorem cx_X1_nth : yX1_nth.cls = RX1 ∧ yX1_nth.cls ≠ "java/lang/invoke/MethodHandle" ∧ yX1_nth.cls ≠ "java/lang/invoke/VarHandle" ∧ (parseMethodDescriptor yX1_nth.desc).map (fun d => d.parameters.length) = some 2 := by decide +kernel
theorem met_X1_nth {l : Launch} {g : XC} {D : va_G} {A : Nat → Prop} (hlT : l.stackTraces = false) (N : Nat) (S : XS) (x0 : Nat) (x1 : Int32) (x2 : Int32) (w : (XS × Int32) ⊕ XT) (hm : kX_X1_nth g N S x0 x1 x2 = some w) : vx_Met l yX1_nth (ws_ yX1_nth cX1_nth 6 (Option.some Jvm.ClassFile.FieldType.int)) (xRm g S 7) (xPre g D A [.ref x0, .int x1, .int x2] S) (xTi g D A w) (xTx g D A w) (g.2.1 - xTop S) (g.2.2.1 - xSl S) A := by
  refine x_startT (own := RX1) (by decide +kernel) rfl (Nat.le_of_ble_eq_true rfl) (fun p e s m below meth c ls X hr hlk hnm hout hw hl => ?_)
  have hw0 := hw
  obtain ⟨hx, hb, -, hown, hts, -⟩ := id X
  have hl : lv_has ls 6 [(0, .ref x0), (1, .int x1), (2, .int x2)] := hl
  have hg : ∀ (H : Heap) (locs : List Loc) (cells slots : Nat), xW g D A S s H → va_S A s.heap H locs → W p l e (xRm g S 7) s m ([.ref x0, .int x1, .int x2] : List Value).toArray below meth c H locs cells slots (vx_MQ below (xTi g D A w) (xTx g D A w) ([.ref x0, .int x1, .int x2] : List Value).toArray s (g.2.1 - xTop S) (g.2.2.1 - xSl S) A) (F0 m 0 ls []) := by
    intro H locs cells slots hw hS
    unfold kX_X1_nth at hm
    refine lv_aload_n hx hb dX1_nth_0 rfl (lv_at hl 0 rfl) ?_
    refine lv_iload_n hx hb dX1_nth_1 rfl (lv_at hl 1 rfl) ?_
    obtain ⟨u1, hu1, hm⟩ := ob_s hm
    obtain ⟨w2, hw2, hm⟩ := tb_s hm
    refine xt_retv hS (xt_runV X hw (met_X1_aCup hlT N S x0 x1 w2 hw2) (x_cv X (lv := 6) (by omega) (by decide) cx_X1_aCup (lw_V q1240 q1242 qs40 q115 q1243)) xc1 hu1 rfl hl.1 rfl (Nat.le_of_ble_eq_true rfl) dX1_nth_2) (fun t1 t2 u E9 ce q9 H1 locs1 hu ht => xt_pass X hlk hout (tc_r hu hm) ht (x_fits (lv2 := 0) X hw t1 t2).1 (x_fits (lv2 := 0) X hw t1 t2).2) (fun r3 hr3 H locs cells slots hw hS => ?_)
    replace hm := tc_l hr3 hm
    refine lv_iload_n hx hb dX1_nth_5 rfl (lv_at hl 2 rfl) ?_
    refine lv_iconst (v := 1) hx hb dX1_nth_6 (by decide) ?_
    refine lv_ldcw (v := 100000000) hx hb hown (hts _ q1380) dX1_nth_7 ?_
    obtain ⟨w4, hw4, hm⟩ := ob_s hm
    refine xr_reti hS (xr_runS X hw (met_X1_in N r3 x2 1 100000000 w4 hw4) (x_cs X (lv := 0) (by omega) (by decide) cx_X1_in (lw_S q336 q337 q115 q338)) rfl hl.1 rfl (Nat.le_of_ble_eq_true rfl) dX1_nth_10) (fun H locs cells slots hw hS => ?_)
    obtain ⟨w5, hw5, hm⟩ := tb_s hm
    refine xt_retv hS (xt_runS X hw (met_X1_right hlT N r3 w4 w5 hw5) (x_cs X (lv := 5) (by omega) (by decide) cx_X1_right (lw_S q655 q656 q115 q657)) rfl hl.1 rfl (Nat.le_of_ble_eq_true rfl) dX1_nth_13) (fun t1 t2 u E9 ce q9 H1 locs1 hu ht => xt_pass X hlk hout (tc_r hu hm) ht (x_fits (lv2 := 0) X hw t1 t2).1 (x_fits (lv2 := 0) X hw t1 t2).2) (fun r6 hr6 H locs cells slots hw hS => ?_)
    replace hm := tc_l hr6 hm
    refine lv_iconst (v := 1) hx hb dX1_nth_16 (by decide) ?_
    refine lv_istore_n (lv' := [(3, .int 1), (0, .ref x0), (1, .int x1), (2, .int x2)]) hx hb dX1_nth_17 rfl hl (by decide) rfl (fun ls hl => ?_)
    refine lv_ldcw (v := 1000001) hx hb hown (hts _ q1381) dX1_nth_18 ?_
    refine lv_istore (lv' := [(4, .int 1000001), (3, .int 1), (0, .ref x0), (1, .int x1), (2, .int x2)]) hx hb dX1_nth_21 hl (by decide) rfl (fun ls hl => ?_)
    exact wkX_X1_nth_23 X hr hlk hnm hlT hout hw0 N N r6 x0 x1 x2 1 1000001 H locs ls _ _ hm hw hS (lv_sub hl [2, 3, 4, 1, 0] rfl)
  exact hg _ _ _ _ hw va_S.rf
/-! DripCups.meeting -/
def kX_X1_meeting (g : XC) (N : Nat) (S : XS) (x0 : Nat) (x1 : Int32) : Option ((XS × Int32) ⊕ XT) :=
  (f_cls S 1 x0).bind fun u1 =>
  tbind (kX_X1_someCups g N S x0 x1) fun r3 =>
  (f_obj r3 1 x0 3).bind fun v4 =>
  (f_obj r3 1 x0 2).bind fun v5 =>
  (f_cls r3 2 v4).bind fun u6 =>
  (kX_X3_be g N r3 v4 v5).bind fun w7 =>
  (f_cls w7.1 2 w7.2).bind fun u8 =>
  (kX_X3_bare g N w7.1 w7.2).bind fun w9 =>
  (f_cls w9.1 1 x0).bind fun u10 =>
  (kX_X1_firstOn g N w9.1 x0 x1 5000).bind fun w11 =>
  some (.inl (w11.1, w11.2))
theorem cx_X1_meeting : yX1_meeting.cls = RX1 ∧ yX1_meeting.cls ≠ "java/lang/invoke/MethodHandle" ∧ yX1_meeting.cls ≠ "java/lang/invoke/VarHandle" ∧ (parseMethodDescriptor yX1_meeting.desc).map (fun d => d.parameters.length) = some 1 := by decide +kernel
theorem met_X1_meeting {l : Launch} {g : XC} {D : va_G} {A : Nat → Prop} (hlT : l.stackTraces = false) (N : Nat) (S : XS) (x0 : Nat) (x1 : Int32) (w : (XS × Int32) ⊕ XT) (hm : kX_X1_meeting g N S x0 x1 = some w) : vx_Met l yX1_meeting (ws_ yX1_meeting cX1_meeting 2 (Option.some Jvm.ClassFile.FieldType.int)) (xRm g S 82) (xPre g D A [.ref x0, .int x1] S) (xTi g D A w) (xTx g D A w) (g.2.1 - xTop S) (g.2.2.1 - xSl S) A := by
  refine x_startT (own := RX1) (by decide +kernel) rfl (Nat.le_of_ble_eq_true rfl) (fun p e s m below meth c ls X hr hlk hnm hout hw hl => ?_)
  have hw0 := hw
  obtain ⟨hx, hb, -, hown, hts, -⟩ := id X
  have hl : lv_has ls 2 [(0, .ref x0), (1, .int x1)] := hl
  have hg : ∀ (H : Heap) (locs : List Loc) (cells slots : Nat), xW g D A S s H → va_S A s.heap H locs → W p l e (xRm g S 82) s m ([.ref x0, .int x1] : List Value).toArray below meth c H locs cells slots (vx_MQ below (xTi g D A w) (xTx g D A w) ([.ref x0, .int x1] : List Value).toArray s (g.2.1 - xTop S) (g.2.2.1 - xSl S) A) (F0 m 0 ls []) := by
    intro H locs cells slots hw hS
    unfold kX_X1_meeting at hm
    refine lv_aload_n hx hb dX1_meeting_0 rfl (lv_at hl 0 rfl) ?_
    refine lv_iload_n hx hb dX1_meeting_1 rfl (lv_at hl 1 rfl) ?_
    obtain ⟨u1, hu1, hm⟩ := ob_s hm
    obtain ⟨w2, hw2, hm⟩ := tb_s hm
    refine xt_retv hS (xt_runV X hw (met_X1_someCups hlT N S x0 x1 w2 hw2) (x_cv X (lv := 6) (by omega) (by decide) cx_X1_someCups (lw_V q1342 q1344 qs46 q115 q1345)) xc1 hu1 rfl hl.1 rfl (Nat.le_of_ble_eq_true rfl) dX1_meeting_2) (fun t1 t2 u E9 ce q9 H1 locs1 hu ht => xt_pass X hlk hout (tc_r hu hm) ht (x_fits (lv2 := 0) X hw t1 t2).1 (x_fits (lv2 := 0) X hw t1 t2).2) (fun r3 hr3 H locs cells slots hw hS => ?_)
    replace hm := tc_l hr3 hm
    refine lv_aload_n hx hb dX1_meeting_5 rfl (lv_at hl 0 rfl) ?_
    obtain ⟨v4, hv4, hm⟩ := ob_s hm
    refine xr_val X hw xc1 in_X1 3 (by decide) q282 (f_obj_s hv4) dX1_meeting_6 ?_
    refine lv_aload_n hx hb dX1_meeting_9 rfl (lv_at hl 0 rfl) ?_
    obtain ⟨v5, hv5, hm⟩ := ob_s hm
    refine xr_val X hw xc1 in_X1 2 (by decide) q281 (f_obj_s hv5) dX1_meeting_10 ?_
    obtain ⟨u6, hu6, hm⟩ := ob_s hm
    obtain ⟨w7, hw7, hm⟩ := ob_s hm
    refine xr_retr hS (xr_runV X hw (met_X3_be N r3 v4 v5 w7 hw7) (x_cv X (lv := 0) (by omega) (by decide) cx_X3_be (lw_V q608 q354 q355 q120 q356)) xc2 hu6 rfl hl.1 rfl (Nat.le_of_ble_eq_true rfl) dX1_meeting_13) (fun H locs cells slots hw hS => ?_)
    obtain ⟨u8, hu8, hm⟩ := ob_s hm
    obtain ⟨w9, hw9, hm⟩ := ob_s hm
    refine xr_retr hS (xr_runV X hw (met_X3_bare N w7.1 w7.2 w9 hw9) (x_cv X (lv := 0) (by omega) (by decide) cx_X3_bare (lw_V q1389 q1390 q1391 q120 q1392)) xc2 hu8 rfl hl.1 rfl (Nat.le_of_ble_eq_true rfl) dX1_meeting_16) (fun H locs cells slots hw hS => ?_)
    refine lv_pop hx hb dX1_meeting_19 rfl ?_
    refine lv_aload_n hx hb dX1_meeting_20 rfl (lv_at hl 0 rfl) ?_
    refine lv_iload_n hx hb dX1_meeting_21 rfl (lv_at hl 1 rfl) ?_
    refine lv_sipush (v := 5000) hx hb dX1_meeting_22 (by decide) ?_
    obtain ⟨u10, hu10, hm⟩ := ob_s hm
    obtain ⟨w11, hw11, hm⟩ := ob_s hm
    refine xr_reti hS (xr_runV X hw (met_X1_firstOn N w9.1 x0 x1 5000 w11 hw11) (x_cv X (lv := 81) (by omega) (by decide) cx_X1_firstOn (lw_V q1331 q1333 qs45 q115 q1334)) xc1 hu10 rfl hl.1 rfl (Nat.le_of_ble_eq_true rfl) dX1_meeting_25) (fun H locs cells slots hw hS => ?_)
    obtain rfl := Option.some.inj hm
    exact xt_iret (v := w11.2) X hr hlk hw hS rfl dX1_meeting_28
  exact hg _ _ _ _ hw va_S.rf
/-! DripCups.flow -/
def kX_X1_flow (g : XC) (N : Nat) (S : XS) (x0 : Nat) (x1 : Int32) (x2 : Int32) : Option ((XS × Int32) ⊕ XT) :=
  (f_cls S 1 x0).bind fun u1 =>
  tbind (kX_X1_aCup g N S x0 x1) fun r3 =>
  (kX_X1_in g N x2 0 1000000).bind fun w4 =>
  tbind (kX_X1_right g N r3 w4) fun r6 =>
  (f_obj r6 1 x0 2).bind fun v7 =>
  (f_cls r6 2 v7).bind fun u8 =>
  (kX_X3_flows g N r6 v7 x2).bind fun w9 =>
  (a_long w9.1 w9.2 x1).bind fun v10 =>
  some (.inl (w9.1, (v10 : Int64).toInt32))
theorem cx_X1_flow : yX1_flow.cls = RX1 ∧ yX1_flow.cls ≠ "java/lang/invoke/MethodHandle" ∧ yX1_flow.cls ≠ "java/lang/invoke/VarHandle" ∧ (parseMethodDescriptor yX1_flow.desc).map (fun d => d.parameters.length) = some 2 := by decide +kernel
theorem met_X1_flow {l : Launch} {g : XC} {D : va_G} {A : Nat → Prop} (hlT : l.stackTraces = false) (N : Nat) (S : XS) (x0 : Nat) (x1 : Int32) (x2 : Int32) (w : (XS × Int32) ⊕ XT) (hm : kX_X1_flow g N S x0 x1 x2 = some w) : vx_Met l yX1_flow (ws_ yX1_flow cX1_flow 3 (Option.some Jvm.ClassFile.FieldType.int)) (xRm g S 7) (xPre g D A [.ref x0, .int x1, .int x2] S) (xTi g D A w) (xTx g D A w) (g.2.1 - xTop S) (g.2.2.1 - xSl S) A := by
  refine x_startT (own := RX1) (by decide +kernel) rfl (Nat.le_of_ble_eq_true rfl) (fun p e s m below meth c ls X hr hlk hnm hout hw hl => ?_)
  have hw0 := hw
  obtain ⟨hx, hb, -, hown, hts, -⟩ := id X
  have hl : lv_has ls 3 [(0, .ref x0), (1, .int x1), (2, .int x2)] := hl
  have hg : ∀ (H : Heap) (locs : List Loc) (cells slots : Nat), xW g D A S s H → va_S A s.heap H locs → W p l e (xRm g S 7) s m ([.ref x0, .int x1, .int x2] : List Value).toArray below meth c H locs cells slots (vx_MQ below (xTi g D A w) (xTx g D A w) ([.ref x0, .int x1, .int x2] : List Value).toArray s (g.2.1 - xTop S) (g.2.2.1 - xSl S) A) (F0 m 0 ls []) := by
    intro H locs cells slots hw hS
    unfold kX_X1_flow at hm
    refine lv_aload_n hx hb dX1_flow_0 rfl (lv_at hl 0 rfl) ?_
    refine lv_iload_n hx hb dX1_flow_1 rfl (lv_at hl 1 rfl) ?_
    obtain ⟨u1, hu1, hm⟩ := ob_s hm
    obtain ⟨w2, hw2, hm⟩ := tb_s hm
    refine xt_retv hS (xt_runV X hw (met_X1_aCup hlT N S x0 x1 w2 hw2) (x_cv X (lv := 6) (by omega) (by decide) cx_X1_aCup (lw_V q1240 q1242 qs40 q115 q1243)) xc1 hu1 rfl hl.1 rfl (Nat.le_of_ble_eq_true rfl) dX1_flow_2) (fun t1 t2 u E9 ce q9 H1 locs1 hu ht => xt_pass X hlk hout (tc_r hu hm) ht (x_fits (lv2 := 0) X hw t1 t2).1 (x_fits (lv2 := 0) X hw t1 t2).2) (fun r3 hr3 H locs cells slots hw hS => ?_)
    replace hm := tc_l hr3 hm
    refine lv_iload_n hx hb dX1_flow_5 rfl (lv_at hl 2 rfl) ?_
    refine lv_iconst (v := 0) hx hb dX1_flow_6 (by decide) ?_
    refine lv_ldc (v := 1000000) hx hb hown (hts _ q1366) dX1_flow_7 ?_
    obtain ⟨w4, hw4, hm⟩ := ob_s hm
    refine xr_reti hS (xr_runS X hw (met_X1_in N r3 x2 0 1000000 w4 hw4) (x_cs X (lv := 0) (by omega) (by decide) cx_X1_in (lw_S q336 q337 q115 q338)) rfl hl.1 rfl (Nat.le_of_ble_eq_true rfl) dX1_flow_9) (fun H locs cells slots hw hS => ?_)
    obtain ⟨w5, hw5, hm⟩ := tb_s hm
    refine xt_retv hS (xt_runS X hw (met_X1_right hlT N r3 w4 w5 hw5) (x_cs X (lv := 5) (by omega) (by decide) cx_X1_right (lw_S q655 q656 q115 q657)) rfl hl.1 rfl (Nat.le_of_ble_eq_true rfl) dX1_flow_12) (fun t1 t2 u E9 ce q9 H1 locs1 hu ht => xt_pass X hlk hout (tc_r hu hm) ht (x_fits (lv2 := 0) X hw t1 t2).1 (x_fits (lv2 := 0) X hw t1 t2).2) (fun r6 hr6 H locs cells slots hw hS => ?_)
    replace hm := tc_l hr6 hm
    refine lv_aload_n hx hb dX1_flow_15 rfl (lv_at hl 0 rfl) ?_
    obtain ⟨v7, hv7, hm⟩ := ob_s hm
    refine xr_val X hw xc1 in_X1 2 (by decide) q281 (f_obj_s hv7) dX1_flow_16 ?_
    refine lv_iload_n hx hb dX1_flow_19 rfl (lv_at hl 2 rfl) ?_
    obtain ⟨u8, hu8, hm⟩ := ob_s hm
    obtain ⟨w9, hw9, hm⟩ := ob_s hm
    refine xr_retr hS (xr_runV X hw (met_X3_flows N r6 v7 x2 w9 hw9) (x_cv X (lv := 3) (by omega) (by decide) cx_X3_flows (lw_V q1367 q1368 q1369 q120 q1370)) xc2 hu8 rfl hl.1 rfl (Nat.le_of_ble_eq_true rfl) dX1_flow_20) (fun H locs cells slots hw hS => ?_)
    refine lv_iload_n hx hb dX1_flow_23 rfl (lv_at hl 1 rfl) ?_
    obtain ⟨v10, hv10, hm⟩ := ob_s hm
    refine xr_lald X hw hv10 dX1_flow_24 ?_
    refine lv_l2i hx hb dX1_flow_25 rfl ?_
    obtain rfl := Option.some.inj hm
    exact xt_iret (v := (v10 : Int64).toInt32) X hr hlk hw hS rfl dX1_flow_26
  exact hg _ _ _ _ hw va_S.rf
/-! DripCups.tier -/
def kX_X1_tier (g : XC) (N : Nat) (S : XS) (x0 : Nat) (x1 : Int32) (x2 : Int32) : Option ((XS × Int32) ⊕ XT) :=
  (f_cls S 1 x0).bind fun u1 =>
  tbind (kX_X1_aCup g N S x0 x1) fun r3 =>
  tbind (kX_X1_oneOf g N r3 x2 1) fun r5 =>
  if x2 = 0 then
    (f_cls r5 1 x0).bind fun u9 =>
    (kX_X1_above g N r5 x0 x1).bind fun w10 =>
    some (.inl (w10.1, w10.2))
  else
    (f_cls r5 1 x0).bind fun u7 =>
    (kX_X1_below g N r5 x0 x1).bind fun w8 =>
    some (.inl (w8.1, w8.2))
theorem cx_X1_tier : yX1_tier.cls = RX1 ∧ yX1_tier.cls ≠ "java/lang/invoke/MethodHandle" ∧ yX1_tier.cls ≠ "java/lang/invoke/VarHandle" ∧ (parseMethodDescriptor yX1_tier.desc).map (fun d => d.parameters.length) = some 2 := by decide +kernel
theorem met_X1_tier {l : Launch} {g : XC} {D : va_G} {A : Nat → Prop} (hlT : l.stackTraces = false) (N : Nat) (S : XS) (x0 : Nat) (x1 : Int32) (x2 : Int32) (w : (XS × Int32) ⊕ XT) (hm : kX_X1_tier g N S x0 x1 x2 = some w) : vx_Met l yX1_tier (ws_ yX1_tier cX1_tier 3 (Option.some Jvm.ClassFile.FieldType.int)) (xRm g S 7) (xPre g D A [.ref x0, .int x1, .int x2] S) (xTi g D A w) (xTx g D A w) (g.2.1 - xTop S) (g.2.2.1 - xSl S) A := by
  refine x_startT (own := RX1) (by decide +kernel) rfl (Nat.le_of_ble_eq_true rfl) (fun p e s m below meth c ls X hr hlk hnm hout hw hl => ?_)
  have hw0 := hw
  obtain ⟨hx, hb, -, hown, hts, -⟩ := id X
  have hl : lv_has ls 3 [(0, .ref x0), (1, .int x1), (2, .int x2)] := hl
  have hg : ∀ (H : Heap) (locs : List Loc) (cells slots : Nat), xW g D A S s H → va_S A s.heap H locs → W p l e (xRm g S 7) s m ([.ref x0, .int x1, .int x2] : List Value).toArray below meth c H locs cells slots (vx_MQ below (xTi g D A w) (xTx g D A w) ([.ref x0, .int x1, .int x2] : List Value).toArray s (g.2.1 - xTop S) (g.2.2.1 - xSl S) A) (F0 m 0 ls []) := by
    intro H locs cells slots hw hS
    unfold kX_X1_tier at hm
    refine lv_aload_n hx hb dX1_tier_0 rfl (lv_at hl 0 rfl) ?_
    refine lv_iload_n hx hb dX1_tier_1 rfl (lv_at hl 1 rfl) ?_
    obtain ⟨u1, hu1, hm⟩ := ob_s hm
    obtain ⟨w2, hw2, hm⟩ := tb_s hm
    refine xt_retv hS (xt_runV X hw (met_X1_aCup hlT N S x0 x1 w2 hw2) (x_cv X (lv := 6) (by omega) (by decide) cx_X1_aCup (lw_V q1240 q1242 qs40 q115 q1243)) xc1 hu1 rfl hl.1 rfl (Nat.le_of_ble_eq_true rfl) dX1_tier_2) (fun t1 t2 u E9 ce q9 H1 locs1 hu ht => xt_pass X hlk hout (tc_r hu hm) ht (x_fits (lv2 := 0) X hw t1 t2).1 (x_fits (lv2 := 0) X hw t1 t2).2) (fun r3 hr3 H locs cells slots hw hS => ?_)
    replace hm := tc_l hr3 hm
    refine lv_iload_n hx hb dX1_tier_5 rfl (lv_at hl 2 rfl) ?_
    refine lv_iconst (v := 1) hx hb dX1_tier_6 (by decide) ?_
    obtain ⟨w4, hw4, hm⟩ := tb_s hm
    refine xt_retv hS (xt_runS X hw (met_X1_oneOf hlT N r3 x2 1 w4 hw4) (x_cs X (lv := 6) (by omega) (by decide) cx_X1_oneOf (lw_S q1306 q1307 q115 q1308)) rfl hl.1 rfl (Nat.le_of_ble_eq_true rfl) dX1_tier_7) (fun t1 t2 u E9 ce q9 H1 locs1 hu ht => xt_pass X hlk hout (tc_r hu hm) ht (x_fits (lv2 := 0) X hw t1 t2).1 (x_fits (lv2 := 0) X hw t1 t2).2) (fun r5 hr5 H locs cells slots hw hS => ?_)
    replace hm := tc_l hr5 hm
    refine lv_iload_n hx hb dX1_tier_10 rfl (lv_at hl 2 rfl) ?_
    refine lv_if_ne (tgt := 22) hx hb dX1_tier_11 (by decide) (fun c6 => ?_) (fun c6 => ?_)
    · replace hm := if_f c6 hm
      refine lv_aload_n hx hb dX1_tier_22 rfl (lv_at hl 0 rfl) ?_
      refine lv_iload_n hx hb dX1_tier_23 rfl (lv_at hl 1 rfl) ?_
      obtain ⟨u7, hu7, hm⟩ := ob_s hm
      obtain ⟨w8, hw8, hm⟩ := ob_s hm
      refine xr_reti hS (xr_runV X hw (met_X1_below N r5 x0 x1 w8 hw8) (x_cv X (lv := 2) (by omega) (by decide) cx_X1_below (lw_V q1193 q1195 qs37 q115 q1196)) xc1 hu7 rfl hl.1 rfl (Nat.le_of_ble_eq_true rfl) dX1_tier_24) (fun H locs cells slots hw hS => ?_)
      obtain rfl := Option.some.inj hm
      exact xt_iret (v := w8.2) X hr hlk hw hS rfl dX1_tier_27
    · replace hm := if_t c6 hm
      refine lv_aload_n hx hb dX1_tier_14 rfl (lv_at hl 0 rfl) ?_
      refine lv_iload_n hx hb dX1_tier_15 rfl (lv_at hl 1 rfl) ?_
      obtain ⟨u9, hu9, hm⟩ := ob_s hm
      obtain ⟨w10, hw10, hm⟩ := ob_s hm
      refine xr_reti hS (xr_runV X hw (met_X1_above N r5 x0 x1 w10 hw10) (x_cv X (lv := 3) (by omega) (by decide) cx_X1_above (lw_V q1189 q1191 qs36 q115 q1192)) xc1 hu9 rfl hl.1 rfl (Nat.le_of_ble_eq_true rfl) dX1_tier_16) (fun H locs cells slots hw hS => ?_)
      refine lv_goto (tgt := 27) hx hb dX1_tier_19 (by decide) ?_
      obtain rfl := Option.some.inj hm
      exact xt_iret (v := w10.2) X hr hlk hw hS rfl dX1_tier_27
  exact hg _ _ _ _ hw va_S.rf
/-! DripCups.toCrack -/
def kX_X1_toCrack_122 (g : XC) (N : Nat) (K44 : XS → Nat → Int32 → Int32 → Int32 → Int32 → Int32 → Int32 → Int32 → Option ((XS × Int32) ⊕ XT)) (S : XS) (x0 : Nat) (x1 : Int32) (x2 : Int32) (x3 : Int32) (x4 : Int32) (x5 : Int32) (x6 : Int32) (x7 : Int32) : Option ((XS × Int32) ⊕ XT) :=
  K44 S x0 x1 x2 x3 x4 x5 x6 (x7 + 1)
theorem wkX_X1_toCrack_122 {p : Program} {l : Launch} {e : Env} {s : State} {m : MethodId} {args : Array Value} {below : List Frame} {meth : Method} {c : Code} {g : XC} {D : va_G} {A : Nat → Prop} {S0 : XS} {w : (XS × Int32) ⊕ XT} (X : xX g D A RX1 S0 p s m args c cX1_toCrack 9) (hr : meth.sig.returnType = (Option.some Jvm.ClassFile.FieldType.int)) (hlk : meth.locks = false) (hnm : meth.name = yX1_toCrack.name) (hlT : l.stackTraces = false) (hout : ∀ x ∈ c.exceptionTable.toList, False) (hw0 : xW g D A S0 s s.heap) (N : Nat) (K44 : XS → Nat → Int32 → Int32 → Int32 → Int32 → Int32 → Int32 → Int32 → Option ((XS × Int32) ⊕ XT))
    (hK44 : ∀ (S : XS) (x0 : Nat) (x1 : Int32) (x2 : Int32) (x3 : Int32) (x4 : Int32) (x5 : Int32) (x6 : Int32) (x7 : Int32) (H : Heap) (locs : List Loc) (ls : Array Slot) (cells slots : Nat), K44 S x0 x1 x2 x3 x4 x5 x6 x7 = some w → xW g D A S s H → va_S A s.heap H locs → lv_has ls 9 [(0, .ref x0), (1, .int x1), (2, .int x2), (3, .int x3), (4, .int x4), (5, .int x5), (6, .int x6), (7, .int x7)] → W p l e (xRm g S0 82) s m args below meth c H locs cells slots (vx_MQ below (xTi g D A w) (xTx g D A w) args s (g.2.1 - xTop S0) (g.2.2.1 - xSl S0) A) (F0 m 44 ls [])) :
    ∀ (S : XS) (x0 : Nat) (x1 : Int32) (x2 : Int32) (x3 : Int32) (x4 : Int32) (x5 : Int32) (x6 : Int32) (x7 : Int32) (H : Heap) (locs : List Loc) (ls : Array Slot) (cells slots : Nat), kX_X1_toCrack_122 g N K44 S x0 x1 x2 x3 x4 x5 x6 x7 = some w → xW g D A S s H → va_S A s.heap H locs → lv_has ls 9 [(0, .ref x0), (1, .int x1), (2, .int x2), (3, .int x3), (4, .int x4), (5, .int x5), (6, .int x6), (7, .int x7)] → W p l e (xRm g S0 82) s m args below meth c H locs cells slots (vx_MQ below (xTi g D A w) (xTx g D A w) args s (g.2.1 - xTop S0) (g.2.2.1 - xSl S0) A) (F0 m 122 ls []) := by
  obtain ⟨hx, hb, -, hown, hts, -⟩ := id X
  intro S x0 x1 x2 x3 x4 x5 x6 x7 H locs ls cells slots hm hw hS hl
  unfold kX_X1_toCrack_122 at hm
  refine lv_iinc (v := (x7 + 1)) (lv' := [(7, .int (x7 + 1)), (0, .ref x0), (1, .int x1), (2, .int x2), (3, .int x3), (4, .int x4), (5, .int x5), (6, .int x6)]) hx hb dX1_toCrack_122 hl (k := 7) rfl rfl (by decide) rfl (fun ls hl => ?_)
  refine lv_goto (tgt := 44) hx hb dX1_toCrack_125 (by decide) ?_
  exact hK44 S x0 x1 x2 x3 x4 x5 x6 (x7 + 1) H locs ls _ _ hm hw hS (lv_sub hl [1, 2, 3, 4, 5, 6, 7, 0] rfl)
def kX_X1_toCrack_114 (g : XC) (N : Nat) (K44 : XS → Nat → Int32 → Int32 → Int32 → Int32 → Int32 → Int32 → Int32 → Option ((XS × Int32) ⊕ XT)) (S : XS) (x0 : Nat) (x1 : Int32) (x2 : Int32) (x3 : Int32) (x4 : Int32) (x7 : Int32) (x8 : Int32) : Option ((XS × Int32) ⊕ XT) :=
  kX_X1_toCrack_122 g N K44 S x0 x1 x2 x3 x4 x7 x8 x7
theorem wkX_X1_toCrack_114 {p : Program} {l : Launch} {e : Env} {s : State} {m : MethodId} {args : Array Value} {below : List Frame} {meth : Method} {c : Code} {g : XC} {D : va_G} {A : Nat → Prop} {S0 : XS} {w : (XS × Int32) ⊕ XT} (X : xX g D A RX1 S0 p s m args c cX1_toCrack 9) (hr : meth.sig.returnType = (Option.some Jvm.ClassFile.FieldType.int)) (hlk : meth.locks = false) (hnm : meth.name = yX1_toCrack.name) (hlT : l.stackTraces = false) (hout : ∀ x ∈ c.exceptionTable.toList, False) (hw0 : xW g D A S0 s s.heap) (N : Nat) (K44 : XS → Nat → Int32 → Int32 → Int32 → Int32 → Int32 → Int32 → Int32 → Option ((XS × Int32) ⊕ XT))
    (hK44 : ∀ (S : XS) (x0 : Nat) (x1 : Int32) (x2 : Int32) (x3 : Int32) (x4 : Int32) (x5 : Int32) (x6 : Int32) (x7 : Int32) (H : Heap) (locs : List Loc) (ls : Array Slot) (cells slots : Nat), K44 S x0 x1 x2 x3 x4 x5 x6 x7 = some w → xW g D A S s H → va_S A s.heap H locs → lv_has ls 9 [(0, .ref x0), (1, .int x1), (2, .int x2), (3, .int x3), (4, .int x4), (5, .int x5), (6, .int x6), (7, .int x7)] → W p l e (xRm g S0 82) s m args below meth c H locs cells slots (vx_MQ below (xTi g D A w) (xTx g D A w) args s (g.2.1 - xTop S0) (g.2.2.1 - xSl S0) A) (F0 m 44 ls [])) :
    ∀ (S : XS) (x0 : Nat) (x1 : Int32) (x2 : Int32) (x3 : Int32) (x4 : Int32) (x7 : Int32) (x8 : Int32) (H : Heap) (locs : List Loc) (ls : Array Slot) (cells slots : Nat), kX_X1_toCrack_114 g N K44 S x0 x1 x2 x3 x4 x7 x8 = some w → xW g D A S s H → va_S A s.heap H locs → lv_has ls 9 [(0, .ref x0), (1, .int x1), (2, .int x2), (3, .int x3), (4, .int x4), (7, .int x7), (8, .int x8)] → W p l e (xRm g S0 82) s m args below meth c H locs cells slots (vx_MQ below (xTi g D A w) (xTx g D A w) args s (g.2.1 - xTop S0) (g.2.2.1 - xSl S0) A) (F0 m 114 ls []) := by
  obtain ⟨hx, hb, -, hown, hts, -⟩ := id X
  intro S x0 x1 x2 x3 x4 x7 x8 H locs ls cells slots hm hw hS hl
  unfold kX_X1_toCrack_114 at hm
  refine lv_iload hx hb dX1_toCrack_114 (lv_at hl 5 rfl) ?_
  refine lv_istore (lv' := [(5, .int x7), (0, .ref x0), (1, .int x1), (2, .int x2), (3, .int x3), (4, .int x4), (7, .int x7), (8, .int x8)]) hx hb dX1_toCrack_116 hl (by decide) rfl (fun ls hl => ?_)
  refine lv_iload hx hb dX1_toCrack_118 (lv_at hl 7 rfl) ?_
  refine lv_istore (lv' := [(6, .int x8), (5, .int x7), (0, .ref x0), (1, .int x1), (2, .int x2), (3, .int x3), (4, .int x4), (7, .int x7), (8, .int x8)]) hx hb dX1_toCrack_120 hl (by decide) rfl (fun ls hl => ?_)
  exact wkX_X1_toCrack_122 X hr hlk hnm hlT hout hw0 N K44 hK44 S x0 x1 x2 x3 x4 x7 x8 x7 H locs ls _ _ hm hw hS (lv_sub hl [2, 3, 4, 5, 6, 1, 0, 7] rfl)
def kX_X1_toCrack_44 (g : XC) (N : Nat) : Nat → XS → Nat → Int32 → Int32 → Int32 → Int32 → Int32 → Int32 → Int32 → Option ((XS × Int32) ⊕ XT)
  | 0, _, _, _, _, _, _, _, _, _ => none
  | n + 1, S, x0, x1, x2, x3, x4, x5, x6, x7 =>
    if (30 : Int32) < x7 then
      if x4 = 0 then
        some (.inl (S, x5))
      else
        some (.inl (S, x6))
    else
      (f_obj S 1 x0 3).bind fun v3 =>
      (f_obj S 1 x0 2).bind fun v4 =>
      (f_cls S 2 v3).bind fun u5 =>
      (kX_X3_be g N S v3 v4).bind fun w6 =>
      (f_cls w6.1 2 w6.2).bind fun u7 =>
      (kX_X3_crack g N w6.1 w6.2 x1 x7).bind fun w8 =>
      (f_obj w8 1 x0 3).bind fun v9 =>
      (f_cls w8 2 v9).bind fun u10 =>
      (kX_X3_after g N w8 v9 x3).bind fun w11 =>
      (f_obj w11.1 2 w11.2 2).bind fun v12 =>
      (a_int w11.1 0 v12 x1).bind fun v13 =>
      (f_obj w11.1 1 x0 2).bind fun v14 =>
      (f_obj w11.1 2 v14 2).bind fun v15 =>
      (a_int w11.1 0 v15 x1).bind fun v16 =>
      bnd (if (0 : Int32) ≤ ((v13 - v16) - x2) then ((v13 - v16) - x2) else 0 - ((v13 - v16) - x2)) fun v17 =>
      if x5 = (-1) then
        kX_X1_toCrack_114 g N (kX_X1_toCrack_44 g N n) w11.1 x0 x1 x2 x3 x4 x7 v17
      else
        if v17 < x6 then
          kX_X1_toCrack_114 g N (kX_X1_toCrack_44 g N n) w11.1 x0 x1 x2 x3 x4 x7 v17
        else
          kX_X1_toCrack_122 g N (kX_X1_toCrack_44 g N n) w11.1 x0 x1 x2 x3 x4 x5 x6 x7
theorem wkX_X1_toCrack_44 {p : Program} {l : Launch} {e : Env} {s : State} {m : MethodId} {args : Array Value} {below : List Frame} {meth : Method} {c : Code} {g : XC} {D : va_G} {A : Nat → Prop} {S0 : XS} {w : (XS × Int32) ⊕ XT} (X : xX g D A RX1 S0 p s m args c cX1_toCrack 9) (hr : meth.sig.returnType = (Option.some Jvm.ClassFile.FieldType.int)) (hlk : meth.locks = false) (hnm : meth.name = yX1_toCrack.name) (hlT : l.stackTraces = false) (hout : ∀ x ∈ c.exceptionTable.toList, False) (hw0 : xW g D A S0 s s.heap) (N : Nat) :
    ∀ (n : Nat) (S : XS) (x0 : Nat) (x1 : Int32) (x2 : Int32) (x3 : Int32) (x4 : Int32) (x5 : Int32) (x6 : Int32) (x7 : Int32) (H : Heap) (locs : List Loc) (ls : Array Slot) (cells slots : Nat), kX_X1_toCrack_44 g N n S x0 x1 x2 x3 x4 x5 x6 x7 = some w → xW g D A S s H → va_S A s.heap H locs → lv_has ls 9 [(0, .ref x0), (1, .int x1), (2, .int x2), (3, .int x3), (4, .int x4), (5, .int x5), (6, .int x6), (7, .int x7)] → W p l e (xRm g S0 82) s m args below meth c H locs cells slots (vx_MQ below (xTi g D A w) (xTx g D A w) args s (g.2.1 - xTop S0) (g.2.2.1 - xSl S0) A) (F0 m 44 ls []) := by
  obtain ⟨hx, hb, -, hown, hts, -⟩ := id X
  intro n
  induction n with
  | zero =>
    intro S x0 x1 x2 x3 x4 x5 x6 x7 H locs ls cells slots hm
    cases hm
  | succ n ih =>
    intro S x0 x1 x2 x3 x4 x5 x6 x7 H locs ls cells slots hm hw hS hl
    rw [kX_X1_toCrack_44] at hm
    refine lv_iload hx hb dX1_toCrack_44 (lv_at hl 7 rfl) ?_
    refine lv_bipush (v := 30) hx hb dX1_toCrack_46 (by decide) ?_
    refine lv_icmp_gt (tgt := 128) hx hb dX1_toCrack_48 (by decide) (fun c1 => ?_) (fun c1 => ?_)
    · replace hm := if_t c1 hm
      refine lv_iload hx hb dX1_toCrack_128 (lv_at hl 4 rfl) ?_
      refine lv_if_ne (tgt := 138) hx hb dX1_toCrack_130 (by decide) (fun c2 => ?_) (fun c2 => ?_)
      · replace hm := if_f c2 hm
        refine lv_iload hx hb dX1_toCrack_138 (lv_at hl 6 rfl) ?_
        obtain rfl := Option.some.inj hm
        exact xt_iret (v := x6) X hr hlk hw hS rfl dX1_toCrack_140
      · replace hm := if_t c2 hm
        refine lv_iload hx hb dX1_toCrack_133 (lv_at hl 5 rfl) ?_
        refine lv_goto (tgt := 140) hx hb dX1_toCrack_135 (by decide) ?_
        obtain rfl := Option.some.inj hm
        exact xt_iret (v := x5) X hr hlk hw hS rfl dX1_toCrack_140
    · replace hm := if_f c1 hm
      refine lv_aload_n hx hb dX1_toCrack_51 rfl (lv_at hl 0 rfl) ?_
      obtain ⟨v3, hv3, hm⟩ := ob_s hm
      refine xr_val X hw xc1 in_X1 3 (by decide) q282 (f_obj_s hv3) dX1_toCrack_52 ?_
      refine lv_aload_n hx hb dX1_toCrack_55 rfl (lv_at hl 0 rfl) ?_
      obtain ⟨v4, hv4, hm⟩ := ob_s hm
      refine xr_val X hw xc1 in_X1 2 (by decide) q281 (f_obj_s hv4) dX1_toCrack_56 ?_
      obtain ⟨u5, hu5, hm⟩ := ob_s hm
      obtain ⟨w6, hw6, hm⟩ := ob_s hm
      refine xr_retr hS (xr_runV X hw (met_X3_be N S v3 v4 w6 hw6) (x_cv X (lv := 0) (by omega) (by decide) cx_X3_be (lw_V q608 q354 q355 q120 q356)) xc2 hu5 rfl hl.1 rfl (Nat.le_of_ble_eq_true rfl) dX1_toCrack_59) (fun H locs cells slots hw hS => ?_)
      refine lv_iload_n hx hb dX1_toCrack_62 rfl (lv_at hl 1 rfl) ?_
      refine lv_iload hx hb dX1_toCrack_63 (lv_at hl 7 rfl) ?_
      obtain ⟨u7, hu7, hm⟩ := ob_s hm
      obtain ⟨w8, hw8, hm⟩ := ob_s hm
      refine xr_retv hS (xr_runV X hw (met_X3_crack N w6.1 w6.2 x1 x7 w8 hw8) (x_cv X (lv := 1) (by omega) (by decide) cx_X3_crack (lw_V q1295 q1296 q1297 q120 q1298)) xc2 hu7 rfl hl.1 rfl (Nat.le_of_ble_eq_true rfl) dX1_toCrack_65) (fun H locs cells slots hw hS => ?_)
      refine lv_aload_n hx hb dX1_toCrack_68 rfl (lv_at hl 0 rfl) ?_
      obtain ⟨v9, hv9, hm⟩ := ob_s hm
      refine xr_val X hw xc1 in_X1 3 (by decide) q282 (f_obj_s hv9) dX1_toCrack_69 ?_
      refine lv_iload_n hx hb dX1_toCrack_72 rfl (lv_at hl 3 rfl) ?_
      obtain ⟨u10, hu10, hm⟩ := ob_s hm
      obtain ⟨w11, hw11, hm⟩ := ob_s hm
      refine xr_retr hS (xr_runV X hw (met_X3_after N w8 v9 x3 w11 hw11) (x_cv X (lv := 81) (by omega) (by decide) cx_X3_after (lw_V q454 q455 q456 q120 q457)) xc2 hu10 rfl hl.1 rfl (Nat.le_of_ble_eq_true rfl) dX1_toCrack_73) (fun H locs cells slots hw hS => ?_)
      obtain ⟨v12, hv12, hm⟩ := ob_s hm
      refine xr_valN X hw xc2 in_X3 2 (by decide) q217 (f_obj_s hv12) dX1_toCrack_76 ?_
      refine lv_iload_n hx hb dX1_toCrack_79 rfl (lv_at hl 1 rfl) ?_
      obtain ⟨v13, hv13, hm⟩ := ob_s hm
      refine xr_iald X hw hv13 dX1_toCrack_80 ?_
      refine lv_aload_n hx hb dX1_toCrack_81 rfl (lv_at hl 0 rfl) ?_
      obtain ⟨v14, hv14, hm⟩ := ob_s hm
      refine xr_val X hw xc1 in_X1 2 (by decide) q281 (f_obj_s hv14) dX1_toCrack_82 ?_
      obtain ⟨v15, hv15, hm⟩ := ob_s hm
      refine xr_valN X hw xc2 in_X3 2 (by decide) q217 (f_obj_s hv15) dX1_toCrack_85 ?_
      refine lv_iload_n hx hb dX1_toCrack_88 rfl (lv_at hl 1 rfl) ?_
      obtain ⟨v16, hv16, hm⟩ := ob_s hm
      refine xr_iald X hw hv16 dX1_toCrack_89 ?_
      refine lv_isub hx hb dX1_toCrack_90 ?_
      refine lv_iload_n hx hb dX1_toCrack_91 rfl (lv_at hl 2 rfl) ?_
      refine lv_isub hx hb dX1_toCrack_92 ?_
      refine xr_mabs X hw hl.1 q1415 q1416 q127 q1417 (Nat.le_of_ble_eq_true rfl) dX1_toCrack_93 (fun cells slots => ?_)
      refine lv_topi (fun v17 ev17 => ?_)
      replace hm := bnd_s hm ev17
      refine lv_istore (lv' := [(8, .int v17), (0, .ref x0), (1, .int x1), (2, .int x2), (3, .int x3), (4, .int x4), (5, .int x5), (6, .int x6), (7, .int x7)]) hx hb dX1_toCrack_96 hl (by decide) rfl (fun ls hl => ?_)
      refine lv_iload hx hb dX1_toCrack_98 (lv_at hl 6 rfl) ?_
      refine lv_iconst (v := (-1)) hx hb dX1_toCrack_100 (by decide) ?_
      refine lv_icmp_eq (tgt := 114) hx hb dX1_toCrack_101 (by decide) (fun c18 => ?_) (fun c18 => ?_)
      · replace hm := if_t c18 hm
        exact wkX_X1_toCrack_114 X hr hlk hnm hlT hout hw0 N (kX_X1_toCrack_44 g N n) ih w11.1 x0 x1 x2 x3 x4 x7 v17 H locs ls _ _ hm hw hS (lv_sub hl [1, 2, 3, 4, 5, 8, 0] rfl)
      · replace hm := if_f c18 hm
        refine lv_iload hx hb dX1_toCrack_104 (lv_at hl 0 rfl) ?_
        refine lv_iload hx hb dX1_toCrack_106 (lv_at hl 7 rfl) ?_
        refine lv_icmp_lt (tgt := 114) hx hb dX1_toCrack_108 (by decide) (fun c19 => ?_) (fun c19 => ?_)
        · replace hm := if_t c19 hm
          exact wkX_X1_toCrack_114 X hr hlk hnm hlT hout hw0 N (kX_X1_toCrack_44 g N n) ih w11.1 x0 x1 x2 x3 x4 x7 v17 H locs ls _ _ hm hw hS (lv_sub hl [1, 2, 3, 4, 5, 8, 0] rfl)
        · replace hm := if_f c19 hm
          refine lv_goto (tgt := 122) hx hb dX1_toCrack_111 (by decide) ?_
          exact wkX_X1_toCrack_122 X hr hlk hnm hlT hout hw0 N (kX_X1_toCrack_44 g N n) ih w11.1 x0 x1 x2 x3 x4 x5 x6 x7 H locs ls _ _ hm hw hS (lv_sub hl [1, 2, 3, 4, 5, 6, 7, 8] rfl)
def kX_X1_toCrack_30 (g : XC) (N : Nat) (S : XS) (x0 : Nat) (x1 : Int32) (x2 : Int32) (x3 : Int32) (x4 : Int32) (t0 : Int32) : Option ((XS × Int32) ⊕ XT) :=
  tbind (kX_X1_right g N S t0) fun r2 =>
  kX_X1_toCrack_44 g N N r2 x0 x1 x2 x3 x4 (-1) 2147483647 1
theorem wkX_X1_toCrack_30 {p : Program} {l : Launch} {e : Env} {s : State} {m : MethodId} {args : Array Value} {below : List Frame} {meth : Method} {c : Code} {g : XC} {D : va_G} {A : Nat → Prop} {S0 : XS} {w : (XS × Int32) ⊕ XT} (X : xX g D A RX1 S0 p s m args c cX1_toCrack 9) (hr : meth.sig.returnType = (Option.some Jvm.ClassFile.FieldType.int)) (hlk : meth.locks = false) (hnm : meth.name = yX1_toCrack.name) (hlT : l.stackTraces = false) (hout : ∀ x ∈ c.exceptionTable.toList, False) (hw0 : xW g D A S0 s s.heap) (N : Nat) :
    ∀ (S : XS) (x0 : Nat) (x1 : Int32) (x2 : Int32) (x3 : Int32) (x4 : Int32) (t0 : Int32) (H : Heap) (locs : List Loc) (ls : Array Slot) (cells slots : Nat), kX_X1_toCrack_30 g N S x0 x1 x2 x3 x4 t0 = some w → xW g D A S s H → va_S A s.heap H locs → lv_has ls 9 [(0, .ref x0), (1, .int x1), (2, .int x2), (3, .int x3), (4, .int x4)] → W p l e (xRm g S0 82) s m args below meth c H locs cells slots (vx_MQ below (xTi g D A w) (xTx g D A w) args s (g.2.1 - xTop S0) (g.2.2.1 - xSl S0) A) (F0 m 30 ls [.int t0]) := by
  obtain ⟨hx, hb, -, hown, hts, -⟩ := id X
  intro S x0 x1 x2 x3 x4 t0 H locs ls cells slots hm hw hS hl
  unfold kX_X1_toCrack_30 at hm
  obtain ⟨w1, hw1, hm⟩ := tb_s hm
  refine xt_retv hS (xt_runS X hw (met_X1_right hlT N S t0 w1 hw1) (x_cs X (lv := 5) (by omega) (by decide) cx_X1_right (lw_S q655 q656 q115 q657)) rfl hl.1 rfl (Nat.le_of_ble_eq_true rfl) dX1_toCrack_30) (fun t1 t2 u E9 ce q9 H1 locs1 hu ht => xt_pass X hlk hout (tc_r hu hm) ht (x_fits (lv2 := 0) X hw t1 t2).1 (x_fits (lv2 := 0) X hw t1 t2).2) (fun r2 hr2 H locs cells slots hw hS => ?_)
  replace hm := tc_l hr2 hm
  refine lv_iconst (v := (-1)) hx hb dX1_toCrack_33 (by decide) ?_
  refine lv_istore (lv' := [(5, .int (-1)), (0, .ref x0), (1, .int x1), (2, .int x2), (3, .int x3), (4, .int x4)]) hx hb dX1_toCrack_34 hl (by decide) rfl (fun ls hl => ?_)
  refine lv_ldcw (v := 2147483647) hx hb hown (hts _ q1414) dX1_toCrack_36 ?_
  refine lv_istore (lv' := [(6, .int 2147483647), (5, .int (-1)), (0, .ref x0), (1, .int x1), (2, .int x2), (3, .int x3), (4, .int x4)]) hx hb dX1_toCrack_39 hl (by decide) rfl (fun ls hl => ?_)
  refine lv_iconst (v := 1) hx hb dX1_toCrack_41 (by decide) ?_
  refine lv_istore (lv' := [(7, .int 1), (6, .int 2147483647), (5, .int (-1)), (0, .ref x0), (1, .int x1), (2, .int x2), (3, .int x3), (4, .int x4)]) hx hb dX1_toCrack_42 hl (by decide) rfl (fun ls hl => ?_)
  exact wkX_X1_toCrack_44 X hr hlk hnm hlT hout hw0 N N r2 x0 x1 x2 x3 x4 (-1) 2147483647 1 H locs ls _ _ hm hw hS (lv_sub hl [3, 4, 5, 6, 7, 2, 1, 0] rfl)
def kX_X1_toCrack (g : XC) (N : Nat) (S : XS) (x0 : Nat) (x1 : Int32) (x2 : Int32) (x3 : Int32) (x4 : Int32) : Option ((XS × Int32) ⊕ XT) :=
  (f_cls S 1 x0).bind fun u1 =>
  tbind (kX_X1_aCup g N S x0 x1) fun r3 =>
  tbind (kX_X1_oneOf g N r3 x4 1) fun r5 =>
  if x2 < 0 then
    kX_X1_toCrack_30 g N r5 x0 x1 x2 x3 x4 0
  else
    (kX_X1_in g N x3 1 60).bind fun w7 =>
    if w7 = 0 then
      kX_X1_toCrack_30 g N r5 x0 x1 x2 x3 x4 0
    else
      kX_X1_toCrack_30 g N r5 x0 x1 x2 x3 x4 1
theorem cx_X1_toCrack : yX1_toCrack.cls = RX1 ∧ yX1_toCrack.cls ≠ "java/lang/invoke/MethodHandle" ∧ yX1_toCrack.cls ≠ "java/lang/invoke/VarHandle" ∧ (parseMethodDescriptor yX1_toCrack.desc).map (fun d => d.parameters.length) = some 4 := by decide +kernel
theorem met_X1_toCrack {l : Launch} {g : XC} {D : va_G} {A : Nat → Prop} (hlT : l.stackTraces = false) (N : Nat) (S : XS) (x0 : Nat) (x1 : Int32) (x2 : Int32) (x3 : Int32) (x4 : Int32) (w : (XS × Int32) ⊕ XT) (hm : kX_X1_toCrack g N S x0 x1 x2 x3 x4 = some w) : vx_Met l yX1_toCrack (ws_ yX1_toCrack cX1_toCrack 9 (Option.some Jvm.ClassFile.FieldType.int)) (xRm g S 82) (xPre g D A [.ref x0, .int x1, .int x2, .int x3, .int x4] S) (xTi g D A w) (xTx g D A w) (g.2.1 - xTop S) (g.2.2.1 - xSl S) A := by
  refine x_startT (own := RX1) (by decide +kernel) rfl (Nat.le_of_ble_eq_true rfl) (fun p e s m below meth c ls X hr hlk hnm hout hw hl => ?_)
  have hw0 := hw
  obtain ⟨hx, hb, -, hown, hts, -⟩ := id X
  have hl : lv_has ls 9 [(0, .ref x0), (1, .int x1), (2, .int x2), (3, .int x3), (4, .int x4)] := hl
  have hg : ∀ (H : Heap) (locs : List Loc) (cells slots : Nat), xW g D A S s H → va_S A s.heap H locs → W p l e (xRm g S 82) s m ([.ref x0, .int x1, .int x2, .int x3, .int x4] : List Value).toArray below meth c H locs cells slots (vx_MQ below (xTi g D A w) (xTx g D A w) ([.ref x0, .int x1, .int x2, .int x3, .int x4] : List Value).toArray s (g.2.1 - xTop S) (g.2.2.1 - xSl S) A) (F0 m 0 ls []) := by
    intro H locs cells slots hw hS
    unfold kX_X1_toCrack at hm
    refine lv_aload_n hx hb dX1_toCrack_0 rfl (lv_at hl 0 rfl) ?_
    refine lv_iload_n hx hb dX1_toCrack_1 rfl (lv_at hl 1 rfl) ?_
    obtain ⟨u1, hu1, hm⟩ := ob_s hm
    obtain ⟨w2, hw2, hm⟩ := tb_s hm
    refine xt_retv hS (xt_runV X hw (met_X1_aCup hlT N S x0 x1 w2 hw2) (x_cv X (lv := 6) (by omega) (by decide) cx_X1_aCup (lw_V q1240 q1242 qs40 q115 q1243)) xc1 hu1 rfl hl.1 rfl (Nat.le_of_ble_eq_true rfl) dX1_toCrack_2) (fun t1 t2 u E9 ce q9 H1 locs1 hu ht => xt_pass X hlk hout (tc_r hu hm) ht (x_fits (lv2 := 0) X hw t1 t2).1 (x_fits (lv2 := 0) X hw t1 t2).2) (fun r3 hr3 H locs cells slots hw hS => ?_)
    replace hm := tc_l hr3 hm
    refine lv_iload hx hb dX1_toCrack_5 (lv_at hl 4 rfl) ?_
    refine lv_iconst (v := 1) hx hb dX1_toCrack_7 (by decide) ?_
    obtain ⟨w4, hw4, hm⟩ := tb_s hm
    refine xt_retv hS (xt_runS X hw (met_X1_oneOf hlT N r3 x4 1 w4 hw4) (x_cs X (lv := 6) (by omega) (by decide) cx_X1_oneOf (lw_S q1306 q1307 q115 q1308)) rfl hl.1 rfl (Nat.le_of_ble_eq_true rfl) dX1_toCrack_8) (fun t1 t2 u E9 ce q9 H1 locs1 hu ht => xt_pass X hlk hout (tc_r hu hm) ht (x_fits (lv2 := 0) X hw t1 t2).1 (x_fits (lv2 := 0) X hw t1 t2).2) (fun r5 hr5 H locs cells slots hw hS => ?_)
    replace hm := tc_l hr5 hm
    refine lv_iload_n hx hb dX1_toCrack_11 rfl (lv_at hl 2 rfl) ?_
    refine lv_if_lt (tgt := 29) hx hb dX1_toCrack_12 (by decide) (fun c6 => ?_) (fun c6 => ?_)
    · replace hm := if_t c6 hm
      refine lv_iconst (v := 0) hx hb dX1_toCrack_29 (by decide) ?_
      exact wkX_X1_toCrack_30 X hr hlk hnm hlT hout hw0 N r5 x0 x1 x2 x3 x4 0 H locs ls _ _ hm hw hS (lv_sub hl [0, 1, 2, 3, 4] rfl)
    · replace hm := if_f c6 hm
      refine lv_iload_n hx hb dX1_toCrack_15 rfl (lv_at hl 3 rfl) ?_
      refine lv_iconst (v := 1) hx hb dX1_toCrack_16 (by decide) ?_
      refine lv_bipush (v := 60) hx hb dX1_toCrack_17 (by decide) ?_
      obtain ⟨w7, hw7, hm⟩ := ob_s hm
      refine xr_reti hS (xr_runS X hw (met_X1_in N r5 x3 1 60 w7 hw7) (x_cs X (lv := 0) (by omega) (by decide) cx_X1_in (lw_S q336 q337 q115 q338)) rfl hl.1 rfl (Nat.le_of_ble_eq_true rfl) dX1_toCrack_19) (fun H locs cells slots hw hS => ?_)
      refine lv_if_eq (tgt := 29) hx hb dX1_toCrack_22 (by decide) (fun c8 => ?_) (fun c8 => ?_)
      · replace hm := if_t c8 hm
        refine lv_iconst (v := 0) hx hb dX1_toCrack_29 (by decide) ?_
        exact wkX_X1_toCrack_30 X hr hlk hnm hlT hout hw0 N r5 x0 x1 x2 x3 x4 0 H locs ls _ _ hm hw hS (lv_sub hl [0, 1, 2, 3, 4] rfl)
      · replace hm := if_f c8 hm
        refine lv_iconst (v := 1) hx hb dX1_toCrack_25 (by decide) ?_
        refine lv_goto (tgt := 30) hx hb dX1_toCrack_26 (by decide) ?_
        exact wkX_X1_toCrack_30 X hr hlk hnm hlT hout hw0 N r5 x0 x1 x2 x3 x4 1 H locs ls _ _ hm hw hS (lv_sub hl [0, 1, 2, 3, 4] rfl)
  exact hg _ _ _ _ hw va_S.rf
/-! DripCups.office -/
def kX_X1_office_95 (g : XC) (N : Nat) (K35 : XS → Nat → Int32 → Int32 → Int32 → Int32 → Int32 → Option ((XS × Int32) ⊕ XT)) (S : XS) (x0 : Nat) (x1 : Int32) (x2 : Int32) (x3 : Int32) (x4 : Int32) (x5 : Int32) : Option ((XS × Int32) ⊕ XT) :=
  K35 S x0 x1 x2 x3 x4 (x5 + 1)
theorem wkX_X1_office_95 {p : Program} {l : Launch} {e : Env} {s : State} {m : MethodId} {args : Array Value} {below : List Frame} {meth : Method} {c : Code} {g : XC} {D : va_G} {A : Nat → Prop} {S0 : XS} {w : (XS × Int32) ⊕ XT} (X : xX g D A RX1 S0 p s m args c cX1_office 7) (hr : meth.sig.returnType = (Option.some Jvm.ClassFile.FieldType.int)) (hlk : meth.locks = false) (hnm : meth.name = yX1_office.name) (hlT : l.stackTraces = false) (hout : ∀ x ∈ c.exceptionTable.toList, False) (hw0 : xW g D A S0 s s.heap) (N : Nat) (K35 : XS → Nat → Int32 → Int32 → Int32 → Int32 → Int32 → Option ((XS × Int32) ⊕ XT))
    (hK35 : ∀ (S : XS) (x0 : Nat) (x1 : Int32) (x2 : Int32) (x3 : Int32) (x4 : Int32) (x5 : Int32) (H : Heap) (locs : List Loc) (ls : Array Slot) (cells slots : Nat), K35 S x0 x1 x2 x3 x4 x5 = some w → xW g D A S s H → va_S A s.heap H locs → lv_has ls 7 [(0, .ref x0), (1, .int x1), (2, .int x2), (3, .int x3), (4, .int x4), (5, .int x5)] → W p l e (xRm g S0 81) s m args below meth c H locs cells slots (vx_MQ below (xTi g D A w) (xTx g D A w) args s (g.2.1 - xTop S0) (g.2.2.1 - xSl S0) A) (F0 m 35 ls [])) :
    ∀ (S : XS) (x0 : Nat) (x1 : Int32) (x2 : Int32) (x3 : Int32) (x4 : Int32) (x5 : Int32) (H : Heap) (locs : List Loc) (ls : Array Slot) (cells slots : Nat), kX_X1_office_95 g N K35 S x0 x1 x2 x3 x4 x5 = some w → xW g D A S s H → va_S A s.heap H locs → lv_has ls 7 [(0, .ref x0), (1, .int x1), (2, .int x2), (3, .int x3), (4, .int x4), (5, .int x5)] → W p l e (xRm g S0 81) s m args below meth c H locs cells slots (vx_MQ below (xTi g D A w) (xTx g D A w) args s (g.2.1 - xTop S0) (g.2.2.1 - xSl S0) A) (F0 m 95 ls []) := by
  obtain ⟨hx, hb, -, hown, hts, -⟩ := id X
  intro S x0 x1 x2 x3 x4 x5 H locs ls cells slots hm hw hS hl
  unfold kX_X1_office_95 at hm
  refine lv_iinc (v := (x5 + 1)) (lv' := [(5, .int (x5 + 1)), (0, .ref x0), (1, .int x1), (2, .int x2), (3, .int x3), (4, .int x4)]) hx hb dX1_office_95 hl (k := 5) rfl rfl (by decide) rfl (fun ls hl => ?_)
  refine lv_goto (tgt := 35) hx hb dX1_office_98 (by decide) ?_
  exact hK35 S x0 x1 x2 x3 x4 (x5 + 1) H locs ls _ _ hm hw hS (lv_sub hl [1, 2, 3, 4, 5, 0] rfl)
def kX_X1_office_85 (g : XC) (N : Nat) (K35 : XS → Nat → Int32 → Int32 → Int32 → Int32 → Int32 → Option ((XS × Int32) ⊕ XT)) (S : XS) (x0 : Nat) (x1 : Int32) (x2 : Int32) (x5 : Int32) (x6 : Int32) : Option ((XS × Int32) ⊕ XT) :=
  (kX_J19_numberOfTrailingZeros g N x6).bind fun w1 =>
  kX_X1_office_95 g N K35 S x0 x1 x2 w1 x5 x5
theorem wkX_X1_office_85 {p : Program} {l : Launch} {e : Env} {s : State} {m : MethodId} {args : Array Value} {below : List Frame} {meth : Method} {c : Code} {g : XC} {D : va_G} {A : Nat → Prop} {S0 : XS} {w : (XS × Int32) ⊕ XT} (X : xX g D A RX1 S0 p s m args c cX1_office 7) (hr : meth.sig.returnType = (Option.some Jvm.ClassFile.FieldType.int)) (hlk : meth.locks = false) (hnm : meth.name = yX1_office.name) (hlT : l.stackTraces = false) (hout : ∀ x ∈ c.exceptionTable.toList, False) (hw0 : xW g D A S0 s s.heap) (N : Nat) (K35 : XS → Nat → Int32 → Int32 → Int32 → Int32 → Int32 → Option ((XS × Int32) ⊕ XT))
    (hK35 : ∀ (S : XS) (x0 : Nat) (x1 : Int32) (x2 : Int32) (x3 : Int32) (x4 : Int32) (x5 : Int32) (H : Heap) (locs : List Loc) (ls : Array Slot) (cells slots : Nat), K35 S x0 x1 x2 x3 x4 x5 = some w → xW g D A S s H → va_S A s.heap H locs → lv_has ls 7 [(0, .ref x0), (1, .int x1), (2, .int x2), (3, .int x3), (4, .int x4), (5, .int x5)] → W p l e (xRm g S0 81) s m args below meth c H locs cells slots (vx_MQ below (xTi g D A w) (xTx g D A w) args s (g.2.1 - xTop S0) (g.2.2.1 - xSl S0) A) (F0 m 35 ls [])) :
    ∀ (S : XS) (x0 : Nat) (x1 : Int32) (x2 : Int32) (x5 : Int32) (x6 : Int32) (H : Heap) (locs : List Loc) (ls : Array Slot) (cells slots : Nat), kX_X1_office_85 g N K35 S x0 x1 x2 x5 x6 = some w → xW g D A S s H → va_S A s.heap H locs → lv_has ls 7 [(0, .ref x0), (1, .int x1), (2, .int x2), (5, .int x5), (6, .int x6)] → W p l e (xRm g S0 81) s m args below meth c H locs cells slots (vx_MQ below (xTi g D A w) (xTx g D A w) args s (g.2.1 - xTop S0) (g.2.2.1 - xSl S0) A) (F0 m 85 ls []) := by
  obtain ⟨hx, hb, -, hown, hts, -⟩ := id X
  intro S x0 x1 x2 x5 x6 H locs ls cells slots hm hw hS hl
  unfold kX_X1_office_85 at hm
  refine lv_iload hx hb dX1_office_85 (lv_at hl 4 rfl) ?_
  obtain ⟨w1, hw1, hm⟩ := ob_s hm
  refine xr_reti hS (xr_runS X hw (met_J19_numberOfTrailingZeros N S x6 w1 hw1) (x_cs X (lv := 0) (by omega) (by decide) cx_J19_numberOfTrailingZeros (lw_S q1425 q1426 q145 q1427)) rfl hl.1 rfl (Nat.le_of_ble_eq_true rfl) dX1_office_87) (fun H locs cells slots hw hS => ?_)
  refine lv_istore_n (lv' := [(3, .int w1), (0, .ref x0), (1, .int x1), (2, .int x2), (5, .int x5), (6, .int x6)]) hx hb dX1_office_90 rfl hl (by decide) rfl (fun ls hl => ?_)
  refine lv_iload hx hb dX1_office_91 (lv_at hl 4 rfl) ?_
  refine lv_istore (lv' := [(4, .int x5), (3, .int w1), (0, .ref x0), (1, .int x1), (2, .int x2), (5, .int x5), (6, .int x6)]) hx hb dX1_office_93 hl (by decide) rfl (fun ls hl => ?_)
  exact wkX_X1_office_95 X hr hlk hnm hlT hout hw0 N K35 hK35 S x0 x1 x2 w1 x5 x5 H locs ls _ _ hm hw hS (lv_sub hl [2, 3, 4, 1, 0, 5] rfl)
def kX_X1_office_35 (g : XC) (N : Nat) : Nat → XS → Nat → Int32 → Int32 → Int32 → Int32 → Int32 → Option ((XS × Int32) ⊕ XT)
  | 0, _, _, _, _, _, _, _ => none
  | n + 1, S, x0, x1, x2, x3, x4, x5 =>
    if (120 : Int32) < x5 then
      if x2 = 0 then
        some (.inl (S, x3))
      else
        some (.inl (S, x4))
    else
      (f_obj S 1 x0 3).bind fun v3 =>
      (f_cls S 2 v3).bind fun u4 =>
      (kX_X3_pass g N S v3).bind fun w5 =>
      (f_int w5.1 2 w5.2 13).bind fun v6 =>
      if v6 = 0 then
        kX_X1_office_95 g N (kX_X1_office_35 g N n) w5.1 x0 x1 x2 x3 x4 x5
      else
        if x4 = (-1) then
          kX_X1_office_85 g N (kX_X1_office_35 g N n) w5.1 x0 x1 x2 x5 v6
        else
          bnd (if (0 : Int32) ≤ (x5 - x1) then (x5 - x1) else 0 - (x5 - x1)) fun v9 =>
          bnd (if (0 : Int32) ≤ (x4 - x1) then (x4 - x1) else 0 - (x4 - x1)) fun v10 =>
          if v9 < v10 then
            kX_X1_office_85 g N (kX_X1_office_35 g N n) w5.1 x0 x1 x2 x5 v6
          else
            kX_X1_office_95 g N (kX_X1_office_35 g N n) w5.1 x0 x1 x2 x3 x4 x5
theorem wkX_X1_office_35 {p : Program} {l : Launch} {e : Env} {s : State} {m : MethodId} {args : Array Value} {below : List Frame} {meth : Method} {c : Code} {g : XC} {D : va_G} {A : Nat → Prop} {S0 : XS} {w : (XS × Int32) ⊕ XT} (X : xX g D A RX1 S0 p s m args c cX1_office 7) (hr : meth.sig.returnType = (Option.some Jvm.ClassFile.FieldType.int)) (hlk : meth.locks = false) (hnm : meth.name = yX1_office.name) (hlT : l.stackTraces = false) (hout : ∀ x ∈ c.exceptionTable.toList, False) (hw0 : xW g D A S0 s s.heap) (N : Nat) :
    ∀ (n : Nat) (S : XS) (x0 : Nat) (x1 : Int32) (x2 : Int32) (x3 : Int32) (x4 : Int32) (x5 : Int32) (H : Heap) (locs : List Loc) (ls : Array Slot) (cells slots : Nat), kX_X1_office_35 g N n S x0 x1 x2 x3 x4 x5 = some w → xW g D A S s H → va_S A s.heap H locs → lv_has ls 7 [(0, .ref x0), (1, .int x1), (2, .int x2), (3, .int x3), (4, .int x4), (5, .int x5)] → W p l e (xRm g S0 81) s m args below meth c H locs cells slots (vx_MQ below (xTi g D A w) (xTx g D A w) args s (g.2.1 - xTop S0) (g.2.2.1 - xSl S0) A) (F0 m 35 ls []) := by
  obtain ⟨hx, hb, -, hown, hts, -⟩ := id X
  intro n
  induction n with
  | zero =>
    intro S x0 x1 x2 x3 x4 x5 H locs ls cells slots hm
    cases hm
  | succ n ih =>
    intro S x0 x1 x2 x3 x4 x5 H locs ls cells slots hm hw hS hl
    rw [kX_X1_office_35] at hm
    refine lv_iload hx hb dX1_office_35 (lv_at hl 5 rfl) ?_
    refine lv_bipush (v := 120) hx hb dX1_office_37 (by decide) ?_
    refine lv_icmp_gt (tgt := 101) hx hb dX1_office_39 (by decide) (fun c1 => ?_) (fun c1 => ?_)
    · replace hm := if_t c1 hm
      refine lv_iload_n hx hb dX1_office_101 rfl (lv_at hl 2 rfl) ?_
      refine lv_if_ne (tgt := 109) hx hb dX1_office_102 (by decide) (fun c2 => ?_) (fun c2 => ?_)
      · replace hm := if_f c2 hm
        refine lv_iload hx hb dX1_office_109 (lv_at hl 4 rfl) ?_
        obtain rfl := Option.some.inj hm
        exact xt_iret (v := x4) X hr hlk hw hS rfl dX1_office_111
      · replace hm := if_t c2 hm
        refine lv_iload_n hx hb dX1_office_105 rfl (lv_at hl 3 rfl) ?_
        refine lv_goto (tgt := 111) hx hb dX1_office_106 (by decide) ?_
        obtain rfl := Option.some.inj hm
        exact xt_iret (v := x3) X hr hlk hw hS rfl dX1_office_111
    · replace hm := if_f c1 hm
      refine lv_aload_n hx hb dX1_office_42 rfl (lv_at hl 0 rfl) ?_
      obtain ⟨v3, hv3, hm⟩ := ob_s hm
      refine xr_val X hw xc1 in_X1 3 (by decide) q282 (f_obj_s hv3) dX1_office_43 ?_
      obtain ⟨u4, hu4, hm⟩ := ob_s hm
      obtain ⟨w5, hw5, hm⟩ := ob_s hm
      refine xr_retr hS (xr_runV X hw (met_X3_pass N S v3 w5 hw5) (x_cv X (lv := 80) (by omega) (by decide) cx_X3_pass (lw_V q609 q459 q460 q120 q461)) xc2 hu4 rfl hl.1 rfl (Nat.le_of_ble_eq_true rfl) dX1_office_46) (fun H locs cells slots hw hS => ?_)
      obtain ⟨v6, hv6, hm⟩ := ob_s hm
      refine xr_valN X hw xc2 in_X3 13 (by decide) q238 (f_int_s hv6) dX1_office_49 ?_
      refine lv_istore (lv' := [(6, .int v6), (0, .ref x0), (1, .int x1), (2, .int x2), (3, .int x3), (4, .int x4), (5, .int x5)]) hx hb dX1_office_52 hl (by decide) rfl (fun ls hl => ?_)
      refine lv_iload hx hb dX1_office_54 (lv_at hl 0 rfl) ?_
      refine lv_if_eq (tgt := 95) hx hb dX1_office_56 (by decide) (fun c7 => ?_) (fun c7 => ?_)
      · replace hm := if_t c7 hm
        exact wkX_X1_office_95 X hr hlk hnm hlT hout hw0 N (kX_X1_office_35 g N n) ih w5.1 x0 x1 x2 x3 x4 x5 H locs ls _ _ hm hw hS (lv_sub hl [1, 2, 3, 4, 5, 6] rfl)
      · replace hm := if_f c7 hm
        refine lv_iload hx hb dX1_office_59 (lv_at hl 5 rfl) ?_
        refine lv_iconst (v := (-1)) hx hb dX1_office_61 (by decide) ?_
        refine lv_icmp_eq (tgt := 85) hx hb dX1_office_62 (by decide) (fun c8 => ?_) (fun c8 => ?_)
        · replace hm := if_t c8 hm
          exact wkX_X1_office_85 X hr hlk hnm hlT hout hw0 N (kX_X1_office_35 g N n) ih w5.1 x0 x1 x2 x5 v6 H locs ls _ _ hm hw hS (lv_sub hl [1, 2, 3, 6, 0] rfl)
        · replace hm := if_f c8 hm
          refine lv_iload hx hb dX1_office_65 (lv_at hl 6 rfl) ?_
          refine lv_iload_n hx hb dX1_office_67 rfl (lv_at hl 2 rfl) ?_
          refine lv_isub hx hb dX1_office_68 ?_
          refine xr_mabs X hw hl.1 q1415 q1416 q127 q1417 (Nat.le_of_ble_eq_true rfl) dX1_office_69 (fun cells slots => ?_)
          refine lv_topi (fun v9 ev9 => ?_)
          replace hm := bnd_s hm ev9
          refine lv_iload hx hb dX1_office_72 (lv_at hl 5 rfl) ?_
          refine lv_iload_n hx hb dX1_office_74 rfl (lv_at hl 2 rfl) ?_
          refine lv_isub hx hb dX1_office_75 ?_
          refine xr_mabs X hw hl.1 q1415 q1416 q127 q1417 (Nat.le_of_ble_eq_true rfl) dX1_office_76 (fun cells slots => ?_)
          refine lv_topi (fun v10 ev10 => ?_)
          replace hm := bnd_s hm ev10
          refine lv_icmp_lt (tgt := 85) hx hb dX1_office_79 (by decide) (fun c11 => ?_) (fun c11 => ?_)
          · replace hm := if_t c11 hm
            exact wkX_X1_office_85 X hr hlk hnm hlT hout hw0 N (kX_X1_office_35 g N n) ih w5.1 x0 x1 x2 x5 v6 H locs ls _ _ hm hw hS (lv_sub hl [1, 2, 3, 6, 0] rfl)
          · replace hm := if_f c11 hm
            refine lv_goto (tgt := 95) hx hb dX1_office_82 (by decide) ?_
            exact wkX_X1_office_95 X hr hlk hnm hlT hout hw0 N (kX_X1_office_35 g N n) ih w5.1 x0 x1 x2 x3 x4 x5 H locs ls _ _ hm hw hS (lv_sub hl [1, 2, 3, 4, 5, 6] rfl)
def kX_X1_office (g : XC) (N : Nat) (S : XS) (x0 : Nat) (x1 : Int32) (x2 : Int32) : Option ((XS × Int32) ⊕ XT) :=
  tbind (kX_X1_oneOf g N S x2 1) fun r2 =>
  (kX_X1_in g N x1 1 60).bind fun w3 =>
  tbind (kX_X1_right g N r2 w3) fun r5 =>
  (f_obj r5 1 x0 3).bind fun v6 =>
  (f_obj r5 1 x0 2).bind fun v7 =>
  (f_cls r5 2 v6).bind fun u8 =>
  (kX_X3_be g N r5 v6 v7).bind fun w9 =>
  kX_X1_office_35 g N N w9.1 x0 x1 x2 (-1) (-1) 1
theorem cx_X1_office : yX1_office.cls = RX1 ∧ yX1_office.cls ≠ "java/lang/invoke/MethodHandle" ∧ yX1_office.cls ≠ "java/lang/invoke/VarHandle" ∧ (parseMethodDescriptor yX1_office.desc).map (fun d => d.parameters.length) = some 2 := by decide +kernel
theorem met_X1_office {l : Launch} {g : XC} {D : va_G} {A : Nat → Prop} (hlT : l.stackTraces = false) (N : Nat) (S : XS) (x0 : Nat) (x1 : Int32) (x2 : Int32) (w : (XS × Int32) ⊕ XT) (hm : kX_X1_office g N S x0 x1 x2 = some w) : vx_Met l yX1_office (ws_ yX1_office cX1_office 7 (Option.some Jvm.ClassFile.FieldType.int)) (xRm g S 81) (xPre g D A [.ref x0, .int x1, .int x2] S) (xTi g D A w) (xTx g D A w) (g.2.1 - xTop S) (g.2.2.1 - xSl S) A := by
  refine x_startT (own := RX1) (by decide +kernel) rfl (Nat.le_of_ble_eq_true rfl) (fun p e s m below meth c ls X hr hlk hnm hout hw hl => ?_)
  have hw0 := hw
  obtain ⟨hx, hb, -, hown, hts, -⟩ := id X
  have hl : lv_has ls 7 [(0, .ref x0), (1, .int x1), (2, .int x2)] := hl
  have hg : ∀ (H : Heap) (locs : List Loc) (cells slots : Nat), xW g D A S s H → va_S A s.heap H locs → W p l e (xRm g S 81) s m ([.ref x0, .int x1, .int x2] : List Value).toArray below meth c H locs cells slots (vx_MQ below (xTi g D A w) (xTx g D A w) ([.ref x0, .int x1, .int x2] : List Value).toArray s (g.2.1 - xTop S) (g.2.2.1 - xSl S) A) (F0 m 0 ls []) := by
    intro H locs cells slots hw hS
    unfold kX_X1_office at hm
    refine lv_iload_n hx hb dX1_office_0 rfl (lv_at hl 2 rfl) ?_
    refine lv_iconst (v := 1) hx hb dX1_office_1 (by decide) ?_
    obtain ⟨w1, hw1, hm⟩ := tb_s hm
    refine xt_retv hS (xt_runS X hw (met_X1_oneOf hlT N S x2 1 w1 hw1) (x_cs X (lv := 6) (by omega) (by decide) cx_X1_oneOf (lw_S q1306 q1307 q115 q1308)) rfl hl.1 rfl (Nat.le_of_ble_eq_true rfl) dX1_office_2) (fun t1 t2 u E9 ce q9 H1 locs1 hu ht => xt_pass X hlk hout (tc_r hu hm) ht (x_fits (lv2 := 0) X hw t1 t2).1 (x_fits (lv2 := 0) X hw t1 t2).2) (fun r2 hr2 H locs cells slots hw hS => ?_)
    replace hm := tc_l hr2 hm
    refine lv_iload_n hx hb dX1_office_5 rfl (lv_at hl 1 rfl) ?_
    refine lv_iconst (v := 1) hx hb dX1_office_6 (by decide) ?_
    refine lv_bipush (v := 60) hx hb dX1_office_7 (by decide) ?_
    obtain ⟨w3, hw3, hm⟩ := ob_s hm
    refine xr_reti hS (xr_runS X hw (met_X1_in N r2 x1 1 60 w3 hw3) (x_cs X (lv := 0) (by omega) (by decide) cx_X1_in (lw_S q336 q337 q115 q338)) rfl hl.1 rfl (Nat.le_of_ble_eq_true rfl) dX1_office_9) (fun H locs cells slots hw hS => ?_)
    obtain ⟨w4, hw4, hm⟩ := tb_s hm
    refine xt_retv hS (xt_runS X hw (met_X1_right hlT N r2 w3 w4 hw4) (x_cs X (lv := 5) (by omega) (by decide) cx_X1_right (lw_S q655 q656 q115 q657)) rfl hl.1 rfl (Nat.le_of_ble_eq_true rfl) dX1_office_12) (fun t1 t2 u E9 ce q9 H1 locs1 hu ht => xt_pass X hlk hout (tc_r hu hm) ht (x_fits (lv2 := 0) X hw t1 t2).1 (x_fits (lv2 := 0) X hw t1 t2).2) (fun r5 hr5 H locs cells slots hw hS => ?_)
    replace hm := tc_l hr5 hm
    refine lv_iconst (v := (-1)) hx hb dX1_office_15 (by decide) ?_
    refine lv_istore_n (lv' := [(3, .int (-1)), (0, .ref x0), (1, .int x1), (2, .int x2)]) hx hb dX1_office_16 rfl hl (by decide) rfl (fun ls hl => ?_)
    refine lv_iconst (v := (-1)) hx hb dX1_office_17 (by decide) ?_
    refine lv_istore (lv' := [(4, .int (-1)), (3, .int (-1)), (0, .ref x0), (1, .int x1), (2, .int x2)]) hx hb dX1_office_18 hl (by decide) rfl (fun ls hl => ?_)
    refine lv_aload_n hx hb dX1_office_20 rfl (lv_at hl 2 rfl) ?_
    obtain ⟨v6, hv6, hm⟩ := ob_s hm
    refine xr_val X hw xc1 in_X1 3 (by decide) q282 (f_obj_s hv6) dX1_office_21 ?_
    refine lv_aload_n hx hb dX1_office_24 rfl (lv_at hl 2 rfl) ?_
    obtain ⟨v7, hv7, hm⟩ := ob_s hm
    refine xr_val X hw xc1 in_X1 2 (by decide) q281 (f_obj_s hv7) dX1_office_25 ?_
    obtain ⟨u8, hu8, hm⟩ := ob_s hm
    obtain ⟨w9, hw9, hm⟩ := ob_s hm
    refine xr_retr hS (xr_runV X hw (met_X3_be N r5 v6 v7 w9 hw9) (x_cv X (lv := 0) (by omega) (by decide) cx_X3_be (lw_V q608 q354 q355 q120 q356)) xc2 hu8 rfl hl.1 rfl (Nat.le_of_ble_eq_true rfl) dX1_office_28) (fun H locs cells slots hw hS => ?_)
    refine lv_pop hx hb dX1_office_31 rfl ?_
    refine lv_iconst (v := 1) hx hb dX1_office_32 (by decide) ?_
    refine lv_istore (lv' := [(5, .int 1), (4, .int (-1)), (3, .int (-1)), (0, .ref x0), (1, .int x1), (2, .int x2)]) hx hb dX1_office_33 hl (by decide) rfl (fun ls hl => ?_)
    exact wkX_X1_office_35 X hr hlk hnm hlT hout hw0 N N w9.1 x0 x1 x2 (-1) (-1) 1 H locs ls _ _ hm hw hS (lv_sub hl [3, 4, 5, 2, 1, 0] rfl)
  exact hg _ _ _ _ hw va_S.rf
/-! DripCups.hear -/
def kX_X1_hear_29 (g : XC) (N : Nat) (S : XS) (x0 : Nat) : Option ((XS × Int32) ⊕ XT) :=
  (f_cls S 1 x0).bind fun u1 =>
  (kX_X1_refuse g N S x0 2).bind fun w2 =>
  some (.inl (w2.1, w2.2))
theorem wkX_X1_hear_29 {p : Program} {l : Launch} {e : Env} {s : State} {m : MethodId} {args : Array Value} {below : List Frame} {meth : Method} {c : Code} {g : XC} {D : va_G} {A : Nat → Prop} {S0 : XS} {w : (XS × Int32) ⊕ XT} (X : xX g D A RX1 S0 p s m args c cX1_hear 4) (hr : meth.sig.returnType = (Option.some Jvm.ClassFile.FieldType.int)) (hlk : meth.locks = false) (hnm : meth.name = yX1_hear.name) (hlT : l.stackTraces = false) (hout : ∀ x ∈ c.exceptionTable.toList, False) (hw0 : xW g D A S0 s s.heap) (N : Nat) :
    ∀ (S : XS) (x0 : Nat) (H : Heap) (locs : List Loc) (ls : Array Slot) (cells slots : Nat), kX_X1_hear_29 g N S x0 = some w → xW g D A S s H → va_S A s.heap H locs → lv_has ls 4 [(0, .ref x0)] → W p l e (xRm g S0 7) s m args below meth c H locs cells slots (vx_MQ below (xTi g D A w) (xTx g D A w) args s (g.2.1 - xTop S0) (g.2.2.1 - xSl S0) A) (F0 m 29 ls []) := by
  obtain ⟨hx, hb, -, hown, hts, -⟩ := id X
  intro S x0 H locs ls cells slots hm hw hS hl
  unfold kX_X1_hear_29 at hm
  refine lv_aload_n hx hb dX1_hear_29 rfl (lv_at hl 0 rfl) ?_
  refine lv_iconst (v := 2) hx hb dX1_hear_30 (by decide) ?_
  obtain ⟨u1, hu1, hm⟩ := ob_s hm
  obtain ⟨w2, hw2, hm⟩ := ob_s hm
  refine xr_reti hS (xr_runV X hw (met_X1_refuse N S x0 2 w2 hw2) (x_cv X (lv := 0) (by omega) (by decide) cx_X1_refuse (lw_V q339 q341 qs0 q115 q342)) xc1 hu1 rfl hl.1 rfl (Nat.le_of_ble_eq_true rfl) dX1_hear_31) (fun H locs cells slots hw hS => ?_)
  obtain rfl := Option.some.inj hm
  exact xt_iret (v := w2.2) X hr hlk hw hS rfl dX1_hear_34
def kX_X1_hear_61 (g : XC) (N : Nat) (S : XS) (x0 : Nat) (t0 : Nat) (t1 : Nat) (t2 : Nat) (t3 : Int32) (t4 : Int32) : Option ((XS × Int32) ⊕ XT) :=
  (a_putI S 0 t2 t3 t4).bind fun S1 =>
  (f_cls S1 10 t0).bind fun u2 =>
  (kX_J2_add g N S1 t0 t1).bind fun w3 =>
  (f_obj w3.1 1 x0 9).bind fun v4 =>
  (f_cls w3.1 10 v4).bind fun u5 =>
  (kX_J2_size g N w3.1 v4).bind fun w6 =>
  some (.inl (w6.1, w6.2))
theorem wkX_X1_hear_61 {p : Program} {l : Launch} {e : Env} {s : State} {m : MethodId} {args : Array Value} {below : List Frame} {meth : Method} {c : Code} {g : XC} {D : va_G} {A : Nat → Prop} {S0 : XS} {w : (XS × Int32) ⊕ XT} (X : xX g D A RX1 S0 p s m args c cX1_hear 4) (hr : meth.sig.returnType = (Option.some Jvm.ClassFile.FieldType.int)) (hlk : meth.locks = false) (hnm : meth.name = yX1_hear.name) (hlT : l.stackTraces = false) (hout : ∀ x ∈ c.exceptionTable.toList, False) (hw0 : xW g D A S0 s s.heap) (N : Nat) :
    ∀ (S : XS) (x0 : Nat) (t0 : Nat) (t1 : Nat) (t2 : Nat) (t3 : Int32) (t4 : Int32) (H : Heap) (locs : List Loc) (ls : Array Slot) (cells slots : Nat), kX_X1_hear_61 g N S x0 t0 t1 t2 t3 t4 = some w → xW g D A S s H → va_S A s.heap H locs → lv_has ls 4 [(0, .ref x0)] → W p l e (xRm g S0 7) s m args below meth c H locs cells slots (vx_MQ below (xTi g D A w) (xTx g D A w) args s (g.2.1 - xTop S0) (g.2.2.1 - xSl S0) A) (F0 m 61 ls [.int t4, .int t3, .ref t2, .ref t1, .ref t0]) := by
  obtain ⟨hx, hb, -, hown, hts, -⟩ := id X
  intro S x0 t0 t1 t2 t3 t4 H locs ls cells slots hm hw hS hl
  unfold kX_X1_hear_61 at hm
  obtain ⟨S1, hS1, hm⟩ := ob_s hm
  refine xr_iast X hw hS hS1 dX1_hear_61 (fun H locs hw hS => ?_)
  obtain ⟨u2, hu2, hm⟩ := ob_s hm
  obtain ⟨w3, hw3, hm⟩ := ob_s hm
  refine xr_ret5i hS (xr_runF (x := ⟨"java/util/List", "add", "(Ljava/lang/Object;)Z"⟩) X hw (met_J2_add N S1 t0 t1 w3 hw3) (x_cf X (lv := 6) (by omega) (by decide) ci_List_add q358 q362 q364 q119 q366 q360 q359 q365 q363 q361) xc10 hu2 rfl hl.1 rfl (Nat.le_of_ble_eq_true rfl) dX1_hear_62) (fun H locs cells slots hw hS => ?_)
  refine lv_pop hx hb dX1_hear_67 rfl ?_
  refine lv_aload_n hx hb dX1_hear_68 rfl (lv_at hl 0 rfl) ?_
  obtain ⟨v4, hv4, hm⟩ := ob_s hm
  refine xr_val X hw xc1 in_X1 9 (by decide) q289 (f_obj_s hv4) dX1_hear_69 ?_
  obtain ⟨u5, hu5, hm⟩ := ob_s hm
  obtain ⟨w6, hw6, hm⟩ := ob_s hm
  refine xr_ret5i hS (xr_runF (x := ⟨"java/util/List", "size", "()I"⟩) X hw (met_J2_size N w3.1 v4 w6 hw6) (x_cf X (lv := 0) (by omega) (by decide) ci_List_size q426 q429 q431 q119 q433 q428 q427 q432 q430 q361) xc10 hu5 rfl hl.1 rfl (Nat.le_of_ble_eq_true rfl) dX1_hear_72) (fun H locs cells slots hw hS => ?_)
  obtain rfl := Option.some.inj hm
  exact xt_iret (v := w6.2) X hr hlk hw hS rfl dX1_hear_77
def kX_X1_hear (g : XC) (N : Nat) (S : XS) (x0 : Nat) (x1 : Int32) (x2 : Int32) (x3 : Int32) : Option ((XS × Int32) ⊕ XT) :=
  (f_cls S 1 x0).bind fun u1 =>
  tbind (kX_X1_aCup g N S x0 x1) fun r3 =>
  (f_obj r3 1 x0 9).bind fun v4 =>
  (f_cls r3 10 v4).bind fun u5 =>
  (kX_J2_size g N r3 v4).bind fun w6 =>
  if w6.2 = 8 then
    kX_X1_hear_29 g N w6.1 x0
  else
    (kX_X1_in g N x2 1 40).bind fun w8 =>
    if w8 = 0 then
      kX_X1_hear_29 g N w6.1 x0
    else
      (f_obj w6.1 1 x0 9).bind fun v10 =>
      (xNewI w6.1 0 3).bind fun S11 =>
      (a_putI S11 0 (xTop w6.1) 0 x1).bind fun S12 =>
      (a_putI S12 0 (xTop w6.1) 1 x2).bind fun S13 =>
      if x3 = 0 then
        kX_X1_hear_61 g N S13 x0 v10 (xTop w6.1) (xTop w6.1) 2 0
      else
        kX_X1_hear_61 g N S13 x0 v10 (xTop w6.1) (xTop w6.1) 2 1
theorem cx_X1_hear : yX1_hear.cls = RX1 ∧ yX1_hear.cls ≠ "java/lang/invoke/MethodHandle" ∧ yX1_hear.cls ≠ "java/lang/invoke/VarHandle" ∧ (parseMethodDescriptor yX1_hear.desc).map (fun d => d.parameters.length) = some 3 := by decide +kernel
theorem met_X1_hear {l : Launch} {g : XC} {D : va_G} {A : Nat → Prop} (hlT : l.stackTraces = false) (N : Nat) (S : XS) (x0 : Nat) (x1 : Int32) (x2 : Int32) (x3 : Int32) (w : (XS × Int32) ⊕ XT) (hm : kX_X1_hear g N S x0 x1 x2 x3 = some w) : vx_Met l yX1_hear (ws_ yX1_hear cX1_hear 4 (Option.some Jvm.ClassFile.FieldType.int)) (xRm g S 7) (xPre g D A [.ref x0, .int x1, .int x2, .int x3] S) (xTi g D A w) (xTx g D A w) (g.2.1 - xTop S) (g.2.2.1 - xSl S) A := by
  refine x_startT (own := RX1) (by decide +kernel) rfl (Nat.le_of_ble_eq_true rfl) (fun p e s m below meth c ls X hr hlk hnm hout hw hl => ?_)
  have hw0 := hw
  obtain ⟨hx, hb, -, hown, hts, -⟩ := id X
  have hl : lv_has ls 4 [(0, .ref x0), (1, .int x1), (2, .int x2), (3, .int x3)] := hl
  have hg : ∀ (H : Heap) (locs : List Loc) (cells slots : Nat), xW g D A S s H → va_S A s.heap H locs → W p l e (xRm g S 7) s m ([.ref x0, .int x1, .int x2, .int x3] : List Value).toArray below meth c H locs cells slots (vx_MQ below (xTi g D A w) (xTx g D A w) ([.ref x0, .int x1, .int x2, .int x3] : List Value).toArray s (g.2.1 - xTop S) (g.2.2.1 - xSl S) A) (F0 m 0 ls []) := by
    intro H locs cells slots hw hS
    unfold kX_X1_hear at hm
    refine lv_aload_n hx hb dX1_hear_0 rfl (lv_at hl 0 rfl) ?_
    refine lv_iload_n hx hb dX1_hear_1 rfl (lv_at hl 1 rfl) ?_
    obtain ⟨u1, hu1, hm⟩ := ob_s hm
    obtain ⟨w2, hw2, hm⟩ := tb_s hm
    refine xt_retv hS (xt_runV X hw (met_X1_aCup hlT N S x0 x1 w2 hw2) (x_cv X (lv := 6) (by omega) (by decide) cx_X1_aCup (lw_V q1240 q1242 qs40 q115 q1243)) xc1 hu1 rfl hl.1 rfl (Nat.le_of_ble_eq_true rfl) dX1_hear_2) (fun t1 t2 u E9 ce q9 H1 locs1 hu ht => xt_pass X hlk hout (tc_r hu hm) ht (x_fits (lv2 := 0) X hw t1 t2).1 (x_fits (lv2 := 0) X hw t1 t2).2) (fun r3 hr3 H locs cells slots hw hS => ?_)
    replace hm := tc_l hr3 hm
    refine lv_aload_n hx hb dX1_hear_5 rfl (lv_at hl 0 rfl) ?_
    obtain ⟨v4, hv4, hm⟩ := ob_s hm
    refine xr_val X hw xc1 in_X1 9 (by decide) q289 (f_obj_s hv4) dX1_hear_6 ?_
    obtain ⟨u5, hu5, hm⟩ := ob_s hm
    obtain ⟨w6, hw6, hm⟩ := ob_s hm
    refine xr_ret5i hS (xr_runF (x := ⟨"java/util/List", "size", "()I"⟩) X hw (met_J2_size N r3 v4 w6 hw6) (x_cf X (lv := 0) (by omega) (by decide) ci_List_size q426 q429 q431 q119 q433 q428 q427 q432 q430 q361) xc10 hu5 rfl hl.1 rfl (Nat.le_of_ble_eq_true rfl) dX1_hear_9) (fun H locs cells slots hw hS => ?_)
    refine lv_bipush (v := 8) hx hb dX1_hear_14 (by decide) ?_
    refine lv_icmp_eq (tgt := 29) hx hb dX1_hear_16 (by decide) (fun c7 => ?_) (fun c7 => ?_)
    · replace hm := if_t c7 hm
      exact wkX_X1_hear_29 X hr hlk hnm hlT hout hw0 N w6.1 x0 H locs ls _ _ hm hw hS (lv_sub hl [0] rfl)
    · replace hm := if_f c7 hm
      refine lv_iload_n hx hb dX1_hear_19 rfl (lv_at hl 2 rfl) ?_
      refine lv_iconst (v := 1) hx hb dX1_hear_20 (by decide) ?_
      refine lv_bipush (v := 40) hx hb dX1_hear_21 (by decide) ?_
      obtain ⟨w8, hw8, hm⟩ := ob_s hm
      refine xr_reti hS (xr_runS X hw (met_X1_in N w6.1 x2 1 40 w8 hw8) (x_cs X (lv := 0) (by omega) (by decide) cx_X1_in (lw_S q336 q337 q115 q338)) rfl hl.1 rfl (Nat.le_of_ble_eq_true rfl) dX1_hear_23) (fun H locs cells slots hw hS => ?_)
      refine lv_if_ne (tgt := 35) hx hb dX1_hear_26 (by decide) (fun c9 => ?_) (fun c9 => ?_)
      · replace hm := if_f c9 hm
        refine lv_aload_n hx hb dX1_hear_35 rfl (lv_at hl 0 rfl) ?_
        obtain ⟨v10, hv10, hm⟩ := ob_s hm
        refine xr_val X hw xc1 in_X1 9 (by decide) q289 (f_obj_s hv10) dX1_hear_36 ?_
        refine lv_iconst (v := 3) hx hb dX1_hear_39 (by decide) ?_
        obtain ⟨S11, hS11, hm⟩ := ob_s hm
        refine xr_newI (atype := .int) X hw hS (by decide) rfl rfl (by decide) q_arr_int hS11 dX1_hear_40 (fun H cells slots hw hS => ?_)
        refine lv_dup hx hb dX1_hear_42 rfl ?_
        refine lv_iconst (v := 0) hx hb dX1_hear_43 (by decide) ?_
        refine lv_iload_n hx hb dX1_hear_44 rfl (lv_at hl 1 rfl) ?_
        obtain ⟨S12, hS12, hm⟩ := ob_s hm
        refine xr_iast X hw hS hS12 dX1_hear_45 (fun H locs hw hS => ?_)
        refine lv_dup hx hb dX1_hear_46 rfl ?_
        refine lv_iconst (v := 1) hx hb dX1_hear_47 (by decide) ?_
        refine lv_iload_n hx hb dX1_hear_48 rfl (lv_at hl 2 rfl) ?_
        obtain ⟨S13, hS13, hm⟩ := ob_s hm
        refine xr_iast X hw hS hS13 dX1_hear_49 (fun H locs hw hS => ?_)
        refine lv_dup hx hb dX1_hear_50 rfl ?_
        refine lv_iconst (v := 2) hx hb dX1_hear_51 (by decide) ?_
        refine lv_iload_n hx hb dX1_hear_52 rfl (lv_at hl 3 rfl) ?_
        refine lv_if_eq (tgt := 60) hx hb dX1_hear_53 (by decide) (fun c14 => ?_) (fun c14 => ?_)
        · replace hm := if_t c14 hm
          refine lv_iconst (v := 0) hx hb dX1_hear_60 (by decide) ?_
          exact wkX_X1_hear_61 X hr hlk hnm hlT hout hw0 N S13 x0 v10 (xTop w6.1) (xTop w6.1) 2 0 H locs ls _ _ hm hw hS (lv_sub hl [0] rfl)
        · replace hm := if_f c14 hm
          refine lv_iconst (v := 1) hx hb dX1_hear_56 (by decide) ?_
          refine lv_goto (tgt := 61) hx hb dX1_hear_57 (by decide) ?_
          exact wkX_X1_hear_61 X hr hlk hnm hlT hout hw0 N S13 x0 v10 (xTop w6.1) (xTop w6.1) 2 1 H locs ls _ _ hm hw hS (lv_sub hl [0] rfl)
      · replace hm := if_t c9 hm
        exact wkX_X1_hear_29 X hr hlk hnm hlT hout hw0 N w6.1 x0 H locs ls _ _ hm hw hS (lv_sub hl [0] rfl)
  exact hg _ _ _ _ hw va_S.rf
/-! DripCups.led -/
def kX_X1_led (g : XC) (N : Nat) (S : XS) (x0 : Nat) (x1 : Int32) : Option ((XS × Int32) ⊕ XT) :=
  tbind (kX_X1_oneOf g N S x1 2) fun r2 =>
  if x1 = 2 then
    (f_obj r2 1 x0 3).bind fun v17 =>
    (f_obj r2 1 x0 2).bind fun v18 =>
    (f_cls r2 2 v17).bind fun u19 =>
    (kX_X3_be g N r2 v17 v18).bind fun w20 =>
    (f_cls w20.1 1 x0).bind fun u21 =>
    (kX_X1_isSo g N w20.1 x0).bind fun w22 =>
    if w22.2 = 0 then
      some (.inl (w22.1, 0))
    else
      some (.inl (w22.1, 1))
  else
    (f_cls r2 1 x0).bind fun u4 =>
    (kX_X1_others g N r2 x0).bind fun w5 =>
    if x1 = 0 then
      (f_cls w5.1 10 w5.2).bind fun u15 =>
      (kX_J2_size g N w5.1 w5.2).bind fun w16 =>
      some (.inl (w16.1, w16.2))
    else
      (f_cls w5.1 10 w5.2).bind fun u7 =>
      (kX_J2_isEmpty g N w5.1 w5.2).bind fun w8 =>
      if w8.2 = 0 then
        (f_cls w8.1 10 w5.2).bind fun u10 =>
        (kX_J2_get g N w8.1 w5.2 0).bind fun w11 =>
        (gIv g w11.2).bind fun k12 =>
        (gIv g w11.2).bind fun u13 =>
        (kX_J19_intValue g N w11.1 w11.2).bind fun w14 =>
        some (.inl (w14.1, w14.2))
      else
        some (.inl (w8.1, (-1)))
theorem cx_X1_led : yX1_led.cls = RX1 ∧ yX1_led.cls ≠ "java/lang/invoke/MethodHandle" ∧ yX1_led.cls ≠ "java/lang/invoke/VarHandle" ∧ (parseMethodDescriptor yX1_led.desc).map (fun d => d.parameters.length) = some 1 := by decide +kernel
theorem met_X1_led {l : Launch} {g : XC} {D : va_G} {A : Nat → Prop} (hlT : l.stackTraces = false) (N : Nat) (S : XS) (x0 : Nat) (x1 : Int32) (w : (XS × Int32) ⊕ XT) (hm : kX_X1_led g N S x0 x1 = some w) : vx_Met l yX1_led (ws_ yX1_led cX1_led 3 (Option.some Jvm.ClassFile.FieldType.int)) (xRm g S 83) (xPre g D A [.ref x0, .int x1] S) (xTi g D A w) (xTx g D A w) (g.2.1 - xTop S) (g.2.2.1 - xSl S) A := by
  refine x_startT (own := RX1) (by decide +kernel) rfl (Nat.le_of_ble_eq_true rfl) (fun p e s m below meth c ls X hr hlk hnm hout hw hl => ?_)
  have hw0 := hw
  obtain ⟨hx, hb, -, hown, hts, -⟩ := id X
  have hl : lv_has ls 3 [(0, .ref x0), (1, .int x1)] := hl
  have hg : ∀ (H : Heap) (locs : List Loc) (cells slots : Nat), xW g D A S s H → va_S A s.heap H locs → W p l e (xRm g S 83) s m ([.ref x0, .int x1] : List Value).toArray below meth c H locs cells slots (vx_MQ below (xTi g D A w) (xTx g D A w) ([.ref x0, .int x1] : List Value).toArray s (g.2.1 - xTop S) (g.2.2.1 - xSl S) A) (F0 m 0 ls []) := by
    intro H locs cells slots hw hS
    unfold kX_X1_led at hm
    refine lv_iload_n hx hb dX1_led_0 rfl (lv_at hl 1 rfl) ?_
    refine lv_iconst (v := 2) hx hb dX1_led_1 (by decide) ?_
    obtain ⟨w1, hw1, hm⟩ := tb_s hm
    refine xt_retv hS (xt_runS X hw (met_X1_oneOf hlT N S x1 2 w1 hw1) (x_cs X (lv := 6) (by omega) (by decide) cx_X1_oneOf (lw_S q1306 q1307 q115 q1308)) rfl hl.1 rfl (Nat.le_of_ble_eq_true rfl) dX1_led_2) (fun t1 t2 u E9 ce q9 H1 locs1 hu ht => xt_pass X hlk hout (tc_r hu hm) ht (x_fits (lv2 := 0) X hw t1 t2).1 (x_fits (lv2 := 0) X hw t1 t2).2) (fun r2 hr2 H locs cells slots hw hS => ?_)
    replace hm := tc_l hr2 hm
    refine lv_iload_n hx hb dX1_led_5 rfl (lv_at hl 1 rfl) ?_
    refine lv_iconst (v := 2) hx hb dX1_led_6 (by decide) ?_
    refine lv_icmp_ne (tgt := 35) hx hb dX1_led_7 (by decide) (fun c3 => ?_) (fun c3 => ?_)
    · replace hm := if_f c3 hm
      refine lv_aload_n hx hb dX1_led_35 rfl (lv_at hl 0 rfl) ?_
      obtain ⟨u4, hu4, hm⟩ := ob_s hm
      obtain ⟨w5, hw5, hm⟩ := ob_s hm
      refine xr_retr hS (xr_runV X hw (met_X1_others N r2 x0 w5 hw5) (x_cv X (lv := 82) (by omega) (by decide) cx_X1_others (lw_V q1448 q1450 qs48 q115 q1451)) xc1 hu4 rfl hl.1 rfl (Nat.le_of_ble_eq_true rfl) dX1_led_36) (fun H locs cells slots hw hS => ?_)
      refine lv_astore_n (lv' := [(2, .ref w5.2), (0, .ref x0), (1, .int x1)]) hx hb dX1_led_39 rfl hl (by decide) rfl (fun ls hl => ?_)
      refine lv_iload_n hx hb dX1_led_40 rfl (lv_at hl 2 rfl) ?_
      refine lv_if_ne (tgt := 53) hx hb dX1_led_41 (by decide) (fun c6 => ?_) (fun c6 => ?_)
      · replace hm := if_f c6 hm
        refine lv_aload_n hx hb dX1_led_53 rfl (lv_at hl 0 rfl) ?_
        obtain ⟨u7, hu7, hm⟩ := ob_s hm
        obtain ⟨w8, hw8, hm⟩ := ob_s hm
        refine xr_ret5i hS (xr_runF (x := ⟨"java/util/List", "isEmpty", "()Z"⟩) X hw (met_J2_isEmpty N w5.1 w5.2 w8 hw8) (x_cf X (lv := 0) (by omega) (by decide) ci_List_isEmpty q592 q595 q597 q119 q599 q594 q593 q598 q596 q361) xc10 hu7 rfl hl.1 rfl (Nat.le_of_ble_eq_true rfl) dX1_led_54) (fun H locs cells slots hw hS => ?_)
        refine lv_if_eq (tgt := 66) hx hb dX1_led_59 (by decide) (fun c9 => ?_) (fun c9 => ?_)
        · replace hm := if_t c9 hm
          refine lv_aload_n hx hb dX1_led_66 rfl (lv_at hl 0 rfl) ?_
          refine lv_iconst (v := 0) hx hb dX1_led_67 (by decide) ?_
          obtain ⟨u10, hu10, hm⟩ := ob_s hm
          obtain ⟨w11, hw11, hm⟩ := ob_s hm
          refine xr_ret5r hS (xr_runF (x := ⟨"java/util/List", "get", "(I)Ljava/lang/Object;"⟩) X hw (met_J2_get N w8.1 w5.2 0 w11 hw11) (x_cf X (lv := 2) (by omega) (by decide) ci_List_get q1208 q487 q489 q119 q491 q486 q485 q490 q488 q361) xc10 hu10 rfl hl.1 rfl (Nat.le_of_ble_eq_true rfl) dX1_led_68) (fun H locs cells slots hw hS => ?_)
          obtain ⟨k12, hk12, hm⟩ := ob_s hm
          refine xr_castI X hw hk12 q1209 dX1_led_73 ?_
          obtain ⟨u13, hu13, hm⟩ := ob_s hm
          obtain ⟨w14, hw14, hm⟩ := ob_s hm
          refine xr_reti hS (xr_runVX X hw (met_J19_intValue N w11.1 w11.2 w14 hw14) (x_cv X (lv := 0) (by omega) (by decide) cx_J19_intValue (lw_V q1244 q498 q499 q145 q500)) (x_recvI X hw hu13) rfl hl.1 rfl (Nat.le_of_ble_eq_true rfl) dX1_led_76) (fun H locs cells slots hw hS => ?_)
          obtain rfl := Option.some.inj hm
          exact xt_iret (v := w14.2) X hr hlk hw hS rfl dX1_led_79
        · replace hm := if_f c9 hm
          refine lv_iconst (v := (-1)) hx hb dX1_led_62 (by decide) ?_
          refine lv_goto (tgt := 79) hx hb dX1_led_63 (by decide) ?_
          obtain rfl := Option.some.inj hm
          exact xt_iret (v := (-1)) X hr hlk hw hS rfl dX1_led_79
      · replace hm := if_t c6 hm
        refine lv_aload_n hx hb dX1_led_44 rfl (lv_at hl 0 rfl) ?_
        obtain ⟨u15, hu15, hm⟩ := ob_s hm
        obtain ⟨w16, hw16, hm⟩ := ob_s hm
        refine xr_ret5i hS (xr_runF (x := ⟨"java/util/List", "size", "()I"⟩) X hw (met_J2_size N w5.1 w5.2 w16 hw16) (x_cf X (lv := 0) (by omega) (by decide) ci_List_size q426 q429 q431 q119 q433 q428 q427 q432 q430 q361) xc10 hu15 rfl hl.1 rfl (Nat.le_of_ble_eq_true rfl) dX1_led_45) (fun H locs cells slots hw hS => ?_)
        refine lv_goto (tgt := 79) hx hb dX1_led_50 (by decide) ?_
        obtain rfl := Option.some.inj hm
        exact xt_iret (v := w16.2) X hr hlk hw hS rfl dX1_led_79
    · replace hm := if_t c3 hm
      refine lv_aload_n hx hb dX1_led_10 rfl (lv_at hl 0 rfl) ?_
      obtain ⟨v17, hv17, hm⟩ := ob_s hm
      refine xr_val X hw xc1 in_X1 3 (by decide) q282 (f_obj_s hv17) dX1_led_11 ?_
      refine lv_aload_n hx hb dX1_led_14 rfl (lv_at hl 0 rfl) ?_
      obtain ⟨v18, hv18, hm⟩ := ob_s hm
      refine xr_val X hw xc1 in_X1 2 (by decide) q281 (f_obj_s hv18) dX1_led_15 ?_
      obtain ⟨u19, hu19, hm⟩ := ob_s hm
      obtain ⟨w20, hw20, hm⟩ := ob_s hm
      refine xr_retr hS (xr_runV X hw (met_X3_be N r2 v17 v18 w20 hw20) (x_cv X (lv := 0) (by omega) (by decide) cx_X3_be (lw_V q608 q354 q355 q120 q356)) xc2 hu19 rfl hl.1 rfl (Nat.le_of_ble_eq_true rfl) dX1_led_18) (fun H locs cells slots hw hS => ?_)
      refine lv_pop hx hb dX1_led_21 rfl ?_
      refine lv_aload_n hx hb dX1_led_22 rfl (lv_at hl 0 rfl) ?_
      obtain ⟨u21, hu21, hm⟩ := ob_s hm
      obtain ⟨w22, hw22, hm⟩ := ob_s hm
      refine xr_reti hS (xr_runV X hw (met_X1_isSo N w20.1 x0 w22 hw22) (x_cv X (lv := 81) (by omega) (by decide) cx_X1_isSo (lw_V q1443 q1445 qs47 q115 q1446)) xc1 hu21 rfl hl.1 rfl (Nat.le_of_ble_eq_true rfl) dX1_led_23) (fun H locs cells slots hw hS => ?_)
      refine lv_if_eq (tgt := 33) hx hb dX1_led_26 (by decide) (fun c23 => ?_) (fun c23 => ?_)
      · replace hm := if_t c23 hm
        refine lv_iconst (v := 0) hx hb dX1_led_33 (by decide) ?_
        obtain rfl := Option.some.inj hm
        exact xt_iret (v := 0) X hr hlk hw hS rfl dX1_led_34
      · replace hm := if_f c23 hm
        refine lv_iconst (v := 1) hx hb dX1_led_29 (by decide) ?_
        refine lv_goto (tgt := 34) hx hb dX1_led_30 (by decide) ?_
        obtain rfl := Option.some.inj hm
        exact xt_iret (v := 1) X hr hlk hw hS rfl dX1_led_34
  exact hg _ _ _ _ hw va_S.rf
/-! DripCups.cold -/
def kX_X1_cold_155 (g : XC) (N : Nat) (K38 : XS → Nat → Int32 → Int32 → Int32 → Int32 → Int32 → Option ((XS × Int32) ⊕ XT)) (S : XS) (x0 : Nat) (x1 : Int32) (x2 : Int32) (x3 : Int32) (x4 : Int32) (x5 : Int32) : Option ((XS × Int32) ⊕ XT) :=
  K38 S x0 x1 x2 x3 x4 (x5 + 1)
theorem wkX_X1_cold_155 {p : Program} {l : Launch} {e : Env} {s : State} {m : MethodId} {args : Array Value} {below : List Frame} {meth : Method} {c : Code} {g : XC} {D : va_G} {A : Nat → Prop} {S0 : XS} {w : (XS × Int32) ⊕ XT} (X : xX g D A RX1 S0 p s m args c cX1_cold 9) (hr : meth.sig.returnType = (Option.some Jvm.ClassFile.FieldType.int)) (hlk : meth.locks = false) (hnm : meth.name = yX1_cold.name) (hlT : l.stackTraces = false) (hout : ∀ x ∈ c.exceptionTable.toList, False) (hw0 : xW g D A S0 s s.heap) (N : Nat) (K38 : XS → Nat → Int32 → Int32 → Int32 → Int32 → Int32 → Option ((XS × Int32) ⊕ XT))
    (hK38 : ∀ (S : XS) (x0 : Nat) (x1 : Int32) (x2 : Int32) (x3 : Int32) (x4 : Int32) (x5 : Int32) (H : Heap) (locs : List Loc) (ls : Array Slot) (cells slots : Nat), K38 S x0 x1 x2 x3 x4 x5 = some w → xW g D A S s H → va_S A s.heap H locs → lv_has ls 9 [(0, .ref x0), (1, .int x1), (2, .int x2), (3, .int x3), (4, .int x4), (5, .int x5)] → W p l e (xRm g S0 81) s m args below meth c H locs cells slots (vx_MQ below (xTi g D A w) (xTx g D A w) args s (g.2.1 - xTop S0) (g.2.2.1 - xSl S0) A) (F0 m 38 ls [])) :
    ∀ (S : XS) (x0 : Nat) (x1 : Int32) (x2 : Int32) (x3 : Int32) (x4 : Int32) (x5 : Int32) (H : Heap) (locs : List Loc) (ls : Array Slot) (cells slots : Nat), kX_X1_cold_155 g N K38 S x0 x1 x2 x3 x4 x5 = some w → xW g D A S s H → va_S A s.heap H locs → lv_has ls 9 [(0, .ref x0), (1, .int x1), (2, .int x2), (3, .int x3), (4, .int x4), (5, .int x5)] → W p l e (xRm g S0 81) s m args below meth c H locs cells slots (vx_MQ below (xTi g D A w) (xTx g D A w) args s (g.2.1 - xTop S0) (g.2.2.1 - xSl S0) A) (F0 m 155 ls []) := by
  obtain ⟨hx, hb, -, hown, hts, -⟩ := id X
  intro S x0 x1 x2 x3 x4 x5 H locs ls cells slots hm hw hS hl
  unfold kX_X1_cold_155 at hm
  refine lv_iinc (v := (x5 + 1)) (lv' := [(5, .int (x5 + 1)), (0, .ref x0), (1, .int x1), (2, .int x2), (3, .int x3), (4, .int x4)]) hx hb dX1_cold_155 hl (k := 5) rfl rfl (by decide) rfl (fun ls hl => ?_)
  refine lv_goto (tgt := 38) hx hb dX1_cold_158 (by decide) ?_
  exact hK38 S x0 x1 x2 x3 x4 (x5 + 1) H locs ls _ _ hm hw hS (lv_sub hl [1, 2, 3, 4, 5, 0] rfl)
def kX_X1_cold_115 (g : XC) (N : Nat) (K38 : XS → Nat → Int32 → Int32 → Int32 → Int32 → Int32 → Option ((XS × Int32) ⊕ XT)) (K67 : XS → Nat → Int32 → Int32 → Int32 → Int32 → Int32 → Int32 → Int32 → Int32 → Option ((XS × Int32) ⊕ XT)) (S : XS) (x0 : Nat) (x1 : Int32) (x2 : Int32) (x3 : Int32) (x4 : Int32) (x5 : Int32) (x7 : Int32) (x8 : Int32) (t0 : Int32) (t1 : Int32) : Option ((XS × Int32) ⊕ XT) :=
  bnd (t0 * t1) fun v1 =>
  (f_obj S 1 x0 3).bind fun v2 =>
  (f_cls S 2 v2).bind fun u3 =>
  (kX_X3_pass g N S v2).bind fun w4 =>
  (f_int w4.1 2 w4.2 13).bind fun v5 =>
  (kX_X1_isOf g N v5 x1).bind fun w6 =>
  bnd (x7 ||| w6) fun v7 =>
  K67 w4.1 x0 x1 x2 x3 x4 x5 v1 v7 (x8 + 1)
theorem wkX_X1_cold_115 {p : Program} {l : Launch} {e : Env} {s : State} {m : MethodId} {args : Array Value} {below : List Frame} {meth : Method} {c : Code} {g : XC} {D : va_G} {A : Nat → Prop} {S0 : XS} {w : (XS × Int32) ⊕ XT} (X : xX g D A RX1 S0 p s m args c cX1_cold 9) (hr : meth.sig.returnType = (Option.some Jvm.ClassFile.FieldType.int)) (hlk : meth.locks = false) (hnm : meth.name = yX1_cold.name) (hlT : l.stackTraces = false) (hout : ∀ x ∈ c.exceptionTable.toList, False) (hw0 : xW g D A S0 s s.heap) (N : Nat) (K38 : XS → Nat → Int32 → Int32 → Int32 → Int32 → Int32 → Option ((XS × Int32) ⊕ XT)) (K67 : XS → Nat → Int32 → Int32 → Int32 → Int32 → Int32 → Int32 → Int32 → Int32 → Option ((XS × Int32) ⊕ XT))
    (hK38 : ∀ (S : XS) (x0 : Nat) (x1 : Int32) (x2 : Int32) (x3 : Int32) (x4 : Int32) (x5 : Int32) (H : Heap) (locs : List Loc) (ls : Array Slot) (cells slots : Nat), K38 S x0 x1 x2 x3 x4 x5 = some w → xW g D A S s H → va_S A s.heap H locs → lv_has ls 9 [(0, .ref x0), (1, .int x1), (2, .int x2), (3, .int x3), (4, .int x4), (5, .int x5)] → W p l e (xRm g S0 81) s m args below meth c H locs cells slots (vx_MQ below (xTi g D A w) (xTx g D A w) args s (g.2.1 - xTop S0) (g.2.2.1 - xSl S0) A) (F0 m 38 ls []))
    (hK67 : ∀ (S : XS) (x0 : Nat) (x1 : Int32) (x2 : Int32) (x3 : Int32) (x4 : Int32) (x5 : Int32) (x6 : Int32) (x7 : Int32) (x8 : Int32) (H : Heap) (locs : List Loc) (ls : Array Slot) (cells slots : Nat), K67 S x0 x1 x2 x3 x4 x5 x6 x7 x8 = some w → xW g D A S s H → va_S A s.heap H locs → lv_has ls 9 [(0, .ref x0), (1, .int x1), (2, .int x2), (3, .int x3), (4, .int x4), (5, .int x5), (6, .int x6), (7, .int x7), (8, .int x8)] → W p l e (xRm g S0 81) s m args below meth c H locs cells slots (vx_MQ below (xTi g D A w) (xTx g D A w) args s (g.2.1 - xTop S0) (g.2.2.1 - xSl S0) A) (F0 m 67 ls [])) :
    ∀ (S : XS) (x0 : Nat) (x1 : Int32) (x2 : Int32) (x3 : Int32) (x4 : Int32) (x5 : Int32) (x7 : Int32) (x8 : Int32) (t0 : Int32) (t1 : Int32) (H : Heap) (locs : List Loc) (ls : Array Slot) (cells slots : Nat), kX_X1_cold_115 g N K38 K67 S x0 x1 x2 x3 x4 x5 x7 x8 t0 t1 = some w → xW g D A S s H → va_S A s.heap H locs → lv_has ls 9 [(0, .ref x0), (1, .int x1), (2, .int x2), (3, .int x3), (4, .int x4), (5, .int x5), (7, .int x7), (8, .int x8)] → W p l e (xRm g S0 81) s m args below meth c H locs cells slots (vx_MQ below (xTi g D A w) (xTx g D A w) args s (g.2.1 - xTop S0) (g.2.2.1 - xSl S0) A) (F0 m 115 ls [.int t1, .int t0]) := by
  obtain ⟨hx, hb, -, hown, hts, -⟩ := id X
  intro S x0 x1 x2 x3 x4 x5 x7 x8 t0 t1 H locs ls cells slots hm hw hS hl
  unfold kX_X1_cold_115 at hm
  refine lv_imul hx hb dX1_cold_115 ?_
  refine lv_topi (fun v1 ev1 => ?_)
  replace hm := bnd_s hm ev1
  refine lv_istore (lv' := [(6, .int v1), (0, .ref x0), (1, .int x1), (2, .int x2), (3, .int x3), (4, .int x4), (5, .int x5), (7, .int x7), (8, .int x8)]) hx hb dX1_cold_116 hl (by decide) rfl (fun ls hl => ?_)
  refine lv_iload hx hb dX1_cold_118 (lv_at hl 7 rfl) ?_
  refine lv_aload_n hx hb dX1_cold_120 rfl (lv_at hl 1 rfl) ?_
  obtain ⟨v2, hv2, hm⟩ := ob_s hm
  refine xr_val X hw xc1 in_X1 3 (by decide) q282 (f_obj_s hv2) dX1_cold_121 ?_
  obtain ⟨u3, hu3, hm⟩ := ob_s hm
  obtain ⟨w4, hw4, hm⟩ := ob_s hm
  refine xr_retr hS (xr_runV X hw (met_X3_pass N S v2 w4 hw4) (x_cv X (lv := 80) (by omega) (by decide) cx_X3_pass (lw_V q609 q459 q460 q120 q461)) xc2 hu3 rfl hl.1 rfl (Nat.le_of_ble_eq_true rfl) dX1_cold_124) (fun H locs cells slots hw hS => ?_)
  obtain ⟨v5, hv5, hm⟩ := ob_s hm
  refine xr_valN X hw xc2 in_X3 13 (by decide) q238 (f_int_s hv5) dX1_cold_127 ?_
  refine lv_iload_n hx hb dX1_cold_130 rfl (lv_at hl 2 rfl) ?_
  obtain ⟨w6, hw6, hm⟩ := ob_s hm
  refine xr_reti hS (xr_runS X hw (met_X1_isOf N w4.1 v5 x1 w6 hw6) (x_cs X (lv := 0) (by omega) (by decide) cx_X1_isOf (lw_S q1202 q477 q115 q478)) rfl hl.1 rfl (Nat.le_of_ble_eq_true rfl) dX1_cold_131) (fun H locs cells slots hw hS => ?_)
  refine lv_ior hx hb dX1_cold_134 ?_
  refine lv_topi (fun v7 ev7 => ?_)
  replace hm := bnd_s hm ev7
  refine lv_istore (lv' := [(7, .int v7), (6, .int v1), (0, .ref x0), (1, .int x1), (2, .int x2), (3, .int x3), (4, .int x4), (5, .int x5), (8, .int x8)]) hx hb dX1_cold_135 hl (by decide) rfl (fun ls hl => ?_)
  refine lv_iinc (v := (x8 + 1)) (lv' := [(8, .int (x8 + 1)), (7, .int v7), (6, .int v1), (0, .ref x0), (1, .int x1), (2, .int x2), (3, .int x3), (4, .int x4), (5, .int x5)]) hx hb dX1_cold_137 hl (k := 8) rfl rfl (by decide) rfl (fun ls hl => ?_)
  refine lv_goto (tgt := 67) hx hb dX1_cold_140 (by decide) ?_
  exact hK67 w4.1 x0 x1 x2 x3 x4 x5 v1 v7 (x8 + 1) H locs ls _ _ hm hw hS (lv_sub hl [3, 4, 5, 6, 7, 8, 2, 1, 0] rfl)
def kX_X1_cold_67 (g : XC) (N : Nat) (K38 : XS → Nat → Int32 → Int32 → Int32 → Int32 → Int32 → Option ((XS × Int32) ⊕ XT)) : Nat → XS → Nat → Int32 → Int32 → Int32 → Int32 → Int32 → Int32 → Int32 → Int32 → Option ((XS × Int32) ⊕ XT)
  | 0, _, _, _, _, _, _, _, _, _, _ => none
  | n + 1, S, x0, x1, x2, x3, x4, x5, x6, x7, x8 =>
    if x2 ≤ x8 then
      if x7 = 0 then
        kX_X1_cold_155 g N K38 S x0 x1 x2 x3 x4 x5
      else
        bnd (x4 + x6) fun v3 =>
        kX_X1_cold_155 g N K38 S x0 x1 x2 x3 v3 x5
    else
      (f_obj S 1 x0 3).bind fun v4 =>
      (kX_X1_isOf g N x5 x8).bind fun w5 =>
      zchk w5 <|
      (f_putI S 2 v4 10 w5).bind fun S6 =>
      (f_obj S6 1 x0 3).bind fun v8 =>
      (f_putI S6 2 v8 9 1).bind fun S9 =>
      (f_obj S9 1 x0 3).bind fun v10 =>
      (f_int S9 2 v10 10).bind fun v11 =>
      if v11 = 0 then
        kX_X1_cold_115 g N K38 (kX_X1_cold_67 g N K38 n) S9 x0 x1 x2 x3 x4 x5 x7 x8 x6 (10 - x3)
      else
        kX_X1_cold_115 g N K38 (kX_X1_cold_67 g N K38 n) S9 x0 x1 x2 x3 x4 x5 x7 x8 x6 x3
theorem wkX_X1_cold_67 {p : Program} {l : Launch} {e : Env} {s : State} {m : MethodId} {args : Array Value} {below : List Frame} {meth : Method} {c : Code} {g : XC} {D : va_G} {A : Nat → Prop} {S0 : XS} {w : (XS × Int32) ⊕ XT} (X : xX g D A RX1 S0 p s m args c cX1_cold 9) (hr : meth.sig.returnType = (Option.some Jvm.ClassFile.FieldType.int)) (hlk : meth.locks = false) (hnm : meth.name = yX1_cold.name) (hlT : l.stackTraces = false) (hout : ∀ x ∈ c.exceptionTable.toList, False) (hw0 : xW g D A S0 s s.heap) (N : Nat) (K38 : XS → Nat → Int32 → Int32 → Int32 → Int32 → Int32 → Option ((XS × Int32) ⊕ XT))
    (hK38 : ∀ (S : XS) (x0 : Nat) (x1 : Int32) (x2 : Int32) (x3 : Int32) (x4 : Int32) (x5 : Int32) (H : Heap) (locs : List Loc) (ls : Array Slot) (cells slots : Nat), K38 S x0 x1 x2 x3 x4 x5 = some w → xW g D A S s H → va_S A s.heap H locs → lv_has ls 9 [(0, .ref x0), (1, .int x1), (2, .int x2), (3, .int x3), (4, .int x4), (5, .int x5)] → W p l e (xRm g S0 81) s m args below meth c H locs cells slots (vx_MQ below (xTi g D A w) (xTx g D A w) args s (g.2.1 - xTop S0) (g.2.2.1 - xSl S0) A) (F0 m 38 ls [])) :
    ∀ (n : Nat) (S : XS) (x0 : Nat) (x1 : Int32) (x2 : Int32) (x3 : Int32) (x4 : Int32) (x5 : Int32) (x6 : Int32) (x7 : Int32) (x8 : Int32) (H : Heap) (locs : List Loc) (ls : Array Slot) (cells slots : Nat), kX_X1_cold_67 g N K38 n S x0 x1 x2 x3 x4 x5 x6 x7 x8 = some w → xW g D A S s H → va_S A s.heap H locs → lv_has ls 9 [(0, .ref x0), (1, .int x1), (2, .int x2), (3, .int x3), (4, .int x4), (5, .int x5), (6, .int x6), (7, .int x7), (8, .int x8)] → W p l e (xRm g S0 81) s m args below meth c H locs cells slots (vx_MQ below (xTi g D A w) (xTx g D A w) args s (g.2.1 - xTop S0) (g.2.2.1 - xSl S0) A) (F0 m 67 ls []) := by
  obtain ⟨hx, hb, -, hown, hts, -⟩ := id X
  intro n
  induction n with
  | zero =>
    intro S x0 x1 x2 x3 x4 x5 x6 x7 x8 H locs ls cells slots hm
    cases hm
  | succ n ih =>
    intro S x0 x1 x2 x3 x4 x5 x6 x7 x8 H locs ls cells slots hm hw hS hl
    rw [kX_X1_cold_67] at hm
    refine lv_iload hx hb dX1_cold_67 (lv_at hl 8 rfl) ?_
    refine lv_iload_n hx hb dX1_cold_69 rfl (lv_at hl 2 rfl) ?_
    refine lv_icmp_ge (tgt := 143) hx hb dX1_cold_70 (by decide) (fun c1 => ?_) (fun c1 => ?_)
    · replace hm := if_t c1 hm
      refine lv_iload hx hb dX1_cold_143 (lv_at hl 7 rfl) ?_
      refine lv_if_eq (tgt := 155) hx hb dX1_cold_145 (by decide) (fun c2 => ?_) (fun c2 => ?_)
      · replace hm := if_t c2 hm
        exact wkX_X1_cold_155 X hr hlk hnm hlT hout hw0 N K38 hK38 S x0 x1 x2 x3 x4 x5 H locs ls _ _ hm hw hS (lv_sub hl [0, 1, 2, 3, 4, 5] rfl)
      · replace hm := if_f c2 hm
        refine lv_iload hx hb dX1_cold_148 (lv_at hl 4 rfl) ?_
        refine lv_iload hx hb dX1_cold_150 (lv_at hl 6 rfl) ?_
        refine lv_iadd hx hb dX1_cold_152 ?_
        refine lv_topi (fun v3 ev3 => ?_)
        replace hm := bnd_s hm ev3
        refine lv_istore (lv' := [(4, .int v3), (0, .ref x0), (1, .int x1), (2, .int x2), (3, .int x3), (5, .int x5), (6, .int x6), (7, .int x7), (8, .int x8)]) hx hb dX1_cold_153 hl (by decide) rfl (fun ls hl => ?_)
        exact wkX_X1_cold_155 X hr hlk hnm hlT hout hw0 N K38 hK38 S x0 x1 x2 x3 v3 x5 H locs ls _ _ hm hw hS (lv_sub hl [1, 2, 3, 4, 0, 5] rfl)
    · replace hm := if_f c1 hm
      refine lv_aload_n hx hb dX1_cold_73 rfl (lv_at hl 0 rfl) ?_
      obtain ⟨v4, hv4, hm⟩ := ob_s hm
      refine xr_val X hw xc1 in_X1 3 (by decide) q282 (f_obj_s hv4) dX1_cold_74 ?_
      refine lv_iload hx hb dX1_cold_77 (lv_at hl 5 rfl) ?_
      refine lv_iload hx hb dX1_cold_79 (lv_at hl 8 rfl) ?_
      obtain ⟨w5, hw5, hm⟩ := ob_s hm
      refine xr_reti hS (xr_runS X hw (met_X1_isOf N S x5 x8 w5 hw5) (x_cs X (lv := 0) (by omega) (by decide) cx_X1_isOf (lw_S q1202 q477 q115 q478)) rfl hl.1 rfl (Nat.le_of_ble_eq_true rfl) dX1_cold_81) (fun H locs cells slots hw hS => ?_)
      obtain ⟨z7, hm⟩ := zchk_s hm
      obtain ⟨S6, hS6, hm⟩ := ob_s hm
      refine xr_putIN X hw hS xc2 in_X3 tyX3_ok nmX3 10 (by decide) q233 rfl (tyX3_ok 10 (by decide)) (z_nar z7) (z_fit z7) hS6 dX1_cold_84 (fun H locs hw hS => ?_)
      refine lv_aload_n hx hb dX1_cold_87 rfl (lv_at hl 0 rfl) ?_
      obtain ⟨v8, hv8, hm⟩ := ob_s hm
      refine xr_val X hw xc1 in_X1 3 (by decide) q282 (f_obj_s hv8) dX1_cold_88 ?_
      refine lv_iconst (v := 1) hx hb dX1_cold_91 (by decide) ?_
      obtain ⟨S9, hS9, hm⟩ := ob_s hm
      refine xr_putIN X hw hS xc2 in_X3 tyX3_ok nmX3 9 (by decide) q231 rfl (tyX3_ok 9 (by decide)) rfl rfl hS9 dX1_cold_92 (fun H locs hw hS => ?_)
      refine lv_iload hx hb dX1_cold_95 (lv_at hl 6 rfl) ?_
      refine lv_aload_n hx hb dX1_cold_97 rfl (lv_at hl 0 rfl) ?_
      obtain ⟨v10, hv10, hm⟩ := ob_s hm
      refine xr_val X hw xc1 in_X1 3 (by decide) q282 (f_obj_s hv10) dX1_cold_98 ?_
      obtain ⟨v11, hv11, hm⟩ := ob_s hm
      refine xr_valN X hw xc2 in_X3 10 (by decide) q233 (f_int_s hv11) dX1_cold_101 ?_
      refine lv_if_eq (tgt := 111) hx hb dX1_cold_104 (by decide) (fun c12 => ?_) (fun c12 => ?_)
      · replace hm := if_t c12 hm
        refine lv_bipush (v := 10) hx hb dX1_cold_111 (by decide) ?_
        refine lv_iload_n hx hb dX1_cold_113 rfl (lv_at hl 3 rfl) ?_
        refine lv_isub hx hb dX1_cold_114 ?_
        exact wkX_X1_cold_115 X hr hlk hnm hlT hout hw0 N K38 (kX_X1_cold_67 g N K38 n) hK38 ih S9 x0 x1 x2 x3 x4 x5 x7 x8 x6 (10 - x3) H locs ls _ _ hm hw hS (lv_sub hl [0, 1, 2, 3, 4, 5, 7, 8] rfl)
      · replace hm := if_f c12 hm
        refine lv_iload_n hx hb dX1_cold_107 rfl (lv_at hl 3 rfl) ?_
        refine lv_goto (tgt := 115) hx hb dX1_cold_108 (by decide) ?_
        exact wkX_X1_cold_115 X hr hlk hnm hlT hout hw0 N K38 (kX_X1_cold_67 g N K38 n) hK38 ih S9 x0 x1 x2 x3 x4 x5 x7 x8 x6 x3 H locs ls _ _ hm hw hS (lv_sub hl [0, 1, 2, 3, 4, 5, 7, 8] rfl)
def kX_X1_cold_38 (g : XC) (N : Nat) : Nat → XS → Nat → Int32 → Int32 → Int32 → Int32 → Int32 → Option ((XS × Int32) ⊕ XT)
  | 0, _, _, _, _, _, _, _ => none
  | n + 1, S, x0, x1, x2, x3, x4, x5 =>
    if ((1 : Int32) <<< (x2 &&& 31)) ≤ x5 then
      some (.inl (S, x4))
    else
      (f_obj S 1 x0 3).bind fun v2 =>
      (f_obj S 1 x0 2).bind fun v3 =>
      (f_cls S 2 v2).bind fun u4 =>
      (kX_X3_be g N S v2 v3).bind fun w5 =>
      kX_X1_cold_67 g N (kX_X1_cold_38 g N n) N w5.1 x0 x1 x2 x3 x4 x5 1 0 0
theorem wkX_X1_cold_38 {p : Program} {l : Launch} {e : Env} {s : State} {m : MethodId} {args : Array Value} {below : List Frame} {meth : Method} {c : Code} {g : XC} {D : va_G} {A : Nat → Prop} {S0 : XS} {w : (XS × Int32) ⊕ XT} (X : xX g D A RX1 S0 p s m args c cX1_cold 9) (hr : meth.sig.returnType = (Option.some Jvm.ClassFile.FieldType.int)) (hlk : meth.locks = false) (hnm : meth.name = yX1_cold.name) (hlT : l.stackTraces = false) (hout : ∀ x ∈ c.exceptionTable.toList, False) (hw0 : xW g D A S0 s s.heap) (N : Nat) :
    ∀ (n : Nat) (S : XS) (x0 : Nat) (x1 : Int32) (x2 : Int32) (x3 : Int32) (x4 : Int32) (x5 : Int32) (H : Heap) (locs : List Loc) (ls : Array Slot) (cells slots : Nat), kX_X1_cold_38 g N n S x0 x1 x2 x3 x4 x5 = some w → xW g D A S s H → va_S A s.heap H locs → lv_has ls 9 [(0, .ref x0), (1, .int x1), (2, .int x2), (3, .int x3), (4, .int x4), (5, .int x5)] → W p l e (xRm g S0 81) s m args below meth c H locs cells slots (vx_MQ below (xTi g D A w) (xTx g D A w) args s (g.2.1 - xTop S0) (g.2.2.1 - xSl S0) A) (F0 m 38 ls []) := by
  obtain ⟨hx, hb, -, hown, hts, -⟩ := id X
  intro n
  induction n with
  | zero =>
    intro S x0 x1 x2 x3 x4 x5 H locs ls cells slots hm
    cases hm
  | succ n ih =>
    intro S x0 x1 x2 x3 x4 x5 H locs ls cells slots hm hw hS hl
    rw [kX_X1_cold_38] at hm
    refine lv_iload hx hb dX1_cold_38 (lv_at hl 5 rfl) ?_
    refine lv_iconst (v := 1) hx hb dX1_cold_40 (by decide) ?_
    refine lv_iload_n hx hb dX1_cold_41 rfl (lv_at hl 2 rfl) ?_
    refine lv_ishl hx hb dX1_cold_42 ?_
    refine lv_icmp_ge (tgt := 161) hx hb dX1_cold_43 (by decide) (fun c1 => ?_) (fun c1 => ?_)
    · replace hm := if_t c1 hm
      refine lv_iload hx hb dX1_cold_161 (lv_at hl 4 rfl) ?_
      obtain rfl := Option.some.inj hm
      exact xt_iret (v := x4) X hr hlk hw hS rfl dX1_cold_163
    · replace hm := if_f c1 hm
      refine lv_iconst (v := 1) hx hb dX1_cold_46 (by decide) ?_
      refine lv_istore (lv' := [(6, .int 1), (0, .ref x0), (1, .int x1), (2, .int x2), (3, .int x3), (4, .int x4), (5, .int x5)]) hx hb dX1_cold_47 hl (by decide) rfl (fun ls hl => ?_)
      refine lv_iconst (v := 0) hx hb dX1_cold_49 (by decide) ?_
      refine lv_istore (lv' := [(7, .int 0), (6, .int 1), (0, .ref x0), (1, .int x1), (2, .int x2), (3, .int x3), (4, .int x4), (5, .int x5)]) hx hb dX1_cold_50 hl (by decide) rfl (fun ls hl => ?_)
      refine lv_aload_n hx hb dX1_cold_52 rfl (lv_at hl 2 rfl) ?_
      obtain ⟨v2, hv2, hm⟩ := ob_s hm
      refine xr_val X hw xc1 in_X1 3 (by decide) q282 (f_obj_s hv2) dX1_cold_53 ?_
      refine lv_aload_n hx hb dX1_cold_56 rfl (lv_at hl 2 rfl) ?_
      obtain ⟨v3, hv3, hm⟩ := ob_s hm
      refine xr_val X hw xc1 in_X1 2 (by decide) q281 (f_obj_s hv3) dX1_cold_57 ?_
      obtain ⟨u4, hu4, hm⟩ := ob_s hm
      obtain ⟨w5, hw5, hm⟩ := ob_s hm
      refine xr_retr hS (xr_runV X hw (met_X3_be N S v2 v3 w5 hw5) (x_cv X (lv := 0) (by omega) (by decide) cx_X3_be (lw_V q608 q354 q355 q120 q356)) xc2 hu4 rfl hl.1 rfl (Nat.le_of_ble_eq_true rfl) dX1_cold_60) (fun H locs cells slots hw hS => ?_)
      refine lv_pop hx hb dX1_cold_63 rfl ?_
      refine lv_iconst (v := 0) hx hb dX1_cold_64 (by decide) ?_
      refine lv_istore (lv' := [(8, .int 0), (7, .int 0), (6, .int 1), (0, .ref x0), (1, .int x1), (2, .int x2), (3, .int x3), (4, .int x4), (5, .int x5)]) hx hb dX1_cold_65 hl (by decide) rfl (fun ls hl => ?_)
      exact wkX_X1_cold_67 X hr hlk hnm hlT hout hw0 N (kX_X1_cold_38 g N n) ih N w5.1 x0 x1 x2 x3 x4 x5 1 0 0 H locs ls _ _ hm hw hS (lv_sub hl [3, 4, 5, 6, 7, 8, 2, 1, 0] rfl)
def kX_X1_cold_29 (g : XC) (N : Nat) (S : XS) (x0 : Nat) (x1 : Int32) (x2 : Int32) (x3 : Int32) (t0 : Int32) : Option ((XS × Int32) ⊕ XT) :=
  tbind (kX_X1_right g N S t0) fun r2 =>
  kX_X1_cold_38 g N N r2 x0 x1 x2 x3 0 0
theorem wkX_X1_cold_29 {p : Program} {l : Launch} {e : Env} {s : State} {m : MethodId} {args : Array Value} {below : List Frame} {meth : Method} {c : Code} {g : XC} {D : va_G} {A : Nat → Prop} {S0 : XS} {w : (XS × Int32) ⊕ XT} (X : xX g D A RX1 S0 p s m args c cX1_cold 9) (hr : meth.sig.returnType = (Option.some Jvm.ClassFile.FieldType.int)) (hlk : meth.locks = false) (hnm : meth.name = yX1_cold.name) (hlT : l.stackTraces = false) (hout : ∀ x ∈ c.exceptionTable.toList, False) (hw0 : xW g D A S0 s s.heap) (N : Nat) :
    ∀ (S : XS) (x0 : Nat) (x1 : Int32) (x2 : Int32) (x3 : Int32) (t0 : Int32) (H : Heap) (locs : List Loc) (ls : Array Slot) (cells slots : Nat), kX_X1_cold_29 g N S x0 x1 x2 x3 t0 = some w → xW g D A S s H → va_S A s.heap H locs → lv_has ls 9 [(0, .ref x0), (1, .int x1), (2, .int x2), (3, .int x3)] → W p l e (xRm g S0 81) s m args below meth c H locs cells slots (vx_MQ below (xTi g D A w) (xTx g D A w) args s (g.2.1 - xTop S0) (g.2.2.1 - xSl S0) A) (F0 m 29 ls [.int t0]) := by
  obtain ⟨hx, hb, -, hown, hts, -⟩ := id X
  intro S x0 x1 x2 x3 t0 H locs ls cells slots hm hw hS hl
  unfold kX_X1_cold_29 at hm
  obtain ⟨w1, hw1, hm⟩ := tb_s hm
  refine xt_retv hS (xt_runS X hw (met_X1_right hlT N S t0 w1 hw1) (x_cs X (lv := 5) (by omega) (by decide) cx_X1_right (lw_S q655 q656 q115 q657)) rfl hl.1 rfl (Nat.le_of_ble_eq_true rfl) dX1_cold_29) (fun t1 t2 u E9 ce q9 H1 locs1 hu ht => xt_pass X hlk hout (tc_r hu hm) ht (x_fits (lv2 := 0) X hw t1 t2).1 (x_fits (lv2 := 0) X hw t1 t2).2) (fun r2 hr2 H locs cells slots hw hS => ?_)
  replace hm := tc_l hr2 hm
  refine lv_iconst (v := 0) hx hb dX1_cold_32 (by decide) ?_
  refine lv_istore (lv' := [(4, .int 0), (0, .ref x0), (1, .int x1), (2, .int x2), (3, .int x3)]) hx hb dX1_cold_33 hl (by decide) rfl (fun ls hl => ?_)
  refine lv_iconst (v := 0) hx hb dX1_cold_35 (by decide) ?_
  refine lv_istore (lv' := [(5, .int 0), (4, .int 0), (0, .ref x0), (1, .int x1), (2, .int x2), (3, .int x3)]) hx hb dX1_cold_36 hl (by decide) rfl (fun ls hl => ?_)
  exact wkX_X1_cold_38 X hr hlk hnm hlT hout hw0 N N r2 x0 x1 x2 x3 0 0 H locs ls _ _ hm hw hS (lv_sub hl [2, 3, 4, 5, 1, 0] rfl)
def kX_X1_cold (g : XC) (N : Nat) (S : XS) (x0 : Nat) (x1 : Int32) (x2 : Int32) (x3 : Int32) : Option ((XS × Int32) ⊕ XT) :=
  (f_cls S 1 x0).bind fun u1 =>
  tbind (kX_X1_aCup g N S x0 x1) fun r3 =>
  (kX_X1_in g N x2 1 5).bind fun w4 =>
  if w4 = 0 then
    kX_X1_cold_29 g N r3 x0 x1 x2 x3 0
  else
    (kX_X1_in g N x3 0 10).bind fun w6 =>
    if w6 = 0 then
      kX_X1_cold_29 g N r3 x0 x1 x2 x3 0
    else
      kX_X1_cold_29 g N r3 x0 x1 x2 x3 1
theorem cx_X1_cold : yX1_cold.cls = RX1 ∧ yX1_cold.cls ≠ "java/lang/invoke/MethodHandle" ∧ yX1_cold.cls ≠ "java/lang/invoke/VarHandle" ∧ (parseMethodDescriptor yX1_cold.desc).map (fun d => d.parameters.length) = some 3 := by decide +kernel
theorem met_X1_cold {l : Launch} {g : XC} {D : va_G} {A : Nat → Prop} (hlT : l.stackTraces = false) (N : Nat) (S : XS) (x0 : Nat) (x1 : Int32) (x2 : Int32) (x3 : Int32) (w : (XS × Int32) ⊕ XT) (hm : kX_X1_cold g N S x0 x1 x2 x3 = some w) : vx_Met l yX1_cold (ws_ yX1_cold cX1_cold 9 (Option.some Jvm.ClassFile.FieldType.int)) (xRm g S 81) (xPre g D A [.ref x0, .int x1, .int x2, .int x3] S) (xTi g D A w) (xTx g D A w) (g.2.1 - xTop S) (g.2.2.1 - xSl S) A := by
  refine x_startT (own := RX1) (by decide +kernel) rfl (Nat.le_of_ble_eq_true rfl) (fun p e s m below meth c ls X hr hlk hnm hout hw hl => ?_)
  have hw0 := hw
  obtain ⟨hx, hb, -, hown, hts, -⟩ := id X
  have hl : lv_has ls 9 [(0, .ref x0), (1, .int x1), (2, .int x2), (3, .int x3)] := hl
  have hg : ∀ (H : Heap) (locs : List Loc) (cells slots : Nat), xW g D A S s H → va_S A s.heap H locs → W p l e (xRm g S 81) s m ([.ref x0, .int x1, .int x2, .int x3] : List Value).toArray below meth c H locs cells slots (vx_MQ below (xTi g D A w) (xTx g D A w) ([.ref x0, .int x1, .int x2, .int x3] : List Value).toArray s (g.2.1 - xTop S) (g.2.2.1 - xSl S) A) (F0 m 0 ls []) := by
    intro H locs cells slots hw hS
    unfold kX_X1_cold at hm
    refine lv_aload_n hx hb dX1_cold_0 rfl (lv_at hl 0 rfl) ?_
    refine lv_iload_n hx hb dX1_cold_1 rfl (lv_at hl 1 rfl) ?_
    obtain ⟨u1, hu1, hm⟩ := ob_s hm
    obtain ⟨w2, hw2, hm⟩ := tb_s hm
    refine xt_retv hS (xt_runV X hw (met_X1_aCup hlT N S x0 x1 w2 hw2) (x_cv X (lv := 6) (by omega) (by decide) cx_X1_aCup (lw_V q1240 q1242 qs40 q115 q1243)) xc1 hu1 rfl hl.1 rfl (Nat.le_of_ble_eq_true rfl) dX1_cold_2) (fun t1 t2 u E9 ce q9 H1 locs1 hu ht => xt_pass X hlk hout (tc_r hu hm) ht (x_fits (lv2 := 0) X hw t1 t2).1 (x_fits (lv2 := 0) X hw t1 t2).2) (fun r3 hr3 H locs cells slots hw hS => ?_)
    replace hm := tc_l hr3 hm
    refine lv_iload_n hx hb dX1_cold_5 rfl (lv_at hl 2 rfl) ?_
    refine lv_iconst (v := 1) hx hb dX1_cold_6 (by decide) ?_
    refine lv_iconst (v := 5) hx hb dX1_cold_7 (by decide) ?_
    obtain ⟨w4, hw4, hm⟩ := ob_s hm
    refine xr_reti hS (xr_runS X hw (met_X1_in N r3 x2 1 5 w4 hw4) (x_cs X (lv := 0) (by omega) (by decide) cx_X1_in (lw_S q336 q337 q115 q338)) rfl hl.1 rfl (Nat.le_of_ble_eq_true rfl) dX1_cold_8) (fun H locs cells slots hw hS => ?_)
    refine lv_if_eq (tgt := 28) hx hb dX1_cold_11 (by decide) (fun c5 => ?_) (fun c5 => ?_)
    · replace hm := if_t c5 hm
      refine lv_iconst (v := 0) hx hb dX1_cold_28 (by decide) ?_
      exact wkX_X1_cold_29 X hr hlk hnm hlT hout hw0 N r3 x0 x1 x2 x3 0 H locs ls _ _ hm hw hS (lv_sub hl [0, 1, 2, 3] rfl)
    · replace hm := if_f c5 hm
      refine lv_iload_n hx hb dX1_cold_14 rfl (lv_at hl 3 rfl) ?_
      refine lv_iconst (v := 0) hx hb dX1_cold_15 (by decide) ?_
      refine lv_bipush (v := 10) hx hb dX1_cold_16 (by decide) ?_
      obtain ⟨w6, hw6, hm⟩ := ob_s hm
      refine xr_reti hS (xr_runS X hw (met_X1_in N r3 x3 0 10 w6 hw6) (x_cs X (lv := 0) (by omega) (by decide) cx_X1_in (lw_S q336 q337 q115 q338)) rfl hl.1 rfl (Nat.le_of_ble_eq_true rfl) dX1_cold_18) (fun H locs cells slots hw hS => ?_)
      refine lv_if_eq (tgt := 28) hx hb dX1_cold_21 (by decide) (fun c7 => ?_) (fun c7 => ?_)
      · replace hm := if_t c7 hm
        refine lv_iconst (v := 0) hx hb dX1_cold_28 (by decide) ?_
        exact wkX_X1_cold_29 X hr hlk hnm hlT hout hw0 N r3 x0 x1 x2 x3 0 H locs ls _ _ hm hw hS (lv_sub hl [0, 1, 2, 3] rfl)
      · replace hm := if_f c7 hm
        refine lv_iconst (v := 1) hx hb dX1_cold_24 (by decide) ?_
        refine lv_goto (tgt := 29) hx hb dX1_cold_25 (by decide) ?_
        exact wkX_X1_cold_29 X hr hlk hnm hlT hout hw0 N r3 x0 x1 x2 x3 1 H locs ls _ _ hm hw hS (lv_sub hl [0, 1, 2, 3] rfl)
  exact hg _ _ _ _ hw va_S.rf
/-! DripCups.game -/
def kX_X1_game_127 (g : XC) (N : Nat) (K37 : XS → Nat → Int32 → Int32 → Int32 → Int32 → Int32 → Int32 → Option ((XS × Int32) ⊕ XT)) (K46 : XS → Nat → Int32 → Int32 → Int32 → Int32 → Int32 → Int32 → Int32 → Option ((XS × Int32) ⊕ XT)) (S : XS) (x0 : Nat) (x1 : Int32) (x2 : Int32) (x3 : Int32) (x4 : Int32) (x5 : Int32) (x6 : Int32) (x7 : Int32) : Option ((XS × Int32) ⊕ XT) :=
  K46 S x0 x1 x2 x3 x4 x5 x6 (x7 + 1)
theorem wkX_X1_game_127 {p : Program} {l : Launch} {e : Env} {s : State} {m : MethodId} {args : Array Value} {below : List Frame} {meth : Method} {c : Code} {g : XC} {D : va_G} {A : Nat → Prop} {S0 : XS} {w : (XS × Int32) ⊕ XT} (X : xX g D A RX1 S0 p s m args c cX1_game 9) (hr : meth.sig.returnType = (Option.some Jvm.ClassFile.FieldType.int)) (hlk : meth.locks = false) (hnm : meth.name = yX1_game.name) (hlT : l.stackTraces = false) (hout : ∀ x ∈ c.exceptionTable.toList, False) (hw0 : xW g D A S0 s s.heap) (N : Nat) (K37 : XS → Nat → Int32 → Int32 → Int32 → Int32 → Int32 → Int32 → Option ((XS × Int32) ⊕ XT)) (K46 : XS → Nat → Int32 → Int32 → Int32 → Int32 → Int32 → Int32 → Int32 → Option ((XS × Int32) ⊕ XT))
    (hK37 : ∀ (S : XS) (x0 : Nat) (x1 : Int32) (x2 : Int32) (x3 : Int32) (x4 : Int32) (x5 : Int32) (x6 : Int32) (H : Heap) (locs : List Loc) (ls : Array Slot) (cells slots : Nat), K37 S x0 x1 x2 x3 x4 x5 x6 = some w → xW g D A S s H → va_S A s.heap H locs → lv_has ls 9 [(0, .ref x0), (1, .int x1), (2, .int x2), (3, .int x3), (4, .int x4), (5, .int x5), (6, .int x6)] → W p l e (xRm g S0 83) s m args below meth c H locs cells slots (vx_MQ below (xTi g D A w) (xTx g D A w) args s (g.2.1 - xTop S0) (g.2.2.1 - xSl S0) A) (F0 m 37 ls []))
    (hK46 : ∀ (S : XS) (x0 : Nat) (x1 : Int32) (x2 : Int32) (x3 : Int32) (x4 : Int32) (x5 : Int32) (x6 : Int32) (x7 : Int32) (H : Heap) (locs : List Loc) (ls : Array Slot) (cells slots : Nat), K46 S x0 x1 x2 x3 x4 x5 x6 x7 = some w → xW g D A S s H → va_S A s.heap H locs → lv_has ls 9 [(0, .ref x0), (1, .int x1), (2, .int x2), (3, .int x3), (4, .int x4), (5, .int x5), (6, .int x6), (7, .int x7)] → W p l e (xRm g S0 83) s m args below meth c H locs cells slots (vx_MQ below (xTi g D A w) (xTx g D A w) args s (g.2.1 - xTop S0) (g.2.2.1 - xSl S0) A) (F0 m 46 ls [])) :
    ∀ (S : XS) (x0 : Nat) (x1 : Int32) (x2 : Int32) (x3 : Int32) (x4 : Int32) (x5 : Int32) (x6 : Int32) (x7 : Int32) (H : Heap) (locs : List Loc) (ls : Array Slot) (cells slots : Nat), kX_X1_game_127 g N K37 K46 S x0 x1 x2 x3 x4 x5 x6 x7 = some w → xW g D A S s H → va_S A s.heap H locs → lv_has ls 9 [(0, .ref x0), (1, .int x1), (2, .int x2), (3, .int x3), (4, .int x4), (5, .int x5), (6, .int x6), (7, .int x7)] → W p l e (xRm g S0 83) s m args below meth c H locs cells slots (vx_MQ below (xTi g D A w) (xTx g D A w) args s (g.2.1 - xTop S0) (g.2.2.1 - xSl S0) A) (F0 m 127 ls []) := by
  obtain ⟨hx, hb, -, hown, hts, -⟩ := id X
  intro S x0 x1 x2 x3 x4 x5 x6 x7 H locs ls cells slots hm hw hS hl
  unfold kX_X1_game_127 at hm
  refine lv_iinc (v := (x7 + 1)) (lv' := [(7, .int (x7 + 1)), (0, .ref x0), (1, .int x1), (2, .int x2), (3, .int x3), (4, .int x4), (5, .int x5), (6, .int x6)]) hx hb dX1_game_127 hl (k := 7) rfl rfl (by decide) rfl (fun ls hl => ?_)
  refine lv_goto (tgt := 46) hx hb dX1_game_130 (by decide) ?_
  exact hK46 S x0 x1 x2 x3 x4 x5 x6 (x7 + 1) H locs ls _ _ hm hw hS (lv_sub hl [1, 2, 3, 4, 5, 6, 7, 0] rfl)
def kX_X1_game_124 (g : XC) (N : Nat) (K37 : XS → Nat → Int32 → Int32 → Int32 → Int32 → Int32 → Int32 → Option ((XS × Int32) ⊕ XT)) (K46 : XS → Nat → Int32 → Int32 → Int32 → Int32 → Int32 → Int32 → Int32 → Option ((XS × Int32) ⊕ XT)) (S : XS) (x0 : Nat) (x1 : Int32) (x2 : Int32) (x3 : Int32) (x4 : Int32) (x5 : Int32) (x6 : Int32) (x7 : Int32) : Option ((XS × Int32) ⊕ XT) :=
  kX_X1_game_127 g N K37 K46 S x0 x1 x2 x3 (x4 + 1) x5 x6 x7
theorem wkX_X1_game_124 {p : Program} {l : Launch} {e : Env} {s : State} {m : MethodId} {args : Array Value} {below : List Frame} {meth : Method} {c : Code} {g : XC} {D : va_G} {A : Nat → Prop} {S0 : XS} {w : (XS × Int32) ⊕ XT} (X : xX g D A RX1 S0 p s m args c cX1_game 9) (hr : meth.sig.returnType = (Option.some Jvm.ClassFile.FieldType.int)) (hlk : meth.locks = false) (hnm : meth.name = yX1_game.name) (hlT : l.stackTraces = false) (hout : ∀ x ∈ c.exceptionTable.toList, False) (hw0 : xW g D A S0 s s.heap) (N : Nat) (K37 : XS → Nat → Int32 → Int32 → Int32 → Int32 → Int32 → Int32 → Option ((XS × Int32) ⊕ XT)) (K46 : XS → Nat → Int32 → Int32 → Int32 → Int32 → Int32 → Int32 → Int32 → Option ((XS × Int32) ⊕ XT))
    (hK37 : ∀ (S : XS) (x0 : Nat) (x1 : Int32) (x2 : Int32) (x3 : Int32) (x4 : Int32) (x5 : Int32) (x6 : Int32) (H : Heap) (locs : List Loc) (ls : Array Slot) (cells slots : Nat), K37 S x0 x1 x2 x3 x4 x5 x6 = some w → xW g D A S s H → va_S A s.heap H locs → lv_has ls 9 [(0, .ref x0), (1, .int x1), (2, .int x2), (3, .int x3), (4, .int x4), (5, .int x5), (6, .int x6)] → W p l e (xRm g S0 83) s m args below meth c H locs cells slots (vx_MQ below (xTi g D A w) (xTx g D A w) args s (g.2.1 - xTop S0) (g.2.2.1 - xSl S0) A) (F0 m 37 ls []))
    (hK46 : ∀ (S : XS) (x0 : Nat) (x1 : Int32) (x2 : Int32) (x3 : Int32) (x4 : Int32) (x5 : Int32) (x6 : Int32) (x7 : Int32) (H : Heap) (locs : List Loc) (ls : Array Slot) (cells slots : Nat), K46 S x0 x1 x2 x3 x4 x5 x6 x7 = some w → xW g D A S s H → va_S A s.heap H locs → lv_has ls 9 [(0, .ref x0), (1, .int x1), (2, .int x2), (3, .int x3), (4, .int x4), (5, .int x5), (6, .int x6), (7, .int x7)] → W p l e (xRm g S0 83) s m args below meth c H locs cells slots (vx_MQ below (xTi g D A w) (xTx g D A w) args s (g.2.1 - xTop S0) (g.2.2.1 - xSl S0) A) (F0 m 46 ls [])) :
    ∀ (S : XS) (x0 : Nat) (x1 : Int32) (x2 : Int32) (x3 : Int32) (x4 : Int32) (x5 : Int32) (x6 : Int32) (x7 : Int32) (H : Heap) (locs : List Loc) (ls : Array Slot) (cells slots : Nat), kX_X1_game_124 g N K37 K46 S x0 x1 x2 x3 x4 x5 x6 x7 = some w → xW g D A S s H → va_S A s.heap H locs → lv_has ls 9 [(0, .ref x0), (1, .int x1), (2, .int x2), (3, .int x3), (4, .int x4), (5, .int x5), (6, .int x6), (7, .int x7)] → W p l e (xRm g S0 83) s m args below meth c H locs cells slots (vx_MQ below (xTi g D A w) (xTx g D A w) args s (g.2.1 - xTop S0) (g.2.2.1 - xSl S0) A) (F0 m 124 ls []) := by
  obtain ⟨hx, hb, -, hown, hts, -⟩ := id X
  intro S x0 x1 x2 x3 x4 x5 x6 x7 H locs ls cells slots hm hw hS hl
  unfold kX_X1_game_124 at hm
  refine lv_iinc (v := (x4 + 1)) (lv' := [(4, .int (x4 + 1)), (0, .ref x0), (1, .int x1), (2, .int x2), (3, .int x3), (5, .int x5), (6, .int x6), (7, .int x7)]) hx hb dX1_game_124 hl (k := 4) rfl rfl (by decide) rfl (fun ls hl => ?_)
  exact wkX_X1_game_127 X hr hlk hnm hlT hout hw0 N K37 K46 hK37 hK46 S x0 x1 x2 x3 (x4 + 1) x5 x6 x7 H locs ls _ _ hm hw hS (lv_sub hl [1, 2, 3, 4, 0, 5, 6, 7] rfl)
def kX_X1_game_46 (g : XC) (N : Nat) (K37 : XS → Nat → Int32 → Int32 → Int32 → Int32 → Int32 → Int32 → Option ((XS × Int32) ⊕ XT)) : Nat → XS → Nat → Int32 → Int32 → Int32 → Int32 → Int32 → Int32 → Int32 → Option ((XS × Int32) ⊕ XT)
  | 0, _, _, _, _, _, _, _, _, _ => none
  | n + 1, S, x0, x1, x2, x3, x4, x5, x6, x7 =>
    if (2 : Int32) ≤ x7 then
      K37 S x0 x1 x2 x3 x4 x5 (x6 + 1)
    else
      (f_cls S 1 x0).bind fun u2 =>
      (kX_X1_gains g N S x0 x1 x2 x6 x7).bind fun w3 =>
      (f_cls w3.1 1 x0).bind fun u4 =>
      (kX_X1_gains g N w3.1 x0 x1 x2 (1 - x6) x7).bind fun w5 =>
      (a_int w5.1 0 w5.2 0).bind fun v6 =>
      (a_int w5.1 0 w3.2 0).bind fun v7 =>
      if v7 < v6 then
        kX_X1_game_127 g N K37 (kX_X1_game_46 g N K37 n) w5.1 x0 x1 x2 x3 x4 x5 x6 x7
      else
        (f_cls w5.1 1 x0).bind fun u9 =>
        (kX_X1_gains g N w5.1 x0 x1 x2 x6 (1 - x7)).bind fun w10 =>
        (a_int w10.1 0 w10.2 1).bind fun v11 =>
        (a_int w10.1 0 w3.2 1).bind fun v12 =>
        if v11 ≤ v12 then
          if x4 = 0 then
            bnd ((10 * x6) + x7) fun v15 =>
            kX_X1_game_124 g N K37 (kX_X1_game_46 g N K37 n) w10.1 x0 x1 x2 x3 x4 v15 x6 x7
          else
            kX_X1_game_124 g N K37 (kX_X1_game_46 g N K37 n) w10.1 x0 x1 x2 x3 x4 x5 x6 x7
        else
          kX_X1_game_127 g N K37 (kX_X1_game_46 g N K37 n) w10.1 x0 x1 x2 x3 x4 x5 x6 x7
theorem wkX_X1_game_46 {p : Program} {l : Launch} {e : Env} {s : State} {m : MethodId} {args : Array Value} {below : List Frame} {meth : Method} {c : Code} {g : XC} {D : va_G} {A : Nat → Prop} {S0 : XS} {w : (XS × Int32) ⊕ XT} (X : xX g D A RX1 S0 p s m args c cX1_game 9) (hr : meth.sig.returnType = (Option.some Jvm.ClassFile.FieldType.int)) (hlk : meth.locks = false) (hnm : meth.name = yX1_game.name) (hlT : l.stackTraces = false) (hout : ∀ x ∈ c.exceptionTable.toList, False) (hw0 : xW g D A S0 s s.heap) (N : Nat) (K37 : XS → Nat → Int32 → Int32 → Int32 → Int32 → Int32 → Int32 → Option ((XS × Int32) ⊕ XT))
    (hK37 : ∀ (S : XS) (x0 : Nat) (x1 : Int32) (x2 : Int32) (x3 : Int32) (x4 : Int32) (x5 : Int32) (x6 : Int32) (H : Heap) (locs : List Loc) (ls : Array Slot) (cells slots : Nat), K37 S x0 x1 x2 x3 x4 x5 x6 = some w → xW g D A S s H → va_S A s.heap H locs → lv_has ls 9 [(0, .ref x0), (1, .int x1), (2, .int x2), (3, .int x3), (4, .int x4), (5, .int x5), (6, .int x6)] → W p l e (xRm g S0 83) s m args below meth c H locs cells slots (vx_MQ below (xTi g D A w) (xTx g D A w) args s (g.2.1 - xTop S0) (g.2.2.1 - xSl S0) A) (F0 m 37 ls [])) :
    ∀ (n : Nat) (S : XS) (x0 : Nat) (x1 : Int32) (x2 : Int32) (x3 : Int32) (x4 : Int32) (x5 : Int32) (x6 : Int32) (x7 : Int32) (H : Heap) (locs : List Loc) (ls : Array Slot) (cells slots : Nat), kX_X1_game_46 g N K37 n S x0 x1 x2 x3 x4 x5 x6 x7 = some w → xW g D A S s H → va_S A s.heap H locs → lv_has ls 9 [(0, .ref x0), (1, .int x1), (2, .int x2), (3, .int x3), (4, .int x4), (5, .int x5), (6, .int x6), (7, .int x7)] → W p l e (xRm g S0 83) s m args below meth c H locs cells slots (vx_MQ below (xTi g D A w) (xTx g D A w) args s (g.2.1 - xTop S0) (g.2.2.1 - xSl S0) A) (F0 m 46 ls []) := by
  obtain ⟨hx, hb, -, hown, hts, -⟩ := id X
  intro n
  induction n with
  | zero =>
    intro S x0 x1 x2 x3 x4 x5 x6 x7 H locs ls cells slots hm
    cases hm
  | succ n ih =>
    intro S x0 x1 x2 x3 x4 x5 x6 x7 H locs ls cells slots hm hw hS hl
    rw [kX_X1_game_46] at hm
    refine lv_iload hx hb dX1_game_46 (lv_at hl 7 rfl) ?_
    refine lv_iconst (v := 2) hx hb dX1_game_48 (by decide) ?_
    refine lv_icmp_ge (tgt := 133) hx hb dX1_game_49 (by decide) (fun c1 => ?_) (fun c1 => ?_)
    · replace hm := if_t c1 hm
      refine lv_iinc (v := (x6 + 1)) (lv' := [(6, .int (x6 + 1)), (0, .ref x0), (1, .int x1), (2, .int x2), (3, .int x3), (4, .int x4), (5, .int x5), (7, .int x7)]) hx hb dX1_game_133 hl (k := 6) rfl rfl (by decide) rfl (fun ls hl => ?_)
      refine lv_goto (tgt := 37) hx hb dX1_game_136 (by decide) ?_
      exact hK37 S x0 x1 x2 x3 x4 x5 (x6 + 1) H locs ls _ _ hm hw hS (lv_sub hl [1, 2, 3, 4, 5, 6, 0] rfl)
    · replace hm := if_f c1 hm
      refine lv_aload_n hx hb dX1_game_52 rfl (lv_at hl 0 rfl) ?_
      refine lv_iload_n hx hb dX1_game_53 rfl (lv_at hl 1 rfl) ?_
      refine lv_iload_n hx hb dX1_game_54 rfl (lv_at hl 2 rfl) ?_
      refine lv_iload hx hb dX1_game_55 (lv_at hl 6 rfl) ?_
      refine lv_iload hx hb dX1_game_57 (lv_at hl 7 rfl) ?_
      obtain ⟨u2, hu2, hm⟩ := ob_s hm
      obtain ⟨w3, hw3, hm⟩ := ob_s hm
      refine xr_retr hS (xr_runV X hw (met_X1_gains N S x0 x1 x2 x6 x7 w3 hw3) (x_cv X (lv := 82) (by omega) (by decide) cx_X1_gains (lw_V q1480 q1482 qs50 q115 q1483)) xc1 hu2 rfl hl.1 rfl (Nat.le_of_ble_eq_true rfl) dX1_game_59) (fun H locs cells slots hw hS => ?_)
      refine lv_astore (lv' := [(8, .ref w3.2), (0, .ref x0), (1, .int x1), (2, .int x2), (3, .int x3), (4, .int x4), (5, .int x5), (6, .int x6), (7, .int x7)]) hx hb dX1_game_62 hl (by decide) rfl (fun ls hl => ?_)
      refine lv_aload_n hx hb dX1_game_64 rfl (lv_at hl 1 rfl) ?_
      refine lv_iload_n hx hb dX1_game_65 rfl (lv_at hl 2 rfl) ?_
      refine lv_iload_n hx hb dX1_game_66 rfl (lv_at hl 3 rfl) ?_
      refine lv_iconst (v := 1) hx hb dX1_game_67 (by decide) ?_
      refine lv_iload hx hb dX1_game_68 (lv_at hl 7 rfl) ?_
      refine lv_isub hx hb dX1_game_70 ?_
      refine lv_iload hx hb dX1_game_71 (lv_at hl 8 rfl) ?_
      obtain ⟨u4, hu4, hm⟩ := ob_s hm
      obtain ⟨w5, hw5, hm⟩ := ob_s hm
      refine xr_retr hS (xr_runV X hw (met_X1_gains N w3.1 x0 x1 x2 (1 - x6) x7 w5 hw5) (x_cv X (lv := 82) (by omega) (by decide) cx_X1_gains (lw_V q1480 q1482 qs50 q115 q1483)) xc1 hu4 rfl hl.1 rfl (Nat.le_of_ble_eq_true rfl) dX1_game_73) (fun H locs cells slots hw hS => ?_)
      refine lv_iconst (v := 0) hx hb dX1_game_76 (by decide) ?_
      obtain ⟨v6, hv6, hm⟩ := ob_s hm
      refine xr_iald X hw hv6 dX1_game_77 ?_
      refine lv_aload hx hb dX1_game_78 (lv_at hl 0 rfl) ?_
      refine lv_iconst (v := 0) hx hb dX1_game_80 (by decide) ?_
      obtain ⟨v7, hv7, hm⟩ := ob_s hm
      refine xr_iald X hw hv7 dX1_game_81 ?_
      refine lv_icmp_gt (tgt := 127) hx hb dX1_game_82 (by decide) (fun c8 => ?_) (fun c8 => ?_)
      · replace hm := if_t c8 hm
        exact wkX_X1_game_127 X hr hlk hnm hlT hout hw0 N K37 (kX_X1_game_46 g N K37 n) hK37 ih w5.1 x0 x1 x2 x3 x4 x5 x6 x7 H locs ls _ _ hm hw hS (lv_sub hl [1, 2, 3, 4, 5, 6, 7, 8] rfl)
      · replace hm := if_f c8 hm
        refine lv_aload_n hx hb dX1_game_85 rfl (lv_at hl 1 rfl) ?_
        refine lv_iload_n hx hb dX1_game_86 rfl (lv_at hl 2 rfl) ?_
        refine lv_iload_n hx hb dX1_game_87 rfl (lv_at hl 3 rfl) ?_
        refine lv_iload hx hb dX1_game_88 (lv_at hl 7 rfl) ?_
        refine lv_iconst (v := 1) hx hb dX1_game_90 (by decide) ?_
        refine lv_iload hx hb dX1_game_91 (lv_at hl 8 rfl) ?_
        refine lv_isub hx hb dX1_game_93 ?_
        obtain ⟨u9, hu9, hm⟩ := ob_s hm
        obtain ⟨w10, hw10, hm⟩ := ob_s hm
        refine xr_retr hS (xr_runV X hw (met_X1_gains N w5.1 x0 x1 x2 x6 (1 - x7) w10 hw10) (x_cv X (lv := 82) (by omega) (by decide) cx_X1_gains (lw_V q1480 q1482 qs50 q115 q1483)) xc1 hu9 rfl hl.1 rfl (Nat.le_of_ble_eq_true rfl) dX1_game_94) (fun H locs cells slots hw hS => ?_)
        refine lv_iconst (v := 1) hx hb dX1_game_97 (by decide) ?_
        obtain ⟨v11, hv11, hm⟩ := ob_s hm
        refine xr_iald X hw hv11 dX1_game_98 ?_
        refine lv_aload hx hb dX1_game_99 (lv_at hl 0 rfl) ?_
        refine lv_iconst (v := 1) hx hb dX1_game_101 (by decide) ?_
        obtain ⟨v12, hv12, hm⟩ := ob_s hm
        refine xr_iald X hw hv12 dX1_game_102 ?_
        refine lv_icmp_le (tgt := 109) hx hb dX1_game_103 (by decide) (fun c13 => ?_) (fun c13 => ?_)
        · replace hm := if_t c13 hm
          refine lv_iload hx hb dX1_game_109 (lv_at hl 5 rfl) ?_
          refine lv_if_ne (tgt := 124) hx hb dX1_game_111 (by decide) (fun c14 => ?_) (fun c14 => ?_)
          · replace hm := if_f c14 hm
            exact wkX_X1_game_124 X hr hlk hnm hlT hout hw0 N K37 (kX_X1_game_46 g N K37 n) hK37 ih w10.1 x0 x1 x2 x3 x4 x5 x6 x7 H locs ls _ _ hm hw hS (lv_sub hl [1, 2, 3, 4, 5, 6, 7, 8] rfl)
          · replace hm := if_t c14 hm
            refine lv_bipush (v := 10) hx hb dX1_game_114 (by decide) ?_
            refine lv_iload hx hb dX1_game_116 (lv_at hl 7 rfl) ?_
            refine lv_imul hx hb dX1_game_118 ?_
            refine lv_iload hx hb dX1_game_119 (lv_at hl 8 rfl) ?_
            refine lv_iadd hx hb dX1_game_121 ?_
            refine lv_topi (fun v15 ev15 => ?_)
            replace hm := bnd_s hm ev15
            refine lv_istore (lv' := [(5, .int v15), (8, .ref w3.2), (0, .ref x0), (1, .int x1), (2, .int x2), (3, .int x3), (4, .int x4), (6, .int x6), (7, .int x7)]) hx hb dX1_game_122 hl (by decide) rfl (fun ls hl => ?_)
            exact wkX_X1_game_124 X hr hlk hnm hlT hout hw0 N K37 (kX_X1_game_46 g N K37 n) hK37 ih w10.1 x0 x1 x2 x3 x4 v15 x6 x7 H locs ls _ _ hm hw hS (lv_sub hl [2, 3, 4, 5, 6, 0, 7, 8] rfl)
        · replace hm := if_f c13 hm
          refine lv_goto (tgt := 127) hx hb dX1_game_106 (by decide) ?_
          exact wkX_X1_game_127 X hr hlk hnm hlT hout hw0 N K37 (kX_X1_game_46 g N K37 n) hK37 ih w10.1 x0 x1 x2 x3 x4 x5 x6 x7 H locs ls _ _ hm hw hS (lv_sub hl [1, 2, 3, 4, 5, 6, 7, 8] rfl)
def kX_X1_game_37 (g : XC) (N : Nat) : Nat → XS → Nat → Int32 → Int32 → Int32 → Int32 → Int32 → Int32 → Option ((XS × Int32) ⊕ XT)
  | 0, _, _, _, _, _, _, _, _ => none
  | n + 1, S, x0, x1, x2, x3, x4, x5, x6 =>
    if (2 : Int32) ≤ x6 then
      if x3 = 0 then
        some (.inl (S, x4))
      else
        some (.inl (S, x5))
    else
      kX_X1_game_46 g N (kX_X1_game_37 g N n) N S x0 x1 x2 x3 x4 x5 x6 0
theorem wkX_X1_game_37 {p : Program} {l : Launch} {e : Env} {s : State} {m : MethodId} {args : Array Value} {below : List Frame} {meth : Method} {c : Code} {g : XC} {D : va_G} {A : Nat → Prop} {S0 : XS} {w : (XS × Int32) ⊕ XT} (X : xX g D A RX1 S0 p s m args c cX1_game 9) (hr : meth.sig.returnType = (Option.some Jvm.ClassFile.FieldType.int)) (hlk : meth.locks = false) (hnm : meth.name = yX1_game.name) (hlT : l.stackTraces = false) (hout : ∀ x ∈ c.exceptionTable.toList, False) (hw0 : xW g D A S0 s s.heap) (N : Nat) :
    ∀ (n : Nat) (S : XS) (x0 : Nat) (x1 : Int32) (x2 : Int32) (x3 : Int32) (x4 : Int32) (x5 : Int32) (x6 : Int32) (H : Heap) (locs : List Loc) (ls : Array Slot) (cells slots : Nat), kX_X1_game_37 g N n S x0 x1 x2 x3 x4 x5 x6 = some w → xW g D A S s H → va_S A s.heap H locs → lv_has ls 9 [(0, .ref x0), (1, .int x1), (2, .int x2), (3, .int x3), (4, .int x4), (5, .int x5), (6, .int x6)] → W p l e (xRm g S0 83) s m args below meth c H locs cells slots (vx_MQ below (xTi g D A w) (xTx g D A w) args s (g.2.1 - xTop S0) (g.2.2.1 - xSl S0) A) (F0 m 37 ls []) := by
  obtain ⟨hx, hb, -, hown, hts, -⟩ := id X
  intro n
  induction n with
  | zero =>
    intro S x0 x1 x2 x3 x4 x5 x6 H locs ls cells slots hm
    cases hm
  | succ n ih =>
    intro S x0 x1 x2 x3 x4 x5 x6 H locs ls cells slots hm hw hS hl
    rw [kX_X1_game_37] at hm
    refine lv_iload hx hb dX1_game_37 (lv_at hl 6 rfl) ?_
    refine lv_iconst (v := 2) hx hb dX1_game_39 (by decide) ?_
    refine lv_icmp_ge (tgt := 139) hx hb dX1_game_40 (by decide) (fun c1 => ?_) (fun c1 => ?_)
    · replace hm := if_t c1 hm
      refine lv_iload_n hx hb dX1_game_139 rfl (lv_at hl 3 rfl) ?_
      refine lv_if_ne (tgt := 148) hx hb dX1_game_140 (by decide) (fun c2 => ?_) (fun c2 => ?_)
      · replace hm := if_f c2 hm
        refine lv_iload hx hb dX1_game_148 (lv_at hl 5 rfl) ?_
        obtain rfl := Option.some.inj hm
        exact xt_iret (v := x5) X hr hlk hw hS rfl dX1_game_150
      · replace hm := if_t c2 hm
        refine lv_iload hx hb dX1_game_143 (lv_at hl 4 rfl) ?_
        refine lv_goto (tgt := 150) hx hb dX1_game_145 (by decide) ?_
        obtain rfl := Option.some.inj hm
        exact xt_iret (v := x4) X hr hlk hw hS rfl dX1_game_150
    · replace hm := if_f c1 hm
      refine lv_iconst (v := 0) hx hb dX1_game_43 (by decide) ?_
      refine lv_istore (lv' := [(7, .int 0), (0, .ref x0), (1, .int x1), (2, .int x2), (3, .int x3), (4, .int x4), (5, .int x5), (6, .int x6)]) hx hb dX1_game_44 hl (by decide) rfl (fun ls hl => ?_)
      exact wkX_X1_game_46 X hr hlk hnm hlT hout hw0 N (kX_X1_game_37 g N n) ih N S x0 x1 x2 x3 x4 x5 x6 0 H locs ls _ _ hm hw hS (lv_sub hl [1, 2, 3, 4, 5, 6, 7, 0] rfl)
def kX_X1_game_25 (g : XC) (N : Nat) (S : XS) (x0 : Nat) (x1 : Int32) (x2 : Int32) (x3 : Int32) (t0 : Int32) : Option ((XS × Int32) ⊕ XT) :=
  tbind (kX_X1_right g N S t0) fun r2 =>
  kX_X1_game_37 g N N r2 x0 x1 x2 x3 0 (-1) 0
theorem wkX_X1_game_25 {p : Program} {l : Launch} {e : Env} {s : State} {m : MethodId} {args : Array Value} {below : List Frame} {meth : Method} {c : Code} {g : XC} {D : va_G} {A : Nat → Prop} {S0 : XS} {w : (XS × Int32) ⊕ XT} (X : xX g D A RX1 S0 p s m args c cX1_game 9) (hr : meth.sig.returnType = (Option.some Jvm.ClassFile.FieldType.int)) (hlk : meth.locks = false) (hnm : meth.name = yX1_game.name) (hlT : l.stackTraces = false) (hout : ∀ x ∈ c.exceptionTable.toList, False) (hw0 : xW g D A S0 s s.heap) (N : Nat) :
    ∀ (S : XS) (x0 : Nat) (x1 : Int32) (x2 : Int32) (x3 : Int32) (t0 : Int32) (H : Heap) (locs : List Loc) (ls : Array Slot) (cells slots : Nat), kX_X1_game_25 g N S x0 x1 x2 x3 t0 = some w → xW g D A S s H → va_S A s.heap H locs → lv_has ls 9 [(0, .ref x0), (1, .int x1), (2, .int x2), (3, .int x3)] → W p l e (xRm g S0 83) s m args below meth c H locs cells slots (vx_MQ below (xTi g D A w) (xTx g D A w) args s (g.2.1 - xTop S0) (g.2.2.1 - xSl S0) A) (F0 m 25 ls [.int t0]) := by
  obtain ⟨hx, hb, -, hown, hts, -⟩ := id X
  intro S x0 x1 x2 x3 t0 H locs ls cells slots hm hw hS hl
  unfold kX_X1_game_25 at hm
  obtain ⟨w1, hw1, hm⟩ := tb_s hm
  refine xt_retv hS (xt_runS X hw (met_X1_right hlT N S t0 w1 hw1) (x_cs X (lv := 5) (by omega) (by decide) cx_X1_right (lw_S q655 q656 q115 q657)) rfl hl.1 rfl (Nat.le_of_ble_eq_true rfl) dX1_game_25) (fun t1 t2 u E9 ce q9 H1 locs1 hu ht => xt_pass X hlk hout (tc_r hu hm) ht (x_fits (lv2 := 0) X hw t1 t2).1 (x_fits (lv2 := 0) X hw t1 t2).2) (fun r2 hr2 H locs cells slots hw hS => ?_)
  replace hm := tc_l hr2 hm
  refine lv_iconst (v := 0) hx hb dX1_game_28 (by decide) ?_
  refine lv_istore (lv' := [(4, .int 0), (0, .ref x0), (1, .int x1), (2, .int x2), (3, .int x3)]) hx hb dX1_game_29 hl (by decide) rfl (fun ls hl => ?_)
  refine lv_iconst (v := (-1)) hx hb dX1_game_31 (by decide) ?_
  refine lv_istore (lv' := [(5, .int (-1)), (4, .int 0), (0, .ref x0), (1, .int x1), (2, .int x2), (3, .int x3)]) hx hb dX1_game_32 hl (by decide) rfl (fun ls hl => ?_)
  refine lv_iconst (v := 0) hx hb dX1_game_34 (by decide) ?_
  refine lv_istore (lv' := [(6, .int 0), (5, .int (-1)), (4, .int 0), (0, .ref x0), (1, .int x1), (2, .int x2), (3, .int x3)]) hx hb dX1_game_35 hl (by decide) rfl (fun ls hl => ?_)
  exact wkX_X1_game_37 X hr hlk hnm hlT hout hw0 N N r2 x0 x1 x2 x3 0 (-1) 0 H locs ls _ _ hm hw hS (lv_sub hl [3, 4, 5, 6, 2, 1, 0] rfl)
def kX_X1_game (g : XC) (N : Nat) (S : XS) (x0 : Nat) (x1 : Int32) (x2 : Int32) (x3 : Int32) : Option ((XS × Int32) ⊕ XT) :=
  (f_cls S 1 x0).bind fun u1 =>
  tbind (kX_X1_aCup g N S x0 x1) fun r3 =>
  (f_cls r3 1 x0).bind fun u4 =>
  tbind (kX_X1_aCup g N r3 x0 x2) fun r6 =>
  tbind (kX_X1_oneOf g N r6 x3 1) fun r8 =>
  if x1 = x2 then
    kX_X1_game_25 g N r8 x0 x1 x2 x3 0
  else
    kX_X1_game_25 g N r8 x0 x1 x2 x3 1
theorem cx_X1_game : yX1_game.cls = RX1 ∧ yX1_game.cls ≠ "java/lang/invoke/MethodHandle" ∧ yX1_game.cls ≠ "java/lang/invoke/VarHandle" ∧ (parseMethodDescriptor yX1_game.desc).map (fun d => d.parameters.length) = some 3 := by decide +kernel
theorem met_X1_game {l : Launch} {g : XC} {D : va_G} {A : Nat → Prop} (hlT : l.stackTraces = false) (N : Nat) (S : XS) (x0 : Nat) (x1 : Int32) (x2 : Int32) (x3 : Int32) (w : (XS × Int32) ⊕ XT) (hm : kX_X1_game g N S x0 x1 x2 x3 = some w) : vx_Met l yX1_game (ws_ yX1_game cX1_game 9 (Option.some Jvm.ClassFile.FieldType.int)) (xRm g S 83) (xPre g D A [.ref x0, .int x1, .int x2, .int x3] S) (xTi g D A w) (xTx g D A w) (g.2.1 - xTop S) (g.2.2.1 - xSl S) A := by
  refine x_startT (own := RX1) (by decide +kernel) rfl (Nat.le_of_ble_eq_true rfl) (fun p e s m below meth c ls X hr hlk hnm hout hw hl => ?_)
  have hw0 := hw
  obtain ⟨hx, hb, -, hown, hts, -⟩ := id X
  have hl : lv_has ls 9 [(0, .ref x0), (1, .int x1), (2, .int x2), (3, .int x3)] := hl
  have hg : ∀ (H : Heap) (locs : List Loc) (cells slots : Nat), xW g D A S s H → va_S A s.heap H locs → W p l e (xRm g S 83) s m ([.ref x0, .int x1, .int x2, .int x3] : List Value).toArray below meth c H locs cells slots (vx_MQ below (xTi g D A w) (xTx g D A w) ([.ref x0, .int x1, .int x2, .int x3] : List Value).toArray s (g.2.1 - xTop S) (g.2.2.1 - xSl S) A) (F0 m 0 ls []) := by
    intro H locs cells slots hw hS
    unfold kX_X1_game at hm
    refine lv_aload_n hx hb dX1_game_0 rfl (lv_at hl 0 rfl) ?_
    refine lv_iload_n hx hb dX1_game_1 rfl (lv_at hl 1 rfl) ?_
    obtain ⟨u1, hu1, hm⟩ := ob_s hm
    obtain ⟨w2, hw2, hm⟩ := tb_s hm
    refine xt_retv hS (xt_runV X hw (met_X1_aCup hlT N S x0 x1 w2 hw2) (x_cv X (lv := 6) (by omega) (by decide) cx_X1_aCup (lw_V q1240 q1242 qs40 q115 q1243)) xc1 hu1 rfl hl.1 rfl (Nat.le_of_ble_eq_true rfl) dX1_game_2) (fun t1 t2 u E9 ce q9 H1 locs1 hu ht => xt_pass X hlk hout (tc_r hu hm) ht (x_fits (lv2 := 0) X hw t1 t2).1 (x_fits (lv2 := 0) X hw t1 t2).2) (fun r3 hr3 H locs cells slots hw hS => ?_)
    replace hm := tc_l hr3 hm
    refine lv_aload_n hx hb dX1_game_5 rfl (lv_at hl 0 rfl) ?_
    refine lv_iload_n hx hb dX1_game_6 rfl (lv_at hl 2 rfl) ?_
    obtain ⟨u4, hu4, hm⟩ := ob_s hm
    obtain ⟨w5, hw5, hm⟩ := tb_s hm
    refine xt_retv hS (xt_runV X hw (met_X1_aCup hlT N r3 x0 x2 w5 hw5) (x_cv X (lv := 6) (by omega) (by decide) cx_X1_aCup (lw_V q1240 q1242 qs40 q115 q1243)) xc1 hu4 rfl hl.1 rfl (Nat.le_of_ble_eq_true rfl) dX1_game_7) (fun t1 t2 u E9 ce q9 H1 locs1 hu ht => xt_pass X hlk hout (tc_r hu hm) ht (x_fits (lv2 := 0) X hw t1 t2).1 (x_fits (lv2 := 0) X hw t1 t2).2) (fun r6 hr6 H locs cells slots hw hS => ?_)
    replace hm := tc_l hr6 hm
    refine lv_iload_n hx hb dX1_game_10 rfl (lv_at hl 3 rfl) ?_
    refine lv_iconst (v := 1) hx hb dX1_game_11 (by decide) ?_
    obtain ⟨w7, hw7, hm⟩ := tb_s hm
    refine xt_retv hS (xt_runS X hw (met_X1_oneOf hlT N r6 x3 1 w7 hw7) (x_cs X (lv := 6) (by omega) (by decide) cx_X1_oneOf (lw_S q1306 q1307 q115 q1308)) rfl hl.1 rfl (Nat.le_of_ble_eq_true rfl) dX1_game_12) (fun t1 t2 u E9 ce q9 H1 locs1 hu ht => xt_pass X hlk hout (tc_r hu hm) ht (x_fits (lv2 := 0) X hw t1 t2).1 (x_fits (lv2 := 0) X hw t1 t2).2) (fun r8 hr8 H locs cells slots hw hS => ?_)
    replace hm := tc_l hr8 hm
    refine lv_iload_n hx hb dX1_game_15 rfl (lv_at hl 1 rfl) ?_
    refine lv_iload_n hx hb dX1_game_16 rfl (lv_at hl 2 rfl) ?_
    refine lv_icmp_eq (tgt := 24) hx hb dX1_game_17 (by decide) (fun c9 => ?_) (fun c9 => ?_)
    · replace hm := if_t c9 hm
      refine lv_iconst (v := 0) hx hb dX1_game_24 (by decide) ?_
      exact wkX_X1_game_25 X hr hlk hnm hlT hout hw0 N r8 x0 x1 x2 x3 0 H locs ls _ _ hm hw hS (lv_sub hl [0, 1, 2, 3] rfl)
    · replace hm := if_f c9 hm
      refine lv_iconst (v := 1) hx hb dX1_game_20 (by decide) ?_
      refine lv_goto (tgt := 25) hx hb dX1_game_21 (by decide) ?_
      exact wkX_X1_game_25 X hr hlk hnm hlT hout hw0 N r8 x0 x1 x2 x3 1 H locs ls _ _ hm hw hS (lv_sub hl [0, 1, 2, 3] rfl)
  exact hg _ _ _ _ hw va_S.rf
/-! DripCups.years -/
def kX_X1_years_70 (g : XC) (N : Nat) (K42 : XS → Nat → Int32 → Int32 → Int32 → Int32 → Int32 → Option ((XS × Int32) ⊕ XT)) : Nat → XS → Nat → Int32 → Int32 → Int32 → Int32 → Int32 → Int32 → Option ((XS × Int32) ⊕ XT)
  | 0, _, _, _, _, _, _, _, _ => none
  | n + 1, S, x0, x2, x3, x4, x5, x6, x7 =>
    (f_obj S 1 x0 1).bind fun v1 =>
    (f_cls S 3 v1).bind fun u2 =>
    (kX_X2_cups g N S v1).bind fun w3 =>
    if w3.2 ≤ x7 then
      K42 w3.1 x0 x2 x3 x4 x5 (x6 + 1)
    else
      (f_obj w3.1 1 x0 3).bind fun v5 =>
      (f_obj w3.1 2 v5 12).bind fun v6 =>
      (a_int w3.1 0 v6 x7).bind fun v7 =>
      bnd (x4 + v7) fun v8 =>
      kX_X1_years_70 g N K42 n w3.1 x0 x2 x3 v8 x5 x6 (x7 + 1)
theorem wkX_X1_years_70 {p : Program} {l : Launch} {e : Env} {s : State} {m : MethodId} {args : Array Value} {below : List Frame} {meth : Method} {c : Code} {g : XC} {D : va_G} {A : Nat → Prop} {S0 : XS} {w : (XS × Int32) ⊕ XT} (X : xX g D A RX1 S0 p s m args c cX1_years 8) (hr : meth.sig.returnType = (Option.some Jvm.ClassFile.FieldType.int)) (hlk : meth.locks = false) (hnm : meth.name = yX1_years.name) (hlT : l.stackTraces = false) (hout : ∀ x ∈ c.exceptionTable.toList, False) (hw0 : xW g D A S0 s s.heap) (N : Nat) (K42 : XS → Nat → Int32 → Int32 → Int32 → Int32 → Int32 → Option ((XS × Int32) ⊕ XT))
    (hK42 : ∀ (S : XS) (x0 : Nat) (x2 : Int32) (x3 : Int32) (x4 : Int32) (x5 : Int32) (x6 : Int32) (H : Heap) (locs : List Loc) (ls : Array Slot) (cells slots : Nat), K42 S x0 x2 x3 x4 x5 x6 = some w → xW g D A S s H → va_S A s.heap H locs → lv_has ls 8 [(0, .ref x0), (2, .int x2), (3, .int x3), (4, .int x4), (5, .int x5), (6, .int x6)] → W p l e (xRm g S0 81) s m args below meth c H locs cells slots (vx_MQ below (xTi g D A w) (xTx g D A w) args s (g.2.1 - xTop S0) (g.2.2.1 - xSl S0) A) (F0 m 42 ls [])) :
    ∀ (n : Nat) (S : XS) (x0 : Nat) (x2 : Int32) (x3 : Int32) (x4 : Int32) (x5 : Int32) (x6 : Int32) (x7 : Int32) (H : Heap) (locs : List Loc) (ls : Array Slot) (cells slots : Nat), kX_X1_years_70 g N K42 n S x0 x2 x3 x4 x5 x6 x7 = some w → xW g D A S s H → va_S A s.heap H locs → lv_has ls 8 [(0, .ref x0), (2, .int x2), (3, .int x3), (4, .int x4), (5, .int x5), (6, .int x6), (7, .int x7)] → W p l e (xRm g S0 81) s m args below meth c H locs cells slots (vx_MQ below (xTi g D A w) (xTx g D A w) args s (g.2.1 - xTop S0) (g.2.2.1 - xSl S0) A) (F0 m 70 ls []) := by
  obtain ⟨hx, hb, -, hown, hts, -⟩ := id X
  intro n
  induction n with
  | zero =>
    intro S x0 x2 x3 x4 x5 x6 x7 H locs ls cells slots hm
    cases hm
  | succ n ih =>
    intro S x0 x2 x3 x4 x5 x6 x7 H locs ls cells slots hm hw hS hl
    rw [kX_X1_years_70] at hm
    refine lv_iload hx hb dX1_years_70 (lv_at hl 6 rfl) ?_
    refine lv_aload_n hx hb dX1_years_72 rfl (lv_at hl 0 rfl) ?_
    obtain ⟨v1, hv1, hm⟩ := ob_s hm
    refine xr_val X hw xc1 in_X1 1 (by decide) q279 (f_obj_s hv1) dX1_years_73 ?_
    obtain ⟨u2, hu2, hm⟩ := ob_s hm
    obtain ⟨w3, hw3, hm⟩ := ob_s hm
    refine xr_reti hS (xr_runV X hw (met_X2_cups N S v1 w3 hw3) (x_cv X (lv := 1) (by omega) (by decide) cx_X2_cups (lw_V q1172 q463 q464 q116 q465)) xc3 hu2 rfl hl.1 rfl (Nat.le_of_ble_eq_true rfl) dX1_years_76) (fun H locs cells slots hw hS => ?_)
    refine lv_icmp_ge (tgt := 103) hx hb dX1_years_79 (by decide) (fun c4 => ?_) (fun c4 => ?_)
    · replace hm := if_t c4 hm
      refine lv_iinc (v := (x6 + 1)) (lv' := [(6, .int (x6 + 1)), (0, .ref x0), (2, .int x2), (3, .int x3), (4, .int x4), (5, .int x5), (7, .int x7)]) hx hb dX1_years_103 hl (k := 5) rfl rfl (by decide) rfl (fun ls hl => ?_)
      refine lv_goto (tgt := 42) hx hb dX1_years_106 (by decide) ?_
      exact hK42 w3.1 x0 x2 x3 x4 x5 (x6 + 1) H locs ls _ _ hm hw hS (lv_sub hl [1, 2, 3, 4, 5, 0] rfl)
    · replace hm := if_f c4 hm
      refine lv_iload hx hb dX1_years_82 (lv_at hl 3 rfl) ?_
      refine lv_aload_n hx hb dX1_years_84 rfl (lv_at hl 0 rfl) ?_
      obtain ⟨v5, hv5, hm⟩ := ob_s hm
      refine xr_val X hw xc1 in_X1 3 (by decide) q282 (f_obj_s hv5) dX1_years_85 ?_
      obtain ⟨v6, hv6, hm⟩ := ob_s hm
      refine xr_valN X hw xc2 in_X3 12 (by decide) q236 (f_obj_s hv6) dX1_years_88 ?_
      refine lv_iload hx hb dX1_years_91 (lv_at hl 6 rfl) ?_
      obtain ⟨v7, hv7, hm⟩ := ob_s hm
      refine xr_iald X hw hv7 dX1_years_93 ?_
      refine lv_iadd hx hb dX1_years_94 ?_
      refine lv_topi (fun v8 ev8 => ?_)
      replace hm := bnd_s hm ev8
      refine lv_istore (lv' := [(4, .int v8), (0, .ref x0), (2, .int x2), (3, .int x3), (5, .int x5), (6, .int x6), (7, .int x7)]) hx hb dX1_years_95 hl (by decide) rfl (fun ls hl => ?_)
      refine lv_iinc (v := (x7 + 1)) (lv' := [(7, .int (x7 + 1)), (4, .int v8), (0, .ref x0), (2, .int x2), (3, .int x3), (5, .int x5), (6, .int x6)]) hx hb dX1_years_97 hl (k := 6) rfl rfl (by decide) rfl (fun ls hl => ?_)
      refine lv_goto (tgt := 70) hx hb dX1_years_100 (by decide) ?_
      exact ih w3.1 x0 x2 x3 v8 x5 x6 (x7 + 1) H locs ls _ _ hm hw hS (lv_sub hl [2, 3, 4, 1, 5, 6, 0] rfl)
def kX_X1_years_42 (g : XC) (N : Nat) : Nat → XS → Nat → Int32 → Int32 → Int32 → Int32 → Int32 → Option ((XS × Int32) ⊕ XT)
  | 0, _, _, _, _, _, _, _ => none
  | n + 1, S, x0, x2, x3, x4, x5, x6 =>
    if x2 ≤ x6 then
      if x3 = 0 then
        some (.inl (S, x4))
      else
        if x3 = 1 then
          (f_obj S 1 x0 3).bind fun v8 =>
          (f_cls S 2 v8).bind fun u9 =>
          (kX_X3_allFill g N S v8).bind fun w10 =>
          some (.inl (w10.1, w10.2))
        else
          (f_obj S 1 x0 1).bind fun v4 =>
          (f_cls S 3 v4).bind fun u5 =>
          (kX_X2_cups g N S v4).bind fun w6 =>
          (kX_J19_bitCount g N x5).bind fun w7 =>
          some (.inl (w6.1, (w6.2 - w7)))
    else
      (f_cls S 1 x0).bind fun u11 =>
      (kX_X1_befalls g N S x0).bind fun w12 =>
      (f_obj w12 1 x0 3).bind fun v13 =>
      (f_cls w12 2 v13).bind fun u14 =>
      (kX_X3_pass g N w12 v13).bind fun w15 =>
      (f_int w15.1 2 w15.2 13).bind fun v16 =>
      bnd (x5 ||| v16) fun v17 =>
      kX_X1_years_70 g N (kX_X1_years_42 g N n) N w15.1 x0 x2 x3 x4 v17 x6 0
theorem wkX_X1_years_42 {p : Program} {l : Launch} {e : Env} {s : State} {m : MethodId} {args : Array Value} {below : List Frame} {meth : Method} {c : Code} {g : XC} {D : va_G} {A : Nat → Prop} {S0 : XS} {w : (XS × Int32) ⊕ XT} (X : xX g D A RX1 S0 p s m args c cX1_years 8) (hr : meth.sig.returnType = (Option.some Jvm.ClassFile.FieldType.int)) (hlk : meth.locks = false) (hnm : meth.name = yX1_years.name) (hlT : l.stackTraces = false) (hout : ∀ x ∈ c.exceptionTable.toList, False) (hw0 : xW g D A S0 s s.heap) (N : Nat) :
    ∀ (n : Nat) (S : XS) (x0 : Nat) (x2 : Int32) (x3 : Int32) (x4 : Int32) (x5 : Int32) (x6 : Int32) (H : Heap) (locs : List Loc) (ls : Array Slot) (cells slots : Nat), kX_X1_years_42 g N n S x0 x2 x3 x4 x5 x6 = some w → xW g D A S s H → va_S A s.heap H locs → lv_has ls 8 [(0, .ref x0), (2, .int x2), (3, .int x3), (4, .int x4), (5, .int x5), (6, .int x6)] → W p l e (xRm g S0 81) s m args below meth c H locs cells slots (vx_MQ below (xTi g D A w) (xTx g D A w) args s (g.2.1 - xTop S0) (g.2.2.1 - xSl S0) A) (F0 m 42 ls []) := by
  obtain ⟨hx, hb, -, hown, hts, -⟩ := id X
  intro n
  induction n with
  | zero =>
    intro S x0 x2 x3 x4 x5 x6 H locs ls cells slots hm
    cases hm
  | succ n ih =>
    intro S x0 x2 x3 x4 x5 x6 H locs ls cells slots hm hw hS hl
    rw [kX_X1_years_42] at hm
    refine lv_iload hx hb dX1_years_42 (lv_at hl 5 rfl) ?_
    refine lv_iload_n hx hb dX1_years_44 rfl (lv_at hl 1 rfl) ?_
    refine lv_icmp_ge (tgt := 109) hx hb dX1_years_45 (by decide) (fun c1 => ?_) (fun c1 => ?_)
    · replace hm := if_t c1 hm
      refine lv_iload_n hx hb dX1_years_109 rfl (lv_at hl 2 rfl) ?_
      refine lv_if_ne (tgt := 118) hx hb dX1_years_110 (by decide) (fun c2 => ?_) (fun c2 => ?_)
      · replace hm := if_f c2 hm
        refine lv_iload_n hx hb dX1_years_118 rfl (lv_at hl 2 rfl) ?_
        refine lv_iconst (v := 1) hx hb dX1_years_119 (by decide) ?_
        refine lv_icmp_ne (tgt := 133) hx hb dX1_years_120 (by decide) (fun c3 => ?_) (fun c3 => ?_)
        · replace hm := if_f c3 hm
          refine lv_aload_n hx hb dX1_years_133 rfl (lv_at hl 0 rfl) ?_
          obtain ⟨v4, hv4, hm⟩ := ob_s hm
          refine xr_val X hw xc1 in_X1 1 (by decide) q279 (f_obj_s hv4) dX1_years_134 ?_
          obtain ⟨u5, hu5, hm⟩ := ob_s hm
          obtain ⟨w6, hw6, hm⟩ := ob_s hm
          refine xr_reti hS (xr_runV X hw (met_X2_cups N S v4 w6 hw6) (x_cv X (lv := 1) (by omega) (by decide) cx_X2_cups (lw_V q1172 q463 q464 q116 q465)) xc3 hu5 rfl hl.1 rfl (Nat.le_of_ble_eq_true rfl) dX1_years_137) (fun H locs cells slots hw hS => ?_)
          refine lv_iload hx hb dX1_years_140 (lv_at hl 4 rfl) ?_
          obtain ⟨w7, hw7, hm⟩ := ob_s hm
          refine xr_reti hS (xr_runS X hw (met_J19_bitCount N w6.1 x5 w7 hw7) (x_cs X (lv := 0) (by omega) (by decide) cx_J19_bitCount (lw_S q1353 q1354 q145 q1355)) rfl hl.1 rfl (Nat.le_of_ble_eq_true rfl) dX1_years_142) (fun H locs cells slots hw hS => ?_)
          refine lv_isub hx hb dX1_years_145 ?_
          obtain rfl := Option.some.inj hm
          exact xt_iret (v := (w6.2 - w7)) X hr hlk hw hS rfl dX1_years_146
        · replace hm := if_t c3 hm
          refine lv_aload_n hx hb dX1_years_123 rfl (lv_at hl 0 rfl) ?_
          obtain ⟨v8, hv8, hm⟩ := ob_s hm
          refine xr_val X hw xc1 in_X1 3 (by decide) q282 (f_obj_s hv8) dX1_years_124 ?_
          obtain ⟨u9, hu9, hm⟩ := ob_s hm
          obtain ⟨w10, hw10, hm⟩ := ob_s hm
          refine xr_reti hS (xr_runV X hw (met_X3_allFill N S v8 w10 hw10) (x_cv X (lv := 2) (by omega) (by decide) cx_X3_allFill (lw_V q1173 q1174 q1175 q120 q1176)) xc2 hu9 rfl hl.1 rfl (Nat.le_of_ble_eq_true rfl) dX1_years_127) (fun H locs cells slots hw hS => ?_)
          refine lv_goto (tgt := 146) hx hb dX1_years_130 (by decide) ?_
          obtain rfl := Option.some.inj hm
          exact xt_iret (v := w10.2) X hr hlk hw hS rfl dX1_years_146
      · replace hm := if_t c2 hm
        refine lv_iload hx hb dX1_years_113 (lv_at hl 3 rfl) ?_
        refine lv_goto (tgt := 146) hx hb dX1_years_115 (by decide) ?_
        obtain rfl := Option.some.inj hm
        exact xt_iret (v := x4) X hr hlk hw hS rfl dX1_years_146
    · replace hm := if_f c1 hm
      refine lv_aload_n hx hb dX1_years_48 rfl (lv_at hl 0 rfl) ?_
      obtain ⟨u11, hu11, hm⟩ := ob_s hm
      obtain ⟨w12, hw12, hm⟩ := ob_s hm
      refine xr_retv hS (xr_runV X hw (met_X1_befalls N S x0 w12 hw12) (x_cv X (lv := 2) (by omega) (by decide) cx_X1_befalls (lw_V q1491 q1493 qs51 q115 q1494)) xc1 hu11 rfl hl.1 rfl (Nat.le_of_ble_eq_true rfl) dX1_years_49) (fun H locs cells slots hw hS => ?_)
      refine lv_iload hx hb dX1_years_52 (lv_at hl 4 rfl) ?_
      refine lv_aload_n hx hb dX1_years_54 rfl (lv_at hl 0 rfl) ?_
      obtain ⟨v13, hv13, hm⟩ := ob_s hm
      refine xr_val X hw xc1 in_X1 3 (by decide) q282 (f_obj_s hv13) dX1_years_55 ?_
      obtain ⟨u14, hu14, hm⟩ := ob_s hm
      obtain ⟨w15, hw15, hm⟩ := ob_s hm
      refine xr_retr hS (xr_runV X hw (met_X3_pass N w12 v13 w15 hw15) (x_cv X (lv := 80) (by omega) (by decide) cx_X3_pass (lw_V q609 q459 q460 q120 q461)) xc2 hu14 rfl hl.1 rfl (Nat.le_of_ble_eq_true rfl) dX1_years_58) (fun H locs cells slots hw hS => ?_)
      obtain ⟨v16, hv16, hm⟩ := ob_s hm
      refine xr_valN X hw xc2 in_X3 13 (by decide) q238 (f_int_s hv16) dX1_years_61 ?_
      refine lv_ior hx hb dX1_years_64 ?_
      refine lv_topi (fun v17 ev17 => ?_)
      replace hm := bnd_s hm ev17
      refine lv_istore (lv' := [(5, .int v17), (0, .ref x0), (2, .int x2), (3, .int x3), (4, .int x4), (6, .int x6)]) hx hb dX1_years_65 hl (by decide) rfl (fun ls hl => ?_)
      refine lv_iconst (v := 0) hx hb dX1_years_67 (by decide) ?_
      refine lv_istore (lv' := [(7, .int 0), (5, .int v17), (0, .ref x0), (2, .int x2), (3, .int x3), (4, .int x4), (6, .int x6)]) hx hb dX1_years_68 hl (by decide) rfl (fun ls hl => ?_)
      exact wkX_X1_years_70 X hr hlk hnm hlT hout hw0 N (kX_X1_years_42 g N n) ih N w15.1 x0 x2 x3 x4 v17 x6 0 H locs ls _ _ hm hw hS (lv_sub hl [2, 3, 4, 5, 1, 6, 0] rfl)
def kX_X1_years (g : XC) (N : Nat) (S : XS) (x0 : Nat) (x1 : Int32) (x2 : Int32) (x3 : Int32) : Option ((XS × Int32) ⊕ XT) :=
  tbind (kX_X1_oneOf g N S x3 2) fun r2 =>
  (kX_X1_in g N x2 0 200).bind fun w3 =>
  tbind (kX_X1_right g N r2 w3) fun r5 =>
  (f_putI r5 1 x0 13 x1).bind fun S6 =>
  (f_obj S6 1 x0 3).bind fun v7 =>
  (f_obj S6 1 x0 2).bind fun v8 =>
  (f_cls S6 2 v7).bind fun u9 =>
  (kX_X3_be g N S6 v7 v8).bind fun w10 =>
  kX_X1_years_42 g N N w10.1 x0 x2 x3 0 0 0
theorem cx_X1_years : yX1_years.cls = RX1 ∧ yX1_years.cls ≠ "java/lang/invoke/MethodHandle" ∧ yX1_years.cls ≠ "java/lang/invoke/VarHandle" ∧ (parseMethodDescriptor yX1_years.desc).map (fun d => d.parameters.length) = some 3 := by decide +kernel
theorem met_X1_years {l : Launch} {g : XC} {D : va_G} {A : Nat → Prop} (hlT : l.stackTraces = false) (N : Nat) (S : XS) (x0 : Nat) (x1 : Int32) (x2 : Int32) (x3 : Int32) (w : (XS × Int32) ⊕ XT) (hm : kX_X1_years g N S x0 x1 x2 x3 = some w) : vx_Met l yX1_years (ws_ yX1_years cX1_years 8 (Option.some Jvm.ClassFile.FieldType.int)) (xRm g S 81) (xPre g D A [.ref x0, .int x1, .int x2, .int x3] S) (xTi g D A w) (xTx g D A w) (g.2.1 - xTop S) (g.2.2.1 - xSl S) A := by
  refine x_startT (own := RX1) (by decide +kernel) rfl (Nat.le_of_ble_eq_true rfl) (fun p e s m below meth c ls X hr hlk hnm hout hw hl => ?_)
  have hw0 := hw
  obtain ⟨hx, hb, -, hown, hts, -⟩ := id X
  have hl : lv_has ls 8 [(0, .ref x0), (1, .int x1), (2, .int x2), (3, .int x3)] := hl
  have hg : ∀ (H : Heap) (locs : List Loc) (cells slots : Nat), xW g D A S s H → va_S A s.heap H locs → W p l e (xRm g S 81) s m ([.ref x0, .int x1, .int x2, .int x3] : List Value).toArray below meth c H locs cells slots (vx_MQ below (xTi g D A w) (xTx g D A w) ([.ref x0, .int x1, .int x2, .int x3] : List Value).toArray s (g.2.1 - xTop S) (g.2.2.1 - xSl S) A) (F0 m 0 ls []) := by
    intro H locs cells slots hw hS
    unfold kX_X1_years at hm
    refine lv_iload_n hx hb dX1_years_0 rfl (lv_at hl 3 rfl) ?_
    refine lv_iconst (v := 2) hx hb dX1_years_1 (by decide) ?_
    obtain ⟨w1, hw1, hm⟩ := tb_s hm
    refine xt_retv hS (xt_runS X hw (met_X1_oneOf hlT N S x3 2 w1 hw1) (x_cs X (lv := 6) (by omega) (by decide) cx_X1_oneOf (lw_S q1306 q1307 q115 q1308)) rfl hl.1 rfl (Nat.le_of_ble_eq_true rfl) dX1_years_2) (fun t1 t2 u E9 ce q9 H1 locs1 hu ht => xt_pass X hlk hout (tc_r hu hm) ht (x_fits (lv2 := 0) X hw t1 t2).1 (x_fits (lv2 := 0) X hw t1 t2).2) (fun r2 hr2 H locs cells slots hw hS => ?_)
    replace hm := tc_l hr2 hm
    refine lv_iload_n hx hb dX1_years_5 rfl (lv_at hl 2 rfl) ?_
    refine lv_iconst (v := 0) hx hb dX1_years_6 (by decide) ?_
    refine lv_sipush (v := 200) hx hb dX1_years_7 (by decide) ?_
    obtain ⟨w3, hw3, hm⟩ := ob_s hm
    refine xr_reti hS (xr_runS X hw (met_X1_in N r2 x2 0 200 w3 hw3) (x_cs X (lv := 0) (by omega) (by decide) cx_X1_in (lw_S q336 q337 q115 q338)) rfl hl.1 rfl (Nat.le_of_ble_eq_true rfl) dX1_years_10) (fun H locs cells slots hw hS => ?_)
    obtain ⟨w4, hw4, hm⟩ := tb_s hm
    refine xt_retv hS (xt_runS X hw (met_X1_right hlT N r2 w3 w4 hw4) (x_cs X (lv := 5) (by omega) (by decide) cx_X1_right (lw_S q655 q656 q115 q657)) rfl hl.1 rfl (Nat.le_of_ble_eq_true rfl) dX1_years_13) (fun t1 t2 u E9 ce q9 H1 locs1 hu ht => xt_pass X hlk hout (tc_r hu hm) ht (x_fits (lv2 := 0) X hw t1 t2).1 (x_fits (lv2 := 0) X hw t1 t2).2) (fun r5 hr5 H locs cells slots hw hS => ?_)
    replace hm := tc_l hr5 hm
    refine lv_aload_n hx hb dX1_years_16 rfl (lv_at hl 0 rfl) ?_
    refine lv_iload_n hx hb dX1_years_17 rfl (lv_at hl 1 rfl) ?_
    obtain ⟨S6, hS6, hm⟩ := ob_s hm
    refine xr_putI X hw hS xc1 in_X1 tyX1_ok nmX1 13 (by decide) q293 rfl (tyX1_ok 13 (by decide)) rfl rfl hS6 dX1_years_18 (fun H locs hw hS => ?_)
    refine lv_aload_n hx hb dX1_years_21 rfl (lv_at hl 0 rfl) ?_
    obtain ⟨v7, hv7, hm⟩ := ob_s hm
    refine xr_val X hw xc1 in_X1 3 (by decide) q282 (f_obj_s hv7) dX1_years_22 ?_
    refine lv_aload_n hx hb dX1_years_25 rfl (lv_at hl 0 rfl) ?_
    obtain ⟨v8, hv8, hm⟩ := ob_s hm
    refine xr_val X hw xc1 in_X1 2 (by decide) q281 (f_obj_s hv8) dX1_years_26 ?_
    obtain ⟨u9, hu9, hm⟩ := ob_s hm
    obtain ⟨w10, hw10, hm⟩ := ob_s hm
    refine xr_retr hS (xr_runV X hw (met_X3_be N S6 v7 v8 w10 hw10) (x_cv X (lv := 0) (by omega) (by decide) cx_X3_be (lw_V q608 q354 q355 q120 q356)) xc2 hu9 rfl hl.1 rfl (Nat.le_of_ble_eq_true rfl) dX1_years_29) (fun H locs cells slots hw hS => ?_)
    refine lv_pop hx hb dX1_years_32 rfl ?_
    refine lv_iconst (v := 0) hx hb dX1_years_33 (by decide) ?_
    refine lv_istore (lv' := [(4, .int 0), (0, .ref x0), (1, .int x1), (2, .int x2), (3, .int x3)]) hx hb dX1_years_34 hl (by decide) rfl (fun ls hl => ?_)
    refine lv_iconst (v := 0) hx hb dX1_years_36 (by decide) ?_
    refine lv_istore (lv' := [(5, .int 0), (4, .int 0), (0, .ref x0), (1, .int x1), (2, .int x2), (3, .int x3)]) hx hb dX1_years_37 hl (by decide) rfl (fun ls hl => ?_)
    refine lv_iconst (v := 0) hx hb dX1_years_39 (by decide) ?_
    refine lv_istore (lv' := [(6, .int 0), (5, .int 0), (4, .int 0), (0, .ref x0), (1, .int x1), (2, .int x2), (3, .int x3)]) hx hb dX1_years_40 hl (by decide) rfl (fun ls hl => ?_)
    exact wkX_X1_years_42 X hr hlk hnm hlT hout hw0 N N w10.1 x0 x2 x3 0 0 0 H locs ls _ _ hm hw hS (lv_sub hl [3, 5, 6, 2, 1, 0] rfl)
  exact hg _ _ _ _ hw va_S.rf
/-! DripCups.later -/
def kX_X1_later (g : XC) (N : Nat) (S : XS) (x0 : Nat) (x1 : Int32) (x2 : Int32) : Option ((XS × Int32) ⊕ XT) :=
  tbind (kX_X1_oneOf g N S x2 2) fun r2 =>
  (kX_X1_in g N x1 0 200).bind fun w3 =>
  tbind (kX_X1_right g N r2 w3) fun r5 =>
  (f_cls r5 1 x0).bind fun u6 =>
  (kX_X1_tryOn g N r5 x0 x1).bind fun w7 =>
  if x2 = 0 then
    (f_obj w7.1 1 x0 3).bind fun v15 =>
    (f_cls w7.1 2 v15).bind fun u16 =>
    (kX_X3_fullest g N w7.1 v15).bind fun w17 =>
    some (.inl (w17.1, w17.2))
  else
    if x2 = 1 then
      (f_obj w7.1 1 x0 3).bind fun v12 =>
      (f_cls w7.1 2 v12).bind fun u13 =>
      (kX_X3_dry g N w7.1 v12).bind fun w14 =>
      some (.inl (w14.1, w14.2))
    else
      (f_obj w7.1 1 x0 3).bind fun v10 =>
      (f_int w7.1 2 v10 14).bind fun v11 =>
      some (.inl (w7.1, v11))
theorem cx_X1_later : yX1_later.cls = RX1 ∧ yX1_later.cls ≠ "java/lang/invoke/MethodHandle" ∧ yX1_later.cls ≠ "java/lang/invoke/VarHandle" ∧ (parseMethodDescriptor yX1_later.desc).map (fun d => d.parameters.length) = some 2 := by decide +kernel
theorem met_X1_later {l : Launch} {g : XC} {D : va_G} {A : Nat → Prop} (hlT : l.stackTraces = false) (N : Nat) (S : XS) (x0 : Nat) (x1 : Int32) (x2 : Int32) (w : (XS × Int32) ⊕ XT) (hm : kX_X1_later g N S x0 x1 x2 = some w) : vx_Met l yX1_later (ws_ yX1_later cX1_later 3 (Option.some Jvm.ClassFile.FieldType.int)) (xRm g S 83) (xPre g D A [.ref x0, .int x1, .int x2] S) (xTi g D A w) (xTx g D A w) (g.2.1 - xTop S) (g.2.2.1 - xSl S) A := by
  refine x_startT (own := RX1) (by decide +kernel) rfl (Nat.le_of_ble_eq_true rfl) (fun p e s m below meth c ls X hr hlk hnm hout hw hl => ?_)
  have hw0 := hw
  obtain ⟨hx, hb, -, hown, hts, -⟩ := id X
  have hl : lv_has ls 3 [(0, .ref x0), (1, .int x1), (2, .int x2)] := hl
  have hg : ∀ (H : Heap) (locs : List Loc) (cells slots : Nat), xW g D A S s H → va_S A s.heap H locs → W p l e (xRm g S 83) s m ([.ref x0, .int x1, .int x2] : List Value).toArray below meth c H locs cells slots (vx_MQ below (xTi g D A w) (xTx g D A w) ([.ref x0, .int x1, .int x2] : List Value).toArray s (g.2.1 - xTop S) (g.2.2.1 - xSl S) A) (F0 m 0 ls []) := by
    intro H locs cells slots hw hS
    unfold kX_X1_later at hm
    refine lv_iload_n hx hb dX1_later_0 rfl (lv_at hl 2 rfl) ?_
    refine lv_iconst (v := 2) hx hb dX1_later_1 (by decide) ?_
    obtain ⟨w1, hw1, hm⟩ := tb_s hm
    refine xt_retv hS (xt_runS X hw (met_X1_oneOf hlT N S x2 2 w1 hw1) (x_cs X (lv := 6) (by omega) (by decide) cx_X1_oneOf (lw_S q1306 q1307 q115 q1308)) rfl hl.1 rfl (Nat.le_of_ble_eq_true rfl) dX1_later_2) (fun t1 t2 u E9 ce q9 H1 locs1 hu ht => xt_pass X hlk hout (tc_r hu hm) ht (x_fits (lv2 := 0) X hw t1 t2).1 (x_fits (lv2 := 0) X hw t1 t2).2) (fun r2 hr2 H locs cells slots hw hS => ?_)
    replace hm := tc_l hr2 hm
    refine lv_iload_n hx hb dX1_later_5 rfl (lv_at hl 1 rfl) ?_
    refine lv_iconst (v := 0) hx hb dX1_later_6 (by decide) ?_
    refine lv_sipush (v := 200) hx hb dX1_later_7 (by decide) ?_
    obtain ⟨w3, hw3, hm⟩ := ob_s hm
    refine xr_reti hS (xr_runS X hw (met_X1_in N r2 x1 0 200 w3 hw3) (x_cs X (lv := 0) (by omega) (by decide) cx_X1_in (lw_S q336 q337 q115 q338)) rfl hl.1 rfl (Nat.le_of_ble_eq_true rfl) dX1_later_10) (fun H locs cells slots hw hS => ?_)
    obtain ⟨w4, hw4, hm⟩ := tb_s hm
    refine xt_retv hS (xt_runS X hw (met_X1_right hlT N r2 w3 w4 hw4) (x_cs X (lv := 5) (by omega) (by decide) cx_X1_right (lw_S q655 q656 q115 q657)) rfl hl.1 rfl (Nat.le_of_ble_eq_true rfl) dX1_later_13) (fun t1 t2 u E9 ce q9 H1 locs1 hu ht => xt_pass X hlk hout (tc_r hu hm) ht (x_fits (lv2 := 0) X hw t1 t2).1 (x_fits (lv2 := 0) X hw t1 t2).2) (fun r5 hr5 H locs cells slots hw hS => ?_)
    replace hm := tc_l hr5 hm
    refine lv_aload_n hx hb dX1_later_16 rfl (lv_at hl 0 rfl) ?_
    refine lv_iload_n hx hb dX1_later_17 rfl (lv_at hl 1 rfl) ?_
    obtain ⟨u6, hu6, hm⟩ := ob_s hm
    obtain ⟨w7, hw7, hm⟩ := ob_s hm
    refine xr_retr hS (xr_runV X hw (met_X1_tryOn N r5 x0 x1 w7 hw7) (x_cv X (lv := 82) (by omega) (by decide) cx_X1_tryOn (lw_V q1309 q1311 qs43 q115 q1312)) xc1 hu6 rfl hl.1 rfl (Nat.le_of_ble_eq_true rfl) dX1_later_18) (fun H locs cells slots hw hS => ?_)
    refine lv_pop hx hb dX1_later_21 rfl ?_
    refine lv_iload_n hx hb dX1_later_22 rfl (lv_at hl 2 rfl) ?_
    refine lv_if_ne (tgt := 36) hx hb dX1_later_23 (by decide) (fun c8 => ?_) (fun c8 => ?_)
    · replace hm := if_f c8 hm
      refine lv_iload_n hx hb dX1_later_36 rfl (lv_at hl 2 rfl) ?_
      refine lv_iconst (v := 1) hx hb dX1_later_37 (by decide) ?_
      refine lv_icmp_ne (tgt := 51) hx hb dX1_later_38 (by decide) (fun c9 => ?_) (fun c9 => ?_)
      · replace hm := if_f c9 hm
        refine lv_aload_n hx hb dX1_later_51 rfl (lv_at hl 0 rfl) ?_
        obtain ⟨v10, hv10, hm⟩ := ob_s hm
        refine xr_val X hw xc1 in_X1 3 (by decide) q282 (f_obj_s hv10) dX1_later_52 ?_
        obtain ⟨v11, hv11, hm⟩ := ob_s hm
        refine xr_valN X hw xc2 in_X3 14 (by decide) q240 (f_int_s hv11) dX1_later_55 ?_
        obtain rfl := Option.some.inj hm
        exact xt_iret (v := v11) X hr hlk hw hS rfl dX1_later_58
      · replace hm := if_t c9 hm
        refine lv_aload_n hx hb dX1_later_41 rfl (lv_at hl 0 rfl) ?_
        obtain ⟨v12, hv12, hm⟩ := ob_s hm
        refine xr_val X hw xc1 in_X1 3 (by decide) q282 (f_obj_s hv12) dX1_later_42 ?_
        obtain ⟨u13, hu13, hm⟩ := ob_s hm
        obtain ⟨w14, hw14, hm⟩ := ob_s hm
        refine xr_reti hS (xr_runV X hw (met_X3_dry N w7.1 v12 w14 hw14) (x_cv X (lv := 2) (by omega) (by decide) cx_X3_dry (lw_V q1511 q1512 q1513 q120 q1514)) xc2 hu13 rfl hl.1 rfl (Nat.le_of_ble_eq_true rfl) dX1_later_45) (fun H locs cells slots hw hS => ?_)
        refine lv_goto (tgt := 58) hx hb dX1_later_48 (by decide) ?_
        obtain rfl := Option.some.inj hm
        exact xt_iret (v := w14.2) X hr hlk hw hS rfl dX1_later_58
    · replace hm := if_t c8 hm
      refine lv_aload_n hx hb dX1_later_26 rfl (lv_at hl 0 rfl) ?_
      obtain ⟨v15, hv15, hm⟩ := ob_s hm
      refine xr_val X hw xc1 in_X1 3 (by decide) q282 (f_obj_s hv15) dX1_later_27 ?_
      obtain ⟨u16, hu16, hm⟩ := ob_s hm
      obtain ⟨w17, hw17, hm⟩ := ob_s hm
      refine xr_reti hS (xr_runV X hw (met_X3_fullest N w7.1 v15 w17 hw17) (x_cv X (lv := 2) (by omega) (by decide) cx_X3_fullest (lw_V q1507 q1508 q1509 q120 q1510)) xc2 hu16 rfl hl.1 rfl (Nat.le_of_ble_eq_true rfl) dX1_later_30) (fun H locs cells slots hw hS => ?_)
      refine lv_goto (tgt := 58) hx hb dX1_later_33 (by decide) ?_
      obtain rfl := Option.some.inj hm
      exact xt_iret (v := w17.2) X hr hlk hw hS rfl dX1_later_58
  exact hg _ _ _ _ hw va_S.rf
/-! DripCups.oftenest -/
def kX_X1_oftenest_74 (g : XC) (N : Nat) (K24 : XS → Nat → Int32 → Int32 → Int32 → Option ((XS × Int32) ⊕ XT)) (S : XS) (x0 : Nat) (x2 : Int32) (x3 : Int32) (x4 : Int32) : Option ((XS × Int32) ⊕ XT) :=
  K24 S x0 x2 x3 (x4 + 1)
theorem wkX_X1_oftenest_74 {p : Program} {l : Launch} {e : Env} {s : State} {m : MethodId} {args : Array Value} {below : List Frame} {meth : Method} {c : Code} {g : XC} {D : va_G} {A : Nat → Prop} {S0 : XS} {w : (XS × Int32) ⊕ XT} (X : xX g D A RX1 S0 p s m args c cX1_oftenest 6) (hr : meth.sig.returnType = (Option.some Jvm.ClassFile.FieldType.int)) (hlk : meth.locks = false) (hnm : meth.name = yX1_oftenest.name) (hlT : l.stackTraces = false) (hout : ∀ x ∈ c.exceptionTable.toList, False) (hw0 : xW g D A S0 s s.heap) (N : Nat) (K24 : XS → Nat → Int32 → Int32 → Int32 → Option ((XS × Int32) ⊕ XT))
    (hK24 : ∀ (S : XS) (x0 : Nat) (x2 : Int32) (x3 : Int32) (x4 : Int32) (H : Heap) (locs : List Loc) (ls : Array Slot) (cells slots : Nat), K24 S x0 x2 x3 x4 = some w → xW g D A S s H → va_S A s.heap H locs → lv_has ls 6 [(0, .ref x0), (2, .int x2), (3, .int x3), (4, .int x4)] → W p l e (xRm g S0 83) s m args below meth c H locs cells slots (vx_MQ below (xTi g D A w) (xTx g D A w) args s (g.2.1 - xTop S0) (g.2.2.1 - xSl S0) A) (F0 m 24 ls [])) :
    ∀ (S : XS) (x0 : Nat) (x2 : Int32) (x3 : Int32) (x4 : Int32) (H : Heap) (locs : List Loc) (ls : Array Slot) (cells slots : Nat), kX_X1_oftenest_74 g N K24 S x0 x2 x3 x4 = some w → xW g D A S s H → va_S A s.heap H locs → lv_has ls 6 [(0, .ref x0), (2, .int x2), (3, .int x3), (4, .int x4)] → W p l e (xRm g S0 83) s m args below meth c H locs cells slots (vx_MQ below (xTi g D A w) (xTx g D A w) args s (g.2.1 - xTop S0) (g.2.2.1 - xSl S0) A) (F0 m 74 ls []) := by
  obtain ⟨hx, hb, -, hown, hts, -⟩ := id X
  intro S x0 x2 x3 x4 H locs ls cells slots hm hw hS hl
  unfold kX_X1_oftenest_74 at hm
  refine lv_iinc (v := (x4 + 1)) (lv' := [(4, .int (x4 + 1)), (0, .ref x0), (2, .int x2), (3, .int x3)]) hx hb dX1_oftenest_74 hl (k := 3) rfl rfl (by decide) rfl (fun ls hl => ?_)
  refine lv_goto (tgt := 24) hx hb dX1_oftenest_77 (by decide) ?_
  exact hK24 S x0 x2 x3 (x4 + 1) H locs ls _ _ hm hw hS (lv_sub hl [1, 2, 3, 0] rfl)
def kX_X1_oftenest_24 (g : XC) (N : Nat) : Nat → XS → Nat → Int32 → Int32 → Int32 → Option ((XS × Int32) ⊕ XT)
  | 0, _, _, _, _, _ => none
  | n + 1, S, x0, x2, x3, x4 =>
    (f_obj S 1 x0 1).bind fun v1 =>
    (f_cls S 3 v1).bind fun u2 =>
    (kX_X2_cups g N S v1).bind fun w3 =>
    if w3.2 ≤ x4 then
      some (.inl (w3.1, x2))
    else
      (f_obj w3.1 1 x0 3).bind fun v5 =>
      (f_obj w3.1 2 v5 2).bind fun v6 =>
      (a_int w3.1 0 v6 x4).bind fun v7 =>
      (f_obj w3.1 1 x0 2).bind fun v8 =>
      (f_obj w3.1 2 v8 2).bind fun v9 =>
      (a_int w3.1 0 v9 x4).bind fun v10 =>
      bnd (v7 - v10) fun v11 =>
      if x3 < v11 then
        kX_X1_oftenest_74 g N (kX_X1_oftenest_24 g N n) w3.1 x0 x4 v11 x4
      else
        kX_X1_oftenest_74 g N (kX_X1_oftenest_24 g N n) w3.1 x0 x2 x3 x4
theorem wkX_X1_oftenest_24 {p : Program} {l : Launch} {e : Env} {s : State} {m : MethodId} {args : Array Value} {below : List Frame} {meth : Method} {c : Code} {g : XC} {D : va_G} {A : Nat → Prop} {S0 : XS} {w : (XS × Int32) ⊕ XT} (X : xX g D A RX1 S0 p s m args c cX1_oftenest 6) (hr : meth.sig.returnType = (Option.some Jvm.ClassFile.FieldType.int)) (hlk : meth.locks = false) (hnm : meth.name = yX1_oftenest.name) (hlT : l.stackTraces = false) (hout : ∀ x ∈ c.exceptionTable.toList, False) (hw0 : xW g D A S0 s s.heap) (N : Nat) :
    ∀ (n : Nat) (S : XS) (x0 : Nat) (x2 : Int32) (x3 : Int32) (x4 : Int32) (H : Heap) (locs : List Loc) (ls : Array Slot) (cells slots : Nat), kX_X1_oftenest_24 g N n S x0 x2 x3 x4 = some w → xW g D A S s H → va_S A s.heap H locs → lv_has ls 6 [(0, .ref x0), (2, .int x2), (3, .int x3), (4, .int x4)] → W p l e (xRm g S0 83) s m args below meth c H locs cells slots (vx_MQ below (xTi g D A w) (xTx g D A w) args s (g.2.1 - xTop S0) (g.2.2.1 - xSl S0) A) (F0 m 24 ls []) := by
  obtain ⟨hx, hb, -, hown, hts, -⟩ := id X
  intro n
  induction n with
  | zero =>
    intro S x0 x2 x3 x4 H locs ls cells slots hm
    cases hm
  | succ n ih =>
    intro S x0 x2 x3 x4 H locs ls cells slots hm hw hS hl
    rw [kX_X1_oftenest_24] at hm
    refine lv_iload hx hb dX1_oftenest_24 (lv_at hl 3 rfl) ?_
    refine lv_aload_n hx hb dX1_oftenest_26 rfl (lv_at hl 0 rfl) ?_
    obtain ⟨v1, hv1, hm⟩ := ob_s hm
    refine xr_val X hw xc1 in_X1 1 (by decide) q279 (f_obj_s hv1) dX1_oftenest_27 ?_
    obtain ⟨u2, hu2, hm⟩ := ob_s hm
    obtain ⟨w3, hw3, hm⟩ := ob_s hm
    refine xr_reti hS (xr_runV X hw (met_X2_cups N S v1 w3 hw3) (x_cv X (lv := 1) (by omega) (by decide) cx_X2_cups (lw_V q1172 q463 q464 q116 q465)) xc3 hu2 rfl hl.1 rfl (Nat.le_of_ble_eq_true rfl) dX1_oftenest_30) (fun H locs cells slots hw hS => ?_)
    refine lv_icmp_ge (tgt := 80) hx hb dX1_oftenest_33 (by decide) (fun c4 => ?_) (fun c4 => ?_)
    · replace hm := if_t c4 hm
      refine lv_iload_n hx hb dX1_oftenest_80 rfl (lv_at hl 1 rfl) ?_
      obtain rfl := Option.some.inj hm
      exact xt_iret (v := x2) X hr hlk hw hS rfl dX1_oftenest_81
    · replace hm := if_f c4 hm
      refine lv_aload_n hx hb dX1_oftenest_36 rfl (lv_at hl 0 rfl) ?_
      obtain ⟨v5, hv5, hm⟩ := ob_s hm
      refine xr_val X hw xc1 in_X1 3 (by decide) q282 (f_obj_s hv5) dX1_oftenest_37 ?_
      obtain ⟨v6, hv6, hm⟩ := ob_s hm
      refine xr_valN X hw xc2 in_X3 2 (by decide) q217 (f_obj_s hv6) dX1_oftenest_40 ?_
      refine lv_iload hx hb dX1_oftenest_43 (lv_at hl 3 rfl) ?_
      obtain ⟨v7, hv7, hm⟩ := ob_s hm
      refine xr_iald X hw hv7 dX1_oftenest_45 ?_
      refine lv_aload_n hx hb dX1_oftenest_46 rfl (lv_at hl 0 rfl) ?_
      obtain ⟨v8, hv8, hm⟩ := ob_s hm
      refine xr_val X hw xc1 in_X1 2 (by decide) q281 (f_obj_s hv8) dX1_oftenest_47 ?_
      obtain ⟨v9, hv9, hm⟩ := ob_s hm
      refine xr_valN X hw xc2 in_X3 2 (by decide) q217 (f_obj_s hv9) dX1_oftenest_50 ?_
      refine lv_iload hx hb dX1_oftenest_53 (lv_at hl 3 rfl) ?_
      obtain ⟨v10, hv10, hm⟩ := ob_s hm
      refine xr_iald X hw hv10 dX1_oftenest_55 ?_
      refine lv_isub hx hb dX1_oftenest_56 ?_
      refine lv_topi (fun v11 ev11 => ?_)
      replace hm := bnd_s hm ev11
      refine lv_istore (lv' := [(5, .int v11), (0, .ref x0), (2, .int x2), (3, .int x3), (4, .int x4)]) hx hb dX1_oftenest_57 hl (by decide) rfl (fun ls hl => ?_)
      refine lv_iload hx hb dX1_oftenest_59 (lv_at hl 0 rfl) ?_
      refine lv_iload_n hx hb dX1_oftenest_61 rfl (lv_at hl 3 rfl) ?_
      refine lv_icmp_gt (tgt := 68) hx hb dX1_oftenest_62 (by decide) (fun c12 => ?_) (fun c12 => ?_)
      · replace hm := if_t c12 hm
        refine lv_iload hx hb dX1_oftenest_68 (lv_at hl 4 rfl) ?_
        refine lv_istore_n (lv' := [(2, .int x4), (5, .int v11), (0, .ref x0), (3, .int x3), (4, .int x4)]) hx hb dX1_oftenest_70 rfl hl (by decide) rfl (fun ls hl => ?_)
        refine lv_iload hx hb dX1_oftenest_71 (lv_at hl 1 rfl) ?_
        refine lv_istore_n (lv' := [(3, .int v11), (2, .int x4), (5, .int v11), (0, .ref x0), (4, .int x4)]) hx hb dX1_oftenest_73 rfl hl (by decide) rfl (fun ls hl => ?_)
        exact wkX_X1_oftenest_74 X hr hlk hnm hlT hout hw0 N (kX_X1_oftenest_24 g N n) ih w3.1 x0 x4 v11 x4 H locs ls _ _ hm hw hS (lv_sub hl [3, 1, 0, 4] rfl)
      · replace hm := if_f c12 hm
        refine lv_goto (tgt := 74) hx hb dX1_oftenest_65 (by decide) ?_
        exact wkX_X1_oftenest_74 X hr hlk hnm hlT hout hw0 N (kX_X1_oftenest_24 g N n) ih w3.1 x0 x2 x3 x4 H locs ls _ _ hm hw hS (lv_sub hl [1, 2, 3, 4] rfl)
def kX_X1_oftenest (g : XC) (N : Nat) (S : XS) (x0 : Nat) (x1 : Int32) : Option ((XS × Int32) ⊕ XT) :=
  (kX_X1_in g N x1 1 200).bind fun w1 =>
  tbind (kX_X1_right g N S w1) fun r3 =>
  (f_cls r3 1 x0).bind fun u4 =>
  (kX_X1_tryOn g N r3 x0 x1).bind fun w5 =>
  kX_X1_oftenest_24 g N N w5.1 x0 (-1) (-1) 0
theorem cx_X1_oftenest : yX1_oftenest.cls = RX1 ∧ yX1_oftenest.cls ≠ "java/lang/invoke/MethodHandle" ∧ yX1_oftenest.cls ≠ "java/lang/invoke/VarHandle" ∧ (parseMethodDescriptor yX1_oftenest.desc).map (fun d => d.parameters.length) = some 1 := by decide +kernel
theorem met_X1_oftenest {l : Launch} {g : XC} {D : va_G} {A : Nat → Prop} (hlT : l.stackTraces = false) (N : Nat) (S : XS) (x0 : Nat) (x1 : Int32) (w : (XS × Int32) ⊕ XT) (hm : kX_X1_oftenest g N S x0 x1 = some w) : vx_Met l yX1_oftenest (ws_ yX1_oftenest cX1_oftenest 6 (Option.some Jvm.ClassFile.FieldType.int)) (xRm g S 83) (xPre g D A [.ref x0, .int x1] S) (xTi g D A w) (xTx g D A w) (g.2.1 - xTop S) (g.2.2.1 - xSl S) A := by
  refine x_startT (own := RX1) (by decide +kernel) rfl (Nat.le_of_ble_eq_true rfl) (fun p e s m below meth c ls X hr hlk hnm hout hw hl => ?_)
  have hw0 := hw
  obtain ⟨hx, hb, -, hown, hts, -⟩ := id X
  have hl : lv_has ls 6 [(0, .ref x0), (1, .int x1)] := hl
  have hg : ∀ (H : Heap) (locs : List Loc) (cells slots : Nat), xW g D A S s H → va_S A s.heap H locs → W p l e (xRm g S 83) s m ([.ref x0, .int x1] : List Value).toArray below meth c H locs cells slots (vx_MQ below (xTi g D A w) (xTx g D A w) ([.ref x0, .int x1] : List Value).toArray s (g.2.1 - xTop S) (g.2.2.1 - xSl S) A) (F0 m 0 ls []) := by
    intro H locs cells slots hw hS
    unfold kX_X1_oftenest at hm
    refine lv_iload_n hx hb dX1_oftenest_0 rfl (lv_at hl 1 rfl) ?_
    refine lv_iconst (v := 1) hx hb dX1_oftenest_1 (by decide) ?_
    refine lv_sipush (v := 200) hx hb dX1_oftenest_2 (by decide) ?_
    obtain ⟨w1, hw1, hm⟩ := ob_s hm
    refine xr_reti hS (xr_runS X hw (met_X1_in N S x1 1 200 w1 hw1) (x_cs X (lv := 0) (by omega) (by decide) cx_X1_in (lw_S q336 q337 q115 q338)) rfl hl.1 rfl (Nat.le_of_ble_eq_true rfl) dX1_oftenest_5) (fun H locs cells slots hw hS => ?_)
    obtain ⟨w2, hw2, hm⟩ := tb_s hm
    refine xt_retv hS (xt_runS X hw (met_X1_right hlT N S w1 w2 hw2) (x_cs X (lv := 5) (by omega) (by decide) cx_X1_right (lw_S q655 q656 q115 q657)) rfl hl.1 rfl (Nat.le_of_ble_eq_true rfl) dX1_oftenest_8) (fun t1 t2 u E9 ce q9 H1 locs1 hu ht => xt_pass X hlk hout (tc_r hu hm) ht (x_fits (lv2 := 0) X hw t1 t2).1 (x_fits (lv2 := 0) X hw t1 t2).2) (fun r3 hr3 H locs cells slots hw hS => ?_)
    replace hm := tc_l hr3 hm
    refine lv_aload_n hx hb dX1_oftenest_11 rfl (lv_at hl 0 rfl) ?_
    refine lv_iload_n hx hb dX1_oftenest_12 rfl (lv_at hl 1 rfl) ?_
    obtain ⟨u4, hu4, hm⟩ := ob_s hm
    obtain ⟨w5, hw5, hm⟩ := ob_s hm
    refine xr_retr hS (xr_runV X hw (met_X1_tryOn N r3 x0 x1 w5 hw5) (x_cv X (lv := 82) (by omega) (by decide) cx_X1_tryOn (lw_V q1309 q1311 qs43 q115 q1312)) xc1 hu4 rfl hl.1 rfl (Nat.le_of_ble_eq_true rfl) dX1_oftenest_13) (fun H locs cells slots hw hS => ?_)
    refine lv_pop hx hb dX1_oftenest_16 rfl ?_
    refine lv_iconst (v := (-1)) hx hb dX1_oftenest_17 (by decide) ?_
    refine lv_istore_n (lv' := [(2, .int (-1)), (0, .ref x0), (1, .int x1)]) hx hb dX1_oftenest_18 rfl hl (by decide) rfl (fun ls hl => ?_)
    refine lv_iconst (v := (-1)) hx hb dX1_oftenest_19 (by decide) ?_
    refine lv_istore_n (lv' := [(3, .int (-1)), (2, .int (-1)), (0, .ref x0), (1, .int x1)]) hx hb dX1_oftenest_20 rfl hl (by decide) rfl (fun ls hl => ?_)
    refine lv_iconst (v := 0) hx hb dX1_oftenest_21 (by decide) ?_
    refine lv_istore (lv' := [(4, .int 0), (3, .int (-1)), (2, .int (-1)), (0, .ref x0), (1, .int x1)]) hx hb dX1_oftenest_22 hl (by decide) rfl (fun ls hl => ?_)
    exact wkX_X1_oftenest_24 X hr hlk hnm hlT hout hw0 N N w5.1 x0 (-1) (-1) 0 H locs ls _ _ hm hw hS (lv_sub hl [3, 2, 1, 0] rfl)
  exact hg _ _ _ _ hw va_S.rf
/-! DripCups.pause -/
def kX_X1_pause_59 (g : XC) (N : Nat) (K21 : XS → Nat → Int32 → Int32 → Int32 → Option ((XS × Int32) ⊕ XT)) (S : XS) (x0 : Nat) (x1 : Int32) (x2 : Int32) (x3 : Int32) : Option ((XS × Int32) ⊕ XT) :=
  K21 S x0 x1 x2 (x3 + 1)
theorem wkX_X1_pause_59 {p : Program} {l : Launch} {e : Env} {s : State} {m : MethodId} {args : Array Value} {below : List Frame} {meth : Method} {c : Code} {g : XC} {D : va_G} {A : Nat → Prop} {S0 : XS} {w : (XS × Int32) ⊕ XT} (X : xX g D A RX1 S0 p s m args c cX1_pause 4) (hr : meth.sig.returnType = (Option.some Jvm.ClassFile.FieldType.int)) (hlk : meth.locks = false) (hnm : meth.name = yX1_pause.name) (hlT : l.stackTraces = false) (hout : ∀ x ∈ c.exceptionTable.toList, False) (hw0 : xW g D A S0 s s.heap) (N : Nat) (K21 : XS → Nat → Int32 → Int32 → Int32 → Option ((XS × Int32) ⊕ XT))
    (hK21 : ∀ (S : XS) (x0 : Nat) (x1 : Int32) (x2 : Int32) (x3 : Int32) (H : Heap) (locs : List Loc) (ls : Array Slot) (cells slots : Nat), K21 S x0 x1 x2 x3 = some w → xW g D A S s H → va_S A s.heap H locs → lv_has ls 4 [(0, .ref x0), (1, .int x1), (2, .int x2), (3, .int x3)] → W p l e (xRm g S0 81) s m args below meth c H locs cells slots (vx_MQ below (xTi g D A w) (xTx g D A w) args s (g.2.1 - xTop S0) (g.2.2.1 - xSl S0) A) (F0 m 21 ls [])) :
    ∀ (S : XS) (x0 : Nat) (x1 : Int32) (x2 : Int32) (x3 : Int32) (H : Heap) (locs : List Loc) (ls : Array Slot) (cells slots : Nat), kX_X1_pause_59 g N K21 S x0 x1 x2 x3 = some w → xW g D A S s H → va_S A s.heap H locs → lv_has ls 4 [(0, .ref x0), (1, .int x1), (2, .int x2), (3, .int x3)] → W p l e (xRm g S0 81) s m args below meth c H locs cells slots (vx_MQ below (xTi g D A w) (xTx g D A w) args s (g.2.1 - xTop S0) (g.2.2.1 - xSl S0) A) (F0 m 59 ls []) := by
  obtain ⟨hx, hb, -, hown, hts, -⟩ := id X
  intro S x0 x1 x2 x3 H locs ls cells slots hm hw hS hl
  unfold kX_X1_pause_59 at hm
  refine lv_iinc (v := (x3 + 1)) (lv' := [(3, .int (x3 + 1)), (0, .ref x0), (1, .int x1), (2, .int x2)]) hx hb dX1_pause_59 hl (k := 3) rfl rfl (by decide) rfl (fun ls hl => ?_)
  refine lv_goto (tgt := 21) hx hb dX1_pause_62 (by decide) ?_
  exact hK21 S x0 x1 x2 (x3 + 1) H locs ls _ _ hm hw hS (lv_sub hl [1, 2, 3, 0] rfl)
def kX_X1_pause_21 (g : XC) (N : Nat) : Nat → XS → Nat → Int32 → Int32 → Int32 → Option ((XS × Int32) ⊕ XT)
  | 0, _, _, _, _, _ => none
  | n + 1, S, x0, x1, x2, x3 =>
    if (200 : Int32) < x3 then
      some (.inl (S, (-1)))
    else
      (f_obj S 1 x0 3).bind fun v2 =>
      (f_cls S 2 v2).bind fun u3 =>
      (kX_X3_pass g N S v2).bind fun w4 =>
      (f_int w4.1 2 w4.2 13).bind fun v5 =>
      (kX_X1_isOf g N v5 x1).bind fun w6 =>
      if w6 = 0 then
        kX_X1_pause_59 g N (kX_X1_pause_21 g N n) w4.1 x0 x1 x2 x3
      else
        if x2 = (-1) then
          kX_X1_pause_59 g N (kX_X1_pause_21 g N n) w4.1 x0 x1 x3 x3
        else
          some (.inl (w4.1, (x3 - x2)))
theorem wkX_X1_pause_21 {p : Program} {l : Launch} {e : Env} {s : State} {m : MethodId} {args : Array Value} {below : List Frame} {meth : Method} {c : Code} {g : XC} {D : va_G} {A : Nat → Prop} {S0 : XS} {w : (XS × Int32) ⊕ XT} (X : xX g D A RX1 S0 p s m args c cX1_pause 4) (hr : meth.sig.returnType = (Option.some Jvm.ClassFile.FieldType.int)) (hlk : meth.locks = false) (hnm : meth.name = yX1_pause.name) (hlT : l.stackTraces = false) (hout : ∀ x ∈ c.exceptionTable.toList, False) (hw0 : xW g D A S0 s s.heap) (N : Nat) :
    ∀ (n : Nat) (S : XS) (x0 : Nat) (x1 : Int32) (x2 : Int32) (x3 : Int32) (H : Heap) (locs : List Loc) (ls : Array Slot) (cells slots : Nat), kX_X1_pause_21 g N n S x0 x1 x2 x3 = some w → xW g D A S s H → va_S A s.heap H locs → lv_has ls 4 [(0, .ref x0), (1, .int x1), (2, .int x2), (3, .int x3)] → W p l e (xRm g S0 81) s m args below meth c H locs cells slots (vx_MQ below (xTi g D A w) (xTx g D A w) args s (g.2.1 - xTop S0) (g.2.2.1 - xSl S0) A) (F0 m 21 ls []) := by
  obtain ⟨hx, hb, -, hown, hts, -⟩ := id X
  intro n
  induction n with
  | zero =>
    intro S x0 x1 x2 x3 H locs ls cells slots hm
    cases hm
  | succ n ih =>
    intro S x0 x1 x2 x3 H locs ls cells slots hm hw hS hl
    rw [kX_X1_pause_21] at hm
    refine lv_iload_n hx hb dX1_pause_21 rfl (lv_at hl 3 rfl) ?_
    refine lv_sipush (v := 200) hx hb dX1_pause_22 (by decide) ?_
    refine lv_icmp_gt (tgt := 65) hx hb dX1_pause_25 (by decide) (fun c1 => ?_) (fun c1 => ?_)
    · replace hm := if_t c1 hm
      refine lv_iconst (v := (-1)) hx hb dX1_pause_65 (by decide) ?_
      obtain rfl := Option.some.inj hm
      exact xt_iret (v := (-1)) X hr hlk hw hS rfl dX1_pause_66
    · replace hm := if_f c1 hm
      refine lv_aload_n hx hb dX1_pause_28 rfl (lv_at hl 0 rfl) ?_
      obtain ⟨v2, hv2, hm⟩ := ob_s hm
      refine xr_val X hw xc1 in_X1 3 (by decide) q282 (f_obj_s hv2) dX1_pause_29 ?_
      obtain ⟨u3, hu3, hm⟩ := ob_s hm
      obtain ⟨w4, hw4, hm⟩ := ob_s hm
      refine xr_retr hS (xr_runV X hw (met_X3_pass N S v2 w4 hw4) (x_cv X (lv := 80) (by omega) (by decide) cx_X3_pass (lw_V q609 q459 q460 q120 q461)) xc2 hu3 rfl hl.1 rfl (Nat.le_of_ble_eq_true rfl) dX1_pause_32) (fun H locs cells slots hw hS => ?_)
      obtain ⟨v5, hv5, hm⟩ := ob_s hm
      refine xr_valN X hw xc2 in_X3 13 (by decide) q238 (f_int_s hv5) dX1_pause_35 ?_
      refine lv_iload_n hx hb dX1_pause_38 rfl (lv_at hl 1 rfl) ?_
      obtain ⟨w6, hw6, hm⟩ := ob_s hm
      refine xr_reti hS (xr_runS X hw (met_X1_isOf N w4.1 v5 x1 w6 hw6) (x_cs X (lv := 0) (by omega) (by decide) cx_X1_isOf (lw_S q1202 q477 q115 q478)) rfl hl.1 rfl (Nat.le_of_ble_eq_true rfl) dX1_pause_39) (fun H locs cells slots hw hS => ?_)
      refine lv_if_ne (tgt := 48) hx hb dX1_pause_42 (by decide) (fun c7 => ?_) (fun c7 => ?_)
      · replace hm := if_f c7 hm
        refine lv_iload_n hx hb dX1_pause_48 rfl (lv_at hl 2 rfl) ?_
        refine lv_iconst (v := (-1)) hx hb dX1_pause_49 (by decide) ?_
        refine lv_icmp_eq (tgt := 57) hx hb dX1_pause_50 (by decide) (fun c8 => ?_) (fun c8 => ?_)
        · replace hm := if_t c8 hm
          refine lv_iload_n hx hb dX1_pause_57 rfl (lv_at hl 3 rfl) ?_
          refine lv_istore_n (lv' := [(2, .int x3), (0, .ref x0), (1, .int x1), (3, .int x3)]) hx hb dX1_pause_58 rfl hl (by decide) rfl (fun ls hl => ?_)
          exact wkX_X1_pause_59 X hr hlk hnm hlT hout hw0 N (kX_X1_pause_21 g N n) ih w4.1 x0 x1 x3 x3 H locs ls _ _ hm hw hS (lv_sub hl [1, 2, 0, 3] rfl)
        · replace hm := if_f c8 hm
          refine lv_iload_n hx hb dX1_pause_53 rfl (lv_at hl 3 rfl) ?_
          refine lv_iload_n hx hb dX1_pause_54 rfl (lv_at hl 2 rfl) ?_
          refine lv_isub hx hb dX1_pause_55 ?_
          obtain rfl := Option.some.inj hm
          exact xt_iret (v := (x3 - x2)) X hr hlk hw hS rfl dX1_pause_56
      · replace hm := if_t c7 hm
        refine lv_goto (tgt := 59) hx hb dX1_pause_45 (by decide) ?_
        exact wkX_X1_pause_59 X hr hlk hnm hlT hout hw0 N (kX_X1_pause_21 g N n) ih w4.1 x0 x1 x2 x3 H locs ls _ _ hm hw hS (lv_sub hl [0, 1, 2, 3] rfl)
def kX_X1_pause (g : XC) (N : Nat) (S : XS) (x0 : Nat) (x1 : Int32) : Option ((XS × Int32) ⊕ XT) :=
  (f_cls S 1 x0).bind fun u1 =>
  tbind (kX_X1_aCup g N S x0 x1) fun r3 =>
  (f_obj r3 1 x0 3).bind fun v4 =>
  (f_obj r3 1 x0 2).bind fun v5 =>
  (f_cls r3 2 v4).bind fun u6 =>
  (kX_X3_be g N r3 v4 v5).bind fun w7 =>
  kX_X1_pause_21 g N N w7.1 x0 x1 (-1) 1
theorem cx_X1_pause : yX1_pause.cls = RX1 ∧ yX1_pause.cls ≠ "java/lang/invoke/MethodHandle" ∧ yX1_pause.cls ≠ "java/lang/invoke/VarHandle" ∧ (parseMethodDescriptor yX1_pause.desc).map (fun d => d.parameters.length) = some 1 := by decide +kernel
theorem met_X1_pause {l : Launch} {g : XC} {D : va_G} {A : Nat → Prop} (hlT : l.stackTraces = false) (N : Nat) (S : XS) (x0 : Nat) (x1 : Int32) (w : (XS × Int32) ⊕ XT) (hm : kX_X1_pause g N S x0 x1 = some w) : vx_Met l yX1_pause (ws_ yX1_pause cX1_pause 4 (Option.some Jvm.ClassFile.FieldType.int)) (xRm g S 81) (xPre g D A [.ref x0, .int x1] S) (xTi g D A w) (xTx g D A w) (g.2.1 - xTop S) (g.2.2.1 - xSl S) A := by
  refine x_startT (own := RX1) (by decide +kernel) rfl (Nat.le_of_ble_eq_true rfl) (fun p e s m below meth c ls X hr hlk hnm hout hw hl => ?_)
  have hw0 := hw
  obtain ⟨hx, hb, -, hown, hts, -⟩ := id X
  have hl : lv_has ls 4 [(0, .ref x0), (1, .int x1)] := hl
  have hg : ∀ (H : Heap) (locs : List Loc) (cells slots : Nat), xW g D A S s H → va_S A s.heap H locs → W p l e (xRm g S 81) s m ([.ref x0, .int x1] : List Value).toArray below meth c H locs cells slots (vx_MQ below (xTi g D A w) (xTx g D A w) ([.ref x0, .int x1] : List Value).toArray s (g.2.1 - xTop S) (g.2.2.1 - xSl S) A) (F0 m 0 ls []) := by
    intro H locs cells slots hw hS
    unfold kX_X1_pause at hm
    refine lv_aload_n hx hb dX1_pause_0 rfl (lv_at hl 0 rfl) ?_
    refine lv_iload_n hx hb dX1_pause_1 rfl (lv_at hl 1 rfl) ?_
    obtain ⟨u1, hu1, hm⟩ := ob_s hm
    obtain ⟨w2, hw2, hm⟩ := tb_s hm
    refine xt_retv hS (xt_runV X hw (met_X1_aCup hlT N S x0 x1 w2 hw2) (x_cv X (lv := 6) (by omega) (by decide) cx_X1_aCup (lw_V q1240 q1242 qs40 q115 q1243)) xc1 hu1 rfl hl.1 rfl (Nat.le_of_ble_eq_true rfl) dX1_pause_2) (fun t1 t2 u E9 ce q9 H1 locs1 hu ht => xt_pass X hlk hout (tc_r hu hm) ht (x_fits (lv2 := 0) X hw t1 t2).1 (x_fits (lv2 := 0) X hw t1 t2).2) (fun r3 hr3 H locs cells slots hw hS => ?_)
    replace hm := tc_l hr3 hm
    refine lv_iconst (v := (-1)) hx hb dX1_pause_5 (by decide) ?_
    refine lv_istore_n (lv' := [(2, .int (-1)), (0, .ref x0), (1, .int x1)]) hx hb dX1_pause_6 rfl hl (by decide) rfl (fun ls hl => ?_)
    refine lv_aload_n hx hb dX1_pause_7 rfl (lv_at hl 1 rfl) ?_
    obtain ⟨v4, hv4, hm⟩ := ob_s hm
    refine xr_val X hw xc1 in_X1 3 (by decide) q282 (f_obj_s hv4) dX1_pause_8 ?_
    refine lv_aload_n hx hb dX1_pause_11 rfl (lv_at hl 1 rfl) ?_
    obtain ⟨v5, hv5, hm⟩ := ob_s hm
    refine xr_val X hw xc1 in_X1 2 (by decide) q281 (f_obj_s hv5) dX1_pause_12 ?_
    obtain ⟨u6, hu6, hm⟩ := ob_s hm
    obtain ⟨w7, hw7, hm⟩ := ob_s hm
    refine xr_retr hS (xr_runV X hw (met_X3_be N r3 v4 v5 w7 hw7) (x_cv X (lv := 0) (by omega) (by decide) cx_X3_be (lw_V q608 q354 q355 q120 q356)) xc2 hu6 rfl hl.1 rfl (Nat.le_of_ble_eq_true rfl) dX1_pause_15) (fun H locs cells slots hw hS => ?_)
    refine lv_pop hx hb dX1_pause_18 rfl ?_
    refine lv_iconst (v := 1) hx hb dX1_pause_19 (by decide) ?_
    refine lv_istore_n (lv' := [(3, .int 1), (2, .int (-1)), (0, .ref x0), (1, .int x1)]) hx hb dX1_pause_20 rfl hl (by decide) rfl (fun ls hl => ?_)
    exact wkX_X1_pause_21 X hr hlk hnm hlT hout hw0 N N w7.1 x0 x1 (-1) 1 H locs ls _ _ hm hw hS (lv_sub hl [2, 3, 1, 0] rfl)
  exact hg _ _ _ _ hw va_S.rf
/-! DripCups.giver -/
def kX_X1_giver_95 (g : XC) (N : Nat) (K35 : XS → Nat → Int32 → Nat → Int32 → Int64 → Int32 → Option ((XS × Int32) ⊕ XT)) (S : XS) (x0 : Nat) (x1 : Int32) (x3 : Nat) (x4 : Int32) (x5 : Int64) (x7 : Int32) : Option ((XS × Int32) ⊕ XT) :=
  K35 S x0 x1 x3 x4 x5 (x7 + 1)
theorem wkX_X1_giver_95 {p : Program} {l : Launch} {e : Env} {s : State} {m : MethodId} {args : Array Value} {below : List Frame} {meth : Method} {c : Code} {g : XC} {D : va_G} {A : Nat → Prop} {S0 : XS} {w : (XS × Int32) ⊕ XT} (X : xX g D A RX1 S0 p s m args c cX1_giver 10) (hr : meth.sig.returnType = (Option.some Jvm.ClassFile.FieldType.int)) (hlk : meth.locks = false) (hnm : meth.name = yX1_giver.name) (hlT : l.stackTraces = false) (hout : ∀ x ∈ c.exceptionTable.toList, False) (hw0 : xW g D A S0 s s.heap) (N : Nat) (K35 : XS → Nat → Int32 → Nat → Int32 → Int64 → Int32 → Option ((XS × Int32) ⊕ XT))
    (hK35 : ∀ (S : XS) (x0 : Nat) (x1 : Int32) (x3 : Nat) (x4 : Int32) (x5 : Int64) (x7 : Int32) (H : Heap) (locs : List Loc) (ls : Array Slot) (cells slots : Nat), K35 S x0 x1 x3 x4 x5 x7 = some w → xW g D A S s H → va_S A s.heap H locs → lv_has ls 10 [(0, .ref x0), (1, .int x1), (3, .ref x3), (4, .int x4), (5, .long x5), (7, .int x7)] → W p l e (xRm g S0 7) s m args below meth c H locs cells slots (vx_MQ below (xTi g D A w) (xTx g D A w) args s (g.2.1 - xTop S0) (g.2.2.1 - xSl S0) A) (F0 m 35 ls [])) :
    ∀ (S : XS) (x0 : Nat) (x1 : Int32) (x3 : Nat) (x4 : Int32) (x5 : Int64) (x7 : Int32) (H : Heap) (locs : List Loc) (ls : Array Slot) (cells slots : Nat), kX_X1_giver_95 g N K35 S x0 x1 x3 x4 x5 x7 = some w → xW g D A S s H → va_S A s.heap H locs → lv_has ls 10 [(0, .ref x0), (1, .int x1), (3, .ref x3), (4, .int x4), (5, .long x5), (7, .int x7)] → W p l e (xRm g S0 7) s m args below meth c H locs cells slots (vx_MQ below (xTi g D A w) (xTx g D A w) args s (g.2.1 - xTop S0) (g.2.2.1 - xSl S0) A) (F0 m 95 ls []) := by
  obtain ⟨hx, hb, -, hown, hts, -⟩ := id X
  intro S x0 x1 x3 x4 x5 x7 H locs ls cells slots hm hw hS hl
  unfold kX_X1_giver_95 at hm
  refine lv_iinc (v := (x7 + 1)) (lv' := [(7, .int (x7 + 1)), (0, .ref x0), (1, .int x1), (3, .ref x3), (4, .int x4), (5, .long x5)]) hx hb dX1_giver_95 hl (k := 5) rfl rfl (by decide) rfl (fun ls hl => ?_)
  refine lv_goto (tgt := 35) hx hb dX1_giver_98 (by decide) ?_
  exact hK35 S x0 x1 x3 x4 x5 (x7 + 1) H locs ls _ _ hm hw hS (lv_sub hl [1, 2, 3, 4, 5, 0] rfl)
def kX_X1_giver_74 (g : XC) (N : Nat) (K35 : XS → Nat → Int32 → Nat → Int32 → Int64 → Int32 → Option ((XS × Int32) ⊕ XT)) (S : XS) (x0 : Nat) (x1 : Int32) (x3 : Nat) (x4 : Int32) (x5 : Int64) (x7 : Int32) (t0 : Int64) : Option ((XS × Int32) ⊕ XT) :=
  if (0 : Int32) < (lg_cmp t0 x5) then
    kX_X1_giver_95 g N K35 S x0 x1 x3 x7 t0 x7
  else
    kX_X1_giver_95 g N K35 S x0 x1 x3 x4 x5 x7
theorem wkX_X1_giver_74 {p : Program} {l : Launch} {e : Env} {s : State} {m : MethodId} {args : Array Value} {below : List Frame} {meth : Method} {c : Code} {g : XC} {D : va_G} {A : Nat → Prop} {S0 : XS} {w : (XS × Int32) ⊕ XT} (X : xX g D A RX1 S0 p s m args c cX1_giver 10) (hr : meth.sig.returnType = (Option.some Jvm.ClassFile.FieldType.int)) (hlk : meth.locks = false) (hnm : meth.name = yX1_giver.name) (hlT : l.stackTraces = false) (hout : ∀ x ∈ c.exceptionTable.toList, False) (hw0 : xW g D A S0 s s.heap) (N : Nat) (K35 : XS → Nat → Int32 → Nat → Int32 → Int64 → Int32 → Option ((XS × Int32) ⊕ XT))
    (hK35 : ∀ (S : XS) (x0 : Nat) (x1 : Int32) (x3 : Nat) (x4 : Int32) (x5 : Int64) (x7 : Int32) (H : Heap) (locs : List Loc) (ls : Array Slot) (cells slots : Nat), K35 S x0 x1 x3 x4 x5 x7 = some w → xW g D A S s H → va_S A s.heap H locs → lv_has ls 10 [(0, .ref x0), (1, .int x1), (3, .ref x3), (4, .int x4), (5, .long x5), (7, .int x7)] → W p l e (xRm g S0 7) s m args below meth c H locs cells slots (vx_MQ below (xTi g D A w) (xTx g D A w) args s (g.2.1 - xTop S0) (g.2.2.1 - xSl S0) A) (F0 m 35 ls [])) :
    ∀ (S : XS) (x0 : Nat) (x1 : Int32) (x3 : Nat) (x4 : Int32) (x5 : Int64) (x7 : Int32) (t0 : Int64) (H : Heap) (locs : List Loc) (ls : Array Slot) (cells slots : Nat), kX_X1_giver_74 g N K35 S x0 x1 x3 x4 x5 x7 t0 = some w → xW g D A S s H → va_S A s.heap H locs → lv_has ls 10 [(0, .ref x0), (1, .int x1), (3, .ref x3), (4, .int x4), (5, .long x5), (7, .int x7)] → W p l e (xRm g S0 7) s m args below meth c H locs cells slots (vx_MQ below (xTi g D A w) (xTx g D A w) args s (g.2.1 - xTop S0) (g.2.2.1 - xSl S0) A) (F0 m 74 ls [.long t0]) := by
  obtain ⟨hx, hb, -, hown, hts, -⟩ := id X
  intro S x0 x1 x3 x4 x5 x7 t0 H locs ls cells slots hm hw hS hl
  unfold kX_X1_giver_74 at hm
  refine lv_lstore (lv' := [(8, .long t0), (0, .ref x0), (1, .int x1), (3, .ref x3), (4, .int x4), (5, .long x5), (7, .int x7)]) hx hb dX1_giver_74 hl (by decide) rfl (fun ls hl => ?_)
  refine lv_lload hx hb dX1_giver_76 (lv_at hl 0 rfl) ?_
  refine lv_lload hx hb dX1_giver_78 (lv_at hl 5 rfl) ?_
  refine W.lcmp hx hb dX1_giver_80 ?_
  refine lv_if_gt (tgt := 87) hx hb dX1_giver_81 (by decide) (fun c1 => ?_) (fun c1 => ?_)
  · replace hm := if_t c1 hm
    refine lv_iload hx hb dX1_giver_87 (lv_at hl 6 rfl) ?_
    refine lv_istore (lv' := [(4, .int x7), (8, .long t0), (0, .ref x0), (1, .int x1), (3, .ref x3), (5, .long x5), (7, .int x7)]) hx hb dX1_giver_89 hl (by decide) rfl (fun ls hl => ?_)
    refine lv_lload hx hb dX1_giver_91 (lv_at hl 1 rfl) ?_
    refine lv_lstore (lv' := [(5, .long t0), (4, .int x7), (8, .long t0), (0, .ref x0), (1, .int x1), (3, .ref x3), (7, .int x7)]) hx hb dX1_giver_93 hl (by decide) rfl (fun ls hl => ?_)
    exact wkX_X1_giver_95 X hr hlk hnm hlT hout hw0 N K35 hK35 S x0 x1 x3 x7 t0 x7 H locs ls _ _ hm hw hS (lv_sub hl [3, 4, 5, 1, 0, 6] rfl)
  · replace hm := if_f c1 hm
    refine lv_goto (tgt := 95) hx hb dX1_giver_84 (by decide) ?_
    exact wkX_X1_giver_95 X hr hlk hnm hlT hout hw0 N K35 hK35 S x0 x1 x3 x4 x5 x7 H locs ls _ _ hm hw hS (lv_sub hl [1, 2, 3, 4, 5, 6] rfl)
def kX_X1_giver_35 (g : XC) (N : Nat) : Nat → XS → Nat → Int32 → Nat → Int32 → Int64 → Int32 → Option ((XS × Int32) ⊕ XT)
  | 0, _, _, _, _, _, _, _ => none
  | n + 1, S, x0, x1, x3, x4, x5, x7 =>
    if x1 ≤ x7 then
      some (.inl (S, x4))
    else
      (f_cls S 1 x0).bind fun u2 =>
      (kX_X1_straight g N S x0 x7).bind fun w3 =>
      (kX_X1_isOf g N w3.2 x1).bind fun w4 =>
      if w4 = 0 then
        kX_X1_giver_74 g N (kX_X1_giver_35 g N n) w3.1 x0 x1 x3 x4 x5 x7 (-1)
      else
        (a_long w3.1 x3 (9 + x7)).bind fun v6 =>
        (f_cls w3.1 1 x0).bind fun u7 =>
        (kX_X1_gives g N w3.1 x0 x7 x1 v6).bind fun w8 =>
        kX_X1_giver_74 g N (kX_X1_giver_35 g N n) w8.1 x0 x1 x3 x4 x5 x7 w8.2
theorem wkX_X1_giver_35 {p : Program} {l : Launch} {e : Env} {s : State} {m : MethodId} {args : Array Value} {below : List Frame} {meth : Method} {c : Code} {g : XC} {D : va_G} {A : Nat → Prop} {S0 : XS} {w : (XS × Int32) ⊕ XT} (X : xX g D A RX1 S0 p s m args c cX1_giver 10) (hr : meth.sig.returnType = (Option.some Jvm.ClassFile.FieldType.int)) (hlk : meth.locks = false) (hnm : meth.name = yX1_giver.name) (hlT : l.stackTraces = false) (hout : ∀ x ∈ c.exceptionTable.toList, False) (hw0 : xW g D A S0 s s.heap) (N : Nat) :
    ∀ (n : Nat) (S : XS) (x0 : Nat) (x1 : Int32) (x3 : Nat) (x4 : Int32) (x5 : Int64) (x7 : Int32) (H : Heap) (locs : List Loc) (ls : Array Slot) (cells slots : Nat), kX_X1_giver_35 g N n S x0 x1 x3 x4 x5 x7 = some w → xW g D A S s H → va_S A s.heap H locs → lv_has ls 10 [(0, .ref x0), (1, .int x1), (3, .ref x3), (4, .int x4), (5, .long x5), (7, .int x7)] → W p l e (xRm g S0 7) s m args below meth c H locs cells slots (vx_MQ below (xTi g D A w) (xTx g D A w) args s (g.2.1 - xTop S0) (g.2.2.1 - xSl S0) A) (F0 m 35 ls []) := by
  obtain ⟨hx, hb, -, hown, hts, -⟩ := id X
  intro n
  induction n with
  | zero =>
    intro S x0 x1 x3 x4 x5 x7 H locs ls cells slots hm
    cases hm
  | succ n ih =>
    intro S x0 x1 x3 x4 x5 x7 H locs ls cells slots hm hw hS hl
    rw [kX_X1_giver_35] at hm
    refine lv_iload hx hb dX1_giver_35 (lv_at hl 5 rfl) ?_
    refine lv_iload_n hx hb dX1_giver_37 rfl (lv_at hl 1 rfl) ?_
    refine lv_icmp_ge (tgt := 101) hx hb dX1_giver_38 (by decide) (fun c1 => ?_) (fun c1 => ?_)
    · replace hm := if_t c1 hm
      refine lv_iload hx hb dX1_giver_101 (lv_at hl 3 rfl) ?_
      obtain rfl := Option.some.inj hm
      exact xt_iret (v := x4) X hr hlk hw hS rfl dX1_giver_103
    · replace hm := if_f c1 hm
      refine lv_aload_n hx hb dX1_giver_41 rfl (lv_at hl 0 rfl) ?_
      refine lv_iload hx hb dX1_giver_42 (lv_at hl 5 rfl) ?_
      obtain ⟨u2, hu2, hm⟩ := ob_s hm
      obtain ⟨w3, hw3, hm⟩ := ob_s hm
      refine xr_reti hS (xr_runV X hw (met_X1_straight N S x0 x7 w3 hw3) (x_cv X (lv := 1) (by omega) (by decide) cx_X1_straight (lw_V q1197 q1199 qs38 q115 q1200)) xc1 hu2 rfl hl.1 rfl (Nat.le_of_ble_eq_true rfl) dX1_giver_44) (fun H locs cells slots hw hS => ?_)
      refine lv_iload_n hx hb dX1_giver_47 rfl (lv_at hl 1 rfl) ?_
      obtain ⟨w4, hw4, hm⟩ := ob_s hm
      refine xr_reti hS (xr_runS X hw (met_X1_isOf N w3.1 w3.2 x1 w4 hw4) (x_cs X (lv := 0) (by omega) (by decide) cx_X1_isOf (lw_S q1202 q477 q115 q478)) rfl hl.1 rfl (Nat.le_of_ble_eq_true rfl) dX1_giver_48) (fun H locs cells slots hw hS => ?_)
      refine lv_if_eq (tgt := 71) hx hb dX1_giver_51 (by decide) (fun c5 => ?_) (fun c5 => ?_)
      · replace hm := if_t c5 hm
        refine lv_ldc2 (v := (-1)) hx hb hown (hts _ q1536) dX1_giver_71 ?_
        exact wkX_X1_giver_74 X hr hlk hnm hlT hout hw0 N (kX_X1_giver_35 g N n) ih w3.1 x0 x1 x3 x4 x5 x7 (-1) H locs ls _ _ hm hw hS (lv_sub hl [0, 1, 2, 3, 4, 5] rfl)
      · replace hm := if_f c5 hm
        refine lv_aload_n hx hb dX1_giver_54 rfl (lv_at hl 0 rfl) ?_
        refine lv_iload hx hb dX1_giver_55 (lv_at hl 5 rfl) ?_
        refine lv_iload_n hx hb dX1_giver_57 rfl (lv_at hl 1 rfl) ?_
        refine lv_aload_n hx hb dX1_giver_58 rfl (lv_at hl 2 rfl) ?_
        refine lv_bipush (v := 9) hx hb dX1_giver_59 (by decide) ?_
        refine lv_iload hx hb dX1_giver_61 (lv_at hl 5 rfl) ?_
        refine lv_iadd hx hb dX1_giver_63 ?_
        obtain ⟨v6, hv6, hm⟩ := ob_s hm
        refine xr_lald X hw hv6 dX1_giver_64 ?_
        obtain ⟨u7, hu7, hm⟩ := ob_s hm
        obtain ⟨w8, hw8, hm⟩ := ob_s hm
        refine xr_retl hS (xr_runV X hw (met_X1_gives N w3.1 x0 x7 x1 v6 w8 hw8) (x_cv X (lv := 1) (by omega) (by decide) cx_X1_gives (lw_V q1537 q1539 qs53 q115 q1540)) xc1 hu7 rfl hl.1 rfl (Nat.le_of_ble_eq_true rfl) dX1_giver_65) (fun H locs cells slots hw hS => ?_)
        refine lv_goto (tgt := 74) hx hb dX1_giver_68 (by decide) ?_
        exact wkX_X1_giver_74 X hr hlk hnm hlT hout hw0 N (kX_X1_giver_35 g N n) ih w8.1 x0 x1 x3 x4 x5 x7 w8.2 H locs ls _ _ hm hw hS (lv_sub hl [0, 1, 2, 3, 4, 5] rfl)
def kX_X1_giver (g : XC) (N : Nat) (S : XS) (x0 : Nat) (x1 : Int32) (x2 : Int32) : Option ((XS × Int32) ⊕ XT) :=
  (f_cls S 1 x0).bind fun u1 =>
  tbind (kX_X1_aCup g N S x0 x1) fun r3 =>
  (kX_X1_in g N x2 0 1000000).bind fun w4 =>
  tbind (kX_X1_right g N r3 w4) fun r6 =>
  (f_obj r6 1 x0 2).bind fun v7 =>
  (f_cls r6 2 v7).bind fun u8 =>
  (kX_X3_flows g N r6 v7 x2).bind fun w9 =>
  kX_X1_giver_35 g N N w9.1 x0 x1 w9.2 (-1) (-1) 0
theorem cx_X1_giver : yX1_giver.cls = RX1 ∧ yX1_giver.cls ≠ "java/lang/invoke/MethodHandle" ∧ yX1_giver.cls ≠ "java/lang/invoke/VarHandle" ∧ (parseMethodDescriptor yX1_giver.desc).map (fun d => d.parameters.length) = some 2 := by decide +kernel
theorem met_X1_giver {l : Launch} {g : XC} {D : va_G} {A : Nat → Prop} (hlT : l.stackTraces = false) (N : Nat) (S : XS) (x0 : Nat) (x1 : Int32) (x2 : Int32) (w : (XS × Int32) ⊕ XT) (hm : kX_X1_giver g N S x0 x1 x2 = some w) : vx_Met l yX1_giver (ws_ yX1_giver cX1_giver 10 (Option.some Jvm.ClassFile.FieldType.int)) (xRm g S 7) (xPre g D A [.ref x0, .int x1, .int x2] S) (xTi g D A w) (xTx g D A w) (g.2.1 - xTop S) (g.2.2.1 - xSl S) A := by
  refine x_startT (own := RX1) (by decide +kernel) rfl (Nat.le_of_ble_eq_true rfl) (fun p e s m below meth c ls X hr hlk hnm hout hw hl => ?_)
  have hw0 := hw
  obtain ⟨hx, hb, -, hown, hts, -⟩ := id X
  have hl : lv_has ls 10 [(0, .ref x0), (1, .int x1), (2, .int x2)] := hl
  have hg : ∀ (H : Heap) (locs : List Loc) (cells slots : Nat), xW g D A S s H → va_S A s.heap H locs → W p l e (xRm g S 7) s m ([.ref x0, .int x1, .int x2] : List Value).toArray below meth c H locs cells slots (vx_MQ below (xTi g D A w) (xTx g D A w) ([.ref x0, .int x1, .int x2] : List Value).toArray s (g.2.1 - xTop S) (g.2.2.1 - xSl S) A) (F0 m 0 ls []) := by
    intro H locs cells slots hw hS
    unfold kX_X1_giver at hm
    refine lv_aload_n hx hb dX1_giver_0 rfl (lv_at hl 0 rfl) ?_
    refine lv_iload_n hx hb dX1_giver_1 rfl (lv_at hl 1 rfl) ?_
    obtain ⟨u1, hu1, hm⟩ := ob_s hm
    obtain ⟨w2, hw2, hm⟩ := tb_s hm
    refine xt_retv hS (xt_runV X hw (met_X1_aCup hlT N S x0 x1 w2 hw2) (x_cv X (lv := 6) (by omega) (by decide) cx_X1_aCup (lw_V q1240 q1242 qs40 q115 q1243)) xc1 hu1 rfl hl.1 rfl (Nat.le_of_ble_eq_true rfl) dX1_giver_2) (fun t1 t2 u E9 ce q9 H1 locs1 hu ht => xt_pass X hlk hout (tc_r hu hm) ht (x_fits (lv2 := 0) X hw t1 t2).1 (x_fits (lv2 := 0) X hw t1 t2).2) (fun r3 hr3 H locs cells slots hw hS => ?_)
    replace hm := tc_l hr3 hm
    refine lv_iload_n hx hb dX1_giver_5 rfl (lv_at hl 2 rfl) ?_
    refine lv_iconst (v := 0) hx hb dX1_giver_6 (by decide) ?_
    refine lv_ldc (v := 1000000) hx hb hown (hts _ q1366) dX1_giver_7 ?_
    obtain ⟨w4, hw4, hm⟩ := ob_s hm
    refine xr_reti hS (xr_runS X hw (met_X1_in N r3 x2 0 1000000 w4 hw4) (x_cs X (lv := 0) (by omega) (by decide) cx_X1_in (lw_S q336 q337 q115 q338)) rfl hl.1 rfl (Nat.le_of_ble_eq_true rfl) dX1_giver_9) (fun H locs cells slots hw hS => ?_)
    obtain ⟨w5, hw5, hm⟩ := tb_s hm
    refine xt_retv hS (xt_runS X hw (met_X1_right hlT N r3 w4 w5 hw5) (x_cs X (lv := 5) (by omega) (by decide) cx_X1_right (lw_S q655 q656 q115 q657)) rfl hl.1 rfl (Nat.le_of_ble_eq_true rfl) dX1_giver_12) (fun t1 t2 u E9 ce q9 H1 locs1 hu ht => xt_pass X hlk hout (tc_r hu hm) ht (x_fits (lv2 := 0) X hw t1 t2).1 (x_fits (lv2 := 0) X hw t1 t2).2) (fun r6 hr6 H locs cells slots hw hS => ?_)
    replace hm := tc_l hr6 hm
    refine lv_aload_n hx hb dX1_giver_15 rfl (lv_at hl 0 rfl) ?_
    obtain ⟨v7, hv7, hm⟩ := ob_s hm
    refine xr_val X hw xc1 in_X1 2 (by decide) q281 (f_obj_s hv7) dX1_giver_16 ?_
    refine lv_iload_n hx hb dX1_giver_19 rfl (lv_at hl 2 rfl) ?_
    obtain ⟨u8, hu8, hm⟩ := ob_s hm
    obtain ⟨w9, hw9, hm⟩ := ob_s hm
    refine xr_retr hS (xr_runV X hw (met_X3_flows N r6 v7 x2 w9 hw9) (x_cv X (lv := 3) (by omega) (by decide) cx_X3_flows (lw_V q1367 q1368 q1369 q120 q1370)) xc2 hu8 rfl hl.1 rfl (Nat.le_of_ble_eq_true rfl) dX1_giver_20) (fun H locs cells slots hw hS => ?_)
    refine lv_astore_n (lv' := [(3, .ref w9.2), (0, .ref x0), (1, .int x1), (2, .int x2)]) hx hb dX1_giver_23 rfl hl (by decide) rfl (fun ls hl => ?_)
    refine lv_iconst (v := (-1)) hx hb dX1_giver_24 (by decide) ?_
    refine lv_istore (lv' := [(4, .int (-1)), (3, .ref w9.2), (0, .ref x0), (1, .int x1), (2, .int x2)]) hx hb dX1_giver_25 hl (by decide) rfl (fun ls hl => ?_)
    refine lv_ldc2 (v := (-1)) hx hb hown (hts _ q1536) dX1_giver_27 ?_
    refine lv_lstore (lv' := [(5, .long (-1)), (4, .int (-1)), (3, .ref w9.2), (0, .ref x0), (1, .int x1), (2, .int x2)]) hx hb dX1_giver_30 hl (by decide) rfl (fun ls hl => ?_)
    refine lv_iconst (v := 0) hx hb dX1_giver_32 (by decide) ?_
    refine lv_istore (lv' := [(7, .int 0), (5, .long (-1)), (4, .int (-1)), (3, .ref w9.2), (0, .ref x0), (1, .int x1), (2, .int x2)]) hx hb dX1_giver_33 hl (by decide) rfl (fun ls hl => ?_)
    exact wkX_X1_giver_35 X hr hlk hnm hlT hout hw0 N N w9.1 x0 x1 w9.2 (-1) (-1) 0 H locs ls _ _ hm hw hS (lv_sub hl [4, 5, 3, 2, 1, 0] rfl)
  exact hg _ _ _ _ hw va_S.rf
/-! DripCups.toPour -/
def kX_X1_toPour_17 (g : XC) (N : Nat) : Nat → XS → Nat → Int32 → Int32 → Int32 → Option ((XS × Int32) ⊕ XT)
  | 0, _, _, _, _, _ => none
  | n + 1, S, x0, x1, x2, x3 =>
    if (50 : Int32) < x3 then
      some (.inl (S, (-1)))
    else
      (f_obj S 1 x0 3).bind fun v2 =>
      (f_obj S 1 x0 2).bind fun v3 =>
      (f_cls S 2 v2).bind fun u4 =>
      (kX_X3_be g N S v2 v3).bind fun w5 =>
      (f_cls w5.1 2 w5.2).bind fun u6 =>
      (kX_X3_pour g N w5.1 w5.2 x1 x3).bind fun w7 =>
      (f_obj w7.1 1 x0 3).bind fun v8 =>
      (f_cls w7.1 2 v8).bind fun u9 =>
      (kX_X3_after g N w7.1 v8 x2).bind fun w10 =>
      (f_int w10.1 2 w10.2 13).bind fun v11 =>
      (kX_X1_isOf g N v11 x1).bind fun w12 =>
      if w12 = 0 then
        kX_X1_toPour_17 g N n w10.1 x0 x1 x2 (x3 + 1)
      else
        some (.inl (w10.1, x3))
theorem wkX_X1_toPour_17 {p : Program} {l : Launch} {e : Env} {s : State} {m : MethodId} {args : Array Value} {below : List Frame} {meth : Method} {c : Code} {g : XC} {D : va_G} {A : Nat → Prop} {S0 : XS} {w : (XS × Int32) ⊕ XT} (X : xX g D A RX1 S0 p s m args c cX1_toPour 4) (hr : meth.sig.returnType = (Option.some Jvm.ClassFile.FieldType.int)) (hlk : meth.locks = false) (hnm : meth.name = yX1_toPour.name) (hlT : l.stackTraces = false) (hout : ∀ x ∈ c.exceptionTable.toList, False) (hw0 : xW g D A S0 s s.heap) (N : Nat) :
    ∀ (n : Nat) (S : XS) (x0 : Nat) (x1 : Int32) (x2 : Int32) (x3 : Int32) (H : Heap) (locs : List Loc) (ls : Array Slot) (cells slots : Nat), kX_X1_toPour_17 g N n S x0 x1 x2 x3 = some w → xW g D A S s H → va_S A s.heap H locs → lv_has ls 4 [(0, .ref x0), (1, .int x1), (2, .int x2), (3, .int x3)] → W p l e (xRm g S0 82) s m args below meth c H locs cells slots (vx_MQ below (xTi g D A w) (xTx g D A w) args s (g.2.1 - xTop S0) (g.2.2.1 - xSl S0) A) (F0 m 17 ls []) := by
  obtain ⟨hx, hb, -, hown, hts, -⟩ := id X
  intro n
  induction n with
  | zero =>
    intro S x0 x1 x2 x3 H locs ls cells slots hm
    cases hm
  | succ n ih =>
    intro S x0 x1 x2 x3 H locs ls cells slots hm hw hS hl
    rw [kX_X1_toPour_17] at hm
    refine lv_iload_n hx hb dX1_toPour_17 rfl (lv_at hl 3 rfl) ?_
    refine lv_bipush (v := 50) hx hb dX1_toPour_18 (by decide) ?_
    refine lv_icmp_gt (tgt := 66) hx hb dX1_toPour_20 (by decide) (fun c1 => ?_) (fun c1 => ?_)
    · replace hm := if_t c1 hm
      refine lv_iconst (v := (-1)) hx hb dX1_toPour_66 (by decide) ?_
      obtain rfl := Option.some.inj hm
      exact xt_iret (v := (-1)) X hr hlk hw hS rfl dX1_toPour_67
    · replace hm := if_f c1 hm
      refine lv_aload_n hx hb dX1_toPour_23 rfl (lv_at hl 0 rfl) ?_
      obtain ⟨v2, hv2, hm⟩ := ob_s hm
      refine xr_val X hw xc1 in_X1 3 (by decide) q282 (f_obj_s hv2) dX1_toPour_24 ?_
      refine lv_aload_n hx hb dX1_toPour_27 rfl (lv_at hl 0 rfl) ?_
      obtain ⟨v3, hv3, hm⟩ := ob_s hm
      refine xr_val X hw xc1 in_X1 2 (by decide) q281 (f_obj_s hv3) dX1_toPour_28 ?_
      obtain ⟨u4, hu4, hm⟩ := ob_s hm
      obtain ⟨w5, hw5, hm⟩ := ob_s hm
      refine xr_retr hS (xr_runV X hw (met_X3_be N S v2 v3 w5 hw5) (x_cv X (lv := 0) (by omega) (by decide) cx_X3_be (lw_V q608 q354 q355 q120 q356)) xc2 hu4 rfl hl.1 rfl (Nat.le_of_ble_eq_true rfl) dX1_toPour_31) (fun H locs cells slots hw hS => ?_)
      refine lv_iload_n hx hb dX1_toPour_34 rfl (lv_at hl 1 rfl) ?_
      refine lv_iload_n hx hb dX1_toPour_35 rfl (lv_at hl 3 rfl) ?_
      obtain ⟨u6, hu6, hm⟩ := ob_s hm
      obtain ⟨w7, hw7, hm⟩ := ob_s hm
      refine xr_reti hS (xr_runV X hw (met_X3_pour N w5.1 w5.2 x1 x3 w7 hw7) (x_cv X (lv := 2) (by omega) (by decide) cx_X3_pour (lw_V q1284 q1285 q1286 q120 q1287)) xc2 hu6 rfl hl.1 rfl (Nat.le_of_ble_eq_true rfl) dX1_toPour_36) (fun H locs cells slots hw hS => ?_)
      refine lv_pop hx hb dX1_toPour_39 rfl ?_
      refine lv_aload_n hx hb dX1_toPour_40 rfl (lv_at hl 0 rfl) ?_
      obtain ⟨v8, hv8, hm⟩ := ob_s hm
      refine xr_val X hw xc1 in_X1 3 (by decide) q282 (f_obj_s hv8) dX1_toPour_41 ?_
      refine lv_iload_n hx hb dX1_toPour_44 rfl (lv_at hl 2 rfl) ?_
      obtain ⟨u9, hu9, hm⟩ := ob_s hm
      obtain ⟨w10, hw10, hm⟩ := ob_s hm
      refine xr_retr hS (xr_runV X hw (met_X3_after N w7.1 v8 x2 w10 hw10) (x_cv X (lv := 81) (by omega) (by decide) cx_X3_after (lw_V q454 q455 q456 q120 q457)) xc2 hu9 rfl hl.1 rfl (Nat.le_of_ble_eq_true rfl) dX1_toPour_45) (fun H locs cells slots hw hS => ?_)
      obtain ⟨v11, hv11, hm⟩ := ob_s hm
      refine xr_valN X hw xc2 in_X3 13 (by decide) q238 (f_int_s hv11) dX1_toPour_48 ?_
      refine lv_iload_n hx hb dX1_toPour_51 rfl (lv_at hl 1 rfl) ?_
      obtain ⟨w12, hw12, hm⟩ := ob_s hm
      refine xr_reti hS (xr_runS X hw (met_X1_isOf N w10.1 v11 x1 w12 hw12) (x_cs X (lv := 0) (by omega) (by decide) cx_X1_isOf (lw_S q1202 q477 q115 q478)) rfl hl.1 rfl (Nat.le_of_ble_eq_true rfl) dX1_toPour_52) (fun H locs cells slots hw hS => ?_)
      refine lv_if_eq (tgt := 60) hx hb dX1_toPour_55 (by decide) (fun c13 => ?_) (fun c13 => ?_)
      · replace hm := if_t c13 hm
        refine lv_iinc (v := (x3 + 1)) (lv' := [(3, .int (x3 + 1)), (0, .ref x0), (1, .int x1), (2, .int x2)]) hx hb dX1_toPour_60 hl (k := 3) rfl rfl (by decide) rfl (fun ls hl => ?_)
        refine lv_goto (tgt := 17) hx hb dX1_toPour_63 (by decide) ?_
        exact ih w10.1 x0 x1 x2 (x3 + 1) H locs ls _ _ hm hw hS (lv_sub hl [1, 2, 3, 0] rfl)
      · replace hm := if_f c13 hm
        refine lv_iload_n hx hb dX1_toPour_58 rfl (lv_at hl 3 rfl) ?_
        obtain rfl := Option.some.inj hm
        exact xt_iret (v := x3) X hr hlk hw hS rfl dX1_toPour_59
def kX_X1_toPour (g : XC) (N : Nat) (S : XS) (x0 : Nat) (x1 : Int32) (x2 : Int32) : Option ((XS × Int32) ⊕ XT) :=
  (f_cls S 1 x0).bind fun u1 =>
  tbind (kX_X1_aCup g N S x0 x1) fun r3 =>
  (kX_X1_in g N x2 1 60).bind fun w4 =>
  tbind (kX_X1_right g N r3 w4) fun r6 =>
  kX_X1_toPour_17 g N N r6 x0 x1 x2 0
theorem cx_X1_toPour : yX1_toPour.cls = RX1 ∧ yX1_toPour.cls ≠ "java/lang/invoke/MethodHandle" ∧ yX1_toPour.cls ≠ "java/lang/invoke/VarHandle" ∧ (parseMethodDescriptor yX1_toPour.desc).map (fun d => d.parameters.length) = some 2 := by decide +kernel
theorem met_X1_toPour {l : Launch} {g : XC} {D : va_G} {A : Nat → Prop} (hlT : l.stackTraces = false) (N : Nat) (S : XS) (x0 : Nat) (x1 : Int32) (x2 : Int32) (w : (XS × Int32) ⊕ XT) (hm : kX_X1_toPour g N S x0 x1 x2 = some w) : vx_Met l yX1_toPour (ws_ yX1_toPour cX1_toPour 4 (Option.some Jvm.ClassFile.FieldType.int)) (xRm g S 82) (xPre g D A [.ref x0, .int x1, .int x2] S) (xTi g D A w) (xTx g D A w) (g.2.1 - xTop S) (g.2.2.1 - xSl S) A := by
  refine x_startT (own := RX1) (by decide +kernel) rfl (Nat.le_of_ble_eq_true rfl) (fun p e s m below meth c ls X hr hlk hnm hout hw hl => ?_)
  have hw0 := hw
  obtain ⟨hx, hb, -, hown, hts, -⟩ := id X
  have hl : lv_has ls 4 [(0, .ref x0), (1, .int x1), (2, .int x2)] := hl
  have hg : ∀ (H : Heap) (locs : List Loc) (cells slots : Nat), xW g D A S s H → va_S A s.heap H locs → W p l e (xRm g S 82) s m ([.ref x0, .int x1, .int x2] : List Value).toArray below meth c H locs cells slots (vx_MQ below (xTi g D A w) (xTx g D A w) ([.ref x0, .int x1, .int x2] : List Value).toArray s (g.2.1 - xTop S) (g.2.2.1 - xSl S) A) (F0 m 0 ls []) := by
    intro H locs cells slots hw hS
    unfold kX_X1_toPour at hm
    refine lv_aload_n hx hb dX1_toPour_0 rfl (lv_at hl 0 rfl) ?_
    refine lv_iload_n hx hb dX1_toPour_1 rfl (lv_at hl 1 rfl) ?_
    obtain ⟨u1, hu1, hm⟩ := ob_s hm
    obtain ⟨w2, hw2, hm⟩ := tb_s hm
    refine xt_retv hS (xt_runV X hw (met_X1_aCup hlT N S x0 x1 w2 hw2) (x_cv X (lv := 6) (by omega) (by decide) cx_X1_aCup (lw_V q1240 q1242 qs40 q115 q1243)) xc1 hu1 rfl hl.1 rfl (Nat.le_of_ble_eq_true rfl) dX1_toPour_2) (fun t1 t2 u E9 ce q9 H1 locs1 hu ht => xt_pass X hlk hout (tc_r hu hm) ht (x_fits (lv2 := 0) X hw t1 t2).1 (x_fits (lv2 := 0) X hw t1 t2).2) (fun r3 hr3 H locs cells slots hw hS => ?_)
    replace hm := tc_l hr3 hm
    refine lv_iload_n hx hb dX1_toPour_5 rfl (lv_at hl 2 rfl) ?_
    refine lv_iconst (v := 1) hx hb dX1_toPour_6 (by decide) ?_
    refine lv_bipush (v := 60) hx hb dX1_toPour_7 (by decide) ?_
    obtain ⟨w4, hw4, hm⟩ := ob_s hm
    refine xr_reti hS (xr_runS X hw (met_X1_in N r3 x2 1 60 w4 hw4) (x_cs X (lv := 0) (by omega) (by decide) cx_X1_in (lw_S q336 q337 q115 q338)) rfl hl.1 rfl (Nat.le_of_ble_eq_true rfl) dX1_toPour_9) (fun H locs cells slots hw hS => ?_)
    obtain ⟨w5, hw5, hm⟩ := tb_s hm
    refine xt_retv hS (xt_runS X hw (met_X1_right hlT N r3 w4 w5 hw5) (x_cs X (lv := 5) (by omega) (by decide) cx_X1_right (lw_S q655 q656 q115 q657)) rfl hl.1 rfl (Nat.le_of_ble_eq_true rfl) dX1_toPour_12) (fun t1 t2 u E9 ce q9 H1 locs1 hu ht => xt_pass X hlk hout (tc_r hu hm) ht (x_fits (lv2 := 0) X hw t1 t2).1 (x_fits (lv2 := 0) X hw t1 t2).2) (fun r6 hr6 H locs cells slots hw hS => ?_)
    replace hm := tc_l hr6 hm
    refine lv_iconst (v := 0) hx hb dX1_toPour_15 (by decide) ?_
    refine lv_istore_n (lv' := [(3, .int 0), (0, .ref x0), (1, .int x1), (2, .int x2)]) hx hb dX1_toPour_16 rfl hl (by decide) rfl (fun ls hl => ?_)
    exact wkX_X1_toPour_17 X hr hlk hnm hlT hout hw0 N N r6 x0 x1 x2 0 H locs ls _ _ hm hw hS (lv_sub hl [1, 2, 3, 0] rfl)
  exact hg _ _ _ _ hw va_S.rf
/-! DripCups.ways -/
def kX_X1_ways (g : XC) (N : Nat) (S : XS) (x0 : Nat) (x1 : Int32) (x2 : Int32) : Option ((XS × Int32) ⊕ XT) :=
  (f_cls S 1 x0).bind fun u1 =>
  tbind (kX_X1_aCup g N S x0 x1) fun r3 =>
  (f_cls r3 1 x0).bind fun u4 =>
  tbind (kX_X1_aCup g N r3 x0 x2) fun r6 =>
  (f_cls r6 1 x0).bind fun u7 =>
  (kD_X1_waysTo g N r6 x0 x1 x2).bind fun w8 =>
  some (.inl (w8.1, w8.2))
theorem cx_X1_ways : yX1_ways.cls = RX1 ∧ yX1_ways.cls ≠ "java/lang/invoke/MethodHandle" ∧ yX1_ways.cls ≠ "java/lang/invoke/VarHandle" ∧ (parseMethodDescriptor yX1_ways.desc).map (fun d => d.parameters.length) = some 2 := by decide +kernel
theorem met_X1_ways {l : Launch} {g : XC} {D : va_G} {A : Nat → Prop} (hlT : l.stackTraces = false) (N : Nat) (S : XS) (x0 : Nat) (x1 : Int32) (x2 : Int32) (w : (XS × Int32) ⊕ XT) (hm : kX_X1_ways g N S x0 x1 x2 = some w) : vx_Met l yX1_ways (ws_ yX1_ways cX1_ways 3 (Option.some Jvm.ClassFile.FieldType.int)) (xRm g S 23) (xPre g D A [.ref x0, .int x1, .int x2] S) (xTi g D A w) (xTx g D A w) (g.2.1 - xTop S) (g.2.2.1 - xSl S) A := by
  refine x_startT (own := RX1) (by decide +kernel) rfl (Nat.le_of_ble_eq_true rfl) (fun p e s m below meth c ls X hr hlk hnm hout hw hl => ?_)
  have hw0 := hw
  obtain ⟨hx, hb, -, hown, hts, -⟩ := id X
  have hl : lv_has ls 3 [(0, .ref x0), (1, .int x1), (2, .int x2)] := hl
  have hg : ∀ (H : Heap) (locs : List Loc) (cells slots : Nat), xW g D A S s H → va_S A s.heap H locs → W p l e (xRm g S 23) s m ([.ref x0, .int x1, .int x2] : List Value).toArray below meth c H locs cells slots (vx_MQ below (xTi g D A w) (xTx g D A w) ([.ref x0, .int x1, .int x2] : List Value).toArray s (g.2.1 - xTop S) (g.2.2.1 - xSl S) A) (F0 m 0 ls []) := by
    intro H locs cells slots hw hS
    unfold kX_X1_ways at hm
    refine lv_aload_n hx hb dX1_ways_0 rfl (lv_at hl 0 rfl) ?_
    refine lv_iload_n hx hb dX1_ways_1 rfl (lv_at hl 1 rfl) ?_
    obtain ⟨u1, hu1, hm⟩ := ob_s hm
    obtain ⟨w2, hw2, hm⟩ := tb_s hm
    refine xt_retv hS (xt_runV X hw (met_X1_aCup hlT N S x0 x1 w2 hw2) (x_cv X (lv := 6) (by omega) (by decide) cx_X1_aCup (lw_V q1240 q1242 qs40 q115 q1243)) xc1 hu1 rfl hl.1 rfl (Nat.le_of_ble_eq_true rfl) dX1_ways_2) (fun t1 t2 u E9 ce q9 H1 locs1 hu ht => xt_pass X hlk hout (tc_r hu hm) ht (x_fits (lv2 := 0) X hw t1 t2).1 (x_fits (lv2 := 0) X hw t1 t2).2) (fun r3 hr3 H locs cells slots hw hS => ?_)
    replace hm := tc_l hr3 hm
    refine lv_aload_n hx hb dX1_ways_5 rfl (lv_at hl 0 rfl) ?_
    refine lv_iload_n hx hb dX1_ways_6 rfl (lv_at hl 2 rfl) ?_
    obtain ⟨u4, hu4, hm⟩ := ob_s hm
    obtain ⟨w5, hw5, hm⟩ := tb_s hm
    refine xt_retv hS (xt_runV X hw (met_X1_aCup hlT N r3 x0 x2 w5 hw5) (x_cv X (lv := 6) (by omega) (by decide) cx_X1_aCup (lw_V q1240 q1242 qs40 q115 q1243)) xc1 hu4 rfl hl.1 rfl (Nat.le_of_ble_eq_true rfl) dX1_ways_7) (fun t1 t2 u E9 ce q9 H1 locs1 hu ht => xt_pass X hlk hout (tc_r hu hm) ht (x_fits (lv2 := 0) X hw t1 t2).1 (x_fits (lv2 := 0) X hw t1 t2).2) (fun r6 hr6 H locs cells slots hw hS => ?_)
    replace hm := tc_l hr6 hm
    refine lv_aload_n hx hb dX1_ways_10 rfl (lv_at hl 0 rfl) ?_
    refine lv_iload_n hx hb dX1_ways_11 rfl (lv_at hl 1 rfl) ?_
    refine lv_iload_n hx hb dX1_ways_12 rfl (lv_at hl 2 rfl) ?_
    obtain ⟨u7, hu7, hm⟩ := ob_s hm
    obtain ⟨w8, hw8, hm⟩ := ob_s hm
    refine xr_reti hS (xr_runV X hw (metD_X1_waysTo N r6 x0 x1 x2 w8 hw8) (x_cv X (lv := 22) (by omega) (by decide) cx_X1_waysTo (lw_V q1556 q1558 qs54 q115 q1559)) xc1 hu7 rfl hl.1 rfl (Nat.le_of_ble_eq_true rfl) dX1_ways_13) (fun H locs cells slots hw hS => ?_)
    obtain rfl := Option.some.inj hm
    exact xt_iret (v := w8.2) X hr hlk hw hS rfl dX1_ways_16
  exact hg _ _ _ _ hw va_S.rf
/-! DripCups.chorus -/
def kX_X1_chorus_59 (g : XC) (N : Nat) (K33 : XS → Nat → Int32 → Int32 → Int32 → Int32 → Option ((XS × Int32) ⊕ XT)) (S : XS) (x0 : Nat) (x1 : Int32) (x2 : Int32) (x3 : Int32) (x4 : Int32) : Option ((XS × Int32) ⊕ XT) :=
  K33 S x0 x1 x2 x3 (x4 + 1)
theorem wkX_X1_chorus_59 {p : Program} {l : Launch} {e : Env} {s : State} {m : MethodId} {args : Array Value} {below : List Frame} {meth : Method} {c : Code} {g : XC} {D : va_G} {A : Nat → Prop} {S0 : XS} {w : (XS × Int32) ⊕ XT} (X : xX g D A RX1 S0 p s m args c cX1_chorus 5) (hr : meth.sig.returnType = (Option.some Jvm.ClassFile.FieldType.int)) (hlk : meth.locks = false) (hnm : meth.name = yX1_chorus.name) (hlT : l.stackTraces = false) (hout : ∀ x ∈ c.exceptionTable.toList, False) (hw0 : xW g D A S0 s s.heap) (N : Nat) (K33 : XS → Nat → Int32 → Int32 → Int32 → Int32 → Option ((XS × Int32) ⊕ XT))
    (hK33 : ∀ (S : XS) (x0 : Nat) (x1 : Int32) (x2 : Int32) (x3 : Int32) (x4 : Int32) (H : Heap) (locs : List Loc) (ls : Array Slot) (cells slots : Nat), K33 S x0 x1 x2 x3 x4 = some w → xW g D A S s H → va_S A s.heap H locs → lv_has ls 5 [(0, .ref x0), (1, .int x1), (2, .int x2), (3, .int x3), (4, .int x4)] → W p l e (xRm g S0 81) s m args below meth c H locs cells slots (vx_MQ below (xTi g D A w) (xTx g D A w) args s (g.2.1 - xTop S0) (g.2.2.1 - xSl S0) A) (F0 m 33 ls [])) :
    ∀ (S : XS) (x0 : Nat) (x1 : Int32) (x2 : Int32) (x3 : Int32) (x4 : Int32) (H : Heap) (locs : List Loc) (ls : Array Slot) (cells slots : Nat), kX_X1_chorus_59 g N K33 S x0 x1 x2 x3 x4 = some w → xW g D A S s H → va_S A s.heap H locs → lv_has ls 5 [(0, .ref x0), (1, .int x1), (2, .int x2), (3, .int x3), (4, .int x4)] → W p l e (xRm g S0 81) s m args below meth c H locs cells slots (vx_MQ below (xTi g D A w) (xTx g D A w) args s (g.2.1 - xTop S0) (g.2.2.1 - xSl S0) A) (F0 m 59 ls []) := by
  obtain ⟨hx, hb, -, hown, hts, -⟩ := id X
  intro S x0 x1 x2 x3 x4 H locs ls cells slots hm hw hS hl
  unfold kX_X1_chorus_59 at hm
  refine lv_iinc (v := (x4 + 1)) (lv' := [(4, .int (x4 + 1)), (0, .ref x0), (1, .int x1), (2, .int x2), (3, .int x3)]) hx hb dX1_chorus_59 hl (k := 4) rfl rfl (by decide) rfl (fun ls hl => ?_)
  refine lv_goto (tgt := 33) hx hb dX1_chorus_62 (by decide) ?_
  exact hK33 S x0 x1 x2 x3 (x4 + 1) H locs ls _ _ hm hw hS (lv_sub hl [1, 2, 3, 4, 0] rfl)
def kX_X1_chorus_33 (g : XC) (N : Nat) : Nat → XS → Nat → Int32 → Int32 → Int32 → Int32 → Option ((XS × Int32) ⊕ XT)
  | 0, _, _, _, _, _, _ => none
  | n + 1, S, x0, x1, x2, x3, x4 =>
    if x2 ≤ x4 then
      some (.inl (S, x3))
    else
      (f_obj S 1 x0 3).bind fun v2 =>
      (f_cls S 2 v2).bind fun u3 =>
      (kX_X3_pass g N S v2).bind fun w4 =>
      (f_int w4.1 2 w4.2 13).bind fun v5 =>
      if (x1 &&& (v5 ^^^ (-1))) = 0 then
        kX_X1_chorus_59 g N (kX_X1_chorus_33 g N n) w4.1 x0 x1 x2 (x3 + 1) x4
      else
        kX_X1_chorus_59 g N (kX_X1_chorus_33 g N n) w4.1 x0 x1 x2 x3 x4
theorem wkX_X1_chorus_33 {p : Program} {l : Launch} {e : Env} {s : State} {m : MethodId} {args : Array Value} {below : List Frame} {meth : Method} {c : Code} {g : XC} {D : va_G} {A : Nat → Prop} {S0 : XS} {w : (XS × Int32) ⊕ XT} (X : xX g D A RX1 S0 p s m args c cX1_chorus 5) (hr : meth.sig.returnType = (Option.some Jvm.ClassFile.FieldType.int)) (hlk : meth.locks = false) (hnm : meth.name = yX1_chorus.name) (hlT : l.stackTraces = false) (hout : ∀ x ∈ c.exceptionTable.toList, False) (hw0 : xW g D A S0 s s.heap) (N : Nat) :
    ∀ (n : Nat) (S : XS) (x0 : Nat) (x1 : Int32) (x2 : Int32) (x3 : Int32) (x4 : Int32) (H : Heap) (locs : List Loc) (ls : Array Slot) (cells slots : Nat), kX_X1_chorus_33 g N n S x0 x1 x2 x3 x4 = some w → xW g D A S s H → va_S A s.heap H locs → lv_has ls 5 [(0, .ref x0), (1, .int x1), (2, .int x2), (3, .int x3), (4, .int x4)] → W p l e (xRm g S0 81) s m args below meth c H locs cells slots (vx_MQ below (xTi g D A w) (xTx g D A w) args s (g.2.1 - xTop S0) (g.2.2.1 - xSl S0) A) (F0 m 33 ls []) := by
  obtain ⟨hx, hb, -, hown, hts, -⟩ := id X
  intro n
  induction n with
  | zero =>
    intro S x0 x1 x2 x3 x4 H locs ls cells slots hm
    cases hm
  | succ n ih =>
    intro S x0 x1 x2 x3 x4 H locs ls cells slots hm hw hS hl
    rw [kX_X1_chorus_33] at hm
    refine lv_iload hx hb dX1_chorus_33 (lv_at hl 4 rfl) ?_
    refine lv_iload_n hx hb dX1_chorus_35 rfl (lv_at hl 2 rfl) ?_
    refine lv_icmp_ge (tgt := 65) hx hb dX1_chorus_36 (by decide) (fun c1 => ?_) (fun c1 => ?_)
    · replace hm := if_t c1 hm
      refine lv_iload_n hx hb dX1_chorus_65 rfl (lv_at hl 3 rfl) ?_
      obtain rfl := Option.some.inj hm
      exact xt_iret (v := x3) X hr hlk hw hS rfl dX1_chorus_66
    · replace hm := if_f c1 hm
      refine lv_iload_n hx hb dX1_chorus_39 rfl (lv_at hl 1 rfl) ?_
      refine lv_aload_n hx hb dX1_chorus_40 rfl (lv_at hl 0 rfl) ?_
      obtain ⟨v2, hv2, hm⟩ := ob_s hm
      refine xr_val X hw xc1 in_X1 3 (by decide) q282 (f_obj_s hv2) dX1_chorus_41 ?_
      obtain ⟨u3, hu3, hm⟩ := ob_s hm
      obtain ⟨w4, hw4, hm⟩ := ob_s hm
      refine xr_retr hS (xr_runV X hw (met_X3_pass N S v2 w4 hw4) (x_cv X (lv := 80) (by omega) (by decide) cx_X3_pass (lw_V q609 q459 q460 q120 q461)) xc2 hu3 rfl hl.1 rfl (Nat.le_of_ble_eq_true rfl) dX1_chorus_44) (fun H locs cells slots hw hS => ?_)
      obtain ⟨v5, hv5, hm⟩ := ob_s hm
      refine xr_valN X hw xc2 in_X3 13 (by decide) q238 (f_int_s hv5) dX1_chorus_47 ?_
      refine lv_iconst (v := (-1)) hx hb dX1_chorus_50 (by decide) ?_
      refine lv_ixor hx hb dX1_chorus_51 ?_
      refine lv_iand hx hb dX1_chorus_52 ?_
      refine lv_if_ne (tgt := 59) hx hb dX1_chorus_53 (by decide) (fun c6 => ?_) (fun c6 => ?_)
      · replace hm := if_f c6 hm
        exact wkX_X1_chorus_59 X hr hlk hnm hlT hout hw0 N (kX_X1_chorus_33 g N n) ih w4.1 x0 x1 x2 x3 x4 H locs ls _ _ hm hw hS (lv_sub hl [0, 1, 2, 3, 4] rfl)
      · replace hm := if_t c6 hm
        refine lv_iinc (v := (x3 + 1)) (lv' := [(3, .int (x3 + 1)), (0, .ref x0), (1, .int x1), (2, .int x2), (4, .int x4)]) hx hb dX1_chorus_56 hl (k := 3) rfl rfl (by decide) rfl (fun ls hl => ?_)
        exact wkX_X1_chorus_59 X hr hlk hnm hlT hout hw0 N (kX_X1_chorus_33 g N n) ih w4.1 x0 x1 x2 (x3 + 1) x4 H locs ls _ _ hm hw hS (lv_sub hl [1, 2, 3, 0, 4] rfl)
def kX_X1_chorus (g : XC) (N : Nat) (S : XS) (x0 : Nat) (x1 : Int32) (x2 : Int32) : Option ((XS × Int32) ⊕ XT) :=
  (f_cls S 1 x0).bind fun u1 =>
  tbind (kX_X1_someCups g N S x0 x1) fun r3 =>
  (kX_X1_in g N x2 1 200).bind fun w4 =>
  tbind (kX_X1_right g N r3 w4) fun r6 =>
  (f_obj r6 1 x0 3).bind fun v7 =>
  (f_obj r6 1 x0 2).bind fun v8 =>
  (f_cls r6 2 v7).bind fun u9 =>
  (kX_X3_be g N r6 v7 v8).bind fun w10 =>
  kX_X1_chorus_33 g N N w10.1 x0 x1 x2 0 0
theorem cx_X1_chorus : yX1_chorus.cls = RX1 ∧ yX1_chorus.cls ≠ "java/lang/invoke/MethodHandle" ∧ yX1_chorus.cls ≠ "java/lang/invoke/VarHandle" ∧ (parseMethodDescriptor yX1_chorus.desc).map (fun d => d.parameters.length) = some 2 := by decide +kernel
theorem met_X1_chorus {l : Launch} {g : XC} {D : va_G} {A : Nat → Prop} (hlT : l.stackTraces = false) (N : Nat) (S : XS) (x0 : Nat) (x1 : Int32) (x2 : Int32) (w : (XS × Int32) ⊕ XT) (hm : kX_X1_chorus g N S x0 x1 x2 = some w) : vx_Met l yX1_chorus (ws_ yX1_chorus cX1_chorus 5 (Option.some Jvm.ClassFile.FieldType.int)) (xRm g S 81) (xPre g D A [.ref x0, .int x1, .int x2] S) (xTi g D A w) (xTx g D A w) (g.2.1 - xTop S) (g.2.2.1 - xSl S) A := by
  refine x_startT (own := RX1) (by decide +kernel) rfl (Nat.le_of_ble_eq_true rfl) (fun p e s m below meth c ls X hr hlk hnm hout hw hl => ?_)
  have hw0 := hw
  obtain ⟨hx, hb, -, hown, hts, -⟩ := id X
  have hl : lv_has ls 5 [(0, .ref x0), (1, .int x1), (2, .int x2)] := hl
  have hg : ∀ (H : Heap) (locs : List Loc) (cells slots : Nat), xW g D A S s H → va_S A s.heap H locs → W p l e (xRm g S 81) s m ([.ref x0, .int x1, .int x2] : List Value).toArray below meth c H locs cells slots (vx_MQ below (xTi g D A w) (xTx g D A w) ([.ref x0, .int x1, .int x2] : List Value).toArray s (g.2.1 - xTop S) (g.2.2.1 - xSl S) A) (F0 m 0 ls []) := by
    intro H locs cells slots hw hS
    unfold kX_X1_chorus at hm
    refine lv_aload_n hx hb dX1_chorus_0 rfl (lv_at hl 0 rfl) ?_
    refine lv_iload_n hx hb dX1_chorus_1 rfl (lv_at hl 1 rfl) ?_
    obtain ⟨u1, hu1, hm⟩ := ob_s hm
    obtain ⟨w2, hw2, hm⟩ := tb_s hm
    refine xt_retv hS (xt_runV X hw (met_X1_someCups hlT N S x0 x1 w2 hw2) (x_cv X (lv := 6) (by omega) (by decide) cx_X1_someCups (lw_V q1342 q1344 qs46 q115 q1345)) xc1 hu1 rfl hl.1 rfl (Nat.le_of_ble_eq_true rfl) dX1_chorus_2) (fun t1 t2 u E9 ce q9 H1 locs1 hu ht => xt_pass X hlk hout (tc_r hu hm) ht (x_fits (lv2 := 0) X hw t1 t2).1 (x_fits (lv2 := 0) X hw t1 t2).2) (fun r3 hr3 H locs cells slots hw hS => ?_)
    replace hm := tc_l hr3 hm
    refine lv_iload_n hx hb dX1_chorus_5 rfl (lv_at hl 2 rfl) ?_
    refine lv_iconst (v := 1) hx hb dX1_chorus_6 (by decide) ?_
    refine lv_sipush (v := 200) hx hb dX1_chorus_7 (by decide) ?_
    obtain ⟨w4, hw4, hm⟩ := ob_s hm
    refine xr_reti hS (xr_runS X hw (met_X1_in N r3 x2 1 200 w4 hw4) (x_cs X (lv := 0) (by omega) (by decide) cx_X1_in (lw_S q336 q337 q115 q338)) rfl hl.1 rfl (Nat.le_of_ble_eq_true rfl) dX1_chorus_10) (fun H locs cells slots hw hS => ?_)
    obtain ⟨w5, hw5, hm⟩ := tb_s hm
    refine xt_retv hS (xt_runS X hw (met_X1_right hlT N r3 w4 w5 hw5) (x_cs X (lv := 5) (by omega) (by decide) cx_X1_right (lw_S q655 q656 q115 q657)) rfl hl.1 rfl (Nat.le_of_ble_eq_true rfl) dX1_chorus_13) (fun t1 t2 u E9 ce q9 H1 locs1 hu ht => xt_pass X hlk hout (tc_r hu hm) ht (x_fits (lv2 := 0) X hw t1 t2).1 (x_fits (lv2 := 0) X hw t1 t2).2) (fun r6 hr6 H locs cells slots hw hS => ?_)
    replace hm := tc_l hr6 hm
    refine lv_iconst (v := 0) hx hb dX1_chorus_16 (by decide) ?_
    refine lv_istore_n (lv' := [(3, .int 0), (0, .ref x0), (1, .int x1), (2, .int x2)]) hx hb dX1_chorus_17 rfl hl (by decide) rfl (fun ls hl => ?_)
    refine lv_aload_n hx hb dX1_chorus_18 rfl (lv_at hl 1 rfl) ?_
    obtain ⟨v7, hv7, hm⟩ := ob_s hm
    refine xr_val X hw xc1 in_X1 3 (by decide) q282 (f_obj_s hv7) dX1_chorus_19 ?_
    refine lv_aload_n hx hb dX1_chorus_22 rfl (lv_at hl 1 rfl) ?_
    obtain ⟨v8, hv8, hm⟩ := ob_s hm
    refine xr_val X hw xc1 in_X1 2 (by decide) q281 (f_obj_s hv8) dX1_chorus_23 ?_
    obtain ⟨u9, hu9, hm⟩ := ob_s hm
    obtain ⟨w10, hw10, hm⟩ := ob_s hm
    refine xr_retr hS (xr_runV X hw (met_X3_be N r6 v7 v8 w10 hw10) (x_cv X (lv := 0) (by omega) (by decide) cx_X3_be (lw_V q608 q354 q355 q120 q356)) xc2 hu9 rfl hl.1 rfl (Nat.le_of_ble_eq_true rfl) dX1_chorus_26) (fun H locs cells slots hw hS => ?_)
    refine lv_pop hx hb dX1_chorus_29 rfl ?_
    refine lv_iconst (v := 0) hx hb dX1_chorus_30 (by decide) ?_
    refine lv_istore (lv' := [(4, .int 0), (3, .int 0), (0, .ref x0), (1, .int x1), (2, .int x2)]) hx hb dX1_chorus_31 hl (by decide) rfl (fun ls hl => ?_)
    exact wkX_X1_chorus_33 X hr hlk hnm hlT hout hw0 N N w10.1 x0 x1 x2 0 0 H locs ls _ _ hm hw hS (lv_sub hl [2, 3, 4, 1, 0] rfl)
  exact hg _ _ _ _ hw va_S.rf
/-! DripCups.never -/
def kX_X1_never_37 (g : XC) (N : Nat) : Nat → XS → Nat → Int32 → Int32 → Int32 → Option ((XS × Int32) ⊕ XT)
  | 0, _, _, _, _, _ => none
  | n + 1, S, x0, x1, x2, x3 =>
    if x1 ≤ x3 then
      some (.inl (S, x2))
    else
      (f_obj S 1 x0 3).bind fun v2 =>
      (f_cls S 2 v2).bind fun u3 =>
      (kX_X3_pass g N S v2).bind fun w4 =>
      (f_int w4.1 2 w4.2 13).bind fun v5 =>
      bnd (x2 &&& (v5 ^^^ (-1))) fun v6 =>
      kX_X1_never_37 g N n w4.1 x0 x1 v6 (x3 + 1)
theorem wkX_X1_never_37 {p : Program} {l : Launch} {e : Env} {s : State} {m : MethodId} {args : Array Value} {below : List Frame} {meth : Method} {c : Code} {g : XC} {D : va_G} {A : Nat → Prop} {S0 : XS} {w : (XS × Int32) ⊕ XT} (X : xX g D A RX1 S0 p s m args c cX1_never 4) (hr : meth.sig.returnType = (Option.some Jvm.ClassFile.FieldType.int)) (hlk : meth.locks = false) (hnm : meth.name = yX1_never.name) (hlT : l.stackTraces = false) (hout : ∀ x ∈ c.exceptionTable.toList, False) (hw0 : xW g D A S0 s s.heap) (N : Nat) :
    ∀ (n : Nat) (S : XS) (x0 : Nat) (x1 : Int32) (x2 : Int32) (x3 : Int32) (H : Heap) (locs : List Loc) (ls : Array Slot) (cells slots : Nat), kX_X1_never_37 g N n S x0 x1 x2 x3 = some w → xW g D A S s H → va_S A s.heap H locs → lv_has ls 4 [(0, .ref x0), (1, .int x1), (2, .int x2), (3, .int x3)] → W p l e (xRm g S0 81) s m args below meth c H locs cells slots (vx_MQ below (xTi g D A w) (xTx g D A w) args s (g.2.1 - xTop S0) (g.2.2.1 - xSl S0) A) (F0 m 37 ls []) := by
  obtain ⟨hx, hb, -, hown, hts, -⟩ := id X
  intro n
  induction n with
  | zero =>
    intro S x0 x1 x2 x3 H locs ls cells slots hm
    cases hm
  | succ n ih =>
    intro S x0 x1 x2 x3 H locs ls cells slots hm hw hS hl
    rw [kX_X1_never_37] at hm
    refine lv_iload_n hx hb dX1_never_37 rfl (lv_at hl 3 rfl) ?_
    refine lv_iload_n hx hb dX1_never_38 rfl (lv_at hl 1 rfl) ?_
    refine lv_icmp_ge (tgt := 63) hx hb dX1_never_39 (by decide) (fun c1 => ?_) (fun c1 => ?_)
    · replace hm := if_t c1 hm
      refine lv_iload_n hx hb dX1_never_63 rfl (lv_at hl 2 rfl) ?_
      obtain rfl := Option.some.inj hm
      exact xt_iret (v := x2) X hr hlk hw hS rfl dX1_never_64
    · replace hm := if_f c1 hm
      refine lv_iload_n hx hb dX1_never_42 rfl (lv_at hl 2 rfl) ?_
      refine lv_aload_n hx hb dX1_never_43 rfl (lv_at hl 0 rfl) ?_
      obtain ⟨v2, hv2, hm⟩ := ob_s hm
      refine xr_val X hw xc1 in_X1 3 (by decide) q282 (f_obj_s hv2) dX1_never_44 ?_
      obtain ⟨u3, hu3, hm⟩ := ob_s hm
      obtain ⟨w4, hw4, hm⟩ := ob_s hm
      refine xr_retr hS (xr_runV X hw (met_X3_pass N S v2 w4 hw4) (x_cv X (lv := 80) (by omega) (by decide) cx_X3_pass (lw_V q609 q459 q460 q120 q461)) xc2 hu3 rfl hl.1 rfl (Nat.le_of_ble_eq_true rfl) dX1_never_47) (fun H locs cells slots hw hS => ?_)
      obtain ⟨v5, hv5, hm⟩ := ob_s hm
      refine xr_valN X hw xc2 in_X3 13 (by decide) q238 (f_int_s hv5) dX1_never_50 ?_
      refine lv_iconst (v := (-1)) hx hb dX1_never_53 (by decide) ?_
      refine lv_ixor hx hb dX1_never_54 ?_
      refine lv_iand hx hb dX1_never_55 ?_
      refine lv_topi (fun v6 ev6 => ?_)
      replace hm := bnd_s hm ev6
      refine lv_istore_n (lv' := [(2, .int v6), (0, .ref x0), (1, .int x1), (3, .int x3)]) hx hb dX1_never_56 rfl hl (by decide) rfl (fun ls hl => ?_)
      refine lv_iinc (v := (x3 + 1)) (lv' := [(3, .int (x3 + 1)), (2, .int v6), (0, .ref x0), (1, .int x1)]) hx hb dX1_never_57 hl (k := 3) rfl rfl (by decide) rfl (fun ls hl => ?_)
      refine lv_goto (tgt := 37) hx hb dX1_never_60 (by decide) ?_
      exact ih w4.1 x0 x1 v6 (x3 + 1) H locs ls _ _ hm hw hS (lv_sub hl [2, 3, 1, 0] rfl)
def kX_X1_never (g : XC) (N : Nat) (S : XS) (x0 : Nat) (x1 : Int32) : Option ((XS × Int32) ⊕ XT) :=
  (kX_X1_in g N x1 1 200).bind fun w1 =>
  tbind (kX_X1_right g N S w1) fun r3 =>
  (f_obj r3 1 x0 1).bind fun v4 =>
  (f_cls r3 3 v4).bind fun u5 =>
  (kX_X2_cups g N r3 v4).bind fun w6 =>
  bnd (((1 : Int32) <<< (w6.2 &&& 31)) - 1) fun v7 =>
  (f_obj w6.1 1 x0 3).bind fun v8 =>
  (f_obj w6.1 1 x0 2).bind fun v9 =>
  (f_cls w6.1 2 v8).bind fun u10 =>
  (kX_X3_be g N w6.1 v8 v9).bind fun w11 =>
  kX_X1_never_37 g N N w11.1 x0 x1 v7 0
theorem cx_X1_never : yX1_never.cls = RX1 ∧ yX1_never.cls ≠ "java/lang/invoke/MethodHandle" ∧ yX1_never.cls ≠ "java/lang/invoke/VarHandle" ∧ (parseMethodDescriptor yX1_never.desc).map (fun d => d.parameters.length) = some 1 := by decide +kernel
theorem met_X1_never {l : Launch} {g : XC} {D : va_G} {A : Nat → Prop} (hlT : l.stackTraces = false) (N : Nat) (S : XS) (x0 : Nat) (x1 : Int32) (w : (XS × Int32) ⊕ XT) (hm : kX_X1_never g N S x0 x1 = some w) : vx_Met l yX1_never (ws_ yX1_never cX1_never 4 (Option.some Jvm.ClassFile.FieldType.int)) (xRm g S 81) (xPre g D A [.ref x0, .int x1] S) (xTi g D A w) (xTx g D A w) (g.2.1 - xTop S) (g.2.2.1 - xSl S) A := by
  refine x_startT (own := RX1) (by decide +kernel) rfl (Nat.le_of_ble_eq_true rfl) (fun p e s m below meth c ls X hr hlk hnm hout hw hl => ?_)
  have hw0 := hw
  obtain ⟨hx, hb, -, hown, hts, -⟩ := id X
  have hl : lv_has ls 4 [(0, .ref x0), (1, .int x1)] := hl
  have hg : ∀ (H : Heap) (locs : List Loc) (cells slots : Nat), xW g D A S s H → va_S A s.heap H locs → W p l e (xRm g S 81) s m ([.ref x0, .int x1] : List Value).toArray below meth c H locs cells slots (vx_MQ below (xTi g D A w) (xTx g D A w) ([.ref x0, .int x1] : List Value).toArray s (g.2.1 - xTop S) (g.2.2.1 - xSl S) A) (F0 m 0 ls []) := by
    intro H locs cells slots hw hS
    unfold kX_X1_never at hm
    refine lv_iload_n hx hb dX1_never_0 rfl (lv_at hl 1 rfl) ?_
    refine lv_iconst (v := 1) hx hb dX1_never_1 (by decide) ?_
    refine lv_sipush (v := 200) hx hb dX1_never_2 (by decide) ?_
    obtain ⟨w1, hw1, hm⟩ := ob_s hm
    refine xr_reti hS (xr_runS X hw (met_X1_in N S x1 1 200 w1 hw1) (x_cs X (lv := 0) (by omega) (by decide) cx_X1_in (lw_S q336 q337 q115 q338)) rfl hl.1 rfl (Nat.le_of_ble_eq_true rfl) dX1_never_5) (fun H locs cells slots hw hS => ?_)
    obtain ⟨w2, hw2, hm⟩ := tb_s hm
    refine xt_retv hS (xt_runS X hw (met_X1_right hlT N S w1 w2 hw2) (x_cs X (lv := 5) (by omega) (by decide) cx_X1_right (lw_S q655 q656 q115 q657)) rfl hl.1 rfl (Nat.le_of_ble_eq_true rfl) dX1_never_8) (fun t1 t2 u E9 ce q9 H1 locs1 hu ht => xt_pass X hlk hout (tc_r hu hm) ht (x_fits (lv2 := 0) X hw t1 t2).1 (x_fits (lv2 := 0) X hw t1 t2).2) (fun r3 hr3 H locs cells slots hw hS => ?_)
    replace hm := tc_l hr3 hm
    refine lv_iconst (v := 1) hx hb dX1_never_11 (by decide) ?_
    refine lv_aload_n hx hb dX1_never_12 rfl (lv_at hl 0 rfl) ?_
    obtain ⟨v4, hv4, hm⟩ := ob_s hm
    refine xr_val X hw xc1 in_X1 1 (by decide) q279 (f_obj_s hv4) dX1_never_13 ?_
    obtain ⟨u5, hu5, hm⟩ := ob_s hm
    obtain ⟨w6, hw6, hm⟩ := ob_s hm
    refine xr_reti hS (xr_runV X hw (met_X2_cups N r3 v4 w6 hw6) (x_cv X (lv := 1) (by omega) (by decide) cx_X2_cups (lw_V q1172 q463 q464 q116 q465)) xc3 hu5 rfl hl.1 rfl (Nat.le_of_ble_eq_true rfl) dX1_never_16) (fun H locs cells slots hw hS => ?_)
    refine lv_ishl hx hb dX1_never_19 ?_
    refine lv_iconst (v := 1) hx hb dX1_never_20 (by decide) ?_
    refine lv_isub hx hb dX1_never_21 ?_
    refine lv_topi (fun v7 ev7 => ?_)
    replace hm := bnd_s hm ev7
    refine lv_istore_n (lv' := [(2, .int v7), (0, .ref x0), (1, .int x1)]) hx hb dX1_never_22 rfl hl (by decide) rfl (fun ls hl => ?_)
    refine lv_aload_n hx hb dX1_never_23 rfl (lv_at hl 1 rfl) ?_
    obtain ⟨v8, hv8, hm⟩ := ob_s hm
    refine xr_val X hw xc1 in_X1 3 (by decide) q282 (f_obj_s hv8) dX1_never_24 ?_
    refine lv_aload_n hx hb dX1_never_27 rfl (lv_at hl 1 rfl) ?_
    obtain ⟨v9, hv9, hm⟩ := ob_s hm
    refine xr_val X hw xc1 in_X1 2 (by decide) q281 (f_obj_s hv9) dX1_never_28 ?_
    obtain ⟨u10, hu10, hm⟩ := ob_s hm
    obtain ⟨w11, hw11, hm⟩ := ob_s hm
    refine xr_retr hS (xr_runV X hw (met_X3_be N w6.1 v8 v9 w11 hw11) (x_cv X (lv := 0) (by omega) (by decide) cx_X3_be (lw_V q608 q354 q355 q120 q356)) xc2 hu10 rfl hl.1 rfl (Nat.le_of_ble_eq_true rfl) dX1_never_31) (fun H locs cells slots hw hS => ?_)
    refine lv_pop hx hb dX1_never_34 rfl ?_
    refine lv_iconst (v := 0) hx hb dX1_never_35 (by decide) ?_
    refine lv_istore_n (lv' := [(3, .int 0), (2, .int v7), (0, .ref x0), (1, .int x1)]) hx hb dX1_never_36 rfl hl (by decide) rfl (fun ls hl => ?_)
    exact wkX_X1_never_37 X hr hlk hnm hlT hout hw0 N N w11.1 x0 x1 v7 0 H locs ls _ _ hm hw hS (lv_sub hl [2, 3, 1, 0] rfl)
  exact hg _ _ _ _ hw va_S.rf
/-! DripCups.swell -/
def kX_X1_swell_41 (g : XC) (N : Nat) : Nat → XS → Nat → Int32 → Int32 → Int32 → Int32 → Option ((XS × Int32) ⊕ XT)
  | 0, _, _, _, _, _, _ => none
  | n + 1, S, x0, x1, x2, x3, x4 =>
    if x2 ≤ x4 then
      some (.inl (S, x3))
    else
      (f_obj S 1 x0 3).bind fun v2 =>
      (f_cls S 2 v2).bind fun u3 =>
      (kX_X3_pass g N S v2).bind fun w4 =>
      (f_obj w4.1 2 w4.2 1).bind fun v5 =>
      (a_int w4.1 0 v5 x1).bind fun v6 =>
      bnd (if (x3 : Int32) < v6 then v6 else x3) fun v7 =>
      kX_X1_swell_41 g N n w4.1 x0 x1 x2 v7 (x4 + 1)
theorem wkX_X1_swell_41 {p : Program} {l : Launch} {e : Env} {s : State} {m : MethodId} {args : Array Value} {below : List Frame} {meth : Method} {c : Code} {g : XC} {D : va_G} {A : Nat → Prop} {S0 : XS} {w : (XS × Int32) ⊕ XT} (X : xX g D A RX1 S0 p s m args c cX1_swell 5) (hr : meth.sig.returnType = (Option.some Jvm.ClassFile.FieldType.int)) (hlk : meth.locks = false) (hnm : meth.name = yX1_swell.name) (hlT : l.stackTraces = false) (hout : ∀ x ∈ c.exceptionTable.toList, False) (hw0 : xW g D A S0 s s.heap) (N : Nat) :
    ∀ (n : Nat) (S : XS) (x0 : Nat) (x1 : Int32) (x2 : Int32) (x3 : Int32) (x4 : Int32) (H : Heap) (locs : List Loc) (ls : Array Slot) (cells slots : Nat), kX_X1_swell_41 g N n S x0 x1 x2 x3 x4 = some w → xW g D A S s H → va_S A s.heap H locs → lv_has ls 5 [(0, .ref x0), (1, .int x1), (2, .int x2), (3, .int x3), (4, .int x4)] → W p l e (xRm g S0 81) s m args below meth c H locs cells slots (vx_MQ below (xTi g D A w) (xTx g D A w) args s (g.2.1 - xTop S0) (g.2.2.1 - xSl S0) A) (F0 m 41 ls []) := by
  obtain ⟨hx, hb, -, hown, hts, -⟩ := id X
  intro n
  induction n with
  | zero =>
    intro S x0 x1 x2 x3 x4 H locs ls cells slots hm
    cases hm
  | succ n ih =>
    intro S x0 x1 x2 x3 x4 H locs ls cells slots hm hw hS hl
    rw [kX_X1_swell_41] at hm
    refine lv_iload hx hb dX1_swell_41 (lv_at hl 4 rfl) ?_
    refine lv_iload_n hx hb dX1_swell_43 rfl (lv_at hl 2 rfl) ?_
    refine lv_icmp_ge (tgt := 70) hx hb dX1_swell_44 (by decide) (fun c1 => ?_) (fun c1 => ?_)
    · replace hm := if_t c1 hm
      refine lv_iload_n hx hb dX1_swell_70 rfl (lv_at hl 3 rfl) ?_
      obtain rfl := Option.some.inj hm
      exact xt_iret (v := x3) X hr hlk hw hS rfl dX1_swell_71
    · replace hm := if_f c1 hm
      refine lv_iload_n hx hb dX1_swell_47 rfl (lv_at hl 3 rfl) ?_
      refine lv_aload_n hx hb dX1_swell_48 rfl (lv_at hl 0 rfl) ?_
      obtain ⟨v2, hv2, hm⟩ := ob_s hm
      refine xr_val X hw xc1 in_X1 3 (by decide) q282 (f_obj_s hv2) dX1_swell_49 ?_
      obtain ⟨u3, hu3, hm⟩ := ob_s hm
      obtain ⟨w4, hw4, hm⟩ := ob_s hm
      refine xr_retr hS (xr_runV X hw (met_X3_pass N S v2 w4 hw4) (x_cv X (lv := 80) (by omega) (by decide) cx_X3_pass (lw_V q609 q459 q460 q120 q461)) xc2 hu3 rfl hl.1 rfl (Nat.le_of_ble_eq_true rfl) dX1_swell_52) (fun H locs cells slots hw hS => ?_)
      obtain ⟨v5, hv5, hm⟩ := ob_s hm
      refine xr_valN X hw xc2 in_X3 1 (by decide) q214 (f_obj_s hv5) dX1_swell_55 ?_
      refine lv_iload_n hx hb dX1_swell_58 rfl (lv_at hl 1 rfl) ?_
      obtain ⟨v6, hv6, hm⟩ := ob_s hm
      refine xr_iald X hw hv6 dX1_swell_59 ?_
      refine xr_mmax X hw hl.1 q1250 q383 q127 q384 (Nat.le_of_ble_eq_true rfl) dX1_swell_60 (fun cells slots => ?_)
      refine lv_topi (fun v7 ev7 => ?_)
      replace hm := bnd_s hm ev7
      refine lv_istore_n (lv' := [(3, .int v7), (0, .ref x0), (1, .int x1), (2, .int x2), (4, .int x4)]) hx hb dX1_swell_63 rfl hl (by decide) rfl (fun ls hl => ?_)
      refine lv_iinc (v := (x4 + 1)) (lv' := [(4, .int (x4 + 1)), (3, .int v7), (0, .ref x0), (1, .int x1), (2, .int x2)]) hx hb dX1_swell_64 hl (k := 4) rfl rfl (by decide) rfl (fun ls hl => ?_)
      refine lv_goto (tgt := 41) hx hb dX1_swell_67 (by decide) ?_
      exact ih w4.1 x0 x1 x2 v7 (x4 + 1) H locs ls _ _ hm hw hS (lv_sub hl [2, 3, 4, 1, 0] rfl)
def kX_X1_swell (g : XC) (N : Nat) (S : XS) (x0 : Nat) (x1 : Int32) (x2 : Int32) : Option ((XS × Int32) ⊕ XT) :=
  (f_cls S 1 x0).bind fun u1 =>
  tbind (kX_X1_aCup g N S x0 x1) fun r3 =>
  (kX_X1_in g N x2 0 200).bind fun w4 =>
  tbind (kX_X1_right g N r3 w4) fun r6 =>
  (f_obj r6 1 x0 2).bind fun v7 =>
  (f_obj r6 2 v7 1).bind fun v8 =>
  (a_int r6 0 v8 x1).bind fun v9 =>
  (f_obj r6 1 x0 3).bind fun v10 =>
  (f_obj r6 1 x0 2).bind fun v11 =>
  (f_cls r6 2 v10).bind fun u12 =>
  (kX_X3_be g N r6 v10 v11).bind fun w13 =>
  kX_X1_swell_41 g N N w13.1 x0 x1 x2 v9 0
theorem cx_X1_swell : yX1_swell.cls = RX1 ∧ yX1_swell.cls ≠ "java/lang/invoke/MethodHandle" ∧ yX1_swell.cls ≠ "java/lang/invoke/VarHandle" ∧ (parseMethodDescriptor yX1_swell.desc).map (fun d => d.parameters.length) = some 2 := by decide +kernel
theorem met_X1_swell {l : Launch} {g : XC} {D : va_G} {A : Nat → Prop} (hlT : l.stackTraces = false) (N : Nat) (S : XS) (x0 : Nat) (x1 : Int32) (x2 : Int32) (w : (XS × Int32) ⊕ XT) (hm : kX_X1_swell g N S x0 x1 x2 = some w) : vx_Met l yX1_swell (ws_ yX1_swell cX1_swell 5 (Option.some Jvm.ClassFile.FieldType.int)) (xRm g S 81) (xPre g D A [.ref x0, .int x1, .int x2] S) (xTi g D A w) (xTx g D A w) (g.2.1 - xTop S) (g.2.2.1 - xSl S) A := by
  refine x_startT (own := RX1) (by decide +kernel) rfl (Nat.le_of_ble_eq_true rfl) (fun p e s m below meth c ls X hr hlk hnm hout hw hl => ?_)
  have hw0 := hw
  obtain ⟨hx, hb, -, hown, hts, -⟩ := id X
  have hl : lv_has ls 5 [(0, .ref x0), (1, .int x1), (2, .int x2)] := hl
  have hg : ∀ (H : Heap) (locs : List Loc) (cells slots : Nat), xW g D A S s H → va_S A s.heap H locs → W p l e (xRm g S 81) s m ([.ref x0, .int x1, .int x2] : List Value).toArray below meth c H locs cells slots (vx_MQ below (xTi g D A w) (xTx g D A w) ([.ref x0, .int x1, .int x2] : List Value).toArray s (g.2.1 - xTop S) (g.2.2.1 - xSl S) A) (F0 m 0 ls []) := by
    intro H locs cells slots hw hS
    unfold kX_X1_swell at hm
    refine lv_aload_n hx hb dX1_swell_0 rfl (lv_at hl 0 rfl) ?_
    refine lv_iload_n hx hb dX1_swell_1 rfl (lv_at hl 1 rfl) ?_
    obtain ⟨u1, hu1, hm⟩ := ob_s hm
    obtain ⟨w2, hw2, hm⟩ := tb_s hm
    refine xt_retv hS (xt_runV X hw (met_X1_aCup hlT N S x0 x1 w2 hw2) (x_cv X (lv := 6) (by omega) (by decide) cx_X1_aCup (lw_V q1240 q1242 qs40 q115 q1243)) xc1 hu1 rfl hl.1 rfl (Nat.le_of_ble_eq_true rfl) dX1_swell_2) (fun t1 t2 u E9 ce q9 H1 locs1 hu ht => xt_pass X hlk hout (tc_r hu hm) ht (x_fits (lv2 := 0) X hw t1 t2).1 (x_fits (lv2 := 0) X hw t1 t2).2) (fun r3 hr3 H locs cells slots hw hS => ?_)
    replace hm := tc_l hr3 hm
    refine lv_iload_n hx hb dX1_swell_5 rfl (lv_at hl 2 rfl) ?_
    refine lv_iconst (v := 0) hx hb dX1_swell_6 (by decide) ?_
    refine lv_sipush (v := 200) hx hb dX1_swell_7 (by decide) ?_
    obtain ⟨w4, hw4, hm⟩ := ob_s hm
    refine xr_reti hS (xr_runS X hw (met_X1_in N r3 x2 0 200 w4 hw4) (x_cs X (lv := 0) (by omega) (by decide) cx_X1_in (lw_S q336 q337 q115 q338)) rfl hl.1 rfl (Nat.le_of_ble_eq_true rfl) dX1_swell_10) (fun H locs cells slots hw hS => ?_)
    obtain ⟨w5, hw5, hm⟩ := tb_s hm
    refine xt_retv hS (xt_runS X hw (met_X1_right hlT N r3 w4 w5 hw5) (x_cs X (lv := 5) (by omega) (by decide) cx_X1_right (lw_S q655 q656 q115 q657)) rfl hl.1 rfl (Nat.le_of_ble_eq_true rfl) dX1_swell_13) (fun t1 t2 u E9 ce q9 H1 locs1 hu ht => xt_pass X hlk hout (tc_r hu hm) ht (x_fits (lv2 := 0) X hw t1 t2).1 (x_fits (lv2 := 0) X hw t1 t2).2) (fun r6 hr6 H locs cells slots hw hS => ?_)
    replace hm := tc_l hr6 hm
    refine lv_aload_n hx hb dX1_swell_16 rfl (lv_at hl 0 rfl) ?_
    obtain ⟨v7, hv7, hm⟩ := ob_s hm
    refine xr_val X hw xc1 in_X1 2 (by decide) q281 (f_obj_s hv7) dX1_swell_17 ?_
    obtain ⟨v8, hv8, hm⟩ := ob_s hm
    refine xr_valN X hw xc2 in_X3 1 (by decide) q214 (f_obj_s hv8) dX1_swell_20 ?_
    refine lv_iload_n hx hb dX1_swell_23 rfl (lv_at hl 1 rfl) ?_
    obtain ⟨v9, hv9, hm⟩ := ob_s hm
    refine xr_iald X hw hv9 dX1_swell_24 ?_
    refine lv_istore_n (lv' := [(3, .int v9), (0, .ref x0), (1, .int x1), (2, .int x2)]) hx hb dX1_swell_25 rfl hl (by decide) rfl (fun ls hl => ?_)
    refine lv_aload_n hx hb dX1_swell_26 rfl (lv_at hl 1 rfl) ?_
    obtain ⟨v10, hv10, hm⟩ := ob_s hm
    refine xr_val X hw xc1 in_X1 3 (by decide) q282 (f_obj_s hv10) dX1_swell_27 ?_
    refine lv_aload_n hx hb dX1_swell_30 rfl (lv_at hl 1 rfl) ?_
    obtain ⟨v11, hv11, hm⟩ := ob_s hm
    refine xr_val X hw xc1 in_X1 2 (by decide) q281 (f_obj_s hv11) dX1_swell_31 ?_
    obtain ⟨u12, hu12, hm⟩ := ob_s hm
    obtain ⟨w13, hw13, hm⟩ := ob_s hm
    refine xr_retr hS (xr_runV X hw (met_X3_be N r6 v10 v11 w13 hw13) (x_cv X (lv := 0) (by omega) (by decide) cx_X3_be (lw_V q608 q354 q355 q120 q356)) xc2 hu12 rfl hl.1 rfl (Nat.le_of_ble_eq_true rfl) dX1_swell_34) (fun H locs cells slots hw hS => ?_)
    refine lv_pop hx hb dX1_swell_37 rfl ?_
    refine lv_iconst (v := 0) hx hb dX1_swell_38 (by decide) ?_
    refine lv_istore (lv' := [(4, .int 0), (3, .int v9), (0, .ref x0), (1, .int x1), (2, .int x2)]) hx hb dX1_swell_39 hl (by decide) rfl (fun ls hl => ?_)
    exact wkX_X1_swell_41 X hr hlk hnm hlT hout hw0 N N w13.1 x0 x1 x2 v9 0 H locs ls _ _ hm hw hS (lv_sub hl [2, 3, 4, 1, 0] rfl)
  exact hg _ _ _ _ hw va_S.rf
