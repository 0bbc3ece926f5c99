theorem ci_List_add : (⟨"java/util/List", "add", "(Ljava/lang/Object;)Z"⟩ : MethodName).cls ≠ "java/lang/invoke/MethodHandle" ∧ (⟨"java/util/List", "add", "(Ljava/lang/Object;)Z"⟩ : MethodName).cls ≠ "java/lang/invoke/VarHandle" ∧ (parseMethodDescriptor (⟨"java/util/List", "add", "(Ljava/lang/Object;)Z"⟩ : MethodName).desc).map (fun d => d.parameters.length) = some 1 := by decide +kernel
theorem ci_List_size : (⟨"java/util/List", "size", "()I"⟩ : MethodName).cls ≠ "java/lang/invoke/MethodHandle" ∧ (⟨"java/util/List", "size", "()I"⟩ : MethodName).cls ≠ "java/lang/invoke/VarHandle" ∧ (parseMethodDescriptor (⟨"java/util/List", "size", "()I"⟩ : MethodName).desc).map (fun d => d.parameters.length) = some 0 := by decide +kernel
theorem ci_List_remove : (⟨"java/util/List", "remove", "(I)Ljava/lang/Object;"⟩ : MethodName).cls ≠ "java/lang/invoke/MethodHandle" ∧ (⟨"java/util/List", "remove", "(I)Ljava/lang/Object;"⟩ : MethodName).cls ≠ "java/lang/invoke/VarHandle" ∧ (parseMethodDescriptor (⟨"java/util/List", "remove", "(I)Ljava/lang/Object;"⟩ : MethodName).desc).map (fun d => d.parameters.length) = some 1 := by decide +kernel
theorem ci_List_get : (⟨"java/util/List", "get", "(I)Ljava/lang/Object;"⟩ : MethodName).cls ≠ "java/lang/invoke/MethodHandle" ∧ (⟨"java/util/List", "get", "(I)Ljava/lang/Object;"⟩ : MethodName).cls ≠ "java/lang/invoke/VarHandle" ∧ (parseMethodDescriptor (⟨"java/util/List", "get", "(I)Ljava/lang/Object;"⟩ : MethodName).desc).map (fun d => d.parameters.length) = some 1 := by decide +kernel
theorem ci_List_isEmpty : (⟨"java/util/List", "isEmpty", "()Z"⟩ : MethodName).cls ≠ "java/lang/invoke/MethodHandle" ∧ (⟨"java/util/List", "isEmpty", "()Z"⟩ : MethodName).cls ≠ "java/lang/invoke/VarHandle" ∧ (parseMethodDescriptor (⟨"java/util/List", "isEmpty", "()Z"⟩ : MethodName).desc).map (fun d => d.parameters.length) = some 0 := by decide +kernel
theorem ci_Collection_toArray : (⟨"java/util/Collection", "toArray", "()[Ljava/lang/Object;"⟩ : MethodName).cls ≠ "java/lang/invoke/MethodHandle" ∧ (⟨"java/util/Collection", "toArray", "()[Ljava/lang/Object;"⟩ : MethodName).cls ≠ "java/lang/invoke/VarHandle" ∧ (parseMethodDescriptor (⟨"java/util/Collection", "toArray", "()[Ljava/lang/Object;"⟩ : MethodName).desc).map (fun d => d.parameters.length) = some 0 := by decide +kernel
/-! java/util/AbstractCollection.init -/
def kX_J0_init (g : XC) (N : Nat) (S : XS) (x0 : Nat) : Option (XS) :=
  some S
theorem cx_J0_init : yJ0_init.cls ≠ "java/lang/invoke/MethodHandle" ∧ yJ0_init.cls ≠ "java/lang/invoke/VarHandle" ∧ (parseMethodDescriptor yJ0_init.desc).map (fun d => d.parameters.length) = some 0 := by decide +kernel
theorem met_J0_init {l : Launch} {g : XC} {D : va_G} {A : Nat → Prop} (N : Nat) (S : XS) (x0 : Nat) (w : XS) (hm : kX_J0_init g N S x0 = some w) : Met l yJ0_init (ws_ yJ0_init cJ0_init 1 (Option.none : Option Jvm.ClassFile.FieldType)) (xRm g S 0) (xPre g D A [.ref x0] S) (xQv g D A w) (g.2.1 - xTop S) (g.2.2.1 - xSl S) A := by
  refine x_start (own := RJ0) (by decide +kernel) rfl (Nat.le_of_ble_eq_true rfl) (fun p e s m below meth c ls X hr hlk hnm hw hl => ?_)
  obtain ⟨hx, hb, -, hown, hts, -⟩ := id X
  have hl : lv_has ls 1 [(0, .ref x0)] := hl
  have hg : ∀ (H : Heap) (locs : List Loc) (cells slots : Nat), xW g D A S s H → va_S A s.heap H locs → W p l e (xRm g S 0) s m ([.ref x0] : List Value).toArray below meth c H locs cells slots (MQ below (xQv g D A w) ([.ref x0] : List Value).toArray s (g.2.1 - xTop S) (g.2.2.1 - xSl S) A) (F0 m 0 ls []) := by
    intro H locs cells slots hw hS
    unfold kX_J0_init at hm
    refine lv_aload_n hx hb dJ0_init_0 rfl (lv_at hl 0 rfl) ?_
    refine xr_objInit X hl.1 q173 q154 q155 (Nat.le_of_ble_eq_true rfl) dJ0_init_1 ?_
    obtain rfl := Option.some.inj hm
    exact xr_vret X hr hlk hw hS dJ0_init_4
  exact hg _ _ _ _ hw va_S.rf
/-! java/util/AbstractList.init -/
def kX_J1_init (g : XC) (N : Nat) (S : XS) (x0 : Nat) : Option (XS) :=
  (kX_J0_init g N S x0).bind fun w1 =>
  (f_putI w1 10 x0 0 0).bind fun S2 =>
  some S2
theorem cx_J1_init : yJ1_init.cls ≠ "java/lang/invoke/MethodHandle" ∧ yJ1_init.cls ≠ "java/lang/invoke/VarHandle" ∧ (parseMethodDescriptor yJ1_init.desc).map (fun d => d.parameters.length) = some 0 := by decide +kernel
theorem met_J1_init {l : Launch} {g : XC} {D : va_G} {A : Nat → Prop} (N : Nat) (S : XS) (x0 : Nat) (w : XS) (hm : kX_J1_init g N S x0 = some w) : Met l yJ1_init (ws_ yJ1_init cJ1_init 1 (Option.none : Option Jvm.ClassFile.FieldType)) (xRm g S 1) (xPre g D A [.ref x0] S) (xQv g D A w) (g.2.1 - xTop S) (g.2.2.1 - xSl S) A := by
  refine x_start (own := RJ1) (by decide +kernel) rfl (Nat.le_of_ble_eq_true rfl) (fun p e s m below meth c ls X hr hlk hnm hw hl => ?_)
  obtain ⟨hx, hb, -, hown, hts, -⟩ := id X
  have hl : lv_has ls 1 [(0, .ref x0)] := hl
  have hg : ∀ (H : Heap) (locs : List Loc) (cells slots : Nat), xW g D A S s H → va_S A s.heap H locs → W p l e (xRm g S 1) s m ([.ref x0] : List Value).toArray below meth c H locs cells slots (MQ below (xQv g D A w) ([.ref x0] : List Value).toArray s (g.2.1 - xTop S) (g.2.2.1 - xSl S) A) (F0 m 0 ls []) := by
    intro H locs cells slots hw hS
    unfold kX_J1_init at hm
    refine lv_aload_n hx hb dJ1_init_0 rfl (lv_at hl 0 rfl) ?_
    obtain ⟨w1, hw1, hm⟩ := ob_s hm
    refine xr_retv hS (xr_runI X hw (met_J0_init N S x0 w1 hw1) (x_ci X (lv := 0) (by omega) (by decide) rfl cx_J0_init (lw_meth q172) q117 q170 q171) rfl hl.1 rfl (Nat.le_of_ble_eq_true rfl) dJ1_init_1) (fun H locs cells slots hw hS => ?_)
    refine lv_aload_n hx hb dJ1_init_4 rfl (lv_at hl 0 rfl) ?_
    refine lv_iconst (v := 0) hx hb dJ1_init_5 (by decide) ?_
    obtain ⟨S2, hS2, hm⟩ := ob_s hm
    refine xr_putI X hw hS xc10 in_J2 tyJ2_ok nmJ2 0 (by decide) q178 rfl (tyJ2_ok 0 (by decide)) rfl rfl hS2 dJ1_init_6 (fun H locs hw hS => ?_)
    obtain rfl := Option.some.inj hm
    exact xr_vret X hr hlk hw hS dJ1_init_9
  exact hg _ _ _ _ hw va_S.rf
/-! java/util/ArrayList.init -/
def kX_J2_init (g : XC) (N : Nat) (S : XS) (x0 : Nat) : Option (XS) :=
  (kX_J1_init g N S x0).bind fun w1 =>
  (f_putR w1 10 x0 1 (some (gSp g 0))).bind fun S2 =>
  some S2
theorem cx_J2_init : yJ2_init.cls ≠ "java/lang/invoke/MethodHandle" ∧ yJ2_init.cls ≠ "java/lang/invoke/VarHandle" ∧ (parseMethodDescriptor yJ2_init.desc).map (fun d => d.parameters.length) = some 0 := by decide +kernel
theorem met_J2_init {l : Launch} {g : XC} {D : va_G} {A : Nat → Prop} (N : Nat) (S : XS) (x0 : Nat) (w : XS) (hm : kX_J2_init g N S x0 = some w) : Met l yJ2_init (ws_ yJ2_init cJ2_init 1 (Option.none : Option Jvm.ClassFile.FieldType)) (xRm g S 2) (xPre g D A [.ref x0] S) (xQv g D A w) (g.2.1 - xTop S) (g.2.2.1 - xSl S) A := by
  refine x_start (own := RJ2) (by decide +kernel) rfl (Nat.le_of_ble_eq_true rfl) (fun p e s m below meth c ls X hr hlk hnm hw hl => ?_)
  obtain ⟨hx, hb, -, hown, hts, -⟩ := id X
  have hl : lv_has ls 1 [(0, .ref x0)] := hl
  have hg : ∀ (H : Heap) (locs : List Loc) (cells slots : Nat), xW g D A S s H → va_S A s.heap H locs → W p l e (xRm g S 2) s m ([.ref x0] : List Value).toArray below meth c H locs cells slots (MQ below (xQv g D A w) ([.ref x0] : List Value).toArray s (g.2.1 - xTop S) (g.2.2.1 - xSl S) A) (F0 m 0 ls []) := by
    intro H locs cells slots hw hS
    unfold kX_J2_init at hm
    refine lv_aload_n hx hb dJ2_init_0 rfl (lv_at hl 0 rfl) ?_
    obtain ⟨w1, hw1, hm⟩ := ob_s hm
    refine xr_retv hS (xr_runI X hw (met_J1_init N S x0 w1 hw1) (x_ci X (lv := 1) (by omega) (by decide) rfl cx_J1_init (lw_meth q169) q118 q167 q168) rfl hl.1 rfl (Nat.le_of_ble_eq_true rfl) dJ2_init_1) (fun H locs cells slots hw hS => ?_)
    refine lv_aload_n hx hb dJ2_init_4 rfl (lv_at hl 0 rfl) ?_
    refine xr_sref X (x_phi hw).1 q174 dJ2_init_5 ?_
    obtain ⟨S2, hS2, hm⟩ := ob_s hm
    refine xr_putR (v := (some (gSp g 0))) X hw hS xc10 in_J2 tyJ2_ok nmJ2 1 (by decide) q176 rfl (tyJ2_ok 1 (by decide)) rfl hS2 dJ2_init_8 (fun H locs hw hS => ?_)
    obtain rfl := Option.some.inj hm
    exact xr_vret X hr hlk hw hS dJ2_init_11
  exact hg _ _ _ _ hw va_S.rf
/-! jdk/internal/util/ArraysSupport.newLength -/
def kX_J15_newLength_21 (g : XC) (N : Nat) (x0 : Int32) (x1 : Int32) : Option (Int32) :=
  none
theorem wkX_J15_newLength_21 {p : Program} {l : Launch} {e : Env} {s : State} {m : MethodId} {args : Array Value} {below : List Frame} {meth : Method} {c : Code} {g : XC} {D : va_G} {A : Nat → Prop} {S : XS} {w : Int32} (X : xX g D A RJ15 S p s m args c cJ15_newLength 4) (hr : meth.sig.returnType = (Option.some Jvm.ClassFile.FieldType.int)) (hlk : meth.locks = false) (hnm : meth.name = yJ15_newLength.name) (N : Nat) :
    ∀ (x0 : Int32) (x1 : Int32) (H : Heap) (locs : List Loc) (ls : Array Slot) (cells slots : Nat), kX_J15_newLength_21 g N x0 x1 = some w → xW g D A S s H → va_S A s.heap H locs → lv_has ls 4 [(0, .int x0), (1, .int x1)] → W p l e (xRm g S 1) s m args below meth c H locs cells slots (MQ below (xQi g D A (S, w)) args s (g.2.1 - xTop S) (g.2.2.1 - xSl S) A) (F0 m 21 ls []) := by
  obtain ⟨hx, hb, -, hown, hts, -⟩ := id X
  intro x0 x1 H locs ls cells slots hm hw hS hl
  unfold kX_J15_newLength_21 at hm
  refine lv_iload_n hx hb dJ15_newLength_21 rfl (lv_at hl 0 rfl) ?_
  refine lv_iload_n hx hb dJ15_newLength_22 rfl (lv_at hl 1 rfl) ?_
  cases hm
def kX_J15_newLength (g : XC) (N : Nat) (x0 : Int32) (x1 : Int32) (x2 : Int32) : Option (Int32) :=
  bnd (if (x1 : Int32) < x2 then x2 else x1) fun v1 =>
  bnd (x0 + v1) fun v2 =>
  if v2 ≤ 0 then
    kX_J15_newLength_21 g N x0 x1
  else
    if (2147483639 : Int32) < v2 then
      kX_J15_newLength_21 g N x0 x1
    else
      some v2
theorem cx_J15_newLength : yJ15_newLength.cls ≠ "java/lang/invoke/MethodHandle" ∧ yJ15_newLength.cls ≠ "java/lang/invoke/VarHandle" ∧ (parseMethodDescriptor yJ15_newLength.desc).map (fun d => d.parameters.length) = some 3 := by decide +kernel
theorem met_J15_newLength {l : Launch} {g : XC} {D : va_G} {A : Nat → Prop} (N : Nat) (S : XS) (x0 : Int32) (x1 : Int32) (x2 : Int32) (w : Int32) (hm : kX_J15_newLength g N x0 x1 x2 = some w) : Met l yJ15_newLength (ws_ yJ15_newLength cJ15_newLength 4 (Option.some Jvm.ClassFile.FieldType.int)) (xRm g S 1) (xPre g D A [.int x0, .int x1, .int x2] S) (xQi g D A (S, w)) (g.2.1 - xTop S) (g.2.2.1 - xSl S) A := by
  refine x_start (own := RJ15) (by decide +kernel) rfl (Nat.le_of_ble_eq_true rfl) (fun p e s m below meth c ls X hr hlk hnm hw hl => ?_)
  obtain ⟨hx, hb, -, hown, hts, -⟩ := id X
  have hl : lv_has ls 4 [(0, .int x0), (1, .int x1), (2, .int x2)] := hl
  have hg : ∀ (H : Heap) (locs : List Loc) (cells slots : Nat), xW g D A S s H → va_S A s.heap H locs → W p l e (xRm g S 1) s m ([.int x0, .int x1, .int x2] : List Value).toArray below meth c H locs cells slots (MQ below (xQi g D A (S, w)) ([.int x0, .int x1, .int x2] : List Value).toArray s (g.2.1 - xTop S) (g.2.2.1 - xSl S) A) (F0 m 0 ls []) := by
    intro H locs cells slots hw hS
    unfold kX_J15_newLength at hm
    refine lv_iload_n hx hb dJ15_newLength_0 rfl (lv_at hl 0 rfl) ?_
    refine lv_iload_n hx hb dJ15_newLength_1 rfl (lv_at hl 1 rfl) ?_
    refine lv_iload_n hx hb dJ15_newLength_2 rfl (lv_at hl 2 rfl) ?_
    refine xr_mmax X hw hl.1 q382 q383 q127 q384 (Nat.le_of_ble_eq_true rfl) dJ15_newLength_3 (fun cells slots => ?_)
    refine lv_topi (fun v1 ev1 => ?_)
    replace hm := bnd_s hm ev1
    refine lv_iadd hx hb dJ15_newLength_6 ?_
    refine lv_topi (fun v2 ev2 => ?_)
    replace hm := bnd_s hm ev2
    refine lv_istore_n (lv' := [(3, .int v2), (0, .int x0), (1, .int x1), (2, .int x2)]) hx hb dJ15_newLength_7 rfl hl (by decide) rfl (fun ls hl => ?_)
    refine lv_iconst (v := 0) hx hb dJ15_newLength_8 (by decide) ?_
    refine lv_iload_n hx hb dJ15_newLength_9 rfl (lv_at hl 0 rfl) ?_
    refine lv_icmp_ge (tgt := 21) hx hb dJ15_newLength_10 (by decide) (fun c3 => ?_) (fun c3 => ?_)
    · replace hm := if_t c3 hm
      exact wkX_J15_newLength_21 X hr hlk hnm N x0 x1 H locs ls _ _ hm hw hS (lv_sub hl [1, 2] rfl)
    · replace hm := if_f c3 hm
      refine lv_iload_n hx hb dJ15_newLength_13 rfl (lv_at hl 0 rfl) ?_
      refine lv_ldc (v := 2147483639) hx hb hown (hts _ q385) dJ15_newLength_14 ?_
      refine lv_icmp_gt (tgt := 21) hx hb dJ15_newLength_16 (by decide) (fun c4 => ?_) (fun c4 => ?_)
      · replace hm := if_t c4 hm
        exact wkX_J15_newLength_21 X hr hlk hnm N x0 x1 H locs ls _ _ hm hw hS (lv_sub hl [1, 2] rfl)
      · replace hm := if_f c4 hm
        refine lv_iload_n hx hb dJ15_newLength_19 rfl (lv_at hl 0 rfl) ?_
        obtain rfl := Option.some.inj hm
        exact xr_iret (v := v2) X hr hlk hw hS rfl dJ15_newLength_20
  exact hg _ _ _ _ hw va_S.rf
/-! java/util/Arrays.copyOf_2 -/
def kX_J16_copyOf_2 (g : XC) (N : Nat) (S : XS) (x0 : Nat) (x1 : Int32) (x2 : Nat) : Option (XS × Nat) :=
  if x2 = (gSp g 3) then
    (xNewR S 3 x1).bind fun S2 =>
    (o_len g S2 x0).bind fun v3 =>
    bnd (if (x1 : Int32) < v3 then x1 else v3) fun v4 =>
    (a_cpyR g S2 x0 0 (xTop S) 0 v4).bind fun S5 =>
    some (S5, (xTop S))
  else
    none
theorem cx_J16_copyOf_2 : yJ16_copyOf_2.cls ≠ "java/lang/invoke/MethodHandle" ∧ yJ16_copyOf_2.cls ≠ "java/lang/invoke/VarHandle" ∧ (parseMethodDescriptor yJ16_copyOf_2.desc).map (fun d => d.parameters.length) = some 3 := by decide +kernel
theorem met_J16_copyOf_2 {l : Launch} {g : XC} {D : va_G} {A : Nat → Prop} (N : Nat) (S : XS) (x0 : Nat) (x1 : Int32) (x2 : Nat) (w : XS × Nat) (hm : kX_J16_copyOf_2 g N S x0 x1 x2 = some w) : Met l yJ16_copyOf_2 (ws_ yJ16_copyOf_2 cJ16_copyOf_2 4 (Option.some (Jvm.ClassFile.FieldType.array (Jvm.ClassFile.FieldType.object "java/lang/Object")))) (xRm g S 1) (xPre g D A [.ref x0, .int x1, .ref x2] S) (xQr g D A w) (g.2.1 - xTop S) (g.2.2.1 - xSl S) A := by
  refine x_start (own := RJ16) (by decide +kernel) rfl (Nat.le_of_ble_eq_true rfl) (fun p e s m below meth c ls X hr hlk hnm hw hl => ?_)
  obtain ⟨hx, hb, -, hown, hts, -⟩ := id X
  have hl : lv_has ls 4 [(0, .ref x0), (1, .int x1), (2, .ref x2)] := hl
  have hg : ∀ (H : Heap) (locs : List Loc) (cells slots : Nat), xW g D A S s H → va_S A s.heap H locs → W p l e (xRm g S 1) s m ([.ref x0, .int x1, .ref x2] : List Value).toArray below meth c H locs cells slots (MQ below (xQr g D A w) ([.ref x0, .int x1, .ref x2] : List Value).toArray s (g.2.1 - xTop S) (g.2.2.1 - xSl S) A) (F0 m 0 ls []) := by
    intro H locs cells slots hw hS
    unfold kX_J16_copyOf_2 at hm
    refine lv_aload_n hx hb dJ16_copyOf_2_0 rfl (lv_at hl 2 rfl) ?_
    refine xr_ldcM X X.2.2.2.2.2.1.2.2.2.1 q414 dJ16_copyOf_2_1 ?_
    refine lv_acmp_ne (rx := some x2) (ry := some (gSp g 3)) (tgt := 13) hx hb dJ16_copyOf_2_3 (by decide) (fun c1 => ?_) (fun c1 => ?_)
    · replace hm := if_f (fun z => c1 (congrArg some z)) hm
      refine lv_aload_n hx hb dJ16_copyOf_2_13 rfl (lv_at hl 2 rfl) ?_
      cases hm
    · replace hm := if_t (Option.some.inj c1) hm
      refine lv_iload_n hx hb dJ16_copyOf_2_6 rfl (lv_at hl 1 rfl) ?_
      obtain ⟨S2, hS2, hm⟩ := ob_s hm
      refine xr_newR (k := 3) X hw hS (by decide) rfl q416 q415 hS2 dJ16_copyOf_2_7 (fun H cells slots hw hS => ?_)
      refine lv_goto (tgt := 24) hx hb dJ16_copyOf_2_10 (by decide) ?_
      refine lv_astore_n (lv' := [(3, .ref (xTop S)), (0, .ref x0), (1, .int x1), (2, .ref x2)]) hx hb dJ16_copyOf_2_24 rfl hl (by decide) rfl (fun ls hl => ?_)
      refine lv_aload_n hx hb dJ16_copyOf_2_25 rfl (lv_at hl 1 rfl) ?_
      refine lv_iconst (v := 0) hx hb dJ16_copyOf_2_26 (by decide) ?_
      refine lv_aload_n hx hb dJ16_copyOf_2_27 rfl (lv_at hl 0 rfl) ?_
      refine lv_iconst (v := 0) hx hb dJ16_copyOf_2_28 (by decide) ?_
      refine lv_aload_n hx hb dJ16_copyOf_2_29 rfl (lv_at hl 1 rfl) ?_
      obtain ⟨v3, hv3, hm⟩ := ob_s hm
      refine xr_olen X hw hS hv3 dJ16_copyOf_2_30 ?_
      refine lv_iload_n hx hb dJ16_copyOf_2_31 rfl (lv_at hl 2 rfl) ?_
      refine xr_mmin X hw hl.1 q417 q418 q127 q419 (Nat.le_of_ble_eq_true rfl) dJ16_copyOf_2_32 (fun cells slots => ?_)
      refine lv_topi (fun v4 ev4 => ?_)
      replace hm := bnd_s hm ev4
      obtain ⟨S5, hS5, hm⟩ := ob_s hm
      refine xr_cpyR X hw hS hl.1 q420 (Nat.le_of_ble_eq_true rfl) hS5 dJ16_copyOf_2_35 (fun H locs hw hS => ?_)
      refine lv_aload_n hx hb dJ16_copyOf_2_38 rfl (lv_at hl 0 rfl) ?_
      obtain rfl := Option.some.inj hm
      exact xr_aret X hr (by first | exact Or.inl ⟨_, rfl⟩ | exact Or.inr ⟨_, rfl⟩) hlk hw hS dJ16_copyOf_2_39
  exact hg _ _ _ _ hw va_S.rf
/-! java/util/Arrays.copyOf -/
def kX_J16_copyOf (g : XC) (N : Nat) (S : XS) (x0 : Nat) (x1 : Int32) : Option (XS × Nat) :=
  (o_arr g S x0).bind fun u1 =>
  (kX_J16_copyOf_2 g N S x0 x1 (gSp g 3)).bind fun w2 =>
  some (w2.1, w2.2)
theorem cx_J16_copyOf : yJ16_copyOf.cls ≠ "java/lang/invoke/MethodHandle" ∧ yJ16_copyOf.cls ≠ "java/lang/invoke/VarHandle" ∧ (parseMethodDescriptor yJ16_copyOf.desc).map (fun d => d.parameters.length) = some 2 := by decide +kernel
theorem met_J16_copyOf {l : Launch} {g : XC} {D : va_G} {A : Nat → Prop} (N : Nat) (S : XS) (x0 : Nat) (x1 : Int32) (w : XS × Nat) (hm : kX_J16_copyOf g N S x0 x1 = some w) : Met l yJ16_copyOf (ws_ yJ16_copyOf cJ16_copyOf 2 (Option.some (Jvm.ClassFile.FieldType.array (Jvm.ClassFile.FieldType.object "java/lang/Object")))) (xRm g S 2) (xPre g D A [.ref x0, .int x1] S) (xQr g D A w) (g.2.1 - xTop S) (g.2.2.1 - xSl S) A := by
  refine x_start (own := RJ16) (by decide +kernel) rfl (Nat.le_of_ble_eq_true rfl) (fun p e s m below meth c ls X hr hlk hnm hw hl => ?_)
  obtain ⟨hx, hb, -, hown, hts, -⟩ := id X
  have hl : lv_has ls 2 [(0, .ref x0), (1, .int x1)] := hl
  have hg : ∀ (H : Heap) (locs : List Loc) (cells slots : Nat), xW g D A S s H → va_S A s.heap H locs → W p l e (xRm g S 2) s m ([.ref x0, .int x1] : List Value).toArray below meth c H locs cells slots (MQ below (xQr g D A w) ([.ref x0, .int x1] : List Value).toArray s (g.2.1 - xTop S) (g.2.2.1 - xSl S) A) (F0 m 0 ls []) := by
    intro H locs cells slots hw hS
    unfold kX_J16_copyOf at hm
    refine lv_aload_n hx hb dJ16_copyOf_0 rfl (lv_at hl 0 rfl) ?_
    refine lv_iload_n hx hb dJ16_copyOf_1 rfl (lv_at hl 1 rfl) ?_
    refine lv_aload_n hx hb dJ16_copyOf_2 rfl (lv_at hl 0 rfl) ?_
    obtain ⟨u1, hu1, hm⟩ := ob_s hm
    refine xr_getC X hw hl.1 hu1 q392 (Nat.le_of_ble_eq_true rfl) dJ16_copyOf_3 ?_
    obtain ⟨w2, hw2, hm⟩ := ob_s hm
    refine xr_retr hS (xr_runS X hw (met_J16_copyOf_2 N S x0 x1 (gSp g 3) w2 hw2) (x_cs X (lv := 1) (by omega) (by decide) cx_J16_copyOf_2 (lw_S q411 q412 q140 q413)) rfl hl.1 rfl (Nat.le_of_ble_eq_true rfl) dJ16_copyOf_6) (fun H locs cells slots hw hS => ?_)
    obtain rfl := Option.some.inj hm
    exact xr_aret X hr (by first | exact Or.inl ⟨_, rfl⟩ | exact Or.inr ⟨_, rfl⟩) hlk hw hS dJ16_copyOf_9
  exact hg _ _ _ _ hw va_S.rf
/-! java/util/ArrayList.grow_2 -/
def kX_J2_grow_2_20 (g : XC) (N : Nat) (S : XS) (x0 : Nat) (x1 : Int32) (x2 : Int32) : Option (XS × Nat) :=
  (kX_J15_newLength g N x2 (x1 - x2) (x2 >>> ((1 : Int32) &&& 31))).bind fun w1 =>
  (f_obj S 10 x0 1).bind fun v2 =>
  (kX_J16_copyOf g N S v2 w1).bind fun w3 =>
  (f_putR w3.1 10 x0 1 (some w3.2)).bind fun S4 =>
  some (S4, w3.2)
theorem wkX_J2_grow_2_20 {p : Program} {l : Launch} {e : Env} {s : State} {m : MethodId} {args : Array Value} {below : List Frame} {meth : Method} {c : Code} {g : XC} {D : va_G} {A : Nat → Prop} {S0 : XS} {w : XS × Nat} (X : xX g D A RJ2 S0 p s m args c cJ2_grow_2 4) (hr : meth.sig.returnType = (Option.some (Jvm.ClassFile.FieldType.array (Jvm.ClassFile.FieldType.object "java/lang/Object")))) (hlk : meth.locks = false) (hnm : meth.name = yJ2_grow_2.name) (N : Nat) :
    ∀ (S : XS) (x0 : Nat) (x1 : Int32) (x2 : Int32) (H : Heap) (locs : List Loc) (ls : Array Slot) (cells slots : Nat), kX_J2_grow_2_20 g N S x0 x1 x2 = some w → xW g D A S s H → va_S A s.heap H locs → lv_has ls 4 [(0, .ref x0), (1, .int x1), (2, .int x2)] → W p l e (xRm g S0 3) s m args below meth c H locs cells slots (MQ below (xQr g D A w) args s (g.2.1 - xTop S0) (g.2.2.1 - xSl S0) A) (F0 m 20 ls []) := by
  obtain ⟨hx, hb, -, hown, hts, -⟩ := id X
  intro S x0 x1 x2 H locs ls cells slots hm hw hS hl
  unfold kX_J2_grow_2_20 at hm
  refine lv_iload_n hx hb dJ2_grow_2_20 rfl (lv_at hl 2 rfl) ?_
  refine lv_iload_n hx hb dJ2_grow_2_21 rfl (lv_at hl 1 rfl) ?_
  refine lv_iload_n hx hb dJ2_grow_2_22 rfl (lv_at hl 2 rfl) ?_
  refine lv_isub hx hb dJ2_grow_2_23 ?_
  refine lv_iload_n hx hb dJ2_grow_2_24 rfl (lv_at hl 2 rfl) ?_
  refine lv_iconst (v := 1) hx hb dJ2_grow_2_25 (by decide) ?_
  refine lv_ishr hx hb dJ2_grow_2_26 ?_
  obtain ⟨w1, hw1, hm⟩ := ob_s hm
  refine xr_reti hS (xr_runS X hw (met_J15_newLength N S x2 (x1 - x2) (x2 >>> ((1 : Int32) &&& 31)) w1 hw1) (x_cs X (lv := 1) (by omega) (by decide) cx_J15_newLength (lw_S q379 q380 q139 q381)) rfl hl.1 rfl (Nat.le_of_ble_eq_true rfl) dJ2_grow_2_27) (fun H locs cells slots hw hS => ?_)
  refine lv_istore_n (lv' := [(3, .int w1), (0, .ref x0), (1, .int x1), (2, .int x2)]) hx hb dJ2_grow_2_30 rfl hl (by decide) rfl (fun ls hl => ?_)
  refine lv_aload_n hx hb dJ2_grow_2_31 rfl (lv_at hl 1 rfl) ?_
  refine lv_aload_n hx hb dJ2_grow_2_32 rfl (lv_at hl 1 rfl) ?_
  obtain ⟨v2, hv2, hm⟩ := ob_s hm
  refine xr_val X hw xc10 in_J2 1 (by decide) q176 (f_obj_s hv2) dJ2_grow_2_33 ?_
  refine lv_iload_n hx hb dJ2_grow_2_36 rfl (lv_at hl 0 rfl) ?_
  obtain ⟨w3, hw3, hm⟩ := ob_s hm
  refine xr_retr hS (xr_runS X hw (met_J16_copyOf N S v2 w1 w3 hw3) (x_cs X (lv := 2) (by omega) (by decide) cx_J16_copyOf (lw_S q389 q390 q140 q391)) rfl hl.1 rfl (Nat.le_of_ble_eq_true rfl) dJ2_grow_2_37) (fun H locs cells slots hw hS => ?_)
  refine lv_dup_x1 hx hb dJ2_grow_2_40 rfl rfl ?_
  obtain ⟨S4, hS4, hm⟩ := ob_s hm
  refine xr_putR (v := (some w3.2)) X hw hS xc10 in_J2 tyJ2_ok nmJ2 1 (by decide) q176 rfl (tyJ2_ok 1 (by decide)) rfl hS4 dJ2_grow_2_41 (fun H locs hw hS => ?_)
  obtain rfl := Option.some.inj hm
  exact xr_aret X hr (by first | exact Or.inl ⟨_, rfl⟩ | exact Or.inr ⟨_, rfl⟩) hlk hw hS dJ2_grow_2_44
def kX_J2_grow_2 (g : XC) (N : Nat) (S : XS) (x0 : Nat) (x1 : Int32) : Option (XS × Nat) :=
  (f_obj S 10 x0 1).bind fun v1 =>
  (o_len g S v1).bind fun v2 =>
  if (0 : Int32) < v2 then
    kX_J2_grow_2_20 g N S x0 x1 v2
  else
    (f_obj S 10 x0 1).bind fun v4 =>
    if v4 = (gSp g 0) then
      bnd (if (10 : Int32) < x1 then x1 else 10) fun v6 =>
      (xNewR S 3 v6).bind fun S7 =>
      (f_putR S7 10 x0 1 (some (xTop S))).bind fun S8 =>
      some (S8, (xTop S))
    else
      kX_J2_grow_2_20 g N S x0 x1 v2
theorem cx_J2_grow_2 : yJ2_grow_2.cls = RJ2 ∧ yJ2_grow_2.cls ≠ "java/lang/invoke/MethodHandle" ∧ yJ2_grow_2.cls ≠ "java/lang/invoke/VarHandle" ∧ (parseMethodDescriptor yJ2_grow_2.desc).map (fun d => d.parameters.length) = some 1 := by decide +kernel
theorem met_J2_grow_2 {l : Launch} {g : XC} {D : va_G} {A : Nat → Prop} (N : Nat) (S : XS) (x0 : Nat) (x1 : Int32) (w : XS × Nat) (hm : kX_J2_grow_2 g N S x0 x1 = some w) : Met l yJ2_grow_2 (ws_ yJ2_grow_2 cJ2_grow_2 4 (Option.some (Jvm.ClassFile.FieldType.array (Jvm.ClassFile.FieldType.object "java/lang/Object")))) (xRm g S 3) (xPre g D A [.ref x0, .int x1] S) (xQr g D A w) (g.2.1 - xTop S) (g.2.2.1 - xSl S) A := by
  refine x_start (own := RJ2) (by decide +kernel) rfl (Nat.le_of_ble_eq_true rfl) (fun p e s m below meth c ls X hr hlk hnm hw hl => ?_)
  obtain ⟨hx, hb, -, hown, hts, -⟩ := id X
  have hl : lv_has ls 4 [(0, .ref x0), (1, .int x1)] := hl
  have hg : ∀ (H : Heap) (locs : List Loc) (cells slots : Nat), xW g D A S s H → va_S A s.heap H locs → W p l e (xRm g S 3) s m ([.ref x0, .int x1] : List Value).toArray below meth c H locs cells slots (MQ below (xQr g D A w) ([.ref x0, .int x1] : List Value).toArray s (g.2.1 - xTop S) (g.2.2.1 - xSl S) A) (F0 m 0 ls []) := by
    intro H locs cells slots hw hS
    unfold kX_J2_grow_2 at hm
    refine lv_aload_n hx hb dJ2_grow_2_0 rfl (lv_at hl 0 rfl) ?_
    obtain ⟨v1, hv1, hm⟩ := ob_s hm
    refine xr_val X hw xc10 in_J2 1 (by decide) q176 (f_obj_s hv1) dJ2_grow_2_1 ?_
    obtain ⟨v2, hv2, hm⟩ := ob_s hm
    refine xr_olen X hw hS hv2 dJ2_grow_2_4 ?_
    refine lv_istore_n (lv' := [(2, .int v2), (0, .ref x0), (1, .int x1)]) hx hb dJ2_grow_2_5 rfl hl (by decide) rfl (fun ls hl => ?_)
    refine lv_iload_n hx hb dJ2_grow_2_6 rfl (lv_at hl 0 rfl) ?_
    refine lv_if_gt (tgt := 20) hx hb dJ2_grow_2_7 (by decide) (fun c3 => ?_) (fun c3 => ?_)
    · replace hm := if_t c3 hm
      exact wkX_J2_grow_2_20 X hr hlk hnm N S x0 x1 v2 H locs ls _ _ hm hw hS (lv_sub hl [1, 2, 0] rfl)
    · replace hm := if_f c3 hm
      refine lv_aload_n hx hb dJ2_grow_2_10 rfl (lv_at hl 1 rfl) ?_
      obtain ⟨v4, hv4, hm⟩ := ob_s hm
      refine xr_val X hw xc10 in_J2 1 (by decide) q176 (f_obj_s hv4) dJ2_grow_2_11 ?_
      refine xr_sref X (x_phi hw).1 q174 dJ2_grow_2_14 ?_
      refine lv_acmp_eq (rx := some v4) (ry := some (gSp g 0)) (tgt := 45) hx hb dJ2_grow_2_17 (by decide) (fun c5 => ?_) (fun c5 => ?_)
      · replace hm := if_t (Option.some.inj c5) hm
        refine lv_aload_n hx hb dJ2_grow_2_45 rfl (lv_at hl 1 rfl) ?_
        refine lv_bipush (v := 10) hx hb dJ2_grow_2_46 (by decide) ?_
        refine lv_iload_n hx hb dJ2_grow_2_48 rfl (lv_at hl 2 rfl) ?_
        refine xr_mmax X hw hl.1 q423 q383 q127 q384 (Nat.le_of_ble_eq_true rfl) dJ2_grow_2_49 (fun cells slots => ?_)
        refine lv_topi (fun v6 ev6 => ?_)
        replace hm := bnd_s hm ev6
        obtain ⟨S7, hS7, hm⟩ := ob_s hm
        refine xr_newR (k := 3) X hw hS (by decide) rfl q424 q415 hS7 dJ2_grow_2_52 (fun H cells slots hw hS => ?_)
        refine lv_dup_x1 hx hb dJ2_grow_2_55 rfl rfl ?_
        obtain ⟨S8, hS8, hm⟩ := ob_s hm
        refine xr_putR (v := (some (xTop S))) X hw hS xc10 in_J2 tyJ2_ok nmJ2 1 (by decide) q176 rfl (tyJ2_ok 1 (by decide)) rfl hS8 dJ2_grow_2_56 (fun H locs hw hS => ?_)
        obtain rfl := Option.some.inj hm
        exact xr_aret X hr (by first | exact Or.inl ⟨_, rfl⟩ | exact Or.inr ⟨_, rfl⟩) hlk hw hS dJ2_grow_2_59
      · replace hm := if_f (fun z => c5 (congrArg some z)) hm
        exact wkX_J2_grow_2_20 X hr hlk hnm N S x0 x1 v2 H locs ls _ _ hm hw hS (lv_sub hl [1, 2, 0] rfl)
  exact hg _ _ _ _ hw va_S.rf
/-! java/util/ArrayList.grow -/
def kX_J2_grow (g : XC) (N : Nat) (S : XS) (x0 : Nat) : Option (XS × Nat) :=
  (f_int S 10 x0 2).bind fun v1 =>
  (f_cls S 10 x0).bind fun u2 =>
  (kX_J2_grow_2 g N S x0 (v1 + 1)).bind fun w3 =>
  some (w3.1, w3.2)
theorem cx_J2_grow : yJ2_grow.cls = RJ2 ∧ yJ2_grow.cls ≠ "java/lang/invoke/MethodHandle" ∧ yJ2_grow.cls ≠ "java/lang/invoke/VarHandle" ∧ (parseMethodDescriptor yJ2_grow.desc).map (fun d => d.parameters.length) = some 0 := by decide +kernel
theorem met_J2_grow {l : Launch} {g : XC} {D : va_G} {A : Nat → Prop} (N : Nat) (S : XS) (x0 : Nat) (w : XS × Nat) (hm : kX_J2_grow g N S x0 = some w) : Met l yJ2_grow (ws_ yJ2_grow cJ2_grow 1 (Option.some (Jvm.ClassFile.FieldType.array (Jvm.ClassFile.FieldType.object "java/lang/Object")))) (xRm g S 4) (xPre g D A [.ref x0] S) (xQr g D A w) (g.2.1 - xTop S) (g.2.2.1 - xSl S) A := by
  refine x_start (own := RJ2) (by decide +kernel) rfl (Nat.le_of_ble_eq_true rfl) (fun p e s m below meth c ls X hr hlk hnm hw hl => ?_)
  obtain ⟨hx, hb, -, hown, hts, -⟩ := id X
  have hl : lv_has ls 1 [(0, .ref x0)] := hl
  have hg : ∀ (H : Heap) (locs : List Loc) (cells slots : Nat), xW g D A S s H → va_S A s.heap H locs → W p l e (xRm g S 4) s m ([.ref x0] : List Value).toArray below meth c H locs cells slots (MQ below (xQr g D A w) ([.ref x0] : List Value).toArray s (g.2.1 - xTop S) (g.2.2.1 - xSl S) A) (F0 m 0 ls []) := by
    intro H locs cells slots hw hS
    unfold kX_J2_grow at hm
    refine lv_aload_n hx hb dJ2_grow_0 rfl (lv_at hl 0 rfl) ?_
    refine lv_aload_n hx hb dJ2_grow_1 rfl (lv_at hl 0 rfl) ?_
    obtain ⟨v1, hv1, hm⟩ := ob_s hm
    refine xr_val X hw xc10 in_J2 2 (by decide) q177 (f_int_s hv1) dJ2_grow_2 ?_
    refine lv_iconst (v := 1) hx hb dJ2_grow_5 (by decide) ?_
    refine lv_iadd hx hb dJ2_grow_6 ?_
    obtain ⟨u2, hu2, hm⟩ := ob_s hm
    obtain ⟨w3, hw3, hm⟩ := ob_s hm
    refine xr_retr hS (xr_runV X hw (met_J2_grow_2 N S x0 (v1 + 1) w3 hw3) (x_cv X (lv := 3) (by omega) (by decide) cx_J2_grow_2 (lw_V q375 q377 qs4 q119 q378)) xc10 hu2 rfl hl.1 rfl (Nat.le_of_ble_eq_true rfl) dJ2_grow_7) (fun H locs cells slots hw hS => ?_)
    obtain rfl := Option.some.inj hm
    exact xr_aret X hr (by first | exact Or.inl ⟨_, rfl⟩ | exact Or.inr ⟨_, rfl⟩) hlk hw hS dJ2_grow_10
  exact hg _ _ _ _ hw va_S.rf
/-! java/util/ArrayList.add_2 -/
def kX_J2_add_2_11 (g : XC) (N : Nat) (S : XS) (x0 : Nat) (x1 : Nat) (x2 : Nat) (x3 : Int32) : Option (XS) :=
  (v_any g S x1).bind fun u2 =>
  (a_putR S 3 x2 x3 (some x1)).bind fun S1 =>
  (f_putI S1 10 x0 2 (x3 + 1)).bind fun S3 =>
  some S3
theorem wkX_J2_add_2_11 {p : Program} {l : Launch} {e : Env} {s : State} {m : MethodId} {args : Array Value} {below : List Frame} {meth : Method} {c : Code} {g : XC} {D : va_G} {A : Nat → Prop} {S0 : XS} {w : XS} (X : xX g D A RJ2 S0 p s m args c cJ2_add_2 4) (hr : meth.sig.returnType = (Option.none : Option Jvm.ClassFile.FieldType)) (hlk : meth.locks = false) (hnm : meth.name = yJ2_add_2.name) (N : Nat) :
    ∀ (S : XS) (x0 : Nat) (x1 : Nat) (x2 : Nat) (x3 : Int32) (H : Heap) (locs : List Loc) (ls : Array Slot) (cells slots : Nat), kX_J2_add_2_11 g N S x0 x1 x2 x3 = some w → xW g D A S s H → va_S A s.heap H locs → lv_has ls 4 [(0, .ref x0), (1, .ref x1), (2, .ref x2), (3, .int x3)] → W p l e (xRm g S0 5) s m args below meth c H locs cells slots (MQ below (xQv g D A w) args s (g.2.1 - xTop S0) (g.2.2.1 - xSl S0) A) (F0 m 11 ls []) := by
  obtain ⟨hx, hb, -, hown, hts, -⟩ := id X
  intro S x0 x1 x2 x3 H locs ls cells slots hm hw hS hl
  unfold kX_J2_add_2_11 at hm
  refine lv_aload_n hx hb dJ2_add_2_11 rfl (lv_at hl 2 rfl) ?_
  refine lv_iload_n hx hb dJ2_add_2_12 rfl (lv_at hl 3 rfl) ?_
  refine lv_aload_n hx hb dJ2_add_2_13 rfl (lv_at hl 1 rfl) ?_
  obtain ⟨u2, hu2, hm⟩ := ob_s hm
  obtain ⟨S1, hS1, hm⟩ := ob_s hm
  refine xr_aast X hw hS (v_any_s X hw hu2) hS1 dJ2_add_2_14 (fun H locs hw hS => ?_)
  refine lv_aload_n hx hb dJ2_add_2_15 rfl (lv_at hl 0 rfl) ?_
  refine lv_iload_n hx hb dJ2_add_2_16 rfl (lv_at hl 3 rfl) ?_
  refine lv_iconst (v := 1) hx hb dJ2_add_2_17 (by decide) ?_
  refine lv_iadd hx hb dJ2_add_2_18 ?_
  obtain ⟨S3, hS3, hm⟩ := ob_s hm
  refine xr_putI X hw hS xc10 in_J2 tyJ2_ok nmJ2 2 (by decide) q177 rfl (tyJ2_ok 2 (by decide)) rfl rfl hS3 dJ2_add_2_19 (fun H locs hw hS => ?_)
  obtain rfl := Option.some.inj hm
  exact xr_vret X hr hlk hw hS dJ2_add_2_22
def kX_J2_add_2 (g : XC) (N : Nat) (S : XS) (x0 : Nat) (x1 : Nat) (x2 : Nat) (x3 : Int32) : Option (XS) :=
  (o_len g S x2).bind fun v1 =>
  if x3 = v1 then
    (f_cls S 10 x0).bind fun u3 =>
    (kX_J2_grow g N S x0).bind fun w4 =>
    kX_J2_add_2_11 g N w4.1 x0 x1 w4.2 x3
  else
    kX_J2_add_2_11 g N S x0 x1 x2 x3
theorem cx_J2_add_2 : yJ2_add_2.cls = RJ2 ∧ yJ2_add_2.cls ≠ "java/lang/invoke/MethodHandle" ∧ yJ2_add_2.cls ≠ "java/lang/invoke/VarHandle" ∧ (parseMethodDescriptor yJ2_add_2.desc).map (fun d => d.parameters.length) = some 3 := by decide +kernel
theorem met_J2_add_2 {l : Launch} {g : XC} {D : va_G} {A : Nat → Prop} (N : Nat) (S : XS) (x0 : Nat) (x1 : Nat) (x2 : Nat) (x3 : Int32) (w : XS) (hm : kX_J2_add_2 g N S x0 x1 x2 x3 = some w) : Met l yJ2_add_2 (ws_ yJ2_add_2 cJ2_add_2 4 (Option.none : Option Jvm.ClassFile.FieldType)) (xRm g S 5) (xPre g D A [.ref x0, .ref x1, .ref x2, .int x3] S) (xQv g D A w) (g.2.1 - xTop S) (g.2.2.1 - xSl S) A := by
  refine x_start (own := RJ2) (by decide +kernel) rfl (Nat.le_of_ble_eq_true rfl) (fun p e s m below meth c ls X hr hlk hnm hw hl => ?_)
  obtain ⟨hx, hb, -, hown, hts, -⟩ := id X
  have hl : lv_has ls 4 [(0, .ref x0), (1, .ref x1), (2, .ref x2), (3, .int x3)] := hl
  have hg : ∀ (H : Heap) (locs : List Loc) (cells slots : Nat), xW g D A S s H → va_S A s.heap H locs → W p l e (xRm g S 5) s m ([.ref x0, .ref x1, .ref x2, .int x3] : List Value).toArray below meth c H locs cells slots (MQ below (xQv g D A w) ([.ref x0, .ref x1, .ref x2, .int x3] : List Value).toArray s (g.2.1 - xTop S) (g.2.2.1 - xSl S) A) (F0 m 0 ls []) := by
    intro H locs cells slots hw hS
    unfold kX_J2_add_2 at hm
    refine lv_iload_n hx hb dJ2_add_2_0 rfl (lv_at hl 3 rfl) ?_
    refine lv_aload_n hx hb dJ2_add_2_1 rfl (lv_at hl 2 rfl) ?_
    obtain ⟨v1, hv1, hm⟩ := ob_s hm
    refine xr_olen X hw hS hv1 dJ2_add_2_2 ?_
    refine lv_icmp_ne (tgt := 11) hx hb dJ2_add_2_3 (by decide) (fun c2 => ?_) (fun c2 => ?_)
    · replace hm := if_f c2 hm
      exact wkX_J2_add_2_11 X hr hlk hnm N S x0 x1 x2 x3 H locs ls _ _ hm hw hS (lv_sub hl [0, 1, 2, 3] rfl)
    · replace hm := if_t c2 hm
      refine lv_aload_n hx hb dJ2_add_2_6 rfl (lv_at hl 0 rfl) ?_
      obtain ⟨u3, hu3, hm⟩ := ob_s hm
      obtain ⟨w4, hw4, hm⟩ := ob_s hm
      refine xr_retr hS (xr_runV X hw (met_J2_grow N S x0 w4 hw4) (x_cv X (lv := 4) (by omega) (by decide) cx_J2_grow (lw_V q371 q373 qs3 q119 q374)) xc10 hu3 rfl hl.1 rfl (Nat.le_of_ble_eq_true rfl) dJ2_add_2_7) (fun H locs cells slots hw hS => ?_)
      refine lv_astore_n (lv' := [(2, .ref w4.2), (0, .ref x0), (1, .ref x1), (3, .int x3)]) hx hb dJ2_add_2_10 rfl hl (by decide) rfl (fun ls hl => ?_)
      exact wkX_J2_add_2_11 X hr hlk hnm N w4.1 x0 x1 w4.2 x3 H locs ls _ _ hm hw hS (lv_sub hl [1, 2, 0, 3] rfl)
  exact hg _ _ _ _ hw va_S.rf
/-! java/util/ArrayList.add -/
def kX_J2_add (g : XC) (N : Nat) (S : XS) (x0 : Nat) (x1 : Nat) : Option (XS × Int32) :=
  (f_int S 10 x0 0).bind fun v1 =>
  (f_putI S 10 x0 0 (v1 + 1)).bind fun S2 =>
  (f_obj S2 10 x0 1).bind fun v3 =>
  (f_int S2 10 x0 2).bind fun v4 =>
  (f_cls S2 10 x0).bind fun u5 =>
  (kX_J2_add_2 g N S2 x0 x1 v3 v4).bind fun w6 =>
  some (w6, 1)
theorem cx_J2_add : yJ2_add.cls = RJ2 ∧ yJ2_add.cls ≠ "java/lang/invoke/MethodHandle" ∧ yJ2_add.cls ≠ "java/lang/invoke/VarHandle" ∧ (parseMethodDescriptor yJ2_add.desc).map (fun d => d.parameters.length) = some 1 := by decide +kernel
theorem met_J2_add {l : Launch} {g : XC} {D : va_G} {A : Nat → Prop} (N : Nat) (S : XS) (x0 : Nat) (x1 : Nat) (w : XS × Int32) (hm : kX_J2_add g N S x0 x1 = some w) : Met l yJ2_add (ws_ yJ2_add cJ2_add 2 (Option.some Jvm.ClassFile.FieldType.boolean)) (xRm g S 6) (xPre g D A [.ref x0, .ref x1] S) (xQi g D A w) (g.2.1 - xTop S) (g.2.2.1 - xSl S) A := by
  refine x_start (own := RJ2) (by decide +kernel) rfl (Nat.le_of_ble_eq_true rfl) (fun p e s m below meth c ls X hr hlk hnm hw hl => ?_)
  obtain ⟨hx, hb, -, hown, hts, -⟩ := id X
  have hl : lv_has ls 2 [(0, .ref x0), (1, .ref x1)] := hl
  have hg : ∀ (H : Heap) (locs : List Loc) (cells slots : Nat), xW g D A S s H → va_S A s.heap H locs → W p l e (xRm g S 6) s m ([.ref x0, .ref x1] : List Value).toArray below meth c H locs cells slots (MQ below (xQi g D A w) ([.ref x0, .ref x1] : List Value).toArray s (g.2.1 - xTop S) (g.2.2.1 - xSl S) A) (F0 m 0 ls []) := by
    intro H locs cells slots hw hS
    unfold kX_J2_add at hm
    refine lv_aload_n hx hb dJ2_add_0 rfl (lv_at hl 0 rfl) ?_
    refine lv_dup hx hb dJ2_add_1 rfl ?_
    obtain ⟨v1, hv1, hm⟩ := ob_s hm
    refine xr_valS X hw xc10 in_J2 0 (by decide) q179 (x_same_mod hts) (f_int_s hv1) dJ2_add_2 ?_
    refine lv_iconst (v := 1) hx hb dJ2_add_5 (by decide) ?_
    refine lv_iadd hx hb dJ2_add_6 ?_
    obtain ⟨S2, hS2, hm⟩ := ob_s hm
    refine xr_putIS X hw hS xc10 in_J2 tyJ2_ok nmJ2 0 (by decide) q179 (x_same_mod hts) rfl (tyJ2_ok 0 (by decide)) rfl rfl hS2 dJ2_add_7 (fun H locs hw hS => ?_)
    refine lv_aload_n hx hb dJ2_add_10 rfl (lv_at hl 0 rfl) ?_
    refine lv_aload_n hx hb dJ2_add_11 rfl (lv_at hl 1 rfl) ?_
    refine lv_aload_n hx hb dJ2_add_12 rfl (lv_at hl 0 rfl) ?_
    obtain ⟨v3, hv3, hm⟩ := ob_s hm
    refine xr_val X hw xc10 in_J2 1 (by decide) q176 (f_obj_s hv3) dJ2_add_13 ?_
    refine lv_aload_n hx hb dJ2_add_16 rfl (lv_at hl 0 rfl) ?_
    obtain ⟨v4, hv4, hm⟩ := ob_s hm
    refine xr_val X hw xc10 in_J2 2 (by decide) q177 (f_int_s hv4) dJ2_add_17 ?_
    obtain ⟨u5, hu5, hm⟩ := ob_s hm
    obtain ⟨w6, hw6, hm⟩ := ob_s hm
    refine xr_retv hS (xr_runV X hw (met_J2_add_2 N S2 x0 x1 v3 v4 w6 hw6) (x_cv X (lv := 5) (by omega) (by decide) cx_J2_add_2 (lw_V q367 q369 qs2 q119 q370)) xc10 hu5 rfl hl.1 rfl (Nat.le_of_ble_eq_true rfl) dJ2_add_20) (fun H locs cells slots hw hS => ?_)
    refine lv_iconst (v := 1) hx hb dJ2_add_23 (by decide) ?_
    obtain rfl := Option.some.inj hm
    exact xr_iret (v := 1) X hr hlk hw hS rfl dJ2_add_24
  exact hg _ _ _ _ hw va_S.rf
/-! java/util/ArrayList.size -/
def kX_J2_size (g : XC) (N : Nat) (S : XS) (x0 : Nat) : Option (XS × Int32) :=
  (f_int S 10 x0 2).bind fun v1 =>
  some (S, v1)
theorem cx_J2_size : yJ2_size.cls = RJ2 ∧ yJ2_size.cls ≠ "java/lang/invoke/MethodHandle" ∧ yJ2_size.cls ≠ "java/lang/invoke/VarHandle" ∧ (parseMethodDescriptor yJ2_size.desc).map (fun d => d.parameters.length) = some 0 := by decide +kernel
theorem met_J2_size {l : Launch} {g : XC} {D : va_G} {A : Nat → Prop} (N : Nat) (S : XS) (x0 : Nat) (w : XS × Int32) (hm : kX_J2_size g N S x0 = some w) : Met l yJ2_size (ws_ yJ2_size cJ2_size 1 (Option.some Jvm.ClassFile.FieldType.int)) (xRm g S 0) (xPre g D A [.ref x0] S) (xQi g D A w) (g.2.1 - xTop S) (g.2.2.1 - xSl S) A := by
  refine x_start (own := RJ2) (by decide +kernel) rfl (Nat.le_of_ble_eq_true rfl) (fun p e s m below meth c ls X hr hlk hnm hw hl => ?_)
  obtain ⟨hx, hb, -, hown, hts, -⟩ := id X
  have hl : lv_has ls 1 [(0, .ref x0)] := hl
  have hg : ∀ (H : Heap) (locs : List Loc) (cells slots : Nat), xW g D A S s H → va_S A s.heap H locs → W p l e (xRm g S 0) s m ([.ref x0] : List Value).toArray below meth c H locs cells slots (MQ below (xQi g D A w) ([.ref x0] : List Value).toArray s (g.2.1 - xTop S) (g.2.2.1 - xSl S) A) (F0 m 0 ls []) := by
    intro H locs cells slots hw hS
    unfold kX_J2_size at hm
    refine lv_aload_n hx hb dJ2_size_0 rfl (lv_at hl 0 rfl) ?_
    obtain ⟨v1, hv1, hm⟩ := ob_s hm
    refine xr_val X hw xc10 in_J2 2 (by decide) q177 (f_int_s hv1) dJ2_size_1 ?_
    obtain rfl := Option.some.inj hm
    exact xr_iret (v := v1) X hr hlk hw hS rfl dJ2_size_4
  exact hg _ _ _ _ hw va_S.rf
/-! jdk/internal/util/Preconditions.checkIndex -/
def kX_J11_checkIndex_9 (g : XC) (N : Nat) (S : XS) (x0 : Int32) (x1 : Int32) (x2 : Option Nat) : Option (XS × Int32) :=
  none
theorem wkX_J11_checkIndex_9 {p : Program} {l : Launch} {e : Env} {s : State} {m : MethodId} {args : Array Value} {below : List Frame} {meth : Method} {c : Code} {g : XC} {D : va_G} {A : Nat → Prop} {S0 : XS} {w : XS × Int32} (X : xX g D A RJ11 S0 p s m args c cJ11_checkIndex 3) (hr : meth.sig.returnType = (Option.some Jvm.ClassFile.FieldType.int)) (hlk : meth.locks = false) (hnm : meth.name = yJ11_checkIndex.name) (N : Nat) :
    ∀ (S : XS) (x0 : Int32) (x1 : Int32) (x2 : Option Nat) (H : Heap) (locs : List Loc) (ls : Array Slot) (cells slots : Nat), kX_J11_checkIndex_9 g N S x0 x1 x2 = some w → xW g D A S s H → va_S A s.heap H locs → lv_has ls 3 [(0, .int x0), (1, .int x1), (2, (va_rf x2))] → W p l e (xRm g S0 0) s m args below meth c H locs cells slots (MQ below (xQi g D A w) args s (g.2.1 - xTop S0) (g.2.2.1 - xSl S0) A) (F0 m 9 ls []) := by
  obtain ⟨hx, hb, -, hown, hts, -⟩ := id X
  intro S x0 x1 x2 H locs ls cells slots hm hw hS hl
  unfold kX_J11_checkIndex_9 at hm
  refine lv_aload_nq hx hb dJ11_checkIndex_9 rfl (lv_at hl 2 rfl) ?_
  refine lv_iload_n hx hb dJ11_checkIndex_10 rfl (lv_at hl 0 rfl) ?_
  refine lv_iload_n hx hb dJ11_checkIndex_11 rfl (lv_at hl 1 rfl) ?_
  cases hm
def kX_J11_checkIndex (g : XC) (N : Nat) (S : XS) (x0 : Int32) (x1 : Int32) (x2 : Option Nat) : Option (XS × Int32) :=
  if x0 < 0 then
    kX_J11_checkIndex_9 g N S x0 x1 x2
  else
    if x0 < x1 then
      some (S, x0)
    else
      kX_J11_checkIndex_9 g N S x0 x1 x2
theorem cx_J11_checkIndex : yJ11_checkIndex.cls ≠ "java/lang/invoke/MethodHandle" ∧ yJ11_checkIndex.cls ≠ "java/lang/invoke/VarHandle" ∧ (parseMethodDescriptor yJ11_checkIndex.desc).map (fun d => d.parameters.length) = some 3 := by decide +kernel
theorem met_J11_checkIndex {l : Launch} {g : XC} {D : va_G} {A : Nat → Prop} (N : Nat) (S : XS) (x0 : Int32) (x1 : Int32) (x2 : Option Nat) (w : XS × Int32) (hm : kX_J11_checkIndex g N S x0 x1 x2 = some w) : Met l yJ11_checkIndex (ws_ yJ11_checkIndex cJ11_checkIndex 3 (Option.some Jvm.ClassFile.FieldType.int)) (xRm g S 0) (xPre g D A [.int x0, .int x1, (va_rf x2)] S) (xQi g D A w) (g.2.1 - xTop S) (g.2.2.1 - xSl S) A := by
  refine x_start (own := RJ11) (by decide +kernel) rfl (by cases x2 <;> exact Nat.le_of_ble_eq_true rfl) (fun p e s m below meth c ls X hr hlk hnm hw hl => ?_)
  obtain ⟨hx, hb, -, hown, hts, -⟩ := id X
  have hl : lv_has ls 3 [(0, .int x0), (1, .int x1), (2, (va_rf x2))] := hl
  have hg : ∀ (H : Heap) (locs : List Loc) (cells slots : Nat), xW g D A S s H → va_S A s.heap H locs → W p l e (xRm g S 0) s m ([.int x0, .int x1, (va_rf x2)] : List Value).toArray below meth c H locs cells slots (MQ below (xQi g D A w) ([.int x0, .int x1, (va_rf x2)] : List Value).toArray s (g.2.1 - xTop S) (g.2.2.1 - xSl S) A) (F0 m 0 ls []) := by
    intro H locs cells slots hw hS
    unfold kX_J11_checkIndex at hm
    refine lv_iload_n hx hb dJ11_checkIndex_0 rfl (lv_at hl 0 rfl) ?_
    refine lv_if_lt (tgt := 9) hx hb dJ11_checkIndex_1 (by decide) (fun c1 => ?_) (fun c1 => ?_)
    · replace hm := if_t c1 hm
      exact wkX_J11_checkIndex_9 X hr hlk hnm N S x0 x1 x2 H locs ls _ _ hm hw hS (lv_sub hl [0, 1, 2] rfl)
    · replace hm := if_f c1 hm
      refine lv_iload_n hx hb dJ11_checkIndex_4 rfl (lv_at hl 0 rfl) ?_
      refine lv_iload_n hx hb dJ11_checkIndex_5 rfl (lv_at hl 1 rfl) ?_
      refine lv_icmp_lt (tgt := 16) hx hb dJ11_checkIndex_6 (by decide) (fun c2 => ?_) (fun c2 => ?_)
      · replace hm := if_t c2 hm
        refine lv_iload_n hx hb dJ11_checkIndex_16 rfl (lv_at hl 0 rfl) ?_
        obtain rfl := Option.some.inj hm
        exact xr_iret (v := x0) X hr hlk hw hS rfl dJ11_checkIndex_17
      · replace hm := if_f c2 hm
        exact wkX_J11_checkIndex_9 X hr hlk hnm N S x0 x1 x2 H locs ls _ _ hm hw hS (lv_sub hl [0, 1, 2] rfl)
  exact hg _ _ _ _ hw va_S.rf
/-! java/util/Objects.checkIndex -/
def kX_J17_checkIndex (g : XC) (N : Nat) (S : XS) (x0 : Int32) (x1 : Int32) : Option (XS × Int32) :=
  (kX_J11_checkIndex g N S x0 x1 none).bind fun w1 =>
  some (w1.1, w1.2)
theorem cx_J17_checkIndex : yJ17_checkIndex.cls ≠ "java/lang/invoke/MethodHandle" ∧ yJ17_checkIndex.cls ≠ "java/lang/invoke/VarHandle" ∧ (parseMethodDescriptor yJ17_checkIndex.desc).map (fun d => d.parameters.length) = some 2 := by decide +kernel
theorem met_J17_checkIndex {l : Launch} {g : XC} {D : va_G} {A : Nat → Prop} (N : Nat) (S : XS) (x0 : Int32) (x1 : Int32) (w : XS × Int32) (hm : kX_J17_checkIndex g N S x0 x1 = some w) : Met l yJ17_checkIndex (ws_ yJ17_checkIndex cJ17_checkIndex 2 (Option.some Jvm.ClassFile.FieldType.int)) (xRm g S 1) (xPre g D A [.int x0, .int x1] S) (xQi g D A w) (g.2.1 - xTop S) (g.2.2.1 - xSl S) A := by
  refine x_start (own := RJ17) (by decide +kernel) rfl (Nat.le_of_ble_eq_true rfl) (fun p e s m below meth c ls X hr hlk hnm hw hl => ?_)
  obtain ⟨hx, hb, -, hown, hts, -⟩ := id X
  have hl : lv_has ls 2 [(0, .int x0), (1, .int x1)] := hl
  have hg : ∀ (H : Heap) (locs : List Loc) (cells slots : Nat), xW g D A S s H → va_S A s.heap H locs → W p l e (xRm g S 1) s m ([.int x0, .int x1] : List Value).toArray below meth c H locs cells slots (MQ below (xQi g D A w) ([.int x0, .int x1] : List Value).toArray s (g.2.1 - xTop S) (g.2.2.1 - xSl S) A) (F0 m 0 ls []) := by
    intro H locs cells slots hw hS
    unfold kX_J17_checkIndex at hm
    refine lv_iload_n hx hb dJ17_checkIndex_0 rfl (lv_at hl 0 rfl) ?_
    refine lv_iload_n hx hb dJ17_checkIndex_1 rfl (lv_at hl 1 rfl) ?_
    refine lv_null hx hb dJ17_checkIndex_2 ?_
    obtain ⟨w1, hw1, hm⟩ := ob_s hm
    refine xr_reti hS (xr_runS X hw (met_J11_checkIndex N S x0 x1 none w1 hw1) (x_cs X (lv := 0) (by omega) (by decide) cx_J11_checkIndex (lw_S q446 q447 q131 q448)) rfl hl.1 rfl (Nat.le_of_ble_eq_true rfl) dJ17_checkIndex_3) (fun H locs cells slots hw hS => ?_)
    obtain rfl := Option.some.inj hm
    exact xr_iret (v := w1.2) X hr hlk hw hS rfl dJ17_checkIndex_6
  exact hg _ _ _ _ hw va_S.rf
/-! java/util/ArrayList.fastRemove -/
def kX_J2_fastRemove_34 (g : XC) (N : Nat) (S : XS) (x0 : Nat) (x1 : Nat) (x3 : Int32) : Option (XS) :=
  (f_putI S 10 x0 2 x3).bind fun S1 =>
  (a_putR S1 3 x1 x3 none).bind fun S2 =>
  some S2
theorem wkX_J2_fastRemove_34 {p : Program} {l : Launch} {e : Env} {s : State} {m : MethodId} {args : Array Value} {below : List Frame} {meth : Method} {c : Code} {g : XC} {D : va_G} {A : Nat → Prop} {S0 : XS} {w : XS} (X : xX g D A RJ2 S0 p s m args c cJ2_fastRemove 4) (hr : meth.sig.returnType = (Option.none : Option Jvm.ClassFile.FieldType)) (hlk : meth.locks = false) (hnm : meth.name = yJ2_fastRemove.name) (N : Nat) :
    ∀ (S : XS) (x0 : Nat) (x1 : Nat) (x3 : Int32) (H : Heap) (locs : List Loc) (ls : Array Slot) (cells slots : Nat), kX_J2_fastRemove_34 g N S x0 x1 x3 = some w → xW g D A S s H → va_S A s.heap H locs → lv_has ls 4 [(0, .ref x0), (1, .ref x1), (3, .int x3)] → W p l e (xRm g S0 1) s m args below meth c H locs cells slots (MQ below (xQv g D A w) args s (g.2.1 - xTop S0) (g.2.2.1 - xSl S0) A) (F0 m 34 ls []) := by
  obtain ⟨hx, hb, -, hown, hts, -⟩ := id X
  intro S x0 x1 x3 H locs ls cells slots hm hw hS hl
  unfold kX_J2_fastRemove_34 at hm
  refine lv_aload_n hx hb dJ2_fastRemove_34 rfl (lv_at hl 1 rfl) ?_
  refine lv_aload_n hx hb dJ2_fastRemove_35 rfl (lv_at hl 0 rfl) ?_
  refine lv_iload_n hx hb dJ2_fastRemove_36 rfl (lv_at hl 2 rfl) ?_
  refine lv_dup_x1 hx hb dJ2_fastRemove_37 rfl rfl ?_
  obtain ⟨S1, hS1, hm⟩ := ob_s hm
  refine xr_putI X hw hS xc10 in_J2 tyJ2_ok nmJ2 2 (by decide) q177 rfl (tyJ2_ok 2 (by decide)) rfl rfl hS1 dJ2_fastRemove_38 (fun H locs hw hS => ?_)
  refine lv_null hx hb dJ2_fastRemove_41 ?_
  obtain ⟨S2, hS2, hm⟩ := ob_s hm
  refine xr_aastN X hw hS hS2 dJ2_fastRemove_42 (fun H locs hw hS => ?_)
  obtain rfl := Option.some.inj hm
  exact xr_vret X hr hlk hw hS dJ2_fastRemove_43
def kX_J2_fastRemove (g : XC) (N : Nat) (S : XS) (x0 : Nat) (x1 : Nat) (x2 : Int32) : Option (XS) :=
  (f_int S 10 x0 0).bind fun v1 =>
  (f_putI S 10 x0 0 (v1 + 1)).bind fun S2 =>
  (f_int S2 10 x0 2).bind fun v3 =>
  bnd (v3 - 1) fun v4 =>
  if (v3 - 1) ≤ x2 then
    kX_J2_fastRemove_34 g N S2 x0 x1 v4
  else
    (a_cpyR g S2 x1 (x2 + 1) x1 x2 (v4 - x2)).bind fun S6 =>
    kX_J2_fastRemove_34 g N S6 x0 x1 v4
theorem cx_J2_fastRemove : yJ2_fastRemove.cls = RJ2 ∧ yJ2_fastRemove.cls ≠ "java/lang/invoke/MethodHandle" ∧ yJ2_fastRemove.cls ≠ "java/lang/invoke/VarHandle" ∧ (parseMethodDescriptor yJ2_fastRemove.desc).map (fun d => d.parameters.length) = some 2 := by decide +kernel
theorem met_J2_fastRemove {l : Launch} {g : XC} {D : va_G} {A : Nat → Prop} (N : Nat) (S : XS) (x0 : Nat) (x1 : Nat) (x2 : Int32) (w : XS) (hm : kX_J2_fastRemove g N S x0 x1 x2 = some w) : Met l yJ2_fastRemove (ws_ yJ2_fastRemove cJ2_fastRemove 4 (Option.none : Option Jvm.ClassFile.FieldType)) (xRm g S 1) (xPre g D A [.ref x0, .ref x1, .int x2] S) (xQv g D A w) (g.2.1 - xTop S) (g.2.2.1 - xSl S) A := by
  refine x_start (own := RJ2) (by decide +kernel) rfl (Nat.le_of_ble_eq_true rfl) (fun p e s m below meth c ls X hr hlk hnm hw hl => ?_)
  obtain ⟨hx, hb, -, hown, hts, -⟩ := id X
  have hl : lv_has ls 4 [(0, .ref x0), (1, .ref x1), (2, .int x2)] := hl
  have hg : ∀ (H : Heap) (locs : List Loc) (cells slots : Nat), xW g D A S s H → va_S A s.heap H locs → W p l e (xRm g S 1) s m ([.ref x0, .ref x1, .int x2] : List Value).toArray below meth c H locs cells slots (MQ below (xQv g D A w) ([.ref x0, .ref x1, .int x2] : List Value).toArray s (g.2.1 - xTop S) (g.2.2.1 - xSl S) A) (F0 m 0 ls []) := by
    intro H locs cells slots hw hS
    unfold kX_J2_fastRemove at hm
    refine lv_aload_n hx hb dJ2_fastRemove_0 rfl (lv_at hl 0 rfl) ?_
    refine lv_dup hx hb dJ2_fastRemove_1 rfl ?_
    obtain ⟨v1, hv1, hm⟩ := ob_s hm
    refine xr_valS X hw xc10 in_J2 0 (by decide) q179 (x_same_mod hts) (f_int_s hv1) dJ2_fastRemove_2 ?_
    refine lv_iconst (v := 1) hx hb dJ2_fastRemove_5 (by decide) ?_
    refine lv_iadd hx hb dJ2_fastRemove_6 ?_
    obtain ⟨S2, hS2, hm⟩ := ob_s hm
    refine xr_putIS X hw hS xc10 in_J2 tyJ2_ok nmJ2 0 (by decide) q179 (x_same_mod hts) rfl (tyJ2_ok 0 (by decide)) rfl rfl hS2 dJ2_fastRemove_7 (fun H locs hw hS => ?_)
    refine lv_aload_n hx hb dJ2_fastRemove_10 rfl (lv_at hl 0 rfl) ?_
    obtain ⟨v3, hv3, hm⟩ := ob_s hm
    refine xr_val X hw xc10 in_J2 2 (by decide) q177 (f_int_s hv3) dJ2_fastRemove_11 ?_
    refine lv_iconst (v := 1) hx hb dJ2_fastRemove_14 (by decide) ?_
    refine lv_isub hx hb dJ2_fastRemove_15 ?_
    refine lv_dup hx hb dJ2_fastRemove_16 rfl ?_
    refine lv_topi (fun v4 ev4 => ?_)
    replace hm := bnd_s hm ev4
    refine lv_istore_n (lv' := [(3, .int v4), (0, .ref x0), (1, .ref x1), (2, .int x2)]) hx hb dJ2_fastRemove_17 rfl hl (by decide) rfl (fun ls hl => ?_)
    refine lv_iload_n hx hb dJ2_fastRemove_18 rfl (lv_at hl 3 rfl) ?_
    refine lv_icmp_le (tgt := 34) hx hb dJ2_fastRemove_19 (by decide) (fun c5 => ?_) (fun c5 => ?_)
    · replace hm := if_t c5 hm
      exact wkX_J2_fastRemove_34 X hr hlk hnm N S2 x0 x1 v4 H locs ls _ _ hm hw hS (lv_sub hl [1, 2, 0] rfl)
    · replace hm := if_f c5 hm
      refine lv_aload_n hx hb dJ2_fastRemove_22 rfl (lv_at hl 2 rfl) ?_
      refine lv_iload_n hx hb dJ2_fastRemove_23 rfl (lv_at hl 3 rfl) ?_
      refine lv_iconst (v := 1) hx hb dJ2_fastRemove_24 (by decide) ?_
      refine lv_iadd hx hb dJ2_fastRemove_25 ?_
      refine lv_aload_n hx hb dJ2_fastRemove_26 rfl (lv_at hl 2 rfl) ?_
      refine lv_iload_n hx hb dJ2_fastRemove_27 rfl (lv_at hl 3 rfl) ?_
      refine lv_iload_n hx hb dJ2_fastRemove_28 rfl (lv_at hl 0 rfl) ?_
      refine lv_iload_n hx hb dJ2_fastRemove_29 rfl (lv_at hl 3 rfl) ?_
      refine lv_isub hx hb dJ2_fastRemove_30 ?_
      obtain ⟨S6, hS6, hm⟩ := ob_s hm
      refine xr_cpyR X hw hS hl.1 q453 (Nat.le_of_ble_eq_true rfl) hS6 dJ2_fastRemove_31 (fun H locs hw hS => ?_)
      exact wkX_J2_fastRemove_34 X hr hlk hnm N S6 x0 x1 v4 H locs ls _ _ hm hw hS (lv_sub hl [1, 2, 0] rfl)
  exact hg _ _ _ _ hw va_S.rf
/-! java/util/ArrayList.remove -/
def kX_J2_remove (g : XC) (N : Nat) (S : XS) (x0 : Nat) (x1 : Int32) : Option (XS × Nat) :=
  (f_int S 10 x0 2).bind fun v1 =>
  (kX_J17_checkIndex g N S x1 v1).bind fun w2 =>
  (f_obj w2.1 10 x0 1).bind fun v3 =>
  (a_obj w2.1 3 v3 x1).bind fun v4 =>
  (f_cls w2.1 10 x0).bind fun u5 =>
  (kX_J2_fastRemove g N w2.1 x0 v3 x1).bind fun w6 =>
  some (w6, v4)
theorem cx_J2_remove : yJ2_remove.cls = RJ2 ∧ yJ2_remove.cls ≠ "java/lang/invoke/MethodHandle" ∧ yJ2_remove.cls ≠ "java/lang/invoke/VarHandle" ∧ (parseMethodDescriptor yJ2_remove.desc).map (fun d => d.parameters.length) = some 1 := by decide +kernel
theorem met_J2_remove {l : Launch} {g : XC} {D : va_G} {A : Nat → Prop} (N : Nat) (S : XS) (x0 : Nat) (x1 : Int32) (w : XS × Nat) (hm : kX_J2_remove g N S x0 x1 = some w) : Met l yJ2_remove (ws_ yJ2_remove cJ2_remove 4 (Option.some (Jvm.ClassFile.FieldType.object "java/lang/Object"))) (xRm g S 2) (xPre g D A [.ref x0, .int x1] S) (xQr g D A w) (g.2.1 - xTop S) (g.2.2.1 - xSl S) A := by
  refine x_start (own := RJ2) (by decide +kernel) rfl (Nat.le_of_ble_eq_true rfl) (fun p e s m below meth c ls X hr hlk hnm hw hl => ?_)
  obtain ⟨hx, hb, -, hown, hts, -⟩ := id X
  have hl : lv_has ls 4 [(0, .ref x0), (1, .int x1)] := hl
  have hg : ∀ (H : Heap) (locs : List Loc) (cells slots : Nat), xW g D A S s H → va_S A s.heap H locs → W p l e (xRm g S 2) s m ([.ref x0, .int x1] : List Value).toArray below meth c H locs cells slots (MQ below (xQr g D A w) ([.ref x0, .int x1] : List Value).toArray s (g.2.1 - xTop S) (g.2.2.1 - xSl S) A) (F0 m 0 ls []) := by
    intro H locs cells slots hw hS
    unfold kX_J2_remove at hm
    refine lv_iload_n hx hb dJ2_remove_0 rfl (lv_at hl 1 rfl) ?_
    refine lv_aload_n hx hb dJ2_remove_1 rfl (lv_at hl 0 rfl) ?_
    obtain ⟨v1, hv1, hm⟩ := ob_s hm
    refine xr_val X hw xc10 in_J2 2 (by decide) q177 (f_int_s hv1) dJ2_remove_2 ?_
    obtain ⟨w2, hw2, hm⟩ := ob_s hm
    refine xr_reti hS (xr_runS X hw (met_J17_checkIndex N S x1 v1 w2 hw2) (x_cs X (lv := 1) (by omega) (by decide) cx_J17_checkIndex (lw_S q443 q444 q142 q445)) rfl hl.1 rfl (Nat.le_of_ble_eq_true rfl) dJ2_remove_5) (fun H locs cells slots hw hS => ?_)
    refine lv_pop hx hb dJ2_remove_8 rfl ?_
    refine lv_aload_n hx hb dJ2_remove_9 rfl (lv_at hl 0 rfl) ?_
    obtain ⟨v3, hv3, hm⟩ := ob_s hm
    refine xr_val X hw xc10 in_J2 1 (by decide) q176 (f_obj_s hv3) dJ2_remove_10 ?_
    refine lv_astore_n (lv' := [(2, .ref v3), (0, .ref x0), (1, .int x1)]) hx hb dJ2_remove_13 rfl hl (by decide) rfl (fun ls hl => ?_)
    refine lv_aload_n hx hb dJ2_remove_14 rfl (lv_at hl 0 rfl) ?_
    refine lv_iload_n hx hb dJ2_remove_15 rfl (lv_at hl 2 rfl) ?_
    obtain ⟨v4, hv4, hm⟩ := ob_s hm
    refine xr_aald (v := some v4) X hw (a_obj_s hv4) dJ2_remove_16 ?_
    refine lv_astore_n (lv' := [(3, .ref v4), (2, .ref v3), (0, .ref x0), (1, .int x1)]) hx hb dJ2_remove_17 rfl hl (by decide) rfl (fun ls hl => ?_)
    refine lv_aload_n hx hb dJ2_remove_18 rfl (lv_at hl 2 rfl) ?_
    refine lv_aload_n hx hb dJ2_remove_19 rfl (lv_at hl 1 rfl) ?_
    refine lv_iload_n hx hb dJ2_remove_20 rfl (lv_at hl 3 rfl) ?_
    obtain ⟨u5, hu5, hm⟩ := ob_s hm
    obtain ⟨w6, hw6, hm⟩ := ob_s hm
    refine xr_retv hS (xr_runV X hw (met_J2_fastRemove N w2.1 x0 v3 x1 w6 hw6) (x_cv X (lv := 1) (by omega) (by decide) cx_J2_fastRemove (lw_V q449 q451 qs5 q119 q452)) xc10 hu5 rfl hl.1 rfl (Nat.le_of_ble_eq_true rfl) dJ2_remove_21) (fun H locs cells slots hw hS => ?_)
    refine lv_aload_n hx hb dJ2_remove_24 rfl (lv_at hl 0 rfl) ?_
    obtain rfl := Option.some.inj hm
    exact xr_aret X hr (by first | exact Or.inl ⟨_, rfl⟩ | exact Or.inr ⟨_, rfl⟩) hlk hw hS dJ2_remove_25
  exact hg _ _ _ _ hw va_S.rf
/-! java/util/ArrayList.elementData -/
def kX_J2_elementData (g : XC) (N : Nat) (S : XS) (x0 : Nat) (x1 : Int32) : Option (XS × Nat) :=
  (f_obj S 10 x0 1).bind fun v1 =>
  (a_obj S 3 v1 x1).bind fun v2 =>
  some (S, v2)
theorem cx_J2_elementData : yJ2_elementData.cls = RJ2 ∧ yJ2_elementData.cls ≠ "java/lang/invoke/MethodHandle" ∧ yJ2_elementData.cls ≠ "java/lang/invoke/VarHandle" ∧ (parseMethodDescriptor yJ2_elementData.desc).map (fun d => d.parameters.length) = some 1 := by decide +kernel
theorem met_J2_elementData {l : Launch} {g : XC} {D : va_G} {A : Nat → Prop} (N : Nat) (S : XS) (x0 : Nat) (x1 : Int32) (w : XS × Nat) (hm : kX_J2_elementData g N S x0 x1 = some w) : Met l yJ2_elementData (ws_ yJ2_elementData cJ2_elementData 2 (Option.some (Jvm.ClassFile.FieldType.object "java/lang/Object"))) (xRm g S 0) (xPre g D A [.ref x0, .int x1] S) (xQr g D A w) (g.2.1 - xTop S) (g.2.2.1 - xSl S) A := by
  refine x_start (own := RJ2) (by decide +kernel) rfl (Nat.le_of_ble_eq_true rfl) (fun p e s m below meth c ls X hr hlk hnm hw hl => ?_)
  obtain ⟨hx, hb, -, hown, hts, -⟩ := id X
  have hl : lv_has ls 2 [(0, .ref x0), (1, .int x1)] := hl
  have hg : ∀ (H : Heap) (locs : List Loc) (cells slots : Nat), xW g D A S s H → va_S A s.heap H locs → W p l e (xRm g S 0) s m ([.ref x0, .int x1] : List Value).toArray below meth c H locs cells slots (MQ below (xQr g D A w) ([.ref x0, .int x1] : List Value).toArray s (g.2.1 - xTop S) (g.2.2.1 - xSl S) A) (F0 m 0 ls []) := by
    intro H locs cells slots hw hS
    unfold kX_J2_elementData at hm
    refine lv_aload_n hx hb dJ2_elementData_0 rfl (lv_at hl 0 rfl) ?_
    obtain ⟨v1, hv1, hm⟩ := ob_s hm
    refine xr_val X hw xc10 in_J2 1 (by decide) q176 (f_obj_s hv1) dJ2_elementData_1 ?_
    refine lv_iload_n hx hb dJ2_elementData_4 rfl (lv_at hl 1 rfl) ?_
    obtain ⟨v2, hv2, hm⟩ := ob_s hm
    refine xr_aald (v := some v2) X hw (a_obj_s hv2) dJ2_elementData_5 ?_
    obtain rfl := Option.some.inj hm
    exact xr_aret X hr (by first | exact Or.inl ⟨_, rfl⟩ | exact Or.inr ⟨_, rfl⟩) hlk hw hS dJ2_elementData_6
  exact hg _ _ _ _ hw va_S.rf
/-! java/util/ArrayList.get -/
def kX_J2_get (g : XC) (N : Nat) (S : XS) (x0 : Nat) (x1 : Int32) : Option (XS × Nat) :=
  (f_int S 10 x0 2).bind fun v1 =>
  (kX_J17_checkIndex g N S x1 v1).bind fun w2 =>
  (f_cls w2.1 10 x0).bind fun u3 =>
  (kX_J2_elementData g N w2.1 x0 x1).bind fun w4 =>
  some (w4.1, w4.2)
theorem cx_J2_get : yJ2_get.cls = RJ2 ∧ yJ2_get.cls ≠ "java/lang/invoke/MethodHandle" ∧ yJ2_get.cls ≠ "java/lang/invoke/VarHandle" ∧ (parseMethodDescriptor yJ2_get.desc).map (fun d => d.parameters.length) = some 1 := by decide +kernel
theorem met_J2_get {l : Launch} {g : XC} {D : va_G} {A : Nat → Prop} (N : Nat) (S : XS) (x0 : Nat) (x1 : Int32) (w : XS × Nat) (hm : kX_J2_get g N S x0 x1 = some w) : Met l yJ2_get (ws_ yJ2_get cJ2_get 2 (Option.some (Jvm.ClassFile.FieldType.object "java/lang/Object"))) (xRm g S 2) (xPre g D A [.ref x0, .int x1] S) (xQr g D A w) (g.2.1 - xTop S) (g.2.2.1 - xSl S) A := by
  refine x_start (own := RJ2) (by decide +kernel) rfl (Nat.le_of_ble_eq_true rfl) (fun p e s m below meth c ls X hr hlk hnm hw hl => ?_)
  obtain ⟨hx, hb, -, hown, hts, -⟩ := id X
  have hl : lv_has ls 2 [(0, .ref x0), (1, .int x1)] := hl
  have hg : ∀ (H : Heap) (locs : List Loc) (cells slots : Nat), xW g D A S s H → va_S A s.heap H locs → W p l e (xRm g S 2) s m ([.ref x0, .int x1] : List Value).toArray below meth c H locs cells slots (MQ below (xQr g D A w) ([.ref x0, .int x1] : List Value).toArray s (g.2.1 - xTop S) (g.2.2.1 - xSl S) A) (F0 m 0 ls []) := by
    intro H locs cells slots hw hS
    unfold kX_J2_get at hm
    refine lv_iload_n hx hb dJ2_get_0 rfl (lv_at hl 1 rfl) ?_
    refine lv_aload_n hx hb dJ2_get_1 rfl (lv_at hl 0 rfl) ?_
    obtain ⟨v1, hv1, hm⟩ := ob_s hm
    refine xr_val X hw xc10 in_J2 2 (by decide) q177 (f_int_s hv1) dJ2_get_2 ?_
    obtain ⟨w2, hw2, hm⟩ := ob_s hm
    refine xr_reti hS (xr_runS X hw (met_J17_checkIndex N S x1 v1 w2 hw2) (x_cs X (lv := 1) (by omega) (by decide) cx_J17_checkIndex (lw_S q443 q444 q142 q445)) rfl hl.1 rfl (Nat.le_of_ble_eq_true rfl) dJ2_get_5) (fun H locs cells slots hw hS => ?_)
    refine lv_pop hx hb dJ2_get_8 rfl ?_
    refine lv_aload_n hx hb dJ2_get_9 rfl (lv_at hl 0 rfl) ?_
    refine lv_iload_n hx hb dJ2_get_10 rfl (lv_at hl 1 rfl) ?_
    obtain ⟨u3, hu3, hm⟩ := ob_s hm
    obtain ⟨w4, hw4, hm⟩ := ob_s hm
    refine xr_retr hS (xr_runV X hw (met_J2_elementData N w2.1 x0 x1 w4 hw4) (x_cv X (lv := 0) (by omega) (by decide) cx_J2_elementData (lw_V q492 q493 q494 q119 q495)) xc10 hu3 rfl hl.1 rfl (Nat.le_of_ble_eq_true rfl) dJ2_get_11) (fun H locs cells slots hw hS => ?_)
    obtain rfl := Option.some.inj hm
    exact xr_aret X hr (by first | exact Or.inl ⟨_, rfl⟩ | exact Or.inr ⟨_, rfl⟩) hlk hw hS dJ2_get_14
  exact hg _ _ _ _ hw va_S.rf
/-! java/util/ArrayList.isEmpty -/
def kX_J2_isEmpty (g : XC) (N : Nat) (S : XS) (x0 : Nat) : Option (XS × Int32) :=
  (f_int S 10 x0 2).bind fun v1 =>
  if v1 = 0 then
    some (S, 1)
  else
    some (S, 0)
theorem cx_J2_isEmpty : yJ2_isEmpty.cls = RJ2 ∧ yJ2_isEmpty.cls ≠ "java/lang/invoke/MethodHandle" ∧ yJ2_isEmpty.cls ≠ "java/lang/invoke/VarHandle" ∧ (parseMethodDescriptor yJ2_isEmpty.desc).map (fun d => d.parameters.length) = some 0 := by decide +kernel
theorem met_J2_isEmpty {l : Launch} {g : XC} {D : va_G} {A : Nat → Prop} (N : Nat) (S : XS) (x0 : Nat) (w : XS × Int32) (hm : kX_J2_isEmpty g N S x0 = some w) : Met l yJ2_isEmpty (ws_ yJ2_isEmpty cJ2_isEmpty 1 (Option.some Jvm.ClassFile.FieldType.boolean)) (xRm g S 0) (xPre g D A [.ref x0] S) (xQi g D A w) (g.2.1 - xTop S) (g.2.2.1 - xSl S) A := by
  refine x_start (own := RJ2) (by decide +kernel) rfl (Nat.le_of_ble_eq_true rfl) (fun p e s m below meth c ls X hr hlk hnm hw hl => ?_)
  obtain ⟨hx, hb, -, hown, hts, -⟩ := id X
  have hl : lv_has ls 1 [(0, .ref x0)] := hl
  have hg : ∀ (H : Heap) (locs : List Loc) (cells slots : Nat), xW g D A S s H → va_S A s.heap H locs → W p l e (xRm g S 0) s m ([.ref x0] : List Value).toArray below meth c H locs cells slots (MQ below (xQi g D A w) ([.ref x0] : List Value).toArray s (g.2.1 - xTop S) (g.2.2.1 - xSl S) A) (F0 m 0 ls []) := by
    intro H locs cells slots hw hS
    unfold kX_J2_isEmpty at hm
    refine lv_aload_n hx hb dJ2_isEmpty_0 rfl (lv_at hl 0 rfl) ?_
    obtain ⟨v1, hv1, hm⟩ := ob_s hm
    refine xr_val X hw xc10 in_J2 2 (by decide) q177 (f_int_s hv1) dJ2_isEmpty_1 ?_
    refine lv_if_ne (tgt := 11) hx hb dJ2_isEmpty_4 (by decide) (fun c2 => ?_) (fun c2 => ?_)
    · replace hm := if_f c2 hm
      refine lv_iconst (v := 0) hx hb dJ2_isEmpty_11 (by decide) ?_
      obtain rfl := Option.some.inj hm
      exact xr_iret (v := 0) X hr hlk hw hS rfl dJ2_isEmpty_12
    · replace hm := if_t c2 hm
      refine lv_iconst (v := 1) hx hb dJ2_isEmpty_7 (by decide) ?_
      refine lv_goto (tgt := 12) hx hb dJ2_isEmpty_8 (by decide) ?_
      obtain rfl := Option.some.inj hm
      exact xr_iret (v := 1) X hr hlk hw hS rfl dJ2_isEmpty_12
  exact hg _ _ _ _ hw va_S.rf
/-! java/util/ArrayList.toArray -/
def kX_J2_toArray (g : XC) (N : Nat) (S : XS) (x0 : Nat) : Option (XS × Nat) :=
  (f_obj S 10 x0 1).bind fun v1 =>
  (f_int S 10 x0 2).bind fun v2 =>
  (kX_J16_copyOf g N S v1 v2).bind fun w3 =>
  some (w3.1, w3.2)
theorem cx_J2_toArray : yJ2_toArray.cls = RJ2 ∧ yJ2_toArray.cls ≠ "java/lang/invoke/MethodHandle" ∧ yJ2_toArray.cls ≠ "java/lang/invoke/VarHandle" ∧ (parseMethodDescriptor yJ2_toArray.desc).map (fun d => d.parameters.length) = some 0 := by decide +kernel
theorem met_J2_toArray {l : Launch} {g : XC} {D : va_G} {A : Nat → Prop} (N : Nat) (S : XS) (x0 : Nat) (w : XS × Nat) (hm : kX_J2_toArray g N S x0 = some w) : Met l yJ2_toArray (ws_ yJ2_toArray cJ2_toArray 1 (Option.some (Jvm.ClassFile.FieldType.array (Jvm.ClassFile.FieldType.object "java/lang/Object")))) (xRm g S 3) (xPre g D A [.ref x0] S) (xQr g D A w) (g.2.1 - xTop S) (g.2.2.1 - xSl S) A := by
  refine x_start (own := RJ2) (by decide +kernel) rfl (Nat.le_of_ble_eq_true rfl) (fun p e s m below meth c ls X hr hlk hnm hw hl => ?_)
  obtain ⟨hx, hb, -, hown, hts, -⟩ := id X
  have hl : lv_has ls 1 [(0, .ref x0)] := hl
  have hg : ∀ (H : Heap) (locs : List Loc) (cells slots : Nat), xW g D A S s H → va_S A s.heap H locs → W p l e (xRm g S 3) s m ([.ref x0] : List Value).toArray below meth c H locs cells slots (MQ below (xQr g D A w) ([.ref x0] : List Value).toArray s (g.2.1 - xTop S) (g.2.2.1 - xSl S) A) (F0 m 0 ls []) := by
    intro H locs cells slots hw hS
    unfold kX_J2_toArray at hm
    refine lv_aload_n hx hb dJ2_toArray_0 rfl (lv_at hl 0 rfl) ?_
    obtain ⟨v1, hv1, hm⟩ := ob_s hm
    refine xr_val X hw xc10 in_J2 1 (by decide) q176 (f_obj_s hv1) dJ2_toArray_1 ?_
    refine lv_aload_n hx hb dJ2_toArray_4 rfl (lv_at hl 0 rfl) ?_
    obtain ⟨v2, hv2, hm⟩ := ob_s hm
    refine xr_val X hw xc10 in_J2 2 (by decide) q177 (f_int_s hv2) dJ2_toArray_5 ?_
    obtain ⟨w3, hw3, hm⟩ := ob_s hm
    refine xr_retr hS (xr_runS X hw (met_J16_copyOf N S v1 v2 w3 hw3) (x_cs X (lv := 2) (by omega) (by decide) cx_J16_copyOf (lw_S q389 q390 q140 q391)) rfl hl.1 rfl (Nat.le_of_ble_eq_true rfl) dJ2_toArray_8) (fun H locs cells slots hw hS => ?_)
    obtain rfl := Option.some.inj hm
    exact xr_aret X hr (by first | exact Or.inl ⟨_, rfl⟩ | exact Or.inr ⟨_, rfl⟩) hlk hw hS dJ2_toArray_11
  exact hg _ _ _ _ hw va_S.rf
/-! java/util/ArrayList.init_2 -/
def kX_J2_init_2 (g : XC) (N : Nat) (S : XS) (x0 : Nat) (x1 : Nat) : Option (XS) :=
  (kX_J1_init g N S x0).bind fun w1 =>
  (f_cls w1 10 x1).bind fun u2 =>
  (kX_J2_toArray g N w1 x1).bind fun w3 =>
  (o_len g w3.1 w3.2).bind fun v4 =>
  (f_putI w3.1 10 x0 2 v4).bind fun S5 =>
  if v4 = 0 then
    (f_putR S5 10 x0 1 (some (gSp g 1))).bind fun S7 =>
    some S7
  else
    (f_cls S5 10 x1).bind fun u8 =>
    if (gSp g 4) = (gSp g 4) then
      (f_putR S5 10 x0 1 (some w3.2)).bind fun S13 =>
      some S13
    else
      (f_int S5 10 x0 2).bind fun v10 =>
      (kX_J16_copyOf_2 g N S5 w3.2 v10 (gSp g 3)).bind fun w11 =>
      (f_putR w11.1 10 x0 1 (some w11.2)).bind fun S12 =>
      some S12
theorem cx_J2_init_2 : yJ2_init_2.cls ≠ "java/lang/invoke/MethodHandle" ∧ yJ2_init_2.cls ≠ "java/lang/invoke/VarHandle" ∧ (parseMethodDescriptor yJ2_init_2.desc).map (fun d => d.parameters.length) = some 1 := by decide +kernel
theorem met_J2_init_2 {l : Launch} {g : XC} {D : va_G} {A : Nat → Prop} (N : Nat) (S : XS) (x0 : Nat) (x1 : Nat) (w : XS) (hm : kX_J2_init_2 g N S x0 x1 = some w) : Met l yJ2_init_2 (ws_ yJ2_init_2 cJ2_init_2 3 (Option.none : Option Jvm.ClassFile.FieldType)) (xRm g S 4) (xPre g D A [.ref x0, .ref x1] S) (xQv g D A w) (g.2.1 - xTop S) (g.2.2.1 - xSl S) A := by
  refine x_start (own := RJ2) (by decide +kernel) rfl (Nat.le_of_ble_eq_true rfl) (fun p e s m below meth c ls X hr hlk hnm hw hl => ?_)
  obtain ⟨hx, hb, -, hown, hts, -⟩ := id X
  have hl : lv_has ls 3 [(0, .ref x0), (1, .ref x1)] := hl
  have hg : ∀ (H : Heap) (locs : List Loc) (cells slots : Nat), xW g D A S s H → va_S A s.heap H locs → W p l e (xRm g S 4) s m ([.ref x0, .ref x1] : List Value).toArray below meth c H locs cells slots (MQ below (xQv g D A w) ([.ref x0, .ref x1] : List Value).toArray s (g.2.1 - xTop S) (g.2.2.1 - xSl S) A) (F0 m 0 ls []) := by
    intro H locs cells slots hw hS
    unfold kX_J2_init_2 at hm
    refine lv_aload_n hx hb dJ2_init_2_0 rfl (lv_at hl 0 rfl) ?_
    obtain ⟨w1, hw1, hm⟩ := ob_s hm
    refine xr_retv hS (xr_runI X hw (met_J1_init N S x0 w1 hw1) (x_ci X (lv := 1) (by omega) (by decide) rfl cx_J1_init (lw_meth q169) q118 q167 q168) rfl hl.1 rfl (Nat.le_of_ble_eq_true rfl) dJ2_init_2_1) (fun H locs cells slots hw hS => ?_)
    refine lv_aload_n hx hb dJ2_init_2_4 rfl (lv_at hl 1 rfl) ?_
    obtain ⟨u2, hu2, hm⟩ := ob_s hm
    obtain ⟨w3, hw3, hm⟩ := ob_s hm
    refine xr_ret5r hS (xr_runF (x := ⟨"java/util/Collection", "toArray", "()[Ljava/lang/Object;"⟩) X hw (met_J2_toArray N w1 x1 w3 hw3) (x_cf X (lv := 3) (by omega) (by decide) ci_Collection_toArray q622 q626 q628 q119 q630 q624 q623 q629 q627 q625) xc10 hu2 rfl hl.1 rfl (Nat.le_of_ble_eq_true rfl) dJ2_init_2_5) (fun H locs cells slots hw hS => ?_)
    refine lv_astore_n (lv' := [(2, .ref w3.2), (0, .ref x0), (1, .ref x1)]) hx hb dJ2_init_2_10 rfl hl (by decide) rfl (fun ls hl => ?_)
    refine lv_aload_n hx hb dJ2_init_2_11 rfl (lv_at hl 1 rfl) ?_
    refine lv_aload_n hx hb dJ2_init_2_12 rfl (lv_at hl 0 rfl) ?_
    obtain ⟨v4, hv4, hm⟩ := ob_s hm
    refine xr_olen X hw hS hv4 dJ2_init_2_13 ?_
    refine lv_dup_x1 hx hb dJ2_init_2_14 rfl rfl ?_
    obtain ⟨S5, hS5, hm⟩ := ob_s hm
    refine xr_putI X hw hS xc10 in_J2 tyJ2_ok nmJ2 2 (by decide) q177 rfl (tyJ2_ok 2 (by decide)) rfl rfl hS5 dJ2_init_2_15 (fun H locs hw hS => ?_)
    refine lv_if_eq (tgt := 57) hx hb dJ2_init_2_18 (by decide) (fun c6 => ?_) (fun c6 => ?_)
    · replace hm := if_t c6 hm
      refine lv_aload_n hx hb dJ2_init_2_57 rfl (lv_at hl 1 rfl) ?_
      refine xr_sref X (x_phi hw).2.1 q640 dJ2_init_2_58 ?_
      obtain ⟨S7, hS7, hm⟩ := ob_s hm
      refine xr_putR (v := (some (gSp g 1))) X hw hS xc10 in_J2 tyJ2_ok nmJ2 1 (by decide) q176 rfl (tyJ2_ok 1 (by decide)) rfl hS7 dJ2_init_2_61 (fun H locs hw hS => ?_)
      obtain rfl := Option.some.inj hm
      exact xr_vret X hr hlk hw hS dJ2_init_2_64
    · replace hm := if_f c6 hm
      refine lv_aload_n hx hb dJ2_init_2_21 rfl (lv_at hl 2 rfl) ?_
      obtain ⟨u8, hu8, hm⟩ := ob_s hm
      refine xr_getCI X hw hl.1 hu8 q632 (Nat.le_of_ble_eq_true rfl) dJ2_init_2_22 ?_
      refine xr_ldcM X X.2.2.2.2.2.1.2.2.2.2.1 q637 dJ2_init_2_27 ?_
      refine lv_acmp_ne (rx := some (gSp g 4)) (ry := some (gSp g 4)) (tgt := 40) hx hb dJ2_init_2_29 (by decide) (fun c9 => ?_) (fun c9 => ?_)
      · replace hm := if_f (fun z => c9 (congrArg some z)) hm
        refine lv_aload_n hx hb dJ2_init_2_40 rfl (lv_at hl 1 rfl) ?_
        refine lv_aload_n hx hb dJ2_init_2_41 rfl (lv_at hl 0 rfl) ?_
        refine lv_aload_n hx hb dJ2_init_2_42 rfl (lv_at hl 1 rfl) ?_
        obtain ⟨v10, hv10, hm⟩ := ob_s hm
        refine xr_val X hw xc10 in_J2 2 (by decide) q177 (f_int_s hv10) dJ2_init_2_43 ?_
        refine xr_ldcM X X.2.2.2.2.2.1.2.2.2.1 q638 dJ2_init_2_46 ?_
        obtain ⟨w11, hw11, hm⟩ := ob_s hm
        refine xr_retr hS (xr_runS X hw (met_J16_copyOf_2 N S5 w3.2 v10 (gSp g 3) w11 hw11) (x_cs X (lv := 1) (by omega) (by decide) cx_J16_copyOf_2 (lw_S q639 q412 q140 q413)) rfl hl.1 rfl (Nat.le_of_ble_eq_true rfl) dJ2_init_2_48) (fun H locs cells slots hw hS => ?_)
        obtain ⟨S12, hS12, hm⟩ := ob_s hm
        refine xr_putR (v := (some w11.2)) X hw hS xc10 in_J2 tyJ2_ok nmJ2 1 (by decide) q176 rfl (tyJ2_ok 1 (by decide)) rfl hS12 dJ2_init_2_51 (fun H locs hw hS => ?_)
        refine lv_goto (tgt := 64) hx hb dJ2_init_2_54 (by decide) ?_
        obtain rfl := Option.some.inj hm
        exact xr_vret X hr hlk hw hS dJ2_init_2_64
      · replace hm := if_t (Option.some.inj c9) hm
        refine lv_aload_n hx hb dJ2_init_2_32 rfl (lv_at hl 1 rfl) ?_
        refine lv_aload_n hx hb dJ2_init_2_33 rfl (lv_at hl 0 rfl) ?_
        obtain ⟨S13, hS13, hm⟩ := ob_s hm
        refine xr_putR (v := (some w3.2)) X hw hS xc10 in_J2 tyJ2_ok nmJ2 1 (by decide) q176 rfl (tyJ2_ok 1 (by decide)) rfl hS13 dJ2_init_2_34 (fun H locs hw hS => ?_)
        refine lv_goto (tgt := 64) hx hb dJ2_init_2_37 (by decide) ?_
        obtain rfl := Option.some.inj hm
        exact xr_vret X hr hlk hw hS dJ2_init_2_64
  exact hg _ _ _ _ hw va_S.rf
/-! java/lang/String.checkIndex -/
def kX_J8_checkIndex (g : XC) (N : Nat) (S : XS) (x0 : Int32) (x1 : Int32) : Option (XS) :=
  (kX_J11_checkIndex g N S x0 x1 (gFm g)).bind fun w1 =>
  some w1.1
theorem cx_J8_checkIndex : yJ8_checkIndex.cls ≠ "java/lang/invoke/MethodHandle" ∧ yJ8_checkIndex.cls ≠ "java/lang/invoke/VarHandle" ∧ (parseMethodDescriptor yJ8_checkIndex.desc).map (fun d => d.parameters.length) = some 2 := by decide +kernel
theorem met_J8_checkIndex {l : Launch} {g : XC} {D : va_G} {A : Nat → Prop} (N : Nat) (S : XS) (x0 : Int32) (x1 : Int32) (w : XS) (hm : kX_J8_checkIndex g N S x0 x1 = some w) : Met l yJ8_checkIndex (ws_ yJ8_checkIndex cJ8_checkIndex 2 (Option.none : Option Jvm.ClassFile.FieldType)) (xRm g S 1) (xPre g D A [.int x0, .int x1] S) (xQv g D A w) (g.2.1 - xTop S) (g.2.2.1 - xSl S) A := by
  refine x_start (own := RJ8) (by decide +kernel) rfl (Nat.le_of_ble_eq_true rfl) (fun p e s m below meth c ls X hr hlk hnm hw hl => ?_)
  obtain ⟨hx, hb, -, hown, hts, -⟩ := id X
  have hl : lv_has ls 2 [(0, .int x0), (1, .int x1)] := hl
  have hg : ∀ (H : Heap) (locs : List Loc) (cells slots : Nat), xW g D A S s H → va_S A s.heap H locs → W p l e (xRm g S 1) s m ([.int x0, .int x1] : List Value).toArray below meth c H locs cells slots (MQ below (xQv g D A w) ([.int x0, .int x1] : List Value).toArray s (g.2.1 - xTop S) (g.2.2.1 - xSl S) A) (F0 m 0 ls []) := by
    intro H locs cells slots hw hS
    unfold kX_J8_checkIndex at hm
    refine lv_iload_n hx hb dJ8_checkIndex_0 rfl (lv_at hl 0 rfl) ?_
    refine lv_iload_n hx hb dJ8_checkIndex_1 rfl (lv_at hl 1 rfl) ?_
    refine xr_sref X (x_phi hw).2.2.2.2.2.2.2.2.2.2.2.2.2.2.1 q550 dJ8_checkIndex_2 ?_
    obtain ⟨w1, hw1, hm⟩ := ob_s hm
    refine xr_reti hS (xr_runS X hw (met_J11_checkIndex N S x0 x1 (gFm g) w1 hw1) (x_cs X (lv := 0) (by omega) (by decide) cx_J11_checkIndex (lw_S q552 q447 q131 q448)) rfl hl.1 rfl (Nat.le_of_ble_eq_true rfl) dJ8_checkIndex_5) (fun H locs cells slots hw hS => ?_)
    refine lv_pop hx hb dJ8_checkIndex_8 rfl ?_
    obtain rfl := Option.some.inj hm
    exact xr_vret X hr hlk hw hS dJ8_checkIndex_9
  exact hg _ _ _ _ hw va_S.rf
/-! java/lang/AbstractStringBuilder.charAt -/
def kX_J13_charAt (g : XC) (N : Nat) (S : XS) (x0 : Nat) (x1 : Int32) : Option (XS × Int32) :=
  (f_int S 11 x0 1).bind fun v1 =>
  (f_obj S 11 x0 0).bind fun v2 =>
  (f_int S 11 x0 3).bind fun v3 =>
  (a_len S v2).bind fun v4 =>
  bnd (if ((v4 >>> (v1 &&& 31)) : Int32) < v3 then (v4 >>> (v1 &&& 31)) else v3) fun v5 =>
  (kX_J8_checkIndex g N S x1 v5).bind fun w6 =>
  if v1 = 0 then
    (a_int w6 1 v2 x1).bind fun v8 =>
    nchk .char ((((v8 &&& 255) : Int32).toUInt32 % 65536).toInt32) <|
    some (w6, (((v8 &&& 255) : Int32).toUInt32 % 65536).toInt32)
  else
    none
theorem cx_J13_charAt : yJ13_charAt.cls ≠ "java/lang/invoke/MethodHandle" ∧ yJ13_charAt.cls ≠ "java/lang/invoke/VarHandle" ∧ (parseMethodDescriptor yJ13_charAt.desc).map (fun d => d.parameters.length) = some 1 := by decide +kernel
theorem cxs_J13_charAt : yJ13_charAt.name ≠ "<init>" ∧ (parseMethodDescriptor yJ13_charAt.desc).map (fun d => d.parameters.length) = some 1 := by decide +kernel
theorem met_J13_charAt {l : Launch} {g : XC} {D : va_G} {A : Nat → Prop} (N : Nat) (S : XS) (x0 : Nat) (x1 : Int32) (w : XS × Int32) (hm : kX_J13_charAt g N S x0 x1 = some w) : Met l yJ13_charAt (ws_ yJ13_charAt cJ13_charAt 5 (Option.some Jvm.ClassFile.FieldType.char)) (xRm g S 2) (xPre g D A [.ref x0, .int x1] S) (xQi g D A w) (g.2.1 - xTop S) (g.2.2.1 - xSl S) A := by
  refine x_start (own := RJ13) (by decide +kernel) rfl (Nat.le_of_ble_eq_true rfl) (fun p e s m below meth c ls X hr hlk hnm hw hl => ?_)
  obtain ⟨hx, hb, -, hown, hts, -⟩ := id X
  have hl : lv_has ls 5 [(0, .ref x0), (1, .int x1)] := hl
  have hg : ∀ (H : Heap) (locs : List Loc) (cells slots : Nat), xW g D A S s H → va_S A s.heap H locs → W p l e (xRm g S 2) s m ([.ref x0, .int x1] : List Value).toArray below meth c H locs cells slots (MQ below (xQi g D A w) ([.ref x0, .int x1] : List Value).toArray s (g.2.1 - xTop S) (g.2.2.1 - xSl S) A) (F0 m 0 ls []) := by
    intro H locs cells slots hw hS
    unfold kX_J13_charAt at hm
    refine lv_aload_n hx hb dJ13_charAt_0 rfl (lv_at hl 0 rfl) ?_
    obtain ⟨v1, hv1, hm⟩ := ob_s hm
    refine xr_val X hw xc11 in_J14 1 (by decide) q1021 (f_int_s hv1) dJ13_charAt_1 ?_
    refine lv_istore_n (lv' := [(2, .int v1), (0, .ref x0), (1, .int x1)]) hx hb dJ13_charAt_4 rfl hl (by decide) rfl (fun ls hl => ?_)
    refine lv_aload_n hx hb dJ13_charAt_5 rfl (lv_at hl 1 rfl) ?_
    obtain ⟨v2, hv2, hm⟩ := ob_s hm
    refine xr_val X hw xc11 in_J14 0 (by decide) q1020 (f_obj_s hv2) dJ13_charAt_6 ?_
    refine lv_astore_n (lv' := [(3, .ref v2), (2, .int v1), (0, .ref x0), (1, .int x1)]) hx hb dJ13_charAt_9 rfl hl (by decide) rfl (fun ls hl => ?_)
    refine lv_aload_n hx hb dJ13_charAt_10 rfl (lv_at hl 2 rfl) ?_
    obtain ⟨v3, hv3, hm⟩ := ob_s hm
    refine xr_val X hw xc11 in_J14 3 (by decide) q1022 (f_int_s hv3) dJ13_charAt_11 ?_
    refine lv_aload_n hx hb dJ13_charAt_14 rfl (lv_at hl 0 rfl) ?_
    obtain ⟨v4, hv4, hm⟩ := ob_s hm
    refine xr_alen X hw hv4 dJ13_charAt_15 ?_
    refine lv_iload_n hx hb dJ13_charAt_16 rfl (lv_at hl 1 rfl) ?_
    refine lv_ishr hx hb dJ13_charAt_17 ?_
    refine xr_mmin X hw hl.1 q546 q418 q127 q419 (Nat.le_of_ble_eq_true rfl) dJ13_charAt_18 (fun cells slots => ?_)
    refine lv_topi (fun v5 ev5 => ?_)
    replace hm := bnd_s hm ev5
    refine lv_istore (lv' := [(4, .int v5), (3, .ref v2), (2, .int v1), (0, .ref x0), (1, .int x1)]) hx hb dJ13_charAt_21 hl (by decide) rfl (fun ls hl => ?_)
    refine lv_iload_n hx hb dJ13_charAt_23 rfl (lv_at hl 4 rfl) ?_
    refine lv_iload hx hb dJ13_charAt_24 (lv_at hl 0 rfl) ?_
    obtain ⟨w6, hw6, hm⟩ := ob_s hm
    refine xr_retv hS (xr_runS X hw (met_J8_checkIndex N S x1 v5 w6 hw6) (x_cs X (lv := 1) (by omega) (by decide) cx_J8_checkIndex (lw_S q547 q548 q128 q549)) rfl hl.1 rfl (Nat.le_of_ble_eq_true rfl) dJ13_charAt_26) (fun H locs cells slots hw hS => ?_)
    refine lv_iload_n hx hb dJ13_charAt_29 rfl (lv_at hl 2 rfl) ?_
    refine lv_if_ne (tgt := 42) hx hb dJ13_charAt_30 (by decide) (fun c7 => ?_) (fun c7 => ?_)
    · replace hm := if_f c7 hm
      refine lv_aload_n hx hb dJ13_charAt_42 rfl (lv_at hl 1 rfl) ?_
      refine lv_iload_n hx hb dJ13_charAt_43 rfl (lv_at hl 4 rfl) ?_
      cases hm
    · replace hm := if_t c7 hm
      refine lv_aload_n hx hb dJ13_charAt_33 rfl (lv_at hl 1 rfl) ?_
      refine lv_iload_n hx hb dJ13_charAt_34 rfl (lv_at hl 4 rfl) ?_
      obtain ⟨v8, hv8, hm⟩ := ob_s hm
      refine xr_bald X hw hv8 dJ13_charAt_35 ?_
      refine lv_sipush (v := 255) hx hb dJ13_charAt_36 (by decide) ?_
      refine lv_iand hx hb dJ13_charAt_39 ?_
      refine lv_i2c hx hb dJ13_charAt_40 rfl ?_
      obtain ⟨z9, hm⟩ := nchk_s hm
      obtain rfl := Option.some.inj hm
      exact xr_iret (v := (((v8 &&& 255) : Int32).toUInt32 % 65536).toInt32) X hr hlk hw hS z9 dJ13_charAt_41
  exact hg _ _ _ _ hw va_S.rf
/-! java/lang/StringBuilder.charAt -/
def kX_J14_charAt (g : XC) (N : Nat) (S : XS) (x0 : Nat) (x1 : Int32) : Option (XS × Int32) :=
  (f_cls S 11 x0).bind fun u1 =>
  (kX_J13_charAt g N S x0 x1).bind fun w2 =>
  nchk .char w2.2 <|
  some (w2.1, w2.2)
theorem cx_J14_charAt : yJ14_charAt.cls = RJ14 ∧ yJ14_charAt.cls ≠ "java/lang/invoke/MethodHandle" ∧ yJ14_charAt.cls ≠ "java/lang/invoke/VarHandle" ∧ (parseMethodDescriptor yJ14_charAt.desc).map (fun d => d.parameters.length) = some 1 := by decide +kernel
theorem met_J14_charAt {l : Launch} {g : XC} {D : va_G} {A : Nat → Prop} (N : Nat) (S : XS) (x0 : Nat) (x1 : Int32) (w : XS × Int32) (hm : kX_J14_charAt g N S x0 x1 = some w) : Met l yJ14_charAt (ws_ yJ14_charAt cJ14_charAt 2 (Option.some Jvm.ClassFile.FieldType.char)) (xRm g S 3) (xPre g D A [.ref x0, .int x1] S) (xQi g D A w) (g.2.1 - xTop S) (g.2.2.1 - xSl S) A := by
  refine x_start (own := RJ14) (by decide +kernel) rfl (Nat.le_of_ble_eq_true rfl) (fun p e s m below meth c ls X hr hlk hnm hw hl => ?_)
  obtain ⟨hx, hb, -, hown, hts, -⟩ := id X
  have hl : lv_has ls 2 [(0, .ref x0), (1, .int x1)] := hl
  have hg : ∀ (H : Heap) (locs : List Loc) (cells slots : Nat), xW g D A S s H → va_S A s.heap H locs → W p l e (xRm g S 3) s m ([.ref x0, .int x1] : List Value).toArray below meth c H locs cells slots (MQ below (xQi g D A w) ([.ref x0, .int x1] : List Value).toArray s (g.2.1 - xTop S) (g.2.2.1 - xSl S) A) (F0 m 0 ls []) := by
    intro H locs cells slots hw hS
    unfold kX_J14_charAt at hm
    refine lv_aload_n hx hb dJ14_charAt_0 rfl (lv_at hl 0 rfl) ?_
    refine lv_iload_n hx hb dJ14_charAt_1 rfl (lv_at hl 1 rfl) ?_
    obtain ⟨u1, hu1, hm⟩ := ob_s hm
    obtain ⟨w2, hw2, hm⟩ := ob_s hm
    refine xr_reti hS (xr_runSU X hw (met_J13_charAt N S x0 x1 w2 hw2) (x_csu X (lv := 2) (by omega) (by decide) cxs_J13_charAt q542 q2222 q543 q544 q137 q545) xc11 hu1 rfl hl.1 rfl (Nat.le_of_ble_eq_true rfl) dJ14_charAt_2) (fun H locs cells slots hw hS => ?_)
    obtain ⟨z3, hm⟩ := nchk_s hm
    obtain rfl := Option.some.inj hm
    exact xr_iret (v := w2.2) X hr hlk hw hS z3 dJ14_charAt_5
  exact hg _ _ _ _ hw va_S.rf
/-! java/lang/AbstractStringBuilder.init -/
def kX_J13_init (g : XC) (N : Nat) (S : XS) (x0 : Nat) (x1 : Int32) : Option (XS) :=
  if (1 : Int32) = 0 then
    none
  else
    (xNewI S 1 x1).bind fun S2 =>
    (f_putR S2 11 x0 0 (some (xTop S))).bind fun S3 =>
    (f_putI S3 11 x0 1 0).bind fun S4 =>
    some S4
theorem cx_J13_init : yJ13_init.cls ≠ "java/lang/invoke/MethodHandle" ∧ yJ13_init.cls ≠ "java/lang/invoke/VarHandle" ∧ (parseMethodDescriptor yJ13_init.desc).map (fun d => d.parameters.length) = some 1 := by decide +kernel
theorem met_J13_init {l : Launch} {g : XC} {D : va_G} {A : Nat → Prop} (N : Nat) (S : XS) (x0 : Nat) (x1 : Int32) (w : XS) (hm : kX_J13_init g N S x0 x1 = some w) : Met l yJ13_init (ws_ yJ13_init cJ13_init 2 (Option.none : Option Jvm.ClassFile.FieldType)) (xRm g S 0) (xPre g D A [.ref x0, .int x1] S) (xQv g D A w) (g.2.1 - xTop S) (g.2.2.1 - xSl S) A := by
  refine x_start (own := RJ13) (by decide +kernel) rfl (Nat.le_of_ble_eq_true rfl) (fun p e s m below meth c ls X hr hlk hnm hw hl => ?_)
  obtain ⟨hx, hb, -, hown, hts, -⟩ := id X
  have hl : lv_has ls 2 [(0, .ref x0), (1, .int x1)] := hl
  have hg : ∀ (H : Heap) (locs : List Loc) (cells slots : Nat), xW g D A S s H → va_S A s.heap H locs → W p l e (xRm g S 0) s m ([.ref x0, .int x1] : List Value).toArray below meth c H locs cells slots (MQ below (xQv g D A w) ([.ref x0, .int x1] : List Value).toArray s (g.2.1 - xTop S) (g.2.2.1 - xSl S) A) (F0 m 0 ls []) := by
    intro H locs cells slots hw hS
    unfold kX_J13_init at hm
    refine lv_aload_n hx hb dJ13_init_0 rfl (lv_at hl 0 rfl) ?_
    refine xr_objInit X hl.1 q1011 q154 q155 (Nat.le_of_ble_eq_true rfl) dJ13_init_1 ?_
    refine xr_sref X (x_phi hw).2.2.2.2.2.2.2.2.2.2.1 q1012 dJ13_init_4 ?_
    refine lv_if_eq (tgt := 25) hx hb dJ13_init_7 (by decide) (fun c1 => ?_) (fun c1 => ?_)
    · replace hm := if_t c1 hm
      refine lv_aload_n hx hb dJ13_init_25 rfl (lv_at hl 0 rfl) ?_
      refine lv_iload_n hx hb dJ13_init_26 rfl (lv_at hl 1 rfl) ?_
      cases hm
    · replace hm := if_f c1 hm
      refine lv_aload_n hx hb dJ13_init_10 rfl (lv_at hl 0 rfl) ?_
      refine lv_iload_n hx hb dJ13_init_11 rfl (lv_at hl 1 rfl) ?_
      obtain ⟨S2, hS2, hm⟩ := ob_s hm
      refine xr_newI (atype := .byte) X hw hS (by decide) rfl rfl (by decide) q_arr_byte hS2 dJ13_init_12 (fun H cells slots hw hS => ?_)
      obtain ⟨S3, hS3, hm⟩ := ob_s hm
      refine xr_putR (v := (some (xTop S))) X hw hS xc11 in_J14 tyJ14_ok nmJ14 0 (by decide) q1020 rfl (tyJ14_ok 0 (by decide)) rfl hS3 dJ13_init_14 (fun H locs hw hS => ?_)
      refine lv_aload_n hx hb dJ13_init_17 rfl (lv_at hl 0 rfl) ?_
      refine lv_iconst (v := 0) hx hb dJ13_init_18 (by decide) ?_
      obtain ⟨S4, hS4, hm⟩ := ob_s hm
      refine xr_putI X hw hS xc11 in_J14 tyJ14_ok nmJ14 1 (by decide) q1021 rfl (tyJ14_ok 1 (by decide)) rfl rfl hS4 dJ13_init_19 (fun H locs hw hS => ?_)
      refine lv_goto (tgt := 38) hx hb dJ13_init_22 (by decide) ?_
      obtain rfl := Option.some.inj hm
      exact xr_vret X hr hlk hw hS dJ13_init_38
  exact hg _ _ _ _ hw va_S.rf
/-! java/lang/StringBuilder.init -/
def kX_J14_init (g : XC) (N : Nat) (S : XS) (x0 : Nat) : Option (XS) :=
  (kX_J13_init g N S x0 16).bind fun w1 =>
  some w1
theorem cx_J14_init : yJ14_init.cls ≠ "java/lang/invoke/MethodHandle" ∧ yJ14_init.cls ≠ "java/lang/invoke/VarHandle" ∧ (parseMethodDescriptor yJ14_init.desc).map (fun d => d.parameters.length) = some 0 := by decide +kernel
theorem met_J14_init {l : Launch} {g : XC} {D : va_G} {A : Nat → Prop} (N : Nat) (S : XS) (x0 : Nat) (w : XS) (hm : kX_J14_init g N S x0 = some w) : Met l yJ14_init (ws_ yJ14_init cJ14_init 1 (Option.none : Option Jvm.ClassFile.FieldType)) (xRm g S 1) (xPre g D A [.ref x0] S) (xQv g D A w) (g.2.1 - xTop S) (g.2.2.1 - xSl S) A := by
  refine x_start (own := RJ14) (by decide +kernel) rfl (Nat.le_of_ble_eq_true rfl) (fun p e s m below meth c ls X hr hlk hnm hw hl => ?_)
  obtain ⟨hx, hb, -, hown, hts, -⟩ := id X
  have hl : lv_has ls 1 [(0, .ref x0)] := hl
  have hg : ∀ (H : Heap) (locs : List Loc) (cells slots : Nat), xW g D A S s H → va_S A s.heap H locs → W p l e (xRm g S 1) s m ([.ref x0] : List Value).toArray below meth c H locs cells slots (MQ below (xQv g D A w) ([.ref x0] : List Value).toArray s (g.2.1 - xTop S) (g.2.2.1 - xSl S) A) (F0 m 0 ls []) := by
    intro H locs cells slots hw hS
    unfold kX_J14_init at hm
    refine lv_aload_n hx hb dJ14_init_0 rfl (lv_at hl 0 rfl) ?_
    refine lv_bipush (v := 16) hx hb dJ14_init_1 (by decide) ?_
    obtain ⟨w1, hw1, hm⟩ := ob_s hm
    refine xr_retv hS (xr_runI X hw (met_J13_init N S x0 16 w1 hw1) (x_ci X (lv := 0) (by omega) (by decide) rfl cx_J13_init (lw_meth q1010) q137 q1008 q1009) rfl hl.1 rfl (Nat.le_of_ble_eq_true rfl) dJ14_init_3) (fun H locs cells slots hw hS => ?_)
    obtain rfl := Option.some.inj hm
    exact xr_vret X hr hlk hw hS dJ14_init_6
  exact hg _ _ _ _ hw va_S.rf
/-! java/lang/AbstractStringBuilder.newCapacity -/
def kX_J13_newCapacity (g : XC) (N : Nat) (S : XS) (x0 : Nat) (x1 : Int32) : Option (XS × Int32) :=
  (f_obj S 11 x0 0).bind fun v1 =>
  (a_len S v1).bind fun v2 =>
  (f_int S 11 x0 1).bind fun v3 =>
  bnd (x1 <<< (v3 &&& 31)) fun v4 =>
  bnd (v4 - v2) fun v5 =>
  (f_int S 11 x0 1).bind fun v6 =>
  (kX_J15_newLength g N v2 v5 (v2 + ((2 : Int32) <<< (v6 &&& 31)))).bind fun w7 =>
  if w7 = 2147483647 then
    none
  else
    (f_int S 11 x0 1).bind fun v9 =>
    some (S, (w7 >>> (v9 &&& 31)))
theorem cx_J13_newCapacity : yJ13_newCapacity.cls ≠ "java/lang/invoke/MethodHandle" ∧ yJ13_newCapacity.cls ≠ "java/lang/invoke/VarHandle" ∧ (parseMethodDescriptor yJ13_newCapacity.desc).map (fun d => d.parameters.length) = some 1 := by decide +kernel
theorem cxs_J13_newCapacity : yJ13_newCapacity.name ≠ "<init>" ∧ (parseMethodDescriptor yJ13_newCapacity.desc).map (fun d => d.parameters.length) = some 1 := by decide +kernel
theorem met_J13_newCapacity {l : Launch} {g : XC} {D : va_G} {A : Nat → Prop} (N : Nat) (S : XS) (x0 : Nat) (x1 : Int32) (w : XS × Int32) (hm : kX_J13_newCapacity g N S x0 x1 = some w) : Met l yJ13_newCapacity (ws_ yJ13_newCapacity cJ13_newCapacity 6 (Option.some Jvm.ClassFile.FieldType.int)) (xRm g S 2) (xPre g D A [.ref x0, .int x1] S) (xQi g D A w) (g.2.1 - xTop S) (g.2.2.1 - xSl S) A := by
  refine x_start (own := RJ13) (by decide +kernel) rfl (Nat.le_of_ble_eq_true rfl) (fun p e s m below meth c ls X hr hlk hnm hw hl => ?_)
  obtain ⟨hx, hb, -, hown, hts, -⟩ := id X
  have hl : lv_has ls 6 [(0, .ref x0), (1, .int x1)] := hl
  have hg : ∀ (H : Heap) (locs : List Loc) (cells slots : Nat), xW g D A S s H → va_S A s.heap H locs → W p l e (xRm g S 2) s m ([.ref x0, .int x1] : List Value).toArray below meth c H locs cells slots (MQ below (xQi g D A w) ([.ref x0, .int x1] : List Value).toArray s (g.2.1 - xTop S) (g.2.2.1 - xSl S) A) (F0 m 0 ls []) := by
    intro H locs cells slots hw hS
    unfold kX_J13_newCapacity at hm
    refine lv_aload_n hx hb dJ13_newCapacity_0 rfl (lv_at hl 0 rfl) ?_
    obtain ⟨v1, hv1, hm⟩ := ob_s hm
    refine xr_val X hw xc11 in_J14 0 (by decide) q1020 (f_obj_s hv1) dJ13_newCapacity_1 ?_
    obtain ⟨v2, hv2, hm⟩ := ob_s hm
    refine xr_alen X hw hv2 dJ13_newCapacity_4 ?_
    refine lv_istore_n (lv' := [(2, .int v2), (0, .ref x0), (1, .int x1)]) hx hb dJ13_newCapacity_5 rfl hl (by decide) rfl (fun ls hl => ?_)
    refine lv_iload_n hx hb dJ13_newCapacity_6 rfl (lv_at hl 2 rfl) ?_
    refine lv_aload_n hx hb dJ13_newCapacity_7 rfl (lv_at hl 1 rfl) ?_
    obtain ⟨v3, hv3, hm⟩ := ob_s hm
    refine xr_val X hw xc11 in_J14 1 (by decide) q1021 (f_int_s hv3) dJ13_newCapacity_8 ?_
    refine lv_ishl hx hb dJ13_newCapacity_11 ?_
    refine lv_topi (fun v4 ev4 => ?_)
    replace hm := bnd_s hm ev4
    refine lv_istore_n (lv' := [(3, .int v4), (2, .int v2), (0, .ref x0), (1, .int x1)]) hx hb dJ13_newCapacity_12 rfl hl (by decide) rfl (fun ls hl => ?_)
    refine lv_iload_n hx hb dJ13_newCapacity_13 rfl (lv_at hl 0 rfl) ?_
    refine lv_iload_n hx hb dJ13_newCapacity_14 rfl (lv_at hl 1 rfl) ?_
    refine lv_isub hx hb dJ13_newCapacity_15 ?_
    refine lv_topi (fun v5 ev5 => ?_)
    replace hm := bnd_s hm ev5
    refine lv_istore (lv' := [(4, .int v5), (3, .int v4), (2, .int v2), (0, .ref x0), (1, .int x1)]) hx hb dJ13_newCapacity_16 hl (by decide) rfl (fun ls hl => ?_)
    refine lv_iload_n hx hb dJ13_newCapacity_18 rfl (lv_at hl 2 rfl) ?_
    refine lv_iload hx hb dJ13_newCapacity_19 (lv_at hl 0 rfl) ?_
    refine lv_iload_n hx hb dJ13_newCapacity_21 rfl (lv_at hl 2 rfl) ?_
    refine lv_iconst (v := 2) hx hb dJ13_newCapacity_22 (by decide) ?_
    refine lv_aload_n hx hb dJ13_newCapacity_23 rfl (lv_at hl 3 rfl) ?_
    obtain ⟨v6, hv6, hm⟩ := ob_s hm
    refine xr_val X hw xc11 in_J14 1 (by decide) q1021 (f_int_s hv6) dJ13_newCapacity_24 ?_
    refine lv_ishl hx hb dJ13_newCapacity_27 ?_
    refine lv_iadd hx hb dJ13_newCapacity_28 ?_
    obtain ⟨w7, hw7, hm⟩ := ob_s hm
    refine xr_reti hS (xr_runS X hw (met_J15_newLength N S v2 v5 (v2 + ((2 : Int32) <<< (v6 &&& 31))) w7 hw7) (x_cs X (lv := 1) (by omega) (by decide) cx_J15_newLength (lw_S q1063 q380 q139 q381)) rfl hl.1 rfl (Nat.le_of_ble_eq_true rfl) dJ13_newCapacity_29) (fun H locs cells slots hw hS => ?_)
    refine lv_istore (lv' := [(5, .int w7), (4, .int v5), (3, .int v4), (2, .int v2), (0, .ref x0), (1, .int x1)]) hx hb dJ13_newCapacity_32 hl (by decide) rfl (fun ls hl => ?_)
    refine lv_iload hx hb dJ13_newCapacity_34 (lv_at hl 0 rfl) ?_
    refine lv_ldc (v := 2147483647) hx hb hown (hts _ q1064) dJ13_newCapacity_36 ?_
    refine lv_icmp_ne (tgt := 51) hx hb dJ13_newCapacity_38 (by decide) (fun c8 => ?_) (fun c8 => ?_)
    · replace hm := if_f c8 hm
      refine lv_iload hx hb dJ13_newCapacity_51 (lv_at hl 0 rfl) ?_
      refine lv_aload_n hx hb dJ13_newCapacity_53 rfl (lv_at hl 4 rfl) ?_
      obtain ⟨v9, hv9, hm⟩ := ob_s hm
      refine xr_val X hw xc11 in_J14 1 (by decide) q1021 (f_int_s hv9) dJ13_newCapacity_54 ?_
      refine lv_ishr hx hb dJ13_newCapacity_57 ?_
      obtain rfl := Option.some.inj hm
      exact xr_iret (v := (w7 >>> (v9 &&& 31))) X hr hlk hw hS rfl dJ13_newCapacity_58
    · replace hm := if_t c8 hm
      cases hm
  exact hg _ _ _ _ hw va_S.rf
/-! java/util/Arrays.copyOf_3 -/
def kX_J16_copyOf_3 (g : XC) (N : Nat) (S : XS) (x0 : Nat) (x1 : Int32) : Option (XS × Nat) :=
  (a_len S x0).bind fun v1 =>
  if x1 = v1 then
    none
  else
    (xNewI S 1 x1).bind fun S3 =>
    (a_len S3 x0).bind fun v4 =>
    bnd (if (x1 : Int32) < v4 then x1 else v4) fun v5 =>
    (a_cpyB S3 x0 0 (xTop S) 0 v5).bind fun S6 =>
    some (S6, (xTop S))
theorem cx_J16_copyOf_3 : yJ16_copyOf_3.cls ≠ "java/lang/invoke/MethodHandle" ∧ yJ16_copyOf_3.cls ≠ "java/lang/invoke/VarHandle" ∧ (parseMethodDescriptor yJ16_copyOf_3.desc).map (fun d => d.parameters.length) = some 2 := by decide +kernel
theorem met_J16_copyOf_3 {l : Launch} {g : XC} {D : va_G} {A : Nat → Prop} (N : Nat) (S : XS) (x0 : Nat) (x1 : Int32) (w : XS × Nat) (hm : kX_J16_copyOf_3 g N S x0 x1 = some w) : Met l yJ16_copyOf_3 (ws_ yJ16_copyOf_3 cJ16_copyOf_3 3 (Option.some (Jvm.ClassFile.FieldType.array Jvm.ClassFile.FieldType.byte))) (xRm g S 1) (xPre g D A [.ref x0, .int x1] S) (xQr g D A w) (g.2.1 - xTop S) (g.2.2.1 - xSl S) A := by
  refine x_start (own := RJ16) (by decide +kernel) rfl (Nat.le_of_ble_eq_true rfl) (fun p e s m below meth c ls X hr hlk hnm hw hl => ?_)
  obtain ⟨hx, hb, -, hown, hts, -⟩ := id X
  have hl : lv_has ls 3 [(0, .ref x0), (1, .int x1)] := hl
  have hg : ∀ (H : Heap) (locs : List Loc) (cells slots : Nat), xW g D A S s H → va_S A s.heap H locs → W p l e (xRm g S 1) s m ([.ref x0, .int x1] : List Value).toArray below meth c H locs cells slots (MQ below (xQr g D A w) ([.ref x0, .int x1] : List Value).toArray s (g.2.1 - xTop S) (g.2.2.1 - xSl S) A) (F0 m 0 ls []) := by
    intro H locs cells slots hw hS
    unfold kX_J16_copyOf_3 at hm
    refine lv_iload_n hx hb dJ16_copyOf_3_0 rfl (lv_at hl 1 rfl) ?_
    refine lv_aload_n hx hb dJ16_copyOf_3_1 rfl (lv_at hl 0 rfl) ?_
    obtain ⟨v1, hv1, hm⟩ := ob_s hm
    refine xr_alen X hw hv1 dJ16_copyOf_3_2 ?_
    refine lv_icmp_ne (tgt := 14) hx hb dJ16_copyOf_3_3 (by decide) (fun c2 => ?_) (fun c2 => ?_)
    · replace hm := if_f c2 hm
      refine lv_iload_n hx hb dJ16_copyOf_3_14 rfl (lv_at hl 1 rfl) ?_
      obtain ⟨S3, hS3, hm⟩ := ob_s hm
      refine xr_newI (atype := .byte) X hw hS (by decide) rfl rfl (by decide) q_arr_byte hS3 dJ16_copyOf_3_15 (fun H cells slots hw hS => ?_)
      refine lv_astore_n (lv' := [(2, .ref (xTop S)), (0, .ref x0), (1, .int x1)]) hx hb dJ16_copyOf_3_17 rfl hl (by decide) rfl (fun ls hl => ?_)
      refine lv_aload_n hx hb dJ16_copyOf_3_18 rfl (lv_at hl 1 rfl) ?_
      refine lv_iconst (v := 0) hx hb dJ16_copyOf_3_19 (by decide) ?_
      refine lv_aload_n hx hb dJ16_copyOf_3_20 rfl (lv_at hl 0 rfl) ?_
      refine lv_iconst (v := 0) hx hb dJ16_copyOf_3_21 (by decide) ?_
      refine lv_aload_n hx hb dJ16_copyOf_3_22 rfl (lv_at hl 1 rfl) ?_
      obtain ⟨v4, hv4, hm⟩ := ob_s hm
      refine xr_alen X hw hv4 dJ16_copyOf_3_23 ?_
      refine lv_iload_n hx hb dJ16_copyOf_3_24 rfl (lv_at hl 2 rfl) ?_
      refine xr_mmin X hw hl.1 q417 q418 q127 q419 (Nat.le_of_ble_eq_true rfl) dJ16_copyOf_3_25 (fun cells slots => ?_)
      refine lv_topi (fun v5 ev5 => ?_)
      replace hm := bnd_s hm ev5
      obtain ⟨S6, hS6, hm⟩ := ob_s hm
      refine xr_cpyB X hw hS hl.1 q420 (Nat.le_of_ble_eq_true rfl) hS6 dJ16_copyOf_3_28 (fun H locs hw hS => ?_)
      refine lv_aload_n hx hb dJ16_copyOf_3_31 rfl (lv_at hl 0 rfl) ?_
      obtain rfl := Option.some.inj hm
      exact xr_aret X hr (by first | exact Or.inl ⟨_, rfl⟩ | exact Or.inr ⟨_, rfl⟩) hlk hw hS dJ16_copyOf_3_32
    · replace hm := if_t c2 hm
      refine lv_aload_n hx hb dJ16_copyOf_3_6 rfl (lv_at hl 0 rfl) ?_
      cases hm
  exact hg _ _ _ _ hw va_S.rf
/-! java/lang/AbstractStringBuilder.ensureCapacityInternal -/
def kX_J13_ensureCapacityInternal (g : XC) (N : Nat) (S : XS) (x0 : Nat) (x1 : Int32) : Option (XS) :=
  (f_obj S 11 x0 0).bind fun v1 =>
  (a_len S v1).bind fun v2 =>
  (f_int S 11 x0 1).bind fun v3 =>
  bnd (v2 >>> (v3 &&& 31)) fun v4 =>
  if (x1 - v4) ≤ 0 then
    some S
  else
    (f_obj S 11 x0 0).bind fun v6 =>
    (f_cls S 11 x0).bind fun u7 =>
    (kX_J13_newCapacity g N S x0 x1).bind fun w8 =>
    (f_int w8.1 11 x0 1).bind fun v9 =>
    (kX_J16_copyOf_3 g N w8.1 v6 (w8.2 <<< (v9 &&& 31))).bind fun w10 =>
    (f_putR w10.1 11 x0 0 (some w10.2)).bind fun S11 =>
    some S11
theorem cx_J13_ensureCapacityInternal : yJ13_ensureCapacityInternal.cls ≠ "java/lang/invoke/MethodHandle" ∧ yJ13_ensureCapacityInternal.cls ≠ "java/lang/invoke/VarHandle" ∧ (parseMethodDescriptor yJ13_ensureCapacityInternal.desc).map (fun d => d.parameters.length) = some 1 := by decide +kernel
theorem cxs_J13_ensureCapacityInternal : yJ13_ensureCapacityInternal.name ≠ "<init>" ∧ (parseMethodDescriptor yJ13_ensureCapacityInternal.desc).map (fun d => d.parameters.length) = some 1 := by decide +kernel
theorem met_J13_ensureCapacityInternal {l : Launch} {g : XC} {D : va_G} {A : Nat → Prop} (N : Nat) (S : XS) (x0 : Nat) (x1 : Int32) (w : XS) (hm : kX_J13_ensureCapacityInternal g N S x0 x1 = some w) : Met l yJ13_ensureCapacityInternal (ws_ yJ13_ensureCapacityInternal cJ13_ensureCapacityInternal 3 (Option.none : Option Jvm.ClassFile.FieldType)) (xRm g S 3) (xPre g D A [.ref x0, .int x1] S) (xQv g D A w) (g.2.1 - xTop S) (g.2.2.1 - xSl S) A := by
  refine x_start (own := RJ13) (by decide +kernel) rfl (Nat.le_of_ble_eq_true rfl) (fun p e s m below meth c ls X hr hlk hnm hw hl => ?_)
  obtain ⟨hx, hb, -, hown, hts, -⟩ := id X
  have hl : lv_has ls 3 [(0, .ref x0), (1, .int x1)] := hl
  have hg : ∀ (H : Heap) (locs : List Loc) (cells slots : Nat), xW g D A S s H → va_S A s.heap H locs → W p l e (xRm g S 3) s m ([.ref x0, .int x1] : List Value).toArray below meth c H locs cells slots (MQ below (xQv g D A w) ([.ref x0, .int x1] : List Value).toArray s (g.2.1 - xTop S) (g.2.2.1 - xSl S) A) (F0 m 0 ls []) := by
    intro H locs cells slots hw hS
    unfold kX_J13_ensureCapacityInternal at hm
    refine lv_aload_n hx hb dJ13_ensureCapacityInternal_0 rfl (lv_at hl 0 rfl) ?_
    obtain ⟨v1, hv1, hm⟩ := ob_s hm
    refine xr_val X hw xc11 in_J14 0 (by decide) q1020 (f_obj_s hv1) dJ13_ensureCapacityInternal_1 ?_
    obtain ⟨v2, hv2, hm⟩ := ob_s hm
    refine xr_alen X hw hv2 dJ13_ensureCapacityInternal_4 ?_
    refine lv_aload_n hx hb dJ13_ensureCapacityInternal_5 rfl (lv_at hl 0 rfl) ?_
    obtain ⟨v3, hv3, hm⟩ := ob_s hm
    refine xr_val X hw xc11 in_J14 1 (by decide) q1021 (f_int_s hv3) dJ13_ensureCapacityInternal_6 ?_
    refine lv_ishr hx hb dJ13_ensureCapacityInternal_9 ?_
    refine lv_topi (fun v4 ev4 => ?_)
    replace hm := bnd_s hm ev4
    refine lv_istore_n (lv' := [(2, .int v4), (0, .ref x0), (1, .int x1)]) hx hb dJ13_ensureCapacityInternal_10 rfl hl (by decide) rfl (fun ls hl => ?_)
    refine lv_iload_n hx hb dJ13_ensureCapacityInternal_11 rfl (lv_at hl 2 rfl) ?_
    refine lv_iload_n hx hb dJ13_ensureCapacityInternal_12 rfl (lv_at hl 0 rfl) ?_
    refine lv_isub hx hb dJ13_ensureCapacityInternal_13 ?_
    refine lv_if_le (tgt := 38) hx hb dJ13_ensureCapacityInternal_14 (by decide) (fun c5 => ?_) (fun c5 => ?_)
    · replace hm := if_t c5 hm
      obtain rfl := Option.some.inj hm
      exact xr_vret X hr hlk hw hS dJ13_ensureCapacityInternal_38
    · replace hm := if_f c5 hm
      refine lv_aload_n hx hb dJ13_ensureCapacityInternal_17 rfl (lv_at hl 1 rfl) ?_
      refine lv_aload_n hx hb dJ13_ensureCapacityInternal_18 rfl (lv_at hl 1 rfl) ?_
      obtain ⟨v6, hv6, hm⟩ := ob_s hm
      refine xr_val X hw xc11 in_J14 0 (by decide) q1020 (f_obj_s hv6) dJ13_ensureCapacityInternal_19 ?_
      refine lv_aload_n hx hb dJ13_ensureCapacityInternal_22 rfl (lv_at hl 1 rfl) ?_
      refine lv_iload_n hx hb dJ13_ensureCapacityInternal_23 rfl (lv_at hl 2 rfl) ?_
      obtain ⟨u7, hu7, hm⟩ := ob_s hm
      obtain ⟨w8, hw8, hm⟩ := ob_s hm
      refine xr_reti hS (xr_runU X hw (met_J13_newCapacity N S x0 x1 w8 hw8) (x_cuP X (lv := 2) (by omega) (by decide) rfl cx_J13_newCapacity q1059 q2226 rfl xc11 q1078 rfl q1060 q1061 q137 q1062) xc11 hu7 rfl hl.1 rfl (Nat.le_of_ble_eq_true rfl) dJ13_ensureCapacityInternal_24) (fun H locs cells slots hw hS => ?_)
      refine lv_aload_n hx hb dJ13_ensureCapacityInternal_27 rfl (lv_at hl 1 rfl) ?_
      obtain ⟨v9, hv9, hm⟩ := ob_s hm
      refine xr_val X hw xc11 in_J14 1 (by decide) q1021 (f_int_s hv9) dJ13_ensureCapacityInternal_28 ?_
      refine lv_ishl hx hb dJ13_ensureCapacityInternal_31 ?_
      obtain ⟨w10, hw10, hm⟩ := ob_s hm
      refine xr_retr hS (xr_runS X hw (met_J16_copyOf_3 N w8.1 v6 (w8.2 <<< (v9 &&& 31)) w10 hw10) (x_cs X (lv := 1) (by omega) (by decide) cx_J16_copyOf_3 (lw_S q1065 q1066 q140 q1067)) rfl hl.1 rfl (Nat.le_of_ble_eq_true rfl) dJ13_ensureCapacityInternal_32) (fun H locs cells slots hw hS => ?_)
      obtain ⟨S11, hS11, hm⟩ := ob_s hm
      refine xr_putR (v := (some w10.2)) X hw hS xc11 in_J14 tyJ14_ok nmJ14 0 (by decide) q1020 rfl (tyJ14_ok 0 (by decide)) rfl hS11 dJ13_ensureCapacityInternal_35 (fun H locs hw hS => ?_)
      obtain rfl := Option.some.inj hm
      exact xr_vret X hr hlk hw hS dJ13_ensureCapacityInternal_38
  exact hg _ _ _ _ hw va_S.rf
/-! java/lang/AbstractStringBuilder.isLatin1 -/
def kX_J13_isLatin1 (g : XC) (N : Nat) (S : XS) (x0 : Nat) : Option (XS × Int32) :=
  if (1 : Int32) = 0 then
    some (S, 0)
  else
    (f_int S 11 x0 1).bind fun v2 =>
    if v2 = 0 then
      some (S, 1)
    else
      some (S, 0)
theorem cx_J13_isLatin1 : yJ13_isLatin1.cls ≠ "java/lang/invoke/MethodHandle" ∧ yJ13_isLatin1.cls ≠ "java/lang/invoke/VarHandle" ∧ (parseMethodDescriptor yJ13_isLatin1.desc).map (fun d => d.parameters.length) = some 0 := by decide +kernel
theorem cxs_J13_isLatin1 : yJ13_isLatin1.name ≠ "<init>" ∧ (parseMethodDescriptor yJ13_isLatin1.desc).map (fun d => d.parameters.length) = some 0 := by decide +kernel
theorem met_J13_isLatin1 {l : Launch} {g : XC} {D : va_G} {A : Nat → Prop} (N : Nat) (S : XS) (x0 : Nat) (w : XS × Int32) (hm : kX_J13_isLatin1 g N S x0 = some w) : Met l yJ13_isLatin1 (ws_ yJ13_isLatin1 cJ13_isLatin1 1 (Option.some Jvm.ClassFile.FieldType.boolean)) (xRm g S 0) (xPre g D A [.ref x0] S) (xQi g D A w) (g.2.1 - xTop S) (g.2.2.1 - xSl S) A := by
  refine x_start (own := RJ13) (by decide +kernel) rfl (Nat.le_of_ble_eq_true rfl) (fun p e s m below meth c ls X hr hlk hnm hw hl => ?_)
  obtain ⟨hx, hb, -, hown, hts, -⟩ := id X
  have hl : lv_has ls 1 [(0, .ref x0)] := hl
  have hg : ∀ (H : Heap) (locs : List Loc) (cells slots : Nat), xW g D A S s H → va_S A s.heap H locs → W p l e (xRm g S 0) s m ([.ref x0] : List Value).toArray below meth c H locs cells slots (MQ below (xQi g D A w) ([.ref x0] : List Value).toArray s (g.2.1 - xTop S) (g.2.2.1 - xSl S) A) (F0 m 0 ls []) := by
    intro H locs cells slots hw hS
    unfold kX_J13_isLatin1 at hm
    refine xr_sref X (x_phi hw).2.2.2.2.2.2.2.2.2.2.1 q1012 dJ13_isLatin1_0 ?_
    refine lv_if_eq (tgt := 17) hx hb dJ13_isLatin1_3 (by decide) (fun c1 => ?_) (fun c1 => ?_)
    · replace hm := if_t c1 hm
      refine lv_iconst (v := 0) hx hb dJ13_isLatin1_17 (by decide) ?_
      obtain rfl := Option.some.inj hm
      exact xr_iret (v := 0) X hr hlk hw hS rfl dJ13_isLatin1_18
    · replace hm := if_f c1 hm
      refine lv_aload_n hx hb dJ13_isLatin1_6 rfl (lv_at hl 0 rfl) ?_
      obtain ⟨v2, hv2, hm⟩ := ob_s hm
      refine xr_val X hw xc11 in_J14 1 (by decide) q1021 (f_int_s hv2) dJ13_isLatin1_7 ?_
      refine lv_if_ne (tgt := 17) hx hb dJ13_isLatin1_10 (by decide) (fun c3 => ?_) (fun c3 => ?_)
      · replace hm := if_f c3 hm
        refine lv_iconst (v := 0) hx hb dJ13_isLatin1_17 (by decide) ?_
        obtain rfl := Option.some.inj hm
        exact xr_iret (v := 0) X hr hlk hw hS rfl dJ13_isLatin1_18
      · replace hm := if_t c3 hm
        refine lv_iconst (v := 1) hx hb dJ13_isLatin1_13 (by decide) ?_
        refine lv_goto (tgt := 18) hx hb dJ13_isLatin1_14 (by decide) ?_
        obtain rfl := Option.some.inj hm
        exact xr_iret (v := 1) X hr hlk hw hS rfl dJ13_isLatin1_18
  exact hg _ _ _ _ hw va_S.rf
/-! java/lang/StringLatin1.canEncode_2 -/
def kX_J9_canEncode_2 (g : XC) (N : Nat) (x0 : Int32) : Option (Int32) :=
  if (255 : Int32) < x0 then
    some 0
  else
    some 1
theorem cx_J9_canEncode_2 : yJ9_canEncode_2.cls ≠ "java/lang/invoke/MethodHandle" ∧ yJ9_canEncode_2.cls ≠ "java/lang/invoke/VarHandle" ∧ (parseMethodDescriptor yJ9_canEncode_2.desc).map (fun d => d.parameters.length) = some 1 := by decide +kernel
theorem met_J9_canEncode_2 {l : Launch} {g : XC} {D : va_G} {A : Nat → Prop} (N : Nat) (S : XS) (x0 : Int32) (w : Int32) (hm : kX_J9_canEncode_2 g N x0 = some w) : Met l yJ9_canEncode_2 (ws_ yJ9_canEncode_2 cJ9_canEncode_2 1 (Option.some Jvm.ClassFile.FieldType.boolean)) (xRm g S 0) (xPre g D A [.int x0] S) (xQi g D A (S, w)) (g.2.1 - xTop S) (g.2.2.1 - xSl S) A := by
  refine x_start (own := RJ9) (by decide +kernel) rfl (Nat.le_of_ble_eq_true rfl) (fun p e s m below meth c ls X hr hlk hnm hw hl => ?_)
  obtain ⟨hx, hb, -, hown, hts, -⟩ := id X
  have hl : lv_has ls 1 [(0, .int x0)] := hl
  have hg : ∀ (H : Heap) (locs : List Loc) (cells slots : Nat), xW g D A S s H → va_S A s.heap H locs → W p l e (xRm g S 0) s m ([.int x0] : List Value).toArray below meth c H locs cells slots (MQ below (xQi g D A (S, w)) ([.int x0] : List Value).toArray s (g.2.1 - xTop S) (g.2.2.1 - xSl S) A) (F0 m 0 ls []) := by
    intro H locs cells slots hw hS
    unfold kX_J9_canEncode_2 at hm
    refine lv_iload_n hx hb dJ9_canEncode_2_0 rfl (lv_at hl 0 rfl) ?_
    refine lv_sipush (v := 255) hx hb dJ9_canEncode_2_1 (by decide) ?_
    refine lv_icmp_gt (tgt := 11) hx hb dJ9_canEncode_2_4 (by decide) (fun c1 => ?_) (fun c1 => ?_)
    · replace hm := if_t c1 hm
      refine lv_iconst (v := 0) hx hb dJ9_canEncode_2_11 (by decide) ?_
      obtain rfl := Option.some.inj hm
      exact xr_iret (v := 0) X hr hlk hw hS rfl dJ9_canEncode_2_12
    · replace hm := if_f c1 hm
      refine lv_iconst (v := 1) hx hb dJ9_canEncode_2_7 (by decide) ?_
      refine lv_goto (tgt := 12) hx hb dJ9_canEncode_2_8 (by decide) ?_
      obtain rfl := Option.some.inj hm
      exact xr_iret (v := 1) X hr hlk hw hS rfl dJ9_canEncode_2_12
  exact hg _ _ _ _ hw va_S.rf
/-! java/lang/AbstractStringBuilder.append -/
def kX_J13_append_56 (g : XC) (N : Nat) (S : XS) (x0 : Nat) (x1 : Int32) : Option (XS × Nat) :=
  (f_obj S 11 x0 0).bind fun v1 =>
  (f_int S 11 x0 3).bind fun v2 =>
  (f_putI S 11 x0 3 (v2 + 1)).bind fun S3 =>
  none
theorem wkX_J13_append_56 {p : Program} {l : Launch} {e : Env} {s : State} {m : MethodId} {args : Array Value} {below : List Frame} {meth : Method} {c : Code} {g : XC} {D : va_G} {A : Nat → Prop} {S0 : XS} {w : XS × Nat} (X : xX g D A RJ13 S0 p s m args c cJ13_append 2) (hr : meth.sig.returnType = (Option.some (Jvm.ClassFile.FieldType.object "java/lang/AbstractStringBuilder"))) (hlk : meth.locks = false) (hnm : meth.name = yJ13_append.name) (N : Nat) :
    ∀ (S : XS) (x0 : Nat) (x1 : Int32) (H : Heap) (locs : List Loc) (ls : Array Slot) (cells slots : Nat), kX_J13_append_56 g N S x0 x1 = some w → xW g D A S s H → va_S A s.heap H locs → lv_has ls 2 [(0, .ref x0), (1, .int x1)] → W p l e (xRm g S0 4) s m args below meth c H locs cells slots (MQ below (xQr g D A w) args s (g.2.1 - xTop S0) (g.2.2.1 - xSl S0) A) (F0 m 56 ls []) := by
  obtain ⟨hx, hb, -, hown, hts, -⟩ := id X
  intro S x0 x1 H locs ls cells slots hm hw hS hl
  unfold kX_J13_append_56 at hm
  refine lv_aload_n hx hb dJ13_append_56 rfl (lv_at hl 0 rfl) ?_
  obtain ⟨v1, hv1, hm⟩ := ob_s hm
  refine xr_val X hw xc11 in_J14 0 (by decide) q1020 (f_obj_s hv1) dJ13_append_57 ?_
  refine lv_aload_n hx hb dJ13_append_60 rfl (lv_at hl 0 rfl) ?_
  refine lv_dup hx hb dJ13_append_61 rfl ?_
  obtain ⟨v2, hv2, hm⟩ := ob_s hm
  refine xr_val X hw xc11 in_J14 3 (by decide) q1022 (f_int_s hv2) dJ13_append_62 ?_
  refine lv_dup_x1 hx hb dJ13_append_65 rfl rfl ?_
  refine lv_iconst (v := 1) hx hb dJ13_append_66 (by decide) ?_
  refine lv_iadd hx hb dJ13_append_67 ?_
  obtain ⟨S3, hS3, hm⟩ := ob_s hm
  refine xr_putI X hw hS xc11 in_J14 tyJ14_ok nmJ14 3 (by decide) q1022 rfl (tyJ14_ok 3 (by decide)) rfl rfl hS3 dJ13_append_68 (fun H locs hw hS => ?_)
  refine lv_iload_n hx hb dJ13_append_71 rfl (lv_at hl 1 rfl) ?_
  cases hm
def kX_J13_append_45 (g : XC) (N : Nat) (S : XS) (x0 : Nat) (x1 : Int32) : Option (XS × Nat) :=
  (f_cls S 11 x0).bind fun u1 =>
  (kX_J13_isLatin1 g N S x0).bind fun w2 =>
  if w2.2 = 0 then
    kX_J13_append_56 g N w2.1 x0 x1
  else
    none
theorem wkX_J13_append_45 {p : Program} {l : Launch} {e : Env} {s : State} {m : MethodId} {args : Array Value} {below : List Frame} {meth : Method} {c : Code} {g : XC} {D : va_G} {A : Nat → Prop} {S0 : XS} {w : XS × Nat} (X : xX g D A RJ13 S0 p s m args c cJ13_append 2) (hr : meth.sig.returnType = (Option.some (Jvm.ClassFile.FieldType.object "java/lang/AbstractStringBuilder"))) (hlk : meth.locks = false) (hnm : meth.name = yJ13_append.name) (N : Nat) :
    ∀ (S : XS) (x0 : Nat) (x1 : Int32) (H : Heap) (locs : List Loc) (ls : Array Slot) (cells slots : Nat), kX_J13_append_45 g N S x0 x1 = some w → xW g D A S s H → va_S A s.heap H locs → lv_has ls 2 [(0, .ref x0), (1, .int x1)] → W p l e (xRm g S0 4) s m args below meth c H locs cells slots (MQ below (xQr g D A w) args s (g.2.1 - xTop S0) (g.2.2.1 - xSl S0) A) (F0 m 45 ls []) := by
  obtain ⟨hx, hb, -, hown, hts, -⟩ := id X
  intro S x0 x1 H locs ls cells slots hm hw hS hl
  unfold kX_J13_append_45 at hm
  refine lv_aload_n hx hb dJ13_append_45 rfl (lv_at hl 0 rfl) ?_
  obtain ⟨u1, hu1, hm⟩ := ob_s hm
  obtain ⟨w2, hw2, hm⟩ := ob_s hm
  refine xr_reti hS (xr_runU X hw (met_J13_isLatin1 N S x0 w2 hw2) (x_cu X (lv := 0) (by omega) (by decide) rfl cx_J13_isLatin1 q1075 q1077 q1078 q1076 q137 q1079) xc11 hu1 rfl hl.1 rfl (Nat.le_of_ble_eq_true rfl) dJ13_append_46) (fun H locs cells slots hw hS => ?_)
  refine lv_if_eq (tgt := 56) hx hb dJ13_append_49 (by decide) (fun c3 => ?_) (fun c3 => ?_)
  · replace hm := if_t c3 hm
    exact wkX_J13_append_56 X hr hlk hnm N w2.1 x0 x1 H locs ls _ _ hm hw hS (lv_sub hl [0, 1] rfl)
  · replace hm := if_f c3 hm
    refine lv_aload_n hx hb dJ13_append_52 rfl (lv_at hl 0 rfl) ?_
    cases hm
def kX_J13_append (g : XC) (N : Nat) (S : XS) (x0 : Nat) (x1 : Int32) : Option (XS × Nat) :=
  (f_int S 11 x0 3).bind fun v1 =>
  (f_cls S 11 x0).bind fun u2 =>
  (kX_J13_ensureCapacityInternal g N S x0 (v1 + 1)).bind fun w3 =>
  (f_cls w3 11 x0).bind fun u4 =>
  (kX_J13_isLatin1 g N w3 x0).bind fun w5 =>
  if w5.2 = 0 then
    kX_J13_append_45 g N w5.1 x0 x1
  else
    (kX_J9_canEncode_2 g N x1).bind fun w7 =>
    if w7 = 0 then
      kX_J13_append_45 g N w5.1 x0 x1
    else
      (f_obj w5.1 11 x0 0).bind fun v9 =>
      (f_int w5.1 11 x0 3).bind fun v10 =>
      (f_putI w5.1 11 x0 3 (v10 + 1)).bind fun S11 =>
      (a_putI S11 1 v9 v10 (vp_nar .byte ((x1 : Int32).toInt8.toInt32))).bind fun S12 =>
      some (S12, x0)
theorem cx_J13_append : yJ13_append.cls ≠ "java/lang/invoke/MethodHandle" ∧ yJ13_append.cls ≠ "java/lang/invoke/VarHandle" ∧ (parseMethodDescriptor yJ13_append.desc).map (fun d => d.parameters.length) = some 1 := by decide +kernel
theorem cxs_J13_append : yJ13_append.name ≠ "<init>" ∧ (parseMethodDescriptor yJ13_append.desc).map (fun d => d.parameters.length) = some 1 := by decide +kernel
theorem met_J13_append {l : Launch} {g : XC} {D : va_G} {A : Nat → Prop} (N : Nat) (S : XS) (x0 : Nat) (x1 : Int32) (w : XS × Nat) (hm : kX_J13_append g N S x0 x1 = some w) : Met l yJ13_append (ws_ yJ13_append cJ13_append 2 (Option.some (Jvm.ClassFile.FieldType.object "java/lang/AbstractStringBuilder"))) (xRm g S 4) (xPre g D A [.ref x0, .int x1] S) (xQr g D A w) (g.2.1 - xTop S) (g.2.2.1 - xSl S) A := by
  refine x_start (own := RJ13) (by decide +kernel) rfl (Nat.le_of_ble_eq_true rfl) (fun p e s m below meth c ls X hr hlk hnm hw hl => ?_)
  obtain ⟨hx, hb, -, hown, hts, -⟩ := id X
  have hl : lv_has ls 2 [(0, .ref x0), (1, .int x1)] := hl
  have hg : ∀ (H : Heap) (locs : List Loc) (cells slots : Nat), xW g D A S s H → va_S A s.heap H locs → W p l e (xRm g S 4) s m ([.ref x0, .int x1] : List Value).toArray below meth c H locs cells slots (MQ below (xQr g D A w) ([.ref x0, .int x1] : List Value).toArray s (g.2.1 - xTop S) (g.2.2.1 - xSl S) A) (F0 m 0 ls []) := by
    intro H locs cells slots hw hS
    unfold kX_J13_append at hm
    refine lv_aload_n hx hb dJ13_append_0 rfl (lv_at hl 0 rfl) ?_
    refine lv_aload_n hx hb dJ13_append_1 rfl (lv_at hl 0 rfl) ?_
    obtain ⟨v1, hv1, hm⟩ := ob_s hm
    refine xr_val X hw xc11 in_J14 3 (by decide) q1022 (f_int_s hv1) dJ13_append_2 ?_
    refine lv_iconst (v := 1) hx hb dJ13_append_5 (by decide) ?_
    refine lv_iadd hx hb dJ13_append_6 ?_
    obtain ⟨u2, hu2, hm⟩ := ob_s hm
    obtain ⟨w3, hw3, hm⟩ := ob_s hm
    refine xr_retv hS (xr_runU X hw (met_J13_ensureCapacityInternal N S x0 (v1 + 1) w3 hw3) (x_cuP X (lv := 3) (by omega) (by decide) rfl cx_J13_ensureCapacityInternal q1055 q2225 rfl xc11 q1078 rfl q1056 q1057 q137 q1058) xc11 hu2 rfl hl.1 rfl (Nat.le_of_ble_eq_true rfl) dJ13_append_7) (fun H locs cells slots hw hS => ?_)
    refine lv_aload_n hx hb dJ13_append_10 rfl (lv_at hl 0 rfl) ?_
    obtain ⟨u4, hu4, hm⟩ := ob_s hm
    obtain ⟨w5, hw5, hm⟩ := ob_s hm
    refine xr_reti hS (xr_runU X hw (met_J13_isLatin1 N w3 x0 w5 hw5) (x_cu X (lv := 0) (by omega) (by decide) rfl cx_J13_isLatin1 q1075 q1077 q1078 q1076 q137 q1079) xc11 hu4 rfl hl.1 rfl (Nat.le_of_ble_eq_true rfl) dJ13_append_11) (fun H locs cells slots hw hS => ?_)
    refine lv_if_eq (tgt := 45) hx hb dJ13_append_14 (by decide) (fun c6 => ?_) (fun c6 => ?_)
    · replace hm := if_t c6 hm
      exact wkX_J13_append_45 X hr hlk hnm N w5.1 x0 x1 H locs ls _ _ hm hw hS (lv_sub hl [0, 1] rfl)
    · replace hm := if_f c6 hm
      refine lv_iload_n hx hb dJ13_append_17 rfl (lv_at hl 1 rfl) ?_
      obtain ⟨w7, hw7, hm⟩ := ob_s hm
      refine xr_reti hS (xr_runS X hw (met_J9_canEncode_2 N w5.1 x1 w7 hw7) (x_cs X (lv := 0) (by omega) (by decide) cx_J9_canEncode_2 (lw_S q1080 q1081 q129 q1082)) rfl hl.1 rfl (Nat.le_of_ble_eq_true rfl) dJ13_append_18) (fun H locs cells slots hw hS => ?_)
      refine lv_if_eq (tgt := 45) hx hb dJ13_append_21 (by decide) (fun c8 => ?_) (fun c8 => ?_)
      · replace hm := if_t c8 hm
        exact wkX_J13_append_45 X hr hlk hnm N w5.1 x0 x1 H locs ls _ _ hm hw hS (lv_sub hl [0, 1] rfl)
      · replace hm := if_f c8 hm
        refine lv_aload_n hx hb dJ13_append_24 rfl (lv_at hl 0 rfl) ?_
        obtain ⟨v9, hv9, hm⟩ := ob_s hm
        refine xr_val X hw xc11 in_J14 0 (by decide) q1020 (f_obj_s hv9) dJ13_append_25 ?_
        refine lv_aload_n hx hb dJ13_append_28 rfl (lv_at hl 0 rfl) ?_
        refine lv_dup hx hb dJ13_append_29 rfl ?_
        obtain ⟨v10, hv10, hm⟩ := ob_s hm
        refine xr_val X hw xc11 in_J14 3 (by decide) q1022 (f_int_s hv10) dJ13_append_30 ?_
        refine lv_dup_x1 hx hb dJ13_append_33 rfl rfl ?_
        refine lv_iconst (v := 1) hx hb dJ13_append_34 (by decide) ?_
        refine lv_iadd hx hb dJ13_append_35 ?_
        obtain ⟨S11, hS11, hm⟩ := ob_s hm
        refine xr_putI X hw hS xc11 in_J14 tyJ14_ok nmJ14 3 (by decide) q1022 rfl (tyJ14_ok 3 (by decide)) rfl rfl hS11 dJ13_append_36 (fun H locs hw hS => ?_)
        refine lv_iload_n hx hb dJ13_append_39 rfl (lv_at hl 1 rfl) ?_
        refine lv_i2b hx hb dJ13_append_40 rfl ?_
        obtain ⟨S12, hS12, hm⟩ := ob_s hm
        refine xr_bast X hw hS hS12 dJ13_append_41 (fun H locs hw hS => ?_)
        refine lv_goto (tgt := 75) hx hb dJ13_append_42 (by decide) ?_
        refine lv_aload_n hx hb dJ13_append_75 rfl (lv_at hl 0 rfl) ?_
        obtain rfl := Option.some.inj hm
        exact xr_aret X hr (by first | exact Or.inl ⟨_, rfl⟩ | exact Or.inr ⟨_, rfl⟩) hlk hw hS dJ13_append_76
  exact hg _ _ _ _ hw va_S.rf
/-! java/lang/StringBuilder.append -/
def kX_J14_append (g : XC) (N : Nat) (S : XS) (x0 : Nat) (x1 : Int32) : Option (XS × Nat) :=
  (f_cls S 11 x0).bind fun u1 =>
  (kX_J13_append g N S x0 x1).bind fun w2 =>
  some (w2.1, x0)
theorem cx_J14_append : yJ14_append.cls = RJ14 ∧ yJ14_append.cls ≠ "java/lang/invoke/MethodHandle" ∧ yJ14_append.cls ≠ "java/lang/invoke/VarHandle" ∧ (parseMethodDescriptor yJ14_append.desc).map (fun d => d.parameters.length) = some 1 := by decide +kernel
theorem met_J14_append {l : Launch} {g : XC} {D : va_G} {A : Nat → Prop} (N : Nat) (S : XS) (x0 : Nat) (x1 : Int32) (w : XS × Nat) (hm : kX_J14_append g N S x0 x1 = some w) : Met l yJ14_append (ws_ yJ14_append cJ14_append 2 (Option.some (Jvm.ClassFile.FieldType.object "java/lang/StringBuilder"))) (xRm g S 5) (xPre g D A [.ref x0, .int x1] S) (xQr g D A w) (g.2.1 - xTop S) (g.2.2.1 - xSl S) A := by
  refine x_start (own := RJ14) (by decide +kernel) rfl (Nat.le_of_ble_eq_true rfl) (fun p e s m below meth c ls X hr hlk hnm hw hl => ?_)
  obtain ⟨hx, hb, -, hown, hts, -⟩ := id X
  have hl : lv_has ls 2 [(0, .ref x0), (1, .int x1)] := hl
  have hg : ∀ (H : Heap) (locs : List Loc) (cells slots : Nat), xW g D A S s H → va_S A s.heap H locs → W p l e (xRm g S 5) s m ([.ref x0, .int x1] : List Value).toArray below meth c H locs cells slots (MQ below (xQr g D A w) ([.ref x0, .int x1] : List Value).toArray s (g.2.1 - xTop S) (g.2.2.1 - xSl S) A) (F0 m 0 ls []) := by
    intro H locs cells slots hw hS
    unfold kX_J14_append at hm
    refine lv_aload_n hx hb dJ14_append_0 rfl (lv_at hl 0 rfl) ?_
    refine lv_iload_n hx hb dJ14_append_1 rfl (lv_at hl 1 rfl) ?_
    obtain ⟨u1, hu1, hm⟩ := ob_s hm
    obtain ⟨w2, hw2, hm⟩ := ob_s hm
    refine xr_retr hS (xr_runSU X hw (met_J13_append N S x0 x1 w2 hw2) (x_csu X (lv := 4) (by omega) (by decide) cxs_J13_append q1052 q2224 q543 q1053 q137 q1054) xc11 hu1 rfl hl.1 rfl (Nat.le_of_ble_eq_true rfl) dJ14_append_2) (fun H locs cells slots hw hS => ?_)
    refine lv_pop hx hb dJ14_append_5 rfl ?_
    refine lv_aload_n hx hb dJ14_append_6 rfl (lv_at hl 0 rfl) ?_
    obtain rfl := Option.some.inj hm
    exact xr_aret X hr (by first | exact Or.inl ⟨_, rfl⟩ | exact Or.inr ⟨_, rfl⟩) hlk hw hS dJ14_append_7
  exact hg _ _ _ _ hw va_S.rf
/-! java/lang/Integer.intValue -/
def kX_J19_intValue (g : XC) (N : Nat) (S : XS) (x0 : Nat) : Option (XS × Int32) :=
  (gIv g x0).bind fun k1 =>
  some (S, (vb_c k1))
theorem cx_J19_intValue : yJ19_intValue.cls = RJ19 ∧ yJ19_intValue.cls ≠ "java/lang/invoke/MethodHandle" ∧ yJ19_intValue.cls ≠ "java/lang/invoke/VarHandle" ∧ (parseMethodDescriptor yJ19_intValue.desc).map (fun d => d.parameters.length) = some 0 := by decide +kernel
theorem met_J19_intValue {l : Launch} {g : XC} {D : va_G} {A : Nat → Prop} (N : Nat) (S : XS) (x0 : Nat) (w : XS × Int32) (hm : kX_J19_intValue g N S x0 = some w) : Met l yJ19_intValue (ws_ yJ19_intValue cJ19_intValue 1 (Option.some Jvm.ClassFile.FieldType.int)) (xRm g S 0) (xPre g D A [.ref x0] S) (xQi g D A w) (g.2.1 - xTop S) (g.2.2.1 - xSl S) A := by
  refine x_start (own := RJ19) (by decide +kernel) rfl (Nat.le_of_ble_eq_true rfl) (fun p e s m below meth c ls X hr hlk hnm hw hl => ?_)
  obtain ⟨hx, hb, -, hown, hts, -⟩ := id X
  have hl : lv_has ls 1 [(0, .ref x0)] := hl
  have hg : ∀ (H : Heap) (locs : List Loc) (cells slots : Nat), xW g D A S s H → va_S A s.heap H locs → W p l e (xRm g S 0) s m ([.ref x0] : List Value).toArray below meth c H locs cells slots (MQ below (xQi g D A w) ([.ref x0] : List Value).toArray s (g.2.1 - xTop S) (g.2.2.1 - xSl S) A) (F0 m 0 ls []) := by
    intro H locs cells slots hw hS
    unfold kX_J19_intValue at hm
    refine lv_aload_n hx hb dJ19_intValue_0 rfl (lv_at hl 0 rfl) ?_
    obtain ⟨k1, hk1, hm⟩ := ob_s hm
    refine xr_Ival X hw hk1 q1149 dJ19_intValue_1 ?_
    obtain rfl := Option.some.inj hm
    exact xr_iret (v := (vb_c k1)) X hr hlk hw hS rfl dJ19_intValue_4
  exact hg _ _ _ _ hw va_S.rf
/-! java/lang/Integer.valueOf -/
def kX_J19_valueOf_23 (g : XC) (N : Nat) (S : XS) (x0 : Int32) : Option (XS × Nat) :=
  none
theorem wkX_J19_valueOf_23 {p : Program} {l : Launch} {e : Env} {s : State} {m : MethodId} {args : Array Value} {below : List Frame} {meth : Method} {c : Code} {g : XC} {D : va_G} {A : Nat → Prop} {S0 : XS} {w : XS × Nat} (X : xX g D A RJ19 S0 p s m args c cJ19_valueOf 1) (hr : meth.sig.returnType = (Option.some (Jvm.ClassFile.FieldType.object "java/lang/Integer"))) (hlk : meth.locks = false) (hnm : meth.name = yJ19_valueOf.name) (N : Nat) :
    ∀ (S : XS) (x0 : Int32) (H : Heap) (locs : List Loc) (ls : Array Slot) (cells slots : Nat), kX_J19_valueOf_23 g N S x0 = some w → xW g D A S s H → va_S A s.heap H locs → lv_has ls 1 [(0, .int x0)] → W p l e (xRm g S0 0) s m args below meth c H locs cells slots (MQ below (xQr g D A w) args s (g.2.1 - xTop S0) (g.2.2.1 - xSl S0) A) (F0 m 23 ls []) := by
  obtain ⟨hx, hb, -, hown, hts, -⟩ := id X
  intro S x0 H locs ls cells slots hm hw hS hl
  unfold kX_J19_valueOf_23 at hm
  cases hm
def kX_J19_valueOf (g : XC) (N : Nat) (S : XS) (x0 : Int32) : Option (XS × Nat) :=
  if x0 < (-128) then
    kX_J19_valueOf_23 g N S x0
  else
    if (127 : Int32) < x0 then
      kX_J19_valueOf_23 g N S x0
    else
      (i_at g (gSp g 2) (x0 + 128)).bind fun v3 =>
      some (S, v3)
theorem cx_J19_valueOf : yJ19_valueOf.cls ≠ "java/lang/invoke/MethodHandle" ∧ yJ19_valueOf.cls ≠ "java/lang/invoke/VarHandle" ∧ (parseMethodDescriptor yJ19_valueOf.desc).map (fun d => d.parameters.length) = some 1 := by decide +kernel
theorem met_J19_valueOf {l : Launch} {g : XC} {D : va_G} {A : Nat → Prop} (N : Nat) (S : XS) (x0 : Int32) (w : XS × Nat) (hm : kX_J19_valueOf g N S x0 = some w) : Met l yJ19_valueOf (ws_ yJ19_valueOf cJ19_valueOf 1 (Option.some (Jvm.ClassFile.FieldType.object "java/lang/Integer"))) (xRm g S 0) (xPre g D A [.int x0] S) (xQr g D A w) (g.2.1 - xTop S) (g.2.2.1 - xSl S) A := by
  refine x_start (own := RJ19) (by decide +kernel) rfl (Nat.le_of_ble_eq_true rfl) (fun p e s m below meth c ls X hr hlk hnm hw hl => ?_)
  obtain ⟨hx, hb, -, hown, hts, -⟩ := id X
  have hl : lv_has ls 1 [(0, .int x0)] := hl
  have hg : ∀ (H : Heap) (locs : List Loc) (cells slots : Nat), xW g D A S s H → va_S A s.heap H locs → W p l e (xRm g S 0) s m ([.int x0] : List Value).toArray below meth c H locs cells slots (MQ below (xQr g D A w) ([.int x0] : List Value).toArray s (g.2.1 - xTop S) (g.2.2.1 - xSl S) A) (F0 m 0 ls []) := by
    intro H locs cells slots hw hS
    unfold kX_J19_valueOf at hm
    refine lv_iload_n hx hb dJ19_valueOf_0 rfl (lv_at hl 0 rfl) ?_
    refine lv_bipush (v := (-128)) hx hb dJ19_valueOf_1 (by decide) ?_
    refine lv_icmp_lt (tgt := 23) hx hb dJ19_valueOf_3 (by decide) (fun c1 => ?_) (fun c1 => ?_)
    · replace hm := if_t c1 hm
      exact wkX_J19_valueOf_23 X hr hlk hnm N S x0 H locs ls _ _ hm hw hS (lv_sub hl [0] rfl)
    · replace hm := if_f c1 hm
      refine lv_iload_n hx hb dJ19_valueOf_6 rfl (lv_at hl 0 rfl) ?_
      refine xr_sref X (x_phi hw).2.2.2.2.2.2.2.2.1 q1136 dJ19_valueOf_7 ?_
      refine lv_icmp_gt (tgt := 23) hx hb dJ19_valueOf_10 (by decide) (fun c2 => ?_) (fun c2 => ?_)
      · replace hm := if_t c2 hm
        exact wkX_J19_valueOf_23 X hr hlk hnm N S x0 H locs ls _ _ hm hw hS (lv_sub hl [0] rfl)
      · replace hm := if_f c2 hm
        refine xr_sref X (x_phi hw).2.2.2.2.2.2.1 q1138 dJ19_valueOf_13 ?_
        refine lv_iload_n hx hb dJ19_valueOf_16 rfl (lv_at hl 0 rfl) ?_
        refine lv_sipush (v := 128) hx hb dJ19_valueOf_17 (by decide) ?_
        refine lv_iadd hx hb dJ19_valueOf_20 ?_
        obtain ⟨v3, hv3, hm⟩ := ob_s hm
        refine xr_iat X hw hv3 dJ19_valueOf_21 ?_
        obtain rfl := Option.some.inj hm
        exact xr_aret X hr (by first | exact Or.inl ⟨_, rfl⟩ | exact Or.inr ⟨_, rfl⟩) hlk hw hS dJ19_valueOf_22
  exact hg _ _ _ _ hw va_S.rf
/-! java/lang/Integer.equals -/
def kX_J19_equals (g : XC) (N : Nat) (S : XS) (x0 : Nat) (x1 : Nat) : Option (XS × Int32) :=
  (gIv g x1).bind fun k1 =>
  if (1 : Int32) = 0 then
    some (S, 0)
  else
    (gIv g x0).bind fun k3 =>
    (gIv g x1).bind fun k4 =>
    (gIv g x1).bind fun u5 =>
    (kX_J19_intValue g N S x1).bind fun w6 =>
    if (vb_c k3) = w6.2 then
      some (w6.1, 1)
    else
      some (w6.1, 0)
theorem cx_J19_equals : yJ19_equals.cls = RJ19 ∧ yJ19_equals.cls ≠ "java/lang/invoke/MethodHandle" ∧ yJ19_equals.cls ≠ "java/lang/invoke/VarHandle" ∧ (parseMethodDescriptor yJ19_equals.desc).map (fun d => d.parameters.length) = some 1 := by decide +kernel
theorem met_J19_equals {l : Launch} {g : XC} {D : va_G} {A : Nat → Prop} (N : Nat) (S : XS) (x0 : Nat) (x1 : Nat) (w : XS × Int32) (hm : kX_J19_equals g N S x0 x1 = some w) : Met l yJ19_equals (ws_ yJ19_equals cJ19_equals 2 (Option.some Jvm.ClassFile.FieldType.boolean)) (xRm g S 1) (xPre g D A [.ref x0, .ref x1] S) (xQi g D A w) (g.2.1 - xTop S) (g.2.2.1 - xSl S) A := by
  refine x_start (own := RJ19) (by decide +kernel) rfl (Nat.le_of_ble_eq_true rfl) (fun p e s m below meth c ls X hr hlk hnm hw hl => ?_)
  obtain ⟨hx, hb, -, hown, hts, -⟩ := id X
  have hl : lv_has ls 2 [(0, .ref x0), (1, .ref x1)] := hl
  have hg : ∀ (H : Heap) (locs : List Loc) (cells slots : Nat), xW g D A S s H → va_S A s.heap H locs → W p l e (xRm g S 1) s m ([.ref x0, .ref x1] : List Value).toArray below meth c H locs cells slots (MQ below (xQi g D A w) ([.ref x0, .ref x1] : List Value).toArray s (g.2.1 - xTop S) (g.2.2.1 - xSl S) A) (F0 m 0 ls []) := by
    intro H locs cells slots hw hS
    unfold kX_J19_equals at hm
    refine lv_aload_n hx hb dJ19_equals_0 rfl (lv_at hl 1 rfl) ?_
    obtain ⟨k1, hk1, hm⟩ := ob_s hm
    refine xr_instI X hw hk1 q1140 dJ19_equals_1 ?_
    refine lv_if_eq (tgt := 27) hx hb dJ19_equals_4 (by decide) (fun c2 => ?_) (fun c2 => ?_)
    · replace hm := if_t c2 hm
      refine lv_iconst (v := 0) hx hb dJ19_equals_27 (by decide) ?_
      obtain rfl := Option.some.inj hm
      exact xr_iret (v := 0) X hr hlk hw hS rfl dJ19_equals_28
    · replace hm := if_f c2 hm
      refine lv_aload_n hx hb dJ19_equals_7 rfl (lv_at hl 0 rfl) ?_
      obtain ⟨k3, hk3, hm⟩ := ob_s hm
      refine xr_Ival X hw hk3 q1149 dJ19_equals_8 ?_
      refine lv_aload_n hx hb dJ19_equals_11 rfl (lv_at hl 1 rfl) ?_
      obtain ⟨k4, hk4, hm⟩ := ob_s hm
      refine xr_castI X hw hk4 q1140 dJ19_equals_12 ?_
      obtain ⟨u5, hu5, hm⟩ := ob_s hm
      obtain ⟨w6, hw6, hm⟩ := ob_s hm
      refine xr_reti hS (xr_runVX X hw (met_J19_intValue N S x1 w6 hw6) (x_cv X (lv := 0) (by omega) (by decide) cx_J19_intValue (lw_V q1214 q498 q499 q145 q500)) (x_recvI X hw hu5) rfl hl.1 rfl (Nat.le_of_ble_eq_true rfl) dJ19_equals_15) (fun H locs cells slots hw hS => ?_)
      refine lv_icmp_ne (tgt := 25) hx hb dJ19_equals_18 (by decide) (fun c7 => ?_) (fun c7 => ?_)
      · replace hm := if_f c7 hm
        refine lv_iconst (v := 0) hx hb dJ19_equals_25 (by decide) ?_
        obtain rfl := Option.some.inj hm
        exact xr_iret (v := 0) X hr hlk hw hS rfl dJ19_equals_26
      · replace hm := if_t c7 hm
        refine lv_iconst (v := 1) hx hb dJ19_equals_21 (by decide) ?_
        refine lv_goto (tgt := 26) hx hb dJ19_equals_22 (by decide) ?_
        obtain rfl := Option.some.inj hm
        exact xr_iret (v := 1) X hr hlk hw hS rfl dJ19_equals_26
  exact hg _ _ _ _ hw va_S.rf
/-! java/lang/Integer.bitCount -/
def kX_J19_bitCount (g : XC) (N : Nat) (x0 : Int32) : Option (Int32) :=
  bnd (x0 - ((((x0 : Int32).toUInt32 >>> ((1 : Int32).toUInt32 &&& Int32.toUInt32 31)).toInt32) &&& 1431655765)) fun v2 =>
  bnd ((v2 &&& 858993459) + ((((v2 : Int32).toUInt32 >>> ((2 : Int32).toUInt32 &&& Int32.toUInt32 31)).toInt32) &&& 858993459)) fun v4 =>
  bnd ((v4 + (((v4 : Int32).toUInt32 >>> ((4 : Int32).toUInt32 &&& Int32.toUInt32 31)).toInt32)) &&& 252645135) fun v6 =>
  bnd (v6 + (((v6 : Int32).toUInt32 >>> ((8 : Int32).toUInt32 &&& Int32.toUInt32 31)).toInt32)) fun v8 =>
  bnd (v8 + (((v8 : Int32).toUInt32 >>> ((16 : Int32).toUInt32 &&& Int32.toUInt32 31)).toInt32)) fun v10 =>
  some (v10 &&& 63)
theorem cx_J19_bitCount : yJ19_bitCount.cls ≠ "java/lang/invoke/MethodHandle" ∧ yJ19_bitCount.cls ≠ "java/lang/invoke/VarHandle" ∧ (parseMethodDescriptor yJ19_bitCount.desc).map (fun d => d.parameters.length) = some 1 := by decide +kernel
theorem met_J19_bitCount {l : Launch} {g : XC} {D : va_G} {A : Nat → Prop} (N : Nat) (S : XS) (x0 : Int32) (w : Int32) (hm : kX_J19_bitCount g N x0 = some w) : Met l yJ19_bitCount (ws_ yJ19_bitCount cJ19_bitCount 1 (Option.some Jvm.ClassFile.FieldType.int)) (xRm g S 0) (xPre g D A [.int x0] S) (xQi g D A (S, w)) (g.2.1 - xTop S) (g.2.2.1 - xSl S) A := by
  refine x_start (own := RJ19) (by decide +kernel) rfl (Nat.le_of_ble_eq_true rfl) (fun p e s m below meth c ls X hr hlk hnm hw hl => ?_)
  obtain ⟨hx, hb, -, hown, hts, -⟩ := id X
  have hl : lv_has ls 1 [(0, .int x0)] := hl
  have hg : ∀ (H : Heap) (locs : List Loc) (cells slots : Nat), xW g D A S s H → va_S A s.heap H locs → W p l e (xRm g S 0) s m ([.int x0] : List Value).toArray below meth c H locs cells slots (MQ below (xQi g D A (S, w)) ([.int x0] : List Value).toArray s (g.2.1 - xTop S) (g.2.2.1 - xSl S) A) (F0 m 0 ls []) := by
    intro H locs cells slots hw hS
    unfold kX_J19_bitCount at hm
    refine lv_iload_n hx hb dJ19_bitCount_0 rfl (lv_at hl 0 rfl) ?_
    refine lv_iload_n hx hb dJ19_bitCount_1 rfl (lv_at hl 0 rfl) ?_
    refine lv_iconst (v := 1) hx hb dJ19_bitCount_2 (by decide) ?_
    refine lv_iushr (v := (((x0 : Int32).toUInt32 >>> ((1 : Int32).toUInt32 &&& Int32.toUInt32 31)).toInt32)) hx hb dJ19_bitCount_3 rfl ?_
    refine lv_ldcw (v := 1431655765) hx hb hown (hts _ q1356) dJ19_bitCount_4 ?_
    refine lv_iand hx hb dJ19_bitCount_7 ?_
    refine lv_isub hx hb dJ19_bitCount_8 ?_
    refine lv_topi (fun v2 ev2 => ?_)
    replace hm := bnd_s hm ev2
    refine lv_istore_n (lv' := [(0, .int v2)]) hx hb dJ19_bitCount_9 rfl hl (by decide) rfl (fun ls hl => ?_)
    refine lv_iload_n hx hb dJ19_bitCount_10 rfl (lv_at hl 0 rfl) ?_
    refine lv_ldcw (v := 858993459) hx hb hown (hts _ q1357) dJ19_bitCount_11 ?_
    refine lv_iand hx hb dJ19_bitCount_14 ?_
    refine lv_iload_n hx hb dJ19_bitCount_15 rfl (lv_at hl 0 rfl) ?_
    refine lv_iconst (v := 2) hx hb dJ19_bitCount_16 (by decide) ?_
    refine lv_iushr (v := (((v2 : Int32).toUInt32 >>> ((2 : Int32).toUInt32 &&& Int32.toUInt32 31)).toInt32)) hx hb dJ19_bitCount_17 rfl ?_
    refine lv_ldcw (v := 858993459) hx hb hown (hts _ q1357) dJ19_bitCount_18 ?_
    refine lv_iand hx hb dJ19_bitCount_21 ?_
    refine lv_iadd hx hb dJ19_bitCount_22 ?_
    refine lv_topi (fun v4 ev4 => ?_)
    replace hm := bnd_s hm ev4
    refine lv_istore_n (lv' := [(0, .int v4)]) hx hb dJ19_bitCount_23 rfl hl (by decide) rfl (fun ls hl => ?_)
    refine lv_iload_n hx hb dJ19_bitCount_24 rfl (lv_at hl 0 rfl) ?_
    refine lv_iload_n hx hb dJ19_bitCount_25 rfl (lv_at hl 0 rfl) ?_
    refine lv_iconst (v := 4) hx hb dJ19_bitCount_26 (by decide) ?_
    refine lv_iushr (v := (((v4 : Int32).toUInt32 >>> ((4 : Int32).toUInt32 &&& Int32.toUInt32 31)).toInt32)) hx hb dJ19_bitCount_27 rfl ?_
    refine lv_iadd hx hb dJ19_bitCount_28 ?_
    refine lv_ldcw (v := 252645135) hx hb hown (hts _ q1358) dJ19_bitCount_29 ?_
    refine lv_iand hx hb dJ19_bitCount_32 ?_
    refine lv_topi (fun v6 ev6 => ?_)
    replace hm := bnd_s hm ev6
    refine lv_istore_n (lv' := [(0, .int v6)]) hx hb dJ19_bitCount_33 rfl hl (by decide) rfl (fun ls hl => ?_)
    refine lv_iload_n hx hb dJ19_bitCount_34 rfl (lv_at hl 0 rfl) ?_
    refine lv_iload_n hx hb dJ19_bitCount_35 rfl (lv_at hl 0 rfl) ?_
    refine lv_bipush (v := 8) hx hb dJ19_bitCount_36 (by decide) ?_
    refine lv_iushr (v := (((v6 : Int32).toUInt32 >>> ((8 : Int32).toUInt32 &&& Int32.toUInt32 31)).toInt32)) hx hb dJ19_bitCount_38 rfl ?_
    refine lv_iadd hx hb dJ19_bitCount_39 ?_
    refine lv_topi (fun v8 ev8 => ?_)
    replace hm := bnd_s hm ev8
    refine lv_istore_n (lv' := [(0, .int v8)]) hx hb dJ19_bitCount_40 rfl hl (by decide) rfl (fun ls hl => ?_)
    refine lv_iload_n hx hb dJ19_bitCount_41 rfl (lv_at hl 0 rfl) ?_
    refine lv_iload_n hx hb dJ19_bitCount_42 rfl (lv_at hl 0 rfl) ?_
    refine lv_bipush (v := 16) hx hb dJ19_bitCount_43 (by decide) ?_
    refine lv_iushr (v := (((v8 : Int32).toUInt32 >>> ((16 : Int32).toUInt32 &&& Int32.toUInt32 31)).toInt32)) hx hb dJ19_bitCount_45 rfl ?_
    refine lv_iadd hx hb dJ19_bitCount_46 ?_
    refine lv_topi (fun v10 ev10 => ?_)
    replace hm := bnd_s hm ev10
    refine lv_istore_n (lv' := [(0, .int v10)]) hx hb dJ19_bitCount_47 rfl hl (by decide) rfl (fun ls hl => ?_)
    refine lv_iload_n hx hb dJ19_bitCount_48 rfl (lv_at hl 0 rfl) ?_
    refine lv_bipush (v := 63) hx hb dJ19_bitCount_49 (by decide) ?_
    refine lv_iand hx hb dJ19_bitCount_51 ?_
    obtain rfl := Option.some.inj hm
    exact xr_iret (v := (v10 &&& 63)) X hr hlk hw hS rfl dJ19_bitCount_52
  exact hg _ _ _ _ hw va_S.rf
/-! java/lang/Integer.numberOfTrailingZeros -/
def kX_J19_numberOfTrailingZeros_74 (g : XC) (N : Nat) (x0 : Int32) (x1 : Int32) : Option (Int32) :=
  some (x1 + (((x0 : Int32).toUInt32 >>> ((1 : Int32).toUInt32 &&& Int32.toUInt32 31)).toInt32))
theorem wkX_J19_numberOfTrailingZeros_74 {p : Program} {l : Launch} {e : Env} {s : State} {m : MethodId} {args : Array Value} {below : List Frame} {meth : Method} {c : Code} {g : XC} {D : va_G} {A : Nat → Prop} {S : XS} {w : Int32} (X : xX g D A RJ19 S p s m args c cJ19_numberOfTrailingZeros 2) (hr : meth.sig.returnType = (Option.some Jvm.ClassFile.FieldType.int)) (hlk : meth.locks = false) (hnm : meth.name = yJ19_numberOfTrailingZeros.name) (N : Nat) :
    ∀ (x0 : Int32) (x1 : Int32) (H : Heap) (locs : List Loc) (ls : Array Slot) (cells slots : Nat), kX_J19_numberOfTrailingZeros_74 g N x0 x1 = some w → xW g D A S s H → va_S A s.heap H locs → lv_has ls 2 [(0, .int x0), (1, .int x1)] → W p l e (xRm g S 0) s m args below meth c H locs cells slots (MQ below (xQi g D A (S, w)) args s (g.2.1 - xTop S) (g.2.2.1 - xSl S) A) (F0 m 74 ls []) := by
  obtain ⟨hx, hb, -, hown, hts, -⟩ := id X
  intro x0 x1 H locs ls cells slots hm hw hS hl
  unfold kX_J19_numberOfTrailingZeros_74 at hm
  refine lv_iload_n hx hb dJ19_numberOfTrailingZeros_74 rfl (lv_at hl 1 rfl) ?_
  refine lv_iload_n hx hb dJ19_numberOfTrailingZeros_75 rfl (lv_at hl 0 rfl) ?_
  refine lv_iconst (v := 1) hx hb dJ19_numberOfTrailingZeros_76 (by decide) ?_
  refine lv_iushr (v := (((x0 : Int32).toUInt32 >>> ((1 : Int32).toUInt32 &&& Int32.toUInt32 31)).toInt32)) hx hb dJ19_numberOfTrailingZeros_77 rfl ?_
  refine lv_iadd hx hb dJ19_numberOfTrailingZeros_78 ?_
  obtain rfl := Option.some.inj hm
  exact xr_iret (v := (x1 + (((x0 : Int32).toUInt32 >>> ((1 : Int32).toUInt32 &&& Int32.toUInt32 31)).toInt32))) X hr hlk hw hS rfl dJ19_numberOfTrailingZeros_79
def kX_J19_numberOfTrailingZeros_62 (g : XC) (N : Nat) (x0 : Int32) (x1 : Int32) : Option (Int32) :=
  if x0 ≤ 4 then
    kX_J19_numberOfTrailingZeros_74 g N x0 x1
  else
    bnd (((x0 : Int32).toUInt32 >>> ((2 : Int32).toUInt32 &&& Int32.toUInt32 31)).toInt32) fun v3 =>
    kX_J19_numberOfTrailingZeros_74 g N v3 (x1 + 2)
theorem wkX_J19_numberOfTrailingZeros_62 {p : Program} {l : Launch} {e : Env} {s : State} {m : MethodId} {args : Array Value} {below : List Frame} {meth : Method} {c : Code} {g : XC} {D : va_G} {A : Nat → Prop} {S : XS} {w : Int32} (X : xX g D A RJ19 S p s m args c cJ19_numberOfTrailingZeros 2) (hr : meth.sig.returnType = (Option.some Jvm.ClassFile.FieldType.int)) (hlk : meth.locks = false) (hnm : meth.name = yJ19_numberOfTrailingZeros.name) (N : Nat) :
    ∀ (x0 : Int32) (x1 : Int32) (H : Heap) (locs : List Loc) (ls : Array Slot) (cells slots : Nat), kX_J19_numberOfTrailingZeros_62 g N x0 x1 = some w → xW g D A S s H → va_S A s.heap H locs → lv_has ls 2 [(0, .int x0), (1, .int x1)] → W p l e (xRm g S 0) s m args below meth c H locs cells slots (MQ below (xQi g D A (S, w)) args s (g.2.1 - xTop S) (g.2.2.1 - xSl S) A) (F0 m 62 ls []) := by
  obtain ⟨hx, hb, -, hown, hts, -⟩ := id X
  intro x0 x1 H locs ls cells slots hm hw hS hl
  unfold kX_J19_numberOfTrailingZeros_62 at hm
  refine lv_iload_n hx hb dJ19_numberOfTrailingZeros_62 rfl (lv_at hl 0 rfl) ?_
  refine lv_iconst (v := 4) hx hb dJ19_numberOfTrailingZeros_63 (by decide) ?_
  refine lv_icmp_le (tgt := 74) hx hb dJ19_numberOfTrailingZeros_64 (by decide) (fun c1 => ?_) (fun c1 => ?_)
  · replace hm := if_t c1 hm
    exact wkX_J19_numberOfTrailingZeros_74 X hr hlk hnm N x0 x1 H locs ls _ _ hm hw hS (lv_sub hl [0, 1] rfl)
  · replace hm := if_f c1 hm
    refine lv_iinc (v := (x1 + 2)) (lv' := [(1, .int (x1 + 2)), (0, .int x0)]) hx hb dJ19_numberOfTrailingZeros_67 hl (k := 1) rfl rfl (by decide) rfl (fun ls hl => ?_)
    refine lv_iload_n hx hb dJ19_numberOfTrailingZeros_70 rfl (lv_at hl 1 rfl) ?_
    refine lv_iconst (v := 2) hx hb dJ19_numberOfTrailingZeros_71 (by decide) ?_
    refine lv_iushr (v := (((x0 : Int32).toUInt32 >>> ((2 : Int32).toUInt32 &&& Int32.toUInt32 31)).toInt32)) hx hb dJ19_numberOfTrailingZeros_72 rfl ?_
    refine lv_topi (fun v3 ev3 => ?_)
    replace hm := bnd_s hm ev3
    refine lv_istore_n (lv' := [(0, .int v3), (1, .int (x1 + 2))]) hx hb dJ19_numberOfTrailingZeros_73 rfl hl (by decide) rfl (fun ls hl => ?_)
    exact wkX_J19_numberOfTrailingZeros_74 X hr hlk hnm N v3 (x1 + 2) H locs ls _ _ hm hw hS (lv_sub hl [0, 1] rfl)
def kX_J19_numberOfTrailingZeros_49 (g : XC) (N : Nat) (x0 : Int32) (x1 : Int32) : Option (Int32) :=
  if x0 ≤ 16 then
    kX_J19_numberOfTrailingZeros_62 g N x0 x1
  else
    bnd (((x0 : Int32).toUInt32 >>> ((4 : Int32).toUInt32 &&& Int32.toUInt32 31)).toInt32) fun v3 =>
    kX_J19_numberOfTrailingZeros_62 g N v3 (x1 + 4)
theorem wkX_J19_numberOfTrailingZeros_49 {p : Program} {l : Launch} {e : Env} {s : State} {m : MethodId} {args : Array Value} {below : List Frame} {meth : Method} {c : Code} {g : XC} {D : va_G} {A : Nat → Prop} {S : XS} {w : Int32} (X : xX g D A RJ19 S p s m args c cJ19_numberOfTrailingZeros 2) (hr : meth.sig.returnType = (Option.some Jvm.ClassFile.FieldType.int)) (hlk : meth.locks = false) (hnm : meth.name = yJ19_numberOfTrailingZeros.name) (N : Nat) :
    ∀ (x0 : Int32) (x1 : Int32) (H : Heap) (locs : List Loc) (ls : Array Slot) (cells slots : Nat), kX_J19_numberOfTrailingZeros_49 g N x0 x1 = some w → xW g D A S s H → va_S A s.heap H locs → lv_has ls 2 [(0, .int x0), (1, .int x1)] → W p l e (xRm g S 0) s m args below meth c H locs cells slots (MQ below (xQi g D A (S, w)) args s (g.2.1 - xTop S) (g.2.2.1 - xSl S) A) (F0 m 49 ls []) := by
  obtain ⟨hx, hb, -, hown, hts, -⟩ := id X
  intro x0 x1 H locs ls cells slots hm hw hS hl
  unfold kX_J19_numberOfTrailingZeros_49 at hm
  refine lv_iload_n hx hb dJ19_numberOfTrailingZeros_49 rfl (lv_at hl 0 rfl) ?_
  refine lv_bipush (v := 16) hx hb dJ19_numberOfTrailingZeros_50 (by decide) ?_
  refine lv_icmp_le (tgt := 62) hx hb dJ19_numberOfTrailingZeros_52 (by decide) (fun c1 => ?_) (fun c1 => ?_)
  · replace hm := if_t c1 hm
    exact wkX_J19_numberOfTrailingZeros_62 X hr hlk hnm N x0 x1 H locs ls _ _ hm hw hS (lv_sub hl [0, 1] rfl)
  · replace hm := if_f c1 hm
    refine lv_iinc (v := (x1 + 4)) (lv' := [(1, .int (x1 + 4)), (0, .int x0)]) hx hb dJ19_numberOfTrailingZeros_55 hl (k := 1) rfl rfl (by decide) rfl (fun ls hl => ?_)
    refine lv_iload_n hx hb dJ19_numberOfTrailingZeros_58 rfl (lv_at hl 1 rfl) ?_
    refine lv_iconst (v := 4) hx hb dJ19_numberOfTrailingZeros_59 (by decide) ?_
    refine lv_iushr (v := (((x0 : Int32).toUInt32 >>> ((4 : Int32).toUInt32 &&& Int32.toUInt32 31)).toInt32)) hx hb dJ19_numberOfTrailingZeros_60 rfl ?_
    refine lv_topi (fun v3 ev3 => ?_)
    replace hm := bnd_s hm ev3
    refine lv_istore_n (lv' := [(0, .int v3), (1, .int (x1 + 4))]) hx hb dJ19_numberOfTrailingZeros_61 rfl hl (by decide) rfl (fun ls hl => ?_)
    exact wkX_J19_numberOfTrailingZeros_62 X hr hlk hnm N v3 (x1 + 4) H locs ls _ _ hm hw hS (lv_sub hl [0, 1] rfl)
def kX_J19_numberOfTrailingZeros_34 (g : XC) (N : Nat) (x0 : Int32) (x1 : Int32) : Option (Int32) :=
  if x0 ≤ 256 then
    kX_J19_numberOfTrailingZeros_49 g N x0 x1
  else
    bnd (((x0 : Int32).toUInt32 >>> ((8 : Int32).toUInt32 &&& Int32.toUInt32 31)).toInt32) fun v3 =>
    kX_J19_numberOfTrailingZeros_49 g N v3 (x1 + 8)
theorem wkX_J19_numberOfTrailingZeros_34 {p : Program} {l : Launch} {e : Env} {s : State} {m : MethodId} {args : Array Value} {below : List Frame} {meth : Method} {c : Code} {g : XC} {D : va_G} {A : Nat → Prop} {S : XS} {w : Int32} (X : xX g D A RJ19 S p s m args c cJ19_numberOfTrailingZeros 2) (hr : meth.sig.returnType = (Option.some Jvm.ClassFile.FieldType.int)) (hlk : meth.locks = false) (hnm : meth.name = yJ19_numberOfTrailingZeros.name) (N : Nat) :
    ∀ (x0 : Int32) (x1 : Int32) (H : Heap) (locs : List Loc) (ls : Array Slot) (cells slots : Nat), kX_J19_numberOfTrailingZeros_34 g N x0 x1 = some w → xW g D A S s H → va_S A s.heap H locs → lv_has ls 2 [(0, .int x0), (1, .int x1)] → W p l e (xRm g S 0) s m args below meth c H locs cells slots (MQ below (xQi g D A (S, w)) args s (g.2.1 - xTop S) (g.2.2.1 - xSl S) A) (F0 m 34 ls []) := by
  obtain ⟨hx, hb, -, hown, hts, -⟩ := id X
  intro x0 x1 H locs ls cells slots hm hw hS hl
  unfold kX_J19_numberOfTrailingZeros_34 at hm
  refine lv_iload_n hx hb dJ19_numberOfTrailingZeros_34 rfl (lv_at hl 0 rfl) ?_
  refine lv_sipush (v := 256) hx hb dJ19_numberOfTrailingZeros_35 (by decide) ?_
  refine lv_icmp_le (tgt := 49) hx hb dJ19_numberOfTrailingZeros_38 (by decide) (fun c1 => ?_) (fun c1 => ?_)
  · replace hm := if_t c1 hm
    exact wkX_J19_numberOfTrailingZeros_49 X hr hlk hnm N x0 x1 H locs ls _ _ hm hw hS (lv_sub hl [0, 1] rfl)
  · replace hm := if_f c1 hm
    refine lv_iinc (v := (x1 + 8)) (lv' := [(1, .int (x1 + 8)), (0, .int x0)]) hx hb dJ19_numberOfTrailingZeros_41 hl (k := 1) rfl rfl (by decide) rfl (fun ls hl => ?_)
    refine lv_iload_n hx hb dJ19_numberOfTrailingZeros_44 rfl (lv_at hl 1 rfl) ?_
    refine lv_bipush (v := 8) hx hb dJ19_numberOfTrailingZeros_45 (by decide) ?_
    refine lv_iushr (v := (((x0 : Int32).toUInt32 >>> ((8 : Int32).toUInt32 &&& Int32.toUInt32 31)).toInt32)) hx hb dJ19_numberOfTrailingZeros_47 rfl ?_
    refine lv_topi (fun v3 ev3 => ?_)
    replace hm := bnd_s hm ev3
    refine lv_istore_n (lv' := [(0, .int v3), (1, .int (x1 + 8))]) hx hb dJ19_numberOfTrailingZeros_48 rfl hl (by decide) rfl (fun ls hl => ?_)
    exact wkX_J19_numberOfTrailingZeros_49 X hr hlk hnm N v3 (x1 + 8) H locs ls _ _ hm hw hS (lv_sub hl [0, 1] rfl)
def kX_J19_numberOfTrailingZeros (g : XC) (N : Nat) (x0 : Int32) : Option (Int32) :=
  bnd ((x0 ^^^ (-1)) &&& (x0 - 1)) fun v1 =>
  if (0 : Int32) < v1 then
    if v1 ≤ 65536 then
      kX_J19_numberOfTrailingZeros_34 g N v1 1
    else
      bnd (((v1 : Int32).toUInt32 >>> ((16 : Int32).toUInt32 &&& Int32.toUInt32 31)).toInt32) fun v5 =>
      kX_J19_numberOfTrailingZeros_34 g N v5 (1 + 16)
  else
    some (v1 &&& 32)
theorem cx_J19_numberOfTrailingZeros : yJ19_numberOfTrailingZeros.cls ≠ "java/lang/invoke/MethodHandle" ∧ yJ19_numberOfTrailingZeros.cls ≠ "java/lang/invoke/VarHandle" ∧ (parseMethodDescriptor yJ19_numberOfTrailingZeros.desc).map (fun d => d.parameters.length) = some 1 := by decide +kernel
theorem met_J19_numberOfTrailingZeros {l : Launch} {g : XC} {D : va_G} {A : Nat → Prop} (N : Nat) (S : XS) (x0 : Int32) (w : Int32) (hm : kX_J19_numberOfTrailingZeros g N x0 = some w) : Met l yJ19_numberOfTrailingZeros (ws_ yJ19_numberOfTrailingZeros cJ19_numberOfTrailingZeros 2 (Option.some Jvm.ClassFile.FieldType.int)) (xRm g S 0) (xPre g D A [.int x0] S) (xQi g D A (S, w)) (g.2.1 - xTop S) (g.2.2.1 - xSl S) A := by
  refine x_start (own := RJ19) (by decide +kernel) rfl (Nat.le_of_ble_eq_true rfl) (fun p e s m below meth c ls X hr hlk hnm hw hl => ?_)
  obtain ⟨hx, hb, -, hown, hts, -⟩ := id X
  have hl : lv_has ls 2 [(0, .int x0)] := hl
  have hg : ∀ (H : Heap) (locs : List Loc) (cells slots : Nat), xW g D A S s H → va_S A s.heap H locs → W p l e (xRm g S 0) s m ([.int x0] : List Value).toArray below meth c H locs cells slots (MQ below (xQi g D A (S, w)) ([.int x0] : List Value).toArray s (g.2.1 - xTop S) (g.2.2.1 - xSl S) A) (F0 m 0 ls []) := by
    intro H locs cells slots hw hS
    unfold kX_J19_numberOfTrailingZeros at hm
    refine lv_iload_n hx hb dJ19_numberOfTrailingZeros_0 rfl (lv_at hl 0 rfl) ?_
    refine lv_iconst (v := (-1)) hx hb dJ19_numberOfTrailingZeros_1 (by decide) ?_
    refine lv_ixor hx hb dJ19_numberOfTrailingZeros_2 ?_
    refine lv_iload_n hx hb dJ19_numberOfTrailingZeros_3 rfl (lv_at hl 0 rfl) ?_
    refine lv_iconst (v := 1) hx hb dJ19_numberOfTrailingZeros_4 (by decide) ?_
    refine lv_isub hx hb dJ19_numberOfTrailingZeros_5 ?_
    refine lv_iand hx hb dJ19_numberOfTrailingZeros_6 ?_
    refine lv_topi (fun v1 ev1 => ?_)
    replace hm := bnd_s hm ev1
    refine lv_istore_n (lv' := [(0, .int v1)]) hx hb dJ19_numberOfTrailingZeros_7 rfl hl (by decide) rfl (fun ls hl => ?_)
    refine lv_iload_n hx hb dJ19_numberOfTrailingZeros_8 rfl (lv_at hl 0 rfl) ?_
    refine lv_if_gt (tgt := 17) hx hb dJ19_numberOfTrailingZeros_9 (by decide) (fun c2 => ?_) (fun c2 => ?_)
    · replace hm := if_t c2 hm
      refine lv_iconst (v := 1) hx hb dJ19_numberOfTrailingZeros_17 (by decide) ?_
      refine lv_istore_n (lv' := [(1, .int 1), (0, .int v1)]) hx hb dJ19_numberOfTrailingZeros_18 rfl hl (by decide) rfl (fun ls hl => ?_)
      refine lv_iload_n hx hb dJ19_numberOfTrailingZeros_19 rfl (lv_at hl 1 rfl) ?_
      refine lv_ldcw (v := 65536) hx hb hown (hts _ q1428) dJ19_numberOfTrailingZeros_20 ?_
      refine lv_icmp_le (tgt := 34) hx hb dJ19_numberOfTrailingZeros_23 (by decide) (fun c3 => ?_) (fun c3 => ?_)
      · replace hm := if_t c3 hm
        exact wkX_J19_numberOfTrailingZeros_34 X hr hlk hnm N v1 1 H locs ls _ _ hm hw hS (lv_sub hl [1, 0] rfl)
      · replace hm := if_f c3 hm
        refine lv_iinc (v := (1 + 16)) (lv' := [(1, .int (1 + 16)), (0, .int v1)]) hx hb dJ19_numberOfTrailingZeros_26 hl (k := 0) rfl rfl (by decide) rfl (fun ls hl => ?_)
        refine lv_iload_n hx hb dJ19_numberOfTrailingZeros_29 rfl (lv_at hl 1 rfl) ?_
        refine lv_bipush (v := 16) hx hb dJ19_numberOfTrailingZeros_30 (by decide) ?_
        refine lv_iushr (v := (((v1 : Int32).toUInt32 >>> ((16 : Int32).toUInt32 &&& Int32.toUInt32 31)).toInt32)) hx hb dJ19_numberOfTrailingZeros_32 rfl ?_
        refine lv_topi (fun v5 ev5 => ?_)
        replace hm := bnd_s hm ev5
        refine lv_istore_n (lv' := [(0, .int v5), (1, .int (1 + 16))]) hx hb dJ19_numberOfTrailingZeros_33 rfl hl (by decide) rfl (fun ls hl => ?_)
        exact wkX_J19_numberOfTrailingZeros_34 X hr hlk hnm N v5 (1 + 16) H locs ls _ _ hm hw hS (lv_sub hl [0, 1] rfl)
    · replace hm := if_f c2 hm
      refine lv_iload_n hx hb dJ19_numberOfTrailingZeros_12 rfl (lv_at hl 0 rfl) ?_
      refine lv_bipush (v := 32) hx hb dJ19_numberOfTrailingZeros_13 (by decide) ?_
      refine lv_iand hx hb dJ19_numberOfTrailingZeros_15 ?_
      obtain rfl := Option.some.inj hm
      exact xr_iret (v := (v1 &&& 32)) X hr hlk hw hS rfl dJ19_numberOfTrailingZeros_16
  exact hg _ _ _ _ hw va_S.rf
/-! java/lang/String.coder -/
def kX_J8_coder (g : XC) (N : Nat) (S : XS) (x0 : Nat) : Option (XS × Int32) :=
  if (1 : Int32) = 0 then
    some (S, 1)
  else
    (gSi g x0).bind fun k2 =>
    some (S, 0)
theorem cx_J8_coder : yJ8_coder.cls = RJ8 ∧ yJ8_coder.cls ≠ "java/lang/invoke/MethodHandle" ∧ yJ8_coder.cls ≠ "java/lang/invoke/VarHandle" ∧ (parseMethodDescriptor yJ8_coder.desc).map (fun d => d.parameters.length) = some 0 := by decide +kernel
theorem met_J8_coder {l : Launch} {g : XC} {D : va_G} {A : Nat → Prop} (N : Nat) (S : XS) (x0 : Nat) (w : XS × Int32) (hm : kX_J8_coder g N S x0 = some w) : Met l yJ8_coder (ws_ yJ8_coder cJ8_coder 1 (Option.some Jvm.ClassFile.FieldType.byte)) (xRm g S 0) (xPre g D A [.ref x0] S) (xQi g D A w) (g.2.1 - xTop S) (g.2.2.1 - xSl S) A := by
  refine x_start (own := RJ8) (by decide +kernel) rfl (Nat.le_of_ble_eq_true rfl) (fun p e s m below meth c ls X hr hlk hnm hw hl => ?_)
  obtain ⟨hx, hb, -, hown, hts, -⟩ := id X
  have hl : lv_has ls 1 [(0, .ref x0)] := hl
  have hg : ∀ (H : Heap) (locs : List Loc) (cells slots : Nat), xW g D A S s H → va_S A s.heap H locs → W p l e (xRm g S 0) s m ([.ref x0] : List Value).toArray below meth c H locs cells slots (MQ below (xQi g D A w) ([.ref x0] : List Value).toArray s (g.2.1 - xTop S) (g.2.2.1 - xSl S) A) (F0 m 0 ls []) := by
    intro H locs cells slots hw hS
    unfold kX_J8_coder at hm
    refine xr_sref X (x_phi hw).2.2.2.2.2.2.2.2.2.2.1 q820 dJ8_coder_0 ?_
    refine lv_if_eq (tgt := 13) hx hb dJ8_coder_3 (by decide) (fun c1 => ?_) (fun c1 => ?_)
    · replace hm := if_t c1 hm
      refine lv_iconst (v := 1) hx hb dJ8_coder_13 (by decide) ?_
      obtain rfl := Option.some.inj hm
      exact xr_iret (v := 1) X hr hlk hw hS rfl dJ8_coder_14
    · replace hm := if_f c1 hm
      refine lv_aload_n hx hb dJ8_coder_6 rfl (lv_at hl 0 rfl) ?_
      obtain ⟨k2, hk2, hm⟩ := ob_s hm
      refine xr_Scod X hw hk2 q2255 dJ8_coder_7 ?_
      refine lv_goto (tgt := 14) hx hb dJ8_coder_10 (by decide) ?_
      obtain rfl := Option.some.inj hm
      exact xr_iret (v := 0) X hr hlk hw hS rfl dJ8_coder_14
  exact hg _ _ _ _ hw va_S.rf
/-! java/lang/String.length -/
def kX_J8_length (g : XC) (N : Nat) (S : XS) (x0 : Nat) : Option (XS × Int32) :=
  (gSi g x0).bind fun k1 =>
  (b_len g S (gSv g k1)).bind fun v2 =>
  (gSi g x0).bind fun u3 =>
  (kX_J8_coder g N S x0).bind fun w4 =>
  some (w4.1, (v2 >>> (w4.2 &&& 31)))
theorem cx_J8_length : yJ8_length.cls = RJ8 ∧ yJ8_length.cls ≠ "java/lang/invoke/MethodHandle" ∧ yJ8_length.cls ≠ "java/lang/invoke/VarHandle" ∧ (parseMethodDescriptor yJ8_length.desc).map (fun d => d.parameters.length) = some 0 := by decide +kernel
theorem met_J8_length {l : Launch} {g : XC} {D : va_G} {A : Nat → Prop} (N : Nat) (S : XS) (x0 : Nat) (w : XS × Int32) (hm : kX_J8_length g N S x0 = some w) : Met l yJ8_length (ws_ yJ8_length cJ8_length 1 (Option.some Jvm.ClassFile.FieldType.int)) (xRm g S 1) (xPre g D A [.ref x0] S) (xQi g D A w) (g.2.1 - xTop S) (g.2.2.1 - xSl S) A := by
  refine x_start (own := RJ8) (by decide +kernel) rfl (Nat.le_of_ble_eq_true rfl) (fun p e s m below meth c ls X hr hlk hnm hw hl => ?_)
  obtain ⟨hx, hb, -, hown, hts, -⟩ := id X
  have hl : lv_has ls 1 [(0, .ref x0)] := hl
  have hg : ∀ (H : Heap) (locs : List Loc) (cells slots : Nat), xW g D A S s H → va_S A s.heap H locs → W p l e (xRm g S 1) s m ([.ref x0] : List Value).toArray below meth c H locs cells slots (MQ below (xQi g D A w) ([.ref x0] : List Value).toArray s (g.2.1 - xTop S) (g.2.2.1 - xSl S) A) (F0 m 0 ls []) := by
    intro H locs cells slots hw hS
    unfold kX_J8_length at hm
    refine lv_aload_n hx hb dJ8_length_0 rfl (lv_at hl 0 rfl) ?_
    obtain ⟨k1, hk1, hm⟩ := ob_s hm
    refine xr_Sval X hw hk1 q2256 dJ8_length_1 ?_
    obtain ⟨v2, hv2, hm⟩ := ob_s hm
    refine xr_blen X hw hv2 dJ8_length_4 ?_
    refine lv_aload_n hx hb dJ8_length_5 rfl (lv_at hl 0 rfl) ?_
    obtain ⟨u3, hu3, hm⟩ := ob_s hm
    obtain ⟨w4, hw4, hm⟩ := ob_s hm
    refine xr_reti hS (xr_runVX X hw (met_J8_coder N S x0 w4 hw4) (x_cv X (lv := 0) (by omega) (by decide) cx_J8_coder (lw_V q826 q827 q828 q128 q829)) (x_recvS X hw hu3) rfl hl.1 rfl (Nat.le_of_ble_eq_true rfl) dJ8_length_6) (fun H locs cells slots hw hS => ?_)
    refine lv_ishr hx hb dJ8_length_9 ?_
    obtain rfl := Option.some.inj hm
    exact xr_iret (v := (v2 >>> (w4.2 &&& 31))) X hr hlk hw hS rfl dJ8_length_10
  exact hg _ _ _ _ hw va_S.rf
/-! java/lang/String.isLatin1 -/
def kX_J8_isLatin1 (g : XC) (N : Nat) (S : XS) (x0 : Nat) : Option (XS × Int32) :=
  if (1 : Int32) = 0 then
    some (S, 0)
  else
    (gSi g x0).bind fun k2 =>
    if (0 : Int32) = 0 then
      some (S, 1)
    else
      some (S, 0)
theorem cx_J8_isLatin1 : yJ8_isLatin1.cls = RJ8 ∧ yJ8_isLatin1.cls ≠ "java/lang/invoke/MethodHandle" ∧ yJ8_isLatin1.cls ≠ "java/lang/invoke/VarHandle" ∧ (parseMethodDescriptor yJ8_isLatin1.desc).map (fun d => d.parameters.length) = some 0 := by decide +kernel
theorem met_J8_isLatin1 {l : Launch} {g : XC} {D : va_G} {A : Nat → Prop} (N : Nat) (S : XS) (x0 : Nat) (w : XS × Int32) (hm : kX_J8_isLatin1 g N S x0 = some w) : Met l yJ8_isLatin1 (ws_ yJ8_isLatin1 cJ8_isLatin1 1 (Option.some Jvm.ClassFile.FieldType.boolean)) (xRm g S 0) (xPre g D A [.ref x0] S) (xQi g D A w) (g.2.1 - xTop S) (g.2.2.1 - xSl S) A := by
  refine x_start (own := RJ8) (by decide +kernel) rfl (Nat.le_of_ble_eq_true rfl) (fun p e s m below meth c ls X hr hlk hnm hw hl => ?_)
  obtain ⟨hx, hb, -, hown, hts, -⟩ := id X
  have hl : lv_has ls 1 [(0, .ref x0)] := hl
  have hg : ∀ (H : Heap) (locs : List Loc) (cells slots : Nat), xW g D A S s H → va_S A s.heap H locs → W p l e (xRm g S 0) s m ([.ref x0] : List Value).toArray below meth c H locs cells slots (MQ below (xQi g D A w) ([.ref x0] : List Value).toArray s (g.2.1 - xTop S) (g.2.2.1 - xSl S) A) (F0 m 0 ls []) := by
    intro H locs cells slots hw hS
    unfold kX_J8_isLatin1 at hm
    refine xr_sref X (x_phi hw).2.2.2.2.2.2.2.2.2.2.1 q820 dJ8_isLatin1_0 ?_
    refine lv_if_eq (tgt := 17) hx hb dJ8_isLatin1_3 (by decide) (fun c1 => ?_) (fun c1 => ?_)
    · replace hm := if_t c1 hm
      refine lv_iconst (v := 0) hx hb dJ8_isLatin1_17 (by decide) ?_
      obtain rfl := Option.some.inj hm
      exact xr_iret (v := 0) X hr hlk hw hS rfl dJ8_isLatin1_18
    · replace hm := if_f c1 hm
      refine lv_aload_n hx hb dJ8_isLatin1_6 rfl (lv_at hl 0 rfl) ?_
      obtain ⟨k2, hk2, hm⟩ := ob_s hm
      refine xr_Scod X hw hk2 q2255 dJ8_isLatin1_7 ?_
      refine lv_if_ne (tgt := 17) hx hb dJ8_isLatin1_10 (by decide) (fun c3 => ?_) (fun c3 => ?_)
      · replace hm := if_f c3 hm
        refine lv_iconst (v := 0) hx hb dJ8_isLatin1_17 (by decide) ?_
        obtain rfl := Option.some.inj hm
        exact xr_iret (v := 0) X hr hlk hw hS rfl dJ8_isLatin1_18
      · replace hm := if_t c3 hm
        refine lv_iconst (v := 1) hx hb dJ8_isLatin1_13 (by decide) ?_
        refine lv_goto (tgt := 18) hx hb dJ8_isLatin1_14 (by decide) ?_
        obtain rfl := Option.some.inj hm
        exact xr_iret (v := 1) X hr hlk hw hS rfl dJ8_isLatin1_18
  exact hg _ _ _ _ hw va_S.rf
/-! java/lang/StringLatin1.charAt -/
def kX_J9_charAt (g : XC) (N : Nat) (S : XS) (x0 : Nat) (x1 : Int32) : Option (XS × Int32) :=
  (b_len g S x0).bind fun v1 =>
  (kX_J8_checkIndex g N S x1 v1).bind fun w2 =>
  (b_int g w2 x0 x1).bind fun v3 =>
  nchk .char ((((v3 &&& 255) : Int32).toUInt32 % 65536).toInt32) <|
  some (w2, (((v3 &&& 255) : Int32).toUInt32 % 65536).toInt32)
theorem cx_J9_charAt : yJ9_charAt.cls ≠ "java/lang/invoke/MethodHandle" ∧ yJ9_charAt.cls ≠ "java/lang/invoke/VarHandle" ∧ (parseMethodDescriptor yJ9_charAt.desc).map (fun d => d.parameters.length) = some 2 := by decide +kernel
theorem met_J9_charAt {l : Launch} {g : XC} {D : va_G} {A : Nat → Prop} (N : Nat) (S : XS) (x0 : Nat) (x1 : Int32) (w : XS × Int32) (hm : kX_J9_charAt g N S x0 x1 = some w) : Met l yJ9_charAt (ws_ yJ9_charAt cJ9_charAt 2 (Option.some Jvm.ClassFile.FieldType.char)) (xRm g S 2) (xPre g D A [.ref x0, .int x1] S) (xQi g D A w) (g.2.1 - xTop S) (g.2.2.1 - xSl S) A := by
  refine x_start (own := RJ9) (by decide +kernel) rfl (Nat.le_of_ble_eq_true rfl) (fun p e s m below meth c ls X hr hlk hnm hw hl => ?_)
  obtain ⟨hx, hb, -, hown, hts, -⟩ := id X
  have hl : lv_has ls 2 [(0, .ref x0), (1, .int x1)] := hl
  have hg : ∀ (H : Heap) (locs : List Loc) (cells slots : Nat), xW g D A S s H → va_S A s.heap H locs → W p l e (xRm g S 2) s m ([.ref x0, .int x1] : List Value).toArray below meth c H locs cells slots (MQ below (xQi g D A w) ([.ref x0, .int x1] : List Value).toArray s (g.2.1 - xTop S) (g.2.2.1 - xSl S) A) (F0 m 0 ls []) := by
    intro H locs cells slots hw hS
    unfold kX_J9_charAt at hm
    refine lv_iload_n hx hb dJ9_charAt_0 rfl (lv_at hl 1 rfl) ?_
    refine lv_aload_n hx hb dJ9_charAt_1 rfl (lv_at hl 0 rfl) ?_
    obtain ⟨v1, hv1, hm⟩ := ob_s hm
    refine xr_blen X hw hv1 dJ9_charAt_2 ?_
    obtain ⟨w2, hw2, hm⟩ := ob_s hm
    refine xr_retv hS (xr_runS X hw (met_J8_checkIndex N S x1 v1 w2 hw2) (x_cs X (lv := 1) (by omega) (by decide) cx_J8_checkIndex (lw_S q897 q548 q128 q549)) rfl hl.1 rfl (Nat.le_of_ble_eq_true rfl) dJ9_charAt_3) (fun H locs cells slots hw hS => ?_)
    refine lv_aload_n hx hb dJ9_charAt_6 rfl (lv_at hl 0 rfl) ?_
    refine lv_iload_n hx hb dJ9_charAt_7 rfl (lv_at hl 1 rfl) ?_
    obtain ⟨v3, hv3, hm⟩ := ob_s hm
    refine xr_bbald X hw hv3 dJ9_charAt_8 ?_
    refine lv_sipush (v := 255) hx hb dJ9_charAt_9 (by decide) ?_
    refine lv_iand hx hb dJ9_charAt_12 ?_
    refine lv_i2c hx hb dJ9_charAt_13 rfl ?_
    obtain ⟨z4, hm⟩ := nchk_s hm
    obtain rfl := Option.some.inj hm
    exact xr_iret (v := (((v3 &&& 255) : Int32).toUInt32 % 65536).toInt32) X hr hlk hw hS z4 dJ9_charAt_14
  exact hg _ _ _ _ hw va_S.rf
/-! java/lang/String.charAt -/
def kX_J8_charAt (g : XC) (N : Nat) (S : XS) (x0 : Nat) (x1 : Int32) : Option (XS × Int32) :=
  (gSi g x0).bind fun u1 =>
  (kX_J8_isLatin1 g N S x0).bind fun w2 =>
  if w2.2 = 0 then
    (gSi g x0).bind fun k4 =>
    none
  else
    (gSi g x0).bind fun k5 =>
    (kX_J9_charAt g N w2.1 (gSv g k5) x1).bind fun w6 =>
    nchk .char w6.2 <|
    some (w6.1, w6.2)
theorem cx_J8_charAt : yJ8_charAt.cls = RJ8 ∧ yJ8_charAt.cls ≠ "java/lang/invoke/MethodHandle" ∧ yJ8_charAt.cls ≠ "java/lang/invoke/VarHandle" ∧ (parseMethodDescriptor yJ8_charAt.desc).map (fun d => d.parameters.length) = some 1 := by decide +kernel
theorem met_J8_charAt {l : Launch} {g : XC} {D : va_G} {A : Nat → Prop} (N : Nat) (S : XS) (x0 : Nat) (x1 : Int32) (w : XS × Int32) (hm : kX_J8_charAt g N S x0 x1 = some w) : Met l yJ8_charAt (ws_ yJ8_charAt cJ8_charAt 2 (Option.some Jvm.ClassFile.FieldType.char)) (xRm g S 3) (xPre g D A [.ref x0, .int x1] S) (xQi g D A w) (g.2.1 - xTop S) (g.2.2.1 - xSl S) A := by
  refine x_start (own := RJ8) (by decide +kernel) rfl (Nat.le_of_ble_eq_true rfl) (fun p e s m below meth c ls X hr hlk hnm hw hl => ?_)
  obtain ⟨hx, hb, -, hown, hts, -⟩ := id X
  have hl : lv_has ls 2 [(0, .ref x0), (1, .int x1)] := hl
  have hg : ∀ (H : Heap) (locs : List Loc) (cells slots : Nat), xW g D A S s H → va_S A s.heap H locs → W p l e (xRm g S 3) s m ([.ref x0, .int x1] : List Value).toArray below meth c H locs cells slots (MQ below (xQi g D A w) ([.ref x0, .int x1] : List Value).toArray s (g.2.1 - xTop S) (g.2.2.1 - xSl S) A) (F0 m 0 ls []) := by
    intro H locs cells slots hw hS
    unfold kX_J8_charAt at hm
    refine lv_aload_n hx hb dJ8_charAt_0 rfl (lv_at hl 0 rfl) ?_
    obtain ⟨u1, hu1, hm⟩ := ob_s hm
    obtain ⟨w2, hw2, hm⟩ := ob_s hm
    refine xr_reti hS (xr_runVX X hw (met_J8_isLatin1 N S x0 w2 hw2) (x_cv X (lv := 0) (by omega) (by decide) cx_J8_isLatin1 (lw_V q816 q817 q818 q128 q819)) (x_recvS X hw hu1) rfl hl.1 rfl (Nat.le_of_ble_eq_true rfl) dJ8_charAt_1) (fun H locs cells slots hw hS => ?_)
    refine lv_if_eq (tgt := 16) hx hb dJ8_charAt_4 (by decide) (fun c3 => ?_) (fun c3 => ?_)
    · replace hm := if_t c3 hm
      refine lv_aload_n hx hb dJ8_charAt_16 rfl (lv_at hl 0 rfl) ?_
      obtain ⟨k4, hk4, hm⟩ := ob_s hm
      refine xr_Sval X hw hk4 q2256 dJ8_charAt_17 ?_
      refine lv_iload_n hx hb dJ8_charAt_20 rfl (lv_at hl 1 rfl) ?_
      cases hm
    · replace hm := if_f c3 hm
      refine lv_aload_n hx hb dJ8_charAt_7 rfl (lv_at hl 0 rfl) ?_
      obtain ⟨k5, hk5, hm⟩ := ob_s hm
      refine xr_Sval X hw hk5 q2256 dJ8_charAt_8 ?_
      refine lv_iload_n hx hb dJ8_charAt_11 rfl (lv_at hl 1 rfl) ?_
      obtain ⟨w6, hw6, hm⟩ := ob_s hm
      refine xr_reti hS (xr_runS X hw (met_J9_charAt N w2.1 (gSv g k5) x1 w6 hw6) (x_cs X (lv := 2) (by omega) (by decide) cx_J9_charAt (lw_S q894 q895 q129 q896)) rfl hl.1 rfl (Nat.le_of_ble_eq_true rfl) dJ8_charAt_12) (fun H locs cells slots hw hS => ?_)
      obtain ⟨z7, hm⟩ := nchk_s hm
      obtain rfl := Option.some.inj hm
      exact xr_iret (v := w6.2) X hr hlk hw hS z7 dJ8_charAt_15
  exact hg _ _ _ _ hw va_S.rf
/-! java/lang/StringLatin1.canEncode -/
def kX_J9_canEncode (g : XC) (N : Nat) (x0 : Int32) : Option (Int32) :=
  if x0 < 0 then
    some 0
  else
    if (255 : Int32) < x0 then
      some 0
    else
      some 1
theorem cx_J9_canEncode : yJ9_canEncode.cls ≠ "java/lang/invoke/MethodHandle" ∧ yJ9_canEncode.cls ≠ "java/lang/invoke/VarHandle" ∧ (parseMethodDescriptor yJ9_canEncode.desc).map (fun d => d.parameters.length) = some 1 := by decide +kernel
theorem met_J9_canEncode {l : Launch} {g : XC} {D : va_G} {A : Nat → Prop} (N : Nat) (S : XS) (x0 : Int32) (w : Int32) (hm : kX_J9_canEncode g N x0 = some w) : Met l yJ9_canEncode (ws_ yJ9_canEncode cJ9_canEncode 1 (Option.some Jvm.ClassFile.FieldType.boolean)) (xRm g S 0) (xPre g D A [.int x0] S) (xQi g D A (S, w)) (g.2.1 - xTop S) (g.2.2.1 - xSl S) A := by
  refine x_start (own := RJ9) (by decide +kernel) rfl (Nat.le_of_ble_eq_true rfl) (fun p e s m below meth c ls X hr hlk hnm hw hl => ?_)
  obtain ⟨hx, hb, -, hown, hts, -⟩ := id X
  have hl : lv_has ls 1 [(0, .int x0)] := hl
  have hg : ∀ (H : Heap) (locs : List Loc) (cells slots : Nat), xW g D A S s H → va_S A s.heap H locs → W p l e (xRm g S 0) s m ([.int x0] : List Value).toArray below meth c H locs cells slots (MQ below (xQi g D A (S, w)) ([.int x0] : List Value).toArray s (g.2.1 - xTop S) (g.2.2.1 - xSl S) A) (F0 m 0 ls []) := by
    intro H locs cells slots hw hS
    unfold kX_J9_canEncode at hm
    refine lv_iload_n hx hb dJ9_canEncode_0 rfl (lv_at hl 0 rfl) ?_
    refine lv_if_lt (tgt := 15) hx hb dJ9_canEncode_1 (by decide) (fun c1 => ?_) (fun c1 => ?_)
    · replace hm := if_t c1 hm
      refine lv_iconst (v := 0) hx hb dJ9_canEncode_15 (by decide) ?_
      obtain rfl := Option.some.inj hm
      exact xr_iret (v := 0) X hr hlk hw hS rfl dJ9_canEncode_16
    · replace hm := if_f c1 hm
      refine lv_iload_n hx hb dJ9_canEncode_4 rfl (lv_at hl 0 rfl) ?_
      refine lv_sipush (v := 255) hx hb dJ9_canEncode_5 (by decide) ?_
      refine lv_icmp_gt (tgt := 15) hx hb dJ9_canEncode_8 (by decide) (fun c2 => ?_) (fun c2 => ?_)
      · replace hm := if_t c2 hm
        refine lv_iconst (v := 0) hx hb dJ9_canEncode_15 (by decide) ?_
        obtain rfl := Option.some.inj hm
        exact xr_iret (v := 0) X hr hlk hw hS rfl dJ9_canEncode_16
      · replace hm := if_f c2 hm
        refine lv_iconst (v := 1) hx hb dJ9_canEncode_11 (by decide) ?_
        refine lv_goto (tgt := 16) hx hb dJ9_canEncode_12 (by decide) ?_
        obtain rfl := Option.some.inj hm
        exact xr_iret (v := 1) X hr hlk hw hS rfl dJ9_canEncode_16
  exact hg _ _ _ _ hw va_S.rf
/-! java/lang/StringLatin1.indexOfChar -/
def kX_J9_indexOfChar_7 (g : XC) (N : Nat) : Nat → XS → Nat → Int32 → Int32 → Int32 → Option (XS × Int32)
  | 0, _, _, _, _, _ => none
  | n + 1, S, x0, x3, x4, x5 =>
    if x3 ≤ x5 then
      some (S, (-1))
    else
      (b_int g S x0 x5).bind fun v2 =>
      if v2 = x4 then
        some (S, x5)
      else
        kX_J9_indexOfChar_7 g N n S x0 x3 x4 (x5 + 1)
theorem wkX_J9_indexOfChar_7 {p : Program} {l : Launch} {e : Env} {s : State} {m : MethodId} {args : Array Value} {below : List Frame} {meth : Method} {c : Code} {g : XC} {D : va_G} {A : Nat → Prop} {S0 : XS} {w : XS × Int32} (X : xX g D A RJ9 S0 p s m args c cJ9_indexOfChar 6) (hr : meth.sig.returnType = (Option.some Jvm.ClassFile.FieldType.int)) (hlk : meth.locks = false) (hnm : meth.name = yJ9_indexOfChar.name) (N : Nat) :
    ∀ (n : Nat) (S : XS) (x0 : Nat) (x3 : Int32) (x4 : Int32) (x5 : Int32) (H : Heap) (locs : List Loc) (ls : Array Slot) (cells slots : Nat), kX_J9_indexOfChar_7 g N n S x0 x3 x4 x5 = some w → xW g D A S s H → va_S A s.heap H locs → lv_has ls 6 [(0, .ref x0), (3, .int x3), (4, .int x4), (5, .int x5)] → W p l e (xRm g S0 0) s m args below meth c H locs cells slots (MQ below (xQi g D A w) args s (g.2.1 - xTop S0) (g.2.2.1 - xSl S0) A) (F0 m 7 ls []) := by
  obtain ⟨hx, hb, -, hown, hts, -⟩ := id X
  intro n
  induction n with
  | zero =>
    intro S x0 x3 x4 x5 H locs ls cells slots hm
    cases hm
  | succ n ih =>
    intro S x0 x3 x4 x5 H locs ls cells slots hm hw hS hl
    rw [kX_J9_indexOfChar_7] at hm
    refine lv_iload hx hb dJ9_indexOfChar_7 (lv_at hl 3 rfl) ?_
    refine lv_iload_n hx hb dJ9_indexOfChar_9 rfl (lv_at hl 1 rfl) ?_
    refine lv_icmp_ge (tgt := 31) hx hb dJ9_indexOfChar_10 (by decide) (fun c1 => ?_) (fun c1 => ?_)
    · replace hm := if_t c1 hm
      refine lv_iconst (v := (-1)) hx hb dJ9_indexOfChar_31 (by decide) ?_
      obtain rfl := Option.some.inj hm
      exact xr_iret (v := (-1)) X hr hlk hw hS rfl dJ9_indexOfChar_32
    · replace hm := if_f c1 hm
      refine lv_aload_n hx hb dJ9_indexOfChar_13 rfl (lv_at hl 0 rfl) ?_
      refine lv_iload hx hb dJ9_indexOfChar_14 (lv_at hl 3 rfl) ?_
      obtain ⟨v2, hv2, hm⟩ := ob_s hm
      refine xr_bbald X hw hv2 dJ9_indexOfChar_16 ?_
      refine lv_iload hx hb dJ9_indexOfChar_17 (lv_at hl 2 rfl) ?_
      refine lv_icmp_ne (tgt := 25) hx hb dJ9_indexOfChar_19 (by decide) (fun c3 => ?_) (fun c3 => ?_)
      · replace hm := if_f c3 hm
        refine lv_iinc (v := (x5 + 1)) (lv' := [(5, .int (x5 + 1)), (0, .ref x0), (3, .int x3), (4, .int x4)]) hx hb dJ9_indexOfChar_25 hl (k := 3) rfl rfl (by decide) rfl (fun ls hl => ?_)
        refine lv_goto (tgt := 7) hx hb dJ9_indexOfChar_28 (by decide) ?_
        exact ih S x0 x3 x4 (x5 + 1) H locs ls _ _ hm hw hS (lv_sub hl [1, 2, 3, 0] rfl)
      · replace hm := if_t c3 hm
        refine lv_iload hx hb dJ9_indexOfChar_22 (lv_at hl 3 rfl) ?_
        obtain rfl := Option.some.inj hm
        exact xr_iret (v := x5) X hr hlk hw hS rfl dJ9_indexOfChar_24
def kX_J9_indexOfChar (g : XC) (N : Nat) (S : XS) (x0 : Nat) (x1 : Int32) (x2 : Int32) (x3 : Int32) : Option (XS × Int32) :=
  bnd ((x1 : Int32).toInt8.toInt32) fun v1 =>
  kX_J9_indexOfChar_7 g N N S x0 x3 v1 x2
theorem cx_J9_indexOfChar : yJ9_indexOfChar.cls ≠ "java/lang/invoke/MethodHandle" ∧ yJ9_indexOfChar.cls ≠ "java/lang/invoke/VarHandle" ∧ (parseMethodDescriptor yJ9_indexOfChar.desc).map (fun d => d.parameters.length) = some 4 := by decide +kernel
theorem met_J9_indexOfChar {l : Launch} {g : XC} {D : va_G} {A : Nat → Prop} (N : Nat) (S : XS) (x0 : Nat) (x1 : Int32) (x2 : Int32) (x3 : Int32) (w : XS × Int32) (hm : kX_J9_indexOfChar g N S x0 x1 x2 x3 = some w) : Met l yJ9_indexOfChar (ws_ yJ9_indexOfChar cJ9_indexOfChar 6 (Option.some Jvm.ClassFile.FieldType.int)) (xRm g S 0) (xPre g D A [.ref x0, .int x1, .int x2, .int x3] S) (xQi g D A w) (g.2.1 - xTop S) (g.2.2.1 - xSl S) A := by
  refine x_start (own := RJ9) (by decide +kernel) rfl (Nat.le_of_ble_eq_true rfl) (fun p e s m below meth c ls X hr hlk hnm hw hl => ?_)
  obtain ⟨hx, hb, -, hown, hts, -⟩ := id X
  have hl : lv_has ls 6 [(0, .ref x0), (1, .int x1), (2, .int x2), (3, .int x3)] := hl
  have hg : ∀ (H : Heap) (locs : List Loc) (cells slots : Nat), xW g D A S s H → va_S A s.heap H locs → W p l e (xRm g S 0) s m ([.ref x0, .int x1, .int x2, .int x3] : List Value).toArray below meth c H locs cells slots (MQ below (xQi g D A w) ([.ref x0, .int x1, .int x2, .int x3] : List Value).toArray s (g.2.1 - xTop S) (g.2.2.1 - xSl S) A) (F0 m 0 ls []) := by
    intro H locs cells slots hw hS
    unfold kX_J9_indexOfChar at hm
    refine lv_iload_n hx hb dJ9_indexOfChar_0 rfl (lv_at hl 1 rfl) ?_
    refine lv_i2b hx hb dJ9_indexOfChar_1 rfl ?_
    refine lv_topi (fun v1 ev1 => ?_)
    replace hm := bnd_s hm ev1
    refine lv_istore (lv' := [(4, .int v1), (0, .ref x0), (1, .int x1), (2, .int x2), (3, .int x3)]) hx hb dJ9_indexOfChar_2 hl (by decide) rfl (fun ls hl => ?_)
    refine lv_iload_n hx hb dJ9_indexOfChar_4 rfl (lv_at hl 3 rfl) ?_
    refine lv_istore (lv' := [(5, .int x2), (4, .int v1), (0, .ref x0), (1, .int x1), (2, .int x2), (3, .int x3)]) hx hb dJ9_indexOfChar_5 hl (by decide) rfl (fun ls hl => ?_)
    exact wkX_J9_indexOfChar_7 X hr hlk hnm N N S x0 x3 v1 x2 H locs ls _ _ hm hw hS (lv_sub hl [2, 5, 1, 0] rfl)
  exact hg _ _ _ _ hw va_S.rf
/-! java/lang/StringLatin1.indexOf -/
def kX_J9_indexOf (g : XC) (N : Nat) (S : XS) (x0 : Nat) (x1 : Int32) (x2 : Int32) (x3 : Int32) : Option (XS × Int32) :=
  (kX_J9_canEncode g N x1).bind fun w1 =>
  if w1 = 0 then
    some (S, (-1))
  else
    bnd (if (x2 : Int32) < 0 then 0 else x2) fun v3 =>
    (b_len g S x0).bind fun v4 =>
    bnd (if (v4 : Int32) < x3 then v4 else x3) fun v5 =>
    if v3 < v5 then
      (kX_J9_indexOfChar g N S x0 x1 v3 v5).bind fun w7 =>
      some (w7.1, w7.2)
    else
      some (S, (-1))
theorem cx_J9_indexOf : yJ9_indexOf.cls ≠ "java/lang/invoke/MethodHandle" ∧ yJ9_indexOf.cls ≠ "java/lang/invoke/VarHandle" ∧ (parseMethodDescriptor yJ9_indexOf.desc).map (fun d => d.parameters.length) = some 4 := by decide +kernel
theorem met_J9_indexOf {l : Launch} {g : XC} {D : va_G} {A : Nat → Prop} (N : Nat) (S : XS) (x0 : Nat) (x1 : Int32) (x2 : Int32) (x3 : Int32) (w : XS × Int32) (hm : kX_J9_indexOf g N S x0 x1 x2 x3 = some w) : Met l yJ9_indexOf (ws_ yJ9_indexOf cJ9_indexOf 4 (Option.some Jvm.ClassFile.FieldType.int)) (xRm g S 1) (xPre g D A [.ref x0, .int x1, .int x2, .int x3] S) (xQi g D A w) (g.2.1 - xTop S) (g.2.2.1 - xSl S) A := by
  refine x_start (own := RJ9) (by decide +kernel) rfl (Nat.le_of_ble_eq_true rfl) (fun p e s m below meth c ls X hr hlk hnm hw hl => ?_)
  obtain ⟨hx, hb, -, hown, hts, -⟩ := id X
  have hl : lv_has ls 4 [(0, .ref x0), (1, .int x1), (2, .int x2), (3, .int x3)] := hl
  have hg : ∀ (H : Heap) (locs : List Loc) (cells slots : Nat), xW g D A S s H → va_S A s.heap H locs → W p l e (xRm g S 1) s m ([.ref x0, .int x1, .int x2, .int x3] : List Value).toArray below meth c H locs cells slots (MQ below (xQi g D A w) ([.ref x0, .int x1, .int x2, .int x3] : List Value).toArray s (g.2.1 - xTop S) (g.2.2.1 - xSl S) A) (F0 m 0 ls []) := by
    intro H locs cells slots hw hS
    unfold kX_J9_indexOf at hm
    refine lv_iload_n hx hb dJ9_indexOf_0 rfl (lv_at hl 1 rfl) ?_
    obtain ⟨w1, hw1, hm⟩ := ob_s hm
    refine xr_reti hS (xr_runS X hw (met_J9_canEncode N S x1 w1 hw1) (x_cs X (lv := 0) (by omega) (by decide) cx_J9_canEncode (lw_S q833 q834 q129 q835)) rfl hl.1 rfl (Nat.le_of_ble_eq_true rfl) dJ9_indexOf_1) (fun H locs cells slots hw hS => ?_)
    refine lv_if_ne (tgt := 9) hx hb dJ9_indexOf_4 (by decide) (fun c2 => ?_) (fun c2 => ?_)
    · replace hm := if_f c2 hm
      refine lv_iload_n hx hb dJ9_indexOf_9 rfl (lv_at hl 2 rfl) ?_
      refine lv_iconst (v := 0) hx hb dJ9_indexOf_10 (by decide) ?_
      refine xr_mmax X hw hl.1 q836 q383 q127 q384 (Nat.le_of_ble_eq_true rfl) dJ9_indexOf_11 (fun cells slots => ?_)
      refine lv_topi (fun v3 ev3 => ?_)
      replace hm := bnd_s hm ev3
      refine lv_istore_n (lv' := [(2, .int v3), (0, .ref x0), (1, .int x1), (3, .int x3)]) hx hb dJ9_indexOf_14 rfl hl (by decide) rfl (fun ls hl => ?_)
      refine lv_iload_n hx hb dJ9_indexOf_15 rfl (lv_at hl 3 rfl) ?_
      refine lv_aload_n hx hb dJ9_indexOf_16 rfl (lv_at hl 1 rfl) ?_
      obtain ⟨v4, hv4, hm⟩ := ob_s hm
      refine xr_blen X hw hv4 dJ9_indexOf_17 ?_
      refine xr_mmin X hw hl.1 q837 q418 q127 q419 (Nat.le_of_ble_eq_true rfl) dJ9_indexOf_18 (fun cells slots => ?_)
      refine lv_topi (fun v5 ev5 => ?_)
      replace hm := bnd_s hm ev5
      refine lv_istore_n (lv' := [(3, .int v5), (2, .int v3), (0, .ref x0), (1, .int x1)]) hx hb dJ9_indexOf_21 rfl hl (by decide) rfl (fun ls hl => ?_)
      refine lv_iload_n hx hb dJ9_indexOf_22 rfl (lv_at hl 1 rfl) ?_
      refine lv_iload_n hx hb dJ9_indexOf_23 rfl (lv_at hl 0 rfl) ?_
      refine lv_icmp_lt (tgt := 29) hx hb dJ9_indexOf_24 (by decide) (fun c6 => ?_) (fun c6 => ?_)
      · replace hm := if_t c6 hm
        refine lv_aload_n hx hb dJ9_indexOf_29 rfl (lv_at hl 2 rfl) ?_
        refine lv_iload_n hx hb dJ9_indexOf_30 rfl (lv_at hl 3 rfl) ?_
        refine lv_iload_n hx hb dJ9_indexOf_31 rfl (lv_at hl 1 rfl) ?_
        refine lv_iload_n hx hb dJ9_indexOf_32 rfl (lv_at hl 0 rfl) ?_
        obtain ⟨w7, hw7, hm⟩ := ob_s hm
        refine xr_reti hS (xr_runS X hw (met_J9_indexOfChar N S x0 x1 v3 v5 w7 hw7) (x_cs X (lv := 0) (by omega) (by decide) cx_J9_indexOfChar (lw_S q838 q839 q129 q840)) rfl hl.1 rfl (Nat.le_of_ble_eq_true rfl) dJ9_indexOf_33) (fun H locs cells slots hw hS => ?_)
        obtain rfl := Option.some.inj hm
        exact xr_iret (v := w7.2) X hr hlk hw hS rfl dJ9_indexOf_36
      · replace hm := if_f c6 hm
        refine lv_iconst (v := (-1)) hx hb dJ9_indexOf_27 (by decide) ?_
        obtain rfl := Option.some.inj hm
        exact xr_iret (v := (-1)) X hr hlk hw hS rfl dJ9_indexOf_28
    · replace hm := if_t c2 hm
      refine lv_iconst (v := (-1)) hx hb dJ9_indexOf_7 (by decide) ?_
      obtain rfl := Option.some.inj hm
      exact xr_iret (v := (-1)) X hr hlk hw hS rfl dJ9_indexOf_8
  exact hg _ _ _ _ hw va_S.rf
/-! java/lang/String.indexOf_2 -/
def kX_J8_indexOf_2 (g : XC) (N : Nat) (S : XS) (x0 : Nat) (x1 : Int32) (x2 : Int32) : Option (XS × Int32) :=
  (gSi g x0).bind fun u1 =>
  (kX_J8_isLatin1 g N S x0).bind fun w2 =>
  if w2.2 = 0 then
    (gSi g x0).bind fun k4 =>
    (gSi g x0).bind fun u5 =>
    (kX_J8_length g N w2.1 x0).bind fun w6 =>
    none
  else
    (gSi g x0).bind fun k7 =>
    (gSi g x0).bind fun u8 =>
    (kX_J8_length g N w2.1 x0).bind fun w9 =>
    (kX_J9_indexOf g N w9.1 (gSv g k7) x1 x2 w9.2).bind fun w10 =>
    some (w10.1, w10.2)
theorem cx_J8_indexOf_2 : yJ8_indexOf_2.cls = RJ8 ∧ yJ8_indexOf_2.cls ≠ "java/lang/invoke/MethodHandle" ∧ yJ8_indexOf_2.cls ≠ "java/lang/invoke/VarHandle" ∧ (parseMethodDescriptor yJ8_indexOf_2.desc).map (fun d => d.parameters.length) = some 2 := by decide +kernel
theorem met_J8_indexOf_2 {l : Launch} {g : XC} {D : va_G} {A : Nat → Prop} (N : Nat) (S : XS) (x0 : Nat) (x1 : Int32) (x2 : Int32) (w : XS × Int32) (hm : kX_J8_indexOf_2 g N S x0 x1 x2 = some w) : Met l yJ8_indexOf_2 (ws_ yJ8_indexOf_2 cJ8_indexOf_2 3 (Option.some Jvm.ClassFile.FieldType.int)) (xRm g S 2) (xPre g D A [.ref x0, .int x1, .int x2] S) (xQi g D A w) (g.2.1 - xTop S) (g.2.2.1 - xSl S) A := by
  refine x_start (own := RJ8) (by decide +kernel) rfl (Nat.le_of_ble_eq_true rfl) (fun p e s m below meth c ls X hr hlk hnm hw hl => ?_)
  obtain ⟨hx, hb, -, hown, hts, -⟩ := id X
  have hl : lv_has ls 3 [(0, .ref x0), (1, .int x1), (2, .int x2)] := hl
  have hg : ∀ (H : Heap) (locs : List Loc) (cells slots : Nat), xW g D A S s H → va_S A s.heap H locs → W p l e (xRm g S 2) s m ([.ref x0, .int x1, .int x2] : List Value).toArray below meth c H locs cells slots (MQ below (xQi g D A w) ([.ref x0, .int x1, .int x2] : List Value).toArray s (g.2.1 - xTop S) (g.2.2.1 - xSl S) A) (F0 m 0 ls []) := by
    intro H locs cells slots hw hS
    unfold kX_J8_indexOf_2 at hm
    refine lv_aload_n hx hb dJ8_indexOf_2_0 rfl (lv_at hl 0 rfl) ?_
    obtain ⟨u1, hu1, hm⟩ := ob_s hm
    obtain ⟨w2, hw2, hm⟩ := ob_s hm
    refine xr_reti hS (xr_runVX X hw (met_J8_isLatin1 N S x0 w2 hw2) (x_cv X (lv := 0) (by omega) (by decide) cx_J8_isLatin1 (lw_V q816 q817 q818 q128 q819)) (x_recvS X hw hu1) rfl hl.1 rfl (Nat.le_of_ble_eq_true rfl) dJ8_indexOf_2_1) (fun H locs cells slots hw hS => ?_)
    refine lv_if_eq (tgt := 23) hx hb dJ8_indexOf_2_4 (by decide) (fun c3 => ?_) (fun c3 => ?_)
    · replace hm := if_t c3 hm
      refine lv_aload_n hx hb dJ8_indexOf_2_23 rfl (lv_at hl 0 rfl) ?_
      obtain ⟨k4, hk4, hm⟩ := ob_s hm
      refine xr_Sval X hw hk4 q2256 dJ8_indexOf_2_24 ?_
      refine lv_iload_n hx hb dJ8_indexOf_2_27 rfl (lv_at hl 1 rfl) ?_
      refine lv_iload_n hx hb dJ8_indexOf_2_28 rfl (lv_at hl 2 rfl) ?_
      refine lv_aload_n hx hb dJ8_indexOf_2_29 rfl (lv_at hl 0 rfl) ?_
      obtain ⟨u5, hu5, hm⟩ := ob_s hm
      obtain ⟨w6, hw6, hm⟩ := ob_s hm
      refine xr_reti hS (xr_runVX X hw (met_J8_length N w2.1 x0 w6 hw6) (x_cv X (lv := 1) (by omega) (by decide) cx_J8_length (lw_V q822 q823 q824 q128 q825)) (x_recvS X hw hu5) rfl hl.1 rfl (Nat.le_of_ble_eq_true rfl) dJ8_indexOf_2_30) (fun H locs cells slots hw hS => ?_)
      cases hm
    · replace hm := if_f c3 hm
      refine lv_aload_n hx hb dJ8_indexOf_2_7 rfl (lv_at hl 0 rfl) ?_
      obtain ⟨k7, hk7, hm⟩ := ob_s hm
      refine xr_Sval X hw hk7 q2256 dJ8_indexOf_2_8 ?_
      refine lv_iload_n hx hb dJ8_indexOf_2_11 rfl (lv_at hl 1 rfl) ?_
      refine lv_iload_n hx hb dJ8_indexOf_2_12 rfl (lv_at hl 2 rfl) ?_
      refine lv_aload_n hx hb dJ8_indexOf_2_13 rfl (lv_at hl 0 rfl) ?_
      obtain ⟨u8, hu8, hm⟩ := ob_s hm
      obtain ⟨w9, hw9, hm⟩ := ob_s hm
      refine xr_reti hS (xr_runVX X hw (met_J8_length N w2.1 x0 w9 hw9) (x_cv X (lv := 1) (by omega) (by decide) cx_J8_length (lw_V q822 q823 q824 q128 q825)) (x_recvS X hw hu8) rfl hl.1 rfl (Nat.le_of_ble_eq_true rfl) dJ8_indexOf_2_14) (fun H locs cells slots hw hS => ?_)
      obtain ⟨w10, hw10, hm⟩ := ob_s hm
      refine xr_reti hS (xr_runS X hw (met_J9_indexOf N w9.1 (gSv g k7) x1 x2 w9.2 w10 hw10) (x_cs X (lv := 1) (by omega) (by decide) cx_J9_indexOf (lw_S q830 q831 q129 q832)) rfl hl.1 rfl (Nat.le_of_ble_eq_true rfl) dJ8_indexOf_2_17) (fun H locs cells slots hw hS => ?_)
      refine lv_goto (tgt := 36) hx hb dJ8_indexOf_2_20 (by decide) ?_
      obtain rfl := Option.some.inj hm
      exact xr_iret (v := w10.2) X hr hlk hw hS rfl dJ8_indexOf_2_36
  exact hg _ _ _ _ hw va_S.rf
/-! java/lang/String.indexOf -/
def kX_J8_indexOf (g : XC) (N : Nat) (S : XS) (x0 : Nat) (x1 : Int32) : Option (XS × Int32) :=
  (gSi g x0).bind fun u1 =>
  (kX_J8_indexOf_2 g N S x0 x1 0).bind fun w2 =>
  some (w2.1, w2.2)
theorem cx_J8_indexOf : yJ8_indexOf.cls = RJ8 ∧ yJ8_indexOf.cls ≠ "java/lang/invoke/MethodHandle" ∧ yJ8_indexOf.cls ≠ "java/lang/invoke/VarHandle" ∧ (parseMethodDescriptor yJ8_indexOf.desc).map (fun d => d.parameters.length) = some 1 := by decide +kernel
theorem met_J8_indexOf {l : Launch} {g : XC} {D : va_G} {A : Nat → Prop} (N : Nat) (S : XS) (x0 : Nat) (x1 : Int32) (w : XS × Int32) (hm : kX_J8_indexOf g N S x0 x1 = some w) : Met l yJ8_indexOf (ws_ yJ8_indexOf cJ8_indexOf 2 (Option.some Jvm.ClassFile.FieldType.int)) (xRm g S 3) (xPre g D A [.ref x0, .int x1] S) (xQi g D A w) (g.2.1 - xTop S) (g.2.2.1 - xSl S) A := by
  refine x_start (own := RJ8) (by decide +kernel) rfl (Nat.le_of_ble_eq_true rfl) (fun p e s m below meth c ls X hr hlk hnm hw hl => ?_)
  obtain ⟨hx, hb, -, hown, hts, -⟩ := id X
  have hl : lv_has ls 2 [(0, .ref x0), (1, .int x1)] := hl
  have hg : ∀ (H : Heap) (locs : List Loc) (cells slots : Nat), xW g D A S s H → va_S A s.heap H locs → W p l e (xRm g S 3) s m ([.ref x0, .int x1] : List Value).toArray below meth c H locs cells slots (MQ below (xQi g D A w) ([.ref x0, .int x1] : List Value).toArray s (g.2.1 - xTop S) (g.2.2.1 - xSl S) A) (F0 m 0 ls []) := by
    intro H locs cells slots hw hS
    unfold kX_J8_indexOf at hm
    refine lv_aload_n hx hb dJ8_indexOf_0 rfl (lv_at hl 0 rfl) ?_
    refine lv_iload_n hx hb dJ8_indexOf_1 rfl (lv_at hl 1 rfl) ?_
    refine lv_iconst (v := 0) hx hb dJ8_indexOf_2 (by decide) ?_
    obtain ⟨u1, hu1, hm⟩ := ob_s hm
    obtain ⟨w2, hw2, hm⟩ := ob_s hm
    refine xr_reti hS (xr_runVX X hw (met_J8_indexOf_2 N S x0 x1 0 w2 hw2) (x_cv X (lv := 2) (by omega) (by decide) cx_J8_indexOf_2 (lw_V q812 q813 q814 q128 q815)) (x_recvS X hw hu1) rfl hl.1 rfl (Nat.le_of_ble_eq_true rfl) dJ8_indexOf_3) (fun H locs cells slots hw hS => ?_)
    obtain rfl := Option.some.inj hm
    exact xr_iret (v := w2.2) X hr hlk hw hS rfl dJ8_indexOf_6
  exact hg _ _ _ _ hw va_S.rf
