theorem q_arr_bool : Cond.arrayClass .boolean ∈ lw_all := q1768
theorem xc0 : xcl[0]? = some (RX4, TX4, 60) := rfl
theorem df_X4 (j : Nat) (hj : j < 60) : defaultValue (tyX4 j) = vp_V [.int 0, .int 0, .int 0, .int 0, .null, .null, .null, .int 0, .int 0, .int 0, .null, .int 0, .int 0, .int 0, .int 0, .int 0, .int 0, .int 0, .long 0, .int 0, .int 0, .int 0, .int 0, .int 0, .int 0, .null, .null, .null, .null, .null, .null, .null, .null, .int 0, .null, .null, .null, .null, .int 0, .int 0, .int 0, .null, .null, .null, .null, .null, .null, .null, .null, .int 0, .null, .null, .null, .int 0, .int 0, .int 0, .int 0, .null, .null, .null] j := df_of (by decide +kernel) j hj
def kX_X4_init (g : XC) (N : Nat) (S : XS) (x0 : Nat) : Option (XS) :=
  (f_putI S 0 x0 2 (-1)).bind fun S1 =>
  (f_putI S1 0 x0 3 (-1)).bind fun S2 =>
  (xNewI S2 0 9).bind fun S3 =>
  (f_putR S3 0 x0 4 (some (xTop S2))).bind fun S4 =>
  (xNewI S4 0 1400).bind fun S5 =>
  (f_putR S5 0 x0 5 (some (xTop S4))).bind fun S6 =>
  (xNewI S6 0 700).bind fun S7 =>
  (f_putR S7 0 x0 6 (some (xTop S6))).bind fun S8 =>
  (f_putI S8 0 x0 9 (-1)).bind fun S9 =>
  (xNewI S9 0 3).bind fun S10 =>
  (f_putR S10 0 x0 10 (some (xTop S9))).bind fun S11 =>
  (xNewI S11 0 9).bind fun S12 =>
  (f_putR S12 0 x0 25 (some (xTop S11))).bind fun S13 =>
  (xNewI S13 0 64).bind fun S14 =>
  (f_putR S14 0 x0 26 (some (xTop S13))).bind fun S15 =>
  (xNewI S15 0 1400).bind fun S16 =>
  (f_putR S16 0 x0 27 (some (xTop S15))).bind fun S17 =>
  (xNewI S17 0 950).bind fun S18 =>
  (f_putR S18 0 x0 28 (some (xTop S17))).bind fun S19 =>
  (xNewI S19 6 9).bind fun S20 =>
  (f_putR S20 0 x0 29 (some (xTop S19))).bind fun S21 =>
  (xNewI S21 6 9).bind fun S22 =>
  (f_putR S22 0 x0 30 (some (xTop S21))).bind fun S23 =>
  (xNewI S23 0 128).bind fun S24 =>
  (f_putR S24 0 x0 31 (some (xTop S23))).bind fun S25 =>
  (xNewI S25 0 2560).bind fun S26 =>
  (f_putR S26 0 x0 32 (some (xTop S25))).bind fun S27 =>
  (xNewI S27 0 6).bind fun S28 =>
  (f_putR S28 0 x0 34 (some (xTop S27))).bind fun S29 =>
  (xNewI S29 0 950).bind fun S30 =>
  (f_putR S30 0 x0 35 (some (xTop S29))).bind fun S31 =>
  (xNewI S31 0 9).bind fun S32 =>
  (f_putR S32 0 x0 36 (some (xTop S31))).bind fun S33 =>
  (xNewI S33 0 9).bind fun S34 =>
  (f_putR S34 0 x0 37 (some (xTop S33))).bind fun S35 =>
  (f_putI S35 0 x0 40 (-1)).bind fun S36 =>
  (xNewI S36 0 9).bind fun S37 =>
  (f_putR S37 0 x0 41 (some (xTop S36))).bind fun S38 =>
  (xNewI S38 0 9).bind fun S39 =>
  (f_putR S39 0 x0 42 (some (xTop S38))).bind fun S40 =>
  (xNewI S40 0 9).bind fun S41 =>
  (f_putR S41 0 x0 43 (some (xTop S40))).bind fun S42 =>
  (xNewI S42 0 9).bind fun S43 =>
  (f_putR S43 0 x0 44 (some (xTop S42))).bind fun S44 =>
  (xNewI S44 0 9).bind fun S45 =>
  (f_putR S45 0 x0 45 (some (xTop S44))).bind fun S46 =>
  (xNewI S46 0 9).bind fun S47 =>
  (f_putR S47 0 x0 46 (some (xTop S46))).bind fun S48 =>
  (xNewI S48 0 9).bind fun S49 =>
  (f_putR S49 0 x0 47 (some (xTop S48))).bind fun S50 =>
  (xNewI S50 0 9).bind fun S51 =>
  (f_putR S51 0 x0 48 (some (xTop S50))).bind fun S52 =>
  (xNewI S52 0 24).bind fun S53 =>
  (f_putR S53 0 x0 50 (some (xTop S52))).bind fun S54 =>
  (xNewI S54 0 40).bind fun S55 =>
  (f_putR S55 0 x0 51 (some (xTop S54))).bind fun S56 =>
  (xNewI S56 0 20480).bind fun S57 =>
  (f_putR S57 0 x0 52 (some (xTop S56))).bind fun S58 =>
  (xNewI S58 0 64).bind fun S59 =>
  (f_putR S59 0 x0 57 (some (xTop S58))).bind fun S60 =>
  (xNewI S60 0 2560).bind fun S61 =>
  (f_putR S61 0 x0 58 (some (xTop S60))).bind fun S62 =>
  (xNewI S62 0 24).bind fun S63 =>
  (f_putR S63 0 x0 59 (some (xTop S62))).bind fun S64 =>
  some S64
theorem cx_X4_init : yX4_init.cls ≠ "java/lang/invoke/MethodHandle" ∧ yX4_init.cls ≠ "java/lang/invoke/VarHandle" ∧ (parseMethodDescriptor yX4_init.desc).map (fun d => d.parameters.length) = some 0 := by decide +kernel
theorem met_X4_init {l : Launch} {g : XC} {D : va_G} {A : Nat → Prop} (N : Nat) (S : XS) (x0 : Nat) (w : XS) (hm : kX_X4_init g N S x0 = some w) : Met l yX4_init (ws_ yX4_init cX4_init 1 (Option.none : Option Jvm.ClassFile.FieldType)) (xRm g S 0) (xPre g D A [.ref x0] S) (xQv g D A w) (g.2.1 - xTop S) (g.2.2.1 - xSl S) A := by
  refine x_start (own := RX4) (by decide +kernel) rfl (Nat.le_of_ble_eq_true rfl) (fun p e s m below meth c ls X hr hlk hnm hw hl => ?_)
  obtain ⟨hx, hb, -, hown, hts, -⟩ := id X
  have hl : lv_has ls 1 [(0, .ref x0)] := hl
  have hg : ∀ (H : Heap) (locs : List Loc) (cells slots : Nat), xW g D A S s H → va_S A s.heap H locs → W p l e (xRm g S 0) s m ([.ref x0] : List Value).toArray below meth c H locs cells slots (MQ below (xQv g D A w) ([.ref x0] : List Value).toArray s (g.2.1 - xTop S) (g.2.2.1 - xSl S) A) (F0 m 0 ls []) := by
    intro H locs cells slots hw hS
    unfold kX_X4_init at hm
    refine lv_aload_n hx hb dX4_init_0 rfl (lv_at hl 0 rfl) ?_
    refine xr_objInit X hl.1 q1586 q154 q155 (Nat.le_of_ble_eq_true rfl) dX4_init_1 ?_
    refine lv_aload_n hx hb dX4_init_4 rfl (lv_at hl 0 rfl) ?_
    refine lv_iconst (v := (-1)) hx hb dX4_init_5 (by decide) ?_
    obtain ⟨S1, hS1, hm⟩ := ob_s hm
    refine xr_putI X hw hS xc0 in_X4 tyX4_ok nmX4 2 (by decide) q1589 rfl (tyX4_ok 2 (by decide)) rfl rfl hS1 dX4_init_6 (fun H locs hw hS => ?_)
    refine lv_aload_n hx hb dX4_init_9 rfl (lv_at hl 0 rfl) ?_
    refine lv_iconst (v := (-1)) hx hb dX4_init_10 (by decide) ?_
    obtain ⟨S2, hS2, hm⟩ := ob_s hm
    refine xr_putI X hw hS xc0 in_X4 tyX4_ok nmX4 3 (by decide) q1590 rfl (tyX4_ok 3 (by decide)) rfl rfl hS2 dX4_init_11 (fun H locs hw hS => ?_)
    refine lv_aload_n hx hb dX4_init_14 rfl (lv_at hl 0 rfl) ?_
    refine lv_bipush (v := 9) hx hb dX4_init_15 (by decide) ?_
    obtain ⟨S3, hS3, hm⟩ := ob_s hm
    refine xr_newI (atype := .int) X hw hS (by decide) rfl rfl (by decide) q_arr_int hS3 dX4_init_17 (fun H cells slots hw hS => ?_)
    obtain ⟨S4, hS4, hm⟩ := ob_s hm
    refine xr_putRF (v := (some (xTop S2))) X hw hS xc0 in_X4 tyX4_ok nmX4 4 (by decide) q1591 rfl hnm rfl (tyX4_ok 4 (by decide)) rfl hS4 dX4_init_19 (fun H locs hw hS => ?_)
    refine lv_aload_n hx hb dX4_init_22 rfl (lv_at hl 0 rfl) ?_
    refine lv_sipush (v := 1400) hx hb dX4_init_23 (by decide) ?_
    obtain ⟨S5, hS5, hm⟩ := ob_s hm
    refine xr_newI (atype := .int) X hw hS (by decide) rfl rfl (by decide) q_arr_int hS5 dX4_init_26 (fun H cells slots hw hS => ?_)
    obtain ⟨S6, hS6, hm⟩ := ob_s hm
    refine xr_putRF (v := (some (xTop S4))) X hw hS xc0 in_X4 tyX4_ok nmX4 5 (by decide) q1592 rfl hnm rfl (tyX4_ok 5 (by decide)) rfl hS6 dX4_init_28 (fun H locs hw hS => ?_)
    refine lv_aload_n hx hb dX4_init_31 rfl (lv_at hl 0 rfl) ?_
    refine lv_sipush (v := 700) hx hb dX4_init_32 (by decide) ?_
    obtain ⟨S7, hS7, hm⟩ := ob_s hm
    refine xr_newI (atype := .int) X hw hS (by decide) rfl rfl (by decide) q_arr_int hS7 dX4_init_35 (fun H cells slots hw hS => ?_)
    obtain ⟨S8, hS8, hm⟩ := ob_s hm
    refine xr_putRF (v := (some (xTop S6))) X hw hS xc0 in_X4 tyX4_ok nmX4 6 (by decide) q1593 rfl hnm rfl (tyX4_ok 6 (by decide)) rfl hS8 dX4_init_37 (fun H locs hw hS => ?_)
    refine lv_aload_n hx hb dX4_init_40 rfl (lv_at hl 0 rfl) ?_
    refine lv_iconst (v := (-1)) hx hb dX4_init_41 (by decide) ?_
    obtain ⟨S9, hS9, hm⟩ := ob_s hm
    refine xr_putI X hw hS xc0 in_X4 tyX4_ok nmX4 9 (by decide) q1596 rfl (tyX4_ok 9 (by decide)) rfl rfl hS9 dX4_init_42 (fun H locs hw hS => ?_)
    refine lv_aload_n hx hb dX4_init_45 rfl (lv_at hl 0 rfl) ?_
    refine lv_iconst (v := 3) hx hb dX4_init_46 (by decide) ?_
    obtain ⟨S10, hS10, hm⟩ := ob_s hm
    refine xr_newI (atype := .int) X hw hS (by decide) rfl rfl (by decide) q_arr_int hS10 dX4_init_47 (fun H cells slots hw hS => ?_)
    obtain ⟨S11, hS11, hm⟩ := ob_s hm
    refine xr_putRF (v := (some (xTop S9))) X hw hS xc0 in_X4 tyX4_ok nmX4 10 (by decide) q1597 rfl hnm rfl (tyX4_ok 10 (by decide)) rfl hS11 dX4_init_49 (fun H locs hw hS => ?_)
    refine lv_aload_n hx hb dX4_init_52 rfl (lv_at hl 0 rfl) ?_
    refine lv_bipush (v := 9) hx hb dX4_init_53 (by decide) ?_
    obtain ⟨S12, hS12, hm⟩ := ob_s hm
    refine xr_newI (atype := .int) X hw hS (by decide) rfl rfl (by decide) q_arr_int hS12 dX4_init_55 (fun H cells slots hw hS => ?_)
    obtain ⟨S13, hS13, hm⟩ := ob_s hm
    refine xr_putRF (v := (some (xTop S11))) X hw hS xc0 in_X4 tyX4_ok nmX4 25 (by decide) q1612 rfl hnm rfl (tyX4_ok 25 (by decide)) rfl hS13 dX4_init_57 (fun H locs hw hS => ?_)
    refine lv_aload_n hx hb dX4_init_60 rfl (lv_at hl 0 rfl) ?_
    refine lv_bipush (v := 64) hx hb dX4_init_61 (by decide) ?_
    obtain ⟨S14, hS14, hm⟩ := ob_s hm
    refine xr_newI (atype := .int) X hw hS (by decide) rfl rfl (by decide) q_arr_int hS14 dX4_init_63 (fun H cells slots hw hS => ?_)
    obtain ⟨S15, hS15, hm⟩ := ob_s hm
    refine xr_putRF (v := (some (xTop S13))) X hw hS xc0 in_X4 tyX4_ok nmX4 26 (by decide) q1613 rfl hnm rfl (tyX4_ok 26 (by decide)) rfl hS15 dX4_init_65 (fun H locs hw hS => ?_)
    refine lv_aload_n hx hb dX4_init_68 rfl (lv_at hl 0 rfl) ?_
    refine lv_sipush (v := 1400) hx hb dX4_init_69 (by decide) ?_
    obtain ⟨S16, hS16, hm⟩ := ob_s hm
    refine xr_newI (atype := .int) X hw hS (by decide) rfl rfl (by decide) q_arr_int hS16 dX4_init_72 (fun H cells slots hw hS => ?_)
    obtain ⟨S17, hS17, hm⟩ := ob_s hm
    refine xr_putRF (v := (some (xTop S15))) X hw hS xc0 in_X4 tyX4_ok nmX4 27 (by decide) q1614 rfl hnm rfl (tyX4_ok 27 (by decide)) rfl hS17 dX4_init_74 (fun H locs hw hS => ?_)
    refine lv_aload_n hx hb dX4_init_77 rfl (lv_at hl 0 rfl) ?_
    refine lv_sipush (v := 950) hx hb dX4_init_78 (by decide) ?_
    obtain ⟨S18, hS18, hm⟩ := ob_s hm
    refine xr_newI (atype := .int) X hw hS (by decide) rfl rfl (by decide) q_arr_int hS18 dX4_init_81 (fun H cells slots hw hS => ?_)
    obtain ⟨S19, hS19, hm⟩ := ob_s hm
    refine xr_putRF (v := (some (xTop S17))) X hw hS xc0 in_X4 tyX4_ok nmX4 28 (by decide) q1615 rfl hnm rfl (tyX4_ok 28 (by decide)) rfl hS19 dX4_init_83 (fun H locs hw hS => ?_)
    refine lv_aload_n hx hb dX4_init_86 rfl (lv_at hl 0 rfl) ?_
    refine lv_bipush (v := 9) hx hb dX4_init_87 (by decide) ?_
    obtain ⟨S20, hS20, hm⟩ := ob_s hm
    refine xr_newI (atype := .boolean) X hw hS (by decide) rfl rfl (by decide) q_arr_bool hS20 dX4_init_89 (fun H cells slots hw hS => ?_)
    obtain ⟨S21, hS21, hm⟩ := ob_s hm
    refine xr_putRF (v := (some (xTop S19))) X hw hS xc0 in_X4 tyX4_ok nmX4 29 (by decide) q1616 rfl hnm rfl (tyX4_ok 29 (by decide)) rfl hS21 dX4_init_91 (fun H locs hw hS => ?_)
    refine lv_aload_n hx hb dX4_init_94 rfl (lv_at hl 0 rfl) ?_
    refine lv_bipush (v := 9) hx hb dX4_init_95 (by decide) ?_
    obtain ⟨S22, hS22, hm⟩ := ob_s hm
    refine xr_newI (atype := .boolean) X hw hS (by decide) rfl rfl (by decide) q_arr_bool hS22 dX4_init_97 (fun H cells slots hw hS => ?_)
    obtain ⟨S23, hS23, hm⟩ := ob_s hm
    refine xr_putRF (v := (some (xTop S21))) X hw hS xc0 in_X4 tyX4_ok nmX4 30 (by decide) q1617 rfl hnm rfl (tyX4_ok 30 (by decide)) rfl hS23 dX4_init_99 (fun H locs hw hS => ?_)
    refine lv_aload_n hx hb dX4_init_102 rfl (lv_at hl 0 rfl) ?_
    refine lv_sipush (v := 128) hx hb dX4_init_103 (by decide) ?_
    obtain ⟨S24, hS24, hm⟩ := ob_s hm
    refine xr_newI (atype := .int) X hw hS (by decide) rfl rfl (by decide) q_arr_int hS24 dX4_init_106 (fun H cells slots hw hS => ?_)
    obtain ⟨S25, hS25, hm⟩ := ob_s hm
    refine xr_putRF (v := (some (xTop S23))) X hw hS xc0 in_X4 tyX4_ok nmX4 31 (by decide) q1618 rfl hnm rfl (tyX4_ok 31 (by decide)) rfl hS25 dX4_init_108 (fun H locs hw hS => ?_)
    refine lv_aload_n hx hb dX4_init_111 rfl (lv_at hl 0 rfl) ?_
    refine lv_sipush (v := 2560) hx hb dX4_init_112 (by decide) ?_
    obtain ⟨S26, hS26, hm⟩ := ob_s hm
    refine xr_newI (atype := .int) X hw hS (by decide) rfl rfl (by decide) q_arr_int hS26 dX4_init_115 (fun H cells slots hw hS => ?_)
    obtain ⟨S27, hS27, hm⟩ := ob_s hm
    refine xr_putRF (v := (some (xTop S25))) X hw hS xc0 in_X4 tyX4_ok nmX4 32 (by decide) q1619 rfl hnm rfl (tyX4_ok 32 (by decide)) rfl hS27 dX4_init_117 (fun H locs hw hS => ?_)
    refine lv_aload_n hx hb dX4_init_120 rfl (lv_at hl 0 rfl) ?_
    refine lv_bipush (v := 6) hx hb dX4_init_121 (by decide) ?_
    obtain ⟨S28, hS28, hm⟩ := ob_s hm
    refine xr_newI (atype := .int) X hw hS (by decide) rfl rfl (by decide) q_arr_int hS28 dX4_init_123 (fun H cells slots hw hS => ?_)
    obtain ⟨S29, hS29, hm⟩ := ob_s hm
    refine xr_putRF (v := (some (xTop S27))) X hw hS xc0 in_X4 tyX4_ok nmX4 34 (by decide) q1621 rfl hnm rfl (tyX4_ok 34 (by decide)) rfl hS29 dX4_init_125 (fun H locs hw hS => ?_)
    refine lv_aload_n hx hb dX4_init_128 rfl (lv_at hl 0 rfl) ?_
    refine lv_sipush (v := 950) hx hb dX4_init_129 (by decide) ?_
    obtain ⟨S30, hS30, hm⟩ := ob_s hm
    refine xr_newI (atype := .int) X hw hS (by decide) rfl rfl (by decide) q_arr_int hS30 dX4_init_132 (fun H cells slots hw hS => ?_)
    obtain ⟨S31, hS31, hm⟩ := ob_s hm
    refine xr_putRF (v := (some (xTop S29))) X hw hS xc0 in_X4 tyX4_ok nmX4 35 (by decide) q1622 rfl hnm rfl (tyX4_ok 35 (by decide)) rfl hS31 dX4_init_134 (fun H locs hw hS => ?_)
    refine lv_aload_n hx hb dX4_init_137 rfl (lv_at hl 0 rfl) ?_
    refine lv_bipush (v := 9) hx hb dX4_init_138 (by decide) ?_
    obtain ⟨S32, hS32, hm⟩ := ob_s hm
    refine xr_newI (atype := .int) X hw hS (by decide) rfl rfl (by decide) q_arr_int hS32 dX4_init_140 (fun H cells slots hw hS => ?_)
    obtain ⟨S33, hS33, hm⟩ := ob_s hm
    refine xr_putRF (v := (some (xTop S31))) X hw hS xc0 in_X4 tyX4_ok nmX4 36 (by decide) q1623 rfl hnm rfl (tyX4_ok 36 (by decide)) rfl hS33 dX4_init_142 (fun H locs hw hS => ?_)
    refine lv_aload_n hx hb dX4_init_145 rfl (lv_at hl 0 rfl) ?_
    refine lv_bipush (v := 9) hx hb dX4_init_146 (by decide) ?_
    obtain ⟨S34, hS34, hm⟩ := ob_s hm
    refine xr_newI (atype := .int) X hw hS (by decide) rfl rfl (by decide) q_arr_int hS34 dX4_init_148 (fun H cells slots hw hS => ?_)
    obtain ⟨S35, hS35, hm⟩ := ob_s hm
    refine xr_putRF (v := (some (xTop S33))) X hw hS xc0 in_X4 tyX4_ok nmX4 37 (by decide) q1624 rfl hnm rfl (tyX4_ok 37 (by decide)) rfl hS35 dX4_init_150 (fun H locs hw hS => ?_)
    refine lv_aload_n hx hb dX4_init_153 rfl (lv_at hl 0 rfl) ?_
    refine lv_iconst (v := (-1)) hx hb dX4_init_154 (by decide) ?_
    obtain ⟨S36, hS36, hm⟩ := ob_s hm
    refine xr_putI X hw hS xc0 in_X4 tyX4_ok nmX4 40 (by decide) q1627 rfl (tyX4_ok 40 (by decide)) rfl rfl hS36 dX4_init_155 (fun H locs hw hS => ?_)
    refine lv_aload_n hx hb dX4_init_158 rfl (lv_at hl 0 rfl) ?_
    refine lv_bipush (v := 9) hx hb dX4_init_159 (by decide) ?_
    obtain ⟨S37, hS37, hm⟩ := ob_s hm
    refine xr_newI (atype := .int) X hw hS (by decide) rfl rfl (by decide) q_arr_int hS37 dX4_init_161 (fun H cells slots hw hS => ?_)
    obtain ⟨S38, hS38, hm⟩ := ob_s hm
    refine xr_putRF (v := (some (xTop S36))) X hw hS xc0 in_X4 tyX4_ok nmX4 41 (by decide) q1628 rfl hnm rfl (tyX4_ok 41 (by decide)) rfl hS38 dX4_init_163 (fun H locs hw hS => ?_)
    refine lv_aload_n hx hb dX4_init_166 rfl (lv_at hl 0 rfl) ?_
    refine lv_bipush (v := 9) hx hb dX4_init_167 (by decide) ?_
    obtain ⟨S39, hS39, hm⟩ := ob_s hm
    refine xr_newI (atype := .int) X hw hS (by decide) rfl rfl (by decide) q_arr_int hS39 dX4_init_169 (fun H cells slots hw hS => ?_)
    obtain ⟨S40, hS40, hm⟩ := ob_s hm
    refine xr_putRF (v := (some (xTop S38))) X hw hS xc0 in_X4 tyX4_ok nmX4 42 (by decide) q1629 rfl hnm rfl (tyX4_ok 42 (by decide)) rfl hS40 dX4_init_171 (fun H locs hw hS => ?_)
    refine lv_aload_n hx hb dX4_init_174 rfl (lv_at hl 0 rfl) ?_
    refine lv_bipush (v := 9) hx hb dX4_init_175 (by decide) ?_
    obtain ⟨S41, hS41, hm⟩ := ob_s hm
    refine xr_newI (atype := .int) X hw hS (by decide) rfl rfl (by decide) q_arr_int hS41 dX4_init_177 (fun H cells slots hw hS => ?_)
    obtain ⟨S42, hS42, hm⟩ := ob_s hm
    refine xr_putRF (v := (some (xTop S40))) X hw hS xc0 in_X4 tyX4_ok nmX4 43 (by decide) q1630 rfl hnm rfl (tyX4_ok 43 (by decide)) rfl hS42 dX4_init_179 (fun H locs hw hS => ?_)
    refine lv_aload_n hx hb dX4_init_182 rfl (lv_at hl 0 rfl) ?_
    refine lv_bipush (v := 9) hx hb dX4_init_183 (by decide) ?_
    obtain ⟨S43, hS43, hm⟩ := ob_s hm
    refine xr_newI (atype := .int) X hw hS (by decide) rfl rfl (by decide) q_arr_int hS43 dX4_init_185 (fun H cells slots hw hS => ?_)
    obtain ⟨S44, hS44, hm⟩ := ob_s hm
    refine xr_putRF (v := (some (xTop S42))) X hw hS xc0 in_X4 tyX4_ok nmX4 44 (by decide) q1631 rfl hnm rfl (tyX4_ok 44 (by decide)) rfl hS44 dX4_init_187 (fun H locs hw hS => ?_)
    refine lv_aload_n hx hb dX4_init_190 rfl (lv_at hl 0 rfl) ?_
    refine lv_bipush (v := 9) hx hb dX4_init_191 (by decide) ?_
    obtain ⟨S45, hS45, hm⟩ := ob_s hm
    refine xr_newI (atype := .int) X hw hS (by decide) rfl rfl (by decide) q_arr_int hS45 dX4_init_193 (fun H cells slots hw hS => ?_)
    obtain ⟨S46, hS46, hm⟩ := ob_s hm
    refine xr_putRF (v := (some (xTop S44))) X hw hS xc0 in_X4 tyX4_ok nmX4 45 (by decide) q1632 rfl hnm rfl (tyX4_ok 45 (by decide)) rfl hS46 dX4_init_195 (fun H locs hw hS => ?_)
    refine lv_aload_n hx hb dX4_init_198 rfl (lv_at hl 0 rfl) ?_
    refine lv_bipush (v := 9) hx hb dX4_init_199 (by decide) ?_
    obtain ⟨S47, hS47, hm⟩ := ob_s hm
    refine xr_newI (atype := .int) X hw hS (by decide) rfl rfl (by decide) q_arr_int hS47 dX4_init_201 (fun H cells slots hw hS => ?_)
    obtain ⟨S48, hS48, hm⟩ := ob_s hm
    refine xr_putRF (v := (some (xTop S46))) X hw hS xc0 in_X4 tyX4_ok nmX4 46 (by decide) q1633 rfl hnm rfl (tyX4_ok 46 (by decide)) rfl hS48 dX4_init_203 (fun H locs hw hS => ?_)
    refine lv_aload_n hx hb dX4_init_206 rfl (lv_at hl 0 rfl) ?_
    refine lv_bipush (v := 9) hx hb dX4_init_207 (by decide) ?_
    obtain ⟨S49, hS49, hm⟩ := ob_s hm
    refine xr_newI (atype := .int) X hw hS (by decide) rfl rfl (by decide) q_arr_int hS49 dX4_init_209 (fun H cells slots hw hS => ?_)
    obtain ⟨S50, hS50, hm⟩ := ob_s hm
    refine xr_putRF (v := (some (xTop S48))) X hw hS xc0 in_X4 tyX4_ok nmX4 47 (by decide) q1634 rfl hnm rfl (tyX4_ok 47 (by decide)) rfl hS50 dX4_init_211 (fun H locs hw hS => ?_)
    refine lv_aload_n hx hb dX4_init_214 rfl (lv_at hl 0 rfl) ?_
    refine lv_bipush (v := 9) hx hb dX4_init_215 (by decide) ?_
    obtain ⟨S51, hS51, hm⟩ := ob_s hm
    refine xr_newI (atype := .int) X hw hS (by decide) rfl rfl (by decide) q_arr_int hS51 dX4_init_217 (fun H cells slots hw hS => ?_)
    obtain ⟨S52, hS52, hm⟩ := ob_s hm
    refine xr_putRF (v := (some (xTop S50))) X hw hS xc0 in_X4 tyX4_ok nmX4 48 (by decide) q1635 rfl hnm rfl (tyX4_ok 48 (by decide)) rfl hS52 dX4_init_219 (fun H locs hw hS => ?_)
    refine lv_aload_n hx hb dX4_init_222 rfl (lv_at hl 0 rfl) ?_
    refine lv_bipush (v := 24) hx hb dX4_init_223 (by decide) ?_
    obtain ⟨S53, hS53, hm⟩ := ob_s hm
    refine xr_newI (atype := .int) X hw hS (by decide) rfl rfl (by decide) q_arr_int hS53 dX4_init_225 (fun H cells slots hw hS => ?_)
    obtain ⟨S54, hS54, hm⟩ := ob_s hm
    refine xr_putRF (v := (some (xTop S52))) X hw hS xc0 in_X4 tyX4_ok nmX4 50 (by decide) q1637 rfl hnm rfl (tyX4_ok 50 (by decide)) rfl hS54 dX4_init_227 (fun H locs hw hS => ?_)
    refine lv_aload_n hx hb dX4_init_230 rfl (lv_at hl 0 rfl) ?_
    refine lv_bipush (v := 40) hx hb dX4_init_231 (by decide) ?_
    obtain ⟨S55, hS55, hm⟩ := ob_s hm
    refine xr_newI (atype := .int) X hw hS (by decide) rfl rfl (by decide) q_arr_int hS55 dX4_init_233 (fun H cells slots hw hS => ?_)
    obtain ⟨S56, hS56, hm⟩ := ob_s hm
    refine xr_putRF (v := (some (xTop S54))) X hw hS xc0 in_X4 tyX4_ok nmX4 51 (by decide) q1638 rfl hnm rfl (tyX4_ok 51 (by decide)) rfl hS56 dX4_init_235 (fun H locs hw hS => ?_)
    refine lv_aload_n hx hb dX4_init_238 rfl (lv_at hl 0 rfl) ?_
    refine lv_sipush (v := 20480) hx hb dX4_init_239 (by decide) ?_
    obtain ⟨S57, hS57, hm⟩ := ob_s hm
    refine xr_newI (atype := .int) X hw hS (by decide) rfl rfl (by decide) q_arr_int hS57 dX4_init_242 (fun H cells slots hw hS => ?_)
    obtain ⟨S58, hS58, hm⟩ := ob_s hm
    refine xr_putRF (v := (some (xTop S56))) X hw hS xc0 in_X4 tyX4_ok nmX4 52 (by decide) q1639 rfl hnm rfl (tyX4_ok 52 (by decide)) rfl hS58 dX4_init_244 (fun H locs hw hS => ?_)
    refine lv_aload_n hx hb dX4_init_247 rfl (lv_at hl 0 rfl) ?_
    refine lv_bipush (v := 64) hx hb dX4_init_248 (by decide) ?_
    obtain ⟨S59, hS59, hm⟩ := ob_s hm
    refine xr_newI (atype := .int) X hw hS (by decide) rfl rfl (by decide) q_arr_int hS59 dX4_init_250 (fun H cells slots hw hS => ?_)
    obtain ⟨S60, hS60, hm⟩ := ob_s hm
    refine xr_putRF (v := (some (xTop S58))) X hw hS xc0 in_X4 tyX4_ok nmX4 57 (by decide) q1644 rfl hnm rfl (tyX4_ok 57 (by decide)) rfl hS60 dX4_init_252 (fun H locs hw hS => ?_)
    refine lv_aload_n hx hb dX4_init_255 rfl (lv_at hl 0 rfl) ?_
    refine lv_sipush (v := 2560) hx hb dX4_init_256 (by decide) ?_
    obtain ⟨S61, hS61, hm⟩ := ob_s hm
    refine xr_newI (atype := .int) X hw hS (by decide) rfl rfl (by decide) q_arr_int hS61 dX4_init_259 (fun H cells slots hw hS => ?_)
    obtain ⟨S62, hS62, hm⟩ := ob_s hm
    refine xr_putRF (v := (some (xTop S60))) X hw hS xc0 in_X4 tyX4_ok nmX4 58 (by decide) q1645 rfl hnm rfl (tyX4_ok 58 (by decide)) rfl hS62 dX4_init_261 (fun H locs hw hS => ?_)
    refine lv_aload_n hx hb dX4_init_264 rfl (lv_at hl 0 rfl) ?_
    refine lv_bipush (v := 24) hx hb dX4_init_265 (by decide) ?_
    obtain ⟨S63, hS63, hm⟩ := ob_s hm
    refine xr_newI (atype := .int) X hw hS (by decide) rfl rfl (by decide) q_arr_int hS63 dX4_init_267 (fun H cells slots hw hS => ?_)
    obtain ⟨S64, hS64, hm⟩ := ob_s hm
    refine xr_putRF (v := (some (xTop S62))) X hw hS xc0 in_X4 tyX4_ok nmX4 59 (by decide) q1646 rfl hnm rfl (tyX4_ok 59 (by decide)) rfl hS64 dX4_init_269 (fun H locs hw hS => ?_)
    obtain rfl := Option.some.inj hm
    exact xr_vret X hr hlk hw hS dX4_init_272
  exact hg _ _ _ _ hw va_S.rf
