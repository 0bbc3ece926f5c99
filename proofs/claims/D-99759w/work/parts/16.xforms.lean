theorem ci_Form_of : (⟨"DripCups$Form", "of", "([I)I"⟩ : MethodName).cls ≠ "java/lang/invoke/MethodHandle" ∧ (⟨"DripCups$Form", "of", "([I)I"⟩ : MethodName).cls ≠ "java/lang/invoke/VarHandle" ∧ (parseMethodDescriptor (⟨"DripCups$Form", "of", "([I)I"⟩ : MethodName).desc).map (fun d => d.parameters.length) = some 1 := by decide +kernel
/-- what stands for the call of a form -/
def x_FormOK (l : Launch) (g : XC) (D : va_G) (A : Nat → Prop) (lv : Nat) (E : XS → Nat → Nat → Option (XS × Int32)) : Prop := ∀ (S : XS) (a v : Nat) (w : XS × Int32), E S a v = some w → (f_form S a = some 5 ∧ Met l yX7_of (ws_ yX7_of cX7_of 4 (Option.some Jvm.ClassFile.FieldType.int)) (xRm g S lv) (xPre g D A [.ref a, .ref v] S) (xQi g D A w) (g.2.1 - xTop S) (g.2.2.1 - xSl S) A) ∨ (f_form S a = some 6 ∧ Met l yX8_of (ws_ yX8_of cX8_of 2 (Option.some Jvm.ClassFile.FieldType.int)) (xRm g S lv) (xPre g D A [.ref a, .ref v] S) (xQi g D A w) (g.2.1 - xTop S) (g.2.2.1 - xSl S) A) ∨ (f_form S a = some 7 ∧ Met l yX9_of (ws_ yX9_of cX9_of 2 (Option.some Jvm.ClassFile.FieldType.int)) (xRm g S lv) (xPre g D A [.ref a, .ref v] S) (xQi g D A w) (g.2.1 - xTop S) (g.2.2.1 - xSl S) A) ∨ (f_form S a = some 8 ∧ Met l yX10_of (ws_ yX10_of cX10_of 2 (Option.some Jvm.ClassFile.FieldType.int)) (xRm g S lv) (xPre g D A [.ref a, .ref v] S) (xQi g D A w) (g.2.1 - xTop S) (g.2.2.1 - xSl S) A)
theorem xr_runForm {p : Program} {l : Launch} {e : Env} {s : State} {m : MethodId} {args : Array Value} {below : List Frame} {meth : Method} {c : Code} {H : Heap} {locs : List Loc} {cc : ByteArray} {pc nL lv lv2 : Nat} {ls : Array Slot} {rest : List Value} {g : XC} {D : va_G} {A : Nat → Prop} {own : String} {S0 S : XS} {st : List Value} {E : XS → Nat → Nat → Option (XS × Int32)} {b v count index : Nat} {w : XS × Int32} (X : xX g D A own S0 p s m args c cc nL) (hw : xW g D A S s H) (hE : x_FormOK l g D A lv E) (hv : E S b v = some w) (h1 : lv < lv2) (hl : Cond.methodLink own index ⟨"DripCups$Form", "of", "([I)I"⟩ ∈ lw_all) (hsz : ls.size = nL) (hst : st = .ref v :: .ref b :: rest) (hr : (rest.map fun v => v.category).sum ≤ 8) (hdg : decode cc pc = .ok (.invokeinterface index count, 5)) (t1 : s.heap.size ≤ H.size) (t2 : slotsOf s.heap ≤ slotsOf H) :
    va_Run5 p l e (xRm g S0 lv2) s m args below meth c H locs (H.size - s.heap.size) (slotsOf H - slotsOf s.heap) (g.2.1 - xTop S) (g.2.2.1 - xSl S) (F0 m pc ls st) rest (xQi g D A w (Value.ref b :: [.ref v]).toArray) A := by
  rcases hE S b v w hv with ⟨hf, hM⟩ | ⟨hf, hM⟩ | ⟨hf, hM⟩ | ⟨hf, hM⟩
  · exact xr_runF (x := ⟨"DripCups$Form", "of", "([I)I"⟩) X hw hM (x_cf X h1 (by decide) ci_Form_of hl q506 q508 q134 q510 q504 q503 q509 q507 q505) xc5 (f_form_s hf).2.2 rfl hsz hst hr hdg t1 t2
  · exact xr_runF (x := ⟨"DripCups$Form", "of", "([I)I"⟩) X hw hM (x_cf X h1 (by decide) ci_Form_of hl q525 q527 q135 q529 q504 q503 q528 q526 q524) xc6 (f_form_s hf).2.2 rfl hsz hst hr hdg t1 t2
  · exact xr_runF (x := ⟨"DripCups$Form", "of", "([I)I"⟩) X hw hM (x_cf X h1 (by decide) ci_Form_of hl q531 q533 q136 q535 q504 q503 q534 q532 q530) xc7 (f_form_s hf).2.2 rfl hsz hst hr hdg t1 t2
  · exact xr_runF (x := ⟨"DripCups$Form", "of", "([I)I"⟩) X hw hM (x_cf X h1 (by decide) ci_Form_of hl q517 q519 q143 q521 q504 q503 q520 q518 q516) xc8 (f_form_s hf).2.2 rfl hsz hst hr hdg t1 t2
/-! DripCups$Chain.by -/
def kX_X7_by_172 (g : XC) (N : Nat) (x1 : Int32) (x2 : Int32) : Option (Int32) :=
  if x1 = 0 then
    if x2 = 0 then
      some 0
    else
      some 1
  else
    some 1
theorem wkX_X7_by_172 {p : Program} {l : Launch} {e : Env} {s : State} {m : MethodId} {args : Array Value} {below : List Frame} {meth : Method} {c : Code} {g : XC} {D : va_G} {A : Nat → Prop} {S : XS} {w : Int32} (X : xX g D A RX7 S p s m args c cX7_by 3) (hr : meth.sig.returnType = (Option.some Jvm.ClassFile.FieldType.int)) (hlk : meth.locks = false) (hnm : meth.name = yX7_by.name) (N : Nat) :
    ∀ (x1 : Int32) (x2 : Int32) (H : Heap) (locs : List Loc) (ls : Array Slot) (cells slots : Nat), kX_X7_by_172 g N x1 x2 = some w → xW g D A S s H → va_S A s.heap H locs → lv_has ls 3 [(1, .int x1), (2, .int x2)] → W p l e (xRm g S 0) s m args below meth c H locs cells slots (MQ below (xQi g D A (S, w)) args s (g.2.1 - xTop S) (g.2.2.1 - xSl S) A) (F0 m 172 ls []) := by
  obtain ⟨hx, hb, -, hown, hts, -⟩ := id X
  intro x1 x2 H locs ls cells slots hm hw hS hl
  unfold kX_X7_by_172 at hm
  refine lv_iload_n hx hb dX7_by_172 rfl (lv_at hl 0 rfl) ?_
  refine lv_if_ne (tgt := 180) hx hb dX7_by_173 (by decide) (fun c1 => ?_) (fun c1 => ?_)
  · replace hm := if_f c1 hm
    refine lv_iconst (v := 1) hx hb dX7_by_180 (by decide) ?_
    refine lv_goto (tgt := 185) hx hb dX7_by_181 (by decide) ?_
    obtain rfl := Option.some.inj hm
    exact xr_iret (v := 1) X hr hlk hw hS rfl dX7_by_185
  · replace hm := if_t c1 hm
    refine lv_iload_n hx hb dX7_by_176 rfl (lv_at hl 1 rfl) ?_
    refine lv_if_eq (tgt := 184) hx hb dX7_by_177 (by decide) (fun c2 => ?_) (fun c2 => ?_)
    · replace hm := if_t c2 hm
      refine lv_iconst (v := 0) hx hb dX7_by_184 (by decide) ?_
      obtain rfl := Option.some.inj hm
      exact xr_iret (v := 0) X hr hlk hw hS rfl dX7_by_185
    · replace hm := if_f c2 hm
      refine lv_iconst (v := 1) hx hb dX7_by_180 (by decide) ?_
      refine lv_goto (tgt := 185) hx hb dX7_by_181 (by decide) ?_
      obtain rfl := Option.some.inj hm
      exact xr_iret (v := 1) X hr hlk hw hS rfl dX7_by_185
def kX_X7_by (g : XC) (N : Nat) (x0 : Int32) (x1 : Int32) (x2 : Int32) : Option (Int32) :=
  if x0 = 38 then
    if x1 = 0 then
      some 0
    else
      if x2 = 0 then
        some 0
      else
        some 1
  else
  if x0 = 39 then
    kX_X7_by_172 g N x1 x2
  else
  if x0 = 40 then
    kX_X7_by_172 g N x1 x2
  else
  if x0 = 41 then
    kX_X7_by_172 g N x1 x2
  else
  if x0 = 42 then
    some (x1 * x2)
  else
  if x0 = 43 then
    some (x1 + x2)
  else
  if x0 = 44 then
    kX_X7_by_172 g N x1 x2
  else
  if x0 = 45 then
    some (x1 - x2)
  else
  if x0 = 46 then
    kX_X7_by_172 g N x1 x2
  else
  if x0 = 47 then
    if x2 = 0 then
      some 0
    else
      if x2 = 0 then none else
      bnd (x1 / x2) fun v15 =>
      some v15
  else
  if x0 = 48 then
    kX_X7_by_172 g N x1 x2
  else
  if x0 = 49 then
    kX_X7_by_172 g N x1 x2
  else
  if x0 = 50 then
    kX_X7_by_172 g N x1 x2
  else
  if x0 = 51 then
    kX_X7_by_172 g N x1 x2
  else
  if x0 = 52 then
    kX_X7_by_172 g N x1 x2
  else
  if x0 = 53 then
    kX_X7_by_172 g N x1 x2
  else
  if x0 = 54 then
    kX_X7_by_172 g N x1 x2
  else
  if x0 = 55 then
    kX_X7_by_172 g N x1 x2
  else
  if x0 = 56 then
    kX_X7_by_172 g N x1 x2
  else
  if x0 = 57 then
    kX_X7_by_172 g N x1 x2
  else
  if x0 = 58 then
    kX_X7_by_172 g N x1 x2
  else
  if x0 = 59 then
    kX_X7_by_172 g N x1 x2
  else
  if x0 = 60 then
    if x2 ≤ x1 then
      some 0
    else
      some 1
  else
  if x0 = 61 then
    if x1 = x2 then
      some 1
    else
      some 0
  else
  kX_X7_by_172 g N x1 x2
theorem cx_X7_by : yX7_by.cls ≠ "java/lang/invoke/MethodHandle" ∧ yX7_by.cls ≠ "java/lang/invoke/VarHandle" ∧ (parseMethodDescriptor yX7_by.desc).map (fun d => d.parameters.length) = some 3 := by decide +kernel
theorem met_X7_by {l : Launch} {g : XC} {D : va_G} {A : Nat → Prop} (N : Nat) (S : XS) (x0 : Int32) (x1 : Int32) (x2 : Int32) (w : Int32) (hm : kX_X7_by g N x0 x1 x2 = some w) : Met l yX7_by (ws_ yX7_by cX7_by 3 (Option.some Jvm.ClassFile.FieldType.int)) (xRm g S 0) (xPre g D A [.int x0, .int x1, .int x2] S) (xQi g D A (S, w)) (g.2.1 - xTop S) (g.2.2.1 - xSl S) A := by
  refine x_start (own := RX7) (by decide +kernel) rfl (Nat.le_of_ble_eq_true rfl) (fun p e s m below meth c ls X hr hlk hnm hw hl => ?_)
  obtain ⟨hx, hb, -, hown, hts, -⟩ := id X
  have hl : lv_has ls 3 [(0, .int x0), (1, .int x1), (2, .int x2)] := hl
  have hg : ∀ (H : Heap) (locs : List Loc) (cells slots : Nat), xW g D A S s H → va_S A s.heap H locs → W p l e (xRm g S 0) s m ([.int x0, .int x1, .int x2] : List Value).toArray below meth c H locs cells slots (MQ below (xQi g D A (S, w)) ([.int x0, .int x1, .int x2] : List Value).toArray s (g.2.1 - xTop S) (g.2.2.1 - xSl S) A) (F0 m 0 ls []) := by
    intro H locs cells slots hw hS
    unfold kX_X7_by at hm
    refine lv_iload_n hx hb dX7_by_0 rfl (lv_at hl 0 rfl) ?_
    by_cases c1 : x0 = 38
    · replace hm := if_t c1 hm
      refine lv_tableIn (off := 157) (tgt := 158) hx hb dX7_by_1 (by rw [c1]; decide) (by rw [c1]; decide) (by rw [c1]; rfl) (by decide) ?_
      refine lv_iload_n hx hb dX7_by_158 rfl (lv_at hl 1 rfl) ?_
      refine lv_if_eq (tgt := 170) hx hb dX7_by_159 (by decide) (fun c2 => ?_) (fun c2 => ?_)
      · replace hm := if_t c2 hm
        refine lv_iconst (v := 0) hx hb dX7_by_170 (by decide) ?_
        obtain rfl := Option.some.inj hm
        exact xr_iret (v := 0) X hr hlk hw hS rfl dX7_by_171
      · replace hm := if_f c2 hm
        refine lv_iload_n hx hb dX7_by_162 rfl (lv_at hl 2 rfl) ?_
        refine lv_if_eq (tgt := 170) hx hb dX7_by_163 (by decide) (fun c3 => ?_) (fun c3 => ?_)
        · replace hm := if_t c3 hm
          refine lv_iconst (v := 0) hx hb dX7_by_170 (by decide) ?_
          obtain rfl := Option.some.inj hm
          exact xr_iret (v := 0) X hr hlk hw hS rfl dX7_by_171
        · replace hm := if_f c3 hm
          refine lv_iconst (v := 1) hx hb dX7_by_166 (by decide) ?_
          refine lv_goto (tgt := 171) hx hb dX7_by_167 (by decide) ?_
          obtain rfl := Option.some.inj hm
          exact xr_iret (v := 1) X hr hlk hw hS rfl dX7_by_171
    replace hm := if_f c1 hm
    by_cases c4 : x0 = 39
    · replace hm := if_t c4 hm
      refine lv_tableIn (off := 171) (tgt := 172) hx hb dX7_by_1 (by rw [c4]; decide) (by rw [c4]; decide) (by rw [c4]; rfl) (by decide) ?_
      exact wkX_X7_by_172 X hr hlk hnm N x1 x2 H locs ls _ _ hm hw hS (lv_sub hl [1, 2] rfl)
    replace hm := if_f c4 hm
    by_cases c5 : x0 = 40
    · replace hm := if_t c5 hm
      refine lv_tableIn (off := 171) (tgt := 172) hx hb dX7_by_1 (by rw [c5]; decide) (by rw [c5]; decide) (by rw [c5]; rfl) (by decide) ?_
      exact wkX_X7_by_172 X hr hlk hnm N x1 x2 H locs ls _ _ hm hw hS (lv_sub hl [1, 2] rfl)
    replace hm := if_f c5 hm
    by_cases c6 : x0 = 41
    · replace hm := if_t c6 hm
      refine lv_tableIn (off := 171) (tgt := 172) hx hb dX7_by_1 (by rw [c6]; decide) (by rw [c6]; decide) (by rw [c6]; rfl) (by decide) ?_
      exact wkX_X7_by_172 X hr hlk hnm N x1 x2 H locs ls _ _ hm hw hS (lv_sub hl [1, 2] rfl)
    replace hm := if_f c6 hm
    by_cases c7 : x0 = 42
    · replace hm := if_t c7 hm
      refine lv_tableIn (off := 119) (tgt := 120) hx hb dX7_by_1 (by rw [c7]; decide) (by rw [c7]; decide) (by rw [c7]; rfl) (by decide) ?_
      refine lv_iload_n hx hb dX7_by_120 rfl (lv_at hl 1 rfl) ?_
      refine lv_iload_n hx hb dX7_by_121 rfl (lv_at hl 2 rfl) ?_
      refine lv_imul hx hb dX7_by_122 ?_
      obtain rfl := Option.some.inj hm
      exact xr_iret (v := (x1 * x2)) X hr hlk hw hS rfl dX7_by_123
    replace hm := if_f c7 hm
    by_cases c8 : x0 = 43
    · replace hm := if_t c8 hm
      refine lv_tableIn (off := 111) (tgt := 112) hx hb dX7_by_1 (by rw [c8]; decide) (by rw [c8]; decide) (by rw [c8]; rfl) (by decide) ?_
      refine lv_iload_n hx hb dX7_by_112 rfl (lv_at hl 1 rfl) ?_
      refine lv_iload_n hx hb dX7_by_113 rfl (lv_at hl 2 rfl) ?_
      refine lv_iadd hx hb dX7_by_114 ?_
      obtain rfl := Option.some.inj hm
      exact xr_iret (v := (x1 + x2)) X hr hlk hw hS rfl dX7_by_115
    replace hm := if_f c8 hm
    by_cases c9 : x0 = 44
    · replace hm := if_t c9 hm
      refine lv_tableIn (off := 171) (tgt := 172) hx hb dX7_by_1 (by rw [c9]; decide) (by rw [c9]; decide) (by rw [c9]; rfl) (by decide) ?_
      exact wkX_X7_by_172 X hr hlk hnm N x1 x2 H locs ls _ _ hm hw hS (lv_sub hl [1, 2] rfl)
    replace hm := if_f c9 hm
    by_cases c10 : x0 = 45
    · replace hm := if_t c10 hm
      refine lv_tableIn (off := 115) (tgt := 116) hx hb dX7_by_1 (by rw [c10]; decide) (by rw [c10]; decide) (by rw [c10]; rfl) (by decide) ?_
      refine lv_iload_n hx hb dX7_by_116 rfl (lv_at hl 1 rfl) ?_
      refine lv_iload_n hx hb dX7_by_117 rfl (lv_at hl 2 rfl) ?_
      refine lv_isub hx hb dX7_by_118 ?_
      obtain rfl := Option.some.inj hm
      exact xr_iret (v := (x1 - x2)) X hr hlk hw hS rfl dX7_by_119
    replace hm := if_f c10 hm
    by_cases c11 : x0 = 46
    · replace hm := if_t c11 hm
      refine lv_tableIn (off := 171) (tgt := 172) hx hb dX7_by_1 (by rw [c11]; decide) (by rw [c11]; decide) (by rw [c11]; rfl) (by decide) ?_
      exact wkX_X7_by_172 X hr hlk hnm N x1 x2 H locs ls _ _ hm hw hS (lv_sub hl [1, 2] rfl)
    replace hm := if_f c11 hm
    by_cases c12 : x0 = 47
    · replace hm := if_t c12 hm
      refine lv_tableIn (off := 123) (tgt := 124) hx hb dX7_by_1 (by rw [c12]; decide) (by rw [c12]; decide) (by rw [c12]; rfl) (by decide) ?_
      refine lv_iload_n hx hb dX7_by_124 rfl (lv_at hl 2 rfl) ?_
      refine lv_if_ne (tgt := 132) hx hb dX7_by_125 (by decide) (fun c13 => ?_) (fun c13 => ?_)
      · replace hm := if_f c13 hm
        refine lv_iload_n hx hb dX7_by_132 rfl (lv_at hl 1 rfl) ?_
        refine lv_iload_n hx hb dX7_by_133 rfl (lv_at hl 2 rfl) ?_
        by_cases c14 : x2 = 0
        · replace hm := if_t c14 hm
          cases hm
        replace hm := if_f c14 hm
        refine lv_idiv hx hb dX7_by_134 c14 ?_
        refine lv_topi (fun v15 ev15 => ?_)
        replace hm := bnd_s hm ev15
        obtain rfl := Option.some.inj hm
        exact xr_iret (v := v15) X hr hlk hw hS rfl dX7_by_135
      · replace hm := if_t c13 hm
        refine lv_iconst (v := 0) hx hb dX7_by_128 (by decide) ?_
        refine lv_goto (tgt := 135) hx hb dX7_by_129 (by decide) ?_
        obtain rfl := Option.some.inj hm
        exact xr_iret (v := 0) X hr hlk hw hS rfl dX7_by_135
    replace hm := if_f c12 hm
    by_cases c16 : x0 = 48
    · replace hm := if_t c16 hm
      refine lv_tableIn (off := 171) (tgt := 172) hx hb dX7_by_1 (by rw [c16]; decide) (by rw [c16]; decide) (by rw [c16]; rfl) (by decide) ?_
      exact wkX_X7_by_172 X hr hlk hnm N x1 x2 H locs ls _ _ hm hw hS (lv_sub hl [1, 2] rfl)
    replace hm := if_f c16 hm
    by_cases c17 : x0 = 49
    · replace hm := if_t c17 hm
      refine lv_tableIn (off := 171) (tgt := 172) hx hb dX7_by_1 (by rw [c17]; decide) (by rw [c17]; decide) (by rw [c17]; rfl) (by decide) ?_
      exact wkX_X7_by_172 X hr hlk hnm N x1 x2 H locs ls _ _ hm hw hS (lv_sub hl [1, 2] rfl)
    replace hm := if_f c17 hm
    by_cases c18 : x0 = 50
    · replace hm := if_t c18 hm
      refine lv_tableIn (off := 171) (tgt := 172) hx hb dX7_by_1 (by rw [c18]; decide) (by rw [c18]; decide) (by rw [c18]; rfl) (by decide) ?_
      exact wkX_X7_by_172 X hr hlk hnm N x1 x2 H locs ls _ _ hm hw hS (lv_sub hl [1, 2] rfl)
    replace hm := if_f c18 hm
    by_cases c19 : x0 = 51
    · replace hm := if_t c19 hm
      refine lv_tableIn (off := 171) (tgt := 172) hx hb dX7_by_1 (by rw [c19]; decide) (by rw [c19]; decide) (by rw [c19]; rfl) (by decide) ?_
      exact wkX_X7_by_172 X hr hlk hnm N x1 x2 H locs ls _ _ hm hw hS (lv_sub hl [1, 2] rfl)
    replace hm := if_f c19 hm
    by_cases c20 : x0 = 52
    · replace hm := if_t c20 hm
      refine lv_tableIn (off := 171) (tgt := 172) hx hb dX7_by_1 (by rw [c20]; decide) (by rw [c20]; decide) (by rw [c20]; rfl) (by decide) ?_
      exact wkX_X7_by_172 X hr hlk hnm N x1 x2 H locs ls _ _ hm hw hS (lv_sub hl [1, 2] rfl)
    replace hm := if_f c20 hm
    by_cases c21 : x0 = 53
    · replace hm := if_t c21 hm
      refine lv_tableIn (off := 171) (tgt := 172) hx hb dX7_by_1 (by rw [c21]; decide) (by rw [c21]; decide) (by rw [c21]; rfl) (by decide) ?_
      exact wkX_X7_by_172 X hr hlk hnm N x1 x2 H locs ls _ _ hm hw hS (lv_sub hl [1, 2] rfl)
    replace hm := if_f c21 hm
    by_cases c22 : x0 = 54
    · replace hm := if_t c22 hm
      refine lv_tableIn (off := 171) (tgt := 172) hx hb dX7_by_1 (by rw [c22]; decide) (by rw [c22]; decide) (by rw [c22]; rfl) (by decide) ?_
      exact wkX_X7_by_172 X hr hlk hnm N x1 x2 H locs ls _ _ hm hw hS (lv_sub hl [1, 2] rfl)
    replace hm := if_f c22 hm
    by_cases c23 : x0 = 55
    · replace hm := if_t c23 hm
      refine lv_tableIn (off := 171) (tgt := 172) hx hb dX7_by_1 (by rw [c23]; decide) (by rw [c23]; decide) (by rw [c23]; rfl) (by decide) ?_
      exact wkX_X7_by_172 X hr hlk hnm N x1 x2 H locs ls _ _ hm hw hS (lv_sub hl [1, 2] rfl)
    replace hm := if_f c23 hm
    by_cases c24 : x0 = 56
    · replace hm := if_t c24 hm
      refine lv_tableIn (off := 171) (tgt := 172) hx hb dX7_by_1 (by rw [c24]; decide) (by rw [c24]; decide) (by rw [c24]; rfl) (by decide) ?_
      exact wkX_X7_by_172 X hr hlk hnm N x1 x2 H locs ls _ _ hm hw hS (lv_sub hl [1, 2] rfl)
    replace hm := if_f c24 hm
    by_cases c25 : x0 = 57
    · replace hm := if_t c25 hm
      refine lv_tableIn (off := 171) (tgt := 172) hx hb dX7_by_1 (by rw [c25]; decide) (by rw [c25]; decide) (by rw [c25]; rfl) (by decide) ?_
      exact wkX_X7_by_172 X hr hlk hnm N x1 x2 H locs ls _ _ hm hw hS (lv_sub hl [1, 2] rfl)
    replace hm := if_f c25 hm
    by_cases c26 : x0 = 58
    · replace hm := if_t c26 hm
      refine lv_tableIn (off := 171) (tgt := 172) hx hb dX7_by_1 (by rw [c26]; decide) (by rw [c26]; decide) (by rw [c26]; rfl) (by decide) ?_
      exact wkX_X7_by_172 X hr hlk hnm N x1 x2 H locs ls _ _ hm hw hS (lv_sub hl [1, 2] rfl)
    replace hm := if_f c26 hm
    by_cases c27 : x0 = 59
    · replace hm := if_t c27 hm
      refine lv_tableIn (off := 171) (tgt := 172) hx hb dX7_by_1 (by rw [c27]; decide) (by rw [c27]; decide) (by rw [c27]; rfl) (by decide) ?_
      exact wkX_X7_by_172 X hr hlk hnm N x1 x2 H locs ls _ _ hm hw hS (lv_sub hl [1, 2] rfl)
    replace hm := if_f c27 hm
    by_cases c28 : x0 = 60
    · replace hm := if_t c28 hm
      refine lv_tableIn (off := 135) (tgt := 136) hx hb dX7_by_1 (by rw [c28]; decide) (by rw [c28]; decide) (by rw [c28]; rfl) (by decide) ?_
      refine lv_iload_n hx hb dX7_by_136 rfl (lv_at hl 1 rfl) ?_
      refine lv_iload_n hx hb dX7_by_137 rfl (lv_at hl 2 rfl) ?_
      refine lv_icmp_ge (tgt := 145) hx hb dX7_by_138 (by decide) (fun c29 => ?_) (fun c29 => ?_)
      · replace hm := if_t c29 hm
        refine lv_iconst (v := 0) hx hb dX7_by_145 (by decide) ?_
        obtain rfl := Option.some.inj hm
        exact xr_iret (v := 0) X hr hlk hw hS rfl dX7_by_146
      · replace hm := if_f c29 hm
        refine lv_iconst (v := 1) hx hb dX7_by_141 (by decide) ?_
        refine lv_goto (tgt := 146) hx hb dX7_by_142 (by decide) ?_
        obtain rfl := Option.some.inj hm
        exact xr_iret (v := 1) X hr hlk hw hS rfl dX7_by_146
    replace hm := if_f c28 hm
    by_cases c30 : x0 = 61
    · replace hm := if_t c30 hm
      refine lv_tableIn (off := 146) (tgt := 147) hx hb dX7_by_1 (by rw [c30]; decide) (by rw [c30]; decide) (by rw [c30]; rfl) (by decide) ?_
      refine lv_iload_n hx hb dX7_by_147 rfl (lv_at hl 1 rfl) ?_
      refine lv_iload_n hx hb dX7_by_148 rfl (lv_at hl 2 rfl) ?_
      refine lv_icmp_ne (tgt := 156) hx hb dX7_by_149 (by decide) (fun c31 => ?_) (fun c31 => ?_)
      · replace hm := if_f c31 hm
        refine lv_iconst (v := 0) hx hb dX7_by_156 (by decide) ?_
        obtain rfl := Option.some.inj hm
        exact xr_iret (v := 0) X hr hlk hw hS rfl dX7_by_157
      · replace hm := if_t c31 hm
        refine lv_iconst (v := 1) hx hb dX7_by_152 (by decide) ?_
        refine lv_goto (tgt := 157) hx hb dX7_by_153 (by decide) ?_
        obtain rfl := Option.some.inj hm
        exact xr_iret (v := 1) X hr hlk hw hS rfl dX7_by_157
    replace hm := if_f c30 hm
    refine lv_tableOut (tgt := 172) hx hb dX7_by_1 (tab_out x0 [38, 39, 40, 41, 42, 43, 44, 45, 46, 47, 48, 49, 50, 51, 52, 53, 54, 55, 56, 57, 58, 59, 60, 61] (by decide) (by simp only [List.forall_mem_cons]; exact ⟨c1, c4, c5, c6, c7, c8, c9, c10, c11, c12, c16, c17, c18, c19, c20, c21, c22, c23, c24, c25, c26, c27, c28, c30, fun _ h => absurd h List.not_mem_nil⟩)) (by decide) ?_
    exact wkX_X7_by_172 X hr hlk hnm N x1 x2 H locs ls _ _ hm hw hS (lv_sub hl [1, 2] rfl)
  exact hg _ _ _ _ hw va_S.rf
/-! DripCups$Chain.of -/
theorem cx_X7_of : yX7_of.cls = RX7 ∧ yX7_of.cls ≠ "java/lang/invoke/MethodHandle" ∧ yX7_of.cls ≠ "java/lang/invoke/VarHandle" ∧ (parseMethodDescriptor yX7_of.desc).map (fun d => d.parameters.length) = some 1 := by decide +kernel
def kX_X7_of_22 (g : XC) (N : Nat) (E : XS → Nat → Nat → Option (XS × Int32)) : Nat → XS → Nat → Nat → Int32 → Int32 → Option (XS × Int32)
  | 0, _, _, _, _, _ => none
  | n + 1, S, x0, x1, x2, x3 =>
    (f_obj S 5 x0 0).bind fun v1 =>
    (f_cls S 10 v1).bind fun u2 =>
    (kX_J2_size g N S v1).bind fun w3 =>
    if w3.2 ≤ x3 then
      some (w3.1, x2)
    else
      (f_obj w3.1 5 x0 1).bind fun v5 =>
      (f_cls w3.1 11 v5).bind fun u6 =>
      (kX_J14_charAt g N w3.1 v5 (x3 - 1)).bind fun w7 =>
      (f_obj w7.1 5 x0 0).bind fun v8 =>
      (f_cls w7.1 10 v8).bind fun u9 =>
      (kX_J2_get g N w7.1 v8 x3).bind fun w10 =>
      (f_form w10.1 w10.2).bind fun k11 =>
      (E w10.1 w10.2 x1).bind fun w12 =>
      (kX_X7_by g N w7.2 x2 w12.2).bind fun w13 =>
      kX_X7_of_22 g N E n w12.1 x0 x1 w13 (x3 + 1)
theorem wkX_X7_of_22 {p : Program} {l : Launch} {e : Env} {s : State} {m : MethodId} {args : Array Value} {below : List Frame} {meth : Method} {c : Code} {g : XC} {D : va_G} {A : Nat → Prop} {S0 : XS} {w : XS × Int32} (X : xX g D A RX7 S0 p s m args c cX7_of 4) (hr : meth.sig.returnType = (Option.some Jvm.ClassFile.FieldType.int)) (hlk : meth.locks = false) (hnm : meth.name = yX7_of.name) (N : Nat) (nE : Nat) (E : XS → Nat → Nat → Option (XS × Int32)) (hE : x_FormOK l g D A (nE + 5) E) :
    ∀ (n : Nat) (S : XS) (x0 : Nat) (x1 : Nat) (x2 : Int32) (x3 : Int32) (H : Heap) (locs : List Loc) (ls : Array Slot) (cells slots : Nat), kX_X7_of_22 g N E n S x0 x1 x2 x3 = some w → xW g D A S s H → va_S A s.heap H locs → lv_has ls 4 [(0, .ref x0), (1, .ref x1), (2, .int x2), (3, .int x3)] → W p l e (xRm g S0 (nE + 6)) s m args below meth c H locs cells slots (MQ below (xQi g D A w) args s (g.2.1 - xTop S0) (g.2.2.1 - xSl S0) A) (F0 m 22 ls []) := by
  obtain ⟨hx, hb, -, hown, hts, -⟩ := id X
  intro n
  induction n with
  | zero =>
    intro S x0 x1 x2 x3 H locs ls cells slots hm
    cases hm
  | succ n ih =>
    intro S x0 x1 x2 x3 H locs ls cells slots hm hw hS hl
    rw [kX_X7_of_22] at hm
    refine lv_iload_n hx hb dX7_of_22 rfl (lv_at hl 3 rfl) ?_
    refine lv_aload_n hx hb dX7_of_23 rfl (lv_at hl 0 rfl) ?_
    obtain ⟨v1, hv1, hm⟩ := ob_s hm
    refine xr_val X hw xc5 in_X7 0 (by decide) q1033 (f_obj_s hv1) dX7_of_24 ?_
    obtain ⟨u2, hu2, hm⟩ := ob_s hm
    obtain ⟨w3, hw3, hm⟩ := ob_s hm
    refine xr_ret5i hS (xr_runF (x := ⟨"java/util/List", "size", "()I"⟩) X hw (met_J2_size N S v1 w3 hw3) (x_cf X (lv := 0) (by omega) (by decide) ci_List_size q537 q429 q431 q119 q433 q428 q427 q432 q430 q361) xc10 hu2 rfl hl.1 rfl (Nat.le_of_ble_eq_true rfl) dX7_of_27) (fun H locs cells slots hw hS => ?_)
    refine lv_icmp_ge (tgt := 75) hx hb dX7_of_32 (by decide) (fun c4 => ?_) (fun c4 => ?_)
    · replace hm := if_t c4 hm
      refine lv_iload_n hx hb dX7_of_75 rfl (lv_at hl 2 rfl) ?_
      obtain rfl := Option.some.inj hm
      exact xr_iret (v := x2) X hr hlk hw hS rfl dX7_of_76
    · replace hm := if_f c4 hm
      refine lv_aload_n hx hb dX7_of_35 rfl (lv_at hl 0 rfl) ?_
      obtain ⟨v5, hv5, hm⟩ := ob_s hm
      refine xr_val X hw xc5 in_X7 1 (by decide) q1034 (f_obj_s hv5) dX7_of_36 ?_
      refine lv_iload_n hx hb dX7_of_39 rfl (lv_at hl 3 rfl) ?_
      refine lv_iconst (v := 1) hx hb dX7_of_40 (by decide) ?_
      refine lv_isub hx hb dX7_of_41 ?_
      obtain ⟨u6, hu6, hm⟩ := ob_s hm
      obtain ⟨w7, hw7, hm⟩ := ob_s hm
      refine xr_reti hS (xr_runV X hw (met_J14_charAt N w3.1 v5 (x3 - 1) w7 hw7) (x_cv X (lv := 3) (by omega) (by decide) cx_J14_charAt (lw_V q538 q539 q540 q138 q541)) xc11 hu6 rfl hl.1 rfl (Nat.le_of_ble_eq_true rfl) dX7_of_42) (fun H locs cells slots hw hS => ?_)
      refine lv_iload_n hx hb dX7_of_45 rfl (lv_at hl 2 rfl) ?_
      refine lv_aload_n hx hb dX7_of_46 rfl (lv_at hl 0 rfl) ?_
      obtain ⟨v8, hv8, hm⟩ := ob_s hm
      refine xr_val X hw xc5 in_X7 0 (by decide) q1033 (f_obj_s hv8) dX7_of_47 ?_
      refine lv_iload_n hx hb dX7_of_50 rfl (lv_at hl 3 rfl) ?_
      obtain ⟨u9, hu9, hm⟩ := ob_s hm
      obtain ⟨w10, hw10, hm⟩ := ob_s hm
      refine xr_ret5r hS (xr_runF (x := ⟨"java/util/List", "get", "(I)Ljava/lang/Object;"⟩) X hw (met_J2_get N w7.1 v8 x3 w10 hw10) (x_cf X (lv := 2) (by omega) (by decide) ci_List_get q512 q487 q489 q119 q491 q486 q485 q490 q488 q361) xc10 hu9 rfl hl.1 rfl (Nat.le_of_ble_eq_true rfl) dX7_of_51) (fun H locs cells slots hw hS => ?_)
      obtain ⟨k11, hk11, hm⟩ := ob_s hm
      refine xr_castF X hw hk11 q513 dX7_of_56 ?_
      refine lv_aload_n hx hb dX7_of_59 rfl (lv_at hl 1 rfl) ?_
      obtain ⟨w12, hw12, hm⟩ := ob_s hm
      refine xr_ret5i hS (xr_runForm (lv := nE + 5) X hw hE hw12 (by omega) q515 hl.1 rfl (Nat.le_of_ble_eq_true rfl) dX7_of_60) (fun H locs cells slots hw hS => ?_)
      obtain ⟨w13, hw13, hm⟩ := ob_s hm
      refine xr_reti hS (xr_runS X hw (met_X7_by N w12.1 w7.2 x2 w12.2 w13 hw13) (x_cs X (lv := 0) (by omega) (by decide) cx_X7_by (lw_S q565 q566 q134 q567)) rfl hl.1 rfl (Nat.le_of_ble_eq_true rfl) dX7_of_65) (fun H locs cells slots hw hS => ?_)
      refine lv_istore_n (lv' := [(2, .int w13), (0, .ref x0), (1, .ref x1), (3, .int x3)]) hx hb dX7_of_68 rfl hl (by decide) rfl (fun ls hl => ?_)
      refine lv_iinc (v := (x3 + 1)) (lv' := [(3, .int (x3 + 1)), (2, .int w13), (0, .ref x0), (1, .ref x1)]) hx hb dX7_of_69 hl (k := 3) rfl rfl (by decide) rfl (fun ls hl => ?_)
      refine lv_goto (tgt := 22) hx hb dX7_of_72 (by decide) ?_
      exact ih w12.1 x0 x1 w13 (x3 + 1) H locs ls _ _ hm hw hS (lv_sub hl [2, 3, 1, 0] rfl)
def kX_X7_of (g : XC) (N : Nat) (E : XS → Nat → Nat → Option (XS × Int32)) (S : XS) (x0 : Nat) (x1 : Nat) : Option (XS × Int32) :=
  (f_obj S 5 x0 0).bind fun v1 =>
  (f_cls S 10 v1).bind fun u2 =>
  (kX_J2_get g N S v1 0).bind fun w3 =>
  (f_form w3.1 w3.2).bind fun k4 =>
  (E w3.1 w3.2 x1).bind fun w5 =>
  kX_X7_of_22 g N E N w5.1 x0 x1 w5.2 1
theorem met_X7_of {l : Launch} {g : XC} {D : va_G} {A : Nat → Prop} (N : Nat) (nE : Nat) (E : XS → Nat → Nat → Option (XS × Int32)) (hE : x_FormOK l g D A (nE + 5) E) (S : XS) (x0 : Nat) (x1 : Nat) (w : XS × Int32) (hm : kX_X7_of g N E S x0 x1 = some w) : Met l yX7_of (ws_ yX7_of cX7_of 4 (Option.some Jvm.ClassFile.FieldType.int)) (xRm g S (nE + 6)) (xPre g D A [.ref x0, .ref x1] S) (xQi g D A w) (g.2.1 - xTop S) (g.2.2.1 - xSl S) A := by
  refine x_start (own := RX7) (by decide +kernel) rfl (Nat.le_of_ble_eq_true rfl) (fun p e s m below meth c ls X hr hlk hnm hw hl => ?_)
  obtain ⟨hx, hb, -, hown, hts, -⟩ := id X
  have hl : lv_has ls 4 [(0, .ref x0), (1, .ref x1)] := hl
  have hg : ∀ (H : Heap) (locs : List Loc) (cells slots : Nat), xW g D A S s H → va_S A s.heap H locs → W p l e (xRm g S (nE + 6)) s m ([.ref x0, .ref x1] : List Value).toArray below meth c H locs cells slots (MQ below (xQi g D A w) ([.ref x0, .ref x1] : List Value).toArray s (g.2.1 - xTop S) (g.2.2.1 - xSl S) A) (F0 m 0 ls []) := by
    intro H locs cells slots hw hS
    unfold kX_X7_of at hm
    refine lv_aload_n hx hb dX7_of_0 rfl (lv_at hl 0 rfl) ?_
    obtain ⟨v1, hv1, hm⟩ := ob_s hm
    refine xr_val X hw xc5 in_X7 0 (by decide) q1033 (f_obj_s hv1) dX7_of_1 ?_
    refine lv_iconst (v := 0) hx hb dX7_of_4 (by decide) ?_
    obtain ⟨u2, hu2, hm⟩ := ob_s hm
    obtain ⟨w3, hw3, hm⟩ := ob_s hm
    refine xr_ret5r hS (xr_runF (x := ⟨"java/util/List", "get", "(I)Ljava/lang/Object;"⟩) X hw (met_J2_get N S v1 0 w3 hw3) (x_cf X (lv := 2) (by omega) (by decide) ci_List_get q512 q487 q489 q119 q491 q486 q485 q490 q488 q361) xc10 hu2 rfl hl.1 rfl (Nat.le_of_ble_eq_true rfl) dX7_of_5) (fun H locs cells slots hw hS => ?_)
    obtain ⟨k4, hk4, hm⟩ := ob_s hm
    refine xr_castF X hw hk4 q513 dX7_of_10 ?_
    refine lv_aload_n hx hb dX7_of_13 rfl (lv_at hl 1 rfl) ?_
    obtain ⟨w5, hw5, hm⟩ := ob_s hm
    refine xr_ret5i hS (xr_runForm (lv := nE + 5) X hw hE hw5 (by omega) q515 hl.1 rfl (Nat.le_of_ble_eq_true rfl) dX7_of_14) (fun H locs cells slots hw hS => ?_)
    refine lv_istore_n (lv' := [(2, .int w5.2), (0, .ref x0), (1, .ref x1)]) hx hb dX7_of_19 rfl hl (by decide) rfl (fun ls hl => ?_)
    refine lv_iconst (v := 1) hx hb dX7_of_20 (by decide) ?_
    refine lv_istore_n (lv' := [(3, .int 1), (2, .int w5.2), (0, .ref x0), (1, .ref x1)]) hx hb dX7_of_21 rfl hl (by decide) rfl (fun ls hl => ?_)
    exact wkX_X7_of_22 X hr hlk hnm N nE E hE N w5.1 x0 x1 w5.2 1 H locs ls _ _ hm hw hS (lv_sub hl [2, 3, 1, 0] rfl)
  exact hg _ _ _ _ hw va_S.rf
/-! DripCups$Number.of -/
theorem cx_X8_of : yX8_of.cls = RX8 ∧ yX8_of.cls ≠ "java/lang/invoke/MethodHandle" ∧ yX8_of.cls ≠ "java/lang/invoke/VarHandle" ∧ (parseMethodDescriptor yX8_of.desc).map (fun d => d.parameters.length) = some 1 := by decide +kernel
def kX_X8_of (g : XC) (N : Nat) (E : XS → Nat → Nat → Option (XS × Int32)) (S : XS) (x0 : Nat) (x1 : Nat) : Option (XS × Int32) :=
  (f_int S 6 x0 0).bind fun v1 =>
  some (S, v1)
theorem met_X8_of {l : Launch} {g : XC} {D : va_G} {A : Nat → Prop} (N : Nat) (nE : Nat) (E : XS → Nat → Nat → Option (XS × Int32)) (hE : x_FormOK l g D A (nE + 5) E) (S : XS) (x0 : Nat) (x1 : Nat) (w : XS × Int32) (hm : kX_X8_of g N E S x0 x1 = some w) : Met l yX8_of (ws_ yX8_of cX8_of 2 (Option.some Jvm.ClassFile.FieldType.int)) (xRm g S (nE + 6)) (xPre g D A [.ref x0, .ref x1] S) (xQi g D A w) (g.2.1 - xTop S) (g.2.2.1 - xSl S) A := by
  refine x_start (own := RX8) (by decide +kernel) rfl (Nat.le_of_ble_eq_true rfl) (fun p e s m below meth c ls X hr hlk hnm hw hl => ?_)
  obtain ⟨hx, hb, -, hown, hts, -⟩ := id X
  have hl : lv_has ls 2 [(0, .ref x0), (1, .ref x1)] := hl
  have hg : ∀ (H : Heap) (locs : List Loc) (cells slots : Nat), xW g D A S s H → va_S A s.heap H locs → W p l e (xRm g S (nE + 6)) s m ([.ref x0, .ref x1] : List Value).toArray below meth c H locs cells slots (MQ below (xQi g D A w) ([.ref x0, .ref x1] : List Value).toArray s (g.2.1 - xTop S) (g.2.2.1 - xSl S) A) (F0 m 0 ls []) := by
    intro H locs cells slots hw hS
    unfold kX_X8_of at hm
    refine lv_aload_n hx hb dX8_of_0 rfl (lv_at hl 0 rfl) ?_
    obtain ⟨v1, hv1, hm⟩ := ob_s hm
    refine xr_val X hw xc6 in_X8 0 (by decide) q983 (f_int_s hv1) dX8_of_1 ?_
    obtain rfl := Option.some.inj hm
    exact xr_iret (v := v1) X hr hlk hw hS rfl dX8_of_4
  exact hg _ _ _ _ hw va_S.rf
/-! DripCups$Value.of -/
theorem cx_X9_of : yX9_of.cls = RX9 ∧ yX9_of.cls ≠ "java/lang/invoke/MethodHandle" ∧ yX9_of.cls ≠ "java/lang/invoke/VarHandle" ∧ (parseMethodDescriptor yX9_of.desc).map (fun d => d.parameters.length) = some 1 := by decide +kernel
def kX_X9_of (g : XC) (N : Nat) (E : XS → Nat → Nat → Option (XS × Int32)) (S : XS) (x0 : Nat) (x1 : Nat) : Option (XS × Int32) :=
  (f_int S 7 x0 0).bind fun v1 =>
  (a_int S 0 x1 v1).bind fun v2 =>
  some (S, v2)
theorem met_X9_of {l : Launch} {g : XC} {D : va_G} {A : Nat → Prop} (N : Nat) (nE : Nat) (E : XS → Nat → Nat → Option (XS × Int32)) (hE : x_FormOK l g D A (nE + 5) E) (S : XS) (x0 : Nat) (x1 : Nat) (w : XS × Int32) (hm : kX_X9_of g N E S x0 x1 = some w) : Met l yX9_of (ws_ yX9_of cX9_of 2 (Option.some Jvm.ClassFile.FieldType.int)) (xRm g S (nE + 6)) (xPre g D A [.ref x0, .ref x1] S) (xQi g D A w) (g.2.1 - xTop S) (g.2.2.1 - xSl S) A := by
  refine x_start (own := RX9) (by decide +kernel) rfl (Nat.le_of_ble_eq_true rfl) (fun p e s m below meth c ls X hr hlk hnm hw hl => ?_)
  obtain ⟨hx, hb, -, hown, hts, -⟩ := id X
  have hl : lv_has ls 2 [(0, .ref x0), (1, .ref x1)] := hl
  have hg : ∀ (H : Heap) (locs : List Loc) (cells slots : Nat), xW g D A S s H → va_S A s.heap H locs → W p l e (xRm g S (nE + 6)) s m ([.ref x0, .ref x1] : List Value).toArray below meth c H locs cells slots (MQ below (xQi g D A w) ([.ref x0, .ref x1] : List Value).toArray s (g.2.1 - xTop S) (g.2.2.1 - xSl S) A) (F0 m 0 ls []) := by
    intro H locs cells slots hw hS
    unfold kX_X9_of at hm
    refine lv_aload_n hx hb dX9_of_0 rfl (lv_at hl 1 rfl) ?_
    refine lv_aload_n hx hb dX9_of_1 rfl (lv_at hl 0 rfl) ?_
    obtain ⟨v1, hv1, hm⟩ := ob_s hm
    refine xr_val X hw xc7 in_X9 0 (by decide) q993 (f_int_s hv1) dX9_of_2 ?_
    obtain ⟨v2, hv2, hm⟩ := ob_s hm
    refine xr_iald X hw hv2 dX9_of_5 ?_
    obtain rfl := Option.some.inj hm
    exact xr_iret (v := v2) X hr hlk hw hS rfl dX9_of_6
  exact hg _ _ _ _ hw va_S.rf
/-! DripCups$Not.of -/
theorem cx_X10_of : yX10_of.cls = RX10 ∧ yX10_of.cls ≠ "java/lang/invoke/MethodHandle" ∧ yX10_of.cls ≠ "java/lang/invoke/VarHandle" ∧ (parseMethodDescriptor yX10_of.desc).map (fun d => d.parameters.length) = some 1 := by decide +kernel
def kX_X10_of (g : XC) (N : Nat) (E : XS → Nat → Nat → Option (XS × Int32)) (S : XS) (x0 : Nat) (x1 : Nat) : Option (XS × Int32) :=
  (f_obj S 8 x0 0).bind fun v1 =>
  (E S v1 x1).bind fun w2 =>
  if w2.2 = 0 then
    some (w2.1, 1)
  else
    some (w2.1, 0)
theorem met_X10_of {l : Launch} {g : XC} {D : va_G} {A : Nat → Prop} (N : Nat) (nE : Nat) (E : XS → Nat → Nat → Option (XS × Int32)) (hE : x_FormOK l g D A (nE + 5) E) (S : XS) (x0 : Nat) (x1 : Nat) (w : XS × Int32) (hm : kX_X10_of g N E S x0 x1 = some w) : Met l yX10_of (ws_ yX10_of cX10_of 2 (Option.some Jvm.ClassFile.FieldType.int)) (xRm g S (nE + 6)) (xPre g D A [.ref x0, .ref x1] S) (xQi g D A w) (g.2.1 - xTop S) (g.2.2.1 - xSl S) A := by
  refine x_start (own := RX10) (by decide +kernel) rfl (Nat.le_of_ble_eq_true rfl) (fun p e s m below meth c ls X hr hlk hnm hw hl => ?_)
  obtain ⟨hx, hb, -, hown, hts, -⟩ := id X
  have hl : lv_has ls 2 [(0, .ref x0), (1, .ref x1)] := hl
  have hg : ∀ (H : Heap) (locs : List Loc) (cells slots : Nat), xW g D A S s H → va_S A s.heap H locs → W p l e (xRm g S (nE + 6)) s m ([.ref x0, .ref x1] : List Value).toArray below meth c H locs cells slots (MQ below (xQi g D A w) ([.ref x0, .ref x1] : List Value).toArray s (g.2.1 - xTop S) (g.2.2.1 - xSl S) A) (F0 m 0 ls []) := by
    intro H locs cells slots hw hS
    unfold kX_X10_of at hm
    refine lv_aload_n hx hb dX10_of_0 rfl (lv_at hl 0 rfl) ?_
    obtain ⟨v1, hv1, hm⟩ := ob_s hm
    refine xr_val X hw xc8 in_X10 0 (by decide) q1118 (f_obj_s hv1) dX10_of_1 ?_
    refine lv_aload_n hx hb dX10_of_4 rfl (lv_at hl 1 rfl) ?_
    obtain ⟨w2, hw2, hm⟩ := ob_s hm
    refine xr_ret5i hS (xr_runForm (lv := nE + 5) X hw hE hw2 (by omega) q523 hl.1 rfl (Nat.le_of_ble_eq_true rfl) dX10_of_5) (fun H locs cells slots hw hS => ?_)
    refine lv_if_ne (tgt := 17) hx hb dX10_of_10 (by decide) (fun c3 => ?_) (fun c3 => ?_)
    · replace hm := if_f c3 hm
      refine lv_iconst (v := 0) hx hb dX10_of_17 (by decide) ?_
      obtain rfl := Option.some.inj hm
      exact xr_iret (v := 0) X hr hlk hw hS rfl dX10_of_18
    · replace hm := if_t c3 hm
      refine lv_iconst (v := 1) hx hb dX10_of_13 (by decide) ?_
      refine lv_goto (tgt := 18) hx hb dX10_of_14 (by decide) ?_
      obtain rfl := Option.some.inj hm
      exact xr_iret (v := 1) X hr hlk hw hS rfl dX10_of_18
  exact hg _ _ _ _ hw va_S.rf
/-- a form, asked: n is how deep its parts may lie -/
def kX_form (g : XC) (N : Nat) : Nat → XS → Nat → Nat → Option (XS × Int32)
  | 0, _, _, _ => none
  | n + 1, S, a, v => match f_form S a with
    | some 5 => kX_X7_of g N (kX_form g N n) S a v
    | some 6 => kX_X8_of g N (kX_form g N n) S a v
    | some 7 => kX_X9_of g N (kX_form g N n) S a v
    | some 8 => kX_X10_of g N (kX_form g N n) S a v
    | _ => none
theorem kX_formOK {l : Launch} {g : XC} {D : va_G} {A : Nat → Prop} (N : Nat) : ∀ n : Nat, x_FormOK l g D A (n + 5) (kX_form g N n) := by
  intro n
  induction n with
  | zero => intro S a v w h; cases h
  | succ n ih =>
    intro S a v w h
    rw [kX_form] at h
    split at h
    · rename_i hf; exact Or.inl ⟨hf, met_X7_of N n _ ih S a v w h⟩
    · rename_i hf; exact Or.inr (Or.inl ⟨hf, met_X8_of N n _ ih S a v w h⟩)
    · rename_i hf; exact Or.inr (Or.inr (Or.inl ⟨hf, met_X9_of N n _ ih S a v w h⟩))
    · rename_i hf; exact Or.inr (Or.inr (Or.inr (⟨hf, met_X10_of N n _ ih S a v w h⟩)))
    · cases h
