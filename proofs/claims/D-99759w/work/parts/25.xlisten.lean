/-! DripCups.listen -/
def kX_X1_listen_202 (g : XC) (N : Nat) (K100 : XS → Int32 → Nat → Int32 → Int32 → Int32 → Option ((XS × Int32) ⊕ XT)) (S : XS) (x1 : Int32) (x3 : Nat) (x4 : Int32) (x5 : Int32) (x6 : Int32) : Option ((XS × Int32) ⊕ XT) :=
  K100 S x1 x3 x4 x5 (x6 + 1)
theorem wkX_X1_listen_202 {p : Program} {l : Launch} {e : Env} {s : State} {m : MethodId} {args : Array Value} {below : List Frame} {meth : Method} {c : Code} {g : XC} {D : va_G} {A : Nat → Prop} {S0 : XS} {w : (XS × Int32) ⊕ XT} (X : xX g D A RX1 S0 p s m args c cX1_listen 11) (hr : meth.sig.returnType = (Option.some Jvm.ClassFile.FieldType.int)) (hlk : meth.locks = false) (hnm : meth.name = yX1_listen.name) (hlT : l.stackTraces = false) (hout : ∀ x ∈ c.exceptionTable.toList, False) (hw0 : xW g D A S0 s s.heap) (N : Nat) (K100 : XS → Int32 → Nat → Int32 → Int32 → Int32 → Option ((XS × Int32) ⊕ XT))
    (hK100 : ∀ (S : XS) (x1 : Int32) (x3 : Nat) (x4 : Int32) (x5 : Int32) (x6 : Int32) (H : Heap) (locs : List Loc) (ls : Array Slot) (cells slots : Nat), K100 S x1 x3 x4 x5 x6 = some w → xW g D A S s H → va_S A s.heap H locs → lv_has ls 11 [(1, .int x1), (3, .ref x3), (4, .int x4), (5, .int x5), (6, .int x6)] → W p l e (xRm g S0 83) s m args below meth c H locs cells slots (vx_MQ below (xTi g D A w) (xTx g D A w) args s (g.2.1 - xTop S0) (g.2.2.1 - xSl S0) A) (F0 m 100 ls [])) :
    ∀ (S : XS) (x1 : Int32) (x3 : Nat) (x4 : Int32) (x5 : Int32) (x6 : Int32) (H : Heap) (locs : List Loc) (ls : Array Slot) (cells slots : Nat), kX_X1_listen_202 g N K100 S x1 x3 x4 x5 x6 = some w → xW g D A S s H → va_S A s.heap H locs → lv_has ls 11 [(1, .int x1), (3, .ref x3), (4, .int x4), (5, .int x5), (6, .int x6)] → W p l e (xRm g S0 83) s m args below meth c H locs cells slots (vx_MQ below (xTi g D A w) (xTx g D A w) args s (g.2.1 - xTop S0) (g.2.2.1 - xSl S0) A) (F0 m 202 ls []) := by
  obtain ⟨hx, hb, -, hown, hts, -⟩ := id X
  intro S x1 x3 x4 x5 x6 H locs ls cells slots hm hw hS hl
  unfold kX_X1_listen_202 at hm
  refine lv_iinc (v := (x6 + 1)) (lv' := [(6, .int (x6 + 1)), (1, .int x1), (3, .ref x3), (4, .int x4), (5, .int x5)]) hx hb dX1_listen_202 hl (k := 4) rfl rfl (by decide) rfl (fun ls hl => ?_)
  refine lv_goto (tgt := 100) hx hb dX1_listen_205 (by decide) ?_
  exact hK100 S x1 x3 x4 x5 (x6 + 1) H locs ls _ _ hm hw hS (lv_sub hl [1, 2, 3, 4, 0] rfl)
def kX_X1_listen_176 (g : XC) (N : Nat) (K100 : XS → Int32 → Nat → Int32 → Int32 → Int32 → Option ((XS × Int32) ⊕ XT)) (K113 : XS → Int32 → Nat → Int32 → Int32 → Int32 → Int32 → Int32 → Option ((XS × Int32) ⊕ XT)) (S : XS) (x1 : Int32) (x3 : Nat) (x4 : Int32) (x5 : Int32) (x6 : Int32) (x7 : Int32) (x8 : Int32) : Option ((XS × Int32) ⊕ XT) :=
  K113 S x1 x3 x4 x5 x6 x7 (x8 + 1)
theorem wkX_X1_listen_176 {p : Program} {l : Launch} {e : Env} {s : State} {m : MethodId} {args : Array Value} {below : List Frame} {meth : Method} {c : Code} {g : XC} {D : va_G} {A : Nat → Prop} {S0 : XS} {w : (XS × Int32) ⊕ XT} (X : xX g D A RX1 S0 p s m args c cX1_listen 11) (hr : meth.sig.returnType = (Option.some Jvm.ClassFile.FieldType.int)) (hlk : meth.locks = false) (hnm : meth.name = yX1_listen.name) (hlT : l.stackTraces = false) (hout : ∀ x ∈ c.exceptionTable.toList, False) (hw0 : xW g D A S0 s s.heap) (N : Nat) (K100 : XS → Int32 → Nat → Int32 → Int32 → Int32 → Option ((XS × Int32) ⊕ XT)) (K113 : XS → Int32 → Nat → Int32 → Int32 → Int32 → Int32 → Int32 → Option ((XS × Int32) ⊕ XT))
    (hK100 : ∀ (S : XS) (x1 : Int32) (x3 : Nat) (x4 : Int32) (x5 : Int32) (x6 : Int32) (H : Heap) (locs : List Loc) (ls : Array Slot) (cells slots : Nat), K100 S x1 x3 x4 x5 x6 = some w → xW g D A S s H → va_S A s.heap H locs → lv_has ls 11 [(1, .int x1), (3, .ref x3), (4, .int x4), (5, .int x5), (6, .int x6)] → W p l e (xRm g S0 83) s m args below meth c H locs cells slots (vx_MQ below (xTi g D A w) (xTx g D A w) args s (g.2.1 - xTop S0) (g.2.2.1 - xSl S0) A) (F0 m 100 ls []))
    (hK113 : ∀ (S : XS) (x1 : Int32) (x3 : Nat) (x4 : Int32) (x5 : Int32) (x6 : Int32) (x7 : Int32) (x8 : Int32) (H : Heap) (locs : List Loc) (ls : Array Slot) (cells slots : Nat), K113 S x1 x3 x4 x5 x6 x7 x8 = some w → xW g D A S s H → va_S A s.heap H locs → lv_has ls 11 [(1, .int x1), (3, .ref x3), (4, .int x4), (5, .int x5), (6, .int x6), (7, .int x7), (8, .int x8)] → W p l e (xRm g S0 83) s m args below meth c H locs cells slots (vx_MQ below (xTi g D A w) (xTx g D A w) args s (g.2.1 - xTop S0) (g.2.2.1 - xSl S0) A) (F0 m 113 ls [])) :
    ∀ (S : XS) (x1 : Int32) (x3 : Nat) (x4 : Int32) (x5 : Int32) (x6 : Int32) (x7 : Int32) (x8 : Int32) (H : Heap) (locs : List Loc) (ls : Array Slot) (cells slots : Nat), kX_X1_listen_176 g N K100 K113 S x1 x3 x4 x5 x6 x7 x8 = some w → xW g D A S s H → va_S A s.heap H locs → lv_has ls 11 [(1, .int x1), (3, .ref x3), (4, .int x4), (5, .int x5), (6, .int x6), (7, .int x7), (8, .int x8)] → W p l e (xRm g S0 83) s m args below meth c H locs cells slots (vx_MQ below (xTi g D A w) (xTx g D A w) args s (g.2.1 - xTop S0) (g.2.2.1 - xSl S0) A) (F0 m 176 ls []) := by
  obtain ⟨hx, hb, -, hown, hts, -⟩ := id X
  intro S x1 x3 x4 x5 x6 x7 x8 H locs ls cells slots hm hw hS hl
  unfold kX_X1_listen_176 at hm
  refine lv_iinc (v := (x8 + 1)) (lv' := [(8, .int (x8 + 1)), (1, .int x1), (3, .ref x3), (4, .int x4), (5, .int x5), (6, .int x6), (7, .int x7)]) hx hb dX1_listen_176 hl (k := 6) rfl rfl (by decide) rfl (fun ls hl => ?_)
  refine lv_goto (tgt := 113) hx hb dX1_listen_179 (by decide) ?_
  exact hK113 S x1 x3 x4 x5 x6 x7 (x8 + 1) H locs ls _ _ hm hw hS (lv_sub hl [1, 2, 3, 4, 5, 6, 0] rfl)
def kX_X1_listen_168 (g : XC) (N : Nat) (K100 : XS → Int32 → Nat → Int32 → Int32 → Int32 → Option ((XS × Int32) ⊕ XT)) (K113 : XS → Int32 → Nat → Int32 → Int32 → Int32 → Int32 → Int32 → Option ((XS × Int32) ⊕ XT)) (S : XS) (x1 : Int32) (x3 : Nat) (x4 : Int32) (x5 : Int32) (x6 : Int32) (x7 : Int32) (x8 : Int32) (x9 : Int32) : Option ((XS × Int32) ⊕ XT) :=
  if x9 = 0 then
    kX_X1_listen_176 g N K100 K113 S x1 x3 x4 x5 x6 x7 x8
  else
    kX_X1_listen_176 g N K100 K113 S x1 x3 x4 x5 x6 (x7 + 1) x8
theorem wkX_X1_listen_168 {p : Program} {l : Launch} {e : Env} {s : State} {m : MethodId} {args : Array Value} {below : List Frame} {meth : Method} {c : Code} {g : XC} {D : va_G} {A : Nat → Prop} {S0 : XS} {w : (XS × Int32) ⊕ XT} (X : xX g D A RX1 S0 p s m args c cX1_listen 11) (hr : meth.sig.returnType = (Option.some Jvm.ClassFile.FieldType.int)) (hlk : meth.locks = false) (hnm : meth.name = yX1_listen.name) (hlT : l.stackTraces = false) (hout : ∀ x ∈ c.exceptionTable.toList, False) (hw0 : xW g D A S0 s s.heap) (N : Nat) (K100 : XS → Int32 → Nat → Int32 → Int32 → Int32 → Option ((XS × Int32) ⊕ XT)) (K113 : XS → Int32 → Nat → Int32 → Int32 → Int32 → Int32 → Int32 → Option ((XS × Int32) ⊕ XT))
    (hK100 : ∀ (S : XS) (x1 : Int32) (x3 : Nat) (x4 : Int32) (x5 : Int32) (x6 : Int32) (H : Heap) (locs : List Loc) (ls : Array Slot) (cells slots : Nat), K100 S x1 x3 x4 x5 x6 = some w → xW g D A S s H → va_S A s.heap H locs → lv_has ls 11 [(1, .int x1), (3, .ref x3), (4, .int x4), (5, .int x5), (6, .int x6)] → W p l e (xRm g S0 83) s m args below meth c H locs cells slots (vx_MQ below (xTi g D A w) (xTx g D A w) args s (g.2.1 - xTop S0) (g.2.2.1 - xSl S0) A) (F0 m 100 ls []))
    (hK113 : ∀ (S : XS) (x1 : Int32) (x3 : Nat) (x4 : Int32) (x5 : Int32) (x6 : Int32) (x7 : Int32) (x8 : Int32) (H : Heap) (locs : List Loc) (ls : Array Slot) (cells slots : Nat), K113 S x1 x3 x4 x5 x6 x7 x8 = some w → xW g D A S s H → va_S A s.heap H locs → lv_has ls 11 [(1, .int x1), (3, .ref x3), (4, .int x4), (5, .int x5), (6, .int x6), (7, .int x7), (8, .int x8)] → W p l e (xRm g S0 83) s m args below meth c H locs cells slots (vx_MQ below (xTi g D A w) (xTx g D A w) args s (g.2.1 - xTop S0) (g.2.2.1 - xSl S0) A) (F0 m 113 ls [])) :
    ∀ (S : XS) (x1 : Int32) (x3 : Nat) (x4 : Int32) (x5 : Int32) (x6 : Int32) (x7 : Int32) (x8 : Int32) (x9 : Int32) (H : Heap) (locs : List Loc) (ls : Array Slot) (cells slots : Nat), kX_X1_listen_168 g N K100 K113 S x1 x3 x4 x5 x6 x7 x8 x9 = some w → xW g D A S s H → va_S A s.heap H locs → lv_has ls 11 [(1, .int x1), (3, .ref x3), (4, .int x4), (5, .int x5), (6, .int x6), (7, .int x7), (8, .int x8), (9, .int x9)] → W p l e (xRm g S0 83) s m args below meth c H locs cells slots (vx_MQ below (xTi g D A w) (xTx g D A w) args s (g.2.1 - xTop S0) (g.2.2.1 - xSl S0) A) (F0 m 168 ls []) := by
  obtain ⟨hx, hb, -, hown, hts, -⟩ := id X
  intro S x1 x3 x4 x5 x6 x7 x8 x9 H locs ls cells slots hm hw hS hl
  unfold kX_X1_listen_168 at hm
  refine lv_iload hx hb dX1_listen_168 (lv_at hl 7 rfl) ?_
  refine lv_if_eq (tgt := 176) hx hb dX1_listen_170 (by decide) (fun c1 => ?_) (fun c1 => ?_)
  · replace hm := if_t c1 hm
    exact wkX_X1_listen_176 X hr hlk hnm hlT hout hw0 N K100 K113 hK100 hK113 S x1 x3 x4 x5 x6 x7 x8 H locs ls _ _ hm hw hS (lv_sub hl [0, 1, 2, 3, 4, 5, 6] rfl)
  · replace hm := if_f c1 hm
    refine lv_iinc (v := (x7 + 1)) (lv' := [(7, .int (x7 + 1)), (1, .int x1), (3, .ref x3), (4, .int x4), (5, .int x5), (6, .int x6), (8, .int x8), (9, .int x9)]) hx hb dX1_listen_173 hl (k := 5) rfl rfl (by decide) rfl (fun ls hl => ?_)
    exact wkX_X1_listen_176 X hr hlk hnm hlT hout hw0 N K100 K113 hK100 hK113 S x1 x3 x4 x5 x6 (x7 + 1) x8 H locs ls _ _ hm hw hS (lv_sub hl [1, 2, 3, 4, 5, 0, 6] rfl)
def kX_X1_listen_160 (g : XC) (N : Nat) (K100 : XS → Int32 → Nat → Int32 → Int32 → Int32 → Option ((XS × Int32) ⊕ XT)) (K113 : XS → Int32 → Nat → Int32 → Int32 → Int32 → Int32 → Int32 → Option ((XS × Int32) ⊕ XT)) (K126 : XS → Int32 → Nat → Int32 → Int32 → Int32 → Int32 → Int32 → Int32 → Int32 → Option ((XS × Int32) ⊕ XT)) (S : XS) (x1 : Int32) (x3 : Nat) (x4 : Int32) (x5 : Int32) (x6 : Int32) (x7 : Int32) (x8 : Int32) (x10 : Int32) (t0 : Int32) : Option ((XS × Int32) ⊕ XT) :=
  K126 S x1 x3 x4 x5 x6 x7 x8 t0 (x10 + 1)
theorem wkX_X1_listen_160 {p : Program} {l : Launch} {e : Env} {s : State} {m : MethodId} {args : Array Value} {below : List Frame} {meth : Method} {c : Code} {g : XC} {D : va_G} {A : Nat → Prop} {S0 : XS} {w : (XS × Int32) ⊕ XT} (X : xX g D A RX1 S0 p s m args c cX1_listen 11) (hr : meth.sig.returnType = (Option.some Jvm.ClassFile.FieldType.int)) (hlk : meth.locks = false) (hnm : meth.name = yX1_listen.name) (hlT : l.stackTraces = false) (hout : ∀ x ∈ c.exceptionTable.toList, False) (hw0 : xW g D A S0 s s.heap) (N : Nat) (K100 : XS → Int32 → Nat → Int32 → Int32 → Int32 → Option ((XS × Int32) ⊕ XT)) (K113 : XS → Int32 → Nat → Int32 → Int32 → Int32 → Int32 → Int32 → Option ((XS × Int32) ⊕ XT)) (K126 : XS → Int32 → Nat → Int32 → Int32 → Int32 → Int32 → Int32 → Int32 → Int32 → Option ((XS × Int32) ⊕ XT))
    (hK100 : ∀ (S : XS) (x1 : Int32) (x3 : Nat) (x4 : Int32) (x5 : Int32) (x6 : Int32) (H : Heap) (locs : List Loc) (ls : Array Slot) (cells slots : Nat), K100 S x1 x3 x4 x5 x6 = some w → xW g D A S s H → va_S A s.heap H locs → lv_has ls 11 [(1, .int x1), (3, .ref x3), (4, .int x4), (5, .int x5), (6, .int x6)] → W p l e (xRm g S0 83) s m args below meth c H locs cells slots (vx_MQ below (xTi g D A w) (xTx g D A w) args s (g.2.1 - xTop S0) (g.2.2.1 - xSl S0) A) (F0 m 100 ls []))
    (hK113 : ∀ (S : XS) (x1 : Int32) (x3 : Nat) (x4 : Int32) (x5 : Int32) (x6 : Int32) (x7 : Int32) (x8 : Int32) (H : Heap) (locs : List Loc) (ls : Array Slot) (cells slots : Nat), K113 S x1 x3 x4 x5 x6 x7 x8 = some w → xW g D A S s H → va_S A s.heap H locs → lv_has ls 11 [(1, .int x1), (3, .ref x3), (4, .int x4), (5, .int x5), (6, .int x6), (7, .int x7), (8, .int x8)] → W p l e (xRm g S0 83) s m args below meth c H locs cells slots (vx_MQ below (xTi g D A w) (xTx g D A w) args s (g.2.1 - xTop S0) (g.2.2.1 - xSl S0) A) (F0 m 113 ls []))
    (hK126 : ∀ (S : XS) (x1 : Int32) (x3 : Nat) (x4 : Int32) (x5 : Int32) (x6 : Int32) (x7 : Int32) (x8 : Int32) (x9 : Int32) (x10 : Int32) (H : Heap) (locs : List Loc) (ls : Array Slot) (cells slots : Nat), K126 S x1 x3 x4 x5 x6 x7 x8 x9 x10 = some w → xW g D A S s H → va_S A s.heap H locs → lv_has ls 11 [(1, .int x1), (3, .ref x3), (4, .int x4), (5, .int x5), (6, .int x6), (7, .int x7), (8, .int x8), (9, .int x9), (10, .int x10)] → W p l e (xRm g S0 83) s m args below meth c H locs cells slots (vx_MQ below (xTi g D A w) (xTx g D A w) args s (g.2.1 - xTop S0) (g.2.2.1 - xSl S0) A) (F0 m 126 ls [])) :
    ∀ (S : XS) (x1 : Int32) (x3 : Nat) (x4 : Int32) (x5 : Int32) (x6 : Int32) (x7 : Int32) (x8 : Int32) (x10 : Int32) (t0 : Int32) (H : Heap) (locs : List Loc) (ls : Array Slot) (cells slots : Nat), kX_X1_listen_160 g N K100 K113 K126 S x1 x3 x4 x5 x6 x7 x8 x10 t0 = some w → xW g D A S s H → va_S A s.heap H locs → lv_has ls 11 [(1, .int x1), (3, .ref x3), (4, .int x4), (5, .int x5), (6, .int x6), (7, .int x7), (8, .int x8), (10, .int x10)] → W p l e (xRm g S0 83) s m args below meth c H locs cells slots (vx_MQ below (xTi g D A w) (xTx g D A w) args s (g.2.1 - xTop S0) (g.2.2.1 - xSl S0) A) (F0 m 160 ls [.int t0]) := by
  obtain ⟨hx, hb, -, hown, hts, -⟩ := id X
  intro S x1 x3 x4 x5 x6 x7 x8 x10 t0 H locs ls cells slots hm hw hS hl
  unfold kX_X1_listen_160 at hm
  refine lv_istore (lv' := [(9, .int t0), (1, .int x1), (3, .ref x3), (4, .int x4), (5, .int x5), (6, .int x6), (7, .int x7), (8, .int x8), (10, .int x10)]) hx hb dX1_listen_160 hl (by decide) rfl (fun ls hl => ?_)
  refine lv_iinc (v := (x10 + 1)) (lv' := [(10, .int (x10 + 1)), (9, .int t0), (1, .int x1), (3, .ref x3), (4, .int x4), (5, .int x5), (6, .int x6), (7, .int x7), (8, .int x8)]) hx hb dX1_listen_162 hl (k := 8) rfl rfl (by decide) rfl (fun ls hl => ?_)
  refine lv_goto (tgt := 126) hx hb dX1_listen_165 (by decide) ?_
  exact hK126 S x1 x3 x4 x5 x6 x7 x8 t0 (x10 + 1) H locs ls _ _ hm hw hS (lv_sub hl [2, 3, 4, 5, 6, 7, 8, 1, 0] rfl)
def kX_X1_listen_126 (g : XC) (N : Nat) (K100 : XS → Int32 → Nat → Int32 → Int32 → Int32 → Option ((XS × Int32) ⊕ XT)) (K113 : XS → Int32 → Nat → Int32 → Int32 → Int32 → Int32 → Int32 → Option ((XS × Int32) ⊕ XT)) : Nat → XS → Int32 → Nat → Int32 → Int32 → Int32 → Int32 → Int32 → Int32 → Int32 → Option ((XS × Int32) ⊕ XT)
  | 0, _, _, _, _, _, _, _, _, _, _ => none
  | n + 1, S, x1, x3, x4, x5, x6, x7, x8, x9, x10 =>
    if x8 ≤ x10 then
      kX_X1_listen_168 g N K100 K113 S x1 x3 x4 x5 x6 x7 x8 x9
    else
      if x9 = 0 then
        kX_X1_listen_168 g N K100 K113 S x1 x3 x4 x5 x6 x7 x8 x9
      else
        (a_obj S 5 x3 x10).bind fun v3 =>
        (a_int S 0 v3 x6).bind fun v4 =>
        (a_obj S 5 x3 x8).bind fun v5 =>
        (a_int S 0 v5 x6).bind fun v6 =>
        if v4 = v6 then
          kX_X1_listen_160 g N K100 K113 (kX_X1_listen_126 g N K100 K113 n) S x1 x3 x4 x5 x6 x7 x8 x10 0
        else
          kX_X1_listen_160 g N K100 K113 (kX_X1_listen_126 g N K100 K113 n) S x1 x3 x4 x5 x6 x7 x8 x10 1
theorem wkX_X1_listen_126 {p : Program} {l : Launch} {e : Env} {s : State} {m : MethodId} {args : Array Value} {below : List Frame} {meth : Method} {c : Code} {g : XC} {D : va_G} {A : Nat → Prop} {S0 : XS} {w : (XS × Int32) ⊕ XT} (X : xX g D A RX1 S0 p s m args c cX1_listen 11) (hr : meth.sig.returnType = (Option.some Jvm.ClassFile.FieldType.int)) (hlk : meth.locks = false) (hnm : meth.name = yX1_listen.name) (hlT : l.stackTraces = false) (hout : ∀ x ∈ c.exceptionTable.toList, False) (hw0 : xW g D A S0 s s.heap) (N : Nat) (K100 : XS → Int32 → Nat → Int32 → Int32 → Int32 → Option ((XS × Int32) ⊕ XT)) (K113 : XS → Int32 → Nat → Int32 → Int32 → Int32 → Int32 → Int32 → Option ((XS × Int32) ⊕ XT))
    (hK100 : ∀ (S : XS) (x1 : Int32) (x3 : Nat) (x4 : Int32) (x5 : Int32) (x6 : Int32) (H : Heap) (locs : List Loc) (ls : Array Slot) (cells slots : Nat), K100 S x1 x3 x4 x5 x6 = some w → xW g D A S s H → va_S A s.heap H locs → lv_has ls 11 [(1, .int x1), (3, .ref x3), (4, .int x4), (5, .int x5), (6, .int x6)] → W p l e (xRm g S0 83) s m args below meth c H locs cells slots (vx_MQ below (xTi g D A w) (xTx g D A w) args s (g.2.1 - xTop S0) (g.2.2.1 - xSl S0) A) (F0 m 100 ls []))
    (hK113 : ∀ (S : XS) (x1 : Int32) (x3 : Nat) (x4 : Int32) (x5 : Int32) (x6 : Int32) (x7 : Int32) (x8 : Int32) (H : Heap) (locs : List Loc) (ls : Array Slot) (cells slots : Nat), K113 S x1 x3 x4 x5 x6 x7 x8 = some w → xW g D A S s H → va_S A s.heap H locs → lv_has ls 11 [(1, .int x1), (3, .ref x3), (4, .int x4), (5, .int x5), (6, .int x6), (7, .int x7), (8, .int x8)] → W p l e (xRm g S0 83) s m args below meth c H locs cells slots (vx_MQ below (xTi g D A w) (xTx g D A w) args s (g.2.1 - xTop S0) (g.2.2.1 - xSl S0) A) (F0 m 113 ls [])) :
    ∀ (n : Nat) (S : XS) (x1 : Int32) (x3 : Nat) (x4 : Int32) (x5 : Int32) (x6 : Int32) (x7 : Int32) (x8 : Int32) (x9 : Int32) (x10 : Int32) (H : Heap) (locs : List Loc) (ls : Array Slot) (cells slots : Nat), kX_X1_listen_126 g N K100 K113 n S x1 x3 x4 x5 x6 x7 x8 x9 x10 = some w → xW g D A S s H → va_S A s.heap H locs → lv_has ls 11 [(1, .int x1), (3, .ref x3), (4, .int x4), (5, .int x5), (6, .int x6), (7, .int x7), (8, .int x8), (9, .int x9), (10, .int x10)] → W p l e (xRm g S0 83) s m args below meth c H locs cells slots (vx_MQ below (xTi g D A w) (xTx g D A w) args s (g.2.1 - xTop S0) (g.2.2.1 - xSl S0) A) (F0 m 126 ls []) := by
  obtain ⟨hx, hb, -, hown, hts, -⟩ := id X
  intro n
  induction n with
  | zero =>
    intro S x1 x3 x4 x5 x6 x7 x8 x9 x10 H locs ls cells slots hm
    cases hm
  | succ n ih =>
    intro S x1 x3 x4 x5 x6 x7 x8 x9 x10 H locs ls cells slots hm hw hS hl
    rw [kX_X1_listen_126] at hm
    refine lv_iload hx hb dX1_listen_126 (lv_at hl 8 rfl) ?_
    refine lv_iload hx hb dX1_listen_128 (lv_at hl 6 rfl) ?_
    refine lv_icmp_ge (tgt := 168) hx hb dX1_listen_130 (by decide) (fun c1 => ?_) (fun c1 => ?_)
    · replace hm := if_t c1 hm
      exact wkX_X1_listen_168 X hr hlk hnm hlT hout hw0 N K100 K113 hK100 hK113 S x1 x3 x4 x5 x6 x7 x8 x9 H locs ls _ _ hm hw hS (lv_sub hl [0, 1, 2, 3, 4, 5, 6, 7] rfl)
    · replace hm := if_f c1 hm
      refine lv_iload hx hb dX1_listen_133 (lv_at hl 7 rfl) ?_
      refine lv_if_eq (tgt := 168) hx hb dX1_listen_135 (by decide) (fun c2 => ?_) (fun c2 => ?_)
      · replace hm := if_t c2 hm
        exact wkX_X1_listen_168 X hr hlk hnm hlT hout hw0 N K100 K113 hK100 hK113 S x1 x3 x4 x5 x6 x7 x8 x9 H locs ls _ _ hm hw hS (lv_sub hl [0, 1, 2, 3, 4, 5, 6, 7] rfl)
      · replace hm := if_f c2 hm
        refine lv_aload_n hx hb dX1_listen_138 rfl (lv_at hl 1 rfl) ?_
        refine lv_iload hx hb dX1_listen_139 (lv_at hl 8 rfl) ?_
        obtain ⟨v3, hv3, hm⟩ := ob_s hm
        refine xr_aaldA (v := some v3) X hw (a_obj_s hv3) dX1_listen_141 ?_
        refine lv_iload hx hb dX1_listen_142 (lv_at hl 4 rfl) ?_
        obtain ⟨v4, hv4, hm⟩ := ob_s hm
        refine xr_iald X hw hv4 dX1_listen_144 ?_
        refine lv_aload_n hx hb dX1_listen_145 rfl (lv_at hl 1 rfl) ?_
        refine lv_iload hx hb dX1_listen_146 (lv_at hl 6 rfl) ?_
        obtain ⟨v5, hv5, hm⟩ := ob_s hm
        refine xr_aaldA (v := some v5) X hw (a_obj_s hv5) dX1_listen_148 ?_
        refine lv_iload hx hb dX1_listen_149 (lv_at hl 4 rfl) ?_
        obtain ⟨v6, hv6, hm⟩ := ob_s hm
        refine xr_iald X hw hv6 dX1_listen_151 ?_
        refine lv_icmp_eq (tgt := 159) hx hb dX1_listen_152 (by decide) (fun c7 => ?_) (fun c7 => ?_)
        · replace hm := if_t c7 hm
          refine lv_iconst (v := 0) hx hb dX1_listen_159 (by decide) ?_
          exact wkX_X1_listen_160 X hr hlk hnm hlT hout hw0 N K100 K113 (kX_X1_listen_126 g N K100 K113 n) hK100 hK113 ih S x1 x3 x4 x5 x6 x7 x8 x10 0 H locs ls _ _ hm hw hS (lv_sub hl [0, 1, 2, 3, 4, 5, 6, 8] rfl)
        · replace hm := if_f c7 hm
          refine lv_iconst (v := 1) hx hb dX1_listen_155 (by decide) ?_
          refine lv_goto (tgt := 160) hx hb dX1_listen_156 (by decide) ?_
          exact wkX_X1_listen_160 X hr hlk hnm hlT hout hw0 N K100 K113 (kX_X1_listen_126 g N K100 K113 n) hK100 hK113 ih S x1 x3 x4 x5 x6 x7 x8 x10 1 H locs ls _ _ hm hw hS (lv_sub hl [0, 1, 2, 3, 4, 5, 6, 8] rfl)
def kX_X1_listen_113 (g : XC) (N : Nat) (K100 : XS → Int32 → Nat → Int32 → Int32 → Int32 → Option ((XS × Int32) ⊕ XT)) : Nat → XS → Int32 → Nat → Int32 → Int32 → Int32 → Int32 → Int32 → Option ((XS × Int32) ⊕ XT)
  | 0, _, _, _, _, _, _, _, _ => none
  | n + 1, S, x1, x3, x4, x5, x6, x7, x8 =>
    (a_len S x3).bind fun v1 =>
    if v1 ≤ x8 then
      if x5 < x7 then
        bnd (x6 + 1) fun v4 =>
        kX_X1_listen_202 g N K100 S x1 x3 v4 x7 x6
      else
        kX_X1_listen_202 g N K100 S x1 x3 x4 x5 x6
    else
      kX_X1_listen_126 g N K100 (kX_X1_listen_113 g N K100 n) N S x1 x3 x4 x5 x6 x7 x8 1 0
theorem wkX_X1_listen_113 {p : Program} {l : Launch} {e : Env} {s : State} {m : MethodId} {args : Array Value} {below : List Frame} {meth : Method} {c : Code} {g : XC} {D : va_G} {A : Nat → Prop} {S0 : XS} {w : (XS × Int32) ⊕ XT} (X : xX g D A RX1 S0 p s m args c cX1_listen 11) (hr : meth.sig.returnType = (Option.some Jvm.ClassFile.FieldType.int)) (hlk : meth.locks = false) (hnm : meth.name = yX1_listen.name) (hlT : l.stackTraces = false) (hout : ∀ x ∈ c.exceptionTable.toList, False) (hw0 : xW g D A S0 s s.heap) (N : Nat) (K100 : XS → Int32 → Nat → Int32 → Int32 → Int32 → Option ((XS × Int32) ⊕ XT))
    (hK100 : ∀ (S : XS) (x1 : Int32) (x3 : Nat) (x4 : Int32) (x5 : Int32) (x6 : Int32) (H : Heap) (locs : List Loc) (ls : Array Slot) (cells slots : Nat), K100 S x1 x3 x4 x5 x6 = some w → xW g D A S s H → va_S A s.heap H locs → lv_has ls 11 [(1, .int x1), (3, .ref x3), (4, .int x4), (5, .int x5), (6, .int x6)] → W p l e (xRm g S0 83) s m args below meth c H locs cells slots (vx_MQ below (xTi g D A w) (xTx g D A w) args s (g.2.1 - xTop S0) (g.2.2.1 - xSl S0) A) (F0 m 100 ls [])) :
    ∀ (n : Nat) (S : XS) (x1 : Int32) (x3 : Nat) (x4 : Int32) (x5 : Int32) (x6 : Int32) (x7 : Int32) (x8 : Int32) (H : Heap) (locs : List Loc) (ls : Array Slot) (cells slots : Nat), kX_X1_listen_113 g N K100 n S x1 x3 x4 x5 x6 x7 x8 = some w → xW g D A S s H → va_S A s.heap H locs → lv_has ls 11 [(1, .int x1), (3, .ref x3), (4, .int x4), (5, .int x5), (6, .int x6), (7, .int x7), (8, .int x8)] → W p l e (xRm g S0 83) s m args below meth c H locs cells slots (vx_MQ below (xTi g D A w) (xTx g D A w) args s (g.2.1 - xTop S0) (g.2.2.1 - xSl S0) A) (F0 m 113 ls []) := by
  obtain ⟨hx, hb, -, hown, hts, -⟩ := id X
  intro n
  induction n with
  | zero =>
    intro S x1 x3 x4 x5 x6 x7 x8 H locs ls cells slots hm
    cases hm
  | succ n ih =>
    intro S x1 x3 x4 x5 x6 x7 x8 H locs ls cells slots hm hw hS hl
    rw [kX_X1_listen_113] at hm
    refine lv_iload hx hb dX1_listen_113 (lv_at hl 6 rfl) ?_
    refine lv_aload_n hx hb dX1_listen_115 rfl (lv_at hl 1 rfl) ?_
    obtain ⟨v1, hv1, hm⟩ := ob_s hm
    refine xr_alen X hw hv1 dX1_listen_116 ?_
    refine lv_icmp_ge (tgt := 182) hx hb dX1_listen_117 (by decide) (fun c2 => ?_) (fun c2 => ?_)
    · replace hm := if_t c2 hm
      refine lv_iload hx hb dX1_listen_182 (lv_at hl 5 rfl) ?_
      refine lv_iload hx hb dX1_listen_184 (lv_at hl 3 rfl) ?_
      refine lv_icmp_gt (tgt := 192) hx hb dX1_listen_186 (by decide) (fun c3 => ?_) (fun c3 => ?_)
      · replace hm := if_t c3 hm
        refine lv_iload hx hb dX1_listen_192 (lv_at hl 4 rfl) ?_
        refine lv_iconst (v := 1) hx hb dX1_listen_194 (by decide) ?_
        refine lv_iadd hx hb dX1_listen_195 ?_
        refine lv_topi (fun v4 ev4 => ?_)
        replace hm := bnd_s hm ev4
        refine lv_istore (lv' := [(4, .int v4), (1, .int x1), (3, .ref x3), (5, .int x5), (6, .int x6), (7, .int x7), (8, .int x8)]) hx hb dX1_listen_196 hl (by decide) rfl (fun ls hl => ?_)
        refine lv_iload hx hb dX1_listen_198 (lv_at hl 5 rfl) ?_
        refine lv_istore (lv' := [(5, .int x7), (4, .int v4), (1, .int x1), (3, .ref x3), (6, .int x6), (7, .int x7), (8, .int x8)]) hx hb dX1_listen_200 hl (by decide) rfl (fun ls hl => ?_)
        exact wkX_X1_listen_202 X hr hlk hnm hlT hout hw0 N K100 hK100 S x1 x3 v4 x7 x6 H locs ls _ _ hm hw hS (lv_sub hl [2, 3, 1, 0, 4] rfl)
      · replace hm := if_f c3 hm
        refine lv_goto (tgt := 202) hx hb dX1_listen_189 (by decide) ?_
        exact wkX_X1_listen_202 X hr hlk hnm hlT hout hw0 N K100 hK100 S x1 x3 x4 x5 x6 H locs ls _ _ hm hw hS (lv_sub hl [0, 1, 2, 3, 4] rfl)
    · replace hm := if_f c2 hm
      refine lv_iconst (v := 1) hx hb dX1_listen_120 (by decide) ?_
      refine lv_istore (lv' := [(9, .int 1), (1, .int x1), (3, .ref x3), (4, .int x4), (5, .int x5), (6, .int x6), (7, .int x7), (8, .int x8)]) hx hb dX1_listen_121 hl (by decide) rfl (fun ls hl => ?_)
      refine lv_iconst (v := 0) hx hb dX1_listen_123 (by decide) ?_
      refine lv_istore (lv' := [(10, .int 0), (9, .int 1), (1, .int x1), (3, .ref x3), (4, .int x4), (5, .int x5), (6, .int x6), (7, .int x7), (8, .int x8)]) hx hb dX1_listen_124 hl (by decide) rfl (fun ls hl => ?_)
      exact wkX_X1_listen_126 X hr hlk hnm hlT hout hw0 N K100 (kX_X1_listen_113 g N K100 n) hK100 ih N S x1 x3 x4 x5 x6 x7 x8 1 0 H locs ls _ _ hm hw hS (lv_sub hl [2, 3, 4, 5, 6, 7, 8, 1, 0] rfl)
def kX_X1_listen_100 (g : XC) (N : Nat) : Nat → XS → Int32 → Nat → Int32 → Int32 → Int32 → Option ((XS × Int32) ⊕ XT)
  | 0, _, _, _, _, _, _ => none
  | n + 1, S, x1, x3, x4, x5, x6 =>
    if (40 : Int32) ≤ x6 then
      if x1 = 0 then
        some (.inl (S, x4))
      else
        some (.inl (S, x5))
    else
      kX_X1_listen_113 g N (kX_X1_listen_100 g N n) N S x1 x3 x4 x5 x6 0 0
theorem wkX_X1_listen_100 {p : Program} {l : Launch} {e : Env} {s : State} {m : MethodId} {args : Array Value} {below : List Frame} {meth : Method} {c : Code} {g : XC} {D : va_G} {A : Nat → Prop} {S0 : XS} {w : (XS × Int32) ⊕ XT} (X : xX g D A RX1 S0 p s m args c cX1_listen 11) (hr : meth.sig.returnType = (Option.some Jvm.ClassFile.FieldType.int)) (hlk : meth.locks = false) (hnm : meth.name = yX1_listen.name) (hlT : l.stackTraces = false) (hout : ∀ x ∈ c.exceptionTable.toList, False) (hw0 : xW g D A S0 s s.heap) (N : Nat) :
    ∀ (n : Nat) (S : XS) (x1 : Int32) (x3 : Nat) (x4 : Int32) (x5 : Int32) (x6 : Int32) (H : Heap) (locs : List Loc) (ls : Array Slot) (cells slots : Nat), kX_X1_listen_100 g N n S x1 x3 x4 x5 x6 = some w → xW g D A S s H → va_S A s.heap H locs → lv_has ls 11 [(1, .int x1), (3, .ref x3), (4, .int x4), (5, .int x5), (6, .int x6)] → W p l e (xRm g S0 83) s m args below meth c H locs cells slots (vx_MQ below (xTi g D A w) (xTx g D A w) args s (g.2.1 - xTop S0) (g.2.2.1 - xSl S0) A) (F0 m 100 ls []) := by
  obtain ⟨hx, hb, -, hown, hts, -⟩ := id X
  intro n
  induction n with
  | zero =>
    intro S x1 x3 x4 x5 x6 H locs ls cells slots hm
    cases hm
  | succ n ih =>
    intro S x1 x3 x4 x5 x6 H locs ls cells slots hm hw hS hl
    rw [kX_X1_listen_100] at hm
    refine lv_iload hx hb dX1_listen_100 (lv_at hl 4 rfl) ?_
    refine lv_bipush (v := 40) hx hb dX1_listen_102 (by decide) ?_
    refine lv_icmp_ge (tgt := 208) hx hb dX1_listen_104 (by decide) (fun c1 => ?_) (fun c1 => ?_)
    · replace hm := if_t c1 hm
      refine lv_iload_n hx hb dX1_listen_208 rfl (lv_at hl 0 rfl) ?_
      refine lv_if_ne (tgt := 217) hx hb dX1_listen_209 (by decide) (fun c2 => ?_) (fun c2 => ?_)
      · replace hm := if_f c2 hm
        refine lv_iload hx hb dX1_listen_217 (lv_at hl 3 rfl) ?_
        obtain rfl := Option.some.inj hm
        exact xt_iret (v := x5) X hr hlk hw hS rfl dX1_listen_219
      · replace hm := if_t c2 hm
        refine lv_iload hx hb dX1_listen_212 (lv_at hl 2 rfl) ?_
        refine lv_goto (tgt := 219) hx hb dX1_listen_214 (by decide) ?_
        obtain rfl := Option.some.inj hm
        exact xt_iret (v := x4) X hr hlk hw hS rfl dX1_listen_219
    · replace hm := if_f c1 hm
      refine lv_iconst (v := 0) hx hb dX1_listen_107 (by decide) ?_
      refine lv_istore (lv' := [(7, .int 0), (1, .int x1), (3, .ref x3), (4, .int x4), (5, .int x5), (6, .int x6)]) hx hb dX1_listen_108 hl (by decide) rfl (fun ls hl => ?_)
      refine lv_iconst (v := 0) hx hb dX1_listen_110 (by decide) ?_
      refine lv_istore (lv' := [(8, .int 0), (7, .int 0), (1, .int x1), (3, .ref x3), (4, .int x4), (5, .int x5), (6, .int x6)]) hx hb dX1_listen_111 hl (by decide) rfl (fun ls hl => ?_)
      exact wkX_X1_listen_113 X hr hlk hnm hlT hout hw0 N (kX_X1_listen_100 g N n) ih N S x1 x3 x4 x5 x6 0 0 H locs ls _ _ hm hw hS (lv_sub hl [2, 3, 4, 5, 6, 1, 0] rfl)
def kX_X1_listen_55 (g : XC) (N : Nat) (K26 : XS → Nat → Int32 → Nat → Nat → Int32 → Option ((XS × Int32) ⊕ XT)) : Nat → XS → Nat → Int32 → Nat → Nat → Int32 → Int32 → Option ((XS × Int32) ⊕ XT)
  | 0, _, _, _, _, _, _, _ => none
  | n + 1, S, x0, x1, x2, x3, x4, x5 =>
    if (40 : Int32) ≤ x5 then
      K26 S x0 x1 x2 x3 (x4 + 1)
    else
      (a_obj S 5 x3 x4).bind fun v2 =>
      (f_obj S 1 x0 3).bind fun v3 =>
      (f_cls S 2 v3).bind fun u4 =>
      (kX_X3_pass g N S v3).bind fun w5 =>
      (f_int w5.1 2 w5.2 13).bind fun v6 =>
      (a_putI w5.1 0 v2 x5 v6).bind fun S7 =>
      kX_X1_listen_55 g N K26 n S7 x0 x1 x2 x3 x4 (x5 + 1)
theorem wkX_X1_listen_55 {p : Program} {l : Launch} {e : Env} {s : State} {m : MethodId} {args : Array Value} {below : List Frame} {meth : Method} {c : Code} {g : XC} {D : va_G} {A : Nat → Prop} {S0 : XS} {w : (XS × Int32) ⊕ XT} (X : xX g D A RX1 S0 p s m args c cX1_listen 11) (hr : meth.sig.returnType = (Option.some Jvm.ClassFile.FieldType.int)) (hlk : meth.locks = false) (hnm : meth.name = yX1_listen.name) (hlT : l.stackTraces = false) (hout : ∀ x ∈ c.exceptionTable.toList, False) (hw0 : xW g D A S0 s s.heap) (N : Nat) (K26 : XS → Nat → Int32 → Nat → Nat → Int32 → Option ((XS × Int32) ⊕ XT))
    (hK26 : ∀ (S : XS) (x0 : Nat) (x1 : Int32) (x2 : Nat) (x3 : Nat) (x4 : Int32) (H : Heap) (locs : List Loc) (ls : Array Slot) (cells slots : Nat), K26 S x0 x1 x2 x3 x4 = some w → xW g D A S s H → va_S A s.heap H locs → lv_has ls 11 [(0, .ref x0), (1, .int x1), (2, .ref x2), (3, .ref x3), (4, .int x4)] → W p l e (xRm g S0 83) s m args below meth c H locs cells slots (vx_MQ below (xTi g D A w) (xTx g D A w) args s (g.2.1 - xTop S0) (g.2.2.1 - xSl S0) A) (F0 m 26 ls [])) :
    ∀ (n : Nat) (S : XS) (x0 : Nat) (x1 : Int32) (x2 : Nat) (x3 : Nat) (x4 : Int32) (x5 : Int32) (H : Heap) (locs : List Loc) (ls : Array Slot) (cells slots : Nat), kX_X1_listen_55 g N K26 n S x0 x1 x2 x3 x4 x5 = some w → xW g D A S s H → va_S A s.heap H locs → lv_has ls 11 [(0, .ref x0), (1, .int x1), (2, .ref x2), (3, .ref x3), (4, .int x4), (5, .int x5)] → W p l e (xRm g S0 83) s m args below meth c H locs cells slots (vx_MQ below (xTi g D A w) (xTx g D A w) args s (g.2.1 - xTop S0) (g.2.2.1 - xSl S0) A) (F0 m 55 ls []) := by
  obtain ⟨hx, hb, -, hown, hts, -⟩ := id X
  intro n
  induction n with
  | zero =>
    intro S x0 x1 x2 x3 x4 x5 H locs ls cells slots hm
    cases hm
  | succ n ih =>
    intro S x0 x1 x2 x3 x4 x5 H locs ls cells slots hm hw hS hl
    rw [kX_X1_listen_55] at hm
    refine lv_iload hx hb dX1_listen_55 (lv_at hl 5 rfl) ?_
    refine lv_bipush (v := 40) hx hb dX1_listen_57 (by decide) ?_
    refine lv_icmp_ge (tgt := 85) hx hb dX1_listen_59 (by decide) (fun c1 => ?_) (fun c1 => ?_)
    · replace hm := if_t c1 hm
      refine lv_iinc (v := (x4 + 1)) (lv' := [(4, .int (x4 + 1)), (0, .ref x0), (1, .int x1), (2, .ref x2), (3, .ref x3), (5, .int x5)]) hx hb dX1_listen_85 hl (k := 4) rfl rfl (by decide) rfl (fun ls hl => ?_)
      refine lv_goto (tgt := 26) hx hb dX1_listen_88 (by decide) ?_
      exact hK26 S x0 x1 x2 x3 (x4 + 1) H locs ls _ _ hm hw hS (lv_sub hl [1, 2, 3, 4, 0] rfl)
    · replace hm := if_f c1 hm
      refine lv_aload_n hx hb dX1_listen_62 rfl (lv_at hl 3 rfl) ?_
      refine lv_iload hx hb dX1_listen_63 (lv_at hl 4 rfl) ?_
      obtain ⟨v2, hv2, hm⟩ := ob_s hm
      refine xr_aaldA (v := some v2) X hw (a_obj_s hv2) dX1_listen_65 ?_
      refine lv_iload hx hb dX1_listen_66 (lv_at hl 5 rfl) ?_
      refine lv_aload_n hx hb dX1_listen_68 rfl (lv_at hl 0 rfl) ?_
      obtain ⟨v3, hv3, hm⟩ := ob_s hm
      refine xr_val X hw xc1 in_X1 3 (by decide) q282 (f_obj_s hv3) dX1_listen_69 ?_
      obtain ⟨u4, hu4, hm⟩ := ob_s hm
      obtain ⟨w5, hw5, hm⟩ := ob_s hm
      refine xr_retr hS (xr_runV X hw (met_X3_pass N S v3 w5 hw5) (x_cv X (lv := 80) (by omega) (by decide) cx_X3_pass (lw_V q609 q459 q460 q120 q461)) xc2 hu4 rfl hl.1 rfl (Nat.le_of_ble_eq_true rfl) dX1_listen_72) (fun H locs cells slots hw hS => ?_)
      obtain ⟨v6, hv6, hm⟩ := ob_s hm
      refine xr_valN X hw xc2 in_X3 13 (by decide) q238 (f_int_s hv6) dX1_listen_75 ?_
      obtain ⟨S7, hS7, hm⟩ := ob_s hm
      refine xr_iast X hw hS hS7 dX1_listen_78 (fun H locs hw hS => ?_)
      refine lv_iinc (v := (x5 + 1)) (lv' := [(5, .int (x5 + 1)), (0, .ref x0), (1, .int x1), (2, .ref x2), (3, .ref x3), (4, .int x4)]) hx hb dX1_listen_79 hl (k := 5) rfl rfl (by decide) rfl (fun ls hl => ?_)
      refine lv_goto (tgt := 55) hx hb dX1_listen_82 (by decide) ?_
      exact ih S7 x0 x1 x2 x3 x4 (x5 + 1) H locs ls _ _ hm hw hS (lv_sub hl [1, 2, 3, 4, 5, 0] rfl)
def kX_X1_listen_26 (g : XC) (N : Nat) : Nat → XS → Nat → Int32 → Nat → Nat → Int32 → Option ((XS × Int32) ⊕ XT)
  | 0, _, _, _, _, _, _ => none
  | n + 1, S, x0, x1, x2, x3, x4 =>
    (a_len S x3).bind fun v1 =>
    if v1 ≤ x4 then
      kX_X1_listen_100 g N N S x1 x3 (-1) 0 0
    else
      (f_cls S 10 x2).bind fun u3 =>
      (kX_J2_get g N S x2 x4).bind fun w4 =>
      (gIv g w4.2).bind fun k5 =>
      (gIv g w4.2).bind fun u6 =>
      (kX_J19_intValue g N w4.1 w4.2).bind fun w7 =>
      (f_cls w7.1 1 x0).bind fun u8 =>
      (kX_X1_leadTo g N w7.1 x0 w7.2).bind fun w9 =>
      kX_X1_listen_55 g N (kX_X1_listen_26 g N n) N w9.1 x0 x1 x2 x3 x4 0
theorem wkX_X1_listen_26 {p : Program} {l : Launch} {e : Env} {s : State} {m : MethodId} {args : Array Value} {below : List Frame} {meth : Method} {c : Code} {g : XC} {D : va_G} {A : Nat → Prop} {S0 : XS} {w : (XS × Int32) ⊕ XT} (X : xX g D A RX1 S0 p s m args c cX1_listen 11) (hr : meth.sig.returnType = (Option.some Jvm.ClassFile.FieldType.int)) (hlk : meth.locks = false) (hnm : meth.name = yX1_listen.name) (hlT : l.stackTraces = false) (hout : ∀ x ∈ c.exceptionTable.toList, False) (hw0 : xW g D A S0 s s.heap) (N : Nat) :
    ∀ (n : Nat) (S : XS) (x0 : Nat) (x1 : Int32) (x2 : Nat) (x3 : Nat) (x4 : Int32) (H : Heap) (locs : List Loc) (ls : Array Slot) (cells slots : Nat), kX_X1_listen_26 g N n S x0 x1 x2 x3 x4 = some w → xW g D A S s H → va_S A s.heap H locs → lv_has ls 11 [(0, .ref x0), (1, .int x1), (2, .ref x2), (3, .ref x3), (4, .int x4)] → W p l e (xRm g S0 83) s m args below meth c H locs cells slots (vx_MQ below (xTi g D A w) (xTx g D A w) args s (g.2.1 - xTop S0) (g.2.2.1 - xSl S0) A) (F0 m 26 ls []) := by
  obtain ⟨hx, hb, -, hown, hts, -⟩ := id X
  intro n
  induction n with
  | zero =>
    intro S x0 x1 x2 x3 x4 H locs ls cells slots hm
    cases hm
  | succ n ih =>
    intro S x0 x1 x2 x3 x4 H locs ls cells slots hm hw hS hl
    rw [kX_X1_listen_26] at hm
    refine lv_iload hx hb dX1_listen_26 (lv_at hl 4 rfl) ?_
    refine lv_aload_n hx hb dX1_listen_28 rfl (lv_at hl 3 rfl) ?_
    obtain ⟨v1, hv1, hm⟩ := ob_s hm
    refine xr_alen X hw hv1 dX1_listen_29 ?_
    refine lv_icmp_ge (tgt := 91) hx hb dX1_listen_30 (by decide) (fun c2 => ?_) (fun c2 => ?_)
    · replace hm := if_t c2 hm
      refine lv_iconst (v := (-1)) hx hb dX1_listen_91 (by decide) ?_
      refine lv_istore (lv' := [(4, .int (-1)), (0, .ref x0), (1, .int x1), (2, .ref x2), (3, .ref x3)]) hx hb dX1_listen_92 hl (by decide) rfl (fun ls hl => ?_)
      refine lv_iconst (v := 0) hx hb dX1_listen_94 (by decide) ?_
      refine lv_istore (lv' := [(5, .int 0), (4, .int (-1)), (0, .ref x0), (1, .int x1), (2, .ref x2), (3, .ref x3)]) hx hb dX1_listen_95 hl (by decide) rfl (fun ls hl => ?_)
      refine lv_iconst (v := 0) hx hb dX1_listen_97 (by decide) ?_
      refine lv_istore (lv' := [(6, .int 0), (5, .int 0), (4, .int (-1)), (0, .ref x0), (1, .int x1), (2, .ref x2), (3, .ref x3)]) hx hb dX1_listen_98 hl (by decide) rfl (fun ls hl => ?_)
      exact wkX_X1_listen_100 X hr hlk hnm hlT hout hw0 N N S x1 x3 (-1) 0 0 H locs ls _ _ hm hw hS (lv_sub hl [4, 6, 2, 1, 0] rfl)
    · replace hm := if_f c2 hm
      refine lv_aload_n hx hb dX1_listen_33 rfl (lv_at hl 0 rfl) ?_
      refine lv_aload_n hx hb dX1_listen_34 rfl (lv_at hl 2 rfl) ?_
      refine lv_iload hx hb dX1_listen_35 (lv_at hl 4 rfl) ?_
      obtain ⟨u3, hu3, hm⟩ := ob_s hm
      obtain ⟨w4, hw4, hm⟩ := ob_s hm
      refine xr_ret5r hS (xr_runF (x := ⟨"java/util/List", "get", "(I)Ljava/lang/Object;"⟩) X hw (met_J2_get N S x2 x4 w4 hw4) (x_cf X (lv := 2) (by omega) (by decide) ci_List_get q1208 q487 q489 q119 q491 q486 q485 q490 q488 q361) xc10 hu3 rfl hl.1 rfl (Nat.le_of_ble_eq_true rfl) dX1_listen_37) (fun H locs cells slots hw hS => ?_)
      obtain ⟨k5, hk5, hm⟩ := ob_s hm
      refine xr_castI X hw hk5 q1209 dX1_listen_42 ?_
      obtain ⟨u6, hu6, hm⟩ := ob_s hm
      obtain ⟨w7, hw7, hm⟩ := ob_s hm
      refine xr_reti hS (xr_runVX X hw (met_J19_intValue N w4.1 w4.2 w7 hw7) (x_cv X (lv := 0) (by omega) (by decide) cx_J19_intValue (lw_V q1244 q498 q499 q145 q500)) (x_recvI X hw hu6) rfl hl.1 rfl (Nat.le_of_ble_eq_true rfl) dX1_listen_45) (fun H locs cells slots hw hS => ?_)
      obtain ⟨u8, hu8, hm⟩ := ob_s hm
      obtain ⟨w9, hw9, hm⟩ := ob_s hm
      refine xr_retr hS (xr_runV X hw (met_X1_leadTo N w7.1 x0 w7.2 w9 hw9) (x_cv X (lv := 1) (by omega) (by decide) cx_X1_leadTo (lw_V q1452 q1454 qs49 q115 q1455)) xc1 hu8 rfl hl.1 rfl (Nat.le_of_ble_eq_true rfl) dX1_listen_48) (fun H locs cells slots hw hS => ?_)
      refine lv_pop hx hb dX1_listen_51 rfl ?_
      refine lv_iconst (v := 0) hx hb dX1_listen_52 (by decide) ?_
      refine lv_istore (lv' := [(5, .int 0), (0, .ref x0), (1, .int x1), (2, .ref x2), (3, .ref x3), (4, .int x4)]) hx hb dX1_listen_53 hl (by decide) rfl (fun ls hl => ?_)
      exact wkX_X1_listen_55 X hr hlk hnm hlT hout hw0 N (kX_X1_listen_26 g N n) ih N w9.1 x0 x1 x2 x3 x4 0 H locs ls _ _ hm hw hS (lv_sub hl [1, 2, 3, 4, 5, 0] rfl)
def kX_X1_listen (g : XC) (N : Nat) (S : XS) (x0 : Nat) (x1 : Int32) : Option ((XS × Int32) ⊕ XT) :=
  tbind (kX_X1_oneOf g N S x1 1) fun r2 =>
  (f_cls r2 1 x0).bind fun u3 =>
  (kX_X1_others g N r2 x0).bind fun w4 =>
  (f_cls w4.1 10 w4.2).bind fun u5 =>
  (kX_J2_size g N w4.1 w4.2).bind fun w6 =>
  (xNewM w6.1 w6.2 40).bind fun S7 =>
  kX_X1_listen_26 g N N S7 x0 x1 w4.2 (xTop w6.1) 0
theorem cx_X1_listen : yX1_listen.cls = RX1 ∧ yX1_listen.cls ≠ "java/lang/invoke/MethodHandle" ∧ yX1_listen.cls ≠ "java/lang/invoke/VarHandle" ∧ (parseMethodDescriptor yX1_listen.desc).map (fun d => d.parameters.length) = some 1 := by decide +kernel
theorem met_X1_listen {l : Launch} {g : XC} {D : va_G} {A : Nat → Prop} (hlT : l.stackTraces = false) (N : Nat) (S : XS) (x0 : Nat) (x1 : Int32) (w : (XS × Int32) ⊕ XT) (hm : kX_X1_listen g N S x0 x1 = some w) : vx_Met l yX1_listen (ws_ yX1_listen cX1_listen 11 (Option.some Jvm.ClassFile.FieldType.int)) (xRm g S 83) (xPre g D A [.ref x0, .int x1] S) (xTi g D A w) (xTx g D A w) (g.2.1 - xTop S) (g.2.2.1 - xSl S) A := by
  refine x_startT (own := RX1) (by decide +kernel) rfl (Nat.le_of_ble_eq_true rfl) (fun p e s m below meth c ls X hr hlk hnm hout hw hl => ?_)
  have hw0 := hw
  obtain ⟨hx, hb, -, hown, hts, -⟩ := id X
  have hl : lv_has ls 11 [(0, .ref x0), (1, .int x1)] := hl
  have hg : ∀ (H : Heap) (locs : List Loc) (cells slots : Nat), xW g D A S s H → va_S A s.heap H locs → W p l e (xRm g S 83) s m ([.ref x0, .int x1] : List Value).toArray below meth c H locs cells slots (vx_MQ below (xTi g D A w) (xTx g D A w) ([.ref x0, .int x1] : List Value).toArray s (g.2.1 - xTop S) (g.2.2.1 - xSl S) A) (F0 m 0 ls []) := by
    intro H locs cells slots hw hS
    unfold kX_X1_listen at hm
    refine lv_iload_n hx hb dX1_listen_0 rfl (lv_at hl 1 rfl) ?_
    refine lv_iconst (v := 1) hx hb dX1_listen_1 (by decide) ?_
    obtain ⟨w1, hw1, hm⟩ := tb_s hm
    refine xt_retv hS (xt_runS X hw (met_X1_oneOf hlT N S x1 1 w1 hw1) (x_cs X (lv := 6) (by omega) (by decide) cx_X1_oneOf (lw_S q1306 q1307 q115 q1308)) rfl hl.1 rfl (Nat.le_of_ble_eq_true rfl) dX1_listen_2) (fun t1 t2 u E9 ce q9 H1 locs1 hu ht => xt_pass X hlk hout (tc_r hu hm) ht (x_fits (lv2 := 0) X hw t1 t2).1 (x_fits (lv2 := 0) X hw t1 t2).2) (fun r2 hr2 H locs cells slots hw hS => ?_)
    replace hm := tc_l hr2 hm
    refine lv_aload_n hx hb dX1_listen_5 rfl (lv_at hl 0 rfl) ?_
    obtain ⟨u3, hu3, hm⟩ := ob_s hm
    obtain ⟨w4, hw4, hm⟩ := ob_s hm
    refine xr_retr hS (xr_runV X hw (met_X1_others N r2 x0 w4 hw4) (x_cv X (lv := 82) (by omega) (by decide) cx_X1_others (lw_V q1448 q1450 qs48 q115 q1451)) xc1 hu3 rfl hl.1 rfl (Nat.le_of_ble_eq_true rfl) dX1_listen_6) (fun H locs cells slots hw hS => ?_)
    refine lv_astore_n (lv' := [(2, .ref w4.2), (0, .ref x0), (1, .int x1)]) hx hb dX1_listen_9 rfl hl (by decide) rfl (fun ls hl => ?_)
    refine lv_aload_n hx hb dX1_listen_10 rfl (lv_at hl 0 rfl) ?_
    obtain ⟨u5, hu5, hm⟩ := ob_s hm
    obtain ⟨w6, hw6, hm⟩ := ob_s hm
    refine xr_ret5i hS (xr_runF (x := ⟨"java/util/List", "size", "()I"⟩) X hw (met_J2_size N w4.1 w4.2 w6 hw6) (x_cf X (lv := 0) (by omega) (by decide) ci_List_size q426 q429 q431 q119 q433 q428 q427 q432 q430 q361) xc10 hu5 rfl hl.1 rfl (Nat.le_of_ble_eq_true rfl) dX1_listen_11) (fun H locs cells slots hw hS => ?_)
    refine lv_bipush (v := 40) hx hb dX1_listen_16 (by decide) ?_
    obtain ⟨S7, hS7, hm⟩ := ob_s hm
    refine xr_newM X hw hS q1464 hS7 dX1_listen_18 (fun H locs cells slots hw hS => ?_)
    refine lv_astore_n (lv' := [(3, .ref (xTop w6.1)), (2, .ref w4.2), (0, .ref x0), (1, .int x1)]) hx hb dX1_listen_22 rfl hl (by decide) rfl (fun ls hl => ?_)
    refine lv_iconst (v := 0) hx hb dX1_listen_23 (by decide) ?_
    refine lv_istore (lv' := [(4, .int 0), (3, .ref (xTop w6.1)), (2, .ref w4.2), (0, .ref x0), (1, .int x1)]) hx hb dX1_listen_24 hl (by decide) rfl (fun ls hl => ?_)
    exact wkX_X1_listen_26 X hr hlk hnm hlT hout hw0 N N S7 x0 x1 w4.2 (xTop w6.1) 0 H locs ls _ _ hm hw hS (lv_sub hl [3, 4, 2, 1, 0] rfl)
  exact hg _ _ _ _ hw va_S.rf
/-! DripCupsLaw.listen -/
def kX_X0_listen (g : XC) (N : Nat) (S : XS) (x0 : Nat) (x1 : Int32) (x2 : Nat) : Option (XS × Int32) :=
  (f_cls S 1 x0).bind fun u1 =>
  hbind (kX_X1_listen g N S x0 x1) (fun u =>
    if u.2.1 = 0 then
      some (u.1, 1)
    else
    none) <| fun r3 =>
  (a_putJ r3.1 x2 0 ((r3.2 : Int32).toInt64)).bind fun S5 =>
  some (S5, 0)
theorem cx_X0_listen : yX0_listen.cls ≠ "java/lang/invoke/MethodHandle" ∧ yX0_listen.cls ≠ "java/lang/invoke/VarHandle" ∧ (parseMethodDescriptor yX0_listen.desc).map (fun d => d.parameters.length) = some 3 := by decide +kernel
theorem met_X0_listen {l : Launch} {g : XC} {D : va_G} {A : Nat → Prop} (hlT : l.stackTraces = false) (N : Nat) (S : XS) (x0 : Nat) (x1 : Int32) (x2 : Nat) (w : XS × Int32) (hm : kX_X0_listen g N S x0 x1 x2 = some w) : Met l yX0_listen (wsW_ yX0_listen cX0_listen 4 (Option.some Jvm.ClassFile.FieldType.int) [(0, 9, 12, 18)]) (xRm g S 84) (xPre g D A [.ref x0, .int x1, .ref x2] S) (xQo g D A w) (g.2.1 - xTop S) (g.2.2.1 - xSl S) A := by
  refine Met_ofX (x_startH (own := RX0) (by decide +kernel) rfl (Nat.le_of_ble_eq_true rfl) (fun p e s m below meth c ls X hr hlk hnm htab hw hl => ?_))
  obtain ⟨hx, hb, -, hown, hts, -⟩ := id X
  have hl : lv_has ls 4 [(0, .ref x0), (1, .int x1), (2, .ref x2)] := hl
  have hg : ∀ (H : Heap) (locs : List Loc) (cells slots : Nat), xW g D A S s H → va_S A s.heap H locs → W p l e (xRm g S 84) s m ([.ref x0, .int x1, .ref x2] : List Value).toArray below meth c H locs cells slots (MQ below (xQo g D A w) ([.ref x0, .int x1, .ref x2] : List Value).toArray s (g.2.1 - xTop S) (g.2.2.1 - xSl S) A) (F0 m 0 ls []) := by
    intro H locs cells slots hw hS
    unfold kX_X0_listen at hm
    refine lv_aload_n hx hb dX0_listen_0 rfl (lv_at hl 2 rfl) ?_
    refine lv_iconst (v := 0) hx hb dX0_listen_1 (by decide) ?_
    refine lv_aload_n hx hb dX0_listen_2 rfl (lv_at hl 0 rfl) ?_
    refine lv_iload_n hx hb dX0_listen_3 rfl (lv_at hl 1 rfl) ?_
    obtain ⟨u1, hu1, hm⟩ := ob_s hm
    obtain ⟨w2, hw2, hm⟩ := hb_s hm
    refine xt_reti hS (xt_runV X hw (met_X1_listen hlT N S x0 x1 w2 hw2) (x_cv X (lv := 83) (by omega) (by decide) cx_X1_listen (lw_V q1460 q1461 q1462 q115 q1463)) xc1 hu1 rfl hl.1 rfl (Nat.le_of_ble_eq_true rfl) dX0_listen_4) (fun t1 t2 u E9 ce q9 H1 locs1 hu ht => ?_) (fun r3 hr3 H locs cells slots hw hS => ?_)
    · replace hm := hc_r hu hm
      by_cases c4 : u.2.1 = 0
      · replace hm := if_t c4 hm
        refine xt_catch X hw t1 t2 ht htab [] (⟨0, 9, 12, 18⟩ : ExceptionTableEntry) [] rfl (fun _ h => absurd h List.not_mem_nil) (by decide) (by decide) q1167 (by rw [c4]; exact q1220) (fun hw hS => ?_)
        refine lv_astore_n (lv' := [(3, .ref q9), (0, .ref x0), (1, .int x1), (2, .ref x2)]) hx hb dX0_listen_12 rfl hl (by decide) rfl (fun ls hl => ?_)
        refine lv_iconst (v := 1) hx hb dX0_listen_13 (by decide) ?_
        obtain rfl := Option.some.inj hm
        exact xo_iret (v := 1) X hr hlk hw (xSim_bump _ _) hS rfl dX0_listen_14
      replace hm := if_f c4 hm
      cases hm
    replace hm := hc_l hr3 hm
    refine lv_i2l hx hb dX0_listen_7 rfl ?_
    obtain ⟨S5, hS5, hm⟩ := ob_s hm
    refine xr_last X hw hS hS5 dX0_listen_8 (fun H locs hw hS => ?_)
    refine lv_goto (tgt := 15) hx hb dX0_listen_9 (by decide) ?_
    refine lv_iconst (v := 0) hx hb dX0_listen_15 (by decide) ?_
    obtain rfl := Option.some.inj hm
    exact xo_iret (v := 0) X hr hlk hw (xSim_rf _) hS rfl dX0_listen_16
  exact vx_ret (hg _ _ _ _ hw va_S.rf)
