/-! small things that the printed walks name -/
theorem xc1 : xcl[1]? = some (RX1, TX1, 14) := rfl
theorem xc2 : xcl[2]? = some (RX3, TX3, 16) := rfl
theorem xc3 : xcl[3]? = some (RX2, TX2, 3) := rfl
theorem xc4 : xcl[4]? = some (RX5, TX5, 13) := rfl
theorem xc5 : xcl[5]? = some (RX7, TX7, 2) := rfl
theorem xc6 : xcl[6]? = some (RX8, TX8, 1) := rfl
theorem xc7 : xcl[7]? = some (RX9, TX9, 1) := rfl
theorem xc8 : xcl[8]? = some (RX10, TX10, 1) := rfl
theorem xc9 : xcl[9]? = some (RX6, TX6, 7) := rfl
theorem xc10 : xcl[10]? = some (RJ2, TJ2, 3) := rfl
theorem xc11 : xcl[11]? = some (RJ14, TJ14, 4) := rfl
theorem df_of {ty : Nat → FieldType} {N : Nat} {fs : List Value} (h : (List.range N).all (fun j => decide (defaultValue (ty j) = vp_V fs j)) = true) (j : Nat) (hj : j < N) : defaultValue (ty j) = vp_V fs j := of_decide_eq_true (List.all_eq_true.mp h j (List.mem_range.mpr hj))
theorem df_X1 (j : Nat) (hj : j < 14) : defaultValue (tyX1 j) = vp_V [.null, .null, .null, .null, .null, .int 0, .int 0, .null, .null, .null, .null, .null, .null, .int 0] j := df_of (by decide +kernel) j hj
theorem df_X2 (j : Nat) (hj : j < 3) : defaultValue (tyX2 j) = vp_V [.null, .null, .null] j := df_of (by decide +kernel) j hj
theorem df_X3 (j : Nat) (hj : j < 16) : defaultValue (tyX3 j) = vp_V [.null, .null, .null, .null, .null, .null, .int 0, .int 0, .int 0, .int 0, .int 0, .null, .null, .int 0, .int 0, .null] j := df_of (by decide +kernel) j hj
theorem df_X5 (j : Nat) (hj : j < 13) : defaultValue (tyX5 j) = vp_V [.int 0, .null, .null, .null, .null, .int 0, .int 0, .int 0, .int 0, .int 0, .int 0, .int 0, .null] j := df_of (by decide +kernel) j hj
theorem df_X6 (j : Nat) (hj : j < 7) : defaultValue (tyX6 j) = vp_V [.null, .null, .null, .null, .null, .int 0, .int 0] j := df_of (by decide +kernel) j hj
theorem df_X7 (j : Nat) (hj : j < 2) : defaultValue (tyX7 j) = vp_V [.null, .null] j := df_of (by decide +kernel) j hj
theorem df_X8 (j : Nat) (hj : j < 1) : defaultValue (tyX8 j) = vp_V [.int 0] j := df_of (by decide +kernel) j hj
theorem df_X9 (j : Nat) (hj : j < 1) : defaultValue (tyX9 j) = vp_V [.int 0] j := df_of (by decide +kernel) j hj
theorem df_X10 (j : Nat) (hj : j < 1) : defaultValue (tyX10 j) = vp_V [.null] j := df_of (by decide +kernel) j hj
theorem df_J2 (j : Nat) (hj : j < 3) : defaultValue (tyJ2 j) = vp_V [.int 0, .null, .int 0] j := df_of (by decide +kernel) j hj
theorem df_J14 (j : Nat) (hj : j < 4) : defaultValue (tyJ14 j) = vp_V [.null, .int 0, .int 0, .int 0] j := df_of (by decide +kernel) j hj
theorem z_fit {v : Int32} (h : v = 0 ∨ v = 1) : fits .boolean (.int v) = true := by rcases h with rfl | rfl <;> rfl
/-- a value that its type holds as it is -/
def nchk {α : Type} (ty : FieldType) (v : Int32) (x : Option α) : Option α := if narrow ty (.int v) = .int v then x else none
theorem nchk_s {α : Type} {ty : FieldType} {v : Int32} {x : Option α} {r : α} (h : nchk ty v x = some r) : narrow ty (.int v) = .int v ∧ x = some r := by
  unfold nchk at h
  by_cases q : narrow ty (.int v) = .int v
  · rw [if_pos q] at h; exact ⟨q, h⟩
  · rw [if_neg q] at h; cases h
theorem va_rf_cat (r : Option Nat) : (va_rf r).category = 1 := by cases r <;> rfl
section XM
variable {p : Program} {l : Launch} {e : Env} {R : Room} {s : State} {m : MethodId} {args : Array Value} {below : List Frame} {meth : Method} {c : Code} {H : Heap} {locs : List Loc} {cells slots : Nat} {Q : State → Prop}
variable {cc : ByteArray} {pc nL lv : Nat} {ls : Array Slot} {rest : List Value} {g : XC} {D : va_G} {A : Nat → Prop} {own : String} {S0 S S1 : XS} {idx a : Nat}
theorem xr_mmin {x y : Int32} (X : xX g D A own S0 p s m args c cc nL) (hw : xW g D A S s H) (hsz : ls.size = nL) (hl : Cond.methodLink own idx Lib.Math.min.name ∈ lw_all) (hst : Cond.static Lib.Math.min.name ∈ lw_all) (hi : Cond.initialized "java/lang/Math" ∈ lw_all) (hc : Cond.code Lib.Math.min.name Lib.Math.min.code 2 (some .int) ∈ lw_all) (hr : (rest.map fun v => v.category).sum ≤ 8) (hdg : decode cc pc = .ok (.invokestatic idx, 3))
    (kk : ∀ cells slots : Nat, W p l e (xRm g S0 lv) s m args below meth c H locs cells slots Q (F0 m (pc + 3) ls (.int (if y < x then y else x) :: rest))) : W p l e (xRm g S0 lv) s m args below meth c H locs cells slots Q (F0 m pc ls (.int y :: .int x :: rest)) :=
  W.tight fun t1 t2 => va_mmin X.1 X.2.1 (by rw [X.2.2.1, hsz]) X.2.2.2.1 (X.2.2.2.2.1 _ hl) (X.2.2.2.2.1 _ hst) (X.2.2.2.2.1 _ hi) (X.2.2.2.2.1 _ hc) (by simp only [xRm]; omega) (by simp only [xRm]; omega) (x_end X hw t1 t2).1 (x_end X hw t1 t2).2 hdg (kk _ _)
theorem xr_mmax {x y : Int32} (X : xX g D A own S0 p s m args c cc nL) (hw : xW g D A S s H) (hsz : ls.size = nL) (hl : Cond.methodLink own idx Lib.Math.max.name ∈ lw_all) (hst : Cond.static Lib.Math.max.name ∈ lw_all) (hi : Cond.initialized "java/lang/Math" ∈ lw_all) (hc : Cond.code Lib.Math.max.name Lib.Math.max.code 2 (some .int) ∈ lw_all) (hr : (rest.map fun v => v.category).sum ≤ 8) (hdg : decode cc pc = .ok (.invokestatic idx, 3))
    (kk : ∀ cells slots : Nat, W p l e (xRm g S0 lv) s m args below meth c H locs cells slots Q (F0 m (pc + 3) ls (.int (if x < y then y else x) :: rest))) : W p l e (xRm g S0 lv) s m args below meth c H locs cells slots Q (F0 m pc ls (.int y :: .int x :: rest)) :=
  W.tight fun t1 t2 => va_mmax X.1 X.2.1 (by rw [X.2.2.1, hsz]) X.2.2.2.1 (X.2.2.2.2.1 _ hl) (X.2.2.2.2.1 _ hst) (X.2.2.2.2.1 _ hi) (X.2.2.2.2.1 _ hc) (by simp only [xRm]; omega) (by simp only [xRm]; omega) (x_end X hw t1 t2).1 (x_end X hw t1 t2).2 hdg (kk _ _)
theorem xr_mabs {x : Int32} (X : xX g D A own S0 p s m args c cc nL) (hw : xW g D A S s H) (hsz : ls.size = nL) (hl : Cond.methodLink own idx Lib.Math.abs.name ∈ lw_all) (hst : Cond.static Lib.Math.abs.name ∈ lw_all) (hi : Cond.initialized "java/lang/Math" ∈ lw_all) (hc : Cond.code Lib.Math.abs.name Lib.Math.abs.code 1 (some .int) ∈ lw_all) (hr : (rest.map fun v => v.category).sum ≤ 8) (hdg : decode cc pc = .ok (.invokestatic idx, 3))
    (kk : ∀ cells slots : Nat, W p l e (xRm g S0 lv) s m args below meth c H locs cells slots Q (F0 m (pc + 3) ls (.int (if 0 ≤ x then x else 0 - x) :: rest))) : W p l e (xRm g S0 lv) s m args below meth c H locs cells slots Q (F0 m pc ls (.int x :: rest)) :=
  W.tight fun t1 t2 => va_mabs X.1 X.2.1 (by rw [X.2.2.1, hsz]) X.2.2.2.1 (X.2.2.2.2.1 _ hl) (X.2.2.2.2.1 _ hst) (X.2.2.2.2.1 _ hi) (X.2.2.2.2.1 _ hc) (by simp only [xRm]; omega) (by simp only [xRm]; omega) (x_end X hw t1 t2).1 (x_end X hw t1 t2).2 hdg (kk _ _)
theorem xr_mminJ {x y : Int64} (X : xX g D A own S0 p s m args c cc nL) (hw : xW g D A S s H) (hsz : ls.size = nL) (hl : Cond.methodLink own idx Lib.MathLoose.min_long.x ∈ lw_all) (hst : Cond.static Lib.MathLoose.min_long.x ∈ lw_all) (hi : Cond.initialized "java/lang/Math" ∈ lw_all) (hc : Cond.code Lib.MathLoose.min_long.x Lib.MathLoose.min_long.code 4 (some .long) ∈ lw_all) (hr : (rest.map fun v => v.category).sum ≤ 8) (hdg : decode cc pc = .ok (.invokestatic idx, 3))
    (kk : ∀ cells slots : Nat, W p l e (xRm g S0 lv) s m args below meth c H locs cells slots Q (F0 m (pc + 3) ls (.long (if y < x then y else x) :: rest))) : W p l e (xRm g S0 lv) s m args below meth c H locs cells slots Q (F0 m pc ls (.long y :: .long x :: rest)) :=
  W.tight fun t1 t2 => va_mmin_long X.1 X.2.1 (by rw [X.2.2.1, hsz]) X.2.2.2.1 (X.2.2.2.2.1 _ hl) (X.2.2.2.2.1 _ hst) (X.2.2.2.2.1 _ hi) (X.2.2.2.2.1 _ hc) (by simp only [xRm]; omega) (by simp only [xRm]; omega) (x_end X hw t1 t2).1 (x_end X hw t1 t2).2 hdg (kk _ _)
/-! constants -/
theorem xr_sref {C n d : String} {v : Value} (X : xX g D A own S0 p s m args c cc nL) (hZ : va_Z C n d v A s H) (hl : Cond.fieldLink own idx C n d ∈ lw_all) (hdg : decode cc pc = .ok (.getstatic idx, 3))
    (kk : W p l e R s m args below meth c H locs cells slots Q (F0 m (pc + 3) ls (v :: rest))) : W p l e R s m args below meth c H locs cells slots Q (F0 m pc ls rest) := by
  obtain ⟨cf, kf, fi, f, a, cell, h1, h2, h3, h4, h5, h6, h7, h8⟩ := hZ
  exact W.gets X.1 X.2.1 X.2.2.2.1 (X.2.2.2.2.1 _ hl) h1 h2 h3 h4 h5 (fun e => by rw [e] at h6; cases h6) h7 rfl hdg kk
end XM
