/-! the reference's world: its int fields by place, its long, its arrays by their field's place; rows for its fields, arrays, calls -/
abbrev MS : Type := (Nat → Int32) × Int64 × (Nat → Nat → Int32)
/-- its address, its arrays' addresses, the classes of int arrays and of boolean arrays -/
abbrev MG : Type := Nat × (Nat → Nat) × ClassId × ClassId
/-- 0 int, 1 int array, 2 boolean array, 3 long, 4 boolean -/
def m_kd (k : Nat) : Nat := match k with
  | 4 => 1 | 5 => 1 | 6 => 1 | 10 => 1 | 18 => 3 | 25 => 1 | 26 => 1 | 27 => 1 | 28 => 1 | 29 => 2 | 30 => 2 | 31 => 1 | 32 => 1 | 34 => 1 | 35 => 1 | 36 => 1 | 37 => 1 | 41 => 1 | 42 => 1 | 43 => 1 | 44 => 1 | 45 => 1 | 46 => 1 | 47 => 1 | 48 => 1 | 50 => 1 | 51 => 1 | 52 => 1 | 54 => 4 | 57 => 1 | 58 => 1 | 59 => 1
  | _ => 0
def m_len (k : Nat) : Nat := match k with
  | 5 => 1400 | 6 => 700 | 10 => 3 | 26 => 64 | 27 => 1400 | 28 => 950 | 31 => 128 | 32 => 2560 | 34 => 6 | 35 => 950 | 50 => 24 | 51 => 40 | 52 => 20480 | 57 => 64 | 58 => 2560 | 59 => 24
  | _ => 9
def m_put (σ : MS) (k : Nat) (v : Int32) : MS := (upd σ.1 k v, σ.2.1, σ.2.2)
def m_lput (σ : MS) (v : Int64) : MS := (σ.1, v, σ.2.2)
def m_set (σ : MS) (k : Nat) (f : Nat → Int32) : MS := (σ.1, σ.2.1, fun j => if j = k then f else σ.2.2 j)
def m_ld (σ : MS) (k : Nat) (i : Int32) : Option Int32 := if i < 0 ∨ m_len k ≤ i.toNatClampNeg then none else some (σ.2.2 k i.toNatClampNeg)
def m_st (σ : MS) (k : Nat) (i v : Int32) : Option MS := if i < 0 ∨ m_len k ≤ i.toNatClampNeg then none else some (m_set σ k (upd (σ.2.2 k) i.toNatClampNeg v))
def m_stZ (σ : MS) (k : Nat) (i v : Int32) : Option MS := if i < 0 ∨ m_len k ≤ i.toNatClampNeg then none else some (m_set σ k (upd (σ.2.2 k) i.toNatClampNeg (vp_nar .boolean v)))
def bnd {α β : Type} (e : α) (f : α → Option β) : Option β := f e
theorem ob_s {α β : Type} {x : Option α} {f : α → Option β} {r : β} (h : x.bind f = some r) : ∃ v, x = some v ∧ f v = some r := Option.bind_eq_some_iff.mp h
theorem bnd_s {α β : Type} {e x : α} {f : α → Option β} {r : β} (h : bnd e f = some r) (q : x = e) : f x = some r := by subst q; exact h
theorem if_t {α : Type} {P : Prop} [Decidable P] {a b r : α} (h : P) (q : (if P then a else b) = r) : a = r := by rw [if_pos h] at q; exact q
theorem if_f {α : Type} {P : Prop} [Decidable P] {a b r : α} (h : ¬ P) (q : (if P then a else b) = r) : b = r := by rw [if_neg h] at q; exact q
def zchk {α : Type} (v : Int32) (x : Option α) : Option α := if v = 0 ∨ v = 1 then x else none
theorem zchk_s {α : Type} {v : Int32} {x : Option α} {r : α} (h : zchk v x = some r) : (v = 0 ∨ v = 1) ∧ x = some r := by
  unfold zchk at h
  by_cases q : v = 0 ∨ v = 1
  · rw [if_pos q] at h; exact ⟨q, h⟩
  · rw [if_neg q] at h; cases h
theorem z_nar {v : Int32} (h : v = 0 ∨ v = 1) : narrow .boolean (.int v) = .int v := by rcases h with rfl | rfl <;> rfl
theorem m_only3 : ∀ j, j ≠ 18 → m_kd j ≠ 3 := by
  intro j hj
  unfold m_kd
  split <;> first | decide | (exact absurd rfl hj)
theorem tab_out (x : Int32) (l : List Int32) {lo hi : Int} (hc : (List.range (hi - lo + 1).toNat).all (fun j => l.any (fun k => k.toInt == lo + (j : Int))) = true) (h : ∀ k ∈ l, ¬ x = k) : x.toInt < lo ∨ hi < x.toInt := by
  apply Classical.byContradiction
  intro q
  have h1 : lo ≤ x.toInt ∧ x.toInt ≤ hi := by omega
  have h2 := List.all_eq_true.mp hc (x.toInt - lo).toNat (List.mem_range.mpr (by omega))
  obtain ⟨k, hk, he⟩ := List.any_eq_true.mp h2
  have he2 : k.toInt = lo + ((x.toInt - lo).toNat : Int) := by simpa using he
  exact h k hk (Int32.toInt_inj.mp (by omega))
def m_val (G : MG) (σ : MS) (k : Nat) : Value := if m_kd k = 3 then .long σ.2.1 else if m_kd k = 1 ∨ m_kd k = 2 then .ref (G.2.1 k) else .int (σ.1 k)
def m_F (G : MG) (σ : MS) : List Value := (List.range 60).map (m_val G σ)
def m_cls (G : MG) (k : Nat) : ClassId := if m_kd k = 2 then G.2.2.2 else G.2.2.1
/-- a picture of the reference that its fields' and arrays' rows may read and write -/
def mOk (D : va_G) (cl : List vw_C) (G : MG) (Ω : MS → Heap → Prop) (A : Nat → Prop) : Prop :=
  (∀ σ H, Ω σ H → va_at D cl (G.1, .inr (0, m_F G σ)) H) ∧
  (∀ σ H k, Ω σ H → (m_kd k = 1 ∨ m_kd k = 2) → va_at D cl (G.2.1 k, .inl (m_cls G k, m_len k, .inl (σ.2.2 k))) H) ∧
  (∀ σ σ' H H1, Ω σ H → H1.size = H.size → (∀ q : Nat, q ≠ G.1 → H1[q]? = H[q]?) → va_at D cl (G.1, .inr (0, m_F G σ')) H1 → σ'.2.2 = σ.2.2 → Ω σ' H1) ∧
  (∀ σ k f H H1, Ω σ H → (m_kd k = 1 ∨ m_kd k = 2) → H1.size = H.size → (∀ q : Nat, q ≠ G.2.1 k → H1[q]? = H[q]?) → va_at D cl (G.2.1 k, .inl (m_cls G k, m_len k, .inl f)) H1 → Ω (m_set σ k f) H1) ∧
  A G.1 ∧ (∀ k, (m_kd k = 1 ∨ m_kd k = 2) → A (G.2.1 k)) ∧ cl[0]? = some (RX4, TX4, 60)
def m_tys (G : MG) : List (ClassId × FieldType) := [(G.2.2.1, .int), (G.2.2.2, .boolean)]
def mX (D : va_G) (cl : List vw_C) (G : MG) (Ω : MS → Heap → Prop) (A : Nat → Prop) (p : Program) (s : State) (m : MethodId) (args : Array Value) (c : Code) (cc : ByteArray) (nL : Nat) : Prop :=
  p.tables.exec = Jvm.exec ∧ c.code = cc ∧ c.maxLocals = nL ∧ s.vm.findClass RX4 = some m.cls ∧ (∀ w ∈ lw_all, w.before args s = true) ∧ va_K D cl (m_tys G) s ∧ mOk D cl G Ω A
def mRm (n : Nat) : Room := { frames := n + 1, cells := 0, slots := 0, locals := 40 * (n + 1) }
def mPre (D : va_G) (cl : List vw_C) (G : MG) (Ω : MS → Heap → Prop) (av : List Value) (σ : MS) : Array Value → State → Prop := va_Pc av (fun U => Ω σ U.heap ∧ va_K D cl (m_tys G) U)
def mQi (D : va_G) (cl : List vw_C) (G : MG) (Ω : MS → Heap → Prop) (A : Nat → Prop) (σ1 : MS) (r1 : Int32) : Array Value → State → Outcome → State → Prop := va_Qi (fun (r : Int32) (u : MS) => r = r1 ∧ u = σ1) (fun u t => Ω u t.heap ∧ va_K D cl (m_tys G) t) A
def mQl (D : va_G) (cl : List vw_C) (G : MG) (Ω : MS → Heap → Prop) (A : Nat → Prop) (σ1 : MS) (r1 : Int64) : Array Value → State → Outcome → State → Prop := va_Ql (fun (r : Int64) (u : MS) => r = r1 ∧ u = σ1) (fun u t => Ω u t.heap ∧ va_K D cl (m_tys G) t) A
def mQv (D : va_G) (cl : List vw_C) (G : MG) (Ω : MS → Heap → Prop) (A : Nat → Prop) (σ1 : MS) : Array Value → State → Outcome → State → Prop := va_Qv (fun (u : MS) => u = σ1) (fun u t => Ω u t.heap ∧ va_K D cl (m_tys G) t) A
theorem m_F_get (G : MG) (σ : MS) {k : Nat} (hk : k < 60) : (m_F G σ)[k]? = some (m_val G σ k) := by
  unfold m_F
  rw [List.getElem?_map, List.getElem?_range hk]
  rfl
theorem m_F_set (G : MG) (σ σ' : MS) {k : Nat} {v : Value} (h : m_val G σ' k = v) (ho : ∀ j, j ≠ k → m_val G σ' j = m_val G σ j) : (m_F G σ).set k v = m_F G σ' := by
  apply List.ext_getElem?
  intro j
  by_cases hj : j < 60
  · rw [m_F_get G σ' hj, List.getElem?_set]
    by_cases e : k = j
    · subst e
      rw [if_pos rfl, h]
      simp [m_F, hj]
    · rw [if_neg e, m_F_get G σ hj, ho j (fun q => e q.symm)]
  · have h1 : (m_F G σ').length ≤ j := by simp [m_F]; omega
    have h2 : ((m_F G σ).set k v).length ≤ j := by simp [m_F]; omega
    rw [List.getElem?_eq_none h1, List.getElem?_eq_none h2]
theorem m_final0 : ∀ k, k < 60 → (m_kd k = 0 ∨ m_kd k = 3 ∨ m_kd k = 4) → (TX4 k).2.2.2 = false := by decide +kernel
theorem m_ty0 : ∀ k, k < 60 → m_kd k = 0 → parseFieldDescriptor (TX4 k).2.2.1 = some .int := by decide +kernel
theorem m_ty3 : ∀ k, k < 60 → m_kd k = 3 → parseFieldDescriptor (TX4 k).2.2.1 = some .long := by decide +kernel
theorem m_ty4 : ∀ k, k < 60 → m_kd k = 4 → parseFieldDescriptor (TX4 k).2.2.1 = some .boolean := by decide +kernel
theorem m_own : ∀ k, k < 60 → (TX4 k).1 = RX4 := by decide +kernel
theorem va_P1 {D : va_G} {cl : List vw_C} {q : Nat × va_E} {H : Heap} (h : va_at D cl q H) : va_P D cl [q] H := by
  intro k r hk
  match k, hk with
  | 0, hk => cases hk; exact h
theorem va_P1' {D : va_G} {cl : List vw_C} {q : Nat × va_E} {H : Heap} (h : va_P D cl [q] H) : va_at D cl q H := h 0 q rfl
section UB
variable {p : Program} {l : Launch} {e : Env} {R : Room} {s : State} {m : MethodId} {args : Array Value} {below : List Frame} {meth : Method} {c : Code} {H : Heap} {locs : List Loc} {cells slots : Nat} {Q : State → Prop}
variable {cc : ByteArray} {pc : Nat} {ls : Array Slot} {rest : List Value} {D : va_G} {cl : List vw_C} {a : Nat} {tys : List (ClassId × FieldType)}
/-- a field is written; nothing else changes -/
theorem ub_put (hexec : p.tables.exec = Jvm.exec) (hb : c.code = cc) {own ref C : String} {T : u_T} {N ci index : Nat} {Ts : List Cond} (hts : ∀ w ∈ Ts, w.before args s = true) (hin : ∀ w ∈ u_ws C T N, w ∈ Ts) (ty0 : Nat → FieldType) (hty : ∀ k, k < N → parseFieldDescriptor (T k).2.2.1 = some (ty0 k)) (hnm : ∀ a, a < N → ∀ b, b < N → a ≠ b → (T a).2.1 ≠ (T b).2.1) (hown : s.vm.findClass own = some m.cls) (hK : va_K D cl tys s) {fs : List Value} (hat : va_at D cl (a, .inr (ci, fs)) H) (hc : cl[ci]? = some (C, T, N)) (k : Nat) (hk : k < N) (hlink : (Cond.fieldLink own index ref (T k).2.1 (T k).2.2.1).before args s = true) (hsame : ∀ x, s.fieldFound? (T k).1 (T k).2.1 (T k).2.2.1 = some x → s.fieldFound? ref (T k).2.1 (T k).2.2.1 = some x) (hfin : (T k).2.2.2 = false) {ty : FieldType} {v : Value} (hd : parseFieldDescriptor (T k).2.2.1 = some ty) (hn : narrow ty v = v) (hfit : fits ty v = true) (hl : k < fs.length)
    (hdg : decode cc pc = .ok (.putfield index, 3)) (kk : ∀ (H1 : Heap) (n : Nat), H1.size = H.size → (∀ q : Nat, q ≠ a → H1[q]? = H[q]?) → va_at D cl (a, .inr (ci, fs.set k v)) H1 → W p l e R s m args below meth c H1 (locs ++ [⟨a, n⟩]) cells slots Q (F0 m (pc + 3) ls rest)) : W p l e R s m args below meth c H locs cells slots Q (F0 m pc ls (v :: .ref a :: rest)) := by
  have hap := va_apart (own := own) hts hin ty0 hty hnm hK hc
  obtain ⟨r, h1, cell, q1, q2, q3, q4⟩ := hat
  have hr : r = (C, T, N) := Option.some.inj (h1.symm.trans hc)
  subst hr
  obtain ⟨hS, hfc, kC, hkC, hkind⟩ := hK.1 ci _ hc
  obtain ⟨cf, kf, fi, f, hi, hsl⟩ := hS k hk
  have hlay := hts _ (hin _ (u_in_lay hk))
  unfold u_lay at hlay
  rw [if_neg (by rw [hfin]; decide)] at hlay
  have hst := (u_facts hfc hkC (u_lays hts hin hk) hi).1
  have h6 := u_store hfc hkC hkind hlay hi hd hn hfit
  refine W.putK hexec hb (f := f) ⟨hown, hlink, ⟨_, _, _, hsame _ hi⟩, hst⟩ (by rw [q2]; exact h6) q1 q3 (by rw [hsl]; exact k2_hasslot (q4 k hk)) rfl rfl hdg fun H' e1 e2 e3 => ?_
  rw [hsl] at e1 ⊢
  exact kk H' _ e2 e3 ⟨_, hc, t_OB.to (V := updV (vp_V fs) k v) ⟨_, e1, q2, q3, t_set q4 hap hk v⟩ (fun j _ => vp_updV_set hl v j)⟩
theorem ub_iast (hexec : p.tables.exec = Jvm.exec) (hb : c.code = cc) {cA : ClassId} (hT : ArrOfT s cA .int) {n : Nat} {f : Nat → Int32} (hat : va_at D cl (a, .inl (cA, n, .inl f)) H) {i : Int32} {x : Int32} (hin : vp_in i n) (hdg : decode cc pc = .ok (.iastore, 1))
    (kk : ∀ (H1 : Heap) (n1 : Nat), H1.size = H.size → (∀ q : Nat, q ≠ a → H1[q]? = H[q]?) → va_at D cl (a, .inl (cA, n, .inl (upd f i.toNatClampNeg x))) H1 → W p l e R s m args below meth c H1 (locs ++ [⟨a, n1⟩]) cells slots Q (F0 m (pc + 1) ls rest)) : W p l e R s m args below meth c H locs cells slots Q (F0 m pc ls (.int x :: .int i :: .ref a :: rest)) := by
  refine W.iast hexec hb hat (hT n (fun j => .int (f j))) (fun q => by cases q) (by show ¬ (i < 0 ∨ (arrV _ _ _).slots.size ≤ _); rw [arrV_size]; exact hin) rfl rfl hdg fun H1 e z oq => ?_
  refine kk H1 _ z oq ?_
  show H1[a]? = some (vp_cell _ _)
  rw [e]
  rw [vp_cell_i, vp_cell_i, arrV_store]
  congr 2
  funext q
  by_cases hq : q = i.toNatClampNeg
  · subst hq
    simp [updV, upd]
  · simp [updV, upd, hq]
theorem ub_zast (hexec : p.tables.exec = Jvm.exec) (hb : c.code = cc) {cA : ClassId} (hT : ArrOfT s cA .boolean) {n : Nat} {f : Nat → Int32} (hat : va_at D cl (a, .inl (cA, n, .inl f)) H) {i : Int32} {x : Int32} (hin : vp_in i n) (hdg : decode cc pc = .ok (.bastore, 1))
    (kk : ∀ (H1 : Heap) (n1 : Nat), H1.size = H.size → (∀ q : Nat, q ≠ a → H1[q]? = H[q]?) → va_at D cl (a, .inl (cA, n, .inl (upd f i.toNatClampNeg (vp_nar .boolean x)))) H1 → W p l e R s m args below meth c H1 (locs ++ [⟨a, n1⟩]) cells slots Q (F0 m (pc + 1) ls rest)) : W p l e R s m args below meth c H locs cells slots Q (F0 m pc ls (.int x :: .int i :: .ref a :: rest)) := by
  refine W.zast hexec hb hat (hT n (fun j => .int (f j))) (fun q => by cases q) (by show ¬ (i < 0 ∨ (arrV _ _ _).slots.size ≤ _); rw [arrV_size]; exact hin) rfl rfl hdg fun H1 e z oq => ?_
  refine kk H1 _ z oq ?_
  show H1[a]? = some (vp_cell _ _)
  rw [e]
  rw [vp_cell_i, vp_cell_i, arrV_store]
  congr 2
  funext q
  by_cases hq : q = i.toNatClampNeg
  · subst hq
    simp [updV, upd, vp_nar]
    try rfl
  · simp [updV, upd, hq]
end UB
section MR
variable {p : Program} {l : Launch} {e : Env} {R : Room} {s : State} {m : MethodId} {args : Array Value} {below : List Frame} {meth : Method} {c : Code} {H : Heap} {locs : List Loc} {cells slots : Nat} {Q : State → Prop}
variable {cc : ByteArray} {pc nL : Nat} {ls : Array Slot} {rest : List Value} {D : va_G} {cl : List vw_C} {G : MG} {Ω : MS → Heap → Prop} {A : Nat → Prop} {σ : MS} {H0 : Heap}
theorem m_range {k : Nat} (h : m_kd k ≠ 0) : k < 60 := by
  rcases Nat.lt_or_ge k 60 with q | q
  · exact q
  · exfalso
    apply h
    unfold m_kd
    split <;> first | rfl | omega
theorem mr_getI (X : mX D cl G Ω A p s m args c cc nL) (hw : Ω σ H) (k : Nat) {idx : Nat} (hlink : Cond.fieldLink RX4 idx RX4 (TX4 k).2.1 (TX4 k).2.2.1 ∈ lw_all) (hk : k < 60) (hk0 : m_kd k = 0 ∨ m_kd k = 4) (hdg : decode cc pc = .ok (.getfield idx, 3))
    (kk : W p l e R s m args below meth c H locs cells slots Q (F0 m (pc + 3) ls (.int (σ.1 k) :: rest))) : W p l e R s m args below meth c H locs cells slots Q (F0 m pc ls (.ref G.1 :: rest)) := by
  obtain ⟨hx, hb, -, hown, hts, hK, ok1, -, -, -, -, -, hc⟩ := X
  refine va_get hx hb hts in_X4 hown hK (va_P1 (ok1 _ _ hw)) 0 rfl hc k hk (hts _ hlink) (by rw [m_own k hk]; exact fun _ h => h) (v := .int (σ.1 k)) ?_ hdg kk
  rw [m_F_get G σ hk]
  unfold m_val
  rw [if_neg (by omega), if_neg (by omega)]
theorem mr_getA (X : mX D cl G Ω A p s m args c cc nL) (hw : Ω σ H) (k : Nat) {idx : Nat} (hlink : Cond.fieldLink RX4 idx RX4 (TX4 k).2.1 (TX4 k).2.2.1 ∈ lw_all) (hk0 : m_kd k = 1 ∨ m_kd k = 2) (hdg : decode cc pc = .ok (.getfield idx, 3))
    (kk : W p l e R s m args below meth c H locs cells slots Q (F0 m (pc + 3) ls (.ref (G.2.1 k) :: rest))) : W p l e R s m args below meth c H locs cells slots Q (F0 m pc ls (.ref G.1 :: rest)) := by
  obtain ⟨hx, hb, -, hown, hts, hK, ok1, -, -, -, -, -, hc⟩ := X
  have hk : k < 60 := m_range (by omega)
  refine va_get hx hb hts in_X4 hown hK (va_P1 (ok1 _ _ hw)) 0 rfl hc k hk (hts _ hlink) (by rw [m_own k hk]; exact fun _ h => h) (v := .ref (G.2.1 k)) ?_ hdg kk
  rw [m_F_get G σ hk]
  unfold m_val
  rw [if_neg (by omega), if_pos hk0]
theorem mr_getJ (X : mX D cl G Ω A p s m args c cc nL) (hw : Ω σ H) (k : Nat) {idx : Nat} (hlink : Cond.fieldLink RX4 idx RX4 (TX4 k).2.1 (TX4 k).2.2.1 ∈ lw_all) (hk0 : m_kd k = 3) (hdg : decode cc pc = .ok (.getfield idx, 3))
    (kk : W p l e R s m args below meth c H locs cells slots Q (F0 m (pc + 3) ls (.long σ.2.1 :: rest))) : W p l e R s m args below meth c H locs cells slots Q (F0 m pc ls (.ref G.1 :: rest)) := by
  obtain ⟨hx, hb, -, hown, hts, hK, ok1, -, -, -, -, -, hc⟩ := X
  have hk : k < 60 := m_range (by omega)
  refine va_get hx hb hts in_X4 hown hK (va_P1 (ok1 _ _ hw)) 0 rfl hc k hk (hts _ hlink) (by rw [m_own k hk]; exact fun _ h => h) (v := .long σ.2.1) ?_ hdg kk
  rw [m_F_get G σ hk]
  unfold m_val
  rw [if_pos hk0]
theorem m_len60 (G : MG) (σ : MS) : (m_F G σ).length = 60 := by simp [m_F]
theorem m_SS {a n : Nat} {H1 : Heap} (hS : va_S A H0 H locs) (z : H1.size = H.size) (oq : ∀ q : Nat, q ≠ a → H1[q]? = H[q]?) (ha : A a) : va_S A H0 H1 (locs ++ [⟨a, n⟩]) := hS.put z oq ha
theorem mr_putI (X : mX D cl G Ω A p s m args c cc nL) (hw : Ω σ H) (hS : va_S A H0 H locs) (k : Nat) {idx : Nat} (hlink : Cond.fieldLink RX4 idx RX4 (TX4 k).2.1 (TX4 k).2.2.1 ∈ lw_all) (hk : k < 60) (hk0 : m_kd k = 0) {v : Int32} (hdg : decode cc pc = .ok (.putfield idx, 3))
    (kk : ∀ (σ1 : MS) (H1 : Heap) (locs1 : List Loc), σ1 = m_put σ k v → Ω σ1 H1 → va_S A H0 H1 locs1 → W p l e R s m args below meth c H1 locs1 cells slots Q (F0 m (pc + 3) ls rest)) : W p l e R s m args below meth c H locs cells slots Q (F0 m pc ls (.int v :: .ref G.1 :: rest)) := by
  obtain ⟨hx, hb, -, hown, hts, hK, ok1, ok2, ok3, ok4, hA, hA2, hc⟩ := X
  refine ub_put hx hb hts in_X4 tyX4 tyX4_ok nmX4 hown hK (ok1 _ _ hw) hc k hk (hts _ hlink) (by rw [m_own k hk]; exact fun _ h => h) (m_final0 k hk (Or.inl hk0)) (m_ty0 k hk hk0) rfl rfl (by rw [m_len60]; exact hk) hdg fun H1 n z oq hat => ?_
  refine kk (m_put σ k v) H1 _ rfl (ok3 _ _ _ _ hw z oq ?_ rfl) (m_SS hS z oq hA)
  rwa [m_F_set G σ (m_put σ k v) (v := .int v) (by unfold m_val; rw [if_neg (by omega), if_neg (by omega)]; simp [m_put, upd]) (fun j hj => by unfold m_val; simp [m_put, upd, hj])] at hat
theorem mr_putZ (X : mX D cl G Ω A p s m args c cc nL) (hw : Ω σ H) (hS : va_S A H0 H locs) (k : Nat) {idx : Nat} (hlink : Cond.fieldLink RX4 idx RX4 (TX4 k).2.1 (TX4 k).2.2.1 ∈ lw_all) (hk0 : m_kd k = 4) {v : Int32} (hn : narrow .boolean (.int v) = .int v) (hf : fits .boolean (.int v) = true) (hdg : decode cc pc = .ok (.putfield idx, 3))
    (kk : ∀ (σ1 : MS) (H1 : Heap) (locs1 : List Loc), σ1 = m_put σ k v → Ω σ1 H1 → va_S A H0 H1 locs1 → W p l e R s m args below meth c H1 locs1 cells slots Q (F0 m (pc + 3) ls rest)) : W p l e R s m args below meth c H locs cells slots Q (F0 m pc ls (.int v :: .ref G.1 :: rest)) := by
  obtain ⟨hx, hb, -, hown, hts, hK, ok1, ok2, ok3, ok4, hA, hA2, hc⟩ := X
  have hk : k < 60 := m_range (by omega)
  refine ub_put hx hb hts in_X4 tyX4 tyX4_ok nmX4 hown hK (ok1 _ _ hw) hc k hk (hts _ hlink) (by rw [m_own k hk]; exact fun _ h => h) (m_final0 k hk (Or.inr (Or.inr hk0))) (m_ty4 k hk hk0) hn hf (by rw [m_len60]; exact hk) hdg fun H1 n z oq hat => ?_
  refine kk (m_put σ k v) H1 _ rfl (ok3 _ _ _ _ hw z oq ?_ rfl) (m_SS hS z oq hA)
  rwa [m_F_set G σ (m_put σ k v) (v := .int v) (by unfold m_val; rw [if_neg (by omega), if_neg (by omega)]; simp [m_put, upd]) (fun j hj => by unfold m_val; simp [m_put, upd, hj])] at hat
theorem mr_putJ (X : mX D cl G Ω A p s m args c cc nL) (hw : Ω σ H) (hS : va_S A H0 H locs) (k : Nat) {idx : Nat} (hlink : Cond.fieldLink RX4 idx RX4 (TX4 k).2.1 (TX4 k).2.2.1 ∈ lw_all) (hk0 : m_kd k = 3) (hu : ∀ j, j ≠ k → m_kd j ≠ 3) {v : Int64} (hdg : decode cc pc = .ok (.putfield idx, 3))
    (kk : ∀ (σ1 : MS) (H1 : Heap) (locs1 : List Loc), σ1 = m_lput σ v → Ω σ1 H1 → va_S A H0 H1 locs1 → W p l e R s m args below meth c H1 locs1 cells slots Q (F0 m (pc + 3) ls rest)) : W p l e R s m args below meth c H locs cells slots Q (F0 m pc ls (.long v :: .ref G.1 :: rest)) := by
  obtain ⟨hx, hb, -, hown, hts, hK, ok1, ok2, ok3, ok4, hA, hA2, hc⟩ := X
  have hk : k < 60 := m_range (by omega)
  refine ub_put hx hb hts in_X4 tyX4 tyX4_ok nmX4 hown hK (ok1 _ _ hw) hc k hk (hts _ hlink) (by rw [m_own k hk]; exact fun _ h => h) (m_final0 k hk (Or.inr (Or.inl hk0))) (m_ty3 k hk hk0) rfl rfl (by rw [m_len60]; exact hk) hdg fun H1 n z oq hat => ?_
  refine kk (m_lput σ v) H1 _ rfl (ok3 _ _ _ _ hw z oq ?_ rfl) (m_SS hS z oq hA)
  rwa [m_F_set G σ (m_lput σ v) (v := .long v) (by unfold m_val; rw [if_pos hk0]; rfl) (fun j hj => by unfold m_val; rw [if_neg (hu j hj), if_neg (hu j hj)]; rfl)] at hat
theorem m_ld_s {k : Nat} {i v : Int32} (h : m_ld σ k i = some v) : vp_in i (m_len k) ∧ v = σ.2.2 k i.toNatClampNeg := by
  unfold m_ld at h
  by_cases q : i < 0 ∨ m_len k ≤ i.toNatClampNeg
  · rw [if_pos q] at h; cases h
  · rw [if_neg q] at h; exact ⟨q, (Option.some.inj h).symm⟩
theorem mr_ld (X : mX D cl G Ω A p s m args c cc nL) (hw : Ω σ H) {k : Nat} (hk : m_kd k = 1) {i v : Int32} (hv : m_ld σ k i = some v) (hdg : decode cc pc = .ok (.iaload, 1))
    (kk : W p l e R s m args below meth c H locs cells slots Q (F0 m (pc + 1) ls (.int v :: rest))) : W p l e R s m args below meth c H locs cells slots Q (F0 m pc ls (.int i :: .ref (G.2.1 k) :: rest)) := by
  obtain ⟨hx, hb, -, hown, hts, hK, ok1, ok2, ok3, ok4, hA, hA2, hc⟩ := X
  obtain ⟨h1, rfl⟩ := m_ld_s hv
  have hat := ok2 _ _ k hw (Or.inl hk)
  rw [show m_cls G k = G.2.2.1 by unfold m_cls; rw [if_neg (by omega)]] at hat
  exact va_iald hx hb hK (va_P1 hat) 0 0 rfl rfl h1 hdg kk
theorem mr_ldZ (X : mX D cl G Ω A p s m args c cc nL) (hw : Ω σ H) {k : Nat} (hk : m_kd k = 2) {i v : Int32} (hv : m_ld σ k i = some v) (hdg : decode cc pc = .ok (.baload, 1))
    (kk : W p l e R s m args below meth c H locs cells slots Q (F0 m (pc + 1) ls (.int v :: rest))) : W p l e R s m args below meth c H locs cells slots Q (F0 m pc ls (.int i :: .ref (G.2.1 k) :: rest)) := by
  obtain ⟨hx, hb, -, hown, hts, hK, ok1, ok2, ok3, ok4, hA, hA2, hc⟩ := X
  obtain ⟨h1, rfl⟩ := m_ld_s hv
  have hat := ok2 _ _ k hw (Or.inr hk)
  rw [show m_cls G k = G.2.2.2 by unfold m_cls; rw [if_pos hk]] at hat
  exact va_zald hx hb hK (va_P1 hat) 0 1 rfl rfl h1 hdg kk
theorem mr_st (X : mX D cl G Ω A p s m args c cc nL) (hw : Ω σ H) (hS : va_S A H0 H locs) {k : Nat} (hk : m_kd k = 1) {i v : Int32} {σ1 : MS} (hv : m_st σ k i v = some σ1) (hdg : decode cc pc = .ok (.iastore, 1))
    (kk : ∀ (H1 : Heap) (locs1 : List Loc), Ω σ1 H1 → va_S A H0 H1 locs1 → W p l e R s m args below meth c H1 locs1 cells slots Q (F0 m (pc + 1) ls rest)) : W p l e R s m args below meth c H locs cells slots Q (F0 m pc ls (.int v :: .int i :: .ref (G.2.1 k) :: rest)) := by
  obtain ⟨hx, hb, -, hown, hts, hK, ok1, ok2, ok3, ok4, hA, hA2, hc⟩ := X
  unfold m_st at hv
  by_cases q : i < 0 ∨ m_len k ≤ i.toNatClampNeg
  · rw [if_pos q] at hv; cases hv
  rw [if_neg q] at hv
  obtain rfl := Option.some.inj hv
  have hat := ok2 _ _ k hw (Or.inl hk)
  refine ub_iast hx hb (n := m_len k) (f := σ.2.2 k) (cA := m_cls G k) (D := D) (cl := cl) (by unfold m_cls; rw [if_neg (by omega)]; exact (hK.2 0 _ rfl).1) hat q hdg fun H1 n1 z oq h1 => ?_
  exact kk H1 _ (ok4 _ _ _ _ _ hw (Or.inl hk) z oq h1) (m_SS hS z oq (hA2 k (Or.inl hk)))
theorem mr_stZ (X : mX D cl G Ω A p s m args c cc nL) (hw : Ω σ H) (hS : va_S A H0 H locs) {k : Nat} (hk : m_kd k = 2) {i v : Int32} {σ1 : MS} (hv : m_stZ σ k i v = some σ1) (hdg : decode cc pc = .ok (.bastore, 1))
    (kk : ∀ (H1 : Heap) (locs1 : List Loc), Ω σ1 H1 → va_S A H0 H1 locs1 → W p l e R s m args below meth c H1 locs1 cells slots Q (F0 m (pc + 1) ls rest)) : W p l e R s m args below meth c H locs cells slots Q (F0 m pc ls (.int v :: .int i :: .ref (G.2.1 k) :: rest)) := by
  obtain ⟨hx, hb, -, hown, hts, hK, ok1, ok2, ok3, ok4, hA, hA2, hc⟩ := X
  unfold m_stZ at hv
  by_cases q : i < 0 ∨ m_len k ≤ i.toNatClampNeg
  · rw [if_pos q] at hv; cases hv
  rw [if_neg q] at hv
  obtain rfl := Option.some.inj hv
  have hat := ok2 _ _ k hw (Or.inr hk)
  refine ub_zast hx hb (n := m_len k) (f := σ.2.2 k) (cA := m_cls G k) (D := D) (cl := cl) (by unfold m_cls; rw [if_pos hk]; exact (hK.2 1 _ rfl).1) hat q hdg fun H1 n1 z oq h1 => ?_
  exact kk H1 _ (ok4 _ _ _ _ _ hw (Or.inr hk) z oq h1) (m_SS hS z oq (hA2 k (Or.inr hk)))
theorem mr_alen (X : mX D cl G Ω A p s m args c cc nL) (hw : Ω σ H) {k : Nat} (hk : m_kd k = 1) (hdg : decode cc pc = .ok (.arraylength, 1))
    (kk : W p l e R s m args below meth c H locs cells slots Q (F0 m (pc + 1) ls (.int (Int32.ofNat (m_len k)) :: rest))) : W p l e R s m args below meth c H locs cells slots Q (F0 m pc ls (.ref (G.2.1 k) :: rest)) := by
  obtain ⟨hx, hb, -, hown, hts, hK, ok1, ok2, ok3, ok4, hA, hA2, hc⟩ := X
  have hat := ok2 _ _ k hw (Or.inl hk)
  rw [show m_cls G k = G.2.2.1 by unfold m_cls; rw [if_neg (by omega)]] at hat
  exact va_alen (v := Int32.ofNat (m_len k)) hx hb hK (va_P1 hat) 0 0 rfl rfl rfl hdg kk
theorem m_blind {av : List Value} : FrameBlind (mPre D cl G Ω av σ) := fun a U g mk q => ⟨q.1, q.2.1, va_K.moved (u := U) (U := U.calling g mk a) (Vm.Alike.refl U.vm) q.2.2⟩
theorem m_preV (X : mX D cl G Ω A p s m args c cc nL) (hw : Ω σ H) (As : List Value) : PreV s H RX4 G.1 (mPre D cl G Ω (.ref G.1 :: As) σ) As := by
  obtain ⟨hx, hb, -, hown, hts, hK, ok1, ok2, ok3, ok4, hA, hA2, hc⟩ := X
  exact ⟨m_blind, va_recv hK (va_P1 (ok1 _ _ hw)) (ci := 0) (q0 := 0) hc rfl, fun U hU hW => ⟨rfl, by rw [hU]; exact hw, va_K.moved hW.alike hK⟩⟩
theorem m_preS (X : mX D cl G Ω A p s m args c cc nL) (hw : Ω σ H) (As : List Value) : PreS s H (mPre D cl G Ω As σ) As := by
  obtain ⟨hx, hb, -, hown, hts, hK, ok1, ok2, ok3, ok4, hA, hA2, hc⟩ := X
  exact ⟨m_blind, fun U hU hW => ⟨rfl, by rw [hU]; exact hw, va_K.moved hW.alike hK⟩⟩
theorem m_fix (X : mX D cl G Ω A p s m args c cc nL) : CallFix p m c cc nL s args lw_all RX4 := by
  obtain ⟨hx, hb, hml, hown, hts, -⟩ := X
  exact ⟨hx, hb, hml, hown, hts⟩
variable {y : MethodName} {bytes : ByteArray} {maxL n lv lv2 index : Nat} {ret : Option FieldType} {As st : List Value} {σ1 : MS}
/-- the room of a call one level below -/
theorem mr_room (h1 : lv < lv2) (h2 : maxL ≤ 21) : (mRm lv).frames + 1 ≤ (mRm lv2).frames ∧ 8 + (maxL + 11) + (mRm lv).locals ≤ (mRm lv2).locals := by
  simp only [mRm]
  omega
theorem mr_cv (X : mX D cl G Ω A p s m args c cc nL) (h1 : lv < lv2) (h2 : maxL ≤ 21) (hy : y.cls = RX4 ∧ y.cls ≠ "java/lang/invoke/MethodHandle" ∧ y.cls ≠ "java/lang/invoke/VarHandle" ∧ (parseMethodDescriptor y.desc).map (fun d => d.parameters.length) = some n) (hw : GoodIn lw_all (wsV RX4 index RX4 y (ws_ y bytes maxL ret))) : CallW (mRm lv2) s args RX4 RX4 index y bytes maxL ret (ws_ y bytes maxL ret) (mRm lv) 0 0 n :=
  cwV n X.2.2.2.2.1 hw rfl rfl rfl hy (mr_room h1 h2)
theorem mr_cs (X : mX D cl G Ω A p s m args c cc nL) (h1 : lv < lv2) (h2 : maxL ≤ 21) (hy : y.cls ≠ "java/lang/invoke/MethodHandle" ∧ y.cls ≠ "java/lang/invoke/VarHandle" ∧ (parseMethodDescriptor y.desc).map (fun d => d.parameters.length) = some n) (hw : GoodIn lw_all (va_wsS RX4 index y (ws_ y bytes maxL ret))) : CallB (mRm lv2) s args RX4 index y bytes maxL ret (ws_ y bytes maxL ret) (mRm lv) 0 0 n ∧ (Cond.static y).before args s = true :=
  va_cwS n X.2.2.2.2.1 hw rfl rfl rfl hy (mr_room h1 h2)
theorem mr_fits {n : Nat} (h1 : cells = 0) (h2 : slots = 0) : cells + 0 ≤ (mRm n).cells ∧ slots + 0 ≤ (mRm n).slots := by subst h1; subst h2; exact ⟨Nat.le_refl 0, Nat.le_refl 0⟩
theorem mr_callVi {r : Int32} (X : mX D cl G Ω A p s m args c cc nL) (hw : Ω σ H) (hS : va_S A H0 H locs) (hM : Met l y (ws_ y bytes maxL ret) (mRm lv) (mPre D cl G Ω (.ref G.1 :: As) σ) (mQi D cl G Ω A σ1 r) 0 0 A) (cw : CallW (mRm lv2) s args RX4 RX4 index y bytes maxL ret (ws_ y bytes maxL ret) (mRm lv) 0 0 n) (hn : As.length = n) (hsz : ls.size = nL) (hst : st = As.reverse ++ .ref G.1 :: rest) (hr : (rest.map fun v => v.category).sum ≤ 8) (hdg : decode cc pc = .ok (.invokevirtual index, 3))
    (kk : ∀ (H1 : Heap) (locs1 : List Loc), Ω σ1 H1 → va_S A H0 H1 locs1 → W p l e (mRm lv2) s m args below meth c H1 locs1 0 0 Q (F0 m (pc + 3) ls (.int r :: rest))) : W p l e (mRm lv2) s m args below meth c H locs 0 0 Q (F0 m pc ls st) :=
  va_calli (va_runV (m_fix X) hM cw (m_preV X hw As) rfl hn hsz hst (lv_room hr) hdg (mr_fits rfl rfl)) hS (fun _ _ h => h) (fun _ h => h) (fun r2 u t H1 locs1 ht hvm hp hB hz hk hS1 => by
    obtain ⟨rfl, rfl⟩ := hp
    exact kk H1 locs1 (by rw [← ht]; exact hB.1) hS1)
theorem mr_callVl {r : Int64} (X : mX D cl G Ω A p s m args c cc nL) (hw : Ω σ H) (hS : va_S A H0 H locs) (hM : Met l y (ws_ y bytes maxL ret) (mRm lv) (mPre D cl G Ω (.ref G.1 :: As) σ) (mQl D cl G Ω A σ1 r) 0 0 A) (cw : CallW (mRm lv2) s args RX4 RX4 index y bytes maxL ret (ws_ y bytes maxL ret) (mRm lv) 0 0 n) (hn : As.length = n) (hsz : ls.size = nL) (hst : st = As.reverse ++ .ref G.1 :: rest) (hr : (rest.map fun v => v.category).sum ≤ 8) (hdg : decode cc pc = .ok (.invokevirtual index, 3))
    (kk : ∀ (H1 : Heap) (locs1 : List Loc), Ω σ1 H1 → va_S A H0 H1 locs1 → W p l e (mRm lv2) s m args below meth c H1 locs1 0 0 Q (F0 m (pc + 3) ls (.long r :: rest))) : W p l e (mRm lv2) s m args below meth c H locs 0 0 Q (F0 m pc ls st) :=
  va_calll (va_runV (m_fix X) hM cw (m_preV X hw As) rfl hn hsz hst (lv_room hr) hdg (mr_fits rfl rfl)) hS (fun _ _ h => h) (fun _ h => h) (fun r2 u t H1 locs1 ht hvm hp hB hz hk hS1 => by
    obtain ⟨rfl, rfl⟩ := hp
    exact kk H1 locs1 (by rw [← ht]; exact hB.1) hS1)
theorem mr_callVv (X : mX D cl G Ω A p s m args c cc nL) (hw : Ω σ H) (hS : va_S A H0 H locs) (hM : Met l y (ws_ y bytes maxL ret) (mRm lv) (mPre D cl G Ω (.ref G.1 :: As) σ) (mQv D cl G Ω A σ1) 0 0 A) (cw : CallW (mRm lv2) s args RX4 RX4 index y bytes maxL ret (ws_ y bytes maxL ret) (mRm lv) 0 0 n) (hn : As.length = n) (hsz : ls.size = nL) (hst : st = As.reverse ++ .ref G.1 :: rest) (hr : (rest.map fun v => v.category).sum ≤ 8) (hdg : decode cc pc = .ok (.invokevirtual index, 3))
    (kk : ∀ (H1 : Heap) (locs1 : List Loc), Ω σ1 H1 → va_S A H0 H1 locs1 → W p l e (mRm lv2) s m args below meth c H1 locs1 0 0 Q (F0 m (pc + 3) ls rest)) : W p l e (mRm lv2) s m args below meth c H locs 0 0 Q (F0 m pc ls st) :=
  va_callv (va_runV (m_fix X) hM cw (m_preV X hw As) rfl hn hsz hst (lv_room hr) hdg (mr_fits rfl rfl)) hS (fun _ _ h => h) (fun _ h => h) (fun u t H1 locs1 ht hvm hp hB hz hk hS1 => by
    obtain rfl := hp
    exact kk H1 locs1 (by rw [← ht]; exact hB.1) hS1)
theorem mr_callSi {r : Int32} (X : mX D cl G Ω A p s m args c cc nL) (hw : Ω σ H) (hS : va_S A H0 H locs) (hM : Met l y (ws_ y bytes maxL ret) (mRm lv) (mPre D cl G Ω As σ) (mQi D cl G Ω A σ1 r) 0 0 A) (cw : CallB (mRm lv2) s args RX4 index y bytes maxL ret (ws_ y bytes maxL ret) (mRm lv) 0 0 n ∧ (Cond.static y).before args s = true) (hn : As.length = n) (hsz : ls.size = nL) (hst : st = As.reverse ++ rest) (hr : (rest.map fun v => v.category).sum ≤ 8) (hdg : decode cc pc = .ok (.invokestatic index, 3))
    (kk : ∀ (H1 : Heap) (locs1 : List Loc), Ω σ1 H1 → va_S A H0 H1 locs1 → W p l e (mRm lv2) s m args below meth c H1 locs1 0 0 Q (F0 m (pc + 3) ls (.int r :: rest))) : W p l e (mRm lv2) s m args below meth c H locs 0 0 Q (F0 m pc ls st) :=
  va_calli (va_runS (m_fix X) hM cw (m_preS X hw As) rfl hn hsz hst (lv_room hr) hdg (mr_fits rfl rfl)) hS (fun _ _ h => h) (fun _ h => h) (fun r2 u t H1 locs1 ht hvm hp hB hz hk hS1 => by
    obtain ⟨rfl, rfl⟩ := hp
    exact kk H1 locs1 (by rw [← ht]; exact hB.1) hS1)
theorem mr_callSl {r : Int64} (X : mX D cl G Ω A p s m args c cc nL) (hw : Ω σ H) (hS : va_S A H0 H locs) (hM : Met l y (ws_ y bytes maxL ret) (mRm lv) (mPre D cl G Ω As σ) (mQl D cl G Ω A σ1 r) 0 0 A) (cw : CallB (mRm lv2) s args RX4 index y bytes maxL ret (ws_ y bytes maxL ret) (mRm lv) 0 0 n ∧ (Cond.static y).before args s = true) (hn : As.length = n) (hsz : ls.size = nL) (hst : st = As.reverse ++ rest) (hr : (rest.map fun v => v.category).sum ≤ 8) (hdg : decode cc pc = .ok (.invokestatic index, 3))
    (kk : ∀ (H1 : Heap) (locs1 : List Loc), Ω σ1 H1 → va_S A H0 H1 locs1 → W p l e (mRm lv2) s m args below meth c H1 locs1 0 0 Q (F0 m (pc + 3) ls (.long r :: rest))) : W p l e (mRm lv2) s m args below meth c H locs 0 0 Q (F0 m pc ls st) :=
  va_calll (va_runS (m_fix X) hM cw (m_preS X hw As) rfl hn hsz hst (lv_room hr) hdg (mr_fits rfl rfl)) hS (fun _ _ h => h) (fun _ h => h) (fun r2 u t H1 locs1 ht hvm hp hB hz hk hS1 => by
    obtain ⟨rfl, rfl⟩ := hp
    exact kk H1 locs1 (by rw [← ht]; exact hB.1) hS1)
variable {lvl : Nat}
theorem mr_iret {v : Int32} {ty : FieldType} (X : mX D cl G Ω A p s m args c cc nL) (hr : meth.sig.returnType = some ty) (hlk : meth.locks = false) (hw : Ω σ H) (hS : va_S A s.heap H locs) (hn : narrow ty (.int v) = .int v) (hdg : decode cc pc = .ok (.ireturn, 1)) : W p l e (mRm lvl) s m args below meth c H locs 0 0 (MQ below (mQi D cl G Ω A σ v) args s 0 0 A) (F0 m pc ls [.int v]) := by
  obtain ⟨hx, hb, -, -, -, hK, -⟩ := X
  exact W.zret hx hb hr hn (fun t ht hW => ⟨⟨v, σ, rfl, ⟨rfl, rfl⟩, by rw [ht]; exact hw, va_K.moved hW.alike hK⟩, hS.F ht⟩) hS.2.2 hdg hlk
theorem mr_lret {v : Int64} (X : mX D cl G Ω A p s m args c cc nL) (hr : meth.sig.returnType = some .long) (hlk : meth.locks = false) (hw : Ω σ H) (hS : va_S A s.heap H locs) (hdg : decode cc pc = .ok (.lreturn, 1)) : W p l e (mRm lvl) s m args below meth c H locs 0 0 (MQ below (mQl D cl G Ω A σ v) args s 0 0 A) (F0 m pc ls [.long v]) := by
  obtain ⟨hx, hb, -, -, -, hK, -⟩ := X
  exact W.lret hx hb hr (fun t ht hW => ⟨⟨v, σ, rfl, ⟨rfl, rfl⟩, by rw [ht]; exact hw, va_K.moved hW.alike hK⟩, hS.F ht⟩) hS.2.2 hdg hlk
theorem mr_vret (X : mX D cl G Ω A p s m args c cc nL) (hr : meth.sig.returnType = none) (hlk : meth.locks = false) (hw : Ω σ H) (hS : va_S A s.heap H locs) (hdg : decode cc pc = .ok (.return_, 1)) : W p l e (mRm lvl) s m args below meth c H locs 0 0 (MQ below (mQv D cl G Ω A σ) args s 0 0 A) (F0 m pc ls []) := by
  obtain ⟨hx, hb, -, -, -, hK, -⟩ := X
  exact W.vret hx hb hr (fun t ht hW => ⟨⟨σ, rfl, rfl, by rw [ht]; exact hw, va_K.moved hW.alike hK⟩, hS.F ht⟩) hS.2.2 hdg hlk
/-- a method's contract out of the walk of its body -/
theorem m_start {Qc : Array Value → State → Outcome → State → Prop} {av : List Value} (hy : plainName y.cls = true) (hyc : y.cls = RX4) (hent : (lg_sl av).length ≤ nL) (hok : mOk D cl G Ω A)
    (body : ∀ (p : Program) (e : Env) (s : State) (m : MethodId) (below : List Frame) (meth : Method) (c : Code) (ls : Array Slot), mX D cl G Ω A p s m av.toArray c cc nL → meth.sig.returnType = ret → meth.locks = false → Ω σ s.heap → lv_has ls nL (lv_args 0 av) → W p l e (mRm lv) s m av.toArray below meth c s.heap [] 0 0 (MQ below Qc av.toArray s 0 0 A) (F0 m 0 ls [])) :
    Met l y (ws_ y cc nL ret) (mRm lv) (mPre D cl G Ω av σ) Qc 0 0 A := by
  refine Met.ofW (cc := cc) (maxL := nL) (ret := ret) hy rfl ?_
  intro p e s m args below meth c s₁ B hml hv
  obtain ⟨rfl, hw, hK⟩ := hv
  have hts := atoms_spec (ws := ws_ y cc nL ret) B.pre
  have hts : ∀ w ∈ lw_all, w.before av.toArray s = true := fun w h => hts w (List.mem_cons_of_mem _ h)
  have hown : s.vm.findClass y.cls = some m.cls := findClass_of_methodNamed B.named
  rw [hyc] at hown
  have hl := lv_entry av (n := nL) hent
  rw [lg_entry_eq]
  exact body p e s m below meth c _ ⟨B.exec, B.bytes, hml, hown, hts, hK, hok⟩ B.returns B.notSynchronized hw hl
end MR
