section UB2
variable {p : Program} {l : Launch} {e : Env} {R : Room} {s : State} {m : MethodId} {args : Array Value} {below : List Frame} {meth : Method} {c : Code} {H : Heap} {locs : List Loc} {cells slots : Nat} {Q : State → Prop}
variable {cc : ByteArray} {pc : Nat} {ls : Array Slot} {rest : List Value} {D : va_G} {cl : List vw_C} {a : Nat} {tys : List (ClassId × FieldType)}
theorem uc_put (hexec : p.tables.exec = Jvm.exec) (hb : c.code = cc) {own ref C : String} {T : u_T} {N ci index : Nat} {Ts : List Cond} (hts : ∀ w ∈ Ts, w.before args s = true) (hin : ∀ w ∈ u_ws C T N, w ∈ Ts) (ty0 : Nat → FieldType) (hty : ∀ k, k < N → parseFieldDescriptor (T k).2.2.1 = some (ty0 k)) (hnm : ∀ a, a < N → ∀ b, b < N → a ≠ b → (T a).2.1 ≠ (T b).2.1) (hown : s.vm.findClass own = some m.cls) (hK : va_K D cl tys s) {fs : List Value} (hat : va_at D cl (a, .inr (ci, fs)) H) (hc : cl[ci]? = some (C, T, N)) (k : Nat) (hk : k < N) (hlink : (Cond.fieldLink own index ref (T k).2.1 (T k).2.2.1).before args s = true) (hsame : ∀ x, s.fieldFound? (T k).1 (T k).2.1 (T k).2.2.1 = some x → s.fieldFound? ref (T k).2.1 (T k).2.2.1 = some x) (hfin : (T k).2.2.2 = false) {ty : FieldType} {v : Value} (hd : parseFieldDescriptor (T k).2.2.1 = some ty) (hn : narrow ty v = v) (hfit : fits ty v = true) (hl : k < fs.length)
    (hdg : decode cc pc = .ok (.putfield index, 3)) (kk : ∀ (H1 : Heap) (n : Nat), H1.size = H.size → (∀ q : Nat, q ≠ a → H1[q]? = H[q]?) → (∀ r : Nat, (H1[r]?).map (fun c => c.slots.size) = (H[r]?).map (fun c => c.slots.size)) → va_at D cl (a, .inr (ci, fs.set k v)) H1 → W p l e R s m args below meth c H1 (locs ++ [⟨a, n⟩]) cells slots Q (F0 m (pc + 3) ls rest)) : W p l e R s m args below meth c H locs cells slots Q (F0 m pc ls (v :: .ref a :: rest)) := by
  have hap := va_apart (own := own) hts hin ty0 hty hnm hK hc
  obtain ⟨r, h1, cell, q1, q2, q3, q4⟩ := hat
  have hr : r = (C, T, N) := Option.some.inj (h1.symm.trans hc)
  subst hr
  obtain ⟨hS, hfc, kC, hkC, hkind⟩ := hK.1 ci _ hc
  obtain ⟨cf, kf, fi, f, hi, hsl⟩ := hS k hk
  have hlay := hts _ (hin _ (u_in_lay hk))
  unfold u_lay at hlay
  rw [if_neg (by rw [hfin]; decide)] at hlay
  have hst := (u_facts hfc hkC (u_lays hts hin hk) hi).1
  have h6 := u_store hfc hkC hkind hlay hi hd hn hfit
  refine W.putK hexec hb (f := f) ⟨hown, hlink, ⟨_, _, _, hsame _ hi⟩, hst⟩ (by rw [q2]; exact h6) q1 q3 (by rw [hsl]; exact k2_hasslot (q4 k hk)) rfl rfl hdg fun H' e1 e2 e3 => ?_
  have hz := slots_set q1 e1 e3
  rw [hsl] at e1 ⊢
  exact kk H' _ e2 e3 hz ⟨_, hc, t_OB.to (V := updV (vp_V fs) k v) ⟨_, e1, q2, q3, t_set q4 hap hk v⟩ (fun j _ => vp_updV_set hl v j)⟩
theorem uc_putN (hexec : p.tables.exec = Jvm.exec) (hb : c.code = cc) {own ref C host : String} {T : u_T} {N ci index : Nat} {Ts : List Cond} (hts : ∀ w ∈ Ts, w.before args s = true) (hin : ∀ w ∈ u_ws C T N, w ∈ Ts) (ty0 : Nat → FieldType) (hty : ∀ k, k < N → parseFieldDescriptor (T k).2.2.1 = some (ty0 k)) (hnm : ∀ a, a < N → ∀ b, b < N → a ≠ b → (T a).2.1 ≠ (T b).2.1) (hown : s.vm.findClass own = some m.cls) (hK : va_K D cl tys s) {fs : List Value} (hat : va_at D cl (a, .inr (ci, fs)) H) (hc : cl[ci]? = some (C, T, N)) (k : Nat) (hk : k < N) (hlink : (Cond.fieldLinkNest own index ref (T k).2.1 (T k).2.2.1 host).before args s = true) (hsame : ∀ x, s.fieldFound? (T k).1 (T k).2.1 (T k).2.2.1 = some x → s.fieldFound? ref (T k).2.1 (T k).2.2.1 = some x) (hfin : (T k).2.2.2 = false) {ty : FieldType} {v : Value} (hd : parseFieldDescriptor (T k).2.2.1 = some ty) (hn : narrow ty v = v) (hfit : fits ty v = true) (hl : k < fs.length)
    (hdg : decode cc pc = .ok (.putfield index, 3)) (kk : ∀ (H1 : Heap) (n : Nat), H1.size = H.size → (∀ q : Nat, q ≠ a → H1[q]? = H[q]?) → (∀ r : Nat, (H1[r]?).map (fun c => c.slots.size) = (H[r]?).map (fun c => c.slots.size)) → va_at D cl (a, .inr (ci, fs.set k v)) H1 → W p l e R s m args below meth c H1 (locs ++ [⟨a, n⟩]) cells slots Q (F0 m (pc + 3) ls rest)) : W p l e R s m args below meth c H locs cells slots Q (F0 m pc ls (v :: .ref a :: rest)) := by
  have hap := va_apart (own := own) hts hin ty0 hty hnm hK hc
  obtain ⟨r, h1, cell, q1, q2, q3, q4⟩ := hat
  have hr : r = (C, T, N) := Option.some.inj (h1.symm.trans hc)
  subst hr
  obtain ⟨hS, hfc, kC, hkC, hkind⟩ := hK.1 ci _ hc
  obtain ⟨cf, kf, fi, f, hi, hsl⟩ := hS k hk
  have hlay := hts _ (hin _ (u_in_lay hk))
  unfold u_lay at hlay
  rw [if_neg (by rw [hfin]; decide)] at hlay
  have hst := (u_facts hfc hkC (u_lays hts hin hk) hi).1
  have h6 := u_store hfc hkC hkind hlay hi hd hn hfit
  refine va_WputK hexec hb (f := f) hown hlink (hsame _ hi) hst (by rw [q2]; exact h6) q1 q3 (by rw [hsl]; exact k2_hasslot (q4 k hk)) rfl rfl hdg fun H' e1 e2 e3 => ?_
  have hz := slots_set q1 e1 e3
  rw [hsl] at e1 ⊢
  exact kk H' _ e2 e3 hz ⟨_, hc, t_OB.to (V := updV (vp_V fs) k v) ⟨_, e1, q2, q3, t_set q4 hap hk v⟩ (fun j _ => vp_updV_set hl v j)⟩
theorem uc_putF (hexec : p.tables.exec = Jvm.exec) (hb : c.code = cc) {own ref C : String} {T : u_T} {N ci index : Nat} {Ts : List Cond} (hts : ∀ w ∈ Ts, w.before args s = true) (hin : ∀ w ∈ u_ws C T N, w ∈ Ts) (ty0 : Nat → FieldType) (hty : ∀ k, k < N → parseFieldDescriptor (T k).2.2.1 = some (ty0 k)) (hnm : ∀ a, a < N → ∀ b, b < N → a ≠ b → (T a).2.1 ≠ (T b).2.1) (hown : s.vm.findClass own = some m.cls) (hK : va_K D cl tys s) {fs : List Value} (hat : va_at D cl (a, .inr (ci, fs)) H) (hc : cl[ci]? = some (C, T, N)) (k : Nat) (hk : k < N) (hlink : (Cond.fieldLink own index ref (T k).2.1 (T k).2.2.1).before args s = true) (hsame : ∀ x, s.fieldFound? (T k).1 (T k).2.1 (T k).2.2.1 = some x → s.fieldFound? ref (T k).2.1 (T k).2.2.1 = some x) (hfin : (T k).2.2.2 = true) (hin2 : meth.name = "<init>") (hdecl : (T k).1 = own) {ty : FieldType} {v : Value} (hd : parseFieldDescriptor (T k).2.2.1 = some ty) (hn : narrow ty v = v) (hfit : fits ty v = true) (hl : k < fs.length)
    (hdg : decode cc pc = .ok (.putfield index, 3)) (kk : ∀ (H1 : Heap) (n : Nat), H1.size = H.size → (∀ q : Nat, q ≠ a → H1[q]? = H[q]?) → (∀ r : Nat, (H1[r]?).map (fun c => c.slots.size) = (H[r]?).map (fun c => c.slots.size)) → va_at D cl (a, .inr (ci, fs.set k v)) H1 → W p l e R s m args below meth c H1 (locs ++ [⟨a, n⟩]) cells slots Q (F0 m (pc + 3) ls rest)) : W p l e R s m args below meth c H locs cells slots Q (F0 m pc ls (v :: .ref a :: rest)) := by
  have hap := va_apart (own := own) hts hin ty0 hty hnm hK hc
  obtain ⟨r, h1, cell, q1, q2, q3, q4⟩ := hat
  have hr : r = (C, T, N) := Option.some.inj (h1.symm.trans hc)
  subst hr
  obtain ⟨hS, hfc, kC, hkC, hkind⟩ := hK.1 ci _ hc
  obtain ⟨cf, kf, fi, f, hi, hsl⟩ := hS k hk
  have hlay := hts _ (hin _ (u_in_lay hk))
  unfold u_lay at hlay
  rw [if_pos hfin] at hlay
  have hst := (u_facts hfc hkC (u_lays hts hin hk) hi).1
  have hcf : m.cls = cf := by
    obtain ⟨_, _, c', _, _, _, -, -, hf', -, -, -, hown2, -⟩ := Cond.laysFinal_spec hlay
    have e1 : c' = cf := by have := hi.symm.trans hf'; simp at this; exact this.1.symm
    rw [hdecl] at hown2
    rw [← e1]; exact Option.some.inj (hown.symm.trans hown2)
  have h6 := u_fits hfc hkC hkind (Or.inr hlay) hi hd hn hfit
  refine W.putFinK hexec hb hown hlink (hsame _ hi) hst hcf hin2 (by rw [q2]; exact h6) q1 q3 (by rw [hsl]; exact k2_hasslot (q4 k hk)) rfl rfl hdg fun H' e1 e2 e3 => ?_
  have hz := slots_set q1 e1 e3
  rw [hsl] at e1 ⊢
  exact kk H' _ e2 e3 hz ⟨_, hc, t_OB.to (V := updV (vp_V fs) k v) ⟨_, e1, q2, q3, t_set q4 hap hk v⟩ (fun j _ => vp_updV_set hl v j)⟩
theorem uc_iast (hexec : p.tables.exec = Jvm.exec) (hb : c.code = cc) {cA : ClassId} (hT : ArrOfT s cA .int) {n : Nat} {f : Nat → Int32} (hat : va_at D cl (a, .inl (cA, n, .inl f)) H) {i : Int32} {x : Int32} (hin : vp_in i n) (hdg : decode cc pc = .ok (.iastore, 1))
    (kk : ∀ (H1 : Heap) (n1 : Nat), H1.size = H.size → (∀ q : Nat, q ≠ a → H1[q]? = H[q]?) → (∀ r : Nat, (H1[r]?).map (fun c => c.slots.size) = (H[r]?).map (fun c => c.slots.size)) → va_at D cl (a, .inl (cA, n, .inl (upd f i.toNatClampNeg x))) H1 → W p l e R s m args below meth c H1 (locs ++ [⟨a, n1⟩]) cells slots Q (F0 m (pc + 1) ls rest)) : W p l e R s m args below meth c H locs cells slots Q (F0 m pc ls (.int x :: .int i :: .ref a :: rest)) := by
  refine W.iast hexec hb hat (hT n (fun j => .int (f j))) (fun q => by cases q) (by show ¬ (i < 0 ∨ (arrV _ _ _).slots.size ≤ _); rw [arrV_size]; exact hin) rfl rfl hdg fun H1 e z oq => ?_
  refine kk H1 _ z oq (slots_set hat e oq) ?_
  show H1[a]? = some (vp_cell _ _)
  rw [e]
  rw [vp_cell_i, vp_cell_i, arrV_store]
  congr 2
  funext q
  by_cases hq : q = i.toNatClampNeg
  · subst hq
    simp [updV, upd]
  · simp [updV, upd, hq]
theorem uc_bast (hexec : p.tables.exec = Jvm.exec) (hb : c.code = cc) {cA : ClassId} (hT : ArrOfT s cA .byte) {n : Nat} {f : Nat → Int32} (hat : va_at D cl (a, .inl (cA, n, .inl f)) H) {i : Int32} {x : Int32} (hin : vp_in i n) (hdg : decode cc pc = .ok (.bastore, 1))
    (kk : ∀ (H1 : Heap) (n1 : Nat), H1.size = H.size → (∀ q : Nat, q ≠ a → H1[q]? = H[q]?) → (∀ r : Nat, (H1[r]?).map (fun c => c.slots.size) = (H[r]?).map (fun c => c.slots.size)) → va_at D cl (a, .inl (cA, n, .inl (upd f i.toNatClampNeg (vp_nar .byte x)))) H1 → W p l e R s m args below meth c H1 (locs ++ [⟨a, n1⟩]) cells slots Q (F0 m (pc + 1) ls rest)) : W p l e R s m args below meth c H locs cells slots Q (F0 m pc ls (.int x :: .int i :: .ref a :: rest)) := by
  refine W.bast hexec hb hat (hT n (fun j => .int (f j))) (fun q => by cases q) (by show ¬ (i < 0 ∨ (arrV _ _ _).slots.size ≤ _); rw [arrV_size]; exact hin) rfl rfl hdg fun H1 e z oq => ?_
  refine kk H1 _ z oq (slots_set hat e oq) ?_
  show H1[a]? = some (vp_cell _ _)
  rw [e]
  rw [vp_cell_i, vp_cell_i, arrV_store]
  congr 2
  funext q
  by_cases hq : q = i.toNatClampNeg
  · subst hq
    simp [updV, upd, vp_nar]
    try rfl
  · simp [updV, upd, hq]
theorem uc_last (hexec : p.tables.exec = Jvm.exec) (hb : c.code = cc) {cA : ClassId} (hT : ArrOfT s cA .long) {n : Nat} {f : Nat → Int64} (hat : va_at D cl (a, .inl (cA, n, .inr (.inl f))) H) {i : Int32} {x : Int64} (hin : vp_in i n) (hdg : decode cc pc = .ok (.lastore, 1))
    (kk : ∀ (H1 : Heap) (n1 : Nat), H1.size = H.size → (∀ q : Nat, q ≠ a → H1[q]? = H[q]?) → (∀ r : Nat, (H1[r]?).map (fun c => c.slots.size) = (H[r]?).map (fun c => c.slots.size)) → va_at D cl (a, .inl (cA, n, .inr (.inl (vp_updL f i.toNatClampNeg x)))) H1 → W p l e R s m args below meth c H1 (locs ++ [⟨a, n1⟩]) cells slots Q (F0 m (pc + 1) ls rest)) : W p l e R s m args below meth c H locs cells slots Q (F0 m pc ls (.long x :: .int i :: .ref a :: rest)) := by
  refine W.last hexec hb hat (hT n (fun j => .long (f j))) (fun q => by cases q) (by show ¬ (i < 0 ∨ (arrV _ _ _).slots.size ≤ _); rw [arrV_size]; exact hin) rfl rfl hdg fun H1 e z oq => ?_
  refine kk H1 _ z oq (slots_set hat e oq) ?_
  show H1[a]? = some (vp_cell _ _)
  rw [e]
  rw [vp_cell_l, vp_cell_l, arrV_store]
  congr 2
  funext q
  by_cases hq : q = i.toNatClampNeg
  · subst hq
    simp [updV, vp_updL]
  · simp [updV, vp_updL, hq]
theorem uc_aast (hexec : p.tables.exec = Jvm.exec) (hb : c.code = cc) {E : String} {cA : ClassId} (hR : va_RA s cA (.object E)) {n v : Nat} {f : Nat → Option Nat} (hat : va_at D cl (a, .inl (cA, n, .inr (.inr (.inr (.inr f))))) H) (hr : va_Any E s H v) {i : Int32} (hin : vp_in i n) (hdg : decode cc pc = .ok (.aastore, 1))
    (kk : ∀ (H1 : Heap) (n1 : Nat), H1.size = H.size → (∀ q : Nat, q ≠ a → H1[q]? = H[q]?) → (∀ r : Nat, (H1[r]?).map (fun c => c.slots.size) = (H[r]?).map (fun c => c.slots.size)) → va_at D cl (a, .inl (cA, n, .inr (.inr (.inr (.inr (va_up f i.toNatClampNeg (some v))))))) H1 → W p l e R s m args below meth c H1 (locs ++ [⟨a, n1⟩]) cells slots Q (F0 m (pc + 1) ls rest)) : W p l e R s m args below meth c H locs cells slots Q (F0 m pc ls (.ref v :: .int i :: .ref a :: rest)) := by
  have hlt : i.toNatClampNeg < n := Nat.not_le.mp fun q => hin (Or.inr q)
  have h0 : ¬ i < 0 := fun q => hin (Or.inl q)
  obtain ⟨cellV, g1, g3, ⟨kC, hkC⟩, hasg⟩ := hr
  obtain ⟨kA, comp, k1, k2, k3, -⟩ := hR
  obtain ⟨kE, hkE, -⟩ := Vm.findClass_spec k3
  refine W.aast hexec hb hat (fun q h => by cases h) (fun h => by cases h) k1 k2 rfl hkE ⟨h0, by show _ < (arrV _ _ _).slots.size; rw [arrV_size]; exact hlt⟩ g1 (fun q h => by rw [h] at g3; cases g3) hkC (hasg _ k3) rfl rfl hdg fun H1 e z oq => ?_
  refine kk H1 _ z oq (slots_set hat e oq) ?_
  show H1[a]? = some (vp_cell _ _)
  rw [e]
  rw [vp_cell_q, vp_cell_q, arrV_store]
  congr 2
  funext q
  by_cases hq : q = i.toNatClampNeg
  · subst hq
    simp [updV, va_up, va_rf]
  · simp [updV, va_up, hq]
theorem uc_aastN (hexec : p.tables.exec = Jvm.exec) (hb : c.code = cc) {E : String} {cA : ClassId} (hT : ArrOfT s cA (.object E)) {n : Nat} {f : Nat → Option Nat} (hat : va_at D cl (a, .inl (cA, n, .inr (.inr (.inr (.inr f))))) H) {i : Int32} (hin : vp_in i n) (hdg : decode cc pc = .ok (.aastore, 1))
    (kk : ∀ (H1 : Heap) (n1 : Nat), H1.size = H.size → (∀ q : Nat, q ≠ a → H1[q]? = H[q]?) → (∀ r : Nat, (H1[r]?).map (fun c => c.slots.size) = (H[r]?).map (fun c => c.slots.size)) → va_at D cl (a, .inl (cA, n, .inr (.inr (.inr (.inr (va_up f i.toNatClampNeg none)))))) H1 → W p l e R s m args below meth c H1 (locs ++ [⟨a, n1⟩]) cells slots Q (F0 m (pc + 1) ls rest)) : W p l e R s m args below meth c H locs cells slots Q (F0 m pc ls (.null :: .int i :: .ref a :: rest)) := by
  refine va_WaastN (C := E) hexec hb hat (hT n (fun j => va_rf (f j))) (fun h => by cases h) (by show ¬ (i < 0 ∨ (arrV _ _ _).slots.size ≤ _); rw [arrV_size]; exact hin) rfl rfl hdg fun H1 e z oq => ?_
  refine kk H1 _ z oq (slots_set hat e oq) ?_
  show H1[a]? = some (vp_cell _ _)
  rw [e]
  rw [vp_cell_q, vp_cell_q, arrV_store]
  congr 2
  funext q
  by_cases hq : q = i.toNatClampNeg
  · subst hq
    simp [updV, va_up, va_rf]
  · simp [updV, va_up, hq]
end UB2
section XR2
variable {p : Program} {l : Launch} {e : Env} {R : Room} {s : State} {m : MethodId} {args : Array Value} {below : List Frame} {meth : Method} {c : Code} {H : Heap} {locs : List Loc} {cells slots : Nat} {Q : State → Prop}
variable {cc : ByteArray} {pc nL : Nat} {ls : Array Slot} {rest : List Value} {g : XC} {D : va_G} {A : Nat → Prop} {own : String} {S0 S S1 : XS} {N ci idx a : Nat}
theorem xr_putI {C : String} {T : u_T} {ty0 : Nat → FieldType} {ty : FieldType} {v : Int32} (X : xX g D A own S0 p s m args c cc nL) (hw : xW g D A S s H) (hS : va_S A s.heap H locs) (hc : xcl[ci]? = some (C, T, N)) (hin : ∀ w ∈ u_ws C T N, w ∈ lw_all) (hty : ∀ k, k < N → parseFieldDescriptor (T k).2.2.1 = some (ty0 k)) (hnm : ∀ a, a < N → ∀ b, b < N → a ≠ b → (T a).2.1 ≠ (T b).2.1) (k : Nat) (hk : k < N) (hlink : Cond.fieldLink own idx (T k).1 (T k).2.1 (T k).2.2.1 ∈ lw_all) (hfin : (T k).2.2.2 = false) (hd : parseFieldDescriptor (T k).2.2.1 = some ty) (hn : narrow ty (.int v) = .int v) (hfit : fits ty (.int v) = true) (hv : f_putI S ci a k v = some S1) (hdg : decode cc pc = .ok (.putfield idx, 3))
    (kk : ∀ (H1 : Heap) (locs1 : List Loc), xW g D A S1 s H1 → va_S A s.heap H1 locs1 → W p l e R s m args below meth c H1 locs1 cells slots Q (F0 m (pc + 3) ls rest)) : W p l e R s m args below meth c H locs cells slots Q (F0 m pc ls (.int v :: .ref a :: rest)) := by
  obtain ⟨hx, hb, -, hown, hts, ⟨hK, -⟩, -, -⟩ := X
  obtain ⟨fs, hl, hu⟩ := f_putI_s hv
  refine uc_put hx hb hts hin ty0 hty hnm hown hK (xΩ_at hw.1 hu.1) hc k hk (hts _ hlink) (fun _ h => h) hfin hd hn hfit hl hdg fun H1 n z oq hz hat => ?_
  obtain ⟨h1, h2⟩ := xW_set (n := n) hw hS hu z oq hz hat
  exact kk H1 _ h1 h2
theorem xr_putIS {C ref : String} {T : u_T} {ty0 : Nat → FieldType} {ty : FieldType} {v : Int32} (X : xX g D A own S0 p s m args c cc nL) (hw : xW g D A S s H) (hS : va_S A s.heap H locs) (hc : xcl[ci]? = some (C, T, N)) (hin : ∀ w ∈ u_ws C T N, w ∈ lw_all) (hty : ∀ k, k < N → parseFieldDescriptor (T k).2.2.1 = some (ty0 k)) (hnm : ∀ a, a < N → ∀ b, b < N → a ≠ b → (T a).2.1 ≠ (T b).2.1) (k : Nat) (hk : k < N) (hlink : Cond.fieldLink own idx ref (T k).2.1 (T k).2.2.1 ∈ lw_all) (hsame : ∀ x, s.fieldFound? (T k).1 (T k).2.1 (T k).2.2.1 = some x → s.fieldFound? ref (T k).2.1 (T k).2.2.1 = some x) (hfin : (T k).2.2.2 = false) (hd : parseFieldDescriptor (T k).2.2.1 = some ty) (hn : narrow ty (.int v) = .int v) (hfit : fits ty (.int v) = true) (hv : f_putI S ci a k v = some S1) (hdg : decode cc pc = .ok (.putfield idx, 3))
    (kk : ∀ (H1 : Heap) (locs1 : List Loc), xW g D A S1 s H1 → va_S A s.heap H1 locs1 → W p l e R s m args below meth c H1 locs1 cells slots Q (F0 m (pc + 3) ls rest)) : W p l e R s m args below meth c H locs cells slots Q (F0 m pc ls (.int v :: .ref a :: rest)) := by
  obtain ⟨hx, hb, -, hown, hts, ⟨hK, -⟩, -, -⟩ := X
  obtain ⟨fs, hl, hu⟩ := f_putI_s hv
  refine uc_put hx hb hts hin ty0 hty hnm hown hK (xΩ_at hw.1 hu.1) hc k hk (hts _ hlink) hsame hfin hd hn hfit hl hdg fun H1 n z oq hz hat => ?_
  obtain ⟨h1, h2⟩ := xW_set (n := n) hw hS hu z oq hz hat
  exact kk H1 _ h1 h2
theorem xr_putIN {C host : String} {T : u_T} {ty0 : Nat → FieldType} {ty : FieldType} {v : Int32} (X : xX g D A own S0 p s m args c cc nL) (hw : xW g D A S s H) (hS : va_S A s.heap H locs) (hc : xcl[ci]? = some (C, T, N)) (hin : ∀ w ∈ u_ws C T N, w ∈ lw_all) (hty : ∀ k, k < N → parseFieldDescriptor (T k).2.2.1 = some (ty0 k)) (hnm : ∀ a, a < N → ∀ b, b < N → a ≠ b → (T a).2.1 ≠ (T b).2.1) (k : Nat) (hk : k < N) (hlink : Cond.fieldLinkNest own idx (T k).1 (T k).2.1 (T k).2.2.1 host ∈ lw_tbl) (hfin : (T k).2.2.2 = false) (hd : parseFieldDescriptor (T k).2.2.1 = some ty) (hn : narrow ty (.int v) = .int v) (hfit : fits ty (.int v) = true) (hv : f_putI S ci a k v = some S1) (hdg : decode cc pc = .ok (.putfield idx, 3))
    (kk : ∀ (H1 : Heap) (locs1 : List Loc), xW g D A S1 s H1 → va_S A s.heap H1 locs1 → W p l e R s m args below meth c H1 locs1 cells slots Q (F0 m (pc + 3) ls rest)) : W p l e R s m args below meth c H locs cells slots Q (F0 m pc ls (.int v :: .ref a :: rest)) := by
  obtain ⟨hx, hb, -, hown, hts, ⟨hK, hN, -⟩, -, -⟩ := X
  obtain ⟨fs, hl, hu⟩ := f_putI_s hv
  refine uc_putN hx hb hts hin ty0 hty hnm hown hK (xΩ_at hw.1 hu.1) hc k hk (va_Nw.use rfl (hN.1 _ hlink rfl)) (fun _ h => h) hfin hd hn hfit hl hdg fun H1 n z oq hz hat => ?_
  obtain ⟨h1, h2⟩ := xW_set (n := n) hw hS hu z oq hz hat
  exact kk H1 _ h1 h2
theorem xr_putIF {C : String} {T : u_T} {ty0 : Nat → FieldType} {ty : FieldType} {v : Int32} (X : xX g D A own S0 p s m args c cc nL) (hw : xW g D A S s H) (hS : va_S A s.heap H locs) (hc : xcl[ci]? = some (C, T, N)) (hin : ∀ w ∈ u_ws C T N, w ∈ lw_all) (hty : ∀ k, k < N → parseFieldDescriptor (T k).2.2.1 = some (ty0 k)) (hnm : ∀ a, a < N → ∀ b, b < N → a ≠ b → (T a).2.1 ≠ (T b).2.1) (k : Nat) (hk : k < N) (hlink : Cond.fieldLink own idx (T k).1 (T k).2.1 (T k).2.2.1 ∈ lw_all) (hfin : (T k).2.2.2 = true) (hin2 : meth.name = "<init>") (hdecl : (T k).1 = own) (hd : parseFieldDescriptor (T k).2.2.1 = some ty) (hn : narrow ty (.int v) = .int v) (hfit : fits ty (.int v) = true) (hv : f_putI S ci a k v = some S1) (hdg : decode cc pc = .ok (.putfield idx, 3))
    (kk : ∀ (H1 : Heap) (locs1 : List Loc), xW g D A S1 s H1 → va_S A s.heap H1 locs1 → W p l e R s m args below meth c H1 locs1 cells slots Q (F0 m (pc + 3) ls rest)) : W p l e R s m args below meth c H locs cells slots Q (F0 m pc ls (.int v :: .ref a :: rest)) := by
  obtain ⟨hx, hb, -, hown, hts, ⟨hK, hN, -⟩, -, -⟩ := X
  obtain ⟨fs, hl, hu⟩ := f_putI_s hv
  refine uc_putF hx hb hts hin ty0 hty hnm hown hK (xΩ_at hw.1 hu.1) hc k hk (hts _ hlink) (fun _ h => h) hfin hin2 hdecl hd hn hfit hl hdg fun H1 n z oq hz hat => ?_
  obtain ⟨h1, h2⟩ := xW_set (n := n) hw hS hu z oq hz hat
  exact kk H1 _ h1 h2
/-- a reference fits a field of a reference's type -/
theorem rf_fits {ty : FieldType} (hty : ty.isReference = true) (v : Option Nat) : narrow ty (va_rf v) = va_rf v ∧ fits ty (va_rf v) = true := by
  cases ty <;> first | (cases hty; done) | (cases v <;> exact ⟨rfl, rfl⟩)
theorem xr_putR {C : String} {T : u_T} {ty0 : Nat → FieldType} {ty : FieldType} {v : Option Nat} (X : xX g D A own S0 p s m args c cc nL) (hw : xW g D A S s H) (hS : va_S A s.heap H locs) (hc : xcl[ci]? = some (C, T, N)) (hin : ∀ w ∈ u_ws C T N, w ∈ lw_all) (hty : ∀ k, k < N → parseFieldDescriptor (T k).2.2.1 = some (ty0 k)) (hnm : ∀ a, a < N → ∀ b, b < N → a ≠ b → (T a).2.1 ≠ (T b).2.1) (k : Nat) (hk : k < N) (hlink : Cond.fieldLink own idx (T k).1 (T k).2.1 (T k).2.2.1 ∈ lw_all) (hfin : (T k).2.2.2 = false) (hd : parseFieldDescriptor (T k).2.2.1 = some ty) (href : ty.isReference = true) (hv : f_putR S ci a k v = some S1) (hdg : decode cc pc = .ok (.putfield idx, 3))
    (kk : ∀ (H1 : Heap) (locs1 : List Loc), xW g D A S1 s H1 → va_S A s.heap H1 locs1 → W p l e R s m args below meth c H1 locs1 cells slots Q (F0 m (pc + 3) ls rest)) : W p l e R s m args below meth c H locs cells slots Q (F0 m pc ls (va_rf v :: .ref a :: rest)) := by
  obtain ⟨hx, hb, -, hown, hts, ⟨hK, -⟩, -, -⟩ := X
  obtain ⟨fs, hl, hu⟩ := f_putR_s hv
  refine uc_put hx hb hts hin ty0 hty hnm hown hK (xΩ_at hw.1 hu.1) hc k hk (hts _ hlink) (fun _ h => h) hfin hd (rf_fits href v).1 (rf_fits href v).2 hl hdg fun H1 n z oq hz hat => ?_
  obtain ⟨h1, h2⟩ := xW_set (n := n) hw hS hu z oq hz hat
  exact kk H1 _ h1 h2
theorem xr_putRN {C host : String} {T : u_T} {ty0 : Nat → FieldType} {ty : FieldType} {v : Option Nat} (X : xX g D A own S0 p s m args c cc nL) (hw : xW g D A S s H) (hS : va_S A s.heap H locs) (hc : xcl[ci]? = some (C, T, N)) (hin : ∀ w ∈ u_ws C T N, w ∈ lw_all) (hty : ∀ k, k < N → parseFieldDescriptor (T k).2.2.1 = some (ty0 k)) (hnm : ∀ a, a < N → ∀ b, b < N → a ≠ b → (T a).2.1 ≠ (T b).2.1) (k : Nat) (hk : k < N) (hlink : Cond.fieldLinkNest own idx (T k).1 (T k).2.1 (T k).2.2.1 host ∈ lw_tbl) (hfin : (T k).2.2.2 = false) (hd : parseFieldDescriptor (T k).2.2.1 = some ty) (href : ty.isReference = true) (hv : f_putR S ci a k v = some S1) (hdg : decode cc pc = .ok (.putfield idx, 3))
    (kk : ∀ (H1 : Heap) (locs1 : List Loc), xW g D A S1 s H1 → va_S A s.heap H1 locs1 → W p l e R s m args below meth c H1 locs1 cells slots Q (F0 m (pc + 3) ls rest)) : W p l e R s m args below meth c H locs cells slots Q (F0 m pc ls (va_rf v :: .ref a :: rest)) := by
  obtain ⟨hx, hb, -, hown, hts, ⟨hK, hN, -⟩, -, -⟩ := X
  obtain ⟨fs, hl, hu⟩ := f_putR_s hv
  refine uc_putN hx hb hts hin ty0 hty hnm hown hK (xΩ_at hw.1 hu.1) hc k hk (va_Nw.use rfl (hN.1 _ hlink rfl)) (fun _ h => h) hfin hd (rf_fits href v).1 (rf_fits href v).2 hl hdg fun H1 n z oq hz hat => ?_
  obtain ⟨h1, h2⟩ := xW_set (n := n) hw hS hu z oq hz hat
  exact kk H1 _ h1 h2
theorem xr_putRF {C : String} {T : u_T} {ty0 : Nat → FieldType} {ty : FieldType} {v : Option Nat} (X : xX g D A own S0 p s m args c cc nL) (hw : xW g D A S s H) (hS : va_S A s.heap H locs) (hc : xcl[ci]? = some (C, T, N)) (hin : ∀ w ∈ u_ws C T N, w ∈ lw_all) (hty : ∀ k, k < N → parseFieldDescriptor (T k).2.2.1 = some (ty0 k)) (hnm : ∀ a, a < N → ∀ b, b < N → a ≠ b → (T a).2.1 ≠ (T b).2.1) (k : Nat) (hk : k < N) (hlink : Cond.fieldLink own idx (T k).1 (T k).2.1 (T k).2.2.1 ∈ lw_all) (hfin : (T k).2.2.2 = true) (hin2 : meth.name = "<init>") (hdecl : (T k).1 = own) (hd : parseFieldDescriptor (T k).2.2.1 = some ty) (href : ty.isReference = true) (hv : f_putR S ci a k v = some S1) (hdg : decode cc pc = .ok (.putfield idx, 3))
    (kk : ∀ (H1 : Heap) (locs1 : List Loc), xW g D A S1 s H1 → va_S A s.heap H1 locs1 → W p l e R s m args below meth c H1 locs1 cells slots Q (F0 m (pc + 3) ls rest)) : W p l e R s m args below meth c H locs cells slots Q (F0 m pc ls (va_rf v :: .ref a :: rest)) := by
  obtain ⟨hx, hb, -, hown, hts, ⟨hK, -⟩, -, -⟩ := X
  obtain ⟨fs, hl, hu⟩ := f_putR_s hv
  refine uc_putF hx hb hts hin ty0 hty hnm hown hK (xΩ_at hw.1 hu.1) hc k hk (hts _ hlink) (fun _ h => h) hfin hin2 hdecl hd (rf_fits href v).1 (rf_fits href v).2 hl hdg fun H1 n z oq hz hat => ?_
  obtain ⟨h1, h2⟩ := xW_set (n := n) hw hS hu z oq hz hat
  exact kk H1 _ h1 h2
/-! arrays -/
theorem xr_iald {i v : Int32} (X : xX g D A own S0 p s m args c cc nL) (hw : xW g D A S s H) (hv : a_int S 0 a i = some v) (hdg : decode cc pc = .ok (.iaload, 1))
    (kk : W p l e R s m args below meth c H locs cells slots Q (F0 m (pc + 1) ls (.int v :: rest))) : W p l e R s m args below meth c H locs cells slots Q (F0 m pc ls (.int i :: .ref a :: rest)) := by
  obtain ⟨hx, hb, -, hown, hts, ⟨hK, -⟩, -, -⟩ := X
  obtain ⟨n, f, h1, h2, rfl⟩ := a_int_s hv
  exact va_iald hx hb hK (va_P1 (xΩ_at hw.1 h1)) 0 0 rfl (x_ty g (by decide)) h2 hdg kk
theorem xr_bald {i v : Int32} (X : xX g D A own S0 p s m args c cc nL) (hw : xW g D A S s H) (hv : a_int S 1 a i = some v) (hdg : decode cc pc = .ok (.baload, 1))
    (kk : W p l e R s m args below meth c H locs cells slots Q (F0 m (pc + 1) ls (.int v :: rest))) : W p l e R s m args below meth c H locs cells slots Q (F0 m pc ls (.int i :: .ref a :: rest)) := by
  obtain ⟨hx, hb, -, hown, hts, ⟨hK, -⟩, -, -⟩ := X
  obtain ⟨n, f, h1, h2, rfl⟩ := a_int_s hv
  exact va_bald hx hb hK (va_P1 (xΩ_at hw.1 h1)) 0 1 rfl (x_ty g (by decide)) h2 hdg kk
theorem xr_lald {i : Int32} {v : Int64} (X : xX g D A own S0 p s m args c cc nL) (hw : xW g D A S s H) (hv : a_long S a i = some v) (hdg : decode cc pc = .ok (.laload, 1))
    (kk : W p l e R s m args below meth c H locs cells slots Q (F0 m (pc + 1) ls (.long v :: rest))) : W p l e R s m args below meth c H locs cells slots Q (F0 m pc ls (.int i :: .ref a :: rest)) := by
  obtain ⟨hx, hb, -, hown, hts, ⟨hK, -⟩, -, -⟩ := X
  obtain ⟨n, f, h1, h2, rfl⟩ := a_long_s hv
  exact va_lald hx hb hK (va_P1 (xΩ_at hw.1 h1)) 0 2 rfl (x_ty g (by decide)) h2 hdg kk
theorem xr_aald {i : Int32} {v : Option Nat} (X : xX g D A own S0 p s m args c cc nL) (hw : xW g D A S s H) (hv : a_ref S 3 a i = some v) (hdg : decode cc pc = .ok (.aaload, 1))
    (kk : W p l e R s m args below meth c H locs cells slots Q (F0 m (pc + 1) ls (va_rf v :: rest))) : W p l e R s m args below meth c H locs cells slots Q (F0 m pc ls (.int i :: .ref a :: rest)) := by
  obtain ⟨hx, hb, -, hown, hts, ⟨hK, -⟩, -, -⟩ := X
  obtain ⟨n, f, h1, h2, rfl⟩ := a_ref_s hv
  exact va_aldq hx hb hK (va_P1 (xΩ_at hw.1 h1)) 0 3 rfl (x_ty g (by decide)) h2 hdg kk
theorem xr_aaldS {i : Int32} {v : Option Nat} (X : xX g D A own S0 p s m args c cc nL) (hw : xW g D A S s H) (hv : a_ref S 4 a i = some v) (hdg : decode cc pc = .ok (.aaload, 1))
    (kk : W p l e R s m args below meth c H locs cells slots Q (F0 m (pc + 1) ls (va_rf v :: rest))) : W p l e R s m args below meth c H locs cells slots Q (F0 m pc ls (.int i :: .ref a :: rest)) := by
  obtain ⟨hx, hb, -, hown, hts, ⟨hK, -⟩, -, -⟩ := X
  obtain ⟨n, f, h1, h2, rfl⟩ := a_ref_s hv
  exact va_aldq hx hb hK (va_P1 (xΩ_at hw.1 h1)) 0 4 rfl (x_ty g (by decide)) h2 hdg kk
theorem xr_iast {i v : Int32} (X : xX g D A own S0 p s m args c cc nL) (hw : xW g D A S s H) (hS : va_S A s.heap H locs) (hv : a_putI S 0 a i v = some S1) (hdg : decode cc pc = .ok (.iastore, 1))
    (kk : ∀ (H1 : Heap) (locs1 : List Loc), xW g D A S1 s H1 → va_S A s.heap H1 locs1 → W p l e R s m args below meth c H1 locs1 cells slots Q (F0 m (pc + 1) ls rest)) : W p l e R s m args below meth c H locs cells slots Q (F0 m pc ls (.int v :: .int i :: .ref a :: rest)) := by
  obtain ⟨hx, hb, -, hown, hts, ⟨hK, -⟩, -, -⟩ := X
  obtain ⟨n, f, h1, hu⟩ := a_putI_s hw.1.2.1 hv
  refine uc_iast hx hb (hK.2 0 _ (x_ty g (by decide))).1 (xΩ_at hw.1 hu.1) h1 hdg fun H1 n z oq hz hat => ?_
  obtain ⟨h1, h2⟩ := xW_set (n := n) hw hS hu z oq hz hat
  exact kk H1 _ h1 h2
theorem xr_bast {i v : Int32} (X : xX g D A own S0 p s m args c cc nL) (hw : xW g D A S s H) (hS : va_S A s.heap H locs) (hv : a_putI S 1 a i (vp_nar .byte v) = some S1) (hdg : decode cc pc = .ok (.bastore, 1))
    (kk : ∀ (H1 : Heap) (locs1 : List Loc), xW g D A S1 s H1 → va_S A s.heap H1 locs1 → W p l e R s m args below meth c H1 locs1 cells slots Q (F0 m (pc + 1) ls rest)) : W p l e R s m args below meth c H locs cells slots Q (F0 m pc ls (.int v :: .int i :: .ref a :: rest)) := by
  obtain ⟨hx, hb, -, hown, hts, ⟨hK, -⟩, -, -⟩ := X
  obtain ⟨n, f, h1, hu⟩ := a_putI_s hw.1.2.1 hv
  refine uc_bast hx hb (hK.2 1 _ (x_ty g (by decide))).1 (xΩ_at hw.1 hu.1) h1 hdg fun H1 n z oq hz hat => ?_
  obtain ⟨h1, h2⟩ := xW_set (n := n) hw hS hu z oq hz hat
  exact kk H1 _ h1 h2
theorem xr_last {i : Int32} {v : Int64} (X : xX g D A own S0 p s m args c cc nL) (hw : xW g D A S s H) (hS : va_S A s.heap H locs) (hv : a_putJ S a i v = some S1) (hdg : decode cc pc = .ok (.lastore, 1))
    (kk : ∀ (H1 : Heap) (locs1 : List Loc), xW g D A S1 s H1 → va_S A s.heap H1 locs1 → W p l e R s m args below meth c H1 locs1 cells slots Q (F0 m (pc + 1) ls rest)) : W p l e R s m args below meth c H locs cells slots Q (F0 m pc ls (.long v :: .int i :: .ref a :: rest)) := by
  obtain ⟨hx, hb, -, hown, hts, ⟨hK, -⟩, -, -⟩ := X
  obtain ⟨n, f, h1, hu⟩ := a_putJ_s hv
  refine uc_last hx hb (hK.2 2 _ (x_ty g (by decide))).1 (xΩ_at hw.1 hu.1) h1 hdg fun H1 n z oq hz hat => ?_
  obtain ⟨h1, h2⟩ := xW_set (n := n) hw hS hu z oq hz hat
  exact kk H1 _ h1 h2
theorem xr_aastN {i : Int32} (X : xX g D A own S0 p s m args c cc nL) (hw : xW g D A S s H) (hS : va_S A s.heap H locs) (hv : a_putR S 3 a i none = some S1) (hdg : decode cc pc = .ok (.aastore, 1))
    (kk : ∀ (H1 : Heap) (locs1 : List Loc), xW g D A S1 s H1 → va_S A s.heap H1 locs1 → W p l e R s m args below meth c H1 locs1 cells slots Q (F0 m (pc + 1) ls rest)) : W p l e R s m args below meth c H locs cells slots Q (F0 m pc ls (.null :: .int i :: .ref a :: rest)) := by
  obtain ⟨hx, hb, -, hown, hts, ⟨hK, -⟩, -, -⟩ := X
  obtain ⟨n, f, h1, hu⟩ := a_putR_s hv
  refine uc_aastN (E := "java/lang/Object") hx hb (hK.2 3 _ (x_ty g (by decide))).1 (xΩ_at hw.1 hu.1) h1 hdg fun H1 n z oq hz hat => ?_
  obtain ⟨h1, h2⟩ := xW_set (n := n) hw hS hu z oq hz hat
  exact kk H1 _ h1 h2
theorem xr_aast {i : Int32} {v : Nat} (X : xX g D A own S0 p s m args c cc nL) (hw : xW g D A S s H) (hS : va_S A s.heap H locs) (hr : va_Any "java/lang/Object" s H v) (hv : a_putR S 3 a i (some v) = some S1) (hdg : decode cc pc = .ok (.aastore, 1))
    (kk : ∀ (H1 : Heap) (locs1 : List Loc), xW g D A S1 s H1 → va_S A s.heap H1 locs1 → W p l e R s m args below meth c H1 locs1 cells slots Q (F0 m (pc + 1) ls rest)) : W p l e R s m args below meth c H locs cells slots Q (F0 m pc ls (.ref v :: .int i :: .ref a :: rest)) := by
  obtain ⟨hx, hb, -, hown, hts, ⟨hK, -⟩, -, -⟩ := X
  obtain ⟨n, f, h1, hu⟩ := a_putR_s hv
  refine uc_aast (E := "java/lang/Object") hx hb (hK.2 3 _ (x_ty g (by decide))).2 (xΩ_at hw.1 hu.1) hr h1 hdg fun H1 n z oq hz hat => ?_
  obtain ⟨h1, h2⟩ := xW_set (n := n) hw hS hu z oq hz hat
  exact kk H1 _ h1 h2
theorem xr_alen {v : Int32} (X : xX g D A own S0 p s m args c cc nL) (hw : xW g D A S s H) (hv : a_len S a = some v) (hdg : decode cc pc = .ok (.arraylength, 1))
    (kk : W p l e R s m args below meth c H locs cells slots Q (F0 m (pc + 1) ls (.int v :: rest))) : W p l e R s m args below meth c H locs cells slots Q (F0 m pc ls (.ref a :: rest)) := by
  obtain ⟨hx, hb, -, hown, hts, ⟨hK, -⟩, -, -⟩ := X
  obtain ⟨k, x, h1, hk, rfl⟩ := a_len_s hv
  exact va_alen hx hb hK (va_P1 (xΩ_at hw.1 h1)) 0 k rfl (x_ty g hk) rfl hdg kk
end XR2
