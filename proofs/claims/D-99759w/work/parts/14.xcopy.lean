/-! copies of arrays; class objects; casts and receivers that are constants -/
/-- where references are copied from: an Object[] of ours, or an empty one of ArrayList -/
def r_src (g : XC) (S : XS) (r : Nat) : Option (Nat × (Nat → Option Nat)) := if r = gSp g 0 ∨ r = gSp g 1 then some (0, fun _ => none) else match x_cell S r with
  | some (.inl (3, n, .inr (.inr (.inr (.inr f))))) => some (n, f)
  | _ => none
def v_anys (g : XC) (S : XS) (f : Nat → Option Nat) (n : Nat) : Bool := (List.range n).all fun i => match f i with
  | none => true
  | some y => (v_any g S y).isSome
def a_cpyR (g : XC) (S : XS) (a0 : Nat) (sp : Int32) (a : Nat) (dp n : Int32) : Option XS := (r_src g S a0).bind fun q => match x_cell S a with
  | some (.inl (3, n1, .inr (.inr (.inr (.inr f))))) => if (xOwn S a).1 = 0 ∧ ¬ sp < 0 ∧ ¬ dp < 0 ∧ ¬ n < 0 ∧ sp.toNatClampNeg + n.toNatClampNeg ≤ q.1 ∧ dp.toNatClampNeg + n.toNatClampNeg ≤ n1 ∧ v_anys g S q.2 q.1 = true then some (xSetG S a (.inl (3, n1, .inr (.inr (.inr (.inr (va_cpy q.2 f sp.toNatClampNeg dp.toNatClampNeg n.toNatClampNeg))))))) else none
  | _ => none
def a_cpyB (S : XS) (a0 : Nat) (sp : Int32) (a : Nat) (dp n : Int32) : Option XS := match x_cell S a0 with
  | some (.inl (1, n0, .inl f0)) => match x_cell S a with
    | some (.inl (1, n1, .inl f)) => if (xOwn S a).1 = 0 ∧ ¬ sp < 0 ∧ ¬ dp < 0 ∧ ¬ n < 0 ∧ sp.toNatClampNeg + n.toNatClampNeg ≤ n0 ∧ dp.toNatClampNeg + n.toNatClampNeg ≤ n1 ∧ (List.range n.toNatClampNeg).all (fun i => fits .byte (.int (f0 (sp.toNatClampNeg + i)))) = true then some (xSetG S a (.inl (1, n1, .inl (va_cpy f0 f sp.toNatClampNeg dp.toNatClampNeg n.toNatClampNeg)))) else none
    | _ => none
  | _ => none
section XCP
variable {p : Program} {l : Launch} {e : Env} {R : Room} {s : State} {m : MethodId} {args : Array Value} {below : List Frame} {meth : Method} {c : Code} {H : Heap} {locs : List Loc} {cells slots : Nat} {Q : State → Prop}
variable {cc : ByteArray} {pc nL lv lv2 : Nat} {ls : Array Slot} {rest : List Value} {g : XC} {D : va_G} {A : Nat → Prop} {own : String} {S0 S S1 : XS} {idx a : Nat}
theorem nat_of {z : Int32} (hz : ¬ z < 0) : z.toInt = (z.toNatClampNeg : Int) := by
  have hz0 : (0 : Int) ≤ z.toInt := by
    have := Int32.not_lt.mp hz
    simpa using Int32.le_iff_toInt_le.mp this
  show z.toInt = ((z.toInt.toNat : Nat) : Int)
  omega
theorem cpy_words : nativeFrameWords "java/lang/System" "arraycopy" 5 ≤ 20 := by decide
/-- the picture with a cell that an arraycopy has written -/
theorem xW_cpy {S1 : XS} {H1 : Heap} {a : Nat} {e0 e1 : GE} {L : List Loc} (hw : xW g D A S s H) (hS : va_S A s.heap H locs) (hu : x_upd S S1 a e0 e1) (hL : ∀ z ∈ L, z.base = a) (z : H1.size = H.size) (oq : ∀ q : Nat, q ≠ a → H1[q]? = H[q]?) (hz : ∀ r : Nat, (H1[r]?).map (fun c => c.slots.size) = (H[r]?).map (fun c => c.slots.size)) (hat : va_at D xcl (a, x_gE g.1 e1) H1) : xW g D A S1 s H1 ∧ va_S A s.heap H1 (locs ++ L) := by
  obtain ⟨h1, h2⟩ := xW_set (n := 0) hw hS hu z oq hz hat
  have hA := xΩ_in hw.1 hu.1
  refine ⟨h1, h2.1, h2.2.1, fun q hq => ?_⟩
  rcases List.mem_append.mp hq with h | h
  · exact hS.2.2 q h
  · rw [hL q h]; exact hA
theorem xr_cpyR {a0 : Nat} {sp dp n : Int32} (X : xX g D A own S0 p s m args c cc nL) (hw : xW g D A S s H) (hS : va_S A s.heap H locs) (hsz : ls.size = nL) (hl : Cond.methodLink own idx arraycopyName ∈ lw_all) (hr : (rest.map fun v => v.category).sum ≤ 8) (hv : a_cpyR g S a0 sp a dp n = some S1) (hdg : decode cc pc = .ok (.invokestatic idx, 3))
    (kk : ∀ (H1 : Heap) (locs1 : List Loc), xW g D A S1 s H1 → va_S A s.heap H1 locs1 → W p l e (xRm g S0 lv) s m args below meth c H1 locs1 cells slots Q (F0 m (pc + 3) ls rest)) : W p l e (xRm g S0 lv) s m args below meth c H locs cells slots Q (F0 m pc ls (.int n :: .int dp :: .ref a :: .int sp :: .ref a0 :: rest)) := by
  obtain ⟨hx, hb, hml, hown, hts, ⟨hK, -⟩, -, -⟩ := id X
  unfold a_cpyR at hv
  obtain ⟨⟨n0, f0⟩, hq, hv⟩ := ob_s hv
  dsimp only at hv
  split at hv
  · rename_i n1 f hc
    by_cases h9 : (xOwn S a).1 = 0 ∧ ¬ sp < 0 ∧ ¬ dp < 0 ∧ ¬ n < 0 ∧ sp.toNatClampNeg + n.toNatClampNeg ≤ n0 ∧ dp.toNatClampNeg + n.toNatClampNeg ≤ n1 ∧ v_anys g S f0 n0 = true
    · rw [if_pos h9] at hv
      obtain rfl := Option.some.inj hv
      obtain ⟨h0, h1, h2, h3, h4, h5, h6⟩ := h9
      have hsrc : ∃ scr : Cell, H[a0]? = some scr ∧ s.isArrayOf scr (.object "java/lang/Object") ∧ scr.vm ≠ .unknown ∧ n0 ≤ scr.slots.size ∧ ∀ j, j < n0 → scr.slots[j]? = some (va_rf (f0 j)) := by
        unfold r_src at hq
        by_cases h0 : a0 = gSp g 0 ∨ a0 = gSp g 1
        · rw [if_pos h0] at hq
          cases Option.some.inj hq
          obtain ⟨cell, q1, q2, q3, q4, -, -⟩ := (x_emp hw h0).1
          exact ⟨cell, q1, q2, q3, q4, fun j hj => absurd hj (Nat.not_lt_zero j)⟩
        · rw [if_neg h0] at hq
          split at hq
          · rename_i n2 f2 hc2
            cases Option.some.inj hq
            have q1 : H[a0]? = some (vp_cell (g.1 3) (n0, .inr (.inr (.inr (.inr f0))))) := xΩ_at hw.1 hc2
            refine ⟨_, q1, (hK.2 3 _ (x_ty g (by decide))).1 n0 (fun j => va_rf (f0 j)), (fun h => by cases h), ?_, fun j hj => ?_⟩
            · show n0 ≤ (arrV _ _ _).slots.size
              rw [arrV_size]
              exact Nat.le_refl _
            · exact arrV_read _ _ hj
          · cases hq
      obtain ⟨scr, s1, ⟨s2, k0, hk0, cm0, hkk0⟩, s3, s4, s5⟩ := hsrc
      have hc1 : H[a]? = some (vp_cell (g.1 3) (n1, .inr (.inr (.inr (.inr f))))) := xΩ_at hw.1 hc
      obtain ⟨-, k1, hk1, cm1, hkk1⟩ := (hK.2 3 _ (x_ty g (by decide))).1 n1 (fun j => va_rf (f j))
      have hel : ∀ j, j < n0 → ∀ y, f0 j = some y → va_Any "java/lang/Object" s H y := by
        intro j hj y hy
        have h7 := List.all_eq_true.mp h6 j (List.mem_range.mpr hj)
        rw [hy] at h7
        obtain ⟨u, hu⟩ := Option.isSome_iff_exists.mp h7
        exact v_any_s X hw hu
      have hw5 := cpy_words
      intro T hT XX
      obtain ⟨vm', X', step⟩ := XX.arraycopy hx hown (hts _ hl) (hts _ q422) (hts _ q421) (hts _ q141) (src := a0) (dst := a) (cs := scr) (cd := vp_cell (g.1 3) (n1, .inr (.inr (.inr (.inr f))))) (srcPos := sp) (destPos := dp) (n := n) (by rw [hT]; exact s1) (by rw [hT]; exact hc1)
        s2 (fun _ h => by cases h) s3 (fun h => by cases h) hk0 hk1 hkk0 hkk1 rfl h1 h2 h3
        (by rw [nat_of h1, nat_of h3]; omega)
        (by rw [nat_of h2, nat_of h3]; show ¬ _ > ((arrV _ _ _).slots.size : Int); rw [arrV_size]; omega)
        (fun vm₁ hal i hi => by
          have e : scr.slots.getD (sp.toNatClampNeg + i) .null = va_rf (f0 (sp.toNatClampNeg + i)) := by
            rw [Array.getD_eq_getD_getElem?, s5 _ (by omega)]
            rfl
          rw [e]
          cases hy : f0 (sp.toNatClampNeg + i) with
          | none => exact ⟨rfl, trivial⟩
          | some y =>
            obtain ⟨cellV, g1, g2, ⟨kC, hkC⟩, hasg⟩ := hel _ (by omega) y hy
            obtain ⟨kA, comp, r1, r2, r3, -⟩ := (hK.2 3 _ (x_ty g (by decide))).2
            cases hk1.symm.trans r1
            cases hkk1.symm.trans r2
            obtain ⟨kE, hkE, -⟩ := Vm.findClass_spec r3
            obtain ⟨kC', hkC', -⟩ := hal.2.2 _ _ hkC
            obtain ⟨kE', hkE', -⟩ := hal.2.2 _ _ hkE
            refine ⟨rfl, cellV, (show T.heap[y]? = some cellV by rw [hT]; exact g1), (fun q h => by rw [h] at g2; cases g2), ⟨kC', hkC'⟩, ?_, ?_⟩
            · exact ⟨kE', hkE'⟩
            · show vm₁.assignable _ _ = true
              rw [hal.assignable]
              exact hasg _ r3)
        (g := F0 m pc ls (.int n :: .int dp :: .ref a :: .int sp :: .ref a0 :: rest)) rfl (by rw [hml]; exact hsz) (rest := rest) rfl (by rw [hb]; exact hdg) (by simp only [xRm]; omega) (by show 2 * 0 + _ + _ ≤ _; simp only [xRm]; omega)
      have e1 : copied scr (vp_cell (g.1 3) (n1, .inr (.inr (.inr (.inr f))))) sp dp n = vp_cell (g.1 3) (n1, .inr (.inr (.inr (.inr (va_cpy f0 f sp.toNatClampNeg dp.toNatClampNeg n.toNatClampNeg))))) := by
        rw [vp_cell_q, vp_cell_q]
        exact va_copiedX (fun z => va_rf z) scr (g.1 3) f0 f s5 h4
      rw [e1] at X' step
      have hla : a < H.size := (Array.getElem?_eq_some_iff.mp hc1).1
      have hheap : ((T.setVm vm').setCell a (vp_cell (g.1 3) (n1, .inr (.inr (.inr (.inr (va_cpy f0 f sp.toNatClampNeg dp.toNatClampNeg n.toNatClampNeg))))))).heap = H.setIfInBounds a (vp_cell (g.1 3) (n1, .inr (.inr (.inr (.inr (va_cpy f0 f sp.toNatClampNeg dp.toNatClampNeg n.toNatClampNeg)))))) := by rw [← hT]; rfl
      have e2 : (H.setIfInBounds a (vp_cell (g.1 3) (n1, .inr (.inr (.inr (.inr (va_cpy f0 f sp.toNatClampNeg dp.toNatClampNeg n.toNatClampNeg)))))))[a]? = some (vp_cell (g.1 3) (n1, .inr (.inr (.inr (.inr (va_cpy f0 f sp.toNatClampNeg dp.toNatClampNeg n.toNatClampNeg)))))) := by simp [Array.getElem?_setIfInBounds, hla]
      have oq : ∀ q : Nat, q ≠ a → (H.setIfInBounds a (vp_cell (g.1 3) (n1, .inr (.inr (.inr (.inr (va_cpy f0 f sp.toNatClampNeg dp.toNatClampNeg n.toNatClampNeg)))))))[q]? = H[q]? := fun q hq => by simp [Array.getElem?_setIfInBounds, Ne.symm hq]
      have hu : x_upd S (xSetG S a (.inl (3, n1, .inr (.inr (.inr (.inr (va_cpy f0 f sp.toNatClampNeg dp.toNatClampNeg n.toNatClampNeg))))))) a (.inl (3, n1, .inr (.inr (.inr (.inr f))))) (.inl (3, n1, .inr (.inr (.inr (.inr (va_cpy f0 f sp.toNatClampNeg dp.toNatClampNeg n.toNatClampNeg)))))) := ⟨hc, x_cell_Gs _ _ _ h0, fun q hq => x_cell_G _ _ _ _ hq, rfl, fun z => z⟩
      obtain ⟨k1, k2⟩ := xW_cpy hw hS hu (L := (scr.stretch sp.toNatClampNeg n.toNatClampNeg).zipIdx.map fun q => ⟨a, dp.toNatClampNeg + q.2⟩) (fun z hz => by
        obtain ⟨y, -, hy⟩ := List.mem_map.mp hz
        rw [← hy]) (by simp) oq (fun r => by
          by_cases hr2 : r = a
          · subst hr2
            rw [e2, hc1]
            show some (arrV _ _ _).slots.size = some (arrV _ _ _).slots.size
            rw [arrV_size, arrV_size]
          · rw [oq r hr2]) e2
      obtain ⟨t, a1, b1⟩ := kk _ _ k1 k2 _ hheap X'
      exact ⟨t, step t a1, b1⟩
    · rw [if_neg h9] at hv; cases hv
  · cases hv
theorem xr_cpyB {a0 : Nat} {sp dp n : Int32} (X : xX g D A own S0 p s m args c cc nL) (hw : xW g D A S s H) (hS : va_S A s.heap H locs) (hsz : ls.size = nL) (hl : Cond.methodLink own idx arraycopyName ∈ lw_all) (hr : (rest.map fun v => v.category).sum ≤ 8) (hv : a_cpyB S a0 sp a dp n = some S1) (hdg : decode cc pc = .ok (.invokestatic idx, 3))
    (kk : ∀ (H1 : Heap) (locs1 : List Loc), xW g D A S1 s H1 → va_S A s.heap H1 locs1 → W p l e (xRm g S0 lv) s m args below meth c H1 locs1 cells slots Q (F0 m (pc + 3) ls rest)) : W p l e (xRm g S0 lv) s m args below meth c H locs cells slots Q (F0 m pc ls (.int n :: .int dp :: .ref a :: .int sp :: .ref a0 :: rest)) := by
  obtain ⟨hx, hb, hml, hown, hts, ⟨hK, -⟩, -, -⟩ := id X
  unfold a_cpyB at hv
  split at hv
  · rename_i n0 f0 hc0
    split at hv
    · rename_i n1 f hc
      by_cases h9 : (xOwn S a).1 = 0 ∧ ¬ sp < 0 ∧ ¬ dp < 0 ∧ ¬ n < 0 ∧ sp.toNatClampNeg + n.toNatClampNeg ≤ n0 ∧ dp.toNatClampNeg + n.toNatClampNeg ≤ n1 ∧ (List.range n.toNatClampNeg).all (fun i => fits .byte (.int (f0 (sp.toNatClampNeg + i)))) = true
      · rw [if_pos h9] at hv
        obtain rfl := Option.some.inj hv
        obtain ⟨h0, h1, h2, h3, h4, h5, h6⟩ := h9
        have hs1 : H[a0]? = some (vp_cell (g.1 1) (n0, .inl f0)) := xΩ_at hw.1 hc0
        have hc1 : H[a]? = some (vp_cell (g.1 1) (n1, .inl f)) := xΩ_at hw.1 hc
        obtain ⟨-, k0, hk0, cm0, hkk0⟩ := (hK.2 1 _ (x_ty g (by decide))).1 n0 (fun j => .int (f0 j))
        obtain ⟨-, k1, hk1, cm1, hkk1⟩ := (hK.2 1 _ (x_ty g (by decide))).1 n1 (fun j => .int (f j))
        have hw5 := cpy_words
        intro T hT XX
        obtain ⟨vm', X', step⟩ := XX.arraycopy hx hown (hts _ hl) (hts _ q422) (hts _ q421) (hts _ q141) (src := a0) (dst := a) (cs := vp_cell (g.1 1) (n0, .inl f0)) (cd := vp_cell (g.1 1) (n1, .inl f)) (srcPos := sp) (destPos := dp) (n := n) (by rw [hT]; exact hs1) (by rw [hT]; exact hc1)
          (fun _ h => by cases h) (fun _ h => by cases h) (fun h => by cases h) (fun h => by cases h) hk0 hk1 hkk0 hkk1 rfl h1 h2 h3
          (by rw [nat_of h1, nat_of h3]; show ¬ _ > ((arrV _ _ _).slots.size : Int); rw [arrV_size]; omega)
          (by rw [nat_of h2, nat_of h3]; show ¬ _ > ((arrV _ _ _).slots.size : Int); rw [arrV_size]; omega)
          (fun vm₁ hal i hi => by
            have e : (vp_cell (g.1 1) (n0, .inl f0)).slots.getD (sp.toNatClampNeg + i) .null = .int (f0 (sp.toNatClampNeg + i)) := by
              show (arrV _ _ _).slots.getD _ _ = _
              rw [Array.getD_eq_getD_getElem?, arrV_read _ _ (by omega)]
              rfl
            rw [e]
            exact ⟨List.all_eq_true.mp h6 i (List.mem_range.mpr hi), trivial⟩)
          (g := F0 m pc ls (.int n :: .int dp :: .ref a :: .int sp :: .ref a0 :: rest)) rfl (by rw [hml]; exact hsz) (rest := rest) rfl (by rw [hb]; exact hdg) (by simp only [xRm]; omega) (by show 2 * 0 + _ + _ ≤ _; simp only [xRm]; omega)
        have e1 : copied (vp_cell (g.1 1) (n0, .inl f0)) (vp_cell (g.1 1) (n1, .inl f)) sp dp n = vp_cell (g.1 1) (n1, .inl (va_cpy f0 f sp.toNatClampNeg dp.toNatClampNeg n.toNatClampNeg)) := va_copied (fun z => .int z) (g.1 1) (g.1 1) f0 f h4
        rw [e1] at X' step
        have hla : a < H.size := (Array.getElem?_eq_some_iff.mp hc1).1
        have hheap : ((T.setVm vm').setCell a (vp_cell (g.1 1) (n1, .inl (va_cpy f0 f sp.toNatClampNeg dp.toNatClampNeg n.toNatClampNeg)))).heap = H.setIfInBounds a (vp_cell (g.1 1) (n1, .inl (va_cpy f0 f sp.toNatClampNeg dp.toNatClampNeg n.toNatClampNeg))) := by rw [← hT]; rfl
        have e2 : (H.setIfInBounds a (vp_cell (g.1 1) (n1, .inl (va_cpy f0 f sp.toNatClampNeg dp.toNatClampNeg n.toNatClampNeg))))[a]? = some (vp_cell (g.1 1) (n1, .inl (va_cpy f0 f sp.toNatClampNeg dp.toNatClampNeg n.toNatClampNeg))) := by simp [Array.getElem?_setIfInBounds, hla]
        have oq : ∀ q : Nat, q ≠ a → (H.setIfInBounds a (vp_cell (g.1 1) (n1, .inl (va_cpy f0 f sp.toNatClampNeg dp.toNatClampNeg n.toNatClampNeg))))[q]? = H[q]? := fun q hq => by simp [Array.getElem?_setIfInBounds, Ne.symm hq]
        have hu : x_upd S (xSetG S a (.inl (1, n1, .inl (va_cpy f0 f sp.toNatClampNeg dp.toNatClampNeg n.toNatClampNeg)))) a (.inl (1, n1, .inl f)) (.inl (1, n1, .inl (va_cpy f0 f sp.toNatClampNeg dp.toNatClampNeg n.toNatClampNeg))) := ⟨hc, x_cell_Gs _ _ _ h0, fun q hq => x_cell_G _ _ _ _ hq, rfl, fun z => z⟩
        obtain ⟨k1, k2⟩ := xW_cpy hw hS hu (L := ((vp_cell (g.1 1) (n0, .inl f0)).stretch sp.toNatClampNeg n.toNatClampNeg).zipIdx.map fun q => ⟨a, dp.toNatClampNeg + q.2⟩) (fun z hz => by
          obtain ⟨y, -, hy⟩ := List.mem_map.mp hz
          rw [← hy]) (by simp) oq (fun r => by
            by_cases hr2 : r = a
            · subst hr2
              rw [e2, hc1]
              show some (arrV _ _ _).slots.size = some (arrV _ _ _).slots.size
              rw [arrV_size, arrV_size]
            · rw [oq r hr2]) e2
        obtain ⟨t, a1, b1⟩ := kk _ _ k1 k2 _ hheap X'
        exact ⟨t, step t a1, b1⟩
      · rw [if_neg h9] at hv; cases hv
    · cases hv
  · cases hv
/-! class objects -/
theorem x_arrC (X : xX g D A own S0 p s m args c cc nL) (hw : xW g D A S s H) {u : Unit} (h : o_arr g S a = some u) : ∃ cell : Cell, H[a]? = some cell ∧ cell.vm.isStatics = false ∧ s.vm.findClass "[Ljava/lang/Object;" = some cell.cls := by
  unfold o_arr at h
  by_cases h0 : a = gSp g 0 ∨ a = gSp g 1
  · obtain ⟨cell, h1, h2, h3, -⟩ := (x_emp hw h0).2
    exact ⟨cell, h1, h2, h3⟩
  · rw [if_neg h0] at h
    split at h
    · rename_i x hg
      have h1 : H[a]? = some (vp_cell (g.1 3) x) := xΩ_at hw.1 hg
      have h2 : s.vm.findClass "[Ljava/lang/Object;" = some (g.1 3) := va_nmO (X.2.2.2.2.2.1.1.2 3 _ (x_ty g (by decide))).2 (by decide)
      refine ⟨_, h1, ?_, ?_⟩
      · obtain ⟨n, y⟩ := x
        rcases y with f | f | f | f | f <;> rfl
      · obtain ⟨n, y⟩ := x
        rcases y with f | f | f | f | f <;> exact h2
    · cases h
theorem xr_getC {u : Unit} (X : xX g D A own S0 p s m args c cc nL) (hw : xW g D A S s H) (hsz : ls.size = nL) (hv : o_arr g S a = some u) (hl : Cond.methodLink own idx ⟨"java/lang/Object", "getClass", "()Ljava/lang/Class;"⟩ ∈ lw_all) (hr : (rest.map fun v => v.category).sum ≤ 8) (hdg : decode cc pc = .ok (.invokevirtual idx, 3))
    (kk : W p l e (xRm g S0 lv) s m args below meth c H locs cells slots Q (F0 m (pc + 3) ls (.ref (gSp g 3) :: rest))) : W p l e (xRm g S0 lv) s m args below meth c H locs cells slots Q (F0 m pc ls (.ref a :: rest)) :=
  va_getC X.1 X.2.1 (by rw [X.2.2.1, hsz]) X.2.2.2.1 (X.2.2.2.2.1 _ hl) (va_Nw.use rfl (X.2.2.2.2.2.1.2.1.1 _ q634 rfl)) (X.2.2.2.2.1 _ q2247) (X.2.2.2.2.1 _ q393) (X.2.2.2.2.1 _ q410) X.2.2.2.2.2.1.2.2.2.1 (x_arrC X hw hv) (by simp only [xRm]; omega) (by simp only [xRm]; omega) hdg kk
/-- getClass() of an ArrayList, by Collection -/
theorem xr_getCI {u : Unit} {count : Nat} (X : xX g D A own S0 p s m args c cc nL) (hw : xW g D A S s H) (hsz : ls.size = nL) (hv : f_cls S 10 a = some u) (hl : Cond.methodLink own idx ⟨"java/util/Collection", "getClass", "()Ljava/lang/Class;"⟩ ∈ lw_all) (hr : (rest.map fun v => v.category).sum ≤ 8) (hdg : decode cc pc = .ok (.invokeinterface idx count, 5))
    (kk : W p l e (xRm g S0 lv) s m args below meth c H locs cells slots Q (F0 m (pc + 5) ls (.ref (gSp g 4) :: rest))) : W p l e (xRm g S0 lv) s m args below meth c H locs cells slots Q (F0 m pc ls (.ref a :: rest)) := by
  obtain ⟨c0, k0, h1, h2, h3⟩ := X.2.2.2.2.2.1.2.2.2.2.1
  obtain ⟨cell, g1, g2, g3⟩ := x_recv X hw xc10 hv
  have g3 : s.vm.findClass "java/util/ArrayList" = some cell.cls := g3
  cases h1.symm.trans g3
  have hN := X.2.2.2.2.2.1.2.1.1
  have hts := X.2.2.2.2.1
  have hface : (Cond.interfaceMethod "java/util/Collection" "java/lang/Object" "getClass" "()Ljava/lang/Class;").before args s = true := va_Nw.use rfl (hN _ q633 rfl)
  have hdecl : (Cond.declares ⟨"java/lang/Object", "getClass", "()Ljava/lang/Class;"⟩).before args s = true := va_Nw.use rfl (hN _ q634 rfl)
  have hsel : (Cond.selects "java/util/ArrayList" ⟨"java/util/Collection", "getClass", "()Ljava/lang/Class;"⟩ ⟨"java/lang/Object", "getClass", "()Ljava/lang/Class;"⟩).before args s = true := by
    obtain ⟨cL, kL, r1, -, -, -, hf, hn⟩ := Cond.interfaceMethod_spec hface
    have h4 := hts _ q408
    have h5 : s.methodFound? "java/lang/Object" "getClass" "()Ljava/lang/Class;" = some r1 := State.methodFound?_of_named hn (by decide)
    simp only [Cond.before, Cond.holds, Cond.value, hf, h5] at h4 ⊢
    exact h4
  have hw5 : nativeFrameWords "java/lang/Object" "getClass" 1 = 3 := by decide
  intro T hT XX
  obtain ⟨vm', X', st⟩ := XX.getClassOfI X.1 X.2.2.2.1 (hts _ hl) hdecl hface hsel (hts _ q393) (va_Nw.use rfl (hN _ q636 rfl)) (va_Nw.use rfl (hN _ q635 rfl)) (va_Nw.use rfl (hN _ q625 rfl)) (hts _ q410) (by decide) (by decide) rfl rfl h1 h2 ⟨cell, by rw [hT]; exact g1, rfl, g2⟩ h3 (g := F0 m pc ls (.ref a :: rest)) rfl (by rw [X.2.2.1]; exact hsz) (rest := rest) rfl (by rw [X.2.1]; exact hdg) (by simp only [xRm]; omega) (by show 2 * 0 + _ + _ ≤ _; simp only [xRm]; omega)
  obtain ⟨t, a1, b1⟩ := kk (T.setVm vm') hT X'
  exact ⟨t, st t a1, b1⟩
theorem xr_ldcM {C : String} {mi : Nat} (X : xX g D A own S0 p s m args c cc nL) (hM : va_Mi C mi s) (hl : Cond.classLink own idx C ∈ lw_all) (hdg : decode cc pc = .ok (.ldc idx, 2))
    (kk : W p l e R s m args below meth c H locs cells slots Q (F0 m (pc + 2) ls (.ref mi :: rest))) : W p l e R s m args below meth c H locs cells slots Q (F0 m pc ls rest) :=
  va_ldcM X.1 X.2.1 X.2.2.2.1 (X.2.2.2.2.1 _ hl) hM hdg kk
theorem xr_ldcS {i : Nat} {q : Nat × String} (X : xX g D A RX5 S0 p s m args c cc nL) (hi : x_str[i]? = some q) (hdg : decode cc pc = .ok (.ldc q.1, 2))
    (kk : W p l e R s m args below meth c H locs cells slots Q (F0 m (pc + 2) ls (.ref (gSk g i) :: rest))) : W p l e R s m args below meth c H locs cells slots Q (F0 m pc ls rest) :=
  va_ldcS X.1 X.2.1 X.2.2.2.1 (X.2.2.2.2.2.1.2.2.1 i q hi) hdg kk
/-! casts, receivers that are constants -/
theorem xr_castI {b k : Nat} (X : xX g D A own S0 p s m args c cc nL) (hw : xW g D A S s H) (hv : gIv g b = some k) (hl : Cond.classLink own idx "java/lang/Integer" ∈ lw_all) (hdg : decode cc pc = .ok (.checkcast idx, 3))
    (kk : W p l e R s m args below meth c H locs cells slots Q (F0 m (pc + 3) ls (.ref b :: rest))) : W p l e R s m args below meth c H locs cells slots Q (F0 m pc ls (.ref b :: rest)) :=
  va_castE X.1 X.2.1 X.2.2.2.1 (X.2.2.2.2.1 _ hl) (x_recvI X hw hv) hdg kk
theorem xr_instI {b k : Nat} (X : xX g D A own S0 p s m args c cc nL) (hw : xW g D A S s H) (hv : gIv g b = some k) (hl : Cond.classLink own idx "java/lang/Integer" ∈ lw_all) (hdg : decode cc pc = .ok (.instanceof idx, 3))
    (kk : W p l e R s m args below meth c H locs cells slots Q (F0 m (pc + 3) ls (.int 1 :: rest))) : W p l e R s m args below meth c H locs cells slots Q (F0 m pc ls (.ref b :: rest)) :=
  va_instE X.1 X.2.1 X.2.2.2.1 (X.2.2.2.2.1 _ hl) (x_recvI X hw hv) hdg kk
theorem f_ints_s {u : Unit} (h : f_ints S a = some u) : ∃ x, x_cell S a = some (.inl (0, x)) := by
  unfold f_ints at h
  split at h
  · rename_i x hg; exact ⟨x, hg⟩
  · cases h
theorem xr_castA {u : Unit} (X : xX g D A own S0 p s m args c cc nL) (hw : xW g D A S s H) (hv : f_ints S a = some u) (hl : Cond.classLink own idx "[I" ∈ lw_all) (hdg : decode cc pc = .ok (.checkcast idx, 3))
    (kk : W p l e R s m args below meth c H locs cells slots Q (F0 m (pc + 3) ls (.ref a :: rest))) : W p l e R s m args below meth c H locs cells slots Q (F0 m pc ls (.ref a :: rest)) := by
  obtain ⟨x, hx⟩ := f_ints_s hv
  exact va_castE X.1 X.2.1 X.2.2.2.1 (X.2.2.2.2.1 _ hl) (x_ints X hw hx) hdg kk
theorem f_form_s {ci : Nat} (h : f_form S a = some ci) : 5 ≤ ci ∧ ci ≤ 8 ∧ f_cls S ci a = some () := by
  unfold f_form at h
  split at h
  · rename_i c0 fs hg
    by_cases h2 : 5 ≤ c0 ∧ c0 ≤ 8
    · rw [if_pos h2] at h
      obtain rfl := Option.some.inj h
      refine ⟨h2.1, h2.2, ?_⟩
      unfold f_cls
      rw [hg]
      simp
    · rw [if_neg h2] at h; cases h
  · cases h
theorem xr_castF {ci : Nat} (X : xX g D A own S0 p s m args c cc nL) (hw : xW g D A S s H) (hv : f_form S a = some ci) (hl : Cond.classLink own idx "DripCups$Form" ∈ lw_all) (hdg : decode cc pc = .ok (.checkcast idx, 3))
    (kk : W p l e R s m args below meth c H locs cells slots Q (F0 m (pc + 3) ls (.ref a :: rest))) : W p l e R s m args below meth c H locs cells slots Q (F0 m pc ls (.ref a :: rest)) := by
  obtain ⟨h1, h2, h3⟩ := f_form_s hv
  have : ci = 5 ∨ ci = 6 ∨ ci = 7 ∨ ci = 8 := by omega
  rcases this with rfl | rfl | rfl | rfl
  · exact xr_castY X hw xc5 h3 hl q505 hdg kk
  · exact xr_castY X hw xc6 h3 hl q524 hdg kk
  · exact xr_castY X hw xc7 h3 hl q530 hdg kk
  · exact xr_castY X hw xc8 h3 hl q516 hdg kk
variable {y : MethodName} {bytes : ByteArray} {maxL n index : Nat} {ret : Option FieldType} {As st : List Value} {Qc : Array Value → State → Outcome → State → Prop}
theorem xr_runVX {b : Nat} {C : String} (X : xX g D A own S0 p s m args c cc nL) (hw : xW g D A S s H) (hM : Met l y (ws_ y bytes maxL ret) (xRm g S lv) (xPre g D A (.ref b :: As) S) Qc (g.2.1 - xTop S) (g.2.2.1 - xSl S) A) (cw : CallW (xRm g S0 lv2) s args own C index y bytes maxL ret (ws_ y bytes maxL ret) (xRm g S lv) (g.2.1 - xTop S) (g.2.2.1 - xSl S) n) (hrc : ∃ cell : Cell, H[b]? = some cell ∧ cell.vm.isStatics = false ∧ s.vm.findClass C = some cell.cls) (hn : As.length = n) (hsz : ls.size = nL) (hst : st = As.reverse ++ .ref b :: rest) (hr : (rest.map fun v => v.category).sum ≤ 8) (hdg : decode cc pc = .ok (.invokevirtual index, 3)) (t1 : s.heap.size ≤ H.size) (t2 : slotsOf s.heap ≤ slotsOf H) :
    va_Run p l e (xRm g S0 lv2) s m args below meth c H locs (H.size - s.heap.size) (slotsOf H - slotsOf s.heap) (g.2.1 - xTop S) (g.2.2.1 - xSl S) (F0 m pc ls st) rest (Qc (Value.ref b :: As).toArray) A :=
  va_runV (x_fix X) hM cw ⟨x_blind, hrc, fun U hU hW => ⟨rfl, x_to X hw hU hW⟩⟩ rfl hn hsz hst (lv_room hr) hdg (x_fits X hw t1 t2)
theorem xr_aastS {i : Int32} {v k : Nat} (X : xX g D A own S0 p s m args c cc nL) (hw : xW g D A S s H) (hS : va_S A s.heap H locs) (hi : gSi g v = some k) (hv : a_putR S 4 a i (some v) = some S1) (hdg : decode cc pc = .ok (.aastore, 1))
    (kk : ∀ (H1 : Heap) (locs1 : List Loc), xW g D A S1 s H1 → va_S A s.heap H1 locs1 → W p l e R s m args below meth c H1 locs1 cells slots Q (F0 m (pc + 1) ls rest)) : W p l e R s m args below meth c H locs cells slots Q (F0 m pc ls (.ref v :: .int i :: .ref a :: rest)) := by
  obtain ⟨hx, hb, -, hown, hts, ⟨hK, -⟩, -, -⟩ := id X
  obtain ⟨n, f, h1, hu⟩ := a_putR_s hv
  obtain ⟨cell, g1, g2, g3⟩ := x_recvS X hw hi
  obtain ⟨kC, hkC, -⟩ := Vm.findClass_spec g3
  refine uc_aast (E := "java/lang/String") hx hb (hK.2 4 _ (x_ty g (by decide))).2 (xΩ_at hw.1 hu.1) ⟨cell, g1, g2, ⟨kC, hkC⟩, fun comp hcomp => vb_asgS comp _ hcomp g3⟩ h1 hdg fun H1 n z oq hz hat => ?_
  obtain ⟨h1, h2⟩ := xW_set (n := n) hw hS hu z oq hz hat
  exact kk H1 _ h1 h2
/-! private methods of a class above -/
theorem x_selP {C C0 : String} {x0 y0 y : MethodName} (X : xX g D A own S0 p s m args c cc nL) (h0 : Cond.selects C0 x0 y0 ∈ lw_all) (hc : y0.cls = y.cls) (hpm : Cond.privateMethod y ∈ lw_tbl) (hin : Cond.instanceMethod y ∈ lw_all) (hy : y.cls ≠ "java/lang/invoke/MethodHandle" ∧ y.cls ≠ "java/lang/invoke/VarHandle") (hC : ∃ k : ClassId, s.vm.findClass C = some k) : (Cond.selects C y y).before args s = true := by
  obtain ⟨k, hk⟩ := hC
  have hts := X.2.2.2.2.1
  obtain ⟨mk, methM, hnamed, hmethM, -, -⟩ := Cond.instanceMethod_spec (hts _ hin)
  obtain ⟨c2, r2, m2, -, -, q3, -, kP, hkP, hkPi⟩ := Cond.selects_spec (hts _ h0)
  have e1 : m2.cls = mk.cls := by
    have a1 := findClass_of_methodNamed q3
    have a2 := findClass_of_methodNamed hnamed
    rw [hc] at a1
    exact Option.some.inj (a1.symm.trans a2)
  have hpr : (Cond.privateMethod y).before args s = true := va_Nw.use rfl (X.2.2.2.2.2.1.2.1.1 _ hpm rfl)
  have hp : methM.isPrivate = true := by
    simp only [Cond.before, Cond.holds, Cond.value, hnamed, Option.bind_some, hmethM, Option.map_some] at hpr
    simpa using hpr
  rw [e1] at hkP
  simp [Cond.before, Cond.holds, Cond.value, hk, State.methodFound?_of_named hnamed hy, hnamed, selectMethod_private hmethM hp, hkP, hkPi]
theorem x_cuP {C C0 owner : String} {x0 y0 x y : MethodName} {bytes : ByteArray} {maxL n index : Nat} {ret : Option FieldType} {ci N : Nat} {T : u_T} (X : xX g D A own S0 p s m args c cc nL) (h1 : lv < lv2) (h2 : maxL ≤ 21) (hyx : y = ⟨owner, x.name, x.desc⟩) (hx : owner ≠ "java/lang/invoke/MethodHandle" ∧ owner ≠ "java/lang/invoke/VarHandle" ∧ (parseMethodDescriptor x.desc).map (fun d => d.parameters.length) = some n) (hl : Cond.methodLink own index x ∈ lw_all) (hsm : Cond.sameMethod x.cls owner x.name x.desc ∈ lw_all) (hxy : x = y) (hci : xcl[ci]? = some (C, T, N)) (hsel : Cond.selects C0 x0 y0 ∈ lw_all) (hc0 : y0.cls = y.cls) (hpm : Cond.privateMethod y ∈ lw_tbl) (hin : Cond.instanceMethod y ∈ lw_all) (hini : Cond.initialized y.cls ∈ lw_all) (hcode : Cond.code y bytes maxL ret ∈ lw_all) : va_CU (xRm g S0 lv2) s args own C owner index x y bytes maxL ret (ws_ y bytes maxL ret) (xRm g S lv) (g.2.1 - xTop S) (g.2.2.1 - xSl S) n := by
  have hs0 : (Cond.selects C x y).before args s = true := by
    rw [hxy]
    exact x_selP X hsel hc0 hpm hin (by rw [hyx]; exact ⟨hx.1, hx.2.1⟩) ⟨_, (X.2.2.2.2.2.1.1.1 ci _ hci).2.1⟩
  have hts : ∀ w ∈ Cond.selects C x y :: lw_all, w.before args s = true := fun w hw => (List.mem_cons.mp hw).elim (fun e => by rw [e]; exact hs0) (X.2.2.2.2.1 w)
  refine va_cwU (Ts := Cond.selects C x y :: lw_all) n hts (fun w hw => ?_) rfl rfl rfl hyx hx (x_room h1 h2)
  have key : ∀ w ∈ lw_all, w ∈ Cond.selects C x y :: lw_all ∧ goodWord w = true := fun w hw => ⟨List.mem_cons_of_mem _ hw, (List.mem_filter.mp hw).2⟩
  rcases List.mem_append.mp hw with hw | hw
  · simp only [List.mem_cons, List.not_mem_nil, or_false] at hw
    rcases hw with e | e | e | e | e
    · rw [e]; exact ⟨(key _ hl).1, good_of_word (key _ hl).2⟩
    · rw [e]; exact ⟨(key _ hsm).1, good_of_word (key _ hsm).2⟩
    · rw [e]; exact ⟨List.mem_cons_self, good_of_word rfl⟩
    · rw [e]; exact ⟨(key _ hin).1, good_of_word (key _ hin).2⟩
    · rw [e]; exact ⟨(key _ hini).1, good_of_word (key _ hini).2⟩
  · rcases List.mem_cons.mp hw with e | e
    · rw [e]; exact ⟨(key _ hcode).1, good_of_word (key _ hcode).2⟩
    · exact ⟨(key _ e).1, good_of_word (key _ e).2⟩
end XCP
