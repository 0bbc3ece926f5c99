/-! arrays of int arrays -/
def xMul (S : XS) (t n k : Nat) : Nat → Option XS
  | 0 => xNew S n (.inl (5, n, .inr (.inr (.inr (.inr (fun _ => none))))))
  | i + 1 => (xMul S t n k i).bind fun S1 => (xNew S1 k (.inl (0, k, .inl (fun _ => 0)))).map fun S2 => xSetG S2 t (.inl (5, n, .inr (.inr (.inr (.inr (fun j => if j < i + 1 then some (t + 1 + j) else none))))))
def xNewM (S : XS) (n k : Int32) : Option XS := if n < 0 ∨ k < 0 ∨ 67108864 < n.toNatClampNeg ∨ 67108864 < k.toNatClampNeg then none else (xMul S (xTop S) n.toNatClampNeg k.toNatClampNeg n.toNatClampNeg)
section XMU
variable {p : Program} {l : Launch} {e : Env} {R : Room} {s : State} {m : MethodId} {args : Array Value} {below : List Frame} {meth : Method} {c : Code} {H : Heap} {locs : List Loc} {cells slots : Nat} {Q : State → Prop}
variable {cc : ByteArray} {pc nL lv lv2 : Nat} {ls : Array Slot} {rest st : List Value} {g : XC} {D : va_G} {A : Nat → Prop} {own : String} {S0 S S1 : XS} {idx a : Nat}
theorem outerC_arrV (cA : ClassId) (n h0 : Nat) : ∀ i : Nat, Jvm.Free.Multi.outerC cA n h0 i = arrV cA n (fun j => va_rf (if j < i then some (h0 + 1 + j) else none)) := by
  intro i
  induction i with
  | zero =>
    show ({ cls := cA, slots := Array.replicate n .null, vm := .none } : Cell) = _
    rw [arrV_new]
    congr 1
  | succ i ih =>
    show (Jvm.Free.Multi.outerC cA n h0 i).setSlot i (.ref (h0 + 1 + i)) = _
    rw [ih, arrV_store]
    congr 1
    funext j
    unfold updV
    by_cases hj : j = i
    · subst hj
      simp [va_rf]
    · by_cases h2 : j < i
      · have h3 : j < i + 1 := by omega
        simp [hj, h2, h3]
      · have h3 : ¬ j < i + 1 := by omega
        simp [hj, h2, h3]
/-- the picture while the arrays are made -/
theorem xW_mul {n k : Nat} {cA comp : ClassId} {U : State} (hcA : cA = g.1 5) (hco : comp = g.1 0) (hw : xW g D A S s U.heap) (hS : va_S A s.heap U.heap locs) : ∀ (i : Nat) (S1 : XS), i ≤ n → xMul S (xTop S) n k i = some S1 → xW g D A S1 s (Jvm.Free.Multi.fill U cA comp n k (.int 0) i).heap ∧ va_S A s.heap (Jvm.Free.Multi.fill U cA comp n k (.int 0) i).heap locs ∧ x_cell S1 (xTop S) = some (.inl (5, n, .inr (.inr (.inr (.inr (fun j => if j < i then some (xTop S + 1 + j) else none)))))) ∧ (xOwn S1 (xTop S)).1 = 0 := by
  subst hcA hco
  have e3 : U.heap.size = xTop S := hw.1.2.2.1
  have own0 : ∀ (S S1 : XS) (n : Nat) (e : GE), xNew S n e = some S1 → (xOwn S1 (xTop S)).1 = 0 ∧ xG S1 (xTop S) = some e := by
    intro S S1 n e h
    obtain ⟨-, -, -, -, -, -, n7, n8, -⟩ := xNew_s h
    rw [n7, if_pos rfl, n8, if_pos rfl]
    exact ⟨rfl, rfl⟩
  intro i
  induction i with
  | zero =>
    intro S1 hi h
    have h : xNew S n (.inl (5, n, .inr (.inr (.inr (.inr (fun _ => none)))))) = some S1 := h
    obtain ⟨o1, o2⟩ := own0 _ _ _ _ h
    have hc : (U.pushCell (Jvm.Free.Multi.outerC (g.1 5) n U.heap.size 0)).heap[U.heap.size]? = some (Jvm.Free.Multi.outerC (g.1 5) n U.heap.size 0) := State.heap_pushCell_size _ _
    obtain ⟨k1, k2⟩ := xW_new (H1 := (U.pushCell (Jvm.Free.Multi.outerC (g.1 5) n U.heap.size 0)).heap) hw hS h (by simp [State.pushCell]) hc (by simp [Jvm.Free.Multi.outerC]) (fun q hq => State.heap_pushCell_of_lt _ _ hq) (by
      show (U.pushCell _).heap[U.heap.size]? = some (vp_cell (g.1 5) _)
      rw [hc, outerC_arrV, vp_cell_q]
      rfl)
    refine ⟨k1, k2, ?_, o1⟩
    unfold x_cell
    rw [if_pos o1, o2]
    rfl
  | succ i ih =>
    intro S1 hi h
    have h : ((xMul S (xTop S) n k i).bind fun S1 => (xNew S1 k (.inl (0, k, .inl (fun _ => 0)))).map fun S2 => xSetG S2 (xTop S) (.inl (5, n, .inr (.inr (.inr (.inr (fun j => if j < i + 1 then some (xTop S + 1 + j) else none))))))) = some S1 := h
    obtain ⟨S2, h2, h⟩ := ob_s h
    obtain ⟨S3, h3, rfl⟩ := Option.map_eq_some_iff.mp h
    obtain ⟨w1, w2, w3, w4⟩ := ih S2 (by omega) h2
    obtain ⟨f1, f2, f3, f4⟩ := Jvm.Free.Multi.fill_facts U (g.1 5) (g.1 0) n k (.int 0) i
    generalize hF : Jvm.Free.Multi.fill U (g.1 5) (g.1 0) n k (.int 0) i = F at w1 w2 f1 f2
    have hsz2 : F.heap.size = xTop S2 := w1.1.2.2.1
    have hc : (F.pushCell (Jvm.Free.Multi.innerC (g.1 0) k (.int 0))).heap[F.heap.size]? = some (Jvm.Free.Multi.innerC (g.1 0) k (.int 0)) := State.heap_pushCell_size _ _
    obtain ⟨k1, k2⟩ := xW_new (H1 := (F.pushCell (Jvm.Free.Multi.innerC (g.1 0) k (.int 0))).heap) w1 w2 h3 (by simp [State.pushCell]) hc (by simp [Jvm.Free.Multi.innerC]) (fun q hq => State.heap_pushCell_of_lt _ _ hq) (by
      show (F.pushCell _).heap[F.heap.size]? = some (vp_cell (g.1 0) _)
      rw [hc, vp_cell_i]
      show some ({ cls := g.1 0, slots := Array.replicate k (.int 0), vm := .none } : Cell) = _
      rw [arrV_new])
    -- the outer array's cell
    have ht : xTop S < F.heap.size := by rw [f1, e3]; omega
    have hne : xTop S ≠ xTop S2 := by rw [← hsz2]; omega
    obtain ⟨-, -, -, -, -, -, n7, n8, n9, n10, n11, n12⟩ := xNew_s h3
    have w5 : x_cell S3 (xTop S) = x_cell S2 (xTop S) := by
      unfold x_cell
      rw [n7, if_neg hne, n8, if_neg hne, x_F_eq n9 n10 n12, n11]
    have w6 : (xOwn S3 (xTop S)).1 = 0 := by rw [n7, if_neg hne]; exact w4
    have hu : x_upd S3 (xSetG S3 (xTop S) (.inl (5, n, .inr (.inr (.inr (.inr (fun j => if j < i + 1 then some (xTop S + 1 + j) else none))))))) (xTop S) (.inl (5, n, .inr (.inr (.inr (.inr (fun j => if j < i then some (xTop S + 1 + j) else none)))))) (.inl (5, n, .inr (.inr (.inr (.inr (fun j => if j < i + 1 then some (xTop S + 1 + j) else none)))))) := ⟨by rw [w5]; exact w3, x_cell_Gs _ _ _ w6, fun q hq => x_cell_G _ _ _ _ hq, rfl, fun z => z⟩
    have hcell : (F.pushCell (Jvm.Free.Multi.innerC (g.1 0) k (.int 0))).heap[U.heap.size]? = some (Jvm.Free.Multi.outerC (g.1 5) n U.heap.size i) := by rw [State.heap_pushCell_of_lt (h := by rw [e3]; exact ht)]; exact f2
    have hH : (Jvm.Free.Multi.fill U (g.1 5) (g.1 0) n k (.int 0) (i + 1)).heap = ((F.pushCell (Jvm.Free.Multi.innerC (g.1 0) k (.int 0))).setCell U.heap.size (Jvm.Free.Multi.outerC (g.1 5) n U.heap.size (i + 1))).heap := by rw [← hF]; rfl
    have hself : ((F.pushCell (Jvm.Free.Multi.innerC (g.1 0) k (.int 0))).setCell U.heap.size (Jvm.Free.Multi.outerC (g.1 5) n U.heap.size (i + 1))).heap[U.heap.size]? = some (Jvm.Free.Multi.outerC (g.1 5) n U.heap.size (i + 1)) := State.heap_setCell_self hcell
    have oq : ∀ q : Nat, q ≠ xTop S → ((F.pushCell (Jvm.Free.Multi.innerC (g.1 0) k (.int 0))).setCell U.heap.size (Jvm.Free.Multi.outerC (g.1 5) n U.heap.size (i + 1))).heap[q]? = (F.pushCell (Jvm.Free.Multi.innerC (g.1 0) k (.int 0))).heap[q]? := fun q hq => State.heap_setCell_other (fun z => hq (by rw [← z, e3]))
    obtain ⟨j1, j2⟩ := xW_cpy (L := []) k1 k2 hu (fun z hz => absurd hz List.not_mem_nil) (by simp [State.setCell]) oq (fun r => by
      by_cases hr : r = xTop S
      · subst hr
        rw [← e3, hself, hcell]
        show some (Jvm.Free.Multi.outerC _ _ _ _).slots.size = some (Jvm.Free.Multi.outerC _ _ _ _).slots.size
        rw [(Jvm.Free.Multi.outerC_facts _ _ _ _).2.2, (Jvm.Free.Multi.outerC_facts _ _ _ _).2.2]
      · rw [oq r hr]) (by
        show _ = some (vp_cell (g.1 5) _)
        rw [← e3, hself, outerC_arrV, vp_cell_q])
    rw [hH]
    exact ⟨j1, by rw [List.append_nil] at j2; exact j2, x_cell_Gs _ _ _ w6, w6⟩
theorem xr_newM {n k : Int32} (X : xX g D A own S0 p s m args c cc nL) (hw : xW g D A S s H) (hS : va_S A s.heap H locs) (hcl : Cond.classLink own idx "[[I" ∈ lw_all) (hn : xNewM S n k = some S1) (hdg : decode cc pc = .ok (.multianewarray idx 2, 4))
    (kk : ∀ (H1 : Heap) (locs : List Loc) (cells slots : Nat), xW g D A S1 s H1 → va_S A s.heap H1 locs → W p l e (xRm g S0 lv) s m args below meth c H1 locs cells slots Q (F0 m (pc + 4) ls (.ref (xTop S) :: rest))) : W p l e (xRm g S0 lv) s m args below meth c H locs cells slots Q (F0 m pc ls (.int k :: .int n :: rest)) := by
  obtain ⟨hx, hb, -, hown, hts, ⟨hK, hN, -⟩, hz0, hs0⟩ := X
  unfold xNewM at hn
  by_cases h0 : n < 0 ∨ k < 0 ∨ 67108864 < n.toNatClampNeg ∨ 67108864 < k.toNatClampNeg
  · rw [if_pos h0] at hn; cases hn
  rw [if_neg h0] at hn
  have e3 : H.size = xTop S := hw.1.2.2.1
  have e4 : slotsOf H = xSl S := hw.1.2.2.2.1
  have hcc := hw.2.1
  have hcs := hw.2.2.1
  have hbig : ∀ (i : Nat) (S1 : XS), xMul S (xTop S) n.toNatClampNeg k.toNatClampNeg i = some S1 → xTop S1 = xTop S + 1 + i ∧ xSl S1 = xSl S + n.toNatClampNeg + i * k.toNatClampNeg ∧ xTop S1 ≤ xCc S ∧ xSl S1 ≤ xCs S ∧ xCc S1 = xCc S ∧ xCs S1 = xCs S := by
    intro i
    induction i with
    | zero =>
      intro S1 h
      obtain ⟨a1, a2, a3, a4, a5, a6, -⟩ := xNew_s (show xNew S n.toNatClampNeg _ = some S1 from h)
      exact ⟨a3, by rw [a4, Nat.zero_mul, Nat.add_zero], by omega, by omega, a5, a6⟩
    | succ i ih =>
      intro S1 h
      have h : ((xMul S (xTop S) n.toNatClampNeg k.toNatClampNeg i).bind fun S1 => (xNew S1 k.toNatClampNeg (.inl (0, k.toNatClampNeg, .inl (fun _ => 0)))).map fun S2 => xSetG S2 (xTop S) (.inl (5, n.toNatClampNeg, .inr (.inr (.inr (.inr (fun j => if j < i + 1 then some (xTop S + 1 + j) else none))))))) = some S1 := h
      obtain ⟨S2, h2, h⟩ := ob_s h
      obtain ⟨S3, h3, rfl⟩ := Option.map_eq_some_iff.mp h
      obtain ⟨b1, b2, b3, b4, b5, b6⟩ := ih S2 h2
      obtain ⟨a1, a2, a3, a4, a5, a6, -⟩ := xNew_s h3
      have c1 : ∀ e, xTop (xSetG S3 (xTop S) e) = xTop S3 := fun _ => rfl
      have c2 : ∀ e, xSl (xSetG S3 (xTop S) e) = xSl S3 := fun _ => rfl
      have c3 : ∀ e, xCc (xSetG S3 (xTop S) e) = xCc S3 := fun _ => rfl
      have c4 : ∀ e, xCs (xSetG S3 (xTop S) e) = xCs S3 := fun _ => rfl
      rw [c1, c2, c3, c4, Nat.succ_mul]
      exact ⟨by omega, by omega, by omega, by omega, by omega, by omega⟩
  obtain ⟨g1, g2, g3, g4, -⟩ := hbig _ _ hn
  refine W.tight fun t1 t2 => ?_
  intro T hT X
  obtain ⟨vm₁, cA, comp, hW, hfA, hfC, hO, hI, X1, st⟩ := X.multianewarray2F hx (own := own) (index := idx) (ty := .int) hown (hts _ hcl) (x_ao2 (Vm.Alike.refl _) hN.2.2.2.2) (hts _ q188) (g := F0 m pc ls (.int k :: .int n :: rest)) rfl (by rw [hb]; exact hdg) rfl (fun z => h0 (Or.inl z)) (fun z => h0 (Or.inr (Or.inl z))) (by omega) (by show _ * 4 ≤ _; omega) (by omega) rfl rfl (by simp only [xRm]; omega) (by simp only [xRm]; omega)
  have hcA : cA = g.1 5 := by
    have h2 := (hK.2 5 _ (x_ty g (by decide))).2
    exact Option.some.inj (hfA.symm.trans h2)
  have hco : comp = g.1 0 := by
    have h2 := (hK.2 0 _ (x_ty g (by decide))).2
    exact Option.some.inj (hfC.symm.trans h2)
  have hTv : (T.setVm vm₁).heap = H := hT
  obtain ⟨w1, w2, -⟩ := xW_mul (U := T.setVm vm₁) (n := n.toNatClampNeg) (k := k.toNatClampNeg) hcA hco (by rw [hTv]; exact hw) (by rw [hTv]; exact hS) n.toNatClampNeg S1 (Nat.le_refl _) hn
  have hTs : T.heap.size = xTop S := by rw [hT]; exact e3
  rw [hTs] at st
  obtain ⟨t, a1, b1⟩ := (kk _ _ _ _ w1 w2) _ rfl X1
  exact ⟨t, st t a1, b1⟩
theorem xr_aaldA {i : Int32} {v : Option Nat} (X : xX g D A own S0 p s m args c cc nL) (hw : xW g D A S s H) (hv : a_ref S 5 a i = some v) (hdg : decode cc pc = .ok (.aaload, 1))
    (kk : W p l e R s m args below meth c H locs cells slots Q (F0 m (pc + 1) ls (va_rf v :: rest))) : W p l e R s m args below meth c H locs cells slots Q (F0 m pc ls (.int i :: .ref a :: rest)) := by
  obtain ⟨hx, hb, -, hown, hts, ⟨hK, -⟩, -, -⟩ := X
  obtain ⟨n, f, h1, hin, rfl⟩ := a_ref_s hv
  have hlt : i.toNatClampNeg < n := Nat.not_le.mp fun q => hin (Or.inr q)
  exact W.aald (v := va_rf (f i.toNatClampNeg)) (ty := .array .int) hx hb (xΩ_at hw.1 h1) ((hK.2 5 _ (x_ty g (by decide))).1 n (fun j => va_rf (f j))) rfl (fun q => by cases q) (by show ¬ (i < 0 ∨ (arrV _ _ _).slots.size ≤ _); rw [arrV_size]; exact hin) (by show (arrV _ _ _).slots[_]? = _; rw [arrV_read _ _ hlt]) rfl rfl hdg kk
end XMU
