/-! how it starts: the law's own first steps -/
section LS1
variable {p : Program} {l : Launch} {e : Env} {R R1 : Room} {s : State} {m : MethodId} {args : Array Value} {below : List Frame} {meth : Method} {c : Code} {H : Heap} {locs : List Loc} {cells slots cells2 slots2 : Nat} {Q : State → Prop}
theorem W.loose {g : JFrame} (hc : cells ≤ cells2) (hs : slots ≤ slots2) (kk : W p l e R s m args below meth c H locs cells2 slots2 Q g) : W p l e R s m args below meth c H locs cells slots Q g := by
  intro T hT X
  obtain ⟨e1, e2, e3, e4, e5, e6⟩ := X.same
  exact kk T hT { X with same := ⟨e1, e2, Nat.le_trans e3 (by omega), e4, Nat.le_trans e5 hs, e6⟩ }
theorem W.fit {g : JFrame} (hc : H.size ≤ s.heap.size + cells2) (hs : slotsOf H ≤ slotsOf s.heap + slots2) (kk : W p l e R s m args below meth c H locs cells2 slots2 Q g) : W p l e R s m args below meth c H locs cells slots Q g :=
  W.tight fun _ _ => W.loose (by omega) (by omega) kk
theorem W.inRoom {g : JFrame} (hle : s.hasRoom e.platform R = true → s.hasRoom e.platform R1 = true) (kk : s.hasRoom e.platform R = true → W p l e R1 s m args below meth c H locs cells slots Q g) : W p l e R s m args below meth c H locs cells slots Q g :=
  fun T hT X => kk X.room T hT { X with room := hle X.room }
theorem W.outRoom {g : JFrame} (hr : s.hasRoom e.platform R = true) (kk : W p l e R s m args below meth c H locs cells slots Q g) : W p l e R1 s m args below meth c H locs cells slots Q g :=
  fun T hT X => kk T hT { X with room := hr }
theorem hasRoom_le {pl : Platform} (h1 : R1.frames ≤ R.frames) (h2 : R1.cells ≤ R.cells) (h3 : R1.slots ≤ R.slots) (h4 : R1.locals ≤ R.locals) (h : s.hasRoom pl R = true) : s.hasRoom pl R1 = true := by
  simp only [State.hasRoom, Bool.and_eq_true, decide_eq_true_eq] at h ⊢
  refine ⟨⟨⟨⟨by omega, by omega, by omega, by omega, by omega, h.1.1.1.2.2.2.2.2⟩, by omega⟩, by omega⟩, h.2⟩
end LS1
theorem qi_X1 : Cond.code yX1_init cX1_init 1 (Option.none : Option Jvm.ClassFile.FieldType) ∈ lw_all := q152
theorem qi_X4 : Cond.code yX4_init cX4_init 1 (Option.none : Option Jvm.ClassFile.FieldType) ∈ lw_all := q1585
theorem yRel_mono {g : XC} {N xa oa : Nat} (i n : Nat) (τ : XL) (σ : MS) (h : yRel g N xa oa i n τ σ) : yRel g N xa oa (i + 6) n τ σ := by
  obtain ⟨M, Z, Ya, Yh, na, ta, cv, la, lh, ra, rh, h1, h2, h3, h4, h5⟩ := h
  exact ⟨M, Z, Ya, Yh, na, ta, cv, la, lh, ra, rh, h1, h2, h3, h4, h5.le (by unfold yT; omega)⟩
theorem lw_notrace {l : Launch} (h : l.flags = flags0) : l.stackTraces = false := by
  unfold Launch.stackTraces
  rw [h]
  decide
