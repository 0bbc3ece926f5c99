/-! how it starts: the law's own first steps, walked -/
section LS2
variable {p : Program} {l : Launch} {e : Env} {s : State} {m : MethodId} {below : List Frame} {meth : Method} {c : Code} {Q : State → Prop} {g : XC} {D : va_G} {b N : Nat} {xs : Nat → Int32}
theorem law_start (hN : 2 ^ 20 < N) (X : xX g D (fun q => s.heap.size ≤ q) "DripCupsLaw" (xS0 s.heap.size (slotsOf s.heap) g.2.1 g.2.2.1) p s m #[Value.ref b] c cL_law 7) (hΦ : xΦ g (fun q => s.heap.size ≤ q) s s.heap) (hG : GOk g s.heap.size) (hc1 : g.2.1 = s.heap.size + 928407) (hc2 : g.2.2.1 = slotsOf s.heap + 6316261)
    (kk : ∀ (H : Heap) (locs : List Loc) (ls : Array Slot) (cells slots : Nat) (S : XS), H.size = s.heap.size + 58 → slotsOf H = slotsOf s.heap + 32451 → jW g D (moG (s.heap.size + 26) (g.1 0) (g.1 6)) s.heap.size S.2 mo0 s H → va_S (fun q => s.heap.size ≤ q) s.heap H locs → lv_has ls 7 [(4, .int (nI 0)), (1, .ref s.heap.size), (2, .ref (s.heap.size + 26)), (3, .ref (s.heap.size + 57)), (0, .ref b)] → yRel g N s.heap.size (s.heap.size + 57) 0 H.size S.2 mo0 → W p l e (xRm g (xS0 s.heap.size (slotsOf s.heap) g.2.1 g.2.2.1) 2000) s m #[Value.ref b] below meth c H locs cells slots Q (F0 m 23 ls [])) :
    W p l e (xRm g (xS0 s.heap.size (slotsOf s.heap) g.2.1 g.2.2.1) 2000) s m #[Value.ref b] below meth c s.heap [] 0 0 Q (entryFrame m ([Value.ref b] : List Value).toArray 7) := by
  obtain ⟨hx, hb, -, hown, hts, -⟩ := id X
  generalize hn0 : s.heap.size = n0 at *
  generalize hs0 : slotsOf s.heap = s0 at *
  have hW0 := xS0_WF n0 s0 g.2.1 g.2.2.1
  have hw0 : xW g D (fun q => n0 ≤ q) (xS0 n0 s0 g.2.1 g.2.2.1) s s.heap := ⟨⟨fun q e hq => (Option.some_ne_none e (hq.symm.trans (xS0_cell _ _ _ _ q))).elim, hW0.1, hn0, hs0, fun q hq => hq⟩, rfl, rfl, by show n0 ≤ g.2.1; omega, by show s0 ≤ g.2.2.1; omega, hΦ⟩
  have t0 : xTop (xS0 n0 s0 g.2.1 g.2.2.1) = n0 := rfl
  have u0 : xSl (xS0 n0 s0 g.2.1 g.2.2.1) = s0 := rfl
  have v0 : xCc (xS0 n0 s0 g.2.1 g.2.2.1) = g.2.1 := rfl
  have w0 : xCs (xS0 n0 s0 g.2.1 g.2.2.1) = g.2.2.1 := rfl
  generalize xS0 n0 s0 g.2.1 g.2.2.1 = S0 at *
  obtain ⟨S1, a1, a2, a3, a4, a5⟩ := x1_start (g := g) hN hW0 (by rw [t0]; exact ⟨hG.1, hG.2.1⟩) (by omega) (by omega)
  obtain ⟨S2, b1, b2, b3, b4, b5, b6⟩ := x4_start (g := g) (N := N) a2.1 (by rw [a2.2.2.2.1]; omega) (by rw [a2.2.2.2.2.1]; omega)
  have hnJ := x_newJ (S := S2) (n := 1) (by omega) (by rw [b2.2.2.2.1, a2.2.2.2.1]; omega) (by rw [b2.2.2.2.2.1, a2.2.2.2.2.1]; omega)
  have c1 := newS_XE b2.1 1 (.inl (2, 1, .inr (.inl (fun _ => 0)))) (fun _ => False)
  have c2 := newS_at S2 1 (.inl (2, 1, .inr (.inl (fun _ => 0))))
  have c3 : xTop (newS S2 1 (.inl (2, 1, .inr (.inl (fun _ => 0))))) = xTop S2 + 1 := rfl
  have c4 : xSl (newS S2 1 (.inl (2, 1, .inr (.inl (fun _ => 0))))) = xSl S2 + 1 := rfl
  generalize newS S2 1 (.inl (2, 1, .inr (.inl (fun _ => 0)))) = S3 at *
  have T1 : xTop S1 = n0 + 26 := by omega
  have T2 : xTop S2 = n0 + 57 := by omega
  have T3 : xTop S3 = n0 + 58 := by omega
  rw [t0] at a1 a5
  rw [T1] at b1 b5 b6
  rw [T2] at c2
  -- the reference's cells
  have hgm : ∀ k, (m_kd k = 1 ∨ m_kd k = 2) → genAt S3 (n0 + 26 + 1 + moI k) (.inl ((if m_kd k = 2 then 6 else 0), m_len k, .inl (fun _ => 0))) := fun k hk => (b6 k hk).xe b2.1 c1 (fun z => z)
  have hg0 := b5.xe b2.1 c1 (fun z => z)
  have hP : ∀ q, jR (moG (n0 + 26) (g.1 0) (g.1 6)) q → (xOwn S3 q).1 = 0 := by
    rintro q (rfl | ⟨k, hk, rfl⟩)
    · exact congrArg Prod.fst hg0.1
    · exact congrArg Prod.fst (hgm k hk).1
  have hrel := y_start (N := N) (ci := g.1 0) (cb := g.1 6) (oa := n0 + 57) (hG.le (Nat.le_add_right n0 58)) a2.1 T1 a5 (b2.trans c1 (fun _ _ z => z)) T3 rfl ⟨_, c2⟩ hP
  -- the walk
  rw [lg_entry_eq]
  have hl := lv_entry [Value.ref b] (n := 7) (Nat.le_of_ble_eq_true rfl)
  generalize (lg_sl [Value.ref b] ++ List.replicate (7 - (lg_sl [Value.ref b]).length) Slot.unset).toArray = ls at hl ⊢
  have hl : lv_has ls 7 [(0, .ref b)] := hl
  have hS : va_S (fun q => n0 ≤ q) s.heap s.heap [] := va_S.rf
  have hn1 : xNew S0 14 (.inr (1, xbE)) = some (newS S0 14 (.inr (1, xbE))) := x_newS (by omega) (by omega)
  have hn2 : xNew S1 60 (.inr (0, moE)) = some (newS S1 60 (.inr (0, moE))) := x_newS (by rw [a2.2.2.2.1]; omega) (by rw [a2.2.2.2.2.1]; omega)
  refine xr_new (N := 14) X hw0 hS xc1 in_X1 tyX1_ok q148 q149 q115 (by intro j hj; exact df_X1 j hj) hn1 dL_law_0 (fun H cells slots hw hS => ?_)
  rw [t0]
  refine lv_dup hx hb dL_law_3 rfl ?_
  refine xr_retv hS (xr_runI X hw (met_X1_init N _ n0 S1 a1) (x_ci X (lv := 4) (by omega) (by decide) rfl cx_X1_init (lw_meth qi_X1) q115 q150 q151) rfl hl.1 rfl (Nat.le_of_ble_eq_true rfl) dL_law_4) (fun H locs cells slots hw hS => ?_)
  refine lv_astore_n (lv' := [(1, .ref n0), (0, .ref b)]) hx hb dL_law_7 rfl hl (by decide) rfl (fun ls hl => ?_)
  refine xr_new (N := 60) X hw hS xc0 in_X4 tyX4_ok q1581 q1582 q121 (by intro j hj; exact df_X4 j hj) hn2 dL_law_8 (fun H cells slots hw hS => ?_)
  rw [T1]
  refine lv_dup hx hb dL_law_11 rfl ?_
  refine xr_retv hS (xr_runI X hw (met_X4_init N _ (n0 + 26) S2 b1) (x_ci X (lv := 0) (by omega) (by decide) rfl cx_X4_init (lw_meth qi_X4) q121 q1583 q1584) rfl hl.1 rfl (Nat.le_of_ble_eq_true rfl) dL_law_12) (fun H locs cells slots hw hS => ?_)
  refine lv_astore_n (lv' := [(2, .ref (n0 + 26)), (1, .ref n0), (0, .ref b)]) hx hb dL_law_15 rfl hl (by decide) rfl (fun ls hl => ?_)
  refine lv_iconst (v := 1) hx hb dL_law_16 (by decide) ?_
  refine xr_newJ X hw hS q_arr_long hnJ dL_law_17 (fun H cells slots hw hS => ?_)
  rw [T2]
  refine lv_astore_n (lv' := [(3, .ref (n0 + 57)), (2, .ref (n0 + 26)), (1, .ref n0), (0, .ref b)]) hx hb dL_law_19 rfl hl (by decide) rfl (fun ls hl => ?_)
  refine lv_iconst (v := 0) hx hb dL_law_20 (by decide) ?_
  refine lv_istore (lv' := [(4, .int 0), (3, .ref (n0 + 57)), (2, .ref (n0 + 26)), (1, .ref n0), (0, .ref b)]) hx hb dL_law_21 hl (by decide) rfl (fun ls hl => ?_)
  obtain ⟨⟨o1, o2, o3, o4, o5⟩, -, -, -, -, o6⟩ := hw
  have hz : H.size = n0 + 58 := by rw [o3]; exact T3
  have hsl : slotsOf H = s0 + 32451 := by rw [o4]; omega
  have hG26 := jG_mo (n0 + 26) n0 (g.1 0) (g.1 6) (Nat.le_add_right _ _)
  refine kk H locs ls cells slots (unG S3 (jR (moG (n0 + 26) (g.1 0) (g.1 6)))) hz hsl ⟨⟨⟨fun q e hq => ?_, o2, rfl, rfl, fun q hq => ?_⟩, o6, by omega⟩, ?_, fun k hk => ?_⟩ hS (lv_sub hl [0, 3, 2, 1, 4] rfl) ?_
  · have hq : x_cell (unG S3 (jR (moG (n0 + 26) (g.1 0) (g.1 6)))) q = some e := hq
    obtain ⟨q1, q2⟩ := unG_cell hP hq
    exact ⟨(o1 q e q1).1, (o1 q e q1).2, q2⟩
  · have hq : H.size ≤ q := hq
    refine ⟨by omega, fun z => ?_⟩
    have := jR_mo z
    omega
  · exact (o1 _ _ (g_cell hg0)).1
  · have h := (o1 _ _ (g_cell (hgm k hk))).1
    have e : m_cls (moG (n0 + 26) (g.1 0) (g.1 6)) k = g.1 (if m_kd k = 2 then 6 else 0) := by
      unfold m_cls
      by_cases z : m_kd k = 2
      · rw [if_pos z, if_pos z]
        rfl
      · rw [if_neg z, if_neg z]
        rfl
    rw [e]
    exact h
  · rw [hz]
    exact hrel
end LS2
