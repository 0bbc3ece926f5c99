/-! how it starts: the whole, from what cave owes -/
theorem st_all (hcv : ∀ (g : XC) (N xa oa i : Nat), 2 ^ 20 < N → i ≤ 378 → St_cave (yRel g N xa oa i) (yRel g N xa oa (i + 6)) g N xa oa) {g : XC} {N xa oa i : Nat} (hN : 2 ^ 20 < N) (hi : i ≤ 378) : St_all (yRel g N xa oa i) (yRel g N xa oa (i + 6)) g N xa oa :=
  ⟨op_feed hN, hcv g N xa oa i hN hi, op_fault, op_count hN hi, op_cup hN hi, op_hours hN hi, op_lead hN hi, op_plug hN hi, op_pour hN hi, op_crack hN hi, op_undo hN, op_then hN hi, op_tipping hN hi, op_next hN hi, op_together hN hi, op_sound hN hi, op_fallen hN hi, op_nth hN hi, op_meeting hN hi, op_flow hN hi, op_tier hN hi, op_toCrack hN hi, op_office hN hi, op_hear hN, op_forget hN, op_led hN hi, op_listen hN hi, op_cold hN hi, op_game hN hi, op_years hN hi, op_later hN hi, op_oftenest hN hi, op_round hN hi, op_pause hN hi, op_giver hN hi, op_toPour hN hi, op_ways hN hi, op_chorus hN hi, op_never hN hi, op_swell hN hi, op_image hN, op_restore hN⟩
theorem whole_of (hcv : ∀ (g : XC) (N xa oa i : Nat), 2 ^ 20 < N → i ≤ 378 → St_cave (yRel g N xa oa i) (yRel g N xa oa (i + 6)) g N xa oa) {p : Program} {e : Env} {s : State} {m : MethodId} {below : List Frame} {meth : Method} {c : Code} (l : Launch) (hflags : l.flags = flags0) {b L : Nat} {xs : Nat → Int32} (hL : L ≤ 384) (C0 : lw_At p s m meth c b L xs) : W p l e room_1 s m #[Value.ref b] below meth c s.heap [] 0 0 (lw_Z below #[Value.ref b] s) (entryFrame m ([Value.ref b] : List Value).toArray 7) := by
  obtain ⟨hx, hb, hret, hml, hown, hts, hX, hbl, hnl, hgv⟩ := C0
  have hN : 2 ^ 20 < 2 ^ 21 := by decide
  have hg : ∀ c ∈ kNar, c.before #[Value.ref b] s = true := flat_of_before _ hgv
  obtain ⟨g, D, hΦ, hK, hG, hc1, hc2⟩ := y_given (S := s) rfl rfl hts hg (s.heap.size + 928407) (slotsOf s.heap + 6316261)
  have hts2 : ∀ w ∈ lw_all, w.before #[Value.ref b] s = true := fun w hw => hts w (lw_all_tbl hw)
  have X : xX g D (fun q => s.heap.size ≤ q) "DripCupsLaw" (xS0 s.heap.size (slotsOf s.heap) g.2.1 g.2.2.1) p s m #[Value.ref b] c cL_law 7 := ⟨hx, hb, hml, hown, hts2, hK, rfl, rfl⟩
  have Xj : jX g D (moG (s.heap.size + 26) (g.1 0) (g.1 6)) s.heap.size "DripCupsLaw" p s m #[Value.ref b] c cL_law 7 := ⟨⟨hx, hb, hml, hown, hts2⟩, hK, jG_mo _ _ _ _ (Nat.le_add_right _ _), rfl, va_K.sub hK.1 [0, 6] rfl⟩
  refine W.inRoom (R1 := xRm g (xS0 s.heap.size (slotsOf s.heap) g.2.1 g.2.2.1) 2000) (hasRoom_le (by show 2001 ≤ 8192; omega) (by show g.2.1 - s.heap.size ≤ 928407; omega) (by show g.2.2.1 - slotsOf s.heap ≤ 6316261; omega) (by show 40 * (2000 + 1) ≤ 100000; omega)) (fun hr => ?_)
  refine law_start hN X hΦ hG hc1 hc2 (fun H locs ls cells slots S hz hsl hw hS hl hrel => W.outRoom hr ?_)
  refine law_loop (Rel := fun i => yRel g (2 ^ 21) s.heap.size (s.heap.size + 57) i) (N := 2 ^ 21) (xa := s.heap.size) (oa := s.heap.size + 57) (lw_notrace hflags) Xj hX hbl hL (fun i hi => st_all hcv hN hi) (fun i n τ σ h => yRel_mono i n τ σ h) (fun H locs ls cells slots hS h1 h2 => ?_) 64 0 58 32451 (by omega) (by omega) (by omega) (by omega) H locs ls cells slots S.2 mo0 hw hS hl hrel (by omega) (by omega)
  refine va_forget (fun q hq => hS.2.2 q hq) (W.fit h1 h2 ?_)
  refine lv_iconst (v := 1) hx hb dL_law_2712 (by decide) ?_
  exact lw_ret hx hb hret hnl dL_law_2713
