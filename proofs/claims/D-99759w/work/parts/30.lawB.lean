/-- what the plain law owes, all of it -/
def St_all (Rel Rel1 : Nat → XL → MS → Prop) (g : XC) (N xa oa : Nat) : Prop := St_feed Rel Rel1 g N xa oa ∧ St_cave Rel Rel1 g N xa oa ∧ St_fault Rel Rel1 g N xa oa ∧ St_count Rel Rel1 g N xa oa ∧ St_cup Rel Rel1 g N xa oa ∧ St_hours Rel Rel1 g N xa oa ∧ St_lead Rel Rel1 g N xa oa ∧ St_plug Rel Rel1 g N xa oa ∧ St_pour Rel Rel1 g N xa oa ∧ St_crack Rel Rel1 g N xa oa ∧ St_undo Rel Rel1 g N xa oa ∧ St_then Rel Rel1 g N xa oa ∧ St_tipping Rel Rel1 g N xa oa ∧ St_next Rel Rel1 g N xa oa ∧ St_together Rel Rel1 g N xa oa ∧ St_sound Rel Rel1 g N xa oa ∧ St_fallen Rel Rel1 g N xa oa ∧ St_nth Rel Rel1 g N xa oa ∧ St_meeting Rel Rel1 g N xa oa ∧ St_flow Rel Rel1 g N xa oa ∧ St_tier Rel Rel1 g N xa oa ∧ St_toCrack Rel Rel1 g N xa oa ∧ St_office Rel Rel1 g N xa oa ∧ St_hear Rel Rel1 g N xa oa ∧ St_forget Rel Rel1 g N xa oa ∧ St_led Rel Rel1 g N xa oa ∧ St_listen Rel Rel1 g N xa oa ∧ St_cold Rel Rel1 g N xa oa ∧ St_game Rel Rel1 g N xa oa ∧ St_years Rel Rel1 g N xa oa ∧ St_later Rel Rel1 g N xa oa ∧ St_oftenest Rel Rel1 g N xa oa ∧ St_round Rel Rel1 g N xa oa ∧ St_pause Rel Rel1 g N xa oa ∧ St_giver Rel Rel1 g N xa oa ∧ St_toPour Rel Rel1 g N xa oa ∧ St_ways Rel Rel1 g N xa oa ∧ St_chorus Rel Rel1 g N xa oa ∧ St_never Rel Rel1 g N xa oa ∧ St_swell Rel Rel1 g N xa oa ∧ St_image Rel Rel1 g N xa oa ∧ St_restore Rel Rel1 g N xa oa
theorem law_more {L i : Nat} (hL : L ≤ 384) (hi : i ≤ 1000) (h : ¬ Int32.ofNat L - 6 < nI i) : i + 6 ≤ L := by
  apply Classical.byContradiction
  intro q
  apply h
  by_cases h6 : 6 ≤ L
  · have e : Int32.ofNat L - 6 = nI (L - 6) := pk_sub (a := L) (b := 6) h6
    rw [e]
    exact nI_lt (by omega) (by omega)
  · have h0 : Int32.ofNat L - 6 < 0 := by
      have : L = 0 ∨ L = 1 ∨ L = 2 ∨ L = 3 ∨ L = 4 ∨ L = 5 := by omega
      rcases this with e | e | e | e | e | e <;> (rw [e]; decide)
    have h1 : nI 0 ≤ nI i := nI_le (Nat.zero_le _) (by omega)
    have h2 := Int32.lt_iff_toInt_lt.mp h0
    have h3 := Int32.le_iff_toInt_le.mp h1
    have h4 : (nI 0).toInt = (0 : Int32).toInt := rfl
    exact Int32.lt_iff_toInt_lt.mpr (by omega)
theorem law_loop {p : Program} {l : Launch} {e : Env} {s : State} {m : MethodId} {below : List Frame} {meth : Method} {c : Code} {Q : State → Prop} {g : XC} {D : va_G} {G : MG} {n0 b L xa oa N : Nat} {xs : Nat → Int32} {Rel : Nat → Nat → XL → MS → Prop} (hlT : l.stackTraces = false) (X : jX g D G n0 "DripCupsLaw" p s m #[Value.ref b] c cL_law 7) (hX : va_X b L xs s s.heap) (hbl : b < s.heap.size) (hL : L ≤ 384) (hst : ∀ i, i ≤ 378 → St_all (Rel i) (Rel (i + 6)) g N xa oa) (hmono : ∀ i n τ σ, Rel i n τ σ → Rel (i + 6) n τ σ)
    (hend : ∀ (H : Heap) (locs : List Loc) (ls : Array Slot) (cells slots : Nat), va_S (fun q => n0 ≤ q) s.heap H locs → H.size ≤ s.heap.size + 928407 → slotsOf H ≤ slotsOf s.heap + 6316261 → W p l e room_1 s m #[Value.ref b] below meth c H locs cells slots Q (F0 m 2712 ls [])) :
    ∀ (f i c0 k0 : Nat), i ≤ 400 → L ≤ i + 6 * f + 5 → c0 + 14000 * f ≤ 928407 → k0 + 97000 * f ≤ 6316261 → ∀ (H : Heap) (locs : List Loc) (ls : Array Slot) (cells slots : Nat) (τ : XL) (σ : MS), jW g D G n0 τ σ s H → va_S (fun q => n0 ≤ q) s.heap H locs → lv_has ls 7 [(4, .int (nI i)), (1, .ref xa), (2, .ref G.1), (3, .ref oa), (0, .ref b)] → Rel i H.size τ σ → H.size ≤ s.heap.size + c0 → slotsOf H ≤ slotsOf s.heap + k0 → W p l e room_1 s m #[Value.ref b] below meth c H locs cells slots Q (F0 m 23 ls []) := by
  have hx := X.1.1
  have hb := X.1.2.1
  have hown := X.1.2.2.2.1
  have hn0 : s.heap.size = n0 := X.2.2.2.1
  intro f
  induction f with
  | zero =>
    intro i c0 k0 hi0 hLf hc0 hk0 H locs ls cells slots τ σ hw hS hl hR h1 h2
    refine lv_iload hx hb dL_law_23 (lv_at hl 0 rfl) ?_
    refine lv_aload_n hx hb dL_law_25 rfl (lv_at hl 4 rfl) ?_
    refine va_slen hx hb hX hbl (by omega) hS dL_law_26 ?_
    refine lv_bipush (v := 6) hx hb dL_law_27 (by decide) ?_
    refine lv_isub hx hb dL_law_29 ?_
    refine lv_icmp_gt (tgt := 2712) hx hb dL_law_30 (by decide) (fun _ => hend _ _ _ _ _ hS (by omega) (by omega)) (fun cc => ?_)
    have hm := law_more hL (by omega) cc
    omega
  | succ f ih =>
    intro i c0 k0 hi0 hLf hc0 hk0 H locs ls cells slots τ σ hw hS hl hR h1 h2
    refine lv_iload hx hb dL_law_23 (lv_at hl 0 rfl) ?_
    refine lv_aload_n hx hb dL_law_25 rfl (lv_at hl 4 rfl) ?_
    refine va_slen hx hb hX hbl (by omega) hS dL_law_26 ?_
    refine lv_bipush (v := 6) hx hb dL_law_27 (by decide) ?_
    refine lv_isub hx hb dL_law_29 ?_
    refine lv_icmp_gt (tgt := 2712) hx hb dL_law_30 (by decide) (fun _ => hend _ _ _ _ _ hS (by omega) (by omega)) (fun cc => ?_)
    have hm := law_more hL (by omega) cc
    refine lv_aload_n hx hb dL_law_33 rfl (lv_at hl 4 rfl) ?_
    refine lv_iload hx hb dL_law_34 (lv_at hl 0 rfl) ?_
    refine jr_sld (i := i) (k := 0) hx hb hX hbl hn0 hS rfl (by omega) hL dL_law_36 ?_
    refine lv_bipush (v := 63) hx hb dL_law_37 (by decide) ?_
    refine lv_iand hx hb dL_law_39 ?_
    have hc1 : c0 + 14000 ≤ 928407 := Nat.le_trans (Nat.add_le_add_left (Nat.le_mul_of_pos_right 14000 (Nat.succ_pos f)) c0) hc0
    have hk1 : k0 + 97000 ≤ 6316261 := Nat.le_trans (Nat.add_le_add_left (Nat.le_mul_of_pos_right 97000 (Nat.succ_pos f)) k0) hk0
    have hnext := fun (H : Heap) (locs : List Loc) (ls : Array Slot) (cells slots : Nat) (τ : XL) (σ : MS) (w1 : jW g D G n0 τ σ s H) (w2 : va_S (fun q => n0 ≤ q) s.heap H locs) (w3 : lv_has ls 7 [(4, .int (nI (i + 6))), (1, .ref xa), (2, .ref G.1), (3, .ref oa), (0, .ref b)]) (w4 : Rel (i + 6) H.size τ σ) (w5 : H.size ≤ s.heap.size + (c0 + 14000)) (w6 : slotsOf H ≤ slotsOf s.heap + (k0 + 97000)) => ih (i + 6) (c0 + 14000) (k0 + 97000) (by omega) (by omega) (by omega) (by omega) H locs ls cells slots τ σ w1 w2 w3 w4 w5 w6
    by_cases z0 : xs (i + 0) &&& 63 = 0
    · refine lv_tableIn (off := 184) (tgt := 224) hx hb dL_law_40 (by rw [z0]; decide) (by rw [z0]; decide) (by rw [z0]; rfl) (by decide) ?_
      exact law_feed hlT X hX hbl hm hL (hst i (by omega)).1 h1 h2 hc1 hk1 hw hS hR hnext hl
    by_cases z1 : xs (i + 0) &&& 63 = 1
    · refine lv_tableIn (off := 257) (tgt := 297) hx hb dL_law_40 (by rw [z1]; decide) (by rw [z1]; decide) (by rw [z1]; rfl) (by decide) ?_
      exact law_cave hlT X hX hbl hm hL (hst i (by omega)).2.1 h1 h2 hc1 hk1 hw hS hR hnext hl
    by_cases z2 : xs (i + 0) &&& 63 = 2
    · refine lv_tableIn (off := 313) (tgt := 353) hx hb dL_law_40 (by rw [z2]; decide) (by rw [z2]; decide) (by rw [z2]; rfl) (by decide) ?_
      exact law_fault hlT X hX hbl hm hL (hst i (by omega)).2.2.1 h1 h2 hc1 hk1 hw hS hR hnext hl
    by_cases z3 : xs (i + 0) &&& 63 = 3
    · refine lv_tableIn (off := 326) (tgt := 366) hx hb dL_law_40 (by rw [z3]; decide) (by rw [z3]; decide) (by rw [z3]; rfl) (by decide) ?_
      exact law_count hlT X hX hbl hm hL (hst i (by omega)).2.2.2.1 h1 h2 hc1 hk1 hw hS hR hnext hl
    by_cases z4 : xs (i + 0) &&& 63 = 4
    · refine lv_tableIn (off := 382) (tgt := 422) hx hb dL_law_40 (by rw [z4]; decide) (by rw [z4]; decide) (by rw [z4]; rfl) (by decide) ?_
      exact law_cup hlT X hX hbl hm hL (hst i (by omega)).2.2.2.2.1 h1 h2 hc1 hk1 hw hS hR hnext hl
    by_cases z5 : xs (i + 0) &&& 63 = 5
    · refine lv_tableIn (off := 450) (tgt := 490) hx hb dL_law_40 (by rw [z5]; decide) (by rw [z5]; decide) (by rw [z5]; rfl) (by decide) ?_
      exact law_hours hlT X hX hbl hm hL (hst i (by omega)).2.2.2.2.2.1 h1 h2 hc1 hk1 hw hS hR hnext hl
    by_cases z6 : xs (i + 0) &&& 63 = 6
    · refine lv_tableIn (off := 475) (tgt := 515) hx hb dL_law_40 (by rw [z6]; decide) (by rw [z6]; decide) (by rw [z6]; rfl) (by decide) ?_
      exact law_lead hlT X hX hbl hm hL (hst i (by omega)).2.2.2.2.2.2.1 h1 h2 hc1 hk1 hw hS hR hnext hl
    by_cases z7 : xs (i + 0) &&& 63 = 7
    · refine lv_tableIn (off := 550) (tgt := 590) hx hb dL_law_40 (by rw [z7]; decide) (by rw [z7]; decide) (by rw [z7]; rfl) (by decide) ?_
      exact law_plug hlT X hX hbl hm hL (hst i (by omega)).2.2.2.2.2.2.2.1 h1 h2 hc1 hk1 hw hS hR hnext hl
    by_cases z8 : xs (i + 0) &&& 63 = 8
    · refine lv_tableIn (off := 641) (tgt := 681) hx hb dL_law_40 (by rw [z8]; decide) (by rw [z8]; decide) (by rw [z8]; rfl) (by decide) ?_
      exact law_pour hlT X hX hbl hm hL (hst i (by omega)).2.2.2.2.2.2.2.2.1 h1 h2 hc1 hk1 hw hS hR hnext hl
    by_cases z9 : xs (i + 0) &&& 63 = 9
    · refine lv_tableIn (off := 709) (tgt := 749) hx hb dL_law_40 (by rw [z9]; decide) (by rw [z9]; decide) (by rw [z9]; rfl) (by decide) ?_
      exact law_crack hlT X hX hbl hm hL (hst i (by omega)).2.2.2.2.2.2.2.2.2.1 h1 h2 hc1 hk1 hw hS hR hnext hl
    by_cases z10 : xs (i + 0) &&& 63 = 10
    · refine lv_tableIn (off := 777) (tgt := 817) hx hb dL_law_40 (by rw [z10]; decide) (by rw [z10]; decide) (by rw [z10]; rfl) (by decide) ?_
      exact law_undo hlT X hX hbl hm hL (hst i (by omega)).2.2.2.2.2.2.2.2.2.2.1 h1 h2 hc1 hk1 hw hS hR hnext hl
    by_cases z11 : xs (i + 0) &&& 63 = 11
    · refine lv_tableIn (off := 790) (tgt := 830) hx hb dL_law_40 (by rw [z11]; decide) (by rw [z11]; decide) (by rw [z11]; rfl) (by decide) ?_
      exact law_then hlT X hX hbl hm hL (hst i (by omega)).2.2.2.2.2.2.2.2.2.2.2.1 h1 h2 hc1 hk1 hw hS hR hnext hl
    by_cases z12 : xs (i + 0) &&& 63 = 12
    · refine lv_tableIn (off := 870) (tgt := 910) hx hb dL_law_40 (by rw [z12]; decide) (by rw [z12]; decide) (by rw [z12]; rfl) (by decide) ?_
      exact law_tipping hlT X hX hbl hm hL (hst i (by omega)).2.2.2.2.2.2.2.2.2.2.2.2.1 h1 h2 hc1 hk1 hw hS hR hnext hl
    by_cases z13 : xs (i + 0) &&& 63 = 13
    · refine lv_tableIn (off := 926) (tgt := 966) hx hb dL_law_40 (by rw [z13]; decide) (by rw [z13]; decide) (by rw [z13]; rfl) (by decide) ?_
      exact law_next hlT X hX hbl hm hL (hst i (by omega)).2.2.2.2.2.2.2.2.2.2.2.2.2.1 h1 h2 hc1 hk1 hw hS hR hnext hl
    by_cases z14 : xs (i + 0) &&& 63 = 14
    · refine lv_tableIn (off := 982) (tgt := 1022) hx hb dL_law_40 (by rw [z14]; decide) (by rw [z14]; decide) (by rw [z14]; rfl) (by decide) ?_
      exact law_together hlT X hX hbl hm hL (hst i (by omega)).2.2.2.2.2.2.2.2.2.2.2.2.2.2.1 h1 h2 hc1 hk1 hw hS hR hnext hl
    by_cases z15 : xs (i + 0) &&& 63 = 15
    · refine lv_tableIn (off := 1038) (tgt := 1078) hx hb dL_law_40 (by rw [z15]; decide) (by rw [z15]; decide) (by rw [z15]; rfl) (by decide) ?_
      exact law_sound hlT X hX hbl hm hL (hst i (by omega)).2.2.2.2.2.2.2.2.2.2.2.2.2.2.2.1 h1 h2 hc1 hk1 hw hS hR hnext hl
    by_cases z16 : xs (i + 0) &&& 63 = 16
    · refine lv_tableIn (off := 1106) (tgt := 1146) hx hb dL_law_40 (by rw [z16]; decide) (by rw [z16]; decide) (by rw [z16]; rfl) (by decide) ?_
      exact law_fallen hlT X hX hbl hm hL (hst i (by omega)).2.2.2.2.2.2.2.2.2.2.2.2.2.2.2.2.1 h1 h2 hc1 hk1 hw hS hR hnext hl
    by_cases z17 : xs (i + 0) &&& 63 = 17
    · refine lv_tableIn (off := 1174) (tgt := 1214) hx hb dL_law_40 (by rw [z17]; decide) (by rw [z17]; decide) (by rw [z17]; rfl) (by decide) ?_
      exact law_nth hlT X hX hbl hm hL (hst i (by omega)).2.2.2.2.2.2.2.2.2.2.2.2.2.2.2.2.2.1 h1 h2 hc1 hk1 hw hS hR hnext hl
    by_cases z18 : xs (i + 0) &&& 63 = 18
    · refine lv_tableIn (off := 1242) (tgt := 1282) hx hb dL_law_40 (by rw [z18]; decide) (by rw [z18]; decide) (by rw [z18]; rfl) (by decide) ?_
      exact law_meeting hlT X hX hbl hm hL (hst i (by omega)).2.2.2.2.2.2.2.2.2.2.2.2.2.2.2.2.2.2.1 h1 h2 hc1 hk1 hw hS hR hnext hl
    by_cases z19 : xs (i + 0) &&& 63 = 19
    · refine lv_tableIn (off := 1298) (tgt := 1338) hx hb dL_law_40 (by rw [z19]; decide) (by rw [z19]; decide) (by rw [z19]; rfl) (by decide) ?_
      exact law_flow hlT X hX hbl hm hL (hst i (by omega)).2.2.2.2.2.2.2.2.2.2.2.2.2.2.2.2.2.2.2.1 h1 h2 hc1 hk1 hw hS hR hnext hl
    by_cases z20 : xs (i + 0) &&& 63 = 20
    · refine lv_tableIn (off := 1366) (tgt := 1406) hx hb dL_law_40 (by rw [z20]; decide) (by rw [z20]; decide) (by rw [z20]; rfl) (by decide) ?_
      exact law_tier hlT X hX hbl hm hL (hst i (by omega)).2.2.2.2.2.2.2.2.2.2.2.2.2.2.2.2.2.2.2.2.1 h1 h2 hc1 hk1 hw hS hR hnext hl
    by_cases z21 : xs (i + 0) &&& 63 = 21
    · refine lv_tableIn (off := 1434) (tgt := 1474) hx hb dL_law_40 (by rw [z21]; decide) (by rw [z21]; decide) (by rw [z21]; rfl) (by decide) ?_
      exact law_toCrack hlT X hX hbl hm hL (hst i (by omega)).2.2.2.2.2.2.2.2.2.2.2.2.2.2.2.2.2.2.2.2.2.1 h1 h2 hc1 hk1 hw hS hR hnext hl
    by_cases z22 : xs (i + 0) &&& 63 = 22
    · refine lv_tableIn (off := 1526) (tgt := 1566) hx hb dL_law_40 (by rw [z22]; decide) (by rw [z22]; decide) (by rw [z22]; rfl) (by decide) ?_
      exact law_office hlT X hX hbl hm hL (hst i (by omega)).2.2.2.2.2.2.2.2.2.2.2.2.2.2.2.2.2.2.2.2.2.2.1 h1 h2 hc1 hk1 hw hS hR hnext hl
    by_cases z23 : xs (i + 0) &&& 63 = 23
    · refine lv_tableIn (off := 1594) (tgt := 1634) hx hb dL_law_40 (by rw [z23]; decide) (by rw [z23]; decide) (by rw [z23]; rfl) (by decide) ?_
      exact law_hear hlT X hX hbl hm hL (hst i (by omega)).2.2.2.2.2.2.2.2.2.2.2.2.2.2.2.2.2.2.2.2.2.2.2.1 h1 h2 hc1 hk1 hw hS hR hnext hl
    by_cases z24 : xs (i + 0) &&& 63 = 24
    · refine lv_tableIn (off := 1690) (tgt := 1730) hx hb dL_law_40 (by rw [z24]; decide) (by rw [z24]; decide) (by rw [z24]; rfl) (by decide) ?_
      exact law_forget hlT X hX hbl hm hL (hst i (by omega)).2.2.2.2.2.2.2.2.2.2.2.2.2.2.2.2.2.2.2.2.2.2.2.2.1 h1 h2 hc1 hk1 hw hS hR hnext hl
    by_cases z25 : xs (i + 0) &&& 63 = 25
    · refine lv_tableIn (off := 1701) (tgt := 1741) hx hb dL_law_40 (by rw [z25]; decide) (by rw [z25]; decide) (by rw [z25]; rfl) (by decide) ?_
      exact law_led hlT X hX hbl hm hL (hst i (by omega)).2.2.2.2.2.2.2.2.2.2.2.2.2.2.2.2.2.2.2.2.2.2.2.2.2.1 h1 h2 hc1 hk1 hw hS hR hnext hl
    by_cases z26 : xs (i + 0) &&& 63 = 26
    · refine lv_tableIn (off := 1757) (tgt := 1797) hx hb dL_law_40 (by rw [z26]; decide) (by rw [z26]; decide) (by rw [z26]; rfl) (by decide) ?_
      exact law_listen hlT X hX hbl hm hL (hst i (by omega)).2.2.2.2.2.2.2.2.2.2.2.2.2.2.2.2.2.2.2.2.2.2.2.2.2.2.1 h1 h2 hc1 hk1 hw hS hR hnext hl
    by_cases z27 : xs (i + 0) &&& 63 = 27
    · refine lv_tableIn (off := 1813) (tgt := 1853) hx hb dL_law_40 (by rw [z27]; decide) (by rw [z27]; decide) (by rw [z27]; rfl) (by decide) ?_
      exact law_cold hlT X hX hbl hm hL (hst i (by omega)).2.2.2.2.2.2.2.2.2.2.2.2.2.2.2.2.2.2.2.2.2.2.2.2.2.2.2.1 h1 h2 hc1 hk1 hw hS hR hnext hl
    by_cases z28 : xs (i + 0) &&& 63 = 28
    · refine lv_tableIn (off := 1893) (tgt := 1933) hx hb dL_law_40 (by rw [z28]; decide) (by rw [z28]; decide) (by rw [z28]; rfl) (by decide) ?_
      exact law_game hlT X hX hbl hm hL (hst i (by omega)).2.2.2.2.2.2.2.2.2.2.2.2.2.2.2.2.2.2.2.2.2.2.2.2.2.2.2.2.1 h1 h2 hc1 hk1 hw hS hR hnext hl
    by_cases z29 : xs (i + 0) &&& 63 = 29
    · refine lv_tableIn (off := 1973) (tgt := 2013) hx hb dL_law_40 (by rw [z29]; decide) (by rw [z29]; decide) (by rw [z29]; rfl) (by decide) ?_
      exact law_years hlT X hX hbl hm hL (hst i (by omega)).2.2.2.2.2.2.2.2.2.2.2.2.2.2.2.2.2.2.2.2.2.2.2.2.2.2.2.2.2.1 h1 h2 hc1 hk1 hw hS hR hnext hl
    by_cases z30 : xs (i + 0) &&& 63 = 30
    · refine lv_tableIn (off := 2053) (tgt := 2093) hx hb dL_law_40 (by rw [z30]; decide) (by rw [z30]; decide) (by rw [z30]; rfl) (by decide) ?_
      exact law_later hlT X hX hbl hm hL (hst i (by omega)).2.2.2.2.2.2.2.2.2.2.2.2.2.2.2.2.2.2.2.2.2.2.2.2.2.2.2.2.2.2.1 h1 h2 hc1 hk1 hw hS hR hnext hl
    by_cases z31 : xs (i + 0) &&& 63 = 31
    · refine lv_tableIn (off := 2121) (tgt := 2161) hx hb dL_law_40 (by rw [z31]; decide) (by rw [z31]; decide) (by rw [z31]; rfl) (by decide) ?_
      exact law_oftenest hlT X hX hbl hm hL (hst i (by omega)).2.2.2.2.2.2.2.2.2.2.2.2.2.2.2.2.2.2.2.2.2.2.2.2.2.2.2.2.2.2.2.1 h1 h2 hc1 hk1 hw hS hR hnext hl
    by_cases z32 : xs (i + 0) &&& 63 = 32
    · refine lv_tableIn (off := 2177) (tgt := 2217) hx hb dL_law_40 (by rw [z32]; decide) (by rw [z32]; decide) (by rw [z32]; rfl) (by decide) ?_
      exact law_round hlT X hX hbl hm hL (hst i (by omega)).2.2.2.2.2.2.2.2.2.2.2.2.2.2.2.2.2.2.2.2.2.2.2.2.2.2.2.2.2.2.2.2.1 h1 h2 hc1 hk1 hw hS hR hnext hl
    by_cases z33 : xs (i + 0) &&& 63 = 33
    · refine lv_tableIn (off := 2190) (tgt := 2230) hx hb dL_law_40 (by rw [z33]; decide) (by rw [z33]; decide) (by rw [z33]; rfl) (by decide) ?_
      exact law_pause hlT X hX hbl hm hL (hst i (by omega)).2.2.2.2.2.2.2.2.2.2.2.2.2.2.2.2.2.2.2.2.2.2.2.2.2.2.2.2.2.2.2.2.2.1 h1 h2 hc1 hk1 hw hS hR hnext hl
    by_cases z34 : xs (i + 0) &&& 63 = 34
    · refine lv_tableIn (off := 2246) (tgt := 2286) hx hb dL_law_40 (by rw [z34]; decide) (by rw [z34]; decide) (by rw [z34]; rfl) (by decide) ?_
      exact law_giver hlT X hX hbl hm hL (hst i (by omega)).2.2.2.2.2.2.2.2.2.2.2.2.2.2.2.2.2.2.2.2.2.2.2.2.2.2.2.2.2.2.2.2.2.2.1 h1 h2 hc1 hk1 hw hS hR hnext hl
    by_cases z35 : xs (i + 0) &&& 63 = 35
    · refine lv_tableIn (off := 2314) (tgt := 2354) hx hb dL_law_40 (by rw [z35]; decide) (by rw [z35]; decide) (by rw [z35]; rfl) (by decide) ?_
      exact law_toPour hlT X hX hbl hm hL (hst i (by omega)).2.2.2.2.2.2.2.2.2.2.2.2.2.2.2.2.2.2.2.2.2.2.2.2.2.2.2.2.2.2.2.2.2.2.2.1 h1 h2 hc1 hk1 hw hS hR hnext hl
    by_cases z36 : xs (i + 0) &&& 63 = 36
    · refine lv_tableIn (off := 2382) (tgt := 2422) hx hb dL_law_40 (by rw [z36]; decide) (by rw [z36]; decide) (by rw [z36]; rfl) (by decide) ?_
      exact law_ways hlT X hX hbl hm hL (hst i (by omega)).2.2.2.2.2.2.2.2.2.2.2.2.2.2.2.2.2.2.2.2.2.2.2.2.2.2.2.2.2.2.2.2.2.2.2.2.1 h1 h2 hc1 hk1 hw hS hR hnext hl
    by_cases z37 : xs (i + 0) &&& 63 = 37
    · refine lv_tableIn (off := 2450) (tgt := 2490) hx hb dL_law_40 (by rw [z37]; decide) (by rw [z37]; decide) (by rw [z37]; rfl) (by decide) ?_
      exact law_chorus hlT X hX hbl hm hL (hst i (by omega)).2.2.2.2.2.2.2.2.2.2.2.2.2.2.2.2.2.2.2.2.2.2.2.2.2.2.2.2.2.2.2.2.2.2.2.2.2.1 h1 h2 hc1 hk1 hw hS hR hnext hl
    by_cases z38 : xs (i + 0) &&& 63 = 38
    · refine lv_tableIn (off := 2518) (tgt := 2558) hx hb dL_law_40 (by rw [z38]; decide) (by rw [z38]; decide) (by rw [z38]; rfl) (by decide) ?_
      exact law_never hlT X hX hbl hm hL (hst i (by omega)).2.2.2.2.2.2.2.2.2.2.2.2.2.2.2.2.2.2.2.2.2.2.2.2.2.2.2.2.2.2.2.2.2.2.2.2.2.2.1 h1 h2 hc1 hk1 hw hS hR hnext hl
    by_cases z39 : xs (i + 0) &&& 63 = 39
    · refine lv_tableIn (off := 2574) (tgt := 2614) hx hb dL_law_40 (by rw [z39]; decide) (by rw [z39]; decide) (by rw [z39]; rfl) (by decide) ?_
      exact law_swell hlT X hX hbl hm hL (hst i (by omega)).2.2.2.2.2.2.2.2.2.2.2.2.2.2.2.2.2.2.2.2.2.2.2.2.2.2.2.2.2.2.2.2.2.2.2.2.2.2.2.1 h1 h2 hc1 hk1 hw hS hR hnext hl
    by_cases z40 : xs (i + 0) &&& 63 = 40
    · refine lv_tableIn (off := 2642) (tgt := 2682) hx hb dL_law_40 (by rw [z40]; decide) (by rw [z40]; decide) (by rw [z40]; rfl) (by decide) ?_
      exact law_image hlT X hX hbl hm hL (hst i (by omega)).2.2.2.2.2.2.2.2.2.2.2.2.2.2.2.2.2.2.2.2.2.2.2.2.2.2.2.2.2.2.2.2.2.2.2.2.2.2.2.2.1 h1 h2 hc1 hk1 hw hS hR hnext hl
    by_cases z41 : xs (i + 0) &&& 63 = 41
    · refine lv_tableIn (off := 2653) (tgt := 2693) hx hb dL_law_40 (by rw [z41]; decide) (by rw [z41]; decide) (by rw [z41]; rfl) (by decide) ?_
      exact law_restore hlT X hX hbl hm hL (hst i (by omega)).2.2.2.2.2.2.2.2.2.2.2.2.2.2.2.2.2.2.2.2.2.2.2.2.2.2.2.2.2.2.2.2.2.2.2.2.2.2.2.2.2 h1 h2 hc1 hk1 hw hS hR hnext hl
    refine lv_tableOut (tgt := 2706) hx hb dL_law_40 (tab_out _ [0, 1, 2, 3, 4, 5, 6, 7, 8, 9, 10, 11, 12, 13, 14, 15, 16, 17, 18, 19, 20, 21, 22, 23, 24, 25, 26, 27, 28, 29, 30, 31, 32, 33, 34, 35, 36, 37, 38, 39, 40, 41] (by decide) (by simp only [List.forall_mem_cons]; exact ⟨z0, z1, z2, z3, z4, z5, z6, z7, z8, z9, z10, z11, z12, z13, z14, z15, z16, z17, z18, z19, z20, z21, z22, z23, z24, z25, z26, z27, z28, z29, z30, z31, z32, z33, z34, z35, z36, z37, z38, z39, z40, z41, fun _ h => absurd h List.not_mem_nil⟩)) (by decide) ?_
    refine lv_iinc (v := nI i + 6) (lv' := [(4, .int (nI i + 6)), (1, .ref xa), (2, .ref G.1), (3, .ref oa), (0, .ref b)]) hx hb dL_law_2706 hl (k := 0) rfl rfl (by decide) rfl (fun ls hl => ?_)
    refine lv_goto (tgt := 23) hx hb dL_law_2709 (by decide) ?_
    exact hnext _ _ _ _ _ _ _ hw hS (by rw [← nI_add i 6]; exact hl) (hmono _ _ _ _ hR) (by omega) (by omega)
