theorem law_feed {p : Program} {l : Launch} {e : Env} {s : State} {m : MethodId} {below : List Frame} {meth : Method} {c : Code} {H : Heap} {locs : List Loc} {cells slots : Nat} {Q : State → Prop} {ls : Array Slot} {g : XC} {D : va_G} {G : MG} {n0 b L i c0 k0 xa oa N : Nat} {xs : Nat → Int32} {τ : XL} {σ : MS} {Rel Rel1 : Nat → XL → MS → Prop} (hlT : l.stackTraces = false) (X : jX g D G n0 "DripCupsLaw" p s m #[Value.ref b] c cL_law 7) (hX : va_X b L xs s s.heap) (hbl : b < s.heap.size) (hi : i + 6 ≤ L) (hL : L ≤ 384) (hst : St_feed Rel Rel1 g N xa oa) (h1 : H.size ≤ s.heap.size + c0) (h2 : slotsOf H ≤ slotsOf s.heap + k0) (hc0 : c0 + 14000 ≤ 928407) (hk0 : k0 + 97000 ≤ 6316261) (hw : jW g D G n0 τ σ s H) (hS : va_S (fun q => n0 ≤ q) s.heap H locs) (hR : Rel H.size τ σ)
    (hnext : ∀ (H : Heap) (locs : List Loc) (ls : Array Slot) (cells slots : Nat) (τ : XL) (σ : MS), jW g D G n0 τ σ s H → va_S (fun q => n0 ≤ q) s.heap H locs → lv_has ls 7 [(4, .int (nI (i + 6))), (1, .ref xa), (2, .ref G.1), (3, .ref oa), (0, .ref b)] → Rel1 H.size τ σ → H.size ≤ s.heap.size + (c0 + 14000) → slotsOf H ≤ slotsOf s.heap + (k0 + 97000) → W p l e room_1 s m #[Value.ref b] below meth c H locs cells slots Q (F0 m 23 ls []))
    (hl : lv_has ls 7 [(4, .int (nI i)), (1, .ref xa), (2, .ref G.1), (3, .ref oa), (0, .ref b)]) : W p l e room_1 s m #[Value.ref b] below meth c H locs cells slots Q (F0 m 224 ls []) := by
  have hx := X.1.1
  have hb := X.1.2.1
  have hown := X.1.2.2.2.1
  have hn0 : s.heap.size = n0 := X.2.2.2.1
  refine lv_aload_n hx hb dL_law_224 rfl (lv_at hl 1 rfl) ?_
  refine lv_aload_n hx hb dL_law_225 rfl (lv_at hl 4 rfl) ?_
  refine lv_iload hx hb dL_law_226 (lv_at hl 0 rfl) ?_
  refine lv_iconst (v := 1) hx hb dL_law_228 (by decide) ?_
  refine lv_iadd hx hb dL_law_229 ?_
  refine jr_sld (i := i) (k := 1) hx hb hX hbl hn0 hS (nI_add i 1) (by omega) hL dL_law_230 ?_
  refine lv_aload_n hx hb dL_law_231 rfl (lv_at hl 4 rfl) ?_
  refine lv_iload hx hb dL_law_232 (lv_at hl 0 rfl) ?_
  refine lv_iconst (v := 2) hx hb dL_law_234 (by decide) ?_
  refine lv_iadd hx hb dL_law_235 ?_
  refine jr_sld (i := i) (k := 2) hx hb hX hbl hn0 hS (nI_add i 2) (by omega) hL dL_law_236 ?_
  refine lv_aload_n hx hb dL_law_237 rfl (lv_at hl 4 rfl) ?_
  refine lv_iload hx hb dL_law_238 (lv_at hl 0 rfl) ?_
  refine lv_iconst (v := 3) hx hb dL_law_240 (by decide) ?_
  refine lv_iadd hx hb dL_law_241 ?_
  refine jr_sld (i := i) (k := 3) hx hb hX hbl hn0 hS (nI_add i 3) (by omega) hL dL_law_242 ?_
  refine lv_aload_n hx hb dL_law_243 rfl (lv_at hl 4 rfl) ?_
  refine lv_iload hx hb dL_law_244 (lv_at hl 0 rfl) ?_
  refine lv_iconst (v := 4) hx hb dL_law_246 (by decide) ?_
  refine lv_iadd hx hb dL_law_247 ?_
  refine jr_sld (i := i) (k := 4) hx hb hX hbl hn0 hS (nI_add i 4) (by omega) hL dL_law_248 ?_
  refine lv_aload_n hx hb dL_law_249 rfl (lv_at hl 4 rfl) ?_
  refine lv_iload hx hb dL_law_250 (lv_at hl 0 rfl) ?_
  refine lv_iconst (v := 5) hx hb dL_law_252 (by decide) ?_
  refine lv_iadd hx hb dL_law_253 ?_
  refine jr_sld (i := i) (k := 5) hx hb hX hbl hn0 hS (nI_add i 5) (by omega) hL dL_law_254 ?_
  obtain ⟨u0, w, σ1, hu0, hx1, hm1, hRn⟩ := hst (xs (i + 1)) (xs (i + 2)) (xs (i + 3)) (xs (i + 4)) (xs (i + 5)) _ (slotsOf H) _ _ hR
  refine jr_xi (lv := 0) (C := H.size + 14000) (K := slotsOf H + 97000) X hw hS (by omega) (by omega) (show _ ≤ s.heap.size + 928407 by omega) (show _ ≤ slotsOf s.heap + 6316261 by omega) (by decide) (by decide) (met_X1_feed N ((H.size, slotsOf H, H.size + 14000, slotsOf H + 97000), τ) xa (xs (i + 1)) (xs (i + 2)) (xs (i + 3)) (xs (i + 4)) (xs (i + 5)) w hx1) xc1 hu0 (lw_V q324 q325 q326 q115 q327) cx_X1_feed rfl hl.1 rfl (Nat.le_of_ble_eq_true rfl) dL_law_255 (fun H locs cells slots hw hS hz hcz hsz => ?_)
  refine lv_aload_n hx hb dL_law_258 rfl (lv_at hl 2 rfl) ?_
  refine lv_aload_n hx hb dL_law_259 rfl (lv_at hl 4 rfl) ?_
  refine lv_iload hx hb dL_law_260 (lv_at hl 0 rfl) ?_
  refine lv_iconst (v := 1) hx hb dL_law_262 (by decide) ?_
  refine lv_iadd hx hb dL_law_263 ?_
  refine jr_sld (i := i) (k := 1) hx hb hX hbl hn0 hS (nI_add i 1) (by omega) hL dL_law_264 ?_
  refine lv_aload_n hx hb dL_law_265 rfl (lv_at hl 4 rfl) ?_
  refine lv_iload hx hb dL_law_266 (lv_at hl 0 rfl) ?_
  refine lv_iconst (v := 2) hx hb dL_law_268 (by decide) ?_
  refine lv_iadd hx hb dL_law_269 ?_
  refine jr_sld (i := i) (k := 2) hx hb hX hbl hn0 hS (nI_add i 2) (by omega) hL dL_law_270 ?_
  refine lv_aload_n hx hb dL_law_271 rfl (lv_at hl 4 rfl) ?_
  refine lv_iload hx hb dL_law_272 (lv_at hl 0 rfl) ?_
  refine lv_iconst (v := 3) hx hb dL_law_274 (by decide) ?_
  refine lv_iadd hx hb dL_law_275 ?_
  refine jr_sld (i := i) (k := 3) hx hb hX hbl hn0 hS (nI_add i 3) (by omega) hL dL_law_276 ?_
  refine lv_aload_n hx hb dL_law_277 rfl (lv_at hl 4 rfl) ?_
  refine lv_iload hx hb dL_law_278 (lv_at hl 0 rfl) ?_
  refine lv_iconst (v := 4) hx hb dL_law_280 (by decide) ?_
  refine lv_iadd hx hb dL_law_281 ?_
  refine jr_sld (i := i) (k := 4) hx hb hX hbl hn0 hS (nI_add i 4) (by omega) hL dL_law_282 ?_
  refine lv_aload_n hx hb dL_law_283 rfl (lv_at hl 4 rfl) ?_
  refine lv_iload hx hb dL_law_284 (lv_at hl 0 rfl) ?_
  refine lv_iconst (v := 5) hx hb dL_law_286 (by decide) ?_
  refine lv_iadd hx hb dL_law_287 ?_
  refine jr_sld (i := i) (k := 5) hx hb hX hbl hn0 hS (nI_add i 5) (by omega) hL dL_law_288 ?_
  refine jr_mi (lv := 1) X hw hS (show _ ≤ s.heap.size + 928407 by omega) (show _ ≤ slotsOf s.heap + 6316261 by omega) (by decide) (by decide) (met_feed (j_mOk X.2.2.1) N σ (xs (i + 1)) (xs (i + 2)) (xs (i + 3)) (xs (i + 4)) (xs (i + 5)) _ hm1) (lw_V q1773 q1774 q1775 q121 q1776) cy_feed rfl hl.1 rfl (Nat.le_of_ble_eq_true rfl) dL_law_289 (fun H locs cells slots hw hS hz hsl => ?_)
  refine lv_icmp_eq (tgt := 2706) hx hb dL_law_292 (by decide) (fun _ => ?_) (fun z => absurd rfl z)
  refine lv_iinc (v := nI i + 6) (lv' := [(4, .int (nI i + 6)), (1, .ref xa), (2, .ref G.1), (3, .ref oa), (0, .ref b)]) hx hb dL_law_2706 hl (k := 0) rfl rfl (by decide) rfl (fun ls hl => ?_)
  refine lv_goto (tgt := 23) hx hb dL_law_2709 (by decide) ?_
  have hl := lv_sub hl [0, 1, 2, 3, 4] rfl
  exact hnext _ _ _ _ _ _ _ hw hS (by rw [← nI_add i 6]; exact hl) (hRn _ (by omega) (fun q e0 hq => by have h9 := (hw.1.1.1 q e0 (by exact hq)).1.lt; exact h9)) (by omega) (by omega)
theorem law_cave {p : Program} {l : Launch} {e : Env} {s : State} {m : MethodId} {below : List Frame} {meth : Method} {c : Code} {H : Heap} {locs : List Loc} {cells slots : Nat} {Q : State → Prop} {ls : Array Slot} {g : XC} {D : va_G} {G : MG} {n0 b L i c0 k0 xa oa N : Nat} {xs : Nat → Int32} {τ : XL} {σ : MS} {Rel Rel1 : Nat → XL → MS → Prop} (hlT : l.stackTraces = false) (X : jX g D G n0 "DripCupsLaw" p s m #[Value.ref b] c cL_law 7) (hX : va_X b L xs s s.heap) (hbl : b < s.heap.size) (hi : i + 6 ≤ L) (hL : L ≤ 384) (hst : St_cave Rel Rel1 g N xa oa) (h1 : H.size ≤ s.heap.size + c0) (h2 : slotsOf H ≤ slotsOf s.heap + k0) (hc0 : c0 + 14000 ≤ 928407) (hk0 : k0 + 97000 ≤ 6316261) (hw : jW g D G n0 τ σ s H) (hS : va_S (fun q => n0 ≤ q) s.heap H locs) (hR : Rel H.size τ σ)
    (hnext : ∀ (H : Heap) (locs : List Loc) (ls : Array Slot) (cells slots : Nat) (τ : XL) (σ : MS), jW g D G n0 τ σ s H → va_S (fun q => n0 ≤ q) s.heap H locs → lv_has ls 7 [(4, .int (nI (i + 6))), (1, .ref xa), (2, .ref G.1), (3, .ref oa), (0, .ref b)] → Rel1 H.size τ σ → H.size ≤ s.heap.size + (c0 + 14000) → slotsOf H ≤ slotsOf s.heap + (k0 + 97000) → W p l e room_1 s m #[Value.ref b] below meth c H locs cells slots Q (F0 m 23 ls []))
    (hl : lv_has ls 7 [(4, .int (nI i)), (1, .ref xa), (2, .ref G.1), (3, .ref oa), (0, .ref b)]) : W p l e room_1 s m #[Value.ref b] below meth c H locs cells slots Q (F0 m 297 ls []) := by
  have hx := X.1.1
  have hb := X.1.2.1
  have hown := X.1.2.2.2.1
  have hn0 : s.heap.size = n0 := X.2.2.2.1
  refine lv_aload_n hx hb dL_law_297 rfl (lv_at hl 1 rfl) ?_
  refine lv_aload_n hx hb dL_law_298 rfl (lv_at hl 4 rfl) ?_
  refine lv_iload hx hb dL_law_299 (lv_at hl 0 rfl) ?_
  refine lv_iconst (v := 1) hx hb dL_law_301 (by decide) ?_
  refine lv_iadd hx hb dL_law_302 ?_
  refine jr_sld (i := i) (k := 1) hx hb hX hbl hn0 hS (nI_add i 1) (by omega) hL dL_law_303 ?_
  refine lv_aload_n hx hb dL_law_304 rfl (lv_at hl 3 rfl) ?_
  obtain ⟨w, σ1, r, σ2, hx1, hm1, ht1, hv1, hRn⟩ := hst (xs (i + 1)) _ (slotsOf H) _ _ hR
  refine jr_wrap (lv := 73) (C := H.size + 14000) (K := slotsOf H + 97000) X hw hS (by omega) (by omega) (show _ ≤ s.heap.size + 928407 by omega) (show _ ≤ slotsOf s.heap + 6316261 by omega) (by decide) (by decide) (met_X0_cave hlT N ((H.size, slotsOf H, H.size + 14000, slotsOf H + 97000), τ) xa (xs (i + 1)) oa w hx1) q646 q647 q114 q648 cx_X0_cave rfl hl.1 rfl (Nat.le_of_ble_eq_true rfl) dL_law_305 (fun H locs cells slots hw hS hz hcz hsz => ?_)
  refine lv_istore (lv' := [(5, .int w.2), (4, .int (nI i)), (1, .ref xa), (2, .ref G.1), (3, .ref oa), (0, .ref b)]) hx hb dL_law_308 hl (by decide) rfl (fun ls hl => ?_)
  refine lv_aload_n hx hb dL_law_310 rfl (lv_at hl 3 rfl) ?_
  refine lv_aload_n hx hb dL_law_311 rfl (lv_at hl 5 rfl) ?_
  refine lv_iload hx hb dL_law_312 (lv_at hl 1 rfl) ?_
  refine lv_iconst (v := 1) hx hb dL_law_314 (by decide) ?_
  refine lv_iadd hx hb dL_law_315 ?_
  refine jr_sld (i := i) (k := 1) hx hb hX hbl hn0 hS (nI_add i 1) (by omega) hL dL_law_316 ?_
  refine jr_mi (lv := 7) X hw hS (show _ ≤ s.heap.size + 928407 by omega) (show _ ≤ slotsOf s.heap + 6316261 by omega) (by decide) (by decide) (met_cave (j_mOk X.2.2.1) N σ (xs (i + 1)) _ hm1) (lw_V q1781 q1782 q1783 q121 q1784) cy_cave rfl hl.1 rfl (Nat.le_of_ble_eq_true rfl) dL_law_317 (fun H locs cells slots hw hS hz hsl => ?_)
  refine lv_istore (lv' := [(6, .int r), (5, .int w.2), (4, .int (nI i)), (1, .ref xa), (2, .ref G.1), (3, .ref oa), (0, .ref b)]) hx hb dL_law_320 hl (by decide) rfl (fun ls hl => ?_)
  refine lv_aload_n hx hb dL_law_322 rfl (lv_at hl 4 rfl) ?_
  refine jr_mi (lv := 0) X hw hS (show _ ≤ s.heap.size + 928407 by omega) (show _ ≤ slotsOf s.heap + 6316261 by omega) (by decide) (by decide) (met_thrown (j_mOk X.2.2.1) N σ1 _ ht1) (lw_V q1769 q1770 q1771 q121 q1772) cy_thrown rfl hl.1 rfl (Nat.le_of_ble_eq_true rfl) dL_law_323 (fun H locs cells slots hw hS hz hsl => ?_)
  refine lv_iload hx hb dL_law_326 (lv_at hl 1 rfl) ?_
  refine lv_icmp_eq (tgt := 333) hx hb dL_law_328 (by decide) (fun _ => ?_) (fun z => absurd rfl z)
  refine lv_iload hx hb dL_law_333 (lv_at hl 1 rfl) ?_
  refine lv_if_ne (tgt := 350) hx hb dL_law_335 (by decide) (fun z => ?_) (fun z => ?_)
  · skip
    refine lv_goto (tgt := 2706) hx hb dL_law_350 (by decide) ?_
    refine lv_iinc (v := nI i + 6) (lv' := [(4, .int (nI i + 6)), (6, .int r), (5, .int w.2), (1, .ref xa), (2, .ref G.1), (3, .ref oa), (0, .ref b)]) hx hb dL_law_2706 hl (k := 2) rfl rfl (by decide) rfl (fun ls hl => ?_)
    refine lv_goto (tgt := 23) hx hb dL_law_2709 (by decide) ?_
    have hl := lv_sub hl [0, 3, 4, 5, 6] rfl
    exact hnext _ _ _ _ _ _ _ hw hS (by rw [← nI_add i 6]; exact hl) (hRn _ (by omega) (fun q e0 hq => by have h9 := (hw.1.1.1 q e0 (by exact hq)).1.lt; exact h9)) (by omega) (by omega)
  · have hv1 := hv1 (by first | exact z | exact Classical.byContradiction z)
    refine lv_aload_n hx hb dL_law_338 rfl (lv_at hl 5 rfl) ?_
    refine lv_iconst (v := 0) hx hb dL_law_339 (by decide) ?_
    refine jr_lald (C := 0) (K := 0) X hw rfl (S := w.1) rfl hv1 dL_law_340 ?_
    refine lv_iload hx hb dL_law_341 (lv_at hl 0 rfl) ?_
    refine lv_i2l hx hb dL_law_343 rfl ?_
    refine W.lcmp hx hb dL_law_344 ?_
    refine lv_if_eq (tgt := 350) hx hb dL_law_345 (by decide) (fun _ => ?_) (fun z => absurd (lg_cmp_self _) z)
    refine lv_goto (tgt := 2706) hx hb dL_law_350 (by decide) ?_
    refine lv_iinc (v := nI i + 6) (lv' := [(4, .int (nI i + 6)), (6, .int r), (5, .int w.2), (1, .ref xa), (2, .ref G.1), (3, .ref oa), (0, .ref b)]) hx hb dL_law_2706 hl (k := 2) rfl rfl (by decide) rfl (fun ls hl => ?_)
    refine lv_goto (tgt := 23) hx hb dL_law_2709 (by decide) ?_
    have hl := lv_sub hl [0, 3, 4, 5, 6] rfl
    exact hnext _ _ _ _ _ _ _ hw hS (by rw [← nI_add i 6]; exact hl) (hRn _ (by omega) (fun q e0 hq => by have h9 := (hw.1.1.1 q e0 (by exact hq)).1.lt; exact h9)) (by omega) (by omega)
theorem law_fault {p : Program} {l : Launch} {e : Env} {s : State} {m : MethodId} {below : List Frame} {meth : Method} {c : Code} {H : Heap} {locs : List Loc} {cells slots : Nat} {Q : State → Prop} {ls : Array Slot} {g : XC} {D : va_G} {G : MG} {n0 b L i c0 k0 xa oa N : Nat} {xs : Nat → Int32} {τ : XL} {σ : MS} {Rel Rel1 : Nat → XL → MS → Prop} (hlT : l.stackTraces = false) (X : jX g D G n0 "DripCupsLaw" p s m #[Value.ref b] c cL_law 7) (hX : va_X b L xs s s.heap) (hbl : b < s.heap.size) (hi : i + 6 ≤ L) (hL : L ≤ 384) (hst : St_fault Rel Rel1 g N xa oa) (h1 : H.size ≤ s.heap.size + c0) (h2 : slotsOf H ≤ slotsOf s.heap + k0) (hc0 : c0 + 14000 ≤ 928407) (hk0 : k0 + 97000 ≤ 6316261) (hw : jW g D G n0 τ σ s H) (hS : va_S (fun q => n0 ≤ q) s.heap H locs) (hR : Rel H.size τ σ)
    (hnext : ∀ (H : Heap) (locs : List Loc) (ls : Array Slot) (cells slots : Nat) (τ : XL) (σ : MS), jW g D G n0 τ σ s H → va_S (fun q => n0 ≤ q) s.heap H locs → lv_has ls 7 [(4, .int (nI (i + 6))), (1, .ref xa), (2, .ref G.1), (3, .ref oa), (0, .ref b)] → Rel1 H.size τ σ → H.size ≤ s.heap.size + (c0 + 14000) → slotsOf H ≤ slotsOf s.heap + (k0 + 97000) → W p l e room_1 s m #[Value.ref b] below meth c H locs cells slots Q (F0 m 23 ls []))
    (hl : lv_has ls 7 [(4, .int (nI i)), (1, .ref xa), (2, .ref G.1), (3, .ref oa), (0, .ref b)]) : W p l e room_1 s m #[Value.ref b] below meth c H locs cells slots Q (F0 m 353 ls []) := by
  have hx := X.1.1
  have hb := X.1.2.1
  have hown := X.1.2.2.2.1
  have hn0 : s.heap.size = n0 := X.2.2.2.1
  refine lv_aload_n hx hb dL_law_353 rfl (lv_at hl 1 rfl) ?_
  obtain ⟨u0, w, σ1, hu0, hx1, hm1, hRn⟩ := hst _ (slotsOf H) _ _ hR
  refine jr_xi (lv := 0) (C := H.size + 14000) (K := slotsOf H + 97000) X hw hS (by omega) (by omega) (show _ ≤ s.heap.size + 928407 by omega) (show _ ≤ slotsOf s.heap + 6316261 by omega) (by decide) (by decide) (met_X1_fault N ((H.size, slotsOf H, H.size + 14000, slotsOf H + 97000), τ) xa w hx1) xc1 hu0 (lw_V q328 q329 q330 q115 q331) cx_X1_fault rfl hl.1 rfl (Nat.le_of_ble_eq_true rfl) dL_law_354 (fun H locs cells slots hw hS hz hcz hsz => ?_)
  refine lv_aload_n hx hb dL_law_357 rfl (lv_at hl 2 rfl) ?_
  refine jr_mi (lv := 0) X hw hS (show _ ≤ s.heap.size + 928407 by omega) (show _ ≤ slotsOf s.heap + 6316261 by omega) (by decide) (by decide) (met_fault (j_mOk X.2.2.1) N σ _ hm1) (lw_V q1900 q1901 q1902 q121 q1903) cy_fault rfl hl.1 rfl (Nat.le_of_ble_eq_true rfl) dL_law_358 (fun H locs cells slots hw hS hz hsl => ?_)
  refine lv_icmp_eq (tgt := 2706) hx hb dL_law_361 (by decide) (fun _ => ?_) (fun z => absurd rfl z)
  refine lv_iinc (v := nI i + 6) (lv' := [(4, .int (nI i + 6)), (1, .ref xa), (2, .ref G.1), (3, .ref oa), (0, .ref b)]) hx hb dL_law_2706 hl (k := 0) rfl rfl (by decide) rfl (fun ls hl => ?_)
  refine lv_goto (tgt := 23) hx hb dL_law_2709 (by decide) ?_
  have hl := lv_sub hl [0, 1, 2, 3, 4] rfl
  exact hnext _ _ _ _ _ _ _ hw hS (by rw [← nI_add i 6]; exact hl) (hRn _ (by omega) (fun q e0 hq => by have h9 := (hw.1.1.1 q e0 (by exact hq)).1.lt; exact h9)) (by omega) (by omega)
theorem law_count {p : Program} {l : Launch} {e : Env} {s : State} {m : MethodId} {below : List Frame} {meth : Method} {c : Code} {H : Heap} {locs : List Loc} {cells slots : Nat} {Q : State → Prop} {ls : Array Slot} {g : XC} {D : va_G} {G : MG} {n0 b L i c0 k0 xa oa N : Nat} {xs : Nat → Int32} {τ : XL} {σ : MS} {Rel Rel1 : Nat → XL → MS → Prop} (hlT : l.stackTraces = false) (X : jX g D G n0 "DripCupsLaw" p s m #[Value.ref b] c cL_law 7) (hX : va_X b L xs s s.heap) (hbl : b < s.heap.size) (hi : i + 6 ≤ L) (hL : L ≤ 384) (hst : St_count Rel Rel1 g N xa oa) (h1 : H.size ≤ s.heap.size + c0) (h2 : slotsOf H ≤ slotsOf s.heap + k0) (hc0 : c0 + 14000 ≤ 928407) (hk0 : k0 + 97000 ≤ 6316261) (hw : jW g D G n0 τ σ s H) (hS : va_S (fun q => n0 ≤ q) s.heap H locs) (hR : Rel H.size τ σ)
    (hnext : ∀ (H : Heap) (locs : List Loc) (ls : Array Slot) (cells slots : Nat) (τ : XL) (σ : MS), jW g D G n0 τ σ s H → va_S (fun q => n0 ≤ q) s.heap H locs → lv_has ls 7 [(4, .int (nI (i + 6))), (1, .ref xa), (2, .ref G.1), (3, .ref oa), (0, .ref b)] → Rel1 H.size τ σ → H.size ≤ s.heap.size + (c0 + 14000) → slotsOf H ≤ slotsOf s.heap + (k0 + 97000) → W p l e room_1 s m #[Value.ref b] below meth c H locs cells slots Q (F0 m 23 ls []))
    (hl : lv_has ls 7 [(4, .int (nI i)), (1, .ref xa), (2, .ref G.1), (3, .ref oa), (0, .ref b)]) : W p l e room_1 s m #[Value.ref b] below meth c H locs cells slots Q (F0 m 366 ls []) := by
  have hx := X.1.1
  have hb := X.1.2.1
  have hown := X.1.2.2.2.1
  have hn0 : s.heap.size = n0 := X.2.2.2.1
  refine lv_aload_n hx hb dL_law_366 rfl (lv_at hl 1 rfl) ?_
  refine lv_aload_n hx hb dL_law_367 rfl (lv_at hl 4 rfl) ?_
  refine lv_iload hx hb dL_law_368 (lv_at hl 0 rfl) ?_
  refine lv_iconst (v := 1) hx hb dL_law_370 (by decide) ?_
  refine lv_iadd hx hb dL_law_371 ?_
  refine jr_sld (i := i) (k := 1) hx hb hX hbl hn0 hS (nI_add i 1) (by omega) hL dL_law_372 ?_
  refine lv_aload_n hx hb dL_law_373 rfl (lv_at hl 3 rfl) ?_
  obtain ⟨w, σ1, r, σ2, hx1, hm1, ht1, hv1, hRn⟩ := hst (xs (i + 1)) _ (slotsOf H) _ _ hR
  refine jr_wrap (lv := 7) (C := H.size + 14000) (K := slotsOf H + 97000) X hw hS (by omega) (by omega) (show _ ≤ s.heap.size + 928407 by omega) (show _ ≤ slotsOf s.heap + 6316261 by omega) (by decide) (by decide) (met_X0_count hlT N ((H.size, slotsOf H, H.size + 14000, slotsOf H + 97000), τ) xa (xs (i + 1)) oa w hx1) q1164 q1165 q114 q1166 cx_X0_count rfl hl.1 rfl (Nat.le_of_ble_eq_true rfl) dL_law_374 (fun H locs cells slots hw hS hz hcz hsz => ?_)
  refine lv_istore (lv' := [(5, .int w.2), (4, .int (nI i)), (1, .ref xa), (2, .ref G.1), (3, .ref oa), (0, .ref b)]) hx hb dL_law_377 hl (by decide) rfl (fun ls hl => ?_)
  refine lv_aload_n hx hb dL_law_379 rfl (lv_at hl 3 rfl) ?_
  refine lv_aload_n hx hb dL_law_380 rfl (lv_at hl 5 rfl) ?_
  refine lv_iload hx hb dL_law_381 (lv_at hl 1 rfl) ?_
  refine lv_iconst (v := 1) hx hb dL_law_383 (by decide) ?_
  refine lv_iadd hx hb dL_law_384 ?_
  refine jr_sld (i := i) (k := 1) hx hb hX hbl hn0 hS (nI_add i 1) (by omega) hL dL_law_385 ?_
  refine jr_mi (lv := 3) X hw hS (show _ ≤ s.heap.size + 928407 by omega) (show _ ≤ slotsOf s.heap + 6316261 by omega) (by decide) (by decide) (met_count (j_mOk X.2.2.1) N σ (xs (i + 1)) _ hm1) (lw_V q1908 q1909 q1910 q121 q1911) cy_count rfl hl.1 rfl (Nat.le_of_ble_eq_true rfl) dL_law_386 (fun H locs cells slots hw hS hz hsl => ?_)
  refine lv_istore (lv' := [(6, .int r), (5, .int w.2), (4, .int (nI i)), (1, .ref xa), (2, .ref G.1), (3, .ref oa), (0, .ref b)]) hx hb dL_law_389 hl (by decide) rfl (fun ls hl => ?_)
  refine lv_aload_n hx hb dL_law_391 rfl (lv_at hl 4 rfl) ?_
  refine jr_mi (lv := 0) X hw hS (show _ ≤ s.heap.size + 928407 by omega) (show _ ≤ slotsOf s.heap + 6316261 by omega) (by decide) (by decide) (met_thrown (j_mOk X.2.2.1) N σ1 _ ht1) (lw_V q1769 q1770 q1771 q121 q1772) cy_thrown rfl hl.1 rfl (Nat.le_of_ble_eq_true rfl) dL_law_392 (fun H locs cells slots hw hS hz hsl => ?_)
  refine lv_iload hx hb dL_law_395 (lv_at hl 1 rfl) ?_
  refine lv_icmp_eq (tgt := 402) hx hb dL_law_397 (by decide) (fun _ => ?_) (fun z => absurd rfl z)
  refine lv_iload hx hb dL_law_402 (lv_at hl 1 rfl) ?_
  refine lv_if_ne (tgt := 419) hx hb dL_law_404 (by decide) (fun z => ?_) (fun z => ?_)
  · skip
    refine lv_goto (tgt := 2706) hx hb dL_law_419 (by decide) ?_
    refine lv_iinc (v := nI i + 6) (lv' := [(4, .int (nI i + 6)), (6, .int r), (5, .int w.2), (1, .ref xa), (2, .ref G.1), (3, .ref oa), (0, .ref b)]) hx hb dL_law_2706 hl (k := 2) rfl rfl (by decide) rfl (fun ls hl => ?_)
    refine lv_goto (tgt := 23) hx hb dL_law_2709 (by decide) ?_
    have hl := lv_sub hl [0, 3, 4, 5, 6] rfl
    exact hnext _ _ _ _ _ _ _ hw hS (by rw [← nI_add i 6]; exact hl) (hRn _ (by omega) (fun q e0 hq => by have h9 := (hw.1.1.1 q e0 (by exact hq)).1.lt; exact h9)) (by omega) (by omega)
  · have hv1 := hv1 (by first | exact z | exact Classical.byContradiction z)
    refine lv_aload_n hx hb dL_law_407 rfl (lv_at hl 5 rfl) ?_
    refine lv_iconst (v := 0) hx hb dL_law_408 (by decide) ?_
    refine jr_lald (C := 0) (K := 0) X hw rfl (S := w.1) rfl hv1 dL_law_409 ?_
    refine lv_iload hx hb dL_law_410 (lv_at hl 0 rfl) ?_
    refine lv_i2l hx hb dL_law_412 rfl ?_
    refine W.lcmp hx hb dL_law_413 ?_
    refine lv_if_eq (tgt := 419) hx hb dL_law_414 (by decide) (fun _ => ?_) (fun z => absurd (lg_cmp_self _) z)
    refine lv_goto (tgt := 2706) hx hb dL_law_419 (by decide) ?_
    refine lv_iinc (v := nI i + 6) (lv' := [(4, .int (nI i + 6)), (6, .int r), (5, .int w.2), (1, .ref xa), (2, .ref G.1), (3, .ref oa), (0, .ref b)]) hx hb dL_law_2706 hl (k := 2) rfl rfl (by decide) rfl (fun ls hl => ?_)
    refine lv_goto (tgt := 23) hx hb dL_law_2709 (by decide) ?_
    have hl := lv_sub hl [0, 3, 4, 5, 6] rfl
    exact hnext _ _ _ _ _ _ _ hw hS (by rw [← nI_add i 6]; exact hl) (hRn _ (by omega) (fun q e0 hq => by have h9 := (hw.1.1.1 q e0 (by exact hq)).1.lt; exact h9)) (by omega) (by omega)
theorem law_cup {p : Program} {l : Launch} {e : Env} {s : State} {m : MethodId} {below : List Frame} {meth : Method} {c : Code} {H : Heap} {locs : List Loc} {cells slots : Nat} {Q : State → Prop} {ls : Array Slot} {g : XC} {D : va_G} {G : MG} {n0 b L i c0 k0 xa oa N : Nat} {xs : Nat → Int32} {τ : XL} {σ : MS} {Rel Rel1 : Nat → XL → MS → Prop} (hlT : l.stackTraces = false) (X : jX g D G n0 "DripCupsLaw" p s m #[Value.ref b] c cL_law 7) (hX : va_X b L xs s s.heap) (hbl : b < s.heap.size) (hi : i + 6 ≤ L) (hL : L ≤ 384) (hst : St_cup Rel Rel1 g N xa oa) (h1 : H.size ≤ s.heap.size + c0) (h2 : slotsOf H ≤ slotsOf s.heap + k0) (hc0 : c0 + 14000 ≤ 928407) (hk0 : k0 + 97000 ≤ 6316261) (hw : jW g D G n0 τ σ s H) (hS : va_S (fun q => n0 ≤ q) s.heap H locs) (hR : Rel H.size τ σ)
    (hnext : ∀ (H : Heap) (locs : List Loc) (ls : Array Slot) (cells slots : Nat) (τ : XL) (σ : MS), jW g D G n0 τ σ s H → va_S (fun q => n0 ≤ q) s.heap H locs → lv_has ls 7 [(4, .int (nI (i + 6))), (1, .ref xa), (2, .ref G.1), (3, .ref oa), (0, .ref b)] → Rel1 H.size τ σ → H.size ≤ s.heap.size + (c0 + 14000) → slotsOf H ≤ slotsOf s.heap + (k0 + 97000) → W p l e room_1 s m #[Value.ref b] below meth c H locs cells slots Q (F0 m 23 ls []))
    (hl : lv_has ls 7 [(4, .int (nI i)), (1, .ref xa), (2, .ref G.1), (3, .ref oa), (0, .ref b)]) : W p l e room_1 s m #[Value.ref b] below meth c H locs cells slots Q (F0 m 422 ls []) := by
  have hx := X.1.1
  have hb := X.1.2.1
  have hown := X.1.2.2.2.1
  have hn0 : s.heap.size = n0 := X.2.2.2.1
  refine lv_aload_n hx hb dL_law_422 rfl (lv_at hl 1 rfl) ?_
  refine lv_aload_n hx hb dL_law_423 rfl (lv_at hl 4 rfl) ?_
  refine lv_iload hx hb dL_law_424 (lv_at hl 0 rfl) ?_
  refine lv_iconst (v := 1) hx hb dL_law_426 (by decide) ?_
  refine lv_iadd hx hb dL_law_427 ?_
  refine jr_sld (i := i) (k := 1) hx hb hX hbl hn0 hS (nI_add i 1) (by omega) hL dL_law_428 ?_
  refine lv_aload_n hx hb dL_law_429 rfl (lv_at hl 4 rfl) ?_
  refine lv_iload hx hb dL_law_430 (lv_at hl 0 rfl) ?_
  refine lv_iconst (v := 2) hx hb dL_law_432 (by decide) ?_
  refine lv_iadd hx hb dL_law_433 ?_
  refine jr_sld (i := i) (k := 2) hx hb hX hbl hn0 hS (nI_add i 2) (by omega) hL dL_law_434 ?_
  refine lv_aload_n hx hb dL_law_435 rfl (lv_at hl 3 rfl) ?_
  obtain ⟨w, σ1, r, σ2, hx1, hm1, ht1, hv1, hRn⟩ := hst (xs (i + 1)) (xs (i + 2)) _ (slotsOf H) _ _ hR
  refine jr_wrap (lv := 24) (C := H.size + 14000) (K := slotsOf H + 97000) X hw hS (by omega) (by omega) (show _ ≤ s.heap.size + 928407 by omega) (show _ ≤ slotsOf s.heap + 6316261 by omega) (by decide) (by decide) (met_X0_cup hlT N ((H.size, slotsOf H, H.size + 14000, slotsOf H + 97000), τ) xa (xs (i + 1)) (xs (i + 2)) oa w hx1) q1233 q1234 q114 q1235 cx_X0_cup rfl hl.1 rfl (Nat.le_of_ble_eq_true rfl) dL_law_436 (fun H locs cells slots hw hS hz hcz hsz => ?_)
  refine lv_istore (lv' := [(5, .int w.2), (4, .int (nI i)), (1, .ref xa), (2, .ref G.1), (3, .ref oa), (0, .ref b)]) hx hb dL_law_439 hl (by decide) rfl (fun ls hl => ?_)
  refine lv_aload_n hx hb dL_law_441 rfl (lv_at hl 3 rfl) ?_
  refine lv_aload_n hx hb dL_law_442 rfl (lv_at hl 5 rfl) ?_
  refine lv_iload hx hb dL_law_443 (lv_at hl 1 rfl) ?_
  refine lv_iconst (v := 1) hx hb dL_law_445 (by decide) ?_
  refine lv_iadd hx hb dL_law_446 ?_
  refine jr_sld (i := i) (k := 1) hx hb hX hbl hn0 hS (nI_add i 1) (by omega) hL dL_law_447 ?_
  refine lv_aload_n hx hb dL_law_448 rfl (lv_at hl 5 rfl) ?_
  refine lv_iload hx hb dL_law_449 (lv_at hl 1 rfl) ?_
  refine lv_iconst (v := 2) hx hb dL_law_451 (by decide) ?_
  refine lv_iadd hx hb dL_law_452 ?_
  refine jr_sld (i := i) (k := 2) hx hb hX hbl hn0 hS (nI_add i 2) (by omega) hL dL_law_453 ?_
  refine jr_mi (lv := 2) X hw hS (show _ ≤ s.heap.size + 928407 by omega) (show _ ≤ slotsOf s.heap + 6316261 by omega) (by decide) (by decide) (met_cup (j_mOk X.2.2.1) N σ (xs (i + 1)) (xs (i + 2)) _ hm1) (lw_V q1943 q1944 q1945 q121 q1946) cy_cup rfl hl.1 rfl (Nat.le_of_ble_eq_true rfl) dL_law_454 (fun H locs cells slots hw hS hz hsl => ?_)
  refine lv_istore (lv' := [(6, .int r), (5, .int w.2), (4, .int (nI i)), (1, .ref xa), (2, .ref G.1), (3, .ref oa), (0, .ref b)]) hx hb dL_law_457 hl (by decide) rfl (fun ls hl => ?_)
  refine lv_aload_n hx hb dL_law_459 rfl (lv_at hl 4 rfl) ?_
  refine jr_mi (lv := 0) X hw hS (show _ ≤ s.heap.size + 928407 by omega) (show _ ≤ slotsOf s.heap + 6316261 by omega) (by decide) (by decide) (met_thrown (j_mOk X.2.2.1) N σ1 _ ht1) (lw_V q1769 q1770 q1771 q121 q1772) cy_thrown rfl hl.1 rfl (Nat.le_of_ble_eq_true rfl) dL_law_460 (fun H locs cells slots hw hS hz hsl => ?_)
  refine lv_iload hx hb dL_law_463 (lv_at hl 1 rfl) ?_
  refine lv_icmp_eq (tgt := 470) hx hb dL_law_465 (by decide) (fun _ => ?_) (fun z => absurd rfl z)
  refine lv_iload hx hb dL_law_470 (lv_at hl 1 rfl) ?_
  refine lv_if_ne (tgt := 487) hx hb dL_law_472 (by decide) (fun z => ?_) (fun z => ?_)
  · skip
    refine lv_goto (tgt := 2706) hx hb dL_law_487 (by decide) ?_
    refine lv_iinc (v := nI i + 6) (lv' := [(4, .int (nI i + 6)), (6, .int r), (5, .int w.2), (1, .ref xa), (2, .ref G.1), (3, .ref oa), (0, .ref b)]) hx hb dL_law_2706 hl (k := 2) rfl rfl (by decide) rfl (fun ls hl => ?_)
    refine lv_goto (tgt := 23) hx hb dL_law_2709 (by decide) ?_
    have hl := lv_sub hl [0, 3, 4, 5, 6] rfl
    exact hnext _ _ _ _ _ _ _ hw hS (by rw [← nI_add i 6]; exact hl) (hRn _ (by omega) (fun q e0 hq => by have h9 := (hw.1.1.1 q e0 (by exact hq)).1.lt; exact h9)) (by omega) (by omega)
  · have hv1 := hv1 (by first | exact z | exact Classical.byContradiction z)
    refine lv_aload_n hx hb dL_law_475 rfl (lv_at hl 5 rfl) ?_
    refine lv_iconst (v := 0) hx hb dL_law_476 (by decide) ?_
    refine jr_lald (C := 0) (K := 0) X hw rfl (S := w.1) rfl hv1 dL_law_477 ?_
    refine lv_iload hx hb dL_law_478 (lv_at hl 0 rfl) ?_
    refine lv_i2l hx hb dL_law_480 rfl ?_
    refine W.lcmp hx hb dL_law_481 ?_
    refine lv_if_eq (tgt := 487) hx hb dL_law_482 (by decide) (fun _ => ?_) (fun z => absurd (lg_cmp_self _) z)
    refine lv_goto (tgt := 2706) hx hb dL_law_487 (by decide) ?_
    refine lv_iinc (v := nI i + 6) (lv' := [(4, .int (nI i + 6)), (6, .int r), (5, .int w.2), (1, .ref xa), (2, .ref G.1), (3, .ref oa), (0, .ref b)]) hx hb dL_law_2706 hl (k := 2) rfl rfl (by decide) rfl (fun ls hl => ?_)
    refine lv_goto (tgt := 23) hx hb dL_law_2709 (by decide) ?_
    have hl := lv_sub hl [0, 3, 4, 5, 6] rfl
    exact hnext _ _ _ _ _ _ _ hw hS (by rw [← nI_add i 6]; exact hl) (hRn _ (by omega) (fun q e0 hq => by have h9 := (hw.1.1.1 q e0 (by exact hq)).1.lt; exact h9)) (by omega) (by omega)
theorem law_hours {p : Program} {l : Launch} {e : Env} {s : State} {m : MethodId} {below : List Frame} {meth : Method} {c : Code} {H : Heap} {locs : List Loc} {cells slots : Nat} {Q : State → Prop} {ls : Array Slot} {g : XC} {D : va_G} {G : MG} {n0 b L i c0 k0 xa oa N : Nat} {xs : Nat → Int32} {τ : XL} {σ : MS} {Rel Rel1 : Nat → XL → MS → Prop} (hlT : l.stackTraces = false) (X : jX g D G n0 "DripCupsLaw" p s m #[Value.ref b] c cL_law 7) (hX : va_X b L xs s s.heap) (hbl : b < s.heap.size) (hi : i + 6 ≤ L) (hL : L ≤ 384) (hst : St_hours Rel Rel1 g N xa oa) (h1 : H.size ≤ s.heap.size + c0) (h2 : slotsOf H ≤ slotsOf s.heap + k0) (hc0 : c0 + 14000 ≤ 928407) (hk0 : k0 + 97000 ≤ 6316261) (hw : jW g D G n0 τ σ s H) (hS : va_S (fun q => n0 ≤ q) s.heap H locs) (hR : Rel H.size τ σ)
    (hnext : ∀ (H : Heap) (locs : List Loc) (ls : Array Slot) (cells slots : Nat) (τ : XL) (σ : MS), jW g D G n0 τ σ s H → va_S (fun q => n0 ≤ q) s.heap H locs → lv_has ls 7 [(4, .int (nI (i + 6))), (1, .ref xa), (2, .ref G.1), (3, .ref oa), (0, .ref b)] → Rel1 H.size τ σ → H.size ≤ s.heap.size + (c0 + 14000) → slotsOf H ≤ slotsOf s.heap + (k0 + 97000) → W p l e room_1 s m #[Value.ref b] below meth c H locs cells slots Q (F0 m 23 ls []))
    (hl : lv_has ls 7 [(4, .int (nI i)), (1, .ref xa), (2, .ref G.1), (3, .ref oa), (0, .ref b)]) : W p l e room_1 s m #[Value.ref b] below meth c H locs cells slots Q (F0 m 490 ls []) := by
  have hx := X.1.1
  have hb := X.1.2.1
  have hown := X.1.2.2.2.1
  have hn0 : s.heap.size = n0 := X.2.2.2.1
  refine lv_aload_n hx hb dL_law_490 rfl (lv_at hl 1 rfl) ?_
  refine lv_aload_n hx hb dL_law_491 rfl (lv_at hl 4 rfl) ?_
  refine lv_iload hx hb dL_law_492 (lv_at hl 0 rfl) ?_
  refine lv_iconst (v := 1) hx hb dL_law_494 (by decide) ?_
  refine lv_iadd hx hb dL_law_495 ?_
  refine jr_sld (i := i) (k := 1) hx hb hX hbl hn0 hS (nI_add i 1) (by omega) hL dL_law_496 ?_
  obtain ⟨u0, w, σ1, hu0, hx1, hm1, hRn⟩ := hst (xs (i + 1)) _ (slotsOf H) _ _ hR
  refine jr_xi (lv := 82) (C := H.size + 14000) (K := slotsOf H + 97000) X hw hS (by omega) (by omega) (show _ ≤ s.heap.size + 928407 by omega) (show _ ≤ slotsOf s.heap + 6316261 by omega) (by decide) (by decide) (met_X1_hours N ((H.size, slotsOf H, H.size + 14000, slotsOf H + 97000), τ) xa (xs (i + 1)) w hx1) xc1 hu0 (lw_V q332 q333 q334 q115 q335) cx_X1_hours rfl hl.1 rfl (Nat.le_of_ble_eq_true rfl) dL_law_497 (fun H locs cells slots hw hS hz hcz hsz => ?_)
  refine lv_aload_n hx hb dL_law_500 rfl (lv_at hl 2 rfl) ?_
  refine lv_aload_n hx hb dL_law_501 rfl (lv_at hl 4 rfl) ?_
  refine lv_iload hx hb dL_law_502 (lv_at hl 0 rfl) ?_
  refine lv_iconst (v := 1) hx hb dL_law_504 (by decide) ?_
  refine lv_iadd hx hb dL_law_505 ?_
  refine jr_sld (i := i) (k := 1) hx hb hX hbl hn0 hS (nI_add i 1) (by omega) hL dL_law_506 ?_
  refine jr_mi (lv := 5) X hw hS (show _ ≤ s.heap.size + 928407 by omega) (show _ ≤ slotsOf s.heap + 6316261 by omega) (by decide) (by decide) (met_hours (j_mOk X.2.2.1) N σ (xs (i + 1)) _ hm1) (lw_V q1966 q1967 q1968 q121 q1969) cy_hours rfl hl.1 rfl (Nat.le_of_ble_eq_true rfl) dL_law_507 (fun H locs cells slots hw hS hz hsl => ?_)
  refine lv_icmp_eq (tgt := 2706) hx hb dL_law_510 (by decide) (fun _ => ?_) (fun z => absurd rfl z)
  refine lv_iinc (v := nI i + 6) (lv' := [(4, .int (nI i + 6)), (1, .ref xa), (2, .ref G.1), (3, .ref oa), (0, .ref b)]) hx hb dL_law_2706 hl (k := 0) rfl rfl (by decide) rfl (fun ls hl => ?_)
  refine lv_goto (tgt := 23) hx hb dL_law_2709 (by decide) ?_
  have hl := lv_sub hl [0, 1, 2, 3, 4] rfl
  exact hnext _ _ _ _ _ _ _ hw hS (by rw [← nI_add i 6]; exact hl) (hRn _ (by omega) (fun q e0 hq => by have h9 := (hw.1.1.1 q e0 (by exact hq)).1.lt; exact h9)) (by omega) (by omega)
theorem law_lead {p : Program} {l : Launch} {e : Env} {s : State} {m : MethodId} {below : List Frame} {meth : Method} {c : Code} {H : Heap} {locs : List Loc} {cells slots : Nat} {Q : State → Prop} {ls : Array Slot} {g : XC} {D : va_G} {G : MG} {n0 b L i c0 k0 xa oa N : Nat} {xs : Nat → Int32} {τ : XL} {σ : MS} {Rel Rel1 : Nat → XL → MS → Prop} (hlT : l.stackTraces = false) (X : jX g D G n0 "DripCupsLaw" p s m #[Value.ref b] c cL_law 7) (hX : va_X b L xs s s.heap) (hbl : b < s.heap.size) (hi : i + 6 ≤ L) (hL : L ≤ 384) (hst : St_lead Rel Rel1 g N xa oa) (h1 : H.size ≤ s.heap.size + c0) (h2 : slotsOf H ≤ slotsOf s.heap + k0) (hc0 : c0 + 14000 ≤ 928407) (hk0 : k0 + 97000 ≤ 6316261) (hw : jW g D G n0 τ σ s H) (hS : va_S (fun q => n0 ≤ q) s.heap H locs) (hR : Rel H.size τ σ)
    (hnext : ∀ (H : Heap) (locs : List Loc) (ls : Array Slot) (cells slots : Nat) (τ : XL) (σ : MS), jW g D G n0 τ σ s H → va_S (fun q => n0 ≤ q) s.heap H locs → lv_has ls 7 [(4, .int (nI (i + 6))), (1, .ref xa), (2, .ref G.1), (3, .ref oa), (0, .ref b)] → Rel1 H.size τ σ → H.size ≤ s.heap.size + (c0 + 14000) → slotsOf H ≤ slotsOf s.heap + (k0 + 97000) → W p l e room_1 s m #[Value.ref b] below meth c H locs cells slots Q (F0 m 23 ls []))
    (hl : lv_has ls 7 [(4, .int (nI i)), (1, .ref xa), (2, .ref G.1), (3, .ref oa), (0, .ref b)]) : W p l e room_1 s m #[Value.ref b] below meth c H locs cells slots Q (F0 m 515 ls []) := by
  have hx := X.1.1
  have hb := X.1.2.1
  have hown := X.1.2.2.2.1
  have hn0 : s.heap.size = n0 := X.2.2.2.1
  refine lv_aload_n hx hb dL_law_515 rfl (lv_at hl 1 rfl) ?_
  refine lv_aload_n hx hb dL_law_516 rfl (lv_at hl 4 rfl) ?_
  refine lv_iload hx hb dL_law_517 (lv_at hl 0 rfl) ?_
  refine lv_iconst (v := 1) hx hb dL_law_519 (by decide) ?_
  refine lv_iadd hx hb dL_law_520 ?_
  refine jr_sld (i := i) (k := 1) hx hb hX hbl hn0 hS (nI_add i 1) (by omega) hL dL_law_521 ?_
  refine lv_aload_n hx hb dL_law_522 rfl (lv_at hl 4 rfl) ?_
  refine lv_iload hx hb dL_law_523 (lv_at hl 0 rfl) ?_
  refine lv_iconst (v := 2) hx hb dL_law_525 (by decide) ?_
  refine lv_iadd hx hb dL_law_526 ?_
  refine jr_sld (i := i) (k := 2) hx hb hX hbl hn0 hS (nI_add i 2) (by omega) hL dL_law_527 ?_
  refine lv_aload_n hx hb dL_law_528 rfl (lv_at hl 3 rfl) ?_
  obtain ⟨w, σ1, r, σ2, hx1, hm1, ht1, hv1, hRn⟩ := hst (xs (i + 1)) (xs (i + 2)) _ (slotsOf H) _ _ hR
  refine jr_wrap (lv := 9) (C := H.size + 14000) (K := slotsOf H + 97000) X hw hS (by omega) (by omega) (show _ ≤ s.heap.size + 928407 by omega) (show _ ≤ slotsOf s.heap + 6316261 by omega) (by decide) (by decide) (met_X0_lead hlT N ((H.size, slotsOf H, H.size + 14000, slotsOf H + 97000), τ) xa (xs (i + 1)) (xs (i + 2)) oa w hx1) q1251 q1252 q114 q1253 cx_X0_lead rfl hl.1 rfl (Nat.le_of_ble_eq_true rfl) dL_law_529 (fun H locs cells slots hw hS hz hcz hsz => ?_)
  refine lv_istore (lv' := [(5, .int w.2), (4, .int (nI i)), (1, .ref xa), (2, .ref G.1), (3, .ref oa), (0, .ref b)]) hx hb dL_law_532 hl (by decide) rfl (fun ls hl => ?_)
  refine lv_aload_n hx hb dL_law_534 rfl (lv_at hl 3 rfl) ?_
  refine lv_aload_n hx hb dL_law_535 rfl (lv_at hl 5 rfl) ?_
  refine lv_iload hx hb dL_law_536 (lv_at hl 1 rfl) ?_
  refine lv_iconst (v := 1) hx hb dL_law_538 (by decide) ?_
  refine lv_iadd hx hb dL_law_539 ?_
  refine jr_sld (i := i) (k := 1) hx hb hX hbl hn0 hS (nI_add i 1) (by omega) hL dL_law_540 ?_
  refine lv_aload_n hx hb dL_law_541 rfl (lv_at hl 5 rfl) ?_
  refine lv_iload hx hb dL_law_542 (lv_at hl 1 rfl) ?_
  refine lv_iconst (v := 2) hx hb dL_law_544 (by decide) ?_
  refine lv_iadd hx hb dL_law_545 ?_
  refine jr_sld (i := i) (k := 2) hx hb hX hbl hn0 hS (nI_add i 2) (by omega) hL dL_law_546 ?_
  refine jr_mi (lv := 2) X hw hS (show _ ≤ s.heap.size + 928407 by omega) (show _ ≤ slotsOf s.heap + 6316261 by omega) (by decide) (by decide) (met_lead (j_mOk X.2.2.1) N σ (xs (i + 1)) (xs (i + 2)) _ hm1) (lw_V q2012 q2013 q2014 q121 q2015) cy_lead rfl hl.1 rfl (Nat.le_of_ble_eq_true rfl) dL_law_547 (fun H locs cells slots hw hS hz hsl => ?_)
  refine lv_istore (lv' := [(6, .int r), (5, .int w.2), (4, .int (nI i)), (1, .ref xa), (2, .ref G.1), (3, .ref oa), (0, .ref b)]) hx hb dL_law_550 hl (by decide) rfl (fun ls hl => ?_)
  refine lv_aload_n hx hb dL_law_552 rfl (lv_at hl 4 rfl) ?_
  refine jr_mi (lv := 0) X hw hS (show _ ≤ s.heap.size + 928407 by omega) (show _ ≤ slotsOf s.heap + 6316261 by omega) (by decide) (by decide) (met_thrown (j_mOk X.2.2.1) N σ1 _ ht1) (lw_V q1769 q1770 q1771 q121 q1772) cy_thrown rfl hl.1 rfl (Nat.le_of_ble_eq_true rfl) dL_law_553 (fun H locs cells slots hw hS hz hsl => ?_)
  refine lv_iload hx hb dL_law_556 (lv_at hl 1 rfl) ?_
  refine lv_icmp_eq (tgt := 563) hx hb dL_law_558 (by decide) (fun _ => ?_) (fun z => absurd rfl z)
  refine lv_iload hx hb dL_law_563 (lv_at hl 1 rfl) ?_
  refine lv_if_ne (tgt := 587) hx hb dL_law_565 (by decide) (fun z => ?_) (fun z => ?_)
  · skip
    refine lv_goto (tgt := 2706) hx hb dL_law_587 (by decide) ?_
    refine lv_iinc (v := nI i + 6) (lv' := [(4, .int (nI i + 6)), (6, .int r), (5, .int w.2), (1, .ref xa), (2, .ref G.1), (3, .ref oa), (0, .ref b)]) hx hb dL_law_2706 hl (k := 2) rfl rfl (by decide) rfl (fun ls hl => ?_)
    refine lv_goto (tgt := 23) hx hb dL_law_2709 (by decide) ?_
    have hl := lv_sub hl [0, 3, 4, 5, 6] rfl
    exact hnext _ _ _ _ _ _ _ hw hS (by rw [← nI_add i 6]; exact hl) (hRn _ (by omega) (fun q e0 hq => by have h9 := (hw.1.1.1 q e0 (by exact hq)).1.lt; exact h9)) (by omega) (by omega)
  · have hv1 := hv1 (by first | exact z | exact Classical.byContradiction z)
    refine lv_aload_n hx hb dL_law_568 rfl (lv_at hl 5 rfl) ?_
    refine lv_iconst (v := 0) hx hb dL_law_569 (by decide) ?_
    refine jr_lald (C := 0) (K := 0) X hw rfl (S := w.1) rfl hv1 dL_law_570 ?_
    refine lv_iload hx hb dL_law_571 (lv_at hl 0 rfl) ?_
    refine lv_if_eq (tgt := 580) hx hb dL_law_573 (by decide) (fun z1 => ?_) (fun z1 => ?_)
    · rw [if_pos z1]
      refine lv_lconst (v := 0) hx hb dL_law_580 rfl ?_
      refine W.lcmp hx hb dL_law_581 ?_
      refine lv_if_eq (tgt := 587) hx hb dL_law_582 (by decide) (fun _ => ?_) (fun z => absurd (lg_cmp_self _) z)
      refine lv_goto (tgt := 2706) hx hb dL_law_587 (by decide) ?_
      refine lv_iinc (v := nI i + 6) (lv' := [(4, .int (nI i + 6)), (6, .int r), (5, .int w.2), (1, .ref xa), (2, .ref G.1), (3, .ref oa), (0, .ref b)]) hx hb dL_law_2706 hl (k := 2) rfl rfl (by decide) rfl (fun ls hl => ?_)
      refine lv_goto (tgt := 23) hx hb dL_law_2709 (by decide) ?_
      have hl := lv_sub hl [0, 3, 4, 5, 6] rfl
      exact hnext _ _ _ _ _ _ _ hw hS (by rw [← nI_add i 6]; exact hl) (hRn _ (by omega) (fun q e0 hq => by have h9 := (hw.1.1.1 q e0 (by exact hq)).1.lt; exact h9)) (by omega) (by omega)
    · rw [if_neg z1]
      refine lv_lconst (v := 1) hx hb dL_law_576 rfl ?_
      refine lv_goto (tgt := 581) hx hb dL_law_577 (by decide) ?_
      refine W.lcmp hx hb dL_law_581 ?_
      refine lv_if_eq (tgt := 587) hx hb dL_law_582 (by decide) (fun _ => ?_) (fun z => absurd (lg_cmp_self _) z)
      refine lv_goto (tgt := 2706) hx hb dL_law_587 (by decide) ?_
      refine lv_iinc (v := nI i + 6) (lv' := [(4, .int (nI i + 6)), (6, .int r), (5, .int w.2), (1, .ref xa), (2, .ref G.1), (3, .ref oa), (0, .ref b)]) hx hb dL_law_2706 hl (k := 2) rfl rfl (by decide) rfl (fun ls hl => ?_)
      refine lv_goto (tgt := 23) hx hb dL_law_2709 (by decide) ?_
      have hl := lv_sub hl [0, 3, 4, 5, 6] rfl
      exact hnext _ _ _ _ _ _ _ hw hS (by rw [← nI_add i 6]; exact hl) (hRn _ (by omega) (fun q e0 hq => by have h9 := (hw.1.1.1 q e0 (by exact hq)).1.lt; exact h9)) (by omega) (by omega)
theorem law_plug {p : Program} {l : Launch} {e : Env} {s : State} {m : MethodId} {below : List Frame} {meth : Method} {c : Code} {H : Heap} {locs : List Loc} {cells slots : Nat} {Q : State → Prop} {ls : Array Slot} {g : XC} {D : va_G} {G : MG} {n0 b L i c0 k0 xa oa N : Nat} {xs : Nat → Int32} {τ : XL} {σ : MS} {Rel Rel1 : Nat → XL → MS → Prop} (hlT : l.stackTraces = false) (X : jX g D G n0 "DripCupsLaw" p s m #[Value.ref b] c cL_law 7) (hX : va_X b L xs s s.heap) (hbl : b < s.heap.size) (hi : i + 6 ≤ L) (hL : L ≤ 384) (hst : St_plug Rel Rel1 g N xa oa) (h1 : H.size ≤ s.heap.size + c0) (h2 : slotsOf H ≤ slotsOf s.heap + k0) (hc0 : c0 + 14000 ≤ 928407) (hk0 : k0 + 97000 ≤ 6316261) (hw : jW g D G n0 τ σ s H) (hS : va_S (fun q => n0 ≤ q) s.heap H locs) (hR : Rel H.size τ σ)
    (hnext : ∀ (H : Heap) (locs : List Loc) (ls : Array Slot) (cells slots : Nat) (τ : XL) (σ : MS), jW g D G n0 τ σ s H → va_S (fun q => n0 ≤ q) s.heap H locs → lv_has ls 7 [(4, .int (nI (i + 6))), (1, .ref xa), (2, .ref G.1), (3, .ref oa), (0, .ref b)] → Rel1 H.size τ σ → H.size ≤ s.heap.size + (c0 + 14000) → slotsOf H ≤ slotsOf s.heap + (k0 + 97000) → W p l e room_1 s m #[Value.ref b] below meth c H locs cells slots Q (F0 m 23 ls []))
    (hl : lv_has ls 7 [(4, .int (nI i)), (1, .ref xa), (2, .ref G.1), (3, .ref oa), (0, .ref b)]) : W p l e room_1 s m #[Value.ref b] below meth c H locs cells slots Q (F0 m 590 ls []) := by
  have hx := X.1.1
  have hb := X.1.2.1
  have hown := X.1.2.2.2.1
  have hn0 : s.heap.size = n0 := X.2.2.2.1
  refine lv_aload_n hx hb dL_law_590 rfl (lv_at hl 1 rfl) ?_
  refine lv_aload_n hx hb dL_law_591 rfl (lv_at hl 4 rfl) ?_
  refine lv_iload hx hb dL_law_592 (lv_at hl 0 rfl) ?_
  refine lv_iconst (v := 1) hx hb dL_law_594 (by decide) ?_
  refine lv_iadd hx hb dL_law_595 ?_
  refine jr_sld (i := i) (k := 1) hx hb hX hbl hn0 hS (nI_add i 1) (by omega) hL dL_law_596 ?_
  refine lv_aload_n hx hb dL_law_597 rfl (lv_at hl 4 rfl) ?_
  refine lv_iload hx hb dL_law_598 (lv_at hl 0 rfl) ?_
  refine lv_iconst (v := 2) hx hb dL_law_600 (by decide) ?_
  refine lv_iadd hx hb dL_law_601 ?_
  refine jr_sld (i := i) (k := 2) hx hb hX hbl hn0 hS (nI_add i 2) (by omega) hL dL_law_602 ?_
  refine lv_if_eq (tgt := 610) hx hb dL_law_603 (by decide) (fun z1 => ?_) (fun z1 => ?_)
  · skip
    refine lv_iconst (v := 0) hx hb dL_law_610 (by decide) ?_
    refine lv_aload_n hx hb dL_law_611 rfl (lv_at hl 3 rfl) ?_
    have hbo : (0 : Int32) = 0 ∨ (0 : Int32) = 1 := by decide
    obtain ⟨w, σ1, r, σ2, hx1, hm1, ht1, hv1, hRn⟩ := hst (xs (i + 1)) 0 _ (slotsOf H) _ _ hR hbo
    refine jr_wrap (lv := 9) (C := H.size + 14000) (K := slotsOf H + 97000) X hw hS (by omega) (by omega) (show _ ≤ s.heap.size + 928407 by omega) (show _ ≤ slotsOf s.heap + 6316261 by omega) (by decide) (by decide) (met_X0_plug hlT N ((H.size, slotsOf H, H.size + 14000, slotsOf H + 97000), τ) xa (xs (i + 1)) 0 oa w hx1) q1270 q1271 q114 q1272 cx_X0_plug rfl hl.1 rfl (Nat.le_of_ble_eq_true rfl) dL_law_612 (fun H locs cells slots hw hS hz hcz hsz => ?_)
    refine lv_istore (lv' := [(5, .int w.2), (4, .int (nI i)), (1, .ref xa), (2, .ref G.1), (3, .ref oa), (0, .ref b)]) hx hb dL_law_615 hl (by decide) rfl (fun ls hl => ?_)
    refine lv_aload_n hx hb dL_law_617 rfl (lv_at hl 3 rfl) ?_
    refine lv_aload_n hx hb dL_law_618 rfl (lv_at hl 5 rfl) ?_
    refine lv_iload hx hb dL_law_619 (lv_at hl 1 rfl) ?_
    refine lv_iconst (v := 1) hx hb dL_law_621 (by decide) ?_
    refine lv_iadd hx hb dL_law_622 ?_
    refine jr_sld (i := i) (k := 1) hx hb hX hbl hn0 hS (nI_add i 1) (by omega) hL dL_law_623 ?_
    refine lv_aload_n hx hb dL_law_624 rfl (lv_at hl 5 rfl) ?_
    refine lv_iload hx hb dL_law_625 (lv_at hl 1 rfl) ?_
    refine lv_iconst (v := 2) hx hb dL_law_627 (by decide) ?_
    refine lv_iadd hx hb dL_law_628 ?_
    refine jr_sld (i := i) (k := 2) hx hb hX hbl hn0 hS (nI_add i 2) (by omega) hL dL_law_629 ?_
    refine lv_if_eq (tgt := 637) hx hb dL_law_630 (by decide) (fun _ => ?_) (fun z => absurd z1 z)
    refine lv_iconst (v := 0) hx hb dL_law_637 (by decide) ?_
    refine jr_mi (lv := 2) X hw hS (show _ ≤ s.heap.size + 928407 by omega) (show _ ≤ slotsOf s.heap + 6316261 by omega) (by decide) (by decide) (met_plug (j_mOk X.2.2.1) N σ (xs (i + 1)) 0 _ hm1) (lw_V q2020 q2021 q2022 q121 q2023) cy_plug rfl hl.1 rfl (Nat.le_of_ble_eq_true rfl) dL_law_638 (fun H locs cells slots hw hS hz hsl => ?_)
    refine lv_istore (lv' := [(6, .int r), (5, .int w.2), (4, .int (nI i)), (1, .ref xa), (2, .ref G.1), (3, .ref oa), (0, .ref b)]) hx hb dL_law_641 hl (by decide) rfl (fun ls hl => ?_)
    refine lv_aload_n hx hb dL_law_643 rfl (lv_at hl 4 rfl) ?_
    refine jr_mi (lv := 0) X hw hS (show _ ≤ s.heap.size + 928407 by omega) (show _ ≤ slotsOf s.heap + 6316261 by omega) (by decide) (by decide) (met_thrown (j_mOk X.2.2.1) N σ1 _ ht1) (lw_V q1769 q1770 q1771 q121 q1772) cy_thrown rfl hl.1 rfl (Nat.le_of_ble_eq_true rfl) dL_law_644 (fun H locs cells slots hw hS hz hsl => ?_)
    refine lv_iload hx hb dL_law_647 (lv_at hl 1 rfl) ?_
    refine lv_icmp_eq (tgt := 654) hx hb dL_law_649 (by decide) (fun _ => ?_) (fun z => absurd rfl z)
    refine lv_iload hx hb dL_law_654 (lv_at hl 1 rfl) ?_
    refine lv_if_ne (tgt := 678) hx hb dL_law_656 (by decide) (fun z => ?_) (fun z => ?_)
    · skip
      refine lv_goto (tgt := 2706) hx hb dL_law_678 (by decide) ?_
      refine lv_iinc (v := nI i + 6) (lv' := [(4, .int (nI i + 6)), (6, .int r), (5, .int w.2), (1, .ref xa), (2, .ref G.1), (3, .ref oa), (0, .ref b)]) hx hb dL_law_2706 hl (k := 2) rfl rfl (by decide) rfl (fun ls hl => ?_)
      refine lv_goto (tgt := 23) hx hb dL_law_2709 (by decide) ?_
      have hl := lv_sub hl [0, 3, 4, 5, 6] rfl
      exact hnext _ _ _ _ _ _ _ hw hS (by rw [← nI_add i 6]; exact hl) (hRn _ (by omega) (fun q e0 hq => by have h9 := (hw.1.1.1 q e0 (by exact hq)).1.lt; exact h9)) (by omega) (by omega)
    · have hv1 := hv1 (by first | exact z | exact Classical.byContradiction z)
      refine lv_aload_n hx hb dL_law_659 rfl (lv_at hl 5 rfl) ?_
      refine lv_iconst (v := 0) hx hb dL_law_660 (by decide) ?_
      refine jr_lald (C := 0) (K := 0) X hw rfl (S := w.1) rfl hv1 dL_law_661 ?_
      refine lv_iload hx hb dL_law_662 (lv_at hl 0 rfl) ?_
      refine lv_if_eq (tgt := 671) hx hb dL_law_664 (by decide) (fun z2 => ?_) (fun z2 => ?_)
      · rw [if_pos z2]
        refine lv_lconst (v := 0) hx hb dL_law_671 rfl ?_
        refine W.lcmp hx hb dL_law_672 ?_
        refine lv_if_eq (tgt := 678) hx hb dL_law_673 (by decide) (fun _ => ?_) (fun z => absurd (lg_cmp_self _) z)
        refine lv_goto (tgt := 2706) hx hb dL_law_678 (by decide) ?_
        refine lv_iinc (v := nI i + 6) (lv' := [(4, .int (nI i + 6)), (6, .int r), (5, .int w.2), (1, .ref xa), (2, .ref G.1), (3, .ref oa), (0, .ref b)]) hx hb dL_law_2706 hl (k := 2) rfl rfl (by decide) rfl (fun ls hl => ?_)
        refine lv_goto (tgt := 23) hx hb dL_law_2709 (by decide) ?_
        have hl := lv_sub hl [0, 3, 4, 5, 6] rfl
        exact hnext _ _ _ _ _ _ _ hw hS (by rw [← nI_add i 6]; exact hl) (hRn _ (by omega) (fun q e0 hq => by have h9 := (hw.1.1.1 q e0 (by exact hq)).1.lt; exact h9)) (by omega) (by omega)
      · rw [if_neg z2]
        refine lv_lconst (v := 1) hx hb dL_law_667 rfl ?_
        refine lv_goto (tgt := 672) hx hb dL_law_668 (by decide) ?_
        refine W.lcmp hx hb dL_law_672 ?_
        refine lv_if_eq (tgt := 678) hx hb dL_law_673 (by decide) (fun _ => ?_) (fun z => absurd (lg_cmp_self _) z)
        refine lv_goto (tgt := 2706) hx hb dL_law_678 (by decide) ?_
        refine lv_iinc (v := nI i + 6) (lv' := [(4, .int (nI i + 6)), (6, .int r), (5, .int w.2), (1, .ref xa), (2, .ref G.1), (3, .ref oa), (0, .ref b)]) hx hb dL_law_2706 hl (k := 2) rfl rfl (by decide) rfl (fun ls hl => ?_)
        refine lv_goto (tgt := 23) hx hb dL_law_2709 (by decide) ?_
        have hl := lv_sub hl [0, 3, 4, 5, 6] rfl
        exact hnext _ _ _ _ _ _ _ hw hS (by rw [← nI_add i 6]; exact hl) (hRn _ (by omega) (fun q e0 hq => by have h9 := (hw.1.1.1 q e0 (by exact hq)).1.lt; exact h9)) (by omega) (by omega)
  · skip
    refine lv_iconst (v := 1) hx hb dL_law_606 (by decide) ?_
    refine lv_goto (tgt := 611) hx hb dL_law_607 (by decide) ?_
    refine lv_aload_n hx hb dL_law_611 rfl (lv_at hl 3 rfl) ?_
    have hbo : (1 : Int32) = 0 ∨ (1 : Int32) = 1 := by decide
    obtain ⟨w, σ1, r, σ2, hx1, hm1, ht1, hv1, hRn⟩ := hst (xs (i + 1)) 1 _ (slotsOf H) _ _ hR hbo
    refine jr_wrap (lv := 9) (C := H.size + 14000) (K := slotsOf H + 97000) X hw hS (by omega) (by omega) (show _ ≤ s.heap.size + 928407 by omega) (show _ ≤ slotsOf s.heap + 6316261 by omega) (by decide) (by decide) (met_X0_plug hlT N ((H.size, slotsOf H, H.size + 14000, slotsOf H + 97000), τ) xa (xs (i + 1)) 1 oa w hx1) q1270 q1271 q114 q1272 cx_X0_plug rfl hl.1 rfl (Nat.le_of_ble_eq_true rfl) dL_law_612 (fun H locs cells slots hw hS hz hcz hsz => ?_)
    refine lv_istore (lv' := [(5, .int w.2), (4, .int (nI i)), (1, .ref xa), (2, .ref G.1), (3, .ref oa), (0, .ref b)]) hx hb dL_law_615 hl (by decide) rfl (fun ls hl => ?_)
    refine lv_aload_n hx hb dL_law_617 rfl (lv_at hl 3 rfl) ?_
    refine lv_aload_n hx hb dL_law_618 rfl (lv_at hl 5 rfl) ?_
    refine lv_iload hx hb dL_law_619 (lv_at hl 1 rfl) ?_
    refine lv_iconst (v := 1) hx hb dL_law_621 (by decide) ?_
    refine lv_iadd hx hb dL_law_622 ?_
    refine jr_sld (i := i) (k := 1) hx hb hX hbl hn0 hS (nI_add i 1) (by omega) hL dL_law_623 ?_
    refine lv_aload_n hx hb dL_law_624 rfl (lv_at hl 5 rfl) ?_
    refine lv_iload hx hb dL_law_625 (lv_at hl 1 rfl) ?_
    refine lv_iconst (v := 2) hx hb dL_law_627 (by decide) ?_
    refine lv_iadd hx hb dL_law_628 ?_
    refine jr_sld (i := i) (k := 2) hx hb hX hbl hn0 hS (nI_add i 2) (by omega) hL dL_law_629 ?_
    refine lv_if_eq (tgt := 637) hx hb dL_law_630 (by decide) (fun z => absurd z z1) (fun _ => ?_)
    refine lv_iconst (v := 1) hx hb dL_law_633 (by decide) ?_
    refine lv_goto (tgt := 638) hx hb dL_law_634 (by decide) ?_
    refine jr_mi (lv := 2) X hw hS (show _ ≤ s.heap.size + 928407 by omega) (show _ ≤ slotsOf s.heap + 6316261 by omega) (by decide) (by decide) (met_plug (j_mOk X.2.2.1) N σ (xs (i + 1)) 1 _ hm1) (lw_V q2020 q2021 q2022 q121 q2023) cy_plug rfl hl.1 rfl (Nat.le_of_ble_eq_true rfl) dL_law_638 (fun H locs cells slots hw hS hz hsl => ?_)
    refine lv_istore (lv' := [(6, .int r), (5, .int w.2), (4, .int (nI i)), (1, .ref xa), (2, .ref G.1), (3, .ref oa), (0, .ref b)]) hx hb dL_law_641 hl (by decide) rfl (fun ls hl => ?_)
    refine lv_aload_n hx hb dL_law_643 rfl (lv_at hl 4 rfl) ?_
    refine jr_mi (lv := 0) X hw hS (show _ ≤ s.heap.size + 928407 by omega) (show _ ≤ slotsOf s.heap + 6316261 by omega) (by decide) (by decide) (met_thrown (j_mOk X.2.2.1) N σ1 _ ht1) (lw_V q1769 q1770 q1771 q121 q1772) cy_thrown rfl hl.1 rfl (Nat.le_of_ble_eq_true rfl) dL_law_644 (fun H locs cells slots hw hS hz hsl => ?_)
    refine lv_iload hx hb dL_law_647 (lv_at hl 1 rfl) ?_
    refine lv_icmp_eq (tgt := 654) hx hb dL_law_649 (by decide) (fun _ => ?_) (fun z => absurd rfl z)
    refine lv_iload hx hb dL_law_654 (lv_at hl 1 rfl) ?_
    refine lv_if_ne (tgt := 678) hx hb dL_law_656 (by decide) (fun z => ?_) (fun z => ?_)
    · skip
      refine lv_goto (tgt := 2706) hx hb dL_law_678 (by decide) ?_
      refine lv_iinc (v := nI i + 6) (lv' := [(4, .int (nI i + 6)), (6, .int r), (5, .int w.2), (1, .ref xa), (2, .ref G.1), (3, .ref oa), (0, .ref b)]) hx hb dL_law_2706 hl (k := 2) rfl rfl (by decide) rfl (fun ls hl => ?_)
      refine lv_goto (tgt := 23) hx hb dL_law_2709 (by decide) ?_
      have hl := lv_sub hl [0, 3, 4, 5, 6] rfl
      exact hnext _ _ _ _ _ _ _ hw hS (by rw [← nI_add i 6]; exact hl) (hRn _ (by omega) (fun q e0 hq => by have h9 := (hw.1.1.1 q e0 (by exact hq)).1.lt; exact h9)) (by omega) (by omega)
    · have hv1 := hv1 (by first | exact z | exact Classical.byContradiction z)
      refine lv_aload_n hx hb dL_law_659 rfl (lv_at hl 5 rfl) ?_
      refine lv_iconst (v := 0) hx hb dL_law_660 (by decide) ?_
      refine jr_lald (C := 0) (K := 0) X hw rfl (S := w.1) rfl hv1 dL_law_661 ?_
      refine lv_iload hx hb dL_law_662 (lv_at hl 0 rfl) ?_
      refine lv_if_eq (tgt := 671) hx hb dL_law_664 (by decide) (fun z3 => ?_) (fun z3 => ?_)
      · rw [if_pos z3]
        refine lv_lconst (v := 0) hx hb dL_law_671 rfl ?_
        refine W.lcmp hx hb dL_law_672 ?_
        refine lv_if_eq (tgt := 678) hx hb dL_law_673 (by decide) (fun _ => ?_) (fun z => absurd (lg_cmp_self _) z)
        refine lv_goto (tgt := 2706) hx hb dL_law_678 (by decide) ?_
        refine lv_iinc (v := nI i + 6) (lv' := [(4, .int (nI i + 6)), (6, .int r), (5, .int w.2), (1, .ref xa), (2, .ref G.1), (3, .ref oa), (0, .ref b)]) hx hb dL_law_2706 hl (k := 2) rfl rfl (by decide) rfl (fun ls hl => ?_)
        refine lv_goto (tgt := 23) hx hb dL_law_2709 (by decide) ?_
        have hl := lv_sub hl [0, 3, 4, 5, 6] rfl
        exact hnext _ _ _ _ _ _ _ hw hS (by rw [← nI_add i 6]; exact hl) (hRn _ (by omega) (fun q e0 hq => by have h9 := (hw.1.1.1 q e0 (by exact hq)).1.lt; exact h9)) (by omega) (by omega)
      · rw [if_neg z3]
        refine lv_lconst (v := 1) hx hb dL_law_667 rfl ?_
        refine lv_goto (tgt := 672) hx hb dL_law_668 (by decide) ?_
        refine W.lcmp hx hb dL_law_672 ?_
        refine lv_if_eq (tgt := 678) hx hb dL_law_673 (by decide) (fun _ => ?_) (fun z => absurd (lg_cmp_self _) z)
        refine lv_goto (tgt := 2706) hx hb dL_law_678 (by decide) ?_
        refine lv_iinc (v := nI i + 6) (lv' := [(4, .int (nI i + 6)), (6, .int r), (5, .int w.2), (1, .ref xa), (2, .ref G.1), (3, .ref oa), (0, .ref b)]) hx hb dL_law_2706 hl (k := 2) rfl rfl (by decide) rfl (fun ls hl => ?_)
        refine lv_goto (tgt := 23) hx hb dL_law_2709 (by decide) ?_
        have hl := lv_sub hl [0, 3, 4, 5, 6] rfl
        exact hnext _ _ _ _ _ _ _ hw hS (by rw [← nI_add i 6]; exact hl) (hRn _ (by omega) (fun q e0 hq => by have h9 := (hw.1.1.1 q e0 (by exact hq)).1.lt; exact h9)) (by omega) (by omega)
theorem law_pour {p : Program} {l : Launch} {e : Env} {s : State} {m : MethodId} {below : List Frame} {meth : Method} {c : Code} {H : Heap} {locs : List Loc} {cells slots : Nat} {Q : State → Prop} {ls : Array Slot} {g : XC} {D : va_G} {G : MG} {n0 b L i c0 k0 xa oa N : Nat} {xs : Nat → Int32} {τ : XL} {σ : MS} {Rel Rel1 : Nat → XL → MS → Prop} (hlT : l.stackTraces = false) (X : jX g D G n0 "DripCupsLaw" p s m #[Value.ref b] c cL_law 7) (hX : va_X b L xs s s.heap) (hbl : b < s.heap.size) (hi : i + 6 ≤ L) (hL : L ≤ 384) (hst : St_pour Rel Rel1 g N xa oa) (h1 : H.size ≤ s.heap.size + c0) (h2 : slotsOf H ≤ slotsOf s.heap + k0) (hc0 : c0 + 14000 ≤ 928407) (hk0 : k0 + 97000 ≤ 6316261) (hw : jW g D G n0 τ σ s H) (hS : va_S (fun q => n0 ≤ q) s.heap H locs) (hR : Rel H.size τ σ)
    (hnext : ∀ (H : Heap) (locs : List Loc) (ls : Array Slot) (cells slots : Nat) (τ : XL) (σ : MS), jW g D G n0 τ σ s H → va_S (fun q => n0 ≤ q) s.heap H locs → lv_has ls 7 [(4, .int (nI (i + 6))), (1, .ref xa), (2, .ref G.1), (3, .ref oa), (0, .ref b)] → Rel1 H.size τ σ → H.size ≤ s.heap.size + (c0 + 14000) → slotsOf H ≤ slotsOf s.heap + (k0 + 97000) → W p l e room_1 s m #[Value.ref b] below meth c H locs cells slots Q (F0 m 23 ls []))
    (hl : lv_has ls 7 [(4, .int (nI i)), (1, .ref xa), (2, .ref G.1), (3, .ref oa), (0, .ref b)]) : W p l e room_1 s m #[Value.ref b] below meth c H locs cells slots Q (F0 m 681 ls []) := by
  have hx := X.1.1
  have hb := X.1.2.1
  have hown := X.1.2.2.2.1
  have hn0 : s.heap.size = n0 := X.2.2.2.1
  refine lv_aload_n hx hb dL_law_681 rfl (lv_at hl 1 rfl) ?_
  refine lv_aload_n hx hb dL_law_682 rfl (lv_at hl 4 rfl) ?_
  refine lv_iload hx hb dL_law_683 (lv_at hl 0 rfl) ?_
  refine lv_iconst (v := 1) hx hb dL_law_685 (by decide) ?_
  refine lv_iadd hx hb dL_law_686 ?_
  refine jr_sld (i := i) (k := 1) hx hb hX hbl hn0 hS (nI_add i 1) (by omega) hL dL_law_687 ?_
  refine lv_aload_n hx hb dL_law_688 rfl (lv_at hl 4 rfl) ?_
  refine lv_iload hx hb dL_law_689 (lv_at hl 0 rfl) ?_
  refine lv_iconst (v := 2) hx hb dL_law_691 (by decide) ?_
  refine lv_iadd hx hb dL_law_692 ?_
  refine jr_sld (i := i) (k := 2) hx hb hX hbl hn0 hS (nI_add i 2) (by omega) hL dL_law_693 ?_
  refine lv_aload_n hx hb dL_law_694 rfl (lv_at hl 3 rfl) ?_
  obtain ⟨w, σ1, r, σ2, hx1, hm1, ht1, hv1, hRn⟩ := hst (xs (i + 1)) (xs (i + 2)) _ (slotsOf H) _ _ hR
  refine jr_wrap (lv := 9) (C := H.size + 14000) (K := slotsOf H + 97000) X hw hS (by omega) (by omega) (show _ ≤ s.heap.size + 928407 by omega) (show _ ≤ slotsOf s.heap + 6316261 by omega) (by decide) (by decide) (met_X0_pour hlT N ((H.size, slotsOf H, H.size + 14000, slotsOf H + 97000), τ) xa (xs (i + 1)) (xs (i + 2)) oa w hx1) q1277 q1278 q114 q1279 cx_X0_pour rfl hl.1 rfl (Nat.le_of_ble_eq_true rfl) dL_law_695 (fun H locs cells slots hw hS hz hcz hsz => ?_)
  refine lv_istore (lv' := [(5, .int w.2), (4, .int (nI i)), (1, .ref xa), (2, .ref G.1), (3, .ref oa), (0, .ref b)]) hx hb dL_law_698 hl (by decide) rfl (fun ls hl => ?_)
  refine lv_aload_n hx hb dL_law_700 rfl (lv_at hl 3 rfl) ?_
  refine lv_aload_n hx hb dL_law_701 rfl (lv_at hl 5 rfl) ?_
  refine lv_iload hx hb dL_law_702 (lv_at hl 1 rfl) ?_
  refine lv_iconst (v := 1) hx hb dL_law_704 (by decide) ?_
  refine lv_iadd hx hb dL_law_705 ?_
  refine jr_sld (i := i) (k := 1) hx hb hX hbl hn0 hS (nI_add i 1) (by omega) hL dL_law_706 ?_
  refine lv_aload_n hx hb dL_law_707 rfl (lv_at hl 5 rfl) ?_
  refine lv_iload hx hb dL_law_708 (lv_at hl 1 rfl) ?_
  refine lv_iconst (v := 2) hx hb dL_law_710 (by decide) ?_
  refine lv_iadd hx hb dL_law_711 ?_
  refine jr_sld (i := i) (k := 2) hx hb hX hbl hn0 hS (nI_add i 2) (by omega) hL dL_law_712 ?_
  refine jr_mi (lv := 3) X hw hS (show _ ≤ s.heap.size + 928407 by omega) (show _ ≤ slotsOf s.heap + 6316261 by omega) (by decide) (by decide) (met_pour (j_mOk X.2.2.1) N σ (xs (i + 1)) (xs (i + 2)) _ hm1) (lw_V q2024 q2025 q2026 q121 q2027) cy_pour rfl hl.1 rfl (Nat.le_of_ble_eq_true rfl) dL_law_713 (fun H locs cells slots hw hS hz hsl => ?_)
  refine lv_istore (lv' := [(6, .int r), (5, .int w.2), (4, .int (nI i)), (1, .ref xa), (2, .ref G.1), (3, .ref oa), (0, .ref b)]) hx hb dL_law_716 hl (by decide) rfl (fun ls hl => ?_)
  refine lv_aload_n hx hb dL_law_718 rfl (lv_at hl 4 rfl) ?_
  refine jr_mi (lv := 0) X hw hS (show _ ≤ s.heap.size + 928407 by omega) (show _ ≤ slotsOf s.heap + 6316261 by omega) (by decide) (by decide) (met_thrown (j_mOk X.2.2.1) N σ1 _ ht1) (lw_V q1769 q1770 q1771 q121 q1772) cy_thrown rfl hl.1 rfl (Nat.le_of_ble_eq_true rfl) dL_law_719 (fun H locs cells slots hw hS hz hsl => ?_)
  refine lv_iload hx hb dL_law_722 (lv_at hl 1 rfl) ?_
  refine lv_icmp_eq (tgt := 729) hx hb dL_law_724 (by decide) (fun _ => ?_) (fun z => absurd rfl z)
  refine lv_iload hx hb dL_law_729 (lv_at hl 1 rfl) ?_
  refine lv_if_ne (tgt := 746) hx hb dL_law_731 (by decide) (fun z => ?_) (fun z => ?_)
  · skip
    refine lv_goto (tgt := 2706) hx hb dL_law_746 (by decide) ?_
    refine lv_iinc (v := nI i + 6) (lv' := [(4, .int (nI i + 6)), (6, .int r), (5, .int w.2), (1, .ref xa), (2, .ref G.1), (3, .ref oa), (0, .ref b)]) hx hb dL_law_2706 hl (k := 2) rfl rfl (by decide) rfl (fun ls hl => ?_)
    refine lv_goto (tgt := 23) hx hb dL_law_2709 (by decide) ?_
    have hl := lv_sub hl [0, 3, 4, 5, 6] rfl
    exact hnext _ _ _ _ _ _ _ hw hS (by rw [← nI_add i 6]; exact hl) (hRn _ (by omega) (fun q e0 hq => by have h9 := (hw.1.1.1 q e0 (by exact hq)).1.lt; exact h9)) (by omega) (by omega)
  · have hv1 := hv1 (by first | exact z | exact Classical.byContradiction z)
    refine lv_aload_n hx hb dL_law_734 rfl (lv_at hl 5 rfl) ?_
    refine lv_iconst (v := 0) hx hb dL_law_735 (by decide) ?_
    refine jr_lald (C := 0) (K := 0) X hw rfl (S := w.1) rfl hv1 dL_law_736 ?_
    refine lv_iload hx hb dL_law_737 (lv_at hl 0 rfl) ?_
    refine lv_i2l hx hb dL_law_739 rfl ?_
    refine W.lcmp hx hb dL_law_740 ?_
    refine lv_if_eq (tgt := 746) hx hb dL_law_741 (by decide) (fun _ => ?_) (fun z => absurd (lg_cmp_self _) z)
    refine lv_goto (tgt := 2706) hx hb dL_law_746 (by decide) ?_
    refine lv_iinc (v := nI i + 6) (lv' := [(4, .int (nI i + 6)), (6, .int r), (5, .int w.2), (1, .ref xa), (2, .ref G.1), (3, .ref oa), (0, .ref b)]) hx hb dL_law_2706 hl (k := 2) rfl rfl (by decide) rfl (fun ls hl => ?_)
    refine lv_goto (tgt := 23) hx hb dL_law_2709 (by decide) ?_
    have hl := lv_sub hl [0, 3, 4, 5, 6] rfl
    exact hnext _ _ _ _ _ _ _ hw hS (by rw [← nI_add i 6]; exact hl) (hRn _ (by omega) (fun q e0 hq => by have h9 := (hw.1.1.1 q e0 (by exact hq)).1.lt; exact h9)) (by omega) (by omega)
theorem law_crack {p : Program} {l : Launch} {e : Env} {s : State} {m : MethodId} {below : List Frame} {meth : Method} {c : Code} {H : Heap} {locs : List Loc} {cells slots : Nat} {Q : State → Prop} {ls : Array Slot} {g : XC} {D : va_G} {G : MG} {n0 b L i c0 k0 xa oa N : Nat} {xs : Nat → Int32} {τ : XL} {σ : MS} {Rel Rel1 : Nat → XL → MS → Prop} (hlT : l.stackTraces = false) (X : jX g D G n0 "DripCupsLaw" p s m #[Value.ref b] c cL_law 7) (hX : va_X b L xs s s.heap) (hbl : b < s.heap.size) (hi : i + 6 ≤ L) (hL : L ≤ 384) (hst : St_crack Rel Rel1 g N xa oa) (h1 : H.size ≤ s.heap.size + c0) (h2 : slotsOf H ≤ slotsOf s.heap + k0) (hc0 : c0 + 14000 ≤ 928407) (hk0 : k0 + 97000 ≤ 6316261) (hw : jW g D G n0 τ σ s H) (hS : va_S (fun q => n0 ≤ q) s.heap H locs) (hR : Rel H.size τ σ)
    (hnext : ∀ (H : Heap) (locs : List Loc) (ls : Array Slot) (cells slots : Nat) (τ : XL) (σ : MS), jW g D G n0 τ σ s H → va_S (fun q => n0 ≤ q) s.heap H locs → lv_has ls 7 [(4, .int (nI (i + 6))), (1, .ref xa), (2, .ref G.1), (3, .ref oa), (0, .ref b)] → Rel1 H.size τ σ → H.size ≤ s.heap.size + (c0 + 14000) → slotsOf H ≤ slotsOf s.heap + (k0 + 97000) → W p l e room_1 s m #[Value.ref b] below meth c H locs cells slots Q (F0 m 23 ls []))
    (hl : lv_has ls 7 [(4, .int (nI i)), (1, .ref xa), (2, .ref G.1), (3, .ref oa), (0, .ref b)]) : W p l e room_1 s m #[Value.ref b] below meth c H locs cells slots Q (F0 m 749 ls []) := by
  have hx := X.1.1
  have hb := X.1.2.1
  have hown := X.1.2.2.2.1
  have hn0 : s.heap.size = n0 := X.2.2.2.1
  refine lv_aload_n hx hb dL_law_749 rfl (lv_at hl 1 rfl) ?_
  refine lv_aload_n hx hb dL_law_750 rfl (lv_at hl 4 rfl) ?_
  refine lv_iload hx hb dL_law_751 (lv_at hl 0 rfl) ?_
  refine lv_iconst (v := 1) hx hb dL_law_753 (by decide) ?_
  refine lv_iadd hx hb dL_law_754 ?_
  refine jr_sld (i := i) (k := 1) hx hb hX hbl hn0 hS (nI_add i 1) (by omega) hL dL_law_755 ?_
  refine lv_aload_n hx hb dL_law_756 rfl (lv_at hl 4 rfl) ?_
  refine lv_iload hx hb dL_law_757 (lv_at hl 0 rfl) ?_
  refine lv_iconst (v := 2) hx hb dL_law_759 (by decide) ?_
  refine lv_iadd hx hb dL_law_760 ?_
  refine jr_sld (i := i) (k := 2) hx hb hX hbl hn0 hS (nI_add i 2) (by omega) hL dL_law_761 ?_
  refine lv_aload_n hx hb dL_law_762 rfl (lv_at hl 3 rfl) ?_
  obtain ⟨w, σ1, r, σ2, hx1, hm1, ht1, hv1, hRn⟩ := hst (xs (i + 1)) (xs (i + 2)) _ (slotsOf H) _ _ hR
  refine jr_wrap (lv := 9) (C := H.size + 14000) (K := slotsOf H + 97000) X hw hS (by omega) (by omega) (show _ ≤ s.heap.size + 928407 by omega) (show _ ≤ slotsOf s.heap + 6316261 by omega) (by decide) (by decide) (met_X0_crack hlT N ((H.size, slotsOf H, H.size + 14000, slotsOf H + 97000), τ) xa (xs (i + 1)) (xs (i + 2)) oa w hx1) q1288 q1289 q114 q1290 cx_X0_crack rfl hl.1 rfl (Nat.le_of_ble_eq_true rfl) dL_law_763 (fun H locs cells slots hw hS hz hcz hsz => ?_)
  refine lv_istore (lv' := [(5, .int w.2), (4, .int (nI i)), (1, .ref xa), (2, .ref G.1), (3, .ref oa), (0, .ref b)]) hx hb dL_law_766 hl (by decide) rfl (fun ls hl => ?_)
  refine lv_aload_n hx hb dL_law_768 rfl (lv_at hl 3 rfl) ?_
  refine lv_aload_n hx hb dL_law_769 rfl (lv_at hl 5 rfl) ?_
  refine lv_iload hx hb dL_law_770 (lv_at hl 1 rfl) ?_
  refine lv_iconst (v := 1) hx hb dL_law_772 (by decide) ?_
  refine lv_iadd hx hb dL_law_773 ?_
  refine jr_sld (i := i) (k := 1) hx hb hX hbl hn0 hS (nI_add i 1) (by omega) hL dL_law_774 ?_
  refine lv_aload_n hx hb dL_law_775 rfl (lv_at hl 5 rfl) ?_
  refine lv_iload hx hb dL_law_776 (lv_at hl 1 rfl) ?_
  refine lv_iconst (v := 2) hx hb dL_law_778 (by decide) ?_
  refine lv_iadd hx hb dL_law_779 ?_
  refine jr_sld (i := i) (k := 2) hx hb hX hbl hn0 hS (nI_add i 2) (by omega) hL dL_law_780 ?_
  refine jr_mi (lv := 2) X hw hS (show _ ≤ s.heap.size + 928407 by omega) (show _ ≤ slotsOf s.heap + 6316261 by omega) (by decide) (by decide) (met_crack (j_mOk X.2.2.1) N σ (xs (i + 1)) (xs (i + 2)) _ hm1) (lw_V q2032 q2033 q2034 q121 q2035) cy_crack rfl hl.1 rfl (Nat.le_of_ble_eq_true rfl) dL_law_781 (fun H locs cells slots hw hS hz hsl => ?_)
  refine lv_istore (lv' := [(6, .int r), (5, .int w.2), (4, .int (nI i)), (1, .ref xa), (2, .ref G.1), (3, .ref oa), (0, .ref b)]) hx hb dL_law_784 hl (by decide) rfl (fun ls hl => ?_)
  refine lv_aload_n hx hb dL_law_786 rfl (lv_at hl 4 rfl) ?_
  refine jr_mi (lv := 0) X hw hS (show _ ≤ s.heap.size + 928407 by omega) (show _ ≤ slotsOf s.heap + 6316261 by omega) (by decide) (by decide) (met_thrown (j_mOk X.2.2.1) N σ1 _ ht1) (lw_V q1769 q1770 q1771 q121 q1772) cy_thrown rfl hl.1 rfl (Nat.le_of_ble_eq_true rfl) dL_law_787 (fun H locs cells slots hw hS hz hsl => ?_)
  refine lv_iload hx hb dL_law_790 (lv_at hl 1 rfl) ?_
  refine lv_icmp_eq (tgt := 797) hx hb dL_law_792 (by decide) (fun _ => ?_) (fun z => absurd rfl z)
  refine lv_iload hx hb dL_law_797 (lv_at hl 1 rfl) ?_
  refine lv_if_ne (tgt := 814) hx hb dL_law_799 (by decide) (fun z => ?_) (fun z => ?_)
  · skip
    refine lv_goto (tgt := 2706) hx hb dL_law_814 (by decide) ?_
    refine lv_iinc (v := nI i + 6) (lv' := [(4, .int (nI i + 6)), (6, .int r), (5, .int w.2), (1, .ref xa), (2, .ref G.1), (3, .ref oa), (0, .ref b)]) hx hb dL_law_2706 hl (k := 2) rfl rfl (by decide) rfl (fun ls hl => ?_)
    refine lv_goto (tgt := 23) hx hb dL_law_2709 (by decide) ?_
    have hl := lv_sub hl [0, 3, 4, 5, 6] rfl
    exact hnext _ _ _ _ _ _ _ hw hS (by rw [← nI_add i 6]; exact hl) (hRn _ (by omega) (fun q e0 hq => by have h9 := (hw.1.1.1 q e0 (by exact hq)).1.lt; exact h9)) (by omega) (by omega)
  · have hv1 := hv1 (by first | exact z | exact Classical.byContradiction z)
    refine lv_aload_n hx hb dL_law_802 rfl (lv_at hl 5 rfl) ?_
    refine lv_iconst (v := 0) hx hb dL_law_803 (by decide) ?_
    refine jr_lald (C := 0) (K := 0) X hw rfl (S := w.1) rfl hv1 dL_law_804 ?_
    refine lv_iload hx hb dL_law_805 (lv_at hl 0 rfl) ?_
    refine lv_i2l hx hb dL_law_807 rfl ?_
    refine W.lcmp hx hb dL_law_808 ?_
    refine lv_if_eq (tgt := 814) hx hb dL_law_809 (by decide) (fun _ => ?_) (fun z => absurd (lg_cmp_self _) z)
    refine lv_goto (tgt := 2706) hx hb dL_law_814 (by decide) ?_
    refine lv_iinc (v := nI i + 6) (lv' := [(4, .int (nI i + 6)), (6, .int r), (5, .int w.2), (1, .ref xa), (2, .ref G.1), (3, .ref oa), (0, .ref b)]) hx hb dL_law_2706 hl (k := 2) rfl rfl (by decide) rfl (fun ls hl => ?_)
    refine lv_goto (tgt := 23) hx hb dL_law_2709 (by decide) ?_
    have hl := lv_sub hl [0, 3, 4, 5, 6] rfl
    exact hnext _ _ _ _ _ _ _ hw hS (by rw [← nI_add i 6]; exact hl) (hRn _ (by omega) (fun q e0 hq => by have h9 := (hw.1.1.1 q e0 (by exact hq)).1.lt; exact h9)) (by omega) (by omega)
theorem law_undo {p : Program} {l : Launch} {e : Env} {s : State} {m : MethodId} {below : List Frame} {meth : Method} {c : Code} {H : Heap} {locs : List Loc} {cells slots : Nat} {Q : State → Prop} {ls : Array Slot} {g : XC} {D : va_G} {G : MG} {n0 b L i c0 k0 xa oa N : Nat} {xs : Nat → Int32} {τ : XL} {σ : MS} {Rel Rel1 : Nat → XL → MS → Prop} (hlT : l.stackTraces = false) (X : jX g D G n0 "DripCupsLaw" p s m #[Value.ref b] c cL_law 7) (hX : va_X b L xs s s.heap) (hbl : b < s.heap.size) (hi : i + 6 ≤ L) (hL : L ≤ 384) (hst : St_undo Rel Rel1 g N xa oa) (h1 : H.size ≤ s.heap.size + c0) (h2 : slotsOf H ≤ slotsOf s.heap + k0) (hc0 : c0 + 14000 ≤ 928407) (hk0 : k0 + 97000 ≤ 6316261) (hw : jW g D G n0 τ σ s H) (hS : va_S (fun q => n0 ≤ q) s.heap H locs) (hR : Rel H.size τ σ)
    (hnext : ∀ (H : Heap) (locs : List Loc) (ls : Array Slot) (cells slots : Nat) (τ : XL) (σ : MS), jW g D G n0 τ σ s H → va_S (fun q => n0 ≤ q) s.heap H locs → lv_has ls 7 [(4, .int (nI (i + 6))), (1, .ref xa), (2, .ref G.1), (3, .ref oa), (0, .ref b)] → Rel1 H.size τ σ → H.size ≤ s.heap.size + (c0 + 14000) → slotsOf H ≤ slotsOf s.heap + (k0 + 97000) → W p l e room_1 s m #[Value.ref b] below meth c H locs cells slots Q (F0 m 23 ls []))
    (hl : lv_has ls 7 [(4, .int (nI i)), (1, .ref xa), (2, .ref G.1), (3, .ref oa), (0, .ref b)]) : W p l e room_1 s m #[Value.ref b] below meth c H locs cells slots Q (F0 m 817 ls []) := by
  have hx := X.1.1
  have hb := X.1.2.1
  have hown := X.1.2.2.2.1
  have hn0 : s.heap.size = n0 := X.2.2.2.1
  refine lv_aload_n hx hb dL_law_817 rfl (lv_at hl 1 rfl) ?_
  obtain ⟨u0, w, σ1, hu0, hx1, hm1, hRn⟩ := hst _ (slotsOf H) _ _ hR
  refine jr_xi (lv := 3) (C := H.size + 14000) (K := slotsOf H + 97000) X hw hS (by omega) (by omega) (show _ ≤ s.heap.size + 928407 by omega) (show _ ≤ slotsOf s.heap + 6316261 by omega) (by decide) (by decide) (met_X1_undo N ((H.size, slotsOf H, H.size + 14000, slotsOf H + 97000), τ) xa w hx1) xc1 hu0 (lw_V q587 q588 q589 q115 q590) cx_X1_undo rfl hl.1 rfl (Nat.le_of_ble_eq_true rfl) dL_law_818 (fun H locs cells slots hw hS hz hcz hsz => ?_)
  refine lv_aload_n hx hb dL_law_821 rfl (lv_at hl 2 rfl) ?_
  refine jr_mi (lv := 0) X hw hS (show _ ≤ s.heap.size + 928407 by omega) (show _ ≤ slotsOf s.heap + 6316261 by omega) (by decide) (by decide) (met_undo (j_mOk X.2.2.1) N σ _ hm1) (lw_V q1904 q1905 q1906 q121 q1907) cy_undo rfl hl.1 rfl (Nat.le_of_ble_eq_true rfl) dL_law_822 (fun H locs cells slots hw hS hz hsl => ?_)
  refine lv_icmp_eq (tgt := 2706) hx hb dL_law_825 (by decide) (fun _ => ?_) (fun z => absurd rfl z)
  refine lv_iinc (v := nI i + 6) (lv' := [(4, .int (nI i + 6)), (1, .ref xa), (2, .ref G.1), (3, .ref oa), (0, .ref b)]) hx hb dL_law_2706 hl (k := 0) rfl rfl (by decide) rfl (fun ls hl => ?_)
  refine lv_goto (tgt := 23) hx hb dL_law_2709 (by decide) ?_
  have hl := lv_sub hl [0, 1, 2, 3, 4] rfl
  exact hnext _ _ _ _ _ _ _ hw hS (by rw [← nI_add i 6]; exact hl) (hRn _ (by omega) (fun q e0 hq => by have h9 := (hw.1.1.1 q e0 (by exact hq)).1.lt; exact h9)) (by omega) (by omega)
theorem law_then {p : Program} {l : Launch} {e : Env} {s : State} {m : MethodId} {below : List Frame} {meth : Method} {c : Code} {H : Heap} {locs : List Loc} {cells slots : Nat} {Q : State → Prop} {ls : Array Slot} {g : XC} {D : va_G} {G : MG} {n0 b L i c0 k0 xa oa N : Nat} {xs : Nat → Int32} {τ : XL} {σ : MS} {Rel Rel1 : Nat → XL → MS → Prop} (hlT : l.stackTraces = false) (X : jX g D G n0 "DripCupsLaw" p s m #[Value.ref b] c cL_law 7) (hX : va_X b L xs s s.heap) (hbl : b < s.heap.size) (hi : i + 6 ≤ L) (hL : L ≤ 384) (hst : St_then Rel Rel1 g N xa oa) (h1 : H.size ≤ s.heap.size + c0) (h2 : slotsOf H ≤ slotsOf s.heap + k0) (hc0 : c0 + 14000 ≤ 928407) (hk0 : k0 + 97000 ≤ 6316261) (hw : jW g D G n0 τ σ s H) (hS : va_S (fun q => n0 ≤ q) s.heap H locs) (hR : Rel H.size τ σ)
    (hnext : ∀ (H : Heap) (locs : List Loc) (ls : Array Slot) (cells slots : Nat) (τ : XL) (σ : MS), jW g D G n0 τ σ s H → va_S (fun q => n0 ≤ q) s.heap H locs → lv_has ls 7 [(4, .int (nI (i + 6))), (1, .ref xa), (2, .ref G.1), (3, .ref oa), (0, .ref b)] → Rel1 H.size τ σ → H.size ≤ s.heap.size + (c0 + 14000) → slotsOf H ≤ slotsOf s.heap + (k0 + 97000) → W p l e room_1 s m #[Value.ref b] below meth c H locs cells slots Q (F0 m 23 ls []))
    (hl : lv_has ls 7 [(4, .int (nI i)), (1, .ref xa), (2, .ref G.1), (3, .ref oa), (0, .ref b)]) : W p l e room_1 s m #[Value.ref b] below meth c H locs cells slots Q (F0 m 830 ls []) := by
  have hx := X.1.1
  have hb := X.1.2.1
  have hown := X.1.2.2.2.1
  have hn0 : s.heap.size = n0 := X.2.2.2.1
  refine lv_aload_n hx hb dL_law_830 rfl (lv_at hl 1 rfl) ?_
  refine lv_aload_n hx hb dL_law_831 rfl (lv_at hl 4 rfl) ?_
  refine lv_iload hx hb dL_law_832 (lv_at hl 0 rfl) ?_
  refine lv_iconst (v := 1) hx hb dL_law_834 (by decide) ?_
  refine lv_iadd hx hb dL_law_835 ?_
  refine jr_sld (i := i) (k := 1) hx hb hX hbl hn0 hS (nI_add i 1) (by omega) hL dL_law_836 ?_
  refine lv_aload_n hx hb dL_law_837 rfl (lv_at hl 4 rfl) ?_
  refine lv_iload hx hb dL_law_838 (lv_at hl 0 rfl) ?_
  refine lv_iconst (v := 2) hx hb dL_law_840 (by decide) ?_
  refine lv_iadd hx hb dL_law_841 ?_
  refine jr_sld (i := i) (k := 2) hx hb hX hbl hn0 hS (nI_add i 2) (by omega) hL dL_law_842 ?_
  refine lv_aload_n hx hb dL_law_843 rfl (lv_at hl 4 rfl) ?_
  refine lv_iload hx hb dL_law_844 (lv_at hl 0 rfl) ?_
  refine lv_iconst (v := 3) hx hb dL_law_846 (by decide) ?_
  refine lv_iadd hx hb dL_law_847 ?_
  refine jr_sld (i := i) (k := 3) hx hb hX hbl hn0 hS (nI_add i 3) (by omega) hL dL_law_848 ?_
  refine lv_aload_n hx hb dL_law_849 rfl (lv_at hl 3 rfl) ?_
  obtain ⟨w, σ1, r, σ2, hx1, hm1, ht1, hv1, hRn⟩ := hst (xs (i + 1)) (xs (i + 2)) (xs (i + 3)) _ (slotsOf H) _ _ hR
  refine jr_wrap (lv := 84) (C := H.size + 14000) (K := slotsOf H + 97000) X hw hS (by omega) (by omega) (show _ ≤ s.heap.size + 928407 by omega) (show _ ≤ slotsOf s.heap + 6316261 by omega) (by decide) (by decide) (met_X0_then hlT N ((H.size, slotsOf H, H.size + 14000, slotsOf H + 97000), τ) xa (xs (i + 1)) (xs (i + 2)) (xs (i + 3)) oa w hx1) q1299 q1300 q114 q1301 cx_X0_then rfl hl.1 rfl (Nat.le_of_ble_eq_true rfl) dL_law_850 (fun H locs cells slots hw hS hz hcz hsz => ?_)
  refine lv_istore (lv' := [(5, .int w.2), (4, .int (nI i)), (1, .ref xa), (2, .ref G.1), (3, .ref oa), (0, .ref b)]) hx hb dL_law_853 hl (by decide) rfl (fun ls hl => ?_)
  refine lv_aload_n hx hb dL_law_855 rfl (lv_at hl 3 rfl) ?_
  refine lv_aload_n hx hb dL_law_856 rfl (lv_at hl 5 rfl) ?_
  refine lv_iload hx hb dL_law_857 (lv_at hl 1 rfl) ?_
  refine lv_iconst (v := 1) hx hb dL_law_859 (by decide) ?_
  refine lv_iadd hx hb dL_law_860 ?_
  refine jr_sld (i := i) (k := 1) hx hb hX hbl hn0 hS (nI_add i 1) (by omega) hL dL_law_861 ?_
  refine lv_aload_n hx hb dL_law_862 rfl (lv_at hl 5 rfl) ?_
  refine lv_iload hx hb dL_law_863 (lv_at hl 1 rfl) ?_
  refine lv_iconst (v := 2) hx hb dL_law_865 (by decide) ?_
  refine lv_iadd hx hb dL_law_866 ?_
  refine jr_sld (i := i) (k := 2) hx hb hX hbl hn0 hS (nI_add i 2) (by omega) hL dL_law_867 ?_
  refine lv_aload_n hx hb dL_law_868 rfl (lv_at hl 5 rfl) ?_
  refine lv_iload hx hb dL_law_869 (lv_at hl 1 rfl) ?_
  refine lv_iconst (v := 3) hx hb dL_law_871 (by decide) ?_
  refine lv_iadd hx hb dL_law_872 ?_
  refine jr_sld (i := i) (k := 3) hx hb hX hbl hn0 hS (nI_add i 3) (by omega) hL dL_law_873 ?_
  refine jr_mi (lv := 5) X hw hS (show _ ≤ s.heap.size + 928407 by omega) (show _ ≤ slotsOf s.heap + 6316261 by omega) (by decide) (by decide) (met_then (j_mOk X.2.2.1) N σ (xs (i + 1)) (xs (i + 2)) (xs (i + 3)) _ hm1) (lw_V q2040 q2041 q2042 q121 q2043) cy_then rfl hl.1 rfl (Nat.le_of_ble_eq_true rfl) dL_law_874 (fun H locs cells slots hw hS hz hsl => ?_)
  refine lv_istore (lv' := [(6, .int r), (5, .int w.2), (4, .int (nI i)), (1, .ref xa), (2, .ref G.1), (3, .ref oa), (0, .ref b)]) hx hb dL_law_877 hl (by decide) rfl (fun ls hl => ?_)
  refine lv_aload_n hx hb dL_law_879 rfl (lv_at hl 4 rfl) ?_
  refine jr_mi (lv := 0) X hw hS (show _ ≤ s.heap.size + 928407 by omega) (show _ ≤ slotsOf s.heap + 6316261 by omega) (by decide) (by decide) (met_thrown (j_mOk X.2.2.1) N σ1 _ ht1) (lw_V q1769 q1770 q1771 q121 q1772) cy_thrown rfl hl.1 rfl (Nat.le_of_ble_eq_true rfl) dL_law_880 (fun H locs cells slots hw hS hz hsl => ?_)
  refine lv_iload hx hb dL_law_883 (lv_at hl 1 rfl) ?_
  refine lv_icmp_eq (tgt := 890) hx hb dL_law_885 (by decide) (fun _ => ?_) (fun z => absurd rfl z)
  refine lv_iload hx hb dL_law_890 (lv_at hl 1 rfl) ?_
  refine lv_if_ne (tgt := 907) hx hb dL_law_892 (by decide) (fun z => ?_) (fun z => ?_)
  · skip
    refine lv_goto (tgt := 2706) hx hb dL_law_907 (by decide) ?_
    refine lv_iinc (v := nI i + 6) (lv' := [(4, .int (nI i + 6)), (6, .int r), (5, .int w.2), (1, .ref xa), (2, .ref G.1), (3, .ref oa), (0, .ref b)]) hx hb dL_law_2706 hl (k := 2) rfl rfl (by decide) rfl (fun ls hl => ?_)
    refine lv_goto (tgt := 23) hx hb dL_law_2709 (by decide) ?_
    have hl := lv_sub hl [0, 3, 4, 5, 6] rfl
    exact hnext _ _ _ _ _ _ _ hw hS (by rw [← nI_add i 6]; exact hl) (hRn _ (by omega) (fun q e0 hq => by have h9 := (hw.1.1.1 q e0 (by exact hq)).1.lt; exact h9)) (by omega) (by omega)
  · have hv1 := hv1 (by first | exact z | exact Classical.byContradiction z)
    refine lv_aload_n hx hb dL_law_895 rfl (lv_at hl 5 rfl) ?_
    refine lv_iconst (v := 0) hx hb dL_law_896 (by decide) ?_
    refine jr_lald (C := 0) (K := 0) X hw rfl (S := w.1) rfl hv1 dL_law_897 ?_
    refine lv_iload hx hb dL_law_898 (lv_at hl 0 rfl) ?_
    refine lv_i2l hx hb dL_law_900 rfl ?_
    refine W.lcmp hx hb dL_law_901 ?_
    refine lv_if_eq (tgt := 907) hx hb dL_law_902 (by decide) (fun _ => ?_) (fun z => absurd (lg_cmp_self _) z)
    refine lv_goto (tgt := 2706) hx hb dL_law_907 (by decide) ?_
    refine lv_iinc (v := nI i + 6) (lv' := [(4, .int (nI i + 6)), (6, .int r), (5, .int w.2), (1, .ref xa), (2, .ref G.1), (3, .ref oa), (0, .ref b)]) hx hb dL_law_2706 hl (k := 2) rfl rfl (by decide) rfl (fun ls hl => ?_)
    refine lv_goto (tgt := 23) hx hb dL_law_2709 (by decide) ?_
    have hl := lv_sub hl [0, 3, 4, 5, 6] rfl
    exact hnext _ _ _ _ _ _ _ hw hS (by rw [← nI_add i 6]; exact hl) (hRn _ (by omega) (fun q e0 hq => by have h9 := (hw.1.1.1 q e0 (by exact hq)).1.lt; exact h9)) (by omega) (by omega)
theorem law_tipping {p : Program} {l : Launch} {e : Env} {s : State} {m : MethodId} {below : List Frame} {meth : Method} {c : Code} {H : Heap} {locs : List Loc} {cells slots : Nat} {Q : State → Prop} {ls : Array Slot} {g : XC} {D : va_G} {G : MG} {n0 b L i c0 k0 xa oa N : Nat} {xs : Nat → Int32} {τ : XL} {σ : MS} {Rel Rel1 : Nat → XL → MS → Prop} (hlT : l.stackTraces = false) (X : jX g D G n0 "DripCupsLaw" p s m #[Value.ref b] c cL_law 7) (hX : va_X b L xs s s.heap) (hbl : b < s.heap.size) (hi : i + 6 ≤ L) (hL : L ≤ 384) (hst : St_tipping Rel Rel1 g N xa oa) (h1 : H.size ≤ s.heap.size + c0) (h2 : slotsOf H ≤ slotsOf s.heap + k0) (hc0 : c0 + 14000 ≤ 928407) (hk0 : k0 + 97000 ≤ 6316261) (hw : jW g D G n0 τ σ s H) (hS : va_S (fun q => n0 ≤ q) s.heap H locs) (hR : Rel H.size τ σ)
    (hnext : ∀ (H : Heap) (locs : List Loc) (ls : Array Slot) (cells slots : Nat) (τ : XL) (σ : MS), jW g D G n0 τ σ s H → va_S (fun q => n0 ≤ q) s.heap H locs → lv_has ls 7 [(4, .int (nI (i + 6))), (1, .ref xa), (2, .ref G.1), (3, .ref oa), (0, .ref b)] → Rel1 H.size τ σ → H.size ≤ s.heap.size + (c0 + 14000) → slotsOf H ≤ slotsOf s.heap + (k0 + 97000) → W p l e room_1 s m #[Value.ref b] below meth c H locs cells slots Q (F0 m 23 ls []))
    (hl : lv_has ls 7 [(4, .int (nI i)), (1, .ref xa), (2, .ref G.1), (3, .ref oa), (0, .ref b)]) : W p l e room_1 s m #[Value.ref b] below meth c H locs cells slots Q (F0 m 910 ls []) := by
  have hx := X.1.1
  have hb := X.1.2.1
  have hown := X.1.2.2.2.1
  have hn0 : s.heap.size = n0 := X.2.2.2.1
  refine lv_aload_n hx hb dL_law_910 rfl (lv_at hl 1 rfl) ?_
  refine lv_aload_n hx hb dL_law_911 rfl (lv_at hl 4 rfl) ?_
  refine lv_iload hx hb dL_law_912 (lv_at hl 0 rfl) ?_
  refine lv_iconst (v := 1) hx hb dL_law_914 (by decide) ?_
  refine lv_iadd hx hb dL_law_915 ?_
  refine jr_sld (i := i) (k := 1) hx hb hX hbl hn0 hS (nI_add i 1) (by omega) hL dL_law_916 ?_
  refine lv_aload_n hx hb dL_law_917 rfl (lv_at hl 3 rfl) ?_
  obtain ⟨w, σ1, r, σ2, hx1, hm1, ht1, hv1, hRn⟩ := hst (xs (i + 1)) _ (slotsOf H) _ _ hR
  refine jr_wrap (lv := 84) (C := H.size + 14000) (K := slotsOf H + 97000) X hw hS (by omega) (by omega) (show _ ≤ s.heap.size + 928407 by omega) (show _ ≤ slotsOf s.heap + 6316261 by omega) (by decide) (by decide) (met_X0_tipping hlT N ((H.size, slotsOf H, H.size + 14000, slotsOf H + 97000), τ) xa (xs (i + 1)) oa w hx1) q1313 q1314 q114 q1315 cx_X0_tipping rfl hl.1 rfl (Nat.le_of_ble_eq_true rfl) dL_law_918 (fun H locs cells slots hw hS hz hcz hsz => ?_)
  refine lv_istore (lv' := [(5, .int w.2), (4, .int (nI i)), (1, .ref xa), (2, .ref G.1), (3, .ref oa), (0, .ref b)]) hx hb dL_law_921 hl (by decide) rfl (fun ls hl => ?_)
  refine lv_aload_n hx hb dL_law_923 rfl (lv_at hl 3 rfl) ?_
  refine lv_aload_n hx hb dL_law_924 rfl (lv_at hl 5 rfl) ?_
  refine lv_iload hx hb dL_law_925 (lv_at hl 1 rfl) ?_
  refine lv_iconst (v := 1) hx hb dL_law_927 (by decide) ?_
  refine lv_iadd hx hb dL_law_928 ?_
  refine jr_sld (i := i) (k := 1) hx hb hX hbl hn0 hS (nI_add i 1) (by omega) hL dL_law_929 ?_
  refine jr_mi (lv := 6) X hw hS (show _ ≤ s.heap.size + 928407 by omega) (show _ ≤ slotsOf s.heap + 6316261 by omega) (by decide) (by decide) (met_tipping (j_mOk X.2.2.1) N σ (xs (i + 1)) _ hm1) (lw_V q2052 q2053 q2054 q121 q2055) cy_tipping rfl hl.1 rfl (Nat.le_of_ble_eq_true rfl) dL_law_930 (fun H locs cells slots hw hS hz hsl => ?_)
  refine lv_istore (lv' := [(6, .int r), (5, .int w.2), (4, .int (nI i)), (1, .ref xa), (2, .ref G.1), (3, .ref oa), (0, .ref b)]) hx hb dL_law_933 hl (by decide) rfl (fun ls hl => ?_)
  refine lv_aload_n hx hb dL_law_935 rfl (lv_at hl 4 rfl) ?_
  refine jr_mi (lv := 0) X hw hS (show _ ≤ s.heap.size + 928407 by omega) (show _ ≤ slotsOf s.heap + 6316261 by omega) (by decide) (by decide) (met_thrown (j_mOk X.2.2.1) N σ1 _ ht1) (lw_V q1769 q1770 q1771 q121 q1772) cy_thrown rfl hl.1 rfl (Nat.le_of_ble_eq_true rfl) dL_law_936 (fun H locs cells slots hw hS hz hsl => ?_)
  refine lv_iload hx hb dL_law_939 (lv_at hl 1 rfl) ?_
  refine lv_icmp_eq (tgt := 946) hx hb dL_law_941 (by decide) (fun _ => ?_) (fun z => absurd rfl z)
  refine lv_iload hx hb dL_law_946 (lv_at hl 1 rfl) ?_
  refine lv_if_ne (tgt := 963) hx hb dL_law_948 (by decide) (fun z => ?_) (fun z => ?_)
  · skip
    refine lv_goto (tgt := 2706) hx hb dL_law_963 (by decide) ?_
    refine lv_iinc (v := nI i + 6) (lv' := [(4, .int (nI i + 6)), (6, .int r), (5, .int w.2), (1, .ref xa), (2, .ref G.1), (3, .ref oa), (0, .ref b)]) hx hb dL_law_2706 hl (k := 2) rfl rfl (by decide) rfl (fun ls hl => ?_)
    refine lv_goto (tgt := 23) hx hb dL_law_2709 (by decide) ?_
    have hl := lv_sub hl [0, 3, 4, 5, 6] rfl
    exact hnext _ _ _ _ _ _ _ hw hS (by rw [← nI_add i 6]; exact hl) (hRn _ (by omega) (fun q e0 hq => by have h9 := (hw.1.1.1 q e0 (by exact hq)).1.lt; exact h9)) (by omega) (by omega)
  · have hv1 := hv1 (by first | exact z | exact Classical.byContradiction z)
    refine lv_aload_n hx hb dL_law_951 rfl (lv_at hl 5 rfl) ?_
    refine lv_iconst (v := 0) hx hb dL_law_952 (by decide) ?_
    refine jr_lald (C := 0) (K := 0) X hw rfl (S := w.1) rfl hv1 dL_law_953 ?_
    refine lv_iload hx hb dL_law_954 (lv_at hl 0 rfl) ?_
    refine lv_i2l hx hb dL_law_956 rfl ?_
    refine W.lcmp hx hb dL_law_957 ?_
    refine lv_if_eq (tgt := 963) hx hb dL_law_958 (by decide) (fun _ => ?_) (fun z => absurd (lg_cmp_self _) z)
    refine lv_goto (tgt := 2706) hx hb dL_law_963 (by decide) ?_
    refine lv_iinc (v := nI i + 6) (lv' := [(4, .int (nI i + 6)), (6, .int r), (5, .int w.2), (1, .ref xa), (2, .ref G.1), (3, .ref oa), (0, .ref b)]) hx hb dL_law_2706 hl (k := 2) rfl rfl (by decide) rfl (fun ls hl => ?_)
    refine lv_goto (tgt := 23) hx hb dL_law_2709 (by decide) ?_
    have hl := lv_sub hl [0, 3, 4, 5, 6] rfl
    exact hnext _ _ _ _ _ _ _ hw hS (by rw [← nI_add i 6]; exact hl) (hRn _ (by omega) (fun q e0 hq => by have h9 := (hw.1.1.1 q e0 (by exact hq)).1.lt; exact h9)) (by omega) (by omega)
theorem law_next {p : Program} {l : Launch} {e : Env} {s : State} {m : MethodId} {below : List Frame} {meth : Method} {c : Code} {H : Heap} {locs : List Loc} {cells slots : Nat} {Q : State → Prop} {ls : Array Slot} {g : XC} {D : va_G} {G : MG} {n0 b L i c0 k0 xa oa N : Nat} {xs : Nat → Int32} {τ : XL} {σ : MS} {Rel Rel1 : Nat → XL → MS → Prop} (hlT : l.stackTraces = false) (X : jX g D G n0 "DripCupsLaw" p s m #[Value.ref b] c cL_law 7) (hX : va_X b L xs s s.heap) (hbl : b < s.heap.size) (hi : i + 6 ≤ L) (hL : L ≤ 384) (hst : St_next Rel Rel1 g N xa oa) (h1 : H.size ≤ s.heap.size + c0) (h2 : slotsOf H ≤ slotsOf s.heap + k0) (hc0 : c0 + 14000 ≤ 928407) (hk0 : k0 + 97000 ≤ 6316261) (hw : jW g D G n0 τ σ s H) (hS : va_S (fun q => n0 ≤ q) s.heap H locs) (hR : Rel H.size τ σ)
    (hnext : ∀ (H : Heap) (locs : List Loc) (ls : Array Slot) (cells slots : Nat) (τ : XL) (σ : MS), jW g D G n0 τ σ s H → va_S (fun q => n0 ≤ q) s.heap H locs → lv_has ls 7 [(4, .int (nI (i + 6))), (1, .ref xa), (2, .ref G.1), (3, .ref oa), (0, .ref b)] → Rel1 H.size τ σ → H.size ≤ s.heap.size + (c0 + 14000) → slotsOf H ≤ slotsOf s.heap + (k0 + 97000) → W p l e room_1 s m #[Value.ref b] below meth c H locs cells slots Q (F0 m 23 ls []))
    (hl : lv_has ls 7 [(4, .int (nI i)), (1, .ref xa), (2, .ref G.1), (3, .ref oa), (0, .ref b)]) : W p l e room_1 s m #[Value.ref b] below meth c H locs cells slots Q (F0 m 966 ls []) := by
  have hx := X.1.1
  have hb := X.1.2.1
  have hown := X.1.2.2.2.1
  have hn0 : s.heap.size = n0 := X.2.2.2.1
  refine lv_aload_n hx hb dL_law_966 rfl (lv_at hl 1 rfl) ?_
  refine lv_aload_n hx hb dL_law_967 rfl (lv_at hl 4 rfl) ?_
  refine lv_iload hx hb dL_law_968 (lv_at hl 0 rfl) ?_
  refine lv_iconst (v := 1) hx hb dL_law_970 (by decide) ?_
  refine lv_iadd hx hb dL_law_971 ?_
  refine jr_sld (i := i) (k := 1) hx hb hX hbl hn0 hS (nI_add i 1) (by omega) hL dL_law_972 ?_
  refine lv_aload_n hx hb dL_law_973 rfl (lv_at hl 3 rfl) ?_
  obtain ⟨w, σ1, r, σ2, hx1, hm1, ht1, hv1, hRn⟩ := hst (xs (i + 1)) _ (slotsOf H) _ _ hR
  refine jr_wrap (lv := 84) (C := H.size + 14000) (K := slotsOf H + 97000) X hw hS (by omega) (by omega) (show _ ≤ s.heap.size + 928407 by omega) (show _ ≤ slotsOf s.heap + 6316261 by omega) (by decide) (by decide) (met_X0_next hlT N ((H.size, slotsOf H, H.size + 14000, slotsOf H + 97000), τ) xa (xs (i + 1)) oa w hx1) q1320 q1321 q114 q1322 cx_X0_next rfl hl.1 rfl (Nat.le_of_ble_eq_true rfl) dL_law_974 (fun H locs cells slots hw hS hz hcz hsz => ?_)
  refine lv_istore (lv' := [(5, .int w.2), (4, .int (nI i)), (1, .ref xa), (2, .ref G.1), (3, .ref oa), (0, .ref b)]) hx hb dL_law_977 hl (by decide) rfl (fun ls hl => ?_)
  refine lv_aload_n hx hb dL_law_979 rfl (lv_at hl 3 rfl) ?_
  refine lv_aload_n hx hb dL_law_980 rfl (lv_at hl 5 rfl) ?_
  refine lv_iload hx hb dL_law_981 (lv_at hl 1 rfl) ?_
  refine lv_iconst (v := 1) hx hb dL_law_983 (by decide) ?_
  refine lv_iadd hx hb dL_law_984 ?_
  refine jr_sld (i := i) (k := 1) hx hb hX hbl hn0 hS (nI_add i 1) (by omega) hL dL_law_985 ?_
  refine jr_mi (lv := 6) X hw hS (show _ ≤ s.heap.size + 928407 by omega) (show _ ≤ slotsOf s.heap + 6316261 by omega) (by decide) (by decide) (met_next (j_mOk X.2.2.1) N σ (xs (i + 1)) _ hm1) (lw_V q2060 q2061 q2062 q121 q2063) cy_next rfl hl.1 rfl (Nat.le_of_ble_eq_true rfl) dL_law_986 (fun H locs cells slots hw hS hz hsl => ?_)
  refine lv_istore (lv' := [(6, .int r), (5, .int w.2), (4, .int (nI i)), (1, .ref xa), (2, .ref G.1), (3, .ref oa), (0, .ref b)]) hx hb dL_law_989 hl (by decide) rfl (fun ls hl => ?_)
  refine lv_aload_n hx hb dL_law_991 rfl (lv_at hl 4 rfl) ?_
  refine jr_mi (lv := 0) X hw hS (show _ ≤ s.heap.size + 928407 by omega) (show _ ≤ slotsOf s.heap + 6316261 by omega) (by decide) (by decide) (met_thrown (j_mOk X.2.2.1) N σ1 _ ht1) (lw_V q1769 q1770 q1771 q121 q1772) cy_thrown rfl hl.1 rfl (Nat.le_of_ble_eq_true rfl) dL_law_992 (fun H locs cells slots hw hS hz hsl => ?_)
  refine lv_iload hx hb dL_law_995 (lv_at hl 1 rfl) ?_
  refine lv_icmp_eq (tgt := 1002) hx hb dL_law_997 (by decide) (fun _ => ?_) (fun z => absurd rfl z)
  refine lv_iload hx hb dL_law_1002 (lv_at hl 1 rfl) ?_
  refine lv_if_ne (tgt := 1019) hx hb dL_law_1004 (by decide) (fun z => ?_) (fun z => ?_)
  · skip
    refine lv_goto (tgt := 2706) hx hb dL_law_1019 (by decide) ?_
    refine lv_iinc (v := nI i + 6) (lv' := [(4, .int (nI i + 6)), (6, .int r), (5, .int w.2), (1, .ref xa), (2, .ref G.1), (3, .ref oa), (0, .ref b)]) hx hb dL_law_2706 hl (k := 2) rfl rfl (by decide) rfl (fun ls hl => ?_)
    refine lv_goto (tgt := 23) hx hb dL_law_2709 (by decide) ?_
    have hl := lv_sub hl [0, 3, 4, 5, 6] rfl
    exact hnext _ _ _ _ _ _ _ hw hS (by rw [← nI_add i 6]; exact hl) (hRn _ (by omega) (fun q e0 hq => by have h9 := (hw.1.1.1 q e0 (by exact hq)).1.lt; exact h9)) (by omega) (by omega)
  · have hv1 := hv1 (by first | exact z | exact Classical.byContradiction z)
    refine lv_aload_n hx hb dL_law_1007 rfl (lv_at hl 5 rfl) ?_
    refine lv_iconst (v := 0) hx hb dL_law_1008 (by decide) ?_
    refine jr_lald (C := 0) (K := 0) X hw rfl (S := w.1) rfl hv1 dL_law_1009 ?_
    refine lv_iload hx hb dL_law_1010 (lv_at hl 0 rfl) ?_
    refine lv_i2l hx hb dL_law_1012 rfl ?_
    refine W.lcmp hx hb dL_law_1013 ?_
    refine lv_if_eq (tgt := 1019) hx hb dL_law_1014 (by decide) (fun _ => ?_) (fun z => absurd (lg_cmp_self _) z)
    refine lv_goto (tgt := 2706) hx hb dL_law_1019 (by decide) ?_
    refine lv_iinc (v := nI i + 6) (lv' := [(4, .int (nI i + 6)), (6, .int r), (5, .int w.2), (1, .ref xa), (2, .ref G.1), (3, .ref oa), (0, .ref b)]) hx hb dL_law_2706 hl (k := 2) rfl rfl (by decide) rfl (fun ls hl => ?_)
    refine lv_goto (tgt := 23) hx hb dL_law_2709 (by decide) ?_
    have hl := lv_sub hl [0, 3, 4, 5, 6] rfl
    exact hnext _ _ _ _ _ _ _ hw hS (by rw [← nI_add i 6]; exact hl) (hRn _ (by omega) (fun q e0 hq => by have h9 := (hw.1.1.1 q e0 (by exact hq)).1.lt; exact h9)) (by omega) (by omega)
theorem law_together {p : Program} {l : Launch} {e : Env} {s : State} {m : MethodId} {below : List Frame} {meth : Method} {c : Code} {H : Heap} {locs : List Loc} {cells slots : Nat} {Q : State → Prop} {ls : Array Slot} {g : XC} {D : va_G} {G : MG} {n0 b L i c0 k0 xa oa N : Nat} {xs : Nat → Int32} {τ : XL} {σ : MS} {Rel Rel1 : Nat → XL → MS → Prop} (hlT : l.stackTraces = false) (X : jX g D G n0 "DripCupsLaw" p s m #[Value.ref b] c cL_law 7) (hX : va_X b L xs s s.heap) (hbl : b < s.heap.size) (hi : i + 6 ≤ L) (hL : L ≤ 384) (hst : St_together Rel Rel1 g N xa oa) (h1 : H.size ≤ s.heap.size + c0) (h2 : slotsOf H ≤ slotsOf s.heap + k0) (hc0 : c0 + 14000 ≤ 928407) (hk0 : k0 + 97000 ≤ 6316261) (hw : jW g D G n0 τ σ s H) (hS : va_S (fun q => n0 ≤ q) s.heap H locs) (hR : Rel H.size τ σ)
    (hnext : ∀ (H : Heap) (locs : List Loc) (ls : Array Slot) (cells slots : Nat) (τ : XL) (σ : MS), jW g D G n0 τ σ s H → va_S (fun q => n0 ≤ q) s.heap H locs → lv_has ls 7 [(4, .int (nI (i + 6))), (1, .ref xa), (2, .ref G.1), (3, .ref oa), (0, .ref b)] → Rel1 H.size τ σ → H.size ≤ s.heap.size + (c0 + 14000) → slotsOf H ≤ slotsOf s.heap + (k0 + 97000) → W p l e room_1 s m #[Value.ref b] below meth c H locs cells slots Q (F0 m 23 ls []))
    (hl : lv_has ls 7 [(4, .int (nI i)), (1, .ref xa), (2, .ref G.1), (3, .ref oa), (0, .ref b)]) : W p l e room_1 s m #[Value.ref b] below meth c H locs cells slots Q (F0 m 1022 ls []) := by
  have hx := X.1.1
  have hb := X.1.2.1
  have hown := X.1.2.2.2.1
  have hn0 : s.heap.size = n0 := X.2.2.2.1
  refine lv_aload_n hx hb dL_law_1022 rfl (lv_at hl 1 rfl) ?_
  refine lv_aload_n hx hb dL_law_1023 rfl (lv_at hl 4 rfl) ?_
  refine lv_iload hx hb dL_law_1024 (lv_at hl 0 rfl) ?_
  refine lv_iconst (v := 1) hx hb dL_law_1026 (by decide) ?_
  refine lv_iadd hx hb dL_law_1027 ?_
  refine jr_sld (i := i) (k := 1) hx hb hX hbl hn0 hS (nI_add i 1) (by omega) hL dL_law_1028 ?_
  refine lv_aload_n hx hb dL_law_1029 rfl (lv_at hl 3 rfl) ?_
  obtain ⟨w, σ1, r, σ2, hx1, hm1, ht1, hv1, hRn⟩ := hst (xs (i + 1)) _ (slotsOf H) _ _ hR
  refine jr_wrap (lv := 84) (C := H.size + 14000) (K := slotsOf H + 97000) X hw hS (by omega) (by omega) (show _ ≤ s.heap.size + 928407 by omega) (show _ ≤ slotsOf s.heap + 6316261 by omega) (by decide) (by decide) (met_X0_together hlT N ((H.size, slotsOf H, H.size + 14000, slotsOf H + 97000), τ) xa (xs (i + 1)) oa w hx1) q1335 q1336 q114 q1337 cx_X0_together rfl hl.1 rfl (Nat.le_of_ble_eq_true rfl) dL_law_1030 (fun H locs cells slots hw hS hz hcz hsz => ?_)
  refine lv_istore (lv' := [(5, .int w.2), (4, .int (nI i)), (1, .ref xa), (2, .ref G.1), (3, .ref oa), (0, .ref b)]) hx hb dL_law_1033 hl (by decide) rfl (fun ls hl => ?_)
  refine lv_aload_n hx hb dL_law_1035 rfl (lv_at hl 3 rfl) ?_
  refine lv_aload_n hx hb dL_law_1036 rfl (lv_at hl 5 rfl) ?_
  refine lv_iload hx hb dL_law_1037 (lv_at hl 1 rfl) ?_
  refine lv_iconst (v := 1) hx hb dL_law_1039 (by decide) ?_
  refine lv_iadd hx hb dL_law_1040 ?_
  refine jr_sld (i := i) (k := 1) hx hb hX hbl hn0 hS (nI_add i 1) (by omega) hL dL_law_1041 ?_
  refine jr_mi (lv := 6) X hw hS (show _ ≤ s.heap.size + 928407 by omega) (show _ ≤ slotsOf s.heap + 6316261 by omega) (by decide) (by decide) (met_together (j_mOk X.2.2.1) N σ (xs (i + 1)) _ hm1) (lw_V q2068 q2069 q2070 q121 q2071) cy_together rfl hl.1 rfl (Nat.le_of_ble_eq_true rfl) dL_law_1042 (fun H locs cells slots hw hS hz hsl => ?_)
  refine lv_istore (lv' := [(6, .int r), (5, .int w.2), (4, .int (nI i)), (1, .ref xa), (2, .ref G.1), (3, .ref oa), (0, .ref b)]) hx hb dL_law_1045 hl (by decide) rfl (fun ls hl => ?_)
  refine lv_aload_n hx hb dL_law_1047 rfl (lv_at hl 4 rfl) ?_
  refine jr_mi (lv := 0) X hw hS (show _ ≤ s.heap.size + 928407 by omega) (show _ ≤ slotsOf s.heap + 6316261 by omega) (by decide) (by decide) (met_thrown (j_mOk X.2.2.1) N σ1 _ ht1) (lw_V q1769 q1770 q1771 q121 q1772) cy_thrown rfl hl.1 rfl (Nat.le_of_ble_eq_true rfl) dL_law_1048 (fun H locs cells slots hw hS hz hsl => ?_)
  refine lv_iload hx hb dL_law_1051 (lv_at hl 1 rfl) ?_
  refine lv_icmp_eq (tgt := 1058) hx hb dL_law_1053 (by decide) (fun _ => ?_) (fun z => absurd rfl z)
  refine lv_iload hx hb dL_law_1058 (lv_at hl 1 rfl) ?_
  refine lv_if_ne (tgt := 1075) hx hb dL_law_1060 (by decide) (fun z => ?_) (fun z => ?_)
  · skip
    refine lv_goto (tgt := 2706) hx hb dL_law_1075 (by decide) ?_
    refine lv_iinc (v := nI i + 6) (lv' := [(4, .int (nI i + 6)), (6, .int r), (5, .int w.2), (1, .ref xa), (2, .ref G.1), (3, .ref oa), (0, .ref b)]) hx hb dL_law_2706 hl (k := 2) rfl rfl (by decide) rfl (fun ls hl => ?_)
    refine lv_goto (tgt := 23) hx hb dL_law_2709 (by decide) ?_
    have hl := lv_sub hl [0, 3, 4, 5, 6] rfl
    exact hnext _ _ _ _ _ _ _ hw hS (by rw [← nI_add i 6]; exact hl) (hRn _ (by omega) (fun q e0 hq => by have h9 := (hw.1.1.1 q e0 (by exact hq)).1.lt; exact h9)) (by omega) (by omega)
  · have hv1 := hv1 (by first | exact z | exact Classical.byContradiction z)
    refine lv_aload_n hx hb dL_law_1063 rfl (lv_at hl 5 rfl) ?_
    refine lv_iconst (v := 0) hx hb dL_law_1064 (by decide) ?_
    refine jr_lald (C := 0) (K := 0) X hw rfl (S := w.1) rfl hv1 dL_law_1065 ?_
    refine lv_iload hx hb dL_law_1066 (lv_at hl 0 rfl) ?_
    refine lv_i2l hx hb dL_law_1068 rfl ?_
    refine W.lcmp hx hb dL_law_1069 ?_
    refine lv_if_eq (tgt := 1075) hx hb dL_law_1070 (by decide) (fun _ => ?_) (fun z => absurd (lg_cmp_self _) z)
    refine lv_goto (tgt := 2706) hx hb dL_law_1075 (by decide) ?_
    refine lv_iinc (v := nI i + 6) (lv' := [(4, .int (nI i + 6)), (6, .int r), (5, .int w.2), (1, .ref xa), (2, .ref G.1), (3, .ref oa), (0, .ref b)]) hx hb dL_law_2706 hl (k := 2) rfl rfl (by decide) rfl (fun ls hl => ?_)
    refine lv_goto (tgt := 23) hx hb dL_law_2709 (by decide) ?_
    have hl := lv_sub hl [0, 3, 4, 5, 6] rfl
    exact hnext _ _ _ _ _ _ _ hw hS (by rw [← nI_add i 6]; exact hl) (hRn _ (by omega) (fun q e0 hq => by have h9 := (hw.1.1.1 q e0 (by exact hq)).1.lt; exact h9)) (by omega) (by omega)
theorem law_sound {p : Program} {l : Launch} {e : Env} {s : State} {m : MethodId} {below : List Frame} {meth : Method} {c : Code} {H : Heap} {locs : List Loc} {cells slots : Nat} {Q : State → Prop} {ls : Array Slot} {g : XC} {D : va_G} {G : MG} {n0 b L i c0 k0 xa oa N : Nat} {xs : Nat → Int32} {τ : XL} {σ : MS} {Rel Rel1 : Nat → XL → MS → Prop} (hlT : l.stackTraces = false) (X : jX g D G n0 "DripCupsLaw" p s m #[Value.ref b] c cL_law 7) (hX : va_X b L xs s s.heap) (hbl : b < s.heap.size) (hi : i + 6 ≤ L) (hL : L ≤ 384) (hst : St_sound Rel Rel1 g N xa oa) (h1 : H.size ≤ s.heap.size + c0) (h2 : slotsOf H ≤ slotsOf s.heap + k0) (hc0 : c0 + 14000 ≤ 928407) (hk0 : k0 + 97000 ≤ 6316261) (hw : jW g D G n0 τ σ s H) (hS : va_S (fun q => n0 ≤ q) s.heap H locs) (hR : Rel H.size τ σ)
    (hnext : ∀ (H : Heap) (locs : List Loc) (ls : Array Slot) (cells slots : Nat) (τ : XL) (σ : MS), jW g D G n0 τ σ s H → va_S (fun q => n0 ≤ q) s.heap H locs → lv_has ls 7 [(4, .int (nI (i + 6))), (1, .ref xa), (2, .ref G.1), (3, .ref oa), (0, .ref b)] → Rel1 H.size τ σ → H.size ≤ s.heap.size + (c0 + 14000) → slotsOf H ≤ slotsOf s.heap + (k0 + 97000) → W p l e room_1 s m #[Value.ref b] below meth c H locs cells slots Q (F0 m 23 ls []))
    (hl : lv_has ls 7 [(4, .int (nI i)), (1, .ref xa), (2, .ref G.1), (3, .ref oa), (0, .ref b)]) : W p l e room_1 s m #[Value.ref b] below meth c H locs cells slots Q (F0 m 1078 ls []) := by
  have hx := X.1.1
  have hb := X.1.2.1
  have hown := X.1.2.2.2.1
  have hn0 : s.heap.size = n0 := X.2.2.2.1
  refine lv_aload_n hx hb dL_law_1078 rfl (lv_at hl 1 rfl) ?_
  refine lv_aload_n hx hb dL_law_1079 rfl (lv_at hl 4 rfl) ?_
  refine lv_iload hx hb dL_law_1080 (lv_at hl 0 rfl) ?_
  refine lv_iconst (v := 1) hx hb dL_law_1082 (by decide) ?_
  refine lv_iadd hx hb dL_law_1083 ?_
  refine jr_sld (i := i) (k := 1) hx hb hX hbl hn0 hS (nI_add i 1) (by omega) hL dL_law_1084 ?_
  refine lv_aload_n hx hb dL_law_1085 rfl (lv_at hl 4 rfl) ?_
  refine lv_iload hx hb dL_law_1086 (lv_at hl 0 rfl) ?_
  refine lv_iconst (v := 2) hx hb dL_law_1088 (by decide) ?_
  refine lv_iadd hx hb dL_law_1089 ?_
  refine jr_sld (i := i) (k := 2) hx hb hX hbl hn0 hS (nI_add i 2) (by omega) hL dL_law_1090 ?_
  refine lv_aload_n hx hb dL_law_1091 rfl (lv_at hl 3 rfl) ?_
  obtain ⟨w, σ1, r, σ2, hx1, hm1, ht1, hv1, hRn⟩ := hst (xs (i + 1)) (xs (i + 2)) _ (slotsOf H) _ _ hR
  refine jr_wrap (lv := 82) (C := H.size + 14000) (K := slotsOf H + 97000) X hw hS (by omega) (by omega) (show _ ≤ s.heap.size + 928407 by omega) (show _ ≤ slotsOf s.heap + 6316261 by omega) (by decide) (by decide) (met_X0_sound hlT N ((H.size, slotsOf H, H.size + 14000, slotsOf H + 97000), τ) xa (xs (i + 1)) (xs (i + 2)) oa w hx1) q1346 q1347 q114 q1348 cx_X0_sound rfl hl.1 rfl (Nat.le_of_ble_eq_true rfl) dL_law_1092 (fun H locs cells slots hw hS hz hcz hsz => ?_)
  refine lv_istore (lv' := [(5, .int w.2), (4, .int (nI i)), (1, .ref xa), (2, .ref G.1), (3, .ref oa), (0, .ref b)]) hx hb dL_law_1095 hl (by decide) rfl (fun ls hl => ?_)
  refine lv_aload_n hx hb dL_law_1097 rfl (lv_at hl 3 rfl) ?_
  refine lv_aload_n hx hb dL_law_1098 rfl (lv_at hl 5 rfl) ?_
  refine lv_iload hx hb dL_law_1099 (lv_at hl 1 rfl) ?_
  refine lv_iconst (v := 1) hx hb dL_law_1101 (by decide) ?_
  refine lv_iadd hx hb dL_law_1102 ?_
  refine jr_sld (i := i) (k := 1) hx hb hX hbl hn0 hS (nI_add i 1) (by omega) hL dL_law_1103 ?_
  refine lv_aload_n hx hb dL_law_1104 rfl (lv_at hl 5 rfl) ?_
  refine lv_iload hx hb dL_law_1105 (lv_at hl 1 rfl) ?_
  refine lv_iconst (v := 2) hx hb dL_law_1107 (by decide) ?_
  refine lv_iadd hx hb dL_law_1108 ?_
  refine jr_sld (i := i) (k := 2) hx hb hX hbl hn0 hS (nI_add i 2) (by omega) hL dL_law_1109 ?_
  refine jr_mi (lv := 5) X hw hS (show _ ≤ s.heap.size + 928407 by omega) (show _ ≤ slotsOf s.heap + 6316261 by omega) (by decide) (by decide) (met_sound (j_mOk X.2.2.1) N σ (xs (i + 1)) (xs (i + 2)) _ hm1) (lw_V q2080 q2081 q2082 q121 q2083) cy_sound rfl hl.1 rfl (Nat.le_of_ble_eq_true rfl) dL_law_1110 (fun H locs cells slots hw hS hz hsl => ?_)
  refine lv_istore (lv' := [(6, .int r), (5, .int w.2), (4, .int (nI i)), (1, .ref xa), (2, .ref G.1), (3, .ref oa), (0, .ref b)]) hx hb dL_law_1113 hl (by decide) rfl (fun ls hl => ?_)
  refine lv_aload_n hx hb dL_law_1115 rfl (lv_at hl 4 rfl) ?_
  refine jr_mi (lv := 0) X hw hS (show _ ≤ s.heap.size + 928407 by omega) (show _ ≤ slotsOf s.heap + 6316261 by omega) (by decide) (by decide) (met_thrown (j_mOk X.2.2.1) N σ1 _ ht1) (lw_V q1769 q1770 q1771 q121 q1772) cy_thrown rfl hl.1 rfl (Nat.le_of_ble_eq_true rfl) dL_law_1116 (fun H locs cells slots hw hS hz hsl => ?_)
  refine lv_iload hx hb dL_law_1119 (lv_at hl 1 rfl) ?_
  refine lv_icmp_eq (tgt := 1126) hx hb dL_law_1121 (by decide) (fun _ => ?_) (fun z => absurd rfl z)
  refine lv_iload hx hb dL_law_1126 (lv_at hl 1 rfl) ?_
  refine lv_if_ne (tgt := 1143) hx hb dL_law_1128 (by decide) (fun z => ?_) (fun z => ?_)
  · skip
    refine lv_goto (tgt := 2706) hx hb dL_law_1143 (by decide) ?_
    refine lv_iinc (v := nI i + 6) (lv' := [(4, .int (nI i + 6)), (6, .int r), (5, .int w.2), (1, .ref xa), (2, .ref G.1), (3, .ref oa), (0, .ref b)]) hx hb dL_law_2706 hl (k := 2) rfl rfl (by decide) rfl (fun ls hl => ?_)
    refine lv_goto (tgt := 23) hx hb dL_law_2709 (by decide) ?_
    have hl := lv_sub hl [0, 3, 4, 5, 6] rfl
    exact hnext _ _ _ _ _ _ _ hw hS (by rw [← nI_add i 6]; exact hl) (hRn _ (by omega) (fun q e0 hq => by have h9 := (hw.1.1.1 q e0 (by exact hq)).1.lt; exact h9)) (by omega) (by omega)
  · have hv1 := hv1 (by first | exact z | exact Classical.byContradiction z)
    refine lv_aload_n hx hb dL_law_1131 rfl (lv_at hl 5 rfl) ?_
    refine lv_iconst (v := 0) hx hb dL_law_1132 (by decide) ?_
    refine jr_lald (C := 0) (K := 0) X hw rfl (S := w.1) rfl hv1 dL_law_1133 ?_
    refine lv_iload hx hb dL_law_1134 (lv_at hl 0 rfl) ?_
    refine lv_i2l hx hb dL_law_1136 rfl ?_
    refine W.lcmp hx hb dL_law_1137 ?_
    refine lv_if_eq (tgt := 1143) hx hb dL_law_1138 (by decide) (fun _ => ?_) (fun z => absurd (lg_cmp_self _) z)
    refine lv_goto (tgt := 2706) hx hb dL_law_1143 (by decide) ?_
    refine lv_iinc (v := nI i + 6) (lv' := [(4, .int (nI i + 6)), (6, .int r), (5, .int w.2), (1, .ref xa), (2, .ref G.1), (3, .ref oa), (0, .ref b)]) hx hb dL_law_2706 hl (k := 2) rfl rfl (by decide) rfl (fun ls hl => ?_)
    refine lv_goto (tgt := 23) hx hb dL_law_2709 (by decide) ?_
    have hl := lv_sub hl [0, 3, 4, 5, 6] rfl
    exact hnext _ _ _ _ _ _ _ hw hS (by rw [← nI_add i 6]; exact hl) (hRn _ (by omega) (fun q e0 hq => by have h9 := (hw.1.1.1 q e0 (by exact hq)).1.lt; exact h9)) (by omega) (by omega)
theorem law_fallen {p : Program} {l : Launch} {e : Env} {s : State} {m : MethodId} {below : List Frame} {meth : Method} {c : Code} {H : Heap} {locs : List Loc} {cells slots : Nat} {Q : State → Prop} {ls : Array Slot} {g : XC} {D : va_G} {G : MG} {n0 b L i c0 k0 xa oa N : Nat} {xs : Nat → Int32} {τ : XL} {σ : MS} {Rel Rel1 : Nat → XL → MS → Prop} (hlT : l.stackTraces = false) (X : jX g D G n0 "DripCupsLaw" p s m #[Value.ref b] c cL_law 7) (hX : va_X b L xs s s.heap) (hbl : b < s.heap.size) (hi : i + 6 ≤ L) (hL : L ≤ 384) (hst : St_fallen Rel Rel1 g N xa oa) (h1 : H.size ≤ s.heap.size + c0) (h2 : slotsOf H ≤ slotsOf s.heap + k0) (hc0 : c0 + 14000 ≤ 928407) (hk0 : k0 + 97000 ≤ 6316261) (hw : jW g D G n0 τ σ s H) (hS : va_S (fun q => n0 ≤ q) s.heap H locs) (hR : Rel H.size τ σ)
    (hnext : ∀ (H : Heap) (locs : List Loc) (ls : Array Slot) (cells slots : Nat) (τ : XL) (σ : MS), jW g D G n0 τ σ s H → va_S (fun q => n0 ≤ q) s.heap H locs → lv_has ls 7 [(4, .int (nI (i + 6))), (1, .ref xa), (2, .ref G.1), (3, .ref oa), (0, .ref b)] → Rel1 H.size τ σ → H.size ≤ s.heap.size + (c0 + 14000) → slotsOf H ≤ slotsOf s.heap + (k0 + 97000) → W p l e room_1 s m #[Value.ref b] below meth c H locs cells slots Q (F0 m 23 ls []))
    (hl : lv_has ls 7 [(4, .int (nI i)), (1, .ref xa), (2, .ref G.1), (3, .ref oa), (0, .ref b)]) : W p l e room_1 s m #[Value.ref b] below meth c H locs cells slots Q (F0 m 1146 ls []) := by
  have hx := X.1.1
  have hb := X.1.2.1
  have hown := X.1.2.2.2.1
  have hn0 : s.heap.size = n0 := X.2.2.2.1
  refine lv_aload_n hx hb dL_law_1146 rfl (lv_at hl 1 rfl) ?_
  refine lv_aload_n hx hb dL_law_1147 rfl (lv_at hl 4 rfl) ?_
  refine lv_iload hx hb dL_law_1148 (lv_at hl 0 rfl) ?_
  refine lv_iconst (v := 1) hx hb dL_law_1150 (by decide) ?_
  refine lv_iadd hx hb dL_law_1151 ?_
  refine jr_sld (i := i) (k := 1) hx hb hX hbl hn0 hS (nI_add i 1) (by omega) hL dL_law_1152 ?_
  refine lv_aload_n hx hb dL_law_1153 rfl (lv_at hl 4 rfl) ?_
  refine lv_iload hx hb dL_law_1154 (lv_at hl 0 rfl) ?_
  refine lv_iconst (v := 2) hx hb dL_law_1156 (by decide) ?_
  refine lv_iadd hx hb dL_law_1157 ?_
  refine jr_sld (i := i) (k := 2) hx hb hX hbl hn0 hS (nI_add i 2) (by omega) hL dL_law_1158 ?_
  refine lv_aload_n hx hb dL_law_1159 rfl (lv_at hl 3 rfl) ?_
  obtain ⟨w, σ1, r, σ2, hx1, hm1, ht1, hv1, hRn⟩ := hst (xs (i + 1)) (xs (i + 2)) _ (slotsOf H) _ _ hR
  refine jr_wrap (lv := 8) (C := H.size + 14000) (K := slotsOf H + 97000) X hw hS (by omega) (by omega) (show _ ≤ s.heap.size + 928407 by omega) (show _ ≤ slotsOf s.heap + 6316261 by omega) (by decide) (by decide) (met_X0_fallen hlT N ((H.size, slotsOf H, H.size + 14000, slotsOf H + 97000), τ) xa (xs (i + 1)) (xs (i + 2)) oa w hx1) q1359 q1360 q114 q1361 cx_X0_fallen rfl hl.1 rfl (Nat.le_of_ble_eq_true rfl) dL_law_1160 (fun H locs cells slots hw hS hz hcz hsz => ?_)
  refine lv_istore (lv' := [(5, .int w.2), (4, .int (nI i)), (1, .ref xa), (2, .ref G.1), (3, .ref oa), (0, .ref b)]) hx hb dL_law_1163 hl (by decide) rfl (fun ls hl => ?_)
  refine lv_aload_n hx hb dL_law_1165 rfl (lv_at hl 3 rfl) ?_
  refine lv_aload_n hx hb dL_law_1166 rfl (lv_at hl 5 rfl) ?_
  refine lv_iload hx hb dL_law_1167 (lv_at hl 1 rfl) ?_
  refine lv_iconst (v := 1) hx hb dL_law_1169 (by decide) ?_
  refine lv_iadd hx hb dL_law_1170 ?_
  refine jr_sld (i := i) (k := 1) hx hb hX hbl hn0 hS (nI_add i 1) (by omega) hL dL_law_1171 ?_
  refine lv_aload_n hx hb dL_law_1172 rfl (lv_at hl 5 rfl) ?_
  refine lv_iload hx hb dL_law_1173 (lv_at hl 1 rfl) ?_
  refine lv_iconst (v := 2) hx hb dL_law_1175 (by decide) ?_
  refine lv_iadd hx hb dL_law_1176 ?_
  refine jr_sld (i := i) (k := 2) hx hb hX hbl hn0 hS (nI_add i 2) (by omega) hL dL_law_1177 ?_
  refine jr_mi (lv := 2) X hw hS (show _ ≤ s.heap.size + 928407 by omega) (show _ ≤ slotsOf s.heap + 6316261 by omega) (by decide) (by decide) (met_fallen (j_mOk X.2.2.1) N σ (xs (i + 1)) (xs (i + 2)) _ hm1) (lw_V q2111 q2112 q2113 q121 q2114) cy_fallen rfl hl.1 rfl (Nat.le_of_ble_eq_true rfl) dL_law_1178 (fun H locs cells slots hw hS hz hsl => ?_)
  refine lv_istore (lv' := [(6, .int r), (5, .int w.2), (4, .int (nI i)), (1, .ref xa), (2, .ref G.1), (3, .ref oa), (0, .ref b)]) hx hb dL_law_1181 hl (by decide) rfl (fun ls hl => ?_)
  refine lv_aload_n hx hb dL_law_1183 rfl (lv_at hl 4 rfl) ?_
  refine jr_mi (lv := 0) X hw hS (show _ ≤ s.heap.size + 928407 by omega) (show _ ≤ slotsOf s.heap + 6316261 by omega) (by decide) (by decide) (met_thrown (j_mOk X.2.2.1) N σ1 _ ht1) (lw_V q1769 q1770 q1771 q121 q1772) cy_thrown rfl hl.1 rfl (Nat.le_of_ble_eq_true rfl) dL_law_1184 (fun H locs cells slots hw hS hz hsl => ?_)
  refine lv_iload hx hb dL_law_1187 (lv_at hl 1 rfl) ?_
  refine lv_icmp_eq (tgt := 1194) hx hb dL_law_1189 (by decide) (fun _ => ?_) (fun z => absurd rfl z)
  refine lv_iload hx hb dL_law_1194 (lv_at hl 1 rfl) ?_
  refine lv_if_ne (tgt := 1211) hx hb dL_law_1196 (by decide) (fun z => ?_) (fun z => ?_)
  · skip
    refine lv_goto (tgt := 2706) hx hb dL_law_1211 (by decide) ?_
    refine lv_iinc (v := nI i + 6) (lv' := [(4, .int (nI i + 6)), (6, .int r), (5, .int w.2), (1, .ref xa), (2, .ref G.1), (3, .ref oa), (0, .ref b)]) hx hb dL_law_2706 hl (k := 2) rfl rfl (by decide) rfl (fun ls hl => ?_)
    refine lv_goto (tgt := 23) hx hb dL_law_2709 (by decide) ?_
    have hl := lv_sub hl [0, 3, 4, 5, 6] rfl
    exact hnext _ _ _ _ _ _ _ hw hS (by rw [← nI_add i 6]; exact hl) (hRn _ (by omega) (fun q e0 hq => by have h9 := (hw.1.1.1 q e0 (by exact hq)).1.lt; exact h9)) (by omega) (by omega)
  · have hv1 := hv1 (by first | exact z | exact Classical.byContradiction z)
    refine lv_aload_n hx hb dL_law_1199 rfl (lv_at hl 5 rfl) ?_
    refine lv_iconst (v := 0) hx hb dL_law_1200 (by decide) ?_
    refine jr_lald (C := 0) (K := 0) X hw rfl (S := w.1) rfl hv1 dL_law_1201 ?_
    refine lv_iload hx hb dL_law_1202 (lv_at hl 0 rfl) ?_
    refine lv_i2l hx hb dL_law_1204 rfl ?_
    refine W.lcmp hx hb dL_law_1205 ?_
    refine lv_if_eq (tgt := 1211) hx hb dL_law_1206 (by decide) (fun _ => ?_) (fun z => absurd (lg_cmp_self _) z)
    refine lv_goto (tgt := 2706) hx hb dL_law_1211 (by decide) ?_
    refine lv_iinc (v := nI i + 6) (lv' := [(4, .int (nI i + 6)), (6, .int r), (5, .int w.2), (1, .ref xa), (2, .ref G.1), (3, .ref oa), (0, .ref b)]) hx hb dL_law_2706 hl (k := 2) rfl rfl (by decide) rfl (fun ls hl => ?_)
    refine lv_goto (tgt := 23) hx hb dL_law_2709 (by decide) ?_
    have hl := lv_sub hl [0, 3, 4, 5, 6] rfl
    exact hnext _ _ _ _ _ _ _ hw hS (by rw [← nI_add i 6]; exact hl) (hRn _ (by omega) (fun q e0 hq => by have h9 := (hw.1.1.1 q e0 (by exact hq)).1.lt; exact h9)) (by omega) (by omega)
theorem law_nth {p : Program} {l : Launch} {e : Env} {s : State} {m : MethodId} {below : List Frame} {meth : Method} {c : Code} {H : Heap} {locs : List Loc} {cells slots : Nat} {Q : State → Prop} {ls : Array Slot} {g : XC} {D : va_G} {G : MG} {n0 b L i c0 k0 xa oa N : Nat} {xs : Nat → Int32} {τ : XL} {σ : MS} {Rel Rel1 : Nat → XL → MS → Prop} (hlT : l.stackTraces = false) (X : jX g D G n0 "DripCupsLaw" p s m #[Value.ref b] c cL_law 7) (hX : va_X b L xs s s.heap) (hbl : b < s.heap.size) (hi : i + 6 ≤ L) (hL : L ≤ 384) (hst : St_nth Rel Rel1 g N xa oa) (h1 : H.size ≤ s.heap.size + c0) (h2 : slotsOf H ≤ slotsOf s.heap + k0) (hc0 : c0 + 14000 ≤ 928407) (hk0 : k0 + 97000 ≤ 6316261) (hw : jW g D G n0 τ σ s H) (hS : va_S (fun q => n0 ≤ q) s.heap H locs) (hR : Rel H.size τ σ)
    (hnext : ∀ (H : Heap) (locs : List Loc) (ls : Array Slot) (cells slots : Nat) (τ : XL) (σ : MS), jW g D G n0 τ σ s H → va_S (fun q => n0 ≤ q) s.heap H locs → lv_has ls 7 [(4, .int (nI (i + 6))), (1, .ref xa), (2, .ref G.1), (3, .ref oa), (0, .ref b)] → Rel1 H.size τ σ → H.size ≤ s.heap.size + (c0 + 14000) → slotsOf H ≤ slotsOf s.heap + (k0 + 97000) → W p l e room_1 s m #[Value.ref b] below meth c H locs cells slots Q (F0 m 23 ls []))
    (hl : lv_has ls 7 [(4, .int (nI i)), (1, .ref xa), (2, .ref G.1), (3, .ref oa), (0, .ref b)]) : W p l e room_1 s m #[Value.ref b] below meth c H locs cells slots Q (F0 m 1214 ls []) := by
  have hx := X.1.1
  have hb := X.1.2.1
  have hown := X.1.2.2.2.1
  have hn0 : s.heap.size = n0 := X.2.2.2.1
  refine lv_aload_n hx hb dL_law_1214 rfl (lv_at hl 1 rfl) ?_
  refine lv_aload_n hx hb dL_law_1215 rfl (lv_at hl 4 rfl) ?_
  refine lv_iload hx hb dL_law_1216 (lv_at hl 0 rfl) ?_
  refine lv_iconst (v := 1) hx hb dL_law_1218 (by decide) ?_
  refine lv_iadd hx hb dL_law_1219 ?_
  refine jr_sld (i := i) (k := 1) hx hb hX hbl hn0 hS (nI_add i 1) (by omega) hL dL_law_1220 ?_
  refine lv_aload_n hx hb dL_law_1221 rfl (lv_at hl 4 rfl) ?_
  refine lv_iload hx hb dL_law_1222 (lv_at hl 0 rfl) ?_
  refine lv_iconst (v := 2) hx hb dL_law_1224 (by decide) ?_
  refine lv_iadd hx hb dL_law_1225 ?_
  refine jr_sld (i := i) (k := 2) hx hb hX hbl hn0 hS (nI_add i 2) (by omega) hL dL_law_1226 ?_
  refine lv_aload_n hx hb dL_law_1227 rfl (lv_at hl 3 rfl) ?_
  obtain ⟨w, σ1, r, σ2, hx1, hm1, ht1, hv1, hRn⟩ := hst (xs (i + 1)) (xs (i + 2)) _ (slotsOf H) _ _ hR
  refine jr_wrap (lv := 8) (C := H.size + 14000) (K := slotsOf H + 97000) X hw hS (by omega) (by omega) (show _ ≤ s.heap.size + 928407 by omega) (show _ ≤ slotsOf s.heap + 6316261 by omega) (by decide) (by decide) (met_X0_nth hlT N ((H.size, slotsOf H, H.size + 14000, slotsOf H + 97000), τ) xa (xs (i + 1)) (xs (i + 2)) oa w hx1) q1373 q1374 q114 q1375 cx_X0_nth rfl hl.1 rfl (Nat.le_of_ble_eq_true rfl) dL_law_1228 (fun H locs cells slots hw hS hz hcz hsz => ?_)
  refine lv_istore (lv' := [(5, .int w.2), (4, .int (nI i)), (1, .ref xa), (2, .ref G.1), (3, .ref oa), (0, .ref b)]) hx hb dL_law_1231 hl (by decide) rfl (fun ls hl => ?_)
  refine lv_aload_n hx hb dL_law_1233 rfl (lv_at hl 3 rfl) ?_
  refine lv_aload_n hx hb dL_law_1234 rfl (lv_at hl 5 rfl) ?_
  refine lv_iload hx hb dL_law_1235 (lv_at hl 1 rfl) ?_
  refine lv_iconst (v := 1) hx hb dL_law_1237 (by decide) ?_
  refine lv_iadd hx hb dL_law_1238 ?_
  refine jr_sld (i := i) (k := 1) hx hb hX hbl hn0 hS (nI_add i 1) (by omega) hL dL_law_1239 ?_
  refine lv_aload_n hx hb dL_law_1240 rfl (lv_at hl 5 rfl) ?_
  refine lv_iload hx hb dL_law_1241 (lv_at hl 1 rfl) ?_
  refine lv_iconst (v := 2) hx hb dL_law_1243 (by decide) ?_
  refine lv_iadd hx hb dL_law_1244 ?_
  refine jr_sld (i := i) (k := 2) hx hb hX hbl hn0 hS (nI_add i 2) (by omega) hL dL_law_1245 ?_
  refine jr_mi (lv := 2) X hw hS (show _ ≤ s.heap.size + 928407 by omega) (show _ ≤ slotsOf s.heap + 6316261 by omega) (by decide) (by decide) (met_nth (j_mOk X.2.2.1) N σ (xs (i + 1)) (xs (i + 2)) _ hm1) (lw_V q2128 q2129 q2130 q121 q2131) cy_nth rfl hl.1 rfl (Nat.le_of_ble_eq_true rfl) dL_law_1246 (fun H locs cells slots hw hS hz hsl => ?_)
  refine lv_istore (lv' := [(6, .int r), (5, .int w.2), (4, .int (nI i)), (1, .ref xa), (2, .ref G.1), (3, .ref oa), (0, .ref b)]) hx hb dL_law_1249 hl (by decide) rfl (fun ls hl => ?_)
  refine lv_aload_n hx hb dL_law_1251 rfl (lv_at hl 4 rfl) ?_
  refine jr_mi (lv := 0) X hw hS (show _ ≤ s.heap.size + 928407 by omega) (show _ ≤ slotsOf s.heap + 6316261 by omega) (by decide) (by decide) (met_thrown (j_mOk X.2.2.1) N σ1 _ ht1) (lw_V q1769 q1770 q1771 q121 q1772) cy_thrown rfl hl.1 rfl (Nat.le_of_ble_eq_true rfl) dL_law_1252 (fun H locs cells slots hw hS hz hsl => ?_)
  refine lv_iload hx hb dL_law_1255 (lv_at hl 1 rfl) ?_
  refine lv_icmp_eq (tgt := 1262) hx hb dL_law_1257 (by decide) (fun _ => ?_) (fun z => absurd rfl z)
  refine lv_iload hx hb dL_law_1262 (lv_at hl 1 rfl) ?_
  refine lv_if_ne (tgt := 1279) hx hb dL_law_1264 (by decide) (fun z => ?_) (fun z => ?_)
  · skip
    refine lv_goto (tgt := 2706) hx hb dL_law_1279 (by decide) ?_
    refine lv_iinc (v := nI i + 6) (lv' := [(4, .int (nI i + 6)), (6, .int r), (5, .int w.2), (1, .ref xa), (2, .ref G.1), (3, .ref oa), (0, .ref b)]) hx hb dL_law_2706 hl (k := 2) rfl rfl (by decide) rfl (fun ls hl => ?_)
    refine lv_goto (tgt := 23) hx hb dL_law_2709 (by decide) ?_
    have hl := lv_sub hl [0, 3, 4, 5, 6] rfl
    exact hnext _ _ _ _ _ _ _ hw hS (by rw [← nI_add i 6]; exact hl) (hRn _ (by omega) (fun q e0 hq => by have h9 := (hw.1.1.1 q e0 (by exact hq)).1.lt; exact h9)) (by omega) (by omega)
  · have hv1 := hv1 (by first | exact z | exact Classical.byContradiction z)
    refine lv_aload_n hx hb dL_law_1267 rfl (lv_at hl 5 rfl) ?_
    refine lv_iconst (v := 0) hx hb dL_law_1268 (by decide) ?_
    refine jr_lald (C := 0) (K := 0) X hw rfl (S := w.1) rfl hv1 dL_law_1269 ?_
    refine lv_iload hx hb dL_law_1270 (lv_at hl 0 rfl) ?_
    refine lv_i2l hx hb dL_law_1272 rfl ?_
    refine W.lcmp hx hb dL_law_1273 ?_
    refine lv_if_eq (tgt := 1279) hx hb dL_law_1274 (by decide) (fun _ => ?_) (fun z => absurd (lg_cmp_self _) z)
    refine lv_goto (tgt := 2706) hx hb dL_law_1279 (by decide) ?_
    refine lv_iinc (v := nI i + 6) (lv' := [(4, .int (nI i + 6)), (6, .int r), (5, .int w.2), (1, .ref xa), (2, .ref G.1), (3, .ref oa), (0, .ref b)]) hx hb dL_law_2706 hl (k := 2) rfl rfl (by decide) rfl (fun ls hl => ?_)
    refine lv_goto (tgt := 23) hx hb dL_law_2709 (by decide) ?_
    have hl := lv_sub hl [0, 3, 4, 5, 6] rfl
    exact hnext _ _ _ _ _ _ _ hw hS (by rw [← nI_add i 6]; exact hl) (hRn _ (by omega) (fun q e0 hq => by have h9 := (hw.1.1.1 q e0 (by exact hq)).1.lt; exact h9)) (by omega) (by omega)
theorem law_meeting {p : Program} {l : Launch} {e : Env} {s : State} {m : MethodId} {below : List Frame} {meth : Method} {c : Code} {H : Heap} {locs : List Loc} {cells slots : Nat} {Q : State → Prop} {ls : Array Slot} {g : XC} {D : va_G} {G : MG} {n0 b L i c0 k0 xa oa N : Nat} {xs : Nat → Int32} {τ : XL} {σ : MS} {Rel Rel1 : Nat → XL → MS → Prop} (hlT : l.stackTraces = false) (X : jX g D G n0 "DripCupsLaw" p s m #[Value.ref b] c cL_law 7) (hX : va_X b L xs s s.heap) (hbl : b < s.heap.size) (hi : i + 6 ≤ L) (hL : L ≤ 384) (hst : St_meeting Rel Rel1 g N xa oa) (h1 : H.size ≤ s.heap.size + c0) (h2 : slotsOf H ≤ slotsOf s.heap + k0) (hc0 : c0 + 14000 ≤ 928407) (hk0 : k0 + 97000 ≤ 6316261) (hw : jW g D G n0 τ σ s H) (hS : va_S (fun q => n0 ≤ q) s.heap H locs) (hR : Rel H.size τ σ)
    (hnext : ∀ (H : Heap) (locs : List Loc) (ls : Array Slot) (cells slots : Nat) (τ : XL) (σ : MS), jW g D G n0 τ σ s H → va_S (fun q => n0 ≤ q) s.heap H locs → lv_has ls 7 [(4, .int (nI (i + 6))), (1, .ref xa), (2, .ref G.1), (3, .ref oa), (0, .ref b)] → Rel1 H.size τ σ → H.size ≤ s.heap.size + (c0 + 14000) → slotsOf H ≤ slotsOf s.heap + (k0 + 97000) → W p l e room_1 s m #[Value.ref b] below meth c H locs cells slots Q (F0 m 23 ls []))
    (hl : lv_has ls 7 [(4, .int (nI i)), (1, .ref xa), (2, .ref G.1), (3, .ref oa), (0, .ref b)]) : W p l e room_1 s m #[Value.ref b] below meth c H locs cells slots Q (F0 m 1282 ls []) := by
  have hx := X.1.1
  have hb := X.1.2.1
  have hown := X.1.2.2.2.1
  have hn0 : s.heap.size = n0 := X.2.2.2.1
  refine lv_aload_n hx hb dL_law_1282 rfl (lv_at hl 1 rfl) ?_
  refine lv_aload_n hx hb dL_law_1283 rfl (lv_at hl 4 rfl) ?_
  refine lv_iload hx hb dL_law_1284 (lv_at hl 0 rfl) ?_
  refine lv_iconst (v := 1) hx hb dL_law_1286 (by decide) ?_
  refine lv_iadd hx hb dL_law_1287 ?_
  refine jr_sld (i := i) (k := 1) hx hb hX hbl hn0 hS (nI_add i 1) (by omega) hL dL_law_1288 ?_
  refine lv_aload_n hx hb dL_law_1289 rfl (lv_at hl 3 rfl) ?_
  obtain ⟨w, σ1, r, σ2, hx1, hm1, ht1, hv1, hRn⟩ := hst (xs (i + 1)) _ (slotsOf H) _ _ hR
  refine jr_wrap (lv := 83) (C := H.size + 14000) (K := slotsOf H + 97000) X hw hS (by omega) (by omega) (show _ ≤ s.heap.size + 928407 by omega) (show _ ≤ slotsOf s.heap + 6316261 by omega) (by decide) (by decide) (met_X0_meeting hlT N ((H.size, slotsOf H, H.size + 14000, slotsOf H + 97000), τ) xa (xs (i + 1)) oa w hx1) q1382 q1383 q114 q1384 cx_X0_meeting rfl hl.1 rfl (Nat.le_of_ble_eq_true rfl) dL_law_1290 (fun H locs cells slots hw hS hz hcz hsz => ?_)
  refine lv_istore (lv' := [(5, .int w.2), (4, .int (nI i)), (1, .ref xa), (2, .ref G.1), (3, .ref oa), (0, .ref b)]) hx hb dL_law_1293 hl (by decide) rfl (fun ls hl => ?_)
  refine lv_aload_n hx hb dL_law_1295 rfl (lv_at hl 3 rfl) ?_
  refine lv_aload_n hx hb dL_law_1296 rfl (lv_at hl 5 rfl) ?_
  refine lv_iload hx hb dL_law_1297 (lv_at hl 1 rfl) ?_
  refine lv_iconst (v := 1) hx hb dL_law_1299 (by decide) ?_
  refine lv_iadd hx hb dL_law_1300 ?_
  refine jr_sld (i := i) (k := 1) hx hb hX hbl hn0 hS (nI_add i 1) (by omega) hL dL_law_1301 ?_
  refine jr_mi (lv := 2) X hw hS (show _ ≤ s.heap.size + 928407 by omega) (show _ ≤ slotsOf s.heap + 6316261 by omega) (by decide) (by decide) (met_meeting (j_mOk X.2.2.1) N σ (xs (i + 1)) _ hm1) (lw_V q2134 q2135 q2136 q121 q2137) cy_meeting rfl hl.1 rfl (Nat.le_of_ble_eq_true rfl) dL_law_1302 (fun H locs cells slots hw hS hz hsl => ?_)
  refine lv_istore (lv' := [(6, .int r), (5, .int w.2), (4, .int (nI i)), (1, .ref xa), (2, .ref G.1), (3, .ref oa), (0, .ref b)]) hx hb dL_law_1305 hl (by decide) rfl (fun ls hl => ?_)
  refine lv_aload_n hx hb dL_law_1307 rfl (lv_at hl 4 rfl) ?_
  refine jr_mi (lv := 0) X hw hS (show _ ≤ s.heap.size + 928407 by omega) (show _ ≤ slotsOf s.heap + 6316261 by omega) (by decide) (by decide) (met_thrown (j_mOk X.2.2.1) N σ1 _ ht1) (lw_V q1769 q1770 q1771 q121 q1772) cy_thrown rfl hl.1 rfl (Nat.le_of_ble_eq_true rfl) dL_law_1308 (fun H locs cells slots hw hS hz hsl => ?_)
  refine lv_iload hx hb dL_law_1311 (lv_at hl 1 rfl) ?_
  refine lv_icmp_eq (tgt := 1318) hx hb dL_law_1313 (by decide) (fun _ => ?_) (fun z => absurd rfl z)
  refine lv_iload hx hb dL_law_1318 (lv_at hl 1 rfl) ?_
  refine lv_if_ne (tgt := 1335) hx hb dL_law_1320 (by decide) (fun z => ?_) (fun z => ?_)
  · skip
    refine lv_goto (tgt := 2706) hx hb dL_law_1335 (by decide) ?_
    refine lv_iinc (v := nI i + 6) (lv' := [(4, .int (nI i + 6)), (6, .int r), (5, .int w.2), (1, .ref xa), (2, .ref G.1), (3, .ref oa), (0, .ref b)]) hx hb dL_law_2706 hl (k := 2) rfl rfl (by decide) rfl (fun ls hl => ?_)
    refine lv_goto (tgt := 23) hx hb dL_law_2709 (by decide) ?_
    have hl := lv_sub hl [0, 3, 4, 5, 6] rfl
    exact hnext _ _ _ _ _ _ _ hw hS (by rw [← nI_add i 6]; exact hl) (hRn _ (by omega) (fun q e0 hq => by have h9 := (hw.1.1.1 q e0 (by exact hq)).1.lt; exact h9)) (by omega) (by omega)
  · have hv1 := hv1 (by first | exact z | exact Classical.byContradiction z)
    refine lv_aload_n hx hb dL_law_1323 rfl (lv_at hl 5 rfl) ?_
    refine lv_iconst (v := 0) hx hb dL_law_1324 (by decide) ?_
    refine jr_lald (C := 0) (K := 0) X hw rfl (S := w.1) rfl hv1 dL_law_1325 ?_
    refine lv_iload hx hb dL_law_1326 (lv_at hl 0 rfl) ?_
    refine lv_i2l hx hb dL_law_1328 rfl ?_
    refine W.lcmp hx hb dL_law_1329 ?_
    refine lv_if_eq (tgt := 1335) hx hb dL_law_1330 (by decide) (fun _ => ?_) (fun z => absurd (lg_cmp_self _) z)
    refine lv_goto (tgt := 2706) hx hb dL_law_1335 (by decide) ?_
    refine lv_iinc (v := nI i + 6) (lv' := [(4, .int (nI i + 6)), (6, .int r), (5, .int w.2), (1, .ref xa), (2, .ref G.1), (3, .ref oa), (0, .ref b)]) hx hb dL_law_2706 hl (k := 2) rfl rfl (by decide) rfl (fun ls hl => ?_)
    refine lv_goto (tgt := 23) hx hb dL_law_2709 (by decide) ?_
    have hl := lv_sub hl [0, 3, 4, 5, 6] rfl
    exact hnext _ _ _ _ _ _ _ hw hS (by rw [← nI_add i 6]; exact hl) (hRn _ (by omega) (fun q e0 hq => by have h9 := (hw.1.1.1 q e0 (by exact hq)).1.lt; exact h9)) (by omega) (by omega)
theorem law_flow {p : Program} {l : Launch} {e : Env} {s : State} {m : MethodId} {below : List Frame} {meth : Method} {c : Code} {H : Heap} {locs : List Loc} {cells slots : Nat} {Q : State → Prop} {ls : Array Slot} {g : XC} {D : va_G} {G : MG} {n0 b L i c0 k0 xa oa N : Nat} {xs : Nat → Int32} {τ : XL} {σ : MS} {Rel Rel1 : Nat → XL → MS → Prop} (hlT : l.stackTraces = false) (X : jX g D G n0 "DripCupsLaw" p s m #[Value.ref b] c cL_law 7) (hX : va_X b L xs s s.heap) (hbl : b < s.heap.size) (hi : i + 6 ≤ L) (hL : L ≤ 384) (hst : St_flow Rel Rel1 g N xa oa) (h1 : H.size ≤ s.heap.size + c0) (h2 : slotsOf H ≤ slotsOf s.heap + k0) (hc0 : c0 + 14000 ≤ 928407) (hk0 : k0 + 97000 ≤ 6316261) (hw : jW g D G n0 τ σ s H) (hS : va_S (fun q => n0 ≤ q) s.heap H locs) (hR : Rel H.size τ σ)
    (hnext : ∀ (H : Heap) (locs : List Loc) (ls : Array Slot) (cells slots : Nat) (τ : XL) (σ : MS), jW g D G n0 τ σ s H → va_S (fun q => n0 ≤ q) s.heap H locs → lv_has ls 7 [(4, .int (nI (i + 6))), (1, .ref xa), (2, .ref G.1), (3, .ref oa), (0, .ref b)] → Rel1 H.size τ σ → H.size ≤ s.heap.size + (c0 + 14000) → slotsOf H ≤ slotsOf s.heap + (k0 + 97000) → W p l e room_1 s m #[Value.ref b] below meth c H locs cells slots Q (F0 m 23 ls []))
    (hl : lv_has ls 7 [(4, .int (nI i)), (1, .ref xa), (2, .ref G.1), (3, .ref oa), (0, .ref b)]) : W p l e room_1 s m #[Value.ref b] below meth c H locs cells slots Q (F0 m 1338 ls []) := by
  have hx := X.1.1
  have hb := X.1.2.1
  have hown := X.1.2.2.2.1
  have hn0 : s.heap.size = n0 := X.2.2.2.1
  refine lv_aload_n hx hb dL_law_1338 rfl (lv_at hl 1 rfl) ?_
  refine lv_aload_n hx hb dL_law_1339 rfl (lv_at hl 4 rfl) ?_
  refine lv_iload hx hb dL_law_1340 (lv_at hl 0 rfl) ?_
  refine lv_iconst (v := 1) hx hb dL_law_1342 (by decide) ?_
  refine lv_iadd hx hb dL_law_1343 ?_
  refine jr_sld (i := i) (k := 1) hx hb hX hbl hn0 hS (nI_add i 1) (by omega) hL dL_law_1344 ?_
  refine lv_aload_n hx hb dL_law_1345 rfl (lv_at hl 4 rfl) ?_
  refine lv_iload hx hb dL_law_1346 (lv_at hl 0 rfl) ?_
  refine lv_iconst (v := 2) hx hb dL_law_1348 (by decide) ?_
  refine lv_iadd hx hb dL_law_1349 ?_
  refine jr_sld (i := i) (k := 2) hx hb hX hbl hn0 hS (nI_add i 2) (by omega) hL dL_law_1350 ?_
  refine lv_aload_n hx hb dL_law_1351 rfl (lv_at hl 3 rfl) ?_
  obtain ⟨w, σ1, r, σ2, hx1, hm1, ht1, hv1, hRn⟩ := hst (xs (i + 1)) (xs (i + 2)) _ (slotsOf H) _ _ hR
  refine jr_wrap (lv := 8) (C := H.size + 14000) (K := slotsOf H + 97000) X hw hS (by omega) (by omega) (show _ ≤ s.heap.size + 928407 by omega) (show _ ≤ slotsOf s.heap + 6316261 by omega) (by decide) (by decide) (met_X0_flow hlT N ((H.size, slotsOf H, H.size + 14000, slotsOf H + 97000), τ) xa (xs (i + 1)) (xs (i + 2)) oa w hx1) q1393 q1394 q114 q1395 cx_X0_flow rfl hl.1 rfl (Nat.le_of_ble_eq_true rfl) dL_law_1352 (fun H locs cells slots hw hS hz hcz hsz => ?_)
  refine lv_istore (lv' := [(5, .int w.2), (4, .int (nI i)), (1, .ref xa), (2, .ref G.1), (3, .ref oa), (0, .ref b)]) hx hb dL_law_1355 hl (by decide) rfl (fun ls hl => ?_)
  refine lv_aload_n hx hb dL_law_1357 rfl (lv_at hl 3 rfl) ?_
  refine lv_aload_n hx hb dL_law_1358 rfl (lv_at hl 5 rfl) ?_
  refine lv_iload hx hb dL_law_1359 (lv_at hl 1 rfl) ?_
  refine lv_iconst (v := 1) hx hb dL_law_1361 (by decide) ?_
  refine lv_iadd hx hb dL_law_1362 ?_
  refine jr_sld (i := i) (k := 1) hx hb hX hbl hn0 hS (nI_add i 1) (by omega) hL dL_law_1363 ?_
  refine lv_aload_n hx hb dL_law_1364 rfl (lv_at hl 5 rfl) ?_
  refine lv_iload hx hb dL_law_1365 (lv_at hl 1 rfl) ?_
  refine lv_iconst (v := 2) hx hb dL_law_1367 (by decide) ?_
  refine lv_iadd hx hb dL_law_1368 ?_
  refine jr_sld (i := i) (k := 2) hx hb hX hbl hn0 hS (nI_add i 2) (by omega) hL dL_law_1369 ?_
  refine jr_mi (lv := 2) X hw hS (show _ ≤ s.heap.size + 928407 by omega) (show _ ≤ slotsOf s.heap + 6316261 by omega) (by decide) (by decide) (met_flow (j_mOk X.2.2.1) N σ (xs (i + 1)) (xs (i + 2)) _ hm1) (lw_V q2124 q2125 q2126 q121 q2127) cy_flow rfl hl.1 rfl (Nat.le_of_ble_eq_true rfl) dL_law_1370 (fun H locs cells slots hw hS hz hsl => ?_)
  refine lv_istore (lv' := [(6, .int r), (5, .int w.2), (4, .int (nI i)), (1, .ref xa), (2, .ref G.1), (3, .ref oa), (0, .ref b)]) hx hb dL_law_1373 hl (by decide) rfl (fun ls hl => ?_)
  refine lv_aload_n hx hb dL_law_1375 rfl (lv_at hl 4 rfl) ?_
  refine jr_mi (lv := 0) X hw hS (show _ ≤ s.heap.size + 928407 by omega) (show _ ≤ slotsOf s.heap + 6316261 by omega) (by decide) (by decide) (met_thrown (j_mOk X.2.2.1) N σ1 _ ht1) (lw_V q1769 q1770 q1771 q121 q1772) cy_thrown rfl hl.1 rfl (Nat.le_of_ble_eq_true rfl) dL_law_1376 (fun H locs cells slots hw hS hz hsl => ?_)
  refine lv_iload hx hb dL_law_1379 (lv_at hl 1 rfl) ?_
  refine lv_icmp_eq (tgt := 1386) hx hb dL_law_1381 (by decide) (fun _ => ?_) (fun z => absurd rfl z)
  refine lv_iload hx hb dL_law_1386 (lv_at hl 1 rfl) ?_
  refine lv_if_ne (tgt := 1403) hx hb dL_law_1388 (by decide) (fun z => ?_) (fun z => ?_)
  · skip
    refine lv_goto (tgt := 2706) hx hb dL_law_1403 (by decide) ?_
    refine lv_iinc (v := nI i + 6) (lv' := [(4, .int (nI i + 6)), (6, .int r), (5, .int w.2), (1, .ref xa), (2, .ref G.1), (3, .ref oa), (0, .ref b)]) hx hb dL_law_2706 hl (k := 2) rfl rfl (by decide) rfl (fun ls hl => ?_)
    refine lv_goto (tgt := 23) hx hb dL_law_2709 (by decide) ?_
    have hl := lv_sub hl [0, 3, 4, 5, 6] rfl
    exact hnext _ _ _ _ _ _ _ hw hS (by rw [← nI_add i 6]; exact hl) (hRn _ (by omega) (fun q e0 hq => by have h9 := (hw.1.1.1 q e0 (by exact hq)).1.lt; exact h9)) (by omega) (by omega)
  · have hv1 := hv1 (by first | exact z | exact Classical.byContradiction z)
    refine lv_aload_n hx hb dL_law_1391 rfl (lv_at hl 5 rfl) ?_
    refine lv_iconst (v := 0) hx hb dL_law_1392 (by decide) ?_
    refine jr_lald (C := 0) (K := 0) X hw rfl (S := w.1) rfl hv1 dL_law_1393 ?_
    refine lv_iload hx hb dL_law_1394 (lv_at hl 0 rfl) ?_
    refine lv_i2l hx hb dL_law_1396 rfl ?_
    refine W.lcmp hx hb dL_law_1397 ?_
    refine lv_if_eq (tgt := 1403) hx hb dL_law_1398 (by decide) (fun _ => ?_) (fun z => absurd (lg_cmp_self _) z)
    refine lv_goto (tgt := 2706) hx hb dL_law_1403 (by decide) ?_
    refine lv_iinc (v := nI i + 6) (lv' := [(4, .int (nI i + 6)), (6, .int r), (5, .int w.2), (1, .ref xa), (2, .ref G.1), (3, .ref oa), (0, .ref b)]) hx hb dL_law_2706 hl (k := 2) rfl rfl (by decide) rfl (fun ls hl => ?_)
    refine lv_goto (tgt := 23) hx hb dL_law_2709 (by decide) ?_
    have hl := lv_sub hl [0, 3, 4, 5, 6] rfl
    exact hnext _ _ _ _ _ _ _ hw hS (by rw [← nI_add i 6]; exact hl) (hRn _ (by omega) (fun q e0 hq => by have h9 := (hw.1.1.1 q e0 (by exact hq)).1.lt; exact h9)) (by omega) (by omega)
theorem law_tier {p : Program} {l : Launch} {e : Env} {s : State} {m : MethodId} {below : List Frame} {meth : Method} {c : Code} {H : Heap} {locs : List Loc} {cells slots : Nat} {Q : State → Prop} {ls : Array Slot} {g : XC} {D : va_G} {G : MG} {n0 b L i c0 k0 xa oa N : Nat} {xs : Nat → Int32} {τ : XL} {σ : MS} {Rel Rel1 : Nat → XL → MS → Prop} (hlT : l.stackTraces = false) (X : jX g D G n0 "DripCupsLaw" p s m #[Value.ref b] c cL_law 7) (hX : va_X b L xs s s.heap) (hbl : b < s.heap.size) (hi : i + 6 ≤ L) (hL : L ≤ 384) (hst : St_tier Rel Rel1 g N xa oa) (h1 : H.size ≤ s.heap.size + c0) (h2 : slotsOf H ≤ slotsOf s.heap + k0) (hc0 : c0 + 14000 ≤ 928407) (hk0 : k0 + 97000 ≤ 6316261) (hw : jW g D G n0 τ σ s H) (hS : va_S (fun q => n0 ≤ q) s.heap H locs) (hR : Rel H.size τ σ)
    (hnext : ∀ (H : Heap) (locs : List Loc) (ls : Array Slot) (cells slots : Nat) (τ : XL) (σ : MS), jW g D G n0 τ σ s H → va_S (fun q => n0 ≤ q) s.heap H locs → lv_has ls 7 [(4, .int (nI (i + 6))), (1, .ref xa), (2, .ref G.1), (3, .ref oa), (0, .ref b)] → Rel1 H.size τ σ → H.size ≤ s.heap.size + (c0 + 14000) → slotsOf H ≤ slotsOf s.heap + (k0 + 97000) → W p l e room_1 s m #[Value.ref b] below meth c H locs cells slots Q (F0 m 23 ls []))
    (hl : lv_has ls 7 [(4, .int (nI i)), (1, .ref xa), (2, .ref G.1), (3, .ref oa), (0, .ref b)]) : W p l e room_1 s m #[Value.ref b] below meth c H locs cells slots Q (F0 m 1406 ls []) := by
  have hx := X.1.1
  have hb := X.1.2.1
  have hown := X.1.2.2.2.1
  have hn0 : s.heap.size = n0 := X.2.2.2.1
  refine lv_aload_n hx hb dL_law_1406 rfl (lv_at hl 1 rfl) ?_
  refine lv_aload_n hx hb dL_law_1407 rfl (lv_at hl 4 rfl) ?_
  refine lv_iload hx hb dL_law_1408 (lv_at hl 0 rfl) ?_
  refine lv_iconst (v := 1) hx hb dL_law_1410 (by decide) ?_
  refine lv_iadd hx hb dL_law_1411 ?_
  refine jr_sld (i := i) (k := 1) hx hb hX hbl hn0 hS (nI_add i 1) (by omega) hL dL_law_1412 ?_
  refine lv_aload_n hx hb dL_law_1413 rfl (lv_at hl 4 rfl) ?_
  refine lv_iload hx hb dL_law_1414 (lv_at hl 0 rfl) ?_
  refine lv_iconst (v := 2) hx hb dL_law_1416 (by decide) ?_
  refine lv_iadd hx hb dL_law_1417 ?_
  refine jr_sld (i := i) (k := 2) hx hb hX hbl hn0 hS (nI_add i 2) (by omega) hL dL_law_1418 ?_
  refine lv_aload_n hx hb dL_law_1419 rfl (lv_at hl 3 rfl) ?_
  obtain ⟨w, σ1, r, σ2, hx1, hm1, ht1, hv1, hRn⟩ := hst (xs (i + 1)) (xs (i + 2)) _ (slotsOf H) _ _ hR
  refine jr_wrap (lv := 8) (C := H.size + 14000) (K := slotsOf H + 97000) X hw hS (by omega) (by omega) (show _ ≤ s.heap.size + 928407 by omega) (show _ ≤ slotsOf s.heap + 6316261 by omega) (by decide) (by decide) (met_X0_tier hlT N ((H.size, slotsOf H, H.size + 14000, slotsOf H + 97000), τ) xa (xs (i + 1)) (xs (i + 2)) oa w hx1) q1400 q1401 q114 q1402 cx_X0_tier rfl hl.1 rfl (Nat.le_of_ble_eq_true rfl) dL_law_1420 (fun H locs cells slots hw hS hz hcz hsz => ?_)
  refine lv_istore (lv' := [(5, .int w.2), (4, .int (nI i)), (1, .ref xa), (2, .ref G.1), (3, .ref oa), (0, .ref b)]) hx hb dL_law_1423 hl (by decide) rfl (fun ls hl => ?_)
  refine lv_aload_n hx hb dL_law_1425 rfl (lv_at hl 3 rfl) ?_
  refine lv_aload_n hx hb dL_law_1426 rfl (lv_at hl 5 rfl) ?_
  refine lv_iload hx hb dL_law_1427 (lv_at hl 1 rfl) ?_
  refine lv_iconst (v := 1) hx hb dL_law_1429 (by decide) ?_
  refine lv_iadd hx hb dL_law_1430 ?_
  refine jr_sld (i := i) (k := 1) hx hb hX hbl hn0 hS (nI_add i 1) (by omega) hL dL_law_1431 ?_
  refine lv_aload_n hx hb dL_law_1432 rfl (lv_at hl 5 rfl) ?_
  refine lv_iload hx hb dL_law_1433 (lv_at hl 1 rfl) ?_
  refine lv_iconst (v := 2) hx hb dL_law_1435 (by decide) ?_
  refine lv_iadd hx hb dL_law_1436 ?_
  refine jr_sld (i := i) (k := 2) hx hb hX hbl hn0 hS (nI_add i 2) (by omega) hL dL_law_1437 ?_
  refine jr_mi (lv := 2) X hw hS (show _ ≤ s.heap.size + 928407 by omega) (show _ ≤ slotsOf s.heap + 6316261 by omega) (by decide) (by decide) (met_tier (j_mOk X.2.2.1) N σ (xs (i + 1)) (xs (i + 2)) _ hm1) (lw_V q2142 q2143 q2144 q121 q2145) cy_tier rfl hl.1 rfl (Nat.le_of_ble_eq_true rfl) dL_law_1438 (fun H locs cells slots hw hS hz hsl => ?_)
  refine lv_istore (lv' := [(6, .int r), (5, .int w.2), (4, .int (nI i)), (1, .ref xa), (2, .ref G.1), (3, .ref oa), (0, .ref b)]) hx hb dL_law_1441 hl (by decide) rfl (fun ls hl => ?_)
  refine lv_aload_n hx hb dL_law_1443 rfl (lv_at hl 4 rfl) ?_
  refine jr_mi (lv := 0) X hw hS (show _ ≤ s.heap.size + 928407 by omega) (show _ ≤ slotsOf s.heap + 6316261 by omega) (by decide) (by decide) (met_thrown (j_mOk X.2.2.1) N σ1 _ ht1) (lw_V q1769 q1770 q1771 q121 q1772) cy_thrown rfl hl.1 rfl (Nat.le_of_ble_eq_true rfl) dL_law_1444 (fun H locs cells slots hw hS hz hsl => ?_)
  refine lv_iload hx hb dL_law_1447 (lv_at hl 1 rfl) ?_
  refine lv_icmp_eq (tgt := 1454) hx hb dL_law_1449 (by decide) (fun _ => ?_) (fun z => absurd rfl z)
  refine lv_iload hx hb dL_law_1454 (lv_at hl 1 rfl) ?_
  refine lv_if_ne (tgt := 1471) hx hb dL_law_1456 (by decide) (fun z => ?_) (fun z => ?_)
  · skip
    refine lv_goto (tgt := 2706) hx hb dL_law_1471 (by decide) ?_
    refine lv_iinc (v := nI i + 6) (lv' := [(4, .int (nI i + 6)), (6, .int r), (5, .int w.2), (1, .ref xa), (2, .ref G.1), (3, .ref oa), (0, .ref b)]) hx hb dL_law_2706 hl (k := 2) rfl rfl (by decide) rfl (fun ls hl => ?_)
    refine lv_goto (tgt := 23) hx hb dL_law_2709 (by decide) ?_
    have hl := lv_sub hl [0, 3, 4, 5, 6] rfl
    exact hnext _ _ _ _ _ _ _ hw hS (by rw [← nI_add i 6]; exact hl) (hRn _ (by omega) (fun q e0 hq => by have h9 := (hw.1.1.1 q e0 (by exact hq)).1.lt; exact h9)) (by omega) (by omega)
  · have hv1 := hv1 (by first | exact z | exact Classical.byContradiction z)
    refine lv_aload_n hx hb dL_law_1459 rfl (lv_at hl 5 rfl) ?_
    refine lv_iconst (v := 0) hx hb dL_law_1460 (by decide) ?_
    refine jr_lald (C := 0) (K := 0) X hw rfl (S := w.1) rfl hv1 dL_law_1461 ?_
    refine lv_iload hx hb dL_law_1462 (lv_at hl 0 rfl) ?_
    refine lv_i2l hx hb dL_law_1464 rfl ?_
    refine W.lcmp hx hb dL_law_1465 ?_
    refine lv_if_eq (tgt := 1471) hx hb dL_law_1466 (by decide) (fun _ => ?_) (fun z => absurd (lg_cmp_self _) z)
    refine lv_goto (tgt := 2706) hx hb dL_law_1471 (by decide) ?_
    refine lv_iinc (v := nI i + 6) (lv' := [(4, .int (nI i + 6)), (6, .int r), (5, .int w.2), (1, .ref xa), (2, .ref G.1), (3, .ref oa), (0, .ref b)]) hx hb dL_law_2706 hl (k := 2) rfl rfl (by decide) rfl (fun ls hl => ?_)
    refine lv_goto (tgt := 23) hx hb dL_law_2709 (by decide) ?_
    have hl := lv_sub hl [0, 3, 4, 5, 6] rfl
    exact hnext _ _ _ _ _ _ _ hw hS (by rw [← nI_add i 6]; exact hl) (hRn _ (by omega) (fun q e0 hq => by have h9 := (hw.1.1.1 q e0 (by exact hq)).1.lt; exact h9)) (by omega) (by omega)
theorem law_toCrack {p : Program} {l : Launch} {e : Env} {s : State} {m : MethodId} {below : List Frame} {meth : Method} {c : Code} {H : Heap} {locs : List Loc} {cells slots : Nat} {Q : State → Prop} {ls : Array Slot} {g : XC} {D : va_G} {G : MG} {n0 b L i c0 k0 xa oa N : Nat} {xs : Nat → Int32} {τ : XL} {σ : MS} {Rel Rel1 : Nat → XL → MS → Prop} (hlT : l.stackTraces = false) (X : jX g D G n0 "DripCupsLaw" p s m #[Value.ref b] c cL_law 7) (hX : va_X b L xs s s.heap) (hbl : b < s.heap.size) (hi : i + 6 ≤ L) (hL : L ≤ 384) (hst : St_toCrack Rel Rel1 g N xa oa) (h1 : H.size ≤ s.heap.size + c0) (h2 : slotsOf H ≤ slotsOf s.heap + k0) (hc0 : c0 + 14000 ≤ 928407) (hk0 : k0 + 97000 ≤ 6316261) (hw : jW g D G n0 τ σ s H) (hS : va_S (fun q => n0 ≤ q) s.heap H locs) (hR : Rel H.size τ σ)
    (hnext : ∀ (H : Heap) (locs : List Loc) (ls : Array Slot) (cells slots : Nat) (τ : XL) (σ : MS), jW g D G n0 τ σ s H → va_S (fun q => n0 ≤ q) s.heap H locs → lv_has ls 7 [(4, .int (nI (i + 6))), (1, .ref xa), (2, .ref G.1), (3, .ref oa), (0, .ref b)] → Rel1 H.size τ σ → H.size ≤ s.heap.size + (c0 + 14000) → slotsOf H ≤ slotsOf s.heap + (k0 + 97000) → W p l e room_1 s m #[Value.ref b] below meth c H locs cells slots Q (F0 m 23 ls []))
    (hl : lv_has ls 7 [(4, .int (nI i)), (1, .ref xa), (2, .ref G.1), (3, .ref oa), (0, .ref b)]) : W p l e room_1 s m #[Value.ref b] below meth c H locs cells slots Q (F0 m 1474 ls []) := by
  have hx := X.1.1
  have hb := X.1.2.1
  have hown := X.1.2.2.2.1
  have hn0 : s.heap.size = n0 := X.2.2.2.1
  refine lv_aload_n hx hb dL_law_1474 rfl (lv_at hl 1 rfl) ?_
  refine lv_aload_n hx hb dL_law_1475 rfl (lv_at hl 4 rfl) ?_
  refine lv_iload hx hb dL_law_1476 (lv_at hl 0 rfl) ?_
  refine lv_iconst (v := 1) hx hb dL_law_1478 (by decide) ?_
  refine lv_iadd hx hb dL_law_1479 ?_
  refine jr_sld (i := i) (k := 1) hx hb hX hbl hn0 hS (nI_add i 1) (by omega) hL dL_law_1480 ?_
  refine lv_aload_n hx hb dL_law_1481 rfl (lv_at hl 4 rfl) ?_
  refine lv_iload hx hb dL_law_1482 (lv_at hl 0 rfl) ?_
  refine lv_iconst (v := 2) hx hb dL_law_1484 (by decide) ?_
  refine lv_iadd hx hb dL_law_1485 ?_
  refine jr_sld (i := i) (k := 2) hx hb hX hbl hn0 hS (nI_add i 2) (by omega) hL dL_law_1486 ?_
  refine lv_aload_n hx hb dL_law_1487 rfl (lv_at hl 4 rfl) ?_
  refine lv_iload hx hb dL_law_1488 (lv_at hl 0 rfl) ?_
  refine lv_iconst (v := 3) hx hb dL_law_1490 (by decide) ?_
  refine lv_iadd hx hb dL_law_1491 ?_
  refine jr_sld (i := i) (k := 3) hx hb hX hbl hn0 hS (nI_add i 3) (by omega) hL dL_law_1492 ?_
  refine lv_aload_n hx hb dL_law_1493 rfl (lv_at hl 4 rfl) ?_
  refine lv_iload hx hb dL_law_1494 (lv_at hl 0 rfl) ?_
  refine lv_iconst (v := 4) hx hb dL_law_1496 (by decide) ?_
  refine lv_iadd hx hb dL_law_1497 ?_
  refine jr_sld (i := i) (k := 4) hx hb hX hbl hn0 hS (nI_add i 4) (by omega) hL dL_law_1498 ?_
  refine lv_aload_n hx hb dL_law_1499 rfl (lv_at hl 3 rfl) ?_
  obtain ⟨w, σ1, r, σ2, hx1, hm1, ht1, hv1, hRn⟩ := hst (xs (i + 1)) (xs (i + 2)) (xs (i + 3)) (xs (i + 4)) _ (slotsOf H) _ _ hR
  refine jr_wrap (lv := 83) (C := H.size + 14000) (K := slotsOf H + 97000) X hw hS (by omega) (by omega) (show _ ≤ s.heap.size + 928407 by omega) (show _ ≤ slotsOf s.heap + 6316261 by omega) (by decide) (by decide) (met_X0_toCrack hlT N ((H.size, slotsOf H, H.size + 14000, slotsOf H + 97000), τ) xa (xs (i + 1)) (xs (i + 2)) (xs (i + 3)) (xs (i + 4)) oa w hx1) q1407 q1408 q114 q1409 cx_X0_toCrack rfl hl.1 rfl (Nat.le_of_ble_eq_true rfl) dL_law_1500 (fun H locs cells slots hw hS hz hcz hsz => ?_)
  refine lv_istore (lv' := [(5, .int w.2), (4, .int (nI i)), (1, .ref xa), (2, .ref G.1), (3, .ref oa), (0, .ref b)]) hx hb dL_law_1503 hl (by decide) rfl (fun ls hl => ?_)
  refine lv_aload_n hx hb dL_law_1505 rfl (lv_at hl 3 rfl) ?_
  refine lv_aload_n hx hb dL_law_1506 rfl (lv_at hl 5 rfl) ?_
  refine lv_iload hx hb dL_law_1507 (lv_at hl 1 rfl) ?_
  refine lv_iconst (v := 1) hx hb dL_law_1509 (by decide) ?_
  refine lv_iadd hx hb dL_law_1510 ?_
  refine jr_sld (i := i) (k := 1) hx hb hX hbl hn0 hS (nI_add i 1) (by omega) hL dL_law_1511 ?_
  refine lv_aload_n hx hb dL_law_1512 rfl (lv_at hl 5 rfl) ?_
  refine lv_iload hx hb dL_law_1513 (lv_at hl 1 rfl) ?_
  refine lv_iconst (v := 2) hx hb dL_law_1515 (by decide) ?_
  refine lv_iadd hx hb dL_law_1516 ?_
  refine jr_sld (i := i) (k := 2) hx hb hX hbl hn0 hS (nI_add i 2) (by omega) hL dL_law_1517 ?_
  refine lv_aload_n hx hb dL_law_1518 rfl (lv_at hl 5 rfl) ?_
  refine lv_iload hx hb dL_law_1519 (lv_at hl 1 rfl) ?_
  refine lv_iconst (v := 3) hx hb dL_law_1521 (by decide) ?_
  refine lv_iadd hx hb dL_law_1522 ?_
  refine jr_sld (i := i) (k := 3) hx hb hX hbl hn0 hS (nI_add i 3) (by omega) hL dL_law_1523 ?_
  refine lv_aload_n hx hb dL_law_1524 rfl (lv_at hl 5 rfl) ?_
  refine lv_iload hx hb dL_law_1525 (lv_at hl 1 rfl) ?_
  refine lv_iconst (v := 4) hx hb dL_law_1527 (by decide) ?_
  refine lv_iadd hx hb dL_law_1528 ?_
  refine jr_sld (i := i) (k := 4) hx hb hX hbl hn0 hS (nI_add i 4) (by omega) hL dL_law_1529 ?_
  refine jr_mi (lv := 5) X hw hS (show _ ≤ s.heap.size + 928407 by omega) (show _ ≤ slotsOf s.heap + 6316261 by omega) (by decide) (by decide) (met_toCrack (j_mOk X.2.2.1) N σ (xs (i + 1)) (xs (i + 2)) (xs (i + 3)) (xs (i + 4)) _ hm1) (lw_V q2150 q2151 q2152 q121 q2153) cy_toCrack rfl hl.1 rfl (Nat.le_of_ble_eq_true rfl) dL_law_1530 (fun H locs cells slots hw hS hz hsl => ?_)
  refine lv_istore (lv' := [(6, .int r), (5, .int w.2), (4, .int (nI i)), (1, .ref xa), (2, .ref G.1), (3, .ref oa), (0, .ref b)]) hx hb dL_law_1533 hl (by decide) rfl (fun ls hl => ?_)
  refine lv_aload_n hx hb dL_law_1535 rfl (lv_at hl 4 rfl) ?_
  refine jr_mi (lv := 0) X hw hS (show _ ≤ s.heap.size + 928407 by omega) (show _ ≤ slotsOf s.heap + 6316261 by omega) (by decide) (by decide) (met_thrown (j_mOk X.2.2.1) N σ1 _ ht1) (lw_V q1769 q1770 q1771 q121 q1772) cy_thrown rfl hl.1 rfl (Nat.le_of_ble_eq_true rfl) dL_law_1536 (fun H locs cells slots hw hS hz hsl => ?_)
  refine lv_iload hx hb dL_law_1539 (lv_at hl 1 rfl) ?_
  refine lv_icmp_eq (tgt := 1546) hx hb dL_law_1541 (by decide) (fun _ => ?_) (fun z => absurd rfl z)
  refine lv_iload hx hb dL_law_1546 (lv_at hl 1 rfl) ?_
  refine lv_if_ne (tgt := 1563) hx hb dL_law_1548 (by decide) (fun z => ?_) (fun z => ?_)
  · skip
    refine lv_goto (tgt := 2706) hx hb dL_law_1563 (by decide) ?_
    refine lv_iinc (v := nI i + 6) (lv' := [(4, .int (nI i + 6)), (6, .int r), (5, .int w.2), (1, .ref xa), (2, .ref G.1), (3, .ref oa), (0, .ref b)]) hx hb dL_law_2706 hl (k := 2) rfl rfl (by decide) rfl (fun ls hl => ?_)
    refine lv_goto (tgt := 23) hx hb dL_law_2709 (by decide) ?_
    have hl := lv_sub hl [0, 3, 4, 5, 6] rfl
    exact hnext _ _ _ _ _ _ _ hw hS (by rw [← nI_add i 6]; exact hl) (hRn _ (by omega) (fun q e0 hq => by have h9 := (hw.1.1.1 q e0 (by exact hq)).1.lt; exact h9)) (by omega) (by omega)
  · have hv1 := hv1 (by first | exact z | exact Classical.byContradiction z)
    refine lv_aload_n hx hb dL_law_1551 rfl (lv_at hl 5 rfl) ?_
    refine lv_iconst (v := 0) hx hb dL_law_1552 (by decide) ?_
    refine jr_lald (C := 0) (K := 0) X hw rfl (S := w.1) rfl hv1 dL_law_1553 ?_
    refine lv_iload hx hb dL_law_1554 (lv_at hl 0 rfl) ?_
    refine lv_i2l hx hb dL_law_1556 rfl ?_
    refine W.lcmp hx hb dL_law_1557 ?_
    refine lv_if_eq (tgt := 1563) hx hb dL_law_1558 (by decide) (fun _ => ?_) (fun z => absurd (lg_cmp_self _) z)
    refine lv_goto (tgt := 2706) hx hb dL_law_1563 (by decide) ?_
    refine lv_iinc (v := nI i + 6) (lv' := [(4, .int (nI i + 6)), (6, .int r), (5, .int w.2), (1, .ref xa), (2, .ref G.1), (3, .ref oa), (0, .ref b)]) hx hb dL_law_2706 hl (k := 2) rfl rfl (by decide) rfl (fun ls hl => ?_)
    refine lv_goto (tgt := 23) hx hb dL_law_2709 (by decide) ?_
    have hl := lv_sub hl [0, 3, 4, 5, 6] rfl
    exact hnext _ _ _ _ _ _ _ hw hS (by rw [← nI_add i 6]; exact hl) (hRn _ (by omega) (fun q e0 hq => by have h9 := (hw.1.1.1 q e0 (by exact hq)).1.lt; exact h9)) (by omega) (by omega)
theorem law_office {p : Program} {l : Launch} {e : Env} {s : State} {m : MethodId} {below : List Frame} {meth : Method} {c : Code} {H : Heap} {locs : List Loc} {cells slots : Nat} {Q : State → Prop} {ls : Array Slot} {g : XC} {D : va_G} {G : MG} {n0 b L i c0 k0 xa oa N : Nat} {xs : Nat → Int32} {τ : XL} {σ : MS} {Rel Rel1 : Nat → XL → MS → Prop} (hlT : l.stackTraces = false) (X : jX g D G n0 "DripCupsLaw" p s m #[Value.ref b] c cL_law 7) (hX : va_X b L xs s s.heap) (hbl : b < s.heap.size) (hi : i + 6 ≤ L) (hL : L ≤ 384) (hst : St_office Rel Rel1 g N xa oa) (h1 : H.size ≤ s.heap.size + c0) (h2 : slotsOf H ≤ slotsOf s.heap + k0) (hc0 : c0 + 14000 ≤ 928407) (hk0 : k0 + 97000 ≤ 6316261) (hw : jW g D G n0 τ σ s H) (hS : va_S (fun q => n0 ≤ q) s.heap H locs) (hR : Rel H.size τ σ)
    (hnext : ∀ (H : Heap) (locs : List Loc) (ls : Array Slot) (cells slots : Nat) (τ : XL) (σ : MS), jW g D G n0 τ σ s H → va_S (fun q => n0 ≤ q) s.heap H locs → lv_has ls 7 [(4, .int (nI (i + 6))), (1, .ref xa), (2, .ref G.1), (3, .ref oa), (0, .ref b)] → Rel1 H.size τ σ → H.size ≤ s.heap.size + (c0 + 14000) → slotsOf H ≤ slotsOf s.heap + (k0 + 97000) → W p l e room_1 s m #[Value.ref b] below meth c H locs cells slots Q (F0 m 23 ls []))
    (hl : lv_has ls 7 [(4, .int (nI i)), (1, .ref xa), (2, .ref G.1), (3, .ref oa), (0, .ref b)]) : W p l e room_1 s m #[Value.ref b] below meth c H locs cells slots Q (F0 m 1566 ls []) := by
  have hx := X.1.1
  have hb := X.1.2.1
  have hown := X.1.2.2.2.1
  have hn0 : s.heap.size = n0 := X.2.2.2.1
  refine lv_aload_n hx hb dL_law_1566 rfl (lv_at hl 1 rfl) ?_
  refine lv_aload_n hx hb dL_law_1567 rfl (lv_at hl 4 rfl) ?_
  refine lv_iload hx hb dL_law_1568 (lv_at hl 0 rfl) ?_
  refine lv_iconst (v := 1) hx hb dL_law_1570 (by decide) ?_
  refine lv_iadd hx hb dL_law_1571 ?_
  refine jr_sld (i := i) (k := 1) hx hb hX hbl hn0 hS (nI_add i 1) (by omega) hL dL_law_1572 ?_
  refine lv_aload_n hx hb dL_law_1573 rfl (lv_at hl 4 rfl) ?_
  refine lv_iload hx hb dL_law_1574 (lv_at hl 0 rfl) ?_
  refine lv_iconst (v := 2) hx hb dL_law_1576 (by decide) ?_
  refine lv_iadd hx hb dL_law_1577 ?_
  refine jr_sld (i := i) (k := 2) hx hb hX hbl hn0 hS (nI_add i 2) (by omega) hL dL_law_1578 ?_
  refine lv_aload_n hx hb dL_law_1579 rfl (lv_at hl 3 rfl) ?_
  obtain ⟨w, σ1, r, σ2, hx1, hm1, ht1, hv1, hRn⟩ := hst (xs (i + 1)) (xs (i + 2)) _ (slotsOf H) _ _ hR
  refine jr_wrap (lv := 82) (C := H.size + 14000) (K := slotsOf H + 97000) X hw hS (by omega) (by omega) (show _ ≤ s.heap.size + 928407 by omega) (show _ ≤ slotsOf s.heap + 6316261 by omega) (by decide) (by decide) (met_X0_office hlT N ((H.size, slotsOf H, H.size + 14000, slotsOf H + 97000), τ) xa (xs (i + 1)) (xs (i + 2)) oa w hx1) q1418 q1419 q114 q1420 cx_X0_office rfl hl.1 rfl (Nat.le_of_ble_eq_true rfl) dL_law_1580 (fun H locs cells slots hw hS hz hcz hsz => ?_)
  refine lv_istore (lv' := [(5, .int w.2), (4, .int (nI i)), (1, .ref xa), (2, .ref G.1), (3, .ref oa), (0, .ref b)]) hx hb dL_law_1583 hl (by decide) rfl (fun ls hl => ?_)
  refine lv_aload_n hx hb dL_law_1585 rfl (lv_at hl 3 rfl) ?_
  refine lv_aload_n hx hb dL_law_1586 rfl (lv_at hl 5 rfl) ?_
  refine lv_iload hx hb dL_law_1587 (lv_at hl 1 rfl) ?_
  refine lv_iconst (v := 1) hx hb dL_law_1589 (by decide) ?_
  refine lv_iadd hx hb dL_law_1590 ?_
  refine jr_sld (i := i) (k := 1) hx hb hX hbl hn0 hS (nI_add i 1) (by omega) hL dL_law_1591 ?_
  refine lv_aload_n hx hb dL_law_1592 rfl (lv_at hl 5 rfl) ?_
  refine lv_iload hx hb dL_law_1593 (lv_at hl 1 rfl) ?_
  refine lv_iconst (v := 2) hx hb dL_law_1595 (by decide) ?_
  refine lv_iadd hx hb dL_law_1596 ?_
  refine jr_sld (i := i) (k := 2) hx hb hX hbl hn0 hS (nI_add i 2) (by omega) hL dL_law_1597 ?_
  refine jr_mi (lv := 5) X hw hS (show _ ≤ s.heap.size + 928407 by omega) (show _ ≤ slotsOf s.heap + 6316261 by omega) (by decide) (by decide) (met_office (j_mOk X.2.2.1) N σ (xs (i + 1)) (xs (i + 2)) _ hm1) (lw_V q2158 q2159 q2160 q121 q2161) cy_office rfl hl.1 rfl (Nat.le_of_ble_eq_true rfl) dL_law_1598 (fun H locs cells slots hw hS hz hsl => ?_)
  refine lv_istore (lv' := [(6, .int r), (5, .int w.2), (4, .int (nI i)), (1, .ref xa), (2, .ref G.1), (3, .ref oa), (0, .ref b)]) hx hb dL_law_1601 hl (by decide) rfl (fun ls hl => ?_)
  refine lv_aload_n hx hb dL_law_1603 rfl (lv_at hl 4 rfl) ?_
  refine jr_mi (lv := 0) X hw hS (show _ ≤ s.heap.size + 928407 by omega) (show _ ≤ slotsOf s.heap + 6316261 by omega) (by decide) (by decide) (met_thrown (j_mOk X.2.2.1) N σ1 _ ht1) (lw_V q1769 q1770 q1771 q121 q1772) cy_thrown rfl hl.1 rfl (Nat.le_of_ble_eq_true rfl) dL_law_1604 (fun H locs cells slots hw hS hz hsl => ?_)
  refine lv_iload hx hb dL_law_1607 (lv_at hl 1 rfl) ?_
  refine lv_icmp_eq (tgt := 1614) hx hb dL_law_1609 (by decide) (fun _ => ?_) (fun z => absurd rfl z)
  refine lv_iload hx hb dL_law_1614 (lv_at hl 1 rfl) ?_
  refine lv_if_ne (tgt := 1631) hx hb dL_law_1616 (by decide) (fun z => ?_) (fun z => ?_)
  · skip
    refine lv_goto (tgt := 2706) hx hb dL_law_1631 (by decide) ?_
    refine lv_iinc (v := nI i + 6) (lv' := [(4, .int (nI i + 6)), (6, .int r), (5, .int w.2), (1, .ref xa), (2, .ref G.1), (3, .ref oa), (0, .ref b)]) hx hb dL_law_2706 hl (k := 2) rfl rfl (by decide) rfl (fun ls hl => ?_)
    refine lv_goto (tgt := 23) hx hb dL_law_2709 (by decide) ?_
    have hl := lv_sub hl [0, 3, 4, 5, 6] rfl
    exact hnext _ _ _ _ _ _ _ hw hS (by rw [← nI_add i 6]; exact hl) (hRn _ (by omega) (fun q e0 hq => by have h9 := (hw.1.1.1 q e0 (by exact hq)).1.lt; exact h9)) (by omega) (by omega)
  · have hv1 := hv1 (by first | exact z | exact Classical.byContradiction z)
    refine lv_aload_n hx hb dL_law_1619 rfl (lv_at hl 5 rfl) ?_
    refine lv_iconst (v := 0) hx hb dL_law_1620 (by decide) ?_
    refine jr_lald (C := 0) (K := 0) X hw rfl (S := w.1) rfl hv1 dL_law_1621 ?_
    refine lv_iload hx hb dL_law_1622 (lv_at hl 0 rfl) ?_
    refine lv_i2l hx hb dL_law_1624 rfl ?_
    refine W.lcmp hx hb dL_law_1625 ?_
    refine lv_if_eq (tgt := 1631) hx hb dL_law_1626 (by decide) (fun _ => ?_) (fun z => absurd (lg_cmp_self _) z)
    refine lv_goto (tgt := 2706) hx hb dL_law_1631 (by decide) ?_
    refine lv_iinc (v := nI i + 6) (lv' := [(4, .int (nI i + 6)), (6, .int r), (5, .int w.2), (1, .ref xa), (2, .ref G.1), (3, .ref oa), (0, .ref b)]) hx hb dL_law_2706 hl (k := 2) rfl rfl (by decide) rfl (fun ls hl => ?_)
    refine lv_goto (tgt := 23) hx hb dL_law_2709 (by decide) ?_
    have hl := lv_sub hl [0, 3, 4, 5, 6] rfl
    exact hnext _ _ _ _ _ _ _ hw hS (by rw [← nI_add i 6]; exact hl) (hRn _ (by omega) (fun q e0 hq => by have h9 := (hw.1.1.1 q e0 (by exact hq)).1.lt; exact h9)) (by omega) (by omega)
theorem law_hear {p : Program} {l : Launch} {e : Env} {s : State} {m : MethodId} {below : List Frame} {meth : Method} {c : Code} {H : Heap} {locs : List Loc} {cells slots : Nat} {Q : State → Prop} {ls : Array Slot} {g : XC} {D : va_G} {G : MG} {n0 b L i c0 k0 xa oa N : Nat} {xs : Nat → Int32} {τ : XL} {σ : MS} {Rel Rel1 : Nat → XL → MS → Prop} (hlT : l.stackTraces = false) (X : jX g D G n0 "DripCupsLaw" p s m #[Value.ref b] c cL_law 7) (hX : va_X b L xs s s.heap) (hbl : b < s.heap.size) (hi : i + 6 ≤ L) (hL : L ≤ 384) (hst : St_hear Rel Rel1 g N xa oa) (h1 : H.size ≤ s.heap.size + c0) (h2 : slotsOf H ≤ slotsOf s.heap + k0) (hc0 : c0 + 14000 ≤ 928407) (hk0 : k0 + 97000 ≤ 6316261) (hw : jW g D G n0 τ σ s H) (hS : va_S (fun q => n0 ≤ q) s.heap H locs) (hR : Rel H.size τ σ)
    (hnext : ∀ (H : Heap) (locs : List Loc) (ls : Array Slot) (cells slots : Nat) (τ : XL) (σ : MS), jW g D G n0 τ σ s H → va_S (fun q => n0 ≤ q) s.heap H locs → lv_has ls 7 [(4, .int (nI (i + 6))), (1, .ref xa), (2, .ref G.1), (3, .ref oa), (0, .ref b)] → Rel1 H.size τ σ → H.size ≤ s.heap.size + (c0 + 14000) → slotsOf H ≤ slotsOf s.heap + (k0 + 97000) → W p l e room_1 s m #[Value.ref b] below meth c H locs cells slots Q (F0 m 23 ls []))
    (hl : lv_has ls 7 [(4, .int (nI i)), (1, .ref xa), (2, .ref G.1), (3, .ref oa), (0, .ref b)]) : W p l e room_1 s m #[Value.ref b] below meth c H locs cells slots Q (F0 m 1634 ls []) := by
  have hx := X.1.1
  have hb := X.1.2.1
  have hown := X.1.2.2.2.1
  have hn0 : s.heap.size = n0 := X.2.2.2.1
  refine lv_aload_n hx hb dL_law_1634 rfl (lv_at hl 1 rfl) ?_
  refine lv_aload_n hx hb dL_law_1635 rfl (lv_at hl 4 rfl) ?_
  refine lv_iload hx hb dL_law_1636 (lv_at hl 0 rfl) ?_
  refine lv_iconst (v := 1) hx hb dL_law_1638 (by decide) ?_
  refine lv_iadd hx hb dL_law_1639 ?_
  refine jr_sld (i := i) (k := 1) hx hb hX hbl hn0 hS (nI_add i 1) (by omega) hL dL_law_1640 ?_
  refine lv_aload_n hx hb dL_law_1641 rfl (lv_at hl 4 rfl) ?_
  refine lv_iload hx hb dL_law_1642 (lv_at hl 0 rfl) ?_
  refine lv_iconst (v := 2) hx hb dL_law_1644 (by decide) ?_
  refine lv_iadd hx hb dL_law_1645 ?_
  refine jr_sld (i := i) (k := 2) hx hb hX hbl hn0 hS (nI_add i 2) (by omega) hL dL_law_1646 ?_
  refine lv_aload_n hx hb dL_law_1647 rfl (lv_at hl 4 rfl) ?_
  refine lv_iload hx hb dL_law_1648 (lv_at hl 0 rfl) ?_
  refine lv_iconst (v := 3) hx hb dL_law_1650 (by decide) ?_
  refine lv_iadd hx hb dL_law_1651 ?_
  refine jr_sld (i := i) (k := 3) hx hb hX hbl hn0 hS (nI_add i 3) (by omega) hL dL_law_1652 ?_
  refine lv_if_eq (tgt := 1660) hx hb dL_law_1653 (by decide) (fun z1 => ?_) (fun z1 => ?_)
  · skip
    refine lv_iconst (v := 0) hx hb dL_law_1660 (by decide) ?_
    refine lv_aload_n hx hb dL_law_1661 rfl (lv_at hl 3 rfl) ?_
    have hbo : (0 : Int32) = 0 ∨ (0 : Int32) = 1 := by decide
    obtain ⟨w, σ1, r, σ2, hx1, hm1, ht1, hv1, hRn⟩ := hst (xs (i + 1)) (xs (i + 2)) 0 _ (slotsOf H) _ _ hR hbo
    refine jr_wrap (lv := 8) (C := H.size + 14000) (K := slotsOf H + 97000) X hw hS (by omega) (by omega) (show _ ≤ s.heap.size + 928407 by omega) (show _ ≤ slotsOf s.heap + 6316261 by omega) (by decide) (by decide) (met_X0_hear hlT N ((H.size, slotsOf H, H.size + 14000, slotsOf H + 97000), τ) xa (xs (i + 1)) (xs (i + 2)) 0 oa w hx1) q1429 q1430 q114 q1431 cx_X0_hear rfl hl.1 rfl (Nat.le_of_ble_eq_true rfl) dL_law_1662 (fun H locs cells slots hw hS hz hcz hsz => ?_)
    refine lv_istore (lv' := [(5, .int w.2), (4, .int (nI i)), (1, .ref xa), (2, .ref G.1), (3, .ref oa), (0, .ref b)]) hx hb dL_law_1665 hl (by decide) rfl (fun ls hl => ?_)
    refine lv_aload_n hx hb dL_law_1667 rfl (lv_at hl 3 rfl) ?_
    refine lv_aload_n hx hb dL_law_1668 rfl (lv_at hl 5 rfl) ?_
    refine lv_iload hx hb dL_law_1669 (lv_at hl 1 rfl) ?_
    refine lv_iconst (v := 1) hx hb dL_law_1671 (by decide) ?_
    refine lv_iadd hx hb dL_law_1672 ?_
    refine jr_sld (i := i) (k := 1) hx hb hX hbl hn0 hS (nI_add i 1) (by omega) hL dL_law_1673 ?_
    refine lv_aload_n hx hb dL_law_1674 rfl (lv_at hl 5 rfl) ?_
    refine lv_iload hx hb dL_law_1675 (lv_at hl 1 rfl) ?_
    refine lv_iconst (v := 2) hx hb dL_law_1677 (by decide) ?_
    refine lv_iadd hx hb dL_law_1678 ?_
    refine jr_sld (i := i) (k := 2) hx hb hX hbl hn0 hS (nI_add i 2) (by omega) hL dL_law_1679 ?_
    refine lv_aload_n hx hb dL_law_1680 rfl (lv_at hl 5 rfl) ?_
    refine lv_iload hx hb dL_law_1681 (lv_at hl 1 rfl) ?_
    refine lv_iconst (v := 3) hx hb dL_law_1683 (by decide) ?_
    refine lv_iadd hx hb dL_law_1684 ?_
    refine jr_sld (i := i) (k := 3) hx hb hX hbl hn0 hS (nI_add i 3) (by omega) hL dL_law_1685 ?_
    refine lv_if_eq (tgt := 1693) hx hb dL_law_1686 (by decide) (fun _ => ?_) (fun z => absurd z1 z)
    refine lv_iconst (v := 0) hx hb dL_law_1693 (by decide) ?_
    refine jr_mi (lv := 2) X hw hS (show _ ≤ s.heap.size + 928407 by omega) (show _ ≤ slotsOf s.heap + 6316261 by omega) (by decide) (by decide) (met_hear (j_mOk X.2.2.1) N σ (xs (i + 1)) (xs (i + 2)) 0 _ hm1) (lw_V q2165 q2166 q2167 q121 q2168) cy_hear rfl hl.1 rfl (Nat.le_of_ble_eq_true rfl) dL_law_1694 (fun H locs cells slots hw hS hz hsl => ?_)
    refine lv_istore (lv' := [(6, .int r), (5, .int w.2), (4, .int (nI i)), (1, .ref xa), (2, .ref G.1), (3, .ref oa), (0, .ref b)]) hx hb dL_law_1697 hl (by decide) rfl (fun ls hl => ?_)
    refine lv_aload_n hx hb dL_law_1699 rfl (lv_at hl 4 rfl) ?_
    refine jr_mi (lv := 0) X hw hS (show _ ≤ s.heap.size + 928407 by omega) (show _ ≤ slotsOf s.heap + 6316261 by omega) (by decide) (by decide) (met_thrown (j_mOk X.2.2.1) N σ1 _ ht1) (lw_V q1769 q1770 q1771 q121 q1772) cy_thrown rfl hl.1 rfl (Nat.le_of_ble_eq_true rfl) dL_law_1700 (fun H locs cells slots hw hS hz hsl => ?_)
    refine lv_iload hx hb dL_law_1703 (lv_at hl 1 rfl) ?_
    refine lv_icmp_eq (tgt := 1710) hx hb dL_law_1705 (by decide) (fun _ => ?_) (fun z => absurd rfl z)
    refine lv_iload hx hb dL_law_1710 (lv_at hl 1 rfl) ?_
    refine lv_if_ne (tgt := 1727) hx hb dL_law_1712 (by decide) (fun z => ?_) (fun z => ?_)
    · skip
      refine lv_goto (tgt := 2706) hx hb dL_law_1727 (by decide) ?_
      refine lv_iinc (v := nI i + 6) (lv' := [(4, .int (nI i + 6)), (6, .int r), (5, .int w.2), (1, .ref xa), (2, .ref G.1), (3, .ref oa), (0, .ref b)]) hx hb dL_law_2706 hl (k := 2) rfl rfl (by decide) rfl (fun ls hl => ?_)
      refine lv_goto (tgt := 23) hx hb dL_law_2709 (by decide) ?_
      have hl := lv_sub hl [0, 3, 4, 5, 6] rfl
      exact hnext _ _ _ _ _ _ _ hw hS (by rw [← nI_add i 6]; exact hl) (hRn _ (by omega) (fun q e0 hq => by have h9 := (hw.1.1.1 q e0 (by exact hq)).1.lt; exact h9)) (by omega) (by omega)
    · have hv1 := hv1 (by first | exact z | exact Classical.byContradiction z)
      refine lv_aload_n hx hb dL_law_1715 rfl (lv_at hl 5 rfl) ?_
      refine lv_iconst (v := 0) hx hb dL_law_1716 (by decide) ?_
      refine jr_lald (C := 0) (K := 0) X hw rfl (S := w.1) rfl hv1 dL_law_1717 ?_
      refine lv_iload hx hb dL_law_1718 (lv_at hl 0 rfl) ?_
      refine lv_i2l hx hb dL_law_1720 rfl ?_
      refine W.lcmp hx hb dL_law_1721 ?_
      refine lv_if_eq (tgt := 1727) hx hb dL_law_1722 (by decide) (fun _ => ?_) (fun z => absurd (lg_cmp_self _) z)
      refine lv_goto (tgt := 2706) hx hb dL_law_1727 (by decide) ?_
      refine lv_iinc (v := nI i + 6) (lv' := [(4, .int (nI i + 6)), (6, .int r), (5, .int w.2), (1, .ref xa), (2, .ref G.1), (3, .ref oa), (0, .ref b)]) hx hb dL_law_2706 hl (k := 2) rfl rfl (by decide) rfl (fun ls hl => ?_)
      refine lv_goto (tgt := 23) hx hb dL_law_2709 (by decide) ?_
      have hl := lv_sub hl [0, 3, 4, 5, 6] rfl
      exact hnext _ _ _ _ _ _ _ hw hS (by rw [← nI_add i 6]; exact hl) (hRn _ (by omega) (fun q e0 hq => by have h9 := (hw.1.1.1 q e0 (by exact hq)).1.lt; exact h9)) (by omega) (by omega)
  · skip
    refine lv_iconst (v := 1) hx hb dL_law_1656 (by decide) ?_
    refine lv_goto (tgt := 1661) hx hb dL_law_1657 (by decide) ?_
    refine lv_aload_n hx hb dL_law_1661 rfl (lv_at hl 3 rfl) ?_
    have hbo : (1 : Int32) = 0 ∨ (1 : Int32) = 1 := by decide
    obtain ⟨w, σ1, r, σ2, hx1, hm1, ht1, hv1, hRn⟩ := hst (xs (i + 1)) (xs (i + 2)) 1 _ (slotsOf H) _ _ hR hbo
    refine jr_wrap (lv := 8) (C := H.size + 14000) (K := slotsOf H + 97000) X hw hS (by omega) (by omega) (show _ ≤ s.heap.size + 928407 by omega) (show _ ≤ slotsOf s.heap + 6316261 by omega) (by decide) (by decide) (met_X0_hear hlT N ((H.size, slotsOf H, H.size + 14000, slotsOf H + 97000), τ) xa (xs (i + 1)) (xs (i + 2)) 1 oa w hx1) q1429 q1430 q114 q1431 cx_X0_hear rfl hl.1 rfl (Nat.le_of_ble_eq_true rfl) dL_law_1662 (fun H locs cells slots hw hS hz hcz hsz => ?_)
    refine lv_istore (lv' := [(5, .int w.2), (4, .int (nI i)), (1, .ref xa), (2, .ref G.1), (3, .ref oa), (0, .ref b)]) hx hb dL_law_1665 hl (by decide) rfl (fun ls hl => ?_)
    refine lv_aload_n hx hb dL_law_1667 rfl (lv_at hl 3 rfl) ?_
    refine lv_aload_n hx hb dL_law_1668 rfl (lv_at hl 5 rfl) ?_
    refine lv_iload hx hb dL_law_1669 (lv_at hl 1 rfl) ?_
    refine lv_iconst (v := 1) hx hb dL_law_1671 (by decide) ?_
    refine lv_iadd hx hb dL_law_1672 ?_
    refine jr_sld (i := i) (k := 1) hx hb hX hbl hn0 hS (nI_add i 1) (by omega) hL dL_law_1673 ?_
    refine lv_aload_n hx hb dL_law_1674 rfl (lv_at hl 5 rfl) ?_
    refine lv_iload hx hb dL_law_1675 (lv_at hl 1 rfl) ?_
    refine lv_iconst (v := 2) hx hb dL_law_1677 (by decide) ?_
    refine lv_iadd hx hb dL_law_1678 ?_
    refine jr_sld (i := i) (k := 2) hx hb hX hbl hn0 hS (nI_add i 2) (by omega) hL dL_law_1679 ?_
    refine lv_aload_n hx hb dL_law_1680 rfl (lv_at hl 5 rfl) ?_
    refine lv_iload hx hb dL_law_1681 (lv_at hl 1 rfl) ?_
    refine lv_iconst (v := 3) hx hb dL_law_1683 (by decide) ?_
    refine lv_iadd hx hb dL_law_1684 ?_
    refine jr_sld (i := i) (k := 3) hx hb hX hbl hn0 hS (nI_add i 3) (by omega) hL dL_law_1685 ?_
    refine lv_if_eq (tgt := 1693) hx hb dL_law_1686 (by decide) (fun z => absurd z z1) (fun _ => ?_)
    refine lv_iconst (v := 1) hx hb dL_law_1689 (by decide) ?_
    refine lv_goto (tgt := 1694) hx hb dL_law_1690 (by decide) ?_
    refine jr_mi (lv := 2) X hw hS (show _ ≤ s.heap.size + 928407 by omega) (show _ ≤ slotsOf s.heap + 6316261 by omega) (by decide) (by decide) (met_hear (j_mOk X.2.2.1) N σ (xs (i + 1)) (xs (i + 2)) 1 _ hm1) (lw_V q2165 q2166 q2167 q121 q2168) cy_hear rfl hl.1 rfl (Nat.le_of_ble_eq_true rfl) dL_law_1694 (fun H locs cells slots hw hS hz hsl => ?_)
    refine lv_istore (lv' := [(6, .int r), (5, .int w.2), (4, .int (nI i)), (1, .ref xa), (2, .ref G.1), (3, .ref oa), (0, .ref b)]) hx hb dL_law_1697 hl (by decide) rfl (fun ls hl => ?_)
    refine lv_aload_n hx hb dL_law_1699 rfl (lv_at hl 4 rfl) ?_
    refine jr_mi (lv := 0) X hw hS (show _ ≤ s.heap.size + 928407 by omega) (show _ ≤ slotsOf s.heap + 6316261 by omega) (by decide) (by decide) (met_thrown (j_mOk X.2.2.1) N σ1 _ ht1) (lw_V q1769 q1770 q1771 q121 q1772) cy_thrown rfl hl.1 rfl (Nat.le_of_ble_eq_true rfl) dL_law_1700 (fun H locs cells slots hw hS hz hsl => ?_)
    refine lv_iload hx hb dL_law_1703 (lv_at hl 1 rfl) ?_
    refine lv_icmp_eq (tgt := 1710) hx hb dL_law_1705 (by decide) (fun _ => ?_) (fun z => absurd rfl z)
    refine lv_iload hx hb dL_law_1710 (lv_at hl 1 rfl) ?_
    refine lv_if_ne (tgt := 1727) hx hb dL_law_1712 (by decide) (fun z => ?_) (fun z => ?_)
    · skip
      refine lv_goto (tgt := 2706) hx hb dL_law_1727 (by decide) ?_
      refine lv_iinc (v := nI i + 6) (lv' := [(4, .int (nI i + 6)), (6, .int r), (5, .int w.2), (1, .ref xa), (2, .ref G.1), (3, .ref oa), (0, .ref b)]) hx hb dL_law_2706 hl (k := 2) rfl rfl (by decide) rfl (fun ls hl => ?_)
      refine lv_goto (tgt := 23) hx hb dL_law_2709 (by decide) ?_
      have hl := lv_sub hl [0, 3, 4, 5, 6] rfl
      exact hnext _ _ _ _ _ _ _ hw hS (by rw [← nI_add i 6]; exact hl) (hRn _ (by omega) (fun q e0 hq => by have h9 := (hw.1.1.1 q e0 (by exact hq)).1.lt; exact h9)) (by omega) (by omega)
    · have hv1 := hv1 (by first | exact z | exact Classical.byContradiction z)
      refine lv_aload_n hx hb dL_law_1715 rfl (lv_at hl 5 rfl) ?_
      refine lv_iconst (v := 0) hx hb dL_law_1716 (by decide) ?_
      refine jr_lald (C := 0) (K := 0) X hw rfl (S := w.1) rfl hv1 dL_law_1717 ?_
      refine lv_iload hx hb dL_law_1718 (lv_at hl 0 rfl) ?_
      refine lv_i2l hx hb dL_law_1720 rfl ?_
      refine W.lcmp hx hb dL_law_1721 ?_
      refine lv_if_eq (tgt := 1727) hx hb dL_law_1722 (by decide) (fun _ => ?_) (fun z => absurd (lg_cmp_self _) z)
      refine lv_goto (tgt := 2706) hx hb dL_law_1727 (by decide) ?_
      refine lv_iinc (v := nI i + 6) (lv' := [(4, .int (nI i + 6)), (6, .int r), (5, .int w.2), (1, .ref xa), (2, .ref G.1), (3, .ref oa), (0, .ref b)]) hx hb dL_law_2706 hl (k := 2) rfl rfl (by decide) rfl (fun ls hl => ?_)
      refine lv_goto (tgt := 23) hx hb dL_law_2709 (by decide) ?_
      have hl := lv_sub hl [0, 3, 4, 5, 6] rfl
      exact hnext _ _ _ _ _ _ _ hw hS (by rw [← nI_add i 6]; exact hl) (hRn _ (by omega) (fun q e0 hq => by have h9 := (hw.1.1.1 q e0 (by exact hq)).1.lt; exact h9)) (by omega) (by omega)
theorem law_forget {p : Program} {l : Launch} {e : Env} {s : State} {m : MethodId} {below : List Frame} {meth : Method} {c : Code} {H : Heap} {locs : List Loc} {cells slots : Nat} {Q : State → Prop} {ls : Array Slot} {g : XC} {D : va_G} {G : MG} {n0 b L i c0 k0 xa oa N : Nat} {xs : Nat → Int32} {τ : XL} {σ : MS} {Rel Rel1 : Nat → XL → MS → Prop} (hlT : l.stackTraces = false) (X : jX g D G n0 "DripCupsLaw" p s m #[Value.ref b] c cL_law 7) (hX : va_X b L xs s s.heap) (hbl : b < s.heap.size) (hi : i + 6 ≤ L) (hL : L ≤ 384) (hst : St_forget Rel Rel1 g N xa oa) (h1 : H.size ≤ s.heap.size + c0) (h2 : slotsOf H ≤ slotsOf s.heap + k0) (hc0 : c0 + 14000 ≤ 928407) (hk0 : k0 + 97000 ≤ 6316261) (hw : jW g D G n0 τ σ s H) (hS : va_S (fun q => n0 ≤ q) s.heap H locs) (hR : Rel H.size τ σ)
    (hnext : ∀ (H : Heap) (locs : List Loc) (ls : Array Slot) (cells slots : Nat) (τ : XL) (σ : MS), jW g D G n0 τ σ s H → va_S (fun q => n0 ≤ q) s.heap H locs → lv_has ls 7 [(4, .int (nI (i + 6))), (1, .ref xa), (2, .ref G.1), (3, .ref oa), (0, .ref b)] → Rel1 H.size τ σ → H.size ≤ s.heap.size + (c0 + 14000) → slotsOf H ≤ slotsOf s.heap + (k0 + 97000) → W p l e room_1 s m #[Value.ref b] below meth c H locs cells slots Q (F0 m 23 ls []))
    (hl : lv_has ls 7 [(4, .int (nI i)), (1, .ref xa), (2, .ref G.1), (3, .ref oa), (0, .ref b)]) : W p l e room_1 s m #[Value.ref b] below meth c H locs cells slots Q (F0 m 1730 ls []) := by
  have hx := X.1.1
  have hb := X.1.2.1
  have hown := X.1.2.2.2.1
  have hn0 : s.heap.size = n0 := X.2.2.2.1
  refine lv_aload_n hx hb dL_law_1730 rfl (lv_at hl 1 rfl) ?_
  obtain ⟨u0, w, σ1, hu0, hx1, hm1, hRn⟩ := hst _ (slotsOf H) _ _ hR
  refine jr_xv (lv := 3) (C := H.size + 14000) (K := slotsOf H + 97000) X hw hS (by omega) (by omega) (show _ ≤ s.heap.size + 928407 by omega) (show _ ≤ slotsOf s.heap + 6316261 by omega) (by decide) (by decide) (met_X1_forget N ((H.size, slotsOf H, H.size + 14000, slotsOf H + 97000), τ) xa w hx1) xc1 hu0 (lw_V q600 q601 q602 q115 q603) cx_X1_forget rfl hl.1 rfl (Nat.le_of_ble_eq_true rfl) dL_law_1731 (fun H locs cells slots hw hS hz hcz hsz => ?_)
  refine lv_aload_n hx hb dL_law_1734 rfl (lv_at hl 2 rfl) ?_
  refine jr_mv (lv := 0) X hw hS (show _ ≤ s.heap.size + 928407 by omega) (show _ ≤ slotsOf s.heap + 6316261 by omega) (by decide) (by decide) (met_forget (j_mOk X.2.2.1) N σ _ hm1) (lw_V q2169 q2170 q2171 q121 q2172) cy_forget rfl hl.1 rfl (Nat.le_of_ble_eq_true rfl) dL_law_1735 (fun H locs cells slots hw hS hz hsl => ?_)
  refine lv_goto (tgt := 2706) hx hb dL_law_1738 (by decide) ?_
  refine lv_iinc (v := nI i + 6) (lv' := [(4, .int (nI i + 6)), (1, .ref xa), (2, .ref G.1), (3, .ref oa), (0, .ref b)]) hx hb dL_law_2706 hl (k := 0) rfl rfl (by decide) rfl (fun ls hl => ?_)
  refine lv_goto (tgt := 23) hx hb dL_law_2709 (by decide) ?_
  have hl := lv_sub hl [0, 1, 2, 3, 4] rfl
  exact hnext _ _ _ _ _ _ _ hw hS (by rw [← nI_add i 6]; exact hl) (hRn _ (by omega) (fun q e0 hq => by have h9 := (hw.1.1.1 q e0 (by exact hq)).1.lt; exact h9)) (by omega) (by omega)
theorem law_led {p : Program} {l : Launch} {e : Env} {s : State} {m : MethodId} {below : List Frame} {meth : Method} {c : Code} {H : Heap} {locs : List Loc} {cells slots : Nat} {Q : State → Prop} {ls : Array Slot} {g : XC} {D : va_G} {G : MG} {n0 b L i c0 k0 xa oa N : Nat} {xs : Nat → Int32} {τ : XL} {σ : MS} {Rel Rel1 : Nat → XL → MS → Prop} (hlT : l.stackTraces = false) (X : jX g D G n0 "DripCupsLaw" p s m #[Value.ref b] c cL_law 7) (hX : va_X b L xs s s.heap) (hbl : b < s.heap.size) (hi : i + 6 ≤ L) (hL : L ≤ 384) (hst : St_led Rel Rel1 g N xa oa) (h1 : H.size ≤ s.heap.size + c0) (h2 : slotsOf H ≤ slotsOf s.heap + k0) (hc0 : c0 + 14000 ≤ 928407) (hk0 : k0 + 97000 ≤ 6316261) (hw : jW g D G n0 τ σ s H) (hS : va_S (fun q => n0 ≤ q) s.heap H locs) (hR : Rel H.size τ σ)
    (hnext : ∀ (H : Heap) (locs : List Loc) (ls : Array Slot) (cells slots : Nat) (τ : XL) (σ : MS), jW g D G n0 τ σ s H → va_S (fun q => n0 ≤ q) s.heap H locs → lv_has ls 7 [(4, .int (nI (i + 6))), (1, .ref xa), (2, .ref G.1), (3, .ref oa), (0, .ref b)] → Rel1 H.size τ σ → H.size ≤ s.heap.size + (c0 + 14000) → slotsOf H ≤ slotsOf s.heap + (k0 + 97000) → W p l e room_1 s m #[Value.ref b] below meth c H locs cells slots Q (F0 m 23 ls []))
    (hl : lv_has ls 7 [(4, .int (nI i)), (1, .ref xa), (2, .ref G.1), (3, .ref oa), (0, .ref b)]) : W p l e room_1 s m #[Value.ref b] below meth c H locs cells slots Q (F0 m 1741 ls []) := by
  have hx := X.1.1
  have hb := X.1.2.1
  have hown := X.1.2.2.2.1
  have hn0 : s.heap.size = n0 := X.2.2.2.1
  refine lv_aload_n hx hb dL_law_1741 rfl (lv_at hl 1 rfl) ?_
  refine lv_aload_n hx hb dL_law_1742 rfl (lv_at hl 4 rfl) ?_
  refine lv_iload hx hb dL_law_1743 (lv_at hl 0 rfl) ?_
  refine lv_iconst (v := 1) hx hb dL_law_1745 (by decide) ?_
  refine lv_iadd hx hb dL_law_1746 ?_
  refine jr_sld (i := i) (k := 1) hx hb hX hbl hn0 hS (nI_add i 1) (by omega) hL dL_law_1747 ?_
  refine lv_aload_n hx hb dL_law_1748 rfl (lv_at hl 3 rfl) ?_
  obtain ⟨w, σ1, r, σ2, hx1, hm1, ht1, hv1, hRn⟩ := hst (xs (i + 1)) _ (slotsOf H) _ _ hR
  refine jr_wrap (lv := 84) (C := H.size + 14000) (K := slotsOf H + 97000) X hw hS (by omega) (by omega) (show _ ≤ s.heap.size + 928407 by omega) (show _ ≤ slotsOf s.heap + 6316261 by omega) (by decide) (by decide) (met_X0_led hlT N ((H.size, slotsOf H, H.size + 14000, slotsOf H + 97000), τ) xa (xs (i + 1)) oa w hx1) q1436 q1437 q114 q1438 cx_X0_led rfl hl.1 rfl (Nat.le_of_ble_eq_true rfl) dL_law_1749 (fun H locs cells slots hw hS hz hcz hsz => ?_)
  refine lv_istore (lv' := [(5, .int w.2), (4, .int (nI i)), (1, .ref xa), (2, .ref G.1), (3, .ref oa), (0, .ref b)]) hx hb dL_law_1752 hl (by decide) rfl (fun ls hl => ?_)
  refine lv_aload_n hx hb dL_law_1754 rfl (lv_at hl 3 rfl) ?_
  refine lv_aload_n hx hb dL_law_1755 rfl (lv_at hl 5 rfl) ?_
  refine lv_iload hx hb dL_law_1756 (lv_at hl 1 rfl) ?_
  refine lv_iconst (v := 1) hx hb dL_law_1758 (by decide) ?_
  refine lv_iadd hx hb dL_law_1759 ?_
  refine jr_sld (i := i) (k := 1) hx hb hX hbl hn0 hS (nI_add i 1) (by omega) hL dL_law_1760 ?_
  refine jr_mi (lv := 7) X hw hS (show _ ≤ s.heap.size + 928407 by omega) (show _ ≤ slotsOf s.heap + 6316261 by omega) (by decide) (by decide) (met_led (j_mOk X.2.2.1) N σ (xs (i + 1)) _ hm1) (lw_V q2173 q2174 q2175 q121 q2176) cy_led rfl hl.1 rfl (Nat.le_of_ble_eq_true rfl) dL_law_1761 (fun H locs cells slots hw hS hz hsl => ?_)
  refine lv_istore (lv' := [(6, .int r), (5, .int w.2), (4, .int (nI i)), (1, .ref xa), (2, .ref G.1), (3, .ref oa), (0, .ref b)]) hx hb dL_law_1764 hl (by decide) rfl (fun ls hl => ?_)
  refine lv_aload_n hx hb dL_law_1766 rfl (lv_at hl 4 rfl) ?_
  refine jr_mi (lv := 0) X hw hS (show _ ≤ s.heap.size + 928407 by omega) (show _ ≤ slotsOf s.heap + 6316261 by omega) (by decide) (by decide) (met_thrown (j_mOk X.2.2.1) N σ1 _ ht1) (lw_V q1769 q1770 q1771 q121 q1772) cy_thrown rfl hl.1 rfl (Nat.le_of_ble_eq_true rfl) dL_law_1767 (fun H locs cells slots hw hS hz hsl => ?_)
  refine lv_iload hx hb dL_law_1770 (lv_at hl 1 rfl) ?_
  refine lv_icmp_eq (tgt := 1777) hx hb dL_law_1772 (by decide) (fun _ => ?_) (fun z => absurd rfl z)
  refine lv_iload hx hb dL_law_1777 (lv_at hl 1 rfl) ?_
  refine lv_if_ne (tgt := 1794) hx hb dL_law_1779 (by decide) (fun z => ?_) (fun z => ?_)
  · skip
    refine lv_goto (tgt := 2706) hx hb dL_law_1794 (by decide) ?_
    refine lv_iinc (v := nI i + 6) (lv' := [(4, .int (nI i + 6)), (6, .int r), (5, .int w.2), (1, .ref xa), (2, .ref G.1), (3, .ref oa), (0, .ref b)]) hx hb dL_law_2706 hl (k := 2) rfl rfl (by decide) rfl (fun ls hl => ?_)
    refine lv_goto (tgt := 23) hx hb dL_law_2709 (by decide) ?_
    have hl := lv_sub hl [0, 3, 4, 5, 6] rfl
    exact hnext _ _ _ _ _ _ _ hw hS (by rw [← nI_add i 6]; exact hl) (hRn _ (by omega) (fun q e0 hq => by have h9 := (hw.1.1.1 q e0 (by exact hq)).1.lt; exact h9)) (by omega) (by omega)
  · have hv1 := hv1 (by first | exact z | exact Classical.byContradiction z)
    refine lv_aload_n hx hb dL_law_1782 rfl (lv_at hl 5 rfl) ?_
    refine lv_iconst (v := 0) hx hb dL_law_1783 (by decide) ?_
    refine jr_lald (C := 0) (K := 0) X hw rfl (S := w.1) rfl hv1 dL_law_1784 ?_
    refine lv_iload hx hb dL_law_1785 (lv_at hl 0 rfl) ?_
    refine lv_i2l hx hb dL_law_1787 rfl ?_
    refine W.lcmp hx hb dL_law_1788 ?_
    refine lv_if_eq (tgt := 1794) hx hb dL_law_1789 (by decide) (fun _ => ?_) (fun z => absurd (lg_cmp_self _) z)
    refine lv_goto (tgt := 2706) hx hb dL_law_1794 (by decide) ?_
    refine lv_iinc (v := nI i + 6) (lv' := [(4, .int (nI i + 6)), (6, .int r), (5, .int w.2), (1, .ref xa), (2, .ref G.1), (3, .ref oa), (0, .ref b)]) hx hb dL_law_2706 hl (k := 2) rfl rfl (by decide) rfl (fun ls hl => ?_)
    refine lv_goto (tgt := 23) hx hb dL_law_2709 (by decide) ?_
    have hl := lv_sub hl [0, 3, 4, 5, 6] rfl
    exact hnext _ _ _ _ _ _ _ hw hS (by rw [← nI_add i 6]; exact hl) (hRn _ (by omega) (fun q e0 hq => by have h9 := (hw.1.1.1 q e0 (by exact hq)).1.lt; exact h9)) (by omega) (by omega)
theorem law_listen {p : Program} {l : Launch} {e : Env} {s : State} {m : MethodId} {below : List Frame} {meth : Method} {c : Code} {H : Heap} {locs : List Loc} {cells slots : Nat} {Q : State → Prop} {ls : Array Slot} {g : XC} {D : va_G} {G : MG} {n0 b L i c0 k0 xa oa N : Nat} {xs : Nat → Int32} {τ : XL} {σ : MS} {Rel Rel1 : Nat → XL → MS → Prop} (hlT : l.stackTraces = false) (X : jX g D G n0 "DripCupsLaw" p s m #[Value.ref b] c cL_law 7) (hX : va_X b L xs s s.heap) (hbl : b < s.heap.size) (hi : i + 6 ≤ L) (hL : L ≤ 384) (hst : St_listen Rel Rel1 g N xa oa) (h1 : H.size ≤ s.heap.size + c0) (h2 : slotsOf H ≤ slotsOf s.heap + k0) (hc0 : c0 + 14000 ≤ 928407) (hk0 : k0 + 97000 ≤ 6316261) (hw : jW g D G n0 τ σ s H) (hS : va_S (fun q => n0 ≤ q) s.heap H locs) (hR : Rel H.size τ σ)
    (hnext : ∀ (H : Heap) (locs : List Loc) (ls : Array Slot) (cells slots : Nat) (τ : XL) (σ : MS), jW g D G n0 τ σ s H → va_S (fun q => n0 ≤ q) s.heap H locs → lv_has ls 7 [(4, .int (nI (i + 6))), (1, .ref xa), (2, .ref G.1), (3, .ref oa), (0, .ref b)] → Rel1 H.size τ σ → H.size ≤ s.heap.size + (c0 + 14000) → slotsOf H ≤ slotsOf s.heap + (k0 + 97000) → W p l e room_1 s m #[Value.ref b] below meth c H locs cells slots Q (F0 m 23 ls []))
    (hl : lv_has ls 7 [(4, .int (nI i)), (1, .ref xa), (2, .ref G.1), (3, .ref oa), (0, .ref b)]) : W p l e room_1 s m #[Value.ref b] below meth c H locs cells slots Q (F0 m 1797 ls []) := by
  have hx := X.1.1
  have hb := X.1.2.1
  have hown := X.1.2.2.2.1
  have hn0 : s.heap.size = n0 := X.2.2.2.1
  refine lv_aload_n hx hb dL_law_1797 rfl (lv_at hl 1 rfl) ?_
  refine lv_aload_n hx hb dL_law_1798 rfl (lv_at hl 4 rfl) ?_
  refine lv_iload hx hb dL_law_1799 (lv_at hl 0 rfl) ?_
  refine lv_iconst (v := 1) hx hb dL_law_1801 (by decide) ?_
  refine lv_iadd hx hb dL_law_1802 ?_
  refine jr_sld (i := i) (k := 1) hx hb hX hbl hn0 hS (nI_add i 1) (by omega) hL dL_law_1803 ?_
  refine lv_aload_n hx hb dL_law_1804 rfl (lv_at hl 3 rfl) ?_
  obtain ⟨w, σ1, r, σ2, hx1, hm1, ht1, hv1, hRn⟩ := hst (xs (i + 1)) _ (slotsOf H) _ _ hR
  refine jr_wrap (lv := 84) (C := H.size + 14000) (K := slotsOf H + 97000) X hw hS (by omega) (by omega) (show _ ≤ s.heap.size + 928407 by omega) (show _ ≤ slotsOf s.heap + 6316261 by omega) (by decide) (by decide) (met_X0_listen hlT N ((H.size, slotsOf H, H.size + 14000, slotsOf H + 97000), τ) xa (xs (i + 1)) oa w hx1) q1457 q1458 q114 q1459 cx_X0_listen rfl hl.1 rfl (Nat.le_of_ble_eq_true rfl) dL_law_1805 (fun H locs cells slots hw hS hz hcz hsz => ?_)
  refine lv_istore (lv' := [(5, .int w.2), (4, .int (nI i)), (1, .ref xa), (2, .ref G.1), (3, .ref oa), (0, .ref b)]) hx hb dL_law_1808 hl (by decide) rfl (fun ls hl => ?_)
  refine lv_aload_n hx hb dL_law_1810 rfl (lv_at hl 3 rfl) ?_
  refine lv_aload_n hx hb dL_law_1811 rfl (lv_at hl 5 rfl) ?_
  refine lv_iload hx hb dL_law_1812 (lv_at hl 1 rfl) ?_
  refine lv_iconst (v := 1) hx hb dL_law_1814 (by decide) ?_
  refine lv_iadd hx hb dL_law_1815 ?_
  refine jr_sld (i := i) (k := 1) hx hb hX hbl hn0 hS (nI_add i 1) (by omega) hL dL_law_1816 ?_
  refine jr_mi (lv := 7) X hw hS (show _ ≤ s.heap.size + 928407 by omega) (show _ ≤ slotsOf s.heap + 6316261 by omega) (by decide) (by decide) (met_listen (j_mOk X.2.2.1) N σ (xs (i + 1)) _ hm1) (lw_V q2185 q2186 q2187 q121 q2188) cy_listen rfl hl.1 rfl (Nat.le_of_ble_eq_true rfl) dL_law_1817 (fun H locs cells slots hw hS hz hsl => ?_)
  refine lv_istore (lv' := [(6, .int r), (5, .int w.2), (4, .int (nI i)), (1, .ref xa), (2, .ref G.1), (3, .ref oa), (0, .ref b)]) hx hb dL_law_1820 hl (by decide) rfl (fun ls hl => ?_)
  refine lv_aload_n hx hb dL_law_1822 rfl (lv_at hl 4 rfl) ?_
  refine jr_mi (lv := 0) X hw hS (show _ ≤ s.heap.size + 928407 by omega) (show _ ≤ slotsOf s.heap + 6316261 by omega) (by decide) (by decide) (met_thrown (j_mOk X.2.2.1) N σ1 _ ht1) (lw_V q1769 q1770 q1771 q121 q1772) cy_thrown rfl hl.1 rfl (Nat.le_of_ble_eq_true rfl) dL_law_1823 (fun H locs cells slots hw hS hz hsl => ?_)
  refine lv_iload hx hb dL_law_1826 (lv_at hl 1 rfl) ?_
  refine lv_icmp_eq (tgt := 1833) hx hb dL_law_1828 (by decide) (fun _ => ?_) (fun z => absurd rfl z)
  refine lv_iload hx hb dL_law_1833 (lv_at hl 1 rfl) ?_
  refine lv_if_ne (tgt := 1850) hx hb dL_law_1835 (by decide) (fun z => ?_) (fun z => ?_)
  · skip
    refine lv_goto (tgt := 2706) hx hb dL_law_1850 (by decide) ?_
    refine lv_iinc (v := nI i + 6) (lv' := [(4, .int (nI i + 6)), (6, .int r), (5, .int w.2), (1, .ref xa), (2, .ref G.1), (3, .ref oa), (0, .ref b)]) hx hb dL_law_2706 hl (k := 2) rfl rfl (by decide) rfl (fun ls hl => ?_)
    refine lv_goto (tgt := 23) hx hb dL_law_2709 (by decide) ?_
    have hl := lv_sub hl [0, 3, 4, 5, 6] rfl
    exact hnext _ _ _ _ _ _ _ hw hS (by rw [← nI_add i 6]; exact hl) (hRn _ (by omega) (fun q e0 hq => by have h9 := (hw.1.1.1 q e0 (by exact hq)).1.lt; exact h9)) (by omega) (by omega)
  · have hv1 := hv1 (by first | exact z | exact Classical.byContradiction z)
    refine lv_aload_n hx hb dL_law_1838 rfl (lv_at hl 5 rfl) ?_
    refine lv_iconst (v := 0) hx hb dL_law_1839 (by decide) ?_
    refine jr_lald (C := 0) (K := 0) X hw rfl (S := w.1) rfl hv1 dL_law_1840 ?_
    refine lv_iload hx hb dL_law_1841 (lv_at hl 0 rfl) ?_
    refine lv_i2l hx hb dL_law_1843 rfl ?_
    refine W.lcmp hx hb dL_law_1844 ?_
    refine lv_if_eq (tgt := 1850) hx hb dL_law_1845 (by decide) (fun _ => ?_) (fun z => absurd (lg_cmp_self _) z)
    refine lv_goto (tgt := 2706) hx hb dL_law_1850 (by decide) ?_
    refine lv_iinc (v := nI i + 6) (lv' := [(4, .int (nI i + 6)), (6, .int r), (5, .int w.2), (1, .ref xa), (2, .ref G.1), (3, .ref oa), (0, .ref b)]) hx hb dL_law_2706 hl (k := 2) rfl rfl (by decide) rfl (fun ls hl => ?_)
    refine lv_goto (tgt := 23) hx hb dL_law_2709 (by decide) ?_
    have hl := lv_sub hl [0, 3, 4, 5, 6] rfl
    exact hnext _ _ _ _ _ _ _ hw hS (by rw [← nI_add i 6]; exact hl) (hRn _ (by omega) (fun q e0 hq => by have h9 := (hw.1.1.1 q e0 (by exact hq)).1.lt; exact h9)) (by omega) (by omega)
theorem law_cold {p : Program} {l : Launch} {e : Env} {s : State} {m : MethodId} {below : List Frame} {meth : Method} {c : Code} {H : Heap} {locs : List Loc} {cells slots : Nat} {Q : State → Prop} {ls : Array Slot} {g : XC} {D : va_G} {G : MG} {n0 b L i c0 k0 xa oa N : Nat} {xs : Nat → Int32} {τ : XL} {σ : MS} {Rel Rel1 : Nat → XL → MS → Prop} (hlT : l.stackTraces = false) (X : jX g D G n0 "DripCupsLaw" p s m #[Value.ref b] c cL_law 7) (hX : va_X b L xs s s.heap) (hbl : b < s.heap.size) (hi : i + 6 ≤ L) (hL : L ≤ 384) (hst : St_cold Rel Rel1 g N xa oa) (h1 : H.size ≤ s.heap.size + c0) (h2 : slotsOf H ≤ slotsOf s.heap + k0) (hc0 : c0 + 14000 ≤ 928407) (hk0 : k0 + 97000 ≤ 6316261) (hw : jW g D G n0 τ σ s H) (hS : va_S (fun q => n0 ≤ q) s.heap H locs) (hR : Rel H.size τ σ)
    (hnext : ∀ (H : Heap) (locs : List Loc) (ls : Array Slot) (cells slots : Nat) (τ : XL) (σ : MS), jW g D G n0 τ σ s H → va_S (fun q => n0 ≤ q) s.heap H locs → lv_has ls 7 [(4, .int (nI (i + 6))), (1, .ref xa), (2, .ref G.1), (3, .ref oa), (0, .ref b)] → Rel1 H.size τ σ → H.size ≤ s.heap.size + (c0 + 14000) → slotsOf H ≤ slotsOf s.heap + (k0 + 97000) → W p l e room_1 s m #[Value.ref b] below meth c H locs cells slots Q (F0 m 23 ls []))
    (hl : lv_has ls 7 [(4, .int (nI i)), (1, .ref xa), (2, .ref G.1), (3, .ref oa), (0, .ref b)]) : W p l e room_1 s m #[Value.ref b] below meth c H locs cells slots Q (F0 m 1853 ls []) := by
  have hx := X.1.1
  have hb := X.1.2.1
  have hown := X.1.2.2.2.1
  have hn0 : s.heap.size = n0 := X.2.2.2.1
  refine lv_aload_n hx hb dL_law_1853 rfl (lv_at hl 1 rfl) ?_
  refine lv_aload_n hx hb dL_law_1854 rfl (lv_at hl 4 rfl) ?_
  refine lv_iload hx hb dL_law_1855 (lv_at hl 0 rfl) ?_
  refine lv_iconst (v := 1) hx hb dL_law_1857 (by decide) ?_
  refine lv_iadd hx hb dL_law_1858 ?_
  refine jr_sld (i := i) (k := 1) hx hb hX hbl hn0 hS (nI_add i 1) (by omega) hL dL_law_1859 ?_
  refine lv_aload_n hx hb dL_law_1860 rfl (lv_at hl 4 rfl) ?_
  refine lv_iload hx hb dL_law_1861 (lv_at hl 0 rfl) ?_
  refine lv_iconst (v := 2) hx hb dL_law_1863 (by decide) ?_
  refine lv_iadd hx hb dL_law_1864 ?_
  refine jr_sld (i := i) (k := 2) hx hb hX hbl hn0 hS (nI_add i 2) (by omega) hL dL_law_1865 ?_
  refine lv_aload_n hx hb dL_law_1866 rfl (lv_at hl 4 rfl) ?_
  refine lv_iload hx hb dL_law_1867 (lv_at hl 0 rfl) ?_
  refine lv_iconst (v := 3) hx hb dL_law_1869 (by decide) ?_
  refine lv_iadd hx hb dL_law_1870 ?_
  refine jr_sld (i := i) (k := 3) hx hb hX hbl hn0 hS (nI_add i 3) (by omega) hL dL_law_1871 ?_
  refine lv_aload_n hx hb dL_law_1872 rfl (lv_at hl 3 rfl) ?_
  obtain ⟨w, σ1, r, σ2, hx1, hm1, ht1, hv1, hRn⟩ := hst (xs (i + 1)) (xs (i + 2)) (xs (i + 3)) _ (slotsOf H) _ _ hR
  refine jr_wrap (lv := 82) (C := H.size + 14000) (K := slotsOf H + 97000) X hw hS (by omega) (by omega) (show _ ≤ s.heap.size + 928407 by omega) (show _ ≤ slotsOf s.heap + 6316261 by omega) (by decide) (by decide) (met_X0_cold hlT N ((H.size, slotsOf H, H.size + 14000, slotsOf H + 97000), τ) xa (xs (i + 1)) (xs (i + 2)) (xs (i + 3)) oa w hx1) q1466 q1467 q114 q1468 cx_X0_cold rfl hl.1 rfl (Nat.le_of_ble_eq_true rfl) dL_law_1873 (fun H locs cells slots hw hS hz hcz hsz => ?_)
  refine lv_istore (lv' := [(5, .int w.2), (4, .int (nI i)), (1, .ref xa), (2, .ref G.1), (3, .ref oa), (0, .ref b)]) hx hb dL_law_1876 hl (by decide) rfl (fun ls hl => ?_)
  refine lv_aload_n hx hb dL_law_1878 rfl (lv_at hl 3 rfl) ?_
  refine lv_aload_n hx hb dL_law_1879 rfl (lv_at hl 5 rfl) ?_
  refine lv_iload hx hb dL_law_1880 (lv_at hl 1 rfl) ?_
  refine lv_iconst (v := 1) hx hb dL_law_1882 (by decide) ?_
  refine lv_iadd hx hb dL_law_1883 ?_
  refine jr_sld (i := i) (k := 1) hx hb hX hbl hn0 hS (nI_add i 1) (by omega) hL dL_law_1884 ?_
  refine lv_aload_n hx hb dL_law_1885 rfl (lv_at hl 5 rfl) ?_
  refine lv_iload hx hb dL_law_1886 (lv_at hl 1 rfl) ?_
  refine lv_iconst (v := 2) hx hb dL_law_1888 (by decide) ?_
  refine lv_iadd hx hb dL_law_1889 ?_
  refine jr_sld (i := i) (k := 2) hx hb hX hbl hn0 hS (nI_add i 2) (by omega) hL dL_law_1890 ?_
  refine lv_aload_n hx hb dL_law_1891 rfl (lv_at hl 5 rfl) ?_
  refine lv_iload hx hb dL_law_1892 (lv_at hl 1 rfl) ?_
  refine lv_iconst (v := 3) hx hb dL_law_1894 (by decide) ?_
  refine lv_iadd hx hb dL_law_1895 ?_
  refine jr_sld (i := i) (k := 3) hx hb hX hbl hn0 hS (nI_add i 3) (by omega) hL dL_law_1896 ?_
  refine jr_mi (lv := 5) X hw hS (show _ ≤ s.heap.size + 928407 by omega) (show _ ≤ slotsOf s.heap + 6316261 by omega) (by decide) (by decide) (met_cold (j_mOk X.2.2.1) N σ (xs (i + 1)) (xs (i + 2)) (xs (i + 3)) _ hm1) (lw_V q2189 q2190 q2191 q121 q2192) cy_cold rfl hl.1 rfl (Nat.le_of_ble_eq_true rfl) dL_law_1897 (fun H locs cells slots hw hS hz hsl => ?_)
  refine lv_istore (lv' := [(6, .int r), (5, .int w.2), (4, .int (nI i)), (1, .ref xa), (2, .ref G.1), (3, .ref oa), (0, .ref b)]) hx hb dL_law_1900 hl (by decide) rfl (fun ls hl => ?_)
  refine lv_aload_n hx hb dL_law_1902 rfl (lv_at hl 4 rfl) ?_
  refine jr_mi (lv := 0) X hw hS (show _ ≤ s.heap.size + 928407 by omega) (show _ ≤ slotsOf s.heap + 6316261 by omega) (by decide) (by decide) (met_thrown (j_mOk X.2.2.1) N σ1 _ ht1) (lw_V q1769 q1770 q1771 q121 q1772) cy_thrown rfl hl.1 rfl (Nat.le_of_ble_eq_true rfl) dL_law_1903 (fun H locs cells slots hw hS hz hsl => ?_)
  refine lv_iload hx hb dL_law_1906 (lv_at hl 1 rfl) ?_
  refine lv_icmp_eq (tgt := 1913) hx hb dL_law_1908 (by decide) (fun _ => ?_) (fun z => absurd rfl z)
  refine lv_iload hx hb dL_law_1913 (lv_at hl 1 rfl) ?_
  refine lv_if_ne (tgt := 1930) hx hb dL_law_1915 (by decide) (fun z => ?_) (fun z => ?_)
  · skip
    refine lv_goto (tgt := 2706) hx hb dL_law_1930 (by decide) ?_
    refine lv_iinc (v := nI i + 6) (lv' := [(4, .int (nI i + 6)), (6, .int r), (5, .int w.2), (1, .ref xa), (2, .ref G.1), (3, .ref oa), (0, .ref b)]) hx hb dL_law_2706 hl (k := 2) rfl rfl (by decide) rfl (fun ls hl => ?_)
    refine lv_goto (tgt := 23) hx hb dL_law_2709 (by decide) ?_
    have hl := lv_sub hl [0, 3, 4, 5, 6] rfl
    exact hnext _ _ _ _ _ _ _ hw hS (by rw [← nI_add i 6]; exact hl) (hRn _ (by omega) (fun q e0 hq => by have h9 := (hw.1.1.1 q e0 (by exact hq)).1.lt; exact h9)) (by omega) (by omega)
  · have hv1 := hv1 (by first | exact z | exact Classical.byContradiction z)
    refine lv_aload_n hx hb dL_law_1918 rfl (lv_at hl 5 rfl) ?_
    refine lv_iconst (v := 0) hx hb dL_law_1919 (by decide) ?_
    refine jr_lald (C := 0) (K := 0) X hw rfl (S := w.1) rfl hv1 dL_law_1920 ?_
    refine lv_iload hx hb dL_law_1921 (lv_at hl 0 rfl) ?_
    refine lv_i2l hx hb dL_law_1923 rfl ?_
    refine W.lcmp hx hb dL_law_1924 ?_
    refine lv_if_eq (tgt := 1930) hx hb dL_law_1925 (by decide) (fun _ => ?_) (fun z => absurd (lg_cmp_self _) z)
    refine lv_goto (tgt := 2706) hx hb dL_law_1930 (by decide) ?_
    refine lv_iinc (v := nI i + 6) (lv' := [(4, .int (nI i + 6)), (6, .int r), (5, .int w.2), (1, .ref xa), (2, .ref G.1), (3, .ref oa), (0, .ref b)]) hx hb dL_law_2706 hl (k := 2) rfl rfl (by decide) rfl (fun ls hl => ?_)
    refine lv_goto (tgt := 23) hx hb dL_law_2709 (by decide) ?_
    have hl := lv_sub hl [0, 3, 4, 5, 6] rfl
    exact hnext _ _ _ _ _ _ _ hw hS (by rw [← nI_add i 6]; exact hl) (hRn _ (by omega) (fun q e0 hq => by have h9 := (hw.1.1.1 q e0 (by exact hq)).1.lt; exact h9)) (by omega) (by omega)
theorem law_game {p : Program} {l : Launch} {e : Env} {s : State} {m : MethodId} {below : List Frame} {meth : Method} {c : Code} {H : Heap} {locs : List Loc} {cells slots : Nat} {Q : State → Prop} {ls : Array Slot} {g : XC} {D : va_G} {G : MG} {n0 b L i c0 k0 xa oa N : Nat} {xs : Nat → Int32} {τ : XL} {σ : MS} {Rel Rel1 : Nat → XL → MS → Prop} (hlT : l.stackTraces = false) (X : jX g D G n0 "DripCupsLaw" p s m #[Value.ref b] c cL_law 7) (hX : va_X b L xs s s.heap) (hbl : b < s.heap.size) (hi : i + 6 ≤ L) (hL : L ≤ 384) (hst : St_game Rel Rel1 g N xa oa) (h1 : H.size ≤ s.heap.size + c0) (h2 : slotsOf H ≤ slotsOf s.heap + k0) (hc0 : c0 + 14000 ≤ 928407) (hk0 : k0 + 97000 ≤ 6316261) (hw : jW g D G n0 τ σ s H) (hS : va_S (fun q => n0 ≤ q) s.heap H locs) (hR : Rel H.size τ σ)
    (hnext : ∀ (H : Heap) (locs : List Loc) (ls : Array Slot) (cells slots : Nat) (τ : XL) (σ : MS), jW g D G n0 τ σ s H → va_S (fun q => n0 ≤ q) s.heap H locs → lv_has ls 7 [(4, .int (nI (i + 6))), (1, .ref xa), (2, .ref G.1), (3, .ref oa), (0, .ref b)] → Rel1 H.size τ σ → H.size ≤ s.heap.size + (c0 + 14000) → slotsOf H ≤ slotsOf s.heap + (k0 + 97000) → W p l e room_1 s m #[Value.ref b] below meth c H locs cells slots Q (F0 m 23 ls []))
    (hl : lv_has ls 7 [(4, .int (nI i)), (1, .ref xa), (2, .ref G.1), (3, .ref oa), (0, .ref b)]) : W p l e room_1 s m #[Value.ref b] below meth c H locs cells slots Q (F0 m 1933 ls []) := by
  have hx := X.1.1
  have hb := X.1.2.1
  have hown := X.1.2.2.2.1
  have hn0 : s.heap.size = n0 := X.2.2.2.1
  refine lv_aload_n hx hb dL_law_1933 rfl (lv_at hl 1 rfl) ?_
  refine lv_aload_n hx hb dL_law_1934 rfl (lv_at hl 4 rfl) ?_
  refine lv_iload hx hb dL_law_1935 (lv_at hl 0 rfl) ?_
  refine lv_iconst (v := 1) hx hb dL_law_1937 (by decide) ?_
  refine lv_iadd hx hb dL_law_1938 ?_
  refine jr_sld (i := i) (k := 1) hx hb hX hbl hn0 hS (nI_add i 1) (by omega) hL dL_law_1939 ?_
  refine lv_aload_n hx hb dL_law_1940 rfl (lv_at hl 4 rfl) ?_
  refine lv_iload hx hb dL_law_1941 (lv_at hl 0 rfl) ?_
  refine lv_iconst (v := 2) hx hb dL_law_1943 (by decide) ?_
  refine lv_iadd hx hb dL_law_1944 ?_
  refine jr_sld (i := i) (k := 2) hx hb hX hbl hn0 hS (nI_add i 2) (by omega) hL dL_law_1945 ?_
  refine lv_aload_n hx hb dL_law_1946 rfl (lv_at hl 4 rfl) ?_
  refine lv_iload hx hb dL_law_1947 (lv_at hl 0 rfl) ?_
  refine lv_iconst (v := 3) hx hb dL_law_1949 (by decide) ?_
  refine lv_iadd hx hb dL_law_1950 ?_
  refine jr_sld (i := i) (k := 3) hx hb hX hbl hn0 hS (nI_add i 3) (by omega) hL dL_law_1951 ?_
  refine lv_aload_n hx hb dL_law_1952 rfl (lv_at hl 3 rfl) ?_
  obtain ⟨w, σ1, r, σ2, hx1, hm1, ht1, hv1, hRn⟩ := hst (xs (i + 1)) (xs (i + 2)) (xs (i + 3)) _ (slotsOf H) _ _ hR
  refine jr_wrap (lv := 84) (C := H.size + 14000) (K := slotsOf H + 97000) X hw hS (by omega) (by omega) (show _ ≤ s.heap.size + 928407 by omega) (show _ ≤ slotsOf s.heap + 6316261 by omega) (by decide) (by decide) (met_X0_game hlT N ((H.size, slotsOf H, H.size + 14000, slotsOf H + 97000), τ) xa (xs (i + 1)) (xs (i + 2)) (xs (i + 3)) oa w hx1) q1473 q1474 q114 q1475 cx_X0_game rfl hl.1 rfl (Nat.le_of_ble_eq_true rfl) dL_law_1953 (fun H locs cells slots hw hS hz hcz hsz => ?_)
  refine lv_istore (lv' := [(5, .int w.2), (4, .int (nI i)), (1, .ref xa), (2, .ref G.1), (3, .ref oa), (0, .ref b)]) hx hb dL_law_1956 hl (by decide) rfl (fun ls hl => ?_)
  refine lv_aload_n hx hb dL_law_1958 rfl (lv_at hl 3 rfl) ?_
  refine lv_aload_n hx hb dL_law_1959 rfl (lv_at hl 5 rfl) ?_
  refine lv_iload hx hb dL_law_1960 (lv_at hl 1 rfl) ?_
  refine lv_iconst (v := 1) hx hb dL_law_1962 (by decide) ?_
  refine lv_iadd hx hb dL_law_1963 ?_
  refine jr_sld (i := i) (k := 1) hx hb hX hbl hn0 hS (nI_add i 1) (by omega) hL dL_law_1964 ?_
  refine lv_aload_n hx hb dL_law_1965 rfl (lv_at hl 5 rfl) ?_
  refine lv_iload hx hb dL_law_1966 (lv_at hl 1 rfl) ?_
  refine lv_iconst (v := 2) hx hb dL_law_1968 (by decide) ?_
  refine lv_iadd hx hb dL_law_1969 ?_
  refine jr_sld (i := i) (k := 2) hx hb hX hbl hn0 hS (nI_add i 2) (by omega) hL dL_law_1970 ?_
  refine lv_aload_n hx hb dL_law_1971 rfl (lv_at hl 5 rfl) ?_
  refine lv_iload hx hb dL_law_1972 (lv_at hl 1 rfl) ?_
  refine lv_iconst (v := 3) hx hb dL_law_1974 (by decide) ?_
  refine lv_iadd hx hb dL_law_1975 ?_
  refine jr_sld (i := i) (k := 3) hx hb hX hbl hn0 hS (nI_add i 3) (by omega) hL dL_law_1976 ?_
  refine jr_mi (lv := 6) X hw hS (show _ ≤ s.heap.size + 928407 by omega) (show _ ≤ slotsOf s.heap + 6316261 by omega) (by decide) (by decide) (met_game (j_mOk X.2.2.1) N σ (xs (i + 1)) (xs (i + 2)) (xs (i + 3)) _ hm1) (lw_V q2193 q2194 q2195 q121 q2196) cy_game rfl hl.1 rfl (Nat.le_of_ble_eq_true rfl) dL_law_1977 (fun H locs cells slots hw hS hz hsl => ?_)
  refine lv_istore (lv' := [(6, .int r), (5, .int w.2), (4, .int (nI i)), (1, .ref xa), (2, .ref G.1), (3, .ref oa), (0, .ref b)]) hx hb dL_law_1980 hl (by decide) rfl (fun ls hl => ?_)
  refine lv_aload_n hx hb dL_law_1982 rfl (lv_at hl 4 rfl) ?_
  refine jr_mi (lv := 0) X hw hS (show _ ≤ s.heap.size + 928407 by omega) (show _ ≤ slotsOf s.heap + 6316261 by omega) (by decide) (by decide) (met_thrown (j_mOk X.2.2.1) N σ1 _ ht1) (lw_V q1769 q1770 q1771 q121 q1772) cy_thrown rfl hl.1 rfl (Nat.le_of_ble_eq_true rfl) dL_law_1983 (fun H locs cells slots hw hS hz hsl => ?_)
  refine lv_iload hx hb dL_law_1986 (lv_at hl 1 rfl) ?_
  refine lv_icmp_eq (tgt := 1993) hx hb dL_law_1988 (by decide) (fun _ => ?_) (fun z => absurd rfl z)
  refine lv_iload hx hb dL_law_1993 (lv_at hl 1 rfl) ?_
  refine lv_if_ne (tgt := 2010) hx hb dL_law_1995 (by decide) (fun z => ?_) (fun z => ?_)
  · skip
    refine lv_goto (tgt := 2706) hx hb dL_law_2010 (by decide) ?_
    refine lv_iinc (v := nI i + 6) (lv' := [(4, .int (nI i + 6)), (6, .int r), (5, .int w.2), (1, .ref xa), (2, .ref G.1), (3, .ref oa), (0, .ref b)]) hx hb dL_law_2706 hl (k := 2) rfl rfl (by decide) rfl (fun ls hl => ?_)
    refine lv_goto (tgt := 23) hx hb dL_law_2709 (by decide) ?_
    have hl := lv_sub hl [0, 3, 4, 5, 6] rfl
    exact hnext _ _ _ _ _ _ _ hw hS (by rw [← nI_add i 6]; exact hl) (hRn _ (by omega) (fun q e0 hq => by have h9 := (hw.1.1.1 q e0 (by exact hq)).1.lt; exact h9)) (by omega) (by omega)
  · have hv1 := hv1 (by first | exact z | exact Classical.byContradiction z)
    refine lv_aload_n hx hb dL_law_1998 rfl (lv_at hl 5 rfl) ?_
    refine lv_iconst (v := 0) hx hb dL_law_1999 (by decide) ?_
    refine jr_lald (C := 0) (K := 0) X hw rfl (S := w.1) rfl hv1 dL_law_2000 ?_
    refine lv_iload hx hb dL_law_2001 (lv_at hl 0 rfl) ?_
    refine lv_i2l hx hb dL_law_2003 rfl ?_
    refine W.lcmp hx hb dL_law_2004 ?_
    refine lv_if_eq (tgt := 2010) hx hb dL_law_2005 (by decide) (fun _ => ?_) (fun z => absurd (lg_cmp_self _) z)
    refine lv_goto (tgt := 2706) hx hb dL_law_2010 (by decide) ?_
    refine lv_iinc (v := nI i + 6) (lv' := [(4, .int (nI i + 6)), (6, .int r), (5, .int w.2), (1, .ref xa), (2, .ref G.1), (3, .ref oa), (0, .ref b)]) hx hb dL_law_2706 hl (k := 2) rfl rfl (by decide) rfl (fun ls hl => ?_)
    refine lv_goto (tgt := 23) hx hb dL_law_2709 (by decide) ?_
    have hl := lv_sub hl [0, 3, 4, 5, 6] rfl
    exact hnext _ _ _ _ _ _ _ hw hS (by rw [← nI_add i 6]; exact hl) (hRn _ (by omega) (fun q e0 hq => by have h9 := (hw.1.1.1 q e0 (by exact hq)).1.lt; exact h9)) (by omega) (by omega)
theorem law_years {p : Program} {l : Launch} {e : Env} {s : State} {m : MethodId} {below : List Frame} {meth : Method} {c : Code} {H : Heap} {locs : List Loc} {cells slots : Nat} {Q : State → Prop} {ls : Array Slot} {g : XC} {D : va_G} {G : MG} {n0 b L i c0 k0 xa oa N : Nat} {xs : Nat → Int32} {τ : XL} {σ : MS} {Rel Rel1 : Nat → XL → MS → Prop} (hlT : l.stackTraces = false) (X : jX g D G n0 "DripCupsLaw" p s m #[Value.ref b] c cL_law 7) (hX : va_X b L xs s s.heap) (hbl : b < s.heap.size) (hi : i + 6 ≤ L) (hL : L ≤ 384) (hst : St_years Rel Rel1 g N xa oa) (h1 : H.size ≤ s.heap.size + c0) (h2 : slotsOf H ≤ slotsOf s.heap + k0) (hc0 : c0 + 14000 ≤ 928407) (hk0 : k0 + 97000 ≤ 6316261) (hw : jW g D G n0 τ σ s H) (hS : va_S (fun q => n0 ≤ q) s.heap H locs) (hR : Rel H.size τ σ)
    (hnext : ∀ (H : Heap) (locs : List Loc) (ls : Array Slot) (cells slots : Nat) (τ : XL) (σ : MS), jW g D G n0 τ σ s H → va_S (fun q => n0 ≤ q) s.heap H locs → lv_has ls 7 [(4, .int (nI (i + 6))), (1, .ref xa), (2, .ref G.1), (3, .ref oa), (0, .ref b)] → Rel1 H.size τ σ → H.size ≤ s.heap.size + (c0 + 14000) → slotsOf H ≤ slotsOf s.heap + (k0 + 97000) → W p l e room_1 s m #[Value.ref b] below meth c H locs cells slots Q (F0 m 23 ls []))
    (hl : lv_has ls 7 [(4, .int (nI i)), (1, .ref xa), (2, .ref G.1), (3, .ref oa), (0, .ref b)]) : W p l e room_1 s m #[Value.ref b] below meth c H locs cells slots Q (F0 m 2013 ls []) := by
  have hx := X.1.1
  have hb := X.1.2.1
  have hown := X.1.2.2.2.1
  have hn0 : s.heap.size = n0 := X.2.2.2.1
  refine lv_aload_n hx hb dL_law_2013 rfl (lv_at hl 1 rfl) ?_
  refine lv_aload_n hx hb dL_law_2014 rfl (lv_at hl 4 rfl) ?_
  refine lv_iload hx hb dL_law_2015 (lv_at hl 0 rfl) ?_
  refine lv_iconst (v := 1) hx hb dL_law_2017 (by decide) ?_
  refine lv_iadd hx hb dL_law_2018 ?_
  refine jr_sld (i := i) (k := 1) hx hb hX hbl hn0 hS (nI_add i 1) (by omega) hL dL_law_2019 ?_
  refine lv_aload_n hx hb dL_law_2020 rfl (lv_at hl 4 rfl) ?_
  refine lv_iload hx hb dL_law_2021 (lv_at hl 0 rfl) ?_
  refine lv_iconst (v := 2) hx hb dL_law_2023 (by decide) ?_
  refine lv_iadd hx hb dL_law_2024 ?_
  refine jr_sld (i := i) (k := 2) hx hb hX hbl hn0 hS (nI_add i 2) (by omega) hL dL_law_2025 ?_
  refine lv_aload_n hx hb dL_law_2026 rfl (lv_at hl 4 rfl) ?_
  refine lv_iload hx hb dL_law_2027 (lv_at hl 0 rfl) ?_
  refine lv_iconst (v := 3) hx hb dL_law_2029 (by decide) ?_
  refine lv_iadd hx hb dL_law_2030 ?_
  refine jr_sld (i := i) (k := 3) hx hb hX hbl hn0 hS (nI_add i 3) (by omega) hL dL_law_2031 ?_
  refine lv_aload_n hx hb dL_law_2032 rfl (lv_at hl 3 rfl) ?_
  obtain ⟨w, σ1, r, σ2, hx1, hm1, ht1, hv1, hRn⟩ := hst (xs (i + 1)) (xs (i + 2)) (xs (i + 3)) _ (slotsOf H) _ _ hR
  refine jr_wrap (lv := 82) (C := H.size + 14000) (K := slotsOf H + 97000) X hw hS (by omega) (by omega) (show _ ≤ s.heap.size + 928407 by omega) (show _ ≤ slotsOf s.heap + 6316261 by omega) (by decide) (by decide) (met_X0_years hlT N ((H.size, slotsOf H, H.size + 14000, slotsOf H + 97000), τ) xa (xs (i + 1)) (xs (i + 2)) (xs (i + 3)) oa w hx1) q1484 q1485 q114 q1486 cx_X0_years rfl hl.1 rfl (Nat.le_of_ble_eq_true rfl) dL_law_2033 (fun H locs cells slots hw hS hz hcz hsz => ?_)
  refine lv_istore (lv' := [(5, .int w.2), (4, .int (nI i)), (1, .ref xa), (2, .ref G.1), (3, .ref oa), (0, .ref b)]) hx hb dL_law_2036 hl (by decide) rfl (fun ls hl => ?_)
  refine lv_aload_n hx hb dL_law_2038 rfl (lv_at hl 3 rfl) ?_
  refine lv_aload_n hx hb dL_law_2039 rfl (lv_at hl 5 rfl) ?_
  refine lv_iload hx hb dL_law_2040 (lv_at hl 1 rfl) ?_
  refine lv_iconst (v := 1) hx hb dL_law_2042 (by decide) ?_
  refine lv_iadd hx hb dL_law_2043 ?_
  refine jr_sld (i := i) (k := 1) hx hb hX hbl hn0 hS (nI_add i 1) (by omega) hL dL_law_2044 ?_
  refine lv_aload_n hx hb dL_law_2045 rfl (lv_at hl 5 rfl) ?_
  refine lv_iload hx hb dL_law_2046 (lv_at hl 1 rfl) ?_
  refine lv_iconst (v := 2) hx hb dL_law_2048 (by decide) ?_
  refine lv_iadd hx hb dL_law_2049 ?_
  refine jr_sld (i := i) (k := 2) hx hb hX hbl hn0 hS (nI_add i 2) (by omega) hL dL_law_2050 ?_
  refine lv_aload_n hx hb dL_law_2051 rfl (lv_at hl 5 rfl) ?_
  refine lv_iload hx hb dL_law_2052 (lv_at hl 1 rfl) ?_
  refine lv_iconst (v := 3) hx hb dL_law_2054 (by decide) ?_
  refine lv_iadd hx hb dL_law_2055 ?_
  refine jr_sld (i := i) (k := 3) hx hb hX hbl hn0 hS (nI_add i 3) (by omega) hL dL_law_2056 ?_
  refine jr_mi (lv := 5) X hw hS (show _ ≤ s.heap.size + 928407 by omega) (show _ ≤ slotsOf s.heap + 6316261 by omega) (by decide) (by decide) (met_years (j_mOk X.2.2.1) N σ (xs (i + 1)) (xs (i + 2)) (xs (i + 3)) _ hm1) (lw_V q2201 q2202 q2203 q121 q2204) cy_years rfl hl.1 rfl (Nat.le_of_ble_eq_true rfl) dL_law_2057 (fun H locs cells slots hw hS hz hsl => ?_)
  refine lv_istore (lv' := [(6, .int r), (5, .int w.2), (4, .int (nI i)), (1, .ref xa), (2, .ref G.1), (3, .ref oa), (0, .ref b)]) hx hb dL_law_2060 hl (by decide) rfl (fun ls hl => ?_)
  refine lv_aload_n hx hb dL_law_2062 rfl (lv_at hl 4 rfl) ?_
  refine jr_mi (lv := 0) X hw hS (show _ ≤ s.heap.size + 928407 by omega) (show _ ≤ slotsOf s.heap + 6316261 by omega) (by decide) (by decide) (met_thrown (j_mOk X.2.2.1) N σ1 _ ht1) (lw_V q1769 q1770 q1771 q121 q1772) cy_thrown rfl hl.1 rfl (Nat.le_of_ble_eq_true rfl) dL_law_2063 (fun H locs cells slots hw hS hz hsl => ?_)
  refine lv_iload hx hb dL_law_2066 (lv_at hl 1 rfl) ?_
  refine lv_icmp_eq (tgt := 2073) hx hb dL_law_2068 (by decide) (fun _ => ?_) (fun z => absurd rfl z)
  refine lv_iload hx hb dL_law_2073 (lv_at hl 1 rfl) ?_
  refine lv_if_ne (tgt := 2090) hx hb dL_law_2075 (by decide) (fun z => ?_) (fun z => ?_)
  · skip
    refine lv_goto (tgt := 2706) hx hb dL_law_2090 (by decide) ?_
    refine lv_iinc (v := nI i + 6) (lv' := [(4, .int (nI i + 6)), (6, .int r), (5, .int w.2), (1, .ref xa), (2, .ref G.1), (3, .ref oa), (0, .ref b)]) hx hb dL_law_2706 hl (k := 2) rfl rfl (by decide) rfl (fun ls hl => ?_)
    refine lv_goto (tgt := 23) hx hb dL_law_2709 (by decide) ?_
    have hl := lv_sub hl [0, 3, 4, 5, 6] rfl
    exact hnext _ _ _ _ _ _ _ hw hS (by rw [← nI_add i 6]; exact hl) (hRn _ (by omega) (fun q e0 hq => by have h9 := (hw.1.1.1 q e0 (by exact hq)).1.lt; exact h9)) (by omega) (by omega)
  · have hv1 := hv1 (by first | exact z | exact Classical.byContradiction z)
    refine lv_aload_n hx hb dL_law_2078 rfl (lv_at hl 5 rfl) ?_
    refine lv_iconst (v := 0) hx hb dL_law_2079 (by decide) ?_
    refine jr_lald (C := 0) (K := 0) X hw rfl (S := w.1) rfl hv1 dL_law_2080 ?_
    refine lv_iload hx hb dL_law_2081 (lv_at hl 0 rfl) ?_
    refine lv_i2l hx hb dL_law_2083 rfl ?_
    refine W.lcmp hx hb dL_law_2084 ?_
    refine lv_if_eq (tgt := 2090) hx hb dL_law_2085 (by decide) (fun _ => ?_) (fun z => absurd (lg_cmp_self _) z)
    refine lv_goto (tgt := 2706) hx hb dL_law_2090 (by decide) ?_
    refine lv_iinc (v := nI i + 6) (lv' := [(4, .int (nI i + 6)), (6, .int r), (5, .int w.2), (1, .ref xa), (2, .ref G.1), (3, .ref oa), (0, .ref b)]) hx hb dL_law_2706 hl (k := 2) rfl rfl (by decide) rfl (fun ls hl => ?_)
    refine lv_goto (tgt := 23) hx hb dL_law_2709 (by decide) ?_
    have hl := lv_sub hl [0, 3, 4, 5, 6] rfl
    exact hnext _ _ _ _ _ _ _ hw hS (by rw [← nI_add i 6]; exact hl) (hRn _ (by omega) (fun q e0 hq => by have h9 := (hw.1.1.1 q e0 (by exact hq)).1.lt; exact h9)) (by omega) (by omega)
theorem law_later {p : Program} {l : Launch} {e : Env} {s : State} {m : MethodId} {below : List Frame} {meth : Method} {c : Code} {H : Heap} {locs : List Loc} {cells slots : Nat} {Q : State → Prop} {ls : Array Slot} {g : XC} {D : va_G} {G : MG} {n0 b L i c0 k0 xa oa N : Nat} {xs : Nat → Int32} {τ : XL} {σ : MS} {Rel Rel1 : Nat → XL → MS → Prop} (hlT : l.stackTraces = false) (X : jX g D G n0 "DripCupsLaw" p s m #[Value.ref b] c cL_law 7) (hX : va_X b L xs s s.heap) (hbl : b < s.heap.size) (hi : i + 6 ≤ L) (hL : L ≤ 384) (hst : St_later Rel Rel1 g N xa oa) (h1 : H.size ≤ s.heap.size + c0) (h2 : slotsOf H ≤ slotsOf s.heap + k0) (hc0 : c0 + 14000 ≤ 928407) (hk0 : k0 + 97000 ≤ 6316261) (hw : jW g D G n0 τ σ s H) (hS : va_S (fun q => n0 ≤ q) s.heap H locs) (hR : Rel H.size τ σ)
    (hnext : ∀ (H : Heap) (locs : List Loc) (ls : Array Slot) (cells slots : Nat) (τ : XL) (σ : MS), jW g D G n0 τ σ s H → va_S (fun q => n0 ≤ q) s.heap H locs → lv_has ls 7 [(4, .int (nI (i + 6))), (1, .ref xa), (2, .ref G.1), (3, .ref oa), (0, .ref b)] → Rel1 H.size τ σ → H.size ≤ s.heap.size + (c0 + 14000) → slotsOf H ≤ slotsOf s.heap + (k0 + 97000) → W p l e room_1 s m #[Value.ref b] below meth c H locs cells slots Q (F0 m 23 ls []))
    (hl : lv_has ls 7 [(4, .int (nI i)), (1, .ref xa), (2, .ref G.1), (3, .ref oa), (0, .ref b)]) : W p l e room_1 s m #[Value.ref b] below meth c H locs cells slots Q (F0 m 2093 ls []) := by
  have hx := X.1.1
  have hb := X.1.2.1
  have hown := X.1.2.2.2.1
  have hn0 : s.heap.size = n0 := X.2.2.2.1
  refine lv_aload_n hx hb dL_law_2093 rfl (lv_at hl 1 rfl) ?_
  refine lv_aload_n hx hb dL_law_2094 rfl (lv_at hl 4 rfl) ?_
  refine lv_iload hx hb dL_law_2095 (lv_at hl 0 rfl) ?_
  refine lv_iconst (v := 1) hx hb dL_law_2097 (by decide) ?_
  refine lv_iadd hx hb dL_law_2098 ?_
  refine jr_sld (i := i) (k := 1) hx hb hX hbl hn0 hS (nI_add i 1) (by omega) hL dL_law_2099 ?_
  refine lv_aload_n hx hb dL_law_2100 rfl (lv_at hl 4 rfl) ?_
  refine lv_iload hx hb dL_law_2101 (lv_at hl 0 rfl) ?_
  refine lv_iconst (v := 2) hx hb dL_law_2103 (by decide) ?_
  refine lv_iadd hx hb dL_law_2104 ?_
  refine jr_sld (i := i) (k := 2) hx hb hX hbl hn0 hS (nI_add i 2) (by omega) hL dL_law_2105 ?_
  refine lv_aload_n hx hb dL_law_2106 rfl (lv_at hl 3 rfl) ?_
  obtain ⟨w, σ1, r, σ2, hx1, hm1, ht1, hv1, hRn⟩ := hst (xs (i + 1)) (xs (i + 2)) _ (slotsOf H) _ _ hR
  refine jr_wrap (lv := 84) (C := H.size + 14000) (K := slotsOf H + 97000) X hw hS (by omega) (by omega) (show _ ≤ s.heap.size + 928407 by omega) (show _ ≤ slotsOf s.heap + 6316261 by omega) (by decide) (by decide) (met_X0_later hlT N ((H.size, slotsOf H, H.size + 14000, slotsOf H + 97000), τ) xa (xs (i + 1)) (xs (i + 2)) oa w hx1) q1500 q1501 q114 q1502 cx_X0_later rfl hl.1 rfl (Nat.le_of_ble_eq_true rfl) dL_law_2107 (fun H locs cells slots hw hS hz hcz hsz => ?_)
  refine lv_istore (lv' := [(5, .int w.2), (4, .int (nI i)), (1, .ref xa), (2, .ref G.1), (3, .ref oa), (0, .ref b)]) hx hb dL_law_2110 hl (by decide) rfl (fun ls hl => ?_)
  refine lv_aload_n hx hb dL_law_2112 rfl (lv_at hl 3 rfl) ?_
  refine lv_aload_n hx hb dL_law_2113 rfl (lv_at hl 5 rfl) ?_
  refine lv_iload hx hb dL_law_2114 (lv_at hl 1 rfl) ?_
  refine lv_iconst (v := 1) hx hb dL_law_2116 (by decide) ?_
  refine lv_iadd hx hb dL_law_2117 ?_
  refine jr_sld (i := i) (k := 1) hx hb hX hbl hn0 hS (nI_add i 1) (by omega) hL dL_law_2118 ?_
  refine lv_aload_n hx hb dL_law_2119 rfl (lv_at hl 5 rfl) ?_
  refine lv_iload hx hb dL_law_2120 (lv_at hl 1 rfl) ?_
  refine lv_iconst (v := 2) hx hb dL_law_2122 (by decide) ?_
  refine lv_iadd hx hb dL_law_2123 ?_
  refine jr_sld (i := i) (k := 2) hx hb hX hbl hn0 hS (nI_add i 2) (by omega) hL dL_law_2124 ?_
  refine jr_mi (lv := 5) X hw hS (show _ ≤ s.heap.size + 928407 by omega) (show _ ≤ slotsOf s.heap + 6316261 by omega) (by decide) (by decide) (met_later (j_mOk X.2.2.1) N σ (xs (i + 1)) (xs (i + 2)) _ hm1) (lw_V q2099 q2100 q2101 q121 q2102) cy_later rfl hl.1 rfl (Nat.le_of_ble_eq_true rfl) dL_law_2125 (fun H locs cells slots hw hS hz hsl => ?_)
  refine lv_istore (lv' := [(6, .int r), (5, .int w.2), (4, .int (nI i)), (1, .ref xa), (2, .ref G.1), (3, .ref oa), (0, .ref b)]) hx hb dL_law_2128 hl (by decide) rfl (fun ls hl => ?_)
  refine lv_aload_n hx hb dL_law_2130 rfl (lv_at hl 4 rfl) ?_
  refine jr_mi (lv := 0) X hw hS (show _ ≤ s.heap.size + 928407 by omega) (show _ ≤ slotsOf s.heap + 6316261 by omega) (by decide) (by decide) (met_thrown (j_mOk X.2.2.1) N σ1 _ ht1) (lw_V q1769 q1770 q1771 q121 q1772) cy_thrown rfl hl.1 rfl (Nat.le_of_ble_eq_true rfl) dL_law_2131 (fun H locs cells slots hw hS hz hsl => ?_)
  refine lv_iload hx hb dL_law_2134 (lv_at hl 1 rfl) ?_
  refine lv_icmp_eq (tgt := 2141) hx hb dL_law_2136 (by decide) (fun _ => ?_) (fun z => absurd rfl z)
  refine lv_iload hx hb dL_law_2141 (lv_at hl 1 rfl) ?_
  refine lv_if_ne (tgt := 2158) hx hb dL_law_2143 (by decide) (fun z => ?_) (fun z => ?_)
  · skip
    refine lv_goto (tgt := 2706) hx hb dL_law_2158 (by decide) ?_
    refine lv_iinc (v := nI i + 6) (lv' := [(4, .int (nI i + 6)), (6, .int r), (5, .int w.2), (1, .ref xa), (2, .ref G.1), (3, .ref oa), (0, .ref b)]) hx hb dL_law_2706 hl (k := 2) rfl rfl (by decide) rfl (fun ls hl => ?_)
    refine lv_goto (tgt := 23) hx hb dL_law_2709 (by decide) ?_
    have hl := lv_sub hl [0, 3, 4, 5, 6] rfl
    exact hnext _ _ _ _ _ _ _ hw hS (by rw [← nI_add i 6]; exact hl) (hRn _ (by omega) (fun q e0 hq => by have h9 := (hw.1.1.1 q e0 (by exact hq)).1.lt; exact h9)) (by omega) (by omega)
  · have hv1 := hv1 (by first | exact z | exact Classical.byContradiction z)
    refine lv_aload_n hx hb dL_law_2146 rfl (lv_at hl 5 rfl) ?_
    refine lv_iconst (v := 0) hx hb dL_law_2147 (by decide) ?_
    refine jr_lald (C := 0) (K := 0) X hw rfl (S := w.1) rfl hv1 dL_law_2148 ?_
    refine lv_iload hx hb dL_law_2149 (lv_at hl 0 rfl) ?_
    refine lv_i2l hx hb dL_law_2151 rfl ?_
    refine W.lcmp hx hb dL_law_2152 ?_
    refine lv_if_eq (tgt := 2158) hx hb dL_law_2153 (by decide) (fun _ => ?_) (fun z => absurd (lg_cmp_self _) z)
    refine lv_goto (tgt := 2706) hx hb dL_law_2158 (by decide) ?_
    refine lv_iinc (v := nI i + 6) (lv' := [(4, .int (nI i + 6)), (6, .int r), (5, .int w.2), (1, .ref xa), (2, .ref G.1), (3, .ref oa), (0, .ref b)]) hx hb dL_law_2706 hl (k := 2) rfl rfl (by decide) rfl (fun ls hl => ?_)
    refine lv_goto (tgt := 23) hx hb dL_law_2709 (by decide) ?_
    have hl := lv_sub hl [0, 3, 4, 5, 6] rfl
    exact hnext _ _ _ _ _ _ _ hw hS (by rw [← nI_add i 6]; exact hl) (hRn _ (by omega) (fun q e0 hq => by have h9 := (hw.1.1.1 q e0 (by exact hq)).1.lt; exact h9)) (by omega) (by omega)
theorem law_oftenest {p : Program} {l : Launch} {e : Env} {s : State} {m : MethodId} {below : List Frame} {meth : Method} {c : Code} {H : Heap} {locs : List Loc} {cells slots : Nat} {Q : State → Prop} {ls : Array Slot} {g : XC} {D : va_G} {G : MG} {n0 b L i c0 k0 xa oa N : Nat} {xs : Nat → Int32} {τ : XL} {σ : MS} {Rel Rel1 : Nat → XL → MS → Prop} (hlT : l.stackTraces = false) (X : jX g D G n0 "DripCupsLaw" p s m #[Value.ref b] c cL_law 7) (hX : va_X b L xs s s.heap) (hbl : b < s.heap.size) (hi : i + 6 ≤ L) (hL : L ≤ 384) (hst : St_oftenest Rel Rel1 g N xa oa) (h1 : H.size ≤ s.heap.size + c0) (h2 : slotsOf H ≤ slotsOf s.heap + k0) (hc0 : c0 + 14000 ≤ 928407) (hk0 : k0 + 97000 ≤ 6316261) (hw : jW g D G n0 τ σ s H) (hS : va_S (fun q => n0 ≤ q) s.heap H locs) (hR : Rel H.size τ σ)
    (hnext : ∀ (H : Heap) (locs : List Loc) (ls : Array Slot) (cells slots : Nat) (τ : XL) (σ : MS), jW g D G n0 τ σ s H → va_S (fun q => n0 ≤ q) s.heap H locs → lv_has ls 7 [(4, .int (nI (i + 6))), (1, .ref xa), (2, .ref G.1), (3, .ref oa), (0, .ref b)] → Rel1 H.size τ σ → H.size ≤ s.heap.size + (c0 + 14000) → slotsOf H ≤ slotsOf s.heap + (k0 + 97000) → W p l e room_1 s m #[Value.ref b] below meth c H locs cells slots Q (F0 m 23 ls []))
    (hl : lv_has ls 7 [(4, .int (nI i)), (1, .ref xa), (2, .ref G.1), (3, .ref oa), (0, .ref b)]) : W p l e room_1 s m #[Value.ref b] below meth c H locs cells slots Q (F0 m 2161 ls []) := by
  have hx := X.1.1
  have hb := X.1.2.1
  have hown := X.1.2.2.2.1
  have hn0 : s.heap.size = n0 := X.2.2.2.1
  refine lv_aload_n hx hb dL_law_2161 rfl (lv_at hl 1 rfl) ?_
  refine lv_aload_n hx hb dL_law_2162 rfl (lv_at hl 4 rfl) ?_
  refine lv_iload hx hb dL_law_2163 (lv_at hl 0 rfl) ?_
  refine lv_iconst (v := 1) hx hb dL_law_2165 (by decide) ?_
  refine lv_iadd hx hb dL_law_2166 ?_
  refine jr_sld (i := i) (k := 1) hx hb hX hbl hn0 hS (nI_add i 1) (by omega) hL dL_law_2167 ?_
  refine lv_aload_n hx hb dL_law_2168 rfl (lv_at hl 3 rfl) ?_
  obtain ⟨w, σ1, r, σ2, hx1, hm1, ht1, hv1, hRn⟩ := hst (xs (i + 1)) _ (slotsOf H) _ _ hR
  refine jr_wrap (lv := 84) (C := H.size + 14000) (K := slotsOf H + 97000) X hw hS (by omega) (by omega) (show _ ≤ s.heap.size + 928407 by omega) (show _ ≤ slotsOf s.heap + 6316261 by omega) (by decide) (by decide) (met_X0_oftenest hlT N ((H.size, slotsOf H, H.size + 14000, slotsOf H + 97000), τ) xa (xs (i + 1)) oa w hx1) q1515 q1516 q114 q1517 cx_X0_oftenest rfl hl.1 rfl (Nat.le_of_ble_eq_true rfl) dL_law_2169 (fun H locs cells slots hw hS hz hcz hsz => ?_)
  refine lv_istore (lv' := [(5, .int w.2), (4, .int (nI i)), (1, .ref xa), (2, .ref G.1), (3, .ref oa), (0, .ref b)]) hx hb dL_law_2172 hl (by decide) rfl (fun ls hl => ?_)
  refine lv_aload_n hx hb dL_law_2174 rfl (lv_at hl 3 rfl) ?_
  refine lv_aload_n hx hb dL_law_2175 rfl (lv_at hl 5 rfl) ?_
  refine lv_iload hx hb dL_law_2176 (lv_at hl 1 rfl) ?_
  refine lv_iconst (v := 1) hx hb dL_law_2178 (by decide) ?_
  refine lv_iadd hx hb dL_law_2179 ?_
  refine jr_sld (i := i) (k := 1) hx hb hX hbl hn0 hS (nI_add i 1) (by omega) hL dL_law_2180 ?_
  refine jr_mi (lv := 5) X hw hS (show _ ≤ s.heap.size + 928407 by omega) (show _ ≤ slotsOf s.heap + 6316261 by omega) (by decide) (by decide) (met_oftenest (j_mOk X.2.2.1) N σ (xs (i + 1)) _ hm1) (lw_V q2103 q2104 q2105 q121 q2106) cy_oftenest rfl hl.1 rfl (Nat.le_of_ble_eq_true rfl) dL_law_2181 (fun H locs cells slots hw hS hz hsl => ?_)
  refine lv_istore (lv' := [(6, .int r), (5, .int w.2), (4, .int (nI i)), (1, .ref xa), (2, .ref G.1), (3, .ref oa), (0, .ref b)]) hx hb dL_law_2184 hl (by decide) rfl (fun ls hl => ?_)
  refine lv_aload_n hx hb dL_law_2186 rfl (lv_at hl 4 rfl) ?_
  refine jr_mi (lv := 0) X hw hS (show _ ≤ s.heap.size + 928407 by omega) (show _ ≤ slotsOf s.heap + 6316261 by omega) (by decide) (by decide) (met_thrown (j_mOk X.2.2.1) N σ1 _ ht1) (lw_V q1769 q1770 q1771 q121 q1772) cy_thrown rfl hl.1 rfl (Nat.le_of_ble_eq_true rfl) dL_law_2187 (fun H locs cells slots hw hS hz hsl => ?_)
  refine lv_iload hx hb dL_law_2190 (lv_at hl 1 rfl) ?_
  refine lv_icmp_eq (tgt := 2197) hx hb dL_law_2192 (by decide) (fun _ => ?_) (fun z => absurd rfl z)
  refine lv_iload hx hb dL_law_2197 (lv_at hl 1 rfl) ?_
  refine lv_if_ne (tgt := 2214) hx hb dL_law_2199 (by decide) (fun z => ?_) (fun z => ?_)
  · skip
    refine lv_goto (tgt := 2706) hx hb dL_law_2214 (by decide) ?_
    refine lv_iinc (v := nI i + 6) (lv' := [(4, .int (nI i + 6)), (6, .int r), (5, .int w.2), (1, .ref xa), (2, .ref G.1), (3, .ref oa), (0, .ref b)]) hx hb dL_law_2706 hl (k := 2) rfl rfl (by decide) rfl (fun ls hl => ?_)
    refine lv_goto (tgt := 23) hx hb dL_law_2709 (by decide) ?_
    have hl := lv_sub hl [0, 3, 4, 5, 6] rfl
    exact hnext _ _ _ _ _ _ _ hw hS (by rw [← nI_add i 6]; exact hl) (hRn _ (by omega) (fun q e0 hq => by have h9 := (hw.1.1.1 q e0 (by exact hq)).1.lt; exact h9)) (by omega) (by omega)
  · have hv1 := hv1 (by first | exact z | exact Classical.byContradiction z)
    refine lv_aload_n hx hb dL_law_2202 rfl (lv_at hl 5 rfl) ?_
    refine lv_iconst (v := 0) hx hb dL_law_2203 (by decide) ?_
    refine jr_lald (C := 0) (K := 0) X hw rfl (S := w.1) rfl hv1 dL_law_2204 ?_
    refine lv_iload hx hb dL_law_2205 (lv_at hl 0 rfl) ?_
    refine lv_i2l hx hb dL_law_2207 rfl ?_
    refine W.lcmp hx hb dL_law_2208 ?_
    refine lv_if_eq (tgt := 2214) hx hb dL_law_2209 (by decide) (fun _ => ?_) (fun z => absurd (lg_cmp_self _) z)
    refine lv_goto (tgt := 2706) hx hb dL_law_2214 (by decide) ?_
    refine lv_iinc (v := nI i + 6) (lv' := [(4, .int (nI i + 6)), (6, .int r), (5, .int w.2), (1, .ref xa), (2, .ref G.1), (3, .ref oa), (0, .ref b)]) hx hb dL_law_2706 hl (k := 2) rfl rfl (by decide) rfl (fun ls hl => ?_)
    refine lv_goto (tgt := 23) hx hb dL_law_2709 (by decide) ?_
    have hl := lv_sub hl [0, 3, 4, 5, 6] rfl
    exact hnext _ _ _ _ _ _ _ hw hS (by rw [← nI_add i 6]; exact hl) (hRn _ (by omega) (fun q e0 hq => by have h9 := (hw.1.1.1 q e0 (by exact hq)).1.lt; exact h9)) (by omega) (by omega)
theorem law_round {p : Program} {l : Launch} {e : Env} {s : State} {m : MethodId} {below : List Frame} {meth : Method} {c : Code} {H : Heap} {locs : List Loc} {cells slots : Nat} {Q : State → Prop} {ls : Array Slot} {g : XC} {D : va_G} {G : MG} {n0 b L i c0 k0 xa oa N : Nat} {xs : Nat → Int32} {τ : XL} {σ : MS} {Rel Rel1 : Nat → XL → MS → Prop} (hlT : l.stackTraces = false) (X : jX g D G n0 "DripCupsLaw" p s m #[Value.ref b] c cL_law 7) (hX : va_X b L xs s s.heap) (hbl : b < s.heap.size) (hi : i + 6 ≤ L) (hL : L ≤ 384) (hst : St_round Rel Rel1 g N xa oa) (h1 : H.size ≤ s.heap.size + c0) (h2 : slotsOf H ≤ slotsOf s.heap + k0) (hc0 : c0 + 14000 ≤ 928407) (hk0 : k0 + 97000 ≤ 6316261) (hw : jW g D G n0 τ σ s H) (hS : va_S (fun q => n0 ≤ q) s.heap H locs) (hR : Rel H.size τ σ)
    (hnext : ∀ (H : Heap) (locs : List Loc) (ls : Array Slot) (cells slots : Nat) (τ : XL) (σ : MS), jW g D G n0 τ σ s H → va_S (fun q => n0 ≤ q) s.heap H locs → lv_has ls 7 [(4, .int (nI (i + 6))), (1, .ref xa), (2, .ref G.1), (3, .ref oa), (0, .ref b)] → Rel1 H.size τ σ → H.size ≤ s.heap.size + (c0 + 14000) → slotsOf H ≤ slotsOf s.heap + (k0 + 97000) → W p l e room_1 s m #[Value.ref b] below meth c H locs cells slots Q (F0 m 23 ls []))
    (hl : lv_has ls 7 [(4, .int (nI i)), (1, .ref xa), (2, .ref G.1), (3, .ref oa), (0, .ref b)]) : W p l e room_1 s m #[Value.ref b] below meth c H locs cells slots Q (F0 m 2217 ls []) := by
  have hx := X.1.1
  have hb := X.1.2.1
  have hown := X.1.2.2.2.1
  have hn0 : s.heap.size = n0 := X.2.2.2.1
  refine lv_aload_n hx hb dL_law_2217 rfl (lv_at hl 1 rfl) ?_
  obtain ⟨u0, w, σ1, hu0, hx1, hm1, hRn⟩ := hst _ (slotsOf H) _ _ hR
  refine jr_xi (lv := 81) (C := H.size + 14000) (K := slotsOf H + 97000) X hw hS (by omega) (by omega) (show _ ≤ s.heap.size + 928407 by omega) (show _ ≤ slotsOf s.heap + 6316261 by omega) (by decide) (by decide) (met_X1_round N ((H.size, slotsOf H, H.size + 14000, slotsOf H + 97000), τ) xa w hx1) xc1 hu0 (lw_V q604 q605 q606 q115 q607) cx_X1_round rfl hl.1 rfl (Nat.le_of_ble_eq_true rfl) dL_law_2218 (fun H locs cells slots hw hS hz hcz hsz => ?_)
  refine lv_aload_n hx hb dL_law_2221 rfl (lv_at hl 2 rfl) ?_
  refine jr_mi (lv := 5) X hw hS (show _ ≤ s.heap.size + 928407 by omega) (show _ ≤ slotsOf s.heap + 6316261 by omega) (by decide) (by decide) (met_round (j_mOk X.2.2.1) N σ _ hm1) (lw_V q2107 q2108 q2109 q121 q2110) cy_round rfl hl.1 rfl (Nat.le_of_ble_eq_true rfl) dL_law_2222 (fun H locs cells slots hw hS hz hsl => ?_)
  refine lv_icmp_eq (tgt := 2706) hx hb dL_law_2225 (by decide) (fun _ => ?_) (fun z => absurd rfl z)
  refine lv_iinc (v := nI i + 6) (lv' := [(4, .int (nI i + 6)), (1, .ref xa), (2, .ref G.1), (3, .ref oa), (0, .ref b)]) hx hb dL_law_2706 hl (k := 0) rfl rfl (by decide) rfl (fun ls hl => ?_)
  refine lv_goto (tgt := 23) hx hb dL_law_2709 (by decide) ?_
  have hl := lv_sub hl [0, 1, 2, 3, 4] rfl
  exact hnext _ _ _ _ _ _ _ hw hS (by rw [← nI_add i 6]; exact hl) (hRn _ (by omega) (fun q e0 hq => by have h9 := (hw.1.1.1 q e0 (by exact hq)).1.lt; exact h9)) (by omega) (by omega)
theorem law_pause {p : Program} {l : Launch} {e : Env} {s : State} {m : MethodId} {below : List Frame} {meth : Method} {c : Code} {H : Heap} {locs : List Loc} {cells slots : Nat} {Q : State → Prop} {ls : Array Slot} {g : XC} {D : va_G} {G : MG} {n0 b L i c0 k0 xa oa N : Nat} {xs : Nat → Int32} {τ : XL} {σ : MS} {Rel Rel1 : Nat → XL → MS → Prop} (hlT : l.stackTraces = false) (X : jX g D G n0 "DripCupsLaw" p s m #[Value.ref b] c cL_law 7) (hX : va_X b L xs s s.heap) (hbl : b < s.heap.size) (hi : i + 6 ≤ L) (hL : L ≤ 384) (hst : St_pause Rel Rel1 g N xa oa) (h1 : H.size ≤ s.heap.size + c0) (h2 : slotsOf H ≤ slotsOf s.heap + k0) (hc0 : c0 + 14000 ≤ 928407) (hk0 : k0 + 97000 ≤ 6316261) (hw : jW g D G n0 τ σ s H) (hS : va_S (fun q => n0 ≤ q) s.heap H locs) (hR : Rel H.size τ σ)
    (hnext : ∀ (H : Heap) (locs : List Loc) (ls : Array Slot) (cells slots : Nat) (τ : XL) (σ : MS), jW g D G n0 τ σ s H → va_S (fun q => n0 ≤ q) s.heap H locs → lv_has ls 7 [(4, .int (nI (i + 6))), (1, .ref xa), (2, .ref G.1), (3, .ref oa), (0, .ref b)] → Rel1 H.size τ σ → H.size ≤ s.heap.size + (c0 + 14000) → slotsOf H ≤ slotsOf s.heap + (k0 + 97000) → W p l e room_1 s m #[Value.ref b] below meth c H locs cells slots Q (F0 m 23 ls []))
    (hl : lv_has ls 7 [(4, .int (nI i)), (1, .ref xa), (2, .ref G.1), (3, .ref oa), (0, .ref b)]) : W p l e room_1 s m #[Value.ref b] below meth c H locs cells slots Q (F0 m 2230 ls []) := by
  have hx := X.1.1
  have hb := X.1.2.1
  have hown := X.1.2.2.2.1
  have hn0 : s.heap.size = n0 := X.2.2.2.1
  refine lv_aload_n hx hb dL_law_2230 rfl (lv_at hl 1 rfl) ?_
  refine lv_aload_n hx hb dL_law_2231 rfl (lv_at hl 4 rfl) ?_
  refine lv_iload hx hb dL_law_2232 (lv_at hl 0 rfl) ?_
  refine lv_iconst (v := 1) hx hb dL_law_2234 (by decide) ?_
  refine lv_iadd hx hb dL_law_2235 ?_
  refine jr_sld (i := i) (k := 1) hx hb hX hbl hn0 hS (nI_add i 1) (by omega) hL dL_law_2236 ?_
  refine lv_aload_n hx hb dL_law_2237 rfl (lv_at hl 3 rfl) ?_
  obtain ⟨w, σ1, r, σ2, hx1, hm1, ht1, hv1, hRn⟩ := hst (xs (i + 1)) _ (slotsOf H) _ _ hR
  refine jr_wrap (lv := 82) (C := H.size + 14000) (K := slotsOf H + 97000) X hw hS (by omega) (by omega) (show _ ≤ s.heap.size + 928407 by omega) (show _ ≤ slotsOf s.heap + 6316261 by omega) (by decide) (by decide) (met_X0_pause hlT N ((H.size, slotsOf H, H.size + 14000, slotsOf H + 97000), τ) xa (xs (i + 1)) oa w hx1) q1522 q1523 q114 q1524 cx_X0_pause rfl hl.1 rfl (Nat.le_of_ble_eq_true rfl) dL_law_2238 (fun H locs cells slots hw hS hz hcz hsz => ?_)
  refine lv_istore (lv' := [(5, .int w.2), (4, .int (nI i)), (1, .ref xa), (2, .ref G.1), (3, .ref oa), (0, .ref b)]) hx hb dL_law_2241 hl (by decide) rfl (fun ls hl => ?_)
  refine lv_aload_n hx hb dL_law_2243 rfl (lv_at hl 3 rfl) ?_
  refine lv_aload_n hx hb dL_law_2244 rfl (lv_at hl 5 rfl) ?_
  refine lv_iload hx hb dL_law_2245 (lv_at hl 1 rfl) ?_
  refine lv_iconst (v := 1) hx hb dL_law_2247 (by decide) ?_
  refine lv_iadd hx hb dL_law_2248 ?_
  refine jr_sld (i := i) (k := 1) hx hb hX hbl hn0 hS (nI_add i 1) (by omega) hL dL_law_2249 ?_
  refine jr_mi (lv := 6) X hw hS (show _ ≤ s.heap.size + 928407 by omega) (show _ ≤ slotsOf s.heap + 6316261 by omega) (by decide) (by decide) (met_pause (j_mOk X.2.2.1) N σ (xs (i + 1)) _ hm1) (lw_V q2076 q2077 q2078 q121 q2079) cy_pause rfl hl.1 rfl (Nat.le_of_ble_eq_true rfl) dL_law_2250 (fun H locs cells slots hw hS hz hsl => ?_)
  refine lv_istore (lv' := [(6, .int r), (5, .int w.2), (4, .int (nI i)), (1, .ref xa), (2, .ref G.1), (3, .ref oa), (0, .ref b)]) hx hb dL_law_2253 hl (by decide) rfl (fun ls hl => ?_)
  refine lv_aload_n hx hb dL_law_2255 rfl (lv_at hl 4 rfl) ?_
  refine jr_mi (lv := 0) X hw hS (show _ ≤ s.heap.size + 928407 by omega) (show _ ≤ slotsOf s.heap + 6316261 by omega) (by decide) (by decide) (met_thrown (j_mOk X.2.2.1) N σ1 _ ht1) (lw_V q1769 q1770 q1771 q121 q1772) cy_thrown rfl hl.1 rfl (Nat.le_of_ble_eq_true rfl) dL_law_2256 (fun H locs cells slots hw hS hz hsl => ?_)
  refine lv_iload hx hb dL_law_2259 (lv_at hl 1 rfl) ?_
  refine lv_icmp_eq (tgt := 2266) hx hb dL_law_2261 (by decide) (fun _ => ?_) (fun z => absurd rfl z)
  refine lv_iload hx hb dL_law_2266 (lv_at hl 1 rfl) ?_
  refine lv_if_ne (tgt := 2283) hx hb dL_law_2268 (by decide) (fun z => ?_) (fun z => ?_)
  · skip
    refine lv_goto (tgt := 2706) hx hb dL_law_2283 (by decide) ?_
    refine lv_iinc (v := nI i + 6) (lv' := [(4, .int (nI i + 6)), (6, .int r), (5, .int w.2), (1, .ref xa), (2, .ref G.1), (3, .ref oa), (0, .ref b)]) hx hb dL_law_2706 hl (k := 2) rfl rfl (by decide) rfl (fun ls hl => ?_)
    refine lv_goto (tgt := 23) hx hb dL_law_2709 (by decide) ?_
    have hl := lv_sub hl [0, 3, 4, 5, 6] rfl
    exact hnext _ _ _ _ _ _ _ hw hS (by rw [← nI_add i 6]; exact hl) (hRn _ (by omega) (fun q e0 hq => by have h9 := (hw.1.1.1 q e0 (by exact hq)).1.lt; exact h9)) (by omega) (by omega)
  · have hv1 := hv1 (by first | exact z | exact Classical.byContradiction z)
    refine lv_aload_n hx hb dL_law_2271 rfl (lv_at hl 5 rfl) ?_
    refine lv_iconst (v := 0) hx hb dL_law_2272 (by decide) ?_
    refine jr_lald (C := 0) (K := 0) X hw rfl (S := w.1) rfl hv1 dL_law_2273 ?_
    refine lv_iload hx hb dL_law_2274 (lv_at hl 0 rfl) ?_
    refine lv_i2l hx hb dL_law_2276 rfl ?_
    refine W.lcmp hx hb dL_law_2277 ?_
    refine lv_if_eq (tgt := 2283) hx hb dL_law_2278 (by decide) (fun _ => ?_) (fun z => absurd (lg_cmp_self _) z)
    refine lv_goto (tgt := 2706) hx hb dL_law_2283 (by decide) ?_
    refine lv_iinc (v := nI i + 6) (lv' := [(4, .int (nI i + 6)), (6, .int r), (5, .int w.2), (1, .ref xa), (2, .ref G.1), (3, .ref oa), (0, .ref b)]) hx hb dL_law_2706 hl (k := 2) rfl rfl (by decide) rfl (fun ls hl => ?_)
    refine lv_goto (tgt := 23) hx hb dL_law_2709 (by decide) ?_
    have hl := lv_sub hl [0, 3, 4, 5, 6] rfl
    exact hnext _ _ _ _ _ _ _ hw hS (by rw [← nI_add i 6]; exact hl) (hRn _ (by omega) (fun q e0 hq => by have h9 := (hw.1.1.1 q e0 (by exact hq)).1.lt; exact h9)) (by omega) (by omega)
theorem law_giver {p : Program} {l : Launch} {e : Env} {s : State} {m : MethodId} {below : List Frame} {meth : Method} {c : Code} {H : Heap} {locs : List Loc} {cells slots : Nat} {Q : State → Prop} {ls : Array Slot} {g : XC} {D : va_G} {G : MG} {n0 b L i c0 k0 xa oa N : Nat} {xs : Nat → Int32} {τ : XL} {σ : MS} {Rel Rel1 : Nat → XL → MS → Prop} (hlT : l.stackTraces = false) (X : jX g D G n0 "DripCupsLaw" p s m #[Value.ref b] c cL_law 7) (hX : va_X b L xs s s.heap) (hbl : b < s.heap.size) (hi : i + 6 ≤ L) (hL : L ≤ 384) (hst : St_giver Rel Rel1 g N xa oa) (h1 : H.size ≤ s.heap.size + c0) (h2 : slotsOf H ≤ slotsOf s.heap + k0) (hc0 : c0 + 14000 ≤ 928407) (hk0 : k0 + 97000 ≤ 6316261) (hw : jW g D G n0 τ σ s H) (hS : va_S (fun q => n0 ≤ q) s.heap H locs) (hR : Rel H.size τ σ)
    (hnext : ∀ (H : Heap) (locs : List Loc) (ls : Array Slot) (cells slots : Nat) (τ : XL) (σ : MS), jW g D G n0 τ σ s H → va_S (fun q => n0 ≤ q) s.heap H locs → lv_has ls 7 [(4, .int (nI (i + 6))), (1, .ref xa), (2, .ref G.1), (3, .ref oa), (0, .ref b)] → Rel1 H.size τ σ → H.size ≤ s.heap.size + (c0 + 14000) → slotsOf H ≤ slotsOf s.heap + (k0 + 97000) → W p l e room_1 s m #[Value.ref b] below meth c H locs cells slots Q (F0 m 23 ls []))
    (hl : lv_has ls 7 [(4, .int (nI i)), (1, .ref xa), (2, .ref G.1), (3, .ref oa), (0, .ref b)]) : W p l e room_1 s m #[Value.ref b] below meth c H locs cells slots Q (F0 m 2286 ls []) := by
  have hx := X.1.1
  have hb := X.1.2.1
  have hown := X.1.2.2.2.1
  have hn0 : s.heap.size = n0 := X.2.2.2.1
  refine lv_aload_n hx hb dL_law_2286 rfl (lv_at hl 1 rfl) ?_
  refine lv_aload_n hx hb dL_law_2287 rfl (lv_at hl 4 rfl) ?_
  refine lv_iload hx hb dL_law_2288 (lv_at hl 0 rfl) ?_
  refine lv_iconst (v := 1) hx hb dL_law_2290 (by decide) ?_
  refine lv_iadd hx hb dL_law_2291 ?_
  refine jr_sld (i := i) (k := 1) hx hb hX hbl hn0 hS (nI_add i 1) (by omega) hL dL_law_2292 ?_
  refine lv_aload_n hx hb dL_law_2293 rfl (lv_at hl 4 rfl) ?_
  refine lv_iload hx hb dL_law_2294 (lv_at hl 0 rfl) ?_
  refine lv_iconst (v := 2) hx hb dL_law_2296 (by decide) ?_
  refine lv_iadd hx hb dL_law_2297 ?_
  refine jr_sld (i := i) (k := 2) hx hb hX hbl hn0 hS (nI_add i 2) (by omega) hL dL_law_2298 ?_
  refine lv_aload_n hx hb dL_law_2299 rfl (lv_at hl 3 rfl) ?_
  obtain ⟨w, σ1, r, σ2, hx1, hm1, ht1, hv1, hRn⟩ := hst (xs (i + 1)) (xs (i + 2)) _ (slotsOf H) _ _ hR
  refine jr_wrap (lv := 8) (C := H.size + 14000) (K := slotsOf H + 97000) X hw hS (by omega) (by omega) (show _ ≤ s.heap.size + 928407 by omega) (show _ ≤ slotsOf s.heap + 6316261 by omega) (by decide) (by decide) (met_X0_giver hlT N ((H.size, slotsOf H, H.size + 14000, slotsOf H + 97000), τ) xa (xs (i + 1)) (xs (i + 2)) oa w hx1) q1529 q1530 q114 q1531 cx_X0_giver rfl hl.1 rfl (Nat.le_of_ble_eq_true rfl) dL_law_2300 (fun H locs cells slots hw hS hz hcz hsz => ?_)
  refine lv_istore (lv' := [(5, .int w.2), (4, .int (nI i)), (1, .ref xa), (2, .ref G.1), (3, .ref oa), (0, .ref b)]) hx hb dL_law_2303 hl (by decide) rfl (fun ls hl => ?_)
  refine lv_aload_n hx hb dL_law_2305 rfl (lv_at hl 3 rfl) ?_
  refine lv_aload_n hx hb dL_law_2306 rfl (lv_at hl 5 rfl) ?_
  refine lv_iload hx hb dL_law_2307 (lv_at hl 1 rfl) ?_
  refine lv_iconst (v := 1) hx hb dL_law_2309 (by decide) ?_
  refine lv_iadd hx hb dL_law_2310 ?_
  refine jr_sld (i := i) (k := 1) hx hb hX hbl hn0 hS (nI_add i 1) (by omega) hL dL_law_2311 ?_
  refine lv_aload_n hx hb dL_law_2312 rfl (lv_at hl 5 rfl) ?_
  refine lv_iload hx hb dL_law_2313 (lv_at hl 1 rfl) ?_
  refine lv_iconst (v := 2) hx hb dL_law_2315 (by decide) ?_
  refine lv_iadd hx hb dL_law_2316 ?_
  refine jr_sld (i := i) (k := 2) hx hb hX hbl hn0 hS (nI_add i 2) (by omega) hL dL_law_2317 ?_
  refine jr_mi (lv := 2) X hw hS (show _ ≤ s.heap.size + 928407 by omega) (show _ ≤ slotsOf s.heap + 6316261 by omega) (by decide) (by decide) (met_giver (j_mOk X.2.2.1) N σ (xs (i + 1)) (xs (i + 2)) _ hm1) (lw_V q2138 q2139 q2140 q121 q2141) cy_giver rfl hl.1 rfl (Nat.le_of_ble_eq_true rfl) dL_law_2318 (fun H locs cells slots hw hS hz hsl => ?_)
  refine lv_istore (lv' := [(6, .int r), (5, .int w.2), (4, .int (nI i)), (1, .ref xa), (2, .ref G.1), (3, .ref oa), (0, .ref b)]) hx hb dL_law_2321 hl (by decide) rfl (fun ls hl => ?_)
  refine lv_aload_n hx hb dL_law_2323 rfl (lv_at hl 4 rfl) ?_
  refine jr_mi (lv := 0) X hw hS (show _ ≤ s.heap.size + 928407 by omega) (show _ ≤ slotsOf s.heap + 6316261 by omega) (by decide) (by decide) (met_thrown (j_mOk X.2.2.1) N σ1 _ ht1) (lw_V q1769 q1770 q1771 q121 q1772) cy_thrown rfl hl.1 rfl (Nat.le_of_ble_eq_true rfl) dL_law_2324 (fun H locs cells slots hw hS hz hsl => ?_)
  refine lv_iload hx hb dL_law_2327 (lv_at hl 1 rfl) ?_
  refine lv_icmp_eq (tgt := 2334) hx hb dL_law_2329 (by decide) (fun _ => ?_) (fun z => absurd rfl z)
  refine lv_iload hx hb dL_law_2334 (lv_at hl 1 rfl) ?_
  refine lv_if_ne (tgt := 2351) hx hb dL_law_2336 (by decide) (fun z => ?_) (fun z => ?_)
  · skip
    refine lv_goto (tgt := 2706) hx hb dL_law_2351 (by decide) ?_
    refine lv_iinc (v := nI i + 6) (lv' := [(4, .int (nI i + 6)), (6, .int r), (5, .int w.2), (1, .ref xa), (2, .ref G.1), (3, .ref oa), (0, .ref b)]) hx hb dL_law_2706 hl (k := 2) rfl rfl (by decide) rfl (fun ls hl => ?_)
    refine lv_goto (tgt := 23) hx hb dL_law_2709 (by decide) ?_
    have hl := lv_sub hl [0, 3, 4, 5, 6] rfl
    exact hnext _ _ _ _ _ _ _ hw hS (by rw [← nI_add i 6]; exact hl) (hRn _ (by omega) (fun q e0 hq => by have h9 := (hw.1.1.1 q e0 (by exact hq)).1.lt; exact h9)) (by omega) (by omega)
  · have hv1 := hv1 (by first | exact z | exact Classical.byContradiction z)
    refine lv_aload_n hx hb dL_law_2339 rfl (lv_at hl 5 rfl) ?_
    refine lv_iconst (v := 0) hx hb dL_law_2340 (by decide) ?_
    refine jr_lald (C := 0) (K := 0) X hw rfl (S := w.1) rfl hv1 dL_law_2341 ?_
    refine lv_iload hx hb dL_law_2342 (lv_at hl 0 rfl) ?_
    refine lv_i2l hx hb dL_law_2344 rfl ?_
    refine W.lcmp hx hb dL_law_2345 ?_
    refine lv_if_eq (tgt := 2351) hx hb dL_law_2346 (by decide) (fun _ => ?_) (fun z => absurd (lg_cmp_self _) z)
    refine lv_goto (tgt := 2706) hx hb dL_law_2351 (by decide) ?_
    refine lv_iinc (v := nI i + 6) (lv' := [(4, .int (nI i + 6)), (6, .int r), (5, .int w.2), (1, .ref xa), (2, .ref G.1), (3, .ref oa), (0, .ref b)]) hx hb dL_law_2706 hl (k := 2) rfl rfl (by decide) rfl (fun ls hl => ?_)
    refine lv_goto (tgt := 23) hx hb dL_law_2709 (by decide) ?_
    have hl := lv_sub hl [0, 3, 4, 5, 6] rfl
    exact hnext _ _ _ _ _ _ _ hw hS (by rw [← nI_add i 6]; exact hl) (hRn _ (by omega) (fun q e0 hq => by have h9 := (hw.1.1.1 q e0 (by exact hq)).1.lt; exact h9)) (by omega) (by omega)
theorem law_toPour {p : Program} {l : Launch} {e : Env} {s : State} {m : MethodId} {below : List Frame} {meth : Method} {c : Code} {H : Heap} {locs : List Loc} {cells slots : Nat} {Q : State → Prop} {ls : Array Slot} {g : XC} {D : va_G} {G : MG} {n0 b L i c0 k0 xa oa N : Nat} {xs : Nat → Int32} {τ : XL} {σ : MS} {Rel Rel1 : Nat → XL → MS → Prop} (hlT : l.stackTraces = false) (X : jX g D G n0 "DripCupsLaw" p s m #[Value.ref b] c cL_law 7) (hX : va_X b L xs s s.heap) (hbl : b < s.heap.size) (hi : i + 6 ≤ L) (hL : L ≤ 384) (hst : St_toPour Rel Rel1 g N xa oa) (h1 : H.size ≤ s.heap.size + c0) (h2 : slotsOf H ≤ slotsOf s.heap + k0) (hc0 : c0 + 14000 ≤ 928407) (hk0 : k0 + 97000 ≤ 6316261) (hw : jW g D G n0 τ σ s H) (hS : va_S (fun q => n0 ≤ q) s.heap H locs) (hR : Rel H.size τ σ)
    (hnext : ∀ (H : Heap) (locs : List Loc) (ls : Array Slot) (cells slots : Nat) (τ : XL) (σ : MS), jW g D G n0 τ σ s H → va_S (fun q => n0 ≤ q) s.heap H locs → lv_has ls 7 [(4, .int (nI (i + 6))), (1, .ref xa), (2, .ref G.1), (3, .ref oa), (0, .ref b)] → Rel1 H.size τ σ → H.size ≤ s.heap.size + (c0 + 14000) → slotsOf H ≤ slotsOf s.heap + (k0 + 97000) → W p l e room_1 s m #[Value.ref b] below meth c H locs cells slots Q (F0 m 23 ls []))
    (hl : lv_has ls 7 [(4, .int (nI i)), (1, .ref xa), (2, .ref G.1), (3, .ref oa), (0, .ref b)]) : W p l e room_1 s m #[Value.ref b] below meth c H locs cells slots Q (F0 m 2354 ls []) := by
  have hx := X.1.1
  have hb := X.1.2.1
  have hown := X.1.2.2.2.1
  have hn0 : s.heap.size = n0 := X.2.2.2.1
  refine lv_aload_n hx hb dL_law_2354 rfl (lv_at hl 1 rfl) ?_
  refine lv_aload_n hx hb dL_law_2355 rfl (lv_at hl 4 rfl) ?_
  refine lv_iload hx hb dL_law_2356 (lv_at hl 0 rfl) ?_
  refine lv_iconst (v := 1) hx hb dL_law_2358 (by decide) ?_
  refine lv_iadd hx hb dL_law_2359 ?_
  refine jr_sld (i := i) (k := 1) hx hb hX hbl hn0 hS (nI_add i 1) (by omega) hL dL_law_2360 ?_
  refine lv_aload_n hx hb dL_law_2361 rfl (lv_at hl 4 rfl) ?_
  refine lv_iload hx hb dL_law_2362 (lv_at hl 0 rfl) ?_
  refine lv_iconst (v := 2) hx hb dL_law_2364 (by decide) ?_
  refine lv_iadd hx hb dL_law_2365 ?_
  refine jr_sld (i := i) (k := 2) hx hb hX hbl hn0 hS (nI_add i 2) (by omega) hL dL_law_2366 ?_
  refine lv_aload_n hx hb dL_law_2367 rfl (lv_at hl 3 rfl) ?_
  obtain ⟨w, σ1, r, σ2, hx1, hm1, ht1, hv1, hRn⟩ := hst (xs (i + 1)) (xs (i + 2)) _ (slotsOf H) _ _ hR
  refine jr_wrap (lv := 83) (C := H.size + 14000) (K := slotsOf H + 97000) X hw hS (by omega) (by omega) (show _ ≤ s.heap.size + 928407 by omega) (show _ ≤ slotsOf s.heap + 6316261 by omega) (by decide) (by decide) (met_X0_toPour hlT N ((H.size, slotsOf H, H.size + 14000, slotsOf H + 97000), τ) xa (xs (i + 1)) (xs (i + 2)) oa w hx1) q1542 q1543 q114 q1544 cx_X0_toPour rfl hl.1 rfl (Nat.le_of_ble_eq_true rfl) dL_law_2368 (fun H locs cells slots hw hS hz hcz hsz => ?_)
  refine lv_istore (lv' := [(5, .int w.2), (4, .int (nI i)), (1, .ref xa), (2, .ref G.1), (3, .ref oa), (0, .ref b)]) hx hb dL_law_2371 hl (by decide) rfl (fun ls hl => ?_)
  refine lv_aload_n hx hb dL_law_2373 rfl (lv_at hl 3 rfl) ?_
  refine lv_aload_n hx hb dL_law_2374 rfl (lv_at hl 5 rfl) ?_
  refine lv_iload hx hb dL_law_2375 (lv_at hl 1 rfl) ?_
  refine lv_iconst (v := 1) hx hb dL_law_2377 (by decide) ?_
  refine lv_iadd hx hb dL_law_2378 ?_
  refine jr_sld (i := i) (k := 1) hx hb hX hbl hn0 hS (nI_add i 1) (by omega) hL dL_law_2379 ?_
  refine lv_aload_n hx hb dL_law_2380 rfl (lv_at hl 5 rfl) ?_
  refine lv_iload hx hb dL_law_2381 (lv_at hl 1 rfl) ?_
  refine lv_iconst (v := 2) hx hb dL_law_2383 (by decide) ?_
  refine lv_iadd hx hb dL_law_2384 ?_
  refine jr_sld (i := i) (k := 2) hx hb hX hbl hn0 hS (nI_add i 2) (by omega) hL dL_law_2385 ?_
  refine jr_mi (lv := 6) X hw hS (show _ ≤ s.heap.size + 928407 by omega) (show _ ≤ slotsOf s.heap + 6316261 by omega) (by decide) (by decide) (met_toPour (j_mOk X.2.2.1) N σ (xs (i + 1)) (xs (i + 2)) _ hm1) (lw_V q2154 q2155 q2156 q121 q2157) cy_toPour rfl hl.1 rfl (Nat.le_of_ble_eq_true rfl) dL_law_2386 (fun H locs cells slots hw hS hz hsl => ?_)
  refine lv_istore (lv' := [(6, .int r), (5, .int w.2), (4, .int (nI i)), (1, .ref xa), (2, .ref G.1), (3, .ref oa), (0, .ref b)]) hx hb dL_law_2389 hl (by decide) rfl (fun ls hl => ?_)
  refine lv_aload_n hx hb dL_law_2391 rfl (lv_at hl 4 rfl) ?_
  refine jr_mi (lv := 0) X hw hS (show _ ≤ s.heap.size + 928407 by omega) (show _ ≤ slotsOf s.heap + 6316261 by omega) (by decide) (by decide) (met_thrown (j_mOk X.2.2.1) N σ1 _ ht1) (lw_V q1769 q1770 q1771 q121 q1772) cy_thrown rfl hl.1 rfl (Nat.le_of_ble_eq_true rfl) dL_law_2392 (fun H locs cells slots hw hS hz hsl => ?_)
  refine lv_iload hx hb dL_law_2395 (lv_at hl 1 rfl) ?_
  refine lv_icmp_eq (tgt := 2402) hx hb dL_law_2397 (by decide) (fun _ => ?_) (fun z => absurd rfl z)
  refine lv_iload hx hb dL_law_2402 (lv_at hl 1 rfl) ?_
  refine lv_if_ne (tgt := 2419) hx hb dL_law_2404 (by decide) (fun z => ?_) (fun z => ?_)
  · skip
    refine lv_goto (tgt := 2706) hx hb dL_law_2419 (by decide) ?_
    refine lv_iinc (v := nI i + 6) (lv' := [(4, .int (nI i + 6)), (6, .int r), (5, .int w.2), (1, .ref xa), (2, .ref G.1), (3, .ref oa), (0, .ref b)]) hx hb dL_law_2706 hl (k := 2) rfl rfl (by decide) rfl (fun ls hl => ?_)
    refine lv_goto (tgt := 23) hx hb dL_law_2709 (by decide) ?_
    have hl := lv_sub hl [0, 3, 4, 5, 6] rfl
    exact hnext _ _ _ _ _ _ _ hw hS (by rw [← nI_add i 6]; exact hl) (hRn _ (by omega) (fun q e0 hq => by have h9 := (hw.1.1.1 q e0 (by exact hq)).1.lt; exact h9)) (by omega) (by omega)
  · have hv1 := hv1 (by first | exact z | exact Classical.byContradiction z)
    refine lv_aload_n hx hb dL_law_2407 rfl (lv_at hl 5 rfl) ?_
    refine lv_iconst (v := 0) hx hb dL_law_2408 (by decide) ?_
    refine jr_lald (C := 0) (K := 0) X hw rfl (S := w.1) rfl hv1 dL_law_2409 ?_
    refine lv_iload hx hb dL_law_2410 (lv_at hl 0 rfl) ?_
    refine lv_i2l hx hb dL_law_2412 rfl ?_
    refine W.lcmp hx hb dL_law_2413 ?_
    refine lv_if_eq (tgt := 2419) hx hb dL_law_2414 (by decide) (fun _ => ?_) (fun z => absurd (lg_cmp_self _) z)
    refine lv_goto (tgt := 2706) hx hb dL_law_2419 (by decide) ?_
    refine lv_iinc (v := nI i + 6) (lv' := [(4, .int (nI i + 6)), (6, .int r), (5, .int w.2), (1, .ref xa), (2, .ref G.1), (3, .ref oa), (0, .ref b)]) hx hb dL_law_2706 hl (k := 2) rfl rfl (by decide) rfl (fun ls hl => ?_)
    refine lv_goto (tgt := 23) hx hb dL_law_2709 (by decide) ?_
    have hl := lv_sub hl [0, 3, 4, 5, 6] rfl
    exact hnext _ _ _ _ _ _ _ hw hS (by rw [← nI_add i 6]; exact hl) (hRn _ (by omega) (fun q e0 hq => by have h9 := (hw.1.1.1 q e0 (by exact hq)).1.lt; exact h9)) (by omega) (by omega)
theorem law_ways {p : Program} {l : Launch} {e : Env} {s : State} {m : MethodId} {below : List Frame} {meth : Method} {c : Code} {H : Heap} {locs : List Loc} {cells slots : Nat} {Q : State → Prop} {ls : Array Slot} {g : XC} {D : va_G} {G : MG} {n0 b L i c0 k0 xa oa N : Nat} {xs : Nat → Int32} {τ : XL} {σ : MS} {Rel Rel1 : Nat → XL → MS → Prop} (hlT : l.stackTraces = false) (X : jX g D G n0 "DripCupsLaw" p s m #[Value.ref b] c cL_law 7) (hX : va_X b L xs s s.heap) (hbl : b < s.heap.size) (hi : i + 6 ≤ L) (hL : L ≤ 384) (hst : St_ways Rel Rel1 g N xa oa) (h1 : H.size ≤ s.heap.size + c0) (h2 : slotsOf H ≤ slotsOf s.heap + k0) (hc0 : c0 + 14000 ≤ 928407) (hk0 : k0 + 97000 ≤ 6316261) (hw : jW g D G n0 τ σ s H) (hS : va_S (fun q => n0 ≤ q) s.heap H locs) (hR : Rel H.size τ σ)
    (hnext : ∀ (H : Heap) (locs : List Loc) (ls : Array Slot) (cells slots : Nat) (τ : XL) (σ : MS), jW g D G n0 τ σ s H → va_S (fun q => n0 ≤ q) s.heap H locs → lv_has ls 7 [(4, .int (nI (i + 6))), (1, .ref xa), (2, .ref G.1), (3, .ref oa), (0, .ref b)] → Rel1 H.size τ σ → H.size ≤ s.heap.size + (c0 + 14000) → slotsOf H ≤ slotsOf s.heap + (k0 + 97000) → W p l e room_1 s m #[Value.ref b] below meth c H locs cells slots Q (F0 m 23 ls []))
    (hl : lv_has ls 7 [(4, .int (nI i)), (1, .ref xa), (2, .ref G.1), (3, .ref oa), (0, .ref b)]) : W p l e room_1 s m #[Value.ref b] below meth c H locs cells slots Q (F0 m 2422 ls []) := by
  have hx := X.1.1
  have hb := X.1.2.1
  have hown := X.1.2.2.2.1
  have hn0 : s.heap.size = n0 := X.2.2.2.1
  refine lv_aload_n hx hb dL_law_2422 rfl (lv_at hl 1 rfl) ?_
  refine lv_aload_n hx hb dL_law_2423 rfl (lv_at hl 4 rfl) ?_
  refine lv_iload hx hb dL_law_2424 (lv_at hl 0 rfl) ?_
  refine lv_iconst (v := 1) hx hb dL_law_2426 (by decide) ?_
  refine lv_iadd hx hb dL_law_2427 ?_
  refine jr_sld (i := i) (k := 1) hx hb hX hbl hn0 hS (nI_add i 1) (by omega) hL dL_law_2428 ?_
  refine lv_aload_n hx hb dL_law_2429 rfl (lv_at hl 4 rfl) ?_
  refine lv_iload hx hb dL_law_2430 (lv_at hl 0 rfl) ?_
  refine lv_iconst (v := 2) hx hb dL_law_2432 (by decide) ?_
  refine lv_iadd hx hb dL_law_2433 ?_
  refine jr_sld (i := i) (k := 2) hx hb hX hbl hn0 hS (nI_add i 2) (by omega) hL dL_law_2434 ?_
  refine lv_aload_n hx hb dL_law_2435 rfl (lv_at hl 3 rfl) ?_
  obtain ⟨w, σ1, r, σ2, hx1, hm1, ht1, hv1, hRn⟩ := hst (xs (i + 1)) (xs (i + 2)) _ (slotsOf H) _ _ hR
  refine jr_wrap (lv := 24) (C := H.size + 14000) (K := slotsOf H + 97000) X hw hS (by omega) (by omega) (show _ ≤ s.heap.size + 928407 by omega) (show _ ≤ slotsOf s.heap + 6316261 by omega) (by decide) (by decide) (met_X0_ways hlT N ((H.size, slotsOf H, H.size + 14000, slotsOf H + 97000), τ) xa (xs (i + 1)) (xs (i + 2)) oa w hx1) q1549 q1550 q114 q1551 cx_X0_ways rfl hl.1 rfl (Nat.le_of_ble_eq_true rfl) dL_law_2436 (fun H locs cells slots hw hS hz hcz hsz => ?_)
  refine lv_istore (lv' := [(5, .int w.2), (4, .int (nI i)), (1, .ref xa), (2, .ref G.1), (3, .ref oa), (0, .ref b)]) hx hb dL_law_2439 hl (by decide) rfl (fun ls hl => ?_)
  refine lv_aload_n hx hb dL_law_2441 rfl (lv_at hl 3 rfl) ?_
  refine lv_aload_n hx hb dL_law_2442 rfl (lv_at hl 5 rfl) ?_
  refine lv_iload hx hb dL_law_2443 (lv_at hl 1 rfl) ?_
  refine lv_iconst (v := 1) hx hb dL_law_2445 (by decide) ?_
  refine lv_iadd hx hb dL_law_2446 ?_
  refine jr_sld (i := i) (k := 1) hx hb hX hbl hn0 hS (nI_add i 1) (by omega) hL dL_law_2447 ?_
  refine lv_aload_n hx hb dL_law_2448 rfl (lv_at hl 5 rfl) ?_
  refine lv_iload hx hb dL_law_2449 (lv_at hl 1 rfl) ?_
  refine lv_iconst (v := 2) hx hb dL_law_2451 (by decide) ?_
  refine lv_iadd hx hb dL_law_2452 ?_
  refine jr_sld (i := i) (k := 2) hx hb hX hbl hn0 hS (nI_add i 2) (by omega) hL dL_law_2453 ?_
  refine jr_mi (lv := 2) X hw hS (show _ ≤ s.heap.size + 928407 by omega) (show _ ≤ slotsOf s.heap + 6316261 by omega) (by decide) (by decide) (met_ways (j_mOk X.2.2.1) N σ (xs (i + 1)) (xs (i + 2)) _ hm1) (lw_V q2146 q2147 q2148 q121 q2149) cy_ways rfl hl.1 rfl (Nat.le_of_ble_eq_true rfl) dL_law_2454 (fun H locs cells slots hw hS hz hsl => ?_)
  refine lv_istore (lv' := [(6, .int r), (5, .int w.2), (4, .int (nI i)), (1, .ref xa), (2, .ref G.1), (3, .ref oa), (0, .ref b)]) hx hb dL_law_2457 hl (by decide) rfl (fun ls hl => ?_)
  refine lv_aload_n hx hb dL_law_2459 rfl (lv_at hl 4 rfl) ?_
  refine jr_mi (lv := 0) X hw hS (show _ ≤ s.heap.size + 928407 by omega) (show _ ≤ slotsOf s.heap + 6316261 by omega) (by decide) (by decide) (met_thrown (j_mOk X.2.2.1) N σ1 _ ht1) (lw_V q1769 q1770 q1771 q121 q1772) cy_thrown rfl hl.1 rfl (Nat.le_of_ble_eq_true rfl) dL_law_2460 (fun H locs cells slots hw hS hz hsl => ?_)
  refine lv_iload hx hb dL_law_2463 (lv_at hl 1 rfl) ?_
  refine lv_icmp_eq (tgt := 2470) hx hb dL_law_2465 (by decide) (fun _ => ?_) (fun z => absurd rfl z)
  refine lv_iload hx hb dL_law_2470 (lv_at hl 1 rfl) ?_
  refine lv_if_ne (tgt := 2487) hx hb dL_law_2472 (by decide) (fun z => ?_) (fun z => ?_)
  · skip
    refine lv_goto (tgt := 2706) hx hb dL_law_2487 (by decide) ?_
    refine lv_iinc (v := nI i + 6) (lv' := [(4, .int (nI i + 6)), (6, .int r), (5, .int w.2), (1, .ref xa), (2, .ref G.1), (3, .ref oa), (0, .ref b)]) hx hb dL_law_2706 hl (k := 2) rfl rfl (by decide) rfl (fun ls hl => ?_)
    refine lv_goto (tgt := 23) hx hb dL_law_2709 (by decide) ?_
    have hl := lv_sub hl [0, 3, 4, 5, 6] rfl
    exact hnext _ _ _ _ _ _ _ hw hS (by rw [← nI_add i 6]; exact hl) (hRn _ (by omega) (fun q e0 hq => by have h9 := (hw.1.1.1 q e0 (by exact hq)).1.lt; exact h9)) (by omega) (by omega)
  · have hv1 := hv1 (by first | exact z | exact Classical.byContradiction z)
    refine lv_aload_n hx hb dL_law_2475 rfl (lv_at hl 5 rfl) ?_
    refine lv_iconst (v := 0) hx hb dL_law_2476 (by decide) ?_
    refine jr_lald (C := 0) (K := 0) X hw rfl (S := w.1) rfl hv1 dL_law_2477 ?_
    refine lv_iload hx hb dL_law_2478 (lv_at hl 0 rfl) ?_
    refine lv_i2l hx hb dL_law_2480 rfl ?_
    refine W.lcmp hx hb dL_law_2481 ?_
    refine lv_if_eq (tgt := 2487) hx hb dL_law_2482 (by decide) (fun _ => ?_) (fun z => absurd (lg_cmp_self _) z)
    refine lv_goto (tgt := 2706) hx hb dL_law_2487 (by decide) ?_
    refine lv_iinc (v := nI i + 6) (lv' := [(4, .int (nI i + 6)), (6, .int r), (5, .int w.2), (1, .ref xa), (2, .ref G.1), (3, .ref oa), (0, .ref b)]) hx hb dL_law_2706 hl (k := 2) rfl rfl (by decide) rfl (fun ls hl => ?_)
    refine lv_goto (tgt := 23) hx hb dL_law_2709 (by decide) ?_
    have hl := lv_sub hl [0, 3, 4, 5, 6] rfl
    exact hnext _ _ _ _ _ _ _ hw hS (by rw [← nI_add i 6]; exact hl) (hRn _ (by omega) (fun q e0 hq => by have h9 := (hw.1.1.1 q e0 (by exact hq)).1.lt; exact h9)) (by omega) (by omega)
theorem law_chorus {p : Program} {l : Launch} {e : Env} {s : State} {m : MethodId} {below : List Frame} {meth : Method} {c : Code} {H : Heap} {locs : List Loc} {cells slots : Nat} {Q : State → Prop} {ls : Array Slot} {g : XC} {D : va_G} {G : MG} {n0 b L i c0 k0 xa oa N : Nat} {xs : Nat → Int32} {τ : XL} {σ : MS} {Rel Rel1 : Nat → XL → MS → Prop} (hlT : l.stackTraces = false) (X : jX g D G n0 "DripCupsLaw" p s m #[Value.ref b] c cL_law 7) (hX : va_X b L xs s s.heap) (hbl : b < s.heap.size) (hi : i + 6 ≤ L) (hL : L ≤ 384) (hst : St_chorus Rel Rel1 g N xa oa) (h1 : H.size ≤ s.heap.size + c0) (h2 : slotsOf H ≤ slotsOf s.heap + k0) (hc0 : c0 + 14000 ≤ 928407) (hk0 : k0 + 97000 ≤ 6316261) (hw : jW g D G n0 τ σ s H) (hS : va_S (fun q => n0 ≤ q) s.heap H locs) (hR : Rel H.size τ σ)
    (hnext : ∀ (H : Heap) (locs : List Loc) (ls : Array Slot) (cells slots : Nat) (τ : XL) (σ : MS), jW g D G n0 τ σ s H → va_S (fun q => n0 ≤ q) s.heap H locs → lv_has ls 7 [(4, .int (nI (i + 6))), (1, .ref xa), (2, .ref G.1), (3, .ref oa), (0, .ref b)] → Rel1 H.size τ σ → H.size ≤ s.heap.size + (c0 + 14000) → slotsOf H ≤ slotsOf s.heap + (k0 + 97000) → W p l e room_1 s m #[Value.ref b] below meth c H locs cells slots Q (F0 m 23 ls []))
    (hl : lv_has ls 7 [(4, .int (nI i)), (1, .ref xa), (2, .ref G.1), (3, .ref oa), (0, .ref b)]) : W p l e room_1 s m #[Value.ref b] below meth c H locs cells slots Q (F0 m 2490 ls []) := by
  have hx := X.1.1
  have hb := X.1.2.1
  have hown := X.1.2.2.2.1
  have hn0 : s.heap.size = n0 := X.2.2.2.1
  refine lv_aload_n hx hb dL_law_2490 rfl (lv_at hl 1 rfl) ?_
  refine lv_aload_n hx hb dL_law_2491 rfl (lv_at hl 4 rfl) ?_
  refine lv_iload hx hb dL_law_2492 (lv_at hl 0 rfl) ?_
  refine lv_iconst (v := 1) hx hb dL_law_2494 (by decide) ?_
  refine lv_iadd hx hb dL_law_2495 ?_
  refine jr_sld (i := i) (k := 1) hx hb hX hbl hn0 hS (nI_add i 1) (by omega) hL dL_law_2496 ?_
  refine lv_aload_n hx hb dL_law_2497 rfl (lv_at hl 4 rfl) ?_
  refine lv_iload hx hb dL_law_2498 (lv_at hl 0 rfl) ?_
  refine lv_iconst (v := 2) hx hb dL_law_2500 (by decide) ?_
  refine lv_iadd hx hb dL_law_2501 ?_
  refine jr_sld (i := i) (k := 2) hx hb hX hbl hn0 hS (nI_add i 2) (by omega) hL dL_law_2502 ?_
  refine lv_aload_n hx hb dL_law_2503 rfl (lv_at hl 3 rfl) ?_
  obtain ⟨w, σ1, r, σ2, hx1, hm1, ht1, hv1, hRn⟩ := hst (xs (i + 1)) (xs (i + 2)) _ (slotsOf H) _ _ hR
  refine jr_wrap (lv := 82) (C := H.size + 14000) (K := slotsOf H + 97000) X hw hS (by omega) (by omega) (show _ ≤ s.heap.size + 928407 by omega) (show _ ≤ slotsOf s.heap + 6316261 by omega) (by decide) (by decide) (met_X0_chorus hlT N ((H.size, slotsOf H, H.size + 14000, slotsOf H + 97000), τ) xa (xs (i + 1)) (xs (i + 2)) oa w hx1) q1560 q1561 q114 q1562 cx_X0_chorus rfl hl.1 rfl (Nat.le_of_ble_eq_true rfl) dL_law_2504 (fun H locs cells slots hw hS hz hcz hsz => ?_)
  refine lv_istore (lv' := [(5, .int w.2), (4, .int (nI i)), (1, .ref xa), (2, .ref G.1), (3, .ref oa), (0, .ref b)]) hx hb dL_law_2507 hl (by decide) rfl (fun ls hl => ?_)
  refine lv_aload_n hx hb dL_law_2509 rfl (lv_at hl 3 rfl) ?_
  refine lv_aload_n hx hb dL_law_2510 rfl (lv_at hl 5 rfl) ?_
  refine lv_iload hx hb dL_law_2511 (lv_at hl 1 rfl) ?_
  refine lv_iconst (v := 1) hx hb dL_law_2513 (by decide) ?_
  refine lv_iadd hx hb dL_law_2514 ?_
  refine jr_sld (i := i) (k := 1) hx hb hX hbl hn0 hS (nI_add i 1) (by omega) hL dL_law_2515 ?_
  refine lv_aload_n hx hb dL_law_2516 rfl (lv_at hl 5 rfl) ?_
  refine lv_iload hx hb dL_law_2517 (lv_at hl 1 rfl) ?_
  refine lv_iconst (v := 2) hx hb dL_law_2519 (by decide) ?_
  refine lv_iadd hx hb dL_law_2520 ?_
  refine jr_sld (i := i) (k := 2) hx hb hX hbl hn0 hS (nI_add i 2) (by omega) hL dL_law_2521 ?_
  refine jr_mi (lv := 5) X hw hS (show _ ≤ s.heap.size + 928407 by omega) (show _ ≤ slotsOf s.heap + 6316261 by omega) (by decide) (by decide) (met_chorus (j_mOk X.2.2.1) N σ (xs (i + 1)) (xs (i + 2)) _ hm1) (lw_V q2087 q2088 q2089 q121 q2090) cy_chorus rfl hl.1 rfl (Nat.le_of_ble_eq_true rfl) dL_law_2522 (fun H locs cells slots hw hS hz hsl => ?_)
  refine lv_istore (lv' := [(6, .int r), (5, .int w.2), (4, .int (nI i)), (1, .ref xa), (2, .ref G.1), (3, .ref oa), (0, .ref b)]) hx hb dL_law_2525 hl (by decide) rfl (fun ls hl => ?_)
  refine lv_aload_n hx hb dL_law_2527 rfl (lv_at hl 4 rfl) ?_
  refine jr_mi (lv := 0) X hw hS (show _ ≤ s.heap.size + 928407 by omega) (show _ ≤ slotsOf s.heap + 6316261 by omega) (by decide) (by decide) (met_thrown (j_mOk X.2.2.1) N σ1 _ ht1) (lw_V q1769 q1770 q1771 q121 q1772) cy_thrown rfl hl.1 rfl (Nat.le_of_ble_eq_true rfl) dL_law_2528 (fun H locs cells slots hw hS hz hsl => ?_)
  refine lv_iload hx hb dL_law_2531 (lv_at hl 1 rfl) ?_
  refine lv_icmp_eq (tgt := 2538) hx hb dL_law_2533 (by decide) (fun _ => ?_) (fun z => absurd rfl z)
  refine lv_iload hx hb dL_law_2538 (lv_at hl 1 rfl) ?_
  refine lv_if_ne (tgt := 2555) hx hb dL_law_2540 (by decide) (fun z => ?_) (fun z => ?_)
  · skip
    refine lv_goto (tgt := 2706) hx hb dL_law_2555 (by decide) ?_
    refine lv_iinc (v := nI i + 6) (lv' := [(4, .int (nI i + 6)), (6, .int r), (5, .int w.2), (1, .ref xa), (2, .ref G.1), (3, .ref oa), (0, .ref b)]) hx hb dL_law_2706 hl (k := 2) rfl rfl (by decide) rfl (fun ls hl => ?_)
    refine lv_goto (tgt := 23) hx hb dL_law_2709 (by decide) ?_
    have hl := lv_sub hl [0, 3, 4, 5, 6] rfl
    exact hnext _ _ _ _ _ _ _ hw hS (by rw [← nI_add i 6]; exact hl) (hRn _ (by omega) (fun q e0 hq => by have h9 := (hw.1.1.1 q e0 (by exact hq)).1.lt; exact h9)) (by omega) (by omega)
  · have hv1 := hv1 (by first | exact z | exact Classical.byContradiction z)
    refine lv_aload_n hx hb dL_law_2543 rfl (lv_at hl 5 rfl) ?_
    refine lv_iconst (v := 0) hx hb dL_law_2544 (by decide) ?_
    refine jr_lald (C := 0) (K := 0) X hw rfl (S := w.1) rfl hv1 dL_law_2545 ?_
    refine lv_iload hx hb dL_law_2546 (lv_at hl 0 rfl) ?_
    refine lv_i2l hx hb dL_law_2548 rfl ?_
    refine W.lcmp hx hb dL_law_2549 ?_
    refine lv_if_eq (tgt := 2555) hx hb dL_law_2550 (by decide) (fun _ => ?_) (fun z => absurd (lg_cmp_self _) z)
    refine lv_goto (tgt := 2706) hx hb dL_law_2555 (by decide) ?_
    refine lv_iinc (v := nI i + 6) (lv' := [(4, .int (nI i + 6)), (6, .int r), (5, .int w.2), (1, .ref xa), (2, .ref G.1), (3, .ref oa), (0, .ref b)]) hx hb dL_law_2706 hl (k := 2) rfl rfl (by decide) rfl (fun ls hl => ?_)
    refine lv_goto (tgt := 23) hx hb dL_law_2709 (by decide) ?_
    have hl := lv_sub hl [0, 3, 4, 5, 6] rfl
    exact hnext _ _ _ _ _ _ _ hw hS (by rw [← nI_add i 6]; exact hl) (hRn _ (by omega) (fun q e0 hq => by have h9 := (hw.1.1.1 q e0 (by exact hq)).1.lt; exact h9)) (by omega) (by omega)
theorem law_never {p : Program} {l : Launch} {e : Env} {s : State} {m : MethodId} {below : List Frame} {meth : Method} {c : Code} {H : Heap} {locs : List Loc} {cells slots : Nat} {Q : State → Prop} {ls : Array Slot} {g : XC} {D : va_G} {G : MG} {n0 b L i c0 k0 xa oa N : Nat} {xs : Nat → Int32} {τ : XL} {σ : MS} {Rel Rel1 : Nat → XL → MS → Prop} (hlT : l.stackTraces = false) (X : jX g D G n0 "DripCupsLaw" p s m #[Value.ref b] c cL_law 7) (hX : va_X b L xs s s.heap) (hbl : b < s.heap.size) (hi : i + 6 ≤ L) (hL : L ≤ 384) (hst : St_never Rel Rel1 g N xa oa) (h1 : H.size ≤ s.heap.size + c0) (h2 : slotsOf H ≤ slotsOf s.heap + k0) (hc0 : c0 + 14000 ≤ 928407) (hk0 : k0 + 97000 ≤ 6316261) (hw : jW g D G n0 τ σ s H) (hS : va_S (fun q => n0 ≤ q) s.heap H locs) (hR : Rel H.size τ σ)
    (hnext : ∀ (H : Heap) (locs : List Loc) (ls : Array Slot) (cells slots : Nat) (τ : XL) (σ : MS), jW g D G n0 τ σ s H → va_S (fun q => n0 ≤ q) s.heap H locs → lv_has ls 7 [(4, .int (nI (i + 6))), (1, .ref xa), (2, .ref G.1), (3, .ref oa), (0, .ref b)] → Rel1 H.size τ σ → H.size ≤ s.heap.size + (c0 + 14000) → slotsOf H ≤ slotsOf s.heap + (k0 + 97000) → W p l e room_1 s m #[Value.ref b] below meth c H locs cells slots Q (F0 m 23 ls []))
    (hl : lv_has ls 7 [(4, .int (nI i)), (1, .ref xa), (2, .ref G.1), (3, .ref oa), (0, .ref b)]) : W p l e room_1 s m #[Value.ref b] below meth c H locs cells slots Q (F0 m 2558 ls []) := by
  have hx := X.1.1
  have hb := X.1.2.1
  have hown := X.1.2.2.2.1
  have hn0 : s.heap.size = n0 := X.2.2.2.1
  refine lv_aload_n hx hb dL_law_2558 rfl (lv_at hl 1 rfl) ?_
  refine lv_aload_n hx hb dL_law_2559 rfl (lv_at hl 4 rfl) ?_
  refine lv_iload hx hb dL_law_2560 (lv_at hl 0 rfl) ?_
  refine lv_iconst (v := 1) hx hb dL_law_2562 (by decide) ?_
  refine lv_iadd hx hb dL_law_2563 ?_
  refine jr_sld (i := i) (k := 1) hx hb hX hbl hn0 hS (nI_add i 1) (by omega) hL dL_law_2564 ?_
  refine lv_aload_n hx hb dL_law_2565 rfl (lv_at hl 3 rfl) ?_
  obtain ⟨w, σ1, r, σ2, hx1, hm1, ht1, hv1, hRn⟩ := hst (xs (i + 1)) _ (slotsOf H) _ _ hR
  refine jr_wrap (lv := 82) (C := H.size + 14000) (K := slotsOf H + 97000) X hw hS (by omega) (by omega) (show _ ≤ s.heap.size + 928407 by omega) (show _ ≤ slotsOf s.heap + 6316261 by omega) (by decide) (by decide) (met_X0_never hlT N ((H.size, slotsOf H, H.size + 14000, slotsOf H + 97000), τ) xa (xs (i + 1)) oa w hx1) q1567 q1568 q114 q1569 cx_X0_never rfl hl.1 rfl (Nat.le_of_ble_eq_true rfl) dL_law_2566 (fun H locs cells slots hw hS hz hcz hsz => ?_)
  refine lv_istore (lv' := [(5, .int w.2), (4, .int (nI i)), (1, .ref xa), (2, .ref G.1), (3, .ref oa), (0, .ref b)]) hx hb dL_law_2569 hl (by decide) rfl (fun ls hl => ?_)
  refine lv_aload_n hx hb dL_law_2571 rfl (lv_at hl 3 rfl) ?_
  refine lv_aload_n hx hb dL_law_2572 rfl (lv_at hl 5 rfl) ?_
  refine lv_iload hx hb dL_law_2573 (lv_at hl 1 rfl) ?_
  refine lv_iconst (v := 1) hx hb dL_law_2575 (by decide) ?_
  refine lv_iadd hx hb dL_law_2576 ?_
  refine jr_sld (i := i) (k := 1) hx hb hX hbl hn0 hS (nI_add i 1) (by omega) hL dL_law_2577 ?_
  refine jr_mi (lv := 5) X hw hS (show _ ≤ s.heap.size + 928407 by omega) (show _ ≤ slotsOf s.heap + 6316261 by omega) (by decide) (by decide) (met_never (j_mOk X.2.2.1) N σ (xs (i + 1)) _ hm1) (lw_V q2091 q2092 q2093 q121 q2094) cy_never rfl hl.1 rfl (Nat.le_of_ble_eq_true rfl) dL_law_2578 (fun H locs cells slots hw hS hz hsl => ?_)
  refine lv_istore (lv' := [(6, .int r), (5, .int w.2), (4, .int (nI i)), (1, .ref xa), (2, .ref G.1), (3, .ref oa), (0, .ref b)]) hx hb dL_law_2581 hl (by decide) rfl (fun ls hl => ?_)
  refine lv_aload_n hx hb dL_law_2583 rfl (lv_at hl 4 rfl) ?_
  refine jr_mi (lv := 0) X hw hS (show _ ≤ s.heap.size + 928407 by omega) (show _ ≤ slotsOf s.heap + 6316261 by omega) (by decide) (by decide) (met_thrown (j_mOk X.2.2.1) N σ1 _ ht1) (lw_V q1769 q1770 q1771 q121 q1772) cy_thrown rfl hl.1 rfl (Nat.le_of_ble_eq_true rfl) dL_law_2584 (fun H locs cells slots hw hS hz hsl => ?_)
  refine lv_iload hx hb dL_law_2587 (lv_at hl 1 rfl) ?_
  refine lv_icmp_eq (tgt := 2594) hx hb dL_law_2589 (by decide) (fun _ => ?_) (fun z => absurd rfl z)
  refine lv_iload hx hb dL_law_2594 (lv_at hl 1 rfl) ?_
  refine lv_if_ne (tgt := 2611) hx hb dL_law_2596 (by decide) (fun z => ?_) (fun z => ?_)
  · skip
    refine lv_goto (tgt := 2706) hx hb dL_law_2611 (by decide) ?_
    refine lv_iinc (v := nI i + 6) (lv' := [(4, .int (nI i + 6)), (6, .int r), (5, .int w.2), (1, .ref xa), (2, .ref G.1), (3, .ref oa), (0, .ref b)]) hx hb dL_law_2706 hl (k := 2) rfl rfl (by decide) rfl (fun ls hl => ?_)
    refine lv_goto (tgt := 23) hx hb dL_law_2709 (by decide) ?_
    have hl := lv_sub hl [0, 3, 4, 5, 6] rfl
    exact hnext _ _ _ _ _ _ _ hw hS (by rw [← nI_add i 6]; exact hl) (hRn _ (by omega) (fun q e0 hq => by have h9 := (hw.1.1.1 q e0 (by exact hq)).1.lt; exact h9)) (by omega) (by omega)
  · have hv1 := hv1 (by first | exact z | exact Classical.byContradiction z)
    refine lv_aload_n hx hb dL_law_2599 rfl (lv_at hl 5 rfl) ?_
    refine lv_iconst (v := 0) hx hb dL_law_2600 (by decide) ?_
    refine jr_lald (C := 0) (K := 0) X hw rfl (S := w.1) rfl hv1 dL_law_2601 ?_
    refine lv_iload hx hb dL_law_2602 (lv_at hl 0 rfl) ?_
    refine lv_i2l hx hb dL_law_2604 rfl ?_
    refine W.lcmp hx hb dL_law_2605 ?_
    refine lv_if_eq (tgt := 2611) hx hb dL_law_2606 (by decide) (fun _ => ?_) (fun z => absurd (lg_cmp_self _) z)
    refine lv_goto (tgt := 2706) hx hb dL_law_2611 (by decide) ?_
    refine lv_iinc (v := nI i + 6) (lv' := [(4, .int (nI i + 6)), (6, .int r), (5, .int w.2), (1, .ref xa), (2, .ref G.1), (3, .ref oa), (0, .ref b)]) hx hb dL_law_2706 hl (k := 2) rfl rfl (by decide) rfl (fun ls hl => ?_)
    refine lv_goto (tgt := 23) hx hb dL_law_2709 (by decide) ?_
    have hl := lv_sub hl [0, 3, 4, 5, 6] rfl
    exact hnext _ _ _ _ _ _ _ hw hS (by rw [← nI_add i 6]; exact hl) (hRn _ (by omega) (fun q e0 hq => by have h9 := (hw.1.1.1 q e0 (by exact hq)).1.lt; exact h9)) (by omega) (by omega)
theorem law_swell {p : Program} {l : Launch} {e : Env} {s : State} {m : MethodId} {below : List Frame} {meth : Method} {c : Code} {H : Heap} {locs : List Loc} {cells slots : Nat} {Q : State → Prop} {ls : Array Slot} {g : XC} {D : va_G} {G : MG} {n0 b L i c0 k0 xa oa N : Nat} {xs : Nat → Int32} {τ : XL} {σ : MS} {Rel Rel1 : Nat → XL → MS → Prop} (hlT : l.stackTraces = false) (X : jX g D G n0 "DripCupsLaw" p s m #[Value.ref b] c cL_law 7) (hX : va_X b L xs s s.heap) (hbl : b < s.heap.size) (hi : i + 6 ≤ L) (hL : L ≤ 384) (hst : St_swell Rel Rel1 g N xa oa) (h1 : H.size ≤ s.heap.size + c0) (h2 : slotsOf H ≤ slotsOf s.heap + k0) (hc0 : c0 + 14000 ≤ 928407) (hk0 : k0 + 97000 ≤ 6316261) (hw : jW g D G n0 τ σ s H) (hS : va_S (fun q => n0 ≤ q) s.heap H locs) (hR : Rel H.size τ σ)
    (hnext : ∀ (H : Heap) (locs : List Loc) (ls : Array Slot) (cells slots : Nat) (τ : XL) (σ : MS), jW g D G n0 τ σ s H → va_S (fun q => n0 ≤ q) s.heap H locs → lv_has ls 7 [(4, .int (nI (i + 6))), (1, .ref xa), (2, .ref G.1), (3, .ref oa), (0, .ref b)] → Rel1 H.size τ σ → H.size ≤ s.heap.size + (c0 + 14000) → slotsOf H ≤ slotsOf s.heap + (k0 + 97000) → W p l e room_1 s m #[Value.ref b] below meth c H locs cells slots Q (F0 m 23 ls []))
    (hl : lv_has ls 7 [(4, .int (nI i)), (1, .ref xa), (2, .ref G.1), (3, .ref oa), (0, .ref b)]) : W p l e room_1 s m #[Value.ref b] below meth c H locs cells slots Q (F0 m 2614 ls []) := by
  have hx := X.1.1
  have hb := X.1.2.1
  have hown := X.1.2.2.2.1
  have hn0 : s.heap.size = n0 := X.2.2.2.1
  refine lv_aload_n hx hb dL_law_2614 rfl (lv_at hl 1 rfl) ?_
  refine lv_aload_n hx hb dL_law_2615 rfl (lv_at hl 4 rfl) ?_
  refine lv_iload hx hb dL_law_2616 (lv_at hl 0 rfl) ?_
  refine lv_iconst (v := 1) hx hb dL_law_2618 (by decide) ?_
  refine lv_iadd hx hb dL_law_2619 ?_
  refine jr_sld (i := i) (k := 1) hx hb hX hbl hn0 hS (nI_add i 1) (by omega) hL dL_law_2620 ?_
  refine lv_aload_n hx hb dL_law_2621 rfl (lv_at hl 4 rfl) ?_
  refine lv_iload hx hb dL_law_2622 (lv_at hl 0 rfl) ?_
  refine lv_iconst (v := 2) hx hb dL_law_2624 (by decide) ?_
  refine lv_iadd hx hb dL_law_2625 ?_
  refine jr_sld (i := i) (k := 2) hx hb hX hbl hn0 hS (nI_add i 2) (by omega) hL dL_law_2626 ?_
  refine lv_aload_n hx hb dL_law_2627 rfl (lv_at hl 3 rfl) ?_
  obtain ⟨w, σ1, r, σ2, hx1, hm1, ht1, hv1, hRn⟩ := hst (xs (i + 1)) (xs (i + 2)) _ (slotsOf H) _ _ hR
  refine jr_wrap (lv := 82) (C := H.size + 14000) (K := slotsOf H + 97000) X hw hS (by omega) (by omega) (show _ ≤ s.heap.size + 928407 by omega) (show _ ≤ slotsOf s.heap + 6316261 by omega) (by decide) (by decide) (met_X0_swell hlT N ((H.size, slotsOf H, H.size + 14000, slotsOf H + 97000), τ) xa (xs (i + 1)) (xs (i + 2)) oa w hx1) q1574 q1575 q114 q1576 cx_X0_swell rfl hl.1 rfl (Nat.le_of_ble_eq_true rfl) dL_law_2628 (fun H locs cells slots hw hS hz hcz hsz => ?_)
  refine lv_istore (lv' := [(5, .int w.2), (4, .int (nI i)), (1, .ref xa), (2, .ref G.1), (3, .ref oa), (0, .ref b)]) hx hb dL_law_2631 hl (by decide) rfl (fun ls hl => ?_)
  refine lv_aload_n hx hb dL_law_2633 rfl (lv_at hl 3 rfl) ?_
  refine lv_aload_n hx hb dL_law_2634 rfl (lv_at hl 5 rfl) ?_
  refine lv_iload hx hb dL_law_2635 (lv_at hl 1 rfl) ?_
  refine lv_iconst (v := 1) hx hb dL_law_2637 (by decide) ?_
  refine lv_iadd hx hb dL_law_2638 ?_
  refine jr_sld (i := i) (k := 1) hx hb hX hbl hn0 hS (nI_add i 1) (by omega) hL dL_law_2639 ?_
  refine lv_aload_n hx hb dL_law_2640 rfl (lv_at hl 5 rfl) ?_
  refine lv_iload hx hb dL_law_2641 (lv_at hl 1 rfl) ?_
  refine lv_iconst (v := 2) hx hb dL_law_2643 (by decide) ?_
  refine lv_iadd hx hb dL_law_2644 ?_
  refine jr_sld (i := i) (k := 2) hx hb hX hbl hn0 hS (nI_add i 2) (by omega) hL dL_law_2645 ?_
  refine jr_mi (lv := 5) X hw hS (show _ ≤ s.heap.size + 928407 by omega) (show _ ≤ slotsOf s.heap + 6316261 by omega) (by decide) (by decide) (met_swell (j_mOk X.2.2.1) N σ (xs (i + 1)) (xs (i + 2)) _ hm1) (lw_V q2095 q2096 q2097 q121 q2098) cy_swell rfl hl.1 rfl (Nat.le_of_ble_eq_true rfl) dL_law_2646 (fun H locs cells slots hw hS hz hsl => ?_)
  refine lv_istore (lv' := [(6, .int r), (5, .int w.2), (4, .int (nI i)), (1, .ref xa), (2, .ref G.1), (3, .ref oa), (0, .ref b)]) hx hb dL_law_2649 hl (by decide) rfl (fun ls hl => ?_)
  refine lv_aload_n hx hb dL_law_2651 rfl (lv_at hl 4 rfl) ?_
  refine jr_mi (lv := 0) X hw hS (show _ ≤ s.heap.size + 928407 by omega) (show _ ≤ slotsOf s.heap + 6316261 by omega) (by decide) (by decide) (met_thrown (j_mOk X.2.2.1) N σ1 _ ht1) (lw_V q1769 q1770 q1771 q121 q1772) cy_thrown rfl hl.1 rfl (Nat.le_of_ble_eq_true rfl) dL_law_2652 (fun H locs cells slots hw hS hz hsl => ?_)
  refine lv_iload hx hb dL_law_2655 (lv_at hl 1 rfl) ?_
  refine lv_icmp_eq (tgt := 2662) hx hb dL_law_2657 (by decide) (fun _ => ?_) (fun z => absurd rfl z)
  refine lv_iload hx hb dL_law_2662 (lv_at hl 1 rfl) ?_
  refine lv_if_ne (tgt := 2679) hx hb dL_law_2664 (by decide) (fun z => ?_) (fun z => ?_)
  · skip
    refine lv_goto (tgt := 2706) hx hb dL_law_2679 (by decide) ?_
    refine lv_iinc (v := nI i + 6) (lv' := [(4, .int (nI i + 6)), (6, .int r), (5, .int w.2), (1, .ref xa), (2, .ref G.1), (3, .ref oa), (0, .ref b)]) hx hb dL_law_2706 hl (k := 2) rfl rfl (by decide) rfl (fun ls hl => ?_)
    refine lv_goto (tgt := 23) hx hb dL_law_2709 (by decide) ?_
    have hl := lv_sub hl [0, 3, 4, 5, 6] rfl
    exact hnext _ _ _ _ _ _ _ hw hS (by rw [← nI_add i 6]; exact hl) (hRn _ (by omega) (fun q e0 hq => by have h9 := (hw.1.1.1 q e0 (by exact hq)).1.lt; exact h9)) (by omega) (by omega)
  · have hv1 := hv1 (by first | exact z | exact Classical.byContradiction z)
    refine lv_aload_n hx hb dL_law_2667 rfl (lv_at hl 5 rfl) ?_
    refine lv_iconst (v := 0) hx hb dL_law_2668 (by decide) ?_
    refine jr_lald (C := 0) (K := 0) X hw rfl (S := w.1) rfl hv1 dL_law_2669 ?_
    refine lv_iload hx hb dL_law_2670 (lv_at hl 0 rfl) ?_
    refine lv_i2l hx hb dL_law_2672 rfl ?_
    refine W.lcmp hx hb dL_law_2673 ?_
    refine lv_if_eq (tgt := 2679) hx hb dL_law_2674 (by decide) (fun _ => ?_) (fun z => absurd (lg_cmp_self _) z)
    refine lv_goto (tgt := 2706) hx hb dL_law_2679 (by decide) ?_
    refine lv_iinc (v := nI i + 6) (lv' := [(4, .int (nI i + 6)), (6, .int r), (5, .int w.2), (1, .ref xa), (2, .ref G.1), (3, .ref oa), (0, .ref b)]) hx hb dL_law_2706 hl (k := 2) rfl rfl (by decide) rfl (fun ls hl => ?_)
    refine lv_goto (tgt := 23) hx hb dL_law_2709 (by decide) ?_
    have hl := lv_sub hl [0, 3, 4, 5, 6] rfl
    exact hnext _ _ _ _ _ _ _ hw hS (by rw [← nI_add i 6]; exact hl) (hRn _ (by omega) (fun q e0 hq => by have h9 := (hw.1.1.1 q e0 (by exact hq)).1.lt; exact h9)) (by omega) (by omega)
theorem law_image {p : Program} {l : Launch} {e : Env} {s : State} {m : MethodId} {below : List Frame} {meth : Method} {c : Code} {H : Heap} {locs : List Loc} {cells slots : Nat} {Q : State → Prop} {ls : Array Slot} {g : XC} {D : va_G} {G : MG} {n0 b L i c0 k0 xa oa N : Nat} {xs : Nat → Int32} {τ : XL} {σ : MS} {Rel Rel1 : Nat → XL → MS → Prop} (hlT : l.stackTraces = false) (X : jX g D G n0 "DripCupsLaw" p s m #[Value.ref b] c cL_law 7) (hX : va_X b L xs s s.heap) (hbl : b < s.heap.size) (hi : i + 6 ≤ L) (hL : L ≤ 384) (hst : St_image Rel Rel1 g N xa oa) (h1 : H.size ≤ s.heap.size + c0) (h2 : slotsOf H ≤ slotsOf s.heap + k0) (hc0 : c0 + 14000 ≤ 928407) (hk0 : k0 + 97000 ≤ 6316261) (hw : jW g D G n0 τ σ s H) (hS : va_S (fun q => n0 ≤ q) s.heap H locs) (hR : Rel H.size τ σ)
    (hnext : ∀ (H : Heap) (locs : List Loc) (ls : Array Slot) (cells slots : Nat) (τ : XL) (σ : MS), jW g D G n0 τ σ s H → va_S (fun q => n0 ≤ q) s.heap H locs → lv_has ls 7 [(4, .int (nI (i + 6))), (1, .ref xa), (2, .ref G.1), (3, .ref oa), (0, .ref b)] → Rel1 H.size τ σ → H.size ≤ s.heap.size + (c0 + 14000) → slotsOf H ≤ slotsOf s.heap + (k0 + 97000) → W p l e room_1 s m #[Value.ref b] below meth c H locs cells slots Q (F0 m 23 ls []))
    (hl : lv_has ls 7 [(4, .int (nI i)), (1, .ref xa), (2, .ref G.1), (3, .ref oa), (0, .ref b)]) : W p l e room_1 s m #[Value.ref b] below meth c H locs cells slots Q (F0 m 2682 ls []) := by
  have hx := X.1.1
  have hb := X.1.2.1
  have hown := X.1.2.2.2.1
  have hn0 : s.heap.size = n0 := X.2.2.2.1
  refine lv_aload_n hx hb dL_law_2682 rfl (lv_at hl 1 rfl) ?_
  obtain ⟨u0, w, σ1, hu0, hx1, hm1, hRn⟩ := hst _ (slotsOf H) _ _ hR
  refine jr_xv (lv := 5) (C := H.size + 14000) (K := slotsOf H + 97000) X hw hS (by omega) (by omega) (show _ ≤ s.heap.size + 928407 by omega) (show _ ≤ slotsOf s.heap + 6316261 by omega) (by decide) (by decide) (met_X1_image N ((H.size, slotsOf H, H.size + 14000, slotsOf H + 97000), τ) xa w hx1) xc1 hu0 (lw_V q614 q615 q616 q115 q617) cx_X1_image rfl hl.1 rfl (Nat.le_of_ble_eq_true rfl) dL_law_2683 (fun H locs cells slots hw hS hz hcz hsz => ?_)
  refine lv_aload_n hx hb dL_law_2686 rfl (lv_at hl 2 rfl) ?_
  refine jr_mv (lv := 1) X hw hS (show _ ≤ s.heap.size + 928407 by omega) (show _ ≤ slotsOf s.heap + 6316261 by omega) (by decide) (by decide) (met_image (j_mOk X.2.2.1) N σ _ hm1) (lw_V q2214 q2215 q2216 q121 q2217) cy_image rfl hl.1 rfl (Nat.le_of_ble_eq_true rfl) dL_law_2687 (fun H locs cells slots hw hS hz hsl => ?_)
  refine lv_goto (tgt := 2706) hx hb dL_law_2690 (by decide) ?_
  refine lv_iinc (v := nI i + 6) (lv' := [(4, .int (nI i + 6)), (1, .ref xa), (2, .ref G.1), (3, .ref oa), (0, .ref b)]) hx hb dL_law_2706 hl (k := 0) rfl rfl (by decide) rfl (fun ls hl => ?_)
  refine lv_goto (tgt := 23) hx hb dL_law_2709 (by decide) ?_
  have hl := lv_sub hl [0, 1, 2, 3, 4] rfl
  exact hnext _ _ _ _ _ _ _ hw hS (by rw [← nI_add i 6]; exact hl) (hRn _ (by omega) (fun q e0 hq => by have h9 := (hw.1.1.1 q e0 (by exact hq)).1.lt; exact h9)) (by omega) (by omega)
theorem law_restore {p : Program} {l : Launch} {e : Env} {s : State} {m : MethodId} {below : List Frame} {meth : Method} {c : Code} {H : Heap} {locs : List Loc} {cells slots : Nat} {Q : State → Prop} {ls : Array Slot} {g : XC} {D : va_G} {G : MG} {n0 b L i c0 k0 xa oa N : Nat} {xs : Nat → Int32} {τ : XL} {σ : MS} {Rel Rel1 : Nat → XL → MS → Prop} (hlT : l.stackTraces = false) (X : jX g D G n0 "DripCupsLaw" p s m #[Value.ref b] c cL_law 7) (hX : va_X b L xs s s.heap) (hbl : b < s.heap.size) (hi : i + 6 ≤ L) (hL : L ≤ 384) (hst : St_restore Rel Rel1 g N xa oa) (h1 : H.size ≤ s.heap.size + c0) (h2 : slotsOf H ≤ slotsOf s.heap + k0) (hc0 : c0 + 14000 ≤ 928407) (hk0 : k0 + 97000 ≤ 6316261) (hw : jW g D G n0 τ σ s H) (hS : va_S (fun q => n0 ≤ q) s.heap H locs) (hR : Rel H.size τ σ)
    (hnext : ∀ (H : Heap) (locs : List Loc) (ls : Array Slot) (cells slots : Nat) (τ : XL) (σ : MS), jW g D G n0 τ σ s H → va_S (fun q => n0 ≤ q) s.heap H locs → lv_has ls 7 [(4, .int (nI (i + 6))), (1, .ref xa), (2, .ref G.1), (3, .ref oa), (0, .ref b)] → Rel1 H.size τ σ → H.size ≤ s.heap.size + (c0 + 14000) → slotsOf H ≤ slotsOf s.heap + (k0 + 97000) → W p l e room_1 s m #[Value.ref b] below meth c H locs cells slots Q (F0 m 23 ls []))
    (hl : lv_has ls 7 [(4, .int (nI i)), (1, .ref xa), (2, .ref G.1), (3, .ref oa), (0, .ref b)]) : W p l e room_1 s m #[Value.ref b] below meth c H locs cells slots Q (F0 m 2693 ls []) := by
  have hx := X.1.1
  have hb := X.1.2.1
  have hown := X.1.2.2.2.1
  have hn0 : s.heap.size = n0 := X.2.2.2.1
  refine lv_aload_n hx hb dL_law_2693 rfl (lv_at hl 1 rfl) ?_
  obtain ⟨u0, w, σ1, hu0, hx1, hm1, hRn⟩ := hst _ (slotsOf H) _ _ hR
  refine jr_xi (lv := 5) (C := H.size + 14000) (K := slotsOf H + 97000) X hw hS (by omega) (by omega) (show _ ≤ s.heap.size + 928407 by omega) (show _ ≤ slotsOf s.heap + 6316261 by omega) (by decide) (by decide) (met_X1_restore N ((H.size, slotsOf H, H.size + 14000, slotsOf H + 97000), τ) xa w hx1) xc1 hu0 (lw_V q642 q643 q644 q115 q645) cx_X1_restore rfl hl.1 rfl (Nat.le_of_ble_eq_true rfl) dL_law_2694 (fun H locs cells slots hw hS hz hcz hsz => ?_)
  refine lv_aload_n hx hb dL_law_2697 rfl (lv_at hl 2 rfl) ?_
  refine jr_mi (lv := 1) X hw hS (show _ ≤ s.heap.size + 928407 by omega) (show _ ≤ slotsOf s.heap + 6316261 by omega) (by decide) (by decide) (met_restore (j_mOk X.2.2.1) N σ _ hm1) (lw_V q2218 q2219 q2220 q121 q2221) cy_restore rfl hl.1 rfl (Nat.le_of_ble_eq_true rfl) dL_law_2698 (fun H locs cells slots hw hS hz hsl => ?_)
  refine lv_icmp_eq (tgt := 2706) hx hb dL_law_2701 (by decide) (fun _ => ?_) (fun z => absurd rfl z)
  refine lv_iinc (v := nI i + 6) (lv' := [(4, .int (nI i + 6)), (1, .ref xa), (2, .ref G.1), (3, .ref oa), (0, .ref b)]) hx hb dL_law_2706 hl (k := 0) rfl rfl (by decide) rfl (fun ls hl => ?_)
  refine lv_goto (tgt := 23) hx hb dL_law_2709 (by decide) ?_
  have hl := lv_sub hl [0, 1, 2, 3, 4] rfl
  exact hnext _ _ _ _ _ _ _ hw hS (by rw [← nI_add i 6]; exact hl) (hRn _ (by omega) (fun q e0 hq => by have h9 := (hw.1.1.1 q e0 (by exact hq)).1.lt; exact h9)) (by omega) (by omega)
