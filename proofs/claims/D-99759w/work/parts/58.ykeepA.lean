/-! plain law: keeping a night -/
def yAct (as : List MN) (V : MN) : List MN := (if as.length = 40 then as.tail else as) ++ [V]
theorem ix64 (c k : Nat) : (64 : Int32) * nI c + nI k = nI (64 * c + k) := by
  have e : (64 : Int32) = nI 64 := by decide
  rw [e, iI_nI, iI_nI, iI_nI, iI_nI, iI_mul, iI_add]
  congr 1
/-- the reference has written only to int 33, array 32 -/
def RK (J K : List Nat) (σ σ1 : MS) : Prop := (∀ j, j ∉ J → σ1.1 j = σ.1 j) ∧ ∀ j, j ∉ K → σ1.2.2 j = σ.2.2 j
theorem RK.trans {J K J1 K1 : List Nat} {σ σ1 σ2 : MS} (h : RK J K σ σ1) (h2 : RK J1 K1 σ1 σ2) (hJ : ∀ j, j ∈ J1 → j ∈ J) (hK : ∀ j, j ∈ K1 → j ∈ K) : RK J K σ σ2 := ⟨fun j hj => (h2.1 j (fun z => hj (hJ j z))).trans (h.1 j hj), fun j hj => (h2.2 j (fun z => hj (hK j z))).trans (h.2 j hj)⟩
theorem r_keep52 {N : Nat} {σ : MS} {c : Nat} (hN : 2 ^ 20 < N) (hc : σ.1 33 = nI c) (h39 : c < 40) : ∃ σ1, kM_keeps_50 N σ = some σ1 ∧ σ1.1 33 = nI (c + 1) ∧ RK [33] [32] σ σ1 ∧ ∀ q, σ1.2.2 32 q = if 64 * c ≤ q ∧ q < 64 * c + 64 then σ.2.2 31 (q - 64 * c) else σ.2.2 32 q := by
  unfold kM_keeps_50
  refine y_loop (fun n (s : MS) k => kM_keeps_52 N n s (nI k)) 64 (fun s k => s.1 = σ.1 ∧ (∀ j, j ≠ 32 → s.2.2 j = σ.2.2 j) ∧ ∀ q, s.2.2 32 q = if 64 * c ≤ q ∧ q < 64 * c + k then σ.2.2 31 (q - 64 * c) else σ.2.2 32 q) (fun r => ∃ σ1, r = some σ1 ∧ σ1.1 33 = nI (c + 1) ∧ RK [33] [32] σ σ1 ∧ ∀ q, σ1.2.2 32 q = if 64 * c ≤ q ∧ q < 64 * c + 64 then σ.2.2 31 (q - 64 * c) else σ.2.2 32 q) ?_ ?_ 64 N σ 0 (by omega) (by omega) ⟨rfl, fun _ _ => rfl, fun q => by rw [if_neg (by omega)]⟩
  · rintro n s k hk ⟨h1, h2, h3⟩
    right
    refine ⟨rS s 32 (64 * c + k) (s.2.2 31 k), ?_, h1, fun j hj => (rS_ne _ _ _ _ hj).trans (h2 j hj), fun q => ?_⟩
    · show kM_keeps_52 N (n + 1) s (nI k) = _
      rw [kM_keeps_52, nI_1]
      refine oif (nI_ge (b := 64) hk (by decide)) (ob1 (r_ld rfl (by show k < 128; omega)) (ob1 (r_st (q := 64 * c + k) ?_ (by show 64 * c + k < 2560; omega)) rfl))
      rw [h1, hc, ix64]
    · rw [rS_get, h2 31 (by decide)]
      by_cases e : q = 64 * c + k
      · rw [if_pos ⟨rfl, e⟩, if_pos (by omega), show q - 64 * c = k by omega]
      · rw [if_neg (fun z => e z.2), h3]
        by_cases e2 : 64 * c ≤ q ∧ q < 64 * c + k
        · rw [if_pos e2, if_pos (by omega)]
        · rw [if_neg e2, if_neg (by omega)]
  · rintro n s ⟨h1, h2, h3⟩
    refine ⟨m_put s 33 (s.1 33 + 1), ?_, ?_, ⟨fun j hj => ?_, fun j hj => h2 j (fun z => hj (by simp [z]))⟩, h3⟩
    · show kM_keeps_52 N (n + 1) s (nI 64) = _
      rw [kM_keeps_52]
      exact oit (nI_le (b := 64) (Nat.le_refl _) (by decide)) rfl
    · rw [mp_s, h1, hc, nI_1]
    · rw [mp_n _ _ _ (fun z => hj (by simp [z])), h1]
theorem r_keep {N : Nat} {σ : MS} {C : CC} {as : List MN} {V : MN} (hN : 2 ^ 20 < N) (h9 : C.1 ≤ 9) (hl : as.length ≤ 40) (hA : RActs C (σ.1 33) (σ.2.2 32) as) (hV : RowR (σ.2.2 31) 0 C V) : ∃ σ1, kM_keeps N σ = some σ1 ∧ RK [33] [32] σ σ1 ∧ RActs C (σ1.1 33) (σ1.2.2 32) (yAct as V) := by
  have hfin : ∀ (σ0 : MS) (bs : List MN), bs.length < 40 → RActs C (σ0.1 33) (σ0.2.2 32) bs → RK [33] [32] σ σ0 → ∃ σ1, kM_keeps_50 N σ0 = some σ1 ∧ RK [33] [32] σ σ1 ∧ RActs C (σ1.1 33) (σ1.2.2 32) (bs ++ [V]) := fun σ0 bs hb h0 hk => by
    obtain ⟨σ1, k1, k2, k3, k4⟩ := r_keep52 hN h0.1 hb
    refine ⟨σ1, k1, hk.trans k3 (fun _ z => z) (fun _ z => z), by rw [k2]; simp, fun i m hm => ?_⟩
    by_cases e : i < bs.length
    · rw [List.getElem?_append_left e] at hm
      refine (h0.2 i m hm).of h9 (fun q hq => ?_)
      rw [k4, if_neg (by omega)]
    · have e2 : i = bs.length := by
        have := (List.getElem?_eq_some_iff.mp hm).1
        simp at this
        omega
      subst e2
      rw [List.getElem?_append_right (Nat.le_refl _), Nat.sub_self] at hm
      obtain rfl := Option.some.inj hm
      refine hV.of h9 (fun q hq => ?_)
      rw [k4, if_pos (by omega), hk.2 31 (by decide), show 64 * bs.length + q - 64 * bs.length = 0 + q by omega]
  unfold kM_keeps yAct
  by_cases h40 : as.length = 40
  · rw [if_pos h40]
    rw [if_pos (show σ.1 33 = 40 by rw [hA.1, h40]; decide)]
    have e64 : (64 : Int32) = nI 64 := by decide
    rw [e64]
    refine y_loop (fun n (s : MS) k => kM_keeps_12 N n s (nI k)) 2560 (fun s k => 64 ≤ k ∧ s.1 = σ.1 ∧ (∀ j, j ≠ 32 → s.2.2 j = σ.2.2 j) ∧ ∀ q, s.2.2 32 q = if q + 64 < k then σ.2.2 32 (q + 64) else σ.2.2 32 q) (fun r => ∃ σ1, r = some σ1 ∧ RK [33] [32] σ σ1 ∧ RActs C (σ1.1 33) (σ1.2.2 32) (as.tail ++ [V])) ?_ ?_ 2496 N σ 64 (by omega) (by omega) ⟨Nat.le_refl _, rfl, fun _ _ => rfl, fun q => by rw [if_neg (by omega)]⟩
    · rintro n s k hk ⟨h0, h1, h2, h3⟩
      right
      refine ⟨rS s 32 (k - 64) (s.2.2 32 k), ?_, by omega, h1, fun j hj => (rS_ne _ _ _ _ hj).trans (h2 j hj), fun q => ?_⟩
      · show kM_keeps_12 N (n + 1) s (nI k) = _
        rw [kM_keeps_12, nI_1]
        refine oif (nI_ge (b := 2560) hk (by decide)) (ob1 (r_ld rfl (by show k < 2560; omega)) (ob1 (r_st (q := k - 64) ?_ (by show k - 64 < 2560; omega)) rfl))
        rw [e64, iI_nI, iI_nI, iI_nI, iI_sub]
        congr 1
        omega
      · rw [rS_get, h3]
        by_cases e : q = k - 64
        · rw [if_pos ⟨rfl, e⟩, if_neg (by omega), if_pos (by omega), show q + 64 = k by omega]
        · rw [if_neg (fun z => e z.2), h3]
          by_cases e2 : q + 64 < k
          · rw [if_pos e2, if_pos (by omega)]
          · rw [if_neg e2, if_neg (by omega)]
    · rintro n s ⟨h0, h1, h2, h3⟩
      have hlen : as.tail.length = 39 := by simp [h40]
      have e1 : RActs C ((m_put s 33 (s.1 33 - 1)).1 33) ((m_put s 33 (s.1 33 - 1)).2.2 32) as.tail := by
        refine ⟨?_, fun i m hm => ?_⟩
        · rw [mp_s, h1, hA.1, h40, hlen]
          decide
        · have hm2 : as[i + 1]? = some m := by rw [← hm, List.getElem?_tail]
          refine (hA.2 (i + 1) m hm2).of h9 (fun q hq => ?_)
          have hi : i < 39 := by
            have := (List.getElem?_eq_some_iff.mp hm).1
            omega
          show s.2.2 32 (64 * i + q) = _
          rw [h3, if_pos (by omega), show 64 * i + q + 64 = 64 * (i + 1) + q by omega]
      have e2 : RK [33] [32] σ (m_put s 33 (s.1 33 - 1)) := ⟨fun j hj => by rw [mp_n _ _ _ (fun z => hj (by simp [z])), h1], fun j hj => h2 j (fun z => hj (by simp [z]))⟩
      obtain ⟨σ1, k1, k2⟩ := hfin (m_put s 33 (s.1 33 - 1)) as.tail (by omega) e1 e2
      refine ⟨σ1, ?_, k2⟩
      show kM_keeps_12 N (n + 1) s (nI 2560) = _
      rw [kM_keeps_12]
      exact oit (nI_le (b := 2560) (Nat.le_refl _) (by decide)) k1
  · rw [if_neg h40]
    rw [if_neg]
    · exact hfin σ as (by omega) hA ⟨fun _ _ => rfl, fun _ _ => rfl⟩
    · intro z
      rw [hA.1] at z
      have := (nI_eq (a := as.length) (b := 40) (by omega) (by omega)).mp z
      omega
/-! the component -/
theorem ListC.min {g : XC} {Y : Nat → Prop} {S : XS} {l cap : Nat} {rs : List Nat} (h : ListC g Y S l rs cap) : ∃ Y1 : Nat → Prop, ListC g Y1 S l rs cap ∧ (∀ q, Y1 q → Y q) ∧ ∀ q, Y1 q → ∃ e, x_cell S q = some e := by
  obtain ⟨h0, mc, ba, h1, h2⟩ := h
  rcases h2 with h2 | ⟨h2, h3, h4, h5, h6⟩
  · refine ⟨fun q => q = l, ⟨h0, mc, ba, ⟨rfl, h1.2⟩, Or.inl h2⟩, fun q hq => ?_, fun q hq => ?_⟩
    · rw [hq]; exact h1.1
    · rw [hq]; exact ⟨_, g_cell h1.2⟩
  · refine ⟨fun q => q = l ∨ q = ba, ⟨h0, mc, ba, ⟨Or.inl rfl, h1.2⟩, Or.inr ⟨h2, h3, h4, h5, Or.inr rfl, h6.2⟩⟩, fun q hq => ?_, fun q hq => ?_⟩
    · rcases hq with rfl | rfl
      · exact h1.1
      · exact h6.1
    · rcases hq with rfl | rfl
      · exact ⟨_, g_cell h1.2⟩
      · exact ⟨_, g_cell h6.2⟩
theorem night_any {g : XC} {S : XS} {r xa : Nat} {m : MN} (h : NightAt S r xa m) : v_any g S r = some () := by
  unfold v_any
  rw [h.1.2.1.cell]
  cases gIv g r with
  | some k => rfl
  | none => rfl
theorem NightAt.same {S S1 : XS} {r xa : Nat} {m : MN} (h : NightAt S r xa m) (hw : xWF S1) (hx : tSame S S1 xa) (hr : tSame S S1 r) : NightAt S1 r xa m := h.keep hw hx.1 hr.1 hr.2.2.1 hr.2.1 hr.2.2.2.1
def yLst (rs : List Nat) (r : Nat) : List Nat := (if rs.length = 40 then rs.tail else rs) ++ [r]
section XK
variable {g : XC} {N xa oa : Nat} {Z Ya Yh : Nat → Prop} {na ta cv la lh : Nat} {ra rh : List Nat} {M : MT} {S : XS}
/-- a night is kept: what lies where -/
theorem x_keepA (hN : 2 ^ 20 < N) (h : CRq g xa oa Z Ya Yh na ta cv la lh ra rh M S) (hW : WFr S) (hsp : gSp g 0 < xTop S ∧ gSp g 1 < xTop S) (hl : (tA M).length ≤ 40) (r1 : xTop S + 10 ≤ xCc S) (r2 : xSl S + 200 ≤ xCs S) : ∃ S1 Ya1 m, kX_X1_keep g N S xa = some S1 ∧ XE Ya S S1 ∧ xTop S < xTop S1 ∧ ListAt g Ya1 S1 la (yLst ra (xTop S)) ∧ (∀ q, Ya1 q → Ya q ∨ (xTop S < q ∧ q < xTop S1)) ∧ (∀ q, Ya1 q → ∃ e, x_cell S1 q = some e) ∧ NightAt S1 (xTop S) xa (mBe m (tV M)) := by
  obtain ⟨c1, c2, ⟨c31, c32, c33, c34, c35⟩, c4, c5, c6, c7, c8, c9, c10, c11⟩ := h
  obtain ⟨d1, d2, d3, d4, d5, d6, d7⟩ := c9
  obtain ⟨S2, m, k1, k2, k3, k4, k5⟩ := x_copy (g := g) hN hW c1 (by omega) (by omega)
  obtain ⟨cap, hL⟩ := c5.1.c
  have hYlt : ∀ q, Ya q → q < xTop S := fun q hq => by
    obtain ⟨e, he⟩ := c10 q (Or.inr (Or.inl hq))
    exact hW.2 q e he
  have hZlt : ∀ q, Z q → q < xTop S := fun q hq => by
    obtain ⟨e, he⟩ := c10 q (Or.inl hq)
    exact hW.2 q e he
  have hxa : xa < xTop S := hW.2 xa _ c2.1.cell
  have s2 : ∀ q, q < xTop S → tSame S S2 q := fun q hq => k2.2.2.2.2.2 q hq (fun z => z)
  have hla : Ya la := by
    obtain ⟨-, mc, ba, h1, -⟩ := hL
    exact h1.1
  have hL2 : ListC g Ya S2 la ra cap := hL.fr (fun q hq => ⟨(s2 q (hYlt q hq)).1, (s2 q (hYlt q hq)).2.2.2.2.2⟩)
  have hlen : ra.length = (tA M).length := c5.2.1
  have hra0 : ∀ r ∈ ra, Z r ∧ ∃ m, NightAt S r xa m := fun r hr => by
    obtain ⟨i, hi, he⟩ := List.getElem_of_mem hr
    have e1 : ra[i]? = some r := by rw [List.getElem?_eq_getElem hi, he]
    have e2 : (tA M)[i]? = some (tA M)[i] := List.getElem?_eq_getElem (by omega)
    obtain ⟨z1, z2⟩ := c5.2.2 i r _ e1 e2
    exact ⟨z1, _, z2⟩
  have hra : ∀ r ∈ ra, v_any g S2 r = some () ∧ r ≠ la := fun r hr => by
    obtain ⟨z1, m, z2⟩ := hra0 r hr
    refine ⟨night_any (z2.same k2.1.1 (s2 xa hxa) (s2 r (hZlt r z1))), fun z => ?_⟩
    rw [z] at z1
    exact (d1 la z1).1 hla
  have hcap := hL2.l
  obtain ⟨S3, Y3, cap3, a1, a2, a3, a4, a5⟩ := l_add (N := N) hL2 k2.1 (by omega) (night_any k5) (fun z => by have := hYlt la hla; omega) hra (by omega) (by have := k2.2.2.2.1; omega) (by have := k2.2.2.2.2.1; omega)
  have t3 : xTop S2 ≤ xTop S3 := a2.2.1
  have w3 : XE Ya S S3 := (k2.mono (P1 := Ya) (fun _ _ z => z.elim)).trans a2 (fun q _ z => z)
  have n3 : NightAt S3 (xTop S) xa (mBe m (tV M)) := k5.same a2.1.1 (a2.2.2.2.2.2 xa (by omega) (fun z => (d2 xa z).2.1 rfl)) (a2.2.2.2.2.2 (xTop S) (by omega) (fun z => by have := hYlt _ z; omega))
  have hx3 : tSame S S3 xa := w3.2.2.2.2.2 xa hxa (fun z => (d2 xa z).2.1 rfl)
  have x1 : tyA S3 1 xa := ⟨hx3.1.trans c2.1.1, c2.1.2⟩
  have o8 : f_obj S 1 xa 8 = some la := f_obj_T c2.1 (by decide) (by decide) c34
  have o2 : f_obj S 1 xa 2 = some na := f_obj_T c2.1 (by decide) (by decide) c32
  have o83 : f_obj S3 1 xa 8 = some la := f_obj_T x1 (by decide) (by decide) (by rw [hx3.2.2.1]; exact c34)
  have hsz := a3.l.size N
  have hcl := a3.l.cls
  have hgo : ∀ R : Option XS, (if nI (ra ++ [xTop S]).length ≤ 40 then some S3 else (kX_J2_remove g N S3 la 0).bind fun w13 => some w13.1) = R → kX_X1_keep g N S xa = R := fun R hR => by
    unfold kX_X1_keep
    refine ob1 o8 (ob1 o2 (ob1 (na_cls c1) (ob1 k1 (ob1 hL2.l.cls (ob1 a1 (ob1 o83 (ob1 hcl (ob1 hsz ?_))))))))
    rw [← hR]
    by_cases z : nI (ra ++ [xTop S]).length ≤ 40
    · rw [if_pos z, if_pos z]
    · rw [if_neg z, if_neg z]
      exact ob1 o83 (ob1 hcl rfl)
  have hYt : ∀ q, Y3 q → Ya q ∨ (xTop S < q ∧ q < xTop S3) := fun q hq => by
    rcases a4 q hq with z | z
    · exact Or.inl z
    · exact Or.inr (by omega)
  by_cases h40 : ra.length = 40
  · have hra3 : ∀ r ∈ ra ++ [xTop S], v_any g S3 r = some () ∧ r ≠ la := fun r hr => by
      rw [List.mem_append, List.mem_singleton] at hr
      rcases hr with hr | hr
      · obtain ⟨z1, m, z2⟩ := hra0 r hr
        refine ⟨night_any (z2.same a2.1.1 hx3 (w3.2.2.2.2.2 r (hZlt r z1) (d1 r z1).1)), fun z => ?_⟩
        rw [z] at z1
        exact (d1 la z1).1 hla
      · rw [hr]
        exact ⟨night_any n3, fun z => by have := hYlt la hla; omega⟩
    obtain ⟨S4, b1, b2, b3, b4, b5⟩ := l_remove (N := N) a3 a2.1 hra3 (i := 0) (r := (ra ++ [xTop S])[0]'(by simp)) (List.getElem?_eq_getElem (by simp))
    have w4 : XE Ya S S4 := w3.trans b2 (fun q hq z => (hYt q z).resolve_right (by omega))
    have hY3 : ∀ q, q ≤ xTop S → ¬ Ya q → ¬ Y3 q := fun q hq z z2 => by
      rcases hYt q z2 with z3 | z3
      · exact z z3
      · omega
    have n4 : NightAt S4 (xTop S) xa (mBe m (tV M)) := n3.same b2.1.1 (b2.2.2.2.2.2 xa (by omega) (hY3 xa (by omega) (fun z => (d2 xa z).2.1 rfl))) (b2.2.2.2.2.2 (xTop S) (by omega) (hY3 _ (Nat.le_refl _) (fun z => by have := hYlt _ z; omega)))
    obtain ⟨Y4, y1, y2, y3⟩ := b5.min
    refine ⟨S4, Y4, m, hgo _ ?_, w4, by omega, ?_, fun q hq => ?_, y3, n4⟩
    · rw [if_neg]
      · have e0 : (0 : Int32) = nI 0 := by decide
        rw [e0]
        exact ob1 b1 rfl
      · have e40 : (40 : Int32) = nI 40 := by decide
        rw [e40]
        exact nI_ge (by simp; omega) (by simp; omega)
    · unfold yLst
      rw [if_pos h40]
      have e : (ra ++ [xTop S]).eraseIdx 0 = ra.tail ++ [xTop S] := by
        cases ra with
        | nil => simp at h40
        | cons a t => rfl
      rw [← e]
      exact y1.l
    · rw [b3]
      exact hYt q (y2 q hq)
  · obtain ⟨Y4, y1, y2, y3⟩ := a3.min
    refine ⟨S3, Y4, m, hgo _ (if_pos ?_), w3, by omega, ?_, fun q hq => hYt q (y2 q hq), y3, n3⟩
    · exact nI_le (b := 40) (by simp; omega) (by decide)
    · unfold yLst
      rw [if_neg h40]
      exact y1.l
end XK
