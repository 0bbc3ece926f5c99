/-! the cave: chains under way -/
section YC27
variable {g : XC} {N : Nat} {S S1 S2 : XS} {D B T T1 c : Nat} {φ ψ : VF} {n Tl Tb : Nat}
theorem form_in {Z : Nat → Prop} {d f : Nat} (h : FormAt g Z d S f φ) : Z f ∧ ∃ k fs, genAt S f (.inr (k, fs)) ∧ 5 ≤ k ∧ k ≤ 8 := by
  cases d with
  | zero => exact absurd h (fun z => z)
  | succ d =>
    rcases h with ⟨v, h1, -⟩ | ⟨i, hi, h1, -⟩ | ⟨h, ψ, h1, -⟩ | ⟨ls, sb, f0, ψ0, l, h1, -⟩
    · exact ⟨h1.1, _, _, h1.2, by decide⟩
    · exact ⟨h1.1, _, _, h1.2, by decide⟩
    · exact ⟨h1.1, _, _, h1.2, by decide⟩
    · exact ⟨h1.1, _, _, h1.2, by decide⟩
theorem form_any {Z : Nat → Prop} {d f : Nat} (h : FormAt g Z d S f φ) : v_any g S f = some () := by
  obtain ⟨-, k, fs, h1, h2, h3⟩ := form_in h
  unfold v_any
  cases gIv g f with
  | some x => rfl
  | none =>
    dsimp only
    rw [g_cell h1]
    exact if_pos (by omega)
theorem form_form {Z : Nat → Prop} {d f : Nat} (h : FormAt g Z d S f φ) : ∃ k, f_form S f = some k := by
  obtain ⟨-, k, fs, h1, h2, h3⟩ := form_in h
  refine ⟨k, ?_⟩
  unfold f_form
  rw [g_cell h1]
  exact if_pos ⟨h2, h3⟩
theorem yCh_snoc (l : List (Nat × VF)) (x : Nat × VF) (w : Nat → Int32) : ∀ v, yCh (l ++ [x]) v w = yBy x.1 (yCh l v w) (x.2 w) := by
  induction l with
  | nil => intro v; rfl
  | cons y l ih => intro v; exact ih _
/-- a chain of forms under way, in cells from B below T -/
def ChI (g : XC) (B T c D : Nat) (S : XS) (φ : VF) (n Tl Tb : Nat) : Prop :=
  ∃ (f0 : Nat) (ψ0 : VF) (l : List (Nat × Nat × VF)) (ls sb : Nat) (Yl Ys Zf : Nat → Prop) (cl cb : Nat),
    genAt S c (.inr (5, [.ref ls, .ref sb])) ∧ ListC g Yl S ls (f0 :: l.map (fun x => x.2.1)) cl ∧ SbC Ys S sb (l.map (fun x => x.1)) cb ∧ FormAt g Zf D S f0 ψ0 ∧ (∀ x ∈ l, FormAt g Zf D S x.2.1 x.2.2) ∧ φ = (fun w => yCh (l.map (fun x => (x.1, x.2.2))) (ψ0 w) w) ∧ l.length = n ∧
    (∀ q, Yl q → B ≤ q ∧ q < T ∧ q ≠ c ∧ ¬ Ys q ∧ ¬ Zf q) ∧ (∀ q, Ys q → B ≤ q ∧ q < T ∧ q ≠ c ∧ ¬ Zf q) ∧ (∀ q, Zf q → B ≤ q ∧ q < T ∧ q ≠ c) ∧ (B ≤ c ∧ c < T) ∧ (Tl ≤ 10 + 8 * n ∧ Tl ≤ 4 * cl ∧ Tb ≤ 16 + 8 * n ∧ Tb ≤ 2 * cb ∧ cb ≤ 16 + 2 * n)
/-- what lies between B and T stays -/
theorem bt_fr {P : Nat → Prop} {Z : Nat → Prop} (h : XE P S S1) (hT : T ≤ xTop S) (hP : ∀ q, B ≤ q → q < T → ¬ P q) (hZ : ∀ q, Z q → B ≤ q ∧ q < T) : yFg Z S S1 := (h.fr (fun q hq => ⟨by have := (hZ q hq).2; omega, hP q (hZ q hq).1 (hZ q hq).2⟩)).g
theorem bt_gen {P : Nat → Prop} {q : Nat} {e : GE} (h : XE P S S1) (hT : T ≤ xTop S) (hP : ∀ q, B ≤ q → q < T → ¬ P q) (h1 : B ≤ q) (h2 : q < T) (hg : genAt S q e) : genAt S1 q e := hg.fr (bt_fr (Z := fun z => z = q) h hT hP (fun z hz => by rw [hz]; exact ⟨h1, h2⟩)) rfl
theorem ChI.fr {P : Nat → Prop} (h : ChI g B T c D S φ n Tl Tb) (hE : XE P S S1) (hT : T ≤ xTop S) (hP : ∀ q, B ≤ q → q < T → ¬ P q) : ChI g B T c D S1 φ n Tl Tb := by
  obtain ⟨f0, ψ0, l, ls, sb, Yl, Ys, Zf, cl, cb, h1, h2, h3, h4, h5, h6, h7, h8, h9, h10, h11, h12⟩ := h
  have fZ : yFg Zf S S1 := bt_fr hE hT hP (fun q hq => ⟨(h10 q hq).1, (h10 q hq).2.1⟩)
  exact ⟨f0, ψ0, l, ls, sb, Yl, Ys, Zf, cl, cb, bt_gen hE hT hP h11.1 h11.2 h1, h2.fr (bt_fr hE hT hP (fun q hq => ⟨(h8 q hq).1, (h8 q hq).2.1⟩)), h3.fr (bt_fr hE hT hP (fun q hq => ⟨(h9 q hq).1, (h9 q hq).2.1⟩)), FormAt.fr fZ _ _ _ h4, fun x hx => FormAt.fr fZ _ _ _ (h5 x hx), h6, h7, h8, h9, h10, h11, h12⟩
theorem ChI.cls (h : ChI g B T c D S φ n Tl Tb) : f_cls S 5 c = some () := by
  obtain ⟨f0, ψ0, l, ls, sb, Yl, Ys, Zf, cl, cb, h1, -⟩ := h
  exact g_cls h1
/-- the chain, or its only form -/
theorem ChI.plain (h : ChI g B T c D S φ n Tl Tb) : ∃ f, kX_X7_plain g N S c = some (S, f) ∧ FormAt g (fun q => B ≤ q ∧ q < T) (D + 1) S f φ := by
  obtain ⟨f0, ψ0, l, ls, sb, Yl, Ys, Zf, cl, cb, h1, h2, h3, h4, h5, h6, h7, h8, h9, h10, h11, h12⟩ := h
  have hz : ∀ q, Zf q → B ≤ q ∧ q < T := fun q hq => ⟨(h10 q hq).1, (h10 q hq).2.1⟩
  have hL := h2.l
  have hlen : (f0 :: l.map (fun x => x.2.1)).length = l.length + 1 := by simp
  have hl20 : l.length + 1 < 2 ^ 20 := by have := hL.1; rw [hlen] at this; exact this
  by_cases e : l = []
  · subst e
    obtain ⟨k, hk⟩ := form_form h4
    refine ⟨f0, ?_, ?_⟩
    · unfold kX_X7_plain
      refine ob1 (g_obj h1 rfl) (ob1 hL.cls (ob1 (hL.size N) (oit rfl (ob1 (g_obj h1 rfl) (ob1 hL.cls (ob1 (hL.get N (i := 0) (r := f0) rfl) (ob1 hk rfl)))))))
    · rw [h6]
      exact (FormAt.mono hz _ _ _ h4).up
  · refine ⟨c, ?_, ?_⟩
    · unfold kX_X7_plain
      refine ob1 (g_obj h1 rfl) (ob1 hL.cls (ob1 (hL.size N) (oif ?_ rfl)))
      intro z
      rw [hlen] at z
      have := (nI_eq (a := l.length + 1) (b := 1) (by omega) (by omega)).mp z
      have hp := List.length_pos_iff.mpr e
      omega
    · exact Or.inr (Or.inr (Or.inr ⟨ls, sb, f0, ψ0, l, ⟨h11, h1⟩, hL.mono (fun q hq => ⟨(h8 q hq).1, (h8 q hq).2.1⟩), h3.sb.mono (fun q hq => ⟨(h9 q hq).1, (h9 q hq).2.1⟩), FormAt.mono hz _ _ _ h4, fun x hx => FormAt.mono hz _ _ _ (h5 x hx), h6⟩))
/-- one more form -/
theorem ChI.add {ch f : Nat} (h : ChI g B T c D S φ n Tl Tb) (hW : WFr S) (hT : T ≤ xTop S) (hsp : gSp g 0 < B ∧ gSp g 1 < B) (hc : ch ∈ [38, 42, 43, 45, 47, 60, 61, 124]) (hf : FormAt g (fun q => T ≤ q ∧ q < xTop S) D S f ψ) (hn : n < 5000) (r1 : xTop S + 2 ≤ xCc S) (r2 : xSl S + (4 * n + 20) ≤ xCs S) : ∃ S1 Tl1 Tb1, kX_X7_add g N S c (nI ch) f = some S1 ∧ XE (fun q => B ≤ q) S S1 ∧ ChI g B (xTop S1) c D S1 (fun w => yBy ch (φ w) (ψ w)) (n + 1) Tl1 Tb1 ∧ xTop S1 ≤ xTop S + 2 ∧ xSl S1 + Tl + Tb = xSl S + Tl1 + Tb1 := by
  obtain ⟨f0, ψ0, l, ls, sb, Yl, Ys, Zf, cl, cb, h1, h2, h3, h4, h5, h6, h7, h8, h9, h10, h11, h12⟩ := h
  obtain ⟨t1, t2, t3, t4, t5⟩ := h12
  have hlsb : (l.map (fun x => x.1)).length = n := by rw [List.length_map, h7]
  have hlsl : (f0 :: l.map (fun x => x.2.1)).length = n + 1 := by rw [List.length_cons, List.length_map, h7]
  have hls : Yl ls := by obtain ⟨-, mc, ba, k1, -⟩ := h2; exact k1.1
  -- the sign
  obtain ⟨S2, Y2, cb2, a1, a2, a3, a4, a5⟩ := sb_append (N := N) (g := g) h3 hW hc (by omega) (by omega) (by rw [hlsb]; omega)
  have e2t : xTop S ≤ xTop S2 := a2.2.1
  have c2 : xCc S2 = xCc S := a2.2.2.2.1
  have c3 : xCs S2 = xCs S := a2.2.2.2.2.1
  have b1 : genAt S2 c (.inr (5, [.ref ls, .ref sb])) := by
    refine h1.fr (Z := fun z => z = c) (a2.fr (fun q hq => ?_)).g rfl
    subst hq
    exact ⟨by omega, fun z => (h9 _ z).2.2.1 rfl⟩
  have b2 : ListC g Yl S2 ls (f0 :: l.map (fun x => x.2.1)) cl := h2.fr (a2.fr (fun q hq => ⟨by have := (h8 q hq).2.1; omega, (h8 q hq).2.2.2.1⟩)).g
  have fZ2 : yFg Zf S S2 := (a2.fr (fun q hq => ⟨by have := (h10 q hq).2.1; omega, fun z => (h9 q z).2.2.2 hq⟩)).g
  have fN2 : yFg (fun q => T ≤ q ∧ q < xTop S) S S2 := (a2.fr (fun q hq => ⟨hq.2, fun z => by have := (h9 q z).2.1; omega⟩)).g
  have b4 := FormAt.fr fZ2 _ _ _ h4
  have b5 : ∀ x ∈ l, FormAt g Zf D S2 x.2.1 x.2.2 := fun x hx => FormAt.fr fZ2 _ _ _ (h5 x hx)
  have bf := FormAt.fr fN2 _ _ _ hf
  have hfin := (form_in bf).1
  have hlsT := h8 ls hls
  have hsl2 : xSl S2 ≤ xSl S + (2 * n + 2) := by
    rcases a5 with ⟨-, -, -, z⟩ | ⟨z1, z2, -, z3⟩
    · omega
    · rw [hlsb] at z1
      omega
  have htp2 : xTop S2 ≤ xTop S + 1 := by
    rcases a5 with ⟨-, -, z, -⟩ | ⟨-, -, z, -⟩ <;> omega
  -- the form
  have hadd := l_add (N := N) (v := f) b2 a2.1 ⟨by omega, by omega⟩ (form_any bf) (fun z => by rw [z] at hfin; have := hfin.1; omega) (fun r hr => by
    rcases List.mem_cons.mp hr with z | z
    · subst z
      exact ⟨form_any b4, fun y => hlsT.2.2.2.2 (y ▸ (form_in b4).1)⟩
    · obtain ⟨x, x1, x2⟩ := List.mem_map.mp z
      subst x2
      exact ⟨form_any (b5 x x1), fun y => hlsT.2.2.2.2 (y ▸ (form_in (b5 x x1)).1)⟩) (by rw [hlsl]; omega) (by omega) (by rw [hlsl]; omega)
  obtain ⟨S3, Y3, cl3, d1, d2, d3, d4, d5⟩ := hadd
  have e3t : xTop S2 ≤ xTop S3 := d2.2.1
  have g1 : genAt S3 c (.inr (5, [.ref ls, .ref sb])) := by
    refine b1.fr (Z := fun z => z = c) (d2.fr (fun q hq => ?_)).g rfl
    subst hq
    exact ⟨by omega, fun z => (h8 _ z).2.2.1 rfl⟩
  have hY2 : ∀ q, Y2 q → B ≤ q ∧ q < xTop S2 ∧ q ≠ c ∧ ¬ Yl q ∧ ¬ Zf q ∧ ¬ (T ≤ q ∧ q < xTop S) := fun q hq => by
    rcases a4 q hq with z | z
    · obtain ⟨y1, y2, y3, y4⟩ := h9 q z
      exact ⟨y1, by omega, y3, fun y => (h8 q y).2.2.2.1 z, y4, by omega⟩
    · exact ⟨by omega, z.2, by omega, fun y => by have := (h8 q y).2.1; omega, fun y => by have := (h10 q y).2.1; omega, by omega⟩
  have hY3 : ∀ q, Y3 q → (Yl q ∧ q < T) ∨ (xTop S2 ≤ q ∧ q < xTop S3) := fun q hq => by
    rcases d4 q hq with z | z
    · exact Or.inl ⟨z, (h8 q z).2.1⟩
    · exact Or.inr z
  have g3 : SbC Y2 S3 sb (l.map (fun x => x.1) ++ [ch]) cb2 := a3.fr (d2.fr (fun q hq => ⟨(hY2 q hq).2.1, (hY2 q hq).2.2.2.1⟩)).g
  have fZ3 : yFg (fun q => Zf q ∨ (T ≤ q ∧ q < xTop S)) S2 S3 := (d2.fr (fun q hq => by
    rcases hq with z | z
    · exact ⟨by have := (h10 q z).2.1; omega, fun y => (h8 q y).2.2.2.2 z⟩
    · exact ⟨by omega, fun y => by have := (h8 q y).2.1; omega⟩)).g
  have k4 := FormAt.fr fZ3 _ _ _ (FormAt.mono (Y := fun q => Zf q ∨ (T ≤ q ∧ q < xTop S)) (fun q z => Or.inl z) _ _ _ b4)
  have k5 : ∀ x ∈ l, FormAt g (fun q => Zf q ∨ (T ≤ q ∧ q < xTop S)) D S3 x.2.1 x.2.2 := fun x hx => FormAt.fr fZ3 _ _ _ (FormAt.mono (fun q z => Or.inl z) _ _ _ (b5 x hx))
  have kf := FormAt.fr fZ3 _ _ _ (FormAt.mono (Y := fun q => Zf q ∨ (T ≤ q ∧ q < xTop S)) (fun q z => Or.inr z) _ _ _ bf)
  obtain ⟨Tl1, hTl⟩ : ∃ Tl1, Tl1 + xSl S2 = Tl + xSl S3 ∧ Tl1 ≤ 10 + 8 * (n + 1) ∧ Tl1 ≤ 4 * cl3 := by
    rcases d5 with ⟨z1, z2, z3, z4⟩ | ⟨z1, z2, z3, z4⟩
    · exact ⟨Tl, by omega, by omega, by omega⟩
    · rw [hlsl] at z1
      have hcu : cl < capUp cl ∧ capUp cl ≤ cl + cl / 2 + 1 ∧ 4 * cl ≤ 3 * capUp cl := by unfold capUp; split <;> omega
      have z4 : cl3 = capUp cl := z4.resolve_right (by omega)
      exact ⟨Tl + cl3, by omega, by omega, by omega⟩
  obtain ⟨Tb1, hTb⟩ : ∃ Tb1, Tb1 + xSl S = Tb + xSl S2 ∧ Tb1 ≤ 16 + 8 * (n + 1) ∧ Tb1 ≤ 2 * cb2 ∧ cb2 ≤ 16 + 2 * (n + 1) := by
    rcases a5 with ⟨z1, z2, z3, z4⟩ | ⟨z1, z2, z3, z4⟩
    · exact ⟨Tb, by omega, by omega, by omega, by omega⟩
    · rw [hlsb] at z1
      exact ⟨Tb + cb2, by omega, by omega, by omega, by omega⟩
  refine ⟨S3, Tl1, Tb1, ?_, (a2.mono (P1 := fun q => B ≤ q) (fun q _ z => (h9 q z).1)).trans d2 (fun q _ z => (h8 q z).1), ⟨f0, ψ0, l ++ [(ch, f, ψ)], ls, sb, Y3, Y2, fun q => Zf q ∨ (T ≤ q ∧ q < xTop S), cl3, cb2, g1, ?_, ?_, k4, fun x hx => ?_, ?_, by rw [List.length_append, h7]; rfl, fun q hq => ?_, fun q hq => ?_, fun q hq => ?_, ⟨h11.1, by omega⟩, by omega, by omega, by omega, by omega, by omega⟩, ?_, by omega⟩
  · unfold kX_X7_add
    exact ob1 (g_obj h1 rfl) (ob1 h3.cls (ob1 a1 (ob1 (g_obj b1 rfl) (ob1 b2.l.cls (ob1 d1 rfl)))))
  · rw [List.map_append]
    exact d3
  · rw [List.map_append]
    exact g3
  · rcases List.mem_append.mp hx with z | z
    · exact k5 x z
    · rw [List.mem_singleton.mp z]
      exact kf
  · funext w
    rw [List.map_append]
    refine ((yCh_snoc _ (ch, ψ) w (ψ0 w)).trans ?_).symm
    rw [h6]
  · rcases hY3 q hq with ⟨z, zT⟩ | z
    · obtain ⟨y1, y2, y3, y4, y5⟩ := h8 q z
      refine ⟨y1, by omega, y3, fun y => (hY2 q y).2.2.2.1 z, fun y => ?_⟩
      rcases y with y | y
      · exact y5 y
      · omega
    · refine ⟨by omega, z.2, by omega, fun y => by have := (hY2 q y).2.1; omega, fun y => ?_⟩
      rcases y with y | y
      · have := (h10 q y).2.1; omega
      · omega
  · obtain ⟨y1, y2, y3, y4, y5, y6⟩ := hY2 q hq
    refine ⟨y1, by omega, y3, fun y => ?_⟩
    rcases y with y | y
    · exact y5 y
    · exact y6 y
  · rcases hq with z | z
    · exact ⟨(h10 q z).1, by have := (h10 q z).2.1; omega, (h10 q z).2.2⟩
    · exact ⟨by omega, by omega, by omega⟩
  · rcases d5 with ⟨-, -, z, -⟩ | ⟨-, z, -⟩ <;> omega
/-- a chain begins -/
theorem ch_init {f : Nat} (hW : WFr S) (hc : genAt S c (.inr (5, [.null, .null]))) (hBc : B ≤ c) (hT : T ≤ xTop S) (hcT : c < T) (hsp : gSp g 0 < xTop S ∧ gSp g 1 < xTop S) (hf : FormAt g (fun q => T ≤ q ∧ q < xTop S) D S f φ) (r1 : xTop S + 4 ≤ xCc S) (r2 : xSl S + 33 ≤ xCs S) : ∃ S1 Tl Tb, kX_X7_init g N S c f = some S1 ∧ XE (fun q => q = c) S S1 ∧ ChI g B (xTop S1) c D S1 φ 0 Tl Tb ∧ xTop S1 = xTop S + 4 ∧ xSl S1 = xSl S + 7 + Tl + Tb := by
  obtain ⟨S2, a1, a2, a3, a4, a5⟩ := l_new (g := g) (N := N) hW hsp
  have c2 : xCc S2 = xCc S := a2.2.2.2.1
  have s2 : xCs S2 = xCs S := a2.2.2.2.2.1
  have b1 : genAt S2 c (.inr (5, [.null, .null])) := bt_gen (B := 0) (T := xTop S) a2 (Nat.le_refl _) (fun _ _ _ z => z) (Nat.zero_le _) (by omega) hc
  have x2 : XE (fun q => q = c) S S2 := a2.mono (fun _ _ z => absurd z (fun y => y))
  obtain ⟨S3, d1, d2, d3, d4, d5, d6⟩ := gp_R x2 b1 (Or.inl rfl) (i := 0) (by show 0 < 2; omega) (some (xTop S))
  have c3 : xCc S3 = xCc S := d2.2.2.2.1
  have s3 : xCs S3 = xCs S := d2.2.2.2.2.1
  have eL : ListC g (fun q => q = xTop S) S3 (xTop S) [] 0 := by
    obtain ⟨h0, mc, ba, h1, h2⟩ := a5
    refine ⟨h0, mc, ba, ⟨rfl, d6 _ _ (by omega) h1.2⟩, ?_⟩
    rcases h2 with h2 | ⟨h2, h3, h4, h5, h6⟩
    · exact Or.inl h2
    · have := h6.1
      exact absurd this h3
  obtain ⟨S4, S5, e1, e2, e3, e4, e5, e6, e7⟩ := sb_new (g := g) (N := N) d2.1 (by omega) (by omega)
  have x5 : XE (fun q => q = c) S S5 := d2.trans e3 (fun _ _ z => absurd z (fun y => y))
  have c5 : xCc S5 = xCc S := x5.2.2.2.1
  have s5 : xCs S5 = xCs S := x5.2.2.2.2.1
  obtain ⟨S6, f1, f2, f3, f4, f5, f6⟩ := gp_R x5 (e7 _ _ d5) (Or.inl rfl) (i := 1) (by show 1 < 2; omega) (some (xTop S3))
  have c6 : xCc S6 = xCc S := f2.2.2.2.1
  have s6 : xCs S6 = xCs S := f2.2.2.2.2.1
  have l6 : ListC g (fun q => q = xTop S) S6 (xTop S) [] 0 := by
    obtain ⟨h0, mc, ba, h1, h2⟩ := eL
    refine ⟨h0, mc, ba, ⟨rfl, f6 _ _ (by omega) (e7 _ _ h1.2)⟩, ?_⟩
    rcases h2 with h2 | ⟨h2, h3, h4, h5, h6⟩
    · exact Or.inl h2
    · exact absurd h6.1 h3
  have g6 : SbC (fun q => q = xTop S3 ∨ q = xTop S3 + 1) S6 (xTop S3) [] 16 := by
    obtain ⟨h0, h1, h2, q, x, ff, h3, h4, h5, h6, h7⟩ := e6
    refine ⟨h0, h1, h2, q, x, ff, ⟨h3.1, f6 _ _ (by omega) h3.2⟩, h4, ⟨h5.1, f6 _ _ ?_ h5.2⟩, h6, h7⟩
    rcases h5.1 with z | z <;> omega
  have fN : yFg (fun q => T ≤ q ∧ q < xTop S) S S6 := (f2.fr (fun q hq => ⟨hq.2, by omega⟩)).g
  have hf6 := FormAt.fr fN _ _ _ hf
  have hfin := (form_in hf6).1
  have hadd := l_add (N := N) (v := f) l6 f2.1 ⟨by omega, by omega⟩ (form_any hf6) (by omega) (fun r hr => by cases hr) (by decide) (by omega) (by show xSl S6 + 10 ≤ xCs S6; omega)
  obtain ⟨S7, Y7, cl, k1, k2, k3, k4, k5⟩ := hadd
  have t7 : xTop S7 = xTop S6 + 1 ∧ xSl S7 = xSl S6 + cl ∧ (cl = 1 ∨ cl = 10) := by
    rcases k5 with ⟨-, z, -⟩ | ⟨-, z1, z2, z3⟩
    · have z : 0 < 0 := z
      omega
    · refine ⟨z1, z2, ?_⟩
      rcases z3 with z3 | z3
      · exact Or.inl z3
      · exact Or.inr z3.2
  have hY7 : ∀ q, Y7 q → q = xTop S ∨ (xTop S6 ≤ q ∧ q < xTop S7) := fun q hq => k4 q hq
  have fS7 : ∀ q, q < xTop S6 → q ≠ xTop S → tSame S6 S7 q := fun q z1 z2 => k2.2.2.2.2.2 q z1 z2
  have m1 : genAt S7 c (.inr (5, [.ref (xTop S), .ref (xTop S3)])) := by
    have := fS7 c (by omega) (by omega)
    exact ⟨this.1.trans f5.1, this.2.2.2.2.2.trans f5.2⟩
  have m2 : SbC (fun q => q = xTop S3 ∨ q = xTop S3 + 1) S7 (xTop S3) [] 16 := g6.fr (fun q hq => by
    have := fS7 q (by rcases hq with z | z <;> omega) (by rcases hq with z | z <;> omega)
    exact ⟨this.1, this.2.2.2.2.2⟩)
  have m3 := FormAt.fr (S1 := S7) (fun q (hq : T ≤ q ∧ q < xTop S) => by
    have := fS7 q (by omega) (by omega)
    exact ⟨this.1, this.2.2.2.2.2⟩) _ _ _ hf6
  refine ⟨S7, cl, 16, ?_, f2.trans k2 (fun q hq z => by omega), ⟨f, φ, [], xTop S, xTop S3, Y7, _, _, cl, 16, m1, k3, m2, m3, fun x hx => (by cases hx), rfl, rfl, fun q hq => ?_, fun q hq => ?_, fun q hq => ?_, ⟨hBc, by omega⟩, by omega, by omega, by omega, by omega, by omega⟩, by omega, by omega⟩
  · unfold kX_X7_init
    refine ob1 (x_newS (S := S) (n := 3) (e := ELn) (by omega) (by omega)) (ob1 a1 (ob1 d1 (ob1 e1 (ob1 e2 (ob1 f1 (ob1 (g_obj f5 rfl) (ob1 l6.l.cls (ob1 k1 rfl))))))))
  · rcases hY7 q hq with z | z
    · exact ⟨by omega, by omega, by omega, by omega, by omega⟩
    · exact ⟨by omega, by omega, by omega, by omega, by omega⟩
  · have hq : q = xTop S3 ∨ q = xTop S3 + 1 := hq
    exact ⟨by omega, by omega, by omega, by omega⟩
  · have hq : T ≤ q ∧ q < xTop S := hq
    exact ⟨by omega, by omega, by omega⟩
end YC27
