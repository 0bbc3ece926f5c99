/-! the cave: the reference's parser, where it stands -/
/-- all but the parser's fields is as it was -/
def RKx (σ σ1 : MS) : Prop := (∀ j, j ∉ [8, 9, 12, 13, 14, 15, 16, 17, 22, 23, 24] → σ1.1 j = σ.1 j) ∧ ∀ j, j ∉ [27, 28, 29] → σ1.2.2 j = σ.2.2 j
theorem RKx.refl (σ : MS) : RKx σ σ := ⟨fun _ _ => rfl, fun _ _ => rfl⟩
theorem RKx.trans {σ σ1 σ2 : MS} (h : RKx σ σ1) (h2 : RKx σ1 σ2) : RKx σ σ2 := ⟨fun j hj => (h2.1 j hj).trans (h.1 j hj), fun j hj => (h2.2 j hj).trans (h.2 j hj)⟩
theorem RKx.l {σ σ1 : MS} (h : RL σ σ1) : RKx σ σ1 := ⟨fun j hj => h.1 j (fun z => hj (by simp at z ⊢; omega)), fun j _ => by rw [h.2]⟩
theorem RKx.k {J K : List Nat} {σ σ1 : MS} (h : RK J K σ σ1) (hJ : ∀ j, j ∈ J → j ∈ [8, 9, 12, 13, 14, 15, 16, 17, 22, 23, 24]) (hK : ∀ j, j ∈ K → j ∈ [27, 28, 29]) : RKx σ σ1 := ⟨fun j hj => h.1 j (fun z => hj (hJ j z)), fun j hj => h.2 j (fun z => hj (hK j z))⟩
theorem RKx.put (σ : MS) (k : Nat) (v : Int32) (hk : k ∈ [8, 9, 12, 13, 14, 15, 16, 17, 22, 23, 24]) : RKx σ (m_put σ k v) := ⟨fun j hj => mp_n _ _ _ (fun z => hj (z ▸ hk)), fun _ _ => rfl⟩
theorem RKx.s (σ : MS) (k q : Nat) (v : Int32) (hk : k ∈ [27, 28, 29]) : RKx σ (rS σ k q v) := ⟨fun _ _ => rfl, fun j hj => rS_ne _ _ _ _ (fun z => hj (z ▸ hk))⟩
/-- it stands at t, W waits, co is the code, depth d, te: whether a test has been at this depth -/
def RY (sz : Nat) (b : Nat → Nat) (W : List Nat) (co : List Int32) (d : Nat) (te : Int32) (t : TK) (σ : MS) : Prop := σ.1 8 = 0 ∧ RTp sz b σ ∧ RT sz b t σ ∧ tkOk sz b t ∧ RCo co σ ∧ RWs W σ ∧ σ.1 24 = nI d ∧ d ≤ 6 ∧ σ.2.2 29 d = te ∧ ∀ a ∈ W, a < 32
/-- there is room -/
def RBr (W : List Nat) (co : List Int32) (t : TK) : Prop := W.length ≤ t.2.1 ∧ co.length + W.length + 4 ≤ 2 * t.2.1
section YC19
variable {N sz : Nat} {b : Nat → Nat} {W pend : List Nat} {co : List Int32} {d : Nat} {te : Int32} {t : TK} {σ : MS}
/-- its tables stay -/
theorem RCo.of {co : List Int32} {σ σ1 : MS} (h : RCo co σ) (h1 : σ1.1 22 = σ.1 22) (h2 : σ1.2.2 27 = σ.2.2 27) : RCo co σ1 := ⟨h1.trans h.1, fun i hi => by rw [h2]; exact h.2 i hi⟩
theorem RWs.of {W : List Nat} {σ σ1 : MS} (h : RWs W σ) (h1 : σ1.1 23 = σ.1 23) (h2 : σ1.2.2 28 = σ.2.2 28) : RWs W σ1 := ⟨h1.trans h.1, fun i hi => by rw [h2]; exact h.2 i hi⟩
theorem RT.of {σ σ1 : MS} (h : RT sz b t σ) (h1 : ∀ j, j ∈ [12, 13, 14, 15, 16, 17] → σ1.1 j = σ.1 j) (h2 : σ1.2.1 = σ.2.1) : RT sz b t σ1 := by
  unfold RT
  rw [h1 13 (by decide), h1 14 (by decide), h1 12 (by decide), h1 15 (by decide), h1 16 (by decide), h1 17 (by decide), h2]
  exact h
theorem RTp.of {σ σ1 : MS} (h : RTp sz b σ) (h1 : σ1.1 11 = σ.1 11) (h2 : σ1.2.2 6 = σ.2.2 6) (h3 : σ1.1 9 = σ.1 9) : RTp sz b σ1 := ⟨h1.trans h.1, h.2.1, (fun i hi => by rw [h2]; exact h.2.2.1 i hi), h3.trans h.2.2.2⟩
theorem wF_puts {v : Int32} {σ1 : MS} (h : kM_puts N σ v = some σ1) : σ1.2.1 = σ.2.1 := by
  unfold kM_puts at h
  unfold m_st at h
  split at h
  · cases h
  · cases h
    rfl
theorem wF_waits {v : Int32} {σ1 : MS} (h : kM_waitsFor N σ v = some σ1) : σ1.2.1 = σ.2.1 := by
  unfold kM_waitsFor at h
  unfold m_st at h
  split at h
  · cases h
  · cases h
    rfl
theorem RY.goes (hN : 2 ^ 20 < N) (h : RY sz b W co d te t σ) : ∃ σ1, kM_goes N σ = some σ1 ∧ RY sz b W co d te (nxT sz b t) σ1 ∧ RKx σ σ1 ∧ σ1.2.2 = σ.2.2 := by
  obtain ⟨a1, a2, a3, a4, a5, a6, a7, a8, a9, a10⟩ := h
  obtain ⟨σ1, k1, k2, k3⟩ := r_next hN a2 a4.2.1 a3.2.2.1
  exact ⟨σ1, k1, ⟨(k2.1 8 (by decide)).trans a1, a2.l k2, k3, (nxT_ok a4).1, a5.of (k2.1 22 (by decide)) (by rw [k2.2]), a6.of (k2.1 23 (by decide)) (by rw [k2.2]), (k2.1 24 (by decide)).trans a7, a8, by rw [k2.2]; exact a9, a10⟩, RKx.l k2, k2.2⟩
theorem RY.puts (h : RY sz b W co d te t σ) (hl : co.length < 1400) (v : Int32) : ∃ σ1, kM_puts N σ v = some σ1 ∧ RY sz b W (co ++ [v]) d te t σ1 ∧ RKx σ σ1 ∧ σ1.2.2 29 = σ.2.2 29 := by
  obtain ⟨a1, a2, a3, a4, a5, a6, a7, a8, a9, a10⟩ := h
  obtain ⟨σ1, k1, k2, k3⟩ := r_puts (N := N) a5 hl v
  exact ⟨σ1, k1, ⟨(k3.1 8 (by decide)).trans a1, a2.of (k3.1 11 (by decide)) (k3.2 6 (by decide)) (k3.1 9 (by decide)), a3.of (fun j hj => k3.1 j (fun z => by simp at z hj; omega)) (wF_puts k1), a4, k2, a6.of (k3.1 23 (by decide)) (k3.2 28 (by decide)), (k3.1 24 (by decide)).trans a7, a8, by rw [k3.2 29 (by decide)]; exact a9, a10⟩, RKx.k k3 (by decide) (by decide), k3.2 29 (by decide)⟩
theorem RY.waits (h : RY sz b W co d te t σ) (hl : W.length < 950) {a : Nat} (ha : a < 32) : ∃ σ1, kM_waitsFor N σ (nI a) = some σ1 ∧ RY sz b (W ++ [a]) co d te t σ1 ∧ RKx σ σ1 ∧ σ1.2.2 29 = σ.2.2 29 := by
  obtain ⟨a1, a2, a3, a4, a5, a6, a7, a8, a9, a10⟩ := h
  obtain ⟨σ1, k1, k2, k3⟩ := r_waits (N := N) a6 hl a
  exact ⟨σ1, k1, ⟨(k3.1 8 (by decide)).trans a1, a2.of (k3.1 11 (by decide)) (k3.2 6 (by decide)) (k3.1 9 (by decide)), a3.of (fun j hj => k3.1 j (fun z => by simp at z hj; omega)) (wF_waits k1), a4, a5.of (k3.1 22 (by decide)) (k3.2 27 (by decide)), k2, (k3.1 24 (by decide)).trans a7, a8, by rw [k3.2 29 (by decide)]; exact a9, fun x hx => by
    rcases List.mem_append.mp hx with z | z
    · exact a10 x z
    · rw [List.mem_singleton.mp z]; exact ha⟩, RKx.k k3 (by decide) (by decide), k3.2 29 (by decide)⟩
theorem wF_drops {l : Int32} : ∀ (f : Nat) (σ σ1 : MS), kM_drops_0 N f σ l = some σ1 → σ1.2.1 = σ.2.1 := by
  intro f
  induction f with
  | zero => intro σ σ1 h; cases h
  | succ f ih =>
    intro σ σ1 h
    rw [kM_drops_0] at h
    by_cases h0 : σ.1 23 ≤ 0
    · rw [if_pos h0] at h
      cases h
      rfl
    · rw [if_neg h0] at h
      cases e1 : m_ld σ 28 (σ.1 23 - 1) with
      | none => rw [e1] at h; cases h
      | some v =>
        rw [e1] at h
        have h : ((kM_isOpen N v).bind fun w3 => if w3 = 0 then (kM_strength N v).bind fun w6 => if w6 < l then some σ else bnd (m_put σ 23 (σ.1 23 - 1)) fun σ8 => (m_ld σ8 28 (σ8.1 23)).bind fun v9 => (kM_puts N σ8 v9).bind fun w10 => kM_drops_0 N f w10 l else some σ) = some σ1 := h
        cases e2 : kM_isOpen N v with
        | none => rw [e2] at h; cases h
        | some w =>
          rw [e2] at h
          have h : (if w = 0 then (kM_strength N v).bind fun w6 => if w6 < l then some σ else bnd (m_put σ 23 (σ.1 23 - 1)) fun σ8 => (m_ld σ8 28 (σ8.1 23)).bind fun v9 => (kM_puts N σ8 v9).bind fun w10 => kM_drops_0 N f w10 l else some σ) = some σ1 := h
          by_cases hw : w = 0
          · rw [if_pos hw] at h
            cases e3 : kM_strength N v with
            | none => rw [e3] at h; cases h
            | some w6 =>
              rw [e3] at h
              have h : (if w6 < l then some σ else (m_ld (m_put σ 23 (σ.1 23 - 1)) 28 ((m_put σ 23 (σ.1 23 - 1)).1 23)).bind fun v9 => (kM_puts N (m_put σ 23 (σ.1 23 - 1)) v9).bind fun w10 => kM_drops_0 N f w10 l) = some σ1 := h
              by_cases h6 : w6 < l
              · rw [if_pos h6] at h
                cases h
                rfl
              · rw [if_neg h6] at h
                cases e4 : m_ld (m_put σ 23 (σ.1 23 - 1)) 28 ((m_put σ 23 (σ.1 23 - 1)).1 23) with
                | none => rw [e4] at h; cases h
                | some v9 =>
                  rw [e4] at h
                  have h : ((kM_puts N (m_put σ 23 (σ.1 23 - 1)) v9).bind fun w10 => kM_drops_0 N f w10 l) = some σ1 := h
                  cases e5 : kM_puts N (m_put σ 23 (σ.1 23 - 1)) v9 with
                  | none => rw [e5] at h; cases h
                  | some w10 =>
                    rw [e5] at h
                    have h5 := wF_puts e5
                    exact (ih _ _ h).trans h5
          · rw [if_neg hw] at h
            cases h
            rfl
theorem RY.drops (hN : 2 ^ 20 < N) {l : Nat} (h : RY sz b (W ++ pend) co d te t σ) (hl : l ≤ 6) (hW : stopW l W) (hp : ∀ a ∈ pend, a < 14 ∧ l ≤ strW a) (h1 : co.length + pend.length ≤ 1400) (h2 : (W ++ pend).length ≤ 950) : ∃ σ1, kM_drops N σ (nI l) = some σ1 ∧ RY sz b W (co ++ pend.reverse.map nI) d te t σ1 ∧ RKx σ σ1 ∧ σ1.2.2 29 = σ.2.2 29 := by
  obtain ⟨a1, a2, a3, a4, a5, a6, a7, a8, a9, a10⟩ := h
  have hlen : pend.length ≤ 950 := by rw [List.length_append] at h2; omega
  obtain ⟨σ1, k1, k2, k3, k4⟩ := r_drops (N := N) hl hW pend.length pend co σ N rfl (by omega) hp a5 a6 h1 h2
  exact ⟨σ1, k1, ⟨(k4.1 8 (by decide)).trans a1, a2.of (k4.1 11 (by decide)) (k4.2 6 (by decide)) (k4.1 9 (by decide)), a3.of (fun j hj => k4.1 j (fun z => by simp at z hj; omega)) (wF_drops N σ σ1 k1), a4, k2, k3, (k4.1 24 (by decide)).trans a7, a8, by rw [k4.2 29 (by decide)]; exact a9, fun x hx => a10 x (List.mem_append_left _ hx)⟩, RKx.k k4 (by decide) (by decide), k4.2 29 (by decide)⟩
theorem RY.test (h : RY sz b W co d te t σ) {v : Int32} (hv : v = 0 ∨ v = 1) : ∃ σ1, m_stZ σ 29 (σ.1 24) v = some σ1 ∧ RY sz b W co d v t σ1 ∧ RKx σ σ1 ∧ ∀ i, i ≠ d → σ1.2.2 29 i = σ.2.2 29 i := by
  obtain ⟨a1, a2, a3, a4, a5, a6, a7, a8, a9, a10⟩ := h
  have hz : vp_nar .boolean v = v := by rcases hv with rfl | rfl <;> decide
  refine ⟨rS σ 29 d v, ?_, ⟨a1, a2.of rfl (rS_ne _ _ _ _ (by decide)) rfl, a3.of (fun _ _ => rfl) rfl, a4, a5.of rfl (rS_ne _ _ _ _ (by decide)), a6.of rfl (rS_ne _ _ _ _ (by decide)), a7, a8, ?_, a10⟩, RKx.s _ _ _ _ (by decide), fun i hi => ?_⟩
  · have := r_st (σ := σ) (k := 29) (q := d) (i := σ.1 24) (v := vp_nar .boolean v) a7 (by show d < 9; omega)
    rw [hz] at this
    rw [← this]
    unfold m_stZ m_st
    rw [hz]
  · rw [rS_get, if_pos ⟨rfl, rfl⟩]
  · rw [rS_get, if_neg (fun z => hi z.2)]
theorem RY.known (hN : 2 ^ 20 < N) (h : RY sz b W co d te t σ) : kM_knownWord N σ = some (σ, knI b t) := r_known hN h.2.1 h.2.2.1 h.2.2.2.1.1 h.2.2.2.1.2.1 h.2.2.2.1.2.2.1 h.2.2.2.1.2.2.2.2.1
theorem RY.sign (h : RY sz b W co d te t σ) {c : Nat} (hc : c < 256) : kM_isSign N σ (nI c) = some (σ, if sgT b t c = true then 1 else 0) := r_isSign h.2.1 h.2.2.1 h.2.2.2.1 hc
theorem RY.good (h : RY sz b W co d te t σ) : kM_isGood N σ = some (σ, 1) := r_good h.1
/-- an error stands -/
def RBd (e : Nat × TK) (σ : MS) : Prop := σ.1 8 = nI e.1 ∧ 1 ≤ e.1 ∧ e.1 ≤ 5 ∧ σ.1 9 = nI e.2.2.1 ∧ ∃ (co : List Int32) (ws : List Nat), RCo co σ ∧ RWs ws σ ∧ co.length + ws.length ≤ 1399 ∧ ws.length ≤ 950 ∧ ∀ a ∈ ws, a < 32
theorem RBd.ne {e : Nat × TK} (h : RBd e σ) : ¬ σ.1 8 = 0 := by
  obtain ⟨h1, h2, h3, -⟩ := h
  rw [h1]
  exact nI_ne0 h2 (by omega)
theorem RBd.bad {e : Nat × TK} (h : RBd e σ) : kM_isGood N σ = some (σ, 0) := r_bad h.ne
theorem RY.wrong (h : RY sz b W co d te t σ) (h1 : co.length + W.length ≤ 1399) (h2 : W.length ≤ 950) {k : Nat} (hk : 1 ≤ k ∧ k ≤ 5) : ∃ σ1, kM_wrong N σ (nI k) = some σ1 ∧ RBd (k, t) σ1 ∧ RKx σ σ1 ∧ σ1.2.2 = σ.2.2 ∧ RCo co σ1 ∧ RWs W σ1 := by
  obtain ⟨a1, a2, a3, a4, a5, a6, a7, a8, a9, a10⟩ := h
  have hC : RCo co (m_put (m_put σ 8 (nI k)) 9 (σ.1 14)) := a5.of ((mp_n _ _ _ (by decide)).trans (mp_n _ _ _ (by decide))) rfl
  have hW : RWs W (m_put (m_put σ 8 (nI k)) 9 (σ.1 14)) := a6.of ((mp_n _ _ _ (by decide)).trans (mp_n _ _ _ (by decide))) rfl
  exact ⟨_, r_wrong a1 (nI k), ⟨(mp_n _ _ _ (by decide)).trans (mp_s _ _ _), hk.1, hk.2, (mp_s _ _ _).trans a3.2.1, co, W, hC, hW, h1, h2, a10⟩, (RKx.put _ _ _ (by decide)).trans (RKx.put _ _ _ (by decide)), rfl, hC, hW⟩
theorem RBd.puts {e : Nat × TK} (h : RBd e σ) {co : List Int32} {ws : List Nat} (hC : RCo co σ) (hW : RWs ws σ) (h1 : co.length + 1 + ws.length ≤ 1399) (h2 : ws.length ≤ 950) (h3 : ∀ a ∈ ws, a < 32) (v : Int32) : ∃ σ1, kM_puts N σ v = some σ1 ∧ RBd e σ1 ∧ RKx σ σ1 ∧ RCo (co ++ [v]) σ1 ∧ RWs ws σ1 := by
  obtain ⟨a1, a2, a3, a4, -⟩ := h
  obtain ⟨σ1, k1, k2, k3⟩ := r_puts (N := N) hC (by omega) v
  have hW1 : RWs ws σ1 := hW.of (k3.1 23 (by decide)) (k3.2 28 (by decide))
  exact ⟨σ1, k1, ⟨(k3.1 8 (by decide)).trans a1, a2, a3, (k3.1 9 (by decide)).trans a4, co ++ [v], ws, k2, hW1, by rw [List.length_append]; exact h1, h2, h3⟩, RKx.k k3 (by decide) (by decide), k2, hW1⟩
/-- what is open stops dropping -/
theorem split_ws : ∀ (n : Nat) (ws : List Nat), ws.length = n → (∀ a ∈ ws, a < 32) → ∃ W pend, ws = W ++ pend ∧ stopW 0 W ∧ ∀ a ∈ pend, a < 14 ∧ 0 ≤ strW a := by
  intro n
  induction n with
  | zero =>
    intro ws h _
    have e0 : ws = [] := List.eq_nil_of_length_eq_zero h
    subst e0
    exact ⟨[], [], rfl, Or.inl rfl, fun a ha => by cases ha⟩
  | succ n ih =>
    intro ws h h32
    rcases List.eq_nil_or_concat ws with e | ⟨p, a, e⟩
    · rw [e] at h
      cases h
    · have e : ws = p ++ [a] := by rw [e, List.concat_eq_append]
      subst e
      have hpl : p.length = n := by
        have : (p ++ [a]).length = p.length + 1 := by rw [List.length_append]; rfl
        omega
      have ha := h32 a (List.mem_append_right _ (List.mem_singleton.mpr rfl))
      by_cases h14 : 14 ≤ a
      · exact ⟨p ++ [a], [], by rw [List.append_nil], Or.inr ⟨p, a, rfl, ha, Or.inl h14⟩, fun x hx => by cases hx⟩
      · obtain ⟨W, pd, e1, e2, e3⟩ := ih p hpl (fun x hx => h32 x (List.mem_append_left _ hx))
        subst e1
        refine ⟨W, pd ++ [a], by rw [List.append_assoc], e2, fun x hx => ?_⟩
        rcases List.mem_append.mp hx with z | z
        · exact e3 x z
        · rw [List.mem_singleton.mp z]
          exact ⟨by omega, Nat.zero_le _⟩
/-- the end, with an error -/
theorem RBd.end345 (hN : 2 ^ 20 < N) {e : Nat × TK} (h : RBd e σ) : ∃ σ1, kM_expression_345 N σ = some σ1 ∧ RKx σ σ1 ∧ σ1.1 8 = nI e.1 ∧ σ1.1 9 = nI e.2.2.1 := by
  obtain ⟨a1, a2, a3, a4, co, ws, a5, a6, a7, a8, a9⟩ := h
  obtain ⟨W, pd, rfl, e2, e3⟩ := split_ws ws.length ws rfl a9
  rw [List.length_append] at a7 a8
  obtain ⟨σ1, k1, k2, k3, k4⟩ := r_drops (N := N) (l := 0) (by omega) e2 pd.length pd co σ N rfl (by omega) e3 a5 a6 (by omega) (by rw [List.length_append]; omega)
  obtain ⟨σ2, u1, u2, u3⟩ := r_puts (N := N) k2 (by rw [List.length_append, List.length_map, List.length_reverse]; omega) 0
  refine ⟨σ2, ?_, (RKx.k k4 (by decide) (by decide)).trans (RKx.k u3 (by decide) (by decide)), ((u3.1 8 (by decide)).trans (k4.1 8 (by decide))).trans a1, ((u3.1 9 (by decide)).trans (k4.1 9 (by decide))).trans a4⟩
  unfold kM_expression_345 kM_drops
  exact ob1 k1 (ob1 u1 rfl)
end YC19
