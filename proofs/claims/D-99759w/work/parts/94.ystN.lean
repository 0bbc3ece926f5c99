/-! plain law: DripCups' constructor -/
def xbF (n : Nat) : List Value := [.ref (n + 1), .ref (n + 2), .ref (n + 4), .ref (n + 13), .ref (n + 22), .int 0, .int (-1), .ref (n + 23), .ref (n + 24), .ref (n + 25), .null, .null, .null, .int 0]
def xaI (k n : Nat) : GE := .inl (k, n, .inl (fun _ => 0))
theorem xb_fit {S : XS} {n : Nat} (h0 : genAt S (n + 1) (xaI 0 6)) (h4 : genAt S (n + 22) (xaI 1 700)) (h7 : genAt S (n + 23) (xaI 0 3)) : (List.range (x_N 1)).all (x_fit S 1 (xbF n)) = true := by
  rw [List.all_eq_true]
  intro k hk
  have hk : k < 14 := List.mem_range.mp hk
  have hd : ∀ r, (List.range (x_N 1)).all (fun j => decide (j = k ∨ ¬ x_isA 1 j = true ∨ x_rf (xbF n) j ≠ some r)) = true ↔ ∀ j, j < 14 → (j = k ∨ ¬ x_isA 1 j = true ∨ x_rf (xbF n) j ≠ some r) := fun r => by
    rw [List.all_eq_true]
    constructor
    · intro z j hj
      exact of_decide_eq_true (z j (List.mem_range.mpr hj))
    · intro z j hj
      exact decide_eq_true (z j (List.mem_range.mp hj))
  have ha : ∀ j, j < 14 → x_isA 1 j = true → j = 0 ∨ j = 4 ∨ j = 7 := by decide
  have e0 : x_rf (xbF n) 0 = some (n + 1) := rfl
  have e4 : x_rf (xbF n) 4 = some (n + 22) := rfl
  have e7 : x_rf (xbF n) 7 = some (n + 23) := rfl
  have hall : ∀ r, x_rf (xbF n) k = some r → x_isA 1 k = true → ∀ j, j < 14 → (j = k ∨ ¬ x_isA 1 j = true ∨ x_rf (xbF n) j ≠ some r) := fun r hr hk2 j hj => by
    by_cases q : x_isA 1 j = true
    · rcases ha j hj q with rfl | rfl | rfl <;> rcases ha k hk hk2 with rfl | rfl | rfl <;> first | exact Or.inl rfl | (refine Or.inr (Or.inr (fun z => ?_)); rw [z] at *; simp only [e0, e4, e7, Option.some.injEq] at *; omega) | (refine Or.inr (Or.inr ?_); simp only [e0, e4, e7, Option.some.injEq, ne_eq] at *; omega)
    · exact Or.inr (Or.inl q)
  have hcase : k = 0 ∨ k = 1 ∨ k = 2 ∨ k = 3 ∨ k = 4 ∨ k = 5 ∨ k = 6 ∨ k = 7 ∨ k = 8 ∨ k = 9 ∨ k = 10 ∨ k = 11 ∨ k = 12 ∨ k = 13 := by omega
  rcases hcase with rfl | rfl | rfl | rfl | rfl | rfl | rfl | rfl | rfl | rfl | rfl | rfl | rfl | rfl
  · show ((decide (xOwn S (n + 1) = (0, 0, 0)) && (match xG S (n + 1) with
      | some (.inl (t, n, .inl _)) => decide (t = x_ak 1 0 ∧ n = x_len 1 0)
      | _ => false)) && _) = true
    rw [h0.2, decide_eq_true h0.1]
    exact (hd _).mpr (hall _ rfl rfl)
  · rfl
  · rfl
  · rfl
  · show ((decide (xOwn S (n + 22) = (0, 0, 0)) && (match xG S (n + 22) with
      | some (.inl (t, n, .inl _)) => decide (t = x_ak 1 4 ∧ n = x_len 1 4)
      | _ => false)) && _) = true
    rw [h4.2, decide_eq_true h4.1]
    exact (hd _).mpr (hall _ rfl rfl)
  · rfl
  · rfl
  · show ((decide (xOwn S (n + 23) = (0, 0, 0)) && (match xG S (n + 23) with
      | some (.inl (t, n, .inl _)) => decide (t = x_ak 1 7 ∧ n = x_len 1 7)
      | _ => false)) && _) = true
    rw [h7.2, decide_eq_true h7.1]
    exact (hd _).mpr (hall _ rfl rfl)
  · rfl
  · rfl
  · rfl
  · rfl
  · rfl
  · rfl
/-- what the constructor has made -/
def X1S (g : XC) (n : Nat) (S1 : XS) : Prop := tyA S1 1 n ∧ CRefs S1 n (n + 4) (n + 13) (n + 2) (n + 24) (n + 25) ∧ (xR S1 n 10 = none ∧ xI S1 n 5 = 0 ∧ xI S1 n 6 = -1 ∧ ∀ i, xA S1 n 7 i = 0) ∧ NX S1 (n + 4) n ∧ NX S1 (n + 13) n ∧ genAt S1 (n + 2) (.inr (3, [.ref (n + 3), .null, .null])) ∧ ListAt g (fun q => q = n + 3) S1 (n + 3) [] ∧ ListAt g (fun q => q = n + 24) S1 (n + 24) [] ∧ ListAt g (fun q => q = n + 25) S1 (n + 25) []
theorem xb_adopt {g : XC} {S0 S : XS} {n : Nat} (hn : xTop S0 = n) (hE : XE (fun _ => False) S0 S) (ht : xTop S = n + 26) (hg : genAt S n (.inr (1, xbF n))) (h0 : genAt S (n + 1) (xaI 0 6)) (h4 : genAt S (n + 22) (xaI 1 700)) (h7 : genAt S (n + 23) (xaI 0 3)) (hn1 : NX S (n + 4) n) (hn2 : NX S (n + 13) n) (hcv : genAt S (n + 2) (.inr (3, [.ref (n + 3), .null, .null]))) (hl3 : ListAt g (fun q => q = n + 3) S (n + 3) []) (hl24 : ListAt g (fun q => q = n + 24) S (n + 24) []) (hl25 : ListAt g (fun q => q = n + 25) S (n + 25) []) : ∃ S1, x_adopt S 1 n = some S1 ∧ XE (fun _ => False) S0 S1 ∧ xTop S1 = xTop S ∧ xSl S1 = xSl S ∧ X1S g n S1 := by
  have hfit := xb_fit h0 h4 h7
  have h9 : (1 = 1 ∧ xOwn S n = (0, 0, 0) ∧ 0 < 1 ∧ 1 < 10 ∧ (xbF n).length = x_N 1 ∧ (List.range (x_N 1)).all (x_fit S 1 (xbF n)) = true) := ⟨rfl, hg.1, by decide, by decide, rfl, hfit⟩
  have hex : ∃ S1, x_adopt S 1 n = some S1 ∧ xOwn S1 n = (1, 0, 0) ∧ (∀ j, xR S1 n j = x_rf (xbF n) j) ∧ (xI S1 n 5 = 0 ∧ xI S1 n 6 = -1) ∧ (∀ i, xA S1 n 7 i = 0) ∧ ∀ q, q ≠ n → q ≠ n + 1 → q ≠ n + 22 → q ≠ n + 23 → tSame S S1 q := by
    unfold x_adopt
    rw [hg.2]
    dsimp only
    rw [if_pos h9]
    refine ⟨_, rfl, if_pos rfl, fun j => if_pos rfl, ⟨if_pos rfl, if_pos rfl⟩, fun i => ?_, fun q q1 q2 q3 q4 => ?_⟩
    · show (if n = n then x_arr S ((x_rf (xbF n) 7).getD 0) else _) i = 0
      rw [if_pos rfl]
      show x_arr S (n + 23) i = 0
      unfold x_arr
      rw [h7.2]
      rfl
    · have hw : x_who 1 (xbF n) q = none := by
        unfold x_who
        rw [List.find?_eq_none]
        intro k hk
        have hk : k < 14 := List.mem_range.mp hk
        have ha : ∀ j, j < 14 → x_isA 1 j = true → j = 0 ∨ j = 4 ∨ j = 7 := by decide
        simp only [Bool.and_eq_true, decide_eq_true_eq]
        rintro ⟨ha1, hr⟩
        rcases ha k hk ha1 with rfl | rfl | rfl
        · have : some (n + 1) = some q := hr
          exact q2 (Option.some.inj this).symm
        · have : some (n + 22) = some q := hr
          exact q3 (Option.some.inj this).symm
        · have : some (n + 23) = some q := hr
          exact q4 (Option.some.inj this).symm
      refine ⟨?_, funext fun j => if_neg q1, funext fun j => if_neg q1, funext fun j => if_neg q1, funext fun j => if_neg q1, rfl⟩
      show (if q = n then _ else match x_who 1 (xbF n) q with
          | some k => (1 + 10, n, k)
          | none => xOwn S q) = _
      rw [if_neg q1, hw]
  obtain ⟨S1, k1, k2, k3, k5, k6, k4⟩ := hex
  obtain ⟨a1, a2, a3⟩ := x_adopt_s hE.1.1 k1
  have ht1 : xTop S1 = xTop S := by unfold xTop; rw [a3]
  have hw1 : WFr S1 := ⟨a2, fun q e hq => by rw [ht1]; exact hE.1.2 q e (by rw [← a1]; exact hq)⟩
  have hE2 : XE (fun q => q = n ∨ q = n + 1 ∨ q = n + 22 ∨ q = n + 23) S S1 := ⟨hw1, by omega, by unfold xSl; rw [a3]; exact Nat.le_refl _, by unfold xCc; rw [a3], by unfold xCs; rw [a3], fun q hq z => k4 q (fun y => z (Or.inl y)) (fun y => z (Or.inr (Or.inl y))) (fun y => z (Or.inr (Or.inr (Or.inl y)))) (fun y => z (Or.inr (Or.inr (Or.inr y))))⟩
  refine ⟨S1, k1, hE.trans hE2 (fun q hq z => by omega), ht1, by unfold xSl; rw [a3], ⟨⟨k2, by decide, by decide⟩, ⟨k3 1, k3 2, k3 3, k3 8, k3 9⟩, ⟨k3 10, k5.1, k5.2, k6⟩, hn1.xe hE.1 hE2 (by omega), hn2.xe hE.1 hE2 (by omega), hcv.xe hE.1 hE2 (by omega), hl3.xe hE2 (fun q hq => ⟨by omega, by omega⟩), hl24.xe hE2 (fun q hq => ⟨by omega, by omega⟩), hl25.xe hE2 (fun q hq => ⟨by omega, by omega⟩)⟩⟩
theorem x1_start {g : XC} {N : Nat} {S0 : XS} (hN : 2 ^ 20 < N) (hW : WFr S0) (hsp : gSp g 0 < xTop S0 ∧ gSp g 1 < xTop S0) (r1 : xTop S0 + 26 ≤ xCc S0) (r2 : xSl S0 + 911 ≤ xCs S0) : ∃ S1, kX_X1_init g N (newS S0 14 (.inr (1, xbE))) (xTop S0) = some S1 ∧ XE (fun _ => False) S0 S1 ∧ xTop S1 = xTop S0 + 26 ∧ xSl S1 = xSl S0 + 911 ∧ X1S g (xTop S0) S1 := by
  have hE := newS_XE hW 14 (.inr (1, xbE)) (fun _ => False)
  have hg := newS_at S0 14 (.inr (1, xbE))
  have t0 : xTop (newS S0 14 (.inr (1, xbE))) = xTop S0 + 1 := rfl
  have s0 : xSl (newS S0 14 (.inr (1, xbE))) = xSl S0 + 14 := rfl
  have hex : ∃ n, n = xTop S0 := ⟨_, rfl⟩
  obtain ⟨n, hn⟩ := hex
  rw [← hn] at hg t0 hsp ⊢
  generalize newS S0 14 (.inr (1, xbE)) = A0 at *
  -- the numbers
  obtain ⟨A1, ⟨e1, g1⟩, t1, s1, f1, b1⟩ := xo_arr (k := 0) (t := 0) (n := 6) hE.1 hg (Nat.le_of_ble_eq_true rfl) (by decide) (by rw [hE.2.2.2.1]; omega) (by rw [hE.2.2.2.2.1]; omega)
  have E1 : XE (fun _ => False) S0 A1 := hE.trans e1 (fun q hq z => by omega)
  -- the cavern
  obtain ⟨A2, ⟨e2, g2⟩, t2, s2, f2, l2, b2⟩ := xo_cave (g := g) (N := N) (k := 1) E1.1 g1 (Nat.le_of_ble_eq_true rfl) (by omega) (by rw [E1.2.2.2.1]; omega) (by rw [E1.2.2.2.2.1]; omega)
  have E2 : XE (fun _ => False) S0 A2 := E1.trans e2 (fun q hq z => by omega)
  -- the nights
  obtain ⟨A3, ⟨e3, g3⟩, t3, s3, f3, b3⟩ := xo_night (g := g) (k := 2) hN E2.1 g2 (Nat.le_of_ble_eq_true rfl) (by rw [E2.2.2.2.1]; omega) (by rw [E2.2.2.2.2.1]; omega)
  have E3 : XE (fun _ => False) S0 A3 := E2.trans e3 (fun q hq z => by omega)
  obtain ⟨A4, ⟨e4, g4⟩, t4, s4, f4, b4⟩ := xo_night (g := g) (k := 3) hN E3.1 g3 (Nat.le_of_ble_eq_true rfl) (by rw [E3.2.2.2.1]; omega) (by rw [E3.2.2.2.2.1]; omega)
  have E4 : XE (fun _ => False) S0 A4 := E3.trans e4 (fun q hq z => by omega)
  -- the tape
  obtain ⟨A5, ⟨e5, g5⟩, t5, s5, f5, b5⟩ := xo_arr (k := 4) (t := 1) (n := 700) E4.1 g4 (Nat.le_of_ble_eq_true rfl) (by decide) (by rw [E4.2.2.2.1]; omega) (by rw [E4.2.2.2.2.1]; omega)
  have E5 : XE (fun _ => False) S0 A5 := E4.trans e5 (fun q hq z => by omega)
  obtain ⟨A6, b6, ⟨e6, g6⟩, t6, s6⟩ := xo_putI (k := 6) (v := -1) E5.1 g5 (Nat.le_of_ble_eq_true rfl)
  have E6 : XE (fun _ => False) S0 A6 := E5.trans e6 (fun q hq z => by omega)
  obtain ⟨A7, ⟨e7, g7⟩, t7, s7, f7, b7⟩ := xo_arr (k := 7) (t := 0) (n := 3) E6.1 g6 (Nat.le_of_ble_eq_true rfl) (by decide) (by rw [E6.2.2.2.1]; omega) (by rw [E6.2.2.2.2.1]; omega)
  have E7 : XE (fun _ => False) S0 A7 := E6.trans e7 (fun q hq z => by omega)
  obtain ⟨A8, ⟨e8, g8⟩, t8, s8, f8, b8⟩ := xo_list (g := g) (N := N) (k := 8) E7.1 g7 (Nat.le_of_ble_eq_true rfl) (by omega) (by rw [E7.2.2.2.1]; omega) (by rw [E7.2.2.2.2.1]; omega)
  have E8 : XE (fun _ => False) S0 A8 := E7.trans e8 (fun q hq z => by omega)
  obtain ⟨A9, ⟨e9, g9⟩, t9, s9, f9, b9⟩ := xo_list (g := g) (N := N) (k := 9) E8.1 g8 (Nat.le_of_ble_eq_true rfl) (by omega) (by rw [E8.2.2.2.1]; omega) (by rw [E8.2.2.2.2.1]; omega)
  have E9 : XE (fun _ => False) S0 A9 := E8.trans e9 (fun q hq z => by omega)
  have T1 : xTop A1 = n + 2 := by omega
  have T2 : xTop A2 = n + 4 := by omega
  have T3 : xTop A3 = n + 13 := by omega
  have T4 : xTop A4 = n + 22 := by omega
  have T6 : xTop A6 = n + 23 := by omega
  have T7 : xTop A7 = n + 24 := by omega
  have T8 : xTop A8 = n + 25 := by omega
  have T9 : xTop A9 = n + 26 := by omega
  have p58 : XE (fun q => q = n) A5 A6 := e6
  have hh : ∀ {U : XS}, XE (fun q => q = n) U A5 → XE (fun q => q = n) U A9 := fun h => (((h.trans e6 (fun _ _ z => z)).trans e7 (fun _ _ z => z)).trans e8 (fun _ _ z => z)).trans e9 (fun _ _ z => z)
  rw [t0] at f1 g9
  rw [T1] at f2 l2 g9
  rw [T2] at f3 g9
  rw [T3] at f4 g9
  rw [T4] at f5 g9
  rw [T6] at f7 g9
  rw [T7] at f8 g9
  rw [T8] at f9 g9
  have h15 := ((e2.trans e3 (fun _ _ z => z)).trans e4 (fun _ _ z => z)).trans e5 (fun _ _ z => z)
  have h25 := (e3.trans e4 (fun _ _ z => z)).trans e5 (fun _ _ z => z)
  have h35 := e4.trans e5 (fun _ _ z => z)
  obtain ⟨S1, k1, k2, k3, k4, k5⟩ := xb_adopt (g := g) (S0 := S0) (S := A9) (n := n) hn.symm E9 T9 g9 (f1.xe E1.1 (hh h15) (by omega)) (f5.xe E5.1 (hh (XE.refl E5.1)) (by omega)) (f7.xe E7.1 (e8.trans e9 (fun _ _ z => z)) (by omega)) (f3.xe E3.1 (hh h35) (by omega)) (f4.xe E4.1 (hh e5) (by omega)) (f2.xe E2.1 (hh h25) (by omega)) (l2.xe (hh h25) (fun q hq => ⟨by omega, by omega⟩)) (f8.xe e9 (fun q hq => ⟨by omega, by omega⟩)) f9
  refine ⟨S1, ?_, k2, by omega, by omega, k5⟩
  unfold kX_X1_init
  refine Eq.trans (b1 _) ?_
  refine Eq.trans (b2 _) ?_
  refine Eq.trans (b3 _) ?_
  refine Eq.trans (b4 _) ?_
  refine Eq.trans (b5 _) ?_
  refine ob1 b6 ?_
  refine Eq.trans (b7 _) ?_
  refine Eq.trans (b8 _) ?_
  refine Eq.trans (b9 _) ?_
  exact ob1 k1 rfl
