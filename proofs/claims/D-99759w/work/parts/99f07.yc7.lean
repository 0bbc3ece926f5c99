/-! the cave: words -/
section YC7
variable {g : XC} {N sz r xa : Nat} {b : Nat → Nat} {S : XS} {v : Nat → Int32} {t : TK} {σ : MS}
/-- the token is the k-th String -/
def wd (b : Nat → Nat) (t : TK) (k : Nat) : Bool := decide (t.1 = 1 ∧ t.2.2 - t.2.1 = x_slen.getD k 0) && (List.range (x_slen.getD k 0)).all (fun j => decide (nI (b (t.2.1 + j)) = (x_sbyt.getD k []).getD j 0))
theorem wd_t {k : Nat} : wd b t k = true ↔ (t.1 = 1 ∧ t.2.2 - t.2.1 = x_slen.getD k 0) ∧ ∀ j, j < x_slen.getD k 0 → nI (b (t.2.1 + j)) = (x_sbyt.getD k []).getD j 0 := by
  unfold wd
  rw [Bool.and_eq_true, decide_eq_true_iff, List.all_eq_true]
  constructor
  · rintro ⟨h1, h2⟩
    exact ⟨h1, fun j hj => of_decide_eq_true (h2 j (List.mem_range.mpr hj))⟩
  · rintro ⟨h1, h2⟩
    exact ⟨h1, fun j hj => decide_eq_true (h2 j (List.mem_range.mp hj))⟩
theorem k_ch : ∀ k, k < 13 → ∀ j, j < x_slen.getD k 0 → ((((x_sbyt.getD k []).getD j 0 &&& 255) : Int32).toUInt32 % 65536).toInt32 = (x_sbyt.getD k []).getD j 0 ∧ narrow .char (.int ((x_sbyt.getD k []).getD j 0)) = .int ((x_sbyt.getD k []).getD j 0) := by decide +kernel
theorem k_l9 : ∀ k, k < 13 → x_slen.getD k 0 ≤ 9 := by decide
theorem gs_charAt (hG : GS g) {k j : Nat} (hk : k < 13) (hj : j < x_slen.getD k 0) (S : XS) : kX_J8_charAt g N S (gSk g k) (nI j) = some (S, (x_sbyt.getD k []).getD j 0) := by
  have h1 := (hG k hk).1
  have h31 := kn_sl k hk
  obtain ⟨c1, c2⟩ := k_ch k hk j hj
  unfold kX_J8_charAt
  refine ob1 h1 (ob1 (gs_latin hG hk S) (oif n10 (ob1 h1 (ob1 (v := (S, (x_sbyt.getD k []).getD j 0)) ?_ ?_))))
  · unfold kX_J9_charAt
    have hci : kX_J8_checkIndex g N S (nI j) (nI (x_slen.getD k 0)) = some S := by
      unfold kX_J8_checkIndex kX_J11_checkIndex
      exact ob1 (oif (nI_pos (by omega)) (oit (nI_lt hj h31) rfl)) rfl
    refine ob1 (gs_blen hG hk S) (ob1 hci (ob1 (gs_byte hG hk hj S) ?_))
    rw [c1]
    unfold nchk
    rw [if_pos c2]
  · unfold nchk
    show (if narrow .char (.int ((x_sbyt.getD k []).getD j 0)) = .int ((x_sbyt.getD k []).getD j 0) then _ else _) = _
    rw [if_pos c2]
theorem x_is (hN : 2 ^ 20 < N) (hG : GS g) (h : XRd S r xa sz b) (hv : XT5 b t v) (ht : t.2.1 ≤ t.2.2) (hz : t.2.2 ≤ sz) (h4 : t.1 ≤ 4) {k : Nat} (hk : k < 13) : kX_X5_is g N (rdS S r v) r (gSk g k) = some (rdS S r v, if wd b t k = true then 1 else 0) := by
  have h1 := (hG k hk).1
  have h31 := kn_sl k hk
  have h700 := h.2.2.2.2.1
  have h9 : x_slen.getD k 0 ≤ 9 := k_l9 k hk
  obtain ⟨v5, v6, v7, v8, -⟩ := hv
  unfold kX_X5_is
  refine ob1 (rd_int h (by decide) rfl) ?_
  rw [v6]
  by_cases e1 : t.1 = 1
  · refine oit ((nI_eq (b := 1) (by omega) (by omega)).mpr e1) (ob1 h1 (ob1 (gs_len hG hk _) (ob1 (rd_int h (by decide) rfl) (ob1 (rd_int h (by decide) rfl) ?_))))
    rw [v8, v7, sub_nI ht]
    by_cases e2 : x_slen.getD k 0 = t.2.2 - t.2.1
    · refine oit (congrArg nI e2) ?_
      refine y_loop (fun f (S1 : XS) j => kX_X5_is_28 g N f S1 r (gSk g k) (nI j)) (x_slen.getD k 0) (fun S1 j => S1 = rdS S r v ∧ ∀ i, i < j → nI (b (t.2.1 + i)) = (x_sbyt.getD k []).getD i 0) (fun z => z = some (rdS S r v, if wd b t k = true then 1 else 0)) ?_ ?_ (x_slen.getD k 0) N (rdS S r v) 0 (by omega) (by omega) ⟨rfl, fun i hi => by omega⟩
      · rintro f S1 j hj ⟨rfl, p2⟩
        have htp : a_int (rdS S r v) 1 (xRa S xa 4) (v 7 + nI j) = some (xA S xa 4 (t.2.1 + j)) := by
          rw [v7, nI_add]
          exact rd_tape h (by omega)
        have hb := (h.2.2.2.2.2 (t.2.1 + j) (by omega)).1
        have hhd : ∀ {R : Option (XS × Int32)}, ((if (x_sbyt.getD k []).getD j 0 = nI (b (t.2.1 + j)) then kX_X5_is_28 g N f (rdS S r v) r (gSk g k) (nI j + 1) else some (rdS S r v, 0)) = R) → kX_X5_is_28 g N (f + 1) (rdS S r v) r (gSk g k) (nI j) = R := fun hR => by
          rw [kX_X5_is_28]
          refine ob1 h1 (ob1 (gs_len hG hk _) (oif (nI_ge hj h31) (ob1 h1 (ob1 (gs_charAt hG hk hj _) (ob1 (rd_out h) (ob1 (rd_arr h) (ob1 (rd_int h (by decide) rfl) (ob1 htp ?_))))))))
          rw [hb]
          exact hR
        by_cases e : (x_sbyt.getD k []).getD j 0 = nI (b (t.2.1 + j))
        · right
          refine ⟨rdS S r v, hhd (oit e ?_), rfl, fun i hi => ?_⟩
          · rw [nI_1]
          · by_cases ee : i = j
            · rw [ee]; exact e.symm
            · exact p2 i (by omega)
        · left
          refine hhd (oif e ?_)
          rw [if_neg (fun z => e ((wd_t.mp z).2 j hj).symm)]
      · rintro f S1 ⟨rfl, p2⟩
        show kX_X5_is_28 g N (f + 1) (rdS S r v) r (gSk g k) (nI (x_slen.getD k 0)) = _
        rw [if_pos (wd_t.mpr ⟨⟨e1, e2.symm⟩, p2⟩), kX_X5_is_28]
        exact ob1 h1 (ob1 (gs_len hG hk _) (oit (nI_le (Nat.le_refl _) h31) rfl))
    · rw [if_neg (fun z => e2 (wd_t.mp z).1.2.symm)]
      exact oif (fun z => e2 ((nI_eq h31 (by omega)).mp z)) rfl
  · rw [if_neg (fun z => e1 (wd_t.mp z).1.1)]
    exact oif (fun z => e1 ((nI_eq (b := 1) (by omega) (by omega)).mp z)) rfl
/-! the reference -/
def wMap : List Nat := [2, 3, 4, 5, 7, 6, 12, 0, 1, 10, 11, 9]
def hsC (i : Nat) : Nat := lxH (fun j => ((x_sbyt.getD i []).getD j 0).toNatClampNeg) 0 (x_slen.getD i 0)
theorem k_let : ∀ k, k < 12 → kM_letters 0 (nI k) = some (iJ (hsC (wMap.getD k 0) : Int)) := by decide +kernel
theorem k_letN (N : Nat) (x : Int32) : kM_letters N x = kM_letters 0 x := rfl
theorem k_wch : ∀ k, k < 12 → (wMap.getD k 0 < 13 ∧ x_slen.getD (wMap.getD k 0) 0 ≤ 6) ∧ ∀ j, j < x_slen.getD (wMap.getD k 0) 0 → 97 ≤ ((x_sbyt.getD (wMap.getD k 0) []).getD j 0).toNatClampNeg ∧ ((x_sbyt.getD (wMap.getD k 0) []).getD j 0).toNatClampNeg ≤ 122 ∧ nI ((x_sbyt.getD (wMap.getD k 0) []).getD j 0).toNatClampNeg = (x_sbyt.getD (wMap.getD k 0) []).getD j 0 := by decide +kernel
/-- the known word's number -/
def knW (b : Nat → Nat) (t : TK) : Option Nat := (List.range 12).find? (fun k => wd b t (wMap.getD k 0))
def knI (b : Nat → Nat) (t : TK) : Int32 := match knW b t with
  | some k => nI k
  | none => -1
theorem hs_wd (hb : ∀ i, i < sz → b i < 256) (ht : t.2.1 ≤ t.2.2) (hz : t.2.2 ≤ sz) (h1 : t.1 = 1) (hL : ∀ i, t.2.1 ≤ i → i < t.2.2 → cL (b i) = true) {k : Nat} (hk : k < 12) : hsC (wMap.getD k 0) = lxH b t.2.1 (t.2.2 - t.2.1) ↔ wd b t (wMap.getD k 0) = true := by
  obtain ⟨⟨c1, c2⟩, c3⟩ := k_wch k hk
  have hl1 : ∀ i, i < x_slen.getD (wMap.getD k 0) 0 → 97 ≤ (fun j => ((x_sbyt.getD (wMap.getD k 0) []).getD j 0).toNatClampNeg) (0 + i) ∧ (fun j => ((x_sbyt.getD (wMap.getD k 0) []).getD j 0).toNatClampNeg) (0 + i) ≤ 122 := fun i hi => by
    rw [Nat.zero_add]
    exact ⟨(c3 i hi).1, (c3 i hi).2.1⟩
  have hl2 : ∀ i, i < t.2.2 - t.2.1 → 97 ≤ b (t.2.1 + i) ∧ b (t.2.1 + i) ≤ 122 := fun i hi => cL_t.mp (hL _ (by omega) (by omega))
  constructor
  · intro e
    obtain ⟨d1, d2⟩ := lxH_inj hl1 hl2 e
    refine wd_t.mpr ⟨⟨h1, d1.symm⟩, fun j hj => ?_⟩
    have := d2 j hj
    rw [Nat.zero_add] at this
    rw [← this]
    exact (c3 j hj).2.2
  · intro e
    obtain ⟨⟨-, e2⟩, e3⟩ := wd_t.mp e
    have key : ∀ n, n ≤ x_slen.getD (wMap.getD k 0) 0 → lxH (fun j => ((x_sbyt.getD (wMap.getD k 0) []).getD j 0).toNatClampNeg) 0 n = lxH b t.2.1 n := by
      intro n
      induction n with
      | zero => intro _; rfl
      | succ n ih =>
        intro hn
        have e4 := e3 n (by omega)
        have e5 := hl2 n (by omega)
        show lxH _ 0 n * 32 + (((x_sbyt.getD (wMap.getD k 0) []).getD (0 + n) 0).toNatClampNeg - 96) = lxH b t.2.1 n * 32 + (b (t.2.1 + n) - 96)
        rw [ih (by omega), Nat.zero_add, ← e4, nI_clamp (by omega)]
    unfold hsC
    rw [key _ (Nat.le_refl _), e2]
theorem r_known (hN : 2 ^ 20 < N) (hT : RTp sz b σ) (hR : RT sz b t σ) (ht : t.2.1 ≤ t.2.2) (hz : t.2.2 ≤ sz) (h4 : t.1 ≤ 4) (hL : t.1 = 1 → ∀ i, t.2.1 ≤ i → i < t.2.2 → cL (b i) = true) : kM_knownWord N σ = some (σ, knI b t) := by
  obtain ⟨r13, r14, r12, r15, -, rw1, -⟩ := hR
  have h700 := hT.2.1
  have none0 : (∀ k, k < 12 → wd b t (wMap.getD k 0) = false) → knI b t = -1 := fun hn => by
    unfold knI knW
    have : (List.range 12).find? (fun k => wd b t (wMap.getD k 0)) = none := by
      rw [List.find?_eq_none]
      intro k hk
      rw [hn k (List.mem_range.mp hk)]
      decide
    rw [this]
  unfold kM_knownWord
  rw [r13, r15]
  by_cases e1 : t.1 = 1
  · refine oit ((nI_eq (b := 1) (by omega) (by omega)).mpr e1) ?_
    by_cases e6 : t.2.2 - t.2.1 ≤ 6
    · refine oit (nI_le (b := 6) e6 (by omega)) ?_
      have hw := rw1 e1
      rw [show min (t.2.2 - t.2.1) 6 = t.2.2 - t.2.1 by omega] at hw
      have hH : lxH b t.2.1 (t.2.2 - t.2.1) < 2 ^ 30 := by
        have h1 := lxH_lt (b := b) (p := t.2.1) (k := t.2.2 - t.2.1) (fun i hi => cL_t.mp (hL e1 _ (by omega) (by omega)))
        have h2 : (32 : Nat) ^ (t.2.2 - t.2.1) ≤ 32 ^ 6 := Nat.pow_le_pow_right (by decide) e6
        have h3 : (32 : Nat) ^ 6 = 1073741824 := by decide
        omega
      have hC : ∀ k, k < 12 → hsC (wMap.getD k 0) < 2 ^ 30 := by decide +kernel
      have hcmp : ∀ k, k < 12 → (lg_cmp (iJ (hsC (wMap.getD k 0) : Int)) σ.2.1 = 0 ↔ wd b t (wMap.getD k 0) = true) := fun k hk => by
        have hc := hC k hk
        rw [lg_cmp_eq, hw, iJ_eq (by unfold yR8; omega) (by unfold yR8; omega)]
        rw [← hs_wd (fun i hi => (hT.2.2.1 i hi).2) ht hz e1 (hL e1) hk]
        omega
      refine y_loop (fun f (s : MS) k => kM_knownWord_21 N f s (nI k)) 12 (fun s k => s = σ ∧ ∀ i, i < k → wd b t (wMap.getD i 0) = false) (fun z => z = some (σ, knI b t)) ?_ ?_ 12 N σ 0 (by omega) (by omega) ⟨rfl, fun i hi => by omega⟩
      · rintro f s k hk ⟨rfl, p2⟩
        have hhd : ∀ {R : Option (MS × Int32)}, ((if (lg_cmp (iJ (hsC (wMap.getD k 0) : Int)) (s.2.1)) = 0 then some (s, nI k) else kM_knownWord_21 N f s (nI k + 1)) = R) → kM_knownWord_21 N (f + 1) s (nI k) = R := fun hR => by
          rw [kM_knownWord_21]
          exact oif (nI_ge (b := 12) (a := k) hk (by omega)) (ob1 ((k_letN N _).trans (k_let k hk)) hR)
        by_cases e : wd b t (wMap.getD k 0) = true
        · left
          refine hhd (oit ((hcmp k hk).mpr e) ?_)
          have hf : knW b t = some k := by
            unfold knW
            rw [List.find?_range_eq_some]
            exact ⟨e, List.mem_range.mpr hk, fun j hj => by rw [p2 j hj]; rfl⟩
          unfold knI
          rw [hf]
        · right
          refine ⟨s, hhd (oif (fun z => e ((hcmp k hk).mp z)) ?_), rfl, fun i hi => ?_⟩
          · rw [nI_1]
          · by_cases ee : i = k
            · rw [ee]; simpa using e
            · exact p2 i (by omega)
      · rintro f s ⟨rfl, p2⟩
        show kM_knownWord_21 N (f + 1) s (nI 12) = _
        rw [kM_knownWord_21, none0 p2]
        exact oit (nI_le (Nat.le_refl _) (by omega)) rfl
    · rw [none0 (fun k hk => by
        cases hx : wd b t (wMap.getD k 0) with
        | false => rfl
        | true =>
          have := (wd_t.mp hx).1.2
          have := (k_wch k hk).1.2
          omega)]
      exact oif (nI_ge (a := 6) (b := t.2.2 - t.2.1) (by omega) (by omega)) rfl
  · rw [none0 (fun k hk => by
      cases hx : wd b t (wMap.getD k 0) with
      | false => rfl
      | true => exact absurd (wd_t.mp hx).1.1 e1)]
    exact oif (fun z => e1 ((nI_eq (b := 1) (by omega) (by omega)).mp z)) rfl
end YC7
