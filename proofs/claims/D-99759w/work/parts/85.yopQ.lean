/-! plain law: what was heard, tried -/
def pHb (hs : List HT) (n : Nat) (m : MN) : Bool := hs.all (fun x => decide (x.2.1 = nI n → ((yI m 13 >>> (x.1 &&& 31)) &&& 1) = x.2.2))
def hrB (C : CC) (hs : List HT) (m : MN) : Nat → Bool
  | 0 => true
  | n + 1 => hrB C hs m n && pHb hs (n + 1) (yRep (mPass C) (n + 1) m)
theorem pHb_t {hs : List HT} {n : Nat} {m : MN} : pHb hs n m = true ↔ ∀ (i : Nat) (x : HT), hs[i]? = some x → x.2.1 = nI n → ((yI m 13 >>> (x.1 &&& 31)) &&& 1) = x.2.2 := by
  unfold pHb
  rw [List.all_eq_true]
  constructor
  · intro h i x hx
    exact decide_eq_true_iff.mp (h x (List.mem_of_getElem? hx))
  · intro h x hx
    obtain ⟨i, hi, he⟩ := List.getElem_of_mem hx
    exact decide_eq_true_iff.mpr (h i x (by rw [List.getElem?_eq_getElem hi, he]))
theorem hrB_ext {C : CC} {hs : List HT} {m : MN} {l : Nat} (hl : ∀ x ∈ hs, ∃ j, j ≤ l ∧ x.2.1 = nI j) (h40 : l ≤ 40) : ∀ d, l + d ≤ 40 → hrB C hs m (l + d) = hrB C hs m l := by
  intro d
  induction d with
  | zero => intro _; rfl
  | succ d ih =>
    intro h
    show (hrB C hs m (l + d) && pHb hs (l + d + 1) (yRep (mPass C) (l + d + 1) m)) = _
    have : pHb hs (l + d + 1) (yRep (mPass C) (l + d + 1) m) = true := pHb_t.mpr (fun i x hx he => by
      obtain ⟨j, h1, h2⟩ := hl x (List.mem_of_getElem? hx)
      rw [h2] at he
      have := (nI_eq (a := j) (b := l + d + 1) (by omega) (by omega)).mp he
      omega)
    rw [this, Bool.and_true, ih (by omega)]
section OR1
variable {g : XC} {N xa oa n : Nat} {Z Ya Yh : Nat → Prop} {na ta cv la lh : Nat} {ra rh : List Nat} {M : MT} {T : Int} {S S1 : XS} {σ s : MS} {C : CC} {V m : MN} {w : Nat → Int32} {c k : Nat} {hs : List HT}
/-- what was heard lies there -/
def HW (g : XC) (Z Yh : Nat → Prop) (S : XS) (xa lh : Nat) (rh : List Nat) (hs : List HT) : Prop := ListAt g Yh S lh rh ∧ TripsAt Z S rh hs ∧ xR S xa 9 = some lh ∧ hs.length ≤ 8
theorem HW.o9 (h : HW g Z Yh S xa lh rh hs) (hO : OC g Z S xa na ta C V) : f_obj (nset S ta xa m w) 1 xa 9 = some lh := f_obj_T (S := nset S ta xa m w) hO.1.1.1 (by decide) (by decide) h.2.2.1
theorem HW.sz (h : HW g Z Yh S xa lh rh hs) : f_cls (nset S ta xa m w) 10 lh = some () ∧ kX_J2_size g N (nset S ta xa m w) lh = some (nset S ta xa m w, nI hs.length) := by
  have hL : ListAt g Yh (nset S ta xa m w) lh rh := h.1.fr (fun _ _ => ⟨rfl, rfl⟩)
  have := hL.size N
  rw [h.2.1.1] at this
  exact ⟨hL.cls, this⟩
theorem HW.get (h : HW g Z Yh S xa lh rh hs) {j : Nat} {x : HT} (hj : hs[j]? = some x) : ∃ r, kX_J2_get g N (nset S ta xa m w) lh (nI j) = some (nset S ta xa m w, r) ∧ f_ints (nset S ta xa m w) r = some () ∧ a_int (nset S ta xa m w) 0 r 0 = some x.1 ∧ a_int (nset S ta xa m w) 0 r 1 = some x.2.1 ∧ a_int (nset S ta xa m w) 0 r 2 = some x.2.2 := by
  have hL : ListAt g Yh (nset S ta xa m w) lh rh := h.1.fr (fun _ _ => ⟨rfl, rfl⟩)
  have hlt : j < rh.length := by rw [h.2.1.1]; exact (List.getElem?_eq_some_iff.mp hj).1
  have hr : rh[j]? = some rh[j] := List.getElem?_eq_getElem hlt
  obtain ⟨f, h1, h2, h3, h4⟩ := h.2.1.2 j rh[j] x hr hj
  have h1' : genAt (nset S ta xa m w) rh[j] (.inl (0, 3, .inl f)) := h1.2
  refine ⟨rh[j], hL.get N hr, ?_, (g_aint (i := 0) h1' (by decide) (by decide)).trans (by rw [h2]), (g_aint (i := 1) h1' (by decide) (by decide)).trans (by rw [h3]), (g_aint (i := 2) h1' (by decide) (by decide)).trans (by rw [h4])⟩
  unfold f_ints
  rw [g_cell h1']
  rfl
theorem x_so60 (h : HW g Z Yh S xa lh rh hs) (hO : OC g Z S xa na ta C V) (hN : 2 ^ 20 < N) (K : XS → Nat → Int32 → Int32 → Option (XS × Int32)) (x1 : Int32) (k : Nat) : kX_X1_isSo_60 g N K N (nset S ta xa m w) xa x1 (nI k) 0 = if pHb hs k m = true then K (nset S ta xa m w) xa x1 (nI (k + 1)) else some (nset S ta xa m w, 0) := by
  have hl := h.2.2.2
  refine y_loop (fun f (_ : Unit) j => kX_X1_isSo_60 g N K f (nset S ta xa m w) xa x1 (nI k) (nI j)) hs.length (fun _ j => ∀ (i : Nat) (x : HT), i < j → hs[i]? = some x → x.2.1 = nI k → ((yI m 13 >>> (x.1 &&& 31)) &&& 1) = x.2.2) (fun r => r = if pHb hs k m = true then K (nset S ta xa m w) xa x1 (nI (k + 1)) else some (nset S ta xa m w, 0)) ?_ ?_ hs.length N () 0 (by omega) (by omega) (fun i x hi => by omega)
  · intro f _ j hj hp
    obtain ⟨x, hx⟩ : ∃ x, hs[j]? = some x := ⟨hs[j], List.getElem?_eq_getElem hj⟩
    obtain ⟨r, g1, g2, g3, g4, g5⟩ := h.get (N := N) (ta := ta) (m := m) (w := w) hx
    have hsz := h.sz (N := N) (ta := ta) (m := m) (w := w)
    have pre : ∀ R, (if x.2.1 = nI k then (if ((yI m 13 >>> (x.1 &&& 31)) &&& 1) = x.2.2 then kX_X1_isSo_119 g N K (kX_X1_isSo_60 g N K f) (nset S ta xa m w) xa x1 (nI k) (nI j) else some (nset S ta xa m w, 0)) else kX_X1_isSo_119 g N K (kX_X1_isSo_60 g N K f) (nset S ta xa m w) xa x1 (nI k) (nI j)) = R → kX_X1_isSo_60 g N K (f + 1) (nset S ta xa m w) xa x1 (nI k) (nI j) = R := fun R hR => by
      rw [kX_X1_isSo_60]
      refine ob1 (h.o9 hO) (ob1 hsz.1 (ob1 hsz.2 (oif (nI_ge hj (by omega)) (ob1 (h.o9 hO) (ob1 hsz.1 (ob1 g1 (ob1 g2 (ob1 g4 ?_))))))))
      by_cases e : x.2.1 = nI k
      · rw [if_pos e] at hR
        exact oit e (ob1 (oc_ta hO) (ob1 (n_int hO.1.1 (by decide)) (ob1 g3 (ob1 g5 hR))))
      · rw [if_neg e] at hR
        exact oif e hR
    have cont : (x.2.1 = nI k → ((yI m 13 >>> (x.1 &&& 31)) &&& 1) = x.2.2) → kX_X1_isSo_60 g N K (f + 1) (nset S ta xa m w) xa x1 (nI k) (nI j) = kX_X1_isSo_60 g N K f (nset S ta xa m w) xa x1 (nI k) (nI (j + 1)) := fun hc => by
      refine pre _ ?_
      unfold kX_X1_isSo_119
      rw [nI_1]
      by_cases e : x.2.1 = nI k
      · exact oit e (oit (hc e) rfl)
      · exact oif e rfl
    by_cases e : x.2.1 = nI k ∧ ¬ ((yI m 13 >>> (x.1 &&& 31)) &&& 1) = x.2.2
    · left
      have hf : ¬ pHb hs k m = true := fun z => e.2 (pHb_t.mp z j x hx e.1)
      show kX_X1_isSo_60 g N K (f + 1) (nset S ta xa m w) xa x1 (nI k) (nI j) = _
      rw [if_neg hf]
      exact pre _ (oit e.1 (oif e.2 rfl))
    · right
      have hc : x.2.1 = nI k → ((yI m 13 >>> (x.1 &&& 31)) &&& 1) = x.2.2 := fun z => Classical.byContradiction (fun y => e ⟨z, y⟩)
      refine ⟨(), cont hc, fun i y hi hy he => ?_⟩
      by_cases e2 : i = j
      · subst e2
        rw [hx] at hy
        obtain rfl := Option.some.inj hy
        exact hc he
      · exact hp i y (by omega) hy he
  · intro f _ hp
    have hsz := h.sz (N := N) (ta := ta) (m := m) (w := w)
    have ht : pHb hs k m = true := pHb_t.mpr (fun i x hx he => hp i x (List.getElem?_eq_some_iff.mp hx).1 hx he)
    show kX_X1_isSo_60 g N K (f + 1) (nset S ta xa m w) xa x1 (nI k) (nI hs.length) = _
    rw [if_pos ht, kX_X1_isSo_60]
    refine ob1 (h.o9 hO) (ob1 hsz.1 (ob1 hsz.2 (oit (nI_le (Nat.le_refl _) (by omega)) ?_)))
    rw [nI_1]
theorem x_isSo (h : HW g Z Yh S xa lh rh hs) (hO : OC g Z S xa na ta C V) (hN : 2 ^ 20 < N) (hk : ∀ x ∈ hs, ∃ j : Nat, 1 ≤ j ∧ j ≤ 40 ∧ x.2.1 = nI j) (hm : YN C m T) (hT : T ≤ 800000000) : ∃ m1 w1, kX_X1_isSo g N (nset S ta xa m w) xa = some (nset S ta xa m1 w1, if hrB C hs m 40 = true then 1 else 0) := by
  have hl8 := h.2.2.2
  -- the last hour
  have hlast : ∃ l : Nat, l ≤ 40 ∧ (∀ x ∈ hs, ∃ j, j ≤ l ∧ x.2.1 = nI j) ∧ kX_X1_isSo_4 g N N (nset S ta xa m w) xa 0 0 = kX_X1_isSo_45 g N N (nset S ta xa m w) xa (nI l) 1 := by
    refine y_loop (fun f (l : Nat) j => kX_X1_isSo_4 g N f (nset S ta xa m w) xa (nI l) (nI j)) hs.length (fun l j => l ≤ 40 ∧ ∀ (i : Nat) (x : HT), i < j → hs[i]? = some x → ∃ q, q ≤ l ∧ x.2.1 = nI q) (fun r => ∃ l : Nat, l ≤ 40 ∧ (∀ x ∈ hs, ∃ j, j ≤ l ∧ x.2.1 = nI j) ∧ r = kX_X1_isSo_45 g N N (nset S ta xa m w) xa (nI l) 1) ?_ ?_ hs.length N 0 0 (by omega) (by omega) ⟨by omega, fun i x hi => by omega⟩
    · rintro f l j hj ⟨h1, h2⟩
      right
      obtain ⟨x, hx⟩ : ∃ x, hs[j]? = some x := ⟨hs[j], List.getElem?_eq_getElem hj⟩
      obtain ⟨r, g1, g2, g3, g4, g5⟩ := h.get (N := N) (ta := ta) (m := m) (w := w) hx
      have hsz := h.sz (N := N) (ta := ta) (m := m) (w := w)
      obtain ⟨q, q1, q2, q3⟩ := hk x (List.mem_of_getElem? hx)
      refine ⟨if l < q then q else l, ?_, by split <;> omega, fun i y hi hy => ?_⟩
      · show kX_X1_isSo_4 g N (f + 1) (nset S ta xa m w) xa (nI l) (nI j) = kX_X1_isSo_4 g N f (nset S ta xa m w) xa (nI (if l < q then q else l)) (nI (j + 1))
        rw [kX_X1_isSo_4]
        refine ob1 (h.o9 hO) (ob1 hsz.1 (ob1 hsz.2 (oif (nI_ge hj (by omega)) (ob1 (h.o9 hO) (ob1 hsz.1 (ob1 g1 (ob1 g2 (ob1 g4 (onb (v := nI (if l < q then q else l)) ?_ ?_)))))))))
        · rw [q3]
          have e : nI l < nI q ↔ l < q := nI_ltI (by omega) (by omega)
          by_cases z : l < q
          · rw [if_pos (e.mpr z), if_pos z]
          · rw [if_neg (fun y => z (e.mp y)), if_neg z]
        · rw [nI_1]
      · by_cases e2 : i = j
        · subst e2
          rw [hx] at hy
          obtain rfl := Option.some.inj hy
          exact ⟨q, by split <;> omega, q3⟩
        · obtain ⟨p, p1, p2⟩ := h2 i y (by omega) hy
          exact ⟨p, by split <;> omega, p2⟩
    · rintro f l ⟨h1, h2⟩
      have hsz := h.sz (N := N) (ta := ta) (m := m) (w := w)
      refine ⟨l, h1, fun x hx => ?_, ?_⟩
      · obtain ⟨i, hi, he⟩ := List.getElem_of_mem hx
        exact h2 i x hi (by rw [List.getElem?_eq_getElem hi, he])
      · show kX_X1_isSo_4 g N (f + 1) (nset S ta xa m w) xa (nI l) (nI hs.length) = _
        rw [kX_X1_isSo_4]
        exact ob1 (h.o9 hO) (ob1 hsz.1 (ob1 hsz.2 (oit (nI_le (Nat.le_refl _) (by omega)) rfl)))
  obtain ⟨l, l40, hl, e4⟩ := hlast
  have e40 : hrB C hs m 40 = hrB C hs m l := by
    have := hrB_ext (C := C) (m := m) hl l40 (40 - l) (by omega)
    rw [show l + (40 - l) = 40 by omega] at this
    exact this
  rw [e40]
  unfold kX_X1_isSo
  rw [e4]
  refine y_loop (fun f (p : Nat → Int32) k => kX_X1_isSo_45 g N f (nset S ta xa (yRep (mPass C) (k - 1) m) p) xa (nI l) (nI k)) (l + 1) (fun p k => 1 ≤ k ∧ hrB C hs m (k - 1) = true) (fun r => ∃ m1 w1, r = some (nset S ta xa m1 w1, if hrB C hs m l = true then 1 else 0)) ?_ ?_ l N w 1 (by omega) (by omega) ⟨by omega, rfl⟩
  · rintro f p k hk2 ⟨h1, h2⟩
    obtain ⟨i, rfl⟩ : ∃ i, k = i + 1 := ⟨k - 1, by omega⟩
    have h2 : hrB C hs m i = true := h2
    have hY := mPasses_YN hO.spr.2 hO.spr.1 hm i (by omega)
    obtain ⟨w1, hw1⟩ := oc_pass (w := p) hO hN (by omega) hY
    have hstep : kX_X1_isSo_45 g N (f + 1) (nset S ta xa (yRep (mPass C) i m) p) xa (nI l) (nI (i + 1)) = if pHb hs (i + 1) (yRep (mPass C) (i + 1) m) = true then kX_X1_isSo_45 g N f (nset S ta xa (yRep (mPass C) (i + 1) m) w1) xa (nI l) (nI (i + 1 + 1)) else some (nset S ta xa (yRep (mPass C) (i + 1) m) w1, 0) := by
      rw [kX_X1_isSo_45]
      exact oif (nI_nlt (a := l) (by omega) (by omega)) (ob1 (oc_ta hO) (ob1 (n_cls hO.1.1) (ob1 hw1 (x_so60 h hO hN _ _ _))))
    by_cases hp : pHb hs (i + 1) (yRep (mPass C) (i + 1) m) = true
    · right
      rw [if_pos hp] at hstep
      refine ⟨w1, hstep, by omega, ?_⟩
      show (hrB C hs m i && pHb hs (i + 1) (yRep (mPass C) (i + 1) m)) = true
      rw [h2, hp]
      rfl
    · left
      rw [if_neg hp] at hstep
      have hfl : ¬ hrB C hs m l = true := by
        have hmono : ∀ d, i + 1 + d ≤ l → hrB C hs m (i + 1 + d) = false := by
          intro d
          induction d with
          | zero =>
            intro _
            show (hrB C hs m i && pHb hs (i + 1) (yRep (mPass C) (i + 1) m)) = false
            have : pHb hs (i + 1) (yRep (mPass C) (i + 1) m) = false := by simpa using hp
            rw [this, Bool.and_false]
          | succ d ih =>
            intro hd
            show (hrB C hs m (i + 1 + d) && pHb hs (i + 1 + d + 1) (yRep (mPass C) (i + 1 + d + 1) m)) = false
            rw [ih (by omega), Bool.false_and]
        have := hmono (l - (i + 1)) (by omega)
        rw [show i + 1 + (l - (i + 1)) = l by omega] at this
        rw [this]
        simp
      refine ⟨yRep (mPass C) (i + 1) m, w1, ?_⟩
      rw [if_neg hfl]
      exact hstep
  · rintro f p ⟨h1, h2⟩
    have h2 : hrB C hs m l = true := h2
    refine ⟨yRep (mPass C) (l + 1 - 1) m, p, ?_⟩
    rw [if_pos h2]
    show kX_X1_isSo_45 g N (f + 1) (nset S ta xa (yRep (mPass C) (l + 1 - 1) m) p) xa (nI l) (nI (l + 1)) = _
    rw [kX_X1_isSo_45]
    exact oit (nI_lt (by omega) (by omega)) rfl
theorem RS.s51 (h : RS N σ C m T) (q : Nat) (v : Int32) : RS N (rS σ 51 q v) C m T := by
  obtain ⟨h1, h2, h3, h4, h5⟩ := h
  refine ⟨h1, ?_, ?_, h4, h5⟩
  · unfold RC at h2 ⊢
    rw [rS_ne _ _ _ _ (show 4 ≠ 51 by decide), rS_ne _ _ _ _ (show 5 ≠ 51 by decide)]
    exact h2
  · rw [rS_ne _ _ _ _ (show 31 ≠ 51 by decide)]
    exact h3
theorem ix3m (j q : Nat) {L : Int32} (hL : L = nI q) : (3 : Int32) * nI j + L = nI (3 * j + q) := by rw [hL, show (3 : Int32) = nI 3 from rfl, ixm, nI_add]
theorem r_so28 (hN : 2 ^ 20 < N) (hl8 : hs.length ≤ 8) (hH : RHeard (s.1 49) (s.2.2 50) hs) (h38 : s.1 38 = yI m 13) (K : MS → Int32 → Option (MS × Int32)) (k : Nat) : kM_isHeard_28 N K N s (nI k) 0 = if pHb hs k m = true then K s (nI (k + 1)) else some (s, 0) := by
  refine y_loop (fun f (_ : Unit) j => kM_isHeard_28 N K f s (nI k) (nI j)) hs.length (fun _ j => ∀ (i : Nat) (x : HT), i < j → hs[i]? = some x → x.2.1 = nI k → ((yI m 13 >>> (x.1 &&& 31)) &&& 1) = x.2.2) (fun r => r = if pHb hs k m = true then K s (nI (k + 1)) else some (s, 0)) ?_ ?_ hs.length N () 0 (by omega) (by omega) (fun i x hi => by omega)
  · intro f _ j hj hp
    obtain ⟨x, hx⟩ : ∃ x, hs[j]? = some x := ⟨hs[j], List.getElem?_eq_getElem hj⟩
    obtain ⟨g1, g2, g3⟩ := hH.2 j x hx
    have l1 : m_ld s 50 ((3 * nI j) + 1) = some x.2.1 := (r_ld (q := 3 * j + 1) (ix3m j 1 rfl) (by show 3 * j + 1 < 24; omega)).trans (by rw [g2])
    have l0 : m_ld s 50 (3 * nI j) = some x.1 := (r_ld (q := 3 * j) (by rw [show (3 : Int32) = nI 3 from rfl, ixm]) (by show 3 * j < 24; omega)).trans (by rw [g1])
    have l2 : m_ld s 50 ((3 * nI j) + 2) = some x.2.2 := (r_ld (q := 3 * j + 2) (ix3m j 2 rfl) (by show 3 * j + 2 < 24; omega)).trans (by rw [g3])
    have pre : ∀ R, (if x.2.1 = nI k then (if ((yI m 13 >>> (x.1 &&& 31)) &&& 1) = x.2.2 then kM_isHeard_80 N K (kM_isHeard_28 N K f) s (nI k) (nI j) else some (s, 0)) else kM_isHeard_80 N K (kM_isHeard_28 N K f) s (nI k) (nI j)) = R → kM_isHeard_28 N K (f + 1) s (nI k) (nI j) = R := fun R hR => by
      rw [kM_isHeard_28]
      refine oif (by rw [hH.1]; exact nI_ge hj (by omega)) (ob1 l1 ?_)
      by_cases e : x.2.1 = nI k
      · rw [if_pos e] at hR
        refine oit e (ob1 l0 (ob1 l2 ?_))
        rw [h38]
        exact hR
      · rw [if_neg e] at hR
        exact oif e hR
    by_cases e : x.2.1 = nI k ∧ ¬ ((yI m 13 >>> (x.1 &&& 31)) &&& 1) = x.2.2
    · left
      have hf : ¬ pHb hs k m = true := fun z => e.2 (pHb_t.mp z j x hx e.1)
      show kM_isHeard_28 N K (f + 1) s (nI k) (nI j) = _
      rw [if_neg hf]
      exact pre _ (oit e.1 (oif e.2 rfl))
    · right
      have hc : x.2.1 = nI k → ((yI m 13 >>> (x.1 &&& 31)) &&& 1) = x.2.2 := fun z => Classical.byContradiction (fun y => e ⟨z, y⟩)
      refine ⟨(), pre _ ?_, fun i y hi hy he => ?_⟩
      · unfold kM_isHeard_80
        rw [nI_1]
        by_cases e3 : x.2.1 = nI k
        · exact oit e3 (oit (hc e3) rfl)
        · exact oif e3 rfl
      · by_cases e2 : i = j
        · subst e2
          rw [hx] at hy
          obtain rfl := Option.some.inj hy
          exact hc he
        · exact hp i y (by omega) hy he
  · intro f _ hp
    have ht : pHb hs k m = true := pHb_t.mpr (fun i x hx he => hp i x (List.getElem?_eq_some_iff.mp hx).1 hx he)
    show kM_isHeard_28 N K (f + 1) s (nI k) (nI hs.length) = _
    rw [if_pos ht, kM_isHeard_28]
    refine oit (by rw [hH.1]; exact nI_le (Nat.le_refl _) (by omega)) ?_
    rw [nI_1]
/-- frames of hearing: nothing but an hour's, and what tips when -/
def FrL (σ s : MS) : Prop := (∀ j, j ≠ 38 → j ≠ 39 → s.1 j = σ.1 j) ∧ (∀ j, j ≠ 31 → j ≠ 34 → j ≠ 35 → j ≠ 36 → j ≠ 37 → j ≠ 51 → s.2.2 j = σ.2.2 j) ∧ ∀ q, q < 64 → s.2.2 31 q = σ.2.2 31 q
theorem FrL.trans {s1 : MS} (h : FrL σ s) (h2 : FrL s s1) : FrL σ s1 := ⟨fun j a b => (h2.1 j a b).trans (h.1 j a b), fun j a b c d e f => (h2.2.1 j a b c d e f).trans (h.2.1 j a b c d e f), fun q hq => (h2.2.2 q hq).trans (h.2.2 q hq)⟩
theorem FrL.h (h : FrH 64 σ s) : FrL σ s := ⟨h.1, fun j a b c d e _ => h.2.2.1 j a b c d e, fun q hq => h.2.2.2 q (Or.inl hq)⟩
theorem FrL.s51 (σ : MS) (q : Nat) (v : Int32) : FrL σ (rS σ 51 q v) := ⟨fun _ _ _ => rfl, fun j _ _ _ _ _ f => rS_ne _ _ _ _ f, fun q _ => by rw [rS_ne _ _ _ _ (by decide)]⟩
theorem FrL.r (h : FrL σ s) : RFr σ s := ⟨fun j hj => h.1 j (by rintro rfl; simp at hj) (by rintro rfl; simp at hj), fun j hj => h.2.1 j (by rintro rfl; simp at hj) (by rintro rfl; simp at hj) (by rintro rfl; simp at hj) (by rintro rfl; simp at hj) (by rintro rfl; simp at hj) (by rintro rfl; simp at hj), h.2.2⟩
theorem r_isHeard (hN : 2 ^ 20 < N) (hl8 : hs.length ≤ 8) (hH : RHeard (s.1 49) (s.2.2 50) hs) (hm : RS N s C m T) (hT : T ≤ 800000000) : ∃ s1, kM_isHeard N s = some (s1, if hrB C hs m 40 = true then 1 else 0) ∧ FrL s s1 ∧ (hrB C hs m 40 = true → ∀ j, j < 40 → s1.2.2 51 j = yI (yRep (mPass C) (j + 1) m) 13) := by
  unfold kM_isHeard
  refine y_loop (fun f (t : MS) k => kM_isHeard_2 N f t (nI k)) 41 (fun t k => 1 ≤ k ∧ FrL s t ∧ RS N t C (yRep (mPass C) (k - 1) m) (T + 40000 * ((k - 1 : Nat) : Int)) ∧ hrB C hs m (k - 1) = true ∧ ∀ j, j < k - 1 → t.2.2 51 j = yI (yRep (mPass C) (j + 1) m) 13) (fun r => ∃ s1, r = some (s1, if hrB C hs m 40 = true then 1 else 0) ∧ FrL s s1 ∧ (hrB C hs m 40 = true → ∀ j, j < 40 → s1.2.2 51 j = yI (yRep (mPass C) (j + 1) m) 13)) ?_ ?_ 40 N s 1 (by omega) (by omega) ⟨by omega, FrL.h (FrH.refl _ _), by simpa [yRep] using hm, rfl, fun j hj => by omega⟩
  · rintro f t k hk ⟨h1, p1, p2, p3, p4⟩
    obtain ⟨i, rfl⟩ : ∃ i, k = i + 1 := ⟨k - 1, by omega⟩
    have p2 : RS N t C (yRep (mPass C) i m) (T + 40000 * (i : Int)) := p2
    have p3 : hrB C hs m i = true := p3
    have p4 : ∀ j, j < i → t.2.2 51 j = yI (yRep (mPass C) (j + 1) m) 13 := p4
    obtain ⟨t1, q1, q2, q3, q4, q5, q6⟩ := r_go hN p2 (by omega)
    obtain ⟨t2, ht2⟩ : ∃ t2, t2 = rS t1 51 i (t1.1 38) := ⟨_, rfl⟩
    have f2 : FrL s t2 := by rw [ht2]; exact (p1.trans (FrL.h q2)).trans (FrL.s51 _ _ _)
    have hH2 : RHeard (t2.1 49) (t2.2.2 50) hs := by
      rw [f2.1 49 (by decide) (by decide), f2.2.1 50 (by decide) (by decide) (by decide) (by decide) (by decide) (by decide)]
      exact hH
    have h38 : t2.1 38 = yI (yRep (mPass C) (i + 1) m) 13 := by rw [ht2]; exact q5
    have hstep : kM_isHeard_2 N (f + 1) t (nI (i + 1)) = if pHb hs (i + 1) (yRep (mPass C) (i + 1) m) = true then kM_isHeard_2 N f t2 (nI (i + 1 + 1)) else some (t2, 0) := by
      rw [kM_isHeard_2]
      refine oif (nI_nlt (a := 40) (by omega) (by omega)) (ob1 q1 (ob1 (v := t2) ?_ (r_so28 hN hl8 hH2 h38 _ _)))
      rw [ht2]
      exact r_st (q := i) (nI_pred i) (by show i < 40; omega)
    have h51 : ∀ j, j < i + 1 → t2.2.2 51 j = yI (yRep (mPass C) (j + 1) m) 13 := fun j hj => by
      rw [ht2, rS_get]
      by_cases e : j = i
      · rw [if_pos ⟨rfl, e⟩, q5, e]
        rfl
      · rw [if_neg (fun z => e z.2), q2.2.2.1 51 (by decide) (by decide) (by decide) (by decide) (by decide)]
        exact p4 j (by omega)
    have q2' : RS N t2 C (yRep (mPass C) (i + 1) m) (T + 40000 * ((i + 1 : Nat) : Int)) := by
      have e : T + 40000 * ((i + 1 : Nat) : Int) = T + 40000 * (i : Int) + 40000 := by omega
      rw [e, ht2]
      exact q3.s51 _ _
    by_cases hp : pHb hs (i + 1) (yRep (mPass C) (i + 1) m) = true
    · right
      rw [if_pos hp] at hstep
      refine ⟨t2, hstep, by omega, f2, q2', ?_, h51⟩
      show (hrB C hs m i && pHb hs (i + 1) (yRep (mPass C) (i + 1) m)) = true
      rw [p3, hp]
      rfl
    · left
      rw [if_neg hp] at hstep
      have hfl : ¬ hrB C hs m 40 = true := by
        have hmono : ∀ d, i + 1 + d ≤ 40 → hrB C hs m (i + 1 + d) = false := by
          intro d
          induction d with
          | zero =>
            intro _
            show (hrB C hs m i && pHb hs (i + 1) (yRep (mPass C) (i + 1) m)) = false
            have : pHb hs (i + 1) (yRep (mPass C) (i + 1) m) = false := by simpa using hp
            rw [this, Bool.and_false]
          | succ d ih =>
            intro hd
            show (hrB C hs m (i + 1 + d) && pHb hs (i + 1 + d + 1) (yRep (mPass C) (i + 1 + d + 1) m)) = false
            rw [ih (by omega), Bool.false_and]
        have := hmono (40 - (i + 1)) (by omega)
        rw [show i + 1 + (40 - (i + 1)) = 40 by omega] at this
        rw [this]
        simp
      refine ⟨t2, ?_, f2, fun z => absurd z hfl⟩
      rw [if_neg hfl]
      exact hstep
  · rintro f t ⟨h1, p1, p2, p3, p4⟩
    have p3 : hrB C hs m 40 = true := p3
    refine ⟨t, ?_, p1, fun _ j hj => p4 j (by omega)⟩
    rw [if_pos p3]
    show kM_isHeard_2 N (f + 1) t (nI 41) = _
    rw [kM_isHeard_2]
    exact oit (nI_lt (a := 40) (by omega) (by omega)) rfl
end OR1
