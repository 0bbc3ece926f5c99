/-! plain law: image, restore -/
/-- nothing but references of xa has changed -/
def XR (xa : Nat) (S S1 : XS) : Prop := XE (fun q => q = xa) S S1 ∧ xOwn S1 xa = xOwn S xa ∧ xI S1 xa = xI S xa ∧ xA S1 xa = xA S xa ∧ xRa S1 xa = xRa S xa ∧ xG S1 xa = xG S xa
theorem cell_ex {S S1 : XS} {q : Nat} (h : tSame S S1 q) (he : ∃ e, x_cell S q = some e) : ∃ e, x_cell S1 q = some e := by
  rw [x_cell_some] at he ⊢
  rw [h.1, h.2.2.2.2.2]
  exact he
section SI
variable {g : XC} {N xa oa : Nat} {Z Ya Yh : Nat → Prop} {na ta cv la lh : Nat} {ra rh : List Nat} {M : MT} {S S1 S2 : XS}
theorem XR.refl (h : WFr S) : XR xa S S := ⟨XE.refl h, rfl, rfl, rfl, rfl, rfl⟩
theorem XR.ext (h : XR xa S S1) (hE : XE (fun _ => False) S1 S2) (hx : xa < xTop S) : XR xa S S2 := by
  obtain ⟨h1, h2, h3, h4, h5, h6⟩ := h
  obtain ⟨t1, t2, t3, t4, t5, t6⟩ := hE.2.2.2.2.2 xa (Nat.lt_of_lt_of_le hx h1.2.1) (fun z => z)
  exact ⟨h1.trans hE (fun _ _ z => z.elim), t1.trans h2, t2.trans h3, t4.trans h4, t5.trans h5, t6.trans h6⟩
theorem putR_wf (h : WFr S) (k : Nat) (v : Option Nat) : WFr (xSetR S xa k v) := h.og (xWF_R h.1 xa k v) (Nat.le_refl _) (fun _ => ⟨rfl, rfl⟩)
theorem XR.put (h : XR xa S S1) (k : Nat) (v : Option Nat) : XR xa S (xSetR S1 xa k v) := by
  obtain ⟨h1, h2, h3, h4, h5, h6⟩ := h
  have hE : XE (fun q => q = xa) S1 (xSetR S1 xa k v) := ⟨putR_wf h1.1 k v, Nat.le_refl _, Nat.le_refl _, rfl, rfl, fun q _ hp => ⟨rfl, rfl, funext fun j => if_neg (fun z => hp z.1), rfl, rfl, rfl⟩⟩
  exact ⟨h1.trans hE (fun _ _ z => z), h2, h3, h4, h5, h6⟩
theorem XR.fr (h : XR xa S S1) {Y : Nat → Prop} (hY : ∀ q, Y q → q < xTop S ∧ q ≠ xa) : yFr Y S S1 := h.1.fr hY
theorem XR.same (h : XR xa S S1) {q : Nat} (h1 : q < xTop S) (h2 : q ≠ xa) : tSame S S1 q := h.1.2.2.2.2.2 q h1 h2
theorem XR.night (h : XR xa S S1) {r : Nat} {m : MN} (hr : r < xTop S) (hn : NightAt S r xa m) : NightAt S1 r xa m := by
  obtain ⟨t1, t2, t3, t4, t5, t6⟩ := h.same hr hn.1.2.2.1
  exact hn.keep h.1.1.1 h.2.1 t1 t3 t2 t4
theorem XR.list (h : XR xa S S1) {l cap : Nat} {rs : List Nat} {Y : Nat → Prop} (hl : ListC g Y S l rs cap) (hY : ∀ q, Y q → q < xTop S ∧ q ≠ xa) : ListC g Y S1 l rs cap := hl.fr (h.fr hY).g
/-- much of the state anew, behind new cells and other references -/
theorem CRq.re (h : CRq g xa oa Z Ya Yh na ta cv la lh ra rh M S) (hW : WFr S) (hE : XR xa S S1) {Z1 Ya1 Yh1 : Nat → Prop} {na1 la1 lh1 : Nat} {ra1 rh1 : List Nat} {V1 : MN} {as1 : List MN} {hs1 : List HT} {I1 : MI} (hCR : CRefs S1 xa na1 ta cv la1 lh1) (hV : NightAt S1 na1 xa V1) (hA : ListAt g Ya1 S1 la1 ra1 ∧ NightsAt Z1 S1 xa ra1 as1) (hH : ListAt g Yh1 S1 lh1 rh1 ∧ TripsAt Z1 S1 rh1 hs1) (hI : ImgAt g Z1 S1 xa I1) (hZ : ∀ q, Z q → Z1 q) (hD : CDis xa oa Z1 Ya1 Yh1 na1 ta) (hX : ∀ q, Z1 q ∨ Ya1 q ∨ Yh1 q → ∃ e, x_cell S1 q = some e) : CRq g xa oa Z1 Ya1 Yh1 na1 ta cv la1 lh1 ra1 rh1 (tC M, V1, as1, hs1, I1, tT M, tN M, tF M, tR M) S1 := by
  obtain ⟨c1, c2, c3, c4, c5, c6, c7, c8, ⟨d1, d2, d3, d4, d5, d6, d7⟩, c10, c11⟩ := h
  have hlt : ∀ q, Z q → q < xTop S := fun q hq => by
    obtain ⟨e, he⟩ := c10 q (Or.inl hq)
    exact hW.2 q e he
  have fZ : yFr Z S S1 := hE.fr (fun q hq => ⟨hlt q hq, (d1 q hq).2.2.1⟩)
  have hta : ta < xTop S := hW.2 ta _ c2.2.1.cell
  have st := hE.same hta c2.2.2.1
  refine ⟨hV, c2.keep hE.1.1.1 hE.2.1 st.1 st.2.2.1, hCR, (c4.fr fZ.g).mono hZ, hA, hH, hI, ?_, hD, hX, ?_⟩
  · obtain ⟨f, hf⟩ := c8
    have so := hE.same (hW.2 oa _ (g_cell hf)) d4
    exact ⟨f, so.1.trans hf.1, so.2.2.2.2.2.trans hf.2⟩
  · obtain ⟨t1, t2, t3, t4⟩ := c11
    exact ⟨fun i hi => by rw [hE.2.2.2.1]; exact t1 i hi, by rw [hE.2.2.1]; exact t2, by rw [hE.2.2.1]; exact t3, fun i hi => by rw [hE.2.2.2.1]; exact t4 i hi⟩
theorem trip_any {r : Nat} {f : Nat → Int32} (h : genAt S r (.inl (0, 3, .inl f))) : v_any g S r = some () := by
  unfold v_any
  rw [g_cell h]
  cases gIv g r with
  | some k => rfl
  | none => rfl
theorem nights_any {rs : List Nat} {ms : List MN} (h : NightsAt Z S xa rs ms) : ∀ r ∈ rs, v_any g S r = some () := fun r hr => by
  obtain ⟨j, hj, he⟩ := List.getElem_of_mem hr
  have e1 : rs[j]? = some r := by rw [List.getElem?_eq_getElem hj, he]
  have hj2 : j < ms.length := by rw [← h.1]; exact hj
  exact night_any (h.2 j r ms[j] e1 (List.getElem?_eq_getElem hj2)).2
theorem trips_any {rs : List Nat} {hs : List HT} (h : TripsAt Z S rs hs) : ∀ r ∈ rs, v_any g S r = some () := fun r hr => by
  obtain ⟨j, hj, he⟩ := List.getElem_of_mem hr
  have e1 : rs[j]? = some r := by rw [List.getElem?_eq_getElem hj, he]
  have hj2 : j < hs.length := by rw [← h.1]; exact hj
  obtain ⟨f, hf, -⟩ := h.2 j r hs[j] e1 (List.getElem?_eq_getElem hj2)
  exact trip_any hf.2
/-- a list copied, held by xa at k -/
theorem x_lcp {l k : Nat} {rs : List Nat} {Y : Nat → Prop} (hL : ListAt g Y S l rs) (hW : WFr S) (hsp : gSp g 0 < xTop S ∧ gSp g 1 < xTop S) (hrs : ∀ r ∈ rs, v_any g S r = some ()) (r1 : xTop S + 2 ≤ xCc S) (r2 : xSl S + 3 + rs.length ≤ xCs S) : ∃ S1 Y1, kX_J2_init_2 g N (newS S 3 ELn) (xTop S) l = some S1 ∧ XE (fun _ => False) S S1 ∧ xTop S1 = xTop S + 2 ∧ xSl S1 = xSl S + 3 + rs.length ∧ (∃ cap, ListC g Y1 S1 (xTop S) rs cap) ∧ (∀ q, Y1 q → xTop S ≤ q ∧ q < xTop S1) ∧ ∀ q, Y1 q → ∃ e, x_cell S1 q = some e := by
  obtain ⟨cap, hC⟩ := hL.c
  obtain ⟨S1, a1, a2, a3, a4, cap1, a5⟩ := l_copy (N := N) hC hW hsp hrs r1 r2
  obtain ⟨Y1, b1, b2, b3⟩ := a5.min
  refine ⟨S1, Y1, a1, a2, a3, a4, ⟨cap1, b1⟩, fun q hq => ?_, b3⟩
  have := b2 q hq
  omega
end SI
/-! the reference -/
theorem r_copies {N : Nat} {σ : MS} {k1 k2 : Nat} (hN : 2 ^ 20 < N) (hk : k1 ≠ k2) (hl : m_len k1 ≤ m_len k2) (h20 : m_len k1 < 2 ^ 20) : ∃ σ1, kM_copies N k1 k2 σ = some σ1 ∧ RK [] [k2] σ σ1 ∧ ∀ q, q < m_len k1 → σ1.2.2 k2 q = σ.2.2 k1 q := by
  unfold kM_copies
  refine y_loop (fun n (s : MS) k => kM_copies_2 N k1 k2 n s (nI k)) (m_len k1) (fun s k => s.1 = σ.1 ∧ (∀ j, j ≠ k2 → s.2.2 j = σ.2.2 j) ∧ ∀ q, q < k → s.2.2 k2 q = σ.2.2 k1 q) (fun r => ∃ σ1, r = some σ1 ∧ RK [] [k2] σ σ1 ∧ ∀ q, q < m_len k1 → σ1.2.2 k2 q = σ.2.2 k1 q) ?_ ?_ (m_len k1) N σ 0 (by omega) (by omega) ⟨rfl, fun _ _ => rfl, fun q hq => by omega⟩
  · rintro n s k hk2 ⟨h1, h2, h3⟩
    right
    refine ⟨rS s k2 k (s.2.2 k1 k), ?_, h1, fun j hj => (rS_ne _ _ _ _ hj).trans (h2 j hj), fun q hq => ?_⟩
    · show kM_copies_2 N k1 k2 (n + 1) s (nI k) = _
      rw [kM_copies_2, nI_1]
      exact oif (nI_ge hk2 (by omega)) (ob1 (r_ld rfl hk2) (ob1 (r_st (q := k) rfl (by omega)) rfl))
    · rw [rS_get]
      by_cases e : q = k
      · rw [if_pos ⟨rfl, e⟩, h2 k1 hk, e]
      · rw [if_neg (fun z => e z.2)]
        exact h3 q (by omega)
  · rintro n s ⟨h1, h2, h3⟩
    refine ⟨s, ?_, ⟨fun j _ => by rw [h1], fun j hj => h2 j (fun z => hj (by simp [z]))⟩, h3⟩
    show kM_copies_2 N k1 k2 (n + 1) s (nI (m_len k1)) = _
    rw [kM_copies_2]
    exact oit (nI_le (Nat.le_refl _) (by omega)) rfl
/-- 64 numbers of one array to another -/
theorem r_row57 {N : Nat} {σ : MS} (hN : 2 ^ 20 < N) : ∃ s, RK [] [57] σ s ∧ (∀ q, q < 64 → s.2.2 57 q = σ.2.2 31 q) ∧ kM_image_28 N N σ 0 = (kM_copies N 32 58 s).bind fun w2 => (kM_copies N 50 59 w2).bind fun w3 => some w3 := by
  refine y_loop (fun n (s : MS) k => kM_image_28 N n s (nI k)) 64 (fun s k => s.1 = σ.1 ∧ (∀ j, j ≠ 57 → s.2.2 j = σ.2.2 j) ∧ ∀ q, q < k → s.2.2 57 q = σ.2.2 31 q) (fun r => ∃ s, RK [] [57] σ s ∧ (∀ q, q < 64 → s.2.2 57 q = σ.2.2 31 q) ∧ r = (kM_copies N 32 58 s).bind fun w2 => (kM_copies N 50 59 w2).bind fun w3 => some w3) ?_ ?_ 64 N σ 0 (by omega) (by omega) ⟨rfl, fun _ _ => rfl, fun q hq => by omega⟩
  · rintro n s k hk ⟨h1, h2, h3⟩
    right
    refine ⟨rS s 57 k (s.2.2 31 k), ?_, h1, fun j hj => (rS_ne _ _ _ _ hj).trans (h2 j hj), fun q hq => ?_⟩
    · show kM_image_28 N (n + 1) s (nI k) = _
      rw [kM_image_28, nI_1]
      exact oif (nI_ge (b := 64) hk (by decide)) (ob1 (r_ld rfl (by show k < 128; omega)) (ob1 (r_st (q := k) rfl (by show k < 64; omega)) rfl))
    · rw [rS_get]
      by_cases e : q = k
      · rw [if_pos ⟨rfl, e⟩, h2 31 (by decide), e]
      · rw [if_neg (fun z => e z.2)]
        exact h3 q (by omega)
  · rintro n s ⟨h1, h2, h3⟩
    refine ⟨s, ⟨fun j _ => by rw [h1], fun j hj => h2 j (fun z => hj (by simp [z]))⟩, h3, ?_⟩
    show kM_image_28 N (n + 1) s (nI 64) = _
    rw [kM_image_28]
    exact oit (nI_le (b := 64) (Nat.le_refl _) (by decide)) rfl
theorem r_row31 {N : Nat} {σ : MS} (hN : 2 ^ 20 < N) : ∃ s, RK [] [31] σ s ∧ (∀ q, q < 64 → s.2.2 31 q = σ.2.2 57 q) ∧ kM_restore_32 N N σ 0 = (kM_copies N 58 32 s).bind fun w2 => (kM_copies N 59 50 w2).bind fun w3 => some (w3, 1) := by
  refine y_loop (fun n (s : MS) k => kM_restore_32 N n s (nI k)) 64 (fun s k => s.1 = σ.1 ∧ (∀ j, j ≠ 31 → s.2.2 j = σ.2.2 j) ∧ ∀ q, q < k → s.2.2 31 q = σ.2.2 57 q) (fun r => ∃ s, RK [] [31] σ s ∧ (∀ q, q < 64 → s.2.2 31 q = σ.2.2 57 q) ∧ r = (kM_copies N 58 32 s).bind fun w2 => (kM_copies N 59 50 w2).bind fun w3 => some (w3, 1)) ?_ ?_ 64 N σ 0 (by omega) (by omega) ⟨rfl, fun _ _ => rfl, fun q hq => by omega⟩
  · rintro n s k hk ⟨h1, h2, h3⟩
    right
    refine ⟨rS s 31 k (s.2.2 57 k), ?_, h1, fun j hj => (rS_ne _ _ _ _ hj).trans (h2 j hj), fun q hq => ?_⟩
    · show kM_restore_32 N (n + 1) s (nI k) = _
      rw [kM_restore_32, nI_1]
      exact oif (nI_ge (b := 64) hk (by decide)) (ob1 (r_ld rfl (by show k < 64; omega)) (ob1 (r_st (q := k) rfl (by show k < 128; omega)) rfl))
    · rw [rS_get]
      by_cases e : q = k
      · rw [if_pos ⟨rfl, e⟩, h2 57 (by decide), e]
      · rw [if_neg (fun z => e z.2)]
        exact h3 q (by omega)
  · rintro n s ⟨h1, h2, h3⟩
    refine ⟨s, ⟨fun j _ => by rw [h1], fun j hj => h2 j (fun z => hj (by simp [z]))⟩, h3, ?_⟩
    show kM_restore_32 N (n + 1) s (nI 64) = _
    rw [kM_restore_32]
    exact oit (nI_le (b := 64) (Nat.le_refl _) (by decide)) rfl
theorem RActs.to {C : CC} {x : Int32} {ρ ρ1 : Nat → Int32} {as : List MN} (h : RActs C x ρ as) (h9 : C.1 ≤ 9) (hl : as.length ≤ 40) (hq : ∀ q, q < 2560 → ρ1 q = ρ q) : RActs C x ρ1 as := ⟨h.1, fun i m hm => by
  have hi := (List.getElem?_eq_some_iff.mp hm).1
  exact (h.2 i m hm).of h9 (fun q hq2 => hq _ (by omega))⟩
theorem RHeard.to {x : Int32} {ρ ρ1 : Nat → Int32} {hs : List HT} (h : RHeard x ρ hs) (hl : hs.length ≤ 8) (hq : ∀ q, q < 24 → ρ1 q = ρ q) : RHeard x ρ1 hs := ⟨h.1, fun i y hy => by
  have hi := (List.getElem?_eq_some_iff.mp hy).1
  rw [hq _ (by omega), hq _ (by omega), hq _ (by omega)]
  exact h.2 i y hy⟩
theorem r_image {N : Nat} {M : MT} {T : Int} {σ : MS} (hN : 2 ^ 20 < N) (h : RRel N M σ) (hM : MOk T M) (m : MN) : ∃ σ1, kM_image N σ = some σ1 ∧ RRel N (sIm M (some (mBe m (tV M), tA M, tH M))) σ1 := by
  obtain ⟨σ0, hσ0⟩ : ∃ σ0, σ0 = m_put (m_put (m_put (m_put σ 0 0) 54 1) 55 (σ.1 33)) 56 (σ.1 49) := ⟨_, rfl⟩
  have i0 : ∀ j, j ∉ [0, 54, 55, 56] → σ0.1 j = σ.1 j := fun j hj => by
    simp at hj
    rw [hσ0, mp_n _ _ _ (by omega), mp_n _ _ _ (by omega), mp_n _ _ _ (by omega), mp_n _ _ _ (by omega)]
  have a0 : ∀ j, σ0.2.2 j = σ.2.2 j := fun j => by rw [hσ0]; rfl
  have i54 : σ0.1 54 = 1 := by rw [hσ0, mp_n _ _ _ (by decide), mp_n _ _ _ (by decide), mp_s]
  have i55 : σ0.1 55 = σ.1 33 := by rw [hσ0, mp_n _ _ _ (by decide), mp_s]
  have i56 : σ0.1 56 = σ.1 49 := by rw [hσ0, mp_s]
  obtain ⟨s1, p1, p2, p3⟩ := r_row57 (σ := σ0) hN
  obtain ⟨s2, q1, q2, q3⟩ := r_copies (N := N) (σ := s1) (k1 := 32) (k2 := 58) hN (by decide) (Nat.le_refl 2560) (show 2560 < 2 ^ 20 by decide)
  obtain ⟨s3, u1, u2, u3⟩ := r_copies (N := N) (σ := s2) (k1 := 50) (k2 := 59) hN (by decide) (Nat.le_refl 24) (show 24 < 2 ^ 20 by decide)
  have I3 : ∀ j, s3.1 j = σ0.1 j := fun j => (u2.1 j (by simp)).trans ((q2.1 j (by simp)).trans (p1.1 j (by simp)))
  have A3 : ∀ j, j ∉ [57, 58, 59] → s3.2.2 j = σ.2.2 j := fun j hj => by
    simp at hj
    exact (u2.2 j (by simp; omega)).trans ((q2.2 j (by simp; omega)).trans ((p1.2 j (by simp; omega)).trans (a0 j)))
  have e57 : ∀ q, q < 64 → s3.2.2 57 q = σ.2.2 31 q := fun q hq => by
    rw [u2.2 57 (by decide), q2.2 57 (by decide), p2 q hq, a0]
  have e58 : ∀ q, q < 2560 → s3.2.2 58 q = σ.2.2 32 q := fun q hq => by
    rw [u2.2 58 (by decide), q3 q hq, p1.2 32 (by decide), a0]
  have e59 : ∀ q, q < 24 → s3.2.2 59 q = σ.2.2 50 q := fun q hq => by
    rw [u3 q hq, q2.2 50 (by decide), p1.2 50 (by decide), a0]
  refine ⟨s3, ?_, ?_⟩
  · unfold kM_image
    refine onb rfl (onb rfl (onb rfl (onb (v := σ0) ?_ ?_)))
    · rw [hσ0]
      rfl
    · rw [p3]
      exact ob1 q1 (ob1 u1 rfl)
  · obtain ⟨b1, b2, b3, b4, b5, b6, b7, b8, b9, b10⟩ := h
    refine ⟨?_, ?_, ?_, ?_, ⟨?_, ?_, ?_, ?_⟩, ?_, ?_, ?_, ?_, ?_⟩
    · show RC N s3 (tC M)
      unfold RC at b1 ⊢
      rw [I3, I3, I3, i0 1 (by decide), i0 2 (by decide), i0 3 (by decide), A3 4 (by decide), A3 5 (by decide)]
      exact b1
    · show RowR (s3.2.2 31) 0 (tC M) (tV M)
      rw [A3 31 (by decide)]
      exact b2
    · show RActs (tC M) (s3.1 33) (s3.2.2 32) (tA M)
      rw [I3, i0 33 (by decide), A3 32 (by decide)]
      exact b3
    · show RHeard (s3.1 49) (s3.2.2 50) (tH M)
      rw [I3, i0 49 (by decide), A3 50 (by decide)]
      exact b4
    · rw [I3]; exact i54
    · exact mBe_Row m hM.1 (b2.of hM.1 (fun q hq => by rw [Nat.zero_add]; exact e57 q hq))
    · show RActs (tC M) (s3.1 55) (s3.2.2 58) (tA M)
      rw [I3, i55]
      exact b3.to hM.1 hM.2.2.2.1.1 e58
    · show RHeard (s3.1 56) (s3.2.2 59) (tH M)
      rw [I3, i56]
      exact b4.to hM.2.2.2.2.1.1 e59
    · rw [I3, i0 40 (by decide)]; exact b6
    · rw [I3, i0 7 (by decide)]; exact b7
    · intro i hi
      rw [A3 6 (by decide)]; exact b8 i hi
    · rw [I3, i0 9 (by decide)]; exact b9
    · intro i hi
      rw [A3 10 (by decide)]; exact b10 i hi
theorem r_restore {N : Nat} {M : MT} {T : Int} {σ : MS} (hN : 2 ^ 20 < N) (h : RRel N M σ) (hM : MOk T M) {m : MN} {as : List MN} {hs : List HT} (hI : tI M = some (m, as, hs)) (m1 : MN) : ∃ σ1, kM_restore N σ = some (σ1, 1) ∧ RRel N (tC M, mBe m1 m, as, hs, tI M, tT M, tN M, tF M, tR M) σ1 := by
  obtain ⟨b1, b2, b3, b4, b5, b6, b7, b8, b9, b10⟩ := h
  have b5' := b5
  unfold RImg at b5
  rw [hI] at b5
  obtain ⟨y1, y2, y3, y4⟩ := b5
  have hm := hM.2.2.2.2.2.1
  rw [hI] at hm
  obtain ⟨-, ⟨z1, -⟩, z2, -⟩ := hm
  obtain ⟨σ0, hσ0⟩ : ∃ σ0, σ0 = m_put (m_put (m_put σ 0 0) 33 (σ.1 55)) 49 (σ.1 56) := ⟨_, rfl⟩
  have i0 : ∀ j, j ∉ [0, 33, 49] → σ0.1 j = σ.1 j := fun j hj => by
    simp at hj
    rw [hσ0, mp_n _ _ _ (by omega), mp_n _ _ _ (by omega), mp_n _ _ _ (by omega)]
  have a0 : ∀ j, σ0.2.2 j = σ.2.2 j := fun j => by rw [hσ0]; rfl
  have i33 : σ0.1 33 = σ.1 55 := by rw [hσ0, mp_n _ _ _ (by decide), mp_s]
  have i49 : σ0.1 49 = σ.1 56 := by rw [hσ0, mp_s]
  obtain ⟨s1, p1, p2, p3⟩ := r_row31 (σ := σ0) hN
  obtain ⟨s2, q1, q2, q3⟩ := r_copies (N := N) (σ := s1) (k1 := 58) (k2 := 32) hN (by decide) (Nat.le_refl 2560) (show 2560 < 2 ^ 20 by decide)
  obtain ⟨s3, u1, u2, u3⟩ := r_copies (N := N) (σ := s2) (k1 := 59) (k2 := 50) hN (by decide) (Nat.le_refl 24) (show 24 < 2 ^ 20 by decide)
  have I3 : ∀ j, s3.1 j = σ0.1 j := fun j => (u2.1 j (by simp)).trans ((q2.1 j (by simp)).trans (p1.1 j (by simp)))
  have A3 : ∀ j, j ∉ [31, 32, 50] → s3.2.2 j = σ.2.2 j := fun j hj => by
    simp at hj
    exact (u2.2 j (by simp; omega)).trans ((q2.2 j (by simp; omega)).trans ((p1.2 j (by simp; omega)).trans (a0 j)))
  have e31 : ∀ q, q < 64 → s3.2.2 31 q = σ.2.2 57 q := fun q hq => by
    rw [u2.2 31 (by decide), q2.2 31 (by decide), p2 q hq, a0]
  have e32 : ∀ q, q < 2560 → s3.2.2 32 q = σ.2.2 58 q := fun q hq => by
    rw [u2.2 32 (by decide), q3 q hq, p1.2 58 (by decide), a0]
  have e50 : ∀ q, q < 24 → s3.2.2 50 q = σ.2.2 59 q := fun q hq => by
    rw [u3 q hq, q2.2 59 (by decide), p1.2 59 (by decide), a0]
  refine ⟨s3, ?_, ?_⟩
  · unfold kM_restore
    refine onb rfl (oif ?_ (onb rfl (onb (v := σ0) ?_ ?_)))
    · show ¬ (m_put σ 0 0).1 54 = 0
      rw [mp_n _ _ _ (by decide), y1]
      decide
    · rw [hσ0]
      rfl
    · rw [p3]
      exact ob1 q1 (ob1 u1 rfl)
  · refine ⟨?_, ?_, ?_, ?_, ?_, ?_, ?_, ?_, ?_, ?_⟩
    · show RC N s3 (tC M)
      unfold RC at b1 ⊢
      rw [I3, I3, I3, i0 1 (by decide), i0 2 (by decide), i0 3 (by decide), A3 4 (by decide), A3 5 (by decide)]
      exact b1
    · exact mBe_Row m1 hM.1 (y2.of hM.1 (fun q hq => by rw [Nat.zero_add]; exact e31 q hq))
    · show RActs (tC M) (s3.1 33) (s3.2.2 32) as
      rw [I3, i33]
      exact y3.to hM.1 z1 e32
    · show RHeard (s3.1 49) (s3.2.2 50) hs
      rw [I3, i49]
      exact y4.to z2 e50
    · show RImg s3 (tC M) (tI M)
      unfold RImg at b5' ⊢
      rw [I3, I3, I3, i0 54 (by decide), i0 55 (by decide), i0 56 (by decide), A3 57 (by decide), A3 58 (by decide), A3 59 (by decide)]
      exact b5'
    · rw [I3, i0 40 (by decide)]; exact b6
    · rw [I3, i0 7 (by decide)]; exact b7
    · intro i hi
      rw [A3 6 (by decide)]; exact b8 i hi
    · rw [I3, i0 9 (by decide)]; exact b9
    · intro i hi
      rw [A3 10 (by decide)]; exact b10 i hi
