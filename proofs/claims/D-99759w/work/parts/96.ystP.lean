/-! plain law: the relation at the start -/
noncomputable def unG (S : XS) (P : Nat → Prop) : XS := (S.1, S.2.1, S.2.2.1, S.2.2.2.1, S.2.2.2.2.1, S.2.2.2.2.2.1, fun q => @ite _ (P q) (Classical.propDecidable _) none (xG S q))
theorem unG_n {S : XS} {P : Nat → Prop} {q : Nat} (h : ¬ P q) : xG (unG S P) q = xG S q := if_neg h
theorem unG_g {S : XS} {P : Nat → Prop} {q : Nat} {e : GE} (h : genAt S q e) (hq : ¬ P q) : genAt (unG S P) q e := ⟨h.1, (unG_n hq).trans h.2⟩
theorem unG_cell {S : XS} {P : Nat → Prop} (hP : ∀ q, P q → (xOwn S q).1 = 0) {q : Nat} {e : GE} (h : x_cell (unG S P) q = some e) : x_cell S q = some e ∧ ¬ P q := by
  have hF : ∀ c a, x_F (unG S P) c a = x_F S c a := fun _ _ => rfl
  by_cases p : P q
  · have h0 := hP q p
    have : x_cell (unG S P) q = xG (unG S P) q := by
      unfold x_cell
      have h0' : (xOwn (unG S P) q).1 = 0 := h0
      rw [if_pos h0']
    rw [this] at h
    have h : (@ite _ (P q) (Classical.propDecidable _) none (xG S q)) = some e := h
    rw [if_pos p] at h
    cases h
  · refine ⟨?_, p⟩
    rw [← h]
    unfold x_cell
    have e1 : xOwn (unG S P) q = xOwn S q := rfl
    rw [e1, unG_n p]
    rfl
def xS0 (n s c k : Nat) : XS := ((n, s, c, k), fun _ _ => 0, fun _ _ => none, fun _ _ _ => 0, fun _ => (0, 0, 0), fun _ _ => 0, fun _ => none)
theorem xS0_cell (n s c k q : Nat) : x_cell (xS0 n s c k) q = none := by
  unfold x_cell
  exact if_pos rfl
theorem xS0_WF (n s c k : Nat) : WFr (xS0 n s c k) := ⟨⟨fun a h => absurd rfl h, fun q h => absurd h (by show ¬ 10 ≤ 0; omega)⟩, fun q e h => by rw [xS0_cell] at h; cases h⟩
theorem moI_lt : ∀ k, k < 60 → (m_kd k = 1 ∨ m_kd k = 2) → moI k < 30 := by decide +kernel
theorem jR_mo {m : Nat} {ci cb : ClassId} {q : Nat} (h : jR (moG m ci cb) q) : m ≤ q ∧ q < m + 31 := by
  rcases h with h | ⟨k, hk, h⟩
  · have h : q = m := h
    omega
  · have h : q = m + 1 + moI k := h
    have := moI_lt k (m_kd_lt hk) hk
    omega
theorem jG_mo (m n0 : Nat) (ci cb : ClassId) (h : n0 ≤ m) : jG (moG m ci cb) n0 := by
  refine ⟨fun q hq => ?_, fun k hk => ?_, fun j k hj hk hne z => ?_⟩
  · have := jR_mo hq
    omega
  · show m + 1 + moI k ≠ m
    omega
  · have z : m + 1 + moI j = m + 1 + moI k := z
    exact hne (moI_inj j (m_kd_lt hj) k (m_kd_lt hk) hj hk (by omega))
def M00 (V : MN) : MT := ((0, fun _ => 0, none, none), V, [], [], none, fun _ => 0, 0, -1, fun _ => 0)
theorem y_start {g : XC} {N n0 oa : Nat} {S1 S : XS} {ci cb : ClassId} (hG : GOk g (n0 + 58)) (hW1 : WFr S1) (ht1 : xTop S1 = n0 + 26) (hX : X1S g n0 S1) (hE : XE (fun _ => False) S1 S) (ht : xTop S = n0 + 58) (hoa : oa = n0 + 57) (hl : ∃ f, genAt S oa (.inl (2, 1, .inr (.inl f)))) (hm : ∀ q, jR (moG (n0 + 26) ci cb) q → (xOwn S q).1 = 0) : yRel g N n0 oa 0 (n0 + 58) (unG S (jR (moG (n0 + 26) ci cb))).2 mo0 := by
  obtain ⟨h1, h2, ⟨h31, h32, h33, h34⟩, h4, h5, h6, h7, h8, h9⟩ := hX
  have hP : ∀ q, q < n0 + 26 → ¬ jR (moG (n0 + 26) ci cb) q := fun q hq z => by have := jR_mo z; omega
  have hPo : ¬ jR (moG (n0 + 26) ci cb) oa := fun z => by have := jR_mo z; omega
  have hs : ∀ q, q < n0 + 26 → tSame S1 S q := fun q hq => hE.2.2.2.2.2 q (by omega) (fun z => z)
  have n4 := h4.xe hW1 hE (fun z => z)
  have n5 := h5.xe hW1 hE (fun z => z)
  have g6 := h6.xe hW1 hE (fun z => z)
  have l7 := h7.xe hE (fun q hq => ⟨by omega, fun z => z⟩)
  have l8 := h8.xe hE (fun q hq => ⟨by omega, fun z => z⟩)
  have l9 := h9.xe hE (fun q hq => ⟨by omega, fun z => z⟩)
  have hx := hs n0 (by omega)
  have ty1 : tyA S 1 n0 := ⟨hx.1.trans h1.1, h1.2⟩
  generalize hU : unG S (jR (moG (n0 + 26) ci cb)) = U
  have uO : ∀ q, xOwn U q = xOwn S q := fun q => by rw [← hU]; rfl
  have uI : ∀ q, xI U q = xI S q := fun q => by rw [← hU]; rfl
  have uR : ∀ q, xR U q = xR S q := fun q => by rw [← hU]; rfl
  have uA : ∀ q, xA U q = xA S q := fun q => by rw [← hU]; rfl
  have uW : xWF U := by rw [← hU]; exact hE.1.1
  have uG : ∀ q, q < n0 + 26 → xG U q = xG S q := fun q hq => by rw [← hU]; exact unG_n (hP q hq)
  have uc : ∀ q e, x_cell U q = some e → q < n0 + 58 := fun q e h => by
    rw [← hU] at h
    have := hE.1.2 q e (unG_cell hm h).1
    omega
  have uo : ∃ f, genAt U oa (.inl (2, 1, .inr (.inl f))) := by
    obtain ⟨f, hf⟩ := hl
    exact ⟨f, by rw [← hU]; exact unG_g hf hPo⟩
  clear hU
  obtain ⟨tp, τ⟩ := U
  show yRel g N n0 oa 0 (n0 + 58) τ mo0
  have ul : ∀ {Y : Nat → Prop} {l : Nat} {rs : List Nat}, ListAt g Y S l rs → (∀ q, Y q → q < n0 + 26) → ListAt g Y ((n0 + 58, 0, 0, 0), τ) l rs := fun h hq => h.fr (fun q hy => ⟨uO q, uG q (hq q hy)⟩)
  have lv : ListAt g (fun q => q = n0 + 2 ∨ q = n0 + 3) ((n0 + 58, 0, 0, 0), τ) (n0 + 3) [] := (ul l7 (fun q hq => by omega)).mono (fun q hq => Or.inr hq)
  have la := ul l8 (fun q hq => by omega)
  have lh := ul l9 (fun q hq => by omega)
  have gcv : genAt ((n0 + 58, 0, 0, 0), τ) (n0 + 2) (.inr (3, [.ref (n0 + 3), .null, .null])) := ⟨(uO _).trans g6.1, (uG _ (by omega)).trans g6.2⟩
  have nc : ∀ t, NX S t n0 → t ≠ n0 → NC ((n0 + 58, 0, 0, 0), τ) t n0 := fun t h hne => ⟨⟨(uO n0).trans ty1.1, ty1.2⟩, ⟨(uO t).trans h.1.1, h.1.2⟩, hne, uW, (congrFun (uR t) 15).trans h.2.1⟩
  have hc : ∀ q, (q = n0 + 2 ∨ q = n0 + 3) ∨ q = n0 + 24 ∨ q = n0 + 25 → ∃ e, x_cell ((n0 + 58, 0, 0, 0), τ) q = some e := by
    rintro q ((rfl | rfl) | rfl | rfl)
    · exact ⟨_, g_cell gcv⟩
    · obtain ⟨-, mc, ba, hz, -⟩ := lv
      exact ⟨_, g_cell hz.2⟩
    · obtain ⟨-, mc, ba, hz, -⟩ := la
      exact ⟨_, g_cell hz.2⟩
    · obtain ⟨-, mc, ba, hz, -⟩ := lh
      exact ⟨_, g_cell hz.2⟩
  have hI4 : ∀ j, j = 6 ∨ j = 7 ∨ j = 8 ∨ j = 9 ∨ j = 10 → yI (yMN ((n0 + 58, 0, 0, 0), τ) (n0 + 4)) j = 0 := fun j hj => (congrFun (uI (n0 + 4)) j).trans (n4.2.2 j hj)
  have hr : ∀ j, xR ((n0 + 58, 0, 0, 0), τ) n0 j = xR S1 n0 j := fun j => (congrFun (uR n0) j).trans (by rw [hx.2.2.1])
  have hi : ∀ j, xI ((n0 + 58, 0, 0, 0), τ) n0 j = xI S1 n0 j := fun j => (congrFun (uI n0) j).trans (by rw [hx.2.1])
  have ha : ∀ i, xA ((n0 + 58, 0, 0, 0), τ) n0 7 i = 0 := fun i => (congrFun (congrFun (uA n0) 7) i).trans ((by rw [hx.2.2.2.1] : xA S n0 7 i = xA S1 n0 7 i).trans (h34 i))
  refine ⟨M00 (yMN ((n0 + 58, 0, 0, 0), τ) (n0 + 4)), fun q => q = n0 + 2 ∨ q = n0 + 3, fun q => q = n0 + 24, fun q => q = n0 + 25, n0 + 4, n0 + 13, n0 + 2, n0 + 24, n0 + 25, [], [], ⟨?_, nc _ n5 (by omega), ?_, ?_, ⟨la, rfl, fun i r m h => by cases h⟩, ⟨lh, rfl, fun i r m h => by cases h⟩, ?_, uo, ?_, ?_, ?_⟩, uc, hG, ?_, ?_⟩
  · exact ⟨nc _ n4 (by omega), rfl, fun j i => (iI_t _).symm⟩
  · exact ⟨(hr 1).trans h2.1, (hr 2).trans h2.2.1, (hr 3).trans h2.2.2.1, (hr 8).trans h2.2.2.2.1, (hr 9).trans h2.2.2.2.2⟩
  · exact ⟨by show 0 ≤ 9; omega, fun k hk => absurd hk (Nat.not_lt_zero _), n0 + 3, none, none, [], ⟨Or.inl rfl, gcv⟩, lv, rfl, fun i hi => absurd hi (Nat.not_lt_zero _), rfl, rfl⟩
  · exact (hr 10).trans h31
  · refine ⟨fun q hq => ?_, fun q hq => ?_, fun q hq => ?_, by omega, by omega, by omega, by omega⟩ <;> omega
  · exact fun q hq => hc q hq
  · exact ⟨fun i hi => absurd hi (Nat.not_lt_zero _), (hi 5).trans h32, (hi 6).trans h33, fun i _ => ha i⟩
  · exact ⟨⟨rfl, fun k hk => absurd hk (Nat.not_lt_zero _), rfl, rfl⟩, ⟨(hI4 6 (by omega)).symm, fun k hk => absurd hk (Nat.not_lt_zero _)⟩, ⟨rfl, fun i m h => by cases h⟩, ⟨rfl, fun i x h => by cases h⟩, rfl, rfl, rfl, fun i hi => absurd hi (Nat.not_lt_zero _), rfl, fun i _ => rfl⟩
  · refine ⟨by show 0 ≤ 9; omega, fun k hk => absurd hk (Nat.not_lt_zero _), ⟨⟨fun k hk => absurd hk (Nat.not_lt_zero _), fun k hk => absurd hk (Nat.not_lt_zero _)⟩, hI4 8 (by omega), hI4 9 (by omega), hI4 10 (by omega), 0, Nat.two_pow_pos _, hI4 7 (by omega)⟩, ⟨by show 0 ≤ 40; omega, fun m hm => by cases hm⟩, ⟨by show 0 ≤ 8; omega, fun x hx => by cases hx⟩, trivial, by show 0 ≤ 700; omega, fun i hi => absurd hi (Nat.not_lt_zero _)⟩
