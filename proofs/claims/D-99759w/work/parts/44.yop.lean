/-! plain law: operations, their common parts -/
def OC (g : XC) (Z : Nat → Prop) (S : XS) (xa na ta : Nat) (C : CC) (V : MN) : Prop := NW g Z S ta xa C ∧ NightAt S na xa V ∧ na ≠ ta ∧ xR S xa 2 = some na ∧ xR S xa 3 = some ta
section OCs
variable {g : XC} {Z : Nat → Prop} {N : Nat} {S : XS} {xa na ta : Nat} {C : CC} {V m : MN} {w : Nat → Int32} {T : Int}
theorem OC.spr (h : OC g Z S xa na ta C V) : C.1 ≤ 9 ∧ ∀ k, k < C.1 → 0 ≤ C.2.1 k ∧ C.2.1 k ≤ 20 := ⟨h.1.le9, fun k hk => h.1.spr hk⟩
theorem oc_cls (h : OC g Z S xa na ta C V) : f_cls (nset S ta xa m w) 1 xa = some () := n_cls1 h.1.1
theorem oc_ta (h : OC g Z S xa na ta C V) : f_obj (nset S ta xa m w) 1 xa 3 = some ta := f_obj_T (S := nset S ta xa m w) h.1.1.1 (by decide) (by decide) h.2.2.2.2
theorem oc_na (h : OC g Z S xa na ta C V) : f_obj (nset S ta xa m w) 1 xa 2 = some na := f_obj_T (S := nset S ta xa m w) h.1.1.1 (by decide) (by decide) h.2.2.2.1
theorem oc_V (h : OC g Z S xa na ta C V) : NightAt (nset S ta xa m w) na xa V := h.2.1.onset h.2.2.1 m w
theorem oc_be (h : OC g Z S xa na ta C V) (hN : 2 ^ 20 < N) : kX_X3_be g N (nset S ta xa m w) ta na = some (nset S ta xa (mBe m V) w, ta) := x_be hN h.1.1 h.2.1 h.2.2.1
theorem oc_cup1 (h : OC g Z S xa na ta C V) {c : Nat} (hc : c < C.1) : kX_X1_aCup g N (nset S ta xa m w) xa (nI c) = some (.inl (nset S ta xa m w)) := by
  obtain ⟨cv, h1, h2⟩ := h.1.f1 (m := m) (w := w)
  exact x_aCup1 h1 h2 hc
theorem oc_cup0 (h : OC g Z S xa na ta C V) (hr : yRm S) {x : Int32} (hx : x < 0 ∨ nI C.1 ≤ x) : kX_X1_aCup g N (nset S ta xa m w) xa x = some (.inr (nset S ta xa m w, 0, 0)) := by
  obtain ⟨cv, h1, h2⟩ := h.1.f1 (m := m) (w := w)
  exact x_aCup0 h1 h2 hr hx
theorem oc_cups (h : OC g Z S xa na ta C V) {β : Type} {F : XS × Int32 → Option β} {R : Option β} (k : F (nset S ta xa m w, nI C.1) = R) :
    ((f_obj (nset S ta xa m w) 1 xa 1).bind fun v2 => (f_cls (nset S ta xa m w) 3 v2).bind fun _ => (kX_X2_cups g N (nset S ta xa m w) v2).bind F) = R := by
  obtain ⟨cv, h1, h2⟩ := h.1.f1 (m := m) (w := w)
  exact c_cups0 h1 h2 k
theorem oc_spr (h : OC g Z S xa na ta C V) {i : Nat} (hi : i < C.1) {β : Type} {F : XS × Int32 → Option β} {R : Option β} (k : F (nset S ta xa m w, iI (C.2.1 i)) = R) :
    ((f_obj (nset S ta xa m w) 1 xa 1).bind fun v3 => (f_obj (nset S ta xa m w) 3 v3 0).bind fun v4 => (f_cls (nset S ta xa m w) 10 v4).bind fun _ => (kX_J2_get g N (nset S ta xa m w) v4 (nI i)).bind fun w6 => (gIv g w6.2).bind fun _ => (gIv g w6.2).bind fun _ => (kX_J19_intValue g N w6.1 w6.2).bind F) = R := by
  obtain ⟨cv, h1, h2⟩ := h.1.f1 (m := m) (w := w)
  exact c_spr0 h1 h2 hi k
theorem oc_pass (h : OC g Z S xa na ta C V) (hN : 2 ^ 20 < N) (hT : T ≤ 900000000) (hm : YN C m T) : ∃ w1, kX_X3_pass g N (nset S ta xa m w) ta = some (nset S ta xa (mPass C m) w1, ta) := x_pass h.1 hN hT hm
theorem oc_tryOn (h : OC g Z S xa na ta C V) (hN : 2 ^ 20 < N) {n : Nat} (hn : n ≤ 5000) (hT : T + 40000 * n ≤ 900000000) (hm : YG C V T) : ∃ w1, kX_X1_tryOn g N (nset S ta xa m w) xa (nI n) = some (nset S ta xa (yRep (mPass C) n (mBe m V)) w1, ta) := by
  obtain ⟨w1, hw⟩ := x_after (m := mBe m V) (w := w) (T := T) h.1 hN hn hT (mBe_YN m h.spr.1 hm)
  refine ⟨w1, ?_⟩
  unfold kX_X1_tryOn
  exact ob1 (oc_ta h) (ob1 (oc_na h) (ob1 (n_cls h.1.1) (ob1 (oc_be h hN) (ob1 (n_cls h.1.1) (ob1 hw rfl)))))
end OCs
/-! the law's wrappers -/
def yW (h : XT → Option (XS × Int32)) (x : Option ((XS × Int32) ⊕ XT)) (oa : Nat) : Option (XS × Int32) := hbind x h fun r3 => (a_putJ r3.1 oa 0 ((r3.2 : Int32).toInt64)).bind fun S5 => some (S5, 0)
def yH0 (u : XT) : Option (XS × Int32) := if u.2.1 = 0 then some (u.1, 1) else none
def yH1 (u : XT) : Option (XS × Int32) := if u.2.1 = 1 then some (u.1, 1) else none
def yH2 (u : XT) : Option (XS × Int32) := if u.2.1 = 0 then some (u.1, 1) else if u.2.1 = 1 then some (u.1, 2) else none
def yBody (g : XC) (N xa oa i n : Nat) (Z Ya Yh : Nat → Prop) (na ta cv la lh : Nat) (ra rh : List Nat) (M : MT) (τ : XL) (σ : MS) : Prop := CRq g xa oa Z Ya Yh na ta cv la lh ra rh M ((n, 0, 0, 0), τ) ∧ (∀ q e, x_cell ((n, 0, 0, 0), τ) q = some e → q < n) ∧ GOk g n ∧ RRel N M σ ∧ MOk (yT i) M
theorem YN.le {C : CC} {m : MN} {T T1 : Int} (h : YN C m T) (hT : T ≤ T1) : YN C m T1 := ⟨fun k hk => by
  obtain ⟨a0, a1, a2, a3, a4, a5, a6, a7, a8⟩ := h.1 k hk
  exact ⟨a0, a1, a2, a3, a4, a5, a6, a7, by omega⟩, h.2⟩
theorem YP.le {C : CC} {m : MN} {T T1 : Int} (h : YP C m T) (hT : T ≤ T1) : YP C m T1 := ⟨h.1.le hT, h.2⟩
theorem MOk.le {M : MT} {T T1 : Int} (h : MOk T M) (hT : T ≤ T1) : MOk T1 M := by
  obtain ⟨a1, a2, a3, ⟨a4, a5⟩, a6, a7, a8, a9⟩ := h
  refine ⟨a1, a2, a3.le hT, ⟨a4, fun m hm => (a5 m hm).le hT⟩, a6, ?_, a8, a9⟩
  revert a7
  generalize tI M = I
  intro a7
  match I with
  | none => exact True.intro
  | some (m, as, hs) => exact ⟨a7.1.le hT, ⟨a7.2.1.1, fun m hm => (a7.2.1.2 m hm).le hT⟩, a7.2.2⟩
theorem GOk.le {g : XC} {n n1 : Nat} (h : GOk g n) (hn : n ≤ n1) : GOk g n1 := ⟨Nat.lt_of_lt_of_le h.1 hn, Nat.lt_of_lt_of_le h.2.1 hn, h.2.2.1, h.2.2.2.1, fun k hk => Nat.lt_of_lt_of_le (h.2.2.2.2 k hk) hn⟩
section FI
variable {g : XC} {N xa oa i n : Nat} {Z Ya Yh : Nat → Prop} {na ta cv la lh : Nat} {ra rh : List Nat} {M : MT} {τ : XL} {σ σ1 : MS} {sl : Nat} {S1 : XS} {r : Int32}
theorem y_open (hB : yBody g N xa oa i n Z Ya Yh na ta cv la lh ra rh M τ σ) (sl c k : Nat) (hc : n + 1 ≤ c) (hk : sl + 6 ≤ k) : OC (jg g c k) Z ((n, sl, c, k), τ) xa na ta (tC M) (tV M) ∧ yRm ((n, sl, c, k), τ) ∧ CRq (jg g c k) xa oa Z Ya Yh na ta cv la lh ra rh M ((n, sl, c, k), τ) ∧ (∀ q e, x_cell ((n, sl, c, k), τ) q = some e → q < n) ∧ nset ((n, sl, c, k), τ) ta xa (yMN ((n, sl, c, k), τ) ta) (xA ((n, sl, c, k), τ) xa 0) = ((n, sl, c, k), τ) := by
  obtain ⟨h1, h2, -, -, -⟩ := hB
  have hg : (jg g c k).2.2.2 = g.2.2.2 := rfl
  have h3 := CRq.g hg (h1.tab (S1 := ((n, sl, c, k), τ)) rfl n h2)
  exact ⟨⟨⟨h3.2.1, cv, h3.2.2.1.1, h3.2.2.2.1⟩, h3.1, h3.2.2.2.2.2.2.2.2.1.2.2.2.2.2.2, h3.2.2.1.2.1, h3.2.2.1.2.2.1⟩, ⟨hc, hk⟩, h3, h2, nset_yMN h3.2.1.2.2.1⟩
theorem y_fin (hB : yBody g N xa oa i n Z Ya Yh na ta cv la lh ra rh M τ σ) {c k : Nat} (hk : KS xa ta oa n ((n, sl, c, k), τ) S1) (hf : RFr σ σ1) (n1 : Nat) (hn : n ≤ n1) (hfr : ∀ q e, x_cell S1 q = some e → q < n1) : yRel g N xa oa (i + 6) n1 S1.2 σ1 := by
  obtain ⟨h1, h2, h3, h4, h5⟩ := hB
  have h6 := (h1.tab (S1 := ((n, sl, c, k), τ)) rfl n h2).keep (n := n) h2 hk
  exact ⟨M, Z, Ya, Yh, na, ta, cv, la, lh, ra, rh, h6.tab (S1 := ((n1, 0, 0, 0), S1.2)) rfl n1 hfr, hfr, h3.le hn, h4.fr h5.1 hf, h5.le (by unfold yT; omega)⟩
theorem fin_ok (hB : yBody g N xa oa i n Z Ya Yh na ta cv la lh ra rh M τ σ) {c k : Nat} {x : Option ((XS × Int32) ⊕ XT)} {h : XT → Option (XS × Int32)} {mop : Option (MS × Int32)} (hx : x = some (.inl (S1, r))) (hk : KS xa ta oa n ((n, sl, c, k), τ) S1) (hm : mop = some (σ1, r)) (h0 : σ1.1 0 = 0) (hf : RFr σ σ1) :
    ∃ (w : XS × Int32) (σ1 : MS) (r : Int32) (σ2 : MS), yW h x oa = some w ∧ mop = some (σ1, r) ∧ kM_thrown N σ1 = some (σ2, w.2) ∧ (w.2 = 0 → a_long w.1 oa 0 = some r.toInt64) ∧ ∀ n1 : Nat, n ≤ n1 → (∀ q e, x_cell w.1 q = some e → q < n1) → yRel g N xa oa (i + 6) n1 w.1.2 σ2 := by
  have hoa0 : ∃ f, genAt ((n, sl, c, k), τ) oa (.inl (2, 1, .inr (.inl f))) := hB.1.2.2.2.2.2.2.2.1
  obtain ⟨f, hf1⟩ := hk.2.2.2.2 hoa0
  refine ⟨(oaSet S1 oa (vp_updL f 0 r.toInt64), 0), σ1, r, σ1, ?_, hm, ?_, fun _ => x_oaGet hf1.1 f _, ?_⟩
  · unfold yW
    exact oh1 hx (ob1 (x_putJ hf1 _) rfl)
  · unfold kM_thrown
    rw [h0]
  · exact y_fin hB (hk.oa hf1.1 _) hf
theorem fin_thr (hB : yBody g N xa oa i n Z Ya Yh na ta cv la lh ra rh M τ σ) {c k : Nat} {x : Option ((XS × Int32) ⊕ XT)} {h : XT → Option (XS × Int32)} {mop : Option (MS × Int32)} {e : Nat} {z : Int32} (hx : x = some (.inr (S1, e, 0))) (hh : h (S1, e, 0) = some (S1, z)) (hk : KS xa ta oa n ((n, sl, c, k), τ) S1) (hm : mop = some (σ1, r)) (h0 : σ1.1 0 = z) (hz : z ≠ 0) (hf : RFr σ σ1) :
    ∃ (w : XS × Int32) (σ1 : MS) (r : Int32) (σ2 : MS), yW h x oa = some w ∧ mop = some (σ1, r) ∧ kM_thrown N σ1 = some (σ2, w.2) ∧ (w.2 = 0 → a_long w.1 oa 0 = some r.toInt64) ∧ ∀ n1 : Nat, n ≤ n1 → (∀ q e, x_cell w.1 q = some e → q < n1) → yRel g N xa oa (i + 6) n1 w.1.2 σ2 := by
  refine ⟨(S1, z), σ1, r, σ1, ?_, hm, ?_, fun z2 => absurd z2 hz, ?_⟩
  · unfold yW
    exact oh2 hx hh
  · unfold kM_thrown
    rw [h0]
  · exact y_fin hB hk hf
end FI
/-- the first steps of the reference's operations -/
theorem RFr.p0 (σ : MS) (v : Int32) : RFr σ (m_put σ 0 v) := RFr.put σ 0 v (by decide)
theorem RFr.p00 (σ : MS) (v w : Int32) : RFr σ (m_put (m_put σ 0 v) 0 w) := (RFr.p0 σ v).trans (RFr.p0 _ w)
section RT
variable {N : Nat} {σ : MS} {M : MT} {T : Int} {m : MN}
/-- the tried row, at the start of trying -/
theorem r_try (hN : 2 ^ 20 < N) (hR : RRel N M σ) (hO : MOk T M) (m : MN) {σ1 : MS} (hf : RFr σ σ1) : ∃ σ2, kM_tries N σ1 = some σ2 ∧ FrH 64 σ1 σ2 ∧ RS N σ2 (tC M) (mBe m (tV M)) T := by
  have hR1 := hR.fr hO.1 hf
  obtain ⟨a1, a2, a3, a4, a5, a6, a7⟩ := hR1
  have hV := hO.2.2.1
  refine r_tries hN ⟨hO.1, hO.2.1⟩ a1 (mBe_Row m hO.1 a2) ⟨mBe_0 _ _ _ (Or.inl rfl), Or.inl ⟨a6, mBe_0 _ _ _ (by omega), mBe_0 _ _ _ (by omega)⟩⟩ (mBe_YN m hO.1 hV.1.1)
end RT
