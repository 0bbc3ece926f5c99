/-! plain law: led -/
def gX (t : Nat) : Int := if t = 9 then -1 else t
def gOk (C : CC) (V : MN) (c t : Nat) : Bool := decide (t = 9 ∨ (c < t ∧ t < C.1)) && !pLed V c (gX t)
def gN (V : MN) (c t : Nat) : MN := mLead (mBe V V) c (gX t)
def gG (C : CC) (V : MN) (hs : List HT) (g : Nat) : Bool := gOk C V (g / 10) (g % 10) && hrB C hs (gN V (g / 10) (g % 10)) 40
def gL (C : CC) (V : MN) (hs : List HT) (g : Nat) : List Nat := (List.range g).filter (gG C V hs)
theorem gL_s (C : CC) (V : MN) (hs : List HT) (g : Nat) : gL C V hs (g + 1) = if gG C V hs g = true then gL C V hs g ++ [g] else gL C V hs g := by
  unfold gL
  rw [List.range_succ, List.filter_append]
  by_cases h : gG C V hs g = true
  · rw [if_pos h]
    simp [h]
  · rw [if_neg h]
    simp [h]
theorem gL_len (C : CC) (V : MN) (hs : List HT) (g : Nat) : (gL C V hs g).length ≤ g := by
  unfold gL
  have := List.length_filter_le (gG C V hs) (List.range g)
  rw [List.length_range] at this
  exact this
theorem gL_mem {C : CC} {V : MN} {hs : List HT} {g x : Nat} (h : x ∈ gL C V hs g) : x < g ∧ gG C V hs x = true := by
  unfold gL at h
  rw [List.mem_filter, List.mem_range] at h
  exact h
theorem gX_ok {C : CC} {V : MN} {c t : Nat} (h : gOk C V c t = true) : gX t = -1 ∨ ((c : Int) < gX t ∧ gX t < C.1) := by
  unfold gOk at h
  rw [Bool.and_eq_true, decide_eq_true_iff] at h
  unfold gX
  rcases h.1 with h1 | h1
  · rw [if_pos h1]; exact Or.inl rfl
  · split
    · exact Or.inl rfl
    · right; omega
theorem YP.gN {C : CC} {V : MN} {T : Int} (h9 : C.1 ≤ 9) (hV : YP C V T) {c t : Nat} (h : gOk C V c t = true) (m : MN) : YN C (mLead (mBe m V) c (gX t)) T := ((hV.be m h9).lead (gX_ok h)).1
section OS
variable {g : XC} {N xa oa n : Nat} {Z Ya Yh : Nat → Prop} {na ta cv la lh : Nat} {ra rh : List Nat} {M : MT} {T : Int} {S S0 S1 : XS} {σ s : MS} {C : CC} {V m : MN} {w : Nat → Int32} {c k t : Nat} {hs : List HT}
/-- hearing tells nothing of what a night was before -/
theorem hr_ind (hN : 2 ^ 20 < N) (hR : RRel N M σ) (hO : MOk T M) (hT : T ≤ 60000000) (hc : c < (tC M).1) (ht : gOk (tC M) (tV M) c t = true) (m : MN) : hrB (tC M) (tH M) (mLead (mBe m (tV M)) c (gX t)) 40 = hrB (tC M) (tH M) (gN (tV M) c t) 40 ∧ (hrB (tC M) (tH M) (gN (tV M) c t) 40 = true → ∀ j, j < 40 → yI (yRep (mPass (tC M)) (j + 1) (mLead (mBe m (tV M)) c (gX t))) 13 = yI (yRep (mPass (tC M)) (j + 1) (gN (tV M) c t)) 13) := by
  have h9 := hO.1
  have hH : ∀ s, FrL (m_put σ 0 0) s → RHeard (s.1 49) (s.2.2 50) (tH M) := fun s hf => by
    rw [hf.1 49 (by decide) (by decide), hf.2.1 50 (by decide) (by decide) (by decide) (by decide) (by decide) (by decide)]
    exact hR.2.2.2.1
  have key : ∀ m, ∃ s2 s3, kM_tries N (m_put σ 0 0) = some s2 ∧ kM_leads N s2 64 (nI c) (iI (gX t)) = some s3 ∧ FrL (m_put σ 0 0) s3 ∧ RS N s3 (tC M) (mLead (mBe m (tV M)) c (gX t)) T := fun m => by
    obtain ⟨s2, a1, a2, a3⟩ := r_try hN hR hO m (RFr.p0 σ 0)
    obtain ⟨s3, u1, u2, u3⟩ := r_leads (N := N) (b := 64) (Or.inr rfl) h9 hc (gX t) a3.2.2.1
    exact ⟨s2, s3, a1, u1, (FrL.h a2).trans (FrL.h u2), a3.row2 u2 u3 (hO.2.2.1.gN h9 ht m) rfl rfl rfl⟩
  obtain ⟨s2, s3, a1, a2, a3, a4⟩ := key m
  obtain ⟨s2', s3', b1, b2, b3, b4⟩ := key (tV M)
  rw [a1] at b1
  obtain rfl := Option.some.inj b1
  rw [a2] at b2
  obtain rfl := Option.some.inj b2
  obtain ⟨x1, c1, c2, c3⟩ := r_isHeard hN hO.2.2.2.2.1.1 (hH _ a3) a4 (by omega)
  obtain ⟨x2, d1, d2, d3⟩ := r_isHeard hN hO.2.2.2.2.1.1 (hH _ a3) b4 (by omega)
  rw [c1] at d1
  have e1 := congrArg Prod.fst (Option.some.inj d1)
  have e2 := congrArg Prod.snd (Option.some.inj d1)
  have e1 : x1 = x2 := e1
  have e2 : (if hrB (tC M) (tH M) (mLead (mBe m (tV M)) c (gX t)) 40 = true then (1 : Int32) else 0) = if hrB (tC M) (tH M) (mLead (mBe (tV M) (tV M)) c (gX t)) 40 = true then 1 else 0 := e2
  have e3 : hrB (tC M) (tH M) (mLead (mBe m (tV M)) c (gX t)) 40 = hrB (tC M) (tH M) (mLead (mBe (tV M) (tV M)) c (gX t)) 40 := by
    cases h1 : hrB (tC M) (tH M) (mLead (mBe m (tV M)) c (gX t)) 40 <;> cases h2 : hrB (tC M) (tH M) (mLead (mBe (tV M) (tV M)) c (gX t)) 40 <;> rw [h1, h2] at e2 <;> first | rfl | (exact absurd e2 (by decide))
  refine ⟨e3, fun hh j hj => ?_⟩
  have hh : hrB (tC M) (tH M) (mLead (mBe (tV M) (tV M)) c (gX t)) 40 = true := hh
  have h1 := c3 (e3.trans hh) j hj
  have h2 := d3 hh j hj
  rw [e1] at h1
  exact h1.symm.trans h2
theorem dm10 {c t : Nat} (ht : t < 10) : (10 * c + t) / 10 = c ∧ (10 * c + t) % 10 = t := by omega
theorem i10 {x : Nat} (hx : x < 1000) : nI x / 10 = nI (x / 10) ∧ nI x - nI x / 10 * 10 = nI (x % 10) := by
  constructor
  · rw [iI_nI, show (10 : Int32) = iI 10 from rfl, iI_div (by omega) ⟨by omega, by omega⟩ (by omega) ⟨by omega, by omega⟩, iI_nI]
    exact congrArg iI (by omega)
  · rw [iI_nI, show (10 : Int32) = iI 10 from rfl, iI_mod (by omega) ⟨by omega, by omega⟩ (by omega) ⟨by omega, by omega⟩, iI_nI]
    exact congrArg iI (by omega)
theorem r_isGuess (hN : 2 ^ 20 < N) (hR : RRel N M σ) (hO : MOk T M) (hT : T ≤ 60000000) {s : MS} (hf : RFr σ s) (hc : c < (tC M).1) (ht : t < 10) : ∃ s1, kM_isGuess N s (nI (10 * c + t)) = some (s1, if gG (tC M) (tV M) (tH M) (10 * c + t) = true then 1 else 0) ∧ FrL s s1 ∧ (gG (tC M) (tV M) (tH M) (10 * c + t) = true → ∀ j, j < 40 → s1.2.2 51 j = yI (yRep (mPass (tC M)) (j + 1) (gN (tV M) c t)) 13) := by
  have h9 := hO.1
  have hRs := hR.fr h9 hf
  have hVg := hO.2.2.1.1.1
  have hYc := hVg c hc
  have eG : gG (tC M) (tV M) (tH M) (10 * c + t) = (gOk (tC M) (tV M) c t && hrB (tC M) (tH M) (gN (tV M) c t) 40) := by
    unfold gG
    rw [(dm10 ht).1, (dm10 ht).2]
  have eq1 := (i10 (x := 10 * c + t) (by omega)).1
  have eq2 := (i10 (x := 10 * c + t) (by omega)).2
  rw [(dm10 ht).1] at eq1
  rw [(dm10 ht).2] at eq2
  -- what is not led is heard
  have h69 : gOk (tC M) (tV M) c t = true → ∃ s1, kM_isGuess_69 N s (nI c) (iI (gX t)) = some (s1, if gG (tC M) (tV M) (tH M) (10 * c + t) = true then 1 else 0) ∧ FrL s s1 ∧ (gG (tC M) (tV M) (tH M) (10 * c + t) = true → ∀ j, j < 40 → s1.2.2 51 j = yI (yRep (mPass (tC M)) (j + 1) (gN (tV M) c t)) 13) := fun hg => by
    obtain ⟨s2, a1, a2, a3⟩ := r_try hN hR hO (tV M) hf
    obtain ⟨s3, u1, u2, u3⟩ := r_leads (N := N) (b := 64) (Or.inr rfl) h9 hc (gX t) a3.2.2.1
    have q3 : RS N s3 (tC M) (gN (tV M) c t) T := a3.row2 u2 u3 (hO.2.2.1.gN h9 hg (tV M)) rfl rfl rfl
    have hH : RHeard (s3.1 49) (s3.2.2 50) (tH M) := by
      rw [u2.1 49 (by decide) (by decide), u2.2.2.1 50 (by decide) (by decide) (by decide) (by decide) (by decide), a2.1 49 (by decide) (by decide), a2.2.2.1 50 (by decide) (by decide) (by decide) (by decide) (by decide)]
      exact hRs.2.2.2.1
    obtain ⟨s4, c1, c2, c3⟩ := r_isHeard hN hO.2.2.2.2.1.1 hH q3 (by omega)
    rw [eG, hg, Bool.true_and]
    refine ⟨s4, ?_, ((FrL.h a2).trans (FrL.h u2)).trans c2, c3⟩
    unfold kM_isGuess_69
    refine ob1 a1 (ob1 u1 (ob1 c1 (oz ?_ rfl)))
    split
    · exact Or.inr rfl
    · exact Or.inl rfl
  have hno : gOk (tC M) (tV M) c t = false → (s, (0 : Int32)) = (s, if gG (tC M) (tV M) (tH M) (10 * c + t) = true then 1 else 0) ∧ FrL s s ∧ (gG (tC M) (tV M) (tH M) (10 * c + t) = true → ∀ j, j < 40 → s.2.2 51 j = yI (yRep (mPass (tC M)) (j + 1) (gN (tV M) c t)) 13) := fun hg => by
    rw [eG, hg, Bool.false_and]
    exact ⟨rfl, FrL.h (FrH.refl _ _), fun z => by cases z⟩
  obtain ⟨b1, b2, b3, b4, b5, b6, b7⟩ := hRs.2.1.2 c hc
  rw [Nat.zero_add] at b3 b4
  have l3 : m_ld s 31 (19 + nI c) = some (iI (yA (tV M) 3 c)) := (r_ldc 19 rfl (by show 19 + c < 128; omega)).trans (by rw [b3])
  have l4 : m_ld s 31 (28 + nI c) = some (iI (if yA (tV M) 4 c = -2 then -1 else yA (tV M) 4 c)) := (r_ldc 28 rfl (by show 28 + c < 128; omega)).trans (by rw [b4])
  obtain ⟨a0, a1, a2, a3, a4, a5, a6, a7, a8⟩ := hYc
  have hgx : -1 ≤ gX t ∧ gX t ≤ 9 := by unfold gX; split <;> omega
  have hled : pLed (tV M) c (gX t) = true ↔ yA (tV M) 4 c = -2 ∧ yA (tV M) 3 c = gX t := pLed_t
  have h41 : decide (t = 9 ∨ (c < t ∧ t < (tC M).1)) = true → ∃ s1, kM_isGuess_41 N s (nI c) (iI (gX t)) = some (s1, if gG (tC M) (tV M) (tH M) (10 * c + t) = true then 1 else 0) ∧ FrL s s1 ∧ (gG (tC M) (tV M) (tH M) (10 * c + t) = true → ∀ j, j < 40 → s1.2.2 51 j = yI (yRep (mPass (tC M)) (j + 1) (gN (tV M) c t)) 13) := fun hd => by
    by_cases hl : pLed (tV M) c (gX t) = true
    · have hg : gOk (tC M) (tV M) c t = false := by unfold gOk; rw [hl]; simp
      obtain ⟨n1, n2, n3⟩ := hno hg
      refine ⟨s, ?_, n2, n3⟩
      rw [← n1]
      unfold kM_isGuess_41
      refine ob1 l4 ?_
      rw [if_pos (hled.mp hl).1]
      exact oit rfl (ob1 l3 (oit (by rw [(hled.mp hl).2]) rfl))
    · have hg : gOk (tC M) (tV M) c t = true := by
        unfold gOk
        rw [hd]
        have : pLed (tV M) c (gX t) = false := by simpa using hl
        rw [this]
        rfl
      obtain ⟨s1, n1, n2⟩ := h69 hg
      refine ⟨s1, ?_, n2⟩
      unfold kM_isGuess_41
      refine ob1 l4 ?_
      by_cases e4 : yA (tV M) 4 c = -2
      · rw [if_pos e4]
        refine oit rfl (ob1 l3 (oif (fun z => hl (hled.mpr ⟨e4, (iI_eq ⟨by omega, by omega⟩ ⟨by omega, by omega⟩).mp z⟩)) n1))
      · rw [if_neg e4]
        refine oif ?_ n1
        rw [show (-1 : Int32) = iI (-1) from rfl, iI_eq ⟨by omega, by omega⟩ ⟨by omega, by omega⟩]
        omega
  have hC1 : s.1 1 = nI (tC M).1 := hRs.1.1
  unfold kM_isGuess
  by_cases e9 : t = 9
  · obtain ⟨s1, n1, n2⟩ := h41 (by simp [e9])
    refine ⟨s1, ?_, n2⟩
    have ex : iI (gX t) = -1 := by unfold gX; rw [if_pos e9]; rfl
    rw [ex] at n1
    refine onb eq1 (onb eq2 (oit (by rw [e9]; rfl) ?_))
    unfold kM_isGuess_22
    exact oit rfl n1
  · have ex : iI (gX t) = nI t := by unfold gX; rw [if_neg e9, iI_nI]
    have n9 : ¬ nI t = 9 := fun z => e9 ((nI_eq (b := 9) (by omega) (by omega)).mp z)
    have hcmp : ∀ R, (∃ s1, kM_isGuess_22 N s (nI c) (nI t) = some (s1, R) ∧ FrL s s1 ∧ (gG (tC M) (tV M) (tH M) (10 * c + t) = true → ∀ j, j < 40 → s1.2.2 51 j = yI (yRep (mPass (tC M)) (j + 1) (gN (tV M) c t)) 13)) → ∃ s1, (bnd (nI (10 * c + t) / 10) fun v1 => bnd (nI (10 * c + t) - nI (10 * c + t) / 10 * 10) fun v2 => if v2 = 9 then kM_isGuess_22 N s v1 (-1) else bnd (nI (10 * c + t) - nI (10 * c + t) / 10 * 10) fun v4 => kM_isGuess_22 N s v1 v4) = some (s1, R) ∧ FrL s s1 ∧ (gG (tC M) (tV M) (tH M) (10 * c + t) = true → ∀ j, j < 40 → s1.2.2 51 j = yI (yRep (mPass (tC M)) (j + 1) (gN (tV M) c t)) 13) := fun R h => by
      obtain ⟨s1, n1, n2⟩ := h
      exact ⟨s1, onb eq1 (onb eq2 (oif n9 (onb eq2 n1))), n2⟩
    refine hcmp _ ?_
    unfold kM_isGuess_22
    by_cases hd : c < t ∧ t < (tC M).1
    · obtain ⟨s1, n1, n2⟩ := h41 (decide_eq_true (Or.inr hd))
      rw [ex] at n1
      exact ⟨s1, oif (nI_m1 (by omega)) (oif (nI_ge hd.1 (by omega)) (oif (by rw [hC1]; exact nI_ge hd.2 (by omega)) n1)), n2⟩
    · have hg : gOk (tC M) (tV M) c t = false := by
        unfold gOk
        rw [decide_eq_false (fun z => z.elim e9 hd), Bool.false_and]
      obtain ⟨n1, n2, n3⟩ := hno hg
      refine ⟨s, ?_, n2, n3⟩
      rw [← n1]
      refine oif (nI_m1 (by omega)) ?_
      by_cases h1 : t ≤ c
      · exact oit (nI_le h1 (by omega)) rfl
      · exact oif (nI_ge (by omega) (by omega)) (oit (by rw [hC1]; exact nI_le (by omega) (by omega)) rfl)
/-! the component -/
theorem x_leadTo (hO : OC g Z S xa na ta C V) (hN : 2 ^ 20 < N) (hc : c < 9) (ht : t < 10) : kX_X1_leadTo g N (nset S ta xa m w) xa (nI (10 * c + t)) = some (nset S ta xa (mLead (mBe m V) c (gX t)) w, ta) := by
  have eq1 := (i10 (x := 10 * c + t) (by omega)).1
  have eq2 := (i10 (x := 10 * c + t) (by omega)).2
  rw [(dm10 ht).1] at eq1
  rw [(dm10 ht).2] at eq2
  have xl := x_lead (g := g) (N := N) (S := S) (a := ta) (xa := xa) (m := mBe m V) (w := w) hO.1.1 hc (gX t)
  have h32 : kX_X1_leadTo_32 g N (nset S ta xa (mBe m V) w) xa ta (nI c) (iI (gX t)) = some (nset S ta xa (mLead (mBe m V) c (gX t)) w, ta) := by
    unfold kX_X1_leadTo_32
    exact ob1 (n_cls hO.1.1) (ob1 xl (ob1 (oc_ta hO) rfl))
  unfold kX_X1_leadTo
  refine ob1 (oc_ta hO) (ob1 (oc_na hO) (ob1 (n_cls hO.1.1) (ob1 (oc_be hO hN) (onb eq1 (onb eq2 ?_)))))
  by_cases e9 : t = 9
  · have ex : iI (gX t) = -1 := by unfold gX; rw [if_pos e9]; rfl
    rw [ex] at h32
    exact oit (by rw [e9]; rfl) h32
  · have ex : iI (gX t) = nI t := by unfold gX; rw [if_neg e9, iI_nI]
    rw [ex] at h32
    exact oif (fun z => e9 ((nI_eq (b := 9) (by omega) (by omega)).mp z)) (onb eq2 h32)
theorem KS.xe (h : KS xa ta oa n S0 S) (hE : XE (fun q => n ≤ q) S S1) (hn : n ≤ xTop S) (hx : xa < n) (ho : oa < n) : KS xa ta oa n S0 S1 := by
  refine h.trans ⟨hE.1.1, fun q hq => ?_, fun j _ => ?_, fun j _ => ?_, fun hf => ?_⟩
  · obtain ⟨t1, t2, t3, t4, t5, t6⟩ := hE.2.2.2.2.2 q (Nat.lt_of_lt_of_le hq hn) (by omega)
    exact ⟨t1, t3, t5, fun _ => t6, fun _ _ => ⟨t2, t4⟩⟩
  · rw [(hE.2.2.2.2.2 xa (Nat.lt_of_lt_of_le hx hn) (by omega)).2.1]
  · rw [(hE.2.2.2.2.2 xa (Nat.lt_of_lt_of_le hx hn) (by omega)).2.2.2.1]
  · obtain ⟨f, hf⟩ := hf
    obtain ⟨t1, t2, t3, t4, t5, t6⟩ := hE.2.2.2.2.2 oa (Nat.lt_of_lt_of_le ho hn) (by omega)
    exact ⟨f, t1.trans hf.1, t6.trans hf.2⟩
/-- a state while trying, with cells of its own behind n -/
def YLS (xa ta oa n : Nat) (S0 S : XS) : Prop := KS xa ta oa n S0 S ∧ WFr S ∧ n ≤ xTop S ∧ xCc S = xCc S0 ∧ xCs S = xCs S0
theorem nset_wf (h : WFr S) (m : MN) (w : Nat → Int32) : WFr (nset S ta xa m w) := h.og h.1 (Nat.le_refl _) (fun _ => ⟨rfl, rfl⟩)
theorem YLS.nset (h : YLS xa ta oa n S0 S) (hx : xa ≠ ta) (m : MN) (w : Nat → Int32) : YLS xa ta oa n S0 (nset S ta xa m w) := ⟨h.1.nset hx m w, nset_wf h.2.1 m w, h.2.2.1, h.2.2.2.1, h.2.2.2.2⟩
theorem YLS.xe (h : YLS xa ta oa n S0 S) (hE : XE (fun q => n ≤ q) S S1) (hx : xa < n) (ho : oa < n) : YLS xa ta oa n S0 S1 := ⟨h.1.xe hE h.2.2.1 hx ho, hE.1, Nat.le_trans h.2.2.1 hE.2.1, hE.2.2.2.1.trans h.2.2.2.1, hE.2.2.2.2.1.trans h.2.2.2.2⟩
theorem XB.ls (hX : XB g N xa oa n Z Ya Yh na ta cv la lh ra rh M T S0) (h : YLS xa ta oa n S0 S) : OC g Z S xa na ta (tC M) (tV M) ∧ HW g Z Yh S xa lh rh (tH M) := by
  have hq := hX.1.keep hX.2.1 h.1
  exact ⟨⟨⟨hq.2.1, cv, hq.2.2.1.1, hq.2.2.2.1⟩, hq.1, hq.2.2.2.2.2.2.2.2.1.2.2.2.2.2.2, hq.2.2.1.2.1, hq.2.2.1.2.2.1⟩, hq.2.2.2.2.2.1.1, hq.2.2.2.2.2.1.2, hq.2.2.1.2.2.2.2, hX.2.2.1.2.2.2.2.1.1⟩
def gIs (g : XC) (l : List Nat) : List Nat := l.map (fun c => gIc g (c + 128))
theorem vb_128 (c : Nat) (hc : c < 100) : vb_c (c + 128) = nI c := by
  unfold vb_c
  show nI (c + 128) - 128 = nI c
  rw [iI_nI, show (128 : Int32) = iI 128 from rfl, iI_sub, iI_nI]
  exact congrArg iI (by omega)
theorem x_valueOf (hg : gSp g 2 = gSp g 2) (hc : k < 100) : kX_J19_valueOf g N S (nI k) = some (S, gIc g (k + 128)) := by
  unfold kX_J19_valueOf
  have e : nI k + 128 = nI (k + 128) := nI_add k 128
  have h1 : ¬ nI k < -128 := by
    rw [show (-128 : Int32) = iI (-128) from rfl, iI_nI, iI_lt ⟨by omega, by omega⟩ ⟨by omega, by omega⟩]
    omega
  refine oif h1 (oif (nI_nlt (a := 127) (by omega) (by omega)) (ob1 (v := gIc g (k + 128)) ?_ rfl))
  rw [e]
  unfold i_at
  rw [nI_clamp (by omega)]
  refine if_pos ⟨rfl, ?_⟩
  have := nI_in (c := k + 128) (N := 256) (by omega) (by decide)
  rw [nI_clamp (by omega)] at this
  exact this
/-- the list of guesses as far as they are gone over -/
def YLL (g : XC) (xa ta oa n : Nat) (S0 : XS) (C : CC) (V : MN) (hs : List HT) (l : Nat) (S : XS) (q : Nat) : Prop := YLS xa ta oa n S0 S ∧ (∃ Y cap, ListC g Y S l (gIs g (gL C V hs q)) cap ∧ ∀ r, Y r → n ≤ r) ∧ n ≤ l ∧ xTop S ≤ n + 1 + (gL C V hs q).length ∧ xSl S ≤ xSl S0 + 3 + 200 * (gL C V hs q).length
theorem any_int (hG : GOk g n) {r : Nat} (h : ∃ c, c < 100 ∧ r = gIc g (c + 128)) : v_any g S r = some () := by
  obtain ⟨c, h1, rfl⟩ := h
  unfold v_any
  rw [hG.2.2.1 (c + 128) (by omega)]
theorem YLL.add (hX : XB g N xa oa n Z Ya Yh na ta cv la lh ra rh M T S0) (h : YLL g xa ta oa n S0 C V hs k S c) (hc : c < 90) (hgd : gG C V hs c = true) : ∃ S1, kX_J2_add g N S k (gIc g (c + 128)) = some (S1, 1) ∧ YLL g xa ta oa n S0 C V hs k S1 (c + 1) := by
  obtain ⟨h1, ⟨Y, cap, h2, h3⟩, h4, h5, h6⟩ := h
  have hG := hX.2.2.2.2.2.2.2
  have hcp := hX.2.2.2.2.2.2.1
  have hn0 := hX.2.2.2.2.2.1
  have hxa : xa < n := hX.2.1 xa _ hX.1.2.1.1.cell
  have hoa : oa < n := by
    obtain ⟨f, hf⟩ := hX.1.2.2.2.2.2.2.2.1
    exact hX.2.1 oa _ (g_cell hf)
  have hlen := gL_len C V hs c
  have hln : (gIs g (gL C V hs c)).length = (gL C V hs c).length := by unfold gIs; rw [List.length_map]
  have hrs : ∀ r ∈ gIs g (gL C V hs c), v_any g S r = some () ∧ r ≠ k := fun r hr => by
    unfold gIs at hr
    rw [List.mem_map] at hr
    obtain ⟨x, hx1, hx2⟩ := hr
    have hx3 := (gL_mem hx1).1
    refine ⟨any_int hG ⟨x, by omega, hx2.symm⟩, ?_⟩
    rw [← hx2]
    have := hG.2.2.2.2 (x + 128) (by omega)
    omega
  have hgc := hG.2.2.2.2 (c + 128) (by omega)
  obtain ⟨S1, Y1, cap1, k1, k2, k3, k4, k5⟩ := l_add (N := N) (v := gIc g (c + 128)) h2 h1.2.1 ⟨by have := hG.1; have := h1.2.2.1; omega, by have := hG.2.1; have := h1.2.2.1; omega⟩ (any_int hG ⟨c, by omega, rfl⟩) (by omega) hrs (by omega) (by rw [h1.2.2.2.1]; omega) (by rw [h1.2.2.2.2, hln]; omega)
  have eL : gL C V hs (c + 1) = gL C V hs c ++ [c] := by rw [gL_s, if_pos hgd]
  have eI : gIs g (gL C V hs (c + 1)) = gIs g (gL C V hs c) ++ [gIc g (c + 128)] := by rw [eL]; unfold gIs; rw [List.map_append]; rfl
  have eln : (gL C V hs (c + 1)).length = (gL C V hs c).length + 1 := by rw [eL, List.length_append]; rfl
  refine ⟨S1, k1, h1.xe (k2.mono (fun q _ hq => h3 q hq)) hxa hoa, ⟨Y1, cap1, by rw [eI]; exact k3, fun r hr => ?_⟩, h4, ?_, ?_⟩
  · rcases k4 r hr with z | z
    · exact h3 r z
    · have := h1.2.2.1
      omega
  · rw [eln]
    rcases k5 with ⟨-, -, z, -⟩ | ⟨-, z, -⟩ <;> omega
  · rw [eln]
    rcases k5 with ⟨-, -, -, z⟩ | ⟨z0, -, z, z2⟩
    · omega
    · have : cap1 ≤ 200 := by
        rw [hln] at z0
        rcases z2 with z2 | z2
        · rw [z2]
          unfold capUp
          split <;> omega
        · omega
      omega
end OS
