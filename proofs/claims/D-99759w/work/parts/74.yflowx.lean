/-! plain law: long numbers; the component's flows -/
def iJ (x : Int) : Int64 := Int64.ofInt x
def yR8 (x : Int) : Prop := -9223372036854775808 ≤ x ∧ x < 9223372036854775808
theorem iJ_add (a b : Int) : iJ a + iJ b = iJ (a + b) := (Int64.ofInt_add a b).symm
theorem iJ_mul (a b : Int) : iJ a * iJ b = iJ (a * b) := (Int64.ofInt_mul a b).symm
theorem iJ_toInt {x : Int} (h : yR8 x) : (iJ x).toInt = x := Int64.toInt_ofInt_of_le h.1 h.2
theorem iI_64 {x : Int} (h : yR x) : (iI x).toInt64 = iJ x := by
  apply Int64.toInt_inj.mp
  rw [Int32.toInt_toInt64, iI_toInt h, iJ_toInt ⟨by have := h.1; omega, by have := h.2; omega⟩]
theorem iJ_32 (x : Int) : (iJ x).toInt32 = iI x := Int64.toInt32_ofInt
theorem iJ_lt {a b : Int} (ha : yR8 a) (hb : yR8 b) : iJ a < iJ b ↔ a < b := by rw [Int64.lt_iff_toInt_lt, iJ_toInt ha, iJ_toInt hb]
theorem iJ_eq {a b : Int} (ha : yR8 a) (hb : yR8 b) : iJ a = iJ b ↔ a = b := by rw [← Int64.toInt_inj, iJ_toInt ha, iJ_toInt hb]
theorem iJ_div {a b : Int} (h0 : 0 ≤ a) (ha : yR8 a) (h1 : 0 < b) (hb : yR8 b) : iJ a / iJ b = iJ (a / b) := by
  have h2 : a / b ≤ a := Int.ediv_le_self b h0
  have h3 : 0 ≤ a / b := Int.ediv_nonneg h0 (Int.le_of_lt h1)
  apply Int64.toInt_inj.mp
  rw [Int64.toInt_div_of_ne_left _ _ (fun e => by
    have e1 := congrArg Int64.toInt e
    rw [iJ_toInt ha] at e1
    have e2 : Int64.minValue.toInt = -9223372036854775808 := by decide
    omega), iJ_toInt ha, iJ_toInt hb, Int.tdiv_eq_ediv_of_nonneg h0, iJ_toInt ⟨by omega, by have := ha.2; omega⟩]
/-- an array of 18 long numbers -/
def FJ (x : Nat → Int) : GE := .inl (2, 18, .inr (.inl (fun i => iJ (x i))))
def nJ (S : XS) (x : Nat → Int) : XS := newS S 18 (FJ x)
def updZ (x : Nat → Int) (k : Nat) (v : Int) : Nat → Int := fun j => if j = k then v else x j
theorem newS_setG (S : XS) (n : Nat) (e e2 : GE) : xSetG (newS S n e) (xTop S) e2 = newS S n e2 := by
  refine Prod.ext rfl (Prod.ext rfl (Prod.ext rfl (Prod.ext rfl (Prod.ext rfl (Prod.ext rfl ?_)))))
  funext b
  show (if b = xTop S then some e2 else if b = xTop S then some e else xG S b) = if b = xTop S then some e2 else xG S b
  by_cases h : b = xTop S
  · rw [if_pos h, if_pos h]
  · rw [if_neg h, if_neg h, if_neg h]
theorem FJ_upd (x : Nat → Int) (k : Nat) (v : Int) : vp_updL (fun i => iJ (x i)) k (iJ v) = fun i => iJ (updZ x k v i) := by
  funext j
  unfold vp_updL updZ
  by_cases e : j = k
  · rw [if_pos e, if_pos e]
  · rw [if_neg e, if_neg e]
theorem nJ_get (S : XS) (x : Nat → Int) {i : Nat} (hi : i < 18) : a_long (nJ S x) (xTop S) (nI i) = some (iJ (x i)) := by
  have ha : genAt (nJ S x) (xTop S) (FJ x) := newS_at S 18 (FJ x)
  unfold a_long
  rw [g_cell ha]
  show (if ¬ (nI i < 0 ∨ 18 ≤ (nI i).toNatClampNeg) then some (iJ (x (nI i).toNatClampNeg)) else none) = _
  rw [if_pos (nI_in hi (by decide)), nI_clamp (by omega)]
theorem nJ_put (S : XS) (x : Nat → Int) {i : Nat} (hi : i < 18) (v : Int) : a_putJ (nJ S x) (xTop S) (nI i) (iJ v) = some (nJ S (updZ x i v)) := by
  have ha : genAt (nJ S x) (xTop S) (FJ x) := newS_at S 18 (FJ x)
  unfold a_putJ
  rw [g_cell ha]
  show (if (xOwn (nJ S x) (xTop S)).1 = 0 ∧ ¬ (nI i < 0 ∨ 18 ≤ (nI i).toNatClampNeg) then some (xSetG (nJ S x) (xTop S) (.inl (2, 18, .inr (.inl (vp_updL (fun i => iJ (x i)) (nI i).toNatClampNeg (iJ v)))))) else none) = _
  have h0 : xOwn (nJ S x) (xTop S) = (0, 0, 0) := ha.1
  rw [if_pos ⟨by rw [h0], nI_in hi (by decide)⟩, nI_clamp (by omega), FJ_upd]
  unfold nJ
  rw [newS_setG]
  rfl
/-- what flows stand in -/
def FW (g : XC) (Z : Nat → Prop) (S : XS) (xa na : Nat) (C : CC) (V : MN) : Prop := WFr S ∧ NightAt S na xa V ∧ (∃ cv, xR S xa 1 = some cv ∧ CaveAt g Z S cv C) ∧ (∀ q, Z q → q < xTop S) ∧ xR S xa 2 = some na
section FX
variable {g : XC} {N : Nat} {Z : Nat → Prop} {S : XS} {xa na : Nat} {C : CC} {V : MN} {T : Int}
theorem FW.new (h : FW g Z S xa na C V) (n : Nat) (e : GE) : FW g Z (newS S n e) xa na C V := by
  obtain ⟨h1, h2, ⟨cv, h3, h4⟩, h5, h6⟩ := h
  have hx : xa < xTop S := h1.2 xa _ h2.1.1.cell
  have hn : na < xTop S := h1.2 na _ h2.1.2.1.cell
  have hw := newS_wf h1 n e
  refine ⟨hw, h2.same hw.1 (newS_same S n e hx) (newS_same S n e hn), ⟨cv, h3, h4.fr (fun q hq => ?_)⟩, fun q hq => Nat.lt_succ_of_lt (h5 q hq), h6⟩
  obtain ⟨t1, t2, t3, t4, t5, t6⟩ := newS_same S n e (h5 q hq)
  exact ⟨t1, t6⟩
theorem FW.pl (h : FW g Z S xa na C V) (k : Nat) : kX_X3_isPlugged g N S na (nI k) = some (S, if ((yI V 7 >>> (nI k &&& 31)) &&& 1) = 1 then 1 else 0) := by
  have := x_plugged (g := g) (N := N) (S := S) (a := na) (xa := xa) (m := V) (w := xA S xa 0) h.2.1.1 k
  rw [← na_eq h.2.1] at this
  exact this
theorem FW.into (h : FW g Z S xa na C V) {k : Nat} {b : Int} (hb : b = 0 ∨ b = 1) (hk : k < C.1) (hY : YK C V T k) : kX_X3_into g N S na (nI k) (iI b) = some (S, iI (mInto V k b)) := by
  have h9 : C.1 ≤ 9 := by
    obtain ⟨cv, -, h4⟩ := h.2.2.1
    exact h4.1
  obtain ⟨a0, a1, a2, a3, a4, a5, a6, -⟩ := hY
  have := x_into (g := g) (N := N) (S := S) (a := na) (xa := xa) (m := V) (w := xA S xa 0) h.2.1.1 hb (show k < 9 by omega) ⟨by omega, by omega⟩ a6
  rw [← na_eq h.2.1] at this
  exact this
theorem FW.cups (h : FW g Z S xa na C V) {β : Type} {F : XS × Int32 → Option β} {R : Option β} (k : F (S, nI C.1) = R) : ((f_obj S 2 na 15).bind fun v1 => (f_obj S 1 v1 1).bind fun v2 => (f_cls S 3 v2).bind fun _ => (kX_X2_cups g N S v2).bind F) = R := by
  obtain ⟨cv, h3, h4⟩ := h.2.2.1
  exact ob1 (na_out h.2.1) (c_cups0 (f_obj_T h.2.1.1.1 (by decide) (by decide) h3) h4 k)
theorem FW.spr (h : FW g Z S xa na C V) {i : Nat} (hi : i < C.1) {β : Type} {F : XS × Int32 → Option β} {R : Option β} (k : F (S, iI (C.2.1 i)) = R) : ((f_obj S 2 na 15).bind fun v10 => (f_obj S 1 v10 1).bind fun v3 => (f_obj S 3 v3 0).bind fun v4 => (f_cls S 10 v4).bind fun _ => (kX_J2_get g N S v4 (nI i)).bind fun w6 => (gIv g w6.2).bind fun _ => (gIv g w6.2).bind fun _ => (kX_J19_intValue g N w6.1 w6.2).bind F) = R := by
  obtain ⟨cv, h3, h4⟩ := h.2.2.1
  exact ob1 (na_out h.2.1) (c_spr0 (f_obj_T h.2.1.1.1 (by decide) (by decide) h3) h4 hi k)
/-- how the drops of a cup go on -/
theorem x_fl61 (hF : FW g Z S xa na C V) {k : Nat} (hk : k < C.1) (hY : YK C V T k) {h : Nat} (K : XS → Nat → Int32 → Nat → Int32 → Option (XS × Nat)) (x : Nat → Int) (hx : 0 ≤ x k ∧ x k ≤ 400000000) :
    kX_X3_flows_61 g N K (nJ S x) na (nI h) (xTop S) (nI k) = K (nJ S (fun j => if j = 9 + k then (yA V 1 k + x k) / yA V 0 k else if j = k then x k else x j + gvN V k j ((yA V 1 k + x k) / yA V 0 k))) na (nI h) (xTop S) (nI (k + 1)) := by
  have h9 : C.1 ≤ 9 := by
    obtain ⟨cv, -, h4⟩ := hF.2.2.1
    exact h4.1
  have hJ : ∀ y, FW g Z (nJ S y) xa na C V := fun y => hF.new 18 (FJ y)
  have hN : ∀ y, NightAt (nJ S y) na xa V := fun y => (hJ y).2.1
  have hY' := hY
  obtain ⟨a0, a1, a2, a3, a4, a5, a6, a7, a8⟩ := hY
  generalize hn : (yA V 1 k + x k) / yA V 0 k = n
  have hn0 : 0 ≤ n := by rw [← hn]; exact Int.ediv_nonneg (by omega) (by omega)
  have hn1 : n ≤ yA V 1 k + x k := by rw [← hn]; exact Int.ediv_le_self _ (by omega)
  have e4 : ∀ y, a_int (nJ S y) 0 (xRa (nJ S y) na 4) (nI k) = some (iI (yA V 4 k)) := fun y => na_a (hN y) (by decide) (by omega)
  have r4 : (iI (yA V 4 k) = -2) ↔ yA V 4 k = -2 := by
    rw [show (-2 : Int32) = iI (-2) from rfl]
    exact iI_eq ⟨by omega, by omega⟩ ⟨by omega, by omega⟩
  have rm1 : ∀ z : Int, -1 ≤ z → z < 9 → ((iI z = -1) ↔ z = -1) := fun z h1 h2 => by
    rw [show (-1 : Int32) = iI (-1) from rfl]
    exact iI_eq ⟨by omega, by omega⟩ ⟨by omega, by omega⟩
  have i0 : ∀ y, kX_X3_into g N (nJ S y) na (nI k) 0 = some (nJ S y, iI (mInto V k 0)) := fun y => (hJ y).into (b := 0) (Or.inl rfl) hk hY'
  have i1 : ∀ y, kX_X3_into g N (nJ S y) na (nI k) 1 = some (nJ S y, iI (mInto V k 1)) := fun y => (hJ y).into (b := 1) (Or.inr rfl) hk hY'
  have eK : ∀ y z, (∀ j, y j = z j) → K (nJ S y) na (nI h) (xTop S) (nI k + 1) = K (nJ S z) na (nI h) (xTop S) (nI (k + 1)) := fun y z e => by
    rw [nI_1, funext e]
  have d2 : iJ (n + 1) / 2 = iJ ((n + 1) / 2) := by
    rw [show (2 : Int64) = iJ 2 from rfl]
    exact iJ_div (by omega) ⟨by omega, by omega⟩ (by omega) ⟨by omega, by omega⟩
  have d3 : iJ n / 2 = iJ (n / 2) := by
    rw [show (2 : Int64) = iJ 2 from rfl]
    exact iJ_div (by omega) ⟨by omega, by omega⟩ (by omega) ⟨by omega, by omega⟩
  unfold kX_X3_flows_61
  refine ob1 (na_obj (hN x) (by decide)) (ob1 (na_a (hN x) (by decide) (by omega)) (ob1 (nJ_get S x (by omega)) (ob1 (na_obj (hN x) (by decide)) (ob1 (na_a (hN x) (by decide) (by omega)) (oif ?_ (onb (v := iJ n) ?_ ?_))))))
  · rw [iI_64 ⟨by omega, by omega⟩, show (0 : Int64) = iJ 0 from rfl, iJ_eq ⟨by omega, by omega⟩ ⟨by omega, by omega⟩]
    omega
  · rw [iI_64 ⟨by omega, by omega⟩, iI_64 ⟨by omega, by omega⟩, iJ_add, iJ_div (by omega) ⟨by omega, by omega⟩ (by omega) ⟨by omega, by omega⟩, hn]
  have p9 : a_putJ (nJ S x) (xTop S) (9 + nI k) (iJ n) = some (nJ S (updZ x (9 + k) n)) := by
    rw [show (9 : Int32) + nI k = nI (9 + k) from nI_add 9 k]
    exact nJ_put S x (by omega) n
  refine ob1 p9 (ob1 (na_cls (hN _)) (ob1 (i0 _) ?_))
  by_cases h4 : yA V 4 k = -2
  · have hm0 : mInto V k 0 = yA V 3 k := by unfold mInto; rw [if_pos h4]
    have h135 : ∀ y, kX_X3_flows_135 g N K (nJ S y) na (nI h) (xTop S) (nI k) (iJ n) = K (nJ S y) na (nI h) (xTop S) (nI k + 1) := fun y => by
      unfold kX_X3_flows_135
      exact ob1 (na_obj (hN y) (by decide)) (ob1 (e4 y) (oit (r4.mpr h4) rfl))
    rw [hm0]
    by_cases h3 : yA V 3 k = -1
    · refine oit ((rm1 _ (by omega) (by omega)).mpr h3) ((h135 _).trans (eK _ _ (fun j => ?_)))
      unfold updZ gvN
      rw [if_pos h4]
      by_cases e1 : j = 9 + k
      · rw [if_pos e1, if_pos e1]
      · rw [if_neg e1, if_neg e1, if_neg (show ¬ yA V 3 k = (j : Int) by omega)]
        by_cases e2 : j = k
        · rw [if_pos e2, e2]
        · rw [if_neg e2]; omega
    · obtain ⟨t, ht⟩ : ∃ t : Nat, yA V 3 k = t := ⟨(yA V 3 k).toNat, by omega⟩
      have ht1 : k < t ∧ t < 9 := by omega
      refine oif (fun z => h3 ((rm1 _ (by omega) (by omega)).mp z)) (ob1 (na_cls (hN _)) (ob1 (i0 _) ?_))
      rw [hm0, ht, ← iI_nI t]
      refine ob1 (nJ_get S _ (by omega)) (ob1 (na_obj (hN _) (by decide)) (ob1 (e4 _) (oit (r4.mpr h4) ?_)))
      unfold kX_X3_flows_133
      rw [iJ_add]
      refine ob1 (nJ_put S _ (by omega) _) ((h135 _).trans (eK _ _ (fun j => ?_)))
      unfold updZ gvN
      rw [if_pos h4, ht]
      by_cases e1 : j = 9 + k
      · rw [if_neg (by omega), if_pos e1, if_pos e1]
      · rw [if_neg e1, if_neg e1]
        by_cases e2 : j = t
        · rw [if_pos e2, if_neg (show ¬ t = 9 + k by omega), if_neg (by omega), if_pos (by omega), e2]
        · rw [if_neg e2, if_neg (show ¬ (t : Int) = (j : Int) by omega)]
          by_cases e3 : j = k
          · rw [if_pos e3, e3]
          · rw [if_neg e3]; omega
  · have j0 := mInto_ok hY' 0 h4
    have j1 := mInto_ok hY' 1 h4
    obtain ⟨t, ht⟩ : ∃ t : Nat, mInto V k 0 = t := ⟨(mInto V k 0).toNat, by omega⟩
    obtain ⟨u, hu⟩ : ∃ u : Nat, mInto V k 1 = u := ⟨(mInto V k 1).toNat, by omega⟩
    have ht1 : k < t ∧ t < 9 := by omega
    have hu1 : k < u ∧ u < 9 := by omega
    refine oif (fun z => absurd ((rm1 _ (by omega) (by omega)).mp z) (by omega)) (ob1 (na_cls (hN _)) (ob1 (i0 _) ?_))
    rw [ht, ← iI_nI t]
    refine ob1 (nJ_get S _ (by omega)) (ob1 (na_obj (hN _) (by decide)) (ob1 (e4 _) (oif (fun z => h4 (r4.mp z)) (onb (v := iJ ((n + 1) / 2)) ?_ ?_))))
    · rw [show (1 : Int64) = iJ 1 from rfl, iJ_add, d2]
    unfold kX_X3_flows_133
    rw [iJ_add]
    refine ob1 (nJ_put S _ (by omega) _) ?_
    unfold kX_X3_flows_135
    refine ob1 (na_obj (hN _) (by decide)) (ob1 (e4 _) (oif (fun z => h4 (r4.mp z)) (ob1 (na_cls (hN _)) (ob1 (i1 _) ?_))))
    refine oif (fun z => absurd ((rm1 _ (by omega) (by omega)).mp z) (by omega)) (ob1 (na_cls (hN _)) (ob1 (i1 _) ?_))
    rw [hu, ← iI_nI u]
    refine ob1 (nJ_get S _ (by omega)) (onb d3 ?_)
    rw [iJ_add]
    refine ob1 (nJ_put S _ (by omega) _) (eK _ _ (fun j => ?_))
    unfold gvN
    rw [if_neg h4, ht, hu]
    unfold updZ
    by_cases e1 : j = 9 + k
    · rw [if_neg (by omega), if_neg (by omega), if_pos e1, if_pos e1]
    · rw [if_neg e1, if_neg e1]
      by_cases e2 : j = u
      · rw [if_pos e2, if_neg (show ¬ j = k by omega), if_pos (show (u : Int) = (j : Int) by omega)]
        by_cases e3 : j = t
        · rw [if_pos (show u = t by omega), if_neg (show ¬ t = 9 + k by omega), if_pos (show (t : Int) = (j : Int) by omega), e3]
          omega
        · rw [if_neg (show ¬ u = t by omega), if_neg (show ¬ u = 9 + k by omega), if_neg (show ¬ (t : Int) = (j : Int) by omega), e2]
          omega
      · rw [if_neg e2, if_neg (show ¬ (u : Int) = (j : Int) by omega)]
        by_cases e3 : j = t
        · rw [if_pos e3, if_neg (show ¬ t = 9 + k by omega), if_neg (show ¬ j = k by omega), if_pos (show (t : Int) = (j : Int) by omega), e3]
          omega
        · rw [if_neg e3, if_neg (show ¬ (t : Int) = (j : Int) by omega)]
          by_cases e4 : j = k
          · rw [if_pos e4, e4]
          · rw [if_neg e4]; omega
theorem x_flows (hF : FW g Z S xa na C V) (hN : 2 ^ 20 < N) (hG : YG C V T) (hs : ∀ k, k < C.1 → 0 ≤ C.2.1 k ∧ C.2.1 k ≤ 20) {h : Nat} (hh : h ≤ 1000001) (r1 : xTop S + 1 ≤ xCc S) (r2 : xSl S + 18 ≤ xCs S) : ∃ x, kX_X3_flows g N S na (nI h) = some (nJ S x, xTop S) ∧ ∀ j, j < C.1 → x j = fI C V h j ∧ x (9 + j) = fT C V h j := by
  have h9 : C.1 ≤ 9 := by
    obtain ⟨cv, -, h4⟩ := hF.2.2.1
    exact h4.1
  have hJ : ∀ y, FW g Z (nJ S y) xa na C V := fun y => hF.new 18 (FJ y)
  have h0 : (0 : Int) ≤ (h : Int) := by omega
  have h1 : (h : Int) ≤ 1000001 := by omega
  unfold kX_X3_flows
  have e0 : xNewJ S 18 = some (nJ S (fun _ => 0)) := x_newJ (S := S) (n := 18) (by omega) r1 r2
  rw [e0]
  show ∃ x, kX_X3_flows_7 g N N (nJ S (fun _ => 0)) na (nI h) (xTop S) 0 = some (nJ S x, xTop S) ∧ _
  refine y_loop (fun n (x : Nat → Int) k => kX_X3_flows_7 g N n (nJ S x) na (nI h) (xTop S) (nI k)) C.1 (fun x k => k ≤ C.1 ∧ (∀ j, j < k → x j = fI C V h j ∧ x (9 + j) = fT C V h j) ∧ ∀ j, k ≤ j → j < 9 → x j = fPd C V h k j) (fun r => ∃ x, r = some (nJ S x, xTop S) ∧ ∀ j, j < C.1 → x j = fI C V h j ∧ x (9 + j) = fT C V h j) ?_ ?_ C.1 N (fun _ => 0) 0 (by omega) (by omega) ⟨by omega, fun j hj => by omega, fun j _ _ => rfl⟩
  · rintro n x k hk ⟨-, p1, p2⟩
    right
    have hb := fBd hG hs h9 h0 h1 hk
    have ho := fOwn_b (V := V) (hs k hk) h0 h1
    have hxk := p2 k (Nat.le_refl _) (by omega)
    have hI : fI C V h k = fOwn C V h k + fPd C V h k k := rfl
    refine ⟨fun j => if j = 9 + k then (yA V 1 k + (updZ x k (x k + fOwn C V h k)) k) / yA V 0 k else if j = k then (updZ x k (x k + fOwn C V h k)) k else (updZ x k (x k + fOwn C V h k)) j + gvN V k j ((yA V 1 k + (updZ x k (x k + fOwn C V h k)) k) / yA V 0 k), ?_, by omega, fun j hj => ?_, fun j h2 h3 => ?_⟩
    · show kX_X3_flows_7 g N (n + 1) (nJ S x) na (nI h) (xTop S) (nI k) = _
      rw [kX_X3_flows_7]
      refine (hJ x).cups (oif (nI_ge hk (by omega)) (ob1 (na_cls (hJ x).2.1) (ob1 ((hJ x).pl k) ?_)))
      have hstep : kX_X3_flows_61 g N (kX_X3_flows_7 g N n) (nJ S (updZ x k (x k + fOwn C V h k))) na (nI h) (xTop S) (nI k) = _ := x_fl61 hF hk (hG k hk) (kX_X3_flows_7 g N n) (updZ x k (x k + fOwn C V h k)) (by unfold updZ; rw [if_pos rfl]; omega)
      refine Eq.trans ?_ hstep
      by_cases hp : ((yI V 7 >>> (nI k &&& 31)) &&& 1) = 1
      · rw [if_pos hp]
        refine oif n10 ?_
        have : x = updZ x k (x k + fOwn C V h k) := by
          funext j
          unfold updZ fOwn
          rw [if_pos hp]
          by_cases e : j = k
          · rw [if_pos e, e]; omega
          · rw [if_neg e]
        exact congrArg (fun y => kX_X3_flows_61 g N (kX_X3_flows_7 g N n) (nJ S y) na (nI h) (xTop S) (nI k)) this
      · rw [if_neg hp]
        refine oit rfl (ob1 (nJ_get S x (by omega)) ((hJ x).spr hk (ob1 ?_ rfl)))
        have hsk := hs k hk
        have hown : fOwn C V h k = C.2.1 k * h := by unfold fOwn; rw [if_neg hp]
        rw [iI_64 ⟨by omega, by omega⟩, iI_nI h, iI_64 ⟨by omega, by omega⟩, iJ_mul, iJ_add, ← hown]
        exact nJ_put S x (by omega) _
    · have e1 : (updZ x k (x k + fOwn C V h k)) k = fI C V h k := by unfold updZ; rw [if_pos rfl, hI]; omega
      rw [e1]
      by_cases e : j = k
      · subst e
        dsimp only
        rw [if_neg (by omega), if_pos rfl, if_pos rfl, fT_eq]
        exact ⟨rfl, rfl⟩
      · have hz := gvN_0 (n := (yA V 1 k + fI C V h k) / yA V 0 k) (hG k hk) (c := j) (Or.inl (by omega))
        have hz2 := gvN_0 (n := (yA V 1 k + fI C V h k) / yA V 0 k) (hG k hk) (c := 9 + j) (Or.inr (by omega))
        have q := p1 j (by omega)
        dsimp only
        rw [if_neg (by omega), if_neg e, if_neg (by omega), if_neg (by omega), hz, hz2]
        unfold updZ
        rw [if_neg e, if_neg (by omega), q.1, q.2]
        exact ⟨by omega, by omega⟩
    · have e1 : (updZ x k (x k + fOwn C V h k)) k = fI C V h k := by unfold updZ; rw [if_pos rfl, hI]; omega
      rw [e1, fPd_s, fT_eq]
      dsimp only
      rw [if_neg (by omega), if_neg (by omega)]
      unfold updZ
      rw [if_neg (by omega), p2 j (by omega) h3]
  · rintro n x ⟨-, p1, p2⟩
    refine ⟨x, ?_, p1⟩
    show kX_X3_flows_7 g N (n + 1) (nJ S x) na (nI h) (xTop S) (nI C.1) = _
    rw [kX_X3_flows_7]
    exact (hJ x).cups (oit (nI_le (Nat.le_refl _) (by omega)) rfl)
end FX
