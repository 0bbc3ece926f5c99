/-! plain law: game -/
def gP (m : MN) (c o a b : Nat) : MN :=
  let m1 := if a = 1 then ysI m 7 (yI m 7 ||| ((1 : Int32) <<< (nI c &&& 31))) else m
  if b = 1 then ysI m1 7 (yI m1 7 ||| ((1 : Int32) <<< (nI o &&& 31))) else m1
/-- by how much more the one tips -/
def gD (C : CC) (m : MN) (c o a b : Nat) : Int := (yA (yRep (mPass C) 12 (gP m c o a b)) 2 c - yA m 2 c) - (yA (yRep (mPass C) 12 (gP m c o a b)) 2 o - yA m 2 o)
theorem gP_A (m : MN) (c o a b j i : Nat) : yA (gP m c o a b) j i = yA m j i := by
  unfold gP
  dsimp only
  split <;> split <;> rfl
theorem gP_YN {C : CC} {m : MN} {T : Int} {c o a b : Nat} (h : YN C m T) : YN C (gP m c o a b) T := ⟨fun k hk => (h.1 k hk).congr (fun i _ => gP_A _ _ _ _ _ _ _), fun j hj => by rw [gP_A]; exact h.2 j hj⟩
theorem gP_sw (m : MN) (c o a b : Nat) : gP m c o a b = gP m o c b a := by
  unfold gP
  dsimp only
  by_cases ha : a = 1 <;> by_cases hb : b = 1
  · rw [if_pos ha, if_pos hb, if_pos hb, if_pos ha]
    refine Prod.ext ?_ rfl
    funext j
    show (if j = 7 then (yI m 7 ||| ((1 : Int32) <<< (nI c &&& 31))) ||| ((1 : Int32) <<< (nI o &&& 31)) else if j = 7 then _ else m.1 j) = if j = 7 then (yI m 7 ||| ((1 : Int32) <<< (nI o &&& 31))) ||| ((1 : Int32) <<< (nI c &&& 31)) else if j = 7 then _ else m.1 j
    by_cases e : j = 7
    · rw [if_pos e, if_pos e, Int32.or_assoc, Int32.or_assoc, Int32.or_comm ((1 : Int32) <<< (nI c &&& 31))]
    · rw [if_neg e, if_neg e, if_neg e, if_neg e]
  · rw [if_pos ha, if_neg hb, if_neg hb, if_pos ha]
  · simp [ha, hb]
  · simp [ha, hb]
theorem gD_sw (C : CC) (m : MN) (c o a b : Nat) : gD C m o c b a = - gD C m c o a b := by
  unfold gD
  rw [gP_sw m c o a b]
  omega
section OP
variable {g : XC} {N xa oa n : Nat} {Z Ya Yh : Nat → Prop} {na ta cv la lh : Nat} {ra rh : List Nat} {M : MT} {T : Int} {S S1 : XS} {σ s : MS} {C : CC} {V m : MN} {w : Nat → Int32} {c o a b k : Nat}
/-- surroundings in which cells may be made -/
def OW (g : XC) (Z : Nat → Prop) (S : XS) (xa na ta : Nat) (C : CC) (V : MN) : Prop := OC g Z S xa na ta C V ∧ WFr S ∧ ∀ q, Z q → q < xTop S
theorem OW.new (h : OW g Z S xa na ta C V) (j : Nat) (e : GE) : OW g Z (newS S j e) xa na ta C V := by
  obtain ⟨⟨⟨h1, cv, h2, h3⟩, h4, h5, h6, h7⟩, hW, hZ⟩ := h
  have hx : xa < xTop S := hW.2 xa _ h1.1.cell
  have hn : na < xTop S := hW.2 na _ h4.1.2.1.cell
  have ht : ta < xTop S := hW.2 ta _ h1.2.1.cell
  have hw := newS_wf hW j e
  have sx := newS_same S j e hx
  have st := newS_same S j e ht
  refine ⟨⟨⟨h1.keep hw.1 sx.1 st.1 st.2.2.1, cv, h2, h3.fr (fun q hq => ?_)⟩, h4.same hw.1 sx (newS_same S j e hn), h5, h6, h7⟩, hw, fun q hq => Nat.lt_succ_of_lt (hZ q hq)⟩
  obtain ⟨t1, t2, t3, t4, t5, t6⟩ := newS_same S j e (hZ q hq)
  exact ⟨t1, t6⟩
theorem OW.set (h : OW g Z S xa na ta C V) {q : Nat} {e0 e : GE} (hq : genAt S q e0) (hne : ∀ r, Z r → r ≠ q) : OW g Z (xSetG S q e) xa na ta C V := by
  obtain ⟨⟨⟨h1, cv, h2, h3⟩, h4, h5, h6, h7⟩, hW, hZ⟩ := h
  have hw := (setG_XE (P := fun _ => True) hW hq (e := e) trivial).1
  exact ⟨⟨⟨h1, cv, h2, h3.fr (fun r hr => ⟨rfl, if_neg (hne r hr)⟩)⟩, h4, h5, h6, h7⟩, hw, hZ⟩
def GA (S : XS) (q : Nat) (x y : Int32) : Prop := ∃ f, genAt S q (.inl (0, 2, .inl f)) ∧ f 0 = x ∧ f 1 = y
theorem x_gains (hW : OW g Z S xa na ta C V) (hN : 2 ^ 20 < N) (hm : YG C V T) (hT : T ≤ 60000000) (hc : c < C.1) (ho : o < C.1) (ha : a ≤ 1) (hb : b ≤ 1) (r1 : xTop S + 1 ≤ xCc S) (r2 : xSl S + 2 ≤ xCs S) : ∃ S1 m1 w1, kX_X1_gains g N (nset S ta xa m w) xa (nI c) (nI o) (nI a) (nI b) = some (nset S1 ta xa m1 w1, xTop S) ∧ OW g Z S1 xa na ta C V ∧ xTop S1 = xTop S + 1 ∧ xSl S1 = xSl S + 2 ∧ xCc S1 = xCc S ∧ xCs S1 = xCs S ∧ XE (fun _ => False) S S1 ∧ GA S1 (xTop S) (iI (gD C (mBe m V) c o a b) / 2 - nI a) (-(iI (gD C (mBe m V) c o a b)) / 2 - nI b) := by
  have hO := hW.1
  have hs := hO.spr
  have hB := mBe_YN m hs.1 hm
  have hPY := gP_YN (c := c) (o := o) (a := a) (b := b) hB
  have hV2 : ∀ j, j < C.1 → yA (mBe m V) 2 j = yA V 2 j := fun j hj => by rw [mBe_A _ _ (by omega), if_pos (by decide)]
  have hd : gD C (mBe m V) c o a b = ((yA (yRep (mPass C) 12 (gP (mBe m V) c o a b)) 2 c - yA V 2 c) - yA (yRep (mPass C) 12 (gP (mBe m V) c o a b)) 2 o) + yA V 2 o := by
    unfold gD
    rw [hV2 c hc, hV2 o ho]
    omega
  obtain ⟨w1, hw1⟩ := x_after (m := gP (mBe m V) c o a b) (w := w) (T := T) hO.1 hN (n := 12) (by omega) (by omega) hPY
  generalize hm1 : yRep (mPass C) 12 (gP (mBe m V) c o a b) = m1 at hw1 hd
  have hcm := oc_be (m := m) (w := w) hO hN
  have hV2' : ∀ w m, NightAt (nset S ta xa m w) na xa V := fun w m => oc_V hO
  generalize gD C (mBe m V) c o a b = d at hd ⊢
  -- the new array
  have a1 := newS_at S 2 (.inl (0, 2, .inl (fun _ => 0)))
  have wW := hW.new 2 (.inl (0, 2, .inl (fun _ => 0)))
  have wX := newS_XE hW.2.1 2 (.inl (0, 2, .inl (fun _ => 0))) (fun q => xTop S ≤ q)
  have hZt : ∀ r, Z r → r ≠ xTop S := fun r hr => Nat.ne_of_lt (hW.2.2 r hr)
  have e1 : xNewI (nset S ta xa m1 w1) 0 2 = some (nset (newS S 2 (.inl (0, 2, .inl (fun _ => 0)))) ta xa m1 w1) := x_newI (S := nset S ta xa m1 w1) (k := 0) (n := 2) (by omega) r1 r2
  obtain ⟨S0, hS0⟩ : ∃ S0, S0 = newS S 2 (.inl (0, 2, .inl (fun _ => 0))) := ⟨_, rfl⟩
  have t0 : xTop S0 = xTop S + 1 ∧ xSl S0 = xSl S + 2 ∧ xCc S0 = xCc S ∧ xCs S0 = xCs S := by rw [hS0]; exact ⟨rfl, rfl, rfl, rfl⟩
  rw [← hS0] at a1 wW wX e1
  have p1 : a_putI (nset S0 ta xa m1 w1) 0 (xTop S) 0 (iI d / 2 - nI a) = some (nset (xSetG S0 (xTop S) (.inl (0, 2, .inl (upd (fun _ => 0) 0 (iI d / 2 - nI a))))) ta xa m1 w1) := g_aputI (S := nset S0 ta xa m1 w1) (q := xTop S) (k := 0) (n := 2) (i := 0) (f := fun _ => 0) a1 (by decide) (by decide)
  have a2 := setG_at (e := .inl (0, 2, .inl (upd (fun _ => 0) 0 (iI d / 2 - nI a)))) a1
  have wW2 := wW.set (e := .inl (0, 2, .inl (upd (fun _ => 0) 0 (iI d / 2 - nI a)))) a1 hZt
  have wX2 := wX.trans (setG_XE wX.1 a1 (e := .inl (0, 2, .inl (upd (fun _ => 0) 0 (iI d / 2 - nI a)))) (P := fun q => xTop S ≤ q) (Nat.le_refl _)) (fun _ _ z => z)
  obtain ⟨S2, hS2⟩ : ∃ S2, S2 = xSetG S0 (xTop S) (.inl (0, 2, .inl (upd (fun _ => 0) 0 (iI d / 2 - nI a)))) := ⟨_, rfl⟩
  have t2 : xTop S2 = xTop S + 1 ∧ xSl S2 = xSl S + 2 ∧ xCc S2 = xCc S ∧ xCs S2 = xCs S := by rw [hS2]; exact t0
  rw [← hS2] at p1 a2 wW2 wX2
  have p2 : a_putI (nset S2 ta xa m1 w1) 0 (xTop S) 1 (-(iI d) / 2 - nI b) = some (nset (xSetG S2 (xTop S) (.inl (0, 2, .inl (upd (upd (fun _ => 0) 0 (iI d / 2 - nI a)) 1 (-(iI d) / 2 - nI b))))) ta xa m1 w1) := g_aputI (S := nset S2 ta xa m1 w1) (q := xTop S) (k := 0) (n := 2) (i := 1) (f := upd (fun _ => 0) 0 (iI d / 2 - nI a)) a2 (by decide) (by decide)
  have a3 := setG_at (e := .inl (0, 2, .inl (upd (upd (fun _ => 0) 0 (iI d / 2 - nI a)) 1 (-(iI d) / 2 - nI b)))) a2
  have wW3 := wW2.set (e := .inl (0, 2, .inl (upd (upd (fun _ => 0) 0 (iI d / 2 - nI a)) 1 (-(iI d) / 2 - nI b)))) a2 hZt
  have wX3 := wX2.trans (setG_XE wX2.1 a2 (e := .inl (0, 2, .inl (upd (upd (fun _ => 0) 0 (iI d / 2 - nI a)) 1 (-(iI d) / 2 - nI b)))) (P := fun q => xTop S ≤ q) (Nat.le_refl _)) (fun _ _ z => z)
  obtain ⟨S3, hS3⟩ : ∃ S3, S3 = xSetG S2 (xTop S) (.inl (0, 2, .inl (upd (upd (fun _ => 0) 0 (iI d / 2 - nI a)) 1 (-(iI d) / 2 - nI b)))) := ⟨_, rfl⟩
  have t3 : xTop S3 = xTop S + 1 ∧ xSl S3 = xSl S + 2 ∧ xCc S3 = xCc S ∧ xCs S3 = xCs S := by rw [hS3]; exact t2
  rw [← hS3] at p2 a3 wW3 wX3
  refine ⟨S3, m1, w1, ?_, wW3, t3.1, t3.2.1, t3.2.2.1, t3.2.2.2, wX3.mono (fun q hq z => absurd hq (by omega)), _, a3, by simp [upd], by simp [upd]⟩
  have h53 : kX_X1_gains_53 g N (nset S ta xa (gP (mBe m V) c o a b) w) xa (nI c) (nI o) (nI a) (nI b) = some (nset S3 ta xa m1 w1, xTop S) := by
    unfold kX_X1_gains_53
    refine ob1 (oc_ta hO) (ob1 (n_cls hO.1.1) (ob1 hw1 (ob1 (oc_ta hO) (ob1 (n_obj hO.1.1 (by decide)) (ob1 (n_a hO.1.1 (by decide) (by omega)) (ob1 (oc_na hO) (ob1 (na_obj (hV2' _ _) (by decide)) (ob1 (na_a (hV2' _ _) (by decide) (by omega)) ?_))))))))
    refine ob1 (oc_ta hO) (ob1 (n_obj hO.1.1 (by decide)) (ob1 (n_a hO.1.1 (by decide) (by omega)) (ob1 (oc_na hO) (ob1 (na_obj (hV2' _ _) (by decide)) (ob1 (na_a (hV2' _ _) (by decide) (by omega)) (onb (v := iI d) ?_ ?_))))))
    · rw [iI_sub, iI_sub, iI_add, hd]
    · exact ob1 e1 (onb rfl (ob1 p1 (onb rfl (ob1 p2 rfl))))
  have ha1 : nI a = 1 ↔ a = 1 := nI_eq (b := 1) (by omega) (by omega)
  have hb1 : nI b = 1 ↔ b = 1 := nI_eq (b := 1) (by omega) (by omega)
  have h32 : kX_X1_gains_32 g N (nset S ta xa (if a = 1 then ysI (mBe m V) 7 (yI (mBe m V) 7 ||| ((1 : Int32) <<< (nI c &&& 31))) else mBe m V) w) xa (nI c) (nI o) (nI a) (nI b) = some (nset S3 ta xa m1 w1, xTop S) := by
    unfold kX_X1_gains_32
    have eg : gP (mBe m V) c o a b = if b = 1 then ysI (if a = 1 then ysI (mBe m V) 7 (yI (mBe m V) 7 ||| ((1 : Int32) <<< (nI c &&& 31))) else mBe m V) 7 (yI (if a = 1 then ysI (mBe m V) 7 (yI (mBe m V) 7 ||| ((1 : Int32) <<< (nI c &&& 31))) else mBe m V) 7 ||| ((1 : Int32) <<< (nI o &&& 31))) else (if a = 1 then ysI (mBe m V) 7 (yI (mBe m V) 7 ||| ((1 : Int32) <<< (nI c &&& 31))) else mBe m V) := rfl
    rw [eg] at h53
    generalize (if a = 1 then ysI (mBe m V) 7 (yI (mBe m V) 7 ||| ((1 : Int32) <<< (nI c &&& 31))) else mBe m V) = m2 at h53 ⊢
    by_cases e : b = 1
    · rw [if_pos e] at h53
      exact oit (hb1.mpr e) (ob1 (oc_ta hO) (ob1 (n_int hO.1.1 (by decide)) (ob1 (n_putI hO.1.1 (by decide)) h53)))
    · rw [if_neg e] at h53
      exact oif (fun z => e (hb1.mp z)) h53
  unfold kX_X1_gains
  refine ob1 (oc_ta hO) (ob1 (oc_na hO) (ob1 (n_cls hO.1.1) (ob1 hcm ?_)))
  by_cases e : a = 1
  · rw [if_pos e] at h32
    exact oit (ha1.mpr e) (ob1 (oc_ta hO) (ob1 (n_int hO.1.1 (by decide)) (ob1 (n_putI hO.1.1 (by decide)) h32)))
  · rw [if_neg e] at h32
    exact oif (fun z => e (ha1.mp z)) h32
theorem RS.plugO (h : RS N s C m T) (hc : c < C.1) : ∃ s1, m_st s 31 (119 + nI c) 1 = some s1 ∧ FrH 64 s s1 ∧ RS N s1 C (ysI m 7 (yI m 7 ||| ((1 : Int32) <<< (nI c &&& 31)))) T := by
  have h9 := h.1.1
  refine ⟨rS s 31 (119 + c) 1, r_st (q := 119 + c) (nI_add 119 c) (by show 119 + c < 128; omega), FrH.s 64 s 31 (119 + c) _ (Or.inr (Or.inr ⟨rfl, by omega, by omega⟩)), ?_⟩
  have hx : ∀ i, i < 9 → i ≠ c → bt (yI m 7 ||| ((1 : Int32) <<< (nI c &&& 31))) i = bt (yI m 7) i := fun i hi hne => by
    rw [b_or, bt_one (by omega) (by omega), decide_eq_false hne, Bool.or_false]
  have hv : (1 : Int32) = if bt (yI m 7 ||| ((1 : Int32) <<< (nI c &&& 31))) c = true then 1 else 0 := by
    rw [b_or, bt_one (by omega) (by omega)]
    simp
  have hR := h.2.2.1.plugX h9 hc hx hv
  refine h.row2 (FrH.s 64 s 31 (119 + c) _ (Or.inr (Or.inr ⟨rfl, by omega, by omega⟩))) ?_ h.2.2.2.2 rfl rfl rfl
  rw [rS_arr, show 119 + c = 64 + 55 + c by omega]
  exact hR
theorem r_gains (hN : 2 ^ 20 < N) (hR : RRel N M σ) (hO : MOk T M) (hT : T ≤ 60000000) (m : MN) {s : MS} (hf : RFr σ s) (hc : c < (tC M).1) (ho : o < (tC M).1) (ha : a ≤ 1) (hb : b ≤ 1) : ∃ s1, kM_gains N s (nI c) (nI o) (nI a) (nI b) = some (s1, iI (gD (tC M) (mBe m (tV M)) c o a b) / 2 - nI a) ∧ RFr s s1 ∧ s1.1 0 = s.1 0 := by
  obtain ⟨s2, t1, t2, t3⟩ := r_try hN hR hO m hf
  generalize tC M = C at *
  generalize mBe m (tV M) = m0 at *
  have ha1 : nI a = 1 ↔ a = 1 := nI_eq (b := 1) (by omega) (by omega)
  have hb1 : nI b = 1 ↔ b = 1 := nI_eq (b := 1) (by omega) (by omega)
  have hs := t3.1
  -- the twelve hours
  have h35 : ∀ s3, FrH 64 s s3 → RS N s3 C (gP m0 c o a b) T → ∃ s1, kM_gains_35 N s3 (nI c) (nI o) (nI a) = some (s1, iI (gD C m0 c o a b) / 2 - nI a) ∧ RFr s s1 ∧ s1.1 0 = s.1 0 := fun s3 f3 q3 => by
    unfold kM_gains_35
    have e2 : ∀ i, yA (gP m0 c o a b) 2 i = yA m0 2 i := fun i => gP_A _ _ _ _ _ _ _
    have hgd : gD C m0 c o a b = (yA (yRep (mPass C) 12 (gP m0 c o a b)) 2 c - yA (gP m0 c o a b) 2 c) - (yA (yRep (mPass C) 12 (gP m0 c o a b)) 2 o - yA (gP m0 c o a b) 2 o) := by
      unfold gD
      rw [e2, e2]
    rw [hgd]
    generalize gP m0 c o a b = m1 at *
    refine y_loop (fun f (p : MS × Int) k => kM_gains_41 N f p.1 (nI c) (nI o) (nI a) (iI p.2) (nI k)) 12 (fun p k => k ≤ 12 ∧ FrH 64 s p.1 ∧ RS N p.1 C (yRep (mPass C) k m1) (T + 40000 * k) ∧ p.2 = (yA (yRep (mPass C) k m1) 2 c - yA m1 2 c) - (yA (yRep (mPass C) k m1) 2 o - yA m1 2 o)) (fun r => ∃ s1, r = some (s1, iI ((yA (yRep (mPass C) 12 m1) 2 c - yA m1 2 c) - (yA (yRep (mPass C) 12 m1) 2 o - yA m1 2 o)) / 2 - nI a) ∧ RFr s s1 ∧ s1.1 0 = s.1 0) ?_ ?_ 12 N (s3, 0) 0 (by omega) (by omega) ⟨by omega, f3, by simpa [yRep] using q3, by show (0 : Int) = _; simp [yRep]⟩
    · rintro f ⟨p, v⟩ k hk ⟨-, p1, p2, p3⟩
      have p3 : v = (yA (yRep (mPass C) k m1) 2 c - yA m1 2 c) - (yA (yRep (mPass C) k m1) 2 o - yA m1 2 o) := p3
      right
      obtain ⟨s4, q1, q2, q4, q5, q6, q7⟩ := r_go hN p2 (by omega)
      have hc2 := mPass_2 hs.2 hs.1 (by omega) p2.2.2.2.2 hc
      have ho2 := mPass_2 hs.2 hs.1 (by omega) p2.2.2.2.2 ho
      refine ⟨(s4, v + (yA (mPass C (yRep (mPass C) k m1)) 12 c - yA (mPass C (yRep (mPass C) k m1)) 12 o)), ?_, by omega, p1.trans q2, ?_, ?_⟩
      · show kM_gains_41 N (f + 1) p (nI c) (nI o) (nI a) (iI v) (nI k) = kM_gains_41 N f s4 (nI c) (nI o) (nI a) (iI (v + (yA (mPass C (yRep (mPass C) k m1)) 12 c - yA (mPass C (yRep (mPass C) k m1)) 12 o))) (nI (k + 1))
        rw [kM_gains_41]
        refine oif (nI_ge (b := 12) hk (by decide)) (ob1 q1 (ob1 (r_ld (q := c) rfl (by show c < 9; omega)) (ob1 (r_ld (q := o) rfl (by show o < 9; omega)) (onb (v := iI (v + (yA (mPass C (yRep (mPass C) k m1)) 12 c - yA (mPass C (yRep (mPass C) k m1)) 12 o))) ?_ ?_))))
        · rw [q5 c hc, q5 o ho, iI_sub, iI_add]
        · rw [nI_1]
      · have e : T + 40000 * ((k + 1 : Nat) : Int) = T + 40000 * (k : Int) + 40000 := by omega
        rw [e]
        exact q4
      · show v + _ = (yA (mPass C (yRep (mPass C) k m1)) 2 c - yA m1 2 c) - (yA (mPass C (yRep (mPass C) k m1)) 2 o - yA m1 2 o)
        rw [hc2.1, ho2.1, p3]
        omega
    · rintro f ⟨p, v⟩ ⟨-, p1, p2, p3⟩
      have p3 : v = (yA (yRep (mPass C) 12 m1) 2 c - yA m1 2 c) - (yA (yRep (mPass C) 12 m1) 2 o - yA m1 2 o) := p3
      refine ⟨p, ?_, p1.r, p1.1 0 (by decide) (by decide)⟩
      show kM_gains_41 N (f + 1) p (nI c) (nI o) (nI a) (iI v) (nI 12) = _
      rw [kM_gains_41]
      refine oit (nI_le (b := 12) (Nat.le_refl _) (by decide)) (onb rfl ?_)
      rw [p3]
  have h19 : ∀ s3, FrH 64 s s3 → RS N s3 C (if a = 1 then ysI m0 7 (yI m0 7 ||| ((1 : Int32) <<< (nI c &&& 31))) else m0) T → ∃ s1, kM_gains_19 N s3 (nI c) (nI o) (nI a) (nI b) = some (s1, iI (gD C m0 c o a b) / 2 - nI a) ∧ RFr s s1 ∧ s1.1 0 = s.1 0 := fun s3 f3 q3 => by
    have eg : gP m0 c o a b = if b = 1 then ysI (if a = 1 then ysI m0 7 (yI m0 7 ||| ((1 : Int32) <<< (nI c &&& 31))) else m0) 7 (yI (if a = 1 then ysI m0 7 (yI m0 7 ||| ((1 : Int32) <<< (nI c &&& 31))) else m0) 7 ||| ((1 : Int32) <<< (nI o &&& 31))) else (if a = 1 then ysI m0 7 (yI m0 7 ||| ((1 : Int32) <<< (nI c &&& 31))) else m0) := rfl
    rw [eg] at h35
    generalize (if a = 1 then ysI m0 7 (yI m0 7 ||| ((1 : Int32) <<< (nI c &&& 31))) else m0) = m2 at h35 q3
    by_cases e : b = 1
    · rw [if_pos e] at h35
      obtain ⟨s4, k1, k2, k3⟩ := q3.plugO ho
      obtain ⟨s1, u1, u2⟩ := h35 s4 (f3.trans k2) k3
      refine ⟨s1, ?_, u2⟩
      unfold kM_gains_19
      exact oit (hb1.mpr e) (ob1 k1 u1)
    · rw [if_neg e] at h35
      obtain ⟨s1, u1, u2⟩ := h35 s3 f3 q3
      refine ⟨s1, ?_, u2⟩
      unfold kM_gains_19
      exact oif (fun z => e (hb1.mp z)) u1
  by_cases e : a = 1
  · rw [if_pos e] at h19
    obtain ⟨s4, k1, k2, k3⟩ := t3.plugO hc
    obtain ⟨s1, u1, u2⟩ := h19 s4 (t2.trans k2) k3
    refine ⟨s1, ?_, u2⟩
    unfold kM_gains
    exact ob1 t1 (oit (ha1.mpr e) (ob1 k1 u1))
  · rw [if_neg e] at h19
    obtain ⟨s1, u1, u2⟩ := h19 s2 t2 t3
    refine ⟨s1, ?_, u2⟩
    unfold kM_gains
    exact ob1 t1 (oif (fun z => e (ha1.mp z)) u1)
end OP
