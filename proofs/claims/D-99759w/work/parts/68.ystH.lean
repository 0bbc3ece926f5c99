/-! plain law: plug -/
theorem RowR.plug {ρ : Nat → Int32} {C : CC} {V : MN} (h : RowR ρ 0 C V) (h9 : C.1 ≤ 9) {c p : Nat} (hc : c < C.1) (hp : yI V 7 = nI p) (hp9 : p < 2 ^ 9) {v : Int32} (hv : v = if bt (nI (p ^^^ 2 ^ c)) c = true then 1 else 0) : RowR (upd ρ (55 + c) v) 0 C (ysI V 7 (nI (p ^^^ 2 ^ c))) := by
  refine ⟨(if_neg (by omega)).trans h.1, fun k hk => ?_⟩
  obtain ⟨h0, h1, h2, h3, h4, h5, h6⟩ := h.2 k hk
  unfold upd
  refine ⟨(if_neg (by omega)).trans h0, (if_neg (by omega)).trans h1, (if_neg (by omega)).trans h2, (if_neg (by omega)).trans h3, (if_neg (by omega)).trans h4, (if_neg (by omega)).trans h5, ?_⟩
  have hb : ∀ y, (if ((y >>> (nI k &&& 31)) &&& 1) = 1 then (1 : Int32) else 0) = if bt y k = true then 1 else 0 := fun y => by
    by_cases e : bt y k = true
    · rw [if_pos e, if_pos ((bit_is (by omega)).mpr e)]
    · rw [if_neg e, if_neg (fun z => e ((bit_is (by omega)).mp z))]
  rw [show yI (ysI V 7 (nI (p ^^^ 2 ^ c))) 7 = nI (p ^^^ 2 ^ c) from rfl, hb]
  by_cases e : k = c
  · subst e
    rw [if_pos (by omega)]
    exact hv
  · rw [if_neg (by omega), h6, hb, hp, bt_flip hp9 (by omega) (by omega), if_neg e]
theorem op_plug {g : XC} {N xa oa i : Nat} (hN : 2 ^ 20 < N) (hi : i ≤ 378) : St_plug (yRel g N xa oa i) (yRel g N xa oa (i + 6)) g N xa oa := by
  rintro a0 a1 n sl τ σ ⟨M, Z, Ya, Yh, na, ta, cv, la, lh, ra, rh, hB⟩ ha1
  have hB : yBody g N xa oa i n Z Ya Yh na ta cv la lh ra rh M τ σ := hB
  generalize hcc : n + 14000 = cc
  generalize hkk : sl + 97000 = kk
  obtain ⟨hO, hr, hQ, hfr, hS⟩ := y_open hB sl cc kk (by omega) (by omega)
  have hM := hB.2.2.2.2
  have hR0 : RRel N M (m_put σ 0 0) := hB.2.2.2.1.fr hM.1 (RFr.p0 σ 0)
  have hG := hB.2.2.1
  have hT2 : yT i ≤ 60000000 := by unfold yT; omega
  have hT : yT i + 840000 = yT (i + 6) := by unfold yT; omega
  have hs := hO.spr
  have hV := hM.2.2.1
  have hx := hQ.2.1.1
  have z0 : (m_put σ 0 0).1 0 = 0 := mp_s _ _ _
  have z1 : (m_put σ 0 0).1 1 = nI (tC M).1 := hR0.1.1
  have h9 := hM.1
  have hw : ∀ a0 a1, kX_X0_plug (jg g cc kk) N ((n, sl, cc, kk), τ) xa a0 a1 oa = hbind (kX_X1_plug (jg g cc kk) N ((n, sl, cc, kk), τ) xa a0 a1) yH0 fun r3 => if r3.2 = 0 then (a_putJ r3.1 oa 0 0).bind fun S1 => some (S1, 0) else (a_putJ r3.1 oa 0 1).bind fun S1 => some (S1, (0 : Int32)) := fun a0 a1 => ob1 (f_cls_T hQ.2.1.1) rfl
  rcases y_cup (tC M).1 (by omega) a0 with ⟨c0, h0, rfl⟩ | h0
  · have hcup := oc_cup1 (N := N) (m := yMN ((n, sl, cc, kk), τ) ta) (w := xA ((n, sl, cc, kk), τ) xa 0) hO h0
    rw [hS] at hcup
    have hrc := r_isCup1 (N := N) z0 z1 h9 h0
    have o2 : f_obj ((n, sl, cc, kk), τ) 1 xa 2 = some na := f_obj_T hx (by decide) (by decide) hQ.2.2.1.2.1
    have hpl := x_plugged (g := jg g cc kk) (N := N) (m := tV M) (w := xA ((n, sl, cc, kk), τ) xa 0) hQ.1.1 c0
    rw [← na_eq hQ.1] at hpl
    obtain ⟨p, hp1, hp2⟩ := hV.2.2.2.2
    have hp9 : p < 2 ^ 9 := Nat.lt_of_lt_of_le hp1 (Nat.pow_le_pow_right (by decide) h9)
    have hbit : (if ((yI (tV M) 7 >>> (nI c0 &&& 31)) &&& 1) = 1 then (1 : Int32) else 0) = if bt (nI p) c0 = true then 1 else 0 := by
      rw [hp2]
      by_cases e : bt (nI p) c0 = true
      · rw [if_pos e, if_pos ((bit_is (by omega)).mpr e)]
      · rw [if_neg e, if_neg (fun z => e ((bit_is (by omega)).mp z))]
    rw [hbit] at hpl
    have hld : m_ld (m_put σ 0 0) 31 (55 + nI c0) = some (if bt (nI p) c0 = true then 1 else 0) := by
      have e : (55 : Int32) + nI c0 = nI (55 + c0) := nI_add 55 c0
      refine (r_ld (q := 55 + c0) e (by show 55 + c0 < 128; omega)).trans ?_
      have := (hR0.2.1.2 c0 h0).2.2.2.2.2.2
      rw [Nat.zero_add, hbit] at this
      rw [this]
    by_cases he : (if bt (nI p) c0 = true then (1 : Int32) else 0) = a1
    · have hxr : kX_X1_plug (jg g cc kk) N ((n, sl, cc, kk), τ) xa (nI c0) a1 = some (.inl (xSetA ((n, sl, cc, kk), τ) xa 7 (upd (xA ((n, sl, cc, kk), τ) xa 7) 1 (tR M 1 + 1)), 0)) := by
        unfold kX_X1_plug
        exact ob1 (f_cls_T hx) (ot1 hcup (ob1 o2 (ob1 (na_cls hQ.1) (ob1 hpl (oit he (ob1 (f_cls_T hx) (ob1 (x_refused hQ) (oz (Or.inl rfl) rfl))))))))
      have h33 : ∀ t, t = a1 → kM_plug_33 N (m_put σ 0 0) (nI c0) a1 t = some (rS (m_put σ 0 0) 10 1 (tR M 1 + 1), 0) := fun t ht => by
        unfold kM_plug_33
        exact oit ht (ob1 (r_refuse hR0 (k := 1) (by decide)).1 (oit (show (-1 : Int32) ≤ 0 by decide) rfl))
      have hmr : kM_plug N σ (nI c0) a1 = some (rS (m_put σ 0 0) 10 1 (tR M 1 + 1), 0) := by
        unfold kM_plug
        refine onb rfl (ob1 hrc (oif n10 (ob1 hld ?_)))
        by_cases e : bt (nI p) c0 = true
        · rw [if_pos e] at he ⊢
          exact oit rfl (h33 1 he)
        · rw [if_neg e] at he ⊢
          exact oif (by decide) (h33 0 he)
      rw [hw, yW_bool (Or.inl ⟨_, _, hxr, Or.inl rfl⟩)]
      exact y_asb (fun s r h => by rw [hmr] at h; obtain ⟨-, rfl⟩ := Prod.mk.inj (Option.some.inj h); exact Or.inl rfl) (fin_ref hB hQ hxr hmr)
    · obtain ⟨S1, Z1, Ya1, m, k1, k2, k3, k4, k5⟩ := x_keep (N := N) hN hQ (wf_of hB hQ) ⟨hG.1, hG.2.1⟩ hM.2.2.2.1.1 (by show n + 10 ≤ cc; omega) (by show sl + 200 ≤ kk; omega)
      have hn1 : NightAt S1 na xa (tV M) := k5.1
      have o3 : f_obj S1 1 xa 2 = some na := f_obj_T k5.2.1.1 (by decide) (by decide) k5.2.2.1.2.1
      have hput := n_putI (S := S1) (a := na) (xa := xa) (m := tV M) (w := xA S1 xa 0) (k := 7) (v := yI (tV M) 7 ^^^ ((1 : Int32) <<< (nI c0 &&& 31))) k5.1.1 (by decide)
      rw [← na_eq hn1] at hput
      obtain ⟨σ1, q1, q2, q3⟩ := r_keep hN hM.1 hM.2.2.2.1.1 hR0.2.2.1 (mBe_Row m hM.1 hR0.2.1)
      have hR1 := hR0.kept q2 q3
      have hfl : yI (tV M) 7 ^^^ ((1 : Int32) <<< (nI c0 &&& 31)) = nI (p ^^^ 2 ^ c0) := by rw [hp2]; exact nI_flip hp9 (by omega)
      have hval : a1 = if bt (nI (p ^^^ 2 ^ c0)) c0 = true then 1 else 0 := by
        rw [bt_flip hp9 (by omega) (by omega), if_pos rfl]
        cases hbb : bt (nI p) c0 with
        | true =>
          rw [hbb] at he
          rcases ha1 with h | h
          · rw [h]; rfl
          · exact absurd h.symm he
        | false =>
          rw [hbb] at he
          rcases ha1 with h | h
          · exact absurd h.symm he
          · rw [h]; rfl
      have hrow : RowR ((rS σ1 31 (55 + c0) a1).2.2 31) 0 (tC M) (ysI (tV M) 7 (nI (p ^^^ 2 ^ c0))) := by
        rw [rS_arr]
        exact RowR.plug hR1.2.1 h9 h0 hp2 hp9 hval
      have hxr : kX_X1_plug (jg g cc kk) N ((n, sl, cc, kk), τ) xa (nI c0) a1 = some (.inl (nset S1 na xa (ysI (tV M) 7 (nI (p ^^^ 2 ^ c0))) (xA S1 xa 0), 1)) := by
        rw [hfl] at hput
        unfold kX_X1_plug
        refine ob1 (f_cls_T hx) (ot1 hcup (ob1 o2 (ob1 (na_cls hQ.1) (ob1 hpl (oif he (ob1 (f_cls_T hx) (ob1 k1 (ob1 o3 (ob1 (na_int hn1 (by decide)) ?_)))))))))
        rw [hfl]
        exact ob1 hput rfl
      have h33 : ∀ t, t ≠ a1 → kM_plug_33 N (m_put σ 0 0) (nI c0) a1 t = some (rS σ1 31 (55 + c0) a1, 1) := fun t ht => by
        unfold kM_plug_33
        refine oif ht (ob1 q1 ?_)
        have hst : ∀ v, kM_plug_72 N σ1 (55 + nI c0) v = some (rS σ1 31 (55 + c0) v, 1) := fun v => by
          unfold kM_plug_72
          exact ob1 (r_st (q := 55 + c0) (nI_add 55 c0) (by show 55 + c0 < 128; omega)) rfl
        rcases ha1 with h | h
        · rw [h]
          exact oit rfl (hst 0)
        · rw [h]
          exact oif (by decide) (hst 1)
      have hmr : kM_plug N σ (nI c0) a1 = some (rS σ1 31 (55 + c0) a1, 1) := by
        unfold kM_plug
        refine onb rfl (ob1 hrc (oif n10 (ob1 hld ?_)))
        by_cases e : bt (nI p) c0 = true
        · rw [if_pos e] at he ⊢
          exact oit rfl (h33 1 he)
        · rw [if_neg e] at he ⊢
          exact oif (by decide) (h33 0 he)
      rw [hw, yW_bool (Or.inl ⟨_, _, hxr, Or.inr rfl⟩)]
      refine y_asb (fun s r h => by rw [hmr] at h; obtain ⟨-, rfl⟩ := Prod.mk.inj (Option.some.inj h); exact Or.inr rfl) (fin2 (i := i) hxr (k5.night _ _) (k2.og k2.1 (Nat.le_refl _) (fun _ => ⟨rfl, rfl⟩)) hmr (q2.z.trans z0) (hR1.row (FrH.s 0 σ1 31 _ _ (Or.inr (Or.inr ⟨rfl, by omega, by omega⟩))) hrow) (((hM.keep m).le (by omega)).night ?_) hG)
      have hV2 := hV.le (T1 := yT (i + 6)) (by omega)
      exact ⟨hV2.1, hV2.2.1, hV2.2.2.1, hV2.2.2.2.1, p ^^^ 2 ^ c0, Nat.xor_lt_two_pow hp1 (Nat.pow_lt_pow_right (by decide) h0), rfl⟩
  · have hx1 : kX_X1_plug (jg g cc kk) N ((n, sl, cc, kk), τ) xa a0 a1 = some (.inr (((n, sl, cc, kk), τ), 0, 0)) := by
      rw [← hS]
      unfold kX_X1_plug
      exact ob1 (oc_cls hO) (ot2 (oc_cup0 hO hr h0))
    have hm : kM_plug N σ a0 a1 = some (m_put (m_put σ 0 0) 0 1, 0) := by
      unfold kM_plug
      exact onb rfl (ob1 (r_isCup0 z0 z1 h0) (oit rfl rfl))
    rw [hw, yW_bool (Or.inr ⟨_, hx1⟩)]
    exact y_asb (fun s r h => by rw [hm] at h; obtain ⟨-, rfl⟩ := Prod.mk.inj (Option.some.inj h); exact Or.inl rfl) (fin_thr (c := cc) (k := kk) hB hx1 rfl (KS.refl hQ.2.1.2.2.2.1) hm (mp_s _ _ _) (by decide) (RFr.p00 _ _ _))
