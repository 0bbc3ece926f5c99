/-! plain law: what both sides stand for -/
abbrev HT : Type := Int32 × Int32 × Int32
abbrev MI : Type := Option (MN × List MN × List HT)
/-- cave, night, acts, heard, image; bytes fed, how many; the fault's place; how often refused -/
abbrev MT : Type := CC × MN × List MN × List HT × MI × (Nat → Int32) × Nat × Int32 × (Nat → Int32)
def tC (M : MT) : CC := M.1
def tV (M : MT) : MN := M.2.1
def tA (M : MT) : List MN := M.2.2.1
def tH (M : MT) : List HT := M.2.2.2.1
def tI (M : MT) : MI := M.2.2.2.2.1
def tT (M : MT) : Nat → Int32 := M.2.2.2.2.2.1
def tN (M : MT) : Nat := M.2.2.2.2.2.2.1
def tF (M : MT) : Int32 := M.2.2.2.2.2.2.2.1
def tR (M : MT) : Nat → Int32 := M.2.2.2.2.2.2.2.2
/-! the component -/
def NightAt (S : XS) (r xa : Nat) (m : MN) : Prop := NC S r xa ∧ xI S r = m.1 ∧ ∀ j i, xA S r j i = iI (m.2 j i)
def NightsAt (Z : Nat → Prop) (S : XS) (xa : Nat) (rs : List Nat) (ms : List MN) : Prop := rs.length = ms.length ∧ ∀ (i r : Nat) (m : MN), rs[i]? = some r → ms[i]? = some m → Z r ∧ NightAt S r xa m
def TripsAt (Z : Nat → Prop) (S : XS) (rs : List Nat) (hs : List HT) : Prop := rs.length = hs.length ∧ ∀ (i r : Nat) (x : HT), rs[i]? = some r → hs[i]? = some x → ∃ f, gz Z S r (.inl (0, 3, .inl f)) ∧ f 0 = x.1 ∧ f 1 = x.2.1 ∧ f 2 = x.2.2
def ImgAt (g : XC) (Z : Nat → Prop) (S : XS) (xa : Nat) (I : MI) : Prop := match I with
  | none => xR S xa 10 = none
  | some (m, as, hs) => ∃ r l1 l2 r1 r2, xR S xa 10 = some r ∧ Z r ∧ NightAt S r xa m ∧ xR S xa 11 = some l1 ∧ ListAt g Z S l1 r1 ∧ NightsAt Z S xa r1 as ∧ xR S xa 12 = some l2 ∧ ListAt g Z S l2 r2 ∧ TripsAt Z S r2 hs
def CDis (xa oa : Nat) (Z Ya Yh : Nat → Prop) (na ta : Nat) : Prop := (∀ q, Z q → ¬ Ya q ∧ ¬ Yh q ∧ q ≠ xa ∧ q ≠ na ∧ q ≠ ta ∧ q ≠ oa) ∧ (∀ q, Ya q → ¬ Yh q ∧ q ≠ xa ∧ q ≠ na ∧ q ≠ ta ∧ q ≠ oa) ∧ (∀ q, Yh q → q ≠ xa ∧ q ≠ na ∧ q ≠ ta ∧ q ≠ oa) ∧ oa ≠ xa ∧ oa ≠ na ∧ oa ≠ ta ∧ na ≠ ta
def CRefs (S : XS) (xa na ta cv la lh : Nat) : Prop := xR S xa 1 = some cv ∧ xR S xa 2 = some na ∧ xR S xa 3 = some ta ∧ xR S xa 8 = some la ∧ xR S xa 9 = some lh
def CNum (S : XS) (xa : Nat) (M : MT) : Prop := (∀ i, i < tN M → xA S xa 4 i = tT M i) ∧ xI S xa 5 = nI (tN M) ∧ xI S xa 6 = tF M ∧ ∀ i, i < 3 → xA S xa 7 i = tR M i
def CRq (g : XC) (xa oa : Nat) (Z Ya Yh : Nat → Prop) (na ta cv la lh : Nat) (ra rh : List Nat) (M : MT) (S : XS) : Prop :=
  NightAt S na xa (tV M) ∧ NC S ta xa ∧ CRefs S xa na ta cv la lh ∧ CaveAt g Z S cv (tC M) ∧ (ListAt g Ya S la ra ∧ NightsAt Z S xa ra (tA M)) ∧ (ListAt g Yh S lh rh ∧ TripsAt Z S rh (tH M)) ∧ ImgAt g Z S xa (tI M) ∧ (∃ f, genAt S oa (.inl (2, 1, .inr (.inl f)))) ∧ CDis xa oa Z Ya Yh na ta ∧ (∀ q, Z q ∨ Ya q ∨ Yh q → ∃ e, x_cell S q = some e) ∧ CNum S xa M
/-! the reference -/
def RActs (C : CC) (cnt : Int32) (ρ : Nat → Int32) (as : List MN) : Prop := cnt = nI as.length ∧ ∀ (i : Nat) (m : MN), as[i]? = some m → RowR ρ (64 * i) C m
def RHeard (cnt : Int32) (ρ : Nat → Int32) (hs : List HT) : Prop := cnt = nI hs.length ∧ ∀ (i : Nat) (x : HT), hs[i]? = some x → ρ (3 * i) = x.1 ∧ ρ (3 * i + 1) = x.2.1 ∧ ρ (3 * i + 2) = x.2.2
def RImg (σ : MS) (C : CC) (I : MI) : Prop := match I with
  | none => σ.1 54 = 0
  | some (m, as, hs) => σ.1 54 = 1 ∧ RowR (σ.2.2 57) 0 C m ∧ RActs C (σ.1 55) (σ.2.2 58) as ∧ RHeard (σ.1 56) (σ.2.2 59) hs
def RRel (N : Nat) (M : MT) (σ : MS) : Prop := RC N σ (tC M) ∧ RowR (σ.2.2 31) 0 (tC M) (tV M) ∧ RActs (tC M) (σ.1 33) (σ.2.2 32) (tA M) ∧ RHeard (σ.1 49) (σ.2.2 50) (tH M) ∧ RImg σ (tC M) (tI M) ∧ σ.1 40 = -1 ∧ σ.1 7 = nI (tN M) ∧ (∀ i, i < tN M → σ.2.2 6 i = tT M i &&& 255) ∧ σ.1 9 = tF M ∧ ∀ i, i < 3 → σ.2.2 10 i = tR M i
/-- what the reference keeps -/
def RFr (σ σ1 : MS) : Prop := (∀ j, j ∈ [1, 2, 3, 7, 9, 33, 40, 49, 54, 55, 56] → σ1.1 j = σ.1 j) ∧ (∀ j, j ∈ [4, 5, 6, 10, 32, 50, 57, 58, 59] → σ1.2.2 j = σ.2.2 j) ∧ ∀ q, q < 64 → σ1.2.2 31 q = σ.2.2 31 q
theorem RFr.refl (σ : MS) : RFr σ σ := ⟨fun _ _ => rfl, fun _ _ => rfl, fun _ _ => rfl⟩
theorem RFr.trans {σ σ1 σ2 : MS} (h : RFr σ σ1) (h2 : RFr σ1 σ2) : RFr σ σ2 := ⟨fun j hj => (h2.1 j hj).trans (h.1 j hj), fun j hj => (h2.2.1 j hj).trans (h.2.1 j hj), fun q hq => (h2.2.2 q hq).trans (h.2.2 q hq)⟩
theorem FrH.r {σ σ1 : MS} (h : FrH 64 σ σ1) : RFr σ σ1 := by
  refine ⟨fun j hj => h.1 j ?_ ?_, fun j hj => h.2.2.1 j ?_ ?_ ?_ ?_ ?_, fun q hq => h.2.2.2 q (Or.inl hq)⟩ <;> (intro e; subst e; simp at hj)
theorem RFr.put (σ : MS) (k : Nat) (v : Int32) (h : k ∉ [1, 2, 3, 7, 9, 33, 40, 49, 54, 55, 56]) : RFr σ (m_put σ k v) := ⟨fun j hj => mp_n _ _ _ (fun e => h (e ▸ hj)), fun _ _ => rfl, fun _ _ => rfl⟩
theorem RFr.s (σ : MS) (k q : Nat) (v : Int32) (h : k ∉ [4, 5, 6, 10, 31, 32, 50, 57, 58, 59] ∨ (k = 31 ∧ 64 ≤ q)) : RFr σ (rS σ k q v) := by
  refine ⟨fun _ _ => rfl, fun j hj => rS_ne _ _ _ _ (fun e => ?_), fun p hp => ?_⟩
  · subst e
    rcases h with h | ⟨h, -⟩
    · apply h
      simp at hj ⊢
      omega
    · subst h
      simp at hj
  · rw [rS_get, if_neg]
    rintro ⟨rfl, rfl⟩
    rcases h with h | ⟨-, h⟩
    · simp at h
    · omega
theorem RowR.of {ρ ρ1 : Nat → Int32} {b b1 : Nat} {C : CC} {m : MN} (h : RowR ρ b C m) (h9 : C.1 ≤ 9) (hq : ∀ q, q < 64 → ρ1 (b1 + q) = ρ (b + q)) : RowR ρ1 b1 C m := by
  refine ⟨?_, fun k hk => ?_⟩
  · exact (hq 0 (by decide)).trans h.1
  obtain ⟨h0, h1, h2, h3, h4, h5, h6⟩ := h.2 k hk
  rw [show b1 + 1 + k = b1 + (1 + k) by omega, show b1 + 10 + k = b1 + (10 + k) by omega, show b1 + 19 + k = b1 + (19 + k) by omega, show b1 + 28 + k = b1 + (28 + k) by omega, show b1 + 37 + k = b1 + (37 + k) by omega, show b1 + 46 + k = b1 + (46 + k) by omega, show b1 + 55 + k = b1 + (55 + k) by omega, hq _ (by omega), hq _ (by omega), hq _ (by omega), hq _ (by omega), hq _ (by omega), hq _ (by omega), hq _ (by omega)]
  rw [show b + (1 + k) = b + 1 + k by omega, show b + (10 + k) = b + 10 + k by omega, show b + (19 + k) = b + 19 + k by omega, show b + (28 + k) = b + 28 + k by omega, show b + (37 + k) = b + 37 + k by omega, show b + (46 + k) = b + 46 + k by omega, show b + (55 + k) = b + 55 + k by omega]
  exact ⟨h0, h1, h2, h3, h4, h5, h6⟩
theorem RC.r {N : Nat} {σ σ1 : MS} {C : CC} (h : RC N σ C) (hf : RFr σ σ1) : RC N σ1 C := by
  obtain ⟨h1, h2, h3, h4⟩ := h
  refine ⟨(hf.1 1 (by decide)).trans h1, fun k hk => ?_, ?_, ?_⟩
  · rw [hf.2.1 4 (by decide)]; exact h2 k hk
  · rw [hf.2.1 5 (by decide), hf.1 2 (by decide)]; exact h3
  · rw [hf.2.1 5 (by decide), hf.1 3 (by decide)]; exact h4
theorem RRel.fr {N : Nat} {M : MT} {σ σ1 : MS} (h : RRel N M σ) (h9 : (tC M).1 ≤ 9) (hf : RFr σ σ1) : RRel N M σ1 := by
  obtain ⟨a1, a2, a3, a4, a5, a6, a7, a8, a9, a10⟩ := h
  refine ⟨a1.r hf, a2.of h9 (fun q hq => by rw [Nat.zero_add]; exact hf.2.2 q hq), ?_, ?_, ?_, (hf.1 40 (by decide)).trans a6, (hf.1 7 (by decide)).trans a7, fun i hi => ?_, (hf.1 9 (by decide)).trans a9, fun i hi => ?_⟩
  · rw [hf.1 33 (by decide), hf.2.1 32 (by decide)]; exact a3
  · rw [hf.1 49 (by decide), hf.2.1 50 (by decide)]; exact a4
  · unfold RImg at a5 ⊢
    rw [hf.1 54 (by decide), hf.1 55 (by decide), hf.1 56 (by decide), hf.2.1 57 (by decide), hf.2.1 58 (by decide), hf.2.1 59 (by decide)]
    exact a5
  · rw [hf.2.1 6 (by decide)]; exact a8 i hi
  · rw [hf.2.1 10 (by decide)]; exact a10 i hi
/-! what holds of what they stand for -/
def YP (C : CC) (m : MN) (T : Int) : Prop := YN C m T ∧ yI m 8 = 0 ∧ yI m 9 = 0 ∧ yI m 10 = 0 ∧ ∃ p : Nat, p < 2 ^ C.1 ∧ yI m 7 = nI p
def HOk (C : CC) (x : HT) : Prop := (∃ c : Nat, c < C.1 ∧ x.1 = nI c) ∧ (∃ k : Nat, 1 ≤ k ∧ k ≤ 40 ∧ x.2.1 = nI k) ∧ (x.2.2 = 0 ∨ x.2.2 = 1)
def MOk (T : Int) (M : MT) : Prop := (tC M).1 ≤ 9 ∧ (∀ k, k < (tC M).1 → 0 ≤ (tC M).2.1 k ∧ (tC M).2.1 k ≤ 20) ∧ YP (tC M) (tV M) T ∧ ((tA M).length ≤ 40 ∧ ∀ m ∈ tA M, YP (tC M) m T) ∧ ((tH M).length ≤ 8 ∧ ∀ x ∈ tH M, HOk (tC M) x) ∧ (match tI M with
  | none => True
  | some (m, as, hs) => YP (tC M) m T ∧ (as.length ≤ 40 ∧ ∀ m ∈ as, YP (tC M) m T) ∧ (hs.length ≤ 8 ∧ ∀ x ∈ hs, HOk (tC M) x)) ∧ tN M ≤ 700 ∧ (∀ i, i < tN M → (tT M i).toInt8.toInt32 = tT M i)
/-- constants -/
def GOk (g : XC) (n : Nat) : Prop := gSp g 0 < n ∧ gSp g 1 < n ∧ (∀ k, k < 256 → gIv g (gIc g k) = some k) ∧ (∀ k, k < 13 → gSi g (gSk g k) = some k ∧ gVi g (gSv g k) = some k) ∧ ∀ k, k < 256 → gIc g k < n
def yT (i : Nat) : Int := 140000 * i
/-- the relation: after i ints of the script, n cells -/
def yRel (g : XC) (N xa oa : Nat) (i n : Nat) (τ : XL) (σ : MS) : Prop := ∃ (M : MT) (Z Ya Yh : Nat → Prop) (na ta cv la lh : Nat) (ra rh : List Nat), CRq g xa oa Z Ya Yh na ta cv la lh ra rh M ((n, 0, 0, 0), τ) ∧ (∀ q e, x_cell ((n, 0, 0, 0), τ) q = some e → q < n) ∧ GOk g n ∧ RRel N M σ ∧ MOk (yT i) M
