/-! THE PLAIN LAW: ranges; the small doors: feed, end, fault, torn -/
set_option maxRecDepth 100000
theorem gi_sn {σ : SS} {g i g' i' : Nat} {x : Int32} (h : g' ≠ g ∨ i' ≠ i) : gi (si σ g i x) g' i' = gi σ g' i' := if_neg (by omega)
theorem gi_se {σ : SS} {g i : Nat} {x : Int32} : gi (si σ g i x) g i = x := if_pos ⟨rfl, rfl⟩
theorem si_22 {σ : SS} {g i : Nat} {x : Int32} : (si σ g i x).2.2 = σ.2.2 := rfl
/-- a number of a range -/
def InR (x : Int32) (a b : Nat) : Prop := ∃ n : Nat, a ≤ n ∧ n < b ∧ x = nI n
theorem in_e {N : Nat} {y lo hi : Int64} {σ : SS} : F_X0_in N y lo hi σ = some (if lo.toInt ≤ y.toInt ∧ y.toInt ≤ hi.toInt then 1 else 0, σ) := by
  unfold F_X0_in lg_cmp
  have h0 : ¬ (0 : Int32) < 0 := by decide
  have h1 : ¬ (1 : Int32) < 0 := by decide
  have h2 : (-1 : Int32) < 0 := by decide
  have h3 : (0 : Int32) < 1 := by decide
  have h4 : ¬ (0 : Int32) < -1 := by decide
  by_cases c1 : y > lo
  · have d1 : lo.toInt < y.toInt := Int64.lt_iff_toInt_lt.mp c1
    rw [if_pos c1, if_neg h1]
    by_cases c2 : y > hi
    · have d2 : hi.toInt < y.toInt := Int64.lt_iff_toInt_lt.mp c2
      rw [if_pos c2, if_pos h3, if_neg (by omega)]
    · have d2 : ¬ hi.toInt < y.toInt := fun z => c2 (Int64.lt_iff_toInt_lt.mpr z)
      rw [if_neg c2]
      by_cases c3 : y = hi
      · rw [if_pos c3, if_neg h0, if_pos (by omega)]
      · rw [if_neg c3, if_neg h4, if_pos (by omega)]
  · have d1 : ¬ lo.toInt < y.toInt := fun z => c1 (Int64.lt_iff_toInt_lt.mpr z)
    rw [if_neg c1]
    by_cases c4 : y = lo
    · subst c4
      rw [if_pos rfl, if_neg h0]
      by_cases c2 : y > hi
      · have d2 : hi.toInt < y.toInt := Int64.lt_iff_toInt_lt.mp c2
        rw [if_pos c2, if_pos h3, if_neg (by omega)]
      · have d2 : ¬ hi.toInt < y.toInt := fun z => c2 (Int64.lt_iff_toInt_lt.mpr z)
        rw [if_neg c2]
        by_cases c3 : y = hi
        · rw [if_pos c3, if_neg h0, if_pos (by omega)]
        · rw [if_neg c3, if_neg h4, if_pos (by omega)]
    · have d4 : y.toInt ≠ lo.toInt := fun z => c4 (Int64.toInt_inj.mp z)
      rw [if_neg c4, if_pos h2, if_neg (by omega)]
theorem m_in_e {N : Nat} {y lo hi : Int64} {σ : SS} : F_X8_in N y lo hi σ = F_X0_in N y lo hi σ := rfl
theorem InR_iff {x : Int32} {a b : Nat} {lo hi : Int64} (ha : lo.toInt = (a : Int)) (hb : hi.toInt + 1 = (b : Int)) (hb2 : b ≤ 2 ^ 31) : (lo.toInt ≤ x.toInt64.toInt ∧ x.toInt64.toInt ≤ hi.toInt) ↔ InR x a b := by
  rw [Int32.toInt_toInt64, ha]
  constructor
  · intro h
    refine ⟨x.toInt.toNat, by omega, by omega, Int32.toInt_inj.mp ?_⟩
    rw [nI_toInt (by omega)]
    omega
  · rintro ⟨n, h1, h2, rfl⟩
    rw [nI_toInt (by omega)]
    omega
theorem in_1 {N : Nat} {x : Int32} {a b : Nat} {lo hi : Int64} {σ : SS} (ha : lo.toInt = (a : Int)) (hb : hi.toInt + 1 = (b : Int)) (hb2 : b ≤ 2 ^ 31) (h : InR x a b) : F_X0_in N x.toInt64 lo hi σ = some (1, σ) := by
  rw [in_e, if_pos ((InR_iff ha hb hb2).mpr h)]
theorem in_0 {N : Nat} {x : Int32} {a b : Nat} {lo hi : Int64} {σ : SS} (ha : lo.toInt = (a : Int)) (hb : hi.toInt + 1 = (b : Int)) (hb2 : b ≤ 2 ^ 31) (h : ¬ InR x a b) : F_X0_in N x.toInt64 lo hi σ = some (0, σ) := by
  rw [in_e, if_neg (fun z => h ((InR_iff ha hb hb2).mp z))]
theorem lg_of {n : Nat} (h : n < 2 ^ 31) : (nI n).toInt64.toInt = (n : Int) := by rw [Int32.toInt_toInt64, nI_toInt h]
theorem lg_m1 {n : Nat} (h : n < 2 ^ 31) : (nI n - (1 : Int32)).toInt64.toInt + 1 = (n : Int) := by
  rw [Int32.toInt_toInt64]
  cases n with
  | zero => decide
  | succ n =>
    rw [nI_pred, nI_toInt (by omega)]
    omega
/-- the pages are as they were -/
def SamePg (σ σ' : SS) : Prop := (∀ g, (g = 40 ∨ g = 60 ∨ g = 70 ∨ g = 42 ∨ g = 62 ∨ g = 72) → ∀ i, gi σ' g i = gi σ g i) ∧ (∀ i, i < 117 → gi σ' 21 i = gi σ 21 i) ∧ gi σ' 1 14 = gi σ 1 14 ∧ gi σ' 1 15 = gi σ 1 15
def RelP (B : Nat) (σ : SS) : Prop := (cz 0 σ = mz 0 σ ∧ cz 2 σ = mz 39 σ ∧ cz 3 σ = mz 78 σ) ∧ (PV B (cz 0 σ) ∧ PV B (cz 2 σ) ∧ PV B (cz 3 σ)) ∧ (AF 0 σ ∧ AF 2 σ ∧ AF 3 σ)
theorem Rel.P {B : Nat} {σ : SS} (h : Rel B σ) : RelP B σ := ⟨h.1, h.2.1, h.2.2.1⟩
theorem Rel.of {B : Nat} {σ : SS} (h : RelP B σ) (h4 : Rk σ) (h5 : Rs σ) (h6 : Rt σ) (h7 : Rf σ) (h8 : Rl σ) (h9 : Rh σ) : Rel B σ := ⟨h.1, h.2.1, h.2.2, h4, h5, h6, h7, h8, h9⟩
theorem RelP.same {B : Nat} {σ σ' : SS} (h : RelP B σ) (e : SamePg σ σ') : RelP B σ' := by
  obtain ⟨⟨a1, a2, a3⟩, ⟨b1, b2, b3⟩, ⟨c1, c2, c3⟩⟩ := h
  obtain ⟨e1, e2, e3, e4⟩ := e
  have k0 : cz 0 σ' = cz 0 σ := cz_congr (fun i _ => e1 40 (by decide) i) (fun i _ => e1 42 (by decide) i)
  have k2 : cz 2 σ' = cz 2 σ := cz_congr (fun i _ => e1 60 (by decide) i) (fun i _ => e1 62 (by decide) i)
  have k3 : cz 3 σ' = cz 3 σ := cz_congr (fun i _ => e1 70 (by decide) i) (fun i _ => e1 72 (by decide) i)
  have m0 : mz 0 σ' = mz 0 σ := mz_congr (fun i hi => e2 _ (by omega)) e3 e4
  have m1 : mz 39 σ' = mz 39 σ := mz_congr (fun i hi => e2 _ (by omega)) e3 e4
  have m2 : mz 78 σ' = mz 78 σ := mz_congr (fun i hi => e2 _ (by omega)) e3 e4
  unfold RelP
  rw [k0, k2, k3, m0, m1, m2]
  exact ⟨⟨a1, a2, a3⟩, ⟨b1, b2, b3⟩, c1.same (fun i _ => e1 42 (by decide) i), c2.same (fun i _ => e1 62 (by decide) i), c3.same (fun i _ => e1 72 (by decide) i)⟩
theorem RelP.mono {B B' : Nat} {σ : SS} (h : RelP B σ) (hB : B ≤ B') : RelP B' σ := ⟨h.1, ⟨h.2.1.1.mono hB, h.2.1.2.1.mono hB, h.2.1.2.2.mono hB⟩, h.2.2⟩
theorem Inv.up {t : Nat} {σ : SS} (h : Inv t σ) : Inv (t + 1) σ := Rel.mono h (by omega)
theorem byte_nar : ∀ c, c < 128 → vp_nar .byte (nI c).toInt8.toInt32 = nI c := by decide +kernel
def Ag (X : Nat → Nat → Prop) (σ σ' : SS) : Prop := ∀ g i, ¬ hid g i → ¬ X g i → gi σ' g i = gi σ g i
theorem Ag.refl {X : Nat → Nat → Prop} {σ : SS} : Ag X σ σ := fun _ _ _ _ => rfl
theorem Ag.put {X : Nat → Nat → Prop} {σ σ' : SS} {g i : Nat} {x : Int32} (h : Ag X σ σ') (hx : X g i) : Ag X σ (si σ' g i x) := fun g' i' h1 h2 => (gi_sn (by
  by_cases e : g' = g
  · right
    intro e2
    rw [e, e2] at h2
    exact h2 hx
  · exact Or.inl e)).trans (h g' i' h1 h2)
theorem Ag.hide {X : Nat → Nat → Prop} {σ σ' : SS} {g i : Nat} {x : Int32} (h : Ag X σ σ') (hx : hid g i) : Ag X σ (si σ' g i x) := fun g' i' h1 h2 => (gi_sn (by
  by_cases e : g' = g
  · right
    intro e2
    rw [e, e2] at h1
    exact h1 hx
  · exact Or.inl e)).trans (h g' i' h1 h2)
theorem Ag.same {X : Nat → Nat → Prop} {σ σ1 σ2 : SS} (h : Ag X σ σ1) (e : Same σ1 σ2) : Ag X σ σ2 := fun g i h1 h2 => (e.1 g i h1).trans (h g i h1 h2)
theorem Ag.trans {X : Nat → Nat → Prop} {σ σ1 σ2 : SS} (h : Ag X σ σ1) (e : Ag X σ1 σ2) : Ag X σ σ2 := fun g i h1 h2 => (e g i h1 h2).trans (h g i h1 h2)
def XT (g i : Nat) : Prop := g = 7 ∨ g = 23 ∨ (g = 0 ∧ i = 12) ∨ (g = 1 ∧ i = 4)
theorem Rel.exT {B B' : Nat} {σ σ' : SS} (h : Rel B σ) (hB : B ≤ B') (e : Ag XT σ σ') (es : σ'.2.2 = σ.2.2) (nt : Rt σ') : Rel B' σ' := by
  obtain ⟨h4, h5, h6, h7, h8, h9⟩ := h.2.2.2
  exact Rel.of (h.P.mono hB |>.same ⟨fun g hg i => e g i (by unfold hid; omega) (by unfold XT; omega), fun i hi => e 21 i (by unfold hid; omega) (by unfold XT; omega), e 1 14 (by unfold hid; omega) (by unfold XT; omega), e 1 15 (by unfold hid; omega) (by unfold XT; omega)⟩) (h4.same (e 0 4 (by unfold hid; omega) (by unfold XT; omega)) (e 28 0 (by unfold hid; omega) (by unfold XT; omega)) (e 28 1 (by unfold hid; omega) (by unfold XT; omega))) (h5.same (e 0 6 (by unfold hid; omega) (by unfold XT; omega)) (e 1 19 (by unfold hid; omega) (by unfold XT; omega)) (fun i => e 4 i (by unfold hid; omega) (by unfold XT; omega)) (fun i => e 26 i (by unfold hid; omega) (by unfold XT; omega))) nt (h7.same (e 0 13 (by unfold hid; omega) (by unfold XT; omega)) (e 1 5 (by unfold hid; omega) (by unfold XT; omega)) (e 0 22 (by unfold hid; omega) (by unfold XT; omega)) (e 1 25 (by unfold hid; omega) (by unfold XT; omega))) (h8.same (fun i => e 24 i (by unfold hid; omega) (by unfold XT; omega)) (fun i => e 25 i (by unfold hid; omega) (by unfold XT; omega))) (h9.same es (fun i => e 29 i (by unfold hid; omega) (by unfold XT; omega)) (fun i => e 30 i (by unfold hid; omega) (by unfold XT; omega)) (fun i => e 31 i (by unfold hid; omega) (by unfold XT; omega)) (fun j hj i => e (17 + j) i (by unfold hid; omega) (by unfold XT; omega)))
def XS (g i : Nat) : Prop := g = 4 ∨ g = 26 ∨ (g = 0 ∧ i = 6) ∨ (g = 1 ∧ i = 19)
theorem Rel.exS {B B' : Nat} {σ σ' : SS} (h : Rel B σ) (hB : B ≤ B') (e : Ag XS σ σ') (es : σ'.2.2 = σ.2.2) (ns : Rs σ') : Rel B' σ' := by
  obtain ⟨h4, h5, h6, h7, h8, h9⟩ := h.2.2.2
  exact Rel.of (h.P.mono hB |>.same ⟨fun g hg i => e g i (by unfold hid; omega) (by unfold XS; omega), fun i hi => e 21 i (by unfold hid; omega) (by unfold XS; omega), e 1 14 (by unfold hid; omega) (by unfold XS; omega), e 1 15 (by unfold hid; omega) (by unfold XS; omega)⟩) (h4.same (e 0 4 (by unfold hid; omega) (by unfold XS; omega)) (e 28 0 (by unfold hid; omega) (by unfold XS; omega)) (e 28 1 (by unfold hid; omega) (by unfold XS; omega))) ns (h6.same (e 0 12 (by unfold hid; omega) (by unfold XS; omega)) (e 1 4 (by unfold hid; omega) (by unfold XS; omega)) (fun i => e 7 i (by unfold hid; omega) (by unfold XS; omega)) (fun i => e 23 i (by unfold hid; omega) (by unfold XS; omega))) (h7.same (e 0 13 (by unfold hid; omega) (by unfold XS; omega)) (e 1 5 (by unfold hid; omega) (by unfold XS; omega)) (e 0 22 (by unfold hid; omega) (by unfold XS; omega)) (e 1 25 (by unfold hid; omega) (by unfold XS; omega))) (h8.same (fun i => e 24 i (by unfold hid; omega) (by unfold XS; omega)) (fun i => e 25 i (by unfold hid; omega) (by unfold XS; omega))) (h9.same es (fun i => e 29 i (by unfold hid; omega) (by unfold XS; omega)) (fun i => e 30 i (by unfold hid; omega) (by unfold XS; omega)) (fun i => e 31 i (by unfold hid; omega) (by unfold XS; omega)) (fun j hj i => e (17 + j) i (by unfold hid; omega) (by unfold XS; omega)))
def XF (g i : Nat) : Prop := (g = 0 ∧ i = 13) ∨ (g = 1 ∧ i = 5) ∨ (g = 0 ∧ i = 22) ∨ (g = 1 ∧ i = 25)
theorem Rel.exF {B B' : Nat} {σ σ' : SS} (h : Rel B σ) (hB : B ≤ B') (e : Ag XF σ σ') (es : σ'.2.2 = σ.2.2) (nf : Rf σ') : Rel B' σ' := by
  obtain ⟨h4, h5, h6, h7, h8, h9⟩ := h.2.2.2
  exact Rel.of (h.P.mono hB |>.same ⟨fun g hg i => e g i (by unfold hid; omega) (by unfold XF; omega), fun i hi => e 21 i (by unfold hid; omega) (by unfold XF; omega), e 1 14 (by unfold hid; omega) (by unfold XF; omega), e 1 15 (by unfold hid; omega) (by unfold XF; omega)⟩) (h4.same (e 0 4 (by unfold hid; omega) (by unfold XF; omega)) (e 28 0 (by unfold hid; omega) (by unfold XF; omega)) (e 28 1 (by unfold hid; omega) (by unfold XF; omega))) (h5.same (e 0 6 (by unfold hid; omega) (by unfold XF; omega)) (e 1 19 (by unfold hid; omega) (by unfold XF; omega)) (fun i => e 4 i (by unfold hid; omega) (by unfold XF; omega)) (fun i => e 26 i (by unfold hid; omega) (by unfold XF; omega))) (h6.same (e 0 12 (by unfold hid; omega) (by unfold XF; omega)) (e 1 4 (by unfold hid; omega) (by unfold XF; omega)) (fun i => e 7 i (by unfold hid; omega) (by unfold XF; omega)) (fun i => e 23 i (by unfold hid; omega) (by unfold XF; omega))) nf (h8.same (fun i => e 24 i (by unfold hid; omega) (by unfold XF; omega)) (fun i => e 25 i (by unfold hid; omega) (by unfold XF; omega))) (h9.same es (fun i => e 29 i (by unfold hid; omega) (by unfold XF; omega)) (fun i => e 30 i (by unfold hid; omega) (by unfold XF; omega)) (fun i => e 31 i (by unfold hid; omega) (by unfold XF; omega)) (fun j hj i => e (17 + j) i (by unfold hid; omega) (by unfold XF; omega)))
def XP (g i : Nat) : Prop := g = 40 ∨ g = 42 ∨ (g = 21 ∧ i < 39)
theorem Rel.exP {B B' : Nat} {σ σ' : SS} (h : Rel B σ) (hB : B ≤ B') (e : Ag XP σ σ') (es : σ'.2.2 = σ.2.2) (nP : RelP B' σ') : Rel B' σ' := by
  obtain ⟨h4, h5, h6, h7, h8, h9⟩ := h.2.2.2
  exact Rel.of nP (h4.same (e 0 4 (by unfold hid; omega) (by unfold XP; omega)) (e 28 0 (by unfold hid; omega) (by unfold XP; omega)) (e 28 1 (by unfold hid; omega) (by unfold XP; omega))) (h5.same (e 0 6 (by unfold hid; omega) (by unfold XP; omega)) (e 1 19 (by unfold hid; omega) (by unfold XP; omega)) (fun i => e 4 i (by unfold hid; omega) (by unfold XP; omega)) (fun i => e 26 i (by unfold hid; omega) (by unfold XP; omega))) (h6.same (e 0 12 (by unfold hid; omega) (by unfold XP; omega)) (e 1 4 (by unfold hid; omega) (by unfold XP; omega)) (fun i => e 7 i (by unfold hid; omega) (by unfold XP; omega)) (fun i => e 23 i (by unfold hid; omega) (by unfold XP; omega))) (h7.same (e 0 13 (by unfold hid; omega) (by unfold XP; omega)) (e 1 5 (by unfold hid; omega) (by unfold XP; omega)) (e 0 22 (by unfold hid; omega) (by unfold XP; omega)) (e 1 25 (by unfold hid; omega) (by unfold XP; omega))) (h8.same (fun i => e 24 i (by unfold hid; omega) (by unfold XP; omega)) (fun i => e 25 i (by unfold hid; omega) (by unfold XP; omega))) (h9.same es (fun i => e 29 i (by unfold hid; omega) (by unfold XP; omega)) (fun i => e 30 i (by unfold hid; omega) (by unfold XP; omega)) (fun i => e 31 i (by unfold hid; omega) (by unfold XP; omega)) (fun j hj i => e (17 + j) i (by unfold hid; omega) (by unfold XP; omega)))
def XJ (g i : Nat) : Prop := g = 60 ∨ g = 62 ∨ g = 70 ∨ g = 72 ∨ (g = 21 ∧ 39 ≤ i ∧ i < 117) ∨ (g = 0 ∧ i = 4) ∨ g = 28
theorem Rel.exJ {B B' : Nat} {σ σ' : SS} (h : Rel B σ) (hB : B ≤ B') (e : Ag XJ σ σ') (es : σ'.2.2 = σ.2.2) (nP : RelP B' σ') (nk : Rk σ') : Rel B' σ' := by
  obtain ⟨h4, h5, h6, h7, h8, h9⟩ := h.2.2.2
  exact Rel.of nP nk (h5.same (e 0 6 (by unfold hid; omega) (by unfold XJ; omega)) (e 1 19 (by unfold hid; omega) (by unfold XJ; omega)) (fun i => e 4 i (by unfold hid; omega) (by unfold XJ; omega)) (fun i => e 26 i (by unfold hid; omega) (by unfold XJ; omega))) (h6.same (e 0 12 (by unfold hid; omega) (by unfold XJ; omega)) (e 1 4 (by unfold hid; omega) (by unfold XJ; omega)) (fun i => e 7 i (by unfold hid; omega) (by unfold XJ; omega)) (fun i => e 23 i (by unfold hid; omega) (by unfold XJ; omega))) (h7.same (e 0 13 (by unfold hid; omega) (by unfold XJ; omega)) (e 1 5 (by unfold hid; omega) (by unfold XJ; omega)) (e 0 22 (by unfold hid; omega) (by unfold XJ; omega)) (e 1 25 (by unfold hid; omega) (by unfold XJ; omega))) (h8.same (fun i => e 24 i (by unfold hid; omega) (by unfold XJ; omega)) (fun i => e 25 i (by unfold hid; omega) (by unfold XJ; omega))) (h9.same es (fun i => e 29 i (by unfold hid; omega) (by unfold XJ; omega)) (fun i => e 30 i (by unfold hid; omega) (by unfold XJ; omega)) (fun i => e 31 i (by unfold hid; omega) (by unfold XJ; omega)) (fun j hj i => e (17 + j) i (by unfold hid; omega) (by unfold XJ; omega)))
def XH (g i : Nat) : Prop := g = 17 ∨ g = 18 ∨ g = 19 ∨ g = 20 ∨ g = 29 ∨ g = 30 ∨ g = 31
theorem Rel.exH {B B' : Nat} {σ σ' : SS} (h : Rel B σ) (hB : B ≤ B') (e : Ag XH σ σ') (nh : Rh σ') : Rel B' σ' := by
  obtain ⟨h4, h5, h6, h7, h8, h9⟩ := h.2.2.2
  exact Rel.of (h.P.mono hB |>.same ⟨fun g hg i => e g i (by unfold hid; omega) (by unfold XH; omega), fun i hi => e 21 i (by unfold hid; omega) (by unfold XH; omega), e 1 14 (by unfold hid; omega) (by unfold XH; omega), e 1 15 (by unfold hid; omega) (by unfold XH; omega)⟩) (h4.same (e 0 4 (by unfold hid; omega) (by unfold XH; omega)) (e 28 0 (by unfold hid; omega) (by unfold XH; omega)) (e 28 1 (by unfold hid; omega) (by unfold XH; omega))) (h5.same (e 0 6 (by unfold hid; omega) (by unfold XH; omega)) (e 1 19 (by unfold hid; omega) (by unfold XH; omega)) (fun i => e 4 i (by unfold hid; omega) (by unfold XH; omega)) (fun i => e 26 i (by unfold hid; omega) (by unfold XH; omega))) (h6.same (e 0 12 (by unfold hid; omega) (by unfold XH; omega)) (e 1 4 (by unfold hid; omega) (by unfold XH; omega)) (fun i => e 7 i (by unfold hid; omega) (by unfold XH; omega)) (fun i => e 23 i (by unfold hid; omega) (by unfold XH; omega))) (h7.same (e 0 13 (by unfold hid; omega) (by unfold XH; omega)) (e 1 5 (by unfold hid; omega) (by unfold XH; omega)) (e 0 22 (by unfold hid; omega) (by unfold XH; omega)) (e 1 25 (by unfold hid; omega) (by unfold XH; omega))) (h8.same (fun i => e 24 i (by unfold hid; omega) (by unfold XH; omega)) (fun i => e 25 i (by unfold hid; omega) (by unfold XH; omega))) nh
def XA (g i : Nat) : Prop := g = 40 ∨ g = 42 ∨ (g = 21 ∧ i < 39) ∨ (g = 0 ∧ (i = 4 ∨ i = 6 ∨ i = 12 ∨ i = 13)) ∨ g = 28 ∨ (g = 1 ∧ (i = 19 ∨ i = 4 ∨ i = 5))
theorem Rel.exA {B B' : Nat} {σ σ' : SS} (h : Rel B σ) (hB : B ≤ B') (e : Ag XA σ σ') (es : σ'.2.2 = σ.2.2) (nP : RelP B' σ') (nk : Rk σ') (ns : Rs σ') (nt : Rt σ') (nf : Rf σ') : Rel B' σ' := by
  obtain ⟨h4, h5, h6, h7, h8, h9⟩ := h.2.2.2
  exact Rel.of nP nk ns nt nf (h8.same (fun i => e 24 i (by unfold hid; omega) (by unfold XA; omega)) (fun i => e 25 i (by unfold hid; omega) (by unfold XA; omega))) (h9.same es (fun i => e 29 i (by unfold hid; omega) (by unfold XA; omega)) (fun i => e 30 i (by unfold hid; omega) (by unfold XA; omega)) (fun i => e 31 i (by unfold hid; omega) (by unfold XA; omega)) (fun j hj i => e (17 + j) i (by unfold hid; omega) (by unfold XA; omega)))
def XR (g i : Nat) : Prop := g = 40 ∨ g = 42 ∨ (g = 21 ∧ i < 39) ∨ (g = 0 ∧ i = 22) ∨ (g = 1 ∧ i = 25)
theorem Rel.exR {B B' : Nat} {σ σ' : SS} (h : Rel B σ) (hB : B ≤ B') (e : Ag XR σ σ') (es : σ'.2.2 = σ.2.2) (nP : RelP B' σ') (nf : Rf σ') : Rel B' σ' := by
  obtain ⟨h4, h5, h6, h7, h8, h9⟩ := h.2.2.2
  exact Rel.of nP (h4.same (e 0 4 (by unfold hid; omega) (by unfold XR; omega)) (e 28 0 (by unfold hid; omega) (by unfold XR; omega)) (e 28 1 (by unfold hid; omega) (by unfold XR; omega))) (h5.same (e 0 6 (by unfold hid; omega) (by unfold XR; omega)) (e 1 19 (by unfold hid; omega) (by unfold XR; omega)) (fun i => e 4 i (by unfold hid; omega) (by unfold XR; omega)) (fun i => e 26 i (by unfold hid; omega) (by unfold XR; omega))) (h6.same (e 0 12 (by unfold hid; omega) (by unfold XR; omega)) (e 1 4 (by unfold hid; omega) (by unfold XR; omega)) (fun i => e 7 i (by unfold hid; omega) (by unfold XR; omega)) (fun i => e 23 i (by unfold hid; omega) (by unfold XR; omega))) nf (h8.same (fun i => e 24 i (by unfold hid; omega) (by unfold XR; omega)) (fun i => e 25 i (by unfold hid; omega) (by unfold XR; omega))) (h9.same es (fun i => e 29 i (by unfold hid; omega) (by unfold XR; omega)) (fun i => e 30 i (by unfold hid; omega) (by unfold XR; omega)) (fun i => e 31 i (by unfold hid; omega) (by unfold XR; omega)) (fun j hj i => e (17 + j) i (by unfold hid; omega) (by unfold XR; omega)))
theorem p_feed {N : Nat} : Sp0 Inv N := by
  intro t σ x1 ht hI
  unfold F_X0_feed F_X8_feed
  by_cases h : InR x1 0 128
  · simp only [m_in_e, in_1 (a := 0) (b := 128) (lo := 0) (hi := 127) (by decide) (by decide) (by decide) h, bd_s]
    rw [if_neg (by decide)]
    obtain ⟨c, -, hc, rfl⟩ := h
    obtain ⟨tp, q1, q2, q3, q4⟩ := hI.2.2.2.2.2.1
    simp only [q2]
    by_cases c1 : tp = 160
    · subst c1
      rw [if_pos (by decide)]
      refine ⟨_, _, _, rfl, ?_, hI.up⟩
      simp only [q3]
      rw [if_neg (by decide), if_pos (by decide)]
    · have c2 : ¬ nI tp = (160 : Int32) := fun z => c1 ((nI_eq (b := 160) (by omega) (by omega)).mp z)
      rw [if_neg c2, gd_t (inR_nI (by omega) (by omega)), nI_clamp (by omega), byte_nar c hc]
      have e1 : nI tp + (1 : Int32) = nI (tp + 1) := nI_1 tp
      refine ⟨nI (tp + 1), si (si σ 7 tp (nI c)) 0 12 (nI (tp + 1)), si (si (si (si σ 7 tp (nI c)) 0 12 (nI (tp + 1))) 23 tp (nI c)) 1 4 (nI (tp + 1)), ?_, ?_, ?_⟩
      · simp only [nm, gi_se]
        rw [gi_sn (by omega), q2, e1]
      · rw [if_neg (by decide)]
        rw [gi_sn (by omega), gi_sn (by omega), q3, if_neg c2, gd_t (inR_nI (by omega) (by omega)), nI_clamp (by omega)]
        simp only [nm, gi_se]
        rw [gi_sn (by omega), gi_sn (by omega), gi_sn (by omega), q3, e1]
      · refine hI.exT (by omega) ((((Ag.refl.put (Or.inl rfl)).put (by unfold XT; omega)).put (Or.inr (Or.inl rfl))).put (by unfold XT; omega)) rfl ⟨tp + 1, by omega, ?_, gi_se, fun i hi => ?_⟩
        · rw [gi_sn (by omega), gi_sn (by omega), gi_se]
        · by_cases c3 : i = tp
          · subst c3
            refine ⟨c, by omega, ?_, ?_⟩
            · rw [gi_sn (by omega), gi_sn (by omega), gi_sn (by omega), gi_se]
            · rw [gi_sn (by omega), gi_se]
          · obtain ⟨c', g1, g2, g3⟩ := q4 i (by omega)
            refine ⟨c', g1, ?_, ?_⟩
            · rw [gi_sn (by omega), gi_sn (by omega), gi_sn (by omega), gi_sn (by omega)]; exact g2
            · rw [gi_sn (by omega), gi_sn (by omega), gi_sn (by omega), gi_sn (by omega)]; exact g3
  · simp only [m_in_e, in_0 (a := 0) (b := 128) (lo := 0) (hi := 127) (by decide) (by decide) (by decide) h, bd_s]
    exact ⟨_, _, _, if_pos trivial, if_pos trivial, hI.up⟩
theorem p_end {N : Nat} : Sp1 Inv N := by
  intro t σ x1 ht hI
  unfold F_X0_end F_X8_end
  obtain ⟨tp, q1, q2, q3, q4⟩ := hI.2.2.2.2.2.1
  have hh : (nI tp).toInt64.toInt + 1 = ((tp + 1 : Nat) : Int) := by rw [lg_of (by omega)]; omega
  simp only [q2]
  by_cases h : InR x1 0 (tp + 1)
  · simp only [m_in_e, in_1 (a := 0) (b := tp + 1) (lo := 0) (by decide) hh (by omega) h, bd_s]
    obtain ⟨n, -, hn, rfl⟩ := h
    refine ⟨nI tp, si σ 0 12 (nI n), si (si σ 0 12 (nI n)) 1 4 (nI n), ?_, ?_, ?_⟩
    · rw [if_neg (by decide)]
      simp only [nm, q2]
    · rw [gi_sn (by omega), q3, in_1 (a := 0) (b := tp + 1) (lo := 0) (by decide) hh (by omega) ⟨n, Nat.zero_le _, hn, rfl⟩, bd_s, if_neg (by decide)]
      simp only [nm]
      rw [gi_sn (by omega), q3]
    · refine hI.exT (by omega) ((Ag.refl.put (by unfold XT; omega)).put (by unfold XT; omega)) rfl ⟨n, by omega, ?_, gi_se, fun i hi => ?_⟩
      · rw [gi_sn (by omega), gi_se]
      · obtain ⟨c, g1, g2, g3⟩ := q4 i (by omega)
        exact ⟨c, g1, by rw [gi_sn (by omega), gi_sn (by omega)]; exact g2, by rw [gi_sn (by omega), gi_sn (by omega)]; exact g3⟩
  · simp only [m_in_e, in_0 (a := 0) (b := tp + 1) (lo := 0) (by decide) hh (by omega) h, bd_s]
    refine ⟨_, _, _, if_pos trivial, ?_, hI.up⟩
    rw [q3, in_0 (a := 0) (b := tp + 1) (lo := 0) (by decide) hh (by omega) h, bd_s, if_pos rfl]
theorem p_fault {N : Nat} : Sp3 Inv N := fun t σ ht hI => ⟨_, _, _, rfl, congrArg some (congrArg (fun z => (z, σ)) hI.2.2.2.2.2.2.1.1.symm), hI.up⟩
theorem p_torn {N : Nat} : Sp39 Inv N := fun t σ ht hI => ⟨_, _, _, rfl, congrArg some (congrArg (fun z => (z, σ)) hI.2.2.2.2.2.2.1.2.symm), hI.up⟩
