/-! THE PLAIN LAW: what both halves agree on; what may change unseen -/
set_option maxRecDepth 100000
def hid (g i : Nat) : Prop := g = 50 ∨ g = 52 ∨ g = 32 ∨ g = 80 ∨ g = 82 ∨ g = 5 ∨ g = 6 ∨ g = 22 ∨ g = 27 ∨ (g = 21 ∧ 117 ≤ i) ∨ (g = 0 ∧ ((7 ≤ i ∧ i ≤ 10) ∨ i = 14 ∨ i = 15)) ∨ (g = 1 ∧ (i = 2 ∨ (6 ≤ i ∧ i ≤ 11) ∨ i = 16 ∨ i = 17))
def Same (σ σ' : SS) : Prop := (∀ g i, ¬ hid g i → gi σ' g i = gi σ g i) ∧ σ'.2.2 = σ.2.2
theorem Same.refl (σ : SS) : Same σ σ := ⟨fun _ _ _ => rfl, rfl⟩
theorem Same.trans {σ σ1 σ2 : SS} (h1 : Same σ σ1) (h2 : Same σ1 σ2) : Same σ σ2 := ⟨fun g i h => (h2.1 g i h).trans (h1.1 g i h), h2.2.trans h1.2⟩
theorem Same.si {σ : SS} {g i : Nat} {x : Int32} (h : hid g i) : Same σ (si σ g i x) := ⟨fun g' i' h' => if_neg (fun z => h' (by rw [z.1, z.2]; exact h)), rfl⟩
theorem Same.sl {σ : SS} {i : Nat} {x : Int64} : Same σ (sl σ i x) := ⟨fun _ _ _ => rfl, rfl⟩
theorem Same.ctw {σ : SS} {T : TT} : Same σ (ctw 1 T σ) := ⟨fun g i h => by
  show (if g = iS 1 then _ else if g = 0 then (if i = 7 then _ else if i = 8 then _ else if i = 9 then _ else if i = 10 then _ else σ.1 g i) else σ.1 g i) = σ.1 g i
  unfold hid at h
  have h50 : iS 1 = 50 := rfl
  rw [if_neg (by omega)]
  by_cases h0 : g = 0
  · rw [if_pos h0, if_neg (by omega), if_neg (by omega), if_neg (by omega), if_neg (by omega)]
  · rw [if_neg h0], rfl⟩
theorem Same.asw {σ : SS} {b : Nat} : Same σ (asw 1 b σ) := ⟨fun g i h => by
  unfold hid at h
  have h50 : iS 1 = 50 := rfl
  have h52 : iAA 1 = 52 := rfl
  exact asw_g (by omega) (by omega), rfl⟩
theorem Same.mtw {σ : SS} {p : Nat} {T : TT} (hp : 117 ≤ p) : Same σ (mtw p T σ) := ⟨fun g i h => by
  show (if g = 21 then (if p ≤ i ∧ dq (i - p) = true then _ else σ.1 g i) else if g = 1 then (if i = 16 then _ else if i = 17 then _ else σ.1 g i) else σ.1 g i) = σ.1 g i
  unfold hid at h
  by_cases h1 : g = 21
  · rw [if_pos h1, if_neg (by omega)]
  · rw [if_neg h1]
    by_cases h2 : g = 1
    · rw [if_pos h2, if_neg (by omega), if_neg (by omega)]
    · rw [if_neg h2], rfl⟩
theorem Same.mcp {σ : SS} {a b : Nat} (hb : 117 ≤ b) : Same σ (mcp a b 39 σ) := ⟨fun g i h => by
  unfold hid at h
  exact mcp_g (by omega), rfl⟩
theorem Same.cz {σ σ' : SS} (h : Same σ σ') {k : Nat} (hk : k = 0 ∨ k = 2 ∨ k = 3) : cz k σ' = cz k σ := by
  refine cz_congr (fun i _ => h.1 _ _ ?_) (fun i _ => h.1 _ _ ?_)
  · unfold hid iS
    omega
  · unfold hid iAA
    omega
theorem Same.mz {σ σ' : SS} (h : Same σ σ') {p : Nat} (hp : p + 39 ≤ 117) : mz p σ' = mz p σ := by
  refine mz_congr (fun i _ => h.1 _ _ ?_) (h.1 _ _ ?_) (h.1 _ _ ?_)
  · unfold hid; omega
  · unfold hid; omega
  · unfold hid; omega
/-- swings: not negative, so much together at most -/
def Sw (B : Nat) (P : Pg) : Prop := 0 ≤ (P 35).toInt ∧ 0 ≤ (P 12).toInt ∧ 0 ≤ (P 13).toInt ∧ 0 ≤ (P 14).toInt ∧ 0 ≤ (P 15).toInt ∧ (P 35).toInt + (P 12).toInt + (P 13).toInt + (P 14).toInt + (P 15).toInt ≤ B
theorem Sw.mono {B B' : Nat} {P : Pg} (h : Sw B P) (hB : B ≤ B') : Sw B' P := ⟨h.1, h.2.1, h.2.2.1, h.2.2.2.1, h.2.2.2.2.1, by have := h.2.2.2.2.2; omega⟩
def PV (B : Nat) (P : Pg) : Prop := ∃ nw na M t, Fx P nw na M ∧ P 36 = nI t ∧ t ≤ 9999 ∧ P 39 = -4 ∧ P 40 = -4 ∧ Sw B P
theorem PV.mono {B B' : Nat} {P : Pg} (h : PV B P) (hB : B ≤ B') : PV B' P := by
  obtain ⟨nw, na, M, t, h1, h2, h3, h4, h5, h6⟩ := h
  exact ⟨nw, na, M, t, h1, h2, h3, h4, h5, h6.mono hB⟩
def AF (k : Nat) (σ : SS) : Prop := ∀ i, i < 16 → ∃ a, a ≤ 203 ∧ gi σ (iAA k) i = nI a
theorem AF.fit {k : Nat} {σ : SS} (h : AF k σ) : ∀ i, i < 16 → fits .short (.int (gi σ (iAA k) i)) = true := fun i hi => by
  obtain ⟨a, ha, e⟩ := h i hi
  rw [e]
  have key : ∀ a, a < 204 → fits .short (.int (nI a)) = true := by decide +kernel
  exact key a (by omega)
theorem AF.same {k : Nat} {σ σ' : SS} (h : AF k σ) (e : ∀ i, i < 16 → gi σ' (iAA k) i = gi σ (iAA k) i) : AF k σ' := fun i hi => by
  rw [e i hi]
  exact h i hi
def Rk (σ : SS) : Prop := ∃ a b : Bool, gi σ 0 4 = nI ((if a = true then 1 else 0) + (if b = true then 2 else 0)) ∧ gi σ 28 0 = b2i a ∧ gi σ 28 1 = b2i b
def Rs (σ : SS) : Prop := ∃ sm, sm ≤ 6 ∧ gi σ 0 6 = nI sm ∧ gi σ 1 19 = nI sm ∧ ∀ k, k < sm → (∃ n, n ≤ 40 ∧ gi σ 4 (3 * k) = nI n ∧ gi σ 26 (3 * k) = nI n) ∧ (∃ w, w < 4 ∧ gi σ 4 (3 * k + 1) = nI w ∧ gi σ 26 (3 * k + 1) = nI w) ∧ gi σ 4 (3 * k + 2) = gi σ 26 (3 * k + 2)
def Rt (σ : SS) : Prop := ∃ tp, tp ≤ 160 ∧ gi σ 0 12 = nI tp ∧ gi σ 1 4 = nI tp ∧ ∀ i, i < tp → ∃ c, c ≤ 127 ∧ gi σ 7 i = nI c ∧ gi σ 23 i = nI c
def Rf (σ : SS) : Prop := gi σ 0 13 = gi σ 1 5 ∧ gi σ 0 22 = gi σ 1 25
def Rl (σ : SS) : Prop := (∀ i, i < 9 → gi σ 24 i = endL.getD i 0) ∧ ∀ i, i < 35 → gi σ 25 i = letL.getD i 0
def Rh (σ : SS) : Prop := ∀ j, j < 4 → ∃ kd n, kd ≤ 3 ∧ n ≤ 40 ∧ σ.2.2 j = (kd, n) ∧ (kd = 0 → gi σ 29 j = -4) ∧ (0 < kd → gi σ 29 j = nI (kd - 1) ∧ gi σ 30 j = nI n ∧ ∀ i, i < n → gi σ 31 (40 * j + i) = gi σ (17 + j) i)
def Rel (B : Nat) (σ : SS) : Prop := (cz 0 σ = mz 0 σ ∧ cz 2 σ = mz 39 σ ∧ cz 3 σ = mz 78 σ) ∧ (PV B (cz 0 σ) ∧ PV B (cz 2 σ) ∧ PV B (cz 3 σ)) ∧ (AF 0 σ ∧ AF 2 σ ∧ AF 3 σ) ∧ Rk σ ∧ Rs σ ∧ Rt σ ∧ Rf σ ∧ Rl σ ∧ Rh σ
theorem Rk.same {σ σ' : SS} (h : Rk σ) (e1 : gi σ' 0 4 = gi σ 0 4) (e2 : gi σ' 28 0 = gi σ 28 0) (e3 : gi σ' 28 1 = gi σ 28 1) : Rk σ' := by
  obtain ⟨a, b, h1, h2, h3⟩ := h
  exact ⟨a, b, e1.trans h1, e2.trans h2, e3.trans h3⟩
theorem Rs.same {σ σ' : SS} (h : Rs σ) (e1 : gi σ' 0 6 = gi σ 0 6) (e2 : gi σ' 1 19 = gi σ 1 19) (e3 : ∀ i, gi σ' 4 i = gi σ 4 i) (e4 : ∀ i, gi σ' 26 i = gi σ 26 i) : Rs σ' := by
  obtain ⟨sm, h1, h2, h3, h4⟩ := h
  refine ⟨sm, h1, e1.trans h2, e2.trans h3, fun k hk => ?_⟩
  simp only [e3, e4]
  exact h4 k hk
theorem Rt.same {σ σ' : SS} (h : Rt σ) (e1 : gi σ' 0 12 = gi σ 0 12) (e2 : gi σ' 1 4 = gi σ 1 4) (e3 : ∀ i, gi σ' 7 i = gi σ 7 i) (e4 : ∀ i, gi σ' 23 i = gi σ 23 i) : Rt σ' := by
  obtain ⟨tp, h1, h2, h3, h4⟩ := h
  refine ⟨tp, h1, e1.trans h2, e2.trans h3, fun k hk => ?_⟩
  simp only [e3, e4]
  exact h4 k hk
theorem Rf.same {σ σ' : SS} (h : Rf σ) (e1 : gi σ' 0 13 = gi σ 0 13) (e2 : gi σ' 1 5 = gi σ 1 5) (e3 : gi σ' 0 22 = gi σ 0 22) (e4 : gi σ' 1 25 = gi σ 1 25) : Rf σ' := by
  unfold Rf
  rw [e1, e2, e3, e4]
  exact h
theorem Rl.same {σ σ' : SS} (h : Rl σ) (e1 : ∀ i, gi σ' 24 i = gi σ 24 i) (e2 : ∀ i, gi σ' 25 i = gi σ 25 i) : Rl σ' := by
  unfold Rl
  simp only [e1, e2]
  exact h
theorem Rh.same {σ σ' : SS} (h : Rh σ) (e0 : σ'.2.2 = σ.2.2) (e1 : ∀ i, gi σ' 29 i = gi σ 29 i) (e2 : ∀ i, gi σ' 30 i = gi σ 30 i) (e3 : ∀ i, gi σ' 31 i = gi σ 31 i) (e4 : ∀ j, j < 4 → ∀ i, gi σ' (17 + j) i = gi σ (17 + j) i) : Rh σ' := by
  intro j hj
  obtain ⟨kd, n, h1, h2, h3, h4, h5⟩ := h j hj
  refine ⟨kd, n, h1, h2, by rw [e0]; exact h3, fun z => by rw [e1]; exact h4 z, fun z => ?_⟩
  obtain ⟨g1, g2, g3⟩ := h5 z
  exact ⟨by rw [e1]; exact g1, by rw [e2]; exact g2, fun i hi => by rw [e3, e4 j hj]; exact g3 i hi⟩
theorem Rel.same {B : Nat} {σ σ' : SS} (h : Rel B σ) (e : Same σ σ') : Rel B σ' := by
  obtain ⟨⟨a1, a2, a3⟩, ⟨b1, b2, b3⟩, ⟨c1, c2, c3⟩, h4, h5, h6, h7, h8, h9⟩ := h
  have nh : ∀ g, (g ≠ 50 ∧ g ≠ 52 ∧ g ≠ 32 ∧ g ≠ 80 ∧ g ≠ 82 ∧ g ≠ 5 ∧ g ≠ 6 ∧ g ≠ 22 ∧ g ≠ 27 ∧ g ≠ 21 ∧ g ≠ 0 ∧ g ≠ 1) → ∀ i, gi σ' g i = gi σ g i := fun g hg i => e.1 g i (by unfold hid; omega)
  have n0 : ∀ i, (i = 4 ∨ i = 6 ∨ i = 12 ∨ i = 13 ∨ i = 22) → gi σ' 0 i = gi σ 0 i := fun i hi => e.1 0 i (by unfold hid; omega)
  have n1 : ∀ i, (i = 4 ∨ i = 5 ∨ i = 19 ∨ i = 25) → gi σ' 1 i = gi σ 1 i := fun i hi => e.1 1 i (by unfold hid; omega)
  refine ⟨⟨?_, ?_, ?_⟩, ⟨?_, ?_, ?_⟩, ⟨c1.same fun i _ => nh _ (by decide) i, c2.same fun i _ => nh _ (by decide) i, c3.same fun i _ => nh _ (by decide) i⟩, h4.same (n0 4 (by decide)) (nh 28 (by decide) 0) (nh 28 (by decide) 1), h5.same (n0 6 (by decide)) (n1 19 (by decide)) (nh 4 (by decide)) (nh 26 (by decide)), h6.same (n0 12 (by decide)) (n1 4 (by decide)) (nh 7 (by decide)) (nh 23 (by decide)), h7.same (n0 13 (by decide)) (n1 5 (by decide)) (n0 22 (by decide)) (n1 25 (by decide)), h8.same (nh 24 (by decide)) (nh 25 (by decide)), h9.same e.2 (nh 29 (by decide)) (nh 30 (by decide)) (nh 31 (by decide)) (fun j hj => nh _ (by omega))⟩
  · rw [e.cz (Or.inl rfl), e.mz (by decide), a1]
  · rw [e.cz (Or.inr (Or.inl rfl)), e.mz (by decide), a2]
  · rw [e.cz (Or.inr (Or.inr rfl)), e.mz (by decide), a3]
  · rw [e.cz (Or.inl rfl)]; exact b1
  · rw [e.cz (Or.inr (Or.inl rfl))]; exact b2
  · rw [e.cz (Or.inr (Or.inr rfl))]; exact b3
theorem Rel.mono {B B' : Nat} {σ : SS} (h : Rel B σ) (hB : B ≤ B') : Rel B' σ := ⟨h.1, ⟨h.2.1.1.mono hB, h.2.1.2.1.mono hB, h.2.1.2.2.mono hB⟩, h.2.2⟩
def Inv (t : Nat) (σ : SS) : Prop := Rel (10000 * t) σ
