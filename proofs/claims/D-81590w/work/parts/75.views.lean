/-! THE PLAIN LAW: pages read out of a state; what both halves agree on -/
set_option maxRecDepth 100000
def cp (k : Nat) (σ : SS) : Pg := fun i => if 41 ≤ i then 0 else if 17 ≤ i ∧ i < 33 then gi σ (iAA k) (i - 17) else gi σ (iS k) i
def mp (p : Nat) (σ : SS) : Pg := fun i => if 41 ≤ i then 0 else if i = 40 then gi σ 1 14 else if i = 39 then gi σ 1 15 else if i = 34 then gi σ 21 (p + 34) + 5 else gi σ 21 (p + i)
/-- acts behind the last count for nothing -/
def nz (P : Pg) : Pg := fun i => if 17 ≤ i ∧ i < 33 ∧ (P 33).toNatClampNeg ≤ i - 17 then 0 else P i
def cz (k : Nat) (σ : SS) : Pg := nz (cp k σ)
def mz (p : Nat) (σ : SS) : Pg := nz (mp p σ)
theorem dm_e {i : Nat} (h : dm i = true) : i < 17 ∨ (33 ≤ i ∧ i < 41) := by
  unfold dm at h
  simpa using h
theorem nz_d {P : Pg} {i : Nat} (h : i < 17 ∨ 33 ≤ i) : nz P i = P i := if_neg (by omega)
theorem nz_A {P : Pg} {na i : Nat} (hn : P 33 = nI na) (hna : na ≤ 16) (h : i < na) : nz P (17 + i) = P (17 + i) := by
  refine if_neg (fun z => ?_)
  have h1 := z.2.2
  rw [hn, nI_clamp (by omega)] at h1
  omega
theorem cz_d {k i : Nat} {σ : SS} (h : dm i = true) : cz k σ i = gi σ (iS k) i := by
  have h1 := dm_e h
  unfold cz
  rw [nz_d (by omega)]
  show (if 41 ≤ i then _ else if 17 ≤ i ∧ i < 33 then _ else gi σ (iS k) i) = _
  rw [if_neg (by omega), if_neg (by omega)]
theorem cz_A {k na i : Nat} {σ : SS} (hn : cz k σ 33 = nI na) (hna : na ≤ 16) (h : i < na) : cz k σ (17 + i) = gi σ (iAA k) i := by
  unfold cz at hn ⊢
  rw [nz_d (by omega)] at hn
  rw [nz_A hn hna h]
  show (if 41 ≤ 17 + i then _ else if 17 ≤ 17 + i ∧ 17 + i < 33 then gi σ (iAA k) (17 + i - 17) else _) = _
  rw [if_neg (by omega), if_pos (by omega), Nat.add_sub_cancel_left]
theorem mz_d {p i : Nat} {σ : SS} (h : dq i = true) (h34 : i ≠ 34) : mz p σ i = gi σ 21 (p + i) := by
  have h1 : i < 17 ∨ (33 ≤ i ∧ i < 39) := by
    unfold dq at h
    simpa using h
  unfold mz
  rw [nz_d (by omega)]
  show (if 41 ≤ i then _ else if i = 40 then _ else if i = 39 then _ else if i = 34 then _ else gi σ 21 (p + i)) = _
  rw [if_neg (by omega), if_neg (by omega), if_neg (by omega), if_neg h34]
theorem mz_34 {p : Nat} {σ : SS} : mz p σ 34 = gi σ 21 (p + 34) + 5 := rfl
theorem mz_39 {p : Nat} {σ : SS} : mz p σ 39 = gi σ 1 15 := rfl
theorem mz_40 {p : Nat} {σ : SS} : mz p σ 40 = gi σ 1 14 := rfl
theorem mz_A {p na i : Nat} {σ : SS} (hn : mz p σ 33 = nI na) (hna : na ≤ 16) (h : i < na) : mz p σ (17 + i) = gi σ 21 (p + (17 + i)) := by
  unfold mz at hn ⊢
  rw [nz_d (by omega)] at hn
  rw [nz_A hn hna h]
  show (if 41 ≤ 17 + i then _ else if 17 + i = 40 then _ else if 17 + i = 39 then _ else if 17 + i = 34 then _ else gi σ 21 (p + (17 + i))) = _
  rw [if_neg (by omega), if_neg (by omega), if_neg (by omega), if_neg (by omega)]
/-- a state is what is written of itself -/
theorem ctw_self {k : Nat} {σ : SS} : ctw k (cz k σ, gi σ 0 7, gi σ 0 8, gi σ 0 9, gi σ 0 10) σ = σ := by
  refine Prod.ext (funext fun g => funext fun i => ?_) rfl
  show (if g = iS k then (if dm i = true then cz k σ i else σ.1 g i) else if g = 0 then (if i = 7 then gi σ 0 7 else if i = 8 then gi σ 0 8 else if i = 9 then gi σ 0 9 else if i = 10 then gi σ 0 10 else σ.1 g i) else σ.1 g i) = σ.1 g i
  by_cases h1 : g = iS k
  · rw [if_pos h1]
    by_cases h2 : dm i = true
    · rw [if_pos h2, cz_d h2, h1]
      rfl
    · rw [if_neg h2]
  · rw [if_neg h1]
    by_cases h2 : g = 0
    · subst h2
      rw [if_pos rfl]
      repeat' split
      all_goals first
        | rfl
        | (rename_i h; subst h; rfl)
    · rw [if_neg h2]
theorem mtw_self {p : Nat} {d l : Int32} {σ : SS} : mtw p (mz p σ, d, l, gi σ 1 16, gi σ 1 17) σ = σ := by
  refine Prod.ext (funext fun g => funext fun i => ?_) rfl
  show (if g = 21 then (if p ≤ i ∧ dq (i - p) = true then (if i = p + 34 then mz p σ 34 - 5 else mz p σ (i - p)) else σ.1 g i) else if g = 1 then (if i = 16 then gi σ 1 16 else if i = 17 then gi σ 1 17 else σ.1 g i) else σ.1 g i) = σ.1 g i
  by_cases h1 : g = 21
  · rw [if_pos h1]
    by_cases h2 : p ≤ i ∧ dq (i - p) = true
    · rw [if_pos h2]
      by_cases h3 : i = p + 34
      · rw [if_pos h3, mz_34, Int32.add_sub_cancel, h3, h1]
        rfl
      · rw [if_neg h3, mz_d h2.2 (by omega), show p + (i - p) = i by omega, h1]
        rfl
    · rw [if_neg h2]
  · rw [if_neg h1]
    by_cases h2 : g = 1
    · subst h2
      rw [if_pos rfl]
      repeat' split
      all_goals first
        | rfl
        | (rename_i h; subst h; rfl)
    · rw [if_neg h2]
/-- pages that are read alike -/
theorem cz_congr {k k' : Nat} {σ σ' : SS} (h : ∀ i, dm i = true → gi σ' (iS k') i = gi σ (iS k) i) (hA : ∀ i, i < 16 → gi σ' (iAA k') i = gi σ (iAA k) i) : cz k' σ' = cz k σ := by
  have e : cp k' σ' = cp k σ := funext fun i => by
    unfold cp
    split
    · rfl
    · split
      · exact hA _ (by omega)
      · exact h i (by unfold dm; simp; omega)
  unfold cz
  rw [e]
theorem mz_congr {p p' : Nat} {σ σ' : SS} (h : ∀ i, i < 39 → gi σ' 21 (p' + i) = gi σ 21 (p + i)) (h14 : gi σ' 1 14 = gi σ 1 14) (h15 : gi σ' 1 15 = gi σ 1 15) : mz p' σ' = mz p σ := by
  have e : mp p' σ' = mp p σ := funext fun i => by
    unfold mp
    split
    · rfl
    · split
      · exact h14
      · split
        · exact h15
        · split
          · rw [h 34 (by omega)]
          · exact h i (by omega)
  unfold mz
  rw [e]
theorem cz_as {a b : Nat} {σ : SS} : cz a (asw a b σ) = cz b σ := by
  refine cz_congr (fun i hi => ?_) (fun i hi => ?_)
  · exact if_pos ⟨rfl, hi⟩
  · show (if iAA a = iS a ∧ dm i = true then _ else if iAA a = iAA a ∧ i < 16 then σ.1 (iAA b) i else _) = _
    rw [if_neg (fun z => iAA_S a a z.1), if_pos ⟨rfl, hi⟩]
    rfl
theorem asw_g {a b g i : Nat} {σ : SS} (h1 : g ≠ iS a) (h2 : g ≠ iAA a) : gi (asw a b σ) g i = gi σ g i := by
  show (if g = iS a ∧ dm i = true then _ else if g = iAA a ∧ i < 16 then _ else σ.1 g i) = _
  rw [if_neg (fun z => h1 z.1), if_neg (fun z => h2 z.1)]
  rfl
theorem cz_as' {a b j : Nat} {σ : SS} (h : j ≠ a) : cz j (asw a b σ) = cz j σ := cz_congr (fun i _ => asw_g (iS_ne h) (fun z => iAA_S a j z.symm)) (fun i _ => asw_g (iAA_S j a) (iAA_ne h))
theorem mcp_g {a b n g i : Nat} {σ : SS} (h : g ≠ 21 ∨ i < b ∨ b + n ≤ i) : gi (mcp a b n σ) g i = gi σ g i := if_neg (by omega)
theorem mz_cp {a b : Nat} {σ : SS} : mz b (mcp a b 39 σ) = mz a σ := by
  refine mz_congr (fun i hi => ?_) (mcp_g (Or.inl (by decide))) (mcp_g (Or.inl (by decide)))
  show (if (21 : Nat) = 21 ∧ b ≤ b + i ∧ b + i < b + 39 then σ.1 21 (a + (b + i - b)) else _) = _
  rw [if_pos ⟨rfl, by omega, by omega⟩, Nat.add_sub_cancel_left]
  rfl
theorem mz_cp' {a b p : Nat} {σ : SS} (h : p + 39 ≤ b ∨ b + 39 ≤ p) : mz p (mcp a b 39 σ) = mz p σ := mz_congr (fun i hi => mcp_g (by omega)) (mcp_g (Or.inl (by decide))) (mcp_g (Or.inl (by decide)))
/-- two pages that agree where ticks do not write, the first one normal -/
theorem cz_ctw {k na : Nat} {P : Pg} {C : Int32 × Int32 × Int32 × Int32} {σ : SS} (h : ∀ i, ¬ tw i → P i = cz k σ i) : cz k (ctw k (P, C) σ) = P := by
  have h33 : P 33 = cz k σ 33 := h 33 (by unfold tw; omega)
  funext i
  by_cases h1 : dm i = true
  · rw [cz_d h1]
    exact c_gS h1
  · have h2 : ¬ (i < 17 ∨ (33 ≤ i ∧ i < 41)) := fun z => h1 (by unfold dm; simp; omega)
    rw [h i (by unfold tw; omega)]
    have e33 : cp k (ctw k (P, C) σ) 33 = cp k σ 33 := by
      show gi (ctw k (P, C) σ) (iS k) 33 = gi σ (iS k) 33
      rw [c_gS rfl]
      show P 33 = _
      rw [h33]
      exact cz_d rfl
    have e : cp k (ctw k (P, C) σ) i = cp k σ i := by
      unfold cp
      by_cases h3 : 41 ≤ i
      · rw [if_pos h3, if_pos h3]
      · rw [if_neg h3, if_neg h3, if_pos (by omega), if_pos (by omega)]
        exact c_gA
    unfold cz nz
    rw [e, e33]
theorem mz_mtw {p : Nat} {P : Pg} {C : Int32 × Int32 × Int32 × Int32} {σ : SS} (h : ∀ i, ¬ tw i → P i = mz p σ i) : mz p (mtw p (P, C) σ) = P := by
  have h33 : P 33 = mz p σ 33 := h 33 (by unfold tw; omega)
  have e33 : mp p (mtw p (P, C) σ) 33 = mp p σ 33 := by
    show gi (mtw p (P, C) σ) 21 (p + 33) = gi σ 21 (p + 33)
    rw [m_g rfl (by decide)]
    show P 33 = _
    rw [h33]
    exact mz_d rfl (by decide)
  funext i
  by_cases h1 : dq i = true
  · by_cases h34 : i = 34
    · subst h34
      rw [mz_34, m_g34, Int32.sub_add_cancel]
    · rw [mz_d h1 h34]
      exact m_g h1 h34
  · have h2 : ¬ (i < 17 ∨ (33 ≤ i ∧ i < 39)) := fun z => h1 (by unfold dq; simp; omega)
    rw [h i (by unfold tw; omega)]
    have e : mp p (mtw p (P, C) σ) i = mp p σ i := by
      unfold mp
      by_cases h3 : 41 ≤ i
      · rw [if_pos h3, if_pos h3]
      · rw [if_neg h3, if_neg h3]
        by_cases h4 : i = 40
        · rw [if_pos h4, if_pos h4, m_g1 (by decide) (by decide)]
        · rw [if_neg h4, if_neg h4]
          by_cases h5 : i = 39
          · rw [if_pos h5, if_pos h5, m_g1 (by decide) (by decide)]
          · rw [if_neg h5, if_neg h5, if_neg (by omega), if_neg (by omega), show p + i = p + (17 + (i - 17)) by omega]
            exact m_gA (by omega)
    unfold mz nz
    rw [e, e33]
