/-! THE PLAIN LAW: the model's tick, ticks -/
set_option maxRecDepth 100000
def dq (i : Nat) : Bool := decide (i < 17) || (decide (33 ≤ i) && decide (i < 39))
/-- a model's page and its counters, written -/
def mtw (p : Nat) (T : TT) (σ : SS) : SS := (fun g i => if g = 21 then (if p ≤ i ∧ dq (i - p) = true then (if i = p + 34 then T.1 34 - 5 else T.1 (i - p)) else σ.1 g i) else if g = 1 then (if i = 16 then T.2.2.2.1 else if i = 17 then T.2.2.2.2 else σ.1 g i) else σ.1 g i, σ.2)
theorem m_g {p i : Nat} {T : TT} {σ : SS} (h : dq i = true) (h34 : i ≠ 34) : gi (mtw p T σ) 21 (p + i) = T.1 i := by
  show (if p ≤ p + i ∧ dq (p + i - p) = true then (if p + i = p + 34 then T.1 34 - 5 else T.1 (p + i - p)) else σ.1 21 (p + i)) = _
  rw [Nat.add_sub_cancel_left, if_pos ⟨Nat.le_add_right _ _, h⟩, if_neg (by omega)]
theorem m_g34 {p : Nat} {T : TT} {σ : SS} : gi (mtw p T σ) 21 (p + 34) = T.1 34 - 5 := by
  show (if p ≤ p + 34 ∧ dq (p + 34 - p) = true then (if p + 34 = p + 34 then T.1 34 - 5 else T.1 (p + 34 - p)) else σ.1 21 (p + 34)) = _
  rw [Nat.add_sub_cancel_left, if_pos ⟨Nat.le_add_right _ _, rfl⟩, if_pos rfl]
theorem m_gA {p i : Nat} {T : TT} {σ : SS} (h : i < 16) : gi (mtw p T σ) 21 (p + (17 + i)) = gi σ 21 (p + (17 + i)) := by
  show (if p ≤ p + (17 + i) ∧ dq (p + (17 + i) - p) = true then (if p + (17 + i) = p + 34 then T.1 34 - 5 else T.1 (p + (17 + i) - p)) else σ.1 21 (p + (17 + i))) = _
  rw [Nat.add_sub_cancel_left, if_neg (by
    unfold dq
    simp
    omega)]
  rfl
theorem m_g16 {p : Nat} {T : TT} {σ : SS} : gi (mtw p T σ) 1 16 = T.2.2.2.1 := rfl
theorem m_g17 {p : Nat} {T : TT} {σ : SS} : gi (mtw p T σ) 1 17 = T.2.2.2.2 := rfl
theorem m_g1 {p i : Nat} {T : TT} {σ : SS} (h : i ≠ 16) (h2 : i ≠ 17) : gi (mtw p T σ) 1 i = gi σ 1 i := by
  show (if i = 16 then T.2.2.2.1 else if i = 17 then T.2.2.2.2 else σ.1 1 i) = _
  rw [if_neg h, if_neg h2]
  rfl
theorem m_s {p i : Nat} {T : TT} {σ : SS} {x : Int32} (h : dq i = true) (h34 : i ≠ 34) : si (mtw p T σ) 21 (p + i) x = mtw p (pu T.1 i x, T.2) σ := by
  refine Prod.ext (funext fun g => funext fun j => ?_) rfl
  show (if g = 21 ∧ j = p + i then x else (mtw p T σ).1 g j) = (mtw p (pu T.1 i x, T.2) σ).1 g j
  unfold mtw pu
  by_cases h1 : g = 21
  · by_cases h2 : j = p + i
    · subst h2
      have e : p + i - p = i := by omega
      have e2 : ¬ p + i = p + 34 := by omega
      simp [h1, h, h34]
    · by_cases h3 : p ≤ j ∧ dq (j - p) = true
      · have e : ¬ j - p = i := by omega
        have e3 : ¬ (34 : Nat) = i := fun z => h34 z.symm
        simp [h1, h2, h3, e, e3]
      · simp [h1, h2, h3]
  · simp [h1]
theorem m_s16 {p : Nat} {T : TT} {σ : SS} {x : Int32} : si (mtw p T σ) 1 16 x = mtw p (T.1, T.2.1, T.2.2.1, x, T.2.2.2.2) σ := by
  refine Prod.ext (funext fun g => funext fun j => ?_) rfl
  unfold si mtw
  by_cases h1 : g = 1
  · subst h1
    by_cases h2 : j = 16
    · simp [h2]
    · simp [h2]
  · simp [h1]
theorem m_s17 {p : Nat} {T : TT} {σ : SS} {x : Int32} : si (mtw p T σ) 1 17 x = mtw p (T.1, T.2.1, T.2.2.1, T.2.2.2.1, x) σ := by
  refine Prod.ext (funext fun g => funext fun j => ?_) rfl
  unfold si mtw
  by_cases h1 : g = 1
  · subst h1
    by_cases h2 : j = 17
    · simp [h2]
    · simp [h2]
  · simp [h1]
/-- the model's pages bear no counters of what is done, lacks -/
theorem m_eqv {p : Nat} {P : Pg} {d l d' l' o f : Int32} {σ : SS} : mtw p (P, d, l, o, f) σ = mtw p (P, d', l', o, f) σ := rfl
theorem pu_self (P : Pg) (i : Nat) : pu P i (P i) = P := funext fun j => by
  unfold pu
  split
  · rename_i h; rw [h]
  · rfl
theorem dq_w {w : Nat} (h : w < 4) : dq w = true ∧ dq (4 + w) = true ∧ dq (8 + w) = true ∧ dq (12 + w) = true := by
  unfold dq
  simp
  omega
theorem nI_ac (p c w : Nat) : nI p + nI c + nI w = nI (p + (c + w)) := by rw [nI_add, nI_add, Nat.add_assoc]
theorem even_eq {a b m s : Int32} : ((b + a) * m) / ((m + (s - 5)) + 5) = ((a + b) * m) / (s + m) := by
  rw [Int32.add_comm b a, Int32.add_assoc m, Int32.sub_add_cancel, Int32.add_comm m s]
theorem jn_eq {kd own e : Int32} (hk : ¬ kd = 0) (h1 : ¬ kd = 1) {t : Int32} (ht : t = if own < e then e else own) (h23 : kd = 2 ∨ kd = 3) : jn kd own e = if kd = 3 then (if t ≤ own + 20 then t else own + 20) else t := by
  unfold jn
  rw [if_neg hk, if_neg h1, ← ht]
  rcases h23 with h | h
  · subst h
    rw [if_pos rfl, if_neg (by decide)]
  · subst h
    rw [if_neg (by decide), if_pos rfl]
    by_cases c1 : t < own + 20
    · rw [if_pos c1, if_pos (Int32.le_of_lt c1)]
    · rw [if_neg c1]
      by_cases c2 : t ≤ own + 20
      · rw [if_pos c2]
        exact Int32.le_antisymm (Int32.not_lt.mp c1) c2
      · rw [if_neg c2]
theorem m_joined {N p w kd : Nat} {T : TT} {σ : SS} (hp : p ≤ 195) (hw : w < 4) (hd : ¬ T.1 34 + T.1 (4 + w) = 0) (hk : kd < 4) (ek : T.1 w = nI kd) : F_X8_joinedOn N (nI p) (nI w) (mtw p T σ) = some (joinedP T.1 w, mtw p T σ) := by
  obtain ⟨d0, d4, d8, d12⟩ := dq_w hw
  have i0 : nI p + nI w = nI (p + w) := nI_add p w
  have i4 : nI p + (4 : Int32) + nI w = nI (p + (4 + w)) := nI_ac p 4 w
  have i12 : nI p + (12 : Int32) + nI w = nI (p + (12 + w)) := nI_ac p 12 w
  have i34 : nI p + (34 : Int32) = nI (p + 34) := nI_add p 34
  have i35 : nI p + (35 : Int32) = nI (p + 35) := nI_add p 35
  have c0 : (nI (p + w)).toNatClampNeg = p + w := nI_clamp (by omega)
  have c4 : (nI (p + (4 + w))).toNatClampNeg = p + (4 + w) := nI_clamp (by omega)
  have c12 : (nI (p + (12 + w))).toNatClampNeg = p + (12 + w) := nI_clamp (by omega)
  have c34 : (nI (p + 34)).toNatClampNeg = p + 34 := nI_clamp (by omega)
  have c35 : (nI (p + 35)).toNatClampNeg = p + 35 := nI_clamp (by omega)
  unfold F_X8_joinedOn
  simp only [i0, i4, i12, i34, i35, c0, c4, c12, c34, c35, nm, m_g34, m_g d0 (by omega), m_g d4 (by omega), m_g d12 (by omega), m_g (show dq 35 = true from rfl) (by decide), gd_t (inR_nI (show p + w < 234 by omega) (by omega)), gd_t (inR_nI (show p + (4 + w) < 234 by omega) (by omega)), gd_t (inR_nI (show p + (12 + w) < 234 by omega) (by omega)), gd_t (inR_nI (show p + 34 < 234 by omega) (by omega)), gd_t (inR_nI (show p + 35 < 234 by omega) (by omega))]
  rw [gd_t (by rw [Int32.add_assoc, Int32.sub_add_cancel, Int32.add_comm]; exact hd), even_eq]
  unfold joinedP
  rw [show ((T.1 35 + T.1 (12 + w)) * T.1 (4 + w)) / (T.1 34 + T.1 (4 + w)) = evenP T.1 w from rfl]
  generalize evenP T.1 w = e
  unfold F_X8_joinedOn_103
  rw [ek]
  rcases (show kd = 0 ∨ kd = 1 ∨ kd = 2 ∨ kd = 3 by omega) with rfl | rfl | rfl | rfl
  · rfl
  · rfl
  · rw [show nI 2 = (2 : Int32) from rfl, jn_eq (by decide) (by decide) rfl (Or.inl rfl), if_neg (by decide), if_neg (by decide)]
    by_cases c1 : e ≤ T.1 (12 + w)
    · rw [if_pos c1, if_neg (Int32.not_lt.mpr c1)]
      rfl
    · rw [if_neg c1, if_pos (Int32.not_le.mp c1)]
      rfl
  · rw [show nI 3 = (3 : Int32) from rfl, jn_eq (by decide) (by decide) rfl (Or.inr rfl), if_neg (by decide), if_neg (by decide)]
    by_cases c1 : e ≤ T.1 (12 + w)
    · rw [if_pos c1, if_neg (Int32.not_lt.mpr c1)]
      show (if T.1 (12 + w) ≤ T.1 (12 + w) + 20 then _ else _) = some (if T.1 (12 + w) ≤ T.1 (12 + w) + 20 then _ else _, _)
      split <;> rfl
    · rw [if_neg c1, if_pos (Int32.not_le.mp c1)]
      show (if e ≤ T.1 (12 + w) + 20 then _ else _) = some (if e ≤ T.1 (12 + w) + 20 then _ else _, _)
      split <;> rfl
theorem load_min {a x : Int32} : (if x ≤ a then x else a) = if a < x then a else x := by
  by_cases h : x ≤ a
  · rw [if_pos h, if_neg (Int32.not_lt.mpr h)]
  · rw [if_neg h, if_pos (Int32.not_le.mp h)]
theorem m_acts {N p a nw na M : Nat} {fails : Bool} {T : TT} {σ : SS} (hp : p ≤ 195) (hF : Fx T.1 nw na M) (ho : gi σ 1 14 = T.1 40) (ha : a ≤ 203) : F_X8_actOn N (nI p) (nI a) (b2i fails) (mtw p T σ) = some ((), mtw p (actP T a fails) σ) := by
  obtain ⟨h1, h2, h3, h4, h5, h6, h7⟩ := id hF
  have i16 : nI p + (16 : Int32) = nI (p + 16) := nI_add p 16
  have i35 : nI p + (35 : Int32) = nI (p + 35) := nI_add p 35
  have i37 : nI p + (37 : Int32) = nI (p + 37) := nI_add p 37
  have i38 : nI p + (38 : Int32) = nI (p + 38) := nI_add p 38
  have c16 : (nI (p + 16)).toNatClampNeg = p + 16 := nI_clamp (by omega)
  have c35 : (nI (p + 35)).toNatClampNeg = p + 35 := nI_clamp (by omega)
  have c37 : (nI (p + 37)).toNatClampNeg = p + 37 := nI_clamp (by omega)
  have c38 : (nI (p + 38)).toNatClampNeg = p + 38 := nI_clamp (by omega)
  have r16 : inR (nI (p + 16)) 234 := inR_nI (by omega) (by omega)
  have r35 : inR (nI (p + 35)) 234 := inR_nI (by omega) (by omega)
  have r37 : inR (nI (p + 37)) 234 := inR_nI (by omega) (by omega)
  have r38 : inR (nI (p + 38)) 234 := inR_nI (by omega) (by omega)
  have g16 : gi (mtw p T σ) 21 (p + 16) = T.1 16 := m_g rfl (by decide)
  have g35 : ∀ T : TT, gi (mtw p T σ) 21 (p + 35) = T.1 35 := fun T => m_g rfl (by decide)
  have g37 : ∀ T : TT, gi (mtw p T σ) 21 (p + 37) = T.1 37 := fun T => m_g rfl (by decide)
  have g38 : ∀ T : TT, gi (mtw p T σ) 21 (p + 38) = T.1 38 := fun T => m_g rfl (by decide)
  have s35 : ∀ (T : TT) x, si (mtw p T σ) 21 (p + 35) x = mtw p (pu T.1 35 x, T.2) σ := fun T x => m_s rfl (by decide)
  have s37 : ∀ (T : TT) x, si (mtw p T σ) 21 (p + 37) x = mtw p (pu T.1 37 x, T.2) σ := fun T x => m_s rfl (by decide)
  have s38 : ∀ (T : TT) x, si (mtw p T σ) 21 (p + 38) x = mtw p (pu T.1 38 x, T.2) σ := fun T x => m_s rfl (by decide)
  unfold F_X8_actOn F_X8_actOn_25 F_X8_actOn_66 actP
  simp only [i16, i35, i37, i38, c16, c35, c37, c38, gd_t r16, gd_t r35, gd_t r37, gd_t r38]
  by_cases c1 : a < 100
  · have h2 : ¬ (100 : Int32) ≤ nI a := nI_ge (b := 100) (a := a) c1 (by omega)
    rw [if_neg h2, if_pos c1]
    cases fails with
    | true =>
      rw [if_neg (show ¬ b2i true = 0 by decide), if_pos rfl]
      simp only [nm, g35, s35, Int32.add_zero, pu_self]
    | false =>
      rw [if_pos (show b2i false = 0 from rfl), if_neg (by decide)]
      simp only [nm, g35, s35]
  · have h2' : (100 : Int32) ≤ nI a := nI_le (a := 100) (by omega) (by omega)
    rw [if_pos h2', if_neg c1]
    by_cases c2 : a < 200
    · have h8 : ¬ (200 : Int32) ≤ nI a := nI_ge (b := 200) (a := a) c2 (by omega)
      rw [if_neg h8, if_pos c2]
      have e : nI a - (100 : Int32) = nI (a - 100) := nI_sub (b := 100) (by omega)
      simp only [nm, e, g35, s35, g37, s37, g38, s38, pu_ne (show (37 : Nat) ≠ 35 by decide), pu_ne (show (38 : Nat) ≠ 37 by decide), pu_ne (show (38 : Nat) ≠ 35 by decide)]
      unfold loadP
      rw [← load_min]
      by_cases c3 : nI (a - 100) ≤ T.1 35
      · simp only [if_pos c3]
        rfl
      · simp only [if_neg c3]
        rfl
    · have h8 : (200 : Int32) ≤ nI a := nI_le (a := 200) (by omega) (by omega)
      rw [if_pos h8, if_neg c2]
      have e : nI a - (200 : Int32) = nI (a - 200) := nI_sub (b := 200) (by omega)
      have hw : a - 200 < 4 := by omega
      generalize a - 200 = w at e hw ⊢
      obtain ⟨d0, d4, d8, d12⟩ := dq_w hw
      rw [e, g16, m_g1 (by decide) (by decide), ho]
      unfold joinP
      by_cases c3 : T.1 16 ≤ nI w
      · rw [if_pos c3, if_pos c3]
      · rw [if_neg c3, if_neg c3]
        by_cases c4 : nI w = T.1 40
        · rw [if_pos c4, if_pos c4]
        · rw [if_neg c4, if_neg c4]
          have hlt : w < nw := by
            rw [h2] at c3
            exact Nat.lt_of_not_le fun h => c3 (nI_le h (by omega))
          obtain ⟨⟨kd, hk, ek⟩, ⟨m, hm1, hm2, em⟩, -⟩ := h6 w hlt
          have hd : ¬ T.1 34 + T.1 (4 + w) = 0 := by rw [h5.2.2, em]; exact mass_ne h5.1 h5.2.1 hm2
          have i12 : nI p + (12 : Int32) + nI w = nI (p + (12 + w)) := nI_ac p 12 w
          have c12 : (nI (p + (12 + w))).toNatClampNeg = p + (12 + w) := nI_clamp (by omega)
          have r12 : inR (nI (p + (12 + w))) 234 := inR_nI (by omega) (by omega)
          have g12 : ∀ T : TT, gi (mtw p T σ) 21 (p + (12 + w)) = T.1 (12 + w) := fun T => m_g d12 (by omega)
          have s12 : ∀ (T : TT) x, si (mtw p T σ) 21 (p + (12 + w)) x = mtw p (pu T.1 (12 + w) x, T.2) σ := fun T x => m_s d12 (by omega)
          simp only [nm, i12, c12, gd_t r12, g12, g35, m_joined hp hw hd hk ek, bd_s, s12, s35, pu_eq]
          rw [Int32.add_comm (T.1 (12 + w)) (T.1 35)]
