/-! THE PLAIN LAW: the model's tick, ticks -/
set_option maxRecDepth 100000
theorem m_loss {N p nw na M : Nat} {σ : SS} (hp : p ≤ 195) : ∀ (n w : Nat) (T : TT), Fx T.1 nw na M → nw - w < n → w ≤ nw → F_X8_lossesOn_2 N n (nI p) (nI w) (mtw p T σ) = some ((), mtw p (endT (lossR T (nw - w) w)) σ) := by
  have i16 : nI p + (16 : Int32) = nI (p + 16) := nI_add p 16
  have i34 : nI p + (34 : Int32) = nI (p + 34) := nI_add p 34
  have i35 : nI p + (35 : Int32) = nI (p + 35) := nI_add p 35
  have i36 : nI p + (36 : Int32) = nI (p + 36) := nI_add p 36
  have c16 : (nI (p + 16)).toNatClampNeg = p + 16 := nI_clamp (by omega)
  have c34 : (nI (p + 34)).toNatClampNeg = p + 34 := nI_clamp (by omega)
  have c35 : (nI (p + 35)).toNatClampNeg = p + 35 := nI_clamp (by omega)
  have c36 : (nI (p + 36)).toNatClampNeg = p + 36 := nI_clamp (by omega)
  have r16 : inR (nI (p + 16)) 234 := inR_nI (by omega) (by omega)
  have r34 : inR (nI (p + 34)) 234 := inR_nI (by omega) (by omega)
  have r35 : inR (nI (p + 35)) 234 := inR_nI (by omega) (by omega)
  have r36 : inR (nI (p + 36)) 234 := inR_nI (by omega) (by omega)
  have g16 : ∀ T : TT, gi (mtw p T σ) 21 (p + 16) = T.1 16 := fun T => m_g rfl (by decide)
  have g35 : ∀ T : TT, gi (mtw p T σ) 21 (p + 35) = T.1 35 := fun T => m_g rfl (by decide)
  have g36 : ∀ T : TT, gi (mtw p T σ) 21 (p + 36) = T.1 36 := fun T => m_g rfl (by decide)
  have s36 : ∀ (T : TT) x, si (mtw p T σ) 21 (p + 36) x = mtw p (pu T.1 36 x, T.2) σ := fun T x => m_s rfl (by decide)
  intro n
  induction n with
  | zero => intro w T _ h; omega
  | succ n ih =>
    intro w T hF hn hw
    obtain ⟨h1, h2, h3, h4, h5, h6, h7⟩ := id hF
    show B_X8_lossesOn_2 N (F_X8_lossesOn_2 N n) (nI p) (nI w) (mtw p T σ) = _
    unfold B_X8_lossesOn_2
    simp only [i16, i36, c16, c36, gd_t r16, gd_t r36, g16, h2]
    by_cases c1 : w = nw
    · subst c1
      rw [if_pos (nI_le (Nat.le_refl _) (by omega)), Nat.sub_self]
      have hd : ¬ (nI M : Int32) = 0 := nI_ne0 (by omega) (by omega)
      unfold F_X8_speedOn
      simp only [nm, g36, s36, i34, i35, c34, c35, gd_t r34, gd_t r35, m_g34, g35, Int32.sub_add_cancel, pu_ne (show (34 : Nat) ≠ 36 by decide), pu_ne (show (35 : Nat) ≠ 36 by decide)]
      rw [gd_t (by rw [h5.2.2]; exact hd), bd_s]
      simp only [m_g17, m_s17]
      show _ = some ((), mtw p (pu T.1 36 (T.1 36 + 1), T.2.1, T.2.2.1, T.2.2.2.1, if T.2.2.2.2 < T.1 35 / T.1 34 then T.1 35 / T.1 34 else T.2.2.2.2) σ)
      by_cases c2 : T.1 35 / T.1 34 ≤ T.2.2.2.2
      · rw [if_pos c2, if_neg (Int32.not_lt.mpr c2)]
      · rw [if_neg c2, if_pos (Int32.not_le.mp c2)]
    · have hlt : w < nw := by omega
      have hw4 : w < 4 := by omega
      obtain ⟨d0, d4, d8, d12⟩ := dq_w hw4
      have i8 : nI p + (8 : Int32) + nI w = nI (p + (8 + w)) := nI_ac p 8 w
      have i12 : nI p + (12 : Int32) + nI w = nI (p + (12 + w)) := nI_ac p 12 w
      have c8 : (nI (p + (8 + w))).toNatClampNeg = p + (8 + w) := nI_clamp (by omega)
      have c12 : (nI (p + (12 + w))).toNatClampNeg = p + (12 + w) := nI_clamp (by omega)
      have r8 : inR (nI (p + (8 + w))) 234 := inR_nI (by omega) (by omega)
      have r12 : inR (nI (p + (12 + w))) 234 := inR_nI (by omega) (by omega)
      have g8 : ∀ T : TT, gi (mtw p T σ) 21 (p + (8 + w)) = T.1 (8 + w) := fun T => m_g d8 (by omega)
      have g12 : ∀ T : TT, gi (mtw p T σ) 21 (p + (12 + w)) = T.1 (12 + w) := fun T => m_g d12 (by omega)
      have s12 : ∀ (T : TT) x, si (mtw p T σ) 21 (p + (12 + w)) x = mtw p (pu T.1 (12 + w) x, T.2) σ := fun T x => m_s d12 (by omega)
      have e : nI w + (1 : Int32) = nI (w + 1) := nI_1 w
      rw [if_neg (nI_ge hlt (by omega))]
      unfold F_X8_lossesOn_52
      simp only [nm, i8, i12, c8, c12, gd_t r8, gd_t r12, g8, g12, s12, m_g16, m_s16, e]
      have := ih (w + 1) (lossW T w) (hF.lossW hw4) (by omega) hlt
      have e2 : nw - w = (nw - (w + 1)) + 1 := by omega
      rw [e2]
      show _ = some ((), mtw p (endT (lossR (lossW T w) (nw - (w + 1)) (w + 1))) σ)
      rw [← this]
      unfold lossW byW
      rw [← load_min]
      by_cases c3 : T.1 (8 + w) ≤ T.1 (12 + w)
      · simp only [if_pos c3]
      · simp only [if_neg c3]
theorem m_losses {N p nw na M : Nat} {T : TT} {σ : SS} (hN : 100 ≤ N) (hp : p ≤ 195) (hF : Fx T.1 nw na M) : F_X8_lossesOn N (nI p) (mtw p T σ) = some ((), mtw p (tickBy T nw) σ) := m_loss (N := N) hp N 0 T hF (by have := hF.1; omega) (Nat.zero_le _)
theorem m_tick {N p nw na M t : Nat} {fails : Bool} {T : TT} {σ : SS} (hN : 100 ≤ N) (hp : p ≤ 195) (hF : Fx T.1 nw na M) (ht : T.1 36 = nI t) (ht2 : t < 2 ^ 31) (ho : gi σ 1 14 = T.1 40) (hm9 : gi σ 1 15 = T.1 39) (hA : ∀ i, i < na → gi σ 21 (p + (17 + i)) = T.1 (17 + i)) : F_X8_tickOn N (nI p) (b2i fails) (mtw p T σ) = some ((), mtw p (tickT T nw na t fails) σ) := by
  obtain ⟨h1, h2, h3, h4, h5, h6, h7⟩ := id hF
  have i33 : nI p + (33 : Int32) = nI (p + 33) := nI_add p 33
  have i36 : nI p + (36 : Int32) = nI (p + 36) := nI_add p 36
  have c33 : (nI (p + 33)).toNatClampNeg = p + 33 := nI_clamp (by omega)
  have c36 : (nI (p + 36)).toNatClampNeg = p + 36 := nI_clamp (by omega)
  have r33 : inR (nI (p + 33)) 234 := inR_nI (by omega) (by omega)
  have r36 : inR (nI (p + 36)) 234 := inR_nI (by omega) (by omega)
  have g33 : gi (mtw p T σ) 21 (p + 33) = T.1 33 := m_g rfl (by decide)
  have g36 : gi (mtw p T σ) 21 (p + 36) = T.1 36 := m_g rfl (by decide)
  unfold F_X8_tickOn F_X8_tickOn_59 tickT
  simp only [nm, i33, i36, c33, c36, gd_t r33, gd_t r36, g33, g36, h4, ht]
  by_cases c1 : na = 0
  · subst c1
    rw [if_pos (by decide), if_pos (Or.inl rfl), m_losses hN hp hF, bd_s]
  · have hna : ¬ (nI na : Int32) = 0 := nI_ne0 (by omega) (by omega)
    have hna2 : ¬ (nI na : Int32) ≤ 0 := nI_nle (by omega) (by omega)
    have hm : t % na < na := Nat.mod_lt _ (by omega)
    rw [if_neg hna2, gd_t hna, nI_modN ht2 (by omega), m_g1 (by decide) (by decide), hm9]
    by_cases c2 : nI (t % na) = T.1 39
    · rw [if_pos c2, if_pos (Or.inr c2), m_losses hN hp hF, bd_s]
    · have hno : ¬ (na = 0 ∨ nI (t % na) = T.1 39) := fun h => h.elim c1 c2
      have i17 : nI p + (17 : Int32) + nI (t % na) = nI (p + (17 + t % na)) := nI_ac p 17 _
      have c17 : (nI (p + (17 + t % na))).toNatClampNeg = p + (17 + t % na) := nI_clamp (by omega)
      rw [if_neg c2, if_neg hno, gd_t hna, i17, gd_t (inR_nI (by omega) (by omega)), c17, m_gA (by omega), hA _ hm]
      obtain ⟨a, ha, ea⟩ := h7 _ hm
      rw [ea, nI_clamp (by omega), m_acts hp hF ho ha, bd_s, m_losses hN hp (hF.act ha), bd_s]
/-- ticks on the page that is tried -/
theorem m_ticks {N nw na M m : Nat} {σ : SS} (hN : 100 ≤ N) (hm : m < 2 ^ 30) (n0 : gi σ 21 37 = gi σ 21 37) : ∀ (n j t : Nat) (T : TT), Fx T.1 nw na M → T.1 36 = nI t → t < 2 ^ 30 → t + (m - j) < 2 ^ 30 → gi σ 1 14 = T.1 40 → gi σ 1 15 = T.1 39 → (∀ i, i < na → gi σ 21 (156 + (17 + i)) = T.1 (17 + i)) → j ≤ m → m - j < n → F_X8_ticksGo_26 N n (nI m) (nI j) (mtw 156 T σ) = some ((tks nw na T t (m - j)).1 37 - gi σ 21 37, mtw 156 (tks nw na T t (m - j)) σ) := by
  intro n
  induction n with
  | zero => intro j t T _ _ _ _ _ _ _ _ h; omega
  | succ n ih =>
    intro j t T hF ht ht2 ht3 ho hm9 hA hj hn
    show B_X8_ticksGo_26 N (F_X8_ticksGo_26 N n) (nI m) (nI j) (mtw 156 T σ) = _
    unfold B_X8_ticksGo_26
    by_cases c1 : j = m
    · subst c1
      rw [if_pos (nI_le (Nat.le_refl _) (by omega)), Nat.sub_self, gd_t (by decide), gd_t (by decide)]
      rfl
    · have hlt : j < m := by omega
      have ht9 := m_tick (N := N) (p := 156) (σ := σ) (fails := false) hN (by decide) hF ht (by omega) ho hm9 hA
      rw [if_neg (nI_ge hlt (by omega)), show (0 : Int32) = b2i false from rfl, show (156 : Int32) = nI 156 from rfl, ht9, bd_s]
      have e : nI j + (1 : Int32) = nI (j + 1) := nI_1 j
      simp only [nm, e]
      have e2 : m - j = (m - (j + 1)) + 1 := by omega
      rw [e2]
      exact ih (j + 1) (t + 1) (tickT T nw na t false) hF.tick (by rw [tickT_36 hF, ht]; exact nI_1 t) (by omega) (by omega) (by rw [tickT_ne hF (by unfold tw; omega)]; exact ho) (by rw [tickT_ne hF (by unfold tw; omega)]; exact hm9) (fun i hi => by rw [hA i hi, tickT_ne hF (by have := hF.2.2.1; unfold tw; omega)]) hlt (by omega)
-- copies of pages
def mcp (a b n : Nat) (σ : SS) : SS := (fun g i => if g = 21 ∧ b ≤ i ∧ i < b + n then σ.1 21 (a + (i - b)) else σ.1 g i, σ.2)
theorem m_copy {N a b : Nat} {σ : SS} (ha : a + 39 ≤ 234) (hb : b + 39 ≤ 234) (hd : a + 39 ≤ b ∨ b + 39 ≤ a) : ∀ (n j : Nat), j ≤ 39 → 39 - j < n → F_X8_copies_2 N n (nI a) (nI b) (nI j) (mcp a b j σ) = some ((), mcp a b 39 σ) := by
  intro n
  induction n with
  | zero => intro j _ h; omega
  | succ n ih =>
    intro j hj hn
    show B_X8_copies_2 N (F_X8_copies_2 N n) (nI a) (nI b) (nI j) (mcp a b j σ) = _
    unfold B_X8_copies_2
    by_cases c1 : j = 39
    · subst c1
      rw [if_pos (by decide)]
    · have c2 : ¬ (39 : Int32) ≤ nI j := nI_ge (b := 39) (a := j) (by omega) (by omega)
      have e : nI j + (1 : Int32) = nI (j + 1) := nI_1 j
      rw [if_neg c2, nI_add, nI_add, gd_t (inR_nI (by omega) (by omega)), gd_t (inR_nI (by omega) (by omega)), nI_clamp (by omega), nI_clamp (by omega)]
      simp only [nm, e]
      have e3 : si (mcp a b j σ) 21 (b + j) (gi (mcp a b j σ) 21 (a + j)) = mcp a b (j + 1) σ := by
        refine Prod.ext (funext fun g => funext fun i => ?_) rfl
        show (if g = 21 ∧ i = b + j then (if (21 : Nat) = 21 ∧ b ≤ a + j ∧ a + j < b + j then σ.1 21 (a + (a + j - b)) else σ.1 21 (a + j)) else (if g = 21 ∧ b ≤ i ∧ i < b + j then σ.1 21 (a + (i - b)) else σ.1 g i)) = (if g = 21 ∧ b ≤ i ∧ i < b + (j + 1) then σ.1 21 (a + (i - b)) else σ.1 g i)
        rw [if_neg (show ¬ ((21 : Nat) = 21 ∧ b ≤ a + j ∧ a + j < b + j) by omega)]
        by_cases h1 : g = 21
        · subst h1
          by_cases h2 : i = b + j
          · subst h2
            rw [if_pos ⟨rfl, rfl⟩, if_pos (by omega), Nat.add_sub_cancel_left]
          · rw [if_neg (by omega)]
            by_cases h3 : b ≤ i ∧ i < b + j
            · rw [if_pos ⟨rfl, h3⟩, if_pos (by omega)]
            · rw [if_neg (by omega), if_neg (by omega)]
        · rw [if_neg (fun h => h1 h.1), if_neg (fun h => h1 h.1), if_neg (fun h => h1 h.1)]
      rw [e3]
      exact ih (j + 1) (by omega) (by omega)
theorem m_copies {N a b : Nat} {σ : SS} (hN : 100 ≤ N) (ha : a + 39 ≤ 234) (hb : b + 39 ≤ 234) (hd : a + 39 ≤ b ∨ b + 39 ≤ a) : F_X8_copies N (nI a) (nI b) σ = some ((), mcp a b 39 σ) := by
  have e0 : mcp a b 0 σ = σ := by
    refine Prod.ext (funext fun g => funext fun i => ?_) rfl
    exact if_neg (by omega)
  have h := m_copy (N := N) (σ := σ) ha hb hd N 0 (by omega) (by omega)
  rw [e0] at h
  exact h
