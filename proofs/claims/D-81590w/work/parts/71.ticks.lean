/-! THE PLAIN LAW: the component's tick, ticks -/
set_option maxRecDepth 100000
theorem nI_divN {a b : Nat} (ha : a < 2 ^ 31) (hb : b < 2 ^ 31) : nI a / nI b = nI (a / b) := by
  have h1 : a / b ≤ a := Nat.div_le_self a b
  refine Int32.toInt_inj.mp ?_
  rw [Int32.toInt_div, nI_toInt ha, nI_toInt hb, nI_toInt (by omega), ← Int.ofNat_tdiv]
  generalize a / b = c at h1 ⊢
  exact Int.bmod_eq_of_le (by omega) (by omega)
theorem nI_mulN (a b : Nat) : nI a * nI b = nI (a * b) := (Int32.ofNat_mul a b).symm
theorem nI_modN {a b : Nat} (ha : a < 2 ^ 31) (hb : b < 2 ^ 31) : nI a - nI a / nI b * nI b = nI (a % b) := by
  rw [nI_divN ha hb, nI_mulN, nI_sub (Nat.div_mul_le_self a b)]
  have := Nat.div_add_mod' a b
  rw [show a - a / b * b = a % b by omega]
theorem nI_ne4 {n : Nat} (h : n < 2 ^ 31) : ¬ nI n = (-4 : Int32) := fun e => by
  have h1 := congrArg Int32.toInt e
  rw [nI_toInt h, show (-4 : Int32).toInt = -4 by decide] at h1
  omega
/-- the places that ticks write -/
def tw (i : Nat) : Prop := (12 ≤ i ∧ i < 16) ∨ (35 ≤ i ∧ i < 39)
theorem join_ne {P : Pg} {w i : Nat} (hw : w < 4) (hi : ¬ tw i) : joinP P w i = P i := by
  unfold tw at hi
  unfold joinP
  split
  · rfl
  · split
    · rfl
    · rw [pu_ne (by omega), pu_ne (by omega)]
theorem join_36 {P : Pg} {w i : Nat} (hw : w < 4) (hi : 36 ≤ i) : joinP P w i = P i := by
  unfold joinP
  split
  · rfl
  · split
    · rfl
    · rw [pu_ne (by omega), pu_ne (by omega)]
theorem act_ne {T : TT} {a i : Nat} {fails : Bool} (ha : a ≤ 203) (hi : ¬ tw i ∨ i = 36) : (actP T a fails).1 i = T.1 i := by
  unfold actP
  split
  · split
    · rfl
    · exact pu_ne (by unfold tw at hi; omega)
  · split
    · show pu _ _ _ _ = _
      rw [pu_ne (by unfold tw at hi; omega), pu_ne (by unfold tw at hi; omega), pu_ne (by unfold tw at hi; omega)]
    · rcases hi with hi | hi
      · exact join_ne (by omega) hi
      · exact join_36 (by omega) (by omega)
theorem loss_ne {i : Nat} (hi : i < 12 ∨ 16 ≤ i) : ∀ (n w : Nat) (T : TT), w + n ≤ 4 → (lossR T n w).1 i = T.1 i := by
  intro n
  induction n with
  | zero => intro w T _; rfl
  | succ n ih =>
    intro w T h
    show (lossR (lossW T w) n (w + 1)).1 i = _
    rw [ih (w + 1) (lossW T w) (by omega)]
    exact pu_ne (by omega)
theorem tickBy_ne {T : TT} {nw i : Nat} (hn : nw ≤ 4) (hi : ¬ tw i) : (tickBy T nw).1 i = T.1 i := by
  unfold tw at hi
  show pu _ 36 _ i = _
  rw [pu_ne (by omega), loss_ne (by omega) nw 0 T (by omega)]
theorem tickBy_36 {T : TT} {nw : Nat} (hn : nw ≤ 4) : (tickBy T nw).1 36 = T.1 36 + 1 := by
  show pu (lossR T nw 0).1 36 ((lossR T nw 0).1 36 + 1) 36 = _
  rw [pu_eq, loss_ne (by omega) nw 0 T (by omega)]
theorem Fx.same {P P' : Pg} {nw na M : Nat} (h : Fx P nw na M) (e : ∀ i, ¬ tw i → P' i = P i) : Fx P' nw na M := by
  obtain ⟨h1, h2, h3, h4, h5, h6, h7⟩ := h
  refine ⟨h1, by rw [e 16 (by unfold tw; omega)]; exact h2, h3, by rw [e 33 (by unfold tw; omega)]; exact h4, ⟨h5.1, h5.2.1, by rw [e 34 (by unfold tw; omega)]; exact h5.2.2⟩, fun w hw => ?_, fun j hj => ?_⟩
  · rw [e w (by unfold tw; omega), e (4 + w) (by unfold tw; omega), e (8 + w) (by unfold tw; omega)]
    exact h6 w hw
  · rw [e (17 + j) (by unfold tw; omega)]
    exact h7 j hj
theorem Fx.act {T : TT} {nw na M a : Nat} {fails : Bool} (h : Fx T.1 nw na M) (ha : a ≤ 203) : Fx (actP T a fails).1 nw na M := h.same fun i hi => act_ne ha (Or.inl hi)
theorem c_tickBy0 {N k nw na M : Nat} {f : Int32} {T : TT} {σ : SS} (hN : 100 ≤ N) (hF : Fx T.1 nw na M) : F_X0_tickGoesBy N k (-4) f (ctw k T σ) = some ((), ctw k (tickBy T nw) σ) := by
  unfold F_X0_tickGoesBy
  rw [if_pos rfl]
  have h := c_loss (N := N) (k := k) (σ := σ) hF.2.2.2.2.1.1 N 0 T hF (by have := hF.1; omega) (Nat.zero_le _)
  exact h
theorem c_tickByA {N k nw na M a : Nat} {fails : Bool} {T : TT} {σ : SS} (hN : 100 ≤ N) (hF : Fx T.1 nw na M) (ha : a ≤ 203) : F_X0_tickGoesBy N k (nI a) (b2i fails) (ctw k T σ) = some ((), ctw k (tickBy (actP T a fails) nw) σ) := by
  unfold F_X0_tickGoesBy
  rw [if_neg (nI_ne4 (by omega)), c_acts hF ha, bd_s]
  have h := c_loss (N := N) (k := k) (σ := σ) hF.2.2.2.2.1.1 N 0 (actP T a fails) (hF.act ha) (by have := hF.1; omega) (Nat.zero_le _)
  exact h
theorem c_tick {N k nw na M t : Nat} {fails : Bool} {T : TT} {σ : SS} (hN : 100 ≤ N) (hF : Fx T.1 nw na M) (ht : T.1 36 = nI t) (ht2 : t < 2 ^ 31) (hA : ∀ i, i < na → gi σ (iAA k) i = T.1 (17 + i)) : F_X0_tickGoes N k (b2i fails) (ctw k T σ) = some ((), ctw k (tickT T nw na t fails) σ) := by
  obtain ⟨h1, h2, h3, h4, h5, h6, h7⟩ := id hF
  unfold F_X0_tickGoes F_X5_next tickT F_X0_tickGoes_21 F_X0_tickGoes_32
  simp only [c_gS (show dm 33 = true from rfl), c_gS (show dm 36 = true from rfl), h4, ht]
  by_cases c1 : na = 0
  · subst c1
    rw [if_pos nI_0, if_pos (Or.inl rfl), bd_s, if_pos rfl, c_tickBy0 hN hF, bd_s]
  · have hna : ¬ (nI na : Int32) = 0 := nI_ne0 (by omega) (by omega)
    rw [if_neg hna, gd_t hna, bd_s, nI_modN ht2 (by omega)]
    have hm : t % na < na := Nat.mod_lt _ (by omega)
    rw [if_neg (nI_ne4 (by omega))]
    simp only [c_gS (show dm 39 = true from rfl)]
    by_cases c2 : nI (t % na) = T.1 39
    · rw [if_pos c2, if_pos (Or.inr c2), c_tickBy0 hN hF, bd_s]
    · have hno : ¬ (na = 0 ∨ nI (t % na) = T.1 39) := fun h => h.elim c1 c2
      rw [if_neg c2, if_neg hno, gd_t (inR_nI (by omega) (by omega)), nI_clamp (by omega), c_gA, hA _ hm]
      obtain ⟨a, ha, ea⟩ := h7 _ hm
      rw [ea, nI_clamp (by omega), c_tickByA hN hF ha, bd_s]
theorem tickT_ne {T : TT} {nw na M t i : Nat} {fails : Bool} (hF : Fx T.1 nw na M) (hi : ¬ tw i) : (tickT T nw na t fails).1 i = T.1 i := by
  unfold tickT
  rw [tickBy_ne hF.1 hi]
  split
  · rfl
  · have hm : t % na < na := Nat.mod_lt _ (by omega)
    obtain ⟨a, ha, ea⟩ := hF.2.2.2.2.2.2 _ hm
    rw [ea, nI_clamp (by omega)]
    exact act_ne ha (Or.inl hi)
theorem tickT_36 {T : TT} {nw na M t : Nat} {fails : Bool} (hF : Fx T.1 nw na M) : (tickT T nw na t fails).1 36 = T.1 36 + 1 := by
  unfold tickT
  rw [tickBy_36 hF.1]
  split
  · rfl
  · have hm : t % na < na := Nat.mod_lt _ (by omega)
    obtain ⟨a, ha, ea⟩ := hF.2.2.2.2.2.2 _ hm
    rw [ea, nI_clamp (by omega), act_ne ha (Or.inr rfl)]
theorem Fx.tick {T : TT} {nw na M t : Nat} {fails : Bool} (hF : Fx T.1 nw na M) : Fx (tickT T nw na t fails).1 nw na M := hF.same fun _ hi => tickT_ne hF hi
/-- ticks, n of them, from the tick t on -/
def tks (nw na : Nat) : TT → Nat → Nat → TT
  | T, _, 0 => T
  | T, t, n + 1 => tks nw na (tickT T nw na t false) (t + 1) n
theorem c_ticks {N k nw na M m : Nat} {σ : SS} (hN : 100 ≤ N) (hm : m < 2 ^ 30) : ∀ (n j t : Nat) (T : TT), Fx T.1 nw na M → T.1 36 = nI t → t < 2 ^ 30 → t + (m - j) < 2 ^ 30 → (∀ i, i < na → gi σ (iAA k) i = T.1 (17 + i)) → j ≤ m → m - j < n → F_X0_ticksGo_6 N k n (nI m) (nI j) (ctw k T σ) = some ((), ctw k (tks nw na T t (m - j)) σ) := by
  intro n
  induction n with
  | zero => intro j t T _ _ _ _ _ _ h; omega
  | succ n ih =>
    intro j t T hF ht ht2 ht3 hA hj hn
    show B_X0_ticksGo_6 N k (F_X0_ticksGo_6 N k n) (nI m) (nI j) (ctw k T σ) = _
    unfold B_X0_ticksGo_6
    by_cases c1 : j = m
    · subst c1
      rw [if_pos (nI_le (Nat.le_refl _) (by omega)), Nat.sub_self]
      rfl
    · have hlt : j < m := by omega
      rw [if_neg (nI_ge hlt (by omega)), show (0 : Int32) = b2i false from rfl, c_tick hN hF ht (by omega) hA, bd_s]
      have e : nI j + (1 : Int32) = nI (j + 1) := nI_1 j
      simp only [nm, e]
      have e2 : m - j = (m - (j + 1)) + 1 := by omega
      rw [e2]
      exact ih (j + 1) (t + 1) (tickT T nw na t false) hF.tick (by rw [tickT_36 hF, ht]; exact nI_1 t) (by omega) (by omega) (fun i hi => by rw [hA i hi, tickT_ne hF (by have := hF.2.2.1; unfold tw; omega)]) hlt (by omega)
theorem c_ticksGo {N k nw na M m t : Nat} {P : Pg} {C : Int32 × Int32 × Int32 × Int32} {σ : SS} (hN : 1000 ≤ N) (hm : m ≤ 900) (hF : Fx P nw na M) (ht : P 36 = nI t) (ht2 : t < 2 ^ 20) (hA : ∀ i, i < na → gi σ (iAA k) i = P (17 + i)) : F_X0_ticksGo N k (nI m) (ctw k (P, C) σ) = some ((), ctw k (tks nw na (P, 0, 0, 0, 0) t m) σ) := by
  unfold F_X0_ticksGo F_X0_startsCounting
  simp only [nm, c_s7, c_s8, c_s9, c_s10, bd_s]
  exact c_ticks (N := N) (by omega) (by omega) N 0 t (P, 0, 0, 0, 0) hF ht (by omega) (by omega) hA (Nat.zero_le _) (by omega)
