/-! THE PLAIN LAW: shaft, cut, drop -/
set_option maxRecDepth 100000
theorem iS00 : iS 0 = 40 := rfl
theorem iAA00 : iAA 0 = 42 := rfl
theorem AF.sub {σ σ' : SS} (h : AF 0 σ) (e : ∀ i, gi σ' 42 i = gi σ 42 i) : AF 0 σ' := h.same fun i _ => e i
theorem e10 : ¬ (1 : Int32) = 0 := by decide
theorem p_shaft {N : Nat} : Sp8 Inv N := by
  intro t σ x1 ht hI
  obtain ⟨P, nw, na, M, t9, hN⟩ := hI.now
  obtain ⟨-, ⟨hF, q2, q3, q4, q5, q6⟩, hc, hm, h34, hcA, hmA, g14, g15⟩ := id hN
  have lo : (1 : Int64).toInt = ((1 : Nat) : Int) := by decide
  have hi : (20 : Int64).toInt + 1 = ((21 : Nat) : Int) := by decide
  unfold F_X0_shaft F_X8_shaft F_X8_puts
  by_cases h : InR x1 1 21
  · have hb : F_X0_canBe N 1 x1 σ = some (1, σ) := by
      show bd (F_X0_in N x1.toInt64 1 20 σ) _ = _
      rw [in_1 lo hi (by decide) h, bd_s, gd_t (Or.inr rfl)]
    obtain ⟨v, hv1, hv2, rfl⟩ := id h
    refine ⟨P 34, si σ (iS 0) 34 (nI v), si (si σ (iS 0) 34 (nI v)) 21 34 (nI v - 5), ?_, ?_, ?_⟩
    · rw [hb, bd_s, if_neg e10]
      simp only [nm, hc 34 rfl]
    · rw [m_in_e, in_1 lo hi (by decide) h, bd_s, if_neg e10]
      simp only [gd_t r34, lc34, nm, bd_s]
      rw [gi_sn (by unfold iS; omega), h34, Int32.sub_add_cancel]
    · have hF' : Fx (pu P 34 (nI v)) nw na v := by
        obtain ⟨h1, h2, h3, h4, h5, h6, h7⟩ := hF
        refine ⟨h1, by rw [pu_ne (by omega)]; exact h2, h3, by rw [pu_ne (by omega)]; exact h4, ⟨hv1, by omega, pu_eq _ _ _⟩, fun w hw => ?_, fun j hj => ?_⟩
        · rw [pu_ne (by omega), pu_ne (by omega), pu_ne (by omega)]
          exact h6 w hw
        · rw [pu_ne (by omega)]
          exact h7 j hj
      have hb := now_back (B := 10000 * (t + 1)) (t := t9) (σ := si (si σ (iS 0) 34 (nI v)) 21 34 (nI v - 5)) hF' (by rw [pu_ne (by omega)]; exact q2) q3 (by rw [pu_ne (by omega)]; exact q4) (by rw [pu_ne (by omega)]; exact q5) (by unfold Sw; rw [pu_ne (by omega), pu_ne (by omega), pu_ne (by omega), pu_ne (by omega), pu_ne (by omega)]; exact q6.mono (by omega))
        (fun i hi => by
          rw [gi_sn (by unfold iS; omega)]
          by_cases e : i = 34
          · subst e
            rw [gi_se, pu_eq]
          · rw [gi_sn (by omega), pu_ne e]
            exact hc i hi)
        (fun i hi hne => by
          rw [gi_sn (by omega), gi_sn (by unfold iS; omega), pu_ne hne]
          exact hm i hi hne)
        (by rw [gi_se, pu_eq])
        (fun i hi => by rw [gi_sn (by unfold iAA; omega), gi_sn (by unfold iAA iS; omega), pu_ne (by have := hF.2.2.1; omega)]; exact hcA i hi)
        (fun i hi => by rw [gi_sn (by have := hF.2.2.1; omega), gi_sn (by unfold iS; omega), pu_ne (by have := hF.2.2.1; omega)]; exact hmA i hi)
        (by rw [gi_sn (by omega), gi_sn (by unfold iS; omega)]; exact g14) (by rw [gi_sn (by omega), gi_sn (by unfold iS; omega)]; exact g15)
      have ag : Ag XP σ (si (si σ (iS 0) 34 (nI v)) 21 34 (nI v - 5)) := (Ag.refl.put (Or.inl rfl)).put (by unfold XP; omega)
      exact Rel.exP hI (by omega) ag rfl (hI.P.now (by omega) ag hb (hI.2.2.1.1.sub fun i => by rw [gi_sn (by omega), gi_sn (by unfold iS; omega)]))
  · have hb : F_X0_canBe N 1 x1 σ = some (0, σ) := by
      show bd (F_X0_in N x1.toInt64 1 20 σ) _ = _
      rw [in_0 lo hi (by decide) h, bd_s, gd_t (Or.inl rfl)]
    refine ⟨-1, σ, σ, ?_, ?_, hI.up⟩
    · rw [hb, bd_s, if_pos rfl]
    · rw [m_in_e, in_0 lo hi (by decide) h, bd_s, if_pos rfl, bd_s]
/-- one place of now's page written in both halves -/
theorem now_set1 {B B' nw na M t9 nw' na' M' j : Nat} {σ : SS} {P : Pg} {x y : Int32} (hI : Rel B σ) (hB : B ≤ B') (hN : Now B σ P nw na M t9) (hj : dq j = true) (hy : y = if j = 34 then x - 5 else x) (hF' : Fx (pu P j x) nw' na' M') (hna : na' ≤ na) (hS : Sw B' (pu P j x)) (h36 : j ≠ 36) : Rel B' (si (si σ (iS 0) j x) 21 j y) := by
  obtain ⟨-, ⟨hF, q2, q3, q4, q5, q6⟩, hc, hm, h34, hcA, hmA, g14, g15⟩ := id hN
  have hjr : j < 17 ∨ (33 ≤ j ∧ j < 39) := by
    unfold dq at hj
    simpa using hj
  have hna16 := hF.2.2.1
  have hb := now_back (B := B') (t := t9) (σ := si (si σ (iS 0) j x) 21 j y) hF' (by rw [pu_ne (by omega)]; exact q2) q3 (by rw [pu_ne (by omega)]; exact q4) (by rw [pu_ne (by omega)]; exact q5) hS
    (fun i hi => by
      rw [gi_sn (by unfold iS; omega)]
      by_cases e : i = j
      · subst e
        rw [gi_se, pu_eq]
      · rw [gi_sn (by omega), pu_ne e]
        exact hc i hi)
    (fun i hi hne => by
      by_cases e : i = j
      · subst e
        rw [gi_se, pu_eq, hy, if_neg hne]
      · rw [gi_sn (by omega), gi_sn (by unfold iS; omega), pu_ne e]
        exact hm i hi hne)
    (by
      by_cases e : 34 = j
      · subst e
        rw [gi_se, pu_eq, hy, if_pos rfl]
      · rw [gi_sn (by omega), gi_sn (by unfold iS; omega), pu_ne e]
        exact h34)
    (fun i hi => by rw [gi_sn (by unfold iAA; omega), gi_sn (by unfold iAA iS; omega), pu_ne (by omega)]; exact hcA i (by omega))
    (fun i hi => by rw [gi_sn (by omega), gi_sn (by unfold iS; omega), pu_ne (by omega)]; exact hmA i (by omega))
    (by rw [gi_sn (by omega), gi_sn (by unfold iS; omega)]; exact g14) (by rw [gi_sn (by omega), gi_sn (by unfold iS; omega)]; exact g15)
  have ag : Ag XP σ (si (si σ (iS 0) j x) 21 j y) := (Ag.refl.put (Or.inl rfl)).put (by unfold XP; omega)
  exact Rel.exP hI hB ag rfl (hI.P.now hB ag hb (hI.2.2.1.1.sub fun i => by rw [gi_sn (by omega), gi_sn (by unfold iS; omega)]))
theorem Sw.pu {B B' : Nat} {P : Pg} {j : Nat} {x : Int32} (h : Sw B P) (hB : B ≤ B') (hj : ¬ (12 ≤ j ∧ j < 16) ∧ j ≠ 35) : Sw B' (pu P j x) := by
  unfold Sw
  rw [pu_ne (by omega), pu_ne (by omega), pu_ne (by omega), pu_ne (by omega), pu_ne (by omega)]
  exact h.mono hB
theorem p_cut {N : Nat} : Sp10 Inv N := by
  intro t σ x1 ht hI
  obtain ⟨P, nw, na, M, t9, hN⟩ := hI.now
  obtain ⟨-, ⟨hF, q2, q3, q4, q5, q6⟩, hc, hm, h34, hcA, hmA, g14, g15⟩ := id hN
  obtain ⟨h1, h2, h3, h4, h5, h6, h7⟩ := id hF
  have e1 : gi σ (iS 0) 16 = nI nw := (hc 16 rfl).trans h2
  have e2 : gi σ 21 16 = nI nw := (hm 16 rfl (by decide)).trans h2
  have lo : (0 : Int64).toInt = ((0 : Nat) : Int) := by decide
  have hi : (nI nw).toInt64.toInt + 1 = ((nw + 1 : Nat) : Int) := by rw [lg_of (by omega)]; omega
  unfold F_X0_cut F_X8_cut F_X8_puts
  by_cases h : InR x1 0 (nw + 1)
  · obtain ⟨v, hv1, hv2, rfl⟩ := id h
    refine ⟨nI nw, si σ (iS 0) 16 (nI v), si (si σ (iS 0) 16 (nI v)) 21 16 (nI v), ?_, ?_, ?_⟩
    · rw [e1, in_1 lo hi (by omega) h, bd_s, if_neg e10]
      simp only [nm, e1]
    · have e3 : gi (si σ (iS 0) 16 (nI v)) 21 16 = nI nw := by rw [gi_sn (by unfold iS; omega)]; exact e2
      simp only [gd_t r16, lc16, e3, m_in_e, in_1 lo hi (show nw + 1 ≤ 2 ^ 31 by omega) h, bd_s, nm, Int32.add_zero, Int32.sub_zero]
      rw [if_neg e10, bd_s]
    · refine now_set1 hI (by omega) hN rfl rfl (nw' := v) (na' := na) (M' := M) ?_ (Nat.le_refl _) (q6.pu (by omega) (by omega)) (by decide)
      refine ⟨by omega, pu_eq _ _ _, h3, by rw [pu_ne (by omega)]; exact h4, ⟨h5.1, h5.2.1, by rw [pu_ne (by omega)]; exact h5.2.2⟩, fun w hw => ?_, fun j hj => ?_⟩
      · rw [pu_ne (by omega), pu_ne (by omega), pu_ne (by omega)]
        exact h6 w (by omega)
      · rw [pu_ne (by omega)]
        exact h7 j hj
  · refine ⟨-1, σ, σ, ?_, ?_, hI.up⟩
    · rw [e1, in_0 lo hi (by omega) h, bd_s, if_pos rfl]
    · simp only [gd_t r16, lc16, e2, m_in_e, in_0 lo hi (show nw + 1 ≤ 2 ^ 31 by omega) h, bd_s]
      rfl
theorem p_drop {N : Nat} : Sp13 Inv N := by
  intro t σ x1 ht hI
  obtain ⟨P, nw, na, M, t9, hN⟩ := hI.now
  obtain ⟨-, ⟨hF, q2, q3, q4, q5, q6⟩, hc, hm, h34, hcA, hmA, g14, g15⟩ := id hN
  obtain ⟨h1, h2, h3, h4, h5, h6, h7⟩ := id hF
  have e1 : gi σ (iS 0) 33 = nI na := (hc 33 rfl).trans h4
  have e2 : gi σ 21 33 = nI na := (hm 33 rfl (by decide)).trans h4
  have lo : (0 : Int64).toInt = ((0 : Nat) : Int) := by decide
  have hi : (nI na).toInt64.toInt + 1 = ((na + 1 : Nat) : Int) := by rw [lg_of (by omega)]; omega
  unfold F_X0_drop F_X8_drop F_X8_puts
  by_cases h : InR x1 0 (na + 1)
  · obtain ⟨v, hv1, hv2, rfl⟩ := id h
    refine ⟨nI na, si σ (iS 0) 33 (nI v), si (si σ (iS 0) 33 (nI v)) 21 33 (nI v), ?_, ?_, ?_⟩
    · rw [e1, in_1 lo hi (by omega) h, bd_s, if_neg e10]
      simp only [nm, e1]
    · have e3 : gi (si σ (iS 0) 33 (nI v)) 21 33 = nI na := by rw [gi_sn (by unfold iS; omega)]; exact e2
      simp only [gd_t r33, lc33, e3, m_in_e, in_1 lo hi (show na + 1 ≤ 2 ^ 31 by omega) h, bd_s, nm, Int32.add_zero, Int32.sub_zero]
      rw [if_neg e10, bd_s]
    · refine now_set1 hI (by omega) hN rfl rfl (nw' := nw) (na' := v) (M' := M) ?_ (by omega) (q6.pu (by omega) (by omega)) (by decide)
      refine ⟨h1, by rw [pu_ne (by omega)]; exact h2, by omega, pu_eq _ _ _, ⟨h5.1, h5.2.1, by rw [pu_ne (by omega)]; exact h5.2.2⟩, fun w hw => ?_, fun j hj => ?_⟩
      · rw [pu_ne (by omega), pu_ne (by omega), pu_ne (by omega)]
        exact h6 w hw
      · rw [pu_ne (by omega)]
        exact h7 j (by omega)
  · refine ⟨-1, σ, σ, ?_, ?_, hI.up⟩
    · rw [e1, in_0 lo hi (by omega) h, bd_s, if_pos rfl]
    · simp only [gd_t r33, lc33, e2, m_in_e, in_0 lo hi (show na + 1 ≤ 2 ^ 31 by omega) h, bd_s]
      rfl
