/-! THE PLAIN LAW: what is asked of now: rule, act, wheel -/
set_option maxRecDepth 100000
theorem lc16 : (16 : Int32).toNatClampNeg = 16 := by decide
theorem lc33 : (33 : Int32).toNatClampNeg = 33 := by decide
theorem lc34 : (34 : Int32).toNatClampNeg = 34 := by decide
theorem lc35 : (35 : Int32).toNatClampNeg = 35 := by decide
theorem lc36 : (36 : Int32).toNatClampNeg = 36 := by decide
theorem lc37 : (37 : Int32).toNatClampNeg = 37 := by decide
theorem lc38 : (38 : Int32).toNatClampNeg = 38 := by decide
theorem r16 : inR (16 : Int32) 234 := by decide
theorem r33 : inR (33 : Int32) 234 := by decide
theorem r34 : inR (34 : Int32) 234 := by decide
theorem r35 : inR (35 : Int32) 234 := by decide
theorem r36 : inR (36 : Int32) 234 := by decide
theorem r37 : inR (37 : Int32) 234 := by decide
theorem r38 : inR (38 : Int32) 234 := by decide
/-- now, as both halves have it -/
def Now (B : Nat) (σ : SS) (P : Pg) (nw na M t : Nat) : Prop := (cz 0 σ = P ∧ mz 0 σ = P) ∧ (Fx P nw na M ∧ P 36 = nI t ∧ t ≤ 9999 ∧ P 39 = -4 ∧ P 40 = -4 ∧ Sw B P) ∧ (∀ i, dm i = true → gi σ (iS 0) i = P i) ∧ (∀ i, dq i = true → i ≠ 34 → gi σ 21 i = P i) ∧ gi σ 21 34 = P 34 - 5 ∧ (∀ i, i < na → gi σ (iAA 0) i = P (17 + i)) ∧ (∀ i, i < na → gi σ 21 (17 + i) = P (17 + i)) ∧ gi σ 1 14 = -4 ∧ gi σ 1 15 = -4
theorem Rel.now {B : Nat} {σ : SS} (h : Rel B σ) : ∃ P nw na M t, Now B σ P nw na M t := by
  obtain ⟨⟨a1, -, -⟩, ⟨b1, -, -⟩, -⟩ := h
  obtain ⟨nw, na, M, t, q1, q2, q3, q4, q5, q6⟩ := b1
  have m33 : mz 0 σ 33 = nI na := by rw [← a1]; exact q1.2.2.2.1
  refine ⟨cz 0 σ, nw, na, M, t, ⟨rfl, a1.symm⟩, ⟨q1, q2, q3, q4, q5, q6⟩, fun i hi => (cz_d hi).symm, fun i hi h34 => ?_, ?_, fun i hi => (cz_A q1.2.2.2.1 q1.2.2.1 hi).symm, fun i hi => ?_, ?_, ?_⟩
  · rw [a1, mz_d hi h34, Nat.zero_add]
  · rw [a1, mz_34, Int32.add_sub_cancel, Nat.zero_add]
  · rw [a1, mz_A m33 q1.2.2.1 hi, Nat.zero_add]
  · rw [← q5, a1]; rfl
  · rw [← q4, a1]; rfl
theorem c_isWheel {B N nw na M t : Nat} {σ : SS} {P : Pg} {x : Int32} (h : Now B σ P nw na M t) : (InR x 0 nw → F_X0_isWheel N x σ = some (1, σ)) ∧ (¬ InR x 0 nw → F_X0_isWheel N x σ = some (0, σ)) := by
  obtain ⟨-, ⟨hF, -⟩, hc, -⟩ := h
  have e : gi σ (iS 0) 16 = nI nw := (hc 16 rfl).trans hF.2.1
  have h4 := hF.1
  have hh := lg_m1 (n := nw) (by omega)
  unfold F_X0_isWheel
  rw [e]
  refine ⟨fun z => ?_, fun z => ?_⟩
  · rw [in_1 (a := 0) (b := nw) (by decide) hh (by omega) z, bd_s, gd_t (Or.inr rfl)]
  · rw [in_0 (a := 0) (b := nw) (by decide) hh (by omega) z, bd_s, gd_t (Or.inl rfl)]
theorem m_isWheel {B N nw na M t : Nat} {σ : SS} {P : Pg} {x : Int32} (h : Now B σ P nw na M t) : (InR x 0 nw → F_X8_isWheel N x σ = some (1, σ)) ∧ (¬ InR x 0 nw → F_X8_isWheel N x σ = some (0, σ)) := by
  obtain ⟨-, ⟨hF, -⟩, -, hm, -⟩ := h
  have e : gi σ 21 16 = nI nw := (hm 16 rfl (by decide)).trans hF.2.1
  have h4 := hF.1
  have hh := lg_m1 (n := nw) (by omega)
  unfold F_X8_isWheel
  rw [gd_t r16, lc16, e, m_in_e]
  refine ⟨fun z => ?_, fun z => ?_⟩
  · rw [in_1 (a := 0) (b := nw) (by decide) hh (by omega) z, bd_s, gd_t (Or.inr rfl)]
  · rw [in_0 (a := 0) (b := nw) (by decide) hh (by omega) z, bd_s, gd_t (Or.inl rfl)]
theorem c_isAct {B N nw na M t : Nat} {σ : SS} {P : Pg} {x : Int32} (h : Now B σ P nw na M t) : (InR x 0 na → F_X0_isAct N x σ = some (1, σ)) ∧ (¬ InR x 0 na → F_X0_isAct N x σ = some (0, σ)) := by
  obtain ⟨-, ⟨hF, -⟩, hc, -⟩ := h
  have e : gi σ (iS 0) 33 = nI na := (hc 33 rfl).trans hF.2.2.2.1
  have h4 := hF.2.2.1
  have hh := lg_m1 (n := na) (by omega)
  unfold F_X0_isAct
  rw [e]
  refine ⟨fun z => ?_, fun z => ?_⟩
  · rw [in_1 (a := 0) (b := na) (by decide) hh (by omega) z, bd_s, gd_t (Or.inr rfl)]
  · rw [in_0 (a := 0) (b := na) (by decide) hh (by omega) z, bd_s, gd_t (Or.inl rfl)]
theorem m_isAct {B N nw na M t : Nat} {σ : SS} {P : Pg} {x : Int32} (h : Now B σ P nw na M t) : (InR x 0 na → F_X8_isAct N x σ = some (1, σ)) ∧ (¬ InR x 0 na → F_X8_isAct N x σ = some (0, σ)) := by
  obtain ⟨-, ⟨hF, -⟩, -, hm, -⟩ := h
  have e : gi σ 21 33 = nI na := (hm 33 rfl (by decide)).trans hF.2.2.2.1
  have h4 := hF.2.2.1
  have hh := lg_m1 (n := na) (by omega)
  unfold F_X8_isAct
  rw [gd_t r33, lc33, e, m_in_e]
  refine ⟨fun z => ?_, fun z => ?_⟩
  · rw [in_1 (a := 0) (b := na) (by decide) hh (by omega) z, bd_s, gd_t (Or.inr rfl)]
  · rw [in_0 (a := 0) (b := na) (by decide) hh (by omega) z, bd_s, gd_t (Or.inl rfl)]
theorem p_act {N : Nat} : Sp6 Inv N := by
  intro t σ x1 ht hI
  obtain ⟨P, nw, na, M, t9, hN⟩ := hI.now
  unfold F_X0_act F_X8_act
  by_cases h : InR x1 0 na
  · obtain ⟨i, -, hi, rfl⟩ := id h
    have h16 := hN.2.1.1.2.2.1
    refine ⟨P (17 + i), σ, σ, ?_, ?_, hI.up⟩
    · rw [(c_isAct hN).1 h, bd_s, if_neg (by decide), gd_t (inR_nI (by omega) (by omega)), nI_clamp (by omega), hN.2.2.2.2.2.1 i hi]
    · have e : (17 : Int32) + nI i = nI (17 + i) := nI_add 17 i
      rw [(m_isAct hN).1 h, bd_s, if_neg (by decide), e, gd_t (inR_nI (by omega) (by omega)), nI_clamp (by omega), hN.2.2.2.2.2.2.1 i hi]
  · refine ⟨-1, σ, σ, ?_, ?_, hI.up⟩
    · rw [(c_isAct hN).2 h, bd_s, if_pos rfl]
    · rw [(m_isAct hN).2 h, bd_s, if_pos rfl]
theorem q_of {t : Nat} {σ : SS} {A C : SS → Option (Int32 × SS)} (hI : Inv t σ) (h : ∃ v, A σ = some (v, σ) ∧ C σ = some (v, σ)) : ∃ r σ1 σ2, A σ = some (r, σ1) ∧ C σ1 = some (r, σ2) ∧ Inv (t + 1) σ2 := by
  obtain ⟨v, h1, h2⟩ := h
  exact ⟨v, σ, σ, h1, h2, hI.up⟩
theorem p_rule {N : Nat} : Sp4 Inv N := by
  intro t σ x1 ht hI
  obtain ⟨P, nw, na, M, t9, hN⟩ := hI.now
  obtain ⟨-, ⟨hF, q2, q3, q4, q5, q6⟩, hc, hm, h34, hcA, hmA, -, -⟩ := id hN
  obtain ⟨h1, h2, h3, h4, h5, h6, h7⟩ := id hF
  have hM : ¬ (nI M : Int32) = 0 := nI_ne0 (by omega) (by omega)
  refine q_of (A := F_X0_rule N x1) (C := F_X8_rule N x1) hI ?_
  unfold F_X0_rule F_X8_rule F_X5_speed F_X8_speedOn F_X5_next
  simp only [lc33, lc16, lc34, lc35, lc36, lc37, lc38, gd_t r33, gd_t r16, gd_t r34, gd_t r35, gd_t r36, gd_t r37, gd_t r38, nm, Int32.zero_add, hc 16 rfl, hc 33 rfl, hc 34 rfl, hc 35 rfl, hc 36 rfl, hc 37 rfl, hc 38 rfl, hm 16 rfl (by decide), hm 33 rfl (by decide), hm 35 rfl (by decide), hm 36 rfl (by decide), hm 37 rfl (by decide), hm 38 rfl (by decide), h34, Int32.sub_add_cancel]
  have hd : ¬ P 34 = 0 := by rw [h5.2.2]; exact hM
  simp only [gd_t hd, bd_s]
  by_cases c0 : (x1.toInt < 0 ∨ 8 < x1.toInt)
  · exact ⟨-1, if_pos c0, if_pos c0⟩
  ·
    by_cases c1 : x1 = 0
    · subst c1
      exact ⟨P 16, rfl, rfl⟩
    by_cases c2 : x1 = 1
    · subst c2
      exact ⟨P 33, rfl, rfl⟩
    by_cases c3 : x1 = 2
    · subst c3
      exact ⟨P 36, rfl, rfl⟩
    by_cases c4 : x1 = 3
    · subst c4
      exact ⟨P 37, rfl, rfl⟩
    by_cases c5 : x1 = 4
    · subst c5
      exact ⟨P 38, rfl, rfl⟩
    by_cases c6 : x1 = 5
    · subst c6
      exact ⟨P 34, rfl, rfl⟩
    by_cases c7 : x1 = 6
    · subst c7
      exact ⟨P 35, rfl, rfl⟩
    by_cases c8 : x1 = 7
    · subst c8
      exact ⟨P 35 / P 34, rfl, rfl⟩
    by_cases c9 : x1 = 8
    · subst c9
      show ∃ v, (if P 33 = 0 then _ else _) = some (v, σ) ∧ (if P 33 = 0 then _ else _) = some (v, σ)
      rw [h4, q2]
      by_cases d0 : na = 0
      · subst d0
        exact ⟨-4, rfl, rfl⟩
      · have hna : ¬ (nI na : Int32) = 0 := nI_ne0 (by omega) (by omega)
        have hmd : t9 % na < na := Nat.mod_lt _ (by omega)
        have e17 : (17 : Int32) + nI (t9 % na) = nI (17 + t9 % na) := nI_add 17 _
        refine ⟨P (17 + t9 % na), ?_, ?_⟩
        · rw [if_neg hna, if_neg hna, gd_t hna, bd_s, nI_modN (by omega) (by omega), gd_t (inR_nI (by omega) (by omega)), nI_clamp (by omega), hcA _ hmd]
        · rw [if_neg hna, gd_t hna, nI_modN (by omega) (by omega), e17, gd_t (inR_nI (by omega) (by omega)), nI_clamp (by omega), hmA _ hmd]
    · exfalso
      have key : ∀ v : Nat, v < 9 → ¬ x1 = nI v := fun v hv => by
        rcases (show v = 0 ∨ v = 1 ∨ v = 2 ∨ v = 3 ∨ v = 4 ∨ v = 5 ∨ v = 6 ∨ v = 7 ∨ v = 8 by omega) with rfl | rfl | rfl | rfl | rfl | rfl | rfl | rfl | rfl
        · exact c1
        · exact c2
        · exact c3
        · exact c4
        · exact c5
        · exact c6
        · exact c7
        · exact c8
        · exact c9
      refine key x1.toInt.toNat (by omega) (Int32.toInt_inj.mp ?_)
      rw [nI_toInt (by omega)]
      omega
