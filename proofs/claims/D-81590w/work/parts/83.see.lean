/-! THE PLAIN LAW: set, add, see, forget, keep, back, count -/
set_option maxRecDepth 100000
theorem short_nar : ∀ c, c < 204 → vp_nar .short (nI c).toInt16.toInt32 = nI c := by decide +kernel
theorem short_nar2 : ∀ c, c < 204 → vp_nar .short (nI c) = nI c := by decide +kernel
theorem i_203 {N : Nat} {x : Int32} {σ : SS} : (InR x 0 204 → F_X0_in N x.toInt64 0 203 σ = some (1, σ)) ∧ (¬ InR x 0 204 → F_X0_in N x.toInt64 0 203 σ = some (0, σ)) := ⟨fun h => in_1 (a := 0) (b := 204) (by decide) (by decide) (by decide) h, fun h => in_0 (a := 0) (b := 204) (by decide) (by decide) (by decide) h⟩
theorem c_isTold {N : Nat} {x : Int32} {σ : SS} : (InR x 0 204 → F_X0_isTold N x σ = some (1, σ)) ∧ (¬ InR x 0 204 → F_X0_isTold N x σ = some (0, σ)) := by
  unfold F_X0_isTold
  refine ⟨fun h => ?_, fun h => ?_⟩
  · rw [i_203.1 h, bd_s, gd_t (Or.inr rfl)]
  · rw [i_203.2 h, bd_s, gd_t (Or.inl rfl)]
theorem AF.put {σ : SS} {i a : Nat} (h : AF 0 σ) (ha : a ≤ 203) : AF 0 (si σ (iAA 0) i (nI a)) := fun j hj => by
  by_cases e : j = i
  · exact ⟨a, ha, by rw [e, gi_se]⟩
  · rw [gi_sn (Or.inr e)]
    exact h j hj
theorem Fx_act1 {P : Pg} {nw na M i a : Nat} (h : Fx P nw na M) (hi : i < na) (ha : a ≤ 203) : Fx (pu P (17 + i) (nI a)) nw na M := by
  obtain ⟨g1, g2, g3, g4, g5, g6, g7⟩ := h
  refine ⟨g1, by rw [pu_ne (by omega)]; exact g2, g3, by rw [pu_ne (by omega)]; exact g4, ⟨g5.1, g5.2.1, by rw [pu_ne (by omega)]; exact g5.2.2⟩, fun u hu => ?_, fun j hj => ?_⟩
  · rw [pu_ne (by omega), pu_ne (by omega), pu_ne (by omega)]
    exact g6 u hu
  · by_cases e : j = i
    · exact ⟨a, ha, by rw [e, pu_eq]⟩
    · rw [pu_ne (by omega)]
      exact g7 j hj
theorem p_set {N : Nat} : Sp11 Inv N := by
  intro t σ x1 x2 ht hI
  obtain ⟨P, nw, na, M, t9, hN⟩ := hI.now
  obtain ⟨-, ⟨hF, q2, q3, q4, q5, q6⟩, hc, hm, h34, hcA, hmA, g14, g15⟩ := id hN
  have h16 := hF.2.2.1
  have no : ∀ τ : SS, F_X8_set_25 N x1 x2 τ = some (-1, τ) := fun τ => rfl
  unfold F_X0_set F_X8_set
  by_cases h : InR x1 0 na
  · by_cases h2 : InR x2 0 204
    · obtain ⟨i, -, hi, rfl⟩ := id h
      obtain ⟨a, -, ha, rfl⟩ := id h2
      refine ⟨P (17 + i), si σ (iAA 0) i (nI a), si (si σ (iAA 0) i (nI a)) 21 (17 + i) (nI a), ?_, ?_, ?_⟩
      · rw [(c_isAct hN).1 h, bd_s, if_neg e10, c_isTold.1 h2, bd_s, if_neg e10]
        have cl : (nI i).toNatClampNeg = i := nI_clamp (by omega)
        simp only [nm, cl, gd_t (inR_nI (show i < 16 by omega) (by omega)), hcA i hi, short_nar a ha]
      · have e33 : gi (si σ (iAA 0) i (nI a)) 21 33 = nI na := (gi_sn (by unfold iAA; omega)).trans ((hm 33 rfl (by decide)).trans hF.2.2.2.1)
        have hh := lg_m1 (n := na) (by omega)
        have ha1 : F_X8_isAct N (nI i) (si σ (iAA 0) i (nI a)) = some (1, si σ (iAA 0) i (nI a)) := by
          unfold F_X8_isAct
          rw [gd_t r33, lc33, e33, m_in_e, in_1 (a := 0) (b := na) (by decide) hh (by omega) h, bd_s, gd_t (Or.inr rfl)]
        have i17 : (17 : Int32) + nI i = nI (17 + i) := nI_add 17 i
        unfold F_X8_set_26 F_X8_puts
        rw [ha1, bd_s, if_neg e10, m_in_e, i_203.1 h2, bd_s, if_neg e10, if_neg e10, i17]
        have cl : (nI (17 + i)).toNatClampNeg = 17 + i := nI_clamp (by omega)
        simp only [nm, cl, gd_t (inR_nI (show 17 + i < 234 by omega) (by omega)), bd_s, Int32.add_zero, Int32.sub_zero]
        rw [gi_sn (by unfold iAA; omega), hmA i hi]
      · have ha' : a ≤ 203 := by omega
        refine now_to (nw := nw) (na := na) (M := M) (t := t9) (P := pu P (17 + i) (nI a)) hI (by omega) ((Ag.refl.put (Or.inr (Or.inl rfl))).put (by unfold XP; omega)) rfl ?_ (Fx_act1 hF hi ha') (by rw [pu_ne (by omega)]; exact q2) q3 (by rw [pu_ne (by omega)]; exact q4) (by rw [pu_ne (by omega)]; exact q5) (q6.pu (by omega) (by omega)) ?_ ?_ ?_ ?_ ?_
        · exact (hI.2.2.1.1.put ha').sub fun j => gi_sn (by omega)
        · intro j hj
          have hj2 := dm_e hj
          rw [gi_sn (by unfold iS; omega), gi_sn (by unfold iS iAA; omega), pu_ne (by omega)]
          exact hc j hj
        · intro j hj hne
          have hj2 : j < 17 ∨ (33 ≤ j ∧ j < 39) := by
            unfold dq at hj
            simpa using hj
          rw [gi_sn (by omega), gi_sn (by unfold iAA; omega), pu_ne (by omega)]
          exact hm j hj hne
        · rw [gi_sn (by omega), gi_sn (by unfold iAA; omega), pu_ne (by omega)]
          exact h34
        · intro j hj
          rw [gi_sn (by unfold iAA; omega)]
          by_cases e : j = i
          · rw [e, gi_se, pu_eq]
          · rw [gi_sn (Or.inr e), pu_ne (by omega)]
            exact hcA j hj
        · intro j hj
          by_cases e : j = i
          · rw [e, gi_se, pu_eq]
          · rw [gi_sn (by omega), gi_sn (by unfold iAA; omega), pu_ne (by omega)]
            exact hmA j hj
    · refine ⟨-1, σ, σ, ?_, ?_, hI.up⟩
      · rw [(c_isAct hN).1 h, bd_s, if_neg e10, c_isTold.2 h2, bd_s, if_pos rfl]
      · rw [(m_isAct hN).1 h, bd_s, if_neg e10, m_in_e, i_203.2 h2, bd_s, if_pos rfl, no]
  · refine ⟨-1, σ, σ, ?_, ?_, hI.up⟩
    · rw [(c_isAct hN).2 h, bd_s, if_pos rfl]
    · rw [(m_isAct hN).2 h, bd_s, if_pos rfl, no]
/-- an act added: the component's state, the model's -/
def cad (na a : Nat) (σ : SS) : SS := si (si σ (iAA 0) na (nI a)) (iS 0) 33 (nI (na + 1))
def mad (na a : Nat) (σ : SS) : SS := si (si σ 21 (17 + na) (nI a)) 21 33 (nI (na + 1))
theorem c_add1 {N na a : Nat} {σ : SS} (e : gi σ (iS 0) 33 = nI na) (h : na < 16) (ha : a < 204) : F_X0_add N (nI a) σ = some (nI (na + 1), cad na a σ) := by
  have n16 : ¬ nI na = (16 : Int32) := nI_eqL (a := na) (b := 16) (by omega) (by omega) (by omega)
  unfold F_X0_add
  rw [c_isTold.1 ⟨a, Nat.zero_le _, ha, rfl⟩, bd_s, if_neg e10, e, if_neg n16, gd_t (inR_nI h (by omega)), nI_clamp (by omega), short_nar a ha]
  have eg : gi (si σ (iAA 0) na (nI a)) (iS 0) 33 = nI na := (gi_sn (by unfold iS iAA; omega)).trans e
  simp only [nm, eg, gi_se, show nI na + 1 = nI (na + 1) from nI_1 na]
  rfl
theorem c_add3 {N a : Nat} {σ : SS} (e : gi σ (iS 0) 33 = nI 16) (ha : a < 204) : F_X0_add N (nI a) σ = some (-3, σ) := by
  unfold F_X0_add
  rw [c_isTold.1 ⟨a, Nat.zero_le _, ha, rfl⟩, bd_s, if_neg e10, e]
  exact if_pos rfl
theorem c_add0 {N : Nat} {x : Int32} {σ : SS} (h : ¬ InR x 0 204) : F_X0_add N x σ = some (-1, σ) := by
  unfold F_X0_add
  rw [c_isTold.2 h, bd_s, if_pos rfl]
theorem m_add1 {N na a : Nat} {σ : SS} (e : gi σ 21 33 = nI na) (h : na < 16) (ha : a < 204) : F_X8_adds N (nI a) σ = some (nI (na + 1), mad na a σ) := by
  have n16 : ¬ nI na = (16 : Int32) := nI_eqL (a := na) (b := 16) (by omega) (by omega) (by omega)
  have i17 : (17 : Int32) + nI na = nI (17 + na) := nI_add 17 na
  unfold F_X8_adds
  simp only [gd_t r33, lc33, m_in_e]
  rw [i_203.1 ⟨a, Nat.zero_le _, ha, rfl⟩, bd_s, if_neg e10, e, if_neg n16, i17, gd_t (inR_nI (by omega) (by omega)), nI_clamp (by omega)]
  have eg : gi (si σ 21 (17 + na) (nI a)) 21 33 = nI na := (gi_sn (by omega)).trans e
  simp only [nm, eg, gi_se, show nI na + 1 = nI (na + 1) from nI_1 na]
  rfl
theorem m_add3 {N a : Nat} {σ : SS} (e : gi σ 21 33 = nI 16) (ha : a < 204) : F_X8_adds N (nI a) σ = some (-3, σ) := by
  unfold F_X8_adds
  simp only [gd_t r33, lc33, m_in_e]
  rw [i_203.1 ⟨a, Nat.zero_le _, ha, rfl⟩, bd_s, if_neg e10, e]
  exact if_pos rfl
theorem m_add0 {N : Nat} {x : Int32} {σ : SS} (h : ¬ InR x 0 204) : F_X8_adds N x σ = some (-1, σ) := by
  unfold F_X8_adds
  rw [m_in_e, i_203.2 h, bd_s, if_pos rfl]
theorem Fx_add {P : Pg} {nw na M a : Nat} (h : Fx P nw na M) (hi : na < 16) (ha : a ≤ 203) : Fx (pu (pu P (17 + na) (nI a)) 33 (nI (na + 1))) nw (na + 1) M := by
  obtain ⟨g1, g2, g3, g4, g5, g6, g7⟩ := h
  refine ⟨g1, by rw [pu_ne (by omega), pu_ne (by omega)]; exact g2, by omega, pu_eq _ _ _, ⟨g5.1, g5.2.1, by rw [pu_ne (by omega), pu_ne (by omega)]; exact g5.2.2⟩, fun u hu => ?_, fun j hj => ?_⟩
  · rw [pu_ne (by omega), pu_ne (by omega), pu_ne (by omega), pu_ne (by omega), pu_ne (by omega), pu_ne (by omega)]
    exact g6 u hu
  · rw [pu_ne (by omega)]
    by_cases e : j = na
    · exact ⟨a, ha, by rw [e, pu_eq]⟩
    · rw [pu_ne (by omega)]
      exact g7 j (by omega)
theorem now_add {B B' nw na M t a : Nat} {σ : SS} {P : Pg} (hI : Rel B σ) (hB : B ≤ B') (hN : Now B σ P nw na M t) (h : na < 16) (ha : a ≤ 203) : Rel B' (mad na a (cad na a σ)) := by
  obtain ⟨-, ⟨hF, q2, q3, q4, q5, q6⟩, hc, hm, h34, hcA, hmA, g14, g15⟩ := id hN
  have h16 := hF.2.2.1
  refine now_to (nw := nw) (na := na + 1) (M := M) (t := t) (P := pu (pu P (17 + na) (nI a)) 33 (nI (na + 1))) hI hB ((((Ag.refl.put (Or.inr (Or.inl rfl))).put (Or.inl rfl)).put (by unfold XP; omega)).put (by unfold XP; omega)) rfl ?_ (Fx_add hF h ha) (by rw [pu_ne (by omega), pu_ne (by omega)]; exact q2) q3 (by rw [pu_ne (by omega), pu_ne (by omega)]; exact q4) (by rw [pu_ne (by omega), pu_ne (by omega)]; exact q5) ((q6.pu (Nat.le_refl _) (by omega)).pu hB (by omega)) ?_ ?_ ?_ ?_ ?_
  · exact (hI.2.2.1.1.put ha).sub fun j => (gi_sn (by omega)).trans ((gi_sn (by omega)).trans (gi_sn (by unfold iS; omega)))
  · intro j hj
    have hj2 := dm_e hj
    unfold mad cad
    rw [gi_sn (by unfold iS; omega), gi_sn (by unfold iS; omega)]
    by_cases e : j = 33
    · rw [e, gi_se, pu_eq]
    · rw [gi_sn (Or.inr e), gi_sn (by unfold iS iAA; omega), pu_ne e, pu_ne (by omega)]
      exact hc j hj
  · intro j hj hne
    have hj2 : j < 17 ∨ (33 ≤ j ∧ j < 39) := by
      unfold dq at hj
      simpa using hj
    unfold mad cad
    by_cases e : j = 33
    · rw [e, gi_se, pu_eq]
    · rw [gi_sn (Or.inr e), gi_sn (by omega), gi_sn (by unfold iS; omega), gi_sn (by unfold iAA; omega), pu_ne e, pu_ne (by omega)]
      exact hm j hj hne
  · unfold mad cad
    rw [gi_sn (by omega), gi_sn (by omega), gi_sn (by unfold iS; omega), gi_sn (by unfold iAA; omega), pu_ne (by omega), pu_ne (by omega)]
    exact h34
  · intro j hj
    unfold mad cad
    rw [gi_sn (by unfold iAA; omega), gi_sn (by unfold iAA; omega), gi_sn (by unfold iAA iS; omega), pu_ne (by omega)]
    by_cases e : j = na
    · rw [e, gi_se, pu_eq]
    · rw [gi_sn (Or.inr e), pu_ne (by omega)]
      exact hcA j (by omega)
  · intro j hj
    unfold mad cad
    rw [gi_sn (by omega), pu_ne (by omega)]
    by_cases e : j = na
    · rw [e, gi_se, pu_eq]
    · rw [gi_sn (by omega), gi_sn (by unfold iS; omega), gi_sn (by unfold iAA; omega), pu_ne (by omega)]
      exact hmA j (by omega)
theorem p_add {N : Nat} : Sp12 Inv N := by
  intro t σ x1 ht hI
  obtain ⟨P, nw, na, M, t9, hN⟩ := hI.now
  obtain ⟨-, ⟨hF, q2, q3, q4, q5, q6⟩, hc, hm, h34, hcA, hmA, g14, g15⟩ := id hN
  have h16 := hF.2.2.1
  have e33 : gi σ (iS 0) 33 = nI na := (hc 33 rfl).trans hF.2.2.2.1
  have f33 : gi σ 21 33 = nI na := (hm 33 rfl (by decide)).trans hF.2.2.2.1
  unfold F_X8_add
  by_cases h : InR x1 0 204
  · obtain ⟨a, -, ha, rfl⟩ := id h
    by_cases c : na = 16
    · subst c
      refine ⟨-3, σ, σ, c_add3 e33 ha, ?_, hI.up⟩
      rw [m_add3 f33 ha, bd_s]
    · have g33 : gi (cad na a σ) 21 33 = nI na := by
        unfold cad
        rw [gi_sn (by unfold iS; omega), gi_sn (by unfold iAA; omega)]
        exact f33
      refine ⟨nI (na + 1), cad na a σ, mad na a (cad na a σ), c_add1 e33 (by omega) ha, ?_, now_add hI (by omega) hN (by omega) (by omega)⟩
      rw [m_add1 g33 (by omega) ha, bd_s]
  · refine ⟨-1, σ, σ, c_add0 h, ?_, hI.up⟩
    rw [m_add0 h, bd_s]
theorem ix3 (k : Nat) : (3 : Int32) * nI k = nI (3 * k) ∧ (3 : Int32) * nI k + 1 = nI (3 * k + 1) ∧ (3 : Int32) * nI k + 2 = nI (3 * k + 2) := ⟨nI_mulN 3 k, (congrArg (· + (1 : Int32)) (nI_mulN 3 k)).trans (nI_add (3 * k) 1), (congrArg (· + (2 : Int32)) (nI_mulN 3 k)).trans (nI_add (3 * k) 2)⟩
theorem i_40 {N : Nat} {x : Int32} {σ : SS} : (InR x 0 41 → F_X0_in N x.toInt64 0 40 σ = some (1, σ)) ∧ (¬ InR x 0 41 → F_X0_in N x.toInt64 0 40 σ = some (0, σ)) := ⟨fun h => in_1 (a := 0) (b := 41) (by decide) (by decide) (by decide) h, fun h => in_0 (a := 0) (b := 41) (by decide) (by decide) (by decide) h⟩
theorem i_7x9 {N : Nat} {x : Int32} {σ : SS} : (InR x 0 10000000 → F_X0_in N x.toInt64 0 9999999 σ = some (1, σ)) ∧ (¬ InR x 0 10000000 → F_X0_in N x.toInt64 0 9999999 σ = some (0, σ)) := ⟨fun h => in_1 (a := 0) (b := 10000000) (by decide) (by decide) (by decide) h, fun h => in_0 (a := 0) (b := 10000000) (by decide) (by decide) (by decide) h⟩
theorem Now.same {B nw na M t : Nat} {σ σ' : SS} {P : Pg} (h : Now B σ P nw na M t) (e0 : ∀ i, gi σ' 40 i = gi σ 40 i) (e2 : ∀ i, gi σ' 42 i = gi σ 42 i) (e21 : ∀ i, i < 39 → gi σ' 21 i = gi σ 21 i) (e14 : gi σ' 1 14 = gi σ 1 14) (e15 : gi σ' 1 15 = gi σ 1 15) : Now B σ' P nw na M t := by
  obtain ⟨⟨a1, a2⟩, hF, hc, hm, h34, hcA, hmA, g14, g15⟩ := h
  refine ⟨⟨(cz_congr (fun i _ => e0 i) (fun i _ => e2 i)).trans a1, (mz_congr (fun i hi => e21 _ (by omega)) e14 e15).trans a2⟩, hF, fun i hi => (e0 i).trans (hc i hi), fun i hi hne => ?_, (e21 34 (by omega)).trans h34, fun i hi => (e2 i).trans (hcA i hi), fun i hi => (e21 _ (by have := hF.1.2.2.1; omega)).trans (hmA i hi), e14.trans g14, e15.trans g15⟩
  have hj2 : i < 17 ∨ (33 ≤ i ∧ i < 39) := by
    unfold dq at hi
    simpa using hi
  exact (e21 i (by omega)).trans (hm i hi hne)
theorem p_see {N : Nat} : Sp28 Inv N := by
  intro t σ x1 x2 x3 ht hI
  obtain ⟨P, nw, na, M, t9, hN⟩ := hI.now
  have hw4 := hN.2.1.1.1
  obtain ⟨sm, s1, s2, s3, s4⟩ := hI.2.2.2.2.1
  unfold F_X0_see F_X8_see
  by_cases i1 : InR x1 0 41
  · by_cases i2 : InR x2 0 nw
    · by_cases i3 : InR x3 0 10000000
      · by_cases c : sm = 6
        · subst c
          refine ⟨-3, σ, σ, ?_, ?_, hI.up⟩
          · rw [i_40.1 i1, bd_s, if_neg e10, (c_isWheel hN).1 i2, bd_s, if_neg e10, i_7x9.1 i3, bd_s, if_neg e10, s2]
            exact if_pos rfl
          · rw [m_in_e, i_40.1 i1, bd_s, if_neg e10, (m_isWheel hN).1 i2, bd_s, if_neg e10, m_in_e, i_7x9.1 i3, bd_s, if_neg e10, s3]
            exact if_pos rfl
        · have n6 : ¬ nI sm = (6 : Int32) := nI_eqL (a := sm) (b := 6) (by omega) (by omega) c
          obtain ⟨y0, y1, y2⟩ := ix3 sm
          generalize hL : [(3 * sm, x1), (3 * sm + 1, x2), (3 * sm + 2, x3)] = L
          have hL0 : ∀ (g : Nat) (τ : SS), si (si (si τ g (3 * sm) x1) g (3 * sm + 1) x2) g (3 * sm + 2) x3 = wS g τ L := fun g τ => by rw [← hL]; rfl
          have hN1 : Now (10000 * t) (si (wS 4 σ L) 0 6 (nI (sm + 1))) P nw na M t9 := hN.same (fun i => (gi_sn (by omega)).trans (wS_ne (by omega) L σ)) (fun i => (gi_sn (by omega)).trans (wS_ne (by omega) L σ)) (fun i _ => (gi_sn (by omega)).trans (wS_ne (by omega) L σ)) ((gi_sn (by omega)).trans (wS_ne (by omega) L σ)) ((gi_sn (by omega)).trans (wS_ne (by omega) L σ))
          refine ⟨nI (sm + 1), si (wS 4 σ L) 0 6 (nI (sm + 1)), si (wS 26 (si (wS 4 σ L) 0 6 (nI (sm + 1))) L) 1 19 (nI (sm + 1)), ?_, ?_, ?_⟩
          · rw [i_40.1 i1, bd_s, if_neg e10, (c_isWheel hN).1 i2, bd_s, if_neg e10, i_7x9.1 i3, bd_s, if_neg e10, s2, if_neg n6, y0, gd_t (inR_nI (by omega) (by omega)), nI_clamp (by omega)]
            simp only [nm]
            rw [gi_sn (by omega), s2, y1, gd_t (inR_nI (by omega) (by omega)), nI_clamp (by omega), gi_sn (by omega), gi_sn (by omega), s2, y2, gd_t (inR_nI (by omega) (by omega)), nI_clamp (by omega), hL0, wS_ne (by omega) L σ, s2, gi_se, show nI sm + 1 = nI (sm + 1) from nI_1 sm]
          · rw [m_in_e, i_40.1 i1, bd_s, if_neg e10, (m_isWheel hN1).1 i2, bd_s, if_neg e10, m_in_e, i_7x9.1 i3, bd_s, if_neg e10]
            have s3' : gi (si (wS 4 σ L) 0 6 (nI (sm + 1))) 1 19 = nI sm := ((gi_sn (by omega)).trans (wS_ne (by omega) L σ)).trans s3
            generalize si (wS 4 σ L) 0 6 (nI (sm + 1)) = τ at s3' ⊢
            rw [s3', if_neg n6, y0, gd_t (inR_nI (by omega) (by omega)), nI_clamp (by omega)]
            simp only [nm]
            rw [gi_sn (by omega), s3', y1, gd_t (inR_nI (by omega) (by omega)), nI_clamp (by omega), gi_sn (by omega), gi_sn (by omega), s3', y2, gd_t (inR_nI (by omega) (by omega)), nI_clamp (by omega), hL0, wS_ne (by omega) L τ, s3', gi_se, show nI sm + 1 = nI (sm + 1) from nI_1 sm]
          · have hag : Ag XS σ (si (wS 26 (si (wS 4 σ L) 0 6 (nI (sm + 1))) L) 1 19 (nI (sm + 1))) := (Ag.wS L _ ((Ag.wS L _ Ag.refl fun p hp => Or.inl rfl).put (by unfold XS; omega)) fun p hp => Or.inr (Or.inl rfl)).put (by unfold XS; omega)
            refine hI.exS (by omega) hag ((wS_22 L _).trans (wS_22 L σ)) ⟨sm + 1, by omega, ?_, gi_se, fun k hk => ?_⟩
            · rw [gi_sn (by omega), wS_ne (by omega) L _, gi_se]
            · have a4 : ∀ i, gi (si (wS 26 (si (wS 4 σ L) 0 6 (nI (sm + 1))) L) 1 19 (nI (sm + 1))) 4 i = wP (gi σ 4) L i := fun i => by
                rw [gi_sn (by omega), wS_ne (by omega) L _, gi_sn (by omega)]
                exact wS_eq L σ (gi σ 4) rfl
              have a26 : ∀ i, gi (si (wS 26 (si (wS 4 σ L) 0 6 (nI (sm + 1))) L) 1 19 (nI (sm + 1))) 26 i = wP (gi σ 26) L i := fun i => by
                rw [gi_sn (by omega)]
                refine wS_eq L _ (gi σ 26) ?_
                rw [gi_sn (by omega), wS_ne (by omega) L _]
              have wL : ∀ (Q : Pg), wP Q L = pu (pu (pu Q (3 * sm) x1) (3 * sm + 1) x2) (3 * sm + 2) x3 := fun Q => by rw [← hL]; rfl
              simp only [a4, a26, wL]
              by_cases e : k = sm
              · subst e
                obtain ⟨n, -, hn, rfl⟩ := i1
                obtain ⟨w, -, hw, rfl⟩ := i2
                refine ⟨⟨n, by omega, ?_, ?_⟩, ⟨w, by omega, ?_, ?_⟩, ?_⟩
                · rw [pu_ne (by omega), pu_ne (by omega), pu_eq]
                · rw [pu_ne (by omega), pu_ne (by omega), pu_eq]
                · rw [pu_ne (by omega), pu_eq]
                · rw [pu_ne (by omega), pu_eq]
                · rw [pu_eq, pu_eq]
              · simp only [pu_ne (show 3 * k ≠ 3 * sm by omega), pu_ne (show 3 * k ≠ 3 * sm + 1 by omega), pu_ne (show 3 * k ≠ 3 * sm + 2 by omega), pu_ne (show 3 * k + 1 ≠ 3 * sm by omega), pu_ne (show 3 * k + 1 ≠ 3 * sm + 1 by omega), pu_ne (show 3 * k + 1 ≠ 3 * sm + 2 by omega), pu_ne (show 3 * k + 2 ≠ 3 * sm by omega), pu_ne (show 3 * k + 2 ≠ 3 * sm + 1 by omega), pu_ne (show 3 * k + 2 ≠ 3 * sm + 2 by omega)]
                exact s4 k (by omega)
      · refine ⟨-1, σ, σ, ?_, ?_, hI.up⟩
        · rw [i_40.1 i1, bd_s, if_neg e10, (c_isWheel hN).1 i2, bd_s, if_neg e10, i_7x9.2 i3, bd_s, if_pos rfl]
        · rw [m_in_e, i_40.1 i1, bd_s, if_neg e10, (m_isWheel hN).1 i2, bd_s, if_neg e10, m_in_e, i_7x9.2 i3, bd_s, if_pos rfl]
    · refine ⟨-1, σ, σ, ?_, ?_, hI.up⟩
      · rw [i_40.1 i1, bd_s, if_neg e10, (c_isWheel hN).2 i2, bd_s, if_pos rfl]
      · rw [m_in_e, i_40.1 i1, bd_s, if_neg e10, (m_isWheel hN).2 i2, bd_s, if_pos rfl]
  · refine ⟨-1, σ, σ, ?_, ?_, hI.up⟩
    · rw [i_40.2 i1, bd_s, if_pos rfl]
    · rw [m_in_e, i_40.2 i1, bd_s, if_pos rfl]
theorem p_forget {N : Nat} : Sp29 Inv N := by
  intro t σ x1 ht hI
  obtain ⟨sm, s1, s2, s3, s4⟩ := hI.2.2.2.2.1
  have hh : (nI sm).toInt64.toInt + 1 = ((sm + 1 : Nat) : Int) := by rw [lg_of (by omega)]; omega
  unfold F_X0_forget F_X8_forget
  rw [s2]
  by_cases h : InR x1 0 (sm + 1)
  · obtain ⟨n, -, hn, rfl⟩ := id h
    refine ⟨nI sm, si σ 0 6 (nI n), si (si σ 0 6 (nI n)) 1 19 (nI n), ?_, ?_, ?_⟩
    · rw [in_1 (a := 0) (b := sm + 1) (lo := 0) (by decide) hh (by omega) h, bd_s, if_neg e10]
      simp only [nm, s2]
    · rw [gi_sn (by omega), s3, m_in_e, in_1 (a := 0) (b := sm + 1) (lo := 0) (by decide) hh (by omega) h, bd_s, if_neg e10]
      simp only [nm]
      rw [gi_sn (by omega), s3]
    · refine hI.exS (by omega) ((Ag.refl.put (by unfold XS; omega)).put (by unfold XS; omega)) rfl ⟨n, by omega, ?_, gi_se, fun k hk => ?_⟩
      · rw [gi_sn (by omega), gi_se]
      · have a4 : ∀ i, gi (si (si σ 0 6 (nI n)) 1 19 (nI n)) 4 i = gi σ 4 i := fun i => by rw [gi_sn (by omega), gi_sn (by omega)]
        have a26 : ∀ i, gi (si (si σ 0 6 (nI n)) 1 19 (nI n)) 26 i = gi σ 26 i := fun i => by rw [gi_sn (by omega), gi_sn (by omega)]
        simp only [a4, a26]
        exact s4 k (by omega)
  · refine ⟨-1, σ, σ, ?_, ?_, hI.up⟩
    · rw [in_0 (a := 0) (b := sm + 1) (lo := 0) (by decide) hh (by omega) h, bd_s, if_pos rfl]
    · rw [s3, m_in_e, in_0 (a := 0) (b := sm + 1) (lo := 0) (by decide) hh (by omega) h, bd_s, if_pos rfl]
