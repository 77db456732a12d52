/-! THE PLAIN LAW: wheel -/
set_option maxRecDepth 100000
theorem c_joinedNow {B N nw na M t w : Nat} {σ : SS} {P : Pg} (h : Now B σ P nw na M t) (hw : w < nw) : F_X0_joinedBy N 0 (nI w) σ = some (joinedP P w, σ) := by
  obtain ⟨⟨hc, -⟩, ⟨hF, -⟩, -⟩ := h
  obtain ⟨h1, h2, h3, h4, h5, h6, h7⟩ := id hF
  obtain ⟨⟨kd, hk, ek⟩, ⟨m, hm1, hm2, em⟩, -⟩ := h6 w hw
  have e := ctw_self (k := 0) (σ := σ)
  rw [hc] at e
  have hd : ¬ P 34 + P (4 + w) = 0 := by rw [h5.2.2, em]; exact mass_ne h5.1 h5.2.1 hm2
  have := c_joinedBy (N := N) (k := 0) (w := w) (T := (P, gi σ 0 7, gi σ 0 8, gi σ 0 9, gi σ 0 10)) (σ := σ) (by omega) hd hk ek
  rw [e] at this
  exact this
theorem m_joinedNow {B N nw na M t w : Nat} {σ : SS} {P : Pg} (h : Now B σ P nw na M t) (hw : w < nw) : F_X8_joinedOn N 0 (nI w) σ = some (joinedP P w, σ) := by
  obtain ⟨⟨-, hc⟩, ⟨hF, -⟩, -⟩ := h
  obtain ⟨h1, h2, h3, h4, h5, h6, h7⟩ := id hF
  obtain ⟨⟨kd, hk, ek⟩, ⟨m, hm1, hm2, em⟩, -⟩ := h6 w hw
  have e := mtw_self (p := 0) (d := 0) (l := 0) (σ := σ)
  rw [hc] at e
  have hd : ¬ P 34 + P (4 + w) = 0 := by rw [h5.2.2, em]; exact mass_ne h5.1 h5.2.1 hm2
  have := m_joined (N := N) (p := 0) (w := w) (T := (P, 0, 0, gi σ 1 16, gi σ 1 17)) (σ := σ) (by omega) (by omega) hd hk ek
  rw [e] at this
  exact this
theorem six {x : Int32} (h : ¬ (x.toInt < 0 ∨ 5 < x.toInt)) : x = 0 ∨ x = 1 ∨ x = 2 ∨ x = 3 ∨ x = 4 ∨ x = 5 := by
  have key : ∀ v : Nat, v < 6 → x = nI v → (x = 0 ∨ x = 1 ∨ x = 2 ∨ x = 3 ∨ x = 4 ∨ x = 5) := fun v hv e => by
    rcases (show v = 0 ∨ v = 1 ∨ v = 2 ∨ v = 3 ∨ v = 4 ∨ v = 5 by omega) with rfl | rfl | rfl | rfl | rfl | rfl
    · exact Or.inl e
    · exact Or.inr (Or.inl e)
    · exact Or.inr (Or.inr (Or.inl e))
    · exact Or.inr (Or.inr (Or.inr (Or.inl e)))
    · exact Or.inr (Or.inr (Or.inr (Or.inr (Or.inl e))))
    · exact Or.inr (Or.inr (Or.inr (Or.inr (Or.inr e))))
  refine key x.toInt.toNat (by omega) (Int32.toInt_inj.mp ?_)
  rw [nI_toInt (by omega)]
  omega
theorem p_wheel {N : Nat} : Sp5 Inv N := by
  intro t σ x1 x2 ht hI
  obtain ⟨P, nw, na, M, t9, hN⟩ := hI.now
  obtain ⟨-, ⟨hF, q2, q3, q4, q5, q6⟩, hc, hm, h34, hcA, hmA, -, -⟩ := id hN
  obtain ⟨h1, h2, h3, h4, h5, h6, h7⟩ := id hF
  refine q_of (A := F_X0_wheel N x1 x2) (C := F_X8_wheel N x1 x2) hI ?_
  have e10 : ¬ (1 : Int32) = 0 := by decide
  unfold F_X0_wheel F_X8_wheel
  by_cases h : InR x1 0 nw
  · rw [(c_isWheel hN).1 h, (m_isWheel hN).1 h, bd_s, bd_s, if_neg e10, if_neg e10]
    obtain ⟨w, -, hw, rfl⟩ := h
    have hw4 : w < 4 := by omega
    obtain ⟨d0, d4, d8, d12⟩ := dm_w hw4
    obtain ⟨e0, e4, e8, e12⟩ := dq_w hw4
    obtain ⟨⟨kd, hk, ek⟩, ⟨m, hm1, hm2, em⟩, -⟩ := h6 w hw
    have hmn : ¬ P (4 + w) = 0 := by rw [em]; exact nI_ne0 (by omega) (by omega)
    rw [gd_t (inR_nI hw4 (by omega)), nI_clamp (by omega), m_in_e]
    simp only [nm]
    by_cases c0 : (x2.toInt < 0 ∨ 5 < x2.toInt)
    · have hno : ¬ InR x2 0 6 := by
        rintro ⟨n, -, hn, rfl⟩
        rw [nI_toInt (by omega)] at c0
        omega
      rw [if_pos c0, in_0 (a := 0) (b := 6) (lo := 0) (hi := 5) (by decide) (by decide) (by decide) hno, bd_s, if_pos rfl]
      exact ⟨-1, rfl, rfl⟩
    · have hyes : InR x2 0 6 := by
        refine ⟨x2.toInt.toNat, Nat.zero_le _, by omega, Int32.toInt_inj.mp ?_⟩
        rw [nI_toInt (by omega)]
        omega
      rw [if_neg c0, in_1 (a := 0) (b := 6) (lo := 0) (hi := 5) (by decide) (by decide) (by decide) hyes, bd_s, if_neg e10]
      have ix : ∀ (k : Nat) (v : Int32), k < 4 → v = nI k → (4 : Int32) * v + nI w = nI (4 * k + w) := fun k v hk e => by
        subst e
        exact (congrArg (· + nI w) (nI_mulN 4 k)).trans (nI_add (4 * k) w)
      have cl : ∀ k, k < 4 → (nI (4 * k + w)).toNatClampNeg = 4 * k + w := fun k hk => nI_clamp (by omega)
      have rr : ∀ k, k < 4 → inR (nI (4 * k + w)) 234 := fun k hk => inR_nI (by omega) (by omega)
      have i12 : (12 : Int32) + nI w = nI (12 + w) := nI_add 12 w
      have i4 : (4 : Int32) + nI w = nI (4 + w) := nI_add 4 w
      rcases six c0 with rfl | rfl | rfl | rfl | rfl | rfl
      · refine ⟨P w, congrArg (fun z => some (z, σ)) (hc _ d0), ?_⟩
        show gd (inR ((4 : Int32) * 0 + nI w) 234) (some (gi σ 21 ((4 : Int32) * 0 + nI w).toNatClampNeg, σ)) = _
        rw [ix 0 0 (by decide) rfl, gd_t (rr 0 (by decide)), cl 0 (by decide), show 4 * 0 + w = w by omega, hm _ e0 (by omega)]
      · refine ⟨P (4 + w), congrArg (fun z => some (z, σ)) (hc _ d4), ?_⟩
        show gd (inR ((4 : Int32) * 1 + nI w) 234) (some (gi σ 21 ((4 : Int32) * 1 + nI w).toNatClampNeg, σ)) = _
        rw [ix 1 1 (by decide) rfl, gd_t (rr 1 (by decide)), cl 1 (by decide), show 4 * 1 + w = (4 + w) by omega, hm _ e4 (by omega)]
      · refine ⟨P (8 + w), congrArg (fun z => some (z, σ)) (hc _ d8), ?_⟩
        show gd (inR ((4 : Int32) * 2 + nI w) 234) (some (gi σ 21 ((4 : Int32) * 2 + nI w).toNatClampNeg, σ)) = _
        rw [ix 2 2 (by decide) rfl, gd_t (rr 2 (by decide)), cl 2 (by decide), show 4 * 2 + w = (8 + w) by omega, hm _ e8 (by omega)]
      · refine ⟨P (12 + w), congrArg (fun z => some (z, σ)) (hc _ d12), ?_⟩
        show gd (inR ((4 : Int32) * 3 + nI w) 234) (some (gi σ 21 ((4 : Int32) * 3 + nI w).toNatClampNeg, σ)) = _
        rw [ix 3 3 (by decide) rfl, gd_t (rr 3 (by decide)), cl 3 (by decide), show 4 * 3 + w = (12 + w) by omega, hm _ e12 (by omega)]
      · refine ⟨P (12 + w) / P (4 + w), ?_, ?_⟩
        · show gd (¬ gi σ (iS 0) (4 + w) = 0) (some (gi σ (iS 0) (12 + w) / gi σ (iS 0) (4 + w), σ)) = _
          rw [hc _ d4, hc _ d12, gd_t hmn]
        · show gd (inR ((12 : Int32) + nI w) 234) (gd (inR ((4 : Int32) + nI w) 234) (gd (¬ gi σ 21 ((4 : Int32) + nI w).toNatClampNeg = 0) (some (gi σ 21 ((12 : Int32) + nI w).toNatClampNeg / gi σ 21 ((4 : Int32) + nI w).toNatClampNeg, σ)))) = _
          have c12 : (nI (12 + w)).toNatClampNeg = 12 + w := nI_clamp (by omega)
          have c4 : (nI (4 + w)).toNatClampNeg = 4 + w := nI_clamp (by omega)
          rw [i12, i4, gd_t (inR_nI (by omega) (by omega)), gd_t (inR_nI (by omega) (by omega)), c12, c4, hm _ e4 (by omega), hm _ e12 (by omega), gd_t hmn]
      · refine ⟨joinedP P w, ?_, ?_⟩
        · show bd (F_X0_joinedBy N 0 (nI w) σ) (fun r σ => some (r, σ)) = _
          rw [c_joinedNow hN hw, bd_s]
        · show bd (F_X8_joinedOn N 0 (nI w) σ) (fun r σ => some (r, σ)) = _
          rw [m_joinedNow hN hw, bd_s]
  · rw [(c_isWheel hN).2 h, (m_isWheel hN).2 h, bd_s, bd_s, if_pos rfl, if_pos rfl]
    exact ⟨-1, rfl, rfl⟩
