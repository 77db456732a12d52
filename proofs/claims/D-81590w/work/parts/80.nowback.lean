/-! THE PLAIN LAW: now's page changed -/
set_option maxRecDepth 100000
theorem Fx.congr {P P' : Pg} {nw na M : Nat} (h : Fx P nw na M) (e : ∀ i, dm i = true → P' i = P i) (eA : ∀ i, i < na → P' (17 + i) = P (17 + i)) : Fx P' nw na M := by
  obtain ⟨h1, h2, h3, h4, h5, h6, h7⟩ := h
  refine ⟨h1, by rw [e 16 rfl]; exact h2, h3, by rw [e 33 rfl]; exact h4, ⟨h5.1, h5.2.1, by rw [e 34 rfl]; exact h5.2.2⟩, fun w hw => ?_, fun j hj => ?_⟩
  · obtain ⟨d0, d4, d8, d12⟩ := dm_w (show w < 4 by omega)
    rw [e w d0, e _ d4, e _ d8]
    exact h6 w hw
  · rw [eA j hj]
    exact h7 j hj
theorem now_back {B nw na M t : Nat} {σ : SS} {P : Pg} (hF : Fx P nw na M) (ht : P 36 = nI t) (ht2 : t ≤ 9999) (h39 : P 39 = -4) (h40 : P 40 = -4) (hS : Sw B P) (hc : ∀ i, dm i = true → gi σ (iS 0) i = P i) (hm : ∀ i, dq i = true → i ≠ 34 → gi σ 21 i = P i) (h34 : gi σ 21 34 = P 34 - 5) (hcA : ∀ i, i < na → gi σ (iAA 0) i = P (17 + i)) (hmA : ∀ i, i < na → gi σ 21 (17 + i) = P (17 + i)) (g14 : gi σ 1 14 = -4) (g15 : gi σ 1 15 = -4) : cz 0 σ = mz 0 σ ∧ PV B (cz 0 σ) := by
  have hna := hF.2.2.1
  have c33 : cp 0 σ 33 = nI na := (hc 33 rfl).trans hF.2.2.2.1
  have m33 : mp 0 σ 33 = nI na := (congrArg (gi σ 21) (Nat.zero_add 33)).trans ((hm 33 rfl (by decide)).trans hF.2.2.2.1)
  have z33 : cz 0 σ 33 = nI na := (cz_d rfl).trans ((hc 33 rfl).trans hF.2.2.2.1)
  have y33 : mz 0 σ 33 = nI na := (nz_d (by omega)).trans m33
  have ed : ∀ i, dm i = true → cz 0 σ i = P i := fun i hi => (cz_d hi).trans (hc i hi)
  have eA : ∀ i, i < na → cz 0 σ (17 + i) = P (17 + i) := fun i hi => (cz_A z33 hna hi).trans (hcA i hi)
  refine ⟨funext fun i => ?_, nw, na, M, t, hF.congr ed eA, by rw [ed 36 rfl]; exact ht, ht2, by rw [ed 39 rfl]; exact h39, by rw [ed 40 rfl]; exact h40, ?_⟩
  · by_cases h1 : dq i = true
    · have d1 : dm i = true := by
        unfold dq at h1
        unfold dm
        simp at h1 ⊢
        omega
      rw [ed i d1]
      by_cases h2 : i = 34
      · subst h2
        rw [mz_34, Nat.zero_add, h34, Int32.sub_add_cancel]
      · rw [mz_d h1 h2, Nat.zero_add, hm i h1 h2]
    · have n1 : ¬ (i < 17 ∨ (33 ≤ i ∧ i < 39)) := fun z => h1 (by unfold dq; simp; omega)
      by_cases h2 : i = 39
      · subst h2
        rw [ed 39 rfl, mz_39, g15, h39]
      by_cases h3 : i = 40
      · subst h3
        rw [ed 40 rfl, mz_40, g14, h40]
      by_cases h4 : 41 ≤ i
      · show nz (cp 0 σ) i = nz (mp 0 σ) i
        rw [nz_d (by omega), nz_d (by omega)]
        unfold cp mp
        rw [if_pos h4, if_pos h4]
      · obtain ⟨j, rfl⟩ : ∃ j, i = 17 + j := ⟨i - 17, by omega⟩
        by_cases h5 : j < na
        · rw [eA j h5, mz_A y33 hna h5, Nat.zero_add, hmA j h5]
        · show nz (cp 0 σ) (17 + j) = nz (mp 0 σ) (17 + j)
          have cn : (nI na).toNatClampNeg = na := nI_clamp (by omega)
          unfold nz
          rw [c33, m33, cn, if_pos (by omega), if_pos (by omega)]
  · unfold Sw
    rw [ed 35 rfl, ed 12 rfl, ed 13 rfl, ed 14 rfl, ed 15 rfl]
    exact hS
theorem RelP.now {B B' : Nat} {σ σ' : SS} (h : RelP B σ) (hB : B ≤ B') (e : Ag XP σ σ') (e0 : cz 0 σ' = mz 0 σ' ∧ PV B' (cz 0 σ')) (af : AF 0 σ') : RelP B' σ' := by
  obtain ⟨⟨a1, a2, a3⟩, ⟨b1, b2, b3⟩, ⟨c1, c2, c3⟩⟩ := h
  have k2 : cz 2 σ' = cz 2 σ := cz_congr (fun i _ => e 60 i (by unfold hid; omega) (by unfold XP; omega)) (fun i _ => e 62 i (by unfold hid; omega) (by unfold XP; omega))
  have k3 : cz 3 σ' = cz 3 σ := cz_congr (fun i _ => e 70 i (by unfold hid; omega) (by unfold XP; omega)) (fun i _ => e 72 i (by unfold hid; omega) (by unfold XP; omega))
  have m1 : mz 39 σ' = mz 39 σ := mz_congr (fun i hi => e 21 _ (by unfold hid; omega) (by unfold XP; omega)) (e 1 14 (by unfold hid; omega) (by unfold XP; omega)) (e 1 15 (by unfold hid; omega) (by unfold XP; omega))
  have m2 : mz 78 σ' = mz 78 σ := mz_congr (fun i hi => e 21 _ (by unfold hid; omega) (by unfold XP; omega)) (e 1 14 (by unfold hid; omega) (by unfold XP; omega)) (e 1 15 (by unfold hid; omega) (by unfold XP; omega))
  unfold RelP
  rw [k2, k3, m1, m2]
  exact ⟨⟨e0.1, a2, a3⟩, ⟨e0.2, b2.mono hB, b3.mono hB⟩, af, c2.same (fun i _ => e 62 i (by unfold hid; omega) (by unfold XP; omega)), c3.same (fun i _ => e 72 i (by unfold hid; omega) (by unfold XP; omega))⟩
