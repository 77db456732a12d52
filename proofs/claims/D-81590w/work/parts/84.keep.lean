/-! THE PLAIN LAW: keep, back, count -/
set_option maxRecDepth 100000
theorem i_01 {N : Nat} {x : Int32} {σ : SS} : (InR x 0 2 → F_X0_in N x.toInt64 0 1 σ = some (1, σ)) ∧ (¬ InR x 0 2 → F_X0_in N x.toInt64 0 1 σ = some (0, σ)) := ⟨fun h => in_1 (a := 0) (b := 2) (by decide) (by decide) (by decide) h, fun h => in_0 (a := 0) (b := 2) (by decide) (by decide) (by decide) h⟩
def kpt (a b : Bool) : Int32 := nI ((if a = true then 1 else 0) + (if b = true then 2 else 0))
theorem kpt_get : ∀ a b : Bool, (kpt a b >>> (nI 0 &&& 31)) &&& (1 : Int32) = b2i a ∧ (kpt a b >>> (nI 1 &&& 31)) &&& (1 : Int32) = b2i b := by decide +kernel
theorem kpt_set : ∀ a b : Bool, kpt a b ||| ((1 : Int32) <<< (nI 0 &&& 31)) = kpt true b ∧ kpt a b ||| ((1 : Int32) <<< (nI 1 &&& 31)) = kpt a true := by decide +kernel
theorem bool_nar1 : vp_nar .boolean (1 : Int32) = 1 := by decide +kernel
theorem bool_nar0 : vp_nar .boolean (0 : Int32) = 0 := by decide +kernel
theorem m_cp_0 {N b : Nat} {σ : SS} (hN : 100 ≤ N) (h1 : 39 ≤ b) (h2 : b + 39 ≤ 234) : F_X8_copies N 0 (nI b) σ = some ((), mcp 0 b 39 σ) := m_copies (a := 0) hN (by omega) h2 (by omega)
theorem m_cp_to0 {N a : Nat} {σ : SS} (hN : 100 ≤ N) (h1 : 39 ≤ a) (h2 : a + 39 ≤ 234) : F_X8_copies N (nI a) 0 σ = some ((), mcp a 0 39 σ) := m_copies (b := 0) hN h2 (by omega) (by omega)
theorem asw_A {a b i : Nat} {σ : SS} (h : i < 16) : gi (asw a b σ) (iAA a) i = gi σ (iAA b) i := by
  show (if iAA a = iS a ∧ dm i = true then _ else if iAA a = iAA a ∧ i < 16 then σ.1 (iAA b) i else _) = _
  rw [if_neg (fun z => iAA_S a a z.1), if_pos ⟨rfl, h⟩]
  rfl
/-- an image kept: both halves' states -/
def ckp (k : Nat) (v : Int32) (σ : SS) : SS := si (asw (2 + k) 0 σ) 0 4 v
def mkp (k : Nat) (σ : SS) : SS := si (mcp 0 (39 * (k + 1)) 39 σ) 28 k 1
theorem ckp_g {k g i : Nat} {v : Int32} {σ : SS} (hk : k < 2) (h : g ≠ 60 + 10 * k) (h2 : g ≠ 62 + 10 * k) (h3 : g ≠ 0 ∨ i ≠ 4) : gi (ckp k v σ) g i = gi σ g i := (gi_sn h3).trans (asw_g (by unfold iS; omega) (by unfold iAA; omega))
theorem mkp_g {k g i : Nat} {σ : SS} (h : g ≠ 28 ∨ i ≠ k) (h2 : g ≠ 21 ∨ i < 39 * (k + 1) ∨ 39 * (k + 1) + 39 ≤ i) : gi (mkp k σ) g i = gi σ g i := (gi_sn h).trans (mcp_g h2)
theorem keep_P {B k : Nat} {v : Int32} {σ : SS} (hk : k < 2) (h : RelP B σ) : RelP B (mkp k (ckp k v σ)) := by
  obtain ⟨⟨a1, a2, a3⟩, ⟨b1, b2, b3⟩, ⟨c1, c2, c3⟩⟩ := h
  have gg : ∀ g i, g ≠ 21 → g ≠ 28 → g ≠ 0 → g ≠ 60 + 10 * k → g ≠ 62 + 10 * k → gi (mkp k (ckp k v σ)) g i = gi σ g i := fun g i e1 e2 e3 e4 e5 => (mkp_g (Or.inl e2) (Or.inl e1)).trans (ckp_g hk e4 e5 (Or.inl e3))
  have g21 : ∀ i, i < 39 * (k + 1) ∨ 39 * (k + 1) + 39 ≤ i → gi (mkp k (ckp k v σ)) 21 i = gi σ 21 i := fun i hi => (mkp_g (Or.inl (by omega)) (Or.inr hi)).trans (ckp_g hk (by omega) (by omega) (Or.inl (by omega)))
  have n14 : gi (mkp k (ckp k v σ)) 1 14 = gi σ 1 14 := gg 1 14 (by omega) (by omega) (by omega) (by omega) (by omega)
  have n15 : gi (mkp k (ckp k v σ)) 1 15 = gi σ 1 15 := gg 1 15 (by omega) (by omega) (by omega) (by omega) (by omega)
  have z0 : cz 0 (mkp k (ckp k v σ)) = cz 0 σ := cz_congr (fun i _ => gg 40 i (by omega) (by omega) (by omega) (by omega) (by omega)) (fun i _ => gg 42 i (by omega) (by omega) (by omega) (by omega) (by omega))
  have y0 : mz 0 (mkp k (ckp k v σ)) = mz 0 σ := mz_congr (fun i hi => g21 _ (by omega)) n14 n15
  have zk : cz (2 + k) (mkp k (ckp k v σ)) = cz 0 σ := by
    refine Eq.trans (cz_congr (σ := asw (2 + k) 0 σ) (k := 2 + k) (fun i _ => ?_) (fun i _ => ?_)) cz_as
    · exact (mkp_g (Or.inl (by unfold iS; omega)) (Or.inl (by unfold iS; omega))).trans (gi_sn (Or.inl (by unfold iS; omega)))
    · exact (mkp_g (Or.inl (by unfold iAA; omega)) (Or.inl (by unfold iAA; omega))).trans (gi_sn (Or.inl (by unfold iAA; omega)))
  have yk : mz (39 * (k + 1)) (mkp k (ckp k v σ)) = mz 0 σ := by
    refine Eq.trans (mz_congr (σ := mcp 0 (39 * (k + 1)) 39 (ckp k v σ)) (p := 39 * (k + 1)) (fun i _ => gi_sn (Or.inl (by omega))) (gi_sn (Or.inl (by omega))) (gi_sn (Or.inl (by omega)))) (mz_cp.trans (mz_congr (fun i _ => ckp_g hk (by omega) (by omega) (Or.inl (by omega))) (ckp_g hk (by omega) (by omega) (Or.inl (by omega))) (ckp_g hk (by omega) (by omega) (Or.inl (by omega)))))
  have afk : AF (2 + k) (mkp k (ckp k v σ)) := fun i hi => by
    have e : gi (mkp k (ckp k v σ)) (iAA (2 + k)) i = gi σ (iAA 0) i := by
      exact (mkp_g (Or.inl (by unfold iAA; omega)) (Or.inl (by unfold iAA; omega))).trans ((gi_sn (Or.inl (by unfold iAA; omega))).trans (asw_A hi))
    rw [e]
    exact c1 i hi
  rcases (show k = 0 ∨ k = 1 by omega) with rfl | rfl
  · have z3 : cz 3 (mkp 0 (ckp 0 v σ)) = cz 3 σ := cz_congr (fun i _ => gg 70 i (by omega) (by omega) (by omega) (by omega) (by omega)) (fun i _ => gg 72 i (by omega) (by omega) (by omega) (by omega) (by omega))
    have y3 : mz 78 (mkp 0 (ckp 0 v σ)) = mz 78 σ := mz_congr (fun i hi => g21 _ (by omega)) n14 n15
    have zk : cz 2 (mkp 0 (ckp 0 v σ)) = cz 0 σ := zk
    have yk : mz 39 (mkp 0 (ckp 0 v σ)) = mz 0 σ := yk
    refine ⟨⟨?_, ?_, ?_⟩, ⟨?_, ?_, ?_⟩, c1.same (fun i _ => gg 42 i (by omega) (by omega) (by omega) (by omega) (by omega)), afk, c3.same (fun i _ => gg 72 i (by omega) (by omega) (by omega) (by omega) (by omega))⟩
    · rw [z0, y0]; exact a1
    · rw [zk, yk]; exact a1
    · rw [z3, y3]; exact a3
    · rw [z0]; exact b1
    · rw [zk]; exact b1
    · rw [z3]; exact b3
  · have z3 : cz 2 (mkp 1 (ckp 1 v σ)) = cz 2 σ := cz_congr (fun i _ => gg 60 i (by omega) (by omega) (by omega) (by omega) (by omega)) (fun i _ => gg 62 i (by omega) (by omega) (by omega) (by omega) (by omega))
    have y3 : mz 39 (mkp 1 (ckp 1 v σ)) = mz 39 σ := mz_congr (fun i hi => g21 _ (by omega)) n14 n15
    have zk : cz 3 (mkp 1 (ckp 1 v σ)) = cz 0 σ := zk
    have yk : mz 78 (mkp 1 (ckp 1 v σ)) = mz 0 σ := yk
    refine ⟨⟨?_, ?_, ?_⟩, ⟨?_, ?_, ?_⟩, c1.same (fun i _ => gg 42 i (by omega) (by omega) (by omega) (by omega) (by omega)), c2.same (fun i _ => gg 62 i (by omega) (by omega) (by omega) (by omega) (by omega)), afk⟩
    · rw [z0, y0]; exact a1
    · rw [z3, y3]; exact a2
    · rw [zk, yk]; exact a1
    · rw [z0]; exact b1
    · rw [z3]; exact b2
    · rw [zk]; exact b1
theorem p_keep {N : Nat} (hN9 : 1000 ≤ N) : Sp34 Inv N := by
  intro t σ x1 ht hI
  obtain ⟨a, b, k1, k2, k3⟩ := hI.2.2.2.1
  have k1 : gi σ 0 4 = kpt a b := k1
  unfold F_X0_keep F_X8_keep
  by_cases h : InR x1 0 2
  · obtain ⟨k, -, hk, rfl⟩ := id h
    have hfit : ∀ i, i < 16 → fits .short (.int (gi σ (iAA 0) i)) = true := hI.2.2.1.1.fit
    have eas : F_X5_as N (2 + k) 0 σ = some ((), asw (2 + k) 0 σ) := c_as (by omega) (by omega) hfit
    have e4 : gi (asw (2 + k) 0 σ) 0 4 = kpt a b := (asw_g (by unfold iS; omega) (by unfold iAA; omega)).trans k1
    have i39 : (39 : Int32) * (nI k + 1) = nI (39 * (k + 1)) := (congrArg ((39 : Int32) * ·) (nI_1 k)).trans (nI_mulN 39 (k + 1))
    have g28 : ∀ v, gi (mcp 0 (39 * (k + 1)) 39 (ckp k v σ)) 28 k = gi σ 28 k := fun v => (mcp_g (Or.inl (by omega))).trans (ckp_g hk (by omega) (by omega) (Or.inl (by omega)))
    have c37 : ∀ (z : Int32) (τ : SS), F_X8_keep_37 N (nI k) z τ = some (z, si τ 28 k 1) := fun z τ => by
      unfold F_X8_keep_37
      rw [gd_t (inR_nI hk (by omega)), nI_clamp (by omega), bool_nar1]
      rfl
    obtain ⟨bit, a', b', hg, hs, ha, hb, hm⟩ : ∃ (bit a' b' : Bool), (kpt a b >>> (nI k &&& 31)) &&& (1 : Int32) = b2i bit ∧ kpt a b ||| ((1 : Int32) <<< (nI k &&& 31)) = kpt a' b' ∧ (b2i a' = if k = 0 then 1 else b2i a) ∧ (b2i b' = if k = 1 then 1 else b2i b) ∧ gi σ 28 k = b2i bit := by
      rcases (show k = 0 ∨ k = 1 by omega) with rfl | rfl
      · exact ⟨a, true, b, (kpt_get a b).1, (kpt_set a b).1, rfl, rfl, k2⟩
      · exact ⟨b, a, true, (kpt_get a b).2, (kpt_set a b).2, rfl, rfl, k3⟩
    refine ⟨b2i bit, ckp k (kpt a' b') σ, mkp k (ckp k (kpt a' b') σ), ?_, ?_, ?_⟩
    · have cl : (nI k).toNatClampNeg = k := nI_clamp (by omega)
      rw [i_01.1 h, bd_s, if_neg e10, k1, hg]
      simp only [nm, cl, gd_t (inR_nI hk (show 2 < 2 ^ 31 by omega)), eas, bd_s, e4, hs]
      rfl
    · rw [m_in_e, i_01.1 h, bd_s, if_neg e10, i39, m_cp_0 (by omega) (by omega) (by omega), bd_s, gd_t (inR_nI hk (by omega)), nI_clamp (by omega), g28, hm, c37, c37]
      cases bit
      · exact if_pos rfl
      · exact if_neg (by decide)
    · have hag : Ag XJ σ (mkp k (ckp k (kpt a' b') σ)) := fun g i _ h2 => by
        unfold XJ at h2
        exact (mkp_g (by omega) (by omega)).trans (ckp_g hk (by omega) (by omega) (by omega))
      refine Rel.exJ (Rel.mono hI (B' := 10000 * (t + 1)) (by omega)) (Nat.le_refl _) hag rfl (keep_P hk (hI.P.mono (by omega))) ⟨a', b', ?_, ?_, ?_⟩
      · show gi (mkp k (ckp k (kpt a' b') σ)) 0 4 = kpt a' b'
        exact (mkp_g (Or.inl (by omega)) (Or.inl (by omega))).trans gi_se
      · rw [ha]
        by_cases e : k = 0
        · subst e; exact gi_se
        · rw [if_neg e, ← k2]
          exact (mkp_g (Or.inr fun z => e z.symm) (Or.inl (by omega))).trans (ckp_g hk (by omega) (by omega) (Or.inl (by omega)))
      · rw [hb]
        by_cases e : k = 1
        · subst e; exact gi_se
        · rw [if_neg e, ← k3]
          exact (mkp_g (Or.inr fun z => e z.symm) (Or.inl (by omega))).trans (ckp_g hk (by omega) (by omega) (Or.inl (by omega)))
  · refine ⟨-1, σ, σ, ?_, ?_, hI.up⟩
    · rw [i_01.2 h, bd_s, if_pos rfl]
    · rw [m_in_e, i_01.2 h, bd_s, if_pos rfl]
theorem back_P {B k : Nat} {σ : SS} (hk : k < 2) (h : RelP B σ) : RelP B (mcp (39 * (k + 1)) 0 39 (asw 0 (2 + k) σ)) := by
  obtain ⟨⟨a1, a2, a3⟩, ⟨b1, b2, b3⟩, ⟨c1, c2, c3⟩⟩ := h
  have gg : ∀ g i, (g ≠ 21 ∨ 39 ≤ i) → g ≠ 40 → g ≠ 42 → gi (mcp (39 * (k + 1)) 0 39 (asw 0 (2 + k) σ)) g i = gi σ g i := fun g i e1 e2 e3 => (mcp_g (by omega)).trans (asw_g e2 e3)
  have z2 : cz 2 (mcp (39 * (k + 1)) 0 39 (asw 0 (2 + k) σ)) = cz 2 σ := cz_congr (fun i _ => gg 60 i (by omega) (by omega) (by omega)) (fun i _ => gg 62 i (by omega) (by omega) (by omega))
  have z3 : cz 3 (mcp (39 * (k + 1)) 0 39 (asw 0 (2 + k) σ)) = cz 3 σ := cz_congr (fun i _ => gg 70 i (by omega) (by omega) (by omega)) (fun i _ => gg 72 i (by omega) (by omega) (by omega))
  have n14 : gi (mcp (39 * (k + 1)) 0 39 (asw 0 (2 + k) σ)) 1 14 = gi σ 1 14 := gg 1 14 (by omega) (by omega) (by omega)
  have n15 : gi (mcp (39 * (k + 1)) 0 39 (asw 0 (2 + k) σ)) 1 15 = gi σ 1 15 := gg 1 15 (by omega) (by omega) (by omega)
  have y2 : mz 39 (mcp (39 * (k + 1)) 0 39 (asw 0 (2 + k) σ)) = mz 39 σ := mz_congr (fun i _ => gg 21 _ (by omega) (by omega) (by omega)) n14 n15
  have y3 : mz 78 (mcp (39 * (k + 1)) 0 39 (asw 0 (2 + k) σ)) = mz 78 σ := mz_congr (fun i _ => gg 21 _ (by omega) (by omega) (by omega)) n14 n15
  have z0 : cz 0 (mcp (39 * (k + 1)) 0 39 (asw 0 (2 + k) σ)) = cz (2 + k) σ := Eq.trans (cz_congr (σ := asw 0 (2 + k) σ) (k := 0) (fun i _ => mcp_g (Or.inl (by unfold iS; omega))) (fun i _ => mcp_g (Or.inl (by unfold iAA; omega)))) cz_as
  have y0 : mz 0 (mcp (39 * (k + 1)) 0 39 (asw 0 (2 + k) σ)) = mz (39 * (k + 1)) σ := mz_cp.trans (mz_congr (fun i _ => asw_g (by unfold iS; omega) (by unfold iAA; omega)) (asw_g (by unfold iS; omega) (by unfold iAA; omega)) (asw_g (by unfold iS; omega) (by unfold iAA; omega)))
  have af0 : AF (2 + k) σ → AF 0 (mcp (39 * (k + 1)) 0 39 (asw 0 (2 + k) σ)) := fun hA i hi => by
    have e : gi (mcp (39 * (k + 1)) 0 39 (asw 0 (2 + k) σ)) (iAA 0) i = gi σ (iAA (2 + k)) i := by
      exact (mcp_g (Or.inl (by unfold iAA; omega))).trans (asw_A hi)
    rw [e]
    exact hA i hi
  have f2 : AF 2 (mcp (39 * (k + 1)) 0 39 (asw 0 (2 + k) σ)) := c2.same fun i _ => gg 62 i (by omega) (by omega) (by omega)
  have f3 : AF 3 (mcp (39 * (k + 1)) 0 39 (asw 0 (2 + k) σ)) := c3.same fun i _ => gg 72 i (by omega) (by omega) (by omega)
  unfold RelP
  rw [z2, z3, y2, y3, z0, y0]
  rcases (show k = 0 ∨ k = 1 by omega) with rfl | rfl
  · exact ⟨⟨a2, a2, a3⟩, ⟨b2, b2, b3⟩, af0 c2, f2, f3⟩
  · exact ⟨⟨a3, a2, a3⟩, ⟨b3, b2, b3⟩, af0 c3, f2, f3⟩
theorem p_back {N : Nat} (hN9 : 1000 ≤ N) : Sp35 Inv N := by
  intro t σ x1 ht hI
  obtain ⟨a, b, k1, k2, k3⟩ := hI.2.2.2.1
  have k1 : gi σ 0 4 = kpt a b := k1
  unfold F_X0_back F_X8_back F_X0_has
  by_cases h : InR x1 0 2
  · obtain ⟨k, -, hk, rfl⟩ := id h
    obtain ⟨bit, hg, hm⟩ : ∃ (bit : Bool), (kpt a b >>> (nI k &&& 31)) &&& (1 : Int32) = b2i bit ∧ gi σ 28 k = b2i bit := by
      rcases (show k = 0 ∨ k = 1 by omega) with rfl | rfl
      · exact ⟨a, (kpt_get a b).1, k2⟩
      · exact ⟨b, (kpt_get a b).2, k3⟩
    have i39 : (39 : Int32) * (nI k + 1) = nI (39 * (k + 1)) := (congrArg ((39 : Int32) * ·) (nI_1 k)).trans (nI_mulN 39 (k + 1))
    cases bit
    · refine ⟨-2, σ, σ, ?_, ?_, hI.up⟩
      · rw [i_01.1 h, bd_s, if_neg e10, k1, hg, if_neg (by decide), bd_s, if_pos rfl]
      · rw [m_in_e, i_01.1 h, bd_s, if_neg e10, gd_t (inR_nI hk (by omega)), nI_clamp (by omega), hm]
        exact if_pos rfl
    · have hfit : ∀ i, i < 16 → fits .short (.int (gi σ (iAA (2 + k)) i)) = true := by
        rcases (show k = 0 ∨ k = 1 by omega) with rfl | rfl
        · exact hI.2.2.1.2.1.fit
        · exact hI.2.2.1.2.2.fit
      have eas : F_X5_as N 0 (2 + k) σ = some ((), asw 0 (2 + k) σ) := c_as (by omega) (by omega) hfit
      have hg28 : gi (asw 0 (2 + k) σ) 28 k = 1 := (asw_g (by unfold iS; omega) (by unfold iAA; omega)).trans hm
      have hP := back_P hk hI.P
      have hI2 : Rel (10000 * (t + 1)) (mcp (39 * (k + 1)) 0 39 (asw 0 (2 + k) σ)) := by
        have hag : Ag XP σ (mcp (39 * (k + 1)) 0 39 (asw 0 (2 + k) σ)) := fun g i _ h2 => by
          unfold XP at h2
          exact (mcp_g (by omega)).trans (asw_g (by unfold iS; omega) (by unfold iAA; omega))
        exact Rel.exP hI (by omega) hag rfl (hP.mono (by omega))
      obtain ⟨P, nw, na, M, t9, hN⟩ := hI2.now
      have ec : gi (asw 0 (2 + k) σ) (iS 0) 36 = P 36 := (mcp_g (Or.inl (by unfold iS; omega))).symm.trans (hN.2.2.1 36 rfl)
      refine ⟨P 36, asw 0 (2 + k) σ, mcp (39 * (k + 1)) 0 39 (asw 0 (2 + k) σ), ?_, ?_, hI2⟩
      · rw [i_01.1 h, bd_s, if_neg e10, k1, hg, if_pos (show b2i true = 1 from rfl), bd_s, if_neg e10, gd_t (inR_nI hk (by omega)), nI_clamp (by omega)]
        simp only [nm, eas, bd_s, ec]
      · rw [m_in_e, i_01.1 h, bd_s, if_neg e10, gd_t (inR_nI hk (by omega)), nI_clamp (by omega), hg28, if_neg e10, i39, m_cp_to0 (by omega) (by omega) (by omega), bd_s, gd_t r36, lc36, hN.2.2.2.1 36 rfl (by decide)]
  · refine ⟨-1, σ, σ, ?_, ?_, hI.up⟩
    · rw [i_01.2 h, bd_s, if_pos rfl]
    · rw [m_in_e, i_01.2 h, bd_s, if_pos rfl]
theorem bits_kpt {N : Nat} {σ : SS} : ∀ a b : Bool, F_J13_bitCount N (kpt a b) σ = some (b2i a + b2i b, σ) := by
  have key : ∀ a b : Bool, (F_J13_bitCount N (kpt a b) σ) = some (b2i a + b2i b, σ) := fun a b => by
    cases a <;> cases b <;> rfl
  exact key
theorem count_loop {B N nw na M t : Nat} {σ : SS} {P : Pg} {x1 sz : Int32} (hI : Rel B σ) (hN : Now B σ P nw na M t) (hsz : sz = if gi σ 29 0 = -4 then -4 else gi σ 30 0) : ∀ (n w : Nat) (a c : Int32), nw - w < n → w ≤ nw → ∃ v, F_X0_count_67 N n x1 sz a c (nI w) σ = some (v, σ) ∧ F_X8_count_7 N n x1 a c (nI w) σ = some (v, σ) := by
  have hw4 := hN.2.1.1.1
  have ec : gi σ (iS 0) 16 = nI nw := (hN.2.2.1 16 rfl).trans hN.2.1.1.2.1
  have em : gi σ 21 16 = nI nw := (hN.2.2.2.1 16 rfl (by decide)).trans hN.2.1.1.2.1
  intro n
  induction n with
  | zero => intro w a c h; omega
  | succ n ih =>
    intro w a c hn hw
    show ∃ v, B_X0_count_67 N (F_X0_count_67 N n) x1 sz a c (nI w) σ = some (v, σ) ∧ B_X8_count_7 N (F_X8_count_7 N n) x1 a c (nI w) σ = some (v, σ)
    unfold B_X0_count_67 B_X8_count_7
    rw [gd_t r16, lc16, ec, em]
    by_cases c1 : w = nw
    · subst c1
      have hle : nI w ≤ nI w := nI_le (Nat.le_refl _) (by omega)
      rw [if_pos hle, if_pos hle]
      by_cases c0 : (x1.toInt < 0 ∨ 5 < x1.toInt)
      · exact ⟨-1, if_pos c0, if_pos c0⟩
      · rw [if_neg c0, if_neg c0]
        obtain ⟨sm, -, s2, s3, -⟩ := hI.2.2.2.2.1
        obtain ⟨tp, -, t2, t3, -⟩ := hI.2.2.2.2.2.1
        obtain ⟨ka, kb, k1, k2, k3⟩ := hI.2.2.2.1
        have k1 : gi σ 0 4 = kpt ka kb := k1
        rcases six c0 with rfl | rfl | rfl | rfl | rfl | rfl
        · exact ⟨nI sm, congrArg (fun z => some (z, σ)) s2, congrArg (fun z => some (z, σ)) s3⟩
        · refine ⟨b2i ka + b2i kb, ?_, ?_⟩
          · show bd (F_J13_bitCount N (gi σ 0 4) σ) (fun r σ => some (r, σ)) = _
            rw [k1, bits_kpt, bd_s]
          · show (if gi σ 28 0 = 0 then F_X8_count_107 N 0 σ else F_X8_count_107 N 1 σ) = _
            have e7 : ∀ z, F_X8_count_107 N z σ = if gi σ 28 1 = 0 then some (z + 0, σ) else some (z + 1, σ) := fun z => rfl
            rw [e7, e7, k2, k3]
            cases ka <;> cases kb <;> rfl
        · exact ⟨nI tp, congrArg (fun z => some (z, σ)) t2, congrArg (fun z => some (z, σ)) t3⟩
        · refine ⟨sz, rfl, ?_⟩
          show (if gi σ 29 0 = -4 then some ((-4 : Int32), σ) else some (gi σ 30 0, σ)) = _
          rw [hsz]
          split <;> rfl
        · exact ⟨a, rfl, rfl⟩
        · exact ⟨c, rfl, rfl⟩
    · have hlt : w < nw := by omega
      have hw' : w < 4 := by omega
      obtain ⟨d0, d4, d8, d12⟩ := dm_w hw'
      obtain ⟨e0, e4, e8, e12⟩ := dq_w hw'
      have i4 : (4 : Int32) + nI w = nI (4 + w) := nI_add 4 w
      have i8 : (8 : Int32) + nI w = nI (8 + w) := nI_add 8 w
      have k0 : (nI w).toNatClampNeg = w := nI_clamp (by omega)
      have k4 : (nI (4 + w)).toNatClampNeg = 4 + w := nI_clamp (by omega)
      have k8 : (nI (8 + w)).toNatClampNeg = 8 + w := nI_clamp (by omega)
      rw [if_neg (nI_ge hlt (by omega)), if_neg (nI_ge hlt (by omega))]
      simp only [nm, i4, i8, k0, k4, k8, gd_t (inR_nI hw' (show 4 < 2 ^ 31 by omega)), gd_t (inR_nI (show 4 + w < 234 by omega) (by omega)), gd_t (inR_nI (show 8 + w < 234 by omega) (by omega)), hN.2.2.1 _ d4, hN.2.2.1 _ d8, hN.2.2.2.1 _ e4 (by omega), hN.2.2.2.1 _ e8 (by omega), show nI w + 1 = nI (w + 1) from nI_1 w]
      exact ih (w + 1) _ _ (by omega) hlt
theorem p_count {N : Nat} (hN9 : 1000 ≤ N) : Sp40 Inv N := by
  intro t σ x1 ht hI
  obtain ⟨P, nw, na, M, t9, hN⟩ := hI.now
  have hw4 := hN.2.1.1.1
  refine q_of (A := F_X0_count N x1) (C := F_X8_count N x1) hI ?_
  obtain ⟨kd, n, hk, hn, h1, h2, h3⟩ := hI.2.2.2.2.2.2.2.2 0 (by decide)
  have key : ∀ sz, sz = (if gi σ 29 0 = -4 then -4 else gi σ 30 0) → F_X0_count N x1 σ = F_X0_count_57 N x1 sz σ → ∃ v, F_X0_count N x1 σ = some (v, σ) ∧ F_X8_count N x1 σ = some (v, σ) := fun sz e1 e2 => by
    rw [e2]
    exact count_loop (N := N) (x1 := x1) hI hN e1 N 0 0 0 (by omega) (Nat.zero_le _)
  have e0 : F_X0_count N x1 σ = if (σ.2.2 0).1 = 0 then F_X0_count_57 N x1 (-4 : Int32) σ else if shId (σ.2.2 0).1 = 1 then F_X0_count_57 N x1 (Int32.ofNat (σ.2.2 0).2) σ else if shId (σ.2.2 0).1 = 2 then F_X0_count_57 N x1 (Int32.ofNat (σ.2.2 0).2) σ else if shId (σ.2.2 0).1 = 0 then F_X0_count_57 N x1 (Int32.ofNat (σ.2.2 0).2) σ else F_X0_count_57 N x1 (-4 : Int32) σ := rfl
  by_cases c0 : kd = 0
  · refine key (-4) (by rw [if_pos (h2 c0)]) ?_
    rw [e0, h1, if_pos c0]
  · obtain ⟨g1, g2, -⟩ := h3 (by omega)
    refine key (nI n) (by rw [g1, g2, if_neg (nI_ne4 (by omega))]) ?_
    rw [e0, h1]
    rcases (show kd = 1 ∨ kd = 2 ∨ kd = 3 by omega) with rfl | rfl | rfl <;> rfl
