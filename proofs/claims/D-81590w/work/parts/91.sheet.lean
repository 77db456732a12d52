/-! THE PLAIN LAW: sheet, lay -/
set_option maxRecDepth 100000
theorem b_byte (v : Int32) {i : Nat} (hi : i < 32) : bt v.toInt8.toInt32 i = if i < 8 then bt v i else bt v 7 := by
  show ((v.toInt8.toInt32).toBitVec).getLsbD i = _
  have e : (v.toInt8.toInt32).toBitVec = (v.toBitVec.signExtend 8).signExtend 32 := rfl
  unfold bt
  rw [e, BitVec.getLsbD_signExtend, BitVec.msb_eq_getLsbD_last]
  by_cases c : i < 8
  · rw [if_pos c, if_pos c, decide_eq_true hi, Bool.true_and, BitVec.getLsbD_signExtend, decide_eq_true c, Bool.true_and, if_pos (by omega)]
  · rw [if_neg c, if_neg c, decide_eq_true hi, Bool.true_and, BitVec.getLsbD_signExtend]
    rfl
theorem b_short (v : Int32) {i : Nat} (hi : i < 32) : bt v.toInt16.toInt32 i = if i < 16 then bt v i else bt v 15 := by
  show ((v.toInt16.toInt32).toBitVec).getLsbD i = _
  have e : (v.toInt16.toInt32).toBitVec = (v.toBitVec.signExtend 16).signExtend 32 := rfl
  unfold bt
  rw [e, BitVec.getLsbD_signExtend, BitVec.msb_eq_getLsbD_last]
  by_cases c : i < 16
  · rw [if_pos c, if_pos c, decide_eq_true hi, Bool.true_and, BitVec.getLsbD_signExtend, decide_eq_true c, Bool.true_and, if_pos (by omega)]
  · rw [if_neg c, if_neg c, decide_eq_true hi, Bool.true_and, BitVec.getLsbD_signExtend]
    rfl
theorem shl_byte (v : Int32) : (v <<< ((24 : Int32) &&& 31)) >>> ((24 : Int32) &&& 31) = v.toInt8.toInt32 := by
  refine b_ext fun i hi => ?_
  have e1 : bt ((v <<< ((24 : Int32) &&& 31)) >>> ((24 : Int32) &&& 31)) i = if 24 + i < 32 then bt (v <<< ((24 : Int32) &&& 31)) (24 + i) else bt (v <<< ((24 : Int32) &&& 31)) 31 := b_sshr 24 (by omega) _ hi
  rw [e1, b_byte v hi]
  by_cases c : i < 8
  · rw [if_pos (by omega), if_pos c, b_shl24 v (by omega), decide_eq_true (by omega), Bool.true_and, show 24 + i - 24 = i by omega]
  · rw [if_neg (by omega), if_neg c, b_shl24 v (by omega), decide_eq_true (by omega), Bool.true_and]
theorem shl_short (v : Int32) : (v <<< ((16 : Int32) &&& 31)) >>> ((16 : Int32) &&& 31) = v.toInt16.toInt32 := by
  refine b_ext fun i hi => ?_
  have e1 : bt ((v <<< ((16 : Int32) &&& 31)) >>> ((16 : Int32) &&& 31)) i = if 16 + i < 32 then bt (v <<< ((16 : Int32) &&& 31)) (16 + i) else bt (v <<< ((16 : Int32) &&& 31)) 31 := b_sshr 16 (by omega) _ hi
  rw [e1, b_short v hi]
  by_cases c : i < 16
  · rw [if_pos (by omega), if_pos c, b_shl16 v (by omega), decide_eq_true (by omega), Bool.true_and, show 16 + i - 16 = i by omega]
  · rw [if_neg (by omega), if_neg c, b_shl16 v (by omega), decide_eq_true (by omega), Bool.true_and]
theorem inR_iff {x : Int32} {n : Nat} (hn : n ≤ 40) : inR x n ↔ InR x 0 n := by
  constructor
  · intro h
    have h0 : ¬ x < 0 := fun z => h (Or.inl z)
    obtain ⟨j, hj, rfl⟩ := nI_of h0
    have h1 := inR_lt h
    rw [nI_clamp hj] at h1
    exact ⟨j, Nat.zero_le _, h1, rfl⟩
  · rintro ⟨j, -, hj, rfl⟩
    exact inR_nI hj (by omega)
def zr (a n : Nat) (σ : SS) : SS := (fun g i => if g = 31 ∧ a ≤ i ∧ i < a + n then 0 else σ.1 g i, σ.2)
theorem zr_in {a n i : Nat} {σ : SS} (h : a ≤ i ∧ i < a + n) : gi (zr a n σ) 31 i = 0 := if_pos ⟨rfl, h⟩
theorem zr_ne {a n g i : Nat} {σ : SS} (h : g ≠ 31 ∨ i < a ∨ a + n ≤ i) : gi (zr a n σ) g i = gi σ g i := if_neg (by omega)
theorem zr_s {a n : Nat} {σ : SS} : si (zr a n σ) 31 (a + n) 0 = zr a (n + 1) σ := by
  refine Prod.ext (funext fun g => funext fun i => ?_) rfl
  show (if g = 31 ∧ i = a + n then 0 else if g = 31 ∧ a ≤ i ∧ i < a + n then 0 else σ.1 g i) = (if g = 31 ∧ a ≤ i ∧ i < a + (n + 1) then 0 else σ.1 g i)
  by_cases c : g = 31
  · by_cases c1 : i = a + n
    · rw [if_pos ⟨c, c1⟩, if_pos (by omega)]
    · rw [if_neg (by omega)]
      by_cases c2 : a ≤ i ∧ i < a + n
      · rw [if_pos ⟨c, c2⟩, if_pos (by omega)]
      · rw [if_neg (by omega), if_neg (by omega)]
  · rw [if_neg (by omega), if_neg (by omega), if_neg (by omega)]
theorem m_zero {N k : Nat} {σ : SS} (hk : k < 4) : ∀ (n j : Nat), j ≤ 40 → 40 - j < n → F_X8_sheet_56 N n (nI k) (nI j) (zr (40 * k) j σ) = some (1, zr (40 * k) 40 σ) := by
  intro n
  induction n with
  | zero => intro j _ h; omega
  | succ n ih =>
    intro j hj hn
    show B_X8_sheet_56 N (F_X8_sheet_56 N n) (nI k) (nI j) (zr (40 * k) j σ) = _
    unfold B_X8_sheet_56
    by_cases c1 : j = 40
    · subst c1
      rw [if_pos (by decide)]
    · have c2 : ¬ (40 : Int32) ≤ nI j := nI_ge (b := 40) (a := j) (by omega) (by omega)
      have i1 : (40 : Int32) * nI k + nI j = nI (40 * k + j) := (congrArg (· + nI j) (nI_mulN 40 k)).trans (nI_add _ _)
      rw [if_neg c2, i1, gd_t (inR_nI (by omega) (by omega)), nI_clamp (by omega), nm_s, zr_s, nm_s, show nI j + 1 = nI (j + 1) from nI_1 j]
      exact ih (j + 1) (by omega) (by omega)
theorem i_03 {N : Nat} {x : Int32} {σ : SS} : (InR x 0 4 → F_X0_in N x.toInt64 0 3 σ = some (1, σ)) ∧ (¬ InR x 0 4 → F_X0_in N x.toInt64 0 3 σ = some (0, σ)) := ⟨fun h => in_1 (a := 0) (b := 4) (by decide) (by decide) (by decide) h, fun h => in_0 (a := 0) (b := 4) (by decide) (by decide) (by decide) h⟩
theorem i_02 {N : Nat} {x : Int32} {σ : SS} : (InR x 0 3 → F_X0_in N x.toInt64 0 2 σ = some (1, σ)) ∧ (¬ InR x 0 3 → F_X0_in N x.toInt64 0 2 σ = some (0, σ)) := ⟨fun h => in_1 (a := 0) (b := 3) (by decide) (by decide) (by decide) h, fun h => in_0 (a := 0) (b := 3) (by decide) (by decide) (by decide) h⟩
theorem c_isSheet {N : Nat} {x y : Int32} {σ : SS} : (InR x 0 4 → InR y 0 3 → F_X0_isSheet N x y σ = some (1, σ)) ∧ (¬ InR x 0 4 → F_X0_isSheet N x y σ = some (0, σ)) ∧ (InR x 0 4 → ¬ InR y 0 3 → F_X0_isSheet N x y σ = some (0, σ)) := by
  unfold F_X0_isSheet
  refine ⟨fun h h2 => ?_, fun h => ?_, fun h h2 => ?_⟩
  · rw [i_03.1 h, bd_s, if_neg e10, i_02.1 h2, bd_s, if_neg e10]
  · rw [i_03.2 h, bd_s, if_pos rfl]
  · rw [i_03.1 h, bd_s, if_neg e10, i_02.2 h2, bd_s, if_pos rfl]
theorem three {k : Nat} (h : k < 3) : k = 0 ∨ k = 1 ∨ k = 2 := by omega
theorem p_sheet {N : Nat} (hN9 : 2 ^ 70 ≤ N) : Sp36 Inv N := by
  have hN1 : 1000 ≤ N := Nat.le_trans (by decide) hN9
  intro t σ x1 x2 x3 ht hI
  unfold F_X0_sheet F_X8_sheet
  by_cases h1 : InR x1 0 4
  · by_cases h2 : InR x2 0 3
    · obtain ⟨k, -, hk, rfl⟩ := id h1
      obtain ⟨l, -, hl, rfl⟩ := id h2
      by_cases c40 : x3 ≤ 40
      · by_cases c0 : x3 < 0
        · have c0' : ¬ (0 : Int32) ≤ x3 := Int32.not_le.mpr c0
          refine ⟨-14, σ, σ, ?_, ?_, hI.up⟩
          · rw [c_isSheet.1 h1 h2, bd_s, if_neg e10, if_pos c40, gd_t (inR_nI hk (by omega)), if_pos c0]
          · rw [m_in_e, i_03.1 h1, bd_s, if_neg e10, m_in_e, i_02.1 h2, bd_s, if_neg e10, if_pos c40, if_neg c0']
        · have c0' : (0 : Int32) ≤ x3 := Int32.not_lt.mp c0
          obtain ⟨n, hn, rfl⟩ := nI_of2 (n := 40) (by decide) c0 c40
          have ek : (if nI l = 0 then 1 else if nI l = 1 then 2 else 3) = l + 1 := by
            rcases three hl with rfl | rfl | rfl <;> rfl
          have kk : (nI k).toNatClampNeg = k := nI_clamp (by omega)
          have kn : (nI n).toNatClampNeg = n := nI_clamp (by omega)
          generalize hs1 : shs σ k (l + 1) n = s1
          have g1 : ∀ g i, g ≠ 17 + k → gi s1 g i = gi σ g i := fun g i hg => by rw [← hs1]; exact if_neg hg
          have g0 : ∀ i, gi s1 (17 + k) i = 0 := fun i => by rw [← hs1]; exact if_pos rfl
          have g2 : s1.2.2 = fun x => if x = k then (l + 1, n) else σ.2.2 x := by rw [← hs1]; rfl
          have ez : zr (40 * k) 0 (si (si s1 29 k (nI l)) 30 k (nI n)) = si (si s1 29 k (nI l)) 30 k (nI n) := Prod.ext (funext fun g => funext fun i => if_neg (by omega)) rfl
          have em := m_zero (N := N) (σ := si (si s1 29 k (nI l)) 30 k (nI n)) hk N 0 (by omega) (by omega)
          rw [ez] at em
          refine ⟨1, s1, zr (40 * k) 40 (si (si s1 29 k (nI l)) 30 k (nI n)), ?_, ?_, ?_⟩
          · rw [c_isSheet.1 h1 h2, bd_s, if_neg e10, if_pos c40, gd_t (inR_nI hk (by omega)), if_neg c0, kk, kn, ek, hs1]
          · rw [m_in_e, i_03.1 h1, bd_s, if_neg e10, m_in_e, i_02.1 h2, bd_s, if_neg e10, if_pos c40, if_pos c0']
            simp only [gd_t (inR_nI hk (show 4 < 2 ^ 31 by omega)), kk, nm]
            exact em
          · have ag : Ag XH σ (zr (40 * k) 40 (si (si s1 29 k (nI l)) 30 k (nI n))) := fun g i _ h => by
              unfold XH at h
              rw [zr_ne (by omega), gi_sn (by omega), gi_sn (by omega), g1 g i (by omega)]
            refine hI.exH (by omega) ag fun j hj => ?_
            by_cases e : j = k
            · subst e
              refine ⟨l + 1, n, by omega, hn, ?_, fun z => by omega, fun _ => ⟨?_, ?_, fun i hi => ?_⟩⟩
              · show s1.2.2 j = _
                rw [g2]; exact if_pos rfl
              · rw [zr_ne (by omega), gi_sn (by omega), gi_se]; rfl
              · rw [zr_ne (by omega), gi_se]
              · rw [zr_in (by omega), zr_ne (by omega), gi_sn (by omega), gi_sn (by omega), g0]
            · obtain ⟨kd, n', a1, a2, a3, a4, a5⟩ := hI.2.2.2.2.2.2.2.2 j hj
              refine ⟨kd, n', a1, a2, ?_, fun z => ?_, fun z => ?_⟩
              · show s1.2.2 j = _
                rw [g2]; exact (if_neg e).trans a3
              · rw [zr_ne (by omega), gi_sn (by omega), gi_sn (by omega), g1 _ _ (by omega)]
                exact a4 z
              · obtain ⟨b1, b2, b3⟩ := a5 z
                refine ⟨?_, ?_, fun i hi => ?_⟩
                · rw [zr_ne (by omega), gi_sn (by omega), gi_sn (by omega), g1 _ _ (by omega)]
                  exact b1
                · rw [zr_ne (by omega), gi_sn (by omega), gi_sn (by omega), g1 _ _ (by omega)]
                  exact b2
                · rw [zr_ne (by omega), gi_sn (by omega), gi_sn (by omega), g1 _ _ (by omega), zr_ne (by omega), gi_sn (by omega), gi_sn (by omega), g1 _ _ (by omega)]
                  exact b3 i hi
      · refine ⟨-1, σ, σ, ?_, ?_, hI.up⟩
        · rw [c_isSheet.1 h1 h2, bd_s, if_neg e10, if_neg c40]
        · rw [m_in_e, i_03.1 h1, bd_s, if_neg e10, m_in_e, i_02.1 h2, bd_s, if_neg e10, if_neg c40]
    · refine ⟨-1, σ, σ, ?_, ?_, hI.up⟩
      · rw [c_isSheet.2.2 h1 h2, bd_s, if_pos rfl]
      · rw [m_in_e, i_03.1 h1, bd_s, if_neg e10, m_in_e, i_02.2 h2, bd_s, if_pos rfl]
  · refine ⟨-1, σ, σ, ?_, ?_, hI.up⟩
    · rw [c_isSheet.2.1 h1, bd_s, if_pos rfl]
    · rw [m_in_e, i_03.2 h1, bd_s, if_pos rfl]
def lay1 (kd : Nat) (v : Int32) : Int32 := if kd = 1 then v.toInt8.toInt32 else if kd = 2 then v.toInt16.toInt32 else v
theorem p_lay {N : Nat} : Sp37 Inv N := by
  intro t σ x1 x2 x3 ht hI
  unfold F_X0_lay F_X8_lay
  by_cases h1 : InR x1 0 4
  · obtain ⟨k, -, hk, rfl⟩ := id h1
    obtain ⟨kd, n, hkd, hn, a1, a2, a3⟩ := hI.2.2.2.2.2.2.2.2 k hk
    have kk : (nI k).toNatClampNeg = k := nI_clamp (by omega)
    have cC : ∀ X, F_X0_in N (nI k).toInt64 0 3 σ = some (1, σ) → X = (if kd = 0 then some ((-11 : Int32), σ) else if inR x2 n then some ((1 : Int32), si σ (17 + k) x2.toNatClampNeg (lay1 kd x3)) else some ((-12 : Int32), σ)) → X = (if kd = 0 then some ((-11 : Int32), σ) else if inR x2 n then some ((1 : Int32), si σ (17 + k) x2.toNatClampNeg (lay1 kd x3)) else some ((-12 : Int32), σ)) := fun X _ h => h
    have eC : (bd (F_X0_in N (nI k).toInt64 (0 : Int64) (3 : Int64) σ) fun r_19 σ_20 =>
  if r_19 = (0 : Int32) then
    some ((-1 : Int32), σ_20)
  else
    gd (inR (nI k) 4) <|
    nm ((nI k).toNatClampNeg) fun w_24 =>
    if (σ_20.2.2 w_24).1 = 0 then
      some ((-11 : Int32), σ_20)
    else
      if shId (σ_20.2.2 w_24).1 = 1 then
        gd ((σ_20.2.2 w_24).2 < 2147483648) <|
        if inR x2 (σ_20.2.2 w_24).2 then
          nm (si σ_20 (17 + w_24) x2.toNatClampNeg (narT 1 x3.toInt8.toInt32)) fun σ_29 =>
            some ((1 : Int32), σ_29)
        else
          some ((-12 : Int32), σ_20)
      else
        if shId (σ_20.2.2 w_24).1 = 2 then
          gd ((σ_20.2.2 w_24).2 < 2147483648) <|
          if inR x2 (σ_20.2.2 w_24).2 then
            nm (si σ_20 (17 + w_24) x2.toNatClampNeg (narT 2 x3.toInt16.toInt32)) fun σ_33 =>
              some ((1 : Int32), σ_33)
          else
            some ((-12 : Int32), σ_20)
        else
          gd ((σ_20.2.2 w_24).2 < 2147483648) <|
          if inR x2 (σ_20.2.2 w_24).2 then
            nm (si σ_20 (17 + w_24) x2.toNatClampNeg (narT 0 x3)) fun σ_36 =>
              some ((1 : Int32), σ_36)
          else
            some ((-12 : Int32), σ_20)) = (if kd = 0 then some ((-11 : Int32), σ) else if inR x2 n then some ((1 : Int32), si σ (17 + k) x2.toNatClampNeg (lay1 kd x3)) else some ((-12 : Int32), σ)) := by
      have hlen : n < 2147483648 := by omega
      rw [i_03.1 h1, bd_s, if_neg e10, gd_t (inR_nI hk (by omega)), nm_s, kk, a1]
      rcases four (show kd < 4 by omega) with rfl | rfl | rfl | rfl
      · rfl
      · show gd (n < 2147483648) (if inR x2 n then some ((1 : Int32), si σ (17 + k) x2.toNatClampNeg (vp_nar .byte x3.toInt8.toInt32)) else some ((-12 : Int32), σ)) = (if inR x2 n then some ((1 : Int32), si σ (17 + k) x2.toNatClampNeg x3.toInt8.toInt32) else some ((-12 : Int32), σ))
        rw [gd_t hlen, pk_vb]
      · show gd (n < 2147483648) (if inR x2 n then some ((1 : Int32), si σ (17 + k) x2.toNatClampNeg (vp_nar .short x3.toInt16.toInt32)) else some ((-12 : Int32), σ)) = (if inR x2 n then some ((1 : Int32), si σ (17 + k) x2.toNatClampNeg x3.toInt16.toInt32) else some ((-12 : Int32), σ))
        rw [gd_t hlen, pk_vs]
      · show gd (n < 2147483648) (if inR x2 n then some ((1 : Int32), si σ (17 + k) x2.toNatClampNeg x3) else some ((-12 : Int32), σ)) = (if inR x2 n then some ((1 : Int32), si σ (17 + k) x2.toNatClampNeg x3) else some ((-12 : Int32), σ))
        rw [gd_t hlen]
    by_cases c0 : kd = 0
    · refine ⟨-11, σ, σ, eC.trans (if_pos c0), ?_, hI.up⟩
      rw [m_in_e, i_03.1 h1, bd_s, if_neg e10]
      simp only [kk, gd_t (inR_nI hk (show 4 < 2 ^ 31 by omega))]
      rw [a2 c0]
      exact if_pos rfl
    · obtain ⟨b1, b2, b3⟩ := a3 (by omega)
      have l4 : ¬ nI (kd - 1) = -4 := nI_ne4 (by omega)
      have hh := lg_m1 (n := n) (by omega)
      by_cases c1 : InR x2 0 n
      · have c1' := (inR_iff hn).mpr c1
        obtain ⟨i, -, hi, rfl⟩ := id c1
        have ki : (nI i).toNatClampNeg = i := nI_clamp (by omega)
        have gs : ∀ g j, g ≠ 17 + k → gi (si σ (17 + k) i (lay1 kd x3)) g j = gi σ g j := fun g j hg => gi_sn (Or.inl hg)
        have m99 : ∀ z τ, F_X8_lay_99 N z (40 * nI k + nI i) τ = some (1, si τ 31 (40 * k + i) z) := fun z τ => by
          have i1 : (40 : Int32) * nI k + nI i = nI (40 * k + i) := (congrArg (· + nI i) (nI_mulN 40 k)).trans (nI_add _ _)
          unfold F_X8_lay_99
          rw [i1, gd_t (inR_nI (by omega) (by omega)), nI_clamp (by omega)]
          rfl
        refine ⟨1, si σ (17 + k) i (lay1 kd x3), si (si σ (17 + k) i (lay1 kd x3)) 31 (40 * k + i) (lay1 kd x3), ?_, ?_, ?_⟩
        · refine eC.trans ?_
          rw [if_neg c0, if_pos c1', ki]
        · generalize hs1 : si σ (17 + k) i (lay1 kd x3) = s1 at gs ⊢
          have f29 : gi s1 29 k = nI (kd - 1) := (gs _ _ (by omega)).trans b1
          have f30 : gi s1 30 k = nI n := (gs _ _ (by omega)).trans b2
          rw [m_in_e, i_03.1 h1, bd_s, if_neg e10]
          simp only [kk, gd_t (inR_nI hk (show 4 < 2 ^ 31 by omega))]
          rw [f29, if_neg l4, f30, m_in_e, in_1 (a := 0) (b := n) (by decide) hh (by omega) c1, bd_s, if_neg e10, f29, m99, m99, m99, shl_byte, shl_short]
          rcases three (show kd - 1 < 3 by omega) with e | e | e
          · have : kd = 1 := by omega
            subst this; rfl
          · have : kd = 2 := by omega
            subst this; rfl
          · have : kd = 3 := by omega
            subst this; rfl
        · have ag : Ag XH σ (si (si σ (17 + k) i (lay1 kd x3)) 31 (40 * k + i) (lay1 kd x3)) := (Ag.refl.put (by unfold XH; omega)).put (by unfold XH; omega)
          refine hI.exH (by omega) ag fun j hj => ?_
          obtain ⟨kd', n', d1, d2, d3, d4, d5⟩ := hI.2.2.2.2.2.2.2.2 j hj
          refine ⟨kd', n', d1, d2, d3, fun z => by rw [gi_sn (by omega), gs _ _ (by omega)]; exact d4 z, fun z => ?_⟩
          obtain ⟨f1, f2, f3⟩ := d5 z
          refine ⟨by rw [gi_sn (by omega), gs _ _ (by omega)]; exact f1, by rw [gi_sn (by omega), gs _ _ (by omega)]; exact f2, fun u hu => ?_⟩
          by_cases e : j = k
          · subst e
            by_cases e2 : u = i
            · subst e2
              rw [gi_se, gi_sn (by omega), gi_se]
            · rw [gi_sn (by omega), gs _ _ (by omega), gi_sn (by omega), gi_sn (by omega)]
              exact f3 u hu
          · rw [gi_sn (by omega), gs _ _ (by omega), gi_sn (by omega), gs _ _ (by omega)]
            exact f3 u hu
      · have c1' : ¬ inR x2 n := fun z => c1 ((inR_iff hn).mp z)
        refine ⟨-12, σ, σ, ?_, ?_, hI.up⟩
        · refine eC.trans ?_
          rw [if_neg c0, if_neg c1']
        · rw [m_in_e, i_03.1 h1, bd_s, if_neg e10]
          simp only [kk, gd_t (inR_nI hk (show 4 < 2 ^ 31 by omega))]
          rw [b1, if_neg l4, b2, m_in_e, in_0 (a := 0) (b := n) (by decide) hh (by omega) c1, bd_s]
          exact if_pos rfl
  · refine ⟨-1, σ, σ, ?_, ?_, hI.up⟩
    · rw [i_03.2 h1, bd_s, if_pos rfl]
    · rw [m_in_e, i_03.2 h1, bd_s, if_pos rfl]
