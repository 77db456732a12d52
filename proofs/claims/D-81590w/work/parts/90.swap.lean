/-! ===== Int32 by its bits: bt x i ===== -/
def bt (x : Int32) (i : Nat) : Bool := x.toBitVec.getLsbD i
theorem b_ext {x y : Int32} (h : ∀ i, i < 32 → bt x i = bt y i) : x = y := Int32.toBitVec_inj.mp (BitVec.eq_of_getLsbD_eq (fun i hi => h i hi))
theorem b_or (x y : Int32) (i : Nat) : bt (x ||| y) i = (bt x i || bt y i) := by unfold bt; rw [Int32.toBitVec_or, BitVec.getLsbD_or]
theorem b_and (x y : Int32) (i : Nat) : bt (x &&& y) i = (bt x i && bt y i) := by unfold bt; rw [Int32.toBitVec_and, BitVec.getLsbD_and]
theorem b_xor (x y : Int32) (i : Nat) : bt (x ^^^ y) i = (bt x i ^^ bt y i) := by unfold bt; rw [Int32.toBitVec_xor, BitVec.getLsbD_xor]
theorem b_big {x : Int32} {i : Nat} (h : 32 ≤ i) : bt x i = false := BitVec.getLsbD_of_ge _ _ h
theorem b_255 (i : Nat) : bt 255 i = decide (i < 8) := by
  rcases Nat.lt_or_ge i 32 with h | h
  · exact (by decide +kernel : ∀ i, i < 32 → bt 255 i = decide (i < 8)) i h
  · rw [b_big h, decide_eq_false (by omega)]
theorem b_65535 (i : Nat) : bt 65535 i = decide (i < 16) := by
  rcases Nat.lt_or_ge i 32 with h | h
  · exact (by decide +kernel : ∀ i, i < 32 → bt 65535 i = decide (i < 16)) i h
  · rw [b_big h, decide_eq_false (by omega)]
theorem b_m1 : ∀ i, i < 32 → bt (-1) i = true := by decide +kernel
theorem b_0 (i : Nat) : bt 0 i = false := BitVec.getLsbD_zero
theorem s_l : ∀ n, n < 32 → ((nI n &&& 31).toBitVec.smod 32).toNat = n := by decide +kernel
theorem s_u : ∀ n, n < 32 → (((nI n).toUInt32 &&& Int32.toUInt32 31).toBitVec % 32).toNat = n := by decide +kernel
theorem b_shl (n : Nat) (hn : n < 32) (x : Int32) {i : Nat} (hi : i < 32) : bt (x <<< (nI n &&& 31)) i = (decide (n ≤ i) && bt x (i - n)) := by
  unfold bt
  rw [Int32.toBitVec_shiftLeft]
  show (x.toBitVec <<< ((nI n &&& 31).toBitVec.smod 32).toNat).getLsbD i = _
  rw [s_l n hn, BitVec.getLsbD_shiftLeft]
  rcases Nat.lt_or_ge i n with h | h
  · simp [h, Nat.not_le.mpr h]
  · simp [hi, h, Nat.not_lt.mpr h]
theorem b_ushr (n : Nat) (hn : n < 32) (x : Int32) (i : Nat) : bt ((x.toUInt32 >>> ((nI n).toUInt32 &&& Int32.toUInt32 31)).toInt32) i = bt x (n + i) := by
  show (x.toUInt32 >>> ((nI n).toUInt32 &&& Int32.toUInt32 31)).toBitVec.getLsbD i = x.toUInt32.toBitVec.getLsbD (n + i)
  rw [UInt32.toBitVec_shiftRight]
  show (x.toUInt32.toBitVec >>> (((nI n).toUInt32 &&& Int32.toUInt32 31).toBitVec % 32).toNat).getLsbD i = _
  rw [s_u n hn, BitVec.getLsbD_ushiftRight]
theorem b_sshr (n : Nat) (hn : n < 32) (x : Int32) {i : Nat} (hi : i < 32) : bt (x >>> (nI n &&& 31)) i = if n + i < 32 then bt x (n + i) else bt x 31 := by
  unfold bt
  rw [Int32.toBitVec_shiftRight]
  show (x.toBitVec.sshiftRight ((nI n &&& 31).toBitVec.smod 32).toNat).getLsbD i = _
  rw [s_l n hn, BitVec.getLsbD_sshiftRight, BitVec.msb_eq_getLsbD_last]
  simp [hi]
theorem b_shl8 (x : Int32) {i : Nat} (hi : i < 32) : bt (x <<< ((8 : Int32) &&& 31)) i = (decide (8 ≤ i) && bt x (i - 8)) := b_shl 8 (by omega) x hi
theorem b_shl16 (x : Int32) {i : Nat} (hi : i < 32) : bt (x <<< ((16 : Int32) &&& 31)) i = (decide (16 ≤ i) && bt x (i - 16)) := b_shl 16 (by omega) x hi
theorem b_shl24 (x : Int32) {i : Nat} (hi : i < 32) : bt (x <<< ((24 : Int32) &&& 31)) i = (decide (24 ≤ i) && bt x (i - 24)) := b_shl 24 (by omega) x hi
theorem b_sshr8 (x : Int32) {i : Nat} (hi : i < 32) : bt (x >>> ((8 : Int32) &&& 31)) i = if 8 + i < 32 then bt x (8 + i) else bt x 31 := b_sshr 8 (by omega) x hi
/-! THE PLAIN LAW: drift, swap -/
set_option maxRecDepth 100000
theorem b_15 : ∀ i, i < 32 → bt 32767 i = decide (i < 15) := by decide +kernel
theorem shr_same (x : Int32) : ((x.toUInt32 >>> ((16 : Int32).toUInt32 &&& Int32.toUInt32 31)).toInt32 &&& (32767 : Int32)) = ((x >>> ((16 : Int32) &&& 31)) &&& (32767 : Int32)) := by
  refine b_ext fun i hi => ?_
  rw [b_and, b_and, b_15 i hi]
  by_cases c : i < 15
  · have e1 : bt ((x.toUInt32 >>> ((16 : Int32).toUInt32 &&& Int32.toUInt32 31)).toInt32) i = bt x (16 + i) := b_ushr 16 (by omega) x i
    have e2 : bt (x >>> ((16 : Int32) &&& 31)) i = if 16 + i < 32 then bt x (16 + i) else bt x 31 := b_sshr 16 (by omega) x hi
    rw [e1, e2, if_pos (by omega)]
  · rw [decide_eq_false c, Bool.and_false, Bool.and_false]
theorem low15 (x : Int32) : ∃ k, k < 32768 ∧ x &&& (32767 : Int32) = nI k := by
  refine ⟨(x &&& (32767 : Int32)).toBitVec.toNat, ?_, ?_⟩
  · rw [Int32.toBitVec_and, BitVec.toNat_and]
    have h : x.toBitVec.toNat &&& (32767 : Int32).toBitVec.toNat ≤ (32767 : Int32).toBitVec.toNat := Nat.and_le_right
    have h2 : (32767 : Int32).toBitVec.toNat = 32767 := by decide
    omega
  · generalize x &&& (32767 : Int32) = y
    refine Int32.toBitVec_inj.mp ?_
    show y.toBitVec = BitVec.ofNat 32 y.toBitVec.toNat
    exact (BitVec.ofNat_toNat _ _).symm ▸ (by simp)
theorem drawn (x : Int32) : ∃ a, a ≤ 203 ∧ ((x >>> ((16 : Int32) &&& 31)) &&& (32767 : Int32)) - ((x >>> ((16 : Int32) &&& 31)) &&& (32767 : Int32)) / (204 : Int32) * (204 : Int32) = nI a := by
  obtain ⟨k, hk, ek⟩ := low15 (x >>> ((16 : Int32) &&& 31))
  have := Nat.mod_lt k (show 204 > 0 by omega)
  refine ⟨k % 204, by omega, ?_⟩
  rw [ek]
  exact nI_modN (b := 204) (by omega) (by omega)
/-- ticks by a seed -/
def drf (f : Int32 → Int32) (g : Int32 → Nat) (nw : Nat) : Nat → TT → Int32 → TT
  | 0, T, _ => T
  | n + 1, T, v => drf f g nw n (tickBy (actP T (g (f v)) false) nw) (f v)
theorem Fx.by {T : TT} {nw na M : Nat} (h : Fx T.1 nw na M) : Fx (tickBy T nw).1 nw na M := h.same fun _ hi => tickBy_ne h.1 hi
theorem drf_Cn {f : Int32 → Int32} {g : Int32 → Nat} (hg : ∀ x, g x ≤ 203) {c l : Int32} {nw : Nat} (h4 : nw ≤ 4) : ∀ (n : Nat) (T : TT) (v : Int32), Cn c l T → Cn c l (drf f g nw n T v) := by
  intro n
  induction n with
  | zero => intro T v h; exact h
  | succ n ih => intro T v h; exact ih _ _ ((h.act (hg _)).by h4)
theorem drf_pg {f : Int32 → Int32} {g : Int32 → Nat} {nw : Nat} : ∀ (n : Nat) (T T' : TT) (v : Int32), T.1 = T'.1 → (drf f g nw n T v).1 = (drf f g nw n T' v).1 := by
  intro n
  induction n with
  | zero => intro T T' v h; exact h
  | succ n ih => intro T T' v h; exact ih _ _ _ (tickBy_pg (act_pg h))
def driftV (f : Int32 → Int32) (g : Int32 → Nat) (P : Pg) (nw n : Nat) (seed what : Int32) : Int32 := if what = 0 then (drf f g nw n (P, 0, 0, 0, 0) seed).2.1 else allW (drf f g nw n (P, 0, 0, 0, 0) seed).1 nw 0 ((drf f g nw n (P, 0, 0, 0, 0) seed).1 35)
abbrev isF (f : Int32 → Int32) : Prop := ∀ v, v * 1103515245 + 12345 = f v
abbrev isG (g : Int32 → Nat) : Prop := ∀ x : Int32, ((x >>> ((16 : Int32) &&& 31)) &&& (32767 : Int32)) - ((x >>> ((16 : Int32) &&& 31)) &&& (32767 : Int32)) / (204 : Int32) * (204 : Int32) = nI (g x)
theorem is_fg : ∃ f g, isF f ∧ isG g ∧ ∀ x, g x ≤ 203 := by
  refine ⟨fun v => v * 1103515245 + 12345, fun x => (((x >>> ((16 : Int32) &&& 31)) &&& (32767 : Int32)) - ((x >>> ((16 : Int32) &&& 31)) &&& (32767 : Int32)) / (204 : Int32) * (204 : Int32)).toNatClampNeg, fun v => rfl, fun x => ?_, fun x => ?_⟩
  · obtain ⟨a, ha, ea⟩ := drawn x
    simp only [ea, nI_clamp (show a < 2 ^ 31 by omega)]
  · obtain ⟨a, ha, ea⟩ := drawn x
    simp only [ea, nI_clamp (show a < 2 ^ 31 by omega)]
    exact ha
theorem nm_s {α β : Type} (x : β) (k : β → Option α) : nm x k = k x := rfl
theorem drf_s {f : Int32 → Int32} {g : Int32 → Nat} {nw n : Nat} {T : TT} {v : Int32} : drf f g nw (n + 1) T v = drf f g nw n (tickBy (actP T (g (f v)) false) nw) (f v) := rfl
theorem drf_0 {f : Int32 → Int32} {g : Int32 → Nat} {nw : Nat} {T : TT} {v : Int32} : drf f g nw 0 T v = T := rfl
def drE (T : TT) (nw : Nat) (what : Int32) : Int32 := if what = 0 then T.2.1 else allW T.1 nw 0 (T.1 35)
def drM (T : TT) (nw : Nat) (what c : Int32) : Int32 := if what = 0 then T.1 37 - c else allW T.1 nw 0 (T.1 35)
theorem c_dr0 {N nw na M n : Nat} {what v : Int32} {τ : SS} {T : TT} {IH : Int32 → Int32 → Int32 → Int32 → SS → Option (Int32 × SS)} (hN1 : 1000 ≤ N) (hn : n ≤ 200) (hF : Fx T.1 nw na M) : B_X0_drift_55 N IH (nI n) what v (nI n) (ctw 1 T τ) = some (drE T nw what, ctw 1 T τ) := by
  unfold B_X0_drift_55 drE
  rw [if_pos (nI_le (Nat.le_refl _) (by omega))]
  by_cases c2 : what = 0
  · rw [if_pos c2, if_pos c2, c_g7]
  · rw [if_neg c2, if_neg c2]
    unfold F_X5_all
    have ea := c_all (N := N) (σ := τ) hF N 0 (T.1 35) (by have := hF.1; omega) (Nat.zero_le _)
    rw [c_gS (show dm 35 = true from rfl)]
    simp only [nm]
    rw [show F_X5_all_7 N 1 N (T.1 35) 0 (ctw 1 T τ) = _ from ea, bd_s]
    rfl
theorem c_dr1 {f : Int32 → Int32} {g : Int32 → Nat} (hf : isF f) (hg : isG g) (hg2 : ∀ x, g x ≤ 203) {N nw na M n j : Nat} {what v : Int32} {τ : SS} {T : TT} {IH : Int32 → Int32 → Int32 → Int32 → SS → Option (Int32 × SS)} (hN1 : 1000 ≤ N) (hn : n ≤ 200) (hj : j < n) (hF : Fx T.1 nw na M) : B_X0_drift_55 N IH (nI n) what v (nI j) (ctw 1 T τ) = IH (nI n) what (f v) (nI (j + 1)) (ctw 1 (tickBy (actP T (g (f v)) false) nw) τ) := by
  have ha := hg2 (f v)
  have e1 : F_X0_tickGoesBy N 1 (nI (g (f v))) 0 (ctw 1 T τ) = some ((), ctw 1 (tickBy (actP T (g (f v)) false) nw) τ) := c_tickByA (fails := false) (by omega) hF ha
  have e2 : nI j + 1 = nI (j + 1) := nI_1 j
  unfold B_X0_drift_55
  rw [if_neg (nI_ge hj (by omega)), hf v, nm_s, shr_same, hg (f v), e1, bd_s, nm_s, e2]
theorem c_drift {f : Int32 → Int32} {g : Int32 → Nat} (hf : isF f) (hg : isG g) (hg2 : ∀ x, g x ≤ 203) {N nw na M n : Nat} {what : Int32} {τ : SS} (hN1 : 1000 ≤ N) (hn : n ≤ 200) : ∀ (m j : Nat) (T : TT) (v : Int32), Fx T.1 nw na M → j ≤ n → n - j < m → F_X0_drift_55 N m (nI n) what v (nI j) (ctw 1 T τ) = some (drE (drf f g nw (n - j) T v) nw what, ctw 1 (drf f g nw (n - j) T v) τ) := by
  intro m
  induction m with
  | zero => intro j T v _ _ h; omega
  | succ m ih =>
    intro j T v hF hj hm
    show B_X0_drift_55 N (F_X0_drift_55 N m) (nI n) what v (nI j) (ctw 1 T τ) = _
    by_cases c1 : j = n
    · rw [c1, c_dr0 hN1 hn hF, Nat.sub_self, drf_0]
    · have hlt : j < n := by omega
      rw [c_dr1 hf hg hg2 hN1 hn hlt hF, show n - j = (n - (j + 1)) + 1 by omega, drf_s]
      exact ih (j + 1) (tickBy (actP T (g (f v)) false) nw) (f v) (hF.act (hg2 _)).by hlt (by omega)
theorem m_dr0 {B N nw na M n t0 : Nat} {P : Pg} {what v : Int32} {τ : SS} {T : TT} {IH : Int32 → Int32 → Int32 → Int32 → SS → Option (Int32 × SS)} (hN1 : 1000 ≤ N) (hn : n ≤ 200) (hP : Now B (mtw 156 T τ) P nw na M t0) (hF : Fx T.1 nw na M) : B_X8_drift_51 N IH (nI n) what v (nI n) (mtw 156 T τ) = some (drM T nw what (P 37), mtw 156 T τ) := by
  unfold B_X8_drift_51 drM
  rw [if_pos (nI_le (Nat.le_refl _) (by omega))]
  by_cases c2 : what = 0
  · rw [if_pos c2, if_pos c2, r_37, gd_t (r_c (by omega)), gd_t r37, lc37, nI_clamp (by omega), m_go156 rfl (by omega), hP.2.2.2.1 37 rfl (by omega)]
  · rw [if_neg c2, if_neg c2]
    unfold F_X8_swingOn
    have i35 : (156 : Int32) + (35 : Int32) = nI (156 + 35) := nI_add 156 35
    have ea := m_all (N := N) (σ := τ) hF N 0 (T.1 35) (by have := hF.1; omega) (Nat.zero_le _)
    rw [i35, gd_t (r_c (by omega)), nI_clamp (by omega), m_go156 rfl (by omega)]
    simp only [nm]
    rw [show F_X8_swingOn_12 N N 156 (T.1 35) 0 (mtw 156 T τ) = _ from ea, bd_s]
    rfl
theorem m_dr1 {f : Int32 → Int32} {g : Int32 → Nat} (hf : isF f) (hg : isG g) (hg2 : ∀ x, g x ≤ 203) {N nw na M n j : Nat} {what v : Int32} {τ : SS} {T : TT} {IH : Int32 → Int32 → Int32 → Int32 → SS → Option (Int32 × SS)} (hN1 : 1000 ≤ N) (hn : n ≤ 200) (hj : j < n) (hF : Fx T.1 nw na M) (ho : gi τ 1 14 = T.1 40) : B_X8_drift_51 N IH (nI n) what v (nI j) (mtw 156 T τ) = IH (nI n) what (f v) (nI (j + 1)) (mtw 156 (tickBy (actP T (g (f v)) false) nw) τ) := by
  have ha := hg2 (f v)
  have e1 : F_X8_actOn N 156 (nI (g (f v))) 0 (mtw 156 T τ) = some ((), mtw 156 (actP T (g (f v)) false) τ) := m_acts (N := N) (p := 156) (T := T) (σ := τ) (fails := false) (by omega) hF ho ha
  have e3 : F_X8_lossesOn N 156 (mtw 156 (actP T (g (f v)) false) τ) = some ((), mtw 156 (tickBy (actP T (g (f v)) false) nw) τ) := m_losses (N := N) (p := 156) (σ := τ) (T := actP T (g (f v)) false) (by omega) (by omega) (hF.act ha)
  have e2 : nI j + 1 = nI (j + 1) := nI_1 j
  unfold B_X8_drift_51
  rw [if_neg (nI_ge hj (by omega)), hf v, nm_s, hg (f v), e1, bd_s, e3, bd_s, nm_s, e2]
theorem m_drift {f : Int32 → Int32} {g : Int32 → Nat} (hf : isF f) (hg : isG g) (hg2 : ∀ x, g x ≤ 203) {B N nw na M n t0 : Nat} {P : Pg} {what : Int32} {τ : SS} (hN1 : 1000 ≤ N) (hn : n ≤ 200) (hP : ∀ T : TT, Now B (mtw 156 T τ) P nw na M t0) (ho : gi τ 1 14 = -4) : ∀ (m j : Nat) (T : TT) (v : Int32), Fx T.1 nw na M → T.1 40 = -4 → j ≤ n → n - j < m → F_X8_drift_51 N m (nI n) what v (nI j) (mtw 156 T τ) = some (drM (drf f g nw (n - j) T v) nw what (P 37), mtw 156 (drf f g nw (n - j) T v) τ) := by
  intro m
  induction m with
  | zero => intro j T v _ _ _ h; omega
  | succ m ih =>
    intro j T v hF h40 hj hm
    show B_X8_drift_51 N (F_X8_drift_51 N m) (nI n) what v (nI j) (mtw 156 T τ) = _
    by_cases c1 : j = n
    · rw [c1, m_dr0 hN1 hn (hP T) hF, Nat.sub_self, drf_0]
    · have hlt : j < n := by omega
      rw [m_dr1 hf hg hg2 hN1 hn hlt hF (ho.trans h40.symm), show n - j = (n - (j + 1)) + 1 by omega, drf_s]
      refine ih (j + 1) (tickBy (actP T (g (f v)) false) nw) (f v) (hF.act (hg2 _)).by ?_ hlt (by omega)
      rw [tickBy_ne hF.1 (by unfold tw; omega), act_ne (hg2 _) (Or.inl (by unfold tw; omega))]
      exact h40
theorem i_1200 {N : Nat} {x : Int32} {σ : SS} : (InR x 1 201 → F_X0_in N x.toInt64 1 200 σ = some (1, σ)) ∧ (¬ InR x 1 201 → F_X0_in N x.toInt64 1 200 σ = some (0, σ)) := ⟨fun h => in_1 (a := 1) (b := 201) (by decide) (by decide) (by decide) h, fun h => in_0 (a := 1) (b := 201) (by decide) (by decide) (by decide) h⟩
theorem p_drift {N : Nat} (hN9 : 2 ^ 70 ≤ N) : Sp33 Inv N := by
  have hN1 : 1000 ≤ N := Nat.le_trans (by decide) hN9
  intro t σ x1 x2 x3 ht hI
  obtain ⟨P, nw, na, M, t9, hN⟩ := hI.now
  have h4 := hN.2.1.1.1
  have hF := hN.2.1.1
  have ec : gi σ (iS 0) 16 = nI nw := (hN.2.2.1 16 rfl).trans hF.2.1
  have em : gi σ 21 16 = nI nw := (hN.2.2.2.1 16 rfl (by omega)).trans hF.2.1
  refine q_same (A := F_X0_drift N x1 x2 x3) (C := F_X8_drift N x1 x2 x3) hI ?_
  obtain ⟨f, g, hf, hg, hg2⟩ := is_fg
  unfold F_X0_drift F_X8_drift
  by_cases h1 : InR x2 1 201
  · by_cases h2 : InR x3 0 2
    · by_cases c0 : nw = 0
      · subst c0
        refine ⟨-2, σ, σ, ?_, ?_, Same.refl σ⟩
        · rw [i_1200.1 h1, bd_s, if_neg e10, c_isPart.1 h2, bd_s, if_neg e10, ec]
          exact if_pos rfl
        · rw [m_in_e, i_1200.1 h1, bd_s, if_neg e10, m_in_e, i_01.1 h2, bd_s, if_neg e10, gd_t r16, lc16, em]
          exact if_pos rfl
      · obtain ⟨n, hn1, hn, rfl⟩ := id h1
        have n0 : ¬ nI nw = 0 := nI_ne0 (by omega) (by omega)
        obtain ⟨τ, C, e1, e2, e3⟩ := c_tried hN1 hI hN
        have es : F_X0_startsCounting N (ctw 1 (P, C) τ) = some ((), ctw 1 (P, 0, 0, 0, 0) τ) := by
          unfold F_X0_startsCounting
          simp only [nm, c_s7, c_s8, c_s9, c_s10]
        have e4 := c_drift hf hg hg2 (N := N) (n := n) (what := x3) (τ := τ) hN1 (by omega) N 0 (P, 0, 0, 0, 0) x1 hF (Nat.zero_le _) (by omega)
        have s1 : Same σ (ctw 1 (drf f g nw n (P, 0, 0, 0, 0) x1) τ) := e2.trans Same.ctw
        have hN2 := hN.sm s1
        obtain ⟨h1', h2', h3', h4', h5'⟩ := m_made hN2.1.2 (Or.inl (by omega)) hF.2.2.2.1 hF.2.2.1
        have h2' := h2' 0 0
        generalize gi (mcp 0 156 39 (ctw 1 (drf f g nw n (P, 0, 0, 0, 0) x1) τ)) 1 16 = o at h2'
        generalize gi (mcp 0 156 39 (ctw 1 (drf f g nw n (P, 0, 0, 0, 0) x1) τ)) 1 17 = fz at h2'
        have q5 := hN.2.1.2.2.2.2.1
        have e5 := m_drift hf hg hg2 (N := N) (n := n) (what := x3) (P := P) (t0 := t9) (τ := mcp 0 156 39 (ctw 1 (drf f g nw n (P, 0, 0, 0, 0) x1) τ)) hN1 (by omega) (fun T => hN2.sm m_goSame) (h3'.trans q5) N 0 (P, 0, 0, o, fz) x1 hF q5 (Nat.zero_le _) (by omega)
        rw [h2', Nat.sub_zero] at e5
        rw [Nat.sub_zero] at e4
        have hC : Cn (P 37) (P 38) (drf f g nw n (P, 0, 0, 0, 0) x1) := drf_Cn hg2 h4 n _ _ (Cn.start P 0 0)
        have epg := drf_pg (f := f) (g := g) (nw := nw) n (P, 0, 0, o, fz) (P, 0, 0, 0, 0) x1 rfl
        refine ⟨driftV f g P nw n x1 x3, ctw 1 (drf f g nw n (P, 0, 0, 0, 0) x1) τ, mtw 156 (drf f g nw n (P, 0, 0, o, fz) x1) (mcp 0 156 39 (ctw 1 (drf f g nw n (P, 0, 0, 0, 0) x1) τ)), ?_, ?_, s1.trans m_goSame⟩
        · rw [i_1200.1 h1, bd_s, if_neg e10, c_isPart.1 h2, bd_s, if_neg e10, ec, if_neg n0, e1, bd_s, es, bd_s]
          exact e4
        · have em2 : gi (ctw 1 (drf f g nw n (P, 0, 0, 0, 0) x1) τ) 21 16 = nI nw := (hN2.2.2.2.1 16 rfl (by omega)).trans hF.2.1
          rw [m_in_e, i_1200.1 h1, bd_s, if_neg e10, m_in_e, i_01.1 h2, bd_s, if_neg e10, gd_t r16, lc16, em2, if_neg n0, show F_X8_copies N 0 156 (ctw 1 (drf f g nw n (P, 0, 0, 0, 0) x1) τ) = _ from m_cp156 (p := 0) hN1 (Or.inl (by omega)), bd_s]
          refine Eq.trans e5 ?_
          unfold driftV drM
          rw [epg, hC.1, add_sub_l]
    · refine ⟨-1, σ, σ, ?_, ?_, Same.refl σ⟩
      · rw [i_1200.1 h1, bd_s, if_neg e10, c_isPart.2 h2, bd_s, if_pos rfl]
      · rw [m_in_e, i_1200.1 h1, bd_s, if_neg e10, m_in_e, i_01.2 h2, bd_s, if_pos rfl]
  · refine ⟨-1, σ, σ, ?_, ?_, Same.refl σ⟩
    · rw [i_1200.2 h1, bd_s, if_pos rfl]
    · rw [m_in_e, i_1200.2 h1, bd_s, if_pos rfl]
-- swap
def swP (P : Pg) (a b : Nat) : Pg := pu (pu P (17 + a) (P (17 + b))) (17 + b) (P (17 + a))
theorem swP_d {P : Pg} {a b i : Nat} (ha : a < 16) (hb : b < 16) (h : i < 17 ∨ 33 ≤ i) : swP P a b i = P i := by
  unfold swP
  rw [pu_ne (by omega), pu_ne (by omega)]
theorem Fx_sw {P : Pg} {nw na M a b : Nat} (h : Fx P nw na M) (ha : a < na) (hb : b < na) : Fx (swP P a b) nw na M := by
  have h16 := h.2.2.1
  have e := fun i hi => swP_d (P := P) (a := a) (b := b) (i := i) (by omega) (by omega) hi
  obtain ⟨g1, g2, g3, g4, g5, g6, g7⟩ := h
  refine ⟨g1, by rw [e 16 (by omega)]; exact g2, g3, by rw [e 33 (by omega)]; exact g4, ⟨g5.1, g5.2.1, by rw [e 34 (by omega)]; exact g5.2.2⟩, fun u hu => ?_, fun j hj => ?_⟩
  · rw [e _ (by omega), e _ (by omega), e _ (by omega)]
    exact g6 u hu
  · unfold swP
    by_cases c1 : j = b
    · rw [c1, pu_eq]; exact g7 a ha
    · rw [pu_ne (by omega)]
      by_cases c2 : j = a
      · rw [c2, pu_eq]; exact g7 b hb
      · rw [pu_ne (by omega)]; exact g7 j hj
theorem ctw_si {k g i : Nat} {T : TT} {x : Int32} {σ : SS} (h : g ≠ iS k) (h0 : g ≠ 0) : si (ctw k T σ) g i x = ctw k T (si σ g i x) := by
  refine Prod.ext (funext fun g' => funext fun j => ?_) rfl
  unfold si ctw
  by_cases c1 : g' = iS k
  · subst c1
    have : ¬ iS k = g := fun z => h z.symm
    simp [this]
  · by_cases c2 : g' = 0
    · subst c2
      have : ¬ 0 = g := fun z => h0 z.symm
      simp [this, iS_0]
    · simp [c1, c2]
theorem ctw_pg {k : Nat} {P P' : Pg} {C : Int32 × Int32 × Int32 × Int32} {σ : SS} (h : ∀ i, dm i = true → P i = P' i) : ctw k (P, C) σ = ctw k (P', C) σ := by
  refine Prod.ext (funext fun g => funext fun j => ?_) rfl
  unfold ctw
  by_cases c1 : g = iS k
  · by_cases c2 : dm j = true
    · simp [c1, c2, h j c2]
    · simp [c1, c2]
  · simp [c1]
def jf2 (f : Nat → Nat → Int32) (a : Nat) : Nat → Nat → Int32 × Int32 → Int32 × Int32
  | 0, _, u => u
  | k + 1, b, u => jf2 f a k (b + 1) (jd u (100 * nI a + nI b) (f a b))
def jf3 (f : Nat → Nat → Int32) (na : Nat) : Nat → Nat → Int32 × Int32 → Int32 × Int32
  | 0, _, u => u
  | k + 1, a, u => jf3 f na k (a + 1) (jf2 f a (na - (a + 1)) (a + 1) u)
theorem c_swap1 {B N nw na M t n a b : Nat} {s : SS} {P : Pg} (hN1 : 1000 ≤ N) (hI : Rel B s) (hN : Now B s P nw na M t) (hn : n ≤ 200) (ha : a < na) (hb : b < na) : ∃ τ s1, F_X5_as N 1 0 s = some ((), τ) ∧ gi τ (iAA 0) b = P (17 + b) ∧ gi (si τ (iAA 1) a (P (17 + b))) (iAA 0) a = P (17 + a) ∧ F_X0_doneByTried N (nI n) (si (si τ (iAA 1) a (P (17 + b))) (iAA 1) b (P (17 + a))) = some (dn (swP P a b) nw na t n, s1) ∧ Same s s1 ∧ gi s1 0 14 = gi s 0 14 ∧ gi s1 0 15 = gi s 0 15 := by
  obtain ⟨τ, C, e1, e2, e3, e4, -⟩ := c_try4 hN1 hI hN
  have h16 := hN.2.1.1.2.2.1
  have ht9 := hN.2.1.2.2.1
  have g0 : ∀ i, gi (ctw 1 (P, C) τ) (iAA 0) i = gi s (iAA 0) i := fun i => (ctw_g (by unfold iAA iS; omega) (by unfold iAA; omega)).trans (e4 _ _ (by unfold iAA; omega) (by unfold iAA; omega))
  have est : si (si (ctw 1 (P, C) τ) (iAA 1) a (P (17 + b))) (iAA 1) b (P (17 + a)) = ctw 1 (swP P a b, C) (si (si τ (iAA 1) a (P (17 + b))) (iAA 1) b (P (17 + a))) := by
    rw [ctw_si (iAA_S 1 1) (iAA_0 1), ctw_si (iAA_S 1 1) (iAA_0 1)]
    refine ctw_pg fun i hi => (swP_d (by omega) (by omega) ?_).symm
    have := dm_e hi
    omega
  have hA : ∀ i, i < na → gi (si (si τ (iAA 1) a (P (17 + b))) (iAA 1) b (P (17 + a))) (iAA 1) i = swP P a b (17 + i) := fun i hi => by
    unfold swP
    by_cases c1 : i = b
    · rw [c1, gi_se, pu_eq]
    · rw [gi_sn (Or.inr c1), pu_ne (by omega)]
      by_cases c2 : i = a
      · rw [c2, gi_se, pu_eq]
      · rw [gi_sn (Or.inr c2), pu_ne (by omega)]
        exact e3 i hi
  have hs1 : Same s (si (si τ (iAA 1) a (P (17 + b))) (iAA 1) b (P (17 + a))) := (e2.trans (Same.si (by unfold hid iAA; omega))).trans (Same.si (by unfold hid iAA; omega))
  have eg := c_ticksGo (N := N) (k := 1) (m := n) (C := C) (σ := si (si τ (iAA 1) a (P (17 + b))) (iAA 1) b (P (17 + a))) hN1 (by omega) (Fx_sw hN.2.1.1 ha hb) ((swP_d (by omega) (by omega) (by omega)).trans hN.2.1.2.1) (by omega) hA
  refine ⟨ctw 1 (P, C) τ, ctw 1 (tks nw na (swP P a b, 0, 0, 0, 0) t n) (si (si τ (iAA 1) a (P (17 + b))) (iAA 1) b (P (17 + a))), e1, ?_, ?_, ?_, hs1.trans Same.ctw, ?_, ?_⟩
  · rw [g0]; exact hN.2.2.2.2.2.1 b hb
  · rw [gi_sn (by unfold iAA; omega), g0]; exact hN.2.2.2.2.2.1 a ha
  · rw [est]
    exact c_done eg c_g7
  · rw [ctw_0 (by omega), gi_sn (by unfold iAA; omega), gi_sn (by unfold iAA; omega)]
    exact e4 _ _ (by omega) (by omega)
  · rw [ctw_0 (by omega), gi_sn (by unfold iAA; omega), gi_sn (by unfold iAA; omega)]
    exact e4 _ _ (by omega) (by omega)
theorem c_swapI {B N nw na M t n a : Nat} {P : Pg} {what : Int32} {K : Int32 → Int32 → Int32 → SS → Option (Int32 × SS)} (hN1 : 1000 ≤ N) (hn : n ≤ 200) (ha : a < na) : ∀ (m k b : Nat) (s : SS) (u : Int32 × Int32), Rel B s → Now B s P nw na M t → b + k = na → k < m → gi s 0 14 = u.1 → gi s 0 15 = u.2 → ∃ s', F_X0_swap_39 N K m (nI n) what (nI a) (nI b) s = K (nI n) what (nI (a + 1)) s' ∧ Same s s' ∧ gi s' 0 14 = (jf2 (fun a b => dn (swP P a b) nw na t n) a k b u).1 ∧ gi s' 0 15 = (jf2 (fun a b => dn (swP P a b) nw na t n) a k b u).2 := by
  intro m
  induction m with
  | zero => intro k b s u _ _ _ h; omega
  | succ m ih =>
    intro k b s u hI hN hb hk h14 h15
    have h16 := hN.2.1.1.2.2.1
    have ec : gi s (iS 0) 33 = nI na := (hN.2.2.1 33 rfl).trans hN.2.1.1.2.2.2.1
    show ∃ s', B_X0_swap_39 N K (F_X0_swap_39 N K m) (nI n) what (nI a) (nI b) s = _ ∧ _
    unfold B_X0_swap_39
    rw [ec]
    cases k with
    | zero =>
      refine ⟨s, ?_, Same.refl s, h14, h15⟩
      rw [if_pos (nI_le (by omega) (by omega))]
      simp only [nm, show nI a + 1 = nI (a + 1) from nI_1 a]
    | succ k =>
      obtain ⟨τ, s1, e1, e2, e3, e4, e5, e6, e7⟩ := c_swap1 (n := n) hN1 hI hN hn ha (show b < na by omega)
      obtain ⟨s2, f1, f2, f3, f4⟩ := c_judges (N := N) (c := 100 * nI a + nI b) (d := dn (swP P a b) nw na t n) (e6.trans h14) (e7.trans h15)
      obtain ⟨s3, g1, g2, g3, g4⟩ := ih k (b + 1) s2 _ (hI.same (e5.trans f2)) (hN.sm (e5.trans f2)) (by omega) (by omega) f3 f4
      refine ⟨s3, ?_, (e5.trans f2).trans g2, g3, g4⟩
      obtain ⟨va, ha2, ea⟩ := hN.2.1.1.2.2.2.2.2.2 a ha
      obtain ⟨vb, hb2, eb⟩ := hN.2.1.1.2.2.2.2.2.2 b (by omega)
      have na1 : vp_nar .short (P (17 + a)) = P (17 + a) := by rw [ea]; exact short_nar2 va (by omega)
      have nb1 : vp_nar .short (P (17 + b)) = P (17 + b) := by rw [eb]; exact short_nar2 vb (by omega)
      have ka : (nI a).toNatClampNeg = a := nI_clamp (by omega)
      have kb : (nI b).toNatClampNeg = b := nI_clamp (by omega)
      rw [if_neg (nI_ge (by omega) (by omega)), e1, bd_s]
      simp only [nm, ka, kb, gd_t (inR_nI (show a < 16 by omega) (by omega)), gd_t (inR_nI (show b < 16 by omega) (by omega)), e2, nb1, e3, na1, e4, bd_s, f1, show nI b + 1 = nI (b + 1) from nI_1 b]
      exact g1
theorem c_swap {B N nw na M t n : Nat} {P : Pg} {what : Int32} (hN1 : 1000 ≤ N) (hn : n ≤ 200) : ∀ (m k a : Nat) (s : SS) (u : Int32 × Int32), Rel B s → Now B s P nw na M t → a + k = na → k < m → gi s 0 14 = u.1 → gi s 0 15 = u.2 → ∃ s', F_X0_swap_23 N m (nI n) what (nI a) s = some (judgedV what (jf3 (fun a b => dn (swP P a b) nw na t n) na k a u), s') ∧ Same s s' := by
  intro m
  induction m with
  | zero => intro k a s u _ _ _ h; omega
  | succ m ih =>
    intro k a s u hI hN ha hk h14 h15
    have h16 := hN.2.1.1.2.2.1
    have ec : gi s (iS 0) 33 = nI na := (hN.2.2.1 33 rfl).trans hN.2.1.1.2.2.2.1
    show ∃ s', B_X0_swap_23 N (F_X0_swap_23 N m) (nI n) what (nI a) s = _ ∧ _
    unfold B_X0_swap_23
    rw [ec]
    cases k with
    | zero =>
      refine ⟨s, ?_, Same.refl s⟩
      rw [if_pos (nI_le (by omega) (by omega)), c_judged h14 h15, bd_s]
      rfl
    | succ k =>
      obtain ⟨s1, e1, e2, e3, e4⟩ := c_swapI (N := N) (n := n) (what := what) (K := F_X0_swap_23 N m) hN1 hn (show a < na by omega) N (na - (a + 1)) (a + 1) s u hI hN (by omega) (by omega) h14 h15
      obtain ⟨s2, f1, f2⟩ := ih k (a + 1) s1 _ (hI.same e2) (hN.sm e2) (by omega) (by omega) e3 e4
      refine ⟨s2, ?_, e2.trans f2⟩
      rw [if_neg (nI_ge (by omega) (by omega))]
      simp only [nm, show nI a + 1 = nI (a + 1) from nI_1 a]
      exact e1.trans f1
theorem mp_putA {p i : Nat} {x : Int32} {σ : SS} (hi : i < 16) : mp p (si σ 21 (p + (17 + i)) x) = pu (mp p σ) (17 + i) x := by
  funext j
  by_cases c : j = 17 + i
  · subst c
    rw [pu_eq]
    unfold mp
    rw [if_neg (by omega), if_neg (by omega), if_neg (by omega), if_neg (by omega), gi_se]
  · rw [pu_ne c]
    unfold mp
    rw [gi_sn (Or.inl (by omega)), gi_sn (Or.inl (by omega)), gi_sn (Or.inr (by omega)), gi_sn (Or.inr (by omega))]
theorem nz_putA {P : Pg} {na i : Nat} {x : Int32} (h33 : P 33 = nI na) (hna : na ≤ 16) (hi : i < na) : nz (pu P (17 + i) x) = pu (nz P) (17 + i) x := by
  funext j
  have cl : (nI na).toNatClampNeg = na := nI_clamp (by omega)
  have e33 : pu P (17 + i) x 33 = nI na := (pu_ne (by omega)).trans h33
  by_cases c : j = 17 + i
  · subst c
    rw [pu_eq]
    unfold nz
    rw [e33, cl, if_neg (by omega), pu_eq]
  · rw [pu_ne c]
    unfold nz
    rw [e33, h33, cl, pu_ne c]
theorem mz_putA {p na i : Nat} {x : Int32} {σ : SS} {P : Pg} (hz : mz p σ = P) (h33 : P 33 = nI na) (hna : na ≤ 16) (hi : i < na) : mz p (si σ 21 (p + (17 + i)) x) = pu P (17 + i) x := by
  have e33 : mp p σ 33 = nI na := by
    rw [← h33, ← hz]
    exact (nz_d (by omega)).symm
  show nz (mp p (si σ 21 (p + (17 + i)) x)) = _
  rw [mp_putA (by omega), nz_putA e33 hna hi, ← hz]
  rfl
theorem m_swapI {B N nw na M t n a : Nat} {P : Pg} {what : Int32} {K : Int32 → Int32 → Int32 → Int32 → Int32 → SS → Option (Int32 × SS)} (hN1 : 1000 ≤ N) (hn : n ≤ 200) (ha : a < na) : ∀ (m k b : Nat) (s : SS) (u : Int32 × Int32), Now B s P nw na M t → b + k = na → k < m → ∃ s', F_X8_swap_51 N K m (nI n) what u.2 u.1 (nI a) (nI b) s = K (nI n) what (jf2 (fun a b => dn (swP P a b) nw na t n) a k b u).2 (jf2 (fun a b => dn (swP P a b) nw na t n) a k b u).1 (nI (a + 1)) s' ∧ Same s s' := by
  intro m
  induction m with
  | zero => intro k b s u _ _ h; omega
  | succ m ih =>
    intro k b s u hN hb hk
    have h16 := hN.2.1.1.2.2.1
    have h33 := hN.2.1.1.2.2.2.1
    have em : gi s 21 33 = nI na := (hN.2.2.2.1 33 rfl (by omega)).trans h33
    show ∃ s', B_X8_swap_51 N K (F_X8_swap_51 N K m) (nI n) what u.2 u.1 (nI a) (nI b) s = _ ∧ _
    unfold B_X8_swap_51
    rw [gd_t r33, lc33, em]
    cases k with
    | zero =>
      refine ⟨s, ?_, Same.refl s⟩
      rw [if_pos (nI_le (by omega) (by omega))]
      simp only [nm, show nI a + 1 = nI (a + 1) from nI_1 a]
      rfl
    | succ k =>
      have hs1 : Same s (mcp 0 195 39 s) := Same.mcp (by omega)
      have hz1 : mz 195 (mcp 0 195 39 s) = P := mz_cp.trans hN.1.2
      have hz2 : mz 195 (si (mcp 0 195 39 s) 21 (195 + (17 + a)) (P (17 + b))) = pu P (17 + a) (P (17 + b)) := mz_putA hz1 h33 h16 ha
      have hz3 : mz 195 (si (si (mcp 0 195 39 s) 21 (195 + (17 + a)) (P (17 + b))) 21 (195 + (17 + b)) (P (17 + a))) = swP P a b := mz_putA hz2 ((pu_ne (by omega)).trans h33) h16 (by omega)
      have hs3 : Same s (si (si (mcp 0 195 39 s) 21 (195 + (17 + a)) (P (17 + b))) 21 (195 + (17 + b)) (P (17 + a))) := (hs1.trans (Same.si (by unfold hid; omega))).trans (Same.si (by unfold hid; omega))
      have g1 : gi (mcp 0 195 39 s) 21 (17 + b) = P (17 + b) := (mcp_g (by omega)).trans (hN.2.2.2.2.2.2.1 b (by omega))
      have g2 : gi (si (mcp 0 195 39 s) 21 (195 + (17 + a)) (P (17 + b))) 21 (17 + a) = P (17 + a) := (gi_sn (by omega)).trans ((mcp_g (by omega)).trans (hN.2.2.2.2.2.2.1 a ha))
      obtain ⟨R, e1, -⟩ := m_trialP (p := 195) (n := n) hN1 (hN.sm hs3) hn (Or.inr rfl) hz3 (Fx_sw hN.2.1.1 ha (by omega)) (swP_d (by omega) (by omega) (by omega)) (swP_d (by omega) (by omega) (by omega)) (swP_d (by omega) (by omega) (by omega))
      have i1 : (17 : Int32) + nI a = nI (17 + a) := nI_add 17 a
      have i2 : (17 : Int32) + nI b = nI (17 + b) := nI_add 17 b
      have i3 : (212 : Int32) + nI a = nI (195 + (17 + a)) := (nI_add 212 a).trans (congrArg nI (by omega))
      have i4 : (212 : Int32) + nI b = nI (195 + (17 + b)) := (nI_add 212 b).trans (congrArg nI (by omega))
      have k1 : (nI (17 + a)).toNatClampNeg = 17 + a := nI_clamp (by omega)
      have k2 : (nI (17 + b)).toNatClampNeg = 17 + b := nI_clamp (by omega)
      have k3 : (nI (195 + (17 + a))).toNatClampNeg = 195 + (17 + a) := nI_clamp (by omega)
      have k4 : (nI (195 + (17 + b))).toNatClampNeg = 195 + (17 + b) := nI_clamp (by omega)
      have hs4 := hs3.trans (m_goSame (p := 195) (T := R))
      rw [if_neg (nI_ge (by omega) (by omega)), show F_X8_copies N 0 195 s = _ from m_cp_0 (b := 195) (by omega) (by omega) (by omega), bd_s]
      simp only [nm, i1, i2, i3, i4, k1, k2, k3, k4, gd_t (r_c (show 17 + a < 234 by omega)), gd_t (r_c (show 17 + b < 234 by omega)), gd_t (r_c (show 195 + (17 + a) < 234 by omega)), gd_t (r_c (show 195 + (17 + b) < 234 by omega)), g1, g2]
      rw [show F_X8_ticksGo N 195 (nI n) _ = _ from e1, bd_s]
      generalize mtw 156 R (mcp 195 156 39 (si (si (mcp 0 195 39 s) 21 (195 + (17 + a)) (P (17 + b))) 21 (195 + (17 + b)) (P (17 + a)))) = s2 at hs4 ⊢
      have hgo : ∀ u', ∃ s', F_X8_swap_51 N K m (nI n) what u'.2 u'.1 (nI a) (nI (b + 1)) s2 = K (nI n) what (jf2 (fun a b => dn (swP P a b) nw na t n) a k (b + 1) u').2 (jf2 (fun a b => dn (swP P a b) nw na t n) a k (b + 1) u').1 (nI (a + 1)) s' ∧ Same s2 s' := fun u' => ih k (b + 1) s2 u' (hN.sm hs4) (by omega) (by omega)
      unfold F_X8_swap_142
      simp only [nm, show nI b + 1 = nI (b + 1) from nI_1 b]
      show ∃ s', _ = K (nI n) what (jf2 (fun a b => dn (swP P a b) nw na t n) a k (b + 1) (jd u (100 * nI a + nI b) (dn (swP P a b) nw na t n))).2 (jf2 (fun a b => dn (swP P a b) nw na t n) a k (b + 1) (jd u (100 * nI a + nI b) (dn (swP P a b) nw na t n))).1 (nI (a + 1)) s' ∧ _
      unfold jd
      by_cases c : dn (swP P a b) nw na t n ≤ u.2
      · obtain ⟨s', z1, z2⟩ := hgo u
        refine ⟨s', ?_, hs4.trans z2⟩
        rw [if_pos c, if_pos c, if_pos c]
        exact z1
      · obtain ⟨s', z1, z2⟩ := hgo (100 * nI a + nI b, dn (swP P a b) nw na t n)
        refine ⟨s', ?_, hs4.trans z2⟩
        rw [if_neg c, if_neg c, if_neg c]
        exact z1
theorem m_swap {B N nw na M t n : Nat} {P : Pg} {what : Int32} (hN1 : 1000 ≤ N) (hn : n ≤ 200) : ∀ (m k a : Nat) (s : SS) (u : Int32 × Int32), Now B s P nw na M t → a + k = na → k < m → ∃ s', F_X8_swap_33 N m (nI n) what u.2 u.1 (nI a) s = some (judgedV what (jf3 (fun a b => dn (swP P a b) nw na t n) na k a u), s') ∧ Same s s' := by
  intro m
  induction m with
  | zero => intro k a s u _ _ h; omega
  | succ m ih =>
    intro k a s u hN ha hk
    have h16 := hN.2.1.1.2.2.1
    have em : gi s 21 33 = nI na := (hN.2.2.2.1 33 rfl (by omega)).trans hN.2.1.1.2.2.2.1
    show ∃ s', B_X8_swap_33 N (F_X8_swap_33 N m) (nI n) what u.2 u.1 (nI a) s = _ ∧ _
    unfold B_X8_swap_33
    rw [gd_t r33, lc33, em]
    cases k with
    | zero =>
      refine ⟨s, ?_, Same.refl s⟩
      rw [if_pos (nI_le (by omega) (by omega))]
      show _ = some (judgedV what u, s)
      unfold judgedV
      by_cases c : u.1 = -4
      · rw [if_pos c, if_pos c, c]
      · rw [if_neg c, if_neg c]
        by_cases d : what = 0
        · rw [if_pos d, if_pos d]
        · rw [if_neg d, if_neg d]
    | succ k =>
      obtain ⟨s1, e1, e2⟩ := m_swapI (N := N) (n := n) (what := what) (K := F_X8_swap_33 N m) hN1 hn (show a < na by omega) N (na - (a + 1)) (a + 1) s u hN (by omega) (by omega)
      obtain ⟨s2, f1, f2⟩ := ih k (a + 1) s1 (jf2 (fun a b => dn (swP P a b) nw na t n) a (na - (a + 1)) (a + 1) u) (hN.sm e2) (by omega) (by omega)
      refine ⟨s2, ?_, e2.trans f2⟩
      rw [if_neg (nI_ge (by omega) (by omega))]
      simp only [nm, show nI a + 1 = nI (a + 1) from nI_1 a]
      exact e1.trans f1
theorem p_swap {N : Nat} (hN9 : 2 ^ 70 ≤ N) : Sp23 Inv N := by
  have hN1 : 1000 ≤ N := Nat.le_trans (by decide) hN9
  intro t σ x1 x2 ht hI
  obtain ⟨P, nw, na, M, t9, hN⟩ := hI.now
  have h16 := hN.2.1.1.2.2.1
  refine q_same (A := F_X0_swap N x1 x2) (C := F_X8_swap N x1 x2) hI ?_
  unfold F_X0_swap F_X8_swap
  by_cases h1 : InR x1 0 201
  · by_cases h2 : InR x2 0 2
    · obtain ⟨n, -, hn, rfl⟩ := id h1
      obtain ⟨s0, a1, a2, a3, a4⟩ := c_startsByNow (N := N) (n := n) (s := σ) hN1 hI hN (by omega)
      obtain ⟨s1, b1, b2⟩ := c_swap (N := N) (n := n) (what := x2) hN1 (by omega) N na 0 s0 (-4, dn P nw na t9 n) (Rel.same hI a2) (hN.sm a2) (by omega) (by omega) a3 a4
      have hs := a2.trans b2
      have hN2 := hN.sm hs
      obtain ⟨R, e1, -⟩ := m_trialP (p := 0) (n := n) hN1 hN2 (by omega) (Or.inl (by omega)) hN2.1.2 hN2.2.1.1 rfl rfl rfl
      have hs2 : Same s1 (mtw 156 R (mcp 0 156 39 s1)) := m_goSame
      obtain ⟨s2, d1, d2⟩ := m_swap (N := N) (n := n) (what := x2) hN1 (by omega) N na 0 (mtw 156 R (mcp 0 156 39 s1)) (-4, dn P nw na t9 n) (hN2.sm hs2) (by omega) (by omega)
      refine ⟨judgedV x2 (jf3 (fun a b => dn (swP P a b) nw na t9 n) na na 0 (-4, dn P nw na t9 n)), s1, s2, ?_, ?_, hs.trans (hs2.trans d2)⟩
      · rw [c_isFar.1 h1, bd_s, if_neg e10, c_isPart.1 h2, bd_s, if_neg e10, a1, bd_s]
        exact b1
      · rw [m_isLong_e, c_isFar.1 h1, bd_s, if_neg e10, m_in_e, i_01.1 h2, bd_s, if_neg e10, show F_X8_ticksGo N 0 (nI n) s1 = _ from e1, bd_s]
        exact d1
    · refine ⟨-1, σ, σ, ?_, ?_, Same.refl σ⟩
      · rw [c_isFar.1 h1, bd_s, if_neg e10, c_isPart.2 h2, bd_s, if_pos rfl]
      · rw [m_isLong_e, c_isFar.1 h1, bd_s, if_neg e10, m_in_e, i_01.2 h2, bd_s, if_pos rfl]
  · refine ⟨-1, σ, σ, ?_, ?_, Same.refl σ⟩
    · rw [c_isFar.2 h1, bd_s, if_pos rfl]
    · rw [m_isLong_e, c_isFar.2 h1, bd_s, if_pos rfl]
