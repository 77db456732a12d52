/-! THE PLAIN LAW: what is tried; runs, ahead, when -/
set_option maxRecDepth 100000
theorem Now.sm {B nw na M t : Nat} {σ σ' : SS} {P : Pg} (h : Now B σ P nw na M t) (e : Same σ σ') : Now B σ' P nw na M t := h.same (fun i => e.1 40 i (by unfold hid; omega)) (fun i => e.1 42 i (by unfold hid; omega)) (fun i hi => e.1 21 i (by unfold hid; omega)) (e.1 1 14 (by unfold hid; omega)) (e.1 1 15 (by unfold hid; omega))
theorem q_same {t : Nat} {σ : SS} {A C : SS → Option (Int32 × SS)} (hI : Inv t σ) (h : ∃ v σ1 σ2, A σ = some (v, σ1) ∧ C σ1 = some (v, σ2) ∧ Same σ σ2) : ∃ r σ1 σ2, A σ = some (r, σ1) ∧ C σ1 = some (r, σ2) ∧ Inv (t + 1) σ2 := by
  obtain ⟨v, σ1, σ2, h1, h2, h3⟩ := h
  exact ⟨v, σ1, σ2, h1, h2, Rel.mono (hI.same h3) (by omega)⟩
theorem i_200 {N : Nat} {x : Int32} {σ : SS} : (InR x 0 201 → F_X0_in N x.toInt64 0 200 σ = some (1, σ)) ∧ (¬ InR x 0 201 → F_X0_in N x.toInt64 0 200 σ = some (0, σ)) := ⟨fun h => in_1 (a := 0) (b := 201) (by decide) (by decide) (by decide) h, fun h => in_0 (a := 0) (b := 201) (by decide) (by decide) (by decide) h⟩
theorem c_isFar {N : Nat} {x : Int32} {σ : SS} : (InR x 0 201 → F_X0_isFar N x σ = some (1, σ)) ∧ (¬ InR x 0 201 → F_X0_isFar N x σ = some (0, σ)) := by
  unfold F_X0_isFar
  refine ⟨fun h => ?_, fun h => ?_⟩
  · rw [i_200.1 h, bd_s, gd_t (Or.inr rfl)]
  · rw [i_200.2 h, bd_s, gd_t (Or.inl rfl)]
theorem m_isLong_e {N : Nat} {x : Int32} {σ : SS} : F_X8_isLong N x σ = F_X0_isFar N x σ := rfl
theorem c_isPart {N : Nat} {x : Int32} {σ : SS} : (InR x 0 2 → F_X0_isPart N x σ = some (1, σ)) ∧ (¬ InR x 0 2 → F_X0_isPart N x σ = some (0, σ)) := by
  unfold F_X0_isPart
  refine ⟨fun h => ?_, fun h => ?_⟩
  · rw [i_01.1 h, bd_s, gd_t (Or.inr rfl)]
  · rw [i_01.2 h, bd_s, gd_t (Or.inl rfl)]
theorem i_04 {N : Nat} {x : Int32} {σ : SS} : (InR x 0 5 → F_X0_in N x.toInt64 0 4 σ = some (1, σ)) ∧ (¬ InR x 0 5 → F_X0_in N x.toInt64 0 4 σ = some (0, σ)) := ⟨fun h => in_1 (a := 0) (b := 5) (by decide) (by decide) (by decide) h, fun h => in_0 (a := 0) (b := 5) (by decide) (by decide) (by decide) h⟩
/-- the tried shaft as now -/
theorem c_tried {B N nw na M t : Nat} {σ : SS} {P : Pg} (hN1 : 1000 ≤ N) (hI : Rel B σ) (hN : Now B σ P nw na M t) : ∃ (τ : SS) (C : Int32 × Int32 × Int32 × Int32), F_X5_as N 1 0 σ = some ((), ctw 1 (P, C) τ) ∧ Same σ τ ∧ ∀ i, i < na → gi τ (iAA 1) i = P (17 + i) := by
  have hz : cz 1 (asw 1 0 σ) = P := cz_as.trans hN.1.1
  refine ⟨asw 1 0 σ, (gi (asw 1 0 σ) 0 7, gi (asw 1 0 σ) 0 8, gi (asw 1 0 σ) 0 9, gi (asw 1 0 σ) 0 10), ?_, Same.asw, fun i hi => ?_⟩
  · have h1 := ctw_self (k := 1) (σ := asw 1 0 σ)
    rw [hz] at h1
    rw [h1]
    exact c_as (by omega) (by decide) hI.2.2.1.1.fit
  · rw [← hz, cz_A (na := na) (by rw [hz]; exact hN.2.1.1.2.2.2.1) hN.2.1.1.2.2.1 hi]
/-- the model's page that is tried, made of the page p -/
theorem m_made {p na : Nat} {σ : SS} {P : Pg} (hz : mz p σ = P) (hp : p + 39 ≤ 156 ∨ p = 195) (h33 : P 33 = nI na) (hna : na ≤ 16) : mz 156 (mcp p 156 39 σ) = P ∧ (∀ d l, mtw 156 (P, d, l, gi (mcp p 156 39 σ) 1 16, gi (mcp p 156 39 σ) 1 17) (mcp p 156 39 σ) = mcp p 156 39 σ) ∧ gi (mcp p 156 39 σ) 1 14 = P 40 ∧ gi (mcp p 156 39 σ) 1 15 = P 39 ∧ ∀ i, i < na → gi (mcp p 156 39 σ) 21 (156 + (17 + i)) = P (17 + i) := by
  have h1 : mz 156 (mcp p 156 39 σ) = P := mz_cp.trans hz
  refine ⟨h1, fun d l => ?_, ?_, ?_, fun i hi => ?_⟩
  · have h2 := mtw_self (p := 156) (d := d) (l := l) (σ := mcp p 156 39 σ)
    rw [h1] at h2
    exact h2
  · rw [← h1]; exact mz_40.symm
  · rw [← h1]; exact mz_39.symm
  · rw [← h1, mz_A (na := na) (by rw [h1]; exact h33) hna hi]
theorem m_cp156 {N p : Nat} {σ : SS} (hN1 : 1000 ≤ N) (hp : p + 39 ≤ 156 ∨ p = 195) : F_X8_copies N (nI p) 156 σ = some ((), mcp p 156 39 σ) := m_copies (b := 156) (by omega) (by omega) (by omega) (by omega)
theorem r_c {c : Nat} (h : c < 234) : inR (nI c) 234 := inR_nI h (by omega)
theorem m_go {N p nw na M m t : Nat} {P : Pg} {σ : SS} (hN1 : 1000 ≤ N) (hm : m ≤ 900) (hp : p + 39 ≤ 156 ∨ p = 195) (hz : mz p σ = P) (hF : Fx P nw na M) (ht : P 36 = nI t) (ht2 : t < 2 ^ 20) : F_X8_ticksGo N (nI p) (nI m) σ = some ((tks nw na (P, 0, 0, 0, P 35 / P 34) t m).1 37 - gi σ 21 37, mtw 156 (tks nw na (P, 0, 0, 0, P 35 / P 34) t m) (mcp p 156 39 σ)) := by
  obtain ⟨h1, h2, h3, h4, h5⟩ := m_made hz hp hF.2.2.2.1 hF.2.2.1
  unfold F_X8_ticksGo
  rw [m_cp156 hN1 hp, bd_s]
  have e37 : gi (mcp p 156 39 σ) 21 37 = gi σ 21 37 := mcp_g (by omega)
  rw [← e37]
  have h2 := h2 0 0
  generalize gi (mcp p 156 39 σ) 1 16 = o at h2
  generalize gi (mcp p 156 39 σ) 1 17 = f at h2
  generalize mcp p 156 39 σ = τ at h2 h3 h4 h5 ⊢
  have hd : ¬ P 34 = 0 := by rw [hF.2.2.2.2.1.2.2]; exact nI_ne0 (by have := hF.2.2.2.2.1.1; omega) (by have := hF.2.2.2.2.1.2.1; omega)
  have e1 : si τ 1 16 0 = mtw 156 (P, 0, 0, 0, f) τ := by
    conv => lhs; rw [← h2]
    exact m_s16
  have esp : F_X8_speedOn N 156 (mtw 156 (P, 0, 0, 0, f) τ) = some (P 35 / P 34, mtw 156 (P, 0, 0, 0, f) τ) := by
    unfold F_X8_speedOn
    have i35 : (156 : Int32) + 35 = nI (156 + 35) := nI_add 156 35
    have i34 : (156 : Int32) + 34 = nI (156 + 34) := nI_add 156 34
    have c35 : (nI (156 + 35)).toNatClampNeg = 156 + 35 := nI_clamp (by omega)
    have c34 : (nI (156 + 34)).toNatClampNeg = 156 + 34 := nI_clamp (by omega)
    simp only [i34, i35, c34, c35, gd_t (r_c (show 156 + 35 < 234 by omega)), gd_t (r_c (show 156 + 34 < 234 by omega)), m_g34, m_g (show dq 35 = true from rfl) (show (35 : Nat) ≠ 34 by omega), Int32.sub_add_cancel, gd_t hd]
  simp only [nm, e1, esp, bd_s, m_s17]
  have em := m_ticks (N := N) (nw := nw) (na := na) (M := M) (m := m) (σ := τ) (by omega) (by omega) rfl N 0 t (P, 0, 0, 0, P 35 / P 34) hF ht (by omega) (by omega) h3 h4 h5 (Nat.zero_le _) (by omega)
  rw [Nat.sub_zero] at em
  exact em
/-- a state behind what the model tried -/
theorem m_goSame {p : Nat} {T : TT} {σ : SS} : Same σ (mtw 156 T (mcp p 156 39 σ)) := (Same.mcp (by omega)).trans (Same.mtw (by omega))
theorem m_go21 {p i : Nat} {T : TT} {σ : SS} (h : i < 156 ∨ 195 ≤ i) : gi (mtw 156 T (mcp p 156 39 σ)) 21 i = gi σ 21 i := (mtw_21 (by omega)).trans (mcp_g (by omega))
theorem m_go156 {i : Nat} {T : TT} {τ : SS} (h : dq i = true) (h34 : i ≠ 34) : gi (mtw 156 T τ) 21 (156 + i) = T.1 i := m_g h h34
theorem Sw.sp {B M : Nat} {P : Pg} (h : Sw B P) (hM : P 34 = nI M) (h1 : 1 ≤ M) (h2 : M ≤ 20) : mx (P 35 / P 34) 0 = P 35 / P 34 := by
  obtain ⟨a, ha, ea, -⟩ := nI_nn h.1
  have := Nat.div_le_self a M
  unfold mx
  rw [ea, hM, nI_divN ha (by omega)]
  exact if_neg (nI_pos (by omega))
/-- the model's ticks and the component's -/
theorem tks_m {B nw na M n t : Nat} {P : Pg} (hF : Fx P nw na M) (hS : Sw B P) : tks nw na (P, 0, 0, 0, P 35 / P 34) t n = sf (tks nw na (P, 0, 0, 0, 0) t n) (mx (P 35 / P 34) (tks nw na (P, 0, 0, 0, 0) t n).2.2.2.2) := by
  have h1 := tks_sf (nw := nw) (na := na) (g := P 35 / P 34) n t (P, 0, 0, 0, 0) 0
  rw [hS.sp hF.2.2.2.2.1.2.2 hF.2.2.2.2.1.1 hF.2.2.2.2.1.2.1] at h1
  exact h1
-- all that swings
def allW (P : Pg) : Nat → Nat → Int32 → Int32
  | 0, _, x => x
  | n + 1, w, x => allW P n (w + 1) (x + P (12 + w))
theorem c_all {N nw na M : Nat} {T : TT} {σ : SS} (hF : Fx T.1 nw na M) : ∀ (n w : Nat) (x : Int32), nw - w < n → w ≤ nw → F_X5_all_7 N 1 n x (nI w) (ctw 1 T σ) = some (allW T.1 (nw - w) w x, ctw 1 T σ) := by
  have h4 := hF.1
  intro n
  induction n with
  | zero => intro w x h; omega
  | succ n ih =>
    intro w x hn hw
    show B_X5_all_7 N 1 (F_X5_all_7 N 1 n) x (nI w) (ctw 1 T σ) = _
    unfold B_X5_all_7
    rw [c_gS (show dm 16 = true from rfl), hF.2.1]
    by_cases c1 : w = nw
    · subst c1
      rw [if_pos (nI_le (Nat.le_refl _) (by omega)), Nat.sub_self]
      rfl
    · have hlt : w < nw := by omega
      obtain ⟨d0, d4, d8, d12⟩ := dm_w (show w < 4 by omega)
      rw [if_neg (nI_ge hlt (by omega)), gd_t (inR_nI (by omega) (by omega)), nI_clamp (by omega)]
      simp only [nm, c_gS d12, show nI w + 1 = nI (w + 1) from nI_1 w]
      rw [show nw - w = (nw - (w + 1)) + 1 by omega]
      exact ih (w + 1) _ (by omega) hlt
theorem m_all {N nw na M : Nat} {T : TT} {σ : SS} (hF : Fx T.1 nw na M) : ∀ (n w : Nat) (x : Int32), nw - w < n → w ≤ nw → F_X8_swingOn_12 N n 156 x (nI w) (mtw 156 T σ) = some (allW T.1 (nw - w) w x, mtw 156 T σ) := by
  have h4 := hF.1
  have i16 : (156 : Int32) + (16 : Int32) = nI (156 + 16) := nI_add 156 16
  have c16 : (nI (156 + 16)).toNatClampNeg = 156 + 16 := nI_clamp (by omega)
  intro n
  induction n with
  | zero => intro w x h; omega
  | succ n ih =>
    intro w x hn hw
    show B_X8_swingOn_12 N (F_X8_swingOn_12 N n) 156 x (nI w) (mtw 156 T σ) = _
    unfold B_X8_swingOn_12
    rw [i16, gd_t (r_c (by omega)), c16, m_go156 rfl (by omega), hF.2.1]
    by_cases c1 : w = nw
    · subst c1
      rw [if_pos (nI_le (Nat.le_refl _) (by omega)), Nat.sub_self]
      rfl
    · have hlt : w < nw := by omega
      obtain ⟨d0, d4, d8, d12⟩ := dq_w (show w < 4 by omega)
      have i12 : (156 : Int32) + (12 : Int32) + nI w = nI (156 + (12 + w)) := nI_ac 156 12 w
      rw [if_neg (nI_ge hlt (by omega)), i12, gd_t (r_c (by omega)), nI_clamp (by omega), m_go156 d12 (by omega)]
      simp only [nm, show nI w + 1 = nI (w + 1) from nI_1 w]
      rw [show nw - w = (nw - (w + 1)) + 1 by omega]
      exact ih (w + 1) _ (by omega) hlt
def runsV (P : Pg) (nw na t n k : Nat) : Int32 :=
  if k = 0 then (tks nw na (P, 0, 0, 0, 0) t n).2.1 else if k = 1 then (tks nw na (P, 0, 0, 0, 0) t n).2.2.1 else if k = 2 then (tks nw na (P, 0, 0, 0, 0) t n).2.2.2.1 else if k = 3 then allW (tks nw na (P, 0, 0, 0, 0) t n).1 nw 0 ((tks nw na (P, 0, 0, 0, 0) t n).1 35) else mx (P 35 / P 34) (tks nw na (P, 0, 0, 0, 0) t n).2.2.2.2
theorem five {k : Nat} (h : k < 5) : k = 0 ∨ k = 1 ∨ k = 2 ∨ k = 3 ∨ k = 4 := by omega
theorem c_runs {B N nw na M t n k : Nat} {σ : SS} {P : Pg} (hN1 : 1000 ≤ N) (hI : Rel B σ) (hN : Now B σ P nw na M t) (hn : n ≤ 200) (hk : k < 5) : ∃ σ1, F_X0_runs N (nI n) (nI k) σ = some (runsV P nw na t n k, σ1) ∧ Same σ σ1 := by
  obtain ⟨τ, C, e1, e2, e3⟩ := c_tried hN1 hI hN
  have hF := hN.2.1.1
  have ht9 := hN.2.1.2.2.1
  have eg := c_ticksGo (N := N) (k := 1) (m := n) (C := C) (σ := τ) hN1 (by omega) hF hN.2.1.2.1 (by omega) e3
  have hS1 : Same σ (ctw 1 (tks nw na (P, 0, 0, 0, 0) t n) τ) := e2.trans Same.ctw
  have hN2 := hN.sm hS1
  have hF2 : Fx (tks nw na (P, 0, 0, 0, 0) t n).1 nw na M := Fx.tks (T := (P, 0, 0, 0, 0)) hF
  refine ⟨ctw 1 (tks nw na (P, 0, 0, 0, 0) t n) τ, ?_, hS1⟩
  have hd : ¬ P 34 = 0 := by rw [hF.2.2.2.2.1.2.2]; exact nI_ne0 (by have := hF.2.2.2.2.1.1; omega) (by have := hF.2.2.2.2.1.2.1; omega)
  unfold F_X0_runs
  rw [c_isFar.1 ⟨n, Nat.zero_le _, by omega, rfl⟩, bd_s, if_neg e10, i_04.1 ⟨k, Nat.zero_le _, by omega, rfl⟩, bd_s, if_neg e10, e1, bd_s, eg, bd_s]
  rcases five hk with rfl | rfl | rfl | rfl | rfl
  · show some (gi (ctw 1 (tks nw na (P, 0, 0, 0, 0) t n) τ) 0 7, _) = _
    rw [c_g7]; rfl
  · show some (gi (ctw 1 (tks nw na (P, 0, 0, 0, 0) t n) τ) 0 8, _) = _
    rw [c_g8]; rfl
  · show some (gi (ctw 1 (tks nw na (P, 0, 0, 0, 0) t n) τ) 0 9, _) = _
    rw [c_g9]; rfl
  · show bd (F_X5_all N 1 (ctw 1 (tks nw na (P, 0, 0, 0, 0) t n) τ)) (fun r σ => some (r, σ)) = _
    unfold F_X5_all
    rw [c_gS (show dm 35 = true from rfl)]
    have ea := c_all (N := N) (σ := τ) hF2 N 0 ((tks nw na (P, 0, 0, 0, 0) t n).1 35) (by have := hF.1; omega) (Nat.zero_le _)
    simp only [nm]
    rw [show F_X5_all_7 N 1 N _ 0 _ = _ from ea, bd_s]
    rfl
  · show bd (F_X5_speed N 0 (ctw 1 (tks nw na (P, 0, 0, 0, 0) t n) τ)) (fun r σ => some (if r < gi σ 0 10 then gi σ 0 10 else r, σ)) = _
    unfold F_X5_speed
    rw [hN2.2.2.1 34 rfl, hN2.2.2.1 35 rfl, gd_t hd, bd_s, c_g10]
    rfl
theorem r_37 : (193 : Int32) = nI (156 + 37) := rfl
theorem r_38 : (194 : Int32) = nI (156 + 38) := rfl
theorem m_lackThen {B N nw na M t : Nat} {σ τ : SS} {P : Pg} {T : TT} (hN : Now B (mtw 156 T τ) P nw na M t) (h : Cn (P 37) (P 38) T) : F_X8_lackThen N (mtw 156 T τ) = some (T.2.2.1, mtw 156 T τ) := by
  unfold F_X8_lackThen
  rw [r_38, gd_t (r_c (by omega)), gd_t r38, lc38, nI_clamp (by omega), m_go156 rfl (by omega), hN.2.2.2.1 38 rfl (by omega), h.2, add_sub_l]
theorem m_runs {B N nw na M t n k : Nat} {σ : SS} {P : Pg} (hN1 : 1000 ≤ N) (hN : Now B σ P nw na M t) (hn : n ≤ 200) (hk : k < 5) : ∃ σ1, F_X8_runs N (nI n) (nI k) σ = some (runsV P nw na t n k, σ1) ∧ Same σ σ1 := by
  have hF := hN.2.1.1
  have ht9 := hN.2.1.2.2.1
  have eg := m_go (N := N) (p := 0) (m := n) (σ := σ) hN1 (by omega) (Or.inl (by omega)) hN.1.2 hF hN.2.1.2.1 (by omega)
  rw [tks_m hF hN.2.1.2.2.2.2.2] at eg
  have hF2 : Fx (tks nw na (P, 0, 0, 0, 0) t n).1 nw na M := Fx.tks (T := (P, 0, 0, 0, 0)) hF
  have hC : Cn (P 37) (P 38) (tks nw na (P, 0, 0, 0, 0) t n) := Cn.tks n t _ (Cn.start P 0 0) hF
  unfold runsV
  generalize tks nw na (P, 0, 0, 0, 0) t n = R at eg hF2 hC ⊢
  have hS1 : Same σ (mtw 156 (sf R (mx (P 35 / P 34) R.2.2.2.2)) (mcp 0 156 39 σ)) := m_goSame
  have hN2 := hN.sm hS1
  refine ⟨mtw 156 (sf R (mx (P 35 / P 34) R.2.2.2.2)) (mcp 0 156 39 σ), ?_, hS1⟩
  unfold F_X8_runs
  rw [m_isLong_e, c_isFar.1 ⟨n, Nat.zero_le _, by omega, rfl⟩, bd_s, if_neg e10, m_in_e, i_04.1 ⟨k, Nat.zero_le _, by omega, rfl⟩, bd_s, if_neg e10, show F_X8_ticksGo N 0 (nI n) σ = _ from eg, bd_s, hN.2.2.2.1 37 rfl (by omega)]
  rcases five hk with rfl | rfl | rfl | rfl | rfl
  · show some (R.1 37 - P 37, _) = _
    rw [hC.1, add_sub_l]; rfl
  · show bd (F_X8_lackThen N _) (fun r σ => some (r, σ)) = _
    rw [m_lackThen (σ := σ) hN2 hC, bd_s]
    rfl
  · rfl
  · show bd (F_X8_swingOn N 156 _) (fun r σ => some (r, σ)) = _
    unfold F_X8_swingOn
    have i35 : (156 : Int32) + (35 : Int32) = nI (156 + 35) := nI_add 156 35
    have ea := m_all (N := N) (T := sf R (mx (P 35 / P 34) R.2.2.2.2)) (σ := mcp 0 156 39 σ) hF2 N 0 ((sf R (mx (P 35 / P 34) R.2.2.2.2)).1 35) (by have := hF.1; omega) (Nat.zero_le _)
    rw [i35, gd_t (r_c (by omega)), nI_clamp (by omega), m_go156 rfl (by omega)]
    simp only [nm]
    rw [show F_X8_swingOn_12 N N 156 _ 0 _ = _ from ea, bd_s]
    rfl
  · rfl
theorem p_runs {N : Nat} (hN9 : 2 ^ 70 ≤ N) : Sp16 Inv N := by
  have hN1 : 1000 ≤ N := Nat.le_trans (by decide) hN9
  intro t σ x1 x2 ht hI
  obtain ⟨P, nw, na, M, t9, hN⟩ := hI.now
  refine q_same (A := F_X0_runs N x1 x2) (C := F_X8_runs N x1 x2) hI ?_
  by_cases h1 : InR x1 0 201
  · by_cases h2 : InR x2 0 5
    · obtain ⟨n, -, hn, rfl⟩ := h1
      obtain ⟨k, -, hk, rfl⟩ := h2
      obtain ⟨σ1, e1, s1⟩ := c_runs hN1 hI hN (show n ≤ 200 by omega) hk
      obtain ⟨σ2, e2, s2⟩ := m_runs hN1 (hN.sm s1) (show n ≤ 200 by omega) hk
      exact ⟨_, σ1, σ2, e1, e2, s1.trans s2⟩
    · refine ⟨-1, σ, σ, ?_, ?_, Same.refl σ⟩
      · unfold F_X0_runs
        rw [c_isFar.1 h1, bd_s, if_neg e10, i_04.2 h2, bd_s, if_pos rfl]
      · unfold F_X8_runs
        rw [m_isLong_e, c_isFar.1 h1, bd_s, if_neg e10, m_in_e, i_04.2 h2, bd_s, if_pos rfl]
  · refine ⟨-1, σ, σ, ?_, ?_, Same.refl σ⟩
    · unfold F_X0_runs
      rw [c_isFar.2 h1, bd_s, if_pos rfl]
    · unfold F_X8_runs
      rw [m_isLong_e, c_isFar.2 h1, bd_s, if_pos rfl]
theorem c_ahead {B N nw na M t n w : Nat} {σ : SS} {P : Pg} (hN1 : 1000 ≤ N) (hI : Rel B σ) (hN : Now B σ P nw na M t) (hn : n ≤ 200) (hw : w < nw) : ∃ σ1, F_X0_ahead N (nI w) (nI n) σ = some ((tks nw na (P, 0, 0, 0, 0) t n).1 (12 + w), σ1) ∧ Same σ σ1 := by
  obtain ⟨τ, C, e1, e2, e3⟩ := c_tried hN1 hI hN
  have hF := hN.2.1.1
  have h4 := hF.1
  have ht9 := hN.2.1.2.2.1
  have eg := c_ticksGo (N := N) (k := 1) (m := n) (C := C) (σ := τ) hN1 (by omega) hF hN.2.1.2.1 (by omega) e3
  have hS1 : Same σ (ctw 1 (tks nw na (P, 0, 0, 0, 0) t n) τ) := e2.trans Same.ctw
  obtain ⟨d0, d4, d8, d12⟩ := dm_w (show w < 4 by omega)
  refine ⟨ctw 1 (tks nw na (P, 0, 0, 0, 0) t n) τ, ?_, hS1⟩
  unfold F_X0_ahead
  rw [(c_isWheel hN).1 ⟨w, Nat.zero_le _, hw, rfl⟩, bd_s, if_neg e10, c_isFar.1 ⟨n, Nat.zero_le _, by omega, rfl⟩, bd_s, if_neg e10, e1, bd_s, eg, bd_s, gd_t (inR_nI (by omega) (by omega)), nI_clamp (by omega)]
  simp only [nm, c_gS d12]
theorem m_ahead {B N nw na M t n w : Nat} {σ : SS} {P : Pg} (hN1 : 1000 ≤ N) (hN : Now B σ P nw na M t) (hn : n ≤ 200) (hw : w < nw) : ∃ σ1, F_X8_ahead N (nI w) (nI n) σ = some ((tks nw na (P, 0, 0, 0, 0) t n).1 (12 + w), σ1) ∧ Same σ σ1 := by
  have hF := hN.2.1.1
  have h4 := hF.1
  have ht9 := hN.2.1.2.2.1
  have eg := m_go (N := N) (p := 0) (m := n) (σ := σ) hN1 (by omega) (Or.inl (by omega)) hN.1.2 hF hN.2.1.2.1 (by omega)
  rw [tks_m hF hN.2.1.2.2.2.2.2] at eg
  generalize tks nw na (P, 0, 0, 0, 0) t n = R at eg ⊢
  obtain ⟨d0, d4, d8, d12⟩ := dq_w (show w < 4 by omega)
  have i12 : (168 : Int32) + nI w = nI (156 + (12 + w)) := (nI_add 168 w).trans (congrArg nI (by omega))
  refine ⟨mtw 156 (sf R (mx (P 35 / P 34) R.2.2.2.2)) (mcp 0 156 39 σ), ?_, m_goSame⟩
  unfold F_X8_ahead
  rw [(m_isWheel hN).1 ⟨w, Nat.zero_le _, hw, rfl⟩, bd_s, if_neg e10, m_isLong_e, c_isFar.1 ⟨n, Nat.zero_le _, by omega, rfl⟩, bd_s, if_neg e10, show F_X8_ticksGo N 0 (nI n) σ = _ from eg, bd_s, i12, gd_t (r_c (by omega)), nI_clamp (by omega), m_go156 d12 (by omega)]
  rfl
theorem p_ahead {N : Nat} (hN9 : 2 ^ 70 ≤ N) : Sp17 Inv N := by
  have hN1 : 1000 ≤ N := Nat.le_trans (by decide) hN9
  intro t σ x1 x2 ht hI
  obtain ⟨P, nw, na, M, t9, hN⟩ := hI.now
  refine q_same (A := F_X0_ahead N x1 x2) (C := F_X8_ahead N x1 x2) hI ?_
  by_cases h1 : InR x1 0 nw
  · by_cases h2 : InR x2 0 201
    · obtain ⟨w, -, hw, rfl⟩ := h1
      obtain ⟨n, -, hn, rfl⟩ := h2
      obtain ⟨σ1, e1, s1⟩ := c_ahead hN1 hI hN (show n ≤ 200 by omega) hw
      obtain ⟨σ2, e2, s2⟩ := m_ahead hN1 (hN.sm s1) (show n ≤ 200 by omega) hw
      exact ⟨_, σ1, σ2, e1, e2, s1.trans s2⟩
    · refine ⟨-1, σ, σ, ?_, ?_, Same.refl σ⟩
      · unfold F_X0_ahead
        rw [(c_isWheel hN).1 h1, bd_s, if_neg e10, c_isFar.2 h2, bd_s, if_pos rfl]
      · unfold F_X8_ahead
        rw [(m_isWheel hN).1 h1, bd_s, if_neg e10, m_isLong_e, c_isFar.2 h2, bd_s, if_pos rfl]
  · refine ⟨-1, σ, σ, ?_, ?_, Same.refl σ⟩
    · unfold F_X0_ahead
      rw [(c_isWheel hN).2 h1, bd_s, if_pos rfl]
    · unfold F_X8_ahead
      rw [(m_isWheel hN).2 h1, bd_s, if_pos rfl]
-- tick by tick
def whenV (nw na w : Nat) : Nat → Pg → Nat → Nat → Int32
  | 0, _, _, _ => -4
  | k + 1, P, t, j => if P (12 + w) = 0 then nI j else whenV nw na w k (tickT (P, 0, 0, 0, 0) nw na t false).1 (t + 1) (j + 1)
theorem whenV_s {nw na w k : Nat} {T : TT} {t j : Nat} (h : ¬ T.1 (12 + w) = 0) : whenV nw na w (k + 1) T.1 t j = whenV nw na w k (tickT T nw na t false).1 (t + 1) (j + 1) := by
  show (if T.1 (12 + w) = 0 then _ else _) = _
  rw [if_neg h, tick_pg (T := (T.1, 0, 0, 0, 0)) (T' := T) rfl]
theorem c_when {N nw na M w : Nat} {τ : SS} (hN1 : 1000 ≤ N) (hw : w < nw) : ∀ (n k t j : Nat) (T : TT), j + k = 201 → k < n → Fx T.1 nw na M → T.1 36 = nI t → t + k < 2 ^ 20 → (∀ i, i < na → gi τ (iAA 1) i = T.1 (17 + i)) → ∃ T', F_X0_when_23 N n (nI w) (nI j) (ctw 1 T τ) = some (whenV nw na w k T.1 t j, ctw 1 T' τ) := by
  intro n
  induction n with
  | zero => intro k t j T _ h; omega
  | succ n ih =>
    intro k t j T hj hn hF ht ht2 hA
    have h4 := hF.1
    show ∃ T', B_X0_when_23 N (F_X0_when_23 N n) (nI w) (nI j) (ctw 1 T τ) = _
    unfold B_X0_when_23
    cases k with
    | zero =>
      have c1 : (200 : Int32) < nI j := nI_lt (a := 200) (by omega) (by omega)
      exact ⟨T, if_pos c1⟩
    | succ k =>
      have c1 : ¬ (200 : Int32) < nI j := nI_nlt (a := 200) (by omega) (by omega)
      obtain ⟨d0, d4, d8, d12⟩ := dm_w (show w < 4 by omega)
      rw [if_neg c1, gd_t (inR_nI (by omega) (by omega)), nI_clamp (by omega)]
      simp only [nm, c_gS d12]
      by_cases c2 : T.1 (12 + w) = 0
      · refine ⟨T, ?_⟩
        rw [if_pos c2]
        show _ = some (if T.1 (12 + w) = 0 then nI j else _, _)
        rw [if_pos c2]
      · rw [if_neg c2, whenV_s c2, show (0 : Int32) = b2i false from rfl, c_tick (by omega) hF ht (by omega) hA, bd_s, show nI j + 1 = nI (j + 1) from nI_1 j]
        exact ih k (t + 1) (j + 1) _ (by omega) (by omega) hF.tick (by rw [tickT_36 hF, ht]; exact nI_1 t) (by omega) (fun i hi => by rw [hA i hi, tickT_ne hF (by have := hF.2.2.1; unfold tw; omega)])
theorem m_when {N nw na M w : Nat} {τ : SS} (hN1 : 1000 ≤ N) (hw : w < nw) : ∀ (n k t j : Nat) (T : TT), j + k = 201 → k < n → Fx T.1 nw na M → T.1 36 = nI t → t + k < 2 ^ 20 → gi τ 1 14 = T.1 40 → gi τ 1 15 = T.1 39 → (∀ i, i < na → gi τ 21 (156 + (17 + i)) = T.1 (17 + i)) → ∃ T', F_X8_when_20 N n (nI w) (nI j) (mtw 156 T τ) = some (whenV nw na w k T.1 t j, mtw 156 T' τ) := by
  intro n
  induction n with
  | zero => intro k t j T _ h; omega
  | succ n ih =>
    intro k t j T hj hn hF ht ht2 ho hm9 hA
    have h4 := hF.1
    show ∃ T', B_X8_when_20 N (F_X8_when_20 N n) (nI w) (nI j) (mtw 156 T τ) = _
    unfold B_X8_when_20
    cases k with
    | zero =>
      have c1 : (200 : Int32) < nI j := nI_lt (a := 200) (by omega) (by omega)
      exact ⟨T, if_pos c1⟩
    | succ k =>
      have c1 : ¬ (200 : Int32) < nI j := nI_nlt (a := 200) (by omega) (by omega)
      obtain ⟨d0, d4, d8, d12⟩ := dq_w (show w < 4 by omega)
      have i12 : (168 : Int32) + nI w = nI (156 + (12 + w)) := (nI_add 168 w).trans (congrArg nI (by omega))
      rw [if_neg c1, i12, gd_t (r_c (by omega)), nI_clamp (by omega), m_go156 d12 (by omega)]
      by_cases c2 : T.1 (12 + w) = 0
      · refine ⟨T, ?_⟩
        rw [if_pos c2]
        show _ = some (if T.1 (12 + w) = 0 then nI j else _, _)
        rw [if_pos c2]
      · have ek := m_tick (N := N) (p := 156) (σ := τ) (fails := false) (by omega) (by omega) hF ht (by omega) ho hm9 hA
        rw [if_neg c2, whenV_s c2, show F_X8_tickOn N 156 0 (mtw 156 T τ) = _ from ek, bd_s]
        simp only [nm, show nI j + 1 = nI (j + 1) from nI_1 j]
        exact ih k (t + 1) (j + 1) _ (by omega) (by omega) hF.tick (by rw [tickT_36 hF, ht]; exact nI_1 t) (by omega) (by rw [tickT_ne hF (by unfold tw; omega)]; exact ho) (by rw [tickT_ne hF (by unfold tw; omega)]; exact hm9) (fun i hi => by rw [hA i hi, tickT_ne hF (by have := hF.2.2.1; unfold tw; omega)])
theorem p_when {N : Nat} (hN9 : 2 ^ 70 ≤ N) : Sp18 Inv N := by
  have hN1 : 1000 ≤ N := Nat.le_trans (by decide) hN9
  intro t σ x1 ht hI
  obtain ⟨P, nw, na, M, t9, hN⟩ := hI.now
  refine q_same (A := F_X0_when N x1) (C := F_X8_when N x1) hI ?_
  unfold F_X0_when F_X8_when
  by_cases h1 : InR x1 0 nw
  · obtain ⟨w, -, hw, rfl⟩ := id h1
    obtain ⟨τ, C, e1, e2, e3⟩ := c_tried hN1 hI hN
    have hF := hN.2.1.1
    have ht9 := hN.2.1.2.2.1
    obtain ⟨T', e4⟩ := c_when (N := N) (τ := τ) hN1 hw N 201 t9 0 (P, C) rfl (by omega) hF hN.2.1.2.1 (by omega) e3
    have s1 : Same σ (ctw 1 T' τ) := e2.trans Same.ctw
    have hN2 := hN.sm s1
    obtain ⟨h1', h2', h3', h4', h5'⟩ := m_made hN2.1.2 (Or.inl (by omega)) hF.2.2.2.1 hF.2.2.1
    have h2' := h2' 0 0
    generalize gi (mcp 0 156 39 (ctw 1 T' τ)) 1 16 = o at h2'
    generalize gi (mcp 0 156 39 (ctw 1 T' τ)) 1 17 = f at h2'
    obtain ⟨T2, e5⟩ := m_when (N := N) (τ := mcp 0 156 39 (ctw 1 T' τ)) hN1 hw N 201 t9 0 (P, 0, 0, o, f) rfl (by omega) hF hN.2.1.2.1 (by omega) h3' h4' h5'
    rw [h2'] at e5
    refine ⟨whenV nw na w 201 P t9 0, ctw 1 T' τ, mtw 156 T2 (mcp 0 156 39 (ctw 1 T' τ)), ?_, ?_, s1.trans m_goSame⟩
    · rw [(c_isWheel hN).1 h1, bd_s, if_neg e10, e1, bd_s]
      exact e4
    · rw [(m_isWheel hN2).1 h1, bd_s, if_neg e10, show (0 : Int32) = nI 0 from rfl, m_cp156 hN1 (Or.inl (by omega)), bd_s]
      exact e5
  · refine ⟨-1, σ, σ, ?_, ?_, Same.refl σ⟩
    · rw [(c_isWheel hN).2 h1, bd_s, if_pos rfl]
    · rw [(m_isWheel hN).2 h1, bd_s, if_pos rfl]
