/-! THE PLAIN LAW: what is tried one after another; judged -/
set_option maxRecDepth 100000
def dn (P : Pg) (nw na t n : Nat) : Int32 := (tks nw na (P, 0, 0, 0, 0) t n).2.1
def lk (P : Pg) (nw na t n : Nat) : Int32 := (tks nw na (P, 0, 0, 0, 0) t n).2.2.1
theorem c_try4 {B N nw na M t : Nat} {σ : SS} {P : Pg} (hN1 : 1000 ≤ N) (hI : Rel B σ) (hN : Now B σ P nw na M t) : ∃ (τ : SS) (C : Int32 × Int32 × Int32 × Int32), F_X5_as N 1 0 σ = some ((), ctw 1 (P, C) τ) ∧ Same σ τ ∧ (∀ i, i < na → gi τ (iAA 1) i = P (17 + i)) ∧ (∀ g i, g ≠ 50 → g ≠ 52 → gi τ g i = gi σ g i) ∧ τ.2 = σ.2 := by
  have hz : cz 1 (asw 1 0 σ) = P := cz_as.trans hN.1.1
  refine ⟨asw 1 0 σ, (gi (asw 1 0 σ) 0 7, gi (asw 1 0 σ) 0 8, gi (asw 1 0 σ) 0 9, gi (asw 1 0 σ) 0 10), ?_, Same.asw, fun i hi => ?_, fun g i h1 h2 => asw_g h1 h2, rfl⟩
  · have h1 := ctw_self (k := 1) (σ := asw 1 0 σ)
    rw [hz] at h1
    rw [h1]
    exact c_as (by omega) (by decide) hI.2.2.1.1.fit
  · rw [← hz, cz_A (na := na) (by rw [hz]; exact hN.2.1.1.2.2.2.1) hN.2.1.1.2.2.1 hi]
theorem dm_A {i j : Nat} (h : dm j = true) (hi : i < 16) : 17 + i ≠ j := by
  have := dm_e h
  omega
/-- the component tries now with one place changed -/
theorem c_trial {B N nw na M M' t n j : Nat} {x : Int32} {s : SS} {P : Pg} (hN1 : 1000 ≤ N) (hI : Rel B s) (hN : Now B s P nw na M t) (hn : n ≤ 200) (hj : dm j = true) (h36 : j ≠ 36) (hF' : Fx (pu P j x) nw na M') : ∃ τ s1, F_X5_as N 1 0 s = some ((), τ) ∧ F_X0_ticksGo N 1 (nI n) (si τ (iS 1) j x) = some ((), s1) ∧ gi s1 0 7 = dn (pu P j x) nw na t n ∧ gi s1 0 8 = lk (pu P j x) nw na t n ∧ Same s s1 ∧ gi s1 0 14 = gi s 0 14 ∧ gi s1 0 15 = gi s 0 15 := by
  obtain ⟨τ, C, e1, e2, e3, e4, -⟩ := c_try4 hN1 hI hN
  have hna := hN.2.1.1.2.2.1
  have ht9 := hN.2.1.2.2.1
  refine ⟨ctw 1 (P, C) τ, ctw 1 (tks nw na (pu P j x, 0, 0, 0, 0) t n) τ, e1, ?_, c_g7, c_g8, e2.trans Same.ctw, ?_, ?_⟩
  · rw [c_sS hj]
    exact c_ticksGo hN1 (by omega) hF' (by rw [pu_ne (fun z => h36 z.symm)]; exact hN.2.1.2.1) (by omega) (fun i hi => by rw [e3 i hi, pu_ne (dm_A hj (by omega))])
  · exact (ctw_0 (by omega)).trans (e4 _ _ (by omega) (by omega))
  · exact (ctw_0 (by omega)).trans (e4 _ _ (by omega) (by omega))
theorem c_done {N n : Nat} {v : Int32} {s s1 : SS} (h : F_X0_ticksGo N 1 (nI n) s = some ((), s1)) (h7 : gi s1 0 7 = v) : F_X0_doneByTried N (nI n) s = some (v, s1) := by
  unfold F_X0_doneByTried
  rw [h, bd_s, h7]
/-- judging: the code that is best, how much -/
def jd (s : Int32 × Int32) (c d : Int32) : Int32 × Int32 := if d ≤ s.2 then s else (c, d)
theorem c_judges {N : Nat} {c d : Int32} {s : SS} {u : Int32 × Int32} (h1 : gi s 0 14 = u.1) (h2 : gi s 0 15 = u.2) : ∃ s', F_X0_judges N c d s = some ((), s') ∧ Same s s' ∧ gi s' 0 14 = (jd u c d).1 ∧ gi s' 0 15 = (jd u c d).2 := by
  unfold F_X0_judges F_X0_judges_17
  rw [h1, h2]
  simp only [nm]
  have hh : ∀ z, gi (si s 0 14 z) 0 15 = u.2 := fun z => (gi_sn (by omega)).trans h2
  unfold jd
  by_cases c1 : d ≤ u.2
  · have c2 : ¬ u.2 < d := Int32.not_lt.mpr c1
    rw [if_pos c1, if_pos c1]
    refine ⟨_, rfl, (Same.si (by unfold hid; omega)).trans (Same.si (by unfold hid; omega)), ?_, ?_⟩
    · rw [gi_sn (by omega), gi_se]
    · rw [gi_se, hh, if_neg c2]
  · have c2 : u.2 < d := Int32.not_le.mp c1
    rw [if_neg c1, if_neg c1]
    refine ⟨_, rfl, (Same.si (by unfold hid; omega)).trans (Same.si (by unfold hid; omega)), ?_, ?_⟩
    · rw [gi_sn (by omega), gi_se]
    · rw [gi_se, hh, if_pos c2]
def jfold (f : Nat → Int32) : Nat → Nat → Int32 × Int32 → Int32 × Int32
  | 0, _, u => u
  | k + 1, v, u => jfold f k (v + 1) (jd u (nI v) (f v))
def judgedV (what : Int32) (u : Int32 × Int32) : Int32 := if u.1 = -4 then -4 else if what = 0 then u.1 else u.2
theorem c_judged {N : Nat} {what : Int32} {s : SS} {u : Int32 × Int32} (h1 : gi s 0 14 = u.1) (h2 : gi s 0 15 = u.2) : F_X0_judged N what s = some (judgedV what u, s) := by
  unfold F_X0_judged judgedV
  rw [h1, h2]
  by_cases c : u.1 = -4
  · rw [if_pos c, if_pos c]
  · rw [if_neg c, if_neg c]
    by_cases d : what = 0
    · rw [if_pos d, if_pos d]
    · rw [if_neg d, if_neg d]
theorem c_startsJudging {N : Nat} {m : Int32} {s : SS} : ∃ s', F_X0_startsJudging N m s = some ((), s') ∧ Same s s' ∧ gi s' 0 14 = -4 ∧ gi s' 0 15 = m := by
  refine ⟨_, rfl, (Same.si (by unfold hid; omega)).trans (Same.si (by unfold hid; omega)), ?_, gi_se⟩
  exact (gi_sn (by omega)).trans gi_se
theorem c_startsByNow {B N nw na M t n : Nat} {s : SS} {P : Pg} (hN1 : 1000 ≤ N) (hI : Rel B s) (hN : Now B s P nw na M t) (hn : n ≤ 200) : ∃ s', F_X0_startsByNow N (nI n) s = some ((), s') ∧ Same s s' ∧ gi s' 0 14 = -4 ∧ gi s' 0 15 = dn P nw na t n := by
  obtain ⟨τ, C, e1, e2, e3⟩ := c_tried hN1 hI hN
  have ht9 := hN.2.1.2.2.1
  have eg := c_ticksGo (N := N) (k := 1) (m := n) (C := C) (σ := τ) hN1 (by omega) hN.2.1.1 hN.2.1.2.1 (by omega) e3
  obtain ⟨s', j1, j2, j3, j4⟩ := c_startsJudging (N := N) (m := dn P nw na t n) (s := ctw 1 (tks nw na (P, 0, 0, 0, 0) t n) τ)
  refine ⟨s', ?_, (e2.trans Same.ctw).trans j2, j3, j4⟩
  unfold F_X0_startsByNow
  rw [e1, bd_s, c_done eg c_g7, bd_s, show (tks nw na (P, 0, 0, 0, 0) t n).2.1 = dn P nw na t n from rfl, j1, bd_s]
-- the model: the other page
theorem mp_put {p j : Nat} {x : Int32} {σ : SS} (hj : dq j = true) (h34 : j ≠ 34) : mp p (si σ 21 (p + j) x) = pu (mp p σ) j x := by
  have hj2 : j < 17 ∨ (33 ≤ j ∧ j < 39) := by
    unfold dq at hj
    simpa using hj
  funext i
  unfold mp pu
  by_cases c1 : i = j
  · subst c1
    rw [if_neg (by omega), if_neg (by omega), if_neg (by omega), if_neg h34, if_pos rfl, gi_se]
  · rw [if_neg c1]
    rw [gi_sn (Or.inl (by omega)), gi_sn (Or.inl (by omega)), gi_sn (Or.inr (by omega)), gi_sn (Or.inr (by omega))]
theorem nz_put {P : Pg} {j : Nat} {x : Int32} (h33 : j ≠ 33) (hA : j < 17 ∨ 33 ≤ j) : nz (pu P j x) = pu (nz P) j x := by
  funext i
  by_cases c1 : i = j
  · subst c1
    rw [nz_d hA, pu_eq, pu_eq]
  · rw [pu_ne c1]
    unfold nz
    rw [pu_ne (fun z => h33 z.symm), pu_ne c1]
theorem mz_put {p j : Nat} {x : Int32} {σ : SS} (hj : dq j = true) (h34 : j ≠ 34) (h33 : j ≠ 33) : mz p (si σ 21 (p + j) x) = pu (mz p σ) j x := by
  have hj2 : j < 17 ∨ (33 ≤ j ∧ j < 39) := by
    unfold dq at hj
    simpa using hj
  unfold mz
  rw [mp_put hj h34, nz_put h33 (by omega)]
theorem pu_pu (P : Pg) (j : Nat) (x y : Int32) : pu (pu P j x) j y = pu P j y := by
  funext i
  by_cases c : i = j
  · rw [c, pu_eq, pu_eq]
  · rw [pu_ne c, pu_ne c, pu_ne c]
/-- the model tries a page that is now with one place changed -/
theorem m_trialP {B N p nw na M M' t n : Nat} {s : SS} {P P' : Pg} (hN1 : 1000 ≤ N) (hN : Now B s P nw na M t) (hn : n ≤ 200) (hp : p + 39 ≤ 156 ∨ p = 195) (hz : mz p s = P') (hF' : Fx P' nw na M') (h36 : P' 36 = P 36) (h37 : P' 37 = P 37) (h38 : P' 38 = P 38) : ∃ R, F_X8_ticksGo N (nI p) (nI n) s = some (dn P' nw na t n, mtw 156 R (mcp p 156 39 s)) ∧ F_X8_lackThen N (mtw 156 R (mcp p 156 39 s)) = some (lk P' nw na t n, mtw 156 R (mcp p 156 39 s)) := by
  have ht9 := hN.2.1.2.2.1
  have eg := m_go (N := N) (p := p) (m := n) (σ := s) hN1 (by omega) hp hz hF' (h36.trans hN.2.1.2.1) (by omega)
  have hC : Cn (P' 37) (P' 38) (tks nw na (P', 0, 0, 0, P' 35 / P' 34) t n) := Cn.tks n t _ (Cn.start P' 0 _) hF'
  have hC0 : Cn (P' 37) (P' 38) (tks nw na (P', 0, 0, 0, 0) t n) := Cn.tks n t _ (Cn.start P' 0 0) hF'
  have epg := tks_pg (nw := nw) (na := na) n t (P', 0, 0, 0, P' 35 / P' 34) (P', 0, 0, 0, 0) rfl
  have e1 : (tks nw na (P', 0, 0, 0, P' 35 / P' 34) t n).1 37 - gi s 21 37 = dn P' nw na t n := by
    rw [hN.2.2.2.1 37 rfl (by omega), epg, hC0.1, h37, add_sub_l]
    rfl
  rw [e1] at eg
  refine ⟨_, eg, ?_⟩
  have hN2 := hN.sm (m_goSame (p := p) (T := tks nw na (P', 0, 0, 0, P' 35 / P' 34) t n))
  unfold F_X8_lackThen
  rw [r_38, gd_t (r_c (by omega)), gd_t r38, lc38, nI_clamp (by omega), m_go156 rfl (by omega), hN2.2.2.2.1 38 rfl (by omega), epg, hC0.2, h38, add_sub_l]
  rfl
theorem m_trial {B N nw na M M' t n j : Nat} {x : Int32} {s : SS} {P : Pg} (hN1 : 1000 ≤ N) (hN : Now B s P nw na M t) (hn : n ≤ 200) (hj : j < 12) (hz : ∃ y, mz 195 s = pu P j y) (hF' : Fx (pu P j x) nw na M') : ∃ s2, F_X8_ticksGo N 195 (nI n) (si s 21 (195 + j) x) = some (dn (pu P j x) nw na t n, s2) ∧ F_X8_lackThen N s2 = some (lk (pu P j x) nw na t n, s2) ∧ Same s s2 ∧ mz 195 s2 = pu P j x := by
  obtain ⟨y, hy⟩ := hz
  have hq : dq j = true := by
    unfold dq
    simp
    omega
  have hz2 : mz 195 (si s 21 (195 + j) x) = pu P j x := by rw [mz_put hq (by omega) (by omega), hy, pu_pu]
  have hs1 : Same s (si s 21 (195 + j) x) := Same.si (by unfold hid; omega)
  obtain ⟨R, e1, e2⟩ := m_trialP (p := 195) hN1 (hN.sm hs1) hn (Or.inr rfl) hz2 hF' (pu_ne (by omega)) (pu_ne (by omega)) (pu_ne (by omega))
  refine ⟨_, e1, e2, hs1.trans m_goSame, ?_⟩
  refine Eq.trans (mz_congr (fun i hi => m_go21 (by omega)) ?_ ?_) hz2
  · exact (mtw_1 (by omega) (by omega)).trans (mcp_g (by omega))
  · exact (mtw_1 (by omega) (by omega)).trans (mcp_g (by omega))
theorem dn_nn {B nw na M t n : Nat} {P : Pg} (hF : Fx P nw na M) (hS : Sw B P) (hB : B ≤ 1000000) (hn : n ≤ 200) : ∃ d, d < 2 ^ 31 ∧ dn P nw na t n = nI d := by
  obtain ⟨-, d, hd, e⟩ := SD.tks n t B 0 (P, 0, 0, 0, 0) hF ⟨hS, 0, Nat.le_refl _, rfl⟩ (by omega) (by omega)
  exact ⟨d, by omega, e⟩
theorem jd_first {f : Int32} {c d : Int32} {k : Nat} (hk : k < 2 ^ 31) (hd : d = nI k) : jd (f, -1) c d = (c, d) := by
  unfold jd
  refine if_neg fun h => ?_
  have h2 := Int32.le_iff_toInt_le.mp h
  rw [hd, nI_toInt hk, show (-1 : Int32).toInt = -1 by decide] at h2
  omega
theorem jfold_n4 {f : Nat → Int32} : ∀ (k v : Nat) (u : Int32 × Int32), v + k < 2 ^ 31 → ¬ u.1 = -4 → ¬ (jfold f k v u).1 = -4 := by
  intro k
  induction k with
  | zero => intro v u _ h; exact h
  | succ k ih =>
    intro v u hv h
    refine ih (v + 1) _ (by omega) ?_
    unfold jd
    by_cases c : f v ≤ u.2
    · rw [if_pos c]; exact h
    · rw [if_neg c]; exact nI_ne4 (by omega)

theorem Fx_mass {P : Pg} {nw na M w v : Nat} (h : Fx P nw na M) (hw : w < nw) (h1 : 1 ≤ v) (h2 : v < 21) : Fx (pu P (4 + w) (nI v)) nw na M := by
  have h3 := Fx_alter h (k := 1) (v := v) hw (by omega) (by show 1 ≤ v; omega) h2
  rw [show 4 * 1 + w = 4 + w by omega] at h3
  exact h3
theorem c_mass {B N nw na M t n w : Nat} {P : Pg} {what : Int32} (hN1 : 1000 ≤ N) (hn : n ≤ 200) (hw : w < nw) : ∀ (m k v : Nat) (s : SS) (u : Int32 × Int32), Rel B s → Now B s P nw na M t → v + k = 21 → 1 ≤ v → k < m → gi s 0 14 = u.1 → gi s 0 15 = u.2 → ∃ s', F_X0_mass_32 N m (nI w) (nI n) what (nI v) s = some (judgedV what (jfold (fun v => dn (pu P (4 + w) (nI v)) nw na t n) k v u), s') ∧ Same s s' := by
  intro m
  induction m with
  | zero => intro k v s u _ _ _ _ h; omega
  | succ m ih =>
    intro k v s u hI hN hv hv1 hk h14 h15
    have h4 := hN.2.1.1.1
    show ∃ s', B_X0_mass_32 N (F_X0_mass_32 N m) (nI w) (nI n) what (nI v) s = _ ∧ _
    unfold B_X0_mass_32
    cases k with
    | zero =>
      have c1 : (20 : Int32) < nI v := nI_lt (a := 20) (by omega) (by omega)
      refine ⟨s, ?_, Same.refl s⟩
      rw [if_pos c1, c_judged h14 h15, bd_s]
      rfl
    | succ k =>
      have c1 : ¬ (20 : Int32) < nI v := nI_nlt (a := 20) (by omega) (by omega)
      obtain ⟨d0, d4, d8, d12⟩ := dm_w (show w < 4 by omega)
      obtain ⟨τ, s1, e1, e2, e3, -, e5, e6, e7⟩ := c_trial (x := nI v) (j := 4 + w) hN1 hI hN hn d4 (by omega) (Fx_mass hN.2.1.1 hw hv1 (by omega))
      obtain ⟨s2, f1, f2, f3, f4⟩ := c_judges (N := N) (c := nI v) (d := dn (pu P (4 + w) (nI v)) nw na t n) (e6.trans h14) (e7.trans h15)
      obtain ⟨s3, g1, g2⟩ := ih k (v + 1) s2 _ (hI.same (e5.trans f2)) (hN.sm (e5.trans f2)) (by omega) (by omega) (by omega) f3 f4
      refine ⟨s3, ?_, (e5.trans f2).trans g2⟩
      rw [if_neg c1, e1, bd_s, gd_t (inR_nI (by omega) (by omega)), nI_clamp (by omega)]
      simp only [nm]
      rw [c_done e2 e3, bd_s, f1, bd_s, show nI v + 1 = nI (v + 1) from nI_1 v]
      exact g1
theorem Fx_kind {P : Pg} {nw na M w v : Nat} (h : Fx P nw na M) (hw : w < nw) (h1 : 0 ≤ v) (h2 : v < 4) : Fx (pu P (w) (nI v)) nw na M := by
  have h3 := Fx_alter h (k := 0) (v := v) hw (by omega) (by show 0 ≤ v; omega) h2
  rw [show 4 * 0 + w = w by omega] at h3
  exact h3
theorem c_kind {B N nw na M t n w : Nat} {P : Pg} {what : Int32} (hN1 : 1000 ≤ N) (hn : n ≤ 200) (hw : w < nw) : ∀ (m k v : Nat) (s : SS) (u : Int32 × Int32), Rel B s → Now B s P nw na M t → v + k = 4 → 0 ≤ v → k < m → gi s 0 14 = u.1 → gi s 0 15 = u.2 → ∃ s', F_X0_kind_32 N m (nI w) (nI n) what (nI v) s = some (judgedV what (jfold (fun v => dn (pu P (w) (nI v)) nw na t n) k v u), s') ∧ Same s s' := by
  intro m
  induction m with
  | zero => intro k v s u _ _ _ _ h; omega
  | succ m ih =>
    intro k v s u hI hN hv hv1 hk h14 h15
    have h4 := hN.2.1.1.1
    show ∃ s', B_X0_kind_32 N (F_X0_kind_32 N m) (nI w) (nI n) what (nI v) s = _ ∧ _
    unfold B_X0_kind_32
    cases k with
    | zero =>
      have c1 : (4 : Int32) ≤ nI v := nI_le (a := 4) (by omega) (by omega)
      refine ⟨s, ?_, Same.refl s⟩
      rw [if_pos c1, c_judged h14 h15, bd_s]
      rfl
    | succ k =>
      have c1 : ¬ (4 : Int32) ≤ nI v := nI_ge (b := 4) (by omega) (by omega)
      obtain ⟨d0, d4, d8, d12⟩ := dm_w (show w < 4 by omega)
      obtain ⟨τ, s1, e1, e2, e3, -, e5, e6, e7⟩ := c_trial (x := nI v) (j := w) hN1 hI hN hn d0 (by omega) (Fx_kind hN.2.1.1 hw hv1 (by omega))
      obtain ⟨s2, f1, f2, f3, f4⟩ := c_judges (N := N) (c := nI v) (d := dn (pu P (w) (nI v)) nw na t n) (e6.trans h14) (e7.trans h15)
      obtain ⟨s3, g1, g2⟩ := ih k (v + 1) s2 _ (hI.same (e5.trans f2)) (hN.sm (e5.trans f2)) (by omega) (by omega) (by omega) f3 f4
      refine ⟨s3, ?_, (e5.trans f2).trans g2⟩
      rw [if_neg c1, e1, bd_s, gd_t (inR_nI (by omega) (by omega)), nI_clamp (by omega)]
      simp only [nm]
      rw [c_done e2 e3, bd_s, f1, bd_s, show nI v + 1 = nI (v + 1) from nI_1 v]
      exact g1
theorem m_most {B N nw na M t n j top : Nat} {P : Pg} {what : Int32} (hN1 : 1000 ≤ N) (hn : n ≤ 200) (hj : j < 12) (htop : top < 900) : ∀ (m k v : Nat) (s : SS) (u : Int32 × Int32), Now B s P nw na M t → (∃ y, mz 195 s = pu P j y) → v + k = top + 1 → (∀ z, v ≤ z → z ≤ top → Fx (pu P j (nI z)) nw na M) → k < m → ∃ s', F_X8_mostAt_17 N m (nI j) (nI top) (nI n) what u.2 u.1 (nI v) s = some (if what = 0 then (jfold (fun v => dn (pu P j (nI v)) nw na t n) k v u).1 else (jfold (fun v => dn (pu P j (nI v)) nw na t n) k v u).2, s') ∧ Same s s' := by
  intro m
  induction m with
  | zero => intro k v s u _ _ _ _ h; omega
  | succ m ih =>
    intro k v s u hN hz hv hFx hk
    show ∃ s', B_X8_mostAt_17 N (F_X8_mostAt_17 N m) (nI j) (nI top) (nI n) what u.2 u.1 (nI v) s = _ ∧ _
    unfold B_X8_mostAt_17
    cases k with
    | zero =>
      refine ⟨s, ?_, Same.refl s⟩
      rw [if_pos (nI_lt (by omega) (by omega))]
      by_cases c : what = 0
      · rw [if_pos c, if_pos c]; rfl
      · rw [if_neg c, if_neg c]; rfl
    | succ k =>
      obtain ⟨s2, e1, -, e3, e4⟩ := m_trial (x := nI v) hN1 hN hn hj hz (hFx v (by omega) (by omega))
      have i1 : (195 : Int32) + nI j = nI (195 + j) := nI_add 195 j
      rw [if_neg (nI_nlt (by omega) (by omega)), i1, gd_t (r_c (by omega)), nI_clamp (by omega)]
      simp only [nm]
      rw [e1, bd_s]
      have hgo : ∀ u', ∃ s', F_X8_mostAt_17 N m (nI j) (nI top) (nI n) what u'.2 u'.1 (nI (v + 1)) s2 = some (if what = 0 then (jfold (fun v => dn (pu P j (nI v)) nw na t n) k (v + 1) u').1 else (jfold (fun v => dn (pu P j (nI v)) nw na t n) k (v + 1) u').2, s') ∧ Same s2 s' := fun u' => ih k (v + 1) s2 u' (hN.sm e3) ⟨_, e4⟩ (by omega) (fun z h1 h2 => hFx z (by omega) h2) (by omega)
      unfold F_X8_mostAt_60
      simp only [nm, show nI v + 1 = nI (v + 1) from nI_1 v]
      show ∃ s', _ = some (if what = 0 then (jfold (fun v => dn (pu P j (nI v)) nw na t n) k (v + 1) (jd u (nI v) (dn (pu P j (nI v)) nw na t n))).1 else (jfold (fun v => dn (pu P j (nI v)) nw na t n) k (v + 1) (jd u (nI v) (dn (pu P j (nI v)) nw na t n))).2, s') ∧ _
      unfold jd
      by_cases c : dn (pu P j (nI v)) nw na t n ≤ u.2
      · obtain ⟨s', g1, g2⟩ := hgo u
        refine ⟨s', ?_, e3.trans g2⟩
        rw [if_pos c, if_pos c, if_pos c]
        exact g1
      · obtain ⟨s', g1, g2⟩ := hgo (nI v, dn (pu P j (nI v)) nw na t n)
        refine ⟨s', ?_, e3.trans g2⟩
        rw [if_neg c, if_neg c, if_neg c]
        exact g1
theorem m_mostAt {B N nw na M t n j lo top : Nat} {P : Pg} {what : Int32} {s : SS} (hB : B ≤ 1000000) (hN1 : 1000 ≤ N) (hN : Now B s P nw na M t) (hn : n ≤ 200) (hj : j < 12) (hlt : lo ≤ top) (htop : top < 900) (hFx : ∀ z, lo ≤ z → z ≤ top → Fx (pu P j (nI z)) nw na M) : ∃ s', F_X8_mostAt N (nI j) (nI lo) (nI top) (nI n) what s = some (judgedV what (jfold (fun v => dn (pu P j (nI v)) nw na t n) (top + 1 - lo) lo (-4, -1)), s') ∧ Same s s' := by
  have hs1 : Same s (mcp 0 195 39 s) := Same.mcp (by omega)
  have hz : mz 195 (mcp 0 195 39 s) = P := mz_cp.trans hN.1.2
  obtain ⟨s', e1, e2⟩ := m_most (N := N) (n := n) (j := j) (top := top) (what := what) hN1 hn hj htop N (top + 1 - lo) lo (mcp 0 195 39 s) (nI lo, -1) (hN.sm hs1) ⟨P j, by rw [pu_self]; exact hz⟩ (by omega) hFx (by omega)
  refine ⟨s', ?_, hs1.trans e2⟩
  unfold F_X8_mostAt
  rw [show F_X8_copies N 0 195 s = some ((), mcp 0 195 39 s) from m_copies (a := 0) (b := 195) (by omega) (by omega) (by omega) (by omega), bd_s]
  refine Eq.trans e1 ?_
  obtain ⟨k, ek⟩ : ∃ k, top + 1 - lo = k + 1 := ⟨top - lo, by omega⟩
  rw [ek]
  obtain ⟨d, hd, ed⟩ := dn_nn (t := t) (n := n) (hFx lo (Nat.le_refl _) hlt) (hN.2.1.2.2.2.2.2.pu (j := j) (x := nI lo) (Nat.le_refl _) (by omega)) hB hn
  show some (if what = 0 then (jfold (fun v => dn (pu P j (nI v)) nw na t n) k (lo + 1) (jd (nI lo, -1) (nI lo) (dn (pu P j (nI lo)) nw na t n))).1 else (jfold (fun v => dn (pu P j (nI v)) nw na t n) k (lo + 1) (jd (nI lo, -1) (nI lo) (dn (pu P j (nI lo)) nw na t n))).2, s') = some (judgedV what (jfold (fun v => dn (pu P j (nI v)) nw na t n) k (lo + 1) (jd (-4, -1) (nI lo) (dn (pu P j (nI lo)) nw na t n))), s')
  rw [jd_first hd ed, jd_first hd ed]
  unfold judgedV
  rw [if_neg (jfold_n4 k (lo + 1) (nI lo, dn (pu P j (nI lo)) nw na t n) (by omega) (nI_ne4 (by omega)))]
theorem p_mass {N : Nat} (hN9 : 2 ^ 70 ≤ N) : Sp20 Inv N := by
  have hN1 : 1000 ≤ N := Nat.le_trans (by decide) hN9
  intro t σ x1 x2 x3 ht hI
  obtain ⟨P, nw, na, M, t9, hN⟩ := hI.now
  have h4 := hN.2.1.1.1
  refine q_same (A := F_X0_mass N x1 x2 x3) (C := F_X8_mass N x1 x2 x3) hI ?_
  unfold F_X0_mass F_X8_mass
  by_cases h1 : InR x1 0 nw
  · by_cases h2 : InR x2 0 201
    · by_cases h3 : InR x3 0 2
      · obtain ⟨w, -, hw, rfl⟩ := id h1
        obtain ⟨n, -, hn, rfl⟩ := id h2
        obtain ⟨s0, a1, a2, a3, a4⟩ := c_startsJudging (N := N) (m := -1) (s := σ)
        obtain ⟨s1, b1, b2⟩ := c_mass (N := N) (n := n) (w := w) (what := x3) hN1 (by omega) hw N 20 1 s0 (-4, -1) (Rel.same hI a2) (hN.sm a2) rfl (by omega) (by omega) a3 a4
        have hs := a2.trans b2
        have hN2 := hN.sm hs
        obtain ⟨s2, d1, d2⟩ := m_mostAt (N := N) (n := n) (j := 4 + w) (lo := 1) (top := 20) (what := x3) (s := s1) (by omega) hN1 hN2 (by omega) (by omega) (by omega) (by omega) (fun z g1 g2 => Fx_mass hN.2.1.1 hw g1 (by omega))
        refine ⟨judgedV x3 (jfold (fun v => dn (pu P (4 + w) (nI v)) nw na t9 n) 20 1 (-4, -1)), s1, s2, ?_, ?_, hs.trans d2⟩
        · rw [(c_isWheel hN).1 h1, bd_s, if_neg e10, c_isFar.1 h2, bd_s, if_neg e10, c_isPart.1 h3, bd_s, if_neg e10, a1, bd_s]
          exact b1
        · rw [(m_isWheel hN2).1 h1, bd_s, if_neg e10, m_isLong_e, c_isFar.1 h2, bd_s, if_neg e10, m_in_e, i_01.1 h3, bd_s, if_neg e10, (show (4 : Int32) + nI w = nI (4 + w) from nI_add 4 w), show F_X8_mostAt N (nI (4 + w)) 1 20 (nI n) x3 s1 = _ from d1, bd_s]
      · refine ⟨-1, σ, σ, ?_, ?_, Same.refl σ⟩
        · rw [(c_isWheel hN).1 h1, bd_s, if_neg e10, c_isFar.1 h2, bd_s, if_neg e10, c_isPart.2 h3, bd_s, if_pos rfl]
        · rw [(m_isWheel hN).1 h1, bd_s, if_neg e10, m_isLong_e, c_isFar.1 h2, bd_s, if_neg e10, m_in_e, i_01.2 h3, bd_s, if_pos rfl]
    · refine ⟨-1, σ, σ, ?_, ?_, Same.refl σ⟩
      · rw [(c_isWheel hN).1 h1, bd_s, if_neg e10, c_isFar.2 h2, bd_s, if_pos rfl]
      · rw [(m_isWheel hN).1 h1, bd_s, if_neg e10, m_isLong_e, c_isFar.2 h2, bd_s, if_pos rfl]
  · refine ⟨-1, σ, σ, ?_, ?_, Same.refl σ⟩
    · rw [(c_isWheel hN).2 h1, bd_s, if_pos rfl]
    · rw [(m_isWheel hN).2 h1, bd_s, if_pos rfl]
theorem p_kind {N : Nat} (hN9 : 2 ^ 70 ≤ N) : Sp21 Inv N := by
  have hN1 : 1000 ≤ N := Nat.le_trans (by decide) hN9
  intro t σ x1 x2 x3 ht hI
  obtain ⟨P, nw, na, M, t9, hN⟩ := hI.now
  have h4 := hN.2.1.1.1
  refine q_same (A := F_X0_kind N x1 x2 x3) (C := F_X8_kind N x1 x2 x3) hI ?_
  unfold F_X0_kind F_X8_kind
  by_cases h1 : InR x1 0 nw
  · by_cases h2 : InR x2 0 201
    · by_cases h3 : InR x3 0 2
      · obtain ⟨w, -, hw, rfl⟩ := id h1
        obtain ⟨n, -, hn, rfl⟩ := id h2
        obtain ⟨s0, a1, a2, a3, a4⟩ := c_startsJudging (N := N) (m := -1) (s := σ)
        obtain ⟨s1, b1, b2⟩ := c_kind (N := N) (n := n) (w := w) (what := x3) hN1 (by omega) hw N 4 0 s0 (-4, -1) (Rel.same hI a2) (hN.sm a2) rfl (by omega) (by omega) a3 a4
        have hs := a2.trans b2
        have hN2 := hN.sm hs
        obtain ⟨s2, d1, d2⟩ := m_mostAt (N := N) (n := n) (j := w) (lo := 0) (top := 3) (what := x3) (s := s1) (by omega) hN1 hN2 (by omega) (by omega) (by omega) (by omega) (fun z g1 g2 => Fx_kind hN.2.1.1 hw g1 (by omega))
        refine ⟨judgedV x3 (jfold (fun v => dn (pu P (w) (nI v)) nw na t9 n) 4 0 (-4, -1)), s1, s2, ?_, ?_, hs.trans d2⟩
        · rw [(c_isWheel hN).1 h1, bd_s, if_neg e10, c_isFar.1 h2, bd_s, if_neg e10, c_isPart.1 h3, bd_s, if_neg e10, a1, bd_s]
          exact b1
        · rw [(m_isWheel hN2).1 h1, bd_s, if_neg e10, m_isLong_e, c_isFar.1 h2, bd_s, if_neg e10, m_in_e, i_01.1 h3, bd_s, if_neg e10, show F_X8_mostAt N (nI (w)) 0 3 (nI n) x3 s1 = _ from d1, bd_s]
      · refine ⟨-1, σ, σ, ?_, ?_, Same.refl σ⟩
        · rw [(c_isWheel hN).1 h1, bd_s, if_neg e10, c_isFar.1 h2, bd_s, if_neg e10, c_isPart.2 h3, bd_s, if_pos rfl]
        · rw [(m_isWheel hN).1 h1, bd_s, if_neg e10, m_isLong_e, c_isFar.1 h2, bd_s, if_neg e10, m_in_e, i_01.2 h3, bd_s, if_pos rfl]
    · refine ⟨-1, σ, σ, ?_, ?_, Same.refl σ⟩
      · rw [(c_isWheel hN).1 h1, bd_s, if_neg e10, c_isFar.2 h2, bd_s, if_pos rfl]
      · rw [(m_isWheel hN).1 h1, bd_s, if_neg e10, m_isLong_e, c_isFar.2 h2, bd_s, if_pos rfl]
  · refine ⟨-1, σ, σ, ?_, ?_, Same.refl σ⟩
    · rw [(c_isWheel hN).2 h1, bd_s, if_pos rfl]
    · rw [(m_isWheel hN).2 h1, bd_s, if_pos rfl]
theorem Fx_loss {P : Pg} {nw na M w v : Nat} (h : Fx P nw na M) (hw : w < nw) (h2 : v < 10) : Fx (pu P (8 + w) (nI v)) nw na M := by
  have h3 := Fx_alter h (k := 2) (v := v) hw (by omega) (by show 0 ≤ v; omega) h2
  rw [show 4 * 2 + w = 8 + w by omega] at h3
  exact h3
/-- from v - 1 down -/
def bearsV (f : Nat → Int32) : Nat → Int32
  | 0 => -4
  | v + 1 => if f v = 0 then nI v else bearsV f v
theorem nI_m1 (v : Nat) : nI (v + 1) + (-1 : Int32) = nI v := by
  rw [← Int32.sub_eq_add_neg]
  exact nI_pred v
theorem c_bears {B N nw na M t n w : Nat} {P : Pg} (hN1 : 1000 ≤ N) (hn : n ≤ 200) (hw : w < nw) : ∀ (m v : Nat) (z : Int32) (s : SS), Rel B s → Now B s P nw na M t → v ≤ 10 → v < m → z + 1 = nI v → ∃ s', F_X0_bears_20 N m (nI w) (nI n) z s = some (bearsV (fun v => lk (pu P (8 + w) (nI v)) nw na t n) v, s') ∧ Same s s' := by
  intro m
  induction m with
  | zero => intro v z s _ _ _ h; omega
  | succ m ih =>
    intro v z s hI hN hv hm hz
    have h4 := hN.2.1.1.1
    show ∃ s', B_X0_bears_20 N (F_X0_bears_20 N m) (nI w) (nI n) z s = _ ∧ _
    unfold B_X0_bears_20
    cases v with
    | zero =>
      have ez : z = -1 := by
        have h9 : z + 1 + -1 = nI 0 + -1 := by rw [hz]
        rw [Int32.add_assoc] at h9
        exact (Int32.add_zero z).symm.trans h9
      subst ez
      refine ⟨s, ?_, Same.refl s⟩
      rw [if_pos (by decide)]
      rfl
    | succ v =>
      have ez : z = nI v := by
        have h9 : z + 1 + -1 = nI (v + 1) + -1 := by rw [hz]
        rw [Int32.add_assoc, nI_m1] at h9
        exact (Int32.add_zero z).symm.trans h9
      subst ez
      obtain ⟨d0, d4, d8, d12⟩ := dm_w (show w < 4 by omega)
      obtain ⟨τ, s1, e1, e2, -, e4, e5, -, -⟩ := c_trial (x := nI v) (j := 8 + w) hN1 hI hN hn d8 (by omega) (Fx_loss hN.2.1.1 hw (by omega))
      rw [if_neg (nI_pos (by omega)), e1, bd_s, gd_t (inR_nI (by omega) (by omega)), nI_clamp (by omega)]
      simp only [nm]
      rw [e2, bd_s, e4]
      show ∃ s', _ = some (if lk (pu P (8 + w) (nI v)) nw na t n = 0 then nI v else bearsV _ v, s') ∧ _
      by_cases c : lk (pu P (8 + w) (nI v)) nw na t n = 0
      · rw [if_pos c, if_pos c]
        exact ⟨s1, rfl, e5⟩
      · rw [if_neg c, if_neg c]
        obtain ⟨s', g1, g2⟩ := ih v (nI v + -1) s1 (hI.same e5) (hN.sm e5) (by omega) (by omega) (by rw [Int32.add_assoc]; exact Int32.add_zero _)
        exact ⟨s', g1, e5.trans g2⟩
theorem m_bears {B N nw na M t n w : Nat} {P : Pg} (hN1 : 1000 ≤ N) (hn : n ≤ 200) (hw : w < nw) : ∀ (m v : Nat) (z : Int32) (s : SS), Now B s P nw na M t → (∃ y, mz 195 s = pu P (8 + w) y) → v ≤ 10 → v < m → z + 1 = nI v → ∃ s', F_X8_bears_28 N m (nI w) (nI n) z s = some (bearsV (fun v => lk (pu P (8 + w) (nI v)) nw na t n) v, s') ∧ Same s s' := by
  intro m
  induction m with
  | zero => intro v z s _ _ _ h; omega
  | succ m ih =>
    intro v z s hN hy hv hm hz
    have h4 := hN.2.1.1.1
    show ∃ s', B_X8_bears_28 N (F_X8_bears_28 N m) (nI w) (nI n) z s = _ ∧ _
    unfold B_X8_bears_28
    cases v with
    | zero =>
      have ez : z = -1 := by
        have h9 : z + 1 + -1 = nI 0 + -1 := by rw [hz]
        rw [Int32.add_assoc] at h9
        exact (Int32.add_zero z).symm.trans h9
      subst ez
      refine ⟨s, ?_, Same.refl s⟩
      rw [if_pos (by decide)]
      rfl
    | succ v =>
      have ez : z = nI v := by
        have h9 : z + 1 + -1 = nI (v + 1) + -1 := by rw [hz]
        rw [Int32.add_assoc, nI_m1] at h9
        exact (Int32.add_zero z).symm.trans h9
      subst ez
      obtain ⟨s2, e1, e2, e3, e4⟩ := m_trial (x := nI v) (j := 8 + w) hN1 hN hn (by omega) hy (Fx_loss hN.2.1.1 hw (by omega))
      have i1 : (203 : Int32) + nI w = nI (195 + (8 + w)) := (nI_add 203 w).trans (congrArg nI (by omega))
      rw [if_neg (nI_pos (by omega)), i1, gd_t (r_c (by omega)), nI_clamp (by omega)]
      simp only [nm]
      rw [e1, bd_s, e2, bd_s]
      show ∃ s', _ = some (if lk (pu P (8 + w) (nI v)) nw na t n = 0 then nI v else bearsV _ v, s') ∧ _
      by_cases c : lk (pu P (8 + w) (nI v)) nw na t n = 0
      · rw [if_pos c, if_pos c]
        exact ⟨s2, rfl, e3⟩
      · rw [if_neg c, if_neg c]
        obtain ⟨s', g1, g2⟩ := ih v (nI v + -1) s2 (hN.sm e3) ⟨_, e4⟩ (by omega) (by omega) (by rw [Int32.add_assoc]; exact Int32.add_zero _)
        exact ⟨s', g1, e3.trans g2⟩
theorem p_bears {N : Nat} (hN9 : 2 ^ 70 ≤ N) : Sp22 Inv N := by
  have hN1 : 1000 ≤ N := Nat.le_trans (by decide) hN9
  intro t σ x1 x2 ht hI
  obtain ⟨P, nw, na, M, t9, hN⟩ := hI.now
  have h4 := hN.2.1.1.1
  refine q_same (A := F_X0_bears N x1 x2) (C := F_X8_bears N x1 x2) hI ?_
  unfold F_X0_bears F_X8_bears
  by_cases h1 : InR x1 0 nw
  · by_cases h2 : InR x2 0 201
    · obtain ⟨w, -, hw, rfl⟩ := id h1
      obtain ⟨n, -, hn, rfl⟩ := id h2
      obtain ⟨s1, b1, b2⟩ := c_bears (N := N) (n := n) (w := w) hN1 (by omega) hw N 10 9 σ hI hN (by omega) (by omega) rfl
      have hN2 := hN.sm b2
      have hs2 : Same s1 (mcp 0 195 39 s1) := Same.mcp (by omega)
      have hz : mz 195 (mcp 0 195 39 s1) = P := mz_cp.trans hN2.1.2
      obtain ⟨s2, d1, d2⟩ := m_bears (N := N) (n := n) (w := w) hN1 (by omega) hw N 10 9 (mcp 0 195 39 s1) (hN2.sm hs2) ⟨P (8 + w), by rw [pu_self]; exact hz⟩ (by omega) (by omega) rfl
      refine ⟨bearsV (fun v => lk (pu P (8 + w) (nI v)) nw na t9 n) 10, s1, s2, ?_, ?_, b2.trans (hs2.trans d2)⟩
      · rw [(c_isWheel hN).1 h1, bd_s, if_neg e10, c_isFar.1 h2, bd_s, if_neg e10]
        exact b1
      · rw [(m_isWheel hN2).1 h1, bd_s, if_neg e10, m_isLong_e, c_isFar.1 h2, bd_s, if_neg e10, show F_X8_copies N 0 195 s1 = some ((), mcp 0 195 39 s1) from m_copies (a := 0) (b := 195) (by omega) (by omega) (by omega) (by omega), bd_s]
        exact d1
    · refine ⟨-1, σ, σ, ?_, ?_, Same.refl σ⟩
      · rw [(c_isWheel hN).1 h1, bd_s, if_neg e10, c_isFar.2 h2, bd_s, if_pos rfl]
      · rw [(m_isWheel hN).1 h1, bd_s, if_neg e10, m_isLong_e, c_isFar.2 h2, bd_s, if_pos rfl]
  · refine ⟨-1, σ, σ, ?_, ?_, Same.refl σ⟩
    · rw [(c_isWheel hN).2 h1, bd_s, if_pos rfl]
    · rw [(m_isWheel hN).2 h1, bd_s, if_pos rfl]
theorem Fx_p39 {P : Pg} {nw na M : Nat} {x : Int32} (h : Fx P nw na M) : Fx (pu P 39 x) nw na M := by
  obtain ⟨g1, g2, g3, g4, g5, g6, g7⟩ := h
  refine ⟨g1, by rw [pu_ne (by omega)]; exact g2, g3, by rw [pu_ne (by omega)]; exact g4, ⟨g5.1, g5.2.1, by rw [pu_ne (by omega)]; exact g5.2.2⟩, fun u hu => ?_, fun j hj => by rw [pu_ne (by omega)]; exact g7 j hj⟩
  rw [pu_ne (by omega), pu_ne (by omega), pu_ne (by omega)]
  exact g6 u hu
theorem c_omit {B N nw na M t n : Nat} {P : Pg} {what : Int32} (hN1 : 1000 ≤ N) (hn : n ≤ 200) : ∀ (m k v : Nat) (s : SS) (u : Int32 × Int32), Rel B s → Now B s P nw na M t → v + k = na → k < m → gi s 0 14 = u.1 → gi s 0 15 = u.2 → ∃ s', F_X0_omit_23 N m (nI n) what (nI v) s = some (judgedV what (jfold (fun v => dn (pu P 39 (nI v)) nw na t n) k v u), s') ∧ Same s s' := by
  intro m
  induction m with
  | zero => intro k v s u _ _ _ h; omega
  | succ m ih =>
    intro k v s u hI hN hv hk h14 h15
    have h4 := hN.2.1.1.2.2.1
    have ec : gi s (iS 0) 33 = nI na := (hN.2.2.1 33 rfl).trans hN.2.1.1.2.2.2.1
    show ∃ s', B_X0_omit_23 N (F_X0_omit_23 N m) (nI n) what (nI v) s = _ ∧ _
    unfold B_X0_omit_23
    rw [ec]
    cases k with
    | zero =>
      refine ⟨s, ?_, Same.refl s⟩
      rw [if_pos (nI_le (by omega) (by omega)), c_judged h14 h15, bd_s]
      rfl
    | succ k =>
      obtain ⟨τ, s1, e1, e2, e3, -, e5, e6, e7⟩ := c_trial (x := nI v) (j := 39) hN1 hI hN hn rfl (by omega) (Fx_p39 hN.2.1.1)
      obtain ⟨s2, f1, f2, f3, f4⟩ := c_judges (N := N) (c := nI v) (d := dn (pu P 39 (nI v)) nw na t n) (e6.trans h14) (e7.trans h15)
      obtain ⟨s3, g1, g2⟩ := ih k (v + 1) s2 _ (hI.same (e5.trans f2)) (hN.sm (e5.trans f2)) (by omega) (by omega) f3 f4
      refine ⟨s3, ?_, (e5.trans f2).trans g2⟩
      rw [if_neg (nI_ge (by omega) (by omega)), e1, bd_s]
      simp only [nm]
      rw [c_done e2 e3, bd_s, f1, bd_s, show nI v + 1 = nI (v + 1) from nI_1 v]
      exact g1
theorem m_omit {B N nw na M t n : Nat} {P : Pg} {what : Int32} (hN1 : 1000 ≤ N) (hn : n ≤ 200) : ∀ (m k v : Nat) (s : SS) (u : Int32 × Int32), Now B s P nw na M t → v + k = na → k < m → ∃ s', F_X8_omit_33 N m (nI n) what u.2 u.1 (nI v) s = some (judgedV what (jfold (fun v => dn (pu P 39 (nI v)) nw na t n) k v u), s') ∧ Same s s' := by
  intro m
  induction m with
  | zero => intro k v s u _ _ h; omega
  | succ m ih =>
    intro k v s u hN hv hk
    have h4 := hN.2.1.1.2.2.1
    have em : gi s 21 33 = nI na := (hN.2.2.2.1 33 rfl (by omega)).trans hN.2.1.1.2.2.2.1
    have g14 := hN.2.2.2.2.2.2.2.1
    have g15 := hN.2.2.2.2.2.2.2.2
    show ∃ s', B_X8_omit_33 N (F_X8_omit_33 N m) (nI n) what u.2 u.1 (nI v) s = _ ∧ _
    unfold B_X8_omit_33
    rw [gd_t r33, lc33, em]
    cases k with
    | zero =>
      refine ⟨s, ?_, Same.refl s⟩
      rw [if_pos (nI_le (by omega) (by omega))]
      show _ = some (judgedV what u, s)
      unfold judgedV
      by_cases c : u.1 = -4
      · rw [if_pos c, if_pos c, c]
      · rw [if_neg c, if_neg c]
        by_cases d : what = 0
        · rw [if_pos d, if_pos d]
        · rw [if_neg d, if_neg d]
    | succ k =>
      have hz : mz 0 (si s 1 15 (nI v)) = pu P 39 (nI v) := by
        have h33 : mp 0 (si s 1 15 (nI v)) = pu (mp 0 s) 39 (nI v) := by
          funext i
          by_cases c : i = 39
          · subst c
            rw [pu_eq]
            show gi (si s 1 15 (nI v)) 1 15 = nI v
            exact gi_se
          · rw [pu_ne c]
            unfold mp
            by_cases c1 : 41 ≤ i
            · rw [if_pos c1, if_pos c1]
            · rw [if_neg c1, if_neg c1]
              by_cases c2 : i = 40
              · rw [if_pos c2, if_pos c2]
                exact gi_sn (by omega)
              · rw [if_neg c2, if_neg c2]
                by_cases c3 : i = 39
                · rw [if_pos c3, if_pos c3]
                  exact gi_sn (by omega)
                · rw [if_neg c3, if_neg c3, gi_sn (by omega), gi_sn (by omega)]
        unfold mz
        rw [h33, nz_put (by omega) (by omega)]
        exact congrArg (fun z => pu z 39 (nI v)) hN.1.2
      have ht9 := hN.2.1.2.2.1
      have hF' : Fx (pu P 39 (nI v)) nw na M := (Fx_p39 hN.2.1.1)
      have eg := m_go (N := N) (p := 0) (m := n) (σ := si s 1 15 (nI v)) hN1 (by omega) (Or.inl (by omega)) hz hF' ((pu_ne (by omega)).trans hN.2.1.2.1) (by omega)
      have hC0 : Cn (P 37) (P 38) (tks nw na (pu P 39 (nI v), 0, 0, 0, 0) t n) := by
        have h9 := Cn.tks (nw := nw) (na := na) n t _ (Cn.start (pu P 39 (nI v)) 0 0) hF'
        rw [pu_ne (by omega), pu_ne (by omega)] at h9
        exact h9
      have epg := tks_pg (nw := nw) (na := na) n t (pu P 39 (nI v), 0, 0, 0, pu P 39 (nI v) 35 / pu P 39 (nI v) 34) (pu P 39 (nI v), 0, 0, 0, 0) rfl
      have e1 : (tks nw na (pu P 39 (nI v), 0, 0, 0, pu P 39 (nI v) 35 / pu P 39 (nI v) 34) t n).1 37 - gi (si s 1 15 (nI v)) 21 37 = dn (pu P 39 (nI v)) nw na t n := by
        rw [gi_sn (by omega), hN.2.2.2.1 37 rfl (by omega), epg, hC0.1, add_sub_l]
        rfl
      rw [e1] at eg
      generalize tks nw na (pu P 39 (nI v), 0, 0, 0, pu P 39 (nI v) 35 / pu P 39 (nI v) 34) t n = R at eg
      have hs2 : Same s (si (mtw 156 R (mcp 0 156 39 (si s 1 15 (nI v)))) 1 15 (-4)) := by
        refine ⟨fun g i hg => ?_, rfl⟩
        by_cases c : g = 1 ∧ i = 15
        · obtain ⟨rfl, rfl⟩ := c
          exact gi_se.trans g15.symm
        · exact (gi_sn (by omega)).trans ((m_goSame.1 g i hg).trans (gi_sn (by omega)))
      rw [if_neg (nI_ge (by omega) (by omega))]
      simp only [nm]
      rw [show F_X8_ticksGo N 0 (nI n) (si s 1 15 (nI v)) = _ from eg, bd_s]
      generalize si (mtw 156 R (mcp 0 156 39 (si s 1 15 (nI v)))) 1 15 (-4) = s2 at hs2 ⊢
      have hgo : ∀ u', ∃ s', F_X8_omit_33 N m (nI n) what u'.2 u'.1 (nI (v + 1)) s2 = some (judgedV what (jfold (fun v => dn (pu P 39 (nI v)) nw na t n) k (v + 1) u'), s') ∧ Same s2 s' := fun u' => ih k (v + 1) s2 u' (hN.sm hs2) (by omega) (by omega)
      unfold F_X8_omit_78
      simp only [nm, show nI v + 1 = nI (v + 1) from nI_1 v]
      show ∃ s', _ = some (judgedV what (jfold (fun v => dn (pu P 39 (nI v)) nw na t n) k (v + 1) (jd u (nI v) (dn (pu P 39 (nI v)) nw na t n))), s') ∧ _
      unfold jd
      by_cases c : dn (pu P 39 (nI v)) nw na t n ≤ u.2
      · obtain ⟨s', g1, g2⟩ := hgo u
        refine ⟨s', ?_, hs2.trans g2⟩
        rw [if_pos c, if_pos c, if_pos c]
        exact g1
      · obtain ⟨s', g1, g2⟩ := hgo (nI v, dn (pu P 39 (nI v)) nw na t n)
        refine ⟨s', ?_, hs2.trans g2⟩
        rw [if_neg c, if_neg c, if_neg c]
        exact g1
theorem p_omit {N : Nat} (hN9 : 2 ^ 70 ≤ N) : Sp24 Inv N := by
  have hN1 : 1000 ≤ N := Nat.le_trans (by decide) hN9
  intro t σ x1 x2 ht hI
  obtain ⟨P, nw, na, M, t9, hN⟩ := hI.now
  have h4 := hN.2.1.1.2.2.1
  refine q_same (A := F_X0_omit N x1 x2) (C := F_X8_omit N x1 x2) hI ?_
  unfold F_X0_omit F_X8_omit
  by_cases h1 : InR x1 0 201
  · by_cases h2 : InR x2 0 2
    · obtain ⟨n, -, hn, rfl⟩ := id h1
      obtain ⟨s0, a1, a2, a3, a4⟩ := c_startsByNow (N := N) (n := n) (s := σ) hN1 hI hN (by omega)
      obtain ⟨s1, b1, b2⟩ := c_omit (N := N) (n := n) (what := x2) hN1 (by omega) N na 0 s0 (-4, dn P nw na t9 n) (Rel.same hI a2) (hN.sm a2) (by omega) (by omega) a3 a4
      have hs := a2.trans b2
      have hN2 := hN.sm hs
      obtain ⟨R, e1, -⟩ := m_trialP (p := 0) (n := n) hN1 hN2 (by omega) (Or.inl (by omega)) hN2.1.2 hN2.2.1.1 rfl rfl rfl
      have hs2 : Same s1 (mtw 156 R (mcp 0 156 39 s1)) := m_goSame
      obtain ⟨s2, d1, d2⟩ := m_omit (N := N) (n := n) (what := x2) hN1 (by omega) N na 0 (mtw 156 R (mcp 0 156 39 s1)) (-4, dn P nw na t9 n) (hN2.sm hs2) (by omega) (by omega)
      refine ⟨judgedV x2 (jfold (fun v => dn (pu P 39 (nI v)) nw na t9 n) na 0 (-4, dn P nw na t9 n)), s1, s2, ?_, ?_, hs.trans (hs2.trans d2)⟩
      · rw [c_isFar.1 h1, bd_s, if_neg e10, c_isPart.1 h2, bd_s, if_neg e10, a1, bd_s]
        exact b1
      · rw [m_isLong_e, c_isFar.1 h1, bd_s, if_neg e10, m_in_e, i_01.1 h2, bd_s, if_neg e10, show F_X8_ticksGo N 0 (nI n) s1 = _ from e1, bd_s]
        exact d1
    · refine ⟨-1, σ, σ, ?_, ?_, Same.refl σ⟩
      · rw [c_isFar.1 h1, bd_s, if_neg e10, c_isPart.2 h2, bd_s, if_pos rfl]
      · rw [m_isLong_e, c_isFar.1 h1, bd_s, if_neg e10, m_in_e, i_01.2 h2, bd_s, if_pos rfl]
  · refine ⟨-1, σ, σ, ?_, ?_, Same.refl σ⟩
    · rw [c_isFar.2 h1, bd_s, if_pos rfl]
    · rw [m_isLong_e, c_isFar.2 h1, bd_s, if_pos rfl]
theorem Fx_p40 {P : Pg} {nw na M : Nat} {x : Int32} (h : Fx P nw na M) : Fx (pu P 40 x) nw na M := by
  obtain ⟨g1, g2, g3, g4, g5, g6, g7⟩ := h
  refine ⟨g1, by rw [pu_ne (by omega)]; exact g2, g3, by rw [pu_ne (by omega)]; exact g4, ⟨g5.1, g5.2.1, by rw [pu_ne (by omega)]; exact g5.2.2⟩, fun u hu => ?_, fun j hj => by rw [pu_ne (by omega)]; exact g7 j hj⟩
  rw [pu_ne (by omega), pu_ne (by omega), pu_ne (by omega)]
  exact g6 u hu
theorem c_off {B N nw na M t n : Nat} {P : Pg} {what : Int32} (hN1 : 1000 ≤ N) (hn : n ≤ 200) : ∀ (m k v : Nat) (s : SS) (u : Int32 × Int32), Rel B s → Now B s P nw na M t → v + k = nw → k < m → gi s 0 14 = u.1 → gi s 0 15 = u.2 → ∃ s', F_X0_off_23 N m (nI n) what (nI v) s = some (judgedV what (jfold (fun v => dn (pu P 40 (nI v)) nw na t n) k v u), s') ∧ Same s s' := by
  intro m
  induction m with
  | zero => intro k v s u _ _ _ h; omega
  | succ m ih =>
    intro k v s u hI hN hv hk h14 h15
    have h4 := hN.2.1.1.1
    have ec : gi s (iS 0) 16 = nI nw := (hN.2.2.1 16 rfl).trans hN.2.1.1.2.1
    show ∃ s', B_X0_off_23 N (F_X0_off_23 N m) (nI n) what (nI v) s = _ ∧ _
    unfold B_X0_off_23
    rw [ec]
    cases k with
    | zero =>
      refine ⟨s, ?_, Same.refl s⟩
      rw [if_pos (nI_le (by omega) (by omega)), c_judged h14 h15, bd_s]
      rfl
    | succ k =>
      obtain ⟨τ, s1, e1, e2, e3, -, e5, e6, e7⟩ := c_trial (x := nI v) (j := 40) hN1 hI hN hn rfl (by omega) (Fx_p40 hN.2.1.1)
      obtain ⟨s2, f1, f2, f3, f4⟩ := c_judges (N := N) (c := nI v) (d := dn (pu P 40 (nI v)) nw na t n) (e6.trans h14) (e7.trans h15)
      obtain ⟨s3, g1, g2⟩ := ih k (v + 1) s2 _ (hI.same (e5.trans f2)) (hN.sm (e5.trans f2)) (by omega) (by omega) f3 f4
      refine ⟨s3, ?_, (e5.trans f2).trans g2⟩
      rw [if_neg (nI_ge (by omega) (by omega)), e1, bd_s]
      simp only [nm]
      rw [c_done e2 e3, bd_s, f1, bd_s, show nI v + 1 = nI (v + 1) from nI_1 v]
      exact g1
theorem m_off {B N nw na M t n : Nat} {P : Pg} {what : Int32} (hN1 : 1000 ≤ N) (hn : n ≤ 200) : ∀ (m k v : Nat) (s : SS) (u : Int32 × Int32), Now B s P nw na M t → v + k = nw → k < m → ∃ s', F_X8_off_33 N m (nI n) what u.2 u.1 (nI v) s = some (judgedV what (jfold (fun v => dn (pu P 40 (nI v)) nw na t n) k v u), s') ∧ Same s s' := by
  intro m
  induction m with
  | zero => intro k v s u _ _ h; omega
  | succ m ih =>
    intro k v s u hN hv hk
    have h4 := hN.2.1.1.1
    have em : gi s 21 16 = nI nw := (hN.2.2.2.1 16 rfl (by omega)).trans hN.2.1.1.2.1
    have g14 := hN.2.2.2.2.2.2.2.1
    have g15 := hN.2.2.2.2.2.2.2.2
    show ∃ s', B_X8_off_33 N (F_X8_off_33 N m) (nI n) what u.2 u.1 (nI v) s = _ ∧ _
    unfold B_X8_off_33
    rw [gd_t r16, lc16, em]
    cases k with
    | zero =>
      refine ⟨s, ?_, Same.refl s⟩
      rw [if_pos (nI_le (by omega) (by omega))]
      show _ = some (judgedV what u, s)
      unfold judgedV
      by_cases c : u.1 = -4
      · rw [if_pos c, if_pos c, c]
      · rw [if_neg c, if_neg c]
        by_cases d : what = 0
        · rw [if_pos d, if_pos d]
        · rw [if_neg d, if_neg d]
    | succ k =>
      have hz : mz 0 (si s 1 14 (nI v)) = pu P 40 (nI v) := by
        have h33 : mp 0 (si s 1 14 (nI v)) = pu (mp 0 s) 40 (nI v) := by
          funext i
          by_cases c : i = 40
          · subst c
            rw [pu_eq]
            show gi (si s 1 14 (nI v)) 1 14 = nI v
            exact gi_se
          · rw [pu_ne c]
            unfold mp
            by_cases c1 : 41 ≤ i
            · rw [if_pos c1, if_pos c1]
            · rw [if_neg c1, if_neg c1]
              by_cases c2 : i = 40
              · rw [if_pos c2, if_pos c2]
                exact gi_sn (by omega)
              · rw [if_neg c2, if_neg c2]
                by_cases c3 : i = 39
                · rw [if_pos c3, if_pos c3]
                  exact gi_sn (by omega)
                · rw [if_neg c3, if_neg c3, gi_sn (by omega), gi_sn (by omega)]
        unfold mz
        rw [h33, nz_put (by omega) (by omega)]
        exact congrArg (fun z => pu z 40 (nI v)) hN.1.2
      have ht9 := hN.2.1.2.2.1
      have hF' : Fx (pu P 40 (nI v)) nw na M := (Fx_p40 hN.2.1.1)
      have eg := m_go (N := N) (p := 0) (m := n) (σ := si s 1 14 (nI v)) hN1 (by omega) (Or.inl (by omega)) hz hF' ((pu_ne (by omega)).trans hN.2.1.2.1) (by omega)
      have hC0 : Cn (P 37) (P 38) (tks nw na (pu P 40 (nI v), 0, 0, 0, 0) t n) := by
        have h9 := Cn.tks (nw := nw) (na := na) n t _ (Cn.start (pu P 40 (nI v)) 0 0) hF'
        rw [pu_ne (by omega), pu_ne (by omega)] at h9
        exact h9
      have epg := tks_pg (nw := nw) (na := na) n t (pu P 40 (nI v), 0, 0, 0, pu P 40 (nI v) 35 / pu P 40 (nI v) 34) (pu P 40 (nI v), 0, 0, 0, 0) rfl
      have e1 : (tks nw na (pu P 40 (nI v), 0, 0, 0, pu P 40 (nI v) 35 / pu P 40 (nI v) 34) t n).1 37 - gi (si s 1 14 (nI v)) 21 37 = dn (pu P 40 (nI v)) nw na t n := by
        rw [gi_sn (by omega), hN.2.2.2.1 37 rfl (by omega), epg, hC0.1, add_sub_l]
        rfl
      rw [e1] at eg
      generalize tks nw na (pu P 40 (nI v), 0, 0, 0, pu P 40 (nI v) 35 / pu P 40 (nI v) 34) t n = R at eg
      have hs2 : Same s (si (mtw 156 R (mcp 0 156 39 (si s 1 14 (nI v)))) 1 14 (-4)) := by
        refine ⟨fun g i hg => ?_, rfl⟩
        by_cases c : g = 1 ∧ i = 14
        · obtain ⟨rfl, rfl⟩ := c
          exact gi_se.trans g14.symm
        · exact (gi_sn (by omega)).trans ((m_goSame.1 g i hg).trans (gi_sn (by omega)))
      rw [if_neg (nI_ge (by omega) (by omega))]
      simp only [nm]
      rw [show F_X8_ticksGo N 0 (nI n) (si s 1 14 (nI v)) = _ from eg, bd_s]
      generalize si (mtw 156 R (mcp 0 156 39 (si s 1 14 (nI v)))) 1 14 (-4) = s2 at hs2 ⊢
      have hgo : ∀ u', ∃ s', F_X8_off_33 N m (nI n) what u'.2 u'.1 (nI (v + 1)) s2 = some (judgedV what (jfold (fun v => dn (pu P 40 (nI v)) nw na t n) k (v + 1) u'), s') ∧ Same s2 s' := fun u' => ih k (v + 1) s2 u' (hN.sm hs2) (by omega) (by omega)
      unfold F_X8_off_78
      simp only [nm, show nI v + 1 = nI (v + 1) from nI_1 v]
      show ∃ s', _ = some (judgedV what (jfold (fun v => dn (pu P 40 (nI v)) nw na t n) k (v + 1) (jd u (nI v) (dn (pu P 40 (nI v)) nw na t n))), s') ∧ _
      unfold jd
      by_cases c : dn (pu P 40 (nI v)) nw na t n ≤ u.2
      · obtain ⟨s', g1, g2⟩ := hgo u
        refine ⟨s', ?_, hs2.trans g2⟩
        rw [if_pos c, if_pos c, if_pos c]
        exact g1
      · obtain ⟨s', g1, g2⟩ := hgo (nI v, dn (pu P 40 (nI v)) nw na t n)
        refine ⟨s', ?_, hs2.trans g2⟩
        rw [if_neg c, if_neg c, if_neg c]
        exact g1
theorem p_off {N : Nat} (hN9 : 2 ^ 70 ≤ N) : Sp25 Inv N := by
  have hN1 : 1000 ≤ N := Nat.le_trans (by decide) hN9
  intro t σ x1 x2 ht hI
  obtain ⟨P, nw, na, M, t9, hN⟩ := hI.now
  have h4 := hN.2.1.1.1
  refine q_same (A := F_X0_off N x1 x2) (C := F_X8_off N x1 x2) hI ?_
  unfold F_X0_off F_X8_off
  by_cases h1 : InR x1 0 201
  · by_cases h2 : InR x2 0 2
    · obtain ⟨n, -, hn, rfl⟩ := id h1
      obtain ⟨s0, a1, a2, a3, a4⟩ := c_startsByNow (N := N) (n := n) (s := σ) hN1 hI hN (by omega)
      obtain ⟨s1, b1, b2⟩ := c_off (N := N) (n := n) (what := x2) hN1 (by omega) N nw 0 s0 (-4, dn P nw na t9 n) (Rel.same hI a2) (hN.sm a2) (by omega) (by omega) a3 a4
      have hs := a2.trans b2
      have hN2 := hN.sm hs
      obtain ⟨R, e1, -⟩ := m_trialP (p := 0) (n := n) hN1 hN2 (by omega) (Or.inl (by omega)) hN2.1.2 hN2.2.1.1 rfl rfl rfl
      have hs2 : Same s1 (mtw 156 R (mcp 0 156 39 s1)) := m_goSame
      obtain ⟨s2, d1, d2⟩ := m_off (N := N) (n := n) (what := x2) hN1 (by omega) N nw 0 (mtw 156 R (mcp 0 156 39 s1)) (-4, dn P nw na t9 n) (hN2.sm hs2) (by omega) (by omega)
      refine ⟨judgedV x2 (jfold (fun v => dn (pu P 40 (nI v)) nw na t9 n) nw 0 (-4, dn P nw na t9 n)), s1, s2, ?_, ?_, hs.trans (hs2.trans d2)⟩
      · rw [c_isFar.1 h1, bd_s, if_neg e10, c_isPart.1 h2, bd_s, if_neg e10, a1, bd_s]
        exact b1
      · rw [m_isLong_e, c_isFar.1 h1, bd_s, if_neg e10, m_in_e, i_01.1 h2, bd_s, if_neg e10, show F_X8_ticksGo N 0 (nI n) s1 = _ from e1, bd_s]
        exact d1
    · refine ⟨-1, σ, σ, ?_, ?_, Same.refl σ⟩
      · rw [c_isFar.1 h1, bd_s, if_neg e10, c_isPart.2 h2, bd_s, if_pos rfl]
      · rw [m_isLong_e, c_isFar.1 h1, bd_s, if_neg e10, m_in_e, i_01.2 h2, bd_s, if_pos rfl]
  · refine ⟨-1, σ, σ, ?_, ?_, Same.refl σ⟩
    · rw [c_isFar.2 h1, bd_s, if_pos rfl]
    · rw [m_isLong_e, c_isFar.2 h1, bd_s, if_pos rfl]
