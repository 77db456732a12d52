/-! THE PLAIN LAW: ticks, turn -/
set_option maxRecDepth 100000
theorem ctw_g {k g i : Nat} {T : TT} {σ : SS} (h : g ≠ iS k) (h0 : g ≠ 0) : gi (ctw k T σ) g i = gi σ g i := by
  show (if g = iS k then _ else if g = 0 then _ else σ.1 g i) = _
  rw [if_neg h, if_neg h0]
  rfl
theorem ctw_0 {k i : Nat} {T : TT} {σ : SS} (h : i < 7 ∨ 10 < i) : gi (ctw k T σ) 0 i = gi σ 0 i := by
  show (if (0 : Nat) = iS k then _ else if (0 : Nat) = 0 then (if i = 7 then _ else if i = 8 then _ else if i = 9 then _ else if i = 10 then _ else σ.1 0 i) else σ.1 0 i) = _
  rw [if_neg (iS_0 k), if_pos rfl, if_neg (by omega), if_neg (by omega), if_neg (by omega), if_neg (by omega)]
  rfl
theorem mtw_g {p g i : Nat} {T : TT} {σ : SS} (h : g ≠ 21) (h0 : g ≠ 1) : gi (mtw p T σ) g i = gi σ g i := by
  show (if g = 21 then _ else if g = 1 then _ else σ.1 g i) = _
  rw [if_neg h, if_neg h0]
  rfl
theorem mtw_21 {p i : Nat} {T : TT} {σ : SS} (h : i < p ∨ p + 39 ≤ i) : gi (mtw p T σ) 21 i = gi σ 21 i := by
  show (if (21 : Nat) = 21 then (if p ≤ i ∧ dq (i - p) = true then (if i = p + 34 then T.1 34 - 5 else T.1 (i - p)) else σ.1 21 i) else σ.1 21 i) = σ.1 21 i
  rw [if_pos rfl, if_neg]
  rintro ⟨h1, h2⟩
  unfold dq at h2
  simp at h2
  omega
theorem mtw_1 {p i : Nat} {T : TT} {σ : SS} (h : i ≠ 16) (h2 : i ≠ 17) : gi (mtw p T σ) 1 i = gi σ 1 i := m_g1 h h2
theorem tks_pg {nw na : Nat} : ∀ (n t : Nat) (T T' : TT), T.1 = T'.1 → (tks nw na T t n).1 = (tks nw na T' t n).1 := by
  intro n
  induction n with
  | zero => intro t T T' h; exact h
  | succ n ih => intro t T T' h; exact ih (t + 1) _ _ (tick_pg h)
theorem now_T {B B' nw na M t t' : Nat} {σ : SS} {P : Pg} {T T' : TT} (hI : Rel B σ) (hB : B ≤ B') (hN : Now B σ P nw na M t) (hT : ∀ i, ¬ tw i → T.1 i = P i) (e : T'.1 = T.1) (h36 : T.1 36 = nI t') (ht' : t' ≤ 9999) (hS : Sw B' T.1) : Rel B' (mtw 0 T' (ctw 0 T σ)) := by
  obtain ⟨⟨z0, y0⟩, ⟨hF, q2, q3, q4, q5, q6⟩, -⟩ := id hN
  have ec : cz 0 (mtw 0 T' (ctw 0 T σ)) = T.1 := by
    refine Eq.trans (cz_congr (σ := ctw 0 T σ) (k := 0) (fun i _ => mtw_g (by unfold iS; omega) (by unfold iS; omega)) (fun i _ => mtw_g (by unfold iAA; omega) (by unfold iAA; omega))) ?_
    exact cz_ctw (na := na) (P := T.1) (C := T.2) (fun i hi => by rw [z0]; exact hT i hi)
  have em : mz 0 (mtw 0 T' (ctw 0 T σ)) = T.1 := by
    refine Eq.trans (mz_mtw (P := T'.1) (C := T'.2) (fun i hi => ?_)) e
    rw [e, hT i hi, ← y0]
    exact (congrFun (mz_congr (fun i _ => ctw_g (by unfold iS; omega) (by omega)) (ctw_g (by unfold iS; omega) (by omega)) (ctw_g (by unfold iS; omega) (by omega))) i).symm
  have ag : Ag XP σ (mtw 0 T' (ctw 0 T σ)) := fun g i h1 h2 => by
    unfold hid at h1
    unfold XP at h2
    have hg : gi (mtw 0 T' (ctw 0 T σ)) g i = gi (ctw 0 T σ) g i := by
      by_cases g21 : g = 21
      · subst g21; exact mtw_21 (by omega)
      · by_cases g1 : g = 1
        · subst g1; exact mtw_1 (by omega) (by omega)
        · exact mtw_g g21 g1
    rw [hg]
    by_cases g0 : g = 0
    · subst g0; exact ctw_0 (by omega)
    · exact ctw_g (by unfold iS; omega) g0
  refine Rel.exP hI hB ag rfl (hI.P.now hB ag ⟨ec.trans em.symm, ?_⟩ (hI.2.2.1.1.sub fun i => (mtw_g (by omega) (by omega)).trans (ctw_g (by unfold iS; omega) (by omega))))
  rw [ec]
  exact ⟨nw, na, M, t', hF.same hT, h36, ht', (hT 39 (by unfold tw; omega)).trans q4, (hT 40 (by unfold tw; omega)).trans q5, hS⟩
theorem m_ticks0 {N nw na M m : Nat} {x2 : Int32} {σ : SS} (hN : 100 ≤ N) (hm : m < 2 ^ 30) : ∀ (n j t : Nat) (T : TT), Fx T.1 nw na M → T.1 36 = nI t → t < 2 ^ 30 → t + (m - j) < 2 ^ 30 → gi σ 1 14 = T.1 40 → gi σ 1 15 = T.1 39 → (∀ i, i < na → gi σ 21 (0 + (17 + i)) = T.1 (17 + i)) → j ≤ m → m - j < n → F_X8_ticks_42 N n (nI m) x2 (nI j) (mtw 0 T σ) = some ((tks nw na T t (m - j)).1 37 - x2, mtw 0 (tks nw na T t (m - j)) σ) := by
  intro n
  induction n with
  | zero => intro j t T _ _ _ _ _ _ _ _ h; omega
  | succ n ih =>
    intro j t T hF ht ht2 ht3 ho hm9 hA hj hn
    show B_X8_ticks_42 N (F_X8_ticks_42 N n) (nI m) x2 (nI j) (mtw 0 T σ) = _
    unfold B_X8_ticks_42
    by_cases c1 : j = m
    · subst c1
      rw [if_pos (nI_le (Nat.le_refl _) (by omega)), Nat.sub_self, gd_t r37, lc37, show (37 : Nat) = 0 + 37 from rfl, m_g rfl (by decide)]
      rfl
    · have hlt : j < m := by omega
      have ht9 := m_tick (N := N) (p := 0) (σ := σ) (fails := false) hN (by decide) hF ht (by omega) ho hm9 hA
      rw [if_neg (nI_ge hlt (by omega)), show (0 : Int32) = b2i false from rfl]
      rw [show F_X8_tickOn N (b2i false) (b2i false) (mtw 0 T σ) = _ from ht9, bd_s]
      have e : nI j + (1 : Int32) = nI (j + 1) := nI_1 j
      simp only [nm, e]
      have e2 : m - j = (m - (j + 1)) + 1 := by omega
      rw [e2]
      exact ih (j + 1) (t + 1) (tickT T nw na t false) hF.tick (by rw [tickT_36 hF, ht]; exact nI_1 t) (by omega) (by omega) (by rw [tickT_ne hF (by unfold tw; omega)]; exact ho) (by rw [tickT_ne hF (by unfold tw; omega)]; exact hm9) (fun i hi => by rw [hA i hi, tickT_ne hF (by have := hF.2.2.1; unfold tw; omega)]) hlt (by omega)
theorem i_100 {N : Nat} {x : Int32} {σ : SS} : (InR x 0 101 → F_X0_in N x.toInt64 0 100 σ = some (1, σ)) ∧ (¬ InR x 0 101 → F_X0_in N x.toInt64 0 100 σ = some (0, σ)) := ⟨fun h => in_1 (a := 0) (b := 101) (by decide) (by decide) (by decide) h, fun h => in_0 (a := 0) (b := 101) (by decide) (by decide) (by decide) h⟩
theorem Cn.start (P : Pg) (o f : Int32) : Cn (P 37) (P 38) (P, 0, 0, o, f) := ⟨(Int32.add_zero _).symm, (Int32.add_zero _).symm⟩
theorem add_sub_l {a b : Int32} : a + b - a = b := by rw [Int32.add_comm]; exact Int32.add_sub_cancel _ _
theorem p_ticks {N : Nat} (hN9 : 2 ^ 70 ≤ N) : Sp15 Inv N := by
  have hN1 : 1000 ≤ N := Nat.le_trans (by decide) hN9
  intro t σ x1 ht hI
  obtain ⟨P, nw, na, M, t9, hN⟩ := hI.now
  obtain ⟨⟨z0, y0⟩, ⟨hF, q2, q3, q4, q5, q6⟩, hc, hm, h34, hcA, hmA, g14, g15⟩ := id hN
  unfold F_X0_ticks F_X8_ticks
  by_cases h : InR x1 0 101
  · obtain ⟨n, -, hn, rfl⟩ := id h
    have c36 : gi σ (iS 0) 36 = nI t9 := (hc 36 rfl).trans q2
    have m36 : gi σ 21 36 = nI t9 := (hm 36 rfl (by decide)).trans q2
    by_cases c : t9 + n ≤ 9999
    · have hle : nI t9 + nI n ≤ (9999 : Int32) := by rw [nI_add]; exact nI_le (b := 9999) c (by omega)
      generalize hR : tks nw na (P, 0, 0, 0, 0) t9 n = R
      have hs : ctw 0 (P, gi σ 0 7, gi σ 0 8, gi σ 0 9, gi σ 0 10) σ = σ := by rw [← z0]; exact ctw_self
      have eg : F_X0_ticksGo N 0 (nI n) σ = some ((), ctw 0 R σ) := by
        have h1 := c_ticksGo (N := N) (k := 0) (C := (gi σ 0 7, gi σ 0 8, gi σ 0 9, gi σ 0 10)) (σ := σ) hN1 (show n ≤ 900 by omega) hF q2 (by omega) hcA
        rw [hs, hR] at h1
        exact h1
      have hms : ∀ (d l : Int32) (τ : SS), mz 0 τ = P → mtw 0 (P, d, l, gi τ 1 16, gi τ 1 17) τ = τ := fun d l τ h => by rw [← h]; exact mtw_self
      have ym : mz 0 (ctw 0 R σ) = P := Eq.trans (mz_congr (fun i _ => ctw_g (by unfold iS; omega) (by omega)) (ctw_g (by unfold iS; omega) (by omega)) (ctw_g (by unfold iS; omega) (by omega))) y0
      have ga : ∀ g i, g ≠ 40 → g ≠ 0 → gi (ctw 0 R σ) g i = gi σ g i := fun g i h1 h2 => ctw_g h1 h2
      have em := m_ticks0 (N := N) (nw := nw) (na := na) (M := M) (m := n) (x2 := P 37) (σ := ctw 0 R σ) (by omega) (by omega) N 0 t9 (P, 0, 0, gi (ctw 0 R σ) 1 16, gi (ctw 0 R σ) 1 17) hF q2 (by omega) (by omega) (by rw [ga 1 14 (by omega) (by omega), g14]; exact q5.symm) (by rw [ga 1 15 (by omega) (by omega), g15]; exact q4.symm) (fun i hi => by rw [Nat.zero_add, ga _ _ (by omega) (by omega)]; exact hmA i hi) (Nat.zero_le _) (by omega)
      rw [hms 0 0 _ ym, Nat.sub_zero] at em
      generalize hR' : tks nw na (P, 0, 0, gi (ctw 0 R σ) 1 16, gi (ctw 0 R σ) 1 17) t9 n = R' at em
      have epg : R'.1 = R.1 := by rw [← hR', ← hR]; exact tks_pg n t9 _ _ rfl
      have hCn : Cn (P 37) (P 38) R := by rw [← hR]; exact Cn.tks n t9 _ (Cn.start P 0 0) hF
      have hSD : SD (10000 * t + 99 * n) (0 + 99 * n) R := by rw [← hR]; exact SD.tks n t9 _ _ _ hF ⟨q6, 0, Nat.le_refl _, rfl⟩ (by omega) (by omega)
      refine ⟨R.2.1, ctw 0 R σ, mtw 0 R' (ctw 0 R σ), ?_, ?_, ?_⟩
      · rw [i_100.1 h, bd_s, if_neg e10, c36, if_pos hle, eg, bd_s, c_g7]
      · rw [m_in_e, i_100.1 h, bd_s, if_neg e10, gd_t r36, lc36, ga 21 36 (by omega) (by omega), m36, if_pos hle, gd_t r37, lc37, ga 21 37 (by omega) (by omega), hm 37 rfl (by decide)]
        simp only [nm]
        refine em.trans ?_
        rw [epg, hCn.1, add_sub_l]
      · refine now_T (t' := t9 + n) hI (by omega) hN (fun i hi => ?_) epg ?_ c (hSD.1.mono (by omega))
        · rw [← hR]; exact tks_ne hi n t9 _ hF
        · rw [← hR]; exact tks_36 n t9 _ hF q2
    · have hle : ¬ nI t9 + nI n ≤ (9999 : Int32) := by rw [nI_add]; exact nI_ge (b := t9 + n) (a := 9999) (by omega) (by omega)
      refine ⟨-3, σ, σ, ?_, ?_, hI.up⟩
      · rw [i_100.1 h, bd_s, if_neg e10, c36, if_neg hle]
      · rw [m_in_e, i_100.1 h, bd_s, if_neg e10, gd_t r36, lc36, m36, if_neg hle]
  · refine ⟨-1, σ, σ, ?_, ?_, hI.up⟩
    · rw [i_100.2 h, bd_s, if_pos rfl]
    · rw [m_in_e, i_100.2 h, bd_s, if_pos rfl]
theorem turn_go {N t a nw na M t9 : Nat} {σ : SS} {P : Pg} (hI : Rel (10000 * t) σ) (ht : t < 64) (hN : Now (10000 * t) σ P nw na M t9) (ha : a ≤ 203) : ∃ r σ1 σ2, F_X0_turn_31 N (nI a) σ = some (r, σ1) ∧ F_X8_turn_36 N (nI a) σ1 = some (r, σ2) ∧ (gi σ1 21 16 = gi σ 21 16) ∧ Rel (10000 * (t + 1)) σ2 := by
  obtain ⟨⟨z0, y0⟩, ⟨hF, q2, q3, q4, q5, q6⟩, hc, hm, h34, hcA, hmA, g14, g15⟩ := id hN
  generalize hR : actP (P, gi σ 0 7, gi σ 0 8, gi σ 0 9, gi σ 0 10) a false = R
  have hs : ctw 0 (P, gi σ 0 7, gi σ 0 8, gi σ 0 9, gi σ 0 10) σ = σ := by rw [← z0]; exact ctw_self
  have ec : F_X0_acts N 0 (nI a) 0 σ = some ((), ctw 0 R σ) := by
    have h1 := c_acts (N := N) (k := 0) (T := (P, gi σ 0 7, gi σ 0 8, gi σ 0 9, gi σ 0 10)) (σ := σ) (fails := false) hF ha
    rw [hs, hR] at h1
    exact h1
  have ga : ∀ g i, g ≠ 40 → g ≠ 0 → gi (ctw 0 R σ) g i = gi σ g i := fun g i h1 h2 => ctw_g h1 h2
  have ym : mz 0 (ctw 0 R σ) = P := Eq.trans (mz_congr (fun i _ => ctw_g (by unfold iS; omega) (by omega)) (ctw_g (by unfold iS; omega) (by omega)) (ctw_g (by unfold iS; omega) (by omega))) y0
  have hms : mtw 0 (P, 0, 0, gi (ctw 0 R σ) 1 16, gi (ctw 0 R σ) 1 17) (ctw 0 R σ) = ctw 0 R σ := by
    have h1 := mtw_self (p := 0) (d := 0) (l := 0) (σ := ctw 0 R σ)
    rw [ym] at h1
    exact h1
  have em := m_acts (N := N) (p := 0) (T := (P, 0, 0, gi (ctw 0 R σ) 1 16, gi (ctw 0 R σ) 1 17)) (σ := ctw 0 R σ) (fails := false) (by omega) hF (by rw [ga 1 14 (by omega) (by omega), g14]; exact q5.symm) ha
  rw [hms] at em
  generalize hR' : actP (P, 0, 0, gi (ctw 0 R σ) 1 16, gi (ctw 0 R σ) 1 17) a false = R' at em
  have epg : R'.1 = R.1 := by rw [← hR', ← hR]; exact act_pg rfl
  refine ⟨R.1 35, ctw 0 R σ, mtw 0 R' (ctw 0 R σ), ?_, ?_, ga 21 16 (by omega) (by omega), ?_⟩
  · unfold F_X0_turn_31
    rw [ec, bd_s, c_gS rfl]
  · unfold F_X8_turn_36
    rw [show F_X8_actOn N 0 (nI a) 0 (ctw 0 R σ) = _ from em, bd_s, gd_t r35, lc35, show (35 : Nat) = 0 + 35 from rfl, m_g rfl (by decide), epg]
  · refine now_T (t' := t9) hI (by omega) hN (fun i hi => ?_) epg ?_ q3 ?_
    · rw [← hR]; exact act_ne ha (Or.inl hi)
    · rw [← hR]; exact (act_ne ha (Or.inr rfl)).trans q2
    · have hSD : SD (10000 * t + 99) ((2 ^ 31 - 1 - 99) + 99) (actP (P, 0, gi σ 0 8, gi σ 0 9, gi σ 0 10) a false) := SD.act hF ⟨q6, 0, by omega, rfl⟩ (by omega) (by omega) ha
      have e3 : (actP (P, 0, gi σ 0 8, gi σ 0 9, gi σ 0 10) a false).1 = R.1 := by rw [← hR]; exact act_pg rfl
      have h9 := hSD.1
      rw [e3] at h9
      exact h9.mono (by omega)
theorem p_turn {N : Nat} : Sp14 Inv N := by
  intro t σ x1 ht hI
  obtain ⟨P, nw, na, M, t9, hN⟩ := hI.now
  have hw4 := hN.2.1.1.1
  have hm16 : gi σ 21 16 = nI nw := (hN.2.2.2.1 16 rfl (by decide)).trans hN.2.1.1.2.1
  unfold F_X0_turn F_X8_turn
  by_cases h : InR x1 0 204
  · obtain ⟨a, -, ha, rfl⟩ := id h
    obtain ⟨r, σ1, σ2, e1, e2, e3, e4⟩ := turn_go (N := N) hI ht hN (show a ≤ 203 by omega)
    by_cases c : a < 200
    · have hl : nI a < (200 : Int32) := nI_lt (b := 200) c (by omega)
      refine ⟨r, σ1, σ2, ?_, ?_, e4⟩
      · rw [c_isTold.1 h, bd_s, if_neg e10, if_pos hl, e1]
      · rw [m_in_e, i_203.1 h, bd_s, if_neg e10, if_pos hl, e2]
    · have hl : ¬ nI a < (200 : Int32) := nI_nlt (b := 200) (by omega) (by omega)
      have e : nI a - (200 : Int32) = nI (a - 200) := nI_sub (b := 200) (by omega)
      by_cases d : InR (nI (a - 200)) 0 nw
      · have hw1 : F_X8_isWheel N (nI (a - 200)) σ1 = some (1, σ1) := by
          have hh := lg_m1 (n := nw) (by omega)
          unfold F_X8_isWheel
          rw [gd_t r16, lc16, e3, hm16, m_in_e, in_1 (a := 0) (b := nw) (by decide) hh (by omega) d, bd_s, gd_t (Or.inr rfl)]
        refine ⟨r, σ1, σ2, ?_, ?_, e4⟩
        · rw [c_isTold.1 h, bd_s, if_neg e10, if_neg hl, e, (c_isWheel hN).1 d, bd_s, if_neg e10, e1]
        · rw [m_in_e, i_203.1 h, bd_s, if_neg e10, if_neg hl, e, hw1, bd_s, if_neg e10, e2]
      · refine ⟨-2, σ, σ, ?_, ?_, hI.up⟩
        · rw [c_isTold.1 h, bd_s, if_neg e10, if_neg hl, e, (c_isWheel hN).2 d, bd_s, if_pos rfl]
        · rw [m_in_e, i_203.1 h, bd_s, if_neg e10, if_neg hl, e, (m_isWheel hN).2 d, bd_s, if_pos rfl]
  · refine ⟨-1, σ, σ, ?_, ?_, hI.up⟩
    · rw [c_isTold.2 h, bd_s, if_pos rfl]
    · rw [m_in_e, i_203.2 h, bd_s, if_pos rfl]
