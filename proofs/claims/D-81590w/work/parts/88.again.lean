/-! THE PLAIN LAW: again -/
set_option maxRecDepth 100000
def nxV (na t : Nat) : Int32 := if na = 0 then -4 else nI (t % na)
theorem c_next {N k na t : Nat} {σ : SS} (h33 : gi σ (iS k) 33 = nI na) (h36 : gi σ (iS k) 36 = nI t) (hna : na ≤ 16) (ht : t < 2 ^ 31) : F_X5_next N k σ = some (nxV na t, σ) := by
  unfold F_X5_next nxV
  rw [h33, h36]
  by_cases c : na = 0
  · subst c; rfl
  · have hna0 : ¬ (nI na : Int32) = 0 := nI_ne0 (by omega) (by omega)
    rw [if_neg hna0, gd_t hna0, if_neg c, nI_modN ht (by omega)]
theorem mod_same {na t j : Nat} : (t + j) % na = t % na ↔ j % na = 0 := by
  constructor
  · intro h
    have h2 := Nat.sub_mod_eq_zero_of_mod_eq h
    rwa [Nat.add_sub_cancel_left] at h2
  · intro h
    rw [Nat.add_mod, h, Nat.add_zero, Nat.mod_mod]
theorem nx_iff {na t j : Nat} (hna : na ≤ 16) : nxV na (t + j) = nxV na t ↔ (na = 0 ∨ j % na = 0) := by
  unfold nxV
  by_cases c : na = 0
  · rw [if_pos c, if_pos c]
    exact ⟨fun _ => Or.inl c, fun _ => rfl⟩
  · have h1 : (t + j) % na < na := Nat.mod_lt _ (by omega)
    have h2 : t % na < na := Nat.mod_lt _ (by omega)
    rw [if_neg c, if_neg c, nI_eq (by omega) (by omega), mod_same]
    exact ⟨Or.inr, fun h => h.elim (fun z => absurd z c) id⟩
def alikeB (Q P : Pg) : Nat → Nat → Bool
  | 0, _ => true
  | n + 1, w => decide (Q (12 + w) = P (12 + w)) && alikeB Q P n (w + 1)
def likeB (Q P : Pg) (nw na j : Nat) : Bool := (decide (na = 0 ∨ j % na = 0) && decide (Q 35 = P 35)) && alikeB Q P nw 0
theorem b2i_and1 : ∀ b : Bool, b2i b &&& (1 : Int32) = b2i b := by decide
theorem b2i_and0 : ∀ b : Bool, b2i b &&& (0 : Int32) = b2i false := by decide
theorem b2i_01 : ∀ b : Bool, b2i b = 0 ∨ b2i b = 1 := by decide
theorem b2i_0 : ∀ b : Bool, b2i b = 0 ↔ b = false := by decide
theorem c_like {N nw : Nat} {σ : SS} {Q P : Pg} (h4 : nw ≤ 4) (h16 : gi σ (iS 1) 16 = nI nw) (hQ : ∀ w, w < 4 → gi σ (iS 1) (12 + w) = Q (12 + w)) (hP : ∀ w, w < 4 → gi σ (iS 0) (12 + w) = P (12 + w)) : ∀ (n w : Nat) (acc : Bool), nw - w < n → w ≤ nw → F_X5_isLike_30 N 1 0 n (b2i acc) (nI w) σ = some (b2i (acc && alikeB Q P (nw - w) w), σ) := by
  intro n
  induction n with
  | zero => intro w acc h; omega
  | succ n ih =>
    intro w acc hn hw
    show B_X5_isLike_30 N 1 0 (F_X5_isLike_30 N 1 0 n) (b2i acc) (nI w) σ = _
    unfold B_X5_isLike_30
    rw [h16]
    by_cases c1 : w = nw
    · subst c1
      rw [if_pos (nI_le (Nat.le_refl _) (by omega)), Nat.sub_self, gd_t (b2i_01 acc)]
      show _ = some (b2i (acc && true), σ)
      rw [Bool.and_true]
    · have hlt : w < nw := by omega
      have cl : (nI w).toNatClampNeg = w := nI_clamp (by omega)
      rw [if_neg (nI_ge hlt (by omega))]
      simp only [nm, cl, gd_t (inR_nI (show w < 4 by omega) (show 4 < 2 ^ 31 by omega)), hQ w (by omega), hP w (by omega), show nI w + 1 = nI (w + 1) from nI_1 w]
      rw [show nw - w = (nw - (w + 1)) + 1 by omega]
      show _ = some (b2i (acc && (decide (Q (12 + w) = P (12 + w)) && alikeB Q P (nw - (w + 1)) (w + 1))), σ)
      by_cases c2 : Q (12 + w) = P (12 + w)
      · rw [if_pos c2, b2i_and1, ih (w + 1) acc (by omega) hlt, decide_eq_true c2, Bool.true_and]
      · rw [if_neg c2, b2i_and0, ih (w + 1) false (by omega) hlt, decide_eq_false c2, Bool.false_and, Bool.and_false]
theorem c_isLike {N nw na t j : Nat} {σ : SS} {Q P : Pg} (hN1 : 1000 ≤ N) (h4 : nw ≤ 4) (hna : na ≤ 16) (ht : t + j < 2 ^ 31) (h16 : gi σ (iS 1) 16 = nI nw) (hQ : ∀ w, w < 4 → gi σ (iS 1) (12 + w) = Q (12 + w)) (hP : ∀ w, w < 4 → gi σ (iS 0) (12 + w) = P (12 + w)) (a1 : gi σ (iS 1) 33 = nI na) (a2 : gi σ (iS 1) 36 = nI (t + j)) (a3 : gi σ (iS 0) 33 = nI na) (a4 : gi σ (iS 0) 36 = nI t) (a5 : gi σ (iS 1) 35 = Q 35) (a6 : gi σ (iS 0) 35 = P 35) : F_X5_isLike N 1 0 σ = some (b2i (likeB Q P nw na j), σ) := by
  have hl := fun acc => c_like (N := N) (Q := Q) (P := P) h4 h16 hQ hP N 0 acc (by omega) (Nat.zero_le _)
  have e26 : F_X5_isLike_26 N 1 0 σ = F_X5_isLike_30 N 1 0 N (b2i false) (nI 0) σ := rfl
  unfold F_X5_isLike
  rw [c_next a1 a2 hna ht, bd_s, c_next a3 a4 hna (by omega), bd_s, a5, a6, e26, hl false, show F_X5_isLike_30 N 1 0 N 1 0 σ = _ from hl true]
  unfold likeB
  by_cases c1 : na = 0 ∨ j % na = 0
  · rw [if_pos ((nx_iff hna).mpr c1), decide_eq_true c1]
    by_cases c2 : Q 35 = P 35
    · rw [if_pos c2, decide_eq_true c2]; rfl
    · rw [if_neg c2, decide_eq_false c2]; rfl
  · rw [if_neg (fun z => c1 ((nx_iff hna).mp z)), decide_eq_false c1]; rfl
def againV (P : Pg) (nw na : Nat) : Nat → Pg → Nat → Nat → Int32
  | 0, _, _, _ => -4
  | k + 1, Q, t, j => if likeB (tickT (Q, 0, 0, 0, 0) nw na t false).1 P nw na j = true then nI j else againV P nw na k (tickT (Q, 0, 0, 0, 0) nw na t false).1 (t + 1) (j + 1)
theorem againV_e {P : Pg} {nw na k t j : Nat} {T : TT} : againV P nw na (k + 1) T.1 t j = if likeB (tickT T nw na t false).1 P nw na j = true then nI j else againV P nw na k (tickT T nw na t false).1 (t + 1) (j + 1) := by
  show (if likeB (tickT (T.1, 0, 0, 0, 0) nw na t false).1 P nw na j = true then nI j else againV P nw na k (tickT (T.1, 0, 0, 0, 0) nw na t false).1 (t + 1) (j + 1)) = _
  rw [tick_pg (T := (T.1, 0, 0, 0, 0)) (T' := T) rfl]
theorem c_again {B N nw na M t0 : Nat} {P : Pg} {τ : SS} (hN1 : 1000 ≤ N) (hP : ∀ T : TT, Now B (ctw 1 T τ) P nw na M t0) : ∀ (n k t j : Nat) (T : TT), j + k = 201 → t + 1 = t0 + j → k < n → Fx T.1 nw na M → T.1 36 = nI t → (∀ i, i < na → gi τ (iAA 1) i = T.1 (17 + i)) → ∃ T', F_X0_again_13 N n (nI j) (ctw 1 T τ) = some (againV P nw na k T.1 t j, ctw 1 T' τ) := by
  intro n
  induction n with
  | zero => intro k t j T _ _ h; omega
  | succ n ih =>
    intro k t j T hj htj hn hF ht hA
    have h4 := hF.1
    have hna := hF.2.2.1
    show ∃ T', B_X0_again_13 N (F_X0_again_13 N n) (nI j) (ctw 1 T τ) = _
    unfold B_X0_again_13
    cases k with
    | zero =>
      have c1 : (200 : Int32) < nI j := nI_lt (a := 200) (by omega) (by omega)
      exact ⟨T, if_pos c1⟩
    | succ k =>
      have ht9 := (hP T).2.1.2.2.1
      have c1 : ¬ (200 : Int32) < nI j := nI_nlt (a := 200) (by omega) (by omega)
      have hF' : Fx (tickT T nw na t false).1 nw na M := hF.tick
      have h36' : (tickT T nw na t false).1 36 = nI (t0 + j) := by rw [tickT_36 hF, ht, ← htj]; exact nI_1 t
      have hA' : ∀ i, i < na → gi τ (iAA 1) i = (tickT T nw na t false).1 (17 + i) := fun i hi => by rw [hA i hi, tickT_ne hF (by unfold tw; omega)]
      rw [if_neg c1, show (0 : Int32) = b2i false from rfl, c_tick (by omega) hF ht (by omega) hA, bd_s, againV_e]
      generalize tickT T nw na t false = U at hF' h36' hA' ⊢
      have hPn := hP U
      rw [c_isLike (Q := U.1) (P := P) (t := t0) (j := j) hN1 h4 hna (by omega) ((c_gS rfl).trans hF'.2.1) (fun w hw => c_gS (dm_w hw).2.2.2) (fun w hw => hPn.2.2.1 _ (dm_w hw).2.2.2) ((c_gS rfl).trans hF'.2.2.2.1) ((c_gS rfl).trans h36') ((hPn.2.2.1 33 rfl).trans hPn.2.1.1.2.2.2.1) ((hPn.2.2.1 36 rfl).trans hPn.2.1.2.1) (c_gS rfl) (hPn.2.2.1 35 rfl), bd_s]
      cases likeB U.1 P nw na j with
      | true => exact ⟨U, rfl⟩
      | false =>
        rw [if_pos (show b2i false = b2i false from rfl), if_neg (by decide)]
        simp only [nm, show nI j + 1 = nI (j + 1) from nI_1 j]
        exact ih k (t + 1) (j + 1) U (by omega) (by omega) (by omega) hF' (by rw [h36', ← htj]) hA'
theorem m_like {N nw : Nat} {σ : SS} {Q P : Pg} {K : Int32 → Int32 → SS → Option (Int32 × SS)} {x1 x2 : Int32} (h4 : nw ≤ 4) (h16 : gi σ 21 16 = nI nw) (hQ : ∀ w, w < 4 → gi σ 21 (156 + (12 + w)) = Q (12 + w)) (hP : ∀ w, w < 4 → gi σ 21 (12 + w) = P (12 + w)) : ∀ (n w : Nat) (acc : Bool), nw - w < n → w ≤ nw → F_X8_again_70 N K n x1 x2 (b2i acc) (nI w) σ = if (acc && alikeB Q P (nw - w) w) = true then some (x2, σ) else K x1 (x2 + 1) σ := by
  intro n
  induction n with
  | zero => intro w acc h; omega
  | succ n ih =>
    intro w acc hn hw
    show B_X8_again_70 N K (F_X8_again_70 N K n) x1 x2 (b2i acc) (nI w) σ = _
    unfold B_X8_again_70
    rw [gd_t r16, lc16, h16]
    by_cases c1 : w = nw
    · subst c1
      rw [if_pos (nI_le (Nat.le_refl _) (by omega)), Nat.sub_self]
      cases acc <;> rfl
    · have hlt : w < nw := by omega
      have i1 : (168 : Int32) + nI w = nI (156 + (12 + w)) := (nI_add 168 w).trans (congrArg nI (by omega))
      have i2 : (12 : Int32) + nI w = nI (12 + w) := nI_add 12 w
      rw [if_neg (nI_ge hlt (by omega)), i1, i2, gd_t (r_c (by omega)), gd_t (r_c (by omega)), nI_clamp (by omega), nI_clamp (by omega), hQ w (by omega), hP w (by omega)]
      simp only [nm, show nI w + 1 = nI (w + 1) from nI_1 w]
      rw [show nw - w = (nw - (w + 1)) + 1 by omega]
      show _ = if (acc && (decide (Q (12 + w) = P (12 + w)) && alikeB Q P (nw - (w + 1)) (w + 1))) = true then some (x2, σ) else K x1 (x2 + 1) σ
      cases acc with
      | false =>
        rw [if_pos (show b2i false = 0 from rfl), show F_X8_again_70 N K n x1 x2 0 (nI (w + 1)) σ = _ from ih (w + 1) false (by omega) hlt, Bool.false_and, Bool.false_and]
      | true =>
        rw [if_neg (show ¬ b2i true = 0 by decide), Bool.true_and]
        by_cases c2 : Q (12 + w) = P (12 + w)
        · rw [if_pos c2, show F_X8_again_70 N K n x1 x2 1 (nI (w + 1)) σ = _ from ih (w + 1) true (by omega) hlt, decide_eq_true c2, Bool.true_and]
        · rw [if_neg c2, show F_X8_again_70 N K n x1 x2 0 (nI (w + 1)) σ = _ from ih (w + 1) false (by omega) hlt, decide_eq_false c2, Bool.false_and]
theorem m_again {B N nw na M t0 : Nat} {P : Pg} {τ : SS} (hN1 : 1000 ≤ N) (hP : ∀ T : TT, Now B (mtw 156 T τ) P nw na M t0) (ho : gi τ 1 14 = -4) (hm9 : gi τ 1 15 = -4) : ∀ (n k t j : Nat) (T : TT), j + k = 201 → t + 1 = t0 + j → k < n → Fx T.1 nw na M → T.1 36 = nI t → T.1 40 = -4 → T.1 39 = -4 → (∀ i, i < na → gi τ 21 (156 + (17 + i)) = T.1 (17 + i)) → ∃ T', F_X8_again_18 N n (nI na) (nI j) (mtw 156 T τ) = some (againV P nw na k T.1 t j, mtw 156 T' τ) := by
  intro n
  induction n with
  | zero => intro k t j T _ _ h; omega
  | succ n ih =>
    intro k t j T hj htj hn hF ht h40 h39 hA
    have h4 := hF.1
    have hna := hF.2.2.1
    show ∃ T', B_X8_again_18 N (F_X8_again_18 N n) (nI na) (nI j) (mtw 156 T τ) = _
    unfold B_X8_again_18
    cases k with
    | zero =>
      have c1 : (200 : Int32) < nI j := nI_lt (a := 200) (by omega) (by omega)
      exact ⟨T, if_pos c1⟩
    | succ k =>
      have ht9 := (hP T).2.1.2.2.1
      have c1 : ¬ (200 : Int32) < nI j := nI_nlt (a := 200) (by omega) (by omega)
      have hF' : Fx (tickT T nw na t false).1 nw na M := hF.tick
      have h36' : (tickT T nw na t false).1 36 = nI (t0 + j) := by rw [tickT_36 hF, ht, ← htj]; exact nI_1 t
      have hA' : ∀ i, i < na → gi τ 21 (156 + (17 + i)) = (tickT T nw na t false).1 (17 + i) := fun i hi => by rw [hA i hi, tickT_ne hF (by unfold tw; omega)]
      have h40' : (tickT T nw na t false).1 40 = -4 := by rw [tickT_ne hF (by unfold tw; omega)]; exact h40
      have h39' : (tickT T nw na t false).1 39 = -4 := by rw [tickT_ne hF (by unfold tw; omega)]; exact h39
      have ek := m_tick (N := N) (p := 156) (σ := τ) (fails := false) (by omega) (by omega) hF ht (by omega) (ho.trans h40.symm) (hm9.trans h39.symm) hA
      rw [if_neg c1, show F_X8_tickOn N 156 0 (mtw 156 T τ) = _ from ek, bd_s, againV_e]
      generalize tickT T nw na t false = U at hF' h36' hA' h40' h39' ⊢
      have hPn := hP U
      have hk : ∀ z, F_X8_again_18 N n (nI na) (nI j + 1) z = F_X8_again_18 N n (nI na) (nI (j + 1)) z := fun z => by rw [show nI j + 1 = nI (j + 1) from nI_1 j]
      have hl : ∀ acc : Bool, F_X8_again_70 N (F_X8_again_18 N n) N (nI na) (nI j) (b2i acc) (nI 0) (mtw 156 U τ) = if (acc && alikeB U.1 P nw 0) = true then some (nI j, mtw 156 U τ) else F_X8_again_18 N n (nI na) (nI (j + 1)) (mtw 156 U τ) := fun acc => by
        have h1 := m_like (N := N) (σ := mtw 156 U τ) (Q := U.1) (P := P) (K := F_X8_again_18 N n) (x1 := nI na) (x2 := nI j) h4 ((hPn.2.2.2.1 16 rfl (by omega)).trans hPn.2.1.1.2.1) (fun w hw => m_go156 (dq_w hw).2.2.2 (by omega)) (fun w hw => hPn.2.2.2.1 _ (dq_w hw).2.2.2 (by omega)) N 0 acc (by omega) (Nat.zero_le _)
        rw [hk] at h1
        exact h1
      have hl0 : F_X8_again_65 N (F_X8_again_18 N n) (nI na) (nI j) (mtw 156 U τ) = F_X8_again_18 N n (nI na) (nI (j + 1)) (mtw 156 U τ) := by
        refine Eq.trans (show F_X8_again_65 N (F_X8_again_18 N n) (nI na) (nI j) (mtw 156 U τ) = _ from hl false) ?_
        rw [Bool.false_and, if_neg (by decide)]
      have h43 : F_X8_again_43 N (F_X8_again_18 N n) (nI na) (nI j) (mtw 156 U τ) = if (decide (U.1 35 = P 35) && alikeB U.1 P nw 0) = true then some (nI j, mtw 156 U τ) else F_X8_again_18 N n (nI na) (nI (j + 1)) (mtw 156 U τ) := by
        unfold F_X8_again_43
        rw [show (191 : Int32) = nI (156 + 35) from rfl, gd_t (r_c (by omega)), gd_t r35, nI_clamp (by omega), lc35, m_go156 rfl (by omega), hPn.2.2.2.1 35 rfl (by omega), hl0]
        by_cases c2 : U.1 35 = P 35
        · rw [if_pos c2, decide_eq_true c2]; exact hl true
        · rw [if_neg c2, decide_eq_false c2, Bool.false_and, if_neg (by decide)]
      have hgo : ∃ T', F_X8_again_18 N n (nI na) (nI (j + 1)) (mtw 156 U τ) = some (againV P nw na k U.1 (t + 1) (j + 1), mtw 156 T' τ) := ih k (t + 1) (j + 1) U (by omega) (by omega) (by omega) hF' (by rw [h36', ← htj]) h40' h39' hA'
      have hall : ∀ X, X = (if likeB U.1 P nw na j = true then some (nI j, mtw 156 U τ) else F_X8_again_18 N n (nI na) (nI (j + 1)) (mtw 156 U τ)) → ∃ T', X = some (if likeB U.1 P nw na j = true then nI j else againV P nw na k U.1 (t + 1) (j + 1), mtw 156 T' τ) := fun X hX => by
        rw [hX]
        by_cases c3 : likeB U.1 P nw na j = true
        · rw [if_pos c3, if_pos c3]; exact ⟨U, rfl⟩
        · rw [if_neg c3, if_neg c3]; exact hgo
      refine hall _ ?_
      unfold likeB
      by_cases c4 : na = 0
      · rw [if_pos (show (nI na : Int32) = 0 by rw [c4]; rfl), h43, decide_eq_true (Or.inl c4 : na = 0 ∨ j % na = 0), Bool.true_and]
      · have hna0 : ¬ (nI na : Int32) = 0 := nI_ne0 (by omega) (by omega)
        have hm : j % na < na := Nat.mod_lt _ (by omega)
        rw [if_neg hna0, gd_t hna0, nI_modN (by omega) (by omega)]
        by_cases c5 : j % na = 0
        · rw [if_pos (show (nI (j % na) : Int32) = 0 by rw [c5]; rfl), h43, decide_eq_true (Or.inr c5 : na = 0 ∨ j % na = 0), Bool.true_and]
        · have c6 : ¬ (na = 0 ∨ j % na = 0) := fun z => z.elim c4 c5
          rw [if_neg (nI_ne0 (by omega) (by omega)), hl0, decide_eq_false c6, Bool.false_and, Bool.false_and, if_neg (by decide)]
theorem p_again {N : Nat} (hN9 : 2 ^ 70 ≤ N) : Sp19 Inv N := by
  have hN1 : 1000 ≤ N := Nat.le_trans (by decide) hN9
  intro t σ ht hI
  obtain ⟨P, nw, na, M, t9, hN⟩ := hI.now
  refine q_same (A := F_X0_again N) (C := F_X8_again N) hI ?_
  obtain ⟨τ, C, e1, e2, e3⟩ := c_tried hN1 hI hN
  have hF := hN.2.1.1
  have ht9 := hN.2.1.2.2.1
  obtain ⟨T', e4⟩ := c_again (N := N) (τ := τ) (P := P) (t0 := t9) hN1 (fun T => hN.sm (e2.trans Same.ctw)) N 200 t9 1 (P, C) rfl rfl (by omega) hF hN.2.1.2.1 e3
  have s1 : Same σ (ctw 1 T' τ) := e2.trans Same.ctw
  have hN2 := hN.sm s1
  obtain ⟨h1', h2', h3', h4', h5'⟩ := m_made hN2.1.2 (Or.inl (by omega)) hF.2.2.2.1 hF.2.2.1
  have h2' := h2' 0 0
  generalize gi (mcp 0 156 39 (ctw 1 T' τ)) 1 16 = o at h2'
  generalize gi (mcp 0 156 39 (ctw 1 T' τ)) 1 17 = f at h2'
  have q4 := hN.2.1.2.2.2.1
  have q5 := hN.2.1.2.2.2.2.1
  obtain ⟨T2, e5⟩ := m_again (N := N) (τ := mcp 0 156 39 (ctw 1 T' τ)) (P := P) (t0 := t9) hN1 (fun T => hN2.sm m_goSame) (h3'.trans q5) (h4'.trans q4) N 200 t9 1 (P, 0, 0, o, f) rfl rfl (by omega) hF hN.2.1.2.1 q5 q4 h5'
  rw [h2'] at e5
  refine ⟨againV P nw na 200 P t9 1, ctw 1 T' τ, mtw 156 T2 (mcp 0 156 39 (ctw 1 T' τ)), ?_, ?_, s1.trans m_goSame⟩
  · unfold F_X0_again
    rw [e1, bd_s]
    exact e4
  · unfold F_X8_again
    rw [gd_t r33, lc33, hN2.2.2.2.1 33 rfl (by omega), hF.2.2.2.1, show (0 : Int32) = nI 0 from rfl, m_cp156 hN1 (Or.inl (by omega))]
    exact e5
