/-! THE PLAIN LAW: what was seen; kinds, losses -/
set_option maxRecDepth 100000
theorem tks_snoc {nw na : Nat} : ∀ (n t : Nat) (T : TT), tks nw na T t (n + 1) = tickT (tks nw na T t n) nw na (t + n) false := by
  intro n
  induction n with
  | zero => intro t T; rfl
  | succ n ih =>
    intro t T
    have e := ih (t + 1) (tickT T nw na t false)
    rw [show t + 1 + n = t + (n + 1) by omega] at e
    exact e
/-- the page behind n ticks -/
def pg (nw na t : Nat) (P : Pg) (n : Nat) : Pg := (tks nw na (P, 0, 0, 0, 0) t n).1
theorem pg_s {nw na t n : Nat} {P : Pg} {T : TT} (h : T.1 = pg nw na t P n) : (tickT T nw na (t + n) false).1 = pg nw na t P (n + 1) := by
  unfold pg
  rw [tks_snoc]
  exact tick_pg h
/-- what was seen: how many; ticks, wheels, swings -/
abbrev Sn : Type := Nat × (Nat → Nat) × (Nat → Nat) × (Nat → Int32)
def Seen (Z : Sn) (σ : SS) : Prop := Z.1 ≤ 6 ∧ gi σ 0 6 = nI Z.1 ∧ gi σ 1 19 = nI Z.1 ∧ ∀ k, k < Z.1 → (Z.2.1 k ≤ 40 ∧ gi σ 4 (3 * k) = nI (Z.2.1 k) ∧ gi σ 26 (3 * k) = nI (Z.2.1 k)) ∧ (Z.2.2.1 k < 4 ∧ gi σ 4 (3 * k + 1) = nI (Z.2.2.1 k) ∧ gi σ 26 (3 * k + 1) = nI (Z.2.2.1 k)) ∧ gi σ 4 (3 * k + 2) = Z.2.2.2 k ∧ gi σ 26 (3 * k + 2) = Z.2.2.2 k
theorem Rs.seen {σ : SS} (h : Rs σ) : ∃ Z, Seen Z σ := by
  obtain ⟨sm, h1, h2, h3, h4⟩ := h
  refine ⟨(sm, fun k => (gi σ 4 (3 * k)).toNatClampNeg, fun k => (gi σ 4 (3 * k + 1)).toNatClampNeg, fun k => gi σ 4 (3 * k + 2)), h1, h2, h3, fun k hk => ?_⟩
  obtain ⟨⟨n, a1, a2, a3⟩, ⟨w, b1, b2, b3⟩, c⟩ := h4 k hk
  have e1 : (gi σ 4 (3 * k)).toNatClampNeg = n := by rw [a2, nI_clamp (by omega)]
  have e2 : (gi σ 4 (3 * k + 1)).toNatClampNeg = w := by rw [b2, nI_clamp (by omega)]
  show ((gi σ 4 (3 * k)).toNatClampNeg ≤ 40 ∧ gi σ 4 (3 * k) = nI (gi σ 4 (3 * k)).toNatClampNeg ∧ gi σ 26 (3 * k) = nI (gi σ 4 (3 * k)).toNatClampNeg) ∧ ((gi σ 4 (3 * k + 1)).toNatClampNeg < 4 ∧ gi σ 4 (3 * k + 1) = nI (gi σ 4 (3 * k + 1)).toNatClampNeg ∧ gi σ 26 (3 * k + 1) = nI (gi σ 4 (3 * k + 1)).toNatClampNeg) ∧ gi σ 4 (3 * k + 2) = gi σ 4 (3 * k + 2) ∧ gi σ 26 (3 * k + 2) = gi σ 4 (3 * k + 2)
  rw [e1, e2]
  exact ⟨⟨a1, a2, a3⟩, ⟨b1, b2, b3⟩, rfl, c.symm⟩
theorem Seen.to {Z : Sn} {σ σ' : SS} (h : Seen Z σ) (e0 : gi σ' 0 6 = gi σ 0 6) (e1 : gi σ' 1 19 = gi σ 1 19) (e4 : ∀ i, gi σ' 4 i = gi σ 4 i) (e26 : ∀ i, gi σ' 26 i = gi σ 26 i) : Seen Z σ' := by
  obtain ⟨h1, h2, h3, h4⟩ := h
  refine ⟨h1, e0.trans h2, e1.trans h3, fun k hk => ?_⟩
  simp only [e4, e26]
  exact h4 k hk
theorem Seen.sm {Z : Sn} {σ σ' : SS} (h : Seen Z σ) (e : Same σ σ') : Seen Z σ' := h.to (e.1 0 6 (by unfold hid; omega)) (e.1 1 19 (by unfold hid; omega)) (fun i => e.1 4 i (by unfold hid; omega)) (fun i => e.1 26 i (by unfold hid; omega))
def soE (nw na t : Nat) (Z : Sn) (P : Pg) (n e : Nat) : Bool := decide (Z.2.2.1 e < nw) && decide (pg nw na t P n (12 + Z.2.2.1 e) = Z.2.2.2 e)
def soC (nw na t : Nat) (Z : Sn) (P : Pg) : Nat → Nat → Bool
  | 0, _ => true
  | c + 1, e => soE nw na t Z P (Z.2.1 e) e && soC nw na t Z P c (e + 1)
/-- whether all is as seen -/
def fitB (nw na t : Nat) (Z : Sn) (P : Pg) : Bool := soC nw na t Z P Z.1 0
def H5 (nw na t : Nat) (P : Pg) (τ : SS) (n u : Nat) : Prop := ∀ m x, (m < n ∧ x < nw) ∨ (m = n ∧ x < u) → gi τ 5 (4 * m + x) = pg nw na t P m (12 + x)
theorem c_so68 {N nw na t : Nat} {Z : Sn} {P : Pg} {s : SS} (h4 : nw ≤ 4) (hZ : Seen Z s) (h16 : gi s (iS 0) 16 = nI nw) (h5 : H5 nw na t P s 41 0) : ∀ (m c e : Nat) (acc : Bool), e + c = Z.1 → c < m → F_X0_isSo_68 N m (b2i acc) (nI e) s = some (b2i (acc && soC nw na t Z P c e), s) := by
  obtain ⟨z1, z2, z3, z4⟩ := hZ
  intro m
  induction m with
  | zero => intro c e acc _ h; omega
  | succ m ih =>
    intro c e acc he hm
    show B_X0_isSo_68 N (F_X0_isSo_68 N m) (b2i acc) (nI e) s = _
    unfold B_X0_isSo_68
    rw [z2]
    cases c with
    | zero =>
      rw [if_pos (nI_le (by omega) (by omega)), gd_t (b2i_01 acc)]
      show _ = some (b2i (acc && true), s)
      rw [Bool.and_true]
    | succ c =>
      obtain ⟨⟨a1, a2, -⟩, ⟨b1, b2, -⟩, d1, -⟩ := z4 e (by omega)
      obtain ⟨y0, y1, y2⟩ := ix3 e
      have e133 : F_X0_isSo_133 N (F_X0_isSo_68 N m) (nI e) (b2i acc) s = some (b2i false, s) := by
        unfold F_X0_isSo_133
        rw [nm_s, nm_s, b2i_and0, show nI e + 1 = nI (e + 1) from nI_1 e, ih c (e + 1) false (by omega) (by omega), Bool.false_and]
      rw [if_neg (nI_ge (by omega) (by omega)), y1, gd_t (inR_nI (by omega) (by omega)), nI_clamp (by omega), nm_s, b2, h16]
      show _ = some (b2i (acc && ((decide (Z.2.2.1 e < nw) && decide (pg nw na t P (Z.2.1 e) (12 + Z.2.2.1 e) = Z.2.2.2 e)) && soC nw na t Z P c (e + 1))), s)
      by_cases c1 : Z.2.2.1 e < nw
      · have i5 : (4 : Int32) * nI (Z.2.1 e) + nI (Z.2.2.1 e) = nI (4 * Z.2.1 e + Z.2.2.1 e) := (congrArg (· + nI (Z.2.2.1 e)) (nI_mulN 4 _)).trans (nI_add _ _)
        have k0 : (nI (3 * e)).toNatClampNeg = 3 * e := nI_clamp (by omega)
        have k2 : (nI (3 * e + 2)).toNatClampNeg = 3 * e + 2 := nI_clamp (by omega)
        have k5 : (nI (4 * Z.2.1 e + Z.2.2.1 e)).toNatClampNeg = 4 * Z.2.1 e + Z.2.2.1 e := nI_clamp (by omega)
        rw [if_neg (nI_ge c1 (by omega)), decide_eq_true c1, Bool.true_and]
        simp only [y0, show nI (3 * e) + (2 : Int32) = nI (3 * e + 2) from nI_add (3 * e) 2, k0, k2, a2, i5, k5, gd_t (inR_nI (show 3 * e < 18 by omega) (by omega)), gd_t (inR_nI (show 3 * e + 2 < 18 by omega) (by omega)), gd_t (inR_nI (show 4 * Z.2.1 e + Z.2.2.1 e < 164 by omega) (by omega)), d1, h5 _ _ (Or.inl ⟨show Z.2.1 e < 41 by omega, c1⟩)]
        by_cases c2 : pg nw na t P (Z.2.1 e) (12 + Z.2.2.1 e) = Z.2.2.2 e
        · rw [if_pos c2, decide_eq_true c2, Bool.true_and, nm_s, nm_s, b2i_and1, show nI e + 1 = nI (e + 1) from nI_1 e, ih c (e + 1) acc (by omega) (by omega)]
        · rw [if_neg c2, decide_eq_false c2, Bool.false_and, Bool.and_false]
          exact e133
      · rw [if_pos (nI_le (by omega) (by omega)), decide_eq_false c1, Bool.false_and, Bool.false_and, Bool.and_false]
        exact e133
theorem c_so10 {N nw na M t n : Nat} {P : Pg} {T : TT} {K : Int32 → SS → Option (Int32 × SS)} (hN1 : 1000 ≤ N) (hF : Fx T.1 nw na M) (hn : n ≤ 40) (ht : T.1 36 = nI (t + n)) (ht2 : t + n < 2 ^ 20) (hT : T.1 = pg nw na t P n) : ∀ (m c u : Nat) (τ : SS), u + c = nw → c < m → (∀ i, i < na → gi τ (iAA 1) i = T.1 (17 + i)) → gi τ (iS 0) 16 = nI nw → H5 nw na t P τ n u → ∃ τ', F_X0_isSo_10 N K m (nI n) (nI u) (ctw 1 T τ) = K (nI (n + 1)) (ctw 1 (tickT T nw na (t + n) false) τ') ∧ Same τ τ' ∧ (∀ g i, g ≠ 5 → gi τ' g i = gi τ g i) ∧ H5 nw na t P τ' (n + 1) 0 := by
  have h4 := hF.1
  intro m
  induction m with
  | zero => intro c u τ _ h; omega
  | succ m ih =>
    intro c u τ hu hm hA h16 h5
    show ∃ τ', B_X0_isSo_10 N K (F_X0_isSo_10 N K m) (nI n) (nI u) (ctw 1 T τ) = _ ∧ _
    unfold B_X0_isSo_10
    have e16 : gi (ctw 1 T τ) (iS 0) 16 = nI nw := (ctw_g (by unfold iS; omega) (by unfold iS; omega)).trans h16
    rw [e16]
    cases c with
    | zero =>
      refine ⟨τ, ?_, Same.refl τ, fun _ _ _ => rfl, fun m' x hx => h5 m' x (by omega)⟩
      rw [if_pos (nI_le (by omega) (by omega)), show (0 : Int32) = b2i false from rfl, c_tick (by omega) hF ht (by omega) hA, bd_s, nm_s, show nI n + 1 = nI (n + 1) from nI_1 n]
    | succ c =>
      have hu4 : u < 4 := by omega
      have i5 : (4 : Int32) * nI n + nI u = nI (4 * n + u) := (congrArg (· + nI u) (nI_mulN 4 _)).trans (nI_add _ _)
      obtain ⟨τ', g1, g2, g3, g4⟩ := ih c (u + 1) (si τ 5 (4 * n + u) (T.1 (12 + u))) (by omega) (by omega) (fun i hi => (gi_sn (by unfold iAA; omega)).trans (hA i hi)) ((gi_sn (by unfold iS; omega)).trans h16) (fun m' x hx => by
        by_cases c1 : m' = n ∧ x = u
        · obtain ⟨rfl, rfl⟩ := c1
          rw [gi_se, hT]
        · rw [gi_sn (by omega)]
          exact h5 m' x (by omega))
      refine ⟨τ', ?_, (Same.si (by unfold hid; omega)).trans g2, fun g i hg => (g3 g i hg).trans (gi_sn (Or.inl hg)), g4⟩
      rw [if_neg (nI_ge (by omega) (by omega)), gd_t (inR_nI hu4 (by omega)), nI_clamp (by omega), nm_s, i5, gd_t (inR_nI (by omega) (by omega)), nI_clamp (by omega), nm_s, nm_s, c_gS (dm_w hu4).2.2.2, ctw_si (by unfold iS; omega) (by omega), show nI u + 1 = nI (u + 1) from nI_1 u]
      exact g1
theorem c_so2 {N nw na M t : Nat} {P : Pg} (hN1 : 1000 ≤ N) (ht2 : t < 2 ^ 18) : ∀ (m c n : Nat) (T : TT) (τ : SS), n + c = 41 → c < m → Fx T.1 nw na M → T.1 36 = nI (t + n) → T.1 = pg nw na t P n → (∀ i, i < na → gi τ (iAA 1) i = T.1 (17 + i)) → gi τ (iS 0) 16 = nI nw → H5 nw na t P τ n 0 → ∃ T' τ', F_X0_isSo_2 N m (nI n) (ctw 1 T τ) = F_X0_isSo_68 N N 1 0 (ctw 1 T' τ') ∧ Same τ τ' ∧ (∀ g i, g ≠ 5 → gi τ' g i = gi τ g i) ∧ H5 nw na t P τ' 41 0 := by
  intro m
  induction m with
  | zero => intro c n T τ _ h; omega
  | succ m ih =>
    intro c n T τ hn hm hF ht hT hA h16 h5
    have h4 := hF.1
    show ∃ T' τ', B_X0_isSo_2 N (F_X0_isSo_2 N m) (nI n) (ctw 1 T τ) = _ ∧ _
    unfold B_X0_isSo_2
    cases c with
    | zero =>
      have e41 : n = 41 := by omega
      subst e41
      exact ⟨T, τ, if_pos (by decide), Same.refl τ, fun _ _ _ => rfl, h5⟩
    | succ c =>
      have c1 : ¬ (40 : Int32) < nI n := nI_nlt (a := 40) (by omega) (by omega)
      obtain ⟨τ', g1, g2, g3, g4⟩ := c_so10 (N := N) (K := F_X0_isSo_2 N m) hN1 hF (by omega) ht (by omega) hT N nw 0 τ (by omega) (by omega) hA h16 (fun m' x hx => h5 m' x (by omega))
      have hF' : Fx (tickT T nw na (t + n) false).1 nw na M := hF.tick
      obtain ⟨T2, τ2, f1, f2, f3, f4⟩ := ih c (n + 1) (tickT T nw na (t + n) false) τ' (by omega) (by omega) hF' (by rw [tickT_36 hF, ht]; exact nI_1 (t + n)) (pg_s hT) (fun i hi => by rw [g3 _ _ (by unfold iAA; omega), hA i hi, tickT_ne hF (by have := hF.2.2.1; unfold tw; omega)]) ((g3 _ _ (by unfold iS; omega)).trans h16) g4
      refine ⟨T2, τ2, ?_, g2.trans f2, fun g i hg => (f3 g i hg).trans (g3 g i hg), f4⟩
      rw [if_neg c1]
      exact g1.trans f1
/-- the component: whether a page that is tried is as seen -/
theorem c_isSo {B N nw na M M' t : Nat} {P P' : Pg} {C : Int32 × Int32 × Int32 × Int32} {Z : Sn} {τ : SS} (hN1 : 1000 ≤ N) (hN : Now B (ctw 1 (P', C) τ) P nw na M t) (hZ : Seen Z τ) (hF : Fx P' nw na M') (h36 : P' 36 = nI t) (hA : ∀ i, i < na → gi τ (iAA 1) i = P' (17 + i)) : ∃ s', F_X0_isSo N (ctw 1 (P', C) τ) = some (b2i (fitB nw na t Z P'), s') ∧ Same (ctw 1 (P', C) τ) s' ∧ H5 nw na t P' s' 41 0 ∧ (∀ i, gi s' 6 i = gi τ 6 i) := by
  have ht9 := hN.2.1.2.2.1
  have h16 : gi τ (iS 0) 16 = nI nw := (ctw_g (by unfold iS; omega) (by unfold iS; omega)).symm.trans ((hN.2.2.1 16 rfl).trans hN.2.1.1.2.1)
  obtain ⟨T', τ', e1, e2, e3, e4⟩ := c_so2 (N := N) (t := t) (P := P') hN1 (by omega) N 41 0 (P', C) τ rfl (by omega) hF h36 rfl hA h16 (fun m' x hx => by omega)
  have hS : Same (ctw 1 (P', C) τ) (ctw 1 T' τ') := by
    refine ⟨fun g i hg => ?_, ?_⟩
    · have h1 := (Same.ctw (σ := τ') (T := T')).1 g i hg
      have h2 := (Same.ctw (σ := τ) (T := (P', C))).1 g i hg
      rw [h1, h2]
      exact e2.1 g i hg
    · exact e2.2
  have h5 : H5 nw na t P' (ctw 1 T' τ') 41 0 := fun m x hx => (ctw_g (by unfold iS; omega) (by omega)).trans (e4 m x hx)
  have hZ' : Seen Z (ctw 1 T' τ') := hZ.sm (e2.trans Same.ctw)
  have h16' : gi (ctw 1 T' τ') (iS 0) 16 = nI nw := (ctw_g (by unfold iS; omega) (by unfold iS; omega)).trans ((e3 _ _ (by unfold iS; omega)).trans h16)
  have e5 := c_so68 (N := N) (P := P') (t := t) (na := na) hN.2.1.1.1 hZ' h16' h5 N Z.1 0 true (by omega) (by have := hZ.1; omega)
  refine ⟨ctw 1 T' τ', ?_, hS, h5, fun i => (ctw_g (by unfold iS; omega) (by omega)).trans (e3 _ _ (by omega))⟩
  exact e1.trans e5
-- the model
def soM (nw na t : Nat) (Z : Sn) (P : Pg) (k : Nat) : Nat → Nat → Bool
  | 0, _ => true
  | c + 1, e => (decide (¬ Z.2.1 e = k) || soE nw na t Z P k e) && soM nw na t Z P k c (e + 1)
def soO (nw na t : Nat) (Z : Sn) (P : Pg) : Nat → Nat → Bool
  | 0, _ => true
  | c + 1, k => soM nw na t Z P k Z.1 0 && soO nw na t Z P c (k + 1)
theorem soC_iff {nw na t : Nat} {Z : Sn} {P : Pg} : ∀ (c e : Nat), soC nw na t Z P c e = true ↔ ∀ j, e ≤ j → j < e + c → soE nw na t Z P (Z.2.1 j) j = true := by
  intro c
  induction c with
  | zero => intro e; exact ⟨fun _ j h1 h2 => by omega, fun _ => rfl⟩
  | succ c ih =>
    intro e
    show (soE nw na t Z P (Z.2.1 e) e && soC nw na t Z P c (e + 1)) = true ↔ _
    rw [Bool.and_eq_true, ih (e + 1)]
    constructor
    · rintro ⟨h1, h2⟩ j hj hj2
      by_cases c1 : j = e
      · rw [c1]; exact h1
      · exact h2 j (by omega) (by omega)
    · intro h
      exact ⟨h e (by omega) (by omega), fun j h1 h2 => h j (by omega) (by omega)⟩
theorem soM_iff {nw na t k : Nat} {Z : Sn} {P : Pg} : ∀ (c e : Nat), soM nw na t Z P k c e = true ↔ ∀ j, e ≤ j → j < e + c → Z.2.1 j = k → soE nw na t Z P k j = true := by
  intro c
  induction c with
  | zero => intro e; exact ⟨fun _ j h1 h2 => by omega, fun _ => rfl⟩
  | succ c ih =>
    intro e
    show ((decide (¬ Z.2.1 e = k) || soE nw na t Z P k e) && soM nw na t Z P k c (e + 1)) = true ↔ _
    rw [Bool.and_eq_true, ih (e + 1), Bool.or_eq_true, decide_eq_true_eq]
    constructor
    · rintro ⟨h1, h2⟩ j hj hj2 hk
      by_cases c1 : j = e
      · subst c1
        rcases h1 with h1 | h1
        · exact absurd hk h1
        · exact h1
      · exact h2 j (by omega) (by omega) hk
    · intro h
      refine ⟨?_, fun j h1 h2 => h j (by omega) (by omega)⟩
      by_cases c1 : Z.2.1 e = k
      · exact Or.inr (h e (by omega) (by omega) c1)
      · exact Or.inl c1
theorem soO_iff {nw na t : Nat} {Z : Sn} {P : Pg} : ∀ (c k : Nat), soO nw na t Z P c k = true ↔ ∀ j, j < Z.1 → k ≤ Z.2.1 j → Z.2.1 j < k + c → soE nw na t Z P (Z.2.1 j) j = true := by
  intro c
  induction c with
  | zero => intro k; exact ⟨fun _ j h1 h2 => by omega, fun _ => rfl⟩
  | succ c ih =>
    intro k
    show (soM nw na t Z P k Z.1 0 && soO nw na t Z P c (k + 1)) = true ↔ _
    rw [Bool.and_eq_true, ih (k + 1), soM_iff]
    constructor
    · rintro ⟨h1, h2⟩ j hj hk hk2
      by_cases c1 : Z.2.1 j = k
      · have h3 := h1 j (by omega) (by omega) c1
        rw [c1]; exact h3
      · exact h2 j hj (by omega) (by omega)
    · intro h
      refine ⟨fun j _ hj hk => ?_, fun j h1 h2 h3 => h j h1 (by omega) (by omega)⟩
      have h3 := h j (by omega) (by omega) (by omega)
      rw [hk] at h3
      exact h3
theorem soO_fit {nw na t : Nat} {Z : Sn} {P : Pg} (h : ∀ j, j < Z.1 → Z.2.1 j ≤ 40) : soO nw na t Z P 41 0 = fitB nw na t Z P := by
  refine Bool.eq_iff_iff.mpr ?_
  unfold fitB
  rw [soO_iff, soC_iff]
  exact ⟨fun h1 j _ h2 => h1 j (by omega) (by omega) (by have := h j (by omega); omega), fun h1 j h2 _ _ => h1 j (by omega) (by omega)⟩
theorem mtw_si {p g i : Nat} {T : TT} {x : Int32} {σ : SS} (h : g ≠ 21) (h0 : g ≠ 1) : si (mtw p T σ) g i x = mtw p T (si σ g i x) := by
  refine Prod.ext (funext fun g' => funext fun j => ?_) rfl
  unfold si mtw
  by_cases c1 : g' = 21
  · subst c1
    have : ¬ 21 = g := fun z => h z.symm
    simp [this]
  · by_cases c2 : g' = 1
    · subst c2
      have : ¬ 1 = g := fun z => h0 z.symm
      simp [this]
    · simp [c1, c2]
theorem m_so45 {N nw na M t k r w : Nat} {Z : Sn} {P : Pg} {T : TT} {τ : SS} {K : Int32 → Int32 → Int32 → Int32 → SS → Option (Int32 × SS)} (hN1 : 1000 ≤ N) (hF : Fx T.1 nw na M) (hk : k ≤ 40) (ht : T.1 36 = nI (t + k)) (ht2 : t + k < 2 ^ 20) (hT : T.1 = pg nw na t P k) (hZ : Seen Z τ) (h16 : gi τ 21 16 = nI nw) (ho : gi τ 1 14 = T.1 40) (hm9 : gi τ 1 15 = T.1 39) (hA : ∀ i, i < na → gi τ 21 (156 + (17 + i)) = T.1 (17 + i)) : ∀ (m c e : Nat) (acc : Bool), e + c = Z.1 → c < m → F_X8_isAsSeen_45 N K m (nI r) (nI w) (b2i acc) (nI k) (nI e) (mtw 156 T τ) = K (nI r) (nI w) (b2i (acc && soM nw na t Z P k c e)) (nI (k + 1)) (mtw 156 (tickT T nw na (t + k) false) τ) := by
  obtain ⟨z1, z2, z3, z4⟩ := hZ
  have h4 := hF.1
  intro m
  induction m with
  | zero => intro c e acc _ h; omega
  | succ m ih =>
    intro c e acc he hm
    show B_X8_isAsSeen_45 N K (F_X8_isAsSeen_45 N K m) (nI r) (nI w) (b2i acc) (nI k) (nI e) (mtw 156 T τ) = _
    unfold B_X8_isAsSeen_45
    have e19 : gi (mtw 156 T τ) 1 19 = nI Z.1 := (mtw_1 (by omega) (by omega)).trans z3
    have e16 : gi (mtw 156 T τ) 21 16 = nI nw := (mtw_21 (by omega)).trans h16
    have e26 : ∀ i, gi (mtw 156 T τ) 26 i = gi τ 26 i := fun i => mtw_g (by omega) (by omega)
    rw [e19]
    cases c with
    | zero =>
      have ek := m_tick (N := N) (p := 156) (σ := τ) (fails := false) (by omega) (by omega) hF ht (by omega) ho hm9 hA
      rw [if_pos (nI_le (by omega) (by omega)), show F_X8_tickOn N 156 0 (mtw 156 T τ) = _ from ek, bd_s, nm_s, show nI k + 1 = nI (k + 1) from nI_1 k]
      show _ = K (nI r) (nI w) (b2i (acc && true)) (nI (k + 1)) _
      rw [Bool.and_true]
    | succ c =>
      obtain ⟨⟨a1, -, a2⟩, ⟨b1, -, b2⟩, -, d1⟩ := z4 e (by omega)
      obtain ⟨y0, y1, y2⟩ := ix3 e
      have hgo : ∀ acc', F_X8_isAsSeen_45 N K m (nI r) (nI w) (b2i acc') (nI k) (nI (e + 1)) (mtw 156 T τ) = K (nI r) (nI w) (b2i (acc' && soM nw na t Z P k c (e + 1))) (nI (k + 1)) (mtw 156 (tickT T nw na (t + k) false) τ) := fun acc' => ih c (e + 1) acc' (by omega) (by omega)
      have e109 : ∀ z : Bool, F_X8_isAsSeen_109 N K (F_X8_isAsSeen_45 N K m) (nI r) (nI w) (b2i acc) (nI k) (nI e) (b2i z) (mtw 156 T τ) = K (nI r) (nI w) (b2i (acc && ((decide (¬ Z.2.1 e = k) || z) && soM nw na t Z P k c (e + 1)))) (nI (k + 1)) (mtw 156 (tickT T nw na (t + k) false) τ) := fun z => by
        unfold F_X8_isAsSeen_109 F_X8_isAsSeen_134
        cases acc with
        | false =>
          rw [if_pos (show b2i false = 0 from rfl), nm_s, show nI e + 1 = nI (e + 1) from nI_1 e, show (0 : Int32) = b2i false from rfl, hgo false, Bool.false_and, Bool.false_and]
        | true =>
          rw [if_neg (show ¬ b2i true = 0 by decide), y0, gd_t (inR_nI (by omega) (by omega)), nI_clamp (by omega), e26, a2, Bool.true_and]
          by_cases c1 : Z.2.1 e = k
          · rw [if_pos (by rw [c1]), decide_eq_false (fun h => h c1), Bool.false_or]
            cases z with
            | false =>
              rw [if_pos (show b2i false = 0 from rfl), nm_s, show nI e + 1 = nI (e + 1) from nI_1 e, show (0 : Int32) = b2i false from rfl, hgo false, Bool.false_and]
            | true =>
              rw [if_neg (show ¬ b2i true = 0 by decide), nm_s, show nI e + 1 = nI (e + 1) from nI_1 e, show (1 : Int32) = b2i true from rfl, hgo true, Bool.true_and]
          · rw [if_neg (nI_eqL (by omega) (by omega) c1), decide_eq_true c1, Bool.true_or, Bool.true_and, nm_s, show nI e + 1 = nI (e + 1) from nI_1 e, show (1 : Int32) = b2i true from rfl, hgo true, Bool.true_and]
      have e108 : F_X8_isAsSeen_108 N K (F_X8_isAsSeen_45 N K m) (nI r) (nI w) (b2i acc) (nI k) (nI e) (mtw 156 T τ) = F_X8_isAsSeen_109 N K (F_X8_isAsSeen_45 N K m) (nI r) (nI w) (b2i acc) (nI k) (nI e) (b2i false) (mtw 156 T τ) := rfl
      rw [if_neg (nI_ge (by omega) (by omega)), y1, gd_t (inR_nI (by omega) (by omega)), nI_clamp (by omega), nm_s, e26, b2, gd_t r16, lc16, e16, e108]
      show _ = K (nI r) (nI w) (b2i (acc && ((decide (¬ Z.2.1 e = k) || (decide (Z.2.2.1 e < nw) && decide (pg nw na t P k (12 + Z.2.2.1 e) = Z.2.2.2 e))) && soM nw na t Z P k c (e + 1)))) (nI (k + 1)) _
      by_cases c1 : Z.2.2.1 e < nw
      · have i5 : (168 : Int32) + nI (Z.2.2.1 e) = nI (156 + (12 + Z.2.2.1 e)) := (nI_add 168 _).trans (congrArg nI (by omega))
        rw [if_neg (nI_ge c1 (by omega)), decide_eq_true c1, Bool.true_and, i5, y2, gd_t (r_c (by omega)), gd_t (inR_nI (by omega) (by omega)), nI_clamp (by omega), nI_clamp (by omega), m_go156 (dq_w b1).2.2.2 (by omega), e26, d1, hT]
        by_cases c2 : pg nw na t P k (12 + Z.2.2.1 e) = Z.2.2.2 e
        · rw [if_pos c2, decide_eq_true c2]
          exact e109 true
        · rw [if_neg c2, decide_eq_false c2]
          exact e109 false
      · rw [if_pos (nI_le (by omega) (by omega)), decide_eq_false c1, Bool.false_and]
        exact e109 false
/-- the swings of a wheel, in a row -/
def H27 (nw na t : Nat) (P : Pg) (w r : Nat) (τ : SS) (n : Nat) : Prop := ∀ k, k < n → gi τ 27 (41 * r + k) = pg nw na t P k (12 + w)
theorem m_so13 {N nw na M t r w : Nat} {Z : Sn} {P : Pg} (hN1 : 1000 ≤ N) (ht2 : t < 2 ^ 18) (hr : r < 10) (hw : w < 4) : ∀ (m c k : Nat) (acc : Bool) (T : TT) (τ : SS), k + c = 41 → c < m → Fx T.1 nw na M → T.1 36 = nI (t + k) → T.1 = pg nw na t P k → Seen Z τ → gi τ 21 16 = nI nw → gi τ 1 14 = T.1 40 → gi τ 1 15 = T.1 39 → (∀ i, i < na → gi τ 21 (156 + (17 + i)) = T.1 (17 + i)) → H27 nw na t P w r τ k → ∃ T' τ', F_X8_isAsSeen_13 N m (nI r) (nI w) (b2i acc) (nI k) (mtw 156 T τ) = some (b2i (acc && soO nw na t Z P c k), mtw 156 T' τ') ∧ (∀ g i, g ≠ 27 ∨ i < 41 * r ∨ 41 * r + 41 ≤ i → gi τ' g i = gi τ g i) ∧ τ'.2 = τ.2 ∧ H27 nw na t P w r τ' 41 := by
  intro m
  induction m with
  | zero => intro c k acc T τ _ h; omega
  | succ m ih =>
    intro c k acc T τ hk hm hF ht hT hZ h16 ho hm9 hA h27
    show ∃ T' τ', B_X8_isAsSeen_13 N (F_X8_isAsSeen_13 N m) (nI r) (nI w) (b2i acc) (nI k) (mtw 156 T τ) = _ ∧ _
    unfold B_X8_isAsSeen_13
    cases c with
    | zero =>
      have e41 : k = 41 := by omega
      subst e41
      refine ⟨T, τ, ?_, fun _ _ _ => rfl, rfl, h27⟩
      rw [if_pos (by decide), gd_t (b2i_01 acc)]
      show _ = some (b2i (acc && true), _)
      rw [Bool.and_true]
    | succ c =>
      have c1 : ¬ (40 : Int32) < nI k := nI_nlt (a := 40) (by omega) (by omega)
      have i1 : (168 : Int32) + nI w = nI (156 + (12 + w)) := (nI_add 168 _).trans (congrArg nI (by omega))
      have i2 : (41 : Int32) * nI r + nI k = nI (41 * r + k) := (congrArg (· + nI k) (nI_mulN 41 _)).trans (nI_add _ _)
      have hτ : ∀ g i, g ≠ 27 ∨ i ≠ 41 * r + k → gi (si τ 27 (41 * r + k) (T.1 (12 + w))) g i = gi τ g i := fun g i h => gi_sn h
      have hZ' : Seen Z (si τ 27 (41 * r + k) (T.1 (12 + w))) := hZ.to (hτ _ _ (by omega)) (hτ _ _ (by omega)) (fun i => hτ _ _ (by omega)) (fun i => hτ _ _ (by omega))
      have h16' : gi (si τ 27 (41 * r + k) (T.1 (12 + w))) 21 16 = nI nw := (hτ _ _ (by omega)).trans h16
      have ho' : gi (si τ 27 (41 * r + k) (T.1 (12 + w))) 1 14 = T.1 40 := (hτ _ _ (by omega)).trans ho
      have hm9' : gi (si τ 27 (41 * r + k) (T.1 (12 + w))) 1 15 = T.1 39 := (hτ _ _ (by omega)).trans hm9
      have hA' : ∀ i, i < na → gi (si τ 27 (41 * r + k) (T.1 (12 + w))) 21 (156 + (17 + i)) = T.1 (17 + i) := fun i hi => (hτ _ _ (by omega)).trans (hA i hi)
      have e45 := m_so45 (N := N) (r := r) (w := w) (P := P) (K := F_X8_isAsSeen_13 N m) hN1 hF (by omega) ht (by omega) hT hZ' h16' ho' hm9' hA' N Z.1 0 acc (by omega) (by have := hZ.1; omega)
      have hF' : Fx (tickT T nw na (t + k) false).1 nw na M := hF.tick
      obtain ⟨T2, τ2, f1, f2, f3, f4⟩ := ih c (k + 1) (acc && soM nw na t Z P k Z.1 0) (tickT T nw na (t + k) false) (si τ 27 (41 * r + k) (T.1 (12 + w))) (by omega) (by omega) hF' (by rw [tickT_36 hF, ht]; exact nI_1 (t + k)) (pg_s hT) hZ' h16' (by rw [tickT_ne hF (by unfold tw; omega)]; exact ho') (by rw [tickT_ne hF (by unfold tw; omega)]; exact hm9') (fun i hi => by rw [hA' i hi, tickT_ne hF (by have := hF.2.2.1; unfold tw; omega)]) (fun j hj => by
        by_cases e : j = k
        · subst e; rw [gi_se, hT]
        · rw [hτ _ _ (by omega)]; exact h27 j (by omega))
      refine ⟨T2, τ2, ?_, fun g i h => (f2 g i h).trans (hτ _ _ (by omega)), f3, f4⟩
      rw [if_neg c1, i1, gd_t (r_c (by omega)), i2, gd_t (inR_nI (by omega) (by omega)), nI_clamp (by omega), nI_clamp (by omega), m_go156 (dq_w hw).2.2.2 (by omega), nm_s, mtw_si (by omega) (by omega)]
      refine Eq.trans (show F_X8_isAsSeen_45 N (F_X8_isAsSeen_13 N m) N (nI r) (nI w) (b2i acc) (nI k) 0 _ = _ from e45) ?_
      rw [f1]
      show _ = some (b2i (acc && (soM nw na t Z P k Z.1 0 && soO nw na t Z P c (k + 1))), _)
      rw [Bool.and_assoc]
theorem m_isAsSeen {N nw na M t r w : Nat} {Z : Sn} {P : Pg} {s : SS} (hN1 : 1000 ≤ N) (ht2 : t < 2 ^ 18) (hr : r < 10) (hw : w < 4) (hz : mz 0 s = P) (hF : Fx P nw na M) (h36 : P 36 = nI t) (hZ : Seen Z s) : ∃ s', F_X8_isAsSeen N (nI r) (nI w) s = some (b2i (fitB nw na t Z P), s') ∧ (∀ g i, (g ≠ 27 ∨ i < 41 * r ∨ 41 * r + 41 ≤ i) → (g ≠ 21 ∨ i < 156 ∨ 195 ≤ i) → (g ≠ 1 ∨ (i ≠ 16 ∧ i ≠ 17)) → gi s' g i = gi s g i) ∧ s'.2 = s.2 ∧ H27 nw na t P w r s' 41 := by
  obtain ⟨h1', h2', h3', h4', h5'⟩ := m_made hz (Or.inl (by omega)) hF.2.2.2.1 hF.2.2.1
  have h2' := h2' 0 0
  have e16 : gi (mcp 0 156 39 s) 21 16 = nI nw := by
    have e := congrFun hz 16
    rw [mz_d rfl (by omega), Nat.zero_add] at e
    exact (mcp_g (by omega)).trans (e.trans hF.2.1)
  have hZ' : Seen Z (mcp 0 156 39 s) := hZ.to (mcp_g (by omega)) (mcp_g (by omega)) (fun i => mcp_g (by omega)) (fun i => mcp_g (by omega))
  generalize gi (mcp 0 156 39 s) 1 16 = o at h2'
  generalize gi (mcp 0 156 39 s) 1 17 = f at h2'
  obtain ⟨T', τ', e1, e2, e3, e4⟩ := m_so13 (N := N) (t := t) (r := r) (w := w) (Z := Z) (P := P) hN1 ht2 hr hw N 41 0 true (P, 0, 0, o, f) (mcp 0 156 39 s) rfl (by omega) hF h36 rfl hZ' e16 h3' h4' h5' (fun k hk => by omega)
  rw [h2', Bool.true_and, soO_fit (fun j hj => (hZ.2.2.2 j hj).1.1)] at e1
  refine ⟨mtw 156 T' τ', ?_, fun g i g1 g2 g3 => ?_, e3, fun k hk => (mtw_g (by omega) (by omega)).trans (e4 k hk)⟩
  · unfold F_X8_isAsSeen
    rw [show F_X8_copies N 0 156 s = _ from m_cp156 (p := 0) hN1 (Or.inl (by omega)), bd_s]
    exact e1
  · have e5 : gi (mtw 156 T' τ') g i = gi τ' g i := by
      by_cases c1 : g = 21
      · subst c1; exact mtw_21 (by omega)
      · by_cases c2 : g = 1
        · subst c2; exact mtw_1 (by omega) (by omega)
        · exact mtw_g c1 c2
    rw [e5, e2 g i g1]
    exact mcp_g (by omega)
/-- the numbers that fit, as bits -/
def maskF (fit : Nat → Bool) : Nat → Nat → Int32 → Int32
  | 0, _, x => x
  | c + 1, v, x => maskF fit c (v + 1) (if fit v = true then x ||| ((1 : Int32) <<< (nI v &&& 31)) else x ||| 0)
def SameX (at_ : Nat) (σ z : SS) : Prop := (∀ g i, ¬ hid g i → ¬ (g = 21 ∧ i = at_) → gi z g i = gi σ g i) ∧ z.2.2 = σ.2.2
theorem m_nums {B N nw na M t w j many : Nat} {Z : Sn} {P : Pg} {σ : SS} (hN1 : 1000 ≤ N) (hN : Now B σ P nw na M t) (hZ : Seen Z σ) (hw : w < 4) (hj : j < 12) (hmany : many ≤ 10) (hFx : ∀ v, v < many → Fx (pu P j (nI v)) nw na M) : ∀ (m c v : Nat) (x : Int32) (s : SS), v + c = many → c < m → SameX j σ s → (∃ y, mz 0 s = pu P j y) → (∀ u, u < v → H27 nw na t (pu P j (nI u)) w u s 41) → ∃ s', F_X8_numbersAt_14 N m (nI j) (nI w) (nI many) (P j) x (nI v) s = some (maskF (fun v => fitB nw na t Z (pu P j (nI v))) c v x, s') ∧ Same σ s' ∧ (∀ u, u < many → H27 nw na t (pu P j (nI u)) w u s' 41) := by
  have hq : dq j = true := by
    unfold dq
    simp
    omega
  have ht9 := hN.2.1.2.2.1
  intro m
  induction m with
  | zero => intro c v x s _ h; omega
  | succ m ih =>
    intro c v x s hv hm hS hy h27
    show ∃ s', B_X8_numbersAt_14 N (F_X8_numbersAt_14 N m) (nI j) (nI w) (nI many) (P j) x (nI v) s = _ ∧ _
    unfold B_X8_numbersAt_14
    have rj : inR (nI j) 234 := inR_nI (by omega) (by omega)
    have kj : (nI j).toNatClampNeg = j := nI_clamp (by omega)
    cases c with
    | zero =>
      refine ⟨si s 21 j (P j), ?_, ⟨fun g i hg => ?_, hS.2⟩, fun u hu k hk => (gi_sn (by omega)).trans (h27 u (by omega) k hk)⟩
      · rw [if_pos (nI_le (by omega) (by omega)), gd_t rj, kj, nm_s]
        rfl
      · by_cases c1 : g = 21 ∧ i = j
        · obtain ⟨rfl, rfl⟩ := c1
          rw [gi_se]
          exact (hN.2.2.2.1 i hq (by omega)).symm
        · rw [gi_sn (by omega)]
          exact hS.1 g i hg c1
    | succ c =>
      obtain ⟨y, hy⟩ := hy
      have hz2 : mz 0 (si s 21 j (nI v)) = pu P j (nI v) := by
        have h9 := mz_put (p := 0) (x := nI v) (σ := s) hq (by omega) (by omega)
        rw [Nat.zero_add] at h9
        rw [h9, hy, pu_pu]
      have hs1 : ∀ g i, ¬ hid g i → ¬ (g = 21 ∧ i = j) → gi (si s 21 j (nI v)) g i = gi σ g i := fun g i h1 h2 => (gi_sn (by omega)).trans (hS.1 g i h1 h2)
      have hZ1 : Seen Z (si s 21 j (nI v)) := hZ.to (hs1 _ _ (by unfold hid; omega) (by omega)) (hs1 _ _ (by unfold hid; omega) (by omega)) (fun i => hs1 _ _ (by unfold hid; omega) (by omega)) (fun i => hs1 _ _ (by unfold hid; omega) (by omega))
      obtain ⟨s2, e1, e2, e3, e4⟩ := m_isAsSeen (N := N) (r := v) (w := w) (t := t) (s := si s 21 j (nI v)) hN1 (by omega) (by omega) hw hz2 (hFx v (by omega)) ((pu_ne (by omega)).trans hN.2.1.2.1) hZ1
      have hS2 : SameX j σ s2 := by
        refine ⟨fun g i h1 h2 => ?_, ?_⟩
        · rw [e2 g i (by unfold hid at h1; omega) (by unfold hid at h1; omega) (by unfold hid at h1; omega)]
          exact hs1 g i h1 h2
        · rw [e3]; exact hS.2
      have hz3 : mz 0 s2 = pu P j (nI v) := by
        refine Eq.trans (mz_congr (fun i hi => ?_) ?_ ?_) hz2
        · exact e2 _ _ (by omega) (by omega) (by omega)
        · exact e2 _ _ (by omega) (by omega) (by omega)
        · exact e2 _ _ (by omega) (by omega) (by omega)
      have h27' : ∀ u, u < v + 1 → H27 nw na t (pu P j (nI u)) w u s2 41 := fun u hu => by
        by_cases c1 : u = v
        · subst c1; exact e4
        · intro k hk
          rw [e2 _ _ (by omega) (by omega) (by omega), gi_sn (by omega)]
          exact h27 u (by omega) k hk
      rw [if_neg (nI_ge (by omega) (by omega)), gd_t rj, kj, nm_s, e1, bd_s]
      show ∃ s', _ = some (maskF (fun v => fitB nw na t Z (pu P j (nI v))) c (v + 1) (if fitB nw na t Z (pu P j (nI v)) = true then x ||| ((1 : Int32) <<< (nI v &&& 31)) else x ||| 0), s') ∧ _
      cases hb : fitB nw na t Z (pu P j (nI v)) with
      | false =>
        rw [if_pos (show b2i false = 0 from rfl), nm_s, nm_s, show nI v + 1 = nI (v + 1) from nI_1 v, if_neg (by decide)]
        exact ih c (v + 1) _ s2 (by omega) (by omega) hS2 ⟨_, hz3⟩ h27'
      | true =>
        rw [if_neg (show ¬ b2i true = 0 by decide), nm_s, nm_s, show nI v + 1 = nI (v + 1) from nI_1 v, if_pos rfl]
        exact ih c (v + 1) _ s2 (by omega) (by omega) hS2 ⟨_, hz3⟩ h27'
theorem m_numbersAt {B N nw na M t w j many : Nat} {Z : Sn} {P : Pg} {σ : SS} (hN1 : 1000 ≤ N) (hN : Now B σ P nw na M t) (hZ : Seen Z σ) (hw : w < 4) (hj : j < 12) (hmany : many ≤ 10) (hFx : ∀ v, v < many → Fx (pu P j (nI v)) nw na M) : ∃ s', F_X8_numbersAt N (nI j) (nI w) (nI many) σ = some (maskF (fun v => fitB nw na t Z (pu P j (nI v))) many 0 0, s') ∧ Same σ s' ∧ (∀ u, u < many → H27 nw na t (pu P j (nI u)) w u s' 41) := by
  have hq : dq j = true := by
    unfold dq
    simp
    omega
  obtain ⟨s', e1, e2, e3⟩ := m_nums (N := N) hN1 hN hZ hw hj hmany hFx N many 0 0 σ (by omega) (by omega) ⟨fun _ _ _ _ => rfl, rfl⟩ ⟨P j, by rw [pu_self]; exact hN.1.2⟩ (fun u hu => by omega)
  refine ⟨s', ?_, e2, e3⟩
  unfold F_X8_numbersAt
  rw [gd_t (inR_nI (by omega) (by omega)), nI_clamp (by omega), nm_s, hN.2.2.2.1 j hq (by omega)]
  exact e1
/-- the component tries now with one place changed: whether it is as seen -/
theorem c_trySo {B N nw na M t j : Nat} {x : Int32} {Z : Sn} {s : SS} {P : Pg} (hN1 : 1000 ≤ N) (hI : Rel B s) (hN : Now B s P nw na M t) (hZ : Seen Z s) (hj : dm j = true) (h36 : j ≠ 36) (hF' : Fx (pu P j x) nw na M) : ∃ τ s1, F_X5_as N 1 0 s = some ((), τ) ∧ F_X0_isSo N (si τ (iS 1) j x) = some (b2i (fitB nw na t Z (pu P j x)), s1) ∧ Same s s1 ∧ H5 nw na t (pu P j x) s1 41 0 ∧ (∀ i, gi s1 6 i = gi s 6 i) := by
  obtain ⟨τ, C, e1, e2, e3, e4, -⟩ := c_try4 hN1 hI hN
  have hna := hN.2.1.1.2.2.1
  have hS1 : Same s (ctw 1 (pu P j x, C) τ) := e2.trans Same.ctw
  obtain ⟨s1, f1, f2, f3, f4⟩ := c_isSo (N := N) (P' := pu P j x) (C := C) (τ := τ) hN1 (hN.sm hS1) (hZ.sm e2) hF' ((pu_ne (fun z => h36 z.symm)).trans hN.2.1.2.1) (fun i hi => by rw [e3 i hi, pu_ne (dm_A hj (by omega))])
  refine ⟨ctw 1 (P, C) τ, s1, e1, ?_, hS1.trans f2, f3, fun i => (f4 i).trans (e4 _ _ (by omega) (by omega))⟩
  rw [c_sS hj]
  exact f1
theorem c_kinds {B N nw na M t w : Nat} {Z : Sn} {P : Pg} (hN1 : 1000 ≤ N) (hw : w < nw) : ∀ (m c v : Nat) (x : Int32) (s : SS), Rel B s → Now B s P nw na M t → Seen Z s → v + c = 4 → c < m → ∃ s', F_X0_kinds_14 N m (nI w) x (nI v) s = some (maskF (fun v => fitB nw na t Z (pu P w (nI v))) c v x, s') ∧ Same s s' := by
  intro m
  induction m with
  | zero => intro c v x s _ _ _ _ h; omega
  | succ m ih =>
    intro c v x s hI hN hZ hv hm
    have h4 := hN.2.1.1.1
    show ∃ s', B_X0_kinds_14 N (F_X0_kinds_14 N m) (nI w) x (nI v) s = _ ∧ _
    unfold B_X0_kinds_14
    cases c with
    | zero =>
      have c1 : (4 : Int32) ≤ nI v := nI_le (a := 4) (by omega) (by omega)
      exact ⟨s, if_pos c1, Same.refl s⟩
    | succ c =>
      have c1 : ¬ (4 : Int32) ≤ nI v := nI_ge (b := 4) (by omega) (by omega)
      obtain ⟨τ, s1, e1, e2, e3, -⟩ := c_trySo (x := nI v) (j := w) hN1 hI hN hZ (dm_w (show w < 4 by omega)).1 (by omega) (Fx_kind hN.2.1.1 hw (by omega) (by omega))
      obtain ⟨s2, f1, f2⟩ := ih c (v + 1) (if fitB nw na t Z (pu P w (nI v)) = true then x ||| ((1 : Int32) <<< (nI v &&& 31)) else x ||| 0) s1 (hI.same e3) (hN.sm e3) (hZ.sm e3) (by omega) (by omega)
      refine ⟨s2, ?_, e3.trans f2⟩
      rw [if_neg c1, e1, bd_s, gd_t (inR_nI (by omega) (by omega)), nI_clamp (by omega), nm_s, nm_s, e2, bd_s]
      refine Eq.trans ?_ f1
      cases hb : fitB nw na t Z (pu P w (nI v)) with
      | false => rw [if_pos (show b2i false = 0 from rfl), nm_s, nm_s, show nI v + 1 = nI (v + 1) from nI_1 v, if_neg (by decide)]
      | true => rw [if_neg (show ¬ b2i true = 0 by decide), nm_s, nm_s, show nI v + 1 = nI (v + 1) from nI_1 v, if_pos rfl]
theorem c_isLossSo {B N nw na M t w v : Nat} {Z : Sn} {P : Pg} {s : SS} (hN1 : 1000 ≤ N) (hI : Rel B s) (hN : Now B s P nw na M t) (hZ : Seen Z s) (hw : w < nw) (hv : v < 10) : ∃ s1, F_X0_isLossSo N (nI w) (nI v) s = some (b2i (fitB nw na t Z (pu P (8 + w) (nI v))), s1) ∧ Same s s1 ∧ H5 nw na t (pu P (8 + w) (nI v)) s1 41 0 ∧ (∀ i, gi s1 6 i = gi s 6 i) := by
  have h4 := hN.2.1.1.1
  obtain ⟨τ, s1, e1, e2, e3, e4, e5⟩ := c_trySo (x := nI v) (j := 8 + w) hN1 hI hN hZ (dm_w (show w < 4 by omega)).2.2.1 (by omega) (Fx_loss hN.2.1.1 hw hv)
  refine ⟨s1, ?_, e3, e4, e5⟩
  unfold F_X0_isLossSo
  rw [e1, bd_s, gd_t (inR_nI (by omega) (by omega)), nI_clamp (by omega), nm_s, nm_s, e2, bd_s, gd_t (b2i_01 _)]
theorem c_losses {B N nw na M t w : Nat} {Z : Sn} {P : Pg} (hN1 : 1000 ≤ N) (hw : w < nw) : ∀ (m c v : Nat) (x : Int32) (s : SS), Rel B s → Now B s P nw na M t → Seen Z s → v + c = 10 → c < m → ∃ s', F_X0_losses_14 N m (nI w) x (nI v) s = some (maskF (fun v => fitB nw na t Z (pu P (8 + w) (nI v))) c v x, s') ∧ Same s s' := by
  intro m
  induction m with
  | zero => intro c v x s _ _ _ _ h; omega
  | succ m ih =>
    intro c v x s hI hN hZ hv hm
    show ∃ s', B_X0_losses_14 N (F_X0_losses_14 N m) (nI w) x (nI v) s = _ ∧ _
    unfold B_X0_losses_14
    cases c with
    | zero =>
      have c1 : (9 : Int32) < nI v := nI_lt (a := 9) (by omega) (by omega)
      exact ⟨s, if_pos c1, Same.refl s⟩
    | succ c =>
      have c1 : ¬ (9 : Int32) < nI v := nI_nlt (a := 9) (by omega) (by omega)
      obtain ⟨s1, e2, e3, -⟩ := c_isLossSo (v := v) hN1 hI hN hZ hw (by omega)
      obtain ⟨s2, f1, f2⟩ := ih c (v + 1) (if fitB nw na t Z (pu P (8 + w) (nI v)) = true then x ||| ((1 : Int32) <<< (nI v &&& 31)) else x ||| 0) s1 (hI.same e3) (hN.sm e3) (hZ.sm e3) (by omega) (by omega)
      refine ⟨s2, ?_, e3.trans f2⟩
      rw [if_neg c1, e2, bd_s]
      refine Eq.trans ?_ f1
      cases hb : fitB nw na t Z (pu P (8 + w) (nI v)) with
      | false => rw [if_pos (show b2i false = 0 from rfl), nm_s, nm_s, show nI v + 1 = nI (v + 1) from nI_1 v, if_neg (by decide)]
      | true => rw [if_neg (show ¬ b2i true = 0 by decide), nm_s, nm_s, show nI v + 1 = nI (v + 1) from nI_1 v, if_pos rfl]
theorem p_kinds {N : Nat} (hN9 : 2 ^ 70 ≤ N) : Sp30 Inv N := by
  have hN1 : 1000 ≤ N := Nat.le_trans (by decide) hN9
  intro t σ x1 ht hI
  obtain ⟨P, nw, na, M, t9, hN⟩ := hI.now
  have h4 := hN.2.1.1.1
  obtain ⟨Z, hZ⟩ := hI.2.2.2.2.1.seen
  refine q_same (A := F_X0_kinds N x1) (C := F_X8_kinds N x1) hI ?_
  unfold F_X0_kinds F_X8_kinds
  by_cases h1 : InR x1 0 nw
  · obtain ⟨w, -, hw, rfl⟩ := id h1
    obtain ⟨s1, e1, e2⟩ := c_kinds (N := N) (w := w) hN1 hw N 4 0 0 σ hI hN hZ rfl (by omega)
    obtain ⟨s2, f1, f2, -⟩ := m_numbersAt (N := N) (w := w) (j := w) (many := 4) hN1 (hN.sm e2) (hZ.sm e2) (by omega) (by omega) (by omega) (fun v hv => Fx_kind hN.2.1.1 hw (by omega) hv)
    refine ⟨maskF (fun v => fitB nw na t9 Z (pu P w (nI v))) 4 0 0, s1, s2, ?_, ?_, e2.trans f2⟩
    · rw [(c_isWheel hN).1 h1, bd_s, if_neg e10]
      exact e1
    · rw [(m_isWheel (hN.sm e2)).1 h1, bd_s, if_neg e10, show F_X8_numbersAt N (nI w) (nI w) 4 s1 = _ from f1, bd_s]
  · refine ⟨-1, σ, σ, ?_, ?_, Same.refl σ⟩
    · rw [(c_isWheel hN).2 h1, bd_s, if_pos rfl]
    · rw [(m_isWheel hN).2 h1, bd_s, if_pos rfl]
theorem p_losses {N : Nat} (hN9 : 2 ^ 70 ≤ N) : Sp31 Inv N := by
  have hN1 : 1000 ≤ N := Nat.le_trans (by decide) hN9
  intro t σ x1 ht hI
  obtain ⟨P, nw, na, M, t9, hN⟩ := hI.now
  have h4 := hN.2.1.1.1
  obtain ⟨Z, hZ⟩ := hI.2.2.2.2.1.seen
  refine q_same (A := F_X0_losses N x1) (C := F_X8_losses N x1) hI ?_
  unfold F_X0_losses F_X8_losses
  by_cases h1 : InR x1 0 nw
  · obtain ⟨w, -, hw, rfl⟩ := id h1
    obtain ⟨s1, e1, e2⟩ := c_losses (N := N) (w := w) hN1 hw N 10 0 0 σ hI hN hZ rfl (by omega)
    obtain ⟨s2, f1, f2, -⟩ := m_numbersAt (N := N) (w := w) (j := 8 + w) (many := 10) hN1 (hN.sm e2) (hZ.sm e2) (by omega) (by omega) (by omega) (fun v hv => Fx_loss hN.2.1.1 hw hv)
    refine ⟨maskF (fun v => fitB nw na t9 Z (pu P (8 + w) (nI v))) 10 0 0, s1, s2, ?_, ?_, e2.trans f2⟩
    · rw [(c_isWheel hN).1 h1, bd_s, if_neg e10]
      exact e1
    · rw [(m_isWheel (hN.sm e2)).1 h1, bd_s, if_neg e10, show (8 : Int32) + nI w = nI (8 + w) from nI_add 8 w, show F_X8_numbersAt N (nI (8 + w)) (nI w) 10 s1 = _ from f1, bd_s]
  · refine ⟨-1, σ, σ, ?_, ?_, Same.refl σ⟩
    · rw [(c_isWheel hN).2 h1, bd_s, if_pos rfl]
    · rw [(m_isWheel hN).2 h1, bd_s, if_pos rfl]
