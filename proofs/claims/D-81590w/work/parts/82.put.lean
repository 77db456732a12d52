/-! THE PLAIN LAW: places written one behind another; alter, put -/
set_option maxRecDepth 100000
def wP (P : Pg) : List (Nat × Int32) → Pg
  | [] => P
  | p :: L => wP (pu P p.1 p.2) L
def wS (g : Nat) (σ : SS) : List (Nat × Int32) → SS
  | [] => σ
  | p :: L => wS g (si σ g p.1 p.2) L
theorem wS_eq {g i : Nat} : ∀ (L : List (Nat × Int32)) (σ : SS) (P : Pg), gi σ g i = P i → gi (wS g σ L) g i = wP P L i := by
  intro L
  induction L with
  | nil => intro σ P h; exact h
  | cons p L ih =>
    intro σ P h
    refine ih (si σ g p.1 p.2) (pu P p.1 p.2) ?_
    by_cases e : i = p.1
    · rw [e, gi_se, pu_eq]
    · rw [gi_sn (Or.inr e), pu_ne e]; exact h
theorem wS_ne {g g' i : Nat} (hg : g' ≠ g) : ∀ (L : List (Nat × Int32)) (σ : SS), gi (wS g σ L) g' i = gi σ g' i := by
  intro L
  induction L with
  | nil => intro σ; rfl
  | cons p L ih =>
    intro σ
    exact (ih (si σ g p.1 p.2)).trans (gi_sn (Or.inl hg))
theorem wS_n2 {g i : Nat} : ∀ (L : List (Nat × Int32)) (σ : SS), (∀ p, p ∈ L → p.1 ≠ i) → gi (wS g σ L) g i = gi σ g i := by
  intro L
  induction L with
  | nil => intro σ _; rfl
  | cons p L ih =>
    intro σ h
    exact (ih (si σ g p.1 p.2) fun x hx => h x (List.mem_cons_of_mem _ hx)).trans (gi_sn (Or.inr fun z => h p List.mem_cons_self z.symm))
theorem wP_ne {i : Nat} : ∀ (L : List (Nat × Int32)) (P : Pg), (∀ p, p ∈ L → p.1 ≠ i) → wP P L i = P i := by
  intro L
  induction L with
  | nil => intro P _; rfl
  | cons p L ih =>
    intro P h
    exact (ih (pu P p.1 p.2) fun x hx => h x (List.mem_cons_of_mem _ hx)).trans (pu_ne fun z => h p List.mem_cons_self z.symm)
theorem wS_22 {g : Nat} : ∀ (L : List (Nat × Int32)) (σ : SS), (wS g σ L).2.2 = σ.2.2 := by
  intro L
  induction L with
  | nil => intro σ; rfl
  | cons p L ih => intro σ; exact ih (si σ g p.1 p.2)
theorem Ag.wS {X : Nat → Nat → Prop} {σ : SS} {g : Nat} : ∀ (L : List (Nat × Int32)) (σ' : SS), Ag X σ σ' → (∀ p, p ∈ L → X g p.1) → Ag X σ (wS g σ' L) := by
  intro L
  induction L with
  | nil => intro σ' h _; exact h
  | cons p L ih =>
    intro σ' h hx
    exact ih (si σ' g p.1 p.2) (h.put (hx p List.mem_cons_self)) fun x hy => hx x (List.mem_cons_of_mem _ hy)
/-- now changed: all that is asked -/
theorem now_to {B B' nw na M t : Nat} {σ σ' : SS} {P : Pg} (hI : Rel B σ) (hB : B ≤ B') (ag : Ag XP σ σ') (es : σ'.2.2 = σ.2.2) (af : AF 0 σ') (hF : Fx P nw na M) (ht : P 36 = nI t) (ht2 : t ≤ 9999) (h39 : P 39 = -4) (h40 : P 40 = -4) (hS : Sw B' P) (hc : ∀ i, dm i = true → gi σ' (iS 0) i = P i) (hm : ∀ i, dq i = true → i ≠ 34 → gi σ' 21 i = P i) (h34 : gi σ' 21 34 = P 34 - 5) (hcA : ∀ i, i < na → gi σ' (iAA 0) i = P (17 + i)) (hmA : ∀ i, i < na → gi σ' 21 (17 + i) = P (17 + i)) : Rel B' σ' := by
  obtain ⟨P0, nw0, na0, M0, t0, hN⟩ := hI.now
  obtain ⟨-, -, -, -, -, -, -, g14, g15⟩ := hN
  have e14 : gi σ' 1 14 = -4 := (ag 1 14 (by unfold hid; omega) (by unfold XP; omega)).trans g14
  have e15 : gi σ' 1 15 = -4 := (ag 1 15 (by unfold hid; omega) (by unfold XP; omega)).trans g15
  exact Rel.exP hI hB ag es (hI.P.now hB ag (now_back hF ht ht2 h39 h40 hS hc hm h34 hcA hmA e14 e15) af)
theorem now_setL {B B' nw na M t nw' na' M' t' : Nat} {σ : SS} {P : Pg} {L : List (Nat × Int32)} (hI : Rel B σ) (hB : B ≤ B') (hN : Now B σ P nw na M t) (hL : ∀ p, p ∈ L → dq p.1 = true ∧ p.1 ≠ 34) (hF' : Fx (wP P L) nw' na' M') (hna : na' ≤ na) (ht : wP P L 36 = nI t') (ht2 : t' ≤ 9999) (hS : Sw B' (wP P L)) : Rel B' (wS 21 (wS (iS 0) σ L) L) := by
  obtain ⟨-, ⟨hF, q2, q3, q4, q5, q6⟩, hc, hm, h34, hcA, hmA, g14, g15⟩ := id hN
  have hr : ∀ p, p ∈ L → (p.1 < 17 ∨ (33 ≤ p.1 ∧ p.1 < 39)) ∧ p.1 ≠ 34 := fun p hp => ⟨by
    have h := (hL p hp).1
    unfold dq at h
    simpa using h, (hL p hp).2⟩
  have hn16 := hF.2.2.1
  refine now_to hI hB (Ag.wS L _ (Ag.wS L _ Ag.refl fun p hp => Or.inl rfl) fun p hp => Or.inr (Or.inr ⟨rfl, by have := hr p hp; omega⟩)) ((wS_22 L _).trans (wS_22 L σ)) (hI.2.2.1.1.sub fun i => (wS_ne (by omega) L _).trans (wS_ne (by unfold iS; omega) L σ)) hF' ht ht2 ((wP_ne L P fun p hp => by have := hr p hp; omega).trans q4) ((wP_ne L P fun p hp => by have := hr p hp; omega).trans q5) hS ?_ ?_ ?_ ?_ ?_
  · exact fun i hi => (wS_ne (by unfold iS; omega) L _).trans (wS_eq L σ P (hc i hi))
  · exact fun i hi hne => wS_eq L _ P ((wS_ne (by unfold iS; omega) L σ).trans (hm i hi hne))
  · rw [wS_n2 L _ fun p hp => (hr p hp).2, wS_ne (by unfold iS; omega) L σ, h34, wP_ne L P fun p hp => (hr p hp).2]
  · intro i hi
    rw [wS_ne (by unfold iAA; omega) L _, wS_ne (by unfold iAA iS; omega) L σ, hcA i (by omega), wP_ne L P fun p hp => by have := hr p hp; omega]
  · intro i hi
    rw [wS_n2 L _ fun p hp => by have := hr p hp; omega, wS_ne (by unfold iS; omega) L σ, hmA i (by omega), wP_ne L P fun p hp => by have := hr p hp; omega]
-- what a place of a wheel may hold: from .. up to (not with)
def cbl (k : Nat) : Nat := if k = 1 then 1 else 0
def cbh (k : Nat) : Nat := if k = 0 then 4 else if k = 1 then 21 else if k = 2 then 10 else 10000
theorem four {k : Nat} (h : k < 4) : k = 0 ∨ k = 1 ∨ k = 2 ∨ k = 3 := by omega
theorem c_canBe1 {N k : Nat} {x : Int32} {σ : SS} (hk : k < 4) (h : InR x (cbl k) (cbh k)) : F_X0_canBe N (nI k) x σ = some (1, σ) := by
  rcases four hk with rfl | rfl | rfl | rfl
  · show bd (F_X0_in N x.toInt64 0 3 σ) _ = _
    rw [in_1 (a := 0) (b := 4) (by decide) (by decide) (by decide) h, bd_s, gd_t (Or.inr rfl)]
  · show bd (F_X0_in N x.toInt64 1 20 σ) _ = _
    rw [in_1 (a := 1) (b := 21) (by decide) (by decide) (by decide) h, bd_s, gd_t (Or.inr rfl)]
  · show bd (F_X0_in N x.toInt64 0 9 σ) _ = _
    rw [in_1 (a := 0) (b := 10) (by decide) (by decide) (by decide) h, bd_s, gd_t (Or.inr rfl)]
  · show bd (F_X0_in N x.toInt64 0 9999 σ) _ = _
    rw [in_1 (a := 0) (b := 10000) (by decide) (by decide) (by decide) h, bd_s, gd_t (Or.inr rfl)]
theorem c_canBe0 {N k : Nat} {x : Int32} {σ : SS} (hk : k < 4) (h : ¬ InR x (cbl k) (cbh k)) : F_X0_canBe N (nI k) x σ = some (0, σ) := by
  rcases four hk with rfl | rfl | rfl | rfl
  · show bd (F_X0_in N x.toInt64 0 3 σ) _ = _
    rw [in_0 (a := 0) (b := 4) (by decide) (by decide) (by decide) h, bd_s, gd_t (Or.inl rfl)]
  · show bd (F_X0_in N x.toInt64 1 20 σ) _ = _
    rw [in_0 (a := 1) (b := 21) (by decide) (by decide) (by decide) h, bd_s, gd_t (Or.inl rfl)]
  · show bd (F_X0_in N x.toInt64 0 9 σ) _ = _
    rw [in_0 (a := 0) (b := 10) (by decide) (by decide) (by decide) h, bd_s, gd_t (Or.inl rfl)]
  · show bd (F_X0_in N x.toInt64 0 9999 σ) _ = _
    rw [in_0 (a := 0) (b := 10000) (by decide) (by decide) (by decide) h, bd_s, gd_t (Or.inl rfl)]
theorem c_canBeN {N : Nat} {k x : Int32} {σ : SS} (hk : ¬ InR k 0 4) : F_X0_canBe N k x σ = some (0, σ) := by
  unfold F_X0_canBe
  refine if_pos ?_
  by_cases h : k.toInt < 0
  · exact Or.inl h
  · refine Or.inr (Int.not_le.mp fun h2 => hk ⟨k.toInt.toNat, Nat.zero_le _, by omega, Int32.toInt_inj.mp ?_⟩)
    rw [nI_toInt (by omega)]
    omega
theorem m_alter1 {N k : Nat} {x1 x3 : Int32} {σ : SS} (hk : k < 4) (h : InR x3 (cbl k) (cbh k)) : F_X8_alter N x1 (nI k) x3 σ = F_X8_alter_72 N x1 (nI k) x3 1 σ := by
  rcases four hk with rfl | rfl | rfl | rfl
  · show bd (F_X8_in N x3.toInt64 0 3 σ) _ = _
    rw [m_in_e, in_1 (a := 0) (b := 4) (by decide) (by decide) (by decide) h, bd_s]
  · show bd (F_X8_in N x3.toInt64 1 20 σ) _ = _
    rw [m_in_e, in_1 (a := 1) (b := 21) (by decide) (by decide) (by decide) h, bd_s]
  · show bd (F_X8_in N x3.toInt64 0 9 σ) _ = _
    rw [m_in_e, in_1 (a := 0) (b := 10) (by decide) (by decide) (by decide) h, bd_s]
  · show bd (F_X8_in N x3.toInt64 0 9999 σ) _ = _
    rw [m_in_e, in_1 (a := 0) (b := 10000) (by decide) (by decide) (by decide) h, bd_s, if_neg e10]
theorem m_alter0 {N k : Nat} {x1 x3 : Int32} {σ : SS} (hk : k < 4) (h : ¬ InR x3 (cbl k) (cbh k)) : F_X8_alter N x1 (nI k) x3 σ = F_X8_alter_72 N x1 (nI k) x3 0 σ := by
  rcases four hk with rfl | rfl | rfl | rfl
  · show bd (F_X8_in N x3.toInt64 0 3 σ) _ = _
    rw [m_in_e, in_0 (a := 0) (b := 4) (by decide) (by decide) (by decide) h, bd_s]
  · show bd (F_X8_in N x3.toInt64 1 20 σ) _ = _
    rw [m_in_e, in_0 (a := 1) (b := 21) (by decide) (by decide) (by decide) h, bd_s]
  · show bd (F_X8_in N x3.toInt64 0 9 σ) _ = _
    rw [m_in_e, in_0 (a := 0) (b := 10) (by decide) (by decide) (by decide) h, bd_s]
  · show bd (F_X8_in N x3.toInt64 0 9999 σ) _ = _
    rw [m_in_e, in_0 (a := 0) (b := 10000) (by decide) (by decide) (by decide) h, bd_s, if_pos rfl]
    rfl
theorem m_alterN {N : Nat} {x1 k x3 : Int32} {σ : SS} (hk : ¬ InR k 0 4) : F_X8_alter N x1 k x3 σ = F_X8_alter_72 N x1 k x3 0 σ := by
  unfold F_X8_alter
  have h : ∀ j : Nat, j < 4 → ¬ k = nI j := fun j hj e => hk ⟨j, Nat.zero_le _, hj, e⟩
  rw [if_neg (show ¬ k = 0 from h 0 (by decide)), if_neg (show ¬ k = 1 from h 1 (by decide)), if_neg (show ¬ k = 2 from h 2 (by decide)), if_neg (show ¬ k = 3 from h 3 (by decide))]
  rfl
theorem m_alter_no {N : Nat} {x1 k x3 : Int32} {σ : SS} {r : Int32} (h : F_X8_isWheel N x1 σ = some (r, σ)) : F_X8_alter_72 N x1 k x3 0 σ = some (-1, σ) := by
  unfold F_X8_alter_72
  rw [h, bd_s]
  by_cases c : r = 0
  · rw [if_pos c]; rfl
  · rw [if_neg c, if_pos rfl]; rfl
theorem Fx_alter {P : Pg} {nw na M w k v : Nat} (h : Fx P nw na M) (hw : w < nw) (hk : k < 4) (h1 : cbl k ≤ v) (h2 : v < cbh k) : Fx (pu P (4 * k + w) (nI v)) nw na M := by
  obtain ⟨g1, g2, g3, g4, g5, g6, g7⟩ := h
  refine ⟨g1, by rw [pu_ne (by omega)]; exact g2, g3, by rw [pu_ne (by omega)]; exact g4, ⟨g5.1, g5.2.1, by rw [pu_ne (by omega)]; exact g5.2.2⟩, fun u hu => ?_, fun j hj => by rw [pu_ne (by omega)]; exact g7 j hj⟩
  obtain ⟨⟨kd, a1, a2⟩, ⟨m, b1, b2, b3⟩, l, d1, d2⟩ := g6 u hu
  refine ⟨?_, ?_, ?_⟩
  · by_cases e : u = 4 * k + w
    · have hk0 : k = 0 := by omega
      subst hk0
      exact ⟨v, h2, by rw [e, pu_eq]⟩
    · exact ⟨kd, a1, by rw [pu_ne e]; exact a2⟩
  · by_cases e : 4 + u = 4 * k + w
    · have hk0 : k = 1 := by omega
      subst hk0
      have h2 : v < 21 := h2
      exact ⟨v, h1, by omega, by rw [e, pu_eq]⟩
    · exact ⟨m, b1, b2, by rw [pu_ne e]; exact b3⟩
  · by_cases e : 8 + u = 4 * k + w
    · have hk0 : k = 2 := by omega
      subst hk0
      have h2 : v < 10 := h2
      exact ⟨v, by omega, by rw [e, pu_eq]⟩
    · exact ⟨l, d1, by rw [pu_ne e]; exact d2⟩
theorem Sw_set {B B' w v : Nat} {P : Pg} (h : Sw B P) (hw : w < 4) (hv : v < 10000) (hB : B + 10000 ≤ B') : Sw B' (pu P (12 + w) (nI v)) := by
  obtain ⟨h1, h2, h3, h4, h5, h6⟩ := h
  have e := nI_toInt (n := v) (by omega)
  rcases four hw with rfl | rfl | rfl | rfl
  · refine ⟨?_, ?_, ?_, ?_, ?_, ?_⟩ <;> simp only [Nat.add_zero, pu_eq, pu_ne (show (35 : Nat) ≠ 12 by decide), pu_ne (show (13 : Nat) ≠ 12 by decide), pu_ne (show (14 : Nat) ≠ 12 by decide), pu_ne (show (15 : Nat) ≠ 12 by decide), e] <;> omega
  · refine ⟨?_, ?_, ?_, ?_, ?_, ?_⟩ <;> simp only [show 12 + 1 = 13 from rfl, pu_eq, pu_ne (show (35 : Nat) ≠ 13 by decide), pu_ne (show (12 : Nat) ≠ 13 by decide), pu_ne (show (14 : Nat) ≠ 13 by decide), pu_ne (show (15 : Nat) ≠ 13 by decide), e] <;> omega
  · refine ⟨?_, ?_, ?_, ?_, ?_, ?_⟩ <;> simp only [show 12 + 2 = 14 from rfl, pu_eq, pu_ne (show (35 : Nat) ≠ 14 by decide), pu_ne (show (12 : Nat) ≠ 14 by decide), pu_ne (show (13 : Nat) ≠ 14 by decide), pu_ne (show (15 : Nat) ≠ 14 by decide), e] <;> omega
  · refine ⟨?_, ?_, ?_, ?_, ?_, ?_⟩ <;> simp only [show 12 + 3 = 15 from rfl, pu_eq, pu_ne (show (35 : Nat) ≠ 15 by decide), pu_ne (show (12 : Nat) ≠ 15 by decide), pu_ne (show (13 : Nat) ≠ 15 by decide), pu_ne (show (14 : Nat) ≠ 15 by decide), e] <;> omega
theorem c_wheelK {B N nw na M t w k : Nat} {σ : SS} {P : Pg} (hN : Now B σ P nw na M t) (hw : w < nw) (hk : k < 4) : F_X0_wheel N (nI w) (nI k) σ = some (P (4 * k + w), σ) := by
  have hw4 : w < 4 := by have := hN.2.1.1.1; omega
  obtain ⟨d0, d4, d8, d12⟩ := dm_w hw4
  have hc := hN.2.2.1
  unfold F_X0_wheel
  rw [(c_isWheel hN).1 ⟨w, Nat.zero_le _, hw, rfl⟩, bd_s, if_neg e10, gd_t (inR_nI hw4 (by omega)), nI_clamp (by omega)]
  simp only [nm]
  rcases four hk with rfl | rfl | rfl | rfl
  · show some (gi σ (iS 0) w, σ) = _
    rw [hc _ d0, show 4 * 0 + w = w by omega]
  · show some (gi σ (iS 0) (4 + w), σ) = _
    rw [hc _ d4]
  · show some (gi σ (iS 0) (8 + w), σ) = _
    rw [hc _ d8]
  · show some (gi σ (iS 0) (12 + w), σ) = _
    rw [hc _ d12]
theorem nI_ix {k w : Nat} : (4 : Int32) * nI k + nI w = nI (4 * k + w) := (congrArg (· + nI w) (nI_mulN 4 k)).trans (nI_add (4 * k) w)
theorem dq_k {k w : Nat} (hk : k < 4) (hw : w < 4) : dq (4 * k + w) = true ∧ 4 * k + w < 16 := by
  unfold dq
  simp
  omega
theorem p_alter {N : Nat} : Sp7 Inv N := by
  intro t σ x1 x2 x3 ht hI
  obtain ⟨P, nw, na, M, t9, hN⟩ := hI.now
  by_cases h1 : InR x1 0 nw
  · by_cases h2 : InR x2 0 4
    · obtain ⟨k, -, hk, rfl⟩ := h2
      by_cases h3 : InR x3 (cbl k) (cbh k)
      · obtain ⟨w, -, hw, rfl⟩ := id h1
        obtain ⟨v, hv1, hv2, rfl⟩ := id h3
        have hw4 : w < 4 := by have := hN.2.1.1.1; omega
        obtain ⟨hq, hlt⟩ := dq_k hk hw4
        refine ⟨P (4 * k + w), si σ (iS 0) (4 * k + w) (nI v), si (si σ (iS 0) (4 * k + w) (nI v)) 21 (4 * k + w) (nI v), ?_, ?_, ?_⟩
        · unfold F_X0_alter
          rw [(c_isWheel hN).1 h1, bd_s, if_neg e10, c_canBe1 hk h3, bd_s, if_neg e10, c_wheelK hN hw hk, bd_s, gd_t (inR_nI hw4 (by omega)), nI_clamp (by omega)]
          simp only [nm]
          rcases four hk with rfl | rfl | rfl | rfl
          · rw [show 4 * 0 + w = w by omega]; rfl
          · rfl
          · rfl
          · rfl
        · have hN2 : F_X8_isWheel N (nI w) (si σ (iS 0) (4 * k + w) (nI v)) = some (1, si σ (iS 0) (4 * k + w) (nI v)) := by
            have e : gi (si σ (iS 0) (4 * k + w) (nI v)) 21 16 = nI nw := (gi_sn (by unfold iS; omega)).trans ((hN.2.2.2.1 16 rfl (by decide)).trans hN.2.1.1.2.1)
            have h4 := hN.2.1.1.1
            unfold F_X8_isWheel
            rw [gd_t r16, lc16, e, m_in_e, in_1 (a := 0) (b := nw) (by decide) (lg_m1 (n := nw) (by omega)) (by omega) h1, bd_s, gd_t (Or.inr rfl)]
          rw [m_alter1 hk h3]
          unfold F_X8_alter_72 F_X8_alter_93 F_X8_puts
          rw [hN2, bd_s, if_neg e10, if_neg e10, if_neg e10, nI_ix, gd_t (inR_nI (by omega) (by omega))]
          have cl : (nI (4 * k + w)).toNatClampNeg = 4 * k + w := nI_clamp (by omega)
          simp only [nm, cl, gd_t (inR_nI (show 4 * k + w < 234 by omega) (by omega)), bd_s, Int32.add_zero, Int32.sub_zero]
          rw [gi_sn (by unfold iS; omega), hN.2.2.2.1 _ hq (by omega)]
        · refine now_set1 hI (by omega) hN hq (by rw [if_neg (by omega)]) (Fx_alter hN.2.1.1 hw hk hv1 hv2) (Nat.le_refl _) ?_ (by omega)
          by_cases e : k = 3
          · subst e
            exact Sw_set hN.2.1.2.2.2.2.2 hw4 hv2 (by omega)
          · exact hN.2.1.2.2.2.2.2.pu (by omega) (by omega)
      · refine ⟨-1, σ, σ, ?_, ?_, hI.up⟩
        · unfold F_X0_alter
          rw [(c_isWheel hN).1 h1, bd_s, if_neg e10, c_canBe0 hk h3, bd_s, if_pos rfl]
        · rw [m_alter0 hk h3, m_alter_no ((m_isWheel hN).1 h1)]
    · refine ⟨-1, σ, σ, ?_, ?_, hI.up⟩
      · unfold F_X0_alter
        rw [(c_isWheel hN).1 h1, bd_s, if_neg e10, c_canBeN h2, bd_s, if_pos rfl]
      · rw [m_alterN h2, m_alter_no ((m_isWheel hN).1 h1)]
  · refine ⟨-1, σ, σ, ?_, ?_, hI.up⟩
    · unfold F_X0_alter
      rw [(c_isWheel hN).2 h1, bd_s, if_pos rfl]
    · have hno : ∀ z, F_X8_alter_72 N x1 x2 x3 z σ = some (-1, σ) := fun z => by
        unfold F_X8_alter_72
        rw [(m_isWheel hN).2 h1, bd_s, if_pos rfl]
        rfl
      by_cases h2 : InR x2 0 4
      · obtain ⟨k, -, hk, rfl⟩ := h2
        by_cases h3 : InR x3 (cbl k) (cbh k)
        · rw [m_alter1 hk h3, hno]
        · rw [m_alter0 hk h3, hno]
      · rw [m_alterN h2, hno]
theorem nI_eqL {a : Nat} {b : Nat} (ha : a < 2 ^ 31) (hb : b < 2 ^ 31) (h : a ≠ b) : ¬ nI a = nI b := fun z => h ((nI_eq ha hb).mp z)
theorem p_put {N : Nat} : Sp9 Inv N := by
  intro t σ x1 x2 x3 ht hI
  obtain ⟨P, nw, na, M, t9, hN⟩ := hI.now
  obtain ⟨-, ⟨hF, q2, q3, q4, q5, q6⟩, hc, hm, h34, hcA, hmA, g14, g15⟩ := id hN
  obtain ⟨h1, h2, h3, h4, h5, h6, h7⟩ := id hF
  have m0 : ∀ σ : SS, (InR x1 (cbl 0) (cbh 0) → F_X8_in N x1.toInt64 0 3 σ = some (1, σ)) ∧ (¬ InR x1 (cbl 0) (cbh 0) → F_X8_in N x1.toInt64 0 3 σ = some (0, σ)) := fun σ => ⟨fun h => in_1 (N := N) (a := 0) (b := 4) (by decide) (by decide) (by decide) h, fun h => in_0 (N := N) (a := 0) (b := 4) (by decide) (by decide) (by decide) h⟩
  have m1 : ∀ σ : SS, (InR x2 (cbl 1) (cbh 1) → F_X8_in N x2.toInt64 1 20 σ = some (1, σ)) ∧ (¬ InR x2 (cbl 1) (cbh 1) → F_X8_in N x2.toInt64 1 20 σ = some (0, σ)) := fun σ => ⟨fun h => in_1 (N := N) (a := 1) (b := 21) (by decide) (by decide) (by decide) h, fun h => in_0 (N := N) (a := 1) (b := 21) (by decide) (by decide) (by decide) h⟩
  have m2 : ∀ σ : SS, (InR x3 (cbl 2) (cbh 2) → F_X8_in N x3.toInt64 0 9 σ = some (1, σ)) ∧ (¬ InR x3 (cbl 2) (cbh 2) → F_X8_in N x3.toInt64 0 9 σ = some (0, σ)) := fun σ => ⟨fun h => in_1 (N := N) (a := 0) (b := 10) (by decide) (by decide) (by decide) h, fun h => in_0 (N := N) (a := 0) (b := 10) (by decide) (by decide) (by decide) h⟩
  have n0 : (InR x1 (cbl 0) (cbh 0) → F_X0_canBe N 0 x1 σ = some (1, σ)) ∧ (¬ InR x1 (cbl 0) (cbh 0) → F_X0_canBe N 0 x1 σ = some (0, σ)) := ⟨fun h => c_canBe1 (N := N) (k := 0) (by decide) h, fun h => c_canBe0 (N := N) (k := 0) (by decide) h⟩
  have n1 : (InR x2 (cbl 1) (cbh 1) → F_X0_canBe N 1 x2 σ = some (1, σ)) ∧ (¬ InR x2 (cbl 1) (cbh 1) → F_X0_canBe N 1 x2 σ = some (0, σ)) := ⟨fun h => c_canBe1 (N := N) (k := 1) (by decide) h, fun h => c_canBe0 (N := N) (k := 1) (by decide) h⟩
  have n2 : (InR x3 (cbl 2) (cbh 2) → F_X0_canBe N 2 x3 σ = some (1, σ)) ∧ (¬ InR x3 (cbl 2) (cbh 2) → F_X0_canBe N 2 x3 σ = some (0, σ)) := ⟨fun h => c_canBe1 (N := N) (k := 2) (by decide) h, fun h => c_canBe0 (N := N) (k := 2) (by decide) h⟩
  unfold F_X0_put F_X8_put
  by_cases i1 : InR x1 (cbl 0) (cbh 0)
  · by_cases i2 : InR x2 (cbl 1) (cbh 1)
    · by_cases i3 : InR x3 (cbl 2) (cbh 2)
      · simp only [n0.1 i1, n1.1 i2, n2.1 i3, bd_s, (m0 _).1 i1, (m1 _).1 i2, (m2 _).1 i3, if_neg e10]
        have ec : gi σ (iS 0) 16 = nI nw := (hc 16 rfl).trans h2
        have em : gi σ 21 16 = nI nw := (hm 16 rfl (by decide)).trans h2
        by_cases c4 : nw = 4
        · subst c4
          refine ⟨-3, σ, σ, ?_, ?_, hI.up⟩
          · rw [ec]
            exact if_pos rfl
          · simp only [gd_t r16, lc16, nm, em]
            exact if_pos rfl
        · have hlt : nw < 4 := by omega
          have n4 : ¬ nI nw = (4 : Int32) := nI_eqL (a := nw) (b := 4) (by omega) (by omega) c4
          obtain ⟨kd, -, hk, rfl⟩ := i1
          obtain ⟨m, hm1, hm2, rfl⟩ := i2
          obtain ⟨l, -, hl, rfl⟩ := i3
          have hk : kd < 4 := hk
          have hm1 : 1 ≤ m := hm1
          have hm2 : m < 21 := hm2
          have hl : l < 10 := hl
          generalize hL : [(nw, nI kd), (4 + nw, nI m), (8 + nw, nI l), (12 + nw, (0 : Int32)), (16, nI (nw + 1))] = L
          refine ⟨nI (nw + 1), wS (iS 0) σ L, wS 21 (wS (iS 0) σ L) L, ?_, ?_, ?_⟩
          · rw [ec, if_neg n4]
            unfold F_X5_puts
            rw [ec, gd_t (inR_nI hlt (by omega)), nI_clamp (by omega)]
            have eg : gi (si (si (si (si σ (iS 0) nw (nI kd)) (iS 0) (4 + nw) (nI m)) (iS 0) (8 + nw) (nI l)) (iS 0) (12 + nw) 0) (iS 0) 16 = nI nw := by
              rw [gi_sn (by omega), gi_sn (by omega), gi_sn (by omega), gi_sn (by omega)]
              exact ec
            simp only [nm, bd_s, eg, show nI nw + 1 = nI (nw + 1) from nI_add nw 1, gi_se]
            rw [← hL]
            rfl
          · have i4 : (4 : Int32) + nI nw = nI (4 + nw) := nI_add 4 nw
            have i8 : (8 : Int32) + nI nw = nI (8 + nw) := nI_add 8 nw
            have i12 : (12 : Int32) + nI nw = nI (12 + nw) := nI_add 12 nw
            have em2 : gi (wS (iS 0) σ L) 21 16 = nI nw := (wS_ne (by unfold iS; omega) L σ).trans em
            generalize wS (iS 0) σ L = τ at em2 ⊢
            have eg : gi (si (si (si (si τ 21 nw (nI kd)) 21 (4 + nw) (nI m)) 21 (8 + nw) (nI l)) 21 (12 + nw) 0) 21 16 = nI nw := by
              rw [gi_sn (by omega), gi_sn (by omega), gi_sn (by omega), gi_sn (by omega)]
              exact em2
            have k0 : (nI nw).toNatClampNeg = nw := nI_clamp (by omega)
            have k4 : (nI (4 + nw)).toNatClampNeg = 4 + nw := nI_clamp (by omega)
            have k8 : (nI (8 + nw)).toNatClampNeg = 8 + nw := nI_clamp (by omega)
            have k12 : (nI (12 + nw)).toNatClampNeg = 12 + nw := nI_clamp (by omega)
            simp only [gd_t r16, lc16, nm, em2, i4, i8, i12, k0, k4, k8, k12, gd_t (inR_nI (show nw < 234 by omega) (by omega)), gd_t (inR_nI (show 4 + nw < 234 by omega) (by omega)), gd_t (inR_nI (show 8 + nw < 234 by omega) (by omega)), gd_t (inR_nI (show 12 + nw < 234 by omega) (by omega)), eg, show nI nw + 1 = nI (nw + 1) from nI_add nw 1, gi_se, if_neg n4]
            rw [← hL]
            rfl
          · have p16 : wP P L 16 = nI (nw + 1) := by
              rw [← hL]
              show pu (pu (pu (pu (pu P nw (nI kd)) (4 + nw) (nI m)) (8 + nw) (nI l)) (12 + nw) 0) 16 (nI (nw + 1)) 16 = _
              exact pu_eq _ _ _
            have pn : ∀ i, i ≠ nw → i ≠ 4 + nw → i ≠ 8 + nw → i ≠ 12 + nw → i ≠ 16 → wP P L i = P i := fun i a1 a2 a3 a4 a5 => wP_ne L P fun p hp => by
              subst hL
              simp only [List.mem_cons, List.not_mem_nil, or_false] at hp
              rcases hp with rfl | rfl | rfl | rfl | rfl
              · exact fun z => a1 z.symm
              · exact fun z => a2 z.symm
              · exact fun z => a3 z.symm
              · exact fun z => a4 z.symm
              · exact fun z => a5 z.symm
            have v0 : wP P L nw = nI kd := by
              rw [← hL]
              show pu (pu (pu (pu (pu P nw (nI kd)) (4 + nw) (nI m)) (8 + nw) (nI l)) (12 + nw) 0) 16 (nI (nw + 1)) nw = _
              rw [pu_ne (by omega), pu_ne (by omega), pu_ne (by omega), pu_ne (by omega), pu_eq]
            have v4 : wP P L (4 + nw) = nI m := by
              rw [← hL]
              show pu (pu (pu (pu (pu P nw (nI kd)) (4 + nw) (nI m)) (8 + nw) (nI l)) (12 + nw) 0) 16 (nI (nw + 1)) (4 + nw) = _
              rw [pu_ne (by omega), pu_ne (by omega), pu_ne (by omega), pu_eq]
            have v8 : wP P L (8 + nw) = nI l := by
              rw [← hL]
              show pu (pu (pu (pu (pu P nw (nI kd)) (4 + nw) (nI m)) (8 + nw) (nI l)) (12 + nw) 0) 16 (nI (nw + 1)) (8 + nw) = _
              rw [pu_ne (by omega), pu_ne (by omega), pu_eq]
            have v12 : ∀ i, 12 ≤ i → i < 16 → wP P L i = if i = 12 + nw then nI 0 else P i := fun i ha hb => by
              by_cases e : i = 12 + nw
              · rw [if_pos e, e, ← hL]
                show pu (pu (pu (pu (pu P nw (nI kd)) (4 + nw) (nI m)) (8 + nw) (nI l)) (12 + nw) 0) 16 (nI (nw + 1)) (12 + nw) = _
                rw [pu_ne (by omega), pu_eq]
                rfl
              · rw [if_neg e]
                exact pn i (by omega) (by omega) (by omega) e (by omega)
            refine now_setL (nw' := nw + 1) (na' := na) (M' := M) (t' := t9) hI (by omega) hN (fun p hp => ?_) ?_ (Nat.le_refl _) (by rw [pn 36 (by omega) (by omega) (by omega) (by omega) (by omega)]; exact q2) q3 ?_
            · obtain ⟨e0, e4, e8, e12⟩ := dq_w hlt
              subst hL
              simp only [List.mem_cons, List.not_mem_nil, or_false] at hp
              rcases hp with rfl | rfl | rfl | rfl | rfl
              · exact ⟨e0, by show nw ≠ 34; omega⟩
              · exact ⟨e4, by show 4 + nw ≠ 34; omega⟩
              · exact ⟨e8, by show 8 + nw ≠ 34; omega⟩
              · exact ⟨e12, by show 12 + nw ≠ 34; omega⟩
              · exact ⟨rfl, by show 16 ≠ 34; omega⟩
            · refine ⟨by omega, p16, h3, by rw [pn 33 (by omega) (by omega) (by omega) (by omega) (by omega)]; exact h4, ⟨h5.1, h5.2.1, by rw [pn 34 (by omega) (by omega) (by omega) (by omega) (by omega)]; exact h5.2.2⟩, fun u hu => ?_, fun j hj => by rw [pn _ (by omega) (by omega) (by omega) (by omega) (by omega)]; exact h7 j hj⟩
              by_cases e : u = nw
              · subst e
                exact ⟨⟨kd, hk, v0⟩, ⟨m, hm1, by omega, v4⟩, l, by omega, v8⟩
              · rw [pn u (by omega) (by omega) (by omega) (by omega) (by omega), pn (4 + u) (by omega) (by omega) (by omega) (by omega) (by omega), pn (8 + u) (by omega) (by omega) (by omega) (by omega) (by omega)]
                exact h6 u (by omega)
            · obtain ⟨s1, s2, s3, s4, s5, s6⟩ := q6
              have z0 : (nI 0).toInt = 0 := by decide
              unfold Sw
              rw [pn 35 (by omega) (by omega) (by omega) (by omega) (by omega), v12 12 (by omega) (by omega), v12 13 (by omega) (by omega), v12 14 (by omega) (by omega), v12 15 (by omega) (by omega)]
              rcases four hlt with rfl | rfl | rfl | rfl
              · simp [z0]; omega
              · simp [z0]; omega
              · simp [z0]; omega
              · simp [z0]; omega
      · simp only [n0.1 i1, n1.1 i2, n2.2 i3, bd_s, (m0 _).1 i1, (m1 _).1 i2, (m2 _).2 i3, if_neg e10]
        exact ⟨_, _, _, if_pos trivial, if_pos trivial, hI.up⟩
    · simp only [n0.1 i1, n1.2 i2, bd_s, (m0 _).1 i1, (m1 _).2 i2, if_neg e10]
      exact ⟨_, _, _, if_pos trivial, if_pos trivial, hI.up⟩
  · simp only [n0.2 i1, bd_s, (m0 _).2 i1]
    exact ⟨_, _, _, if_pos trivial, if_pos trivial, hI.up⟩
