/-! THE PLAIN LAW: a tick on a page; the component's tick -/
set_option maxRecDepth 100000
abbrev Pg : Type := Nat → Int32
/-- a page and what is counted: done, lacking, lost, the greatest speed -/
abbrev TT : Type := Pg × Int32 × Int32 × Int32 × Int32
def pu (P : Pg) (i : Nat) (x : Int32) : Pg := fun j => if j = i then x else P j
theorem pu_eq (P : Pg) (i : Nat) (x : Int32) : pu P i x i = x := if_pos rfl
theorem pu_ne {P : Pg} {i j : Nat} {x : Int32} (h : j ≠ i) : pu P i x j = P j := if_neg h
theorem gd_t {α : Type} {c : Prop} [Decidable c] {m : Option α} (h : c) : gd c m = m := if_pos h
theorem bd_s {α β : Type} (r : β) (σ : SS) (k : β → SS → Option α) : bd (some (r, σ)) k = k r σ := rfl
theorem inR_nI {w n : Nat} (h : w < n) (hn : n < 2 ^ 31) : inR (nI w) n := nI_in h hn
def dm (i : Nat) : Bool := decide (i < 17) || (decide (33 ≤ i) && decide (i < 41))
/-- a shaft's page and the counters, written -/
def ctw (k : Nat) (T : TT) (σ : SS) : SS := (fun g i => if g = iS k then (if dm i = true then T.1 i else σ.1 g i) else if g = 0 then (if i = 7 then T.2.1 else if i = 8 then T.2.2.1 else if i = 9 then T.2.2.2.1 else if i = 10 then T.2.2.2.2 else σ.1 g i) else σ.1 g i, σ.2)
theorem iS_0 (k : Nat) : (0 : Nat) ≠ iS k := by unfold iS; omega
theorem iAA_S (k j : Nat) : iAA k ≠ iS j := by unfold iAA iS; omega
theorem iAA_0 (k : Nat) : iAA k ≠ 0 := by unfold iAA; omega
theorem c_gS {k i : Nat} {T : TT} {σ : SS} (h : dm i = true) : gi (ctw k T σ) (iS k) i = T.1 i := by
  show (if iS k = iS k then (if dm i = true then T.1 i else _) else _) = _
  rw [if_pos rfl, if_pos h]
theorem c_gA {k j i : Nat} {T : TT} {σ : SS} : gi (ctw k T σ) (iAA j) i = gi σ (iAA j) i := by
  show (if iAA j = iS k then _ else if iAA j = 0 then _ else _) = _
  rw [if_neg (iAA_S j k), if_neg (iAA_0 j)]
  rfl
theorem c_g7 {k : Nat} {T : TT} {σ : SS} : gi (ctw k T σ) 0 7 = T.2.1 := if_neg (iS_0 k)
theorem c_g8 {k : Nat} {T : TT} {σ : SS} : gi (ctw k T σ) 0 8 = T.2.2.1 := if_neg (iS_0 k)
theorem c_g9 {k : Nat} {T : TT} {σ : SS} : gi (ctw k T σ) 0 9 = T.2.2.2.1 := if_neg (iS_0 k)
theorem c_g10 {k : Nat} {T : TT} {σ : SS} : gi (ctw k T σ) 0 10 = T.2.2.2.2 := if_neg (iS_0 k)
theorem c_sS {k i : Nat} {T : TT} {σ : SS} {x : Int32} (h : dm i = true) : si (ctw k T σ) (iS k) i x = ctw k (pu T.1 i x, T.2) σ := by
  refine Prod.ext (funext fun g => funext fun j => ?_) rfl
  show (if g = iS k ∧ j = i then x else (ctw k T σ).1 g j) = (ctw k (pu T.1 i x, T.2) σ).1 g j
  unfold ctw pu
  by_cases h1 : g = iS k
  · by_cases h2 : j = i
    · subst h2; simp [h1, h]
    · simp [h1, h2]
  · simp [h1]
theorem c_s0 {k i : Nat} {P : Pg} {d l o f : Int32} {σ : SS} {x : Int32} : (i = 7 → si (ctw k (P, d, l, o, f) σ) 0 i x = ctw k (P, x, l, o, f) σ) ∧ (i = 8 → si (ctw k (P, d, l, o, f) σ) 0 i x = ctw k (P, d, x, o, f) σ) ∧ (i = 9 → si (ctw k (P, d, l, o, f) σ) 0 i x = ctw k (P, d, l, x, f) σ) ∧ (i = 10 → si (ctw k (P, d, l, o, f) σ) 0 i x = ctw k (P, d, l, o, x) σ) := by
  have h0 : ¬ (0 : Nat) = iS k := iS_0 k
  refine ⟨fun e => ?_, fun e => ?_, fun e => ?_, fun e => ?_⟩ <;> subst e <;> refine Prod.ext (funext fun g => funext fun j => ?_) rfl <;> unfold si ctw <;> by_cases h1 : g = 0
  all_goals first
    | (subst h1; simp [h0]; split <;> simp_all; done)
    | simp [h1]
theorem c_s7 {k : Nat} {T : TT} {σ : SS} {x : Int32} : si (ctw k T σ) 0 7 x = ctw k (T.1, x, T.2.2) σ := c_s0.1 rfl
theorem c_s8 {k : Nat} {T : TT} {σ : SS} {x : Int32} : si (ctw k T σ) 0 8 x = ctw k (T.1, T.2.1, x, T.2.2.2) σ := c_s0.2.1 rfl
theorem c_s9 {k : Nat} {T : TT} {σ : SS} {x : Int32} : si (ctw k T σ) 0 9 x = ctw k (T.1, T.2.1, T.2.2.1, x, T.2.2.2.2) σ := c_s0.2.2.1 rfl
theorem c_s10 {k : Nat} {T : TT} {σ : SS} {x : Int32} : si (ctw k T σ) 0 10 x = ctw k (T.1, T.2.1, T.2.2.1, T.2.2.2.1, x) σ := c_s0.2.2.2 rfl
-- what a tick does
def evenP (P : Pg) (w : Nat) : Int32 := ((P 35 + P (12 + w)) * P (4 + w)) / (P 34 + P (4 + w))
def jn (kd own e : Int32) : Int32 := if kd = 0 then e else if kd = 1 then own + (e - own) / 2 else if kd = 2 then (if own < e then e else own) else if (if own < e then e else own) < own + 20 then (if own < e then e else own) else own + 20
def joinedP (P : Pg) (w : Nat) : Int32 := jn (P w) (P (12 + w)) (evenP P w)
def joinP (P : Pg) (w : Nat) : Pg := if P 16 ≤ nI w then P else if nI w = P 40 then P else pu (pu P (12 + w) (joinedP P w)) 35 (P 35 + P (12 + w) - joinedP P w)
def loadP (T : TT) (x : Int32) : TT := (pu (pu (pu T.1 35 (T.1 35 - (if T.1 35 < x then T.1 35 else x))) 37 (T.1 37 + (if T.1 35 < x then T.1 35 else x))) 38 (T.1 38 + (x - (if T.1 35 < x then T.1 35 else x))), T.2.1 + (if T.1 35 < x then T.1 35 else x), T.2.2.1 + (x - (if T.1 35 < x then T.1 35 else x)), T.2.2.2)
def actP (T : TT) (a : Nat) (fails : Bool) : TT := if a < 100 then (if fails = true then T else (pu T.1 35 (T.1 35 + nI a), T.2)) else if a < 200 then loadP T (nI (a - 100)) else (joinP T.1 (a - 200), T.2)
def byW (P : Pg) (w : Nat) : Int32 := if P (12 + w) < P (8 + w) then P (12 + w) else P (8 + w)
def lossW (T : TT) (w : Nat) : TT := (pu T.1 (12 + w) (T.1 (12 + w) - byW T.1 w), T.2.1, T.2.2.1, T.2.2.2.1 + byW T.1 w, T.2.2.2.2)
def lossR : TT → Nat → Nat → TT
  | T, 0, _ => T
  | T, n + 1, w => lossR (lossW T w) n (w + 1)
def endT (T : TT) : TT := (pu T.1 36 (T.1 36 + 1), T.2.1, T.2.2.1, T.2.2.2.1, if T.2.2.2.2 < T.1 35 / T.1 34 then T.1 35 / T.1 34 else T.2.2.2.2)
def tickBy (T : TT) (nw : Nat) : TT := endT (lossR T nw 0)
def tickT (T : TT) (nw na t : Nat) (fails : Bool) : TT := tickBy (if na = 0 ∨ nI (t % na) = T.1 39 then T else actP T (T.1 (17 + t % na)).toNatClampNeg fails) nw
/-- what stays as it is in ticks: how many wheels, acts; the masses, kinds, losses, acts in their ranges -/
def Fx (P : Pg) (nw na M : Nat) : Prop := nw ≤ 4 ∧ P 16 = nI nw ∧ na ≤ 16 ∧ P 33 = nI na ∧ (1 ≤ M ∧ M ≤ 20 ∧ P 34 = nI M) ∧ (∀ w, w < nw → (∃ kd, kd < 4 ∧ P w = nI kd) ∧ (∃ m, 1 ≤ m ∧ m ≤ 20 ∧ P (4 + w) = nI m) ∧ (∃ l, l ≤ 9 ∧ P (8 + w) = nI l)) ∧ (∀ i, i < na → ∃ a, a ≤ 203 ∧ P (17 + i) = nI a)
theorem Fx.pu {P : Pg} {nw na M : Nat} (h : Fx P nw na M) {i : Nat} {x : Int32} (hi : (12 ≤ i ∧ i < 16) ∨ (35 ≤ i ∧ i < 39)) : Fx (pu P i x) nw na M := by
  obtain ⟨h1, h2, h3, h4, h5, h6, h7⟩ := h
  refine ⟨h1, by rw [pu_ne (by omega)]; exact h2, h3, by rw [pu_ne (by omega)]; exact h4, ⟨h5.1, h5.2.1, by rw [pu_ne (by omega)]; exact h5.2.2⟩, fun w hw => ?_, fun j hj => ?_⟩
  · obtain ⟨a, b, c⟩ := h6 w hw
    rw [pu_ne (by omega), pu_ne (by omega), pu_ne (by omega)]
    exact ⟨a, b, c⟩
  · rw [pu_ne (by omega)]
    exact h7 j hj
theorem dm_w {w : Nat} (h : w < 4) : dm w = true ∧ dm (4 + w) = true ∧ dm (8 + w) = true ∧ dm (12 + w) = true := by
  unfold dm
  simp
  omega
theorem c_even {N k w : Nat} {T : TT} {σ : SS} (hw : w < 4) (hd : ¬ T.1 34 + T.1 (4 + w) = 0) : F_X5_evenOf N k (nI w) (ctw k T σ) = some (evenP T.1 w, ctw k T σ) := by
  unfold F_X5_evenOf
  have hc : (nI w).toNatClampNeg = w := nI_clamp (by omega)
  obtain ⟨d0, d4, d8, d12⟩ := dm_w hw
  simp only [nm, hc, gd_t (inR_nI hw (by omega)), c_gS d4, c_gS d12, c_gS (show dm 34 = true from rfl), c_gS (show dm 35 = true from rfl)]
  rw [gd_t hd]
  rfl
theorem c_joinedF {N j : Nat} {own e : Int32} {σ : SS} (hj : j < 4) : F_joined N j own e σ = some (jn (nI j) own e, σ) := by
  rcases (show j = 0 ∨ j = 1 ∨ j = 2 ∨ j = 3 by omega) with rfl | rfl | rfl | rfl <;> rfl
theorem c_joinedBy {N k w kd : Nat} {T : TT} {σ : SS} (hw : w < 4) (hd : ¬ T.1 34 + T.1 (4 + w) = 0) (hk : kd < 4) (ek : T.1 w = nI kd) : F_X0_joinedBy N k (nI w) (ctw k T σ) = some (joinedP T.1 w, ctw k T σ) := by
  unfold F_X0_joinedBy
  have hc : (nI w).toNatClampNeg = w := nI_clamp (by omega)
  have hc2 : (nI kd).toNatClampNeg = kd := nI_clamp (by omega)
  obtain ⟨d0, d4, d8, d12⟩ := dm_w hw
  simp only [nm, hc, gd_t (inR_nI hw (by omega)), c_gS d0, c_gS d12, c_even hw hd, bd_s]
  simp only [ek, hc2, gd_t (inR_nI hk (by omega)), c_joinedF hk, bd_s]
  unfold joinedP
  rw [ek]
theorem mass_ne {M m : Nat} (h1 : 1 ≤ M) (h2 : M ≤ 20) (h3 : m ≤ 20) : ¬ nI M + nI m = 0 := by
  rw [nI_add]
  exact nI_ne0 (by omega) (by omega)
theorem c_joins {N k w nw na M : Nat} {T : TT} {σ : SS} (hF : Fx T.1 nw na M) (hw : w < 4) : F_X0_joins N k (nI w) (ctw k T σ) = some ((), ctw k (joinP T.1 w, T.2) σ) := by
  obtain ⟨h1, h2, h3, h4, h5, h6, h7⟩ := hF
  unfold F_X0_joins joinP
  have hc : (nI w).toNatClampNeg = w := nI_clamp (by omega)
  obtain ⟨d0, d4, d8, d12⟩ := dm_w hw
  simp only [c_gS (show dm 16 = true from rfl), c_gS (show dm 40 = true from rfl)]
  by_cases c1 : T.1 16 ≤ nI w
  · rw [if_pos c1, if_pos c1]
  · rw [if_neg c1, if_neg c1]
    by_cases c2 : nI w = T.1 40
    · rw [if_pos c2, if_pos c2]
    · rw [if_neg c2, if_neg c2]
      have hlt : w < nw := by
        rw [h2] at c1
        exact Nat.lt_of_not_le fun h => c1 (nI_le h (by omega))
      obtain ⟨⟨kd, hk, ek⟩, ⟨m, hm1, hm2, em⟩, -⟩ := h6 w hlt
      have hd : ¬ T.1 34 + T.1 (4 + w) = 0 := by rw [h5.2.2, em]; exact mass_ne h5.1 h5.2.1 hm2
      simp only [nm, hc, gd_t (inR_nI hw (by omega)), c_joinedBy hw hd hk ek, bd_s, c_sS d12, c_gS d12, c_gS (show dm 35 = true from rfl), c_sS (show dm 35 = true from rfl), pu_eq]
theorem c_loads {N k : Nat} {x : Int32} {T : TT} {σ : SS} : F_X0_loads N k x (ctw k T σ) = some ((), ctw k (loadP T x) σ) := by
  unfold F_X0_loads loadP
  simp only [nm, c_gS (show dm 35 = true from rfl), c_sS (show dm 35 = true from rfl), c_gS (show dm 37 = true from rfl), c_sS (show dm 37 = true from rfl), c_gS (show dm 38 = true from rfl), c_sS (show dm 38 = true from rfl), c_g7, c_g8, c_s7, c_s8, pu_ne (show (37 : Nat) ≠ 35 by decide), pu_ne (show (38 : Nat) ≠ 37 by decide), pu_ne (show (38 : Nat) ≠ 35 by decide)]
def b2i (b : Bool) : Int32 := if b = true then 1 else 0
theorem nI_sub {a b : Nat} (h : b ≤ a) : nI a - nI b = nI (a - b) := by
  have e : nI a = nI (a - b) + nI b := by rw [nI_add, Nat.sub_add_cancel h]
  rw [e]
  exact Int32.add_sub_cancel _ _
theorem c_acts {N k a nw na M : Nat} {fails : Bool} {T : TT} {σ : SS} (hF : Fx T.1 nw na M) (ha : a ≤ 203) : F_X0_acts N k (nI a) (b2i fails) (ctw k T σ) = some ((), ctw k (actP T a fails) σ) := by
  unfold F_X0_acts actP
  by_cases c1 : a < 100
  · have h1 : nI a < 200 := nI_lt (b := 200) (by omega) (by omega)
    have h2 : nI a < 100 := nI_lt (b := 100) (by omega) (by omega)
    rw [if_pos h1, if_pos h2, if_pos c1]
    cases fails with
    | true => rfl
    | false =>
      show (nm _ _) = _
      simp only [nm, c_gS (show dm 35 = true from rfl), c_sS (show dm 35 = true from rfl)]
      rfl
  · have h2 : ¬ nI a < 100 := nI_nlt (b := 100) (by omega) (by omega)
    rw [if_neg c1]
    by_cases c2 : a < 200
    · have h1 : nI a < 200 := nI_lt (b := 200) (by omega) (by omega)
      rw [if_pos h1, if_neg h2, if_pos c2]
      have e : nI a - (100 : Int32) = nI (a - 100) := nI_sub (b := 100) (by omega)
      rw [e, c_loads, bd_s]
    · have h1 : ¬ nI a < 200 := nI_nlt (b := 200) (by omega) (by omega)
      rw [if_neg h1, if_neg c2]
      have e : nI a - (200 : Int32) = nI (a - 200) := nI_sub (b := 200) (by omega)
      rw [e, c_joins hF (by omega), bd_s]
theorem Fx.lossW {T : TT} {nw na M w : Nat} (h : Fx T.1 nw na M) (hw : w < 4) : Fx (lossW T w).1 nw na M := h.pu (Or.inl ⟨by omega, by omega⟩)
theorem c_loss {N k nw na M : Nat} {σ : SS} (hM : 1 ≤ M) : ∀ (n w : Nat) (T : TT), Fx T.1 nw na M → nw - w < n → w ≤ nw → F_X0_tickGoesBy_16 N k n (nI w) (ctw k T σ) = some ((), ctw k (endT (lossR T (nw - w) w)) σ) := by
  intro n
  induction n with
  | zero => intro w T _ h; omega
  | succ n ih =>
    intro w T hF hn hw
    obtain ⟨h1, h2, h3, h4, h5, h6, h7⟩ := id hF
    show B_X0_tickGoesBy_16 N k (F_X0_tickGoesBy_16 N k n) (nI w) (ctw k T σ) = _
    unfold B_X0_tickGoesBy_16
    rw [c_gS (show dm 16 = true from rfl), h2]
    by_cases c1 : w = nw
    · subst c1
      rw [if_pos (nI_le (Nat.le_refl _) (by omega)), Nat.sub_self]
      have hd : ¬ (nI M : Int32) = 0 := nI_ne0 (by omega) (by omega)
      unfold F_X5_speed
      simp only [nm, c_gS (show dm 36 = true from rfl), c_sS (show dm 36 = true from rfl), c_gS (show dm 34 = true from rfl), c_gS (show dm 35 = true from rfl), pu_ne (show (34 : Nat) ≠ 36 by decide), pu_ne (show (35 : Nat) ≠ 36 by decide)]
      rw [gd_t (by rw [h5.2.2]; exact hd), bd_s]
      simp only [c_g10, c_s10]
      rfl
    · have hlt : w < nw := by omega
      have hw4 : w < 4 := by omega
      have hc : (nI w).toNatClampNeg = w := nI_clamp (by omega)
      obtain ⟨d0, d4, d8, d12⟩ := dm_w hw4
      rw [if_neg (nI_ge hlt (by omega))]
      simp only [nm, hc, gd_t (inR_nI hw4 (by omega)), c_gS d12, c_gS d8, c_sS d12, c_g9, c_s9]
      have e : nI w + (1 : Int32) = nI (w + 1) := nI_1 w
      rw [e]
      have := ih (w + 1) (lossW T w) (hF.lossW hw4) (by omega) hlt
      have e2 : nw - w = (nw - (w + 1)) + 1 := by omega
      rw [e2]
      exact this
