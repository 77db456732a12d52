/-! THE PLAIN LAW: a shaft as another -/
set_option maxRecDepth 100000
def cpL (a b : Nat) (L : List Nat) (σ : SS) : SS := (fun g i => if g = iS a ∧ i ∈ L then σ.1 (iS b) i else σ.1 g i, σ.2)
theorem iS_ne {a b : Nat} (h : a ≠ b) : iS a ≠ iS b := by unfold iS; omega
theorem iAA_ne {a b : Nat} (h : a ≠ b) : iAA a ≠ iAA b := by unfold iAA; omega
theorem cpL_0 (a b : Nat) (σ : SS) : cpL a b [] σ = σ := Prod.ext (funext fun g => funext fun i => if_neg (fun h => absurd h.2 List.not_mem_nil)) rfl
theorem cpL_s {a b : Nat} (h : a ≠ b) (L : List Nat) (i : Nat) (σ : SS) : si (cpL a b L σ) (iS a) i (gi (cpL a b L σ) (iS b) i) = cpL a b (i :: L) σ := by
  have hab : ¬ iS b = iS a := fun z => iS_ne h z.symm
  refine Prod.ext (funext fun g => funext fun j => ?_) rfl
  unfold si gi cpL
  by_cases h1 : g = iS a <;> by_cases h2 : j = i <;> simp [h1, h2, hab]
/-- the shaft a as the shaft b -/
def asw (a b : Nat) (σ : SS) : SS := (fun g i => if g = iS a ∧ dm i = true then σ.1 (iS b) i else if g = iAA a ∧ i < 16 then σ.1 (iAA b) i else σ.1 g i, σ.2)
def asA (a b : Nat) (L : List Nat) (σ : SS) : SS := (fun g i => if g = iS a ∧ i ∈ L then σ.1 (iS b) i else if g = iAA a ∧ i < 16 then σ.1 (iAA b) i else σ.1 g i, σ.2)
theorem asA_s {a b : Nat} (h : a ≠ b) (L : List Nat) (i : Nat) (σ : SS) : si (asA a b L σ) (iS a) i (gi (asA a b L σ) (iS b) i) = asA a b (i :: L) σ := by
  have hab : ¬ iS b = iS a := fun z => iS_ne h z.symm
  have haa : ¬ iS b = iAA a := fun z => iAA_S a b z.symm
  have haa2 : ¬ iS a = iAA a := fun z => iAA_S a a z.symm
  refine Prod.ext (funext fun g => funext fun j => ?_) rfl
  unfold si gi asA
  by_cases h1 : g = iS a <;> by_cases h2 : j = i <;> simp [h1, h2, hab, haa, haa2]
theorem c_asW {N a b w : Nat} {L : List Nat} {σ : SS} (h : a ≠ b) : F_X6_as N a w b w (cpL a b L σ) = some ((), cpL a b ((12 + w) :: (8 + w) :: (4 + w) :: w :: L) σ) := by
  unfold F_X6_as
  simp only [nm, cpL_s h]
def asL : List Nat := [12 + 3, 8 + 3, 4 + 3, 3, 12 + 2, 8 + 2, 4 + 2, 2, 12 + 1, 8 + 1, 4 + 1, 1, 12 + 0, 8 + 0, 4 + 0, 0, 16, 35, 34]
theorem c_asLoop {N n n' a b w w' : Nat} {L : List Nat} {σ : SS} (h : a ≠ b) (hw : w < 4) (hn : n' = n + 1) (hw' : w' = w + 1) : F_X5_as_26 N a b n' (nI w) (cpL a b L σ) = F_X5_as_26 N a b n (nI w') (cpL a b ((12 + w) :: (8 + w) :: (4 + w) :: w :: L) σ) := by
  subst hn; subst hw'
  show B_X5_as_26 N a b (F_X5_as_26 N a b n) (nI w) (cpL a b L σ) = _
  unfold B_X5_as_26
  have c2 : ¬ (4 : Int32) ≤ nI w := nI_ge (b := 4) (a := w) hw (by omega)
  have e : nI w + (1 : Int32) = nI (w + 1) := nI_1 w
  have ec : (nI w).toNatClampNeg = w := nI_clamp (by omega)
  rw [if_neg c2]
  simp only [nm, ec, gd_t (inR_nI hw (show 4 < 2 ^ 31 by decide)), c_asW h, bd_s, e]
theorem c_asEnd {N n n' a b : Nat} {L : List Nat} {σ : SS} (hn : n' = n + 1) : F_X5_as_26 N a b n' (nI 4) (cpL a b L σ) = B_X5_as_26 N a b (F_X5_as_26 N a b n) (nI 4) (cpL a b L σ) := by
  subst hn
  rfl
theorem asw_L {a b : Nat} {σ : SS} : asA a b (40 :: 39 :: 38 :: 37 :: 36 :: 33 :: asL) σ = asw a b σ := by
  refine Prod.ext (funext fun g => funext fun j => ?_) rfl
  have e : (j ∈ (40 :: 39 :: 38 :: 37 :: 36 :: 33 :: asL)) ↔ dm j = true := by
    unfold asL dm
    simp only [List.mem_cons, List.not_mem_nil, or_false, Bool.or_eq_true, Bool.and_eq_true, decide_eq_true_eq]
    constructor
    · intro h
      omega
    · intro h
      omega
  unfold asA asw
  simp only [e]
theorem c_as4 {N n a b : Nat} {σ : SS} (h : a ≠ b) (hfit : ∀ i, i < 16 → fits .short (.int (gi σ (iAA b) i)) = true) : B_X5_as_26 N a b (F_X5_as_26 N a b n) (nI 4) (cpL a b asL σ) = some ((), asw a b σ) := by
  have efit : fit16 (cpL a b (33 :: asL) σ) (iAA b) = true := by
    refine List.all_eq_true.mpr fun i hi => ?_
    have hi := List.mem_range.mp hi
    have e : gi (cpL a b (33 :: asL) σ) (iAA b) i = gi σ (iAA b) i := if_neg (fun z => iAA_S b a z.1)
    rw [e]
    exact hfit i hi
  have escp : scp (cpL a b (33 :: asL) σ) (iAA a) (iAA b) 16 = asA a b (33 :: asL) σ := by
    refine Prod.ext (funext fun g => funext fun j => ?_) rfl
    have hba : ¬ iAA b = iS a := iAA_S b a
    have haa : ¬ iAA a = iS a := iAA_S a a
    unfold scp cpL asA
    by_cases h1 : g = iAA a <;> by_cases h2 : j < 16 <;> simp [h1, h2, hba, haa]
  have h4 : (4 : Int32) ≤ nI 4 := by decide
  unfold B_X5_as_26
  rw [if_pos h4]
  have hL := asw_L (a := a) (b := b) (σ := σ)
  generalize asL = L at efit escp hL ⊢
  simp only [nm, cpL_s h, gd_t efit, escp, asA_s h, hL]
theorem c_as0 {N a b : Nat} {σ : SS} (h : a ≠ b) : F_X5_as N a b σ = F_X5_as_26 N a b N (nI 0) (cpL a b [16, 35, 34] σ) := by
  unfold F_X5_as
  have e34 : si σ (iS a) 34 (gi σ (iS b) 34) = cpL a b [34] σ := by
    have := cpL_s h [] 34 σ
    rw [cpL_0] at this
    exact this
  have e0 : (0 : Int32) = nI 0 := rfl
  simp only [nm, e34, cpL_s h, e0]
theorem c_as {N a b : Nat} {σ : SS} (hN : 100 ≤ N) (h : a ≠ b) (hfit : ∀ i, i < 16 → fits .short (.int (gi σ (iAA b) i)) = true) : F_X5_as N a b σ = some ((), asw a b σ) := by
  obtain ⟨n, en⟩ : ∃ n, N = n + 5 := ⟨N - 5, by omega⟩
  have h4 : F_X5_as_26 N a b N (nI 0) (cpL a b [16, 35, 34] σ) = F_X5_as_26 N a b (n + 4) (nI 1) (cpL a b [12 + 0, 8 + 0, 4 + 0, 0, 16, 35, 34] σ) := c_asLoop h (by omega) en rfl
  have h5 : F_X5_as_26 N a b (n + 4) (nI 1) (cpL a b [12 + 0, 8 + 0, 4 + 0, 0, 16, 35, 34] σ) = F_X5_as_26 N a b (n + 3) (nI 2) (cpL a b [12 + 1, 8 + 1, 4 + 1, 1, 12 + 0, 8 + 0, 4 + 0, 0, 16, 35, 34] σ) := c_asLoop h (by omega) rfl rfl
  have h6 : F_X5_as_26 N a b (n + 3) (nI 2) (cpL a b [12 + 1, 8 + 1, 4 + 1, 1, 12 + 0, 8 + 0, 4 + 0, 0, 16, 35, 34] σ) = F_X5_as_26 N a b (n + 2) (nI 3) (cpL a b [12 + 2, 8 + 2, 4 + 2, 2, 12 + 1, 8 + 1, 4 + 1, 1, 12 + 0, 8 + 0, 4 + 0, 0, 16, 35, 34] σ) := c_asLoop h (by omega) rfl rfl
  have h7 : F_X5_as_26 N a b (n + 2) (nI 3) (cpL a b [12 + 2, 8 + 2, 4 + 2, 2, 12 + 1, 8 + 1, 4 + 1, 1, 12 + 0, 8 + 0, 4 + 0, 0, 16, 35, 34] σ) = F_X5_as_26 N a b (n + 1) (nI 4) (cpL a b asL σ) := c_asLoop h (by omega) rfl rfl
  rw [c_as0 h, h4, h5, h6, h7, c_asEnd rfl]
  exact c_as4 h hfit
