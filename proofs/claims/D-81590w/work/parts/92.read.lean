/-! THE PLAIN LAW: read -/
set_option maxRecDepth 100000
/-- what is taken at a place: a number, or why none -/
def tkV (kd len lane : Nat) (val : Nat → Int32) (x : Int32) : Int32 ⊕ Nat := if kd = 0 then .inr 1 else if kd = lane + 1 then (if inR x len then .inl (val x.toNatClampNeg) else .inr 2) else .inr 3
theorem c_taken {N k lane kd len : Nat} {x : Int32} {s : SS} (hk : k < 4) (hl : lane < 3) (hkd : kd ≤ 3) (hn : len ≤ 40) (h : s.2.2 k = (kd, len)) : F_X0_takenOf N (nI k) (nI lane) x s = (match tkV kd len lane (gi s (17 + k)) x with | .inl v => some (Sum.inl v, s) | .inr c => some (Sum.inr (c, 0, 0), s)) := by
  have kk : (nI k).toNatClampNeg = k := nI_clamp (by omega)
  have hlen : len < 2147483648 := by omega
  unfold F_X0_takenOf tkV
  rw [gd_t (inR_nI hk (by omega)), nm_s, kk, h]
  rcases four (show kd < 4 by omega) with rfl | rfl | rfl | rfl <;> rcases three hl with rfl | rfl | rfl
  · rfl
  · rfl
  · rfl
  · show gd (len < 2147483648) (if inR x len then some (Sum.inl (gi s (17 + k) x.toNatClampNeg), s) else some (Sum.inr (2, 0, 0), s)) = _
    rw [gd_t hlen]
    by_cases c : inR x len
    · rw [if_pos c, if_neg (by decide), if_pos (by decide), if_pos c]
    · rw [if_neg c, if_neg (by decide), if_pos (by decide), if_neg c]
  · rfl
  · rfl
  · rfl
  · show gd (len < 2147483648) (if inR x len then some (Sum.inl (gi s (17 + k) x.toNatClampNeg), s) else some (Sum.inr (2, 0, 0), s)) = _
    rw [gd_t hlen]
    by_cases c : inR x len
    · rw [if_pos c, if_neg (by decide), if_pos (by decide), if_pos c]
    · rw [if_neg c, if_neg (by decide), if_pos (by decide), if_neg c]
  · rfl
  · rfl
  · rfl
  · show gd (len < 2147483648) (if inR x len then some (Sum.inl (gi s (17 + k) x.toNatClampNeg), s) else some (Sum.inr (2, 0, 0), s)) = _
    rw [gd_t hlen]
    by_cases c : inR x len
    · rw [if_pos c, if_neg (by decide), if_pos (by decide), if_pos c]
    · rw [if_neg c, if_neg (by decide), if_pos (by decide), if_neg c]
/-- acts added, one behind another -/
def cst : List Nat → Nat → SS → SS
  | [], _, s => s
  | a :: A, na, s => cst A (na + 1) (cad na a s)
def mst : List Nat → Nat → SS → SS
  | [], _, s => s
  | a :: A, na, s => mst A (na + 1) (mad na a s)
theorem cad_g {na a g i : Nat} {s : SS} (h : g ≠ 40 ∨ i ≠ 33) (h2 : g ≠ 42 ∨ i ≠ na) : gi (cad na a s) g i = gi s g i := (gi_sn h).trans (gi_sn h2)
theorem cad_33 {na a : Nat} {s : SS} : gi (cad na a s) (iS 0) 33 = nI (na + 1) := gi_se
theorem mad_g {na a g i : Nat} {s : SS} (h : g ≠ 21) : gi (mad na a s) g i = gi s g i := (gi_sn (Or.inl h)).trans (gi_sn (Or.inl h))
theorem mad_33 {na a : Nat} {s : SS} : gi (mad na a s) 21 33 = nI (na + 1) := gi_se
theorem mad_21 {na a i : Nat} {s : SS} (h : i ≠ 33) (h2 : i ≠ 17 + na) : gi (mad na a s) 21 i = gi s 21 i := (gi_sn (Or.inr h)).trans (gi_sn (Or.inr h2))
theorem cst_g {g i : Nat} : ∀ (A : List Nat) (na : Nat) (s : SS), (g ≠ 40 ∨ i ≠ 33) → (g ≠ 42 ∨ i < na) → gi (cst A na s) g i = gi s g i := by
  intro A
  induction A with
  | nil => intro na s _ _; rfl
  | cons a A ih => intro na s h h2; exact (ih (na + 1) (cad na a s) h (by omega)).trans (cad_g h (by omega))
theorem cst_33 : ∀ (A : List Nat) (na : Nat) (s : SS), gi s (iS 0) 33 = nI na → gi (cst A na s) (iS 0) 33 = nI (na + A.length) := by
  intro A
  induction A with
  | nil => intro na s h; exact h
  | cons a A ih =>
    intro na s _
    have h := ih (na + 1) (cad na a s) cad_33
    rw [show na + 1 + A.length = na + (a :: A).length by simp; omega] at h
    exact h
theorem cst_22 : ∀ (A : List Nat) (na : Nat) (s : SS), (cst A na s).2 = s.2 := by
  intro A
  induction A with
  | nil => intro na s; rfl
  | cons a A ih => intro na s; exact ih (na + 1) (cad na a s)
theorem mst_22 : ∀ (A : List Nat) (na : Nat) (s : SS), (mst A na s).2 = s.2 := by
  intro A
  induction A with
  | nil => intro na s; rfl
  | cons a A ih => intro na s; exact ih (na + 1) (mad na a s)
theorem mst_g {g i : Nat} (h : g ≠ 21) : ∀ (A : List Nat) (na : Nat) (s : SS), gi (mst A na s) g i = gi s g i := by
  intro A
  induction A with
  | nil => intro na s; rfl
  | cons a A ih => intro na s; exact (ih (na + 1) (mad na a s)).trans (mad_g h)
theorem mst_21 {i : Nat} (h : i < 17 ∨ 34 ≤ i) : ∀ (A : List Nat) (na : Nat) (s : SS), na + A.length ≤ 16 → gi (mst A na s) 21 i = gi s 21 i := by
  intro A
  induction A with
  | nil => intro na s _; rfl
  | cons a A ih =>
    intro na s hl
    simp only [List.length_cons] at hl
    exact (ih (na + 1) (mad na a s) (by omega)).trans (mad_21 (by omega) (by omega))
/-- what is written is written alike -/
theorem mst_eq {i : Nat} : ∀ (A : List Nat) (na : Nat) (s s' : SS), gi s 21 i = gi s' 21 i → gi (mst A na s) 21 i = gi (mst A na s') 21 i := by
  intro A
  induction A with
  | nil => intro na s s' h; exact h
  | cons a A ih =>
    intro na s s' h
    refine ih (na + 1) _ _ ?_
    by_cases c : i = 33
    · subst c; rw [mad_33, mad_33]
    · by_cases c2 : i = 17 + na
      · subst c2
        have e : ∀ z, gi (mad na a z) 21 (17 + na) = nI a := fun z => (gi_sn (Or.inr (by omega))).trans gi_se
        rw [e, e]
      · rw [mad_21 c c2, mad_21 c c2]; exact h
theorem si_comm {s : SS} {g i g' i' : Nat} {x y : Int32} (h : g ≠ g') : si (si s g i x) g' i' y = si (si s g' i' y) g i x := by
  refine Prod.ext (funext fun a => funext fun b => ?_) rfl
  show (if a = g' ∧ b = i' then y else if a = g ∧ b = i then x else s.1 a b) = (if a = g ∧ b = i then x else if a = g' ∧ b = i' then y else s.1 a b)
  by_cases c1 : a = g' ∧ b = i'
  · rw [if_pos c1, if_neg (by omega), if_pos c1]
  · rw [if_neg c1]
    by_cases c2 : a = g ∧ b = i
    · rw [if_pos c2, if_pos c2]
    · rw [if_neg c2, if_neg c2, if_neg c1]
theorem mad_cad {n a m b : Nat} {s : SS} : mad n a (cad m b s) = cad m b (mad n a s) := by
  unfold mad cad
  rw [si_comm (g := iS 0) (g' := 21) (by unfold iS; omega), si_comm (g := iAA 0) (g' := 21) (by unfold iAA; omega), si_comm (g := iS 0) (g' := 21) (by unfold iS; omega), si_comm (g := iAA 0) (g' := 21) (by unfold iAA; omega)]
theorem mad_cst {n a : Nat} : ∀ (A : List Nat) (m : Nat) (s : SS), mad n a (cst A m s) = cst A m (mad n a s) := by
  intro A
  induction A with
  | nil => intro m s; rfl
  | cons b A ih =>
    intro m s
    show mad n a (cst A (m + 1) (cad m b s)) = cst A (m + 1) (cad m b (mad n a s))
    rw [ih, mad_cad]
theorem now_adds {B : Nat} : ∀ (A : List Nat) (nw na M t : Nat) (P : Pg) (s : SS), Rel B s → Now B s P nw na M t → na + A.length ≤ 16 → (∀ a, a ∈ A → a ≤ 203) → Rel B (mst A na (cst A na s)) := by
  intro A
  induction A with
  | nil => intro nw na M t P s h _ _ _; exact h
  | cons a A ih =>
    intro nw na M t P s h hN hl hA
    simp only [List.length_cons] at hl
    have h1 : Rel B (mad na a (cad na a s)) := now_add h (Nat.le_refl _) hN (by omega) (hA a List.mem_cons_self)
    show Rel B (mst A (na + 1) (mad na a (cst A (na + 1) (cad na a s))))
    rw [mad_cst]
    obtain ⟨P', nw', na', M', t', hN'⟩ := h1.now
    have e : na' = na + 1 := by
      have e1 := (hN'.2.2.2.1 33 rfl (by omega)).trans hN'.2.1.1.2.2.2.1
      rw [mad_33] at e1
      have := hN'.2.1.1.2.2.1
      exact ((nI_eq (by omega) (by omega)).mp e1).symm
    subst e
    exact ih nw' (na + 1) M' t' P' _ h1 hN' (by omega) fun b hb => hA b (List.mem_cons_of_mem _ hb)
theorem AF_cst : ∀ (A : List Nat) (na : Nat) (s : SS), AF 0 s → (∀ a, a ∈ A → a ≤ 203) → AF 0 (cst A na s) := by
  intro A
  induction A with
  | nil => intro na s h _; exact h
  | cons a A ih =>
    intro na s h hA
    refine ih (na + 1) _ ?_ fun b hb => hA b (List.mem_cons_of_mem _ hb)
    exact (h.put (i := na) (hA a List.mem_cons_self)).sub fun i => gi_sn (by unfold iS; omega)
/-- a reading: the acts that came, and why it ended (none: an act that is none) -/
def rdV (tk : Nat → Int32 ⊕ Nat) : Nat → Nat → Nat → List Nat × Option Nat
  | 0, _, _ => ([], some 0)
  | k + 1, i, na => match tk i with
    | .inr c => ([], some c)
    | .inl v => if v.toInt < 0 ∨ 203 < v.toInt ∨ na = 16 then ([], none) else (v.toNatClampNeg :: (rdV tk k (i + 1) (na + 1)).1, (rdV tk k (i + 1) (na + 1)).2)
theorem told_in {v : Int32} (h : ¬ (v.toInt < 0 ∨ 203 < v.toInt)) : ∃ a, a < 204 ∧ v = nI a ∧ v.toNatClampNeg = a := by
  refine ⟨v.toInt.toNat, by omega, Int32.toInt_inj.mp ?_, rfl⟩
  rw [nI_toInt (by omega)]
  omega
theorem told_out {v : Int32} (h : v.toInt < 0 ∨ 203 < v.toInt) : ¬ InR v 0 204 := by
  rintro ⟨a, -, ha, rfl⟩
  rw [nI_toInt (by omega)] at h
  omega
theorem rdV_ok {tk : Nat → Int32 ⊕ Nat} : ∀ (k i na : Nat), na ≤ 16 → na + (rdV tk k i na).1.length ≤ 16 ∧ (∀ a, a ∈ (rdV tk k i na).1 → a ≤ 203) := by
  intro k
  induction k with
  | zero => intro i na h; exact ⟨h, fun a ha => absurd ha List.not_mem_nil⟩
  | succ k ih =>
    intro i na h
    unfold rdV
    cases tk i with
    | inr c => exact ⟨h, fun a ha => absurd ha List.not_mem_nil⟩
    | inl v =>
      show na + (if v.toInt < 0 ∨ 203 < v.toInt ∨ na = 16 then (([], none) : List Nat × Option Nat) else (v.toNatClampNeg :: (rdV tk k (i + 1) (na + 1)).1, (rdV tk k (i + 1) (na + 1)).2)).1.length ≤ 16 ∧ ∀ a, a ∈ (if v.toInt < 0 ∨ 203 < v.toInt ∨ na = 16 then (([], none) : List Nat × Option Nat) else (v.toNatClampNeg :: (rdV tk k (i + 1) (na + 1)).1, (rdV tk k (i + 1) (na + 1)).2)).1 → a ≤ 203
      by_cases c : v.toInt < 0 ∨ 203 < v.toInt ∨ na = 16
      · rw [if_pos c]
        exact ⟨h, fun a ha => absurd ha List.not_mem_nil⟩
      · rw [if_neg c]
        obtain ⟨g1, g2⟩ := ih (i + 1) (na + 1) (by omega)
        refine ⟨?_, fun a ha => ?_⟩
        · simp only [List.length_cons]; omega
        · obtain ⟨a0, h0, -, e0⟩ := told_in (v := v) (by omega)
          rcases List.mem_cons.mp ha with e | e
          · rw [e, e0]; omega
          · exact g2 a e
abbrev Codes (tk : Nat → Int32 ⊕ Nat) : Prop := ∀ i c, tk i = .inr c → c = 1 ∨ c = 2 ∨ c = 3
theorem m20 (i : Nat) : (-20 : Int32) - nI i = (-20 : Int32) - nI i := rfl
theorem bdx_l {α β : Type} {v : β} {s : SS} {k : β → SS → Option α} {kx : XI → SS → Option α} : bdx (some (Sum.inl v, s)) k kx = k v s := rfl
theorem bdx_r {α β : Type} {x : XI} {s : SS} {k : β → SS → Option α} {kx : XI → SS → Option α} : bdx (some (Sum.inr x, s)) k kx = kx x s := rfl
theorem c_read {N k lane n : Nat} {f before : Int32} {tk : Nat → Int32 ⊕ Nat} {val : Nat → Int32} {d : Nat → Nat × Nat} {kd len : Nat} (hk : k < 4) (hl : lane < 3) (hkd : kd ≤ 3) (hlen : len ≤ 40) (hd : d k = (kd, len)) (htk : ∀ i, tk i = tkV kd len lane val (f + nI i)) (hn : n ≤ 40) : ∀ (m i na : Nat) (s : SS), i ≤ n → n - i < m → na ≤ 16 → s.2.2 = d → (∀ j, gi s (17 + k) j = val j) → gi s (iS 0) 33 = nI na → F_X0_read_38 N m (nI k) (nI lane) f (nI n) before 0 (nI i) s = (match (rdV tk (n - i) i na).2 with | some c => some (nI (i + (rdV tk (n - i) i na).1.length), si (cst (rdV tk (n - i) i na).1 na s) 0 22 (nI c)) | none => some ((-20 : Int32) - nI (i + (rdV tk (n - i) i na).1.length), si (cst (rdV tk (n - i) i na).1 na s) (iS 0) 33 before)) := by
  intro m
  induction m with
  | zero => intro i na s _ h; omega
  | succ m ih =>
    intro i na s hi hm hna hsd hval h33
    show B_X0_read_38 N (F_X0_read_38 N m) (nI k) (nI lane) f (nI n) before 0 (nI i) s = _
    unfold B_X0_read_38
    by_cases c1 : i = n
    · subst c1
      rw [if_pos (nI_le (Nat.le_refl _) (by omega)), Nat.sub_self]
      rfl
    · have hlt : i < n := by omega
      have hv : (gi s (17 + k)) = val := funext hval
      rw [if_neg (nI_ge hlt (by omega)), c_taken hk hl hkd hlen (by rw [hsd]; exact hd), hv, ← htk i, show n - i = (n - (i + 1)) + 1 by omega]
      unfold rdV
      have hc : ∀ c, tk i = .inr c → c = 1 ∨ c = 2 ∨ c = 3 := fun c hc => by
        rw [htk i] at hc
        unfold tkV at hc
        split at hc
        · cases hc; exact Or.inl rfl
        · split at hc
          · split at hc
            · cases hc
            · cases hc; exact Or.inr (Or.inl rfl)
          · cases hc; exact Or.inr (Or.inr rfl)
      cases h : tk i with
      | inr c =>
        rcases hc c h with rfl | rfl | rfl <;> rfl
      | inl v =>
        show bdx (some (Sum.inl v, s)) _ _ = (match (if v.toInt < 0 ∨ 203 < v.toInt ∨ na = 16 then (([], none) : List Nat × Option Nat) else (v.toNatClampNeg :: (rdV tk (n - (i + 1)) (i + 1) (na + 1)).1, (rdV tk (n - (i + 1)) (i + 1) (na + 1)).2)).2 with | some c => some (nI (i + (if v.toInt < 0 ∨ 203 < v.toInt ∨ na = 16 then (([], none) : List Nat × Option Nat) else (v.toNatClampNeg :: (rdV tk (n - (i + 1)) (i + 1) (na + 1)).1, (rdV tk (n - (i + 1)) (i + 1) (na + 1)).2)).1.length), si (cst (if v.toInt < 0 ∨ 203 < v.toInt ∨ na = 16 then (([], none) : List Nat × Option Nat) else (v.toNatClampNeg :: (rdV tk (n - (i + 1)) (i + 1) (na + 1)).1, (rdV tk (n - (i + 1)) (i + 1) (na + 1)).2)).1 na s) 0 22 (nI c)) | none => some ((-20 : Int32) - nI (i + (if v.toInt < 0 ∨ 203 < v.toInt ∨ na = 16 then (([], none) : List Nat × Option Nat) else (v.toNatClampNeg :: (rdV tk (n - (i + 1)) (i + 1) (na + 1)).1, (rdV tk (n - (i + 1)) (i + 1) (na + 1)).2)).1.length), si (cst (if v.toInt < 0 ∨ 203 < v.toInt ∨ na = 16 then (([], none) : List Nat × Option Nat) else (v.toNatClampNeg :: (rdV tk (n - (i + 1)) (i + 1) (na + 1)).1, (rdV tk (n - (i + 1)) (i + 1) (na + 1)).2)).1 na s) (iS 0) 33 before))
        rw [bdx_l]
        by_cases c2 : v.toInt < 0 ∨ 203 < v.toInt ∨ na = 16
        · rw [if_pos c2]
          by_cases c3 : v.toInt < 0 ∨ 203 < v.toInt
          · rw [c_add0 (told_out c3), bd_s, if_neg (by decide)]
            rfl
          · obtain ⟨a, ha, rfl, -⟩ := told_in c3
            have e16 : na = 16 := by omega
            subst e16
            rw [c_add3 h33 ha, bd_s, if_neg (by decide)]
            rfl
        · rw [if_neg c2]
          obtain ⟨a, ha, rfl, ea⟩ := told_in (v := v) (by omega)
          have h0 : (0 : Int32) ≤ nI (na + 1) := nI_pos' (by omega)
          rw [c_add1 h33 (by omega) ha, bd_s, if_pos h0, nm_s, ea, show nI i + 1 = nI (i + 1) from nI_1 i, ih (i + 1) (na + 1) (cad na a s) hlt (by omega) (by omega) hsd (fun j => (cad_g (by omega) (by omega)).trans (hval j)) cad_33]
          simp only [List.length_cons]
          rw [show i + ((rdV tk (n - (i + 1)) (i + 1) (na + 1)).1.length + 1) = i + 1 + (rdV tk (n - (i + 1)) (i + 1) (na + 1)).1.length by omega]
          rfl
/-- the model's place is the component's -/
theorem ix_read {N i len : Nat} {f : Int32} {s : SS} (hi : i ≤ 40) (hlen : len ≤ 40) : (inR (f + nI i) len → F_X8_in N (f.toInt64 + (nI i).toInt64) 0 ((nI len - 1).toInt64) s = some (1, s)) ∧ (¬ inR (f + nI i) len → F_X8_in N (f.toInt64 + (nI i).toInt64) 0 ((nI len - 1).toInt64) s = some (0, s)) := by
  have hh := lg_m1 (n := len) (by omega)
  have l0 : (0 : Int64).toInt = 0 := by decide
  have f1 := f.toInt_lt
  have f2 := f.le_toInt
  have es : (f.toInt64 + (nI i).toInt64).toInt = f.toInt + i := by
    rw [Int64.toInt_add, Int32.toInt_toInt64, Int32.toInt_toInt64, nI_toInt (by omega)]
    exact Int.bmod_eq_of_le (by omega) (by omega)
  rw [m_in_e, in_e, es, l0]
  have key : (0 ≤ f.toInt + i ∧ f.toInt + i ≤ (nI len - 1).toInt64.toInt) ↔ inR (f + nI i) len := by
    rw [inR_iff hlen]
    constructor
    · intro h
      refine ⟨(f.toInt + i).toNat, Nat.zero_le _, by omega, Int32.toInt_inj.mp ?_⟩
      rw [Int32.toInt_add, nI_toInt (by omega), nI_toInt (by omega)]
      exact (Int.bmod_eq_of_le (by omega) (by omega)).trans (by omega)
    · rintro ⟨j, -, hj, e⟩
      have e1 : f = nI j - nI i := by rw [← e]; exact (Int32.add_sub_cancel _ _).symm
      have e2 : f.toInt = (j : Int) - i := by
        rw [e1, Int32.toInt_sub, nI_toInt (by omega), nI_toInt (by omega)]
        exact Int.bmod_eq_of_le (by omega) (by omega)
      omega
  exact ⟨fun h => by rw [if_pos (key.mpr h)], fun h => by rw [if_neg (fun z => h (key.mp z))]⟩
theorem m_readEnd {N n m i came c : Nat} {x1 x2 x3 : Int32} {s : SS} (hc : c = 1 ∨ c = 2 ∨ c = 3) (hm : 2 ≤ m) : F_X8_read_55 N m x1 x2 x3 (nI n) (nI c) (nI came) (nI i) s = some (nI came, si s 1 25 (nI c)) := by
  obtain ⟨m', rfl⟩ : ∃ m', m = m' + 1 := ⟨m - 1, by omega⟩
  show B_X8_read_55 N (F_X8_read_55 N m') x1 x2 x3 (nI n) (nI c) (nI came) (nI i) s = _
  unfold B_X8_read_55
  have hc0 : ¬ (nI c : Int32) = 0 := nI_ne0 (by omega) (by omega)
  by_cases h : nI n ≤ nI i
  · rw [if_pos h]; rfl
  · rw [if_neg h, if_neg hc0]; rfl
theorem m_read {N k lane n : Nat} {f : Int32} {tk : Nat → Int32 ⊕ Nat} {val : Nat → Int32} {kd len : Nat} (hN1 : 1000 ≤ N) (hk : k < 4) (hl : lane < 3) (hkd : kd ≤ 3) (hlen : len ≤ 40) (htk : ∀ i, tk i = tkV kd len lane val (f + nI i)) (hn : n ≤ 40) : ∀ (m i na : Nat) (s : SS), i ≤ n → n - i + 2 < m → na ≤ 16 → (kd = 0 → gi s 29 k = -4) → (0 < kd → gi s 29 k = nI (kd - 1) ∧ gi s 30 k = nI len ∧ ∀ j, j < len → gi s 31 (40 * k + j) = val j) → gi s 21 33 = nI na → F_X8_read_55 N m (nI k) (nI lane) f (nI n) 0 (nI i) (nI i) s = (match (rdV tk (n - i) i na).2 with | some c => some (nI (i + (rdV tk (n - i) i na).1.length), si (mst (rdV tk (n - i) i na).1 na s) 1 25 (nI c)) | none => some ((-20 : Int32) - nI (i + (rdV tk (n - i) i na).1.length), mcp 117 0 39 (mst (rdV tk (n - i) i na).1 na s))) := by
  have kk : (nI k).toNatClampNeg = k := nI_clamp (by omega)
  have rk : inR (nI k) 4 := inR_nI hk (by omega)
  intro m
  induction m with
  | zero => intro i na s _ h; omega
  | succ m ih =>
    intro i na s hi hm hna h0 h1 h33
    show B_X8_read_55 N (F_X8_read_55 N m) (nI k) (nI lane) f (nI n) 0 (nI i) (nI i) s = _
    unfold B_X8_read_55
    by_cases c1 : i = n
    · subst c1
      rw [if_pos (nI_le (Nat.le_refl _) (by omega)), Nat.sub_self]
      rfl
    · have hlt : i < n := by omega
      have eend : ∀ c, (c = 1 ∨ c = 2 ∨ c = 3) → F_X8_read_123 N (F_X8_read_55 N m) (nI k) (nI lane) f (nI n) (nI i) (nI i) (nI c) s = some (nI i, si s 1 25 (nI c)) := fun c hc => by
        have hc0 : ¬ (nI c : Int32) = 0 := nI_ne0 (by omega) (by omega)
        unfold F_X8_read_123
        rw [if_neg hc0, nm_s, show nI i + 1 = nI (i + 1) from nI_1 i, m_readEnd hc (by omega)]
      rw [if_neg (nI_ge hlt (by omega)), if_pos rfl]
      simp only [kk, gd_t rk]
      rw [show n - i = (n - (i + 1)) + 1 by omega]
      unfold rdV
      rw [htk i]
      unfold tkV
      by_cases k0 : kd = 0
      · rw [if_pos k0, h0 k0, if_pos rfl]
        exact eend 1 (by omega)
      · obtain ⟨g29, g30, g31⟩ := h1 (by omega)
        rw [if_neg k0, g29, if_neg (nI_ne4 (by omega))]
        by_cases k1 : kd = lane + 1
        · rw [if_pos k1, if_pos (show nI (kd - 1) = nI lane by rw [k1]; rfl), g30]
          by_cases k2 : inR (f + nI i) len
          · rw [if_pos k2, (ix_read (by omega) hlen).1 k2, bd_s, if_neg e10]
            obtain ⟨j, -, hj, ej⟩ := (inR_iff hlen).mp k2
            rw [ej, nI_clamp (by omega)]
            unfold F_X8_read_123
            have i1 : (40 : Int32) * nI k + f + nI i = nI (40 * k + j) := by
              rw [Int32.add_assoc, ej]
              exact (congrArg (· + nI j) (nI_mulN 40 k)).trans (nI_add _ _)
            rw [if_pos rfl, nm_s, i1, gd_t (inR_nI (by omega) (by omega)), nI_clamp (by omega), g31 j hj]
            generalize val j = v
            show _ = (match (if v.toInt < 0 ∨ 203 < v.toInt ∨ na = 16 then (([], none) : List Nat × Option Nat) else (v.toNatClampNeg :: (rdV tk (n - (i + 1)) (i + 1) (na + 1)).1, (rdV tk (n - (i + 1)) (i + 1) (na + 1)).2)).2 with | some c => some (nI (i + (if v.toInt < 0 ∨ 203 < v.toInt ∨ na = 16 then (([], none) : List Nat × Option Nat) else (v.toNatClampNeg :: (rdV tk (n - (i + 1)) (i + 1) (na + 1)).1, (rdV tk (n - (i + 1)) (i + 1) (na + 1)).2)).1.length), si (mst (if v.toInt < 0 ∨ 203 < v.toInt ∨ na = 16 then (([], none) : List Nat × Option Nat) else (v.toNatClampNeg :: (rdV tk (n - (i + 1)) (i + 1) (na + 1)).1, (rdV tk (n - (i + 1)) (i + 1) (na + 1)).2)).1 na s) 1 25 (nI c)) | none => some ((-20 : Int32) - nI (i + (if v.toInt < 0 ∨ 203 < v.toInt ∨ na = 16 then (([], none) : List Nat × Option Nat) else (v.toNatClampNeg :: (rdV tk (n - (i + 1)) (i + 1) (na + 1)).1, (rdV tk (n - (i + 1)) (i + 1) (na + 1)).2)).1.length), mcp 117 0 39 (mst (if v.toInt < 0 ∨ 203 < v.toInt ∨ na = 16 then (([], none) : List Nat × Option Nat) else (v.toNatClampNeg :: (rdV tk (n - (i + 1)) (i + 1) (na + 1)).1, (rdV tk (n - (i + 1)) (i + 1) (na + 1)).2)).1 na s)))
            have ecp : ∀ τ : SS, F_X8_copies N 117 0 τ = some ((), mcp 117 0 39 τ) := fun τ => m_cp_to0 (a := 117) (by omega) (by omega) (by omega)
            by_cases c2 : v.toInt < 0 ∨ 203 < v.toInt ∨ na = 16
            · rw [if_pos c2]
              by_cases c3 : v.toInt < 0 ∨ 203 < v.toInt
              · rw [m_add0 (told_out c3), bd_s, if_neg (by decide), ecp, bd_s]
                rfl
              · obtain ⟨a, ha, rfl, -⟩ := told_in c3
                have e16 : na = 16 := by omega
                subst e16
                rw [m_add3 h33 ha, bd_s, if_neg (by decide), ecp, bd_s]
                rfl
            · rw [if_neg c2]
              obtain ⟨a, ha, rfl, ea⟩ := told_in (v := v) (by omega)
              have h00 : (0 : Int32) ≤ nI (na + 1) := nI_pos' (by omega)
              rw [m_add1 h33 (by omega) ha, bd_s, if_pos h00, nm_s, nm_s, ea, show nI i + 1 = nI (i + 1) from nI_1 i, ih (i + 1) (na + 1) (mad na a s) hlt (by omega) (by omega) (fun z => (mad_g (by omega)).trans (h0 z)) (fun z => ⟨(mad_g (by omega)).trans g29, (mad_g (by omega)).trans g30, fun j hj => (mad_g (by omega)).trans (g31 j hj)⟩) mad_33]
              simp only [List.length_cons]
              rw [show i + ((rdV tk (n - (i + 1)) (i + 1) (na + 1)).1.length + 1) = i + 1 + (rdV tk (n - (i + 1)) (i + 1) (na + 1)).1.length by omega]
              rfl
          · rw [if_neg k2, (ix_read (by omega) hlen).2 k2, bd_s, if_pos rfl]
            exact eend 2 (by omega)
        · rw [if_neg k1, if_neg (fun z => k1 (by have := (nI_eq (a := kd - 1) (b := lane) (by omega) (by omega)).mp z; omega))]
          exact eend 3 (by omega)
theorem p_read {N : Nat} (hN9 : 2 ^ 70 ≤ N) : Sp38 Inv N := by
  have hN1 : 1000 ≤ N := Nat.le_trans (by decide) hN9
  intro t σ x1 x2 x3 x4 ht hI
  obtain ⟨P, nw, na, M, t9, hN⟩ := hI.now
  unfold F_X0_read F_X8_read
  by_cases h1 : InR x1 0 4
  · by_cases h2 : InR x2 0 3
    · by_cases h4 : InR x4 0 41
      · obtain ⟨k, -, hk, rfl⟩ := id h1
        obtain ⟨l, -, hl, rfl⟩ := id h2
        obtain ⟨n, -, hn, rfl⟩ := id h4
        have h16 := hN.2.1.1.2.2.1
        obtain ⟨kd, len, hkd, hlen, a1, a2, a3⟩ := hI.2.2.2.2.2.2.2.2 k hk
        have c33 : gi σ (iS 0) 33 = nI na := (hN.2.2.1 33 rfl).trans hN.2.1.1.2.2.2.1
        have m33 : gi σ 21 33 = nI na := (hN.2.2.2.1 33 rfl (by omega)).trans hN.2.1.1.2.2.2.1
        have eC := c_read (N := N) (k := k) (lane := l) (n := n) (f := x3) (before := nI na) (tk := fun i => tkV kd len l (gi σ (17 + k)) (x3 + nI i)) (val := gi σ (17 + k)) (d := σ.2.2) hk hl hkd hlen a1 (fun i => rfl) (by omega) N 0 na σ (Nat.zero_le _) (by omega) h16 rfl (fun j => rfl) c33
        obtain ⟨r1, r2⟩ := rdV_ok (tk := fun i => tkV kd len l (gi σ (17 + k)) (x3 + nI i)) n 0 na h16
        have hmr := fun s => m_read (N := N) (k := k) (lane := l) (n := n) (f := x3) (tk := fun i => tkV kd len l (gi σ (17 + k)) (x3 + nI i)) (val := gi σ (17 + k)) (kd := kd) (len := len) hN1 hk hl hkd hlen (fun i => rfl) (by omega) N 0 na s (Nat.zero_le _) (by omega) h16
        rw [Nat.sub_zero] at eC hmr
        generalize rdV (fun i => tkV kd len l (gi σ (17 + k)) (x3 + nI i)) n 0 na = R at eC hmr r1 r2
        obtain ⟨A, o⟩ := R
        have hZ := now_adds A nw na M t9 P σ hI hN r1 r2
        have hcg : ∀ g i, (g ≠ 40 ∨ i ≠ 33) → g ≠ 42 → gi (cst A na σ) g i = gi σ g i := fun g i e1 e2 => cst_g A na σ e1 (Or.inl e2)
        have hgo := fun (s1 : SS) (hs : ∀ g i, (g ≠ 40 ∨ i ≠ 33) → g ≠ 42 → (g ≠ 0 ∨ i ≠ 22) → gi s1 g i = gi σ g i) => hmr (mcp 0 117 39 s1) (fun z => by rw [mcp_g (by omega), hs _ _ (by omega) (by omega) (by omega)]; exact a2 z) (fun z => ⟨by rw [mcp_g (by omega), hs _ _ (by omega) (by omega) (by omega)]; exact (a3 z).1, by rw [mcp_g (by omega), hs _ _ (by omega) (by omega) (by omega)]; exact (a3 z).2.1, fun j hj => by rw [mcp_g (by omega), hs _ _ (by omega) (by omega) (by omega)]; exact (a3 z).2.2 j hj⟩) (by rw [mcp_g (by omega), hs _ _ (by omega) (by omega) (by omega)]; exact m33)
        have e117 : ∀ s1 : SS, F_X8_copies N 0 117 s1 = some ((), mcp 0 117 39 s1) := fun s1 => m_cp_0 (b := 117) (by omega) (by omega) (by omega)
        have guardM : ∀ s1 : SS, (bd (F_X8_in N (nI k).toInt64 (0 : Int64) (3 : Int64) s1) fun r_66 σ_67 =>
  if r_66 = (0 : Int32) then
    some ((-1 : Int32), σ_67)
  else
    bd (F_X8_in N (nI l).toInt64 (0 : Int64) (2 : Int64) σ_67) fun r_70 σ_71 =>
    if r_70 = (0 : Int32) then
      some ((-1 : Int32), σ_71)
    else
      bd (F_X8_in N (nI n).toInt64 (0 : Int64) (40 : Int64) σ_71) fun r_74 σ_75 =>
      if r_74 = (0 : Int32) then
        some ((-1 : Int32), σ_75)
      else
        bd (F_X8_copies N (0 : Int32) (117 : Int32) σ_75) fun r_78 σ_79 =>
        F_X8_read_55 N N (nI k) (nI l) x3 (nI n) (0 : Int32) (0 : Int32) (0 : Int32) σ_79) = F_X8_read_55 N N (nI k) (nI l) x3 (nI n) 0 0 0 (mcp 0 117 39 s1) := fun s1 => by
          rw [m_in_e, i_03.1 h1, bd_s, if_neg e10, m_in_e, i_02.1 h2, bd_s, if_neg e10, m_in_e, i_40.1 h4, bd_s, if_neg e10, e117, bd_s]
        cases o with
        | some c =>
          refine ⟨nI (0 + A.length), si (cst A na σ) 0 22 (nI c), si (mst A na (mcp 0 117 39 (si (cst A na σ) 0 22 (nI c)))) 1 25 (nI c), ?_, ?_, ?_⟩
          · rw [c_isSheet.1 h1 h2, bd_s, if_neg e10, i_40.1 h4, bd_s, if_neg e10, nm_s, c33]
            exact eC
          · refine (guardM _).trans (hgo _ fun g i e1 e2 e3 => ?_)
            rw [gi_sn (by omega)]
            exact hcg g i e1 e2
          · have ag : Ag XF (mst A na (cst A na σ)) (si (mst A na (mcp 0 117 39 (si (cst A na σ) 0 22 (nI c)))) 1 25 (nI c)) := fun g i g1 g2 => by
              unfold hid at g1
              unfold XF at g2
              rw [gi_sn (by omega)]
              by_cases c21 : g = 21
              · subst c21
                refine mst_eq A na _ _ ?_
                rw [mcp_g (by omega), gi_sn (by omega)]
              · rw [mst_g c21, mst_g c21, mcp_g (by omega), gi_sn (by omega)]
            have es : (si (mst A na (mcp 0 117 39 (si (cst A na σ) 0 22 (nI c)))) 1 25 (nI c)).2.2 = (mst A na (cst A na σ)).2.2 := by
              show (mst A na (mcp 0 117 39 (si (cst A na σ) 0 22 (nI c)))).2.2 = _
              rw [mst_22, mst_22]
              rfl
            refine Rel.exF hZ (by omega) ag es ⟨?_, ?_⟩
            · have hf := hI.2.2.2.2.2.2.1.1
              rw [gi_sn (by omega), gi_sn (by omega), mst_g (by omega), mst_g (by omega), mcp_g (by omega), mcp_g (by omega), gi_sn (by omega), gi_sn (by omega), hcg _ _ (by omega) (by omega), hcg _ _ (by omega) (by omega)]
              exact hf
            · rw [gi_se, gi_sn (by omega), mst_g (by omega), mcp_g (by omega), gi_se]
        | none =>
          refine ⟨(-20 : Int32) - nI (0 + A.length), si (cst A na σ) (iS 0) 33 (nI na), mcp 117 0 39 (mst A na (mcp 0 117 39 (si (cst A na σ) (iS 0) 33 (nI na)))), ?_, ?_, ?_⟩
          · rw [c_isSheet.1 h1 h2, bd_s, if_neg e10, i_40.1 h4, bd_s, if_neg e10, nm_s, c33]
            exact eC
          · refine (guardM _).trans (hgo _ fun g i e1 e2 e3 => ?_)
            rw [gi_sn (by unfold iS; omega)]
            exact hcg g i e1 e2
          · obtain ⟨⟨z0, y0⟩, ⟨hF, q2, q3, q4, q5, q6⟩, hc, hm, h34, hcA, hmA, g14, g15⟩ := id hN
            have p0 : ∀ i, i < 39 → gi (mcp 117 0 39 (mst A na (mcp 0 117 39 (si (cst A na σ) (iS 0) 33 (nI na))))) 21 i = gi σ 21 i := fun i hi => by
              have e1 : gi (mcp 117 0 39 (mst A na (mcp 0 117 39 (si (cst A na σ) (iS 0) 33 (nI na))))) 21 i = gi (mst A na (mcp 0 117 39 (si (cst A na σ) (iS 0) 33 (nI na)))) 21 (117 + i) := by
                show (if (21 : Nat) = 21 ∧ 0 ≤ i ∧ i < 0 + 39 then _ else _) = _
                rw [if_pos ⟨rfl, by omega, by omega⟩, Nat.sub_zero]
                rfl
              have e2 : gi (mcp 0 117 39 (si (cst A na σ) (iS 0) 33 (nI na))) 21 (117 + i) = gi (si (cst A na σ) (iS 0) 33 (nI na)) 21 i := by
                show (if (21 : Nat) = 21 ∧ 117 ≤ 117 + i ∧ 117 + i < 117 + 39 then (si (cst A na σ) (iS 0) 33 (nI na)).1 21 (0 + (117 + i - 117)) else _) = _
                rw [if_pos ⟨rfl, by omega, by omega⟩, Nat.zero_add, Nat.add_sub_cancel_left]
                rfl
              rw [e1, mst_21 (by omega) A na _ r1, e2, gi_sn (by unfold iS; omega), hcg _ _ (by omega) (by omega)]
            have po : ∀ g i, g ≠ 21 → (g ≠ 40 ∨ i ≠ 33) → g ≠ 42 → gi (mcp 117 0 39 (mst A na (mcp 0 117 39 (si (cst A na σ) (iS 0) 33 (nI na))))) g i = gi σ g i := fun g i e1 e2 e3 => by
              rw [mcp_g (Or.inl e1), mst_g e1, mcp_g (Or.inl e1), gi_sn (by unfold iS; omega)]
              exact hcg g i e2 e3
            have p42 : ∀ i, gi (mcp 117 0 39 (mst A na (mcp 0 117 39 (si (cst A na σ) (iS 0) 33 (nI na))))) 42 i = gi (cst A na σ) 42 i := fun i => by
              rw [mcp_g (by omega), mst_g (by omega), mcp_g (by omega), gi_sn (by unfold iS; omega)]
            refine now_to (P := P) (nw := nw) (na := na) (M := M) (t := t9) hI (by omega) (fun g i g1 g2 => ?_) ?_ ((AF_cst A na σ hI.2.2.1.1 r2).sub p42) hF q2 q3 q4 q5 (q6.mono (by omega)) (fun i hi => ?_) (fun i hi hne => ?_) ?_ (fun i hi => ?_) (fun i hi => ?_)
            · unfold hid at g1
              unfold XP at g2
              by_cases c21 : g = 21
              · subst c21
                rw [mcp_g (by omega), mst_21 (by omega) A na _ r1, mcp_g (by omega), gi_sn (by unfold iS; omega)]
                exact hcg _ _ (by omega) (by omega)
              · exact po g i c21 (by omega) (by omega)
            · show (mst A na (mcp 0 117 39 (si (cst A na σ) (iS 0) 33 (nI na)))).2.2 = _
              rw [mst_22]
              show (cst A na σ).2.2 = _
              rw [cst_22]
            · by_cases c33' : i = 33
              · subst c33'
                rw [mcp_g (by unfold iS; omega), mst_g (by unfold iS; omega), mcp_g (by unfold iS; omega), gi_se]
                exact hF.2.2.2.1.symm
              · rw [po _ _ (by unfold iS; omega) (Or.inr c33') (by unfold iS; omega)]
                exact hc i hi
            · have hj2 : i < 17 ∨ (33 ≤ i ∧ i < 39) := by
                unfold dq at hi
                simpa using hi
              rw [p0 i (by omega)]
              exact hm i hi hne
            · rw [p0 34 (by omega)]; exact h34
            · rw [show iAA 0 = 42 from rfl, p42, cst_g A na σ (by omega) (by omega)]
              exact hcA i hi
            · rw [p0 _ (by omega)]
              exact hmA i hi
      · refine ⟨-1, σ, σ, ?_, ?_, hI.up⟩
        · rw [c_isSheet.1 h1 h2, bd_s, if_neg e10, i_40.2 h4, bd_s, if_pos rfl]
        · rw [m_in_e, i_03.1 h1, bd_s, if_neg e10, m_in_e, i_02.1 h2, bd_s, if_neg e10, m_in_e, i_40.2 h4, bd_s, if_pos rfl]
    · refine ⟨-1, σ, σ, ?_, ?_, hI.up⟩
      · rw [c_isSheet.2.2 h1 h2, bd_s, if_pos rfl]
      · rw [m_in_e, i_03.1 h1, bd_s, if_neg e10, m_in_e, i_02.2 h2, bd_s, if_pos rfl]
  · refine ⟨-1, σ, σ, ?_, ?_, hI.up⟩
    · rw [c_isSheet.2.1 h1, bd_s, if_pos rfl]
    · rw [m_in_e, i_03.2 h1, bd_s, if_pos rfl]
