/-! THE PLAIN LAW: the text: names -/
set_option maxRecDepth 100000
def en (x : Nat) : Nat := (endL.getD x 0).toNatClampNeg
def ln (x : Nat) : Nat := en (x + 1) - en x
def wd (x i : Nat) : Nat := (letL.getD (en x + i) 0).toNatClampNeg
theorem en_ok : ∀ x, x < 8 → endL.getD x 0 = nI (en x) ∧ endL.getD (x + 1) 0 = nI (en (x + 1)) ∧ en x ≤ en (x + 1) ∧ en (x + 1) ≤ 35 ∧ lenS (nmS (nI x)) = ln x ∧ ln x ≤ 5 := by decide +kernel
theorem wd_ok : ∀ x, x < 8 → ∀ i, i < 5 → i < ln x → chS (nmS (nI x)) i = nI (wd x i) ∧ letL.getD (en x + i) 0 = nI (wd x i) ∧ wd x i ≤ 127 := by decide +kernel
def mtB (cs : Nat → Nat) (x f : Nat) : Nat → Nat → Bool
  | 0, _ => true
  | c + 1, i => decide (cs (f + i) = wd x i) && mtB cs x f c (i + 1)
/-- whether it is that name that stands there -/
def isB (cs : Nat → Nat) (k : Tk) (x : Nat) : Bool := decide (k.2.2.1 = 1 ∧ k.1 - k.2.1 = ln x) && mtB cs x k.2.1 (ln x) 0
def fstB (cs : Nat → Nat) (k : Tk) : Nat → Nat → Nat
  | 0, x => x
  | c + 1, x => if isB cs k x = true then x else fstB cs k c (x + 1)
theorem fstB_le {cs : Nat → Nat} {k : Tk} : ∀ (c x : Nat), x ≤ fstB cs k c x ∧ fstB cs k c x ≤ x + c := by
  intro c
  induction c with
  | zero => intro x; exact ⟨Nat.le_refl _, Nat.le_refl _⟩
  | succ c ih =>
    intro x
    show x ≤ (if isB cs k x = true then x else fstB cs k c (x + 1)) ∧ (if isB cs k x = true then x else fstB cs k c (x + 1)) ≤ x + (c + 1)
    by_cases h : isB cs k x = true
    · rw [if_pos h]; omega
    · rw [if_neg h]
      have := ih (x + 1)
      omega
theorem c_is39 {N tp x : Nat} {cs : Nat → Nat} {k : Tk} {s : SS} (hT : Tx cs tp) (hW : TW tp k) (hx : x < 8) (hI : CI cs tp s k.1) (hk : CT s k) (hl : k.1 - k.2.1 = ln x) : ∀ (m c i : Nat) (acc : Bool), i + c = ln x → c < m → F_X9_is_39 N m (nmS (nI x)) (b2i acc) (nI i) s = some (b2i (acc && mtB cs x k.2.1 c i), s) := by
  obtain ⟨-, -, -, -, e5, e6⟩ := en_ok x hx
  have t1 := hT.1
  have w1 := hW.1
  have w2 := hW.2.1
  intro m
  induction m with
  | zero => intro c i acc _ h; omega
  | succ m ih =>
    intro c i acc hi hm
    show B_X9_is_39 N (F_X9_is_39 N m) (nmS (nI x)) (b2i acc) (nI i) s = _
    unfold B_X9_is_39
    cases acc with
    | false =>
      rw [if_pos (show b2i false = 0 from rfl), gd_t (b2i_01 false), Bool.false_and]
    | true =>
      rw [if_neg (show ¬ b2i true = 0 by decide), e5, Bool.true_and]
      cases c with
      | zero =>
        rw [if_pos (show Int32.ofNat (ln x) ≤ nI i from nI_le (by omega) (by omega)), gd_t (b2i_01 true)]
        rfl
      | succ c =>
        obtain ⟨d1, -, -⟩ := wd_ok x hx i (by omega) (by omega)
        have hlt : ¬ Int32.ofNat (ln x) ≤ nI i := nI_ge (by omega) (by omega)
        have kf : (nI (k.2.1 + i)).toNatClampNeg = k.2.1 + i := nI_clamp (by omega)
        have ki : (nI i).toNatClampNeg = i := nI_clamp (by omega)
        rw [if_neg hlt, hk.2.1, nI_add]
        simp only [kf, ki, gd_t (inR_nI (show k.2.1 + i < 160 by omega) (by omega)), gd_t (inR_nI (show i < ln x by omega) (by omega)), hI.2.1 (k.2.1 + i) (by omega), d1]
        show _ = some (b2i (decide (cs (k.2.1 + i) = wd x i) && mtB cs x k.2.1 c (i + 1)), s)
        have hcc := hT.2 (k.2.1 + i) (by omega)
        have hww := (wd_ok x hx i (by omega) (by omega)).2.2
        by_cases h : cs (k.2.1 + i) = wd x i
        · rw [if_pos (by rw [h]), nm_s, show nI i + 1 = nI (i + 1) from nI_1 i, decide_eq_true h, show (1 : Int32) = b2i true from rfl, ih c (i + 1) true (by omega) (by omega), Bool.true_and]
        · rw [if_neg (nI_eqL (by omega) (by omega) h), nm_s, show nI i + 1 = nI (i + 1) from nI_1 i, decide_eq_false h, show (0 : Int32) = b2i false from rfl, ih c (i + 1) false (by omega) (by omega), Bool.false_and]
theorem c_is390 {N j i m : Nat} {s : SS} (hm : 0 < m) : F_X9_is_39 N m j 0 (nI i) s = some (0, s) := by
  obtain ⟨m', rfl⟩ : ∃ m', m = m' + 1 := ⟨m - 1, by omega⟩
  show B_X9_is_39 N (F_X9_is_39 N m') j 0 (nI i) s = _
  unfold B_X9_is_39
  rw [if_pos rfl, gd_t (Or.inl rfl)]
theorem c_is {N tp x : Nat} {cs : Nat → Nat} {k : Tk} {s : SS} (hN1 : 1000 ≤ N) (hT : Tx cs tp) (hW : TW tp k) (hx : x < 8) (hI : CI cs tp s k.1) (hk : CT s k) : F_X9_is N (nI x) s = some (b2i (isB cs k x), s) := by
  obtain ⟨-, -, -, -, e5, e6⟩ := en_ok x hx
  have t1 := hT.1
  have w1 := hW.1
  have w2 := hW.2.1
  have w3 := hW.2.2
  have e34 : F_X9_is_34 N (nmS (nI x)) s = some (0, s) := c_is390 (i := 0) (by omega)
  unfold F_X9_is isB
  rw [nm_s, hk.2.2.1, hk.1, hk.2.1, nI_sub w1, e5, e34]
  by_cases h1 : k.2.2.1 = 1
  · rw [if_pos (show nI k.2.2.1 = 1 by rw [h1]; rfl)]
    by_cases h2 : k.1 - k.2.1 = ln x
    · rw [if_pos (show nI (k.1 - k.2.1) = Int32.ofNat (ln x) by rw [h2]; rfl), decide_eq_true ⟨h1, h2⟩]
      exact c_is39 (N := N) hT hW hx hI hk h2 N (ln x) 0 true (by omega) (by omega)
    · rw [if_neg (show ¬ nI (k.1 - k.2.1) = Int32.ofNat (ln x) from nI_eqL (by omega) (by omega) h2), decide_eq_false (fun h => h2 h.2), Bool.false_and]
      rfl
  · rw [if_neg (show ¬ nI k.2.2.1 = 1 from nI_eqL (b := 1) (by omega) (by omega) h1), decide_eq_false (fun h => h1 h.1), Bool.false_and]
    rfl
theorem c_line2 {N tp : Nat} {cs : Nat → Nat} {k : Tk} {s : SS} (hN1 : 1000 ≤ N) (hT : Tx cs tp) (hW : TW tp k) (hI : CI cs tp s k.1) (hk : CT s k) : ∀ (m c x : Nat), x + c = 8 → c < m → F_X9_line_2 N m (nI x) s = F_X9_line_22 N (nI (fstB cs k c x)) s := by
  intro m
  induction m with
  | zero => intro c x _ h; omega
  | succ m ih =>
    intro c x hx hm
    show B_X9_line_2 N (F_X9_line_2 N m) (nI x) s = _
    unfold B_X9_line_2
    cases c with
    | zero =>
      have c1 : (7 : Int32) < nI x := nI_lt (a := 7) (by omega) (by omega)
      exact if_pos c1
    | succ c =>
      have c1 : ¬ (7 : Int32) < nI x := nI_nlt (a := 7) (by omega) (by omega)
      rw [if_neg c1, c_is hN1 hT hW (by omega) hI hk, bd_s]
      show _ = F_X9_line_22 N (nI (if isB cs k x = true then x else fstB cs k c (x + 1))) s
      cases hb : isB cs k x with
      | true => rw [if_neg (show ¬ b2i true = 0 by decide), if_pos rfl]
      | false =>
        rw [if_pos (show b2i false = 0 from rfl), nm_s, show nI x + 1 = nI (x + 1) from nI_1 x, if_neg (by decide)]
        exact ih c (x + 1) (by omega) (by omega)
theorem m_nm51 {N tp x : Nat} {cs : Nat → Nat} {k : Tk} {z : SS} {K : Int32 → SS → Option (Int32 × SS)} (hT : Tx cs tp) (hW : TW tp k) (hx : x < 8) (hI : MI cs tp z k.1) (hk : MT z k) (hL : Rl z) (hl : k.1 - k.2.1 = ln x) : ∀ (m c i : Nat) (acc : Bool), i + c = ln x → c < m → F_X8_nameHere_51 N K m (nI x) (b2i acc) (nI i) z = if (acc && mtB cs x k.2.1 c i) = true then some (nI x, z) else K (nI (x + 1)) z := by
  obtain ⟨e1, e2, e3, e4, e5, e6⟩ := en_ok x hx
  have t1 := hT.1
  have w1 := hW.1
  have w2 := hW.2.1
  have e106 : ∀ acc : Bool, F_X8_nameHere_106 N K (nI x) (b2i acc) z = if acc = true then some (nI x, z) else K (nI (x + 1)) z := fun acc => by
    unfold F_X8_nameHere_106
    cases acc with
    | true => rw [if_neg (show ¬ b2i true = 0 by decide), if_pos rfl]
    | false => rw [if_pos (show b2i false = 0 from rfl), nm_s, show nI x + 1 = nI (x + 1) from nI_1 x, if_neg (by decide)]
  intro m
  induction m with
  | zero => intro c i acc _ h; omega
  | succ m ih =>
    intro c i acc hi hm
    show B_X8_nameHere_51 N K (F_X8_nameHere_51 N K m) (nI x) (b2i acc) (nI i) z = _
    unfold B_X8_nameHere_51
    cases acc with
    | false => rw [if_pos (show b2i false = 0 from rfl), e106 false, Bool.false_and]
    | true =>
      rw [if_neg (show ¬ b2i true = 0 by decide), hk.1, hk.2.1, nI_sub w1, hl, Bool.true_and]
      cases c with
      | zero =>
        rw [if_pos (nI_le (by omega) (by omega)), e106 true]
        rfl
      | succ c =>
        obtain ⟨-, d1, d2⟩ := wd_ok x hx i (by omega) (by omega)
        have hln : ln x = en (x + 1) - en x := rfl
        have g24 : gi z 24 x = nI (en x) := (hL.1 x (by omega)).trans e1
        have kx : (nI x).toNatClampNeg = x := nI_clamp (by omega)
        have ke : (nI (en x + i)).toNatClampNeg = en x + i := nI_clamp (by omega)
        have eb : byV cs tp (k.2.1 + i) = nI (cs (k.2.1 + i)) := if_pos (by omega)
        have hcc := hT.2 (k.2.1 + i) (by omega)
        rw [if_neg (nI_ge (by omega) (by omega)), nI_add, m_byteAt hT hI.1 hI.2.1 (by omega), bd_s, eb]
        simp only [kx, g24, nI_add, ke, gd_t (inR_nI (show x < 9 by omega) (by omega)), gd_t (inR_nI (show en x + i < 35 by omega) (by omega)), hL.2 (en x + i) (by omega), d1]
        show _ = if (decide (cs (k.2.1 + i) = wd x i) && mtB cs x k.2.1 c (i + 1)) = true then some (nI x, z) else K (nI (x + 1)) z
        by_cases h : cs (k.2.1 + i) = wd x i
        · rw [if_pos (by rw [h]), nm_s, show nI i + 1 = nI (i + 1) from nI_1 i, decide_eq_true h, show (1 : Int32) = b2i true from rfl, ih c (i + 1) true (by omega) (by omega)]
        · rw [if_neg (nI_eqL (by omega) (by omega) h), nm_s, show nI i + 1 = nI (i + 1) from nI_1 i, decide_eq_false h, show (0 : Int32) = b2i false from rfl, ih c (i + 1) false (by omega) (by omega), Bool.false_and]
theorem fstB_no {cs : Nat → Nat} {k : Tk} (h : ¬ k.2.2.1 = 1) : ∀ (c x : Nat), fstB cs k c x = x + c := by
  intro c
  induction c with
  | zero => intro x; rfl
  | succ c ih =>
    intro x
    show (if isB cs k x = true then x else fstB cs k c (x + 1)) = _
    have : isB cs k x = false := by
      unfold isB
      rw [decide_eq_false (fun z => h z.1), Bool.false_and]
    rw [this, if_neg (by decide), ih (x + 1)]
    omega
theorem m_name2 {N tp : Nat} {cs : Nat → Nat} {k : Tk} {z : SS} (hN1 : 1000 ≤ N) (hT : Tx cs tp) (hW : TW tp k) (hI : MI cs tp z k.1) (hk : MT z k) (hL : Rl z) : ∀ (m c x : Nat), x + c = 8 → c < m → F_X8_nameHere_2 N m (nI x) z = some (if fstB cs k c x = 8 then -4 else nI (fstB cs k c x), z) := by
  have w1 := hW.1
  have w2 := hW.2.1
  have w3 := hW.2.2
  have t1 := hT.1
  intro m
  induction m with
  | zero => intro c x _ h; omega
  | succ m ih =>
    intro c x hx hm
    show B_X8_nameHere_2 N (F_X8_nameHere_2 N m) (nI x) z = _
    unfold B_X8_nameHere_2
    cases c with
    | zero =>
      have c1 : (8 : Int32) ≤ nI x := nI_le (a := 8) (by omega) (by omega)
      rw [if_pos c1]
      show _ = some (if x = 8 then -4 else nI x, z)
      rw [if_pos (by omega)]
    | succ c =>
      have c1 : ¬ (8 : Int32) ≤ nI x := nI_ge (b := 8) (by omega) (by omega)
      rw [if_neg c1, hk.2.2.1]
      by_cases h1 : k.2.2.1 = 1
      · obtain ⟨e1, e2, e3, e4, e5, e6⟩ := en_ok x (by omega)
        have g24 : gi z 24 x = nI (en x) := (hL.1 x (by omega)).trans e1
        have g25 : gi z 24 (x + 1) = nI (en (x + 1)) := (hL.1 (x + 1) (by omega)).trans e2
        have kx : (nI x).toNatClampNeg = x := nI_clamp (by omega)
        have kx1 : (nI (x + 1)).toNatClampNeg = x + 1 := nI_clamp (by omega)
        have esub : nI (en (x + 1)) - nI (en x) = nI (ln x) := nI_sub e3
        rw [if_pos (show nI k.2.2.1 = 1 by rw [h1]; rfl)]
        simp only [show nI x + 1 = nI (x + 1) from nI_1 x, kx, kx1, g24, g25, esub, hk.1, hk.2.1, nI_sub w1, gd_t (inR_nI (show x < 9 by omega) (by omega)), gd_t (inR_nI (show x + 1 < 9 by omega) (by omega))]
        show _ = some (if (if isB cs k x = true then x else fstB cs k c (x + 1)) = 8 then -4 else nI (if isB cs k x = true then x else fstB cs k c (x + 1)), z)
        by_cases h2 : k.1 - k.2.1 = ln x
        · have e51 := m_nm51 (N := N) (K := F_X8_nameHere_2 N m) hT hW (show x < 8 by omega) hI hk hL h2 N (ln x) 0 true (by omega) (by omega)
          have eB : isB cs k x = (true && mtB cs x k.2.1 (ln x) 0) := by
            unfold isB
            rw [decide_eq_true ⟨h1, h2⟩]
          rw [if_pos (show nI (k.1 - k.2.1) = nI (ln x) by rw [h2]), show F_X8_nameHere_51 N (F_X8_nameHere_2 N m) N (nI x) 1 0 z = _ from e51, ← eB]
          cases isB cs k x with
          | true => rw [if_pos rfl, if_pos rfl, if_neg (by omega)]
          | false =>
            simp only [Bool.false_eq_true, if_false]
            exact ih c (x + 1) (by omega) (by omega)
        · have eB : isB cs k x = false := by
            unfold isB
            rw [decide_eq_false (fun h => h2 h.2), Bool.false_and]
          obtain ⟨N', rfl⟩ : ∃ N', N = N' + 1 := ⟨N - 1, by omega⟩
          have e510 : F_X8_nameHere_51 (N' + 1) (F_X8_nameHere_2 (N' + 1) m) (N' + 1) (nI x) 0 0 z = F_X8_nameHere_2 (N' + 1) m (nI (x + 1)) z := by
            show B_X8_nameHere_51 (N' + 1) (F_X8_nameHere_2 (N' + 1) m) (F_X8_nameHere_51 (N' + 1) (F_X8_nameHere_2 (N' + 1) m) N') (nI x) 0 0 z = _
            unfold B_X8_nameHere_51 F_X8_nameHere_106
            rw [if_pos rfl, if_pos rfl, nm_s, show nI x + 1 = nI (x + 1) from nI_1 x]
          rw [if_neg (show ¬ nI (k.1 - k.2.1) = nI (ln x) from nI_eqL (by omega) (by omega) h2), e510, eB]
          simp only [Bool.false_eq_true, if_false]
          exact ih c (x + 1) (by omega) (by omega)
      · rw [if_neg (show ¬ nI k.2.2.1 = 1 from nI_eqL (b := 1) (by omega) (by omega) h1), fstB_no h1, if_pos (by omega)]
