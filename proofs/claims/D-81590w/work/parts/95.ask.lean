/-! THE PLAIN LAW: ask -/
set_option maxRecDepth 100000
/-- how many fit below -/
def nf (fit : Nat → Bool) : Nat → Nat
  | 0 => 0
  | v + 1 => nf fit v + (if fit v = true then 1 else 0)
theorem nf_t {fit : Nat → Bool} {v : Nat} (h : fit v = true) : nf fit (v + 1) = nf fit v + 1 := by
  show nf fit v + (if fit v = true then 1 else 0) = _
  rw [if_pos h]
theorem nf_f {fit : Nat → Bool} {v : Nat} (h : ¬ fit v = true) : nf fit (v + 1) = nf fit v := by
  show nf fit v + (if fit v = true then 1 else 0) = _
  rw [if_neg h]; rfl
theorem nf_le {fit : Nat → Bool} : ∀ v, nf fit v ≤ v := by
  intro v
  induction v with
  | zero => exact Nat.le_refl _
  | succ v ih =>
    by_cases c : fit v = true
    · rw [nf_t c]; omega
    · rw [nf_f c]; omega
theorem nf_mono {fit : Nat → Bool} : ∀ k v, nf fit v ≤ nf fit (v + k) := by
  intro k
  induction k with
  | zero => intro v; exact Nat.le_refl _
  | succ k ih =>
    intro v
    refine Nat.le_trans (ih v) ?_
    rw [show v + (k + 1) = (v + k) + 1 by omega]
    by_cases c : fit (v + k) = true
    · rw [nf_t c]; omega
    · rw [nf_f c]; omega
theorem nf_lt {fit : Nat → Bool} {u v : Nat} (h : u < v) (hu : fit u = true) : nf fit u < nf fit v := by
  have h1 := nf_mono (fit := fit) (v - (u + 1)) (u + 1)
  rw [show u + 1 + (v - (u + 1)) = v by omega, nf_t hu] at h1
  omega
def H6 (fit : Nat → Bool) (S : Nat → Nat → Int32) (s : SS) (V : Nat) : Prop := ∀ v, v < V → fit v = true → ∀ n, n ≤ 40 → gi s 6 (41 * nf fit v + n) = S v n
theorem c_find22 {N w i v : Nat} {K : Int32 → Int32 → Int32 → SS → Option (Int32 × SS)} (hw : w < 4) (hi : i < 10) : ∀ (m c n : Nat) (s : SS), n + c = 41 → c < m → ∃ s', F_X0_findLosses_22 N K m (nI w) (nI i) (nI v) (nI n) s = K (nI w) (nI (i + 1)) (nI (v + 1)) s' ∧ (∀ g x, (g ≠ 6 ∨ x < 41 * i + n ∨ 41 * i + 41 ≤ x) → gi s' g x = gi s g x) ∧ s'.2 = s.2 ∧ ∀ n', n ≤ n' → n' ≤ 40 → gi s' 6 (41 * i + n') = gi s 5 (4 * n' + w) := by
  intro m
  induction m with
  | zero => intro c n s _ h; omega
  | succ m ih =>
    intro c n s hn hm
    show ∃ s', B_X0_findLosses_22 N K (F_X0_findLosses_22 N K m) (nI w) (nI i) (nI v) (nI n) s = _ ∧ _
    unfold B_X0_findLosses_22
    cases c with
    | zero =>
      have c1 : (40 : Int32) < nI n := nI_lt (a := 40) (by omega) (by omega)
      refine ⟨s, ?_, fun _ _ _ => rfl, rfl, fun n' h1 h2 => by omega⟩
      rw [if_pos c1, nm_s, nm_s, show nI i + 1 = nI (i + 1) from nI_1 i, show nI v + 1 = nI (v + 1) from nI_1 v]
    | succ c =>
      have c1 : ¬ (40 : Int32) < nI n := nI_nlt (a := 40) (by omega) (by omega)
      have i1 : (4 : Int32) * nI n + nI w = nI (4 * n + w) := (congrArg (· + nI w) (nI_mulN 4 _)).trans (nI_add _ _)
      have i2 : (41 : Int32) * nI i + nI n = nI (41 * i + n) := (congrArg (· + nI n) (nI_mulN 41 _)).trans (nI_add _ _)
      obtain ⟨s', g1, g2, g3, g4⟩ := ih c (n + 1) (si s 6 (41 * i + n) (gi s 5 (4 * n + w))) (by omega) (by omega)
      refine ⟨s', ?_, fun g x h => (g2 g x (by omega)).trans (gi_sn (by omega)), g3, fun n' h1 h2 => ?_⟩
      · rw [if_neg c1, i1, i2, gd_t (inR_nI (by omega) (by omega)), gd_t (inR_nI (by omega) (by omega)), nI_clamp (by omega), nI_clamp (by omega), nm_s, nm_s, show nI n + 1 = nI (n + 1) from nI_1 n]
        exact g1
      · by_cases e : n' = n
        · subst e
          rw [g2 _ _ (by omega), gi_se]
        · rw [g4 n' (by omega) h2, gi_sn (by omega)]
theorem c_find4 {B N nw na M t w : Nat} {Z : Sn} {P : Pg} (hN1 : 1000 ≤ N) (hw : w < nw) : ∀ (m c v : Nat) (s : SS), Rel B s → Now B s P nw na M t → Seen Z s → v + c = 10 → c < m → H6 (fun v => fitB nw na t Z (pu P (8 + w) (nI v))) (fun v n => pg nw na t (pu P (8 + w) (nI v)) n (12 + w)) s v → ∃ s', F_X0_findLosses_4 N m (nI w) (nI (nf (fun v => fitB nw na t Z (pu P (8 + w) (nI v))) v)) (nI v) s = some (nI (nf (fun v => fitB nw na t Z (pu P (8 + w) (nI v))) 10), s') ∧ Same s s' ∧ H6 (fun v => fitB nw na t Z (pu P (8 + w) (nI v))) (fun v n => pg nw na t (pu P (8 + w) (nI v)) n (12 + w)) s' 10 := by
  intro m
  induction m with
  | zero => intro c v s _ _ _ _ h; omega
  | succ m ih =>
    intro c v s hI hN hZ hv hm h6
    have h4 := hN.2.1.1.1
    show ∃ s', B_X0_findLosses_4 N (F_X0_findLosses_4 N m) (nI w) _ (nI v) s = _ ∧ _
    unfold B_X0_findLosses_4
    cases c with
    | zero =>
      have e : v = 10 := by omega
      subst e
      exact ⟨s, if_pos (by decide), Same.refl s, h6⟩
    | succ c =>
      have c1 : ¬ (9 : Int32) < nI v := nI_nlt (a := 9) (by omega) (by omega)
      obtain ⟨s1, e1, e2, e3, e4⟩ := c_isLossSo (v := v) hN1 hI hN hZ hw (by omega)
      rw [if_neg c1, e1, bd_s]
      by_cases hb : fitB nw na t Z (pu P (8 + w) (nI v)) = true
      · have hle := nf_le (fit := fun v => fitB nw na t Z (pu P (8 + w) (nI v))) v
        obtain ⟨s2, f1, f2, f3, f4⟩ := c_find22 (N := N) (w := w) (i := nf (fun v => fitB nw na t Z (pu P (8 + w) (nI v))) v) (v := v) (K := F_X0_findLosses_4 N m) (by omega) (by omega) N 41 0 s1 rfl (by omega)
        have hS2 : Same s1 s2 := ⟨fun g i hg => f2 g i (by unfold hid at hg; omega), by rw [f3]⟩
        have h6' : H6 (fun v => fitB nw na t Z (pu P (8 + w) (nI v))) (fun v n => pg nw na t (pu P (8 + w) (nI v)) n (12 + w)) s2 (v + 1) := fun u hu hfu n hn => by
          by_cases c2 : u = v
          · subst c2
            rw [f4 n (by omega) hn]
            exact e3 n w (Or.inl ⟨by omega, hw⟩)
          · have hl := nf_lt (fit := fun v => fitB nw na t Z (pu P (8 + w) (nI v))) (show u < v by omega) hfu
            rw [f2 _ _ (by omega), e4]
            exact h6 u (by omega) hfu n hn
        obtain ⟨s3, g1, g2, g3⟩ := ih c (v + 1) s2 (hI.same (e2.trans hS2)) (hN.sm (e2.trans hS2)) (hZ.sm (e2.trans hS2)) (by omega) (by omega) h6'
        refine ⟨s3, ?_, (e2.trans hS2).trans g2, g3⟩
        rw [hb, if_neg (show ¬ b2i true = 0 by decide)]
        rw [nf_t (fit := fun v => fitB nw na t Z (pu P (8 + w) (nI v))) hb] at g1
        exact f1.trans g1
      · have h6' : H6 (fun v => fitB nw na t Z (pu P (8 + w) (nI v))) (fun v n => pg nw na t (pu P (8 + w) (nI v)) n (12 + w)) s1 (v + 1) := fun u hu hfu n hn => by
          have c2 : u ≠ v := fun z => hb (by rw [← z]; exact hfu)
          rw [e4]
          exact h6 u (by omega) hfu n hn
        obtain ⟨s3, g1, g2, g3⟩ := ih c (v + 1) s1 (hI.same e2) (hN.sm e2) (hZ.sm e2) (by omega) (by omega) h6'
        refine ⟨s3, ?_, e2.trans g2, g3⟩
        rw [if_pos ((b2i_0 _).mpr (Bool.eq_false_iff.mpr hb)), nm_s, show nI v + 1 = nI (v + 1) from nI_1 v]
        rw [nf_f (fit := fun v => fitB nw na t Z (pu P (8 + w) (nI v))) hb] at g1
        exact g1
-- how many swing alike
def cntF (fit same : Nat → Bool) : Nat → Nat → Nat → Nat
  | 0, _, x => x
  | c + 1, v, x => cntF fit same c (v + 1) (if fit v = true ∧ same v = true then x + 1 else x)
theorem cntF_le {fit same : Nat → Bool} : ∀ (c v x : Nat), cntF fit same c v x ≤ x + c := by
  intro c
  induction c with
  | zero => intro v x; exact Nat.le_refl _
  | succ c ih =>
    intro v x
    refine Nat.le_trans (ih (v + 1) _) ?_
    split <;> omega
def worstF (fit : Nat → Bool) (same : Nat → Nat → Bool) : Nat → Nat → Nat → Nat
  | 0, _, W => W
  | c + 1, a, W => worstF fit same c (a + 1) (if fit a = true then max W (cntF fit (same a) 10 0 0) else W)
theorem worstF_le {fit : Nat → Bool} {same : Nat → Nat → Bool} : ∀ (c a W : Nat), W ≤ 10 → worstF fit same c a W ≤ 10 := by
  intro c
  induction c with
  | zero => intro a W h; exact h
  | succ c ih =>
    intro a W h
    refine ih (a + 1) _ ?_
    have := cntF_le (fit := fit) (same := same a) 10 0 0
    split <;> omega
abbrev smF (S : Nat → Nat → Int32) (n a b : Nat) : Bool := decide (S a n = S b n)
theorem c_w17 {N n a W : Nat} {fit : Nat → Bool} {S : Nat → Nat → Int32} {s : SS} {K : Int32 → Int32 → Int32 → Int32 → SS → Option (Int32 × SS)} (hn : n ≤ 40) (h6 : H6 fit S s 10) (ha : a < 10) (hfa : fit a = true) (hW : W ≤ 10) : ∀ (c m v x : Nat), v + c = 10 → c < m → x ≤ v → F_X0_worstAt_17 N K m (nI n) (nI (nf fit 10)) (nI W) (nI (nf fit a)) (nI x) (nI (nf fit v)) s = K (nI n) (nI (nf fit 10)) (nI (max W (cntF fit (smF S n a) c v x))) (nI (nf fit a + 1)) s := by
  have l10 := nf_le (fit := fit) 10
  have la := nf_le (fit := fit) a
  intro c
  induction c with
  | zero =>
    intro m v x hv hm hx
    obtain ⟨m', rfl⟩ : ∃ m', m = m' + 1 := ⟨m - 1, by omega⟩
    show B_X0_worstAt_17 N K (F_X0_worstAt_17 N K m') (nI n) (nI (nf fit 10)) (nI W) (nI (nf fit a)) (nI x) (nI (nf fit v)) s = _
    unfold B_X0_worstAt_17
    have e : v = 10 := by omega
    subst e
    rw [if_pos (nI_le (Nat.le_refl _) (by omega)), nm_s, nm_s, nI_max (by omega) (by omega), show nI (nf fit a) + 1 = nI (nf fit a + 1) from nI_1 _]
    rfl
  | succ c ih =>
    intro m v x hv hm hx
    by_cases c1 : fit v = true
    · obtain ⟨m', rfl⟩ : ∃ m', m = m' + 1 := ⟨m - 1, by omega⟩
      show B_X0_worstAt_17 N K (F_X0_worstAt_17 N K m') (nI n) (nI (nf fit 10)) (nI W) (nI (nf fit a)) (nI x) (nI (nf fit v)) s = _
      unfold B_X0_worstAt_17
      have hlt := nf_lt (fit := fit) (show v < 10 by omega) c1
      have i1 : (41 : Int32) * nI (nf fit a) + nI n = nI (41 * nf fit a + n) := (congrArg (· + nI n) (nI_mulN 41 _)).trans (nI_add _ _)
      have i2 : (41 : Int32) * nI (nf fit v) + nI n = nI (41 * nf fit v + n) := (congrArg (· + nI n) (nI_mulN 41 _)).trans (nI_add _ _)
      have hlta := nf_lt (fit := fit) ha hfa
      rw [if_neg (nI_ge hlt (by omega)), i1, i2, gd_t (inR_nI (by omega) (by omega)), gd_t (inR_nI (by omega) (by omega)), nI_clamp (by omega), nI_clamp (by omega), h6 a ha hfa n hn, h6 v (by omega) c1 n hn]
      show _ = K (nI n) (nI (nf fit 10)) (nI (max W (cntF fit (smF S n a) c (v + 1) (if fit v = true ∧ smF S n a v = true then x + 1 else x)))) (nI (nf fit a + 1)) s
      have e1 : nI (nf fit v) + 1 = nI (nf fit (v + 1)) := by rw [nf_t c1]; exact nI_1 _
      by_cases c2 : S a n = S v n
      · rw [if_pos c2, nm_s, nm_s, e1, show nI x + 1 = nI (x + 1) from nI_1 x, if_pos ⟨c1, decide_eq_true c2⟩]
        exact ih m' (v + 1) (x + 1) (by omega) (by omega) (by omega)
      · rw [if_neg c2, nm_s, nm_s, e1, Int32.add_zero, if_neg (fun h => c2 (of_decide_eq_true h.2))]
        exact ih m' (v + 1) x (by omega) (by omega) (by omega)
    · show _ = K (nI n) (nI (nf fit 10)) (nI (max W (cntF fit (smF S n a) c (v + 1) (if fit v = true ∧ smF S n a v = true then x + 1 else x)))) (nI (nf fit a + 1)) s
      rw [if_neg (fun h => c1 h.1)]
      have e := ih m (v + 1) x (by omega) (by omega) (by omega)
      rw [nf_f c1] at e
      exact e
theorem c_w5 {N n : Nat} {fit : Nat → Bool} {S : Nat → Nat → Int32} {s : SS} (hN1 : 1000 ≤ N) (hn : n ≤ 40) (h6 : H6 fit S s 10) : ∀ (c m a W : Nat), a + c = 10 → c < m → W ≤ 10 → F_X0_worstAt_5 N m (nI n) (nI (nf fit 10)) (nI W) (nI (nf fit a)) s = some (nI (worstF fit (smF S n) c a W), s) := by
  have l10 := nf_le (fit := fit) 10
  intro c
  induction c with
  | zero =>
    intro m a W ha hm hW
    obtain ⟨m', rfl⟩ : ∃ m', m = m' + 1 := ⟨m - 1, by omega⟩
    have e : a = 10 := by omega
    subst e
    exact if_pos (nI_le (Nat.le_refl _) (by omega))
  | succ c ih =>
    intro m a W ha hm hW
    by_cases c1 : fit a = true
    · obtain ⟨m', rfl⟩ : ∃ m', m = m' + 1 := ⟨m - 1, by omega⟩
      show B_X0_worstAt_5 N (F_X0_worstAt_5 N m') (nI n) (nI (nf fit 10)) (nI W) (nI (nf fit a)) s = some (nI (worstF fit (smF S n) c (a + 1) (if fit a = true then max W (cntF fit (smF S n a) 10 0 0) else W)), s)
      unfold B_X0_worstAt_5
      have hlt := nf_lt (fit := fit) (show a < 10 by omega) c1
      have hc := cntF_le (fit := fit) (same := smF S n a) 10 0 0
      rw [if_neg (nI_ge hlt (by omega)), if_pos c1]
      refine Eq.trans (c_w17 (N := N) (W := W) (K := F_X0_worstAt_5 N m') hn h6 (by omega) c1 hW 10 N 0 0 rfl (by omega) (Nat.le_refl _)) ?_
      rw [← nf_t c1]
      exact ih m' (a + 1) _ (by omega) (by omega) (by omega)
    · show _ = some (nI (worstF fit (smF S n) c (a + 1) (if fit a = true then max W (cntF fit (smF S n a) 10 0 0) else W)), s)
      rw [if_neg c1]
      have e := ih m (a + 1) W (by omega) (by omega) hW
      rw [nf_f c1] at e
      exact e
-- bits
theorem b_1 : ∀ i, i < 32 → bt 1 i = decide (i = 0) := by decide +kernel
theorem bit1 {x : Int32} {a : Nat} (ha : a < 32) : (x >>> (nI a &&& 31)) &&& 1 = b2i (bt x a) := by
  refine b_ext fun i hi => ?_
  have eb : bt (b2i (bt x a)) i = (bt x a && decide (i = 0)) := by
    cases bt x a with
    | true => exact (b_1 i hi).trans (Bool.true_and _).symm
    | false => exact (b_0 i).trans (Bool.false_and _).symm
  rw [b_and, b_1 i hi, eb]
  by_cases c : i = 0
  · subst c
    rw [b_sshr a ha x hi, Nat.add_zero, if_pos ha]
  · rw [decide_eq_false c, Bool.and_false, Bool.and_false]
theorem mask_b {fit : Nat → Bool} {a : Nat} (ha : a < 32) : ∀ (c v : Nat) (x : Int32), v + c ≤ 32 → bt (maskF fit c v x) a = (bt x a || ((decide (v ≤ a) && decide (a < v + c)) && fit a)) := by
  intro c
  induction c with
  | zero =>
    intro v x _
    show bt x a = _
    by_cases h : v ≤ a
    · rw [decide_eq_false (show ¬ a < v + 0 by omega), Bool.and_false, Bool.false_and, Bool.or_false]
    · rw [decide_eq_false h, Bool.false_and, Bool.false_and, Bool.or_false]
  | succ c ih =>
    intro v x hv
    show bt (maskF fit c (v + 1) (if fit v = true then x ||| ((1 : Int32) <<< (nI v &&& 31)) else x ||| 0)) a = _
    rw [ih (v + 1) _ (by omega)]
    have e1 : bt (x ||| 0) a = bt x a := by rw [b_or, b_0, Bool.or_false]
    have e2 : bt (x ||| ((1 : Int32) <<< (nI v &&& 31))) a = (bt x a || decide (v = a)) := by
      rw [b_or, b_shl v (by omega) 1 ha]
      by_cases h : v ≤ a
      · rw [b_1 (a - v) (by omega), decide_eq_true h, Bool.true_and]
        by_cases h2 : v = a
        · rw [decide_eq_true h2, decide_eq_true (show a - v = 0 by omega)]
        · rw [decide_eq_false h2, decide_eq_false (show ¬ a - v = 0 by omega)]
      · rw [decide_eq_false h, Bool.false_and, decide_eq_false (show ¬ v = a by omega)]
    by_cases h : v = a
    · subst h
      rw [decide_eq_false (show ¬ v + 1 ≤ v by omega), Bool.false_and, Bool.false_and, Bool.or_false, decide_eq_true (Nat.le_refl v), decide_eq_true (show v < v + (c + 1) by omega), Bool.true_and, Bool.true_and]
      by_cases hf : fit v = true
      · rw [if_pos hf, e2, decide_eq_true rfl, hf]
      · rw [if_neg hf, e1, Bool.eq_false_iff.mpr hf, Bool.or_false]
    · have e3 : bt (if fit v = true then x ||| ((1 : Int32) <<< (nI v &&& 31)) else x ||| 0) a = bt x a := by
        by_cases hf : fit v = true
        · rw [if_pos hf, e2, decide_eq_false h, Bool.or_false]
        · rw [if_neg hf, e1]
      rw [e3]
      by_cases h2 : v ≤ a
      · rw [decide_eq_true h2, decide_eq_true (show v + 1 ≤ a by omega), show v + 1 + c = v + (c + 1) by omega]
      · rw [decide_eq_false h2, decide_eq_false (show ¬ v + 1 ≤ a by omega), Bool.false_and, Bool.false_and, Bool.false_and, Bool.false_and]
theorem mask_bit {fit : Nat → Bool} {a : Nat} (ha : a < 10) : (maskF fit 10 0 0 >>> (nI a &&& 31)) &&& 1 = b2i (fit a) := by
  rw [bit1 (by omega), mask_b (by omega) 10 0 0 (by omega), b_0, Bool.false_or, decide_eq_true (Nat.zero_le a), decide_eq_true (show a < 0 + 10 by omega), Bool.true_and, Bool.true_and]
-- the model
theorem m_w88 {N W x a n : Nat} {X : Int32} {s : SS} {K : Int32 → Int32 → Int32 → Int32 → SS → Option (Int32 × SS)} (hW : W ≤ 10) (hx : x ≤ 10) : F_X8_worstAt_88 N K X (nI n) (nI W) (nI a) (nI x) s = K X (nI n) (nI (max W x)) (nI (a + 1)) s := by
  unfold F_X8_worstAt_88
  by_cases c : x ≤ W
  · rw [if_pos (nI_le c (by omega)), nm_s, show nI a + 1 = nI (a + 1) from nI_1 a, Nat.max_eq_left c]
  · rw [if_neg (nI_ge (by omega) (by omega)), nm_s, show nI a + 1 = nI (a + 1) from nI_1 a, Nat.max_eq_right (by omega)]
theorem m_w18 {N n a W : Nat} {fit : Nat → Bool} {S : Nat → Nat → Int32} {X : Int32} {s : SS} {K : Int32 → Int32 → Int32 → Int32 → SS → Option (Int32 × SS)} (hn : n ≤ 40) (hX : ∀ a, a < 10 → (X >>> (nI a &&& 31)) &&& 1 = b2i (fit a)) (h27 : ∀ a, a < 10 → gi s 27 (41 * a + n) = S a n) (ha : a < 10) (hW : W ≤ 10) : ∀ (c m v x : Nat), v + c = 10 → c < m → x ≤ v → F_X8_worstAt_18 N K m X (nI n) (nI W) (nI a) (nI x) (nI v) s = K X (nI n) (nI (max W (if fit a = true then cntF fit (smF S n a) c v x else x))) (nI (a + 1)) s := by
  intro c
  induction c with
  | zero =>
    intro m v x hv hm hx
    obtain ⟨m', rfl⟩ : ∃ m', m = m' + 1 := ⟨m - 1, by omega⟩
    show B_X8_worstAt_18 N K (F_X8_worstAt_18 N K m') X (nI n) (nI W) (nI a) (nI x) (nI v) s = _
    unfold B_X8_worstAt_18
    have c1 : (9 : Int32) < nI v := nI_lt (a := 9) (by omega) (by omega)
    rw [if_pos c1, m_w88 hW (by omega)]
    by_cases c2 : fit a = true
    · rw [if_pos c2]; rfl
    · rw [if_neg c2]
  | succ c ih =>
    intro m v x hv hm hx
    obtain ⟨m', rfl⟩ : ∃ m', m = m' + 1 := ⟨m - 1, by omega⟩
    show B_X8_worstAt_18 N K (F_X8_worstAt_18 N K m') X (nI n) (nI W) (nI a) (nI x) (nI v) s = _
    unfold B_X8_worstAt_18
    have c1 : ¬ (9 : Int32) < nI v := nI_nlt (a := 9) (by omega) (by omega)
    rw [if_neg c1, hX a ha, hX v (by omega)]
    by_cases c2 : fit a = true
    · rw [c2, if_pos (show b2i true = 1 from rfl), if_pos (show true = true from rfl)]
      show _ = K X (nI n) (nI (max W (cntF fit (smF S n a) c (v + 1) (if fit v = true ∧ smF S n a v = true then x + 1 else x)))) (nI (a + 1)) s
      have hgo : ∀ x', x' ≤ v + 1 → F_X8_worstAt_18 N K m' X (nI n) (nI W) (nI a) (nI x') (nI (v + 1)) s = K X (nI n) (nI (max W (cntF fit (smF S n a) c (v + 1) x'))) (nI (a + 1)) s := fun x' hx' => by
        have e := ih m' (v + 1) x' (by omega) (by omega) hx'
        rw [if_pos c2] at e
        exact e
      have e78 : F_X8_worstAt_78 N K (F_X8_worstAt_18 N K m') X (nI n) (nI W) (nI a) (nI v) (nI x) s = K X (nI n) (nI (max W (cntF fit (smF S n a) c (v + 1) x))) (nI (a + 1)) s := by
        unfold F_X8_worstAt_78
        rw [nm_s, nm_s, Int32.add_zero, show nI v + 1 = nI (v + 1) from nI_1 v, hgo x (by omega)]
      by_cases c3 : fit v = true
      · have i1 : (41 : Int32) * nI a + nI n = nI (41 * a + n) := (congrArg (· + nI n) (nI_mulN 41 _)).trans (nI_add _ _)
        have i2 : (41 : Int32) * nI v + nI n = nI (41 * v + n) := (congrArg (· + nI n) (nI_mulN 41 _)).trans (nI_add _ _)
        rw [c3, if_pos (show b2i true = 1 from rfl), i1, i2, gd_t (inR_nI (by omega) (by omega)), gd_t (inR_nI (by omega) (by omega)), nI_clamp (by omega), nI_clamp (by omega), h27 a ha, h27 v (by omega)]
        by_cases c4 : S a n = S v n
        · rw [if_pos c4, nm_s, nm_s, show nI v + 1 = nI (v + 1) from nI_1 v, show nI x + 1 = nI (x + 1) from nI_1 x, if_pos ⟨rfl, decide_eq_true c4⟩]
          exact hgo (x + 1) (by omega)
        · rw [if_neg c4, if_neg (fun h => c4 (of_decide_eq_true h.2))]
          exact e78
      · rw [if_neg (fun h : b2i (fit v) = 1 => c3 (by
          cases hf : fit v with
          | true => rfl
          | false => rw [hf] at h; exact absurd h (by decide))), if_neg (fun h => c3 h.1)]
        exact e78
    · rw [Bool.eq_false_iff.mpr c2, if_neg (show ¬ b2i false = 1 by decide), m_w88 hW (by omega), if_neg (by decide)]
theorem m_w5 {N n : Nat} {fit : Nat → Bool} {S : Nat → Nat → Int32} {X : Int32} {s : SS} (hN1 : 1000 ≤ N) (hn : n ≤ 40) (hX : ∀ a, a < 10 → (X >>> (nI a &&& 31)) &&& 1 = b2i (fit a)) (h27 : ∀ a, a < 10 → gi s 27 (41 * a + n) = S a n) : ∀ (c m a W : Nat), a + c = 10 → c < m → W ≤ 10 → F_X8_worstAt_5 N m X (nI n) (nI W) (nI a) s = some (nI (worstF fit (smF S n) c a W), s) := by
  intro c
  induction c with
  | zero =>
    intro m a W ha hm hW
    obtain ⟨m', rfl⟩ : ∃ m', m = m' + 1 := ⟨m - 1, by omega⟩
    have c1 : (9 : Int32) < nI a := nI_lt (a := 9) (by omega) (by omega)
    exact if_pos c1
  | succ c ih =>
    intro m a W ha hm hW
    obtain ⟨m', rfl⟩ : ∃ m', m = m' + 1 := ⟨m - 1, by omega⟩
    show B_X8_worstAt_5 N (F_X8_worstAt_5 N m') X (nI n) (nI W) (nI a) s = some (nI (worstF fit (smF S n) c (a + 1) (if fit a = true then max W (cntF fit (smF S n a) 10 0 0) else W)), s)
    unfold B_X8_worstAt_5
    have c1 : ¬ (9 : Int32) < nI a := nI_nlt (a := 9) (by omega) (by omega)
    have hc := cntF_le (fit := fit) (same := smF S n a) 10 0 0
    rw [if_neg c1]
    refine Eq.trans (m_w18 (N := N) (W := W) (K := F_X8_worstAt_5 N m') hn hX h27 (by omega) hW 10 N 0 0 rfl (by omega) (Nat.le_refl _)) ?_
    by_cases c2 : fit a = true
    · rw [if_pos c2, if_pos c2]
      exact ih m' (a + 1) _ (by omega) (by omega) (by omega)
    · rw [if_neg c2, if_neg c2, Nat.max_zero]
      exact ih m' (a + 1) _ (by omega) (by omega) hW
-- the best tick to ask at
def askF (W : Nat → Nat) : Nat → Nat → Int32 × Nat → Int32 × Nat
  | 0, _, u => u
  | c + 1, n, u => askF W c (n + 1) (if u.2 ≤ W n then u else (nI n, W n))
def askR (what : Int32) (u : Int32 × Nat) : Int32 := if u.1 = -4 then -4 else if what = 0 then u.1 else nI u.2
theorem neg_le {a b : Nat} (ha : a < 100) (hb : b < 100) : -nI a ≤ -nI b ↔ b ≤ a := by
  have e : ∀ x, x < 100 → (-nI x).toInt = -(x : Int) := fun x hx => by
    rw [Int32.toInt_neg, nI_toInt (by omega)]
    exact Int.bmod_eq_of_le (by omega) (by omega)
  rw [Int32.le_iff_toInt_le, e a ha, e b hb]
  omega
theorem c_judgesF {N : Nat} {c d : Int32} {s : SS} {u : Int32 × Int32} (h1 : gi s 0 14 = u.1) (h2 : gi s 0 15 = u.2) : ∃ s', F_X0_judges N c d s = some ((), s') ∧ Same s s' ∧ gi s' 0 14 = (jd u c d).1 ∧ gi s' 0 15 = (jd u c d).2 ∧ ∀ g i, g ≠ 0 → gi s' g i = gi s g i := by
  unfold F_X0_judges F_X0_judges_17
  rw [h1, h2]
  simp only [nm]
  have hh : ∀ z, gi (si s 0 14 z) 0 15 = u.2 := fun z => (gi_sn (by omega)).trans h2
  unfold jd
  by_cases c1 : d ≤ u.2
  · have c2 : ¬ u.2 < d := Int32.not_lt.mpr c1
    rw [if_pos c1, if_pos c1]
    refine ⟨_, rfl, (Same.si (by unfold hid; omega)).trans (Same.si (by unfold hid; omega)), ?_, ?_, fun g i hg => (gi_sn (Or.inl hg)).trans (gi_sn (Or.inl hg))⟩
    · rw [gi_sn (by omega), gi_se]
    · rw [gi_se, hh, if_neg c2]
  · have c2 : u.2 < d := Int32.not_le.mp c1
    rw [if_neg c1, if_neg c1]
    refine ⟨_, rfl, (Same.si (by unfold hid; omega)).trans (Same.si (by unfold hid; omega)), ?_, ?_, fun g i hg => (gi_sn (Or.inl hg)).trans (gi_sn (Or.inl hg))⟩
    · rw [gi_sn (by omega), gi_se]
    · rw [gi_se, hh, if_pos c2]
theorem c_ask32 {N : Nat} {fit : Nat → Bool} {S : Nat → Nat → Int32} {what : Int32} (hN1 : 1000 ≤ N) : ∀ (m c n : Nat) (u : Int32 × Nat) (s : SS), n + c = 41 → c < m → u.2 ≤ 10 → H6 fit S s 10 → gi s 0 14 = u.1 → gi s 0 15 = -nI u.2 → ∃ s', F_X0_ask_32 N m what (nI (nf fit 10)) (nI n) s = some (askR what (askF (fun n => worstF fit (smF S n) 10 0 0) c n u), s') ∧ Same s s' := by
  intro m
  induction m with
  | zero => intro c n u s _ h; omega
  | succ m ih =>
    intro c n u s hn hm hu h6 h14 h15
    show ∃ s', B_X0_ask_32 N (F_X0_ask_32 N m) what (nI (nf fit 10)) (nI n) s = _ ∧ _
    unfold B_X0_ask_32
    cases c with
    | zero =>
      have c1 : (40 : Int32) < nI n := nI_lt (a := 40) (by omega) (by omega)
      refine ⟨s, ?_, Same.refl s⟩
      rw [if_pos c1, h14, h15]
      show _ = some (askR what u, s)
      unfold askR
      by_cases c2 : u.1 = -4
      · rw [if_pos c2, if_pos c2]
      · rw [if_neg c2, if_neg c2]
        by_cases c3 : what = 0
        · rw [if_pos c3, if_pos c3]
        · rw [if_neg c3, if_neg c3, Int32.neg_neg]
    | succ c =>
      have c1 : ¬ (40 : Int32) < nI n := nI_nlt (a := 40) (by omega) (by omega)
      have ew : F_X0_worstAt N (nI n) (nI (nf fit 10)) s = some (nI (worstF fit (smF S n) 10 0 0), s) := c_w5 (N := N) hN1 (by omega) h6 10 N 0 0 rfl (by omega) (by omega)
      have hw := worstF_le (fit := fit) (same := smF S n) 10 0 0 (by omega)
      obtain ⟨s1, e1, e2, e3, e4, e5⟩ := c_judgesF (N := N) (c := nI n) (d := -nI (worstF fit (smF S n) 10 0 0)) (u := (u.1, -nI u.2)) h14 h15
      have ej : jd (u.1, -nI u.2) (nI n) (-nI (worstF fit (smF S n) 10 0 0)) = ((if u.2 ≤ worstF fit (smF S n) 10 0 0 then u else (nI n, worstF fit (smF S n) 10 0 0)).1, -nI (if u.2 ≤ worstF fit (smF S n) 10 0 0 then u else (nI n, worstF fit (smF S n) 10 0 0)).2) := by
        unfold jd
        by_cases c2 : u.2 ≤ worstF fit (smF S n) 10 0 0
        · have c3 : -nI (worstF fit (smF S n) 10 0 0) ≤ (u.1, -nI u.2).2 := (neg_le (by omega) (by omega)).mpr c2
          rw [if_pos c3, if_pos c2]
        · have c3 : ¬ -nI (worstF fit (smF S n) 10 0 0) ≤ (u.1, -nI u.2).2 := fun h => c2 ((neg_le (by omega) (by omega)).mp h)
          rw [if_neg c3, if_neg c2]
      rw [ej] at e3 e4
      obtain ⟨s2, f1, f2⟩ := ih c (n + 1) (if u.2 ≤ worstF fit (smF S n) 10 0 0 then u else (nI n, worstF fit (smF S n) 10 0 0)) s1 (by omega) (by omega) (by split <;> first | exact hu | exact hw) (fun v hv hf k hk => (e5 _ _ (by omega)).trans (h6 v hv hf k hk)) e3 e4
      refine ⟨s2, ?_, e2.trans f2⟩
      rw [if_neg c1, ew, bd_s, e1, bd_s, nm_s, show nI n + 1 = nI (n + 1) from nI_1 n]
      exact f1
theorem m_ask69 {N : Nat} {fit : Nat → Bool} {S : Nat → Nat → Int32} {what X : Int32} {s : SS} (hN1 : 1000 ≤ N) (hX : ∀ a, a < 10 → (X >>> (nI a &&& 31)) &&& 1 = b2i (fit a)) (h27 : ∀ n, n ≤ 40 → ∀ a, a < 10 → gi s 27 (41 * a + n) = S a n) : ∀ (m c n : Nat) (u : Int32 × Nat), n + c = 41 → c < m → u.2 ≤ 10 → F_X8_ask_69 N m what X (nI u.2) u.1 (nI n) s = some (askR what (askF (fun n => worstF fit (smF S n) 10 0 0) c n u), s) := by
  intro m
  induction m with
  | zero => intro c n u _ h; omega
  | succ m ih =>
    intro c n u hn hm hu
    show B_X8_ask_69 N (F_X8_ask_69 N m) what X (nI u.2) u.1 (nI n) s = _
    unfold B_X8_ask_69
    cases c with
    | zero =>
      have c1 : (40 : Int32) < nI n := nI_lt (a := 40) (by omega) (by omega)
      rw [if_pos c1]
      show _ = some (askR what u, s)
      unfold askR
      by_cases c2 : u.1 = -4
      · rw [if_pos c2, if_pos c2, c2]
      · rw [if_neg c2, if_neg c2]
        by_cases c3 : what = 0
        · rw [if_pos c3, if_pos c3]
        · rw [if_neg c3, if_neg c3]
    | succ c =>
      have c1 : ¬ (40 : Int32) < nI n := nI_nlt (a := 40) (by omega) (by omega)
      have ew : F_X8_worstAt N X (nI n) s = some (nI (worstF fit (smF S n) 10 0 0), s) := m_w5 (N := N) hN1 (by omega) hX (h27 n (by omega)) 10 N 0 0 rfl (by omega) (by omega)
      have hw := worstF_le (fit := fit) (same := smF S n) 10 0 0 (by omega)
      rw [if_neg c1, ew, bd_s]
      show _ = some (askR what (askF (fun n => worstF fit (smF S n) 10 0 0) c (n + 1) (if u.2 ≤ worstF fit (smF S n) 10 0 0 then u else (nI n, worstF fit (smF S n) 10 0 0))), s)
      unfold F_X8_ask_99
      by_cases c2 : u.2 ≤ worstF fit (smF S n) 10 0 0
      · have c3 : nI u.2 ≤ nI (worstF fit (smF S n) 10 0 0) := nI_le c2 (by omega)
        rw [if_pos c3, if_pos c3, if_pos c2, nm_s, show nI n + 1 = nI (n + 1) from nI_1 n]
        exact ih c (n + 1) u (by omega) (by omega) hu
      · have c3 : ¬ nI u.2 ≤ nI (worstF fit (smF S n) 10 0 0) := nI_ge (by omega) (by omega)
        rw [if_neg c3, if_neg c3, if_neg c2, nm_s, show nI n + 1 = nI (n + 1) from nI_1 n]
        exact ih c (n + 1) (nI n, worstF fit (smF S n) 10 0 0) (by omega) (by omega) hw
theorem m_ask38 {N : Nat} {fit : Nat → Bool} {what X : Int32} {s : SS} (hX : ∀ a, a < 10 → (X >>> (nI a &&& 31)) &&& 1 = b2i (fit a)) : ∀ (m c v : Nat), v + c = 10 → c < m → F_X8_ask_38 N m what X (nI (nf fit v)) (nI v) s = F_X8_ask_69 N N what X (nI (nf fit 10)) (-4) 0 s := by
  intro m
  induction m with
  | zero => intro c v _ h; omega
  | succ m ih =>
    intro c v hv hm
    show B_X8_ask_38 N (F_X8_ask_38 N m) what X (nI (nf fit v)) (nI v) s = _
    unfold B_X8_ask_38
    cases c with
    | zero =>
      have e : v = 10 := by omega
      subst e
      exact if_pos (by decide)
    | succ c =>
      have c1 : ¬ (9 : Int32) < nI v := nI_nlt (a := 9) (by omega) (by omega)
      have e1 : nI (nf fit v) + b2i (fit v) = nI (nf fit (v + 1)) := by
        cases hf : fit v with
        | true => rw [nf_t hf]; exact nI_1 _
        | false => rw [nf_f (by rw [hf]; decide)]; exact Int32.add_zero _
      rw [if_neg c1, hX v (by omega), nm_s, nm_s, e1, show nI v + 1 = nI (v + 1) from nI_1 v]
      exact ih c (v + 1) (by omega) (by omega)
theorem p_ask {N : Nat} (hN9 : 2 ^ 70 ≤ N) : Sp32 Inv N := by
  have hN1 : 1000 ≤ N := Nat.le_trans (by decide) hN9
  intro t σ x1 x2 ht hI
  obtain ⟨P, nw, na, M, t9, hN⟩ := hI.now
  have h4 := hN.2.1.1.1
  obtain ⟨Z, hZ⟩ := hI.2.2.2.2.1.seen
  refine q_same (A := F_X0_ask N x1 x2) (C := F_X8_ask N x1 x2) hI ?_
  unfold F_X0_ask F_X8_ask
  by_cases h1 : InR x1 0 nw
  · by_cases h2 : InR x2 0 2
    · obtain ⟨w, -, hw, rfl⟩ := id h1
      obtain ⟨s1, e1, e2, e3⟩ := c_find4 (N := N) (w := w) hN1 hw N 10 0 σ hI hN hZ rfl (by omega) (fun v hv => by omega)
      have hfm : ∀ a, a < 10 → (maskF (fun v => fitB nw na t9 Z (pu P (8 + w) (nI v))) 10 0 0 >>> (nI a &&& 31)) &&& 1 = b2i ((fun v => fitB nw na t9 Z (pu P (8 + w) (nI v))) a) := fun a ha => mask_bit (fit := fun v => fitB nw na t9 Z (pu P (8 + w) (nI v))) ha
      have hle := nf_le (fit := fun v => fitB nw na t9 Z (pu P (8 + w) (nI v))) 10
      have ej : F_X0_startsJudging N (-nI (nf (fun v => fitB nw na t9 Z (pu P (8 + w) (nI v))) 10)) s1 = some ((), si (si s1 0 14 (-4)) 0 15 (-nI (nf (fun v => fitB nw na t9 Z (pu P (8 + w) (nI v))) 10))) := rfl
      have hS2 : Same s1 (si (si s1 0 14 (-4)) 0 15 (-nI (nf (fun v => fitB nw na t9 Z (pu P (8 + w) (nI v))) 10))) := (Same.si (by unfold hid; omega)).trans (Same.si (by unfold hid; omega))
      obtain ⟨s3, f1, f2⟩ := c_ask32 (N := N) (fit := fun v => fitB nw na t9 Z (pu P (8 + w) (nI v))) (S := fun v n => pg nw na t9 (pu P (8 + w) (nI v)) n (12 + w)) (what := x2) hN1 N 41 0 (-4, nf (fun v => fitB nw na t9 Z (pu P (8 + w) (nI v))) 10) (si (si s1 0 14 (-4)) 0 15 (-nI (nf (fun v => fitB nw na t9 Z (pu P (8 + w) (nI v))) 10))) rfl (by omega) hle (fun v hv hf k hk => (gi_sn (by omega)).trans ((gi_sn (by omega)).trans (e3 v hv hf k hk))) ((gi_sn (by omega)).trans gi_se) gi_se
      have hs := (e2.trans hS2).trans f2
      obtain ⟨s4, g1, g2, g3⟩ := m_numbersAt (N := N) (w := w) (j := 8 + w) (many := 10) hN1 (hN.sm hs) (hZ.sm hs) (by omega) (by omega) (by omega) (fun v hv => Fx_loss hN.2.1.1 hw hv)
      have e38 := m_ask38 (N := N) (fit := fun v => fitB nw na t9 Z (pu P (8 + w) (nI v))) (what := x2) (s := s4) hfm N 10 0 rfl (by omega)
      have e69 := m_ask69 (N := N) (fit := fun v => fitB nw na t9 Z (pu P (8 + w) (nI v))) (S := fun v n => pg nw na t9 (pu P (8 + w) (nI v)) n (12 + w)) (what := x2) (s := s4) hN1 hfm (fun n hn a ha => g3 a ha n (by omega)) N 41 0 (-4, nf (fun v => fitB nw na t9 Z (pu P (8 + w) (nI v))) 10) rfl (by omega) hle
      refine ⟨askR x2 (askF (fun n => worstF (fun v => fitB nw na t9 Z (pu P (8 + w) (nI v))) (smF (fun v n => pg nw na t9 (pu P (8 + w) (nI v)) n (12 + w)) n) 10 0 0) 41 0 (-4, nf (fun v => fitB nw na t9 Z (pu P (8 + w) (nI v))) 10)), s3, s4, ?_, ?_, hs.trans g2⟩
      · rw [(c_isWheel hN).1 h1, bd_s, if_neg e10, c_isPart.1 h2, bd_s, if_neg e10, show F_X0_findLosses N (nI w) σ = _ from e1, bd_s, ej, bd_s]
        exact f1
      · rw [(m_isWheel (hN.sm hs)).1 h1, bd_s, if_neg e10, m_in_e, i_01.1 h2, bd_s, if_neg e10, show (8 : Int32) + nI w = nI (8 + w) from nI_add 8 w, show F_X8_numbersAt N (nI (8 + w)) (nI w) 10 s3 = _ from g1, bd_s]
        exact Eq.trans (show F_X8_ask_38 N N x2 _ 0 0 s4 = _ from e38) e69
    · refine ⟨-1, σ, σ, ?_, ?_, Same.refl σ⟩
      · rw [(c_isWheel hN).1 h1, bd_s, if_neg e10, c_isPart.2 h2, bd_s, if_pos rfl]
      · rw [(m_isWheel hN).1 h1, bd_s, if_neg e10, m_in_e, i_01.2 h2, bd_s, if_pos rfl]
  · refine ⟨-1, σ, σ, ?_, ?_, Same.refl σ⟩
    · rw [(c_isWheel hN).2 h1, bd_s, if_pos rfl]
    · rw [(m_isWheel hN).2 h1, bd_s, if_pos rfl]
