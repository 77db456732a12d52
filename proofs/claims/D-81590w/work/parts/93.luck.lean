/-! THE PLAIN LAW: luck, mean -/
set_option maxRecDepth 100000
theorem lgc_0 {y : Int64} : lg_cmp y 0 = 0 ↔ y = 0 := by
  unfold lg_cmp
  constructor
  · intro h
    by_cases c1 : y > 0
    · rw [if_pos c1] at h; exact absurd h (by decide)
    · rw [if_neg c1] at h
      by_cases c2 : y = 0
      · exact c2
      · rw [if_neg c2] at h; exact absurd h (by decide)
  · intro h
    subst h
    rw [if_neg Int64.lt_irrefl, if_pos rfl]
theorem lN_0 {n : Nat} (h : n < 2 ^ 63) : lN n = 0 ↔ n = 0 := pk_lEQ (b := 0) h (by decide)
/-- the two halves' fractions in lowest terms: what both answer -/
def lowV (u d g : Nat) (what : Int32) : Int64 := if what = 0 then lN u / lN g else lN d / lN g
theorem low_c {N u d : Nat} {what : Int32} {σ : SS} : ∀ (m a b : Nat), b < m → a < 2 ^ 62 → b < 2 ^ 62 → 0 < a + b → F_X0_lowest_6 N m (lN u) (lN d) what (lN a) (lN b) σ = some (lowV u d (Nat.gcd a b) what, σ) := by
  intro m
  induction m with
  | zero => intro a b h; omega
  | succ m ih =>
    intro a b hb ha2 hb2 h0
    show B_X0_lowest_6 N (F_X0_lowest_6 N m) (lN u) (lN d) what (lN a) (lN b) σ = _
    unfold B_X0_lowest_6
    by_cases c : b = 0
    · subst c
      have ha0 : ¬ lN a = 0 := fun z => by have := (lN_0 (by omega)).mp z; omega
      rw [if_pos (lgc_0.mpr (show lN 0 = 0 from rfl)), Nat.gcd_zero_right]
      unfold lowV
      by_cases c2 : what = 0
      · rw [if_pos c2, if_pos c2, gd_t ha0]
      · rw [if_neg c2, if_neg c2, gd_t ha0]
    · have hb0 : ¬ lN b = 0 := fun z => c ((lN_0 (by omega)).mp z)
      have hlt : a % b < b := Nat.mod_lt _ (by omega)
      rw [if_neg (fun z => hb0 (lgc_0.mp z)), gd_t hb0, nm_s, pk_lRem (by omega) (by omega) (by omega), ih b (a % b) (by omega) hb2 (by omega) (by omega)]
      have e : Nat.gcd b (a % b) = Nat.gcd a b := by
        rw [Nat.gcd_comm a b, Nat.gcd_rec b a, Nat.gcd_comm]
      rw [e]
theorem low_m {N u d : Nat} {what : Int32} {σ : SS} (m a b : Nat) : F_X8_lowest_6 N m (lN u) (lN d) what (lN a) (lN b) σ = F_X0_lowest_6 N m (lN u) (lN d) what (lN a) (lN b) σ := rfl
/-- ticks of which some fail -/
def otk (nw na s : Nat) : Nat → Nat → TT → Nat → TT
  | 0, _, T, _ => T
  | c + 1, k, T, t => otk nw na s c (k + 1) (tickT T nw na t (s.testBit k)) (t + 1)
theorem otk_s {nw na s c k t : Nat} {T : TT} : otk nw na s (c + 1) k T t = otk nw na s c (k + 1) (tickT T nw na t (s.testBit k)) (t + 1) := rfl
theorem otk_0 {nw na s k t : Nat} {T : TT} : otk nw na s 0 k T t = T := rfl
theorem otk_Fx {nw na M s : Nat} : ∀ (c k t : Nat) (T : TT), Fx T.1 nw na M → Fx (otk nw na s c k T t).1 nw na M := by
  intro c
  induction c with
  | zero => intro k t T h; exact h
  | succ c ih => intro k t T h; exact ih (k + 1) (t + 1) _ h.tick
theorem otk_Cn {x l : Int32} {nw na M s : Nat} : ∀ (c k t : Nat) (T : TT), Cn x l T → Fx T.1 nw na M → Cn x l (otk nw na s c k T t) := by
  intro c
  induction c with
  | zero => intro k t T h _; exact h
  | succ c ih => intro k t T h hF; exact ih (k + 1) (t + 1) _ (h.tick hF) hF.tick
theorem otk_pg {nw na s : Nat} : ∀ (c k t : Nat) (T T' : TT), T.1 = T'.1 → (otk nw na s c k T t).1 = (otk nw na s c k T' t).1 := by
  intro c
  induction c with
  | zero => intro k t T T' h; exact h
  | succ c ih => intro k t T T' h; exact ih (k + 1) (t + 1) _ _ (tick_pg h)
theorem otk_SD {nw na M s : Nat} : ∀ (c k t B K : Nat) (T : TT), Fx T.1 nw na M → SD B K T → B + 99 * c ≤ 100000000 → K + 99 * c < 2 ^ 31 → SD (B + 99 * c) (K + 99 * c) (otk nw na s c k T t) := by
  intro c
  induction c with
  | zero => intro k t B K T _ h _ _; exact h
  | succ c ih =>
    intro k t B K T hF h hB hK
    have e := ih (k + 1) (t + 1) (B + 99) (K + 99) _ (hF.tick (t := t) (fails := s.testBit k)) (SD.tick hF h (by omega) (by omega)) (by omega) (by omega)
    rw [show B + 99 + 99 * c = B + 99 * (c + 1) by omega, show K + 99 + 99 * c = K + 99 * (c + 1) by omega] at e
    exact e
/-- how many ways -/
def wyN (v s : Nat) : Nat → Nat → Nat → Nat
  | 0, _, y => y
  | c + 1, k, y => wyN v s c (k + 1) (y * (if s.testBit k = true then v else 10 - v))
theorem wyN_s {v s c k y : Nat} : wyN v s (c + 1) k y = wyN v s c (k + 1) (y * (if s.testBit k = true then v else 10 - v)) := rfl
theorem wyN_b {v s : Nat} (hv : v ≤ 10) : ∀ (c k y : Nat), wyN v s c k y ≤ 10 ^ c * y := by
  intro c
  induction c with
  | zero => intro k y; show y ≤ 10 ^ 0 * y; omega
  | succ c ih =>
    intro k y
    refine Nat.le_trans (ih (k + 1) _) ?_
    have h1 : y * (if s.testBit k = true then v else 10 - v) ≤ y * 10 := Nat.mul_le_mul_left y (by split <;> omega)
    have h2 : 10 ^ c * (y * (if s.testBit k = true then v else 10 - v)) ≤ 10 ^ c * (y * 10) := Nat.mul_le_mul_left _ h1
    have h3 : 10 ^ c * (y * 10) = 10 ^ (c + 1) * y := by
      rw [Nat.pow_succ, Nat.mul_comm y 10, Nat.mul_assoc]
    omega
theorem has_b : ∀ s, s < 256 → ∀ k, k < 8 → (nI s >>> (nI k &&& 31)) &&& (1 : Int32) = b2i (s.testBit k) := by decide +kernel
theorem two_n : ∀ n, n < 9 → (1 : Int32) <<< (nI n &&& 31) = nI (2 ^ n) := by decide +kernel
theorem pow_n : ∀ n, n < 9 → 2 ^ n ≤ 256 ∧ 10 ^ n ≤ 100000000 := by decide +kernel
theorem c_has {N s k : Nat} {σ : SS} (hs : s < 256) (hk : k < 8) : F_X0_has N (nI s) (nI k) σ = some (b2i (s.testBit k), σ) := by
  unfold F_X0_has
  rw [has_b s hs k hk]
  cases s.testBit k
  · exact if_neg (by decide)
  · exact if_pos (by decide)
/-- by each set: whether all was full, what was done -/
def lkO (P : Pg) (nw na t n s : Nat) : Int32 := (otk nw na s n 0 (P, 0, 0, 0, 0) t).2.2.1
def dnO (P : Pg) (nw na t n s : Nat) : Int32 := (otk nw na s n 0 (P, 0, 0, 0, 0) t).2.1
def fullF (P : Pg) (nw na t v n s : Nat) : Int64 := if lkO P nw na t n s = 0 then lN (wyN v s n 0 1) else 0
def doneF (P : Pg) (nw na t v n s : Nat) : Int64 := lN (wyN v s n 0 1) * (dnO P nw na t n s).toInt64
def allF (v n s : Nat) : Int64 := lN (wyN v s n 0 1)
def sumL (f : Nat → Int64) : Nat → Nat → Int64 → Int64
  | 0, _, x => x
  | c + 1, s, x => sumL f c (s + 1) (x + f s)
theorem gl_se {σ : SS} {i : Nat} {x : Int64} : gl (sl σ i x) i = x := if_pos rfl
theorem gl_sn {σ : SS} {i j : Nat} {x : Int64} (h : j ≠ i) : gl (sl σ i x) j = gl σ j := if_neg h
theorem ten_v {v : Nat} (hv : v ≤ 10) : ((10 : Int32) - nI v).toInt64 = lN (10 - v) ∧ (nI v).toInt64 = lN v := by
  refine ⟨?_, nI_l (by omega)⟩
  rw [show (10 : Int32) - nI v = nI (10 - v) from nI_sub (a := 10) hv]
  exact nI_l (by omega)
theorem c_odds {N nw na M v n s : Nat} {τ : SS} {K : Int32 → Int32 → Int32 → SS → Option (Unit × SS)} (hN1 : 1000 ≤ N) (hv : v ≤ 10) (hn : n ≤ 8) (hs : s < 256) : ∀ (m k t y : Nat) (T : TT), k ≤ n → n - k < m → Fx T.1 nw na M → T.1 36 = nI t → t + (n - k) < 2 ^ 20 → (∀ i, i < na → gi τ (iAA 1) i = T.1 (17 + i)) → ∃ s', F_X0_findOdds_45 N K m (nI v) (nI n) (nI s) (lN y) (nI k) (ctw 1 T τ) = K (nI v) (nI n) (nI (s + 1)) s' ∧ Same τ s' ∧ gl s' 16 = gl τ 16 + (if (otk nw na s (n - k) k T t).2.2.1 = 0 then lN (wyN v s (n - k) k y) else 0) ∧ gl s' 17 = gl τ 17 + lN (wyN v s (n - k) k y) * (otk nw na s (n - k) k T t).2.1.toInt64 ∧ gl s' 18 = gl τ 18 + lN (wyN v s (n - k) k y) := by
  intro m
  induction m with
  | zero => intro k t y T _ h; omega
  | succ m ih =>
    intro k t y T hk hm hF ht ht2 hA
    show ∃ s', B_X0_findOdds_45 N K (F_X0_findOdds_45 N K m) (nI v) (nI n) (nI s) (lN y) (nI k) (ctw 1 T τ) = _ ∧ _
    unfold B_X0_findOdds_45
    by_cases c1 : k = n
    · subst c1
      rw [if_pos (nI_le (Nat.le_refl _) (by omega)), Nat.sub_self, otk_0, nm_s]
      show ∃ s', (if gi (ctw 1 T τ) 0 8 = 0 then _ else _) = _ ∧ Same τ s' ∧ gl s' 16 = gl τ 16 + (if T.2.2.1 = 0 then lN y else 0) ∧ gl s' 17 = gl τ 17 + lN y * T.2.1.toInt64 ∧ gl s' 18 = gl τ 18 + lN y
      rw [c_g8]
      have go : ∀ z : Int64, ∃ s', F_X0_findOdds_124 N K (nI v) (nI k) (nI s) (lN y) z (gl (sl (ctw 1 T τ) 18 (gl (ctw 1 T τ) 18 + lN y)) 16) (sl (ctw 1 T τ) 18 (gl (ctw 1 T τ) 18 + lN y)) = K (nI v) (nI k) (nI (s + 1)) s' ∧ Same τ s' ∧ gl s' 16 = gl τ 16 + z ∧ gl s' 17 = gl τ 17 + lN y * T.2.1.toInt64 ∧ gl s' 18 = gl τ 18 + lN y := fun z => by
        unfold F_X0_findOdds_124
        rw [nm_s, nm_s, nm_s, show nI s + 1 = nI (s + 1) from nI_1 s]
        refine ⟨_, rfl, (((Same.ctw).trans Same.sl).trans Same.sl).trans Same.sl, ?_, ?_, ?_⟩
        · rw [gl_sn (by omega), gl_se, gl_sn (by omega)]
          rfl
        · rw [gl_se, gl_sn (by omega), gl_sn (by omega)]
          show gl τ 17 + lN y * (gi (ctw 1 T τ) 0 7).toInt64 = _
          rw [c_g7]
        · rw [gl_sn (by omega), gl_sn (by omega), gl_se]
          rfl
      by_cases c2 : T.2.2.1 = 0
      · rw [if_pos c2, if_pos c2]
        exact go (lN y)
      · rw [if_neg c2, if_neg c2]
        exact go 0
    · have hlt : k < n := by omega
      obtain ⟨t1, t2⟩ := ten_v hv
      have hh := c_has (N := N) (s := s) (k := k) (σ := ctw 1 T τ) hs (by omega)
      have ek := c_tick (N := N) (k := 1) (σ := τ) (fails := s.testBit k) (by omega) hF ht (by omega) hA
      have go : ∀ z : Nat, z = (if s.testBit k = true then v else 10 - v) → ∃ s', F_X0_findOdds_72 N K (F_X0_findOdds_45 N K m) (nI v) (nI n) (nI s) (nI k) (lN z) (lN y) (ctw 1 T τ) = K (nI v) (nI n) (nI (s + 1)) s' ∧ Same τ s' ∧ gl s' 16 = gl τ 16 + (if (otk nw na s (n - k) k T t).2.2.1 = 0 then lN (wyN v s (n - k) k y) else 0) ∧ gl s' 17 = gl τ 17 + lN (wyN v s (n - k) k y) * (otk nw na s (n - k) k T t).2.1.toInt64 ∧ gl s' 18 = gl τ 18 + lN (wyN v s (n - k) k y) := fun z hz => by
        unfold F_X0_findOdds_72
        rw [nm_s, hh, bd_s, ek, bd_s, nm_s, lN_mul, show nI k + 1 = nI (k + 1) from nI_1 k, show n - k = (n - (k + 1)) + 1 by omega, otk_s, wyN_s, hz]
        exact ih (k + 1) (t + 1) _ _ hlt (by omega) hF.tick (by rw [tickT_36 hF, ht]; exact nI_1 t) (by omega) (fun i hi => by rw [hA i hi, tickT_ne hF (by have := hF.2.2.1; unfold tw; omega)])
      rw [if_neg (nI_ge hlt (by omega)), hh, bd_s, t1, t2]
      cases hb : s.testBit k with
      | false =>
        rw [if_pos (show b2i false = 0 from rfl)]
        exact go _ (by rw [hb]; rfl)
      | true =>
        rw [if_neg (show ¬ b2i true = 0 by decide)]
        exact go _ (by rw [hb]; rfl)
theorem c_findOdds {B N nw na M t v n : Nat} {P : Pg} (hN1 : 1000 ≤ N) (hv : v ≤ 10) (hn : n ≤ 8) : ∀ (m c s : Nat) (z : SS), Rel B z → Now B z P nw na M t → s + c = 2 ^ n → c < m → ∃ s', F_X0_findOdds_17 N m (nI v) (nI n) (nI s) z = some ((), s') ∧ Same z s' ∧ gl s' 16 = sumL (fullF P nw na t v n) c s (gl z 16) ∧ gl s' 17 = sumL (doneF P nw na t v n) c s (gl z 17) ∧ gl s' 18 = sumL (allF v n) c s (gl z 18) := by
  intro m
  induction m with
  | zero => intro c s z _ _ _ h; omega
  | succ m ih =>
    intro c s z hI hN hs hm
    obtain ⟨p1, p2⟩ := pow_n n (by omega)
    show ∃ s', B_X0_findOdds_17 N (F_X0_findOdds_17 N m) (nI v) (nI n) (nI s) z = _ ∧ _
    unfold B_X0_findOdds_17
    rw [two_n n (by omega)]
    cases c with
    | zero =>
      refine ⟨z, ?_, Same.refl z, rfl, rfl, rfl⟩
      rw [if_pos (nI_le (by omega) (by omega))]
    | succ c =>
      have ht9 := hN.2.1.2.2.1
      obtain ⟨τ, C, e1, e2, e3, -, e5⟩ := c_try4 hN1 hI hN
      have es : F_X0_startsCounting N (ctw 1 (P, C) τ) = some ((), ctw 1 (P, 0, 0, 0, 0) τ) := by
        unfold F_X0_startsCounting
        simp only [nm, c_s7, c_s8, c_s9, c_s10]
      obtain ⟨s1, f1, f2, f3, f4, f5⟩ := c_odds (N := N) (v := v) (n := n) (s := s) (τ := τ) (K := F_X0_findOdds_17 N m) hN1 hv hn (by omega) N 0 t 1 (P, 0, 0, 0, 0) (Nat.zero_le _) (by omega) hN.2.1.1 hN.2.1.2.1 (by omega) e3
      have hS : Same z s1 := e2.trans f2
      obtain ⟨s2, g1, g2, g3, g4, g5⟩ := ih c (s + 1) s1 (hI.same hS) (hN.sm hS) (by omega) (by omega)
      have egl : ∀ i, gl τ i = gl z i := fun i => by unfold gl; rw [e5]
      rw [Nat.sub_zero, egl] at f3 f4 f5
      refine ⟨s2, ?_, hS.trans g2, ?_, ?_, ?_⟩
      · rw [if_neg (nI_ge (by omega) (by omega)), e1, bd_s, es, bd_s]
        exact f1.trans g1
      · rw [g3, f3]; rfl
      · rw [g4, f4]; rfl
      · rw [g5, f5]; rfl
theorem sumL_N {f : Nat → Int64} {b : Nat} (hb : ∀ s, s < 256 → ∃ x, x ≤ b ∧ f s = lN x) : ∀ (c s x : Nat), s + c ≤ 256 → ∃ u, u ≤ x + c * b ∧ sumL f c s (lN x) = lN u := by
  intro c
  induction c with
  | zero => intro s x _; exact ⟨x, by omega, rfl⟩
  | succ c ih =>
    intro s x hs
    obtain ⟨y, hy, ey⟩ := hb s (by omega)
    obtain ⟨u, hu, eu⟩ := ih (s + 1) (x + y) (by omega)
    refine ⟨u, ?_, ?_⟩
    · rw [Nat.add_mul]; omega
    · show sumL f c (s + 1) (lN x + f s) = lN u
      rw [ey, lN_add]; exact eu
theorem all_10 : ∀ v, v < 11 → ∀ n, n < 9 → sumL (allF v n) (2 ^ n) 0 0 = lN (10 ^ n) := by decide +kernel
-- the model
theorem m_odds {B N nw na M v n s isM t0 : Nat} {P : Pg} {what : Int32} {y7 : Int64} {τ : SS} {K : Int32 → Int32 → Int32 → Int32 → Int64 → Int64 → Int32 → SS → Option (Int64 × SS)} (hN1 : 1000 ≤ N) (hv : v ≤ 10) (hn : n ≤ 8) (hs : s < 256) (hM : isM ≤ 1) (hP : ∀ T : TT, Now B (mtw 156 T τ) P nw na M t0) (ho : gi τ 1 14 = -4) (hm9 : gi τ 1 15 = -4) : ∀ (m k t y : Nat) (y5 : Int64) (T : TT), k ≤ n → n - k < m → Fx T.1 nw na M → T.1 36 = nI t → t + (n - k) < 2 ^ 20 → T.1 40 = -4 → T.1 39 = -4 → (∀ i, i < na → gi τ 21 (156 + (17 + i)) = T.1 (17 + i)) → ∃ T', F_X8_byFails_54 N K m (nI v) (nI n) (nI isM) what y5 y7 (nI s) (lN y) (nI k) (mtw 156 T τ) = K (nI v) (nI n) (nI isM) what (y5 + lN (wyN v s (n - k) k y) * (if isM = 0 then (if (otk nw na s (n - k) k T t).1 38 - P 38 = 0 then 1 else 0) else (otk nw na s (n - k) k T t).1 37 - P 37).toInt64) y7 (nI (s + 1)) (mtw 156 T' τ) := by
  intro m
  induction m with
  | zero => intro k t y y5 T _ h; omega
  | succ m ih =>
    intro k t y y5 T hk hm hF ht ht2 h40 h39 hA
    show ∃ T', B_X8_byFails_54 N K (F_X8_byFails_54 N K m) (nI v) (nI n) (nI isM) what y5 y7 (nI s) (lN y) (nI k) (mtw 156 T τ) = _
    unfold B_X8_byFails_54
    by_cases c1 : k = n
    · subst c1
      refine ⟨T, ?_⟩
      have e152 : ∀ z : Int32, F_X8_byFails_152 N K (nI v) (nI k) (nI isM) what y7 (nI s) z (lN y) y5 (mtw 156 T τ) = K (nI v) (nI k) (nI isM) what (y5 + lN y * z.toInt64) y7 (nI (s + 1)) (mtw 156 T τ) := fun z => by
        unfold F_X8_byFails_152
        rw [nm_s, nm_s, show nI s + 1 = nI (s + 1) from nI_1 s]
      rw [if_pos (nI_le (Nat.le_refl _) (by omega)), Nat.sub_self, otk_0]
      show _ = K (nI v) (nI k) (nI isM) what (y5 + lN y * (if isM = 0 then (if T.1 38 - P 38 = 0 then 1 else 0) else T.1 37 - P 37).toInt64) y7 (nI (s + 1)) (mtw 156 T τ)
      by_cases c2 : isM = 0
      · rw [if_pos c2, if_pos (show nI isM = 0 by rw [c2]; rfl)]
        have el : F_X8_lackThen N (mtw 156 T τ) = some (T.1 38 - P 38, mtw 156 T τ) := by
          unfold F_X8_lackThen
          rw [r_38, gd_t (r_c (by omega)), gd_t r38, lc38, nI_clamp (by omega), m_go156 rfl (by omega), (hP T).2.2.2.1 38 rfl (by omega)]
        rw [el, bd_s]
        by_cases c3 : T.1 38 - P 38 = 0
        · rw [if_pos c3, if_pos c3, e152]
        · rw [if_neg c3, if_neg c3, e152]
      · rw [if_neg c2, if_neg (nI_ne0 (by omega) (by omega)), r_37, gd_t (r_c (by omega)), gd_t r37, lc37, nI_clamp (by omega), m_go156 rfl (by omega), (hP T).2.2.2.1 37 rfl (by omega), e152]
    · have hlt : k < n := by omega
      obtain ⟨t1, t2⟩ := ten_v hv
      have ek := m_tick (N := N) (p := 156) (σ := τ) (fails := s.testBit k) (by omega) (by omega) hF ht (by omega) (ho.trans h40.symm) (hm9.trans h39.symm) hA
      have go : ∀ z : Nat, z = (if s.testBit k = true then v else 10 - v) → ∃ T', F_X8_byFails_95 N K (F_X8_byFails_54 N K m) (nI v) (nI n) (nI isM) what y5 y7 (nI s) (nI k) (b2i (s.testBit k)) (lN z) (lN y) (mtw 156 T τ) = K (nI v) (nI n) (nI isM) what (y5 + lN (wyN v s (n - k) k y) * (if isM = 0 then (if (otk nw na s (n - k) k T t).1 38 - P 38 = 0 then 1 else 0) else (otk nw na s (n - k) k T t).1 37 - P 37).toInt64) y7 (nI (s + 1)) (mtw 156 T' τ) := fun z hz => by
        unfold F_X8_byFails_95
        rw [nm_s, show F_X8_tickOn N 156 (b2i (s.testBit k)) (mtw 156 T τ) = _ from ek, bd_s, nm_s, lN_mul, show nI k + 1 = nI (k + 1) from nI_1 k, show n - k = (n - (k + 1)) + 1 by omega, otk_s, wyN_s, hz]
        exact ih (k + 1) (t + 1) _ y5 _ hlt (by omega) hF.tick (by rw [tickT_36 hF, ht]; exact nI_1 t) (by omega) (by rw [tickT_ne hF (by unfold tw; omega)]; exact h40) (by rw [tickT_ne hF (by unfold tw; omega)]; exact h39) (fun i hi => by rw [hA i hi, tickT_ne hF (by have := hF.2.2.1; unfold tw; omega)])
      rw [if_neg (nI_ge hlt (by omega)), has_b s hs k (by omega)]
      unfold F_X8_byFails_76
      rw [t1, t2]
      cases hb : s.testBit k with
      | false =>
        rw [if_neg (show ¬ b2i false = 1 by decide), if_pos rfl]
        have h9 := go (10 - v) (by rw [hb]; rfl)
        rw [hb] at h9
        exact h9
      | true =>
        rw [if_pos (show b2i true = 1 by decide), if_neg (show ¬ (1 : Int32) = 0 by decide)]
        have h9 := go v (by rw [hb]; rfl)
        rw [hb] at h9
        exact h9
def upF (P : Pg) (nw na t v n isM s : Nat) : Int64 := if isM = 0 then fullF P nw na t v n s else doneF P nw na t v n s
theorem l1 : ((1 : Int32)).toInt64 = 1 := by decide
theorem l0 : ((0 : Int32)).toInt64 = 0 := by decide
theorem m_byFails {B N nw na M t v n isM : Nat} {P : Pg} {what : Int32} {y7 : Int64} (hN1 : 1000 ≤ N) (hv : v ≤ 10) (hn : n ≤ 8) (hM : isM ≤ 1) : ∀ (m c s : Nat) (y5 : Int64) (z : SS), Now B z P nw na M t → s + c = 2 ^ n → c < m → ∃ s', F_X8_byFails_32 N m (nI v) (nI n) (nI isM) what y5 y7 (nI s) z = bd (F_X8_lowest N (sumL (upF P nw na t v n isM) c s y5) y7 what s') (fun r s => some (r, s)) ∧ Same z s' := by
  intro m
  induction m with
  | zero => intro c s y5 z _ _ h; omega
  | succ m ih =>
    intro c s y5 z hN hs hm
    obtain ⟨p1, p2⟩ := pow_n n (by omega)
    show ∃ s', B_X8_byFails_32 N (F_X8_byFails_32 N m) (nI v) (nI n) (nI isM) what y5 y7 (nI s) z = _ ∧ _
    unfold B_X8_byFails_32
    rw [two_n n (by omega)]
    cases c with
    | zero =>
      refine ⟨z, ?_, Same.refl z⟩
      rw [if_pos (nI_le (by omega) (by omega))]
      rfl
    | succ c =>
      have ht9 := hN.2.1.2.2.1
      have hF := hN.2.1.1
      have q4 := hN.2.1.2.2.2.1
      have q5 := hN.2.1.2.2.2.2.1
      obtain ⟨h1', h2', h3', h4', h5'⟩ := m_made hN.1.2 (Or.inl (by omega)) hF.2.2.2.1 hF.2.2.1
      have h2' := h2' 0 0
      generalize gi (mcp 0 156 39 z) 1 16 = o at h2'
      generalize gi (mcp 0 156 39 z) 1 17 = f at h2'
      obtain ⟨T', e1⟩ := m_odds (N := N) (v := v) (n := n) (s := s) (isM := isM) (t0 := t) (P := P) (what := what) (y7 := y7) (τ := mcp 0 156 39 z) (K := F_X8_byFails_32 N m) hN1 hv hn (by omega) hM (fun T => hN.sm m_goSame) (h3'.trans q5) (h4'.trans q4) N 0 t 1 y5 (P, 0, 0, o, f) (Nat.zero_le _) (by omega) hF hN.2.1.2.1 (by omega) q5 q4 h5'
      rw [h2', Nat.sub_zero] at e1
      have hC : Cn (P 37) (P 38) (otk nw na s n 0 (P, 0, 0, 0, 0) t) := otk_Cn n 0 t _ (Cn.start P 0 0) hF
      have epg := otk_pg (nw := nw) (na := na) (s := s) n 0 t (P, 0, 0, o, f) (P, 0, 0, 0, 0) rfl
      have eup : lN (wyN v s n 0 1) * (if isM = 0 then (if (otk nw na s n 0 (P, 0, 0, o, f) t).1 38 - P 38 = 0 then 1 else 0) else (otk nw na s n 0 (P, 0, 0, o, f) t).1 37 - P 37).toInt64 = upF P nw na t v n isM s := by
        rw [epg, hC.1, hC.2, add_sub_l, add_sub_l]
        unfold upF fullF doneF lkO dnO
        by_cases c2 : isM = 0
        · rw [if_pos c2, if_pos c2]
          by_cases c3 : (otk nw na s n 0 (P, 0, 0, 0, 0) t).2.2.1 = 0
          · rw [if_pos c3, if_pos c3, l1, Int64.mul_one]
          · rw [if_neg c3, if_neg c3, l0, Int64.mul_zero]
        · rw [if_neg c2, if_neg c2]
      rw [eup] at e1
      have hS : Same z (mtw 156 T' (mcp 0 156 39 z)) := m_goSame
      obtain ⟨s2, g1, g2⟩ := ih c (s + 1) (y5 + upF P nw na t v n isM s) _ (hN.sm hS) (by omega) (by omega)
      refine ⟨s2, ?_, hS.trans g2⟩
      rw [if_neg (nI_ge (by omega) (by omega)), show F_X8_copies N 0 156 z = _ from m_cp156 (p := 0) hN1 (Or.inl (by omega)), bd_s]
      exact e1.trans g1
theorem m_down {N v n isM : Nat} {what : Int32} {z : SS} (hn : n ≤ 8) : ∀ (m k : Nat), k ≤ n → n - k < m → F_X8_byFails_9 N m (nI v) (nI n) (nI isM) what 0 (lN (10 ^ k)) (nI k) z = F_X8_byFails_32 N N (nI v) (nI n) (nI isM) what 0 (lN (10 ^ n)) 0 z := by
  intro m
  induction m with
  | zero => intro k _ h; omega
  | succ m ih =>
    intro k hk hm
    show B_X8_byFails_9 N (F_X8_byFails_9 N m) (nI v) (nI n) (nI isM) what 0 (lN (10 ^ k)) (nI k) z = _
    unfold B_X8_byFails_9
    by_cases c : k = n
    · subst c
      rw [if_pos (nI_le (Nat.le_refl _) (by omega))]
    · have e10 : lN (10 ^ k) * 10 = lN (10 ^ (k + 1)) := lN_mul (10 ^ k) 10
      rw [if_neg (nI_ge (show k < n by omega) (by omega)), nm_s, nm_s, e10, show nI k + 1 = nI (k + 1) from nI_1 k]
      exact ih (k + 1) (by omega) (by omega)
theorem q_same8 {t : Nat} {σ : SS} {A C : SS → Option (Int64 × SS)} (hI : Inv t σ) (h : ∃ v σ1 σ2, A σ = some (v, σ1) ∧ C σ1 = some (v, σ2) ∧ Same σ σ2) : ∃ r σ1 σ2, A σ = some (r, σ1) ∧ C σ1 = some (r, σ2) ∧ Inv (t + 1) σ2 := by
  obtain ⟨v, σ1, σ2, h1, h2, h3⟩ := h
  exact ⟨v, σ1, σ2, h1, h2, Rel.mono (hI.same h3) (by omega)⟩
theorem up_N {B nw na M t v n isM : Nat} {P : Pg} (hF : Fx P nw na M) (hS : Sw B P) (hB : B ≤ 1000000) (hv : v ≤ 10) (hn : n ≤ 8) : ∃ u, u < 2 ^ 60 ∧ sumL (upF P nw na t v n isM) (2 ^ n) 0 0 = lN u := by
  obtain ⟨p1, p2⟩ := pow_n n (by omega)
  have hw : ∀ s, wyN v s n 0 1 ≤ 100000000 := fun s => by
    have := wyN_b (v := v) (s := s) hv n 0 1
    omega
  obtain ⟨u, hu, eu⟩ := sumL_N (f := upF P nw na t v n isM) (b := 100000000 * 1000) (fun s _ => by
    unfold upF
    by_cases c : isM = 0
    · rw [if_pos c]
      unfold fullF
      by_cases c2 : lkO P nw na t n s = 0
      · rw [if_pos c2]; exact ⟨_, Nat.le_trans (hw s) (by omega), rfl⟩
      · rw [if_neg c2]; exact ⟨0, Nat.zero_le _, rfl⟩
    · rw [if_neg c]
      unfold doneF dnO
      obtain ⟨-, d, hd, ed⟩ := otk_SD (s := s) n 0 t B 0 (P, 0, 0, 0, 0) hF ⟨hS, 0, Nat.le_refl _, rfl⟩ (by omega) (by omega)
      rw [ed, nI_l (by omega), lN_mul]
      exact ⟨_, Nat.mul_le_mul (hw s) (by omega), rfl⟩) (2 ^ n) 0 0 (by omega)
  refine ⟨u, ?_, eu⟩
  have h9 : 2 ^ n * (100000000 * 1000) ≤ 256 * (100000000 * 1000) := Nat.mul_le_mul_right _ p1
  omega
theorem odds_both {B N nw na M t v n isM : Nat} {P : Pg} {what : Int32} {σ : SS} (hN9 : 2 ^ 70 ≤ N) (hB : B ≤ 1000000) (hI : Rel B σ) (hN : Now B σ P nw na M t) (hv : v ≤ 10) (hn : n ≤ 8) (hM : isM ≤ 1) : ∃ r σ1 σ2, bd (F_X0_findOdds N (nI v) (nI n) σ) (fun _ s => bd (F_X0_lowest N (if isM = 0 then gl s 16 else gl s 17) (gl s 18) what s) fun r s => some (r, s)) = some (r, σ1) ∧ bd (F_X8_byFails N (nI v) (nI n) (nI isM) what σ1) (fun r s => some (r, s)) = some (r, σ2) ∧ Same σ σ2 := by
  have hN1 : 1000 ≤ N := Nat.le_trans (by decide) hN9
  obtain ⟨p1, p2⟩ := pow_n n (by omega)
  obtain ⟨u, hu, eu⟩ := up_N (t := t) (v := v) (n := n) (isM := isM) hN.2.1.1 hN.2.1.2.2.2.2.2 hB hv hn
  have hs0 : Same σ (sl (sl (sl σ 16 0) 17 0) 18 0) := ((Same.sl).trans Same.sl).trans Same.sl
  obtain ⟨s1, e1, e2, e3, e4, e5⟩ := c_findOdds (N := N) (v := v) (n := n) hN1 hv hn N (2 ^ n) 0 _ (hI.same hs0) (hN.sm hs0) (by omega) (by omega)
  have g16 : gl (sl (sl (sl σ 16 0) 17 0) 18 0) 16 = 0 := rfl
  have g17 : gl (sl (sl (sl σ 16 0) 17 0) 18 0) 17 = 0 := rfl
  have g18 : gl (sl (sl (sl σ 16 0) 17 0) 18 0) 18 = 0 := rfl
  rw [g16] at e3
  rw [g17] at e4
  rw [g18, all_10 v (by omega) n (by omega)] at e5
  have eup : (if isM = 0 then gl s1 16 else gl s1 17) = lN u := by
    by_cases c : isM = 0
    · rw [if_pos c, e3, ← eu]
      have : upF P nw na t v n isM = fullF P nw na t v n := funext fun s => if_pos c
      rw [this]
    · rw [if_neg c, e4, ← eu]
      have : upF P nw na t v n isM = doneF P nw na t v n := funext fun s => if_neg c
      rw [this]
  have hs1 := hs0.trans e2
  have hN2 := hN.sm hs1
  obtain ⟨s2, f1, f2⟩ := m_byFails (N := N) (v := v) (n := n) (isM := isM) (what := what) (y7 := lN (10 ^ n)) hN1 hv hn hM N (2 ^ n) 0 0 s1 hN2 (by omega) (by omega)
  have hpos : 0 < 10 ^ n := Nat.pos_of_ne_zero (by intro z; have := Nat.pow_eq_zero.mp z; omega)
  have l1 : F_X0_lowest N (lN u) (lN (10 ^ n)) what s1 = some (lowV u (10 ^ n) (Nat.gcd (10 ^ n) u) what, s1) := low_c N (10 ^ n) u (by omega) (by omega) (by omega) (by omega)
  have l2 : F_X8_lowest N (lN u) (lN (10 ^ n)) what s2 = some (lowV u (10 ^ n) (Nat.gcd (10 ^ n) u) what, s2) := by
    refine (low_m N u (10 ^ n)).trans ?_
    rw [Nat.gcd_comm]
    exact low_c N u (10 ^ n) (by omega) (by omega) (by omega) (by omega)
  refine ⟨lowV u (10 ^ n) (Nat.gcd (10 ^ n) u) what, s1, s2, ?_, ?_, hs1.trans f2⟩
  · unfold F_X0_findOdds
    rw [nm_s, nm_s, nm_s, show F_X0_findOdds_17 N N (nI v) (nI n) 0 _ = _ from e1, bd_s, eup, e5, l1, bd_s]
  · have eb : F_X8_byFails N (nI v) (nI n) (nI isM) what s1 = F_X8_byFails_32 N N (nI v) (nI n) (nI isM) what 0 (lN (10 ^ n)) 0 s1 := m_down hn N 0 (Nat.zero_le _) (by omega)
    rw [eb, show F_X8_byFails_32 N N (nI v) (nI n) (nI isM) what 0 (lN (10 ^ n)) 0 s1 = _ from f1, eu, l2, bd_s, bd_s]
theorem i_010 {N : Nat} {x : Int32} {σ : SS} : (InR x 0 11 → F_X0_in N x.toInt64 0 10 σ = some (1, σ)) ∧ (¬ InR x 0 11 → F_X0_in N x.toInt64 0 10 σ = some (0, σ)) := ⟨fun h => in_1 (a := 0) (b := 11) (by decide) (by decide) (by decide) h, fun h => in_0 (a := 0) (b := 11) (by decide) (by decide) (by decide) h⟩
theorem i_08 {N : Nat} {x : Int32} {σ : SS} : (InR x 0 9 → F_X0_in N x.toInt64 0 8 σ = some (1, σ)) ∧ (¬ InR x 0 9 → F_X0_in N x.toInt64 0 8 σ = some (0, σ)) := ⟨fun h => in_1 (a := 0) (b := 9) (by decide) (by decide) (by decide) h, fun h => in_0 (a := 0) (b := 9) (by decide) (by decide) (by decide) h⟩
theorem p_luck {N : Nat} (hN9 : 2 ^ 70 ≤ N) : Sp26 Inv N := by
  intro t σ x1 x2 x3 ht hI
  obtain ⟨P, nw, na, M, t9, hN⟩ := hI.now
  refine q_same8 (A := F_X0_luck N x1 x2 x3) (C := F_X8_luck N x1 x2 x3) hI ?_
  unfold F_X0_luck F_X8_luck
  by_cases h1 : InR x1 0 11
  · by_cases h2 : InR x2 0 9
    · by_cases h3 : InR x3 0 2
      · obtain ⟨v, -, hv, rfl⟩ := id h1
        obtain ⟨n, -, hn, rfl⟩ := id h2
        obtain ⟨r, σ1, σ2, e1, e2, e3⟩ := odds_both (N := N) (isM := 0) (what := x3) hN9 (show 10000 * t ≤ 1000000 by omega) hI hN (show v ≤ 10 by omega) (show n ≤ 8 by omega) (by omega)
        refine ⟨r, σ1, σ2, ?_, ?_, e3⟩
        · rw [i_010.1 h1, bd_s, if_neg e10, i_08.1 h2, bd_s, if_neg e10, c_isPart.1 h3, bd_s, if_neg e10]
          exact e1
        · rw [m_in_e, i_010.1 h1, bd_s, if_neg e10, m_in_e, i_08.1 h2, bd_s, if_neg e10, m_in_e, i_01.1 h3, bd_s, if_neg e10]
          exact e2
      · refine ⟨-1, σ, σ, ?_, ?_, Same.refl σ⟩
        · rw [i_010.1 h1, bd_s, if_neg e10, i_08.1 h2, bd_s, if_neg e10, c_isPart.2 h3, bd_s, if_pos rfl]
        · rw [m_in_e, i_010.1 h1, bd_s, if_neg e10, m_in_e, i_08.1 h2, bd_s, if_neg e10, m_in_e, i_01.2 h3, bd_s, if_pos rfl]
    · refine ⟨-1, σ, σ, ?_, ?_, Same.refl σ⟩
      · rw [i_010.1 h1, bd_s, if_neg e10, i_08.2 h2, bd_s, if_pos rfl]
      · rw [m_in_e, i_010.1 h1, bd_s, if_neg e10, m_in_e, i_08.2 h2, bd_s, if_pos rfl]
  · refine ⟨-1, σ, σ, ?_, ?_, Same.refl σ⟩
    · rw [i_010.2 h1, bd_s, if_pos rfl]
    · rw [m_in_e, i_010.2 h1, bd_s, if_pos rfl]
theorem p_mean {N : Nat} (hN9 : 2 ^ 70 ≤ N) : Sp27 Inv N := by
  intro t σ x1 x2 x3 ht hI
  obtain ⟨P, nw, na, M, t9, hN⟩ := hI.now
  refine q_same8 (A := F_X0_mean N x1 x2 x3) (C := F_X8_mean N x1 x2 x3) hI ?_
  unfold F_X0_mean F_X8_mean
  by_cases h1 : InR x1 0 11
  · by_cases h2 : InR x2 0 9
    · by_cases h3 : InR x3 0 2
      · obtain ⟨v, -, hv, rfl⟩ := id h1
        obtain ⟨n, -, hn, rfl⟩ := id h2
        obtain ⟨r, σ1, σ2, e1, e2, e3⟩ := odds_both (N := N) (isM := 1) (what := x3) hN9 (show 10000 * t ≤ 1000000 by omega) hI hN (show v ≤ 10 by omega) (show n ≤ 8 by omega) (by omega)
        refine ⟨r, σ1, σ2, ?_, ?_, e3⟩
        · rw [i_010.1 h1, bd_s, if_neg e10, i_08.1 h2, bd_s, if_neg e10, c_isPart.1 h3, bd_s, if_neg e10]
          exact e1
        · rw [m_in_e, i_010.1 h1, bd_s, if_neg e10, m_in_e, i_08.1 h2, bd_s, if_neg e10, m_in_e, i_01.1 h3, bd_s, if_neg e10]
          exact e2
      · refine ⟨-1, σ, σ, ?_, ?_, Same.refl σ⟩
        · rw [i_010.1 h1, bd_s, if_neg e10, i_08.1 h2, bd_s, if_neg e10, c_isPart.2 h3, bd_s, if_pos rfl]
        · rw [m_in_e, i_010.1 h1, bd_s, if_neg e10, m_in_e, i_08.1 h2, bd_s, if_neg e10, m_in_e, i_01.2 h3, bd_s, if_pos rfl]
    · refine ⟨-1, σ, σ, ?_, ?_, Same.refl σ⟩
      · rw [i_010.1 h1, bd_s, if_neg e10, i_08.2 h2, bd_s, if_pos rfl]
      · rw [m_in_e, i_010.1 h1, bd_s, if_neg e10, m_in_e, i_08.2 h2, bd_s, if_pos rfl]
  · refine ⟨-1, σ, σ, ?_, ?_, Same.refl σ⟩
    · rw [i_010.2 h1, bd_s, if_pos rfl]
    · rw [m_in_e, i_010.2 h1, bd_s, if_pos rfl]
