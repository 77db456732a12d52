/-! THE PLAIN LAW: what ticks keep: counters, swings -/
set_option maxRecDepth 100000
def sf (T : TT) (f : Int32) : TT := (T.1, T.2.1, T.2.2.1, T.2.2.2.1, f)
def mx (a b : Int32) : Int32 := if a < b then b else a
theorem sf_f (X : TT) (m : Int32) : (sf X m).2.2.2.2 = m := rfl
theorem sf_sf (X : TT) (a b : Int32) : sf (sf X a) b = sf X b := rfl
theorem mx_toInt (a b : Int32) : (mx a b).toInt = max a.toInt b.toInt := by
  unfold mx
  by_cases h : a < b
  · have := Int32.lt_iff_toInt_lt.mp h
    rw [if_pos h]; omega
  · have h2 : ¬ a.toInt < b.toInt := fun z => h (Int32.lt_iff_toInt_lt.mpr z)
    rw [if_neg h]; omega
theorem mx_assoc (a b c : Int32) : mx (mx a b) c = mx a (mx b c) := Int32.toInt_inj.mp (by simp only [mx_toInt]; omega)
theorem act_sf {T : TT} {f : Int32} {a : Nat} {b : Bool} : actP (sf T f) a b = sf (actP T a b) f := by
  unfold actP
  by_cases c1 : a < 100
  · rw [if_pos c1, if_pos c1]
    by_cases c2 : b = true
    · rw [if_pos c2, if_pos c2]
    · rw [if_neg c2, if_neg c2]; rfl
  · rw [if_neg c1, if_neg c1]
    by_cases c2 : a < 200
    · rw [if_pos c2, if_pos c2]; rfl
    · rw [if_neg c2, if_neg c2]; rfl
theorem loss_sf {f : Int32} : ∀ (n w : Nat) (T : TT), lossR (sf T f) n w = sf (lossR T n w) f := by
  intro n
  induction n with
  | zero => intro w T; rfl
  | succ n ih => intro w T; exact ih (w + 1) (lossW T w)
theorem tickBy_sf {T : TT} {nw : Nat} {f : Int32} : tickBy (sf T f) nw = sf (tickBy T nw) (mx f ((lossR T nw 0).1 35 / (lossR T nw 0).1 34)) := by
  show endT (lossR (sf T f) nw 0) = _
  rw [loss_sf nw 0 T]
  rfl
theorem tickBy_sf2 {T : TT} {nw : Nat} {g f : Int32} : tickBy (sf T (mx g f)) nw = sf (tickBy (sf T f) nw) (mx g (tickBy (sf T f) nw).2.2.2.2) := by
  rw [tickBy_sf (T := T) (f := mx g f), tickBy_sf (T := T) (f := f)]
  generalize (lossR T nw 0).1 35 / (lossR T nw 0).1 34 = z
  generalize tickBy T nw = X
  rw [sf_f, sf_sf, mx_assoc]
theorem tickT_sf2 {T : TT} {nw na t : Nat} {fails : Bool} {g f : Int32} : tickT (sf T (mx g f)) nw na t fails = sf (tickT (sf T f) nw na t fails) (mx g (tickT (sf T f) nw na t fails).2.2.2.2) := by
  unfold tickT
  by_cases c : na = 0 ∨ nI (t % na) = T.1 39
  · have c1 : na = 0 ∨ nI (t % na) = (sf T (mx g f)).1 39 := c
    have c2 : na = 0 ∨ nI (t % na) = (sf T f).1 39 := c
    rw [if_pos c1, if_pos c2]
    exact tickBy_sf2
  · have c1 : ¬ (na = 0 ∨ nI (t % na) = (sf T (mx g f)).1 39) := c
    have c2 : ¬ (na = 0 ∨ nI (t % na) = (sf T f).1 39) := c
    rw [if_neg c1, if_neg c2, act_sf (T := T) (f := mx g f), act_sf (T := T) (f := f)]
    exact tickBy_sf2
theorem tks_sf {nw na : Nat} {g : Int32} : ∀ (n t : Nat) (T : TT) (f : Int32), tks nw na (sf T (mx g f)) t n = sf (tks nw na (sf T f) t n) (mx g (tks nw na (sf T f) t n).2.2.2.2) := by
  intro n
  induction n with
  | zero => intro t T f; rfl
  | succ n ih =>
    intro t T f
    show tks nw na (tickT (sf T (mx g f)) nw na t false) (t + 1) n = sf (tks nw na (tickT (sf T f) nw na t false) (t + 1) n) (mx g (tks nw na (tickT (sf T f) nw na t false) (t + 1) n).2.2.2.2)
    rw [tickT_sf2]
    exact ih (t + 1) (tickT (sf T f) nw na t false) (tickT (sf T f) nw na t false).2.2.2.2
-- the page alone
theorem act_pg {T T' : TT} {a : Nat} {b : Bool} (h : T.1 = T'.1) : (actP T a b).1 = (actP T' a b).1 := by
  unfold actP loadP
  rw [h]
  by_cases c1 : a < 100
  · rw [if_pos c1, if_pos c1]
    by_cases c2 : b = true
    · rw [if_pos c2, if_pos c2]; exact h
    · rw [if_neg c2, if_neg c2]
  · rw [if_neg c1, if_neg c1]
    by_cases c2 : a < 200
    · rw [if_pos c2, if_pos c2]
    · rw [if_neg c2, if_neg c2]
theorem loss_pg : ∀ (n w : Nat) (T T' : TT), T.1 = T'.1 → (lossR T n w).1 = (lossR T' n w).1 := by
  intro n
  induction n with
  | zero => intro w T T' h; exact h
  | succ n ih =>
    intro w T T' h
    refine ih (w + 1) (lossW T w) (lossW T' w) ?_
    unfold lossW
    rw [h]
theorem tickBy_pg {T T' : TT} {nw : Nat} (h : T.1 = T'.1) : (tickBy T nw).1 = (tickBy T' nw).1 := by
  show pu (lossR T nw 0).1 36 ((lossR T nw 0).1 36 + 1) = pu (lossR T' nw 0).1 36 ((lossR T' nw 0).1 36 + 1)
  rw [loss_pg nw 0 T T' h]
theorem tick_pg {T T' : TT} {nw na t : Nat} {b : Bool} (h : T.1 = T'.1) : (tickT T nw na t b).1 = (tickT T' nw na t b).1 := by
  unfold tickT
  rw [h]
  by_cases c : na = 0 ∨ nI (t % na) = T'.1 39
  · rw [if_pos c, if_pos c]; exact tickBy_pg h
  · rw [if_neg c, if_neg c]; exact tickBy_pg (act_pg h)
-- the counters
theorem loss_c : ∀ (n w : Nat) (T : TT), (lossR T n w).2.1 = T.2.1 ∧ (lossR T n w).2.2.1 = T.2.2.1 := by
  intro n
  induction n with
  | zero => intro w T; exact ⟨rfl, rfl⟩
  | succ n ih => intro w T; exact ih (w + 1) (lossW T w)
def Cn (c l : Int32) (T : TT) : Prop := T.1 37 = c + T.2.1 ∧ T.1 38 = l + T.2.2.1
theorem Cn.act {c l : Int32} {T : TT} {a : Nat} {b : Bool} (h : Cn c l T) (ha : a ≤ 203) : Cn c l (actP T a b) := by
  unfold actP
  by_cases c1 : a < 100
  · rw [if_pos c1]
    by_cases c2 : b = true
    · rw [if_pos c2]; exact h
    · rw [if_neg c2]
      exact ⟨(show pu T.1 35 (T.1 35 + nI a) 37 = T.1 37 from pu_ne (by omega)).trans h.1, (show pu T.1 35 (T.1 35 + nI a) 38 = T.1 38 from pu_ne (by omega)).trans h.2⟩
  · rw [if_neg c1]
    by_cases c2 : a < 200
    · rw [if_pos c2]
      unfold loadP Cn
      simp only [pu_ne (show (37 : Nat) ≠ 38 by omega), pu_eq, h.1, h.2, Int32.add_assoc, and_self]
    · rw [if_neg c2]
      exact ⟨(join_36 (by omega) (by omega)).trans h.1, (join_36 (by omega) (by omega)).trans h.2⟩
theorem Cn.by {c l : Int32} {T : TT} {nw : Nat} (h : Cn c l T) (hn : nw ≤ 4) : Cn c l (tickBy T nw) := by
  obtain ⟨e1, e2⟩ := loss_c nw 0 T
  refine ⟨?_, ?_⟩
  · show pu (lossR T nw 0).1 36 ((lossR T nw 0).1 36 + 1) 37 = c + (lossR T nw 0).2.1
    rw [pu_ne (by omega), loss_ne (by omega) nw 0 T (by omega), e1]
    exact h.1
  · show pu (lossR T nw 0).1 36 ((lossR T nw 0).1 36 + 1) 38 = l + (lossR T nw 0).2.2.1
    rw [pu_ne (by omega), loss_ne (by omega) nw 0 T (by omega), e2]
    exact h.2
theorem Cn.tick {c l : Int32} {T : TT} {nw na M t : Nat} {b : Bool} (h : Cn c l T) (hF : Fx T.1 nw na M) : Cn c l (tickT T nw na t b) := by
  unfold tickT
  by_cases d : na = 0 ∨ nI (t % na) = T.1 39
  · rw [if_pos d]; exact h.by hF.1
  · rw [if_neg d]
    have hm : t % na < na := Nat.mod_lt _ (by omega)
    obtain ⟨a, ha, ea⟩ := hF.2.2.2.2.2.2 _ hm
    rw [ea, nI_clamp (by omega)]
    exact (h.act ha).by hF.1
theorem Cn.tks {c l : Int32} {nw na M : Nat} : ∀ (n t : Nat) (T : TT), Cn c l T → Fx T.1 nw na M → Cn c l (tks nw na T t n) := by
  intro n
  induction n with
  | zero => intro t T h _; exact h
  | succ n ih => intro t T h hF; exact ih (t + 1) _ (h.tick hF) hF.tick
theorem tks_ne {nw na M : Nat} {i : Nat} (hi : ¬ tw i) : ∀ (n t : Nat) (T : TT), Fx T.1 nw na M → (tks nw na T t n).1 i = T.1 i := by
  intro n
  induction n with
  | zero => intro t T _; rfl
  | succ n ih => intro t T hF; exact (ih (t + 1) _ hF.tick).trans (tickT_ne hF hi)
theorem tks_36 {nw na M : Nat} : ∀ (n t : Nat) (T : TT), Fx T.1 nw na M → T.1 36 = nI t → (tks nw na T t n).1 36 = nI (t + n) := by
  intro n
  induction n with
  | zero => intro t T _ h; exact h
  | succ n ih =>
    intro t T hF h
    have e := ih (t + 1) _ (hF.tick (t := t) (fails := false)) (by rw [tickT_36 hF, h]; exact nI_1 t)
    rw [show t + 1 + n = t + (n + 1) by omega] at e
    exact e
theorem Fx.tks {nw na M : Nat} {n t : Nat} {T : TT} (hF : Fx T.1 nw na M) : Fx (tks nw na T t n).1 nw na M := hF.same fun _ hi => tks_ne hi n t T hF
-- the swings, as naturals
theorem nI_nn {x : Int32} (h : 0 ≤ x.toInt) : ∃ n : Nat, n < 2 ^ 31 ∧ x = nI n ∧ x.toInt = n := by
  have h2 := x.toInt_lt
  refine ⟨x.toInt.toNat, by omega, Int32.toInt_inj.mp ?_, by omega⟩
  rw [nI_toInt (by omega)]
  omega
def Swn (B : Nat) (P : Pg) (a : Nat) (b : Nat → Nat) : Prop := P 35 = nI a ∧ (∀ w, w < 4 → P (12 + w) = nI (b w)) ∧ a + b 0 + b 1 + b 2 + b 3 ≤ B
theorem Sw.out {B : Nat} {P : Pg} (h : Sw B P) : ∃ a b, Swn B P a b := by
  obtain ⟨h1, h2, h3, h4, h5, h6⟩ := h
  obtain ⟨a, -, ea, ta⟩ := nI_nn h1
  obtain ⟨b0, -, e0, t0⟩ := nI_nn h2
  obtain ⟨b1, -, e1, t1⟩ := nI_nn h3
  obtain ⟨b2, -, e2, t2⟩ := nI_nn h4
  obtain ⟨b3, -, e3, t3⟩ := nI_nn h5
  refine ⟨a, fun w => if w = 0 then b0 else if w = 1 then b1 else if w = 2 then b2 else b3, ea, fun w hw => ?_, ?_⟩
  · rcases four hw with rfl | rfl | rfl | rfl
    · exact e0
    · exact e1
    · exact e2
    · exact e3
  · show a + b0 + b1 + b2 + b3 ≤ B
    omega
theorem Swn.sw {B a : Nat} {b : Nat → Nat} {P : Pg} (h : Swn B P a b) (hB : B < 2 ^ 31) : Sw B P := by
  obtain ⟨h1, h2, h3⟩ := h
  have e0 := h2 0 (by omega)
  have e1 := h2 1 (by omega)
  have e2 := h2 2 (by omega)
  have e3 := h2 3 (by omega)
  have f0 : P 12 = nI (b 0) := e0
  have f1 : P 13 = nI (b 1) := e1
  have f2 : P 14 = nI (b 2) := e2
  have f3 : P 15 = nI (b 3) := e3
  unfold Sw
  rw [h1, f0, f1, f2, f3, nI_toInt (by omega), nI_toInt (by omega), nI_toInt (by omega), nI_toInt (by omega), nI_toInt (by omega)]
  omega
theorem Swn.at {B a : Nat} {b : Nat → Nat} {P : Pg} (h : Swn B P a b) {w : Nat} (hw : w < 4) : P (12 + w) = nI (b w) ∧ a + b w ≤ B := by
  refine ⟨h.2.1 w hw, ?_⟩
  have := h.2.2
  rcases four hw with rfl | rfl | rfl | rfl <;> omega
def up1 (b : Nat → Nat) (w x : Nat) : Nat → Nat := fun u => if u = w then x else b u
theorem Swn.put {B a : Nat} {b : Nat → Nat} {P : Pg} (h : Swn B P a b) {w : Nat} (hw : w < 4) {a' x B' : Nat} (hs : a' + x + B ≤ a + b w + B') {P' : Pg} (h35 : P' 35 = nI a') (hx : P' (12 + w) = nI x) (ho : ∀ u, u < 4 → u ≠ w → P' (12 + u) = P (12 + u)) : Swn B' P' a' (up1 b w x) := by
  refine ⟨h35, fun u hu => ?_, ?_⟩
  · unfold up1
    by_cases e : u = w
    · rw [if_pos e, e]; exact hx
    · rw [if_neg e, ho u hu e]
      exact h.2.1 u hu
  · have h3 := h.2.2
    rcases four hw with rfl | rfl | rfl | rfl
    · show a' + x + b 1 + b 2 + b 3 ≤ B'
      omega
    · show a' + b 0 + x + b 2 + b 3 ≤ B'
      omega
    · show a' + b 0 + b 1 + x + b 3 ≤ B'
      omega
    · show a' + b 0 + b 1 + b 2 + x ≤ B'
      omega
theorem nI_min {x y : Nat} (hx : x < 2 ^ 31) (hy : y < 2 ^ 31) : (if nI x < nI y then nI x else nI y) = nI (min x y) := by
  by_cases c : x < y
  · rw [if_pos (nI_lt c hy), Nat.min_eq_left (by omega)]
  · rw [if_neg (nI_nlt (by omega) hx), Nat.min_eq_right (by omega)]
theorem nI_max {x y : Nat} (hx : x < 2 ^ 31) (hy : y < 2 ^ 31) : (if nI x < nI y then nI y else nI x) = nI (max x y) := by
  by_cases c : x < y
  · rw [if_pos (nI_lt c hy), Nat.max_eq_right (by omega)]
  · rw [if_neg (nI_nlt (by omega) hx), Nat.max_eq_left (by omega)]
theorem half_b {b e : Nat} (hb : b < 2 ^ 29) (he : e < 2 ^ 29) : ∃ j, j ≤ max b e ∧ nI b + (nI e - nI b) / 2 = nI j := by
  by_cases c : b ≤ e
  · refine ⟨b + (e - b) / 2, by omega, ?_⟩
    rw [nI_sub c, show (2 : Int32) = nI 2 from rfl, nI_divN (by omega) (by omega), nI_add]
  · refine ⟨b - (b - e) / 2, by omega, Int32.toInt_inj.mp ?_⟩
    have h1 : (nI e - nI b).toInt = -((b - e : Nat) : Int) := by
      rw [Int32.toInt_sub, nI_toInt (by omega), nI_toInt (by omega)]
      exact (Int.bmod_eq_of_le (by omega) (by omega)).trans (by omega)
    have h2 : ((nI e - nI b) / 2).toInt = -(((b - e) / 2 : Nat) : Int) := by
      rw [Int32.toInt_div, h1, show (2 : Int32).toInt = ((2 : Nat) : Int) by decide, Int.neg_tdiv, ← Int.ofNat_tdiv]
      exact Int.bmod_eq_of_le (by omega) (by omega)
    rw [Int32.toInt_add, h2, nI_toInt (by omega), nI_toInt (by omega)]
    exact (Int.bmod_eq_of_le (by omega) (by omega)).trans (by omega)
theorem joined_b {B a nw na M w : Nat} {b : Nat → Nat} {P : Pg} (hF : Fx P nw na M) (h : Swn B P a b) (hB : B ≤ 100000000) (hw : w < nw) : ∃ j, j ≤ a + b w ∧ joinedP P w = nI j := by
  obtain ⟨h1, h2, h3, h4, h5, h6, h7⟩ := hF
  obtain ⟨⟨kd, hk, ek⟩, ⟨m, hm1, hm2, em⟩, -⟩ := h6 w hw
  obtain ⟨g1, g2⟩ := h.at (show w < 4 by omega)
  have hmul : (a + b w) * m ≤ 100000000 * 20 := Nat.mul_le_mul (by omega) hm2
  have hle : ((a + b w) * m) / (M + m) ≤ a + b w := Nat.div_le_of_le_mul (by
    rw [Nat.mul_comm]
    exact Nat.mul_le_mul_right _ (by omega))
  have ee : evenP P w = nI (((a + b w) * m) / (M + m)) := by
    unfold evenP
    rw [h.1, g1, em, h5.2.2, nI_add, nI_mulN, nI_add, nI_divN (by omega) (by omega)]
  unfold joinedP
  rw [ee, g1, ek]
  generalize ((a + b w) * m) / (M + m) = e at hle ⊢
  unfold jn
  rcases four hk with rfl | rfl | rfl | rfl
  · exact ⟨e, hle, rfl⟩
  · obtain ⟨j, hj, ej⟩ := half_b (b := b w) (e := e) (by omega) (by omega)
    refine ⟨j, by omega, ?_⟩
    rw [if_neg (by decide), if_pos (by decide)]
    exact ej
  · refine ⟨max (b w) e, by omega, ?_⟩
    rw [if_neg (by decide), if_neg (by decide), if_pos (by decide)]
    exact nI_max (by omega) (by omega)
  · refine ⟨min (max (b w) e) (b w + 20), by omega, ?_⟩
    rw [if_neg (by decide), if_neg (by decide), if_neg (by decide), nI_max (by omega) (by omega), show nI (b w) + 20 = nI (b w + 20) from nI_add (b w) 20]
    exact nI_min (by omega) (by omega)
/-- swings, and what is done of late -/
def SD (B K : Nat) (T : TT) : Prop := Sw B T.1 ∧ ∃ d, d ≤ K ∧ T.2.1 = nI d
theorem Swn.joins {B a nw na M w : Nat} {b : Nat → Nat} {P : Pg} (hF : Fx P nw na M) (h : Swn B P a b) (hB : B ≤ 100000000) (hw : w < 4) : ∃ a' b', Swn B (joinP P w) a' b' := by
  unfold joinP
  by_cases c1 : P 16 ≤ nI w
  · rw [if_pos c1]; exact ⟨a, b, h⟩
  · rw [if_neg c1]
    by_cases c2 : nI w = P 40
    · rw [if_pos c2]; exact ⟨a, b, h⟩
    · rw [if_neg c2]
      have hlt : w < nw := by
        rw [hF.2.1] at c1
        exact Nat.lt_of_not_le fun z => c1 (nI_le z (by omega))
      obtain ⟨j, hj, ej⟩ := joined_b hF h hB hlt
      obtain ⟨g1, g2⟩ := h.at hw
      refine ⟨a + b w - j, up1 b w j, h.put (a' := a + b w - j) hw (by omega) ?_ ?_ fun u hu hne => ?_⟩
      · rw [pu_eq, ej, h.1, g1, nI_add, nI_sub hj]
      · rw [pu_ne (by omega), pu_eq, ej]
      · rw [pu_ne (by omega), pu_ne (by omega)]
theorem SD.act {B K nw na M a : Nat} {T : TT} {fails : Bool} (hF : Fx T.1 nw na M) (h : SD B K T) (hB : B + 99 ≤ 100000000) (hK : K + 99 < 2 ^ 31) (ha : a ≤ 203) : SD (B + 99) (K + 99) (actP T a fails) := by
  obtain ⟨hS, d, hd, ed⟩ := h
  obtain ⟨s, b, hn⟩ := hS.out
  have hs := hn.2.2
  unfold actP
  by_cases c1 : a < 100
  · rw [if_pos c1]
    by_cases c2 : fails = true
    · rw [if_pos c2]; exact ⟨hS.mono (by omega), d, by omega, ed⟩
    · rw [if_neg c2]
      refine ⟨Swn.sw (a := s + a) (b := b) ⟨?_, fun w hw => ?_, by omega⟩ (by omega), d, by omega, ed⟩
      · show pu T.1 35 (T.1 35 + nI a) 35 = _
        rw [pu_eq, hn.1, nI_add]
      · show pu T.1 35 (T.1 35 + nI a) (12 + w) = _
        rw [pu_ne (by omega)]
        exact hn.2.1 w hw
  · rw [if_neg c1]
    by_cases c2 : a < 200
    · rw [if_pos c2]
      have eg : (if T.1 35 < nI (a - 100) then T.1 35 else nI (a - 100)) = nI (min s (a - 100)) := by rw [hn.1]; exact nI_min (by omega) (by omega)
      unfold loadP SD
      simp only [eg]
      refine ⟨Swn.sw (a := s - min s (a - 100)) (b := b) ⟨?_, fun w hw => ?_, by omega⟩ (by omega), d + min s (a - 100), by omega, by rw [ed, nI_add]⟩
      · rw [pu_ne (by omega), pu_ne (by omega), pu_eq, hn.1, nI_sub (by omega)]
      · rw [pu_ne (by omega), pu_ne (by omega), pu_ne (by omega)]
        exact hn.2.1 w hw
    · rw [if_neg c2]
      obtain ⟨s', b', hn'⟩ := hn.joins hF (by omega) (show a - 200 < 4 by omega)
      exact ⟨Sw.mono (hn'.sw (by omega)) (by omega), d, by omega, ed⟩
theorem SD.loss {B K nw na M : Nat} (hB : B ≤ 100000000) : ∀ (n w : Nat) (T : TT), Fx T.1 nw na M → SD B K T → w + n ≤ nw → SD B K (lossR T n w) := by
  intro n
  induction n with
  | zero => intro w T _ h _; exact h
  | succ n ih =>
    intro w T hF h hw
    have h4 := hF.1
    refine ih (w + 1) (lossW T w) (hF.lossW (by omega)) ?_ (by omega)
    obtain ⟨hS, d, hd, ed⟩ := h
    obtain ⟨s, b, hn⟩ := hS.out
    obtain ⟨-, -, l, hl, el⟩ := hF.2.2.2.2.2.1 w (by omega)
    obtain ⟨g1, g2⟩ := hn.at (show w < 4 by omega)
    have eb : byW T.1 w = nI (min (b w) l) := by
      unfold byW
      rw [g1, el]
      exact nI_min (by omega) (by omega)
    refine ⟨(hn.put (P' := pu T.1 (12 + w) (T.1 (12 + w) - byW T.1 w)) (B' := B) (a' := s) (x := b w - min (b w) l) (show w < 4 by omega) (by omega) ?_ ?_ fun u hu hne => ?_).sw (by omega), d, hd, ed⟩
    · rw [pu_ne (by omega)]; exact hn.1
    · rw [pu_eq, eb, g1, nI_sub (by omega)]
    · rw [pu_ne (by omega)]
theorem SD.by {B K nw na M : Nat} {T : TT} (hF : Fx T.1 nw na M) (h : SD B K T) (hB : B ≤ 100000000) : SD B K (tickBy T nw) := by
  obtain ⟨hS, d, hd, ed⟩ := SD.loss hB nw 0 T hF h (by omega)
  refine ⟨?_, d, hd, ed⟩
  show Sw B (pu (lossR T nw 0).1 36 _)
  exact hS.pu (Nat.le_refl _) (by omega)
theorem SD.tick {B K nw na M t : Nat} {T : TT} {fails : Bool} (hF : Fx T.1 nw na M) (h : SD B K T) (hB : B + 99 ≤ 100000000) (hK : K + 99 < 2 ^ 31) : SD (B + 99) (K + 99) (tickT T nw na t fails) := by
  unfold tickT
  by_cases c : na = 0 ∨ nI (t % na) = T.1 39
  · rw [if_pos c]
    obtain ⟨hS, d, hd, ed⟩ := h
    exact SD.by hF ⟨hS.mono (by omega), d, by omega, ed⟩ hB
  · rw [if_neg c]
    have hm : t % na < na := Nat.mod_lt _ (by omega)
    obtain ⟨a, ha, ea⟩ := hF.2.2.2.2.2.2 _ hm
    rw [ea, nI_clamp (by omega)]
    exact SD.by (hF.act ha) (SD.act hF h hB hK ha) hB
theorem SD.tks {nw na M : Nat} : ∀ (n t B K : Nat) (T : TT), Fx T.1 nw na M → SD B K T → B + 99 * n ≤ 100000000 → K + 99 * n < 2 ^ 31 → SD (B + 99 * n) (K + 99 * n) (tks nw na T t n) := by
  intro n
  induction n with
  | zero => intro t B K T _ h _ _; exact h
  | succ n ih =>
    intro t B K T hF h hB hK
    have e := ih (t + 1) (B + 99) (K + 99) _ (hF.tick (t := t) (fails := false)) (SD.tick hF h (by omega) (by omega)) (by omega) (by omega)
    rw [show B + 99 + 99 * n = B + 99 * (n + 1) by omega, show K + 99 + 99 * n = K + 99 * (n + 1) by omega] at e
    exact e
