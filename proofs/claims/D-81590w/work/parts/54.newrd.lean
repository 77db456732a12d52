/-! A NEW READER: its constructor; FlyWheels.text -/
set_option maxRecDepth 100000
theorem at_mid {α : Type} {w v : List α} {x : α} : (w ++ (x :: v))[w.length]? = some x := by rw [List.getElem?_append_right (Nat.le_refl _), Nat.sub_self]; rfl
theorem set_mid {α : Type} {w v : List α} {x y : α} : (w ++ (x :: v)).set w.length y = w ++ (y :: v) := by rw [List.set_append_right _ _ (Nat.le_refl _), Nat.sub_self]; rfl
/-- behind a callee that knew one cell of the list, the last -/
theorem join1 {A0 : Nat → Prop} {D : va_G} {cl : List vw_C} {w w1 : va_W} {b : Nat} {e : va_E} {H H1 : Heap} (hP : va_P D cl (w ++ [(b, e)]) H) (hD : va_D A0 (w ++ [(b, e)])) (hk : ∀ z : Nat, z < H.size → ¬ va_A [(b, e)] H.size z → H1[z]? = H[z]?) (hF : ∀ z, va_A [(b, e)] H.size z → A0 z) (hP1 : va_P D cl w1 H1) (hD1 : va_D (va_A [(b, e)] H.size) w1) : va_P D cl (w ++ w1) H1 ∧ va_D A0 (w ++ w1) := by
  have key : ∀ (k : Nat) (y : Nat × va_E), w[k]? = some y → y.1 < H.size ∧ ¬ va_A [(b, e)] H.size y.1 := fun k y hy => by
    have hl := (pw_left hP k y hy).lt
    refine ⟨hl, fun h => ?_⟩
    rcases h with ⟨k2, e2, h2⟩ | h2
    · cases k2 with
      | zero =>
        have h3 : b = y.1 := congrArg Prod.fst (Option.some.inj h2)
        exact pd_ne hD hy (j := 0) rfl h3.symm
      | succ k2 => cases h2
    · exact absurd hl (Nat.not_lt.mpr h2)
  refine ⟨((pw_left hP).kept (fun k y hy => hk y.1 (key k y hy).1 (key k y hy).2)).app hP1, (pd_left hD).app (hD1.weaken (fun _ _ _ h => hF _ h)) (fun i j p q hi hj e9 => ?_)⟩
  have h1 := hD1.2 j q hj
  rw [← e9] at h1
  exact (key i p hi).2 h1
/-- the ids with a reader, out of those without -/
def qm (q u : Nat → Nat) : Nat → Nat := fun i => if i = 32 ∨ 80 ≤ i then u i else q i
def rdu (a b : Nat) (u : Nat → Nat) : Nat → Nat := fun i => if i = 32 then a else if i = 80 then b else if i = 81 then u 0 else if i = 82 then u 5 else u (i - 82)
def rdz (σ : SS) (x : Int32) : SS := (fun g i => if g = 32 then (if i = 0 then x else 0) else if g = 80 then (if i = 34 then 5 else if i = 39 ∨ i = 40 then -4 else 0) else if g = 82 then 0 else σ.1 g i, σ.2)
theorem qm_lo {q u : Nat → Nat} {i : Nat} (h1 : i ≠ 32) (h2 : i < 80) : qm q u i = q i := if_neg (by omega)
theorem wi_tf {d : Nat → Nat × Nat} {i : Nat} (h : i ∈ wi true d) : (i ∈ wi false d ∧ i ≠ 32 ∧ i < 80) ∨ i = 32 ∨ (80 ≤ i ∧ i < 87) := by
  rw [wi_mem] at h
  by_cases h1 : i = 32
  · exact Or.inr (Or.inl h1)
  by_cases h2 : i < 80
  · refine Or.inl ⟨?_, h1, h2⟩
    rw [wi_mem]
    refine ⟨h.1, ?_⟩
    have h3 := h.2
    rw [if_neg h1] at h3 ⊢
    rw [if_pos h2] at h3 ⊢
    exact h3
  · refine Or.inr (Or.inr ⟨by omega, ?_⟩)
    have h3 := h.2
    rw [if_neg (by omega), if_neg (by omega), if_neg (by omega), if_neg h1, if_neg (by omega), if_neg h2] at h3
    have h4 : (i - 40) % 10 < 7 := by simpa using h3
    omega
theorem wi_ft {d : Nat → Nat × Nat} {i : Nat} (h : i ∈ wi false d) : i ∈ wi true d ∧ i ≠ 32 ∧ i < 80 := by
  rw [wi_mem] at h
  have h32 : i ≠ 32 := by
    intro e
    have h3 := h.2
    subst e
    cases h3
  have h80 : i < 80 := by
    refine Nat.lt_of_not_le fun h8 => ?_
    have h3 := h.2
    rw [if_neg (by omega), if_neg (by omega), if_neg (by omega), if_neg h32, if_neg (by omega), if_neg (by omega)] at h3
    cases h3
  refine ⟨?_, h32, h80⟩
  rw [wi_mem]
  refine ⟨h.1, ?_⟩
  have h3 := h.2
  rw [if_neg h32] at h3 ⊢
  rw [if_pos h80] at h3 ⊢
  exact h3
/-- does a form keep away from the reader's ids and groups? -/
def tokW (t : Tm) : Bool := match t with
  | .inl o => o.2.all (fun s => (s.1 != 0 && s.1 != 2) || (decide (s.2.1 < 80) && s.2.1 != 32))
  | .inr a => (a.1 != 1 || (decide (a.2.2.2.1 + a.2.2.2.2 * a.2.2.1 ≤ 80) && (decide (33 ≤ a.2.2.2.1) || decide (a.2.2.2.1 + a.2.2.2.2 * a.2.2.1 ≤ 32)) && decide (0 < a.2.2.2.2))) && (a.1 == 1 || (decide (a.2.2.2.1 < 80) && a.2.2.2.1 != 32))
theorem tokW_e {t : Tm} (h : tokW t = true) {q u : Nat → Nat} : (∀ ci fs, t = .inl (ci, fs) → ∀ r, r ∈ fs → r.1 = 2 → qm q u r.2.1 = q r.2.1) ∧ (∀ ty n g st, t = .inr (1, ty, n, g, st) → ∀ j, j < n → qm q u (g + st * j) = q (g + st * j)) := by
  refine ⟨fun ci fs e r hr hk => ?_, fun ty n g st e j hj => ?_⟩
  · subst e
    have h3 := List.all_eq_true.mp (show fs.all (fun s => (s.1 != 0 && s.1 != 2) || (decide (s.2.1 < 80) && s.2.1 != 32)) = true from h) r hr
    rw [hk] at h3
    simp at h3
    exact qm_lo h3.2 h3.1
  · subst e
    have h3 : ((decide (g + st * n ≤ 80) && (decide (33 ≤ g) || decide (g + st * n ≤ 32)) && decide (0 < st)) && true) = true := h
    simp at h3
    obtain ⟨⟨h1, h2⟩, h5⟩ := h3
    have h6 : st * j < st * n := Nat.mul_lt_mul_of_pos_left hj h5
    exact qm_lo (by omega) (by omega)
/-- a form's value, where two states agree away from the reader's groups -/
theorem ev_away {dA : Nat → ClassId} {q : Nat → Nat} {σ σ' : SS} {t : Tm} (h : tokW t = true) (h1 : ∀ g i, g ≠ 32 → g < 80 → σ'.1 g i = σ.1 g i) (h2 : σ'.2 = σ.2) : ev dA q σ' t = ev dA q σ t := by
  match t, h with
  | .inl (ci, fs), h =>
    have e : fs.map (sv q σ') = fs.map (sv q σ) := List.map_congr_left fun r hr => by
      have h3 := List.all_eq_true.mp (show fs.all (fun s => (s.1 != 0 && s.1 != 2) || (decide (s.2.1 < 80) && s.2.1 != 32)) = true from h) r hr
      obtain ⟨a, b, c⟩ := r
      match a, h3 with
      | 0, h3 =>
        simp at h3
        exact congrArg Value.int (h1 b c h3.2 h3.1)
      | 1, _ => exact congrArg Value.long (by rw [h2])
      | 2, _ => rfl
      | _ + 3, _ => rfl
    show (Sum.inr (ci, fs.map (sv q σ')) : va_E) = _
    rw [e]
    rfl
  | .inr (a, ty, n, g, st), h =>
    match a, h with
    | 1, _ => rfl
    | 0, h =>
      have h3 : (decide (g < 80) && g != 32) = true := by simpa [tokW] using h
      simp at h3
      have e : (fun j => σ'.1 g j) = fun j => σ.1 g j := funext fun j => h1 g j h3.2 h3.1
      show (Sum.inl (dA ty, n, .inl (fun j => σ'.1 g j)) : va_E) = _
      rw [e]
      rfl
    | a + 2, h =>
      have h3 : (decide (g < 80) && g != 32) = true := by simpa [tokW] using h
      simp at h3
      have e : (fun j => σ'.1 g j) = fun j => σ.1 g j := funext fun j => h1 g j h3.2 h3.1
      show (Sum.inl (dA ty, n, .inl (fun j => σ'.1 g j)) : va_E) = _
      rw [e]
      rfl
theorem tokS {p : Nat × Nat} {j : Nat} (hj : j < 4) : tokW (shO p j) = true ∧ tokW (shT p j) = true := by
  constructor
  · unfold shO
    split
    · rfl
    · simp [tokW]; omega
  · simp [tokW, shT]; omega
theorem tok_f {d : Nat → Nat × Nat} {i : Nat} (h : i < 80) (h32 : i ≠ 32) (h33 : i < 32 ∨ (40 ≤ i ∧ (i - 40) % 10 < 7)) : tokW (tm d i) = true := by
  by_cases h1 : i < 32
  · rw [tm_lo d (by omega)]
    clear h h32 h33
    rcases (show i = 0 ∨ i = 1 ∨ i = 2 ∨ i = 3 ∨ i = 4 ∨ i = 5 ∨ i = 6 ∨ i = 7 ∨ i = 8 ∨ i = 9 ∨ i = 10 ∨ i = 11 ∨ i = 12 ∨ i = 13 ∨ i = 14 ∨ i = 15 ∨ i = 16 ∨ i = 17 ∨ i = 18 ∨ i = 19 ∨ i = 20 ∨ i = 21 ∨ i = 22 ∨ i = 23 ∨ i = 24 ∨ i = 25 ∨ i = 26 ∨ i = 27 ∨ i = 28 ∨ i = 29 ∨ i = 30 ∨ i = 31 by omega) with rfl | rfl | rfl | rfl | rfl | rfl | rfl | rfl | rfl | rfl | rfl | rfl | rfl | rfl | rfl | rfl | rfl | rfl | rfl | rfl | rfl | rfl | rfl | rfl | rfl | rfl | rfl | rfl | rfl | rfl | rfl | rfl
    all_goals first
      | rfl
      | exact (tokS (by decide)).1
      | exact (tokS (by decide)).2
  · have h4 : 40 ≤ i := by omega
    have h5 : (i - 40) % 10 < 7 := by omega
    unfold tm
    rw [if_neg (by omega)]
    have h6 : (i - 40) / 10 < 4 := by omega
    generalize (i - 40) / 10 = k at h6 ⊢
    generalize (i - 40) % 10 = r at h5 ⊢
    clear h h32 h33 h1 h4
    rcases (show k = 0 ∨ k = 1 ∨ k = 2 ∨ k = 3 by omega) with rfl | rfl | rfl | rfl <;> rcases (show r = 0 ∨ r = 1 ∨ r = 2 ∨ r = 3 ∨ r = 4 ∨ r = 5 ∨ r = 6 by omega) with rfl | rfl | rfl | rfl | rfl | rfl | rfl <;> decide
theorem wi_f33 {d : Nat → Nat × Nat} {i : Nat} (h : i ∈ wi false d) : i < 32 ∨ (40 ≤ i ∧ (i - 40) % 10 < 7) := by
  have h0 := wi_ft h
  rw [wi_mem] at h
  by_cases h1 : i < 32
  · exact Or.inl h1
  · refine Or.inr ?_
    have h3 := h.2
    rw [if_neg (by omega), if_neg (by omega), if_neg h1, if_neg h0.2.1] at h3
    by_cases h4 : i < 40
    · rw [if_pos h4] at h3
      cases h3
    · rw [if_neg h4, if_pos h0.2.2] at h3
      exact ⟨by omega, by simpa using h3⟩
/-- the reader is gone -/
theorem wx_drop {G : GG} {q u : Nat → Nat} {σ : SS} {H : Heap} (hw : wx G true (qm q u) σ H) : wx G false q σ H := by
  refine wx_of (fun i hi => ?_) (fun i j hi hj e => ?_) (fun i hi => ?_)
  · obtain ⟨h1, h2, h3⟩ := wi_ft hi
    have h4 := wx_at hw h1
    rw [qm_lo h2 h3] at h4
    have ht := tokW_e (tok_f (d := σ.2.2) h3 h2 (wi_f33 hi)) (q := q) (u := u)
    exact va_at_q (q := qm q u) (fun ci fs e r hr hk => (ht.1 ci fs e r hr hk).symm) (fun ty n g st e j hj => (ht.2 ty n g st e j hj).symm) h4
  · obtain ⟨h1, h2, h3⟩ := wi_ft hi
    obtain ⟨g1, g2, g3⟩ := wi_ft hj
    exact wx_inj hw h1 g1 (by rw [qm_lo h2 h3, qm_lo g2 g3]; exact e)
  · obtain ⟨h1, h2, h3⟩ := wi_ft hi
    have h4 := wx_fa hw h1
    rw [qm_lo h2 h3] at h4
    exact h4
/-- the place of a reader's cell in the list of the new cells -/
def rdk (i : Nat) : Nat := if i = 32 then 0 else if i = 80 then 1 else if i = 81 then 2 else if i = 82 then 7 else i - 80
abbrev rdN (G : GG) (q : Nat → Nat) (x2 : Int32) (a b : Nat) (u : Nat → Nat) : va_W := (a, .inr (9, [.int x2, .ref b, .int 0, .int 0, .int 0, .int 0, .int 0, .ref (q 0)])) :: wlX5_init G b u
theorem rd_at {G : GG} {q : Nat → Nat} {σ : SS} {x2 : Int32} {a b : Nat} {u : Nat → Nat} {i : Nat} (h : i = 32 ∨ (80 ≤ i ∧ i < 87)) : ∃ e, (rdN G q x2 a b u)[rdk i]? = some (qm q (rdu a b u) i, e) ∧ ∀ H, va_at G.1 clT (qm q (rdu a b u) i, e) H → va_at G.1 clT (qm q (rdu a b u) i, ev G.2.1 (qm q (rdu a b u)) (rdz σ x2) (tm σ.2.2 i)) H := by
  rcases (show i = 32 ∨ i = 80 ∨ i = 81 ∨ i = 82 ∨ i = 83 ∨ i = 84 ∨ i = 85 ∨ i = 86 by omega) with rfl | rfl | rfl | rfl | rfl | rfl | rfl | rfl
  · exact ⟨_, rfl, fun H h => h⟩
  · exact ⟨_, rfl, fun H h => h⟩
  · refine ⟨_, rfl, fun H h => ?_⟩
    show H[u 0]? = some (vp_cell (G.2.1 5) (4, .inr (.inr (.inr (.inr (fun j => some (qm q (rdu a b u) (83 + 1 * j))))))))
    rw [cell_q (g := va_up (va_up (va_up (va_up (fun _ => none) (0 : Int32).toNatClampNeg (some (u 1))) (1 : Int32).toNatClampNeg (some (u 2))) (2 : Int32).toNatClampNeg (some (u 3))) (3 : Int32).toNatClampNeg (some (u 4))) (fun j hj => by rcases (show j = 0 ∨ j = 1 ∨ j = 2 ∨ j = 3 by omega) with rfl | rfl | rfl | rfl <;> rfl)]
    exact h
  · exact ⟨_, rfl, fun H h => h⟩
  · exact ⟨_, rfl, fun H h => h⟩
  · exact ⟨_, rfl, fun H h => h⟩
  · exact ⟨_, rfl, fun H h => h⟩
  · exact ⟨_, rfl, fun H h => h⟩
theorem rdk_inj {i j : Nat} (hi : i = 32 ∨ (80 ≤ i ∧ i < 87)) (hj : j = 32 ∨ (80 ≤ j ∧ j < 87)) (e : rdk i = rdk j) : i = j := by
  rcases (show i = 32 ∨ i = 80 ∨ i = 81 ∨ i = 82 ∨ i = 83 ∨ i = 84 ∨ i = 85 ∨ i = 86 by omega) with rfl | rfl | rfl | rfl | rfl | rfl | rfl | rfl <;> rcases (show j = 32 ∨ j = 80 ∨ j = 81 ∨ j = 82 ∨ j = 83 ∨ j = 84 ∨ j = 85 ∨ j = 86 by omega) with rfl | rfl | rfl | rfl | rfl | rfl | rfl | rfl <;> first | rfl | exact absurd e (by decide)
/-- the world with a new reader -/
theorem wx_rd {G : GG} {q : Nat → Nat} {σ : SS} {H : Heap} {x2 : Int32} {a b : Nat} {u : Nat → Nat} (hP : va_P G.1 clT (wc G.2.1 false q σ ++ rdN G q x2 a b u) H) (hD : va_D (fa G) (wc G.2.1 false q σ ++ rdN G q x2 a b u)) : wx G true (qm q (rdu a b u)) (rdz σ x2) H := by
  have hw : wx G false q σ H := wx_left hP hD
  have hP2 := pw_last hP
  have hD2 := pd_last hD
  refine wx_of (fun i hi => ?_) (fun i j hi hj e => ?_) (fun i hi => ?_)
  · rcases wi_tf hi with ⟨h1, h2, h3⟩ | h1
    · have h4 := wx_at hw h1
      have hk := tok_f (d := σ.2.2) h3 h2 (wi_f33 h1)
      have ht := tokW_e hk (q := q) (u := rdu a b u)
      rw [qm_lo h2 h3]
      show va_at G.1 clT (q i, ev G.2.1 (qm q (rdu a b u)) (rdz σ x2) (tm σ.2.2 i)) H
      rw [ev_away (σ := σ) (σ' := rdz σ x2) hk (fun g i g1 g2 => by
        show (if g = 32 then _ else if g = 80 then _ else if g = 82 then _ else σ.1 g i) = σ.1 g i
        rw [if_neg g1, if_neg (by omega), if_neg (by omega)]) rfl]
      exact va_at_q ht.1 ht.2 h4
    · obtain ⟨e, e1, e2⟩ := rd_at (G := G) (q := q) (σ := σ) (x2 := x2) (a := a) (b := b) (u := u) h1
      exact e2 H (hP2 _ _ e1)
  · rcases wi_tf hi with ⟨h1, h2, h3⟩ | h1 <;> rcases wi_tf hj with ⟨g1, g2, g3⟩ | g1
    · exact wx_inj hw h1 g1 (by rw [qm_lo h2 h3, qm_lo g2 g3] at e; exact e)
    · obtain ⟨e9, e1, e2⟩ := rd_at (G := G) (q := q) (σ := σ) (x2 := x2) (a := a) (b := b) (u := u) g1
      obtain ⟨k1, -, b1⟩ := wc_at (dA := G.2.1) (q := q) (σ := σ) h1
      have e3 : q i = qm q (rdu a b u) j := by rw [← qm_lo (q := q) (u := rdu a b u) h2 h3]; exact e
      exact absurd e3 (pd_ne hD b1 e1)
    · obtain ⟨e9, e1, e2⟩ := rd_at (G := G) (q := q) (σ := σ) (x2 := x2) (a := a) (b := b) (u := u) h1
      obtain ⟨k1, -, b1⟩ := wc_at (dA := G.2.1) (q := q) (σ := σ) g1
      have e3 : q j = qm q (rdu a b u) i := by rw [← qm_lo (q := q) (u := rdu a b u) g2 g3]; exact e.symm
      exact absurd e3 (pd_ne hD b1 e1)
    · obtain ⟨e9, e1, e2⟩ := rd_at (G := G) (q := q) (σ := σ) (x2 := x2) (a := a) (b := b) (u := u) h1
      obtain ⟨e8, d1, d2⟩ := rd_at (G := G) (q := q) (σ := σ) (x2 := x2) (a := a) (b := b) (u := u) g1
      exact rdk_inj h1 g1 (hD2.1 _ _ _ _ e1 d1 e)
  · rcases wi_tf hi with ⟨h1, h2, h3⟩ | h1
    · rw [qm_lo h2 h3]
      exact wx_fa hw h1
    · obtain ⟨e, e1, e2⟩ := rd_at (G := G) (q := q) (σ := σ) (x2 := x2) (a := a) (b := b) (u := u) h1
      exact hD2.2 _ _ e1
abbrev rmX9_init : Room := { frames := 12, cells := 8, slots := 55, locals := 500 }
abbrev pcr (G : GG) (q : Nat → Nat) (σ : SS) (a : Nat) (av : List Value) : Array Value → State → Prop := va_Pc av (fun U => kx G U ∧ ox G U.heap ∧ va_P G.1 clT (wc G.2.1 false q σ ++ [(a, .inr (9, [.int 0, .null, .int 0, .int 0, .int 0, .int 0, .int 0, .null]))]) U.heap ∧ va_D (fa G) (wc G.2.1 false q σ ++ [(a, .inr (9, [.int 0, .null, .int 0, .int 0, .int 0, .int 0, .int 0, .null]))]))
theorem pcr.blind {G : GG} {q : Nat → Nat} {σ : SS} {a : Nat} {av : List Value} : FrameBlind (pcr G q σ a av) := fun x _ g mk h => ⟨h.1, h.2.1.blind g mk x, h.2.2⟩
abbrev qcr (G : GG) (q : Nat → Nat) (a : Nat) (σ : SS) : Array Value → State → Outcome → State → Prop := va_Qv (fun u : Nat → Nat => u 32 = a) (fun u t => wx G true (qm q u) σ t.heap) (fa G)
abbrev qxr (G : GG) (q : Nat → Nat) (a : Nat) (σ : SS) (x : XI) : String → Addr → State → State → Prop := vx_X (fun u : Nat → Nat => u 32 = a) (fun E q9 u t => E = exN x.1 ∧ wx G true (qm q u) σ t.heap ∧ ftx G true (qm q u) σ x q9 t.heap) (fa G)
theorem w_X9_init {p : Program} {l : Launch} {e : Env} {s : State} {m : MethodId} {args : Array Value} {below : List Frame} {meth : Method} {c : Code} {G : GG} {q : Nat → Nat} {σ : SS} {a : Nat} {x2 : Int32} {Q : State → Prop} (C : cx p s m args meth c cX9_init 3 RX9 none G) (hin : meth.name = "<init>") {H : Heap} {locs : List Loc} {ls : Array Slot} (hP : va_P G.1 clT (wc G.2.1 false q σ ++ [(a, .inr (9, [.int 0, .null, .int 0, .int 0, .int 0, .int 0, .int 0, .null]))]) H) (hD : va_D (fa G) (wc G.2.1 false q σ ++ [(a, .inr (9, [.int 0, .null, .int 0, .int 0, .int 0, .int 0, .int 0, .null]))])) (hS : va_S (fa G) s.heap H locs) (hl : lv_has ls 3 [(0, .ref a), (1, .ref (q 0)), (2, .int x2)])
    (kk : ∀ (u : Nat → Nat) (H1 : Heap) (locs1 : List Loc), u 32 = a → wx G true (qm q u) (rdz σ x2) H1 → va_S (fa G) s.heap H1 locs1 → W p l e rmX9_init s m args below meth c H1 locs1 7 47 Q (F0 m 26 ls [.ref (qm q u 32)])) : W p l e rmX9_init s m args below meth c H locs 0 0 Q (F0 m 0 ls []) := by
  obtain ⟨hx, hb, hml, hown, hts, hr, hlk, hk0, hox⟩ := id C
  have hA : ∀ z : Nat, s.heap.size ≤ z → fa G z := fun z h => Nat.le_trans hox.1 h
  refine lv_aload_n hx hb dX9_init_0 rfl (lv_at hl 0 rfl) ?_
  refine lv_aload_n hx hb dX9_init_1 rfl (lv_at hl 1 rfl) ?_
  refine n_putF (ci := 9) C hP hD hS in_X9 tyX9 tyX9_ok nmX9 rfl (wc G.2.1 false q σ).length at_mid 7 (by decide) q418 rfl hin rfl rfl rfl (Nat.le_of_ble_eq_true rfl) dX9_init_2 (fun H locs hP hD hS => ?_)
  rw [set_mid] at hP hD
  have hP : va_P G.1 clT (wc G.2.1 false q σ ++ [(a, .inr (9, [.int 0, .null, .int 0, .int 0, .int 0, .int 0, .int 0, .ref (q 0)]))]) H := hP
  have hD : va_D (fa G) (wc G.2.1 false q σ ++ [(a, .inr (9, [.int 0, .null, .int 0, .int 0, .int 0, .int 0, .int 0, .ref (q 0)]))]) := hD
  refine lv_aload_n hx hb dX9_init_5 rfl (lv_at hl 0 rfl) ?_
  refine n_obj C q311 q89 q90 hl.1 (Nat.le_of_ble_eq_true rfl) (Nat.le_of_ble_eq_true rfl) dX9_init_6 ?_
  refine lv_aload_n hx hb dX9_init_9 rfl (lv_at hl 0 rfl) ?_
  refine n_new (A := fa G) (ci := 5) (fs := [.int 0, .int 0, .int 0, .null, .int 0, .null, .int 0, .int 0, .int 0, .int 0, .int 0]) C hP hD hS hA in_X5 tyX5 tyX5_ok rfl q312 q121 q62 (fun j hj => by rcases (show j = 0 ∨ j = 1 ∨ j = 2 ∨ j = 3 ∨ j = 4 ∨ j = 5 ∨ j = 6 ∨ j = 7 ∨ j = 8 ∨ j = 9 ∨ j = 10 by omega) with rfl | rfl | rfl | rfl | rfl | rfl | rfl | rfl | rfl | rfl | rfl <;> rfl) (Nat.le_of_ble_eq_true rfl) (Nat.le_of_ble_eq_true rfl) dX9_init_10 (fun b H hP hD hS => ?_)
  have hFc := af_of (ws := [(b, .inr (5, [.int 0, .int 0, .int 0, .null, .int 0, .null, .int 0, .int 0, .int 0, .int 0, .int 0]))]) (hox.on hS).1 (pd_last hD)
  refine lv_dup hx hb dX9_init_13 rfl ?_
  refine va_callv (va_runIN (As := []) (rest := [.ref b, .ref a]) ⟨hx, hb, hml, hown, hts⟩ (met_X5_init l G b H.size) ⟨va_cnB 0 hts (lw_meth q124) rfl rfl rfl (hk0.2.2.1 _ (List.mem_of_getElem? (i := 10) rfl)) (hts _ q62) (by decide +kernel) ⟨Nat.le_of_ble_eq_true rfl, Nat.le_of_ble_eq_true rfl⟩, rfl, hts _ q123⟩ ⟨pcl.blind, fun U hU hW => ⟨rfl, hk0.warm hW, by rw [hU]; exact hox.on hS, by rw [hU], by rw [hU]; exact pw_last hP, pd_last hD⟩⟩ rfl rfl hl.1 rfl (lv_room (Nat.le_of_ble_eq_true rfl)) dX9_init_14 ⟨Nat.le_of_ble_eq_true rfl, Nat.le_of_ble_eq_true rfl⟩) hS (fun z _ h => hFc z h) hFc (fun u t H1 locs ht hvm hw1 hB hz1 hk1 hS => ?_)
  obtain ⟨hP1, hD1⟩ := hB
  subst ht
  have hJ := join1 hP hD hk1 hFc hP1 hD1
  rw [List.append_assoc] at hJ
  have hP : va_P G.1 clT (wc G.2.1 false q σ ++ ((a, .inr (9, [.int 0, .null, .int 0, .int 0, .int 0, .int 0, .int 0, .ref (q 0)])) :: wlX5_init G b u)) t.heap := hJ.1
  have hD : va_D (fa G) (wc G.2.1 false q σ ++ ((a, .inr (9, [.int 0, .null, .int 0, .int 0, .int 0, .int 0, .int 0, .ref (q 0)])) :: wlX5_init G b u)) := hJ.2
  generalize t.heap = H at hP hS ⊢
  refine n_putF (ci := 9) C hP hD hS in_X9 tyX9 tyX9_ok nmX9 rfl (wc G.2.1 false q σ).length at_mid 1 (by decide) q411 rfl hin rfl rfl rfl (Nat.le_of_ble_eq_true rfl) dX9_init_17 (fun H locs hP hD hS => ?_)
  rw [set_mid] at hP hD
  have hP : va_P G.1 clT (wc G.2.1 false q σ ++ ((a, .inr (9, [.int 0, .ref b, .int 0, .int 0, .int 0, .int 0, .int 0, .ref (q 0)])) :: wlX5_init G b u)) H := hP
  have hD : va_D (fa G) (wc G.2.1 false q σ ++ ((a, .inr (9, [.int 0, .ref b, .int 0, .int 0, .int 0, .int 0, .int 0, .ref (q 0)])) :: wlX5_init G b u)) := hD
  refine lv_aload_n hx hb dX9_init_20 rfl (lv_at hl 0 rfl) ?_
  refine lv_iload_n hx hb dX9_init_21 rfl (lv_at hl 2 rfl) ?_
  refine n_putF (ci := 9) C hP hD hS in_X9 tyX9 tyX9_ok nmX9 rfl (wc G.2.1 false q σ).length at_mid 0 (by decide) q410 rfl hin rfl rfl rfl (Nat.le_of_ble_eq_true rfl) dX9_init_22 (fun H locs hP hD hS => ?_)
  rw [set_mid] at hP hD
  have hP : va_P G.1 clT (wc G.2.1 false q σ ++ rdN G q x2 a b u) H := hP
  have hD : va_D (fa G) (wc G.2.1 false q σ ++ rdN G q x2 a b u) := hD
  refine lv_aload_n hx hb dX9_init_25 rfl (lv_at hl 0 rfl) ?_
  exact kk (rdu a b u) H locs rfl (wx_rd hP hD) hS
theorem met_ofCX {l : Launch} {y : MethodName} {cc : ByteArray} {nL : Nat} {rm : Room} {G : GG} {Pc : State → Prop} {av : List Value} {Qc : Array Value → State → Outcome → State → Prop} {XC : String → Addr → State → State → Prop} {mc ms : Nat} {free : Nat → Prop} (hy : plainName y.cls = true) (hn : y.name = "<init>")
    (hle : (lg_sl av).length ≤ nL) (hkx : ∀ U, Pc U → kx G U ∧ ox G U.heap)
    (body : ∀ p e s m below meth c, cx p s m av.toArray meth c cc nL y.cls none G → meth.name = "<init>" → (∀ z ∈ c.exceptionTable.toList, False) → Pc s → ∀ (ls : Array Slot), lv_has ls nL (lv_args 0 av) → W p l e rm s m av.toArray below meth c s.heap [] 0 0 (vx_MQ below Qc XC av.toArray s mc ms free) (F0 m 0 ls [])) :
    vx_Met l y (ws_ y cc nL none) rm (va_Pc av Pc) Qc XC mc ms free := by
  refine vx_ofW hy rfl ?_
  intro p e s m args below meth c s₁ B hml hout hv
  obtain ⟨rfl, hk⟩ := hv
  have hts := atoms_spec (ws := ws_ y cc nL none) B.pre
  have hts : ∀ w ∈ lw_all, w.before _ s = true := fun w h => hts w (List.mem_cons_of_mem _ h)
  have hl := lv_entry av (n := nL) hle
  rw [lg_entry_eq]
  exact body p e s m below meth c ⟨B.exec, B.bytes, hml, findClass_of_methodNamed B.named, hts, B.returns, B.notSynchronized, hkx s hk⟩ ((name_of_methodNamed B.named B.method).1.trans hn) hout hk _ hl
theorem met_X9_init (l : Launch) (G : GG) (q : Nat → Nat) {N : Nat} (a : Nat) {x2 : Int32} {σ σ' : SS} {r : Unit} (hF : F_X9_next N (rdz σ x2) = some (Sum.inl r, σ')) : Met l yX9_init (ws_ yX9_init cX9_init 3 none) rmX9_init (pcr G q σ a [.ref a, .ref (q 0), .int x2]) (qcr G q a σ') 8 55 (fa G) := by
  refine met_ofC (by decide) rfl (Nat.le_of_ble_eq_true rfl) (fun U h => ⟨h.1, h.2.1⟩) ?_
  intro p e s m below meth c C hin hv ls hl
  obtain ⟨hk1, hox1, hP, hD⟩ := hv
  obtain ⟨hx, hb, hml, hown, hts, hr, hlk, hk0, hox⟩ := id C
  refine w_X9_init C hin hP hD va_S.rf hl (fun u H locs eu hw hS => ?_)
  have hl : lv_has ls 3 [(0, .ref a), (1, .ref (q 0)), (2, .int x2)] := hl
  refine r_callVv (R := rmX9_init) (cells := 7) (slots := 47) (As := []) (rest := []) (i := 32) C hw hS wi_rd rfl (ci := 9) rfl (met_X9_next l G (qm q u) hF) (cwV 0 hts (lw_V q314 q316 qs0 q66 q317) rfl rfl rfl (by decide +kernel) ⟨Nat.le_of_ble_eq_true rfl, Nat.le_of_ble_eq_true rfl⟩) rfl hl.1 rfl (Nat.le_of_ble_eq_true rfl) ⟨Nat.le_of_ble_eq_true rfl, Nat.le_of_ble_eq_true rfl⟩ dX9_init_26 (fun H locs hw hS => ?_)
  refine W.widen (k := 8) (n := 55) (Nat.le_of_ble_eq_true rfl) (Nat.le_of_ble_eq_true rfl) ?_
  exact W.vret hx hb hr (fun t ht hW => ⟨⟨u, rfl, eu, show wx G true (qm q u) σ' t.heap by rw [ht]; exact hw⟩, hS.F ht⟩) hS.2.2 dX9_init_29 hlk
theorem mex_X9_init (l : Launch) (G : GG) (q : Nat → Nat) {N : Nat} (a : Nat) {x2 : Int32} {σ σ' : SS} {x : XI} (hF : F_X9_next N (rdz σ x2) = some (Sum.inr x, σ')) : vx_Met l yX9_init (ws_ yX9_init cX9_init 3 none) rmX9_init (pcr G q σ a [.ref a, .ref (q 0), .int x2]) (fun _ _ _ _ => False) (qxr G q a σ' x) 8 55 (fa G) := by
  refine met_ofCX (by decide) rfl (Nat.le_of_ble_eq_true rfl) (fun U h => ⟨h.1, h.2.1⟩) ?_
  intro p e s m below meth c C hin hout hv ls hl
  obtain ⟨hk1, hox1, hP, hD⟩ := hv
  obtain ⟨hx, hb, hml, hown, hts, hr, hlk, hk0, hox⟩ := id C
  refine w_X9_init C hin hP hD va_S.rf hl (fun u H locs eu hw hS => ?_)
  have hl : lv_has ls 3 [(0, .ref a), (1, .ref (q 0)), (2, .int x2)] := hl
  refine r_callVx (R := rmX9_init) (cells := 7) (slots := 47) (As := []) (rest := []) (i := 32) C hw hS wi_rd rfl (ci := 9) rfl (mex_X9_next l G (qm q u) hF) (cwV 0 hts (lw_V q314 q316 qs0 q66 q317) rfl rfl rfl (by decide +kernel) ⟨Nat.le_of_ble_eq_true rfl, Nat.le_of_ble_eq_true rfl⟩) rfl hl.1 rfl (Nat.le_of_ble_eq_true rfl) ⟨Nat.le_of_ble_eq_true rfl, Nat.le_of_ble_eq_true rfl⟩ dX9_init_26 (fun H locs q9 ce hw hS h9 hv9 hc9 hft9 => ?_)
  exact vx_out (fun z hz => (hout z hz).elim) hlk h9 hv9 hc9 (fun t ht _ => ⟨u, eu, ⟨rfl, by rw [ht]; exact hw, by rw [ht]; exact hft9⟩, hS.F ht⟩) hS.2.2 (Nat.le_of_ble_eq_true rfl) (Nat.le_of_ble_eq_true rfl)
