/-! THE WORLD CELL BY CELL; a new array on a sheet -/
set_option maxRecDepth 100000
theorem wx_at {G : GG} {rd : Bool} {q : Nat → Nat} {σ : SS} {H : Heap} (hw : wx G rd q σ H) {i : Nat} (hi : i ∈ wi rd σ.2.2) : va_at G.1 clT (q i, ev G.2.1 q σ (tm σ.2.2 i)) H := by
  obtain ⟨kp, -, h1⟩ := wc_at (dA := G.2.1) (q := q) hi
  exact hw.1 kp _ h1
theorem wc_idx {dA : Nat → ClassId} {rd : Bool} {q : Nat → Nat} {σ : SS} {k : Nat} {x : Nat × va_E} (h : (wc dA rd q σ)[k]? = some x) : ∃ i, (wi rd σ.2.2)[k]? = some i ∧ i ∈ wi rd σ.2.2 ∧ x = (q i, ev dA q σ (tm σ.2.2 i)) := by
  unfold wc at h
  rw [List.getElem?_map] at h
  cases hi : (wi rd σ.2.2)[k]? with
  | none => rw [hi] at h; cases h
  | some i =>
    rw [hi] at h
    exact ⟨i, rfl, List.mem_of_getElem? hi, (Option.some.inj h).symm⟩
theorem wx_inj {G : GG} {rd : Bool} {q : Nat → Nat} {σ : SS} {H : Heap} (hw : wx G rd q σ H) {i j : Nat} (hi : i ∈ wi rd σ.2.2) (hj : j ∈ wi rd σ.2.2) (e : q i = q j) : i = j := by
  obtain ⟨k1, a1, b1⟩ := wc_at (dA := G.2.1) (q := q) hi
  obtain ⟨k2, a2, b2⟩ := wc_at (dA := G.2.1) (q := q) hj
  have h := hw.2.1 k1 k2 _ _ b1 b2 e
  subst h
  exact Option.some.inj (a1.symm.trans a2)
theorem wx_fa {G : GG} {rd : Bool} {q : Nat → Nat} {σ : SS} {H : Heap} (hw : wx G rd q σ H) {i : Nat} (hi : i ∈ wi rd σ.2.2) : fa G (q i) := by
  obtain ⟨k1, a1, b1⟩ := wc_at (dA := G.2.1) (q := q) hi
  exact hw.2.2 k1 _ b1
theorem wx_of {G : GG} {rd : Bool} {q : Nat → Nat} {σ : SS} {H : Heap} (hP : ∀ i, i ∈ wi rd σ.2.2 → va_at G.1 clT (q i, ev G.2.1 q σ (tm σ.2.2 i)) H) (hi : ∀ i j, i ∈ wi rd σ.2.2 → j ∈ wi rd σ.2.2 → q i = q j → i = j) (hA : ∀ i, i ∈ wi rd σ.2.2 → fa G (q i)) : wx G rd q σ H := by
  refine ⟨fun k x hk => ?_, fun a b x y ha hb e => ?_, fun k x hk => ?_⟩
  · obtain ⟨i, -, h1, rfl⟩ := wc_idx hk
    exact hP i h1
  · obtain ⟨i, a1, h1, rfl⟩ := wc_idx ha
    obtain ⟨j, b1, h2, rfl⟩ := wc_idx hb
    have h3 := hi i j h1 h2 e
    subst h3
    exact (List.getElem?_inj (List.getElem?_eq_some_iff.mp a1).1 (wi_nodup rd σ.2.2)).mp (a1.trans b1.symm)
  · obtain ⟨i, -, h1, rfl⟩ := wc_idx hk
    exact hA i h1
/-- does a form refer to the cell i? -/
def refs (t : Tm) (i : Nat) : Bool := match t with
  | .inl o => o.2.any (fun s => s.1 == 2 && s.2.1 == i)
  | .inr a => a.1 == 1
theorem ev_q {dA : Nat → ClassId} {q q' : Nat → Nat} {σ : SS} {t : Tm} (h : ∀ ci fs, t = .inl (ci, fs) → ∀ r, r ∈ fs → r.1 = 2 → q' r.2.1 = q r.2.1) (h2 : ∀ ty n g st, t = .inr (1, ty, n, g, st) → ∀ j, q' (g + st * j) = q (g + st * j)) : ev dA q' σ t = ev dA q σ t := by
  match t, h, h2 with
  | .inl (ci, fs), h, _ =>
    unfold ev
    have e : fs.map (sv q' σ) = fs.map (sv q σ) := List.map_congr_left fun r hr => by
      obtain ⟨a, b, c⟩ := r
      unfold sv
      match a with
      | 0 => rfl
      | 1 => rfl
      | 2 => exact congrArg Value.ref (h ci fs rfl (2, b, c) hr rfl)
      | _ + 3 => rfl
    simp only [e]
  | .inr (a, ty, n, g, st), _, h2 =>
    unfold ev
    match a, h2 with
    | 1, h2 =>
      have e : (fun j => some (q' (g + st * j))) = (fun j => some (q (g + st * j))) := funext fun j => by rw [h2 ty n g st rfl j]
      simp only [e]
    | 0, _ => rfl
    | a + 2, _ => rfl
/-- a form's cell, where an array of references matters at its own places alone -/
theorem va_at_q {G : GG} {q q' : Nat → Nat} {σ : SS} {t : Tm} {a : Nat} {H : Heap} (h : ∀ ci fs, t = .inl (ci, fs) → ∀ r, r ∈ fs → r.1 = 2 → q' r.2.1 = q r.2.1) (h2 : ∀ ty n g st, t = .inr (1, ty, n, g, st) → ∀ j, j < n → q' (g + st * j) = q (g + st * j)) (hP : va_at G.1 clT (a, ev G.2.1 q σ t) H) : va_at G.1 clT (a, ev G.2.1 q' σ t) H := by
  match t, h, h2, hP with
  | .inl (ci, fs), h, _, hP =>
    rw [ev_q (q := q) (q' := q') h (fun ty n g st e => by cases e)]
    exact hP
  | .inr (a9, ty, n, g, st), _, h2, hP =>
    match a9, h2, hP with
    | 1, h2, hP =>
      show H[a]? = some (vp_cell _ (n, .inr (.inr (.inr (.inr (fun j => some (q' (g + st * j))))))))
      rw [cell_q (g := fun j => some (q (g + st * j))) (fun j hj => by rw [h2 ty n g st rfl j hj])]
      exact hP
    | 0, _, hP => exact hP
    | a9 + 2, _, hP => exact hP
def rok (t : Tm) : Bool := match t with
  | .inl o => o.2.all (fun s => s.1 != 2 || decide (s.2.1 < 17) || decide (21 ≤ s.2.1))
  | .inr a => a.1 != 1 || decide (21 ≤ a.2.2.2.1) || (decide (a.2.2.2.1 + a.2.2.2.2 * a.2.2.1 ≤ 17) && decide (0 < a.2.2.2.2))
theorem rok_e {t : Tm} (h : rok t = true) {q : Nat → Nat} {i a : Nat} (h1 : 17 ≤ i) (h2 : i < 21) : (∀ ci fs, t = .inl (ci, fs) → ∀ r, r ∈ fs → r.1 = 2 → qup q i a r.2.1 = q r.2.1) ∧ (∀ ty n g st, t = .inr (1, ty, n, g, st) → ∀ j, j < n → qup q i a (g + st * j) = q (g + st * j)) := by
  refine ⟨fun ci fs e r hr hk => ?_, fun ty n g st e j hj => ?_⟩
  · subst e
    have h3 := List.all_eq_true.mp (show fs.all (fun s => s.1 != 2 || decide (s.2.1 < 17) || decide (21 ≤ s.2.1)) = true from h) r hr
    rw [hk] at h3
    simp only [bne_self_eq_false, Bool.false_or, Bool.or_eq_true, decide_eq_true_eq] at h3
    exact if_neg (by omega)
  · subst e
    have h3 : (decide (21 ≤ g) || (decide (g + st * n ≤ 17) && decide (0 < st))) = true := h
    simp only [Bool.or_eq_true, Bool.and_eq_true, decide_eq_true_eq] at h3
    refine if_neg ?_
    rcases h3 with h3 | ⟨h3, h5⟩
    · omega
    · have h6 : st * j < st * n := Nat.mul_lt_mul_of_pos_left hj h5
      omega
theorem rok_lo {d : Nat → Nat × Nat} {i : Nat} (hi : i ≤ 32) (hne : i < 13 ∨ 16 < i) : rok (tm d i) = true := by
  rw [tm_lo d (by omega)]
  rcases (show i = 0 ∨ i = 1 ∨ i = 2 ∨ i = 3 ∨ i = 4 ∨ i = 5 ∨ i = 6 ∨ i = 7 ∨ i = 8 ∨ i = 9 ∨ i = 10 ∨ i = 11 ∨ i = 12 ∨ i = 17 ∨ i = 18 ∨ i = 19 ∨ i = 20 ∨ i = 21 ∨ i = 22 ∨ i = 23 ∨ i = 24 ∨ i = 25 ∨ i = 26 ∨ i = 27 ∨ i = 28 ∨ i = 29 ∨ i = 30 ∨ i = 31 ∨ i = 32 by omega) with rfl | rfl | rfl | rfl | rfl | rfl | rfl | rfl | rfl | rfl | rfl | rfl | rfl | rfl | rfl | rfl | rfl | rfl | rfl | rfl | rfl | rfl | rfl | rfl | rfl | rfl | rfl | rfl | rfl <;> rfl
theorem rok_hi {d : Nat → Nat × Nat} {i : Nat} (hi : 40 ≤ i) : rok (tm d i) = true := by
  unfold tm
  rw [if_neg (by omega)]
  unfold tmS
  split
  · simp [rok, iWA, iAA]; omega
  · simp [rok]; omega
  · simp [rok]
  · simp [rok]
theorem wi_up {rd : Bool} {σ : SS} {j kd n i : Nat} (hj : j < 4) (hi : i ∈ wi rd (shs σ j kd n).2.2) (hne : i ≠ 17 + j) : i ∈ wi rd σ.2.2 := by
  rw [wi_mem] at hi ⊢
  refine ⟨hi.1, ?_⟩
  by_cases h1 : i < 17
  · rw [if_pos h1]
  · by_cases h2 : i < 21
    · have h3 := hi.2
      rw [if_neg h1, if_pos h2] at h3 ⊢
      have e : (shs σ j kd n).2.2 (i - 17) = σ.2.2 (i - 17) := if_neg (by omega)
      rw [e] at h3
      exact h3
    · have h3 := hi.2
      rw [if_neg h1, if_neg h2] at h3 ⊢
      exact h3
theorem tm_up {σ : SS} {j kd n i : Nat} (hi : i ≤ 32 ∨ 40 ≤ i) (h1 : i ≠ 17 + j) (h2 : i ≠ 13 + j) (hj : j < 4) : tm (shs σ j kd n).2.2 i = tm σ.2.2 i := by
  have key : ∀ x, x ≠ j → (shs σ j kd n).2.2 x = σ.2.2 x := fun x hx => if_neg hx
  unfold tm
  by_cases h : i < 40
  · rw [if_pos h, if_pos h]
    have h32 : i ≤ 32 := by omega
    clear h hi
    rcases (show i = 0 ∨ i = 1 ∨ i = 2 ∨ i = 3 ∨ i = 4 ∨ i = 5 ∨ i = 6 ∨ i = 7 ∨ i = 8 ∨ i = 9 ∨ i = 10 ∨ i = 11 ∨ i = 12 ∨ i = 13 ∨ i = 14 ∨ i = 15 ∨ i = 16 ∨ i = 17 ∨ i = 18 ∨ i = 19 ∨ i = 20 ∨ i = 21 ∨ i = 22 ∨ i = 23 ∨ i = 24 ∨ i = 25 ∨ i = 26 ∨ i = 27 ∨ i = 28 ∨ i = 29 ∨ i = 30 ∨ i = 31 ∨ i = 32 by omega) with rfl | rfl | rfl | rfl | rfl | rfl | rfl | rfl | rfl | rfl | rfl | rfl | rfl | rfl | rfl | rfl | rfl | rfl | rfl | rfl | rfl | rfl | rfl | rfl | rfl | rfl | rfl | rfl | rfl | rfl | rfl | rfl | rfl
    · rfl
    · rfl
    · rfl
    · rfl
    · rfl
    · rfl
    · rfl
    · rfl
    · rfl
    · rfl
    · rfl
    · rfl
    · rfl
    · show shO ((shs σ j kd n).2.2 0) 0 = shO (σ.2.2 0) 0
      rw [key 0 (by omega)]
    · show shO ((shs σ j kd n).2.2 1) 1 = shO (σ.2.2 1) 1
      rw [key 1 (by omega)]
    · show shO ((shs σ j kd n).2.2 2) 2 = shO (σ.2.2 2) 2
      rw [key 2 (by omega)]
    · show shO ((shs σ j kd n).2.2 3) 3 = shO (σ.2.2 3) 3
      rw [key 3 (by omega)]
    · show shT ((shs σ j kd n).2.2 0) 0 = shT (σ.2.2 0) 0
      rw [key 0 (by omega)]
    · show shT ((shs σ j kd n).2.2 1) 1 = shT (σ.2.2 1) 1
      rw [key 1 (by omega)]
    · show shT ((shs σ j kd n).2.2 2) 2 = shT (σ.2.2 2) 2
      rw [key 2 (by omega)]
    · show shT ((shs σ j kd n).2.2 3) 3 = shT (σ.2.2 3) 3
      rw [key 3 (by omega)]
    · rfl
    · rfl
    · rfl
    · rfl
    · rfl
    · rfl
    · rfl
    · rfl
    · rfl
    · rfl
    · rfl
    · rfl
  · rw [if_neg h, if_neg h]
theorem wx_sheet {G : GG} {rd : Bool} {q : Nat → Nat} {σ : SS} {H H1 : Heap} {a j kp kd n : Nat} (hw : wx G rd q σ H) (hj : j < 4) (hkd : kd = 1 ∨ kd = 2 ∨ kd = 3) (hkp : (wi rd σ.2.2)[kp]? = some (13 + j)) (hP : va_P G.1 clT ((wc G.2.1 rd q σ ++ ([(a, .inl (G.2.1 (shId kd), n, .inl (fun _ => 0)))] : va_W)).set kp (q (13 + j), .inr (7, [.ref a]))) H1) (hD : va_D (fa G) (wc G.2.1 rd q σ ++ ([(a, .inl (G.2.1 (shId kd), n, .inl (fun _ => 0)))] : va_W))) : wx G rd (qup q (17 + j) a) (shs σ j kd n) H1 := by
  have hl : kp < (wc G.2.1 rd q σ).length := by
    unfold wc
    rw [List.length_map]
    exact (List.getElem?_eq_some_iff.mp hkp).1
  have hlast : (wc G.2.1 rd q σ ++ ([(a, .inl (G.2.1 (shId kd), n, .inl (fun _ => 0)))] : va_W))[(wc G.2.1 rd q σ).length]? = some (a, .inl (G.2.1 (shId kd), n, .inl (fun _ => 0))) := by
    rw [List.getElem?_append_right (Nat.le_refl _), Nat.sub_self]
    rfl
  have hself : qup q (17 + j) a (17 + j) = a := if_pos rfl
  have hoth : ∀ i, i ≠ 17 + j → qup q (17 + j) a i = q i := fun i h => if_neg h
  have hold : ∀ i, i ∈ wi rd σ.2.2 → ∃ k, (wi rd σ.2.2)[k]? = some i ∧ (wc G.2.1 rd q σ ++ ([(a, .inl (G.2.1 (shId kd), n, .inl (fun _ => 0)))] : va_W))[k]? = some (q i, ev G.2.1 q σ (tm σ.2.2 i)) := fun i hi => by
    obtain ⟨k, h1, h2⟩ := wc_at (dA := G.2.1) (q := q) hi
    exact ⟨k, h1, by rw [List.getElem?_append_left (List.getElem?_eq_some_iff.mp h2).1]; exact h2⟩
  have hfresh : ∀ i, i ∈ wi rd σ.2.2 → q i ≠ a := fun i hi e => by
    obtain ⟨k, h1, h2⟩ := hold i hi
    have h3 := hD.1 k _ _ _ h2 hlast e
    have h4 := (List.getElem?_eq_some_iff.mp h1).1
    rw [h3] at h4
    unfold wc at h4
    rw [List.length_map] at h4
    omega
  refine wx_of (fun i hi => ?_) (fun i i' hi hi' e => ?_) (fun i hi => ?_)
  · by_cases h1 : i = 17 + j
    · subst h1
      rw [hself]
      have h2 := hP (wc G.2.1 rd q σ).length (a, .inl (G.2.1 (shId kd), n, .inl (fun _ => 0))) (by rw [List.getElem?_set_ne (by omega)]; exact hlast)
      rw [tm_st hj]
      have h3 : (shs σ j kd n).2.2 j = (kd, n) := if_pos rfl
      rw [h3]
      have h4 : ev G.2.1 (qup q (17 + j) a) (shs σ j kd n) (shT (kd, n) j) = .inl (G.2.1 (shId kd), n, .inl (fun _ => 0)) := by
        show (Sum.inl (G.2.1 (shId kd), n, .inl (fun x => (shs σ j kd n).1 (17 + j) x)) : va_E) = _
        have h5 : (fun x => (shs σ j kd n).1 (17 + j) x) = fun _ => (0 : Int32) := funext fun x => if_pos rfl
        rw [h5]
      rw [h4]
      exact h2
    · have hi0 := wi_up hj hi h1
      have hsp : i ≤ 32 ∨ 40 ≤ i := by
        rcases wi_split hi0 with h | ⟨k, r, h, -⟩
        · exact Or.inl h
        · exact Or.inr (by omega)
      rw [hoth i h1]
      by_cases h2 : i = 13 + j
      · subst h2
        have h3 := hP kp (q (13 + j), .inr (7, [.ref a])) (List.getElem?_set_self (by rw [List.length_append]; omega))
        rw [tm_so hj]
        have h4 : (shs σ j kd n).2.2 j = (kd, n) := if_pos rfl
        rw [h4]
        have h5 : shO (kd, n) j = .inl (7, [(2, 17 + j, 0)]) := by
          unfold shO
          have h6 : ¬ kd = 0 := by omega
          rw [if_neg h6]
        rw [h5]
        show va_at G.1 clT (q (13 + j), .inr (7, [.ref (qup q (17 + j) a (17 + j))])) H1
        rw [hself]
        exact h3
      · rw [tm_up hsp h1 h2 hj]
        obtain ⟨k, g1, g2⟩ := hold i hi0
        have hkne : kp ≠ k := by
          intro e
          subst e
          exact h2 (Option.some.inj (g1.symm.trans hkp))
        have h3 := hP k _ (by rw [List.getElem?_set_ne hkne]; exact g2)
        have hr : (rds (tm σ.2.2 i) (17 + j)) = fun _ => false := by
          funext x
          rcases wi_split hi0 with h | ⟨k', r, h, hr⟩
          · exact rds_lo h (Ne.symm h1)
          · rw [h]
            exact rds_hi2 hr (by unfold iS; omega) (by unfold iAA; omega)
        have hev : ev G.2.1 q (shs σ j kd n) (tm σ.2.2 i) = ev G.2.1 q σ (tm σ.2.2 i) := by
          have e1 : ∀ σ' : SS, ev G.2.1 q (σ'.1, σ'.2.1, σ'.2.2) (tm σ.2.2 i) = ev G.2.1 q (σ'.1, σ'.2.1, σ.2.2) (tm σ.2.2 i) := fun σ' => rfl
          rw [show ev G.2.1 q (shs σ j kd n) (tm σ.2.2 i) = ev G.2.1 q ((shs σ j kd n).1, σ.2.1, σ.2.2) (tm σ.2.2 i) from rfl]
          exact ev_grp (g := 17 + j) (fun x => by rw [hr]) (fun g' x hg => if_neg hg) rfl
        have hrk : (∀ ci fs, tm σ.2.2 i = .inl (ci, fs) → ∀ r, r ∈ fs → r.1 = 2 → qup q (17 + j) a r.2.1 = q r.2.1) ∧ (∀ ty n g st, tm σ.2.2 i = .inr (1, ty, n, g, st) → ∀ j', j' < n → qup q (17 + j) a (g + st * j') = q (g + st * j')) := by
          rcases hsp with h | h
          · by_cases h9 : i < 13 ∨ 16 < i
            · exact rok_e (rok_lo h h9) (by omega) (by omega)
            · obtain ⟨j', rfl, hj'⟩ : ∃ j', i = 13 + j' ∧ j' < 4 := ⟨i - 13, by omega, by omega⟩
              refine ⟨fun ci fs e r hr hk => ?_, fun ty n g st e => ?_⟩
              · rw [tm_so hj'] at e
                unfold shO at e
                cases e
                rw [List.mem_singleton] at hr
                subst hr
                by_cases h8 : (σ.2.2 j').1 = 0
                · rw [if_pos h8] at hk; cases hk
                · rw [if_neg h8]
                  exact if_neg (by show ¬ 17 + j' = 17 + j; omega)
              · rw [tm_so hj'] at e
                unfold shO at e
                cases e
          · exact rok_e (rok_hi h) (by omega) (by omega)
        rw [← hev] at h3
        exact va_at_q hrk.1 hrk.2 h3
  · by_cases h1 : i = 17 + j
    · by_cases h2 : i' = 17 + j
      · rw [h1, h2]
      · rw [h1, hself, hoth i' h2] at e
        exact absurd e.symm (hfresh i' (wi_up hj hi' h2))
    · by_cases h2 : i' = 17 + j
      · rw [h2, hself, hoth i h1] at e
        exact absurd e (hfresh i (wi_up hj hi h1))
      · rw [hoth i h1, hoth i' h2] at e
        exact wx_inj hw (wi_up hj hi h1) (wi_up hj hi' h2) e
  · by_cases h1 : i = 17 + j
    · rw [h1, hself]
      exact hD.2 _ _ hlast
    · rw [hoth i h1]
      exact wx_fa hw (wi_up hj hi h1)
