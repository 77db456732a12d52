/-! THE ROWS by class: FlyWheels (0), Model (8), Shaft (5), Wheel (6), Reader (9) -/
set_option maxRecDepth 100000
abbrev f0 : List Sr := [(2, 2, 0), (2, iS 0, 0), (2, iS 1, 0), (2, 3, 0), (0, 0, 4), (2, 4, 0), (0, 0, 6), (0, 0, 7), (0, 0, 8), (0, 0, 9), (0, 0, 10), (2, 7, 0), (0, 0, 12), (0, 0, 13), (0, 0, 14), (0, 0, 15), (1, 16, 0), (1, 17, 0), (1, 18, 0), (2, 5, 0), (2, 6, 0), (2, 8, 0), (0, 0, 22)]
abbrev f8 : List Sr := [(2, 21, 0), (2, 22, 0), (0, 1, 2), (2, 23, 0), (0, 1, 4), (0, 1, 5), (0, 1, 6), (0, 1, 7), (0, 1, 8), (0, 1, 9), (0, 1, 10), (0, 1, 11), (2, 24, 0), (2, 25, 0), (0, 1, 14), (0, 1, 15), (0, 1, 16), (0, 1, 17), (2, 26, 0), (0, 1, 19), (2, 27, 0), (2, 28, 0), (2, 29, 0), (2, 30, 0), (2, 31, 0), (0, 1, 25)]
abbrev f9 : List Sr := [(0, 32, 0), (2, iS 4, 0), (0, 32, 2), (0, 32, 3), (0, 32, 4), (0, 32, 5), (0, 32, 6), (2, 0, 0)]
abbrev fS (k : Nat) : List Sr := [(0, iS k, 34), (0, iS k, 35), (0, iS k, 16), (2, iWA k, 0), (0, iS k, 33), (2, iAA k, 0), (0, iS k, 36), (0, iS k, 37), (0, iS k, 38), (0, iS k, 39), (0, iS k, 40)]
abbrev fW (k w : Nat) : List Sr := [(0, iS k, w), (0, iS k, 4 + w), (0, iS k, 8 + w), (0, iS k, 12 + w)]
theorem okS_of {rd : Bool} {k : Nat} (h : k < 4) : okS rd k := Or.inl h
theorem wi_S {rd : Bool} {d : Nat → Nat × Nat} {k : Nat} (hk : okS rd k) : iS k ∈ wi rd d := wi_s (r := 0) hk (by omega)
theorem wi_WA {rd : Bool} {d : Nat → Nat × Nat} {k : Nat} (hk : okS rd k) : iWA k ∈ wi rd d := by
  have h := wi_s (d := d) (r := 1) hk (by omega)
  rwa [show 40 + 10 * k + 1 = iWA k by unfold iWA; omega] at h
theorem wi_AA {rd : Bool} {d : Nat → Nat × Nat} {k : Nat} (hk : okS rd k) : iAA k ∈ wi rd d := by
  have h := wi_s (d := d) (r := 2) hk (by omega)
  rwa [show 40 + 10 * k + 2 = iAA k by unfold iAA; omega] at h
theorem wi_W {rd : Bool} {d : Nat → Nat × Nat} {k w : Nat} (hk : okS rd k) (hw : w < 4) : iW k w ∈ wi rd d := by
  have h := wi_s (d := d) (r := 3 + w) hk (by omega)
  rwa [show 40 + 10 * k + (3 + w) = iW k w by unfold iW; omega] at h
theorem wi_split {rd : Bool} {d : Nat → Nat × Nat} {j : Nat} (h : j ∈ wi rd d) : j ≤ 32 ∨ (∃ k r, j = 40 + 10 * k + r ∧ r < 7) := by
  rw [wi_mem] at h
  obtain ⟨h1, h2⟩ := h
  by_cases h3 : j ≤ 32
  · exact Or.inl h3
  · right
    rw [if_neg (by omega), if_neg (by omega), if_neg (by omega), if_neg (by omega)] at h2
    by_cases h4 : j < 40
    · rw [if_pos h4] at h2; cases h2
    · rw [if_neg h4] at h2
      refine ⟨(j - 40) / 10, (j - 40) % 10, by omega, ?_⟩
      by_cases h5 : j < 80
      · rw [if_pos h5] at h2; exact of_decide_eq_true h2
      · rw [if_neg h5] at h2
        rw [Bool.and_eq_true] at h2
        exact of_decide_eq_true h2.2
theorem rds_hi2 {d : Nat → Nat × Nat} {k r g x : Nat} (hr : r < 7) (h1 : g ≠ iS k) (h2 : g ≠ iAA k) : rds (tm d (40 + 10 * k + r)) g x = false := by
  have hk : (40 + 10 * k + r - 40) / 10 = k := by omega
  exact rds_hi (by omega) (by rw [hk]; exact h1) (by rw [hk]; exact h2)
/-- the others do not read a low group -/
theorem ho_lo {rd : Bool} {d : Nat → Nat × Nat} {g x : Nat} (hg : g ≤ 32) : ∀ j, j ∈ wi rd d → j ≠ g → rds (tm d j) g x = false := by
  intro j hj hne
  rcases wi_split hj with h | ⟨k, r, rfl, hr⟩
  · exact rds_lo h (Ne.symm hne)
  · exact rds_hi2 hr (by unfold iS; omega) (by unfold iAA; omega)
theorem ho_AA {rd : Bool} {d : Nat → Nat × Nat} {k : Nat} : ∀ (x j : Nat), j ∈ wi rd d → j ≠ iAA k → rds (tm d j) (iAA k) x = false := by
  intro x j hj hne
  rcases wi_split hj with h | ⟨k', r, rfl, hr⟩
  · exact rds_lo h (by unfold iAA; omega)
  · by_cases hk : k' = k
    · subst hk
      unfold tm
      rw [if_neg (by omega), show (40 + 10 * k' + r - 40) / 10 = k' by omega, show (40 + 10 * k' + r - 40) % 10 = r by omega]
      have h2 : r ≠ 2 := by
        intro e
        apply hne
        unfold iAA
        omega
      unfold tmS
      split
      · simp [rds, iS, iAA]
      · simp [rds]
      · exact absurd rfl h2
      · simp [rds, iS, iAA]
    · exact rds_hi2 hr (by unfold iS iAA; omega) (by unfold iAA; omega)
/-- the others do not read a shaft's own places, nor a wheel's -/
theorem ho_S {rd : Bool} {d : Nat → Nat × Nat} {k x : Nat} (hx : 16 ≤ x) : ∀ j, j ∈ wi rd d → j ≠ iS k → rds (tm d j) (iS k) x = false := by
  intro j hj hne
  rcases wi_split hj with h | ⟨k', r, rfl, hr⟩
  · exact rds_lo h (by unfold iS; omega)
  · by_cases hk : k' = k
    · subst hk
      unfold tm
      rw [if_neg (by omega), show (40 + 10 * k' + r - 40) / 10 = k' by omega, show (40 + 10 * k' + r - 40) % 10 = r by omega]
      have h2 : r ≠ 0 := by
        intro e
        apply hne
        unfold iS
        omega
      unfold tmS
      split
      · exact absurd rfl h2
      · simp [rds]
      · simp [rds, iS, iAA]
      · simp [rds]; omega
    · exact rds_hi2 hr (by unfold iS; omega) (by unfold iS iAA; omega)
theorem ho_W {rd : Bool} {d : Nat → Nat × Nat} {k w x : Nat} (hw : w < 4) (hx : x < 16) (hxw : x % 4 = w) : ∀ j, j ∈ wi rd d → j ≠ iW k w → rds (tm d j) (iS k) x = false := by
  intro j hj hne
  rcases wi_split hj with h | ⟨k', r, rfl, hr⟩
  · exact rds_lo h (by unfold iS; omega)
  · by_cases hk : k' = k
    · subst hk
      unfold tm
      rw [if_neg (by omega), show (40 + 10 * k' + r - 40) / 10 = k' by omega, show (40 + 10 * k' + r - 40) % 10 = r by omega]
      have h2 : r ≠ w + 3 := by
        intro e
        apply hne
        unfold iW
        omega
      unfold tmS
      split
      · simp [rds]; omega
      · simp [rds]
      · simp [rds, iS, iAA]
      · simp [rds]; omega
    · exact rds_hi2 hr (by unfold iS; omega) (by unfold iS iAA; omega)
theorem unq0 : ∀ k, k < 23 → unq f0 k k = true := by decide +kernel
theorem unq8 : ∀ k, k < 26 → unq f8 k k = true := by decide +kernel
theorem unq9 : ∀ k, k < 8 → unq f9 k k = true := by decide +kernel
theorem unql0 : ∀ k, k < 23 → unql f0 k k = true := by decide +kernel
theorem unqS {k f x : Nat} (h : (fS k)[f]? = some (0, iS k, x)) : unq (fS k) f x = true := by
  match f, h with
  | 0, h => cases h; rfl
  | 1, h => cases h; rfl
  | 2, h => cases h; rfl
  | 4, h => cases h; rfl
  | 6, h => cases h; rfl
  | 7, h => cases h; rfl
  | 8, h => cases h; rfl
  | 9, h => cases h; rfl
  | 10, h => cases h; rfl
theorem unqS16 {k f x : Nat} (h : (fS k)[f]? = some (0, iS k, x)) : 16 ≤ x := by
  match f, h with
  | 0, h => cases h; decide
  | 1, h => cases h; decide
  | 2, h => cases h; decide
  | 4, h => cases h; decide
  | 6, h => cases h; decide
  | 7, h => cases h; decide
  | 8, h => cases h; decide
  | 9, h => cases h; decide
  | 10, h => cases h; decide
theorem fW_at {k w f x : Nat} (h : (fW k w)[f]? = some (0, iS k, x)) : x = 4 * f + w ∧ f < 4 := by
  match f, h with
  | 0, h => cases h; omega
  | 1, h => cases h; omega
  | 2, h => cases h; omega
  | 3, h => cases h; omega
theorem huW {k w f x : Nat} (h : (fW k w)[f]? = some (0, iS k, x)) : ∀ n r, n ≠ f → (fW k w)[n]? = some r → (r.1 == 0 && r.2.1 == iS k && r.2.2 == x) = false := by
  obtain ⟨rfl, hf⟩ := fW_at h
  intro n r hn hr
  match n, hr, hn with
  | 0, hr, hn => cases hr; simp; omega
  | 1, hr, hn => cases hr; simp; omega
  | 2, hr, hn => cases hr; simp; omega
  | 3, hr, hn => cases hr; simp; omega
theorem hoL {rd : Bool} {d : Nat → Nat × Nat} {x : Nat} : ∀ j, j ∈ wi rd d → j ≠ 0 → rdl (tm d j) x = false := by
  intro j hj hne
  rcases wi_split hj with h | ⟨k, r, rfl, hr⟩
  · rw [tm_lo d (by omega)]
    rcases (show j = 0 ∨ j = 1 ∨ j = 2 ∨ j = 3 ∨ j = 4 ∨ j = 5 ∨ j = 6 ∨ j = 7 ∨ j = 8 ∨ j = 9 ∨ j = 10 ∨ j = 11 ∨ j = 12 ∨ j = 13 ∨ j = 14 ∨ j = 15 ∨ j = 16 ∨ j = 17 ∨ j = 18 ∨ j = 19 ∨ j = 20 ∨ j = 21 ∨ j = 22 ∨ j = 23 ∨ j = 24 ∨ j = 25 ∨ j = 26 ∨ j = 27 ∨ j = 28 ∨ j = 29 ∨ j = 30 ∨ j = 31 ∨ j = 32 by omega) with rfl | rfl | rfl | rfl | rfl | rfl | rfl | rfl | rfl | rfl | rfl | rfl | rfl | rfl | rfl | rfl | rfl | rfl | rfl | rfl | rfl | rfl | rfl | rfl | rfl | rfl | rfl | rfl | rfl | rfl | rfl | rfl | rfl
    all_goals first
      | exact absurd rfl hne
      | (simp only [tm0, rdl, shO]; split <;> simp; done)
      | (simp [tm0, rdl, shT]; done)
  · unfold tm
    rw [if_neg (by omega)]
    unfold tmS
    split <;> simp [rdl]
section RX
variable {p : Program} {l : Launch} {e : Env} {R : Room} {s : State} {m : MethodId} {args : Array Value} {below : List Frame} {meth : Method} {c : Code} {H : Heap} {locs : List Loc} {cells slots : Nat} {Q : State → Prop}
variable {cc : ByteArray} {pc nL : Nat} {ls : Array Slot} {rest : List Value} {own : String} {ret : Option FieldType} {G : GG} {rd : Bool} {q : Nat → Nat} {σ σ1 : SS}
theorem r_get0 (C : cx p s m args meth c cc nL own ret G) (hw : wx G rd q σ H) (f : Nat) (hf : f < 23) {r : Sr} (hr : f0[f]? = some r) {index : Nat} {v : Value} (hv : sv q σ r = v) (hlink : (Cond.fieldLink own index (TX0 f).1 (TX0 f).2.1 (TX0 f).2.2.1) ∈ lw_all) (hdg : decode cc pc = .ok (.getfield index, 3)) (kk : W p l e R s m args below meth c H locs cells slots Q (F0 m (pc + 3) ls (v :: rest))) : W p l e R s m args below meth c H locs cells slots Q (F0 m pc ls (.ref (q 0) :: rest)) := r_get C hw (wi_lo (Or.inl (by omega))) rfl (ci := 0) (Cn := RX0) (T := TX0) (N := 23) rfl in_X0 f hf hr hv hlink hdg kk
theorem r_put0 (C : cx p s m args meth c cc nL own ret G) (hw : wx G rd q σ H) (hS : va_S (fa G) s.heap H locs) (f : Nat) (hf : f < 23) (hr : f0[f]? = some (0, 0, f)) {index : Nat} {v : Int32} (hfin : (TX0 f).2.2.2 = false) {ty : FieldType} (hd : parseFieldDescriptor (TX0 f).2.2.1 = some ty) (hnr : narrow ty (.int v) = .int v) (hfit : fits ty (.int v) = true) (hlink : (Cond.fieldLink own index (TX0 f).1 (TX0 f).2.1 (TX0 f).2.2.1) ∈ lw_all) (hdg : decode cc pc = .ok (.putfield index, 3)) (e1 : σ1 = si σ 0 f v) (kk : ∀ (H1 : Heap) (locs1 : List Loc), wx G rd q σ1 H1 → va_S (fa G) s.heap H1 locs1 → W p l e R s m args below meth c H1 locs1 cells slots Q (F0 m (pc + 3) ls rest)) : W p l e R s m args below meth c H locs cells slots Q (F0 m pc ls (.int v :: .ref (q 0) :: rest)) := r_put C hw hS (wi_lo (Or.inl (by omega))) rfl (ci := 0) (Cn := RX0) (T := TX0) (N := 23) rfl in_X0 tyX0 tyX0_ok nmX0 f hf hr (unq_e (unq0 f hf)) (ho_lo (by omega)) hfin hd hnr hfit hlink hdg e1 kk
theorem r_get0N (C : cx p s m args meth c cc nL own ret G) (hw : wx G rd q σ H) (f : Nat) (hf : f < 23) {r : Sr} (hr : f0[f]? = some r) {index : Nat} {v : Value} (hv : sv q σ r = v) {host : String} (n : Nat) (hn : nestF[n]? = some (own, index, (TX0 f).1, (TX0 f).2.1, (TX0 f).2.2.1, host)) (hdg : decode cc pc = .ok (.getfield index, 3)) (kk : W p l e R s m args below meth c H locs cells slots Q (F0 m (pc + 3) ls (v :: rest))) : W p l e R s m args below meth c H locs cells slots Q (F0 m pc ls (.ref (q 0) :: rest)) := r_getN C hw (wi_lo (Or.inl (by omega))) rfl (ci := 0) (Cn := RX0) (T := TX0) (N := 23) rfl in_X0 f hf hr hv n hn hdg kk
theorem r_put0N (C : cx p s m args meth c cc nL own ret G) (hw : wx G rd q σ H) (hS : va_S (fa G) s.heap H locs) (f : Nat) (hf : f < 23) (hr : f0[f]? = some (0, 0, f)) {index : Nat} {v : Int32} (hfin : (TX0 f).2.2.2 = false) {ty : FieldType} (hd : parseFieldDescriptor (TX0 f).2.2.1 = some ty) (hnr : narrow ty (.int v) = .int v) (hfit : fits ty (.int v) = true) {host : String} (n : Nat) (hn : nestF[n]? = some (own, index, (TX0 f).1, (TX0 f).2.1, (TX0 f).2.2.1, host)) (hdg : decode cc pc = .ok (.putfield index, 3)) (e1 : σ1 = si σ 0 f v) (kk : ∀ (H1 : Heap) (locs1 : List Loc), wx G rd q σ1 H1 → va_S (fa G) s.heap H1 locs1 → W p l e R s m args below meth c H1 locs1 cells slots Q (F0 m (pc + 3) ls rest)) : W p l e R s m args below meth c H locs cells slots Q (F0 m pc ls (.int v :: .ref (q 0) :: rest)) := r_putN C hw hS (wi_lo (Or.inl (by omega))) rfl (ci := 0) (Cn := RX0) (T := TX0) (N := 23) rfl in_X0 tyX0 tyX0_ok nmX0 f hf hr (unq_e (unq0 f hf)) (ho_lo (by omega)) hfin hd hnr hfit n hn hdg e1 kk
theorem r_get8 (C : cx p s m args meth c cc nL own ret G) (hw : wx G rd q σ H) (f : Nat) (hf : f < 26) {r : Sr} (hr : f8[f]? = some r) {index : Nat} {v : Value} (hv : sv q σ r = v) (hlink : (Cond.fieldLink own index (TX8 f).1 (TX8 f).2.1 (TX8 f).2.2.1) ∈ lw_all) (hdg : decode cc pc = .ok (.getfield index, 3)) (kk : W p l e R s m args below meth c H locs cells slots Q (F0 m (pc + 3) ls (v :: rest))) : W p l e R s m args below meth c H locs cells slots Q (F0 m pc ls (.ref (q 1) :: rest)) := r_get C hw (wi_lo (Or.inl (by omega))) rfl (ci := 8) (Cn := RX8) (T := TX8) (N := 26) rfl in_X8 f hf hr hv hlink hdg kk
theorem r_put8 (C : cx p s m args meth c cc nL own ret G) (hw : wx G rd q σ H) (hS : va_S (fa G) s.heap H locs) (f : Nat) (hf : f < 26) (hr : f8[f]? = some (0, 1, f)) {index : Nat} {v : Int32} (hfin : (TX8 f).2.2.2 = false) {ty : FieldType} (hd : parseFieldDescriptor (TX8 f).2.2.1 = some ty) (hnr : narrow ty (.int v) = .int v) (hfit : fits ty (.int v) = true) (hlink : (Cond.fieldLink own index (TX8 f).1 (TX8 f).2.1 (TX8 f).2.2.1) ∈ lw_all) (hdg : decode cc pc = .ok (.putfield index, 3)) (e1 : σ1 = si σ 1 f v) (kk : ∀ (H1 : Heap) (locs1 : List Loc), wx G rd q σ1 H1 → va_S (fa G) s.heap H1 locs1 → W p l e R s m args below meth c H1 locs1 cells slots Q (F0 m (pc + 3) ls rest)) : W p l e R s m args below meth c H locs cells slots Q (F0 m pc ls (.int v :: .ref (q 1) :: rest)) := r_put C hw hS (wi_lo (Or.inl (by omega))) rfl (ci := 8) (Cn := RX8) (T := TX8) (N := 26) rfl in_X8 tyX8 tyX8_ok nmX8 f hf hr (unq_e (unq8 f hf)) (ho_lo (by omega)) hfin hd hnr hfit hlink hdg e1 kk
theorem r_get8N (C : cx p s m args meth c cc nL own ret G) (hw : wx G rd q σ H) (f : Nat) (hf : f < 26) {r : Sr} (hr : f8[f]? = some r) {index : Nat} {v : Value} (hv : sv q σ r = v) {host : String} (n : Nat) (hn : nestF[n]? = some (own, index, (TX8 f).1, (TX8 f).2.1, (TX8 f).2.2.1, host)) (hdg : decode cc pc = .ok (.getfield index, 3)) (kk : W p l e R s m args below meth c H locs cells slots Q (F0 m (pc + 3) ls (v :: rest))) : W p l e R s m args below meth c H locs cells slots Q (F0 m pc ls (.ref (q 1) :: rest)) := r_getN C hw (wi_lo (Or.inl (by omega))) rfl (ci := 8) (Cn := RX8) (T := TX8) (N := 26) rfl in_X8 f hf hr hv n hn hdg kk
theorem r_put8N (C : cx p s m args meth c cc nL own ret G) (hw : wx G rd q σ H) (hS : va_S (fa G) s.heap H locs) (f : Nat) (hf : f < 26) (hr : f8[f]? = some (0, 1, f)) {index : Nat} {v : Int32} (hfin : (TX8 f).2.2.2 = false) {ty : FieldType} (hd : parseFieldDescriptor (TX8 f).2.2.1 = some ty) (hnr : narrow ty (.int v) = .int v) (hfit : fits ty (.int v) = true) {host : String} (n : Nat) (hn : nestF[n]? = some (own, index, (TX8 f).1, (TX8 f).2.1, (TX8 f).2.2.1, host)) (hdg : decode cc pc = .ok (.putfield index, 3)) (e1 : σ1 = si σ 1 f v) (kk : ∀ (H1 : Heap) (locs1 : List Loc), wx G rd q σ1 H1 → va_S (fa G) s.heap H1 locs1 → W p l e R s m args below meth c H1 locs1 cells slots Q (F0 m (pc + 3) ls rest)) : W p l e R s m args below meth c H locs cells slots Q (F0 m pc ls (.int v :: .ref (q 1) :: rest)) := r_putN C hw hS (wi_lo (Or.inl (by omega))) rfl (ci := 8) (Cn := RX8) (T := TX8) (N := 26) rfl in_X8 tyX8 tyX8_ok nmX8 f hf hr (unq_e (unq8 f hf)) (ho_lo (by omega)) hfin hd hnr hfit n hn hdg e1 kk
theorem r_get9 (C : cx p s m args meth c cc nL own ret G) (hw : wx G true q σ H) (f : Nat) (hf : f < 8) {r : Sr} (hr : f9[f]? = some r) {index : Nat} {v : Value} (hv : sv q σ r = v) (hlink : (Cond.fieldLink own index (TX9 f).1 (TX9 f).2.1 (TX9 f).2.2.1) ∈ lw_all) (hdg : decode cc pc = .ok (.getfield index, 3)) (kk : W p l e R s m args below meth c H locs cells slots Q (F0 m (pc + 3) ls (v :: rest))) : W p l e R s m args below meth c H locs cells slots Q (F0 m pc ls (.ref (q 32) :: rest)) := r_get C hw wi_rd rfl (ci := 9) (Cn := RX9) (T := TX9) (N := 8) rfl in_X9 f hf hr hv hlink hdg kk
theorem r_put9 (C : cx p s m args meth c cc nL own ret G) (hw : wx G true q σ H) (hS : va_S (fa G) s.heap H locs) (f : Nat) (hf : f < 8) (hr : f9[f]? = some (0, 32, f)) {index : Nat} {v : Int32} (hfin : (TX9 f).2.2.2 = false) {ty : FieldType} (hd : parseFieldDescriptor (TX9 f).2.2.1 = some ty) (hnr : narrow ty (.int v) = .int v) (hfit : fits ty (.int v) = true) (hlink : (Cond.fieldLink own index (TX9 f).1 (TX9 f).2.1 (TX9 f).2.2.1) ∈ lw_all) (hdg : decode cc pc = .ok (.putfield index, 3)) (e1 : σ1 = si σ 32 f v) (kk : ∀ (H1 : Heap) (locs1 : List Loc), wx G true q σ1 H1 → va_S (fa G) s.heap H1 locs1 → W p l e R s m args below meth c H1 locs1 cells slots Q (F0 m (pc + 3) ls rest)) : W p l e R s m args below meth c H locs cells slots Q (F0 m pc ls (.int v :: .ref (q 32) :: rest)) := r_put C hw hS wi_rd rfl (ci := 9) (Cn := RX9) (T := TX9) (N := 8) rfl in_X9 tyX9 tyX9_ok nmX9 f hf hr (unq_e (unq9 f hf)) (ho_lo (by omega)) hfin hd hnr hfit hlink hdg e1 kk
theorem r_get9N (C : cx p s m args meth c cc nL own ret G) (hw : wx G true q σ H) (f : Nat) (hf : f < 8) {r : Sr} (hr : f9[f]? = some r) {index : Nat} {v : Value} (hv : sv q σ r = v) {host : String} (n : Nat) (hn : nestF[n]? = some (own, index, (TX9 f).1, (TX9 f).2.1, (TX9 f).2.2.1, host)) (hdg : decode cc pc = .ok (.getfield index, 3)) (kk : W p l e R s m args below meth c H locs cells slots Q (F0 m (pc + 3) ls (v :: rest))) : W p l e R s m args below meth c H locs cells slots Q (F0 m pc ls (.ref (q 32) :: rest)) := r_getN C hw wi_rd rfl (ci := 9) (Cn := RX9) (T := TX9) (N := 8) rfl in_X9 f hf hr hv n hn hdg kk
theorem r_put9N (C : cx p s m args meth c cc nL own ret G) (hw : wx G true q σ H) (hS : va_S (fa G) s.heap H locs) (f : Nat) (hf : f < 8) (hr : f9[f]? = some (0, 32, f)) {index : Nat} {v : Int32} (hfin : (TX9 f).2.2.2 = false) {ty : FieldType} (hd : parseFieldDescriptor (TX9 f).2.2.1 = some ty) (hnr : narrow ty (.int v) = .int v) (hfit : fits ty (.int v) = true) {host : String} (n : Nat) (hn : nestF[n]? = some (own, index, (TX9 f).1, (TX9 f).2.1, (TX9 f).2.2.1, host)) (hdg : decode cc pc = .ok (.putfield index, 3)) (e1 : σ1 = si σ 32 f v) (kk : ∀ (H1 : Heap) (locs1 : List Loc), wx G true q σ1 H1 → va_S (fa G) s.heap H1 locs1 → W p l e R s m args below meth c H1 locs1 cells slots Q (F0 m (pc + 3) ls rest)) : W p l e R s m args below meth c H locs cells slots Q (F0 m pc ls (.int v :: .ref (q 32) :: rest)) := r_putN C hw hS wi_rd rfl (ci := 9) (Cn := RX9) (T := TX9) (N := 8) rfl in_X9 tyX9 tyX9_ok nmX9 f hf hr (unq_e (unq9 f hf)) (ho_lo (by omega)) hfin hd hnr hfit n hn hdg e1 kk
theorem r_getS (C : cx p s m args meth c cc nL own ret G) (hw : wx G rd q σ H) {k : Nat} (hk : okS rd k) (f : Nat) (hf : f < 11) {r : Sr} (hr : (fS k)[f]? = some r) {index : Nat} {v : Value} (hv : sv q σ r = v) (hlink : (Cond.fieldLink own index (TX5 f).1 (TX5 f).2.1 (TX5 f).2.2.1) ∈ lw_all) (hdg : decode cc pc = .ok (.getfield index, 3)) (kk : W p l e R s m args below meth c H locs cells slots Q (F0 m (pc + 3) ls (v :: rest))) : W p l e R s m args below meth c H locs cells slots Q (F0 m pc ls (.ref (q (iS k)) :: rest)) := r_get C hw (wi_S hk) (tm_S _ k) (ci := 5) (Cn := RX5) (T := TX5) (N := 11) rfl in_X5 f hf hr hv hlink hdg kk
theorem r_putS (C : cx p s m args meth c cc nL own ret G) (hw : wx G rd q σ H) (hS : va_S (fa G) s.heap H locs) {k : Nat} (hk : okS rd k) (f : Nat) (hf : f < 11) {x : Nat} (hr : (fS k)[f]? = some (0, (iS k), x)) {index : Nat} {v : Int32} (hfin : (TX5 f).2.2.2 = false) {ty : FieldType} (hd : parseFieldDescriptor (TX5 f).2.2.1 = some ty) (hnr : narrow ty (.int v) = .int v) (hfit : fits ty (.int v) = true) (hlink : (Cond.fieldLink own index (TX5 f).1 (TX5 f).2.1 (TX5 f).2.2.1) ∈ lw_all) (hdg : decode cc pc = .ok (.putfield index, 3)) (e1 : σ1 = si σ (iS k) x v) (kk : ∀ (H1 : Heap) (locs1 : List Loc), wx G rd q σ1 H1 → va_S (fa G) s.heap H1 locs1 → W p l e R s m args below meth c H1 locs1 cells slots Q (F0 m (pc + 3) ls rest)) : W p l e R s m args below meth c H locs cells slots Q (F0 m pc ls (.int v :: .ref (q (iS k)) :: rest)) := r_put C hw hS (wi_S hk) (tm_S _ k) (ci := 5) (Cn := RX5) (T := TX5) (N := 11) rfl in_X5 tyX5 tyX5_ok nmX5 f hf hr (unq_e (unqS hr)) (ho_S (unqS16 hr)) hfin hd hnr hfit hlink hdg e1 kk
theorem r_getSN (C : cx p s m args meth c cc nL own ret G) (hw : wx G rd q σ H) {k : Nat} (hk : okS rd k) (f : Nat) (hf : f < 11) {r : Sr} (hr : (fS k)[f]? = some r) {index : Nat} {v : Value} (hv : sv q σ r = v) {host : String} (n : Nat) (hn : nestF[n]? = some (own, index, (TX5 f).1, (TX5 f).2.1, (TX5 f).2.2.1, host)) (hdg : decode cc pc = .ok (.getfield index, 3)) (kk : W p l e R s m args below meth c H locs cells slots Q (F0 m (pc + 3) ls (v :: rest))) : W p l e R s m args below meth c H locs cells slots Q (F0 m pc ls (.ref (q (iS k)) :: rest)) := r_getN C hw (wi_S hk) (tm_S _ k) (ci := 5) (Cn := RX5) (T := TX5) (N := 11) rfl in_X5 f hf hr hv n hn hdg kk
theorem r_putSN (C : cx p s m args meth c cc nL own ret G) (hw : wx G rd q σ H) (hS : va_S (fa G) s.heap H locs) {k : Nat} (hk : okS rd k) (f : Nat) (hf : f < 11) {x : Nat} (hr : (fS k)[f]? = some (0, (iS k), x)) {index : Nat} {v : Int32} (hfin : (TX5 f).2.2.2 = false) {ty : FieldType} (hd : parseFieldDescriptor (TX5 f).2.2.1 = some ty) (hnr : narrow ty (.int v) = .int v) (hfit : fits ty (.int v) = true) {host : String} (n : Nat) (hn : nestF[n]? = some (own, index, (TX5 f).1, (TX5 f).2.1, (TX5 f).2.2.1, host)) (hdg : decode cc pc = .ok (.putfield index, 3)) (e1 : σ1 = si σ (iS k) x v) (kk : ∀ (H1 : Heap) (locs1 : List Loc), wx G rd q σ1 H1 → va_S (fa G) s.heap H1 locs1 → W p l e R s m args below meth c H1 locs1 cells slots Q (F0 m (pc + 3) ls rest)) : W p l e R s m args below meth c H locs cells slots Q (F0 m pc ls (.int v :: .ref (q (iS k)) :: rest)) := r_putN C hw hS (wi_S hk) (tm_S _ k) (ci := 5) (Cn := RX5) (T := TX5) (N := 11) rfl in_X5 tyX5 tyX5_ok nmX5 f hf hr (unq_e (unqS hr)) (ho_S (unqS16 hr)) hfin hd hnr hfit n hn hdg e1 kk
theorem r_getW (C : cx p s m args meth c cc nL own ret G) (hw : wx G rd q σ H) {k w : Nat} (hk : okS rd k) (hwl : w < 4) (f : Nat) (hf : f < 4) {r : Sr} (hr : (fW k w)[f]? = some r) {index : Nat} {v : Value} (hv : sv q σ r = v) (hlink : (Cond.fieldLink own index (TX6 f).1 (TX6 f).2.1 (TX6 f).2.2.1) ∈ lw_all) (hdg : decode cc pc = .ok (.getfield index, 3)) (kk : W p l e R s m args below meth c H locs cells slots Q (F0 m (pc + 3) ls (v :: rest))) : W p l e R s m args below meth c H locs cells slots Q (F0 m pc ls (.ref (q (iW k w)) :: rest)) := r_get C hw (wi_W hk hwl) (tm_W _ k hwl) (ci := 6) (Cn := RX6) (T := TX6) (N := 4) rfl in_X6 f hf hr hv hlink hdg kk
theorem r_putW (C : cx p s m args meth c cc nL own ret G) (hw : wx G rd q σ H) (hS : va_S (fa G) s.heap H locs) {k w : Nat} (hk : okS rd k) (hwl : w < 4) (f : Nat) (hf : f < 4) {x : Nat} (hr : (fW k w)[f]? = some (0, (iS k), x)) {index : Nat} {v : Int32} (hfin : (TX6 f).2.2.2 = false) {ty : FieldType} (hd : parseFieldDescriptor (TX6 f).2.2.1 = some ty) (hnr : narrow ty (.int v) = .int v) (hfit : fits ty (.int v) = true) (hlink : (Cond.fieldLink own index (TX6 f).1 (TX6 f).2.1 (TX6 f).2.2.1) ∈ lw_all) (hdg : decode cc pc = .ok (.putfield index, 3)) (e1 : σ1 = si σ (iS k) x v) (kk : ∀ (H1 : Heap) (locs1 : List Loc), wx G rd q σ1 H1 → va_S (fa G) s.heap H1 locs1 → W p l e R s m args below meth c H1 locs1 cells slots Q (F0 m (pc + 3) ls rest)) : W p l e R s m args below meth c H locs cells slots Q (F0 m pc ls (.int v :: .ref (q (iW k w)) :: rest)) := r_put C hw hS (wi_W hk hwl) (tm_W _ k hwl) (ci := 6) (Cn := RX6) (T := TX6) (N := 4) rfl in_X6 tyX6 tyX6_ok nmX6 f hf hr (huW hr) (ho_W hwl (by have := fW_at hr; omega) (by have := fW_at hr; omega)) hfin hd hnr hfit hlink hdg e1 kk
theorem r_getWN (C : cx p s m args meth c cc nL own ret G) (hw : wx G rd q σ H) {k w : Nat} (hk : okS rd k) (hwl : w < 4) (f : Nat) (hf : f < 4) {r : Sr} (hr : (fW k w)[f]? = some r) {index : Nat} {v : Value} (hv : sv q σ r = v) {host : String} (n : Nat) (hn : nestF[n]? = some (own, index, (TX6 f).1, (TX6 f).2.1, (TX6 f).2.2.1, host)) (hdg : decode cc pc = .ok (.getfield index, 3)) (kk : W p l e R s m args below meth c H locs cells slots Q (F0 m (pc + 3) ls (v :: rest))) : W p l e R s m args below meth c H locs cells slots Q (F0 m pc ls (.ref (q (iW k w)) :: rest)) := r_getN C hw (wi_W hk hwl) (tm_W _ k hwl) (ci := 6) (Cn := RX6) (T := TX6) (N := 4) rfl in_X6 f hf hr hv n hn hdg kk
theorem r_putWN (C : cx p s m args meth c cc nL own ret G) (hw : wx G rd q σ H) (hS : va_S (fa G) s.heap H locs) {k w : Nat} (hk : okS rd k) (hwl : w < 4) (f : Nat) (hf : f < 4) {x : Nat} (hr : (fW k w)[f]? = some (0, (iS k), x)) {index : Nat} {v : Int32} (hfin : (TX6 f).2.2.2 = false) {ty : FieldType} (hd : parseFieldDescriptor (TX6 f).2.2.1 = some ty) (hnr : narrow ty (.int v) = .int v) (hfit : fits ty (.int v) = true) {host : String} (n : Nat) (hn : nestF[n]? = some (own, index, (TX6 f).1, (TX6 f).2.1, (TX6 f).2.2.1, host)) (hdg : decode cc pc = .ok (.putfield index, 3)) (e1 : σ1 = si σ (iS k) x v) (kk : ∀ (H1 : Heap) (locs1 : List Loc), wx G rd q σ1 H1 → va_S (fa G) s.heap H1 locs1 → W p l e R s m args below meth c H1 locs1 cells slots Q (F0 m (pc + 3) ls rest)) : W p l e R s m args below meth c H locs cells slots Q (F0 m pc ls (.int v :: .ref (q (iW k w)) :: rest)) := r_putN C hw hS (wi_W hk hwl) (tm_W _ k hwl) (ci := 6) (Cn := RX6) (T := TX6) (N := 4) rfl in_X6 tyX6 tyX6_ok nmX6 f hf hr (huW hr) (ho_W hwl (by have := fW_at hr; omega) (by have := fW_at hr; omega)) hfin hd hnr hfit n hn hdg e1 kk
theorem r_putl0 (C : cx p s m args meth c cc nL own ret G) (hw : wx G rd q σ H) (hS : va_S (fa G) s.heap H locs) (f : Nat) (hf : f < 23) {y : Nat} (hr : f0[f]? = some (1, f, y)) {index : Nat} {v : Int64} (hfin : (TX0 f).2.2.2 = false) (hd : parseFieldDescriptor (TX0 f).2.2.1 = some .long) (hlink : (Cond.fieldLink own index (TX0 f).1 (TX0 f).2.1 (TX0 f).2.2.1) ∈ lw_all) (hdg : decode cc pc = .ok (.putfield index, 3)) (e1 : σ1 = sl σ f v) (kk : ∀ (H1 : Heap) (locs1 : List Loc), wx G rd q σ1 H1 → va_S (fa G) s.heap H1 locs1 → W p l e R s m args below meth c H1 locs1 cells slots Q (F0 m (pc + 3) ls rest)) : W p l e R s m args below meth c H locs cells slots Q (F0 m pc ls (.long v :: .ref (q 0) :: rest)) := r_putl C hw hS (wi_lo (Or.inl (by omega))) rfl (ci := 0) (Cn := RX0) (T := TX0) (N := 23) rfl in_X0 tyX0 tyX0_ok nmX0 f hf hr (unql_e (unql0 f hf)) hoL hfin hd hlink hdg e1 kk
end RX
