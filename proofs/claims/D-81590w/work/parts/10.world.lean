/-! THE WORLD: one world for the whole run (component, model, reader), its state σ; F-level combinators -/
set_option maxRecDepth 100000
/-- the state: int places by (group, index); long fields of FlyWheels; the sheets' arrays (kind 0 none, 1 byte, 2 short, 3 int; length) -/
abbrev SS : Type := (Nat → Nat → Int32) × (Nat → Int64) × (Nat → Nat × Nat)
def gi (σ : SS) (g i : Nat) : Int32 := σ.1 g i
def si (σ : SS) (g i : Nat) (x : Int32) : SS := (fun g' i' => if g' = g ∧ i' = i then x else σ.1 g' i', σ.2)
def gl (σ : SS) (i : Nat) : Int64 := σ.2.1 i
def sl (σ : SS) (i : Nat) (x : Int64) : SS := (σ.1, fun i' => if i' = i then x else σ.2.1 i', σ.2.2)
def gd {α : Type} (c : Prop) [Decidable c] (m : Option α) : Option α := if c then m else none
def nm {α β : Type} (x : β) (k : β → Option α) : Option α := k x
def bd {α β : Type} (m : Option (β × SS)) (k : β → SS → Option α) : Option α := match m with
  | none => none
  | some (r, σ) => k r σ
theorem gd_e {α : Type} {c : Prop} [Decidable c] {m : Option α} {r : α} (h : gd c m = some r) : c ∧ m = some r := by
  unfold gd at h
  split at h
  · exact ⟨by assumption, h⟩
  · cases h
theorem nm_e2 {α β : Type} {x : β} {k : β → Option α} {r : α} (h : nm x k = some r) : ∃ y, y = x ∧ k y = some r := ⟨x, rfl, h⟩
theorem bd_e {α β : Type} {m : Option (β × SS)} {k : β → SS → Option α} {r : α} (h : bd m k = some r) : ∃ u σ, m = some (u, σ) ∧ k u σ = some r := by
  unfold bd at h
  split at h
  · cases h
  · exact ⟨_, _, rfl, h⟩
theorem it_e {α : Type} {c : Prop} [Decidable c] {a b : Option α} {r : α} (h : (if c then a else b) = some r) (hc : c) : a = some r := by rw [if_pos hc] at h; exact h
theorem if_e {α : Type} {c : Prop} [Decidable c] {a b : Option α} {r : α} (h : (if c then a else b) = some r) (hc : ¬ c) : b = some r := by rw [if_neg hc] at h; exact h
theorem so_e {β : Type} {a r : β} {σ σ' : SS} (h : some (a, σ) = some (r, σ')) : a = r ∧ σ = σ' := by cases h; exact ⟨rfl, rfl⟩
/-- an index in range -/
abbrev inR (i : Int32) (n : Nat) : Prop := ¬ (i < 0 ∨ n ≤ i.toNatClampNeg)
theorem inR_lt {i : Int32} {n : Nat} (h : inR i n) : i.toNatClampNeg < n := Nat.not_le.mp fun q => h (Or.inr q)
-- the cells: ids
def iS (k : Nat) : Nat := 40 + 10 * k
def iWA (k : Nat) : Nat := 41 + 10 * k
def iAA (k : Nat) : Nat := 42 + 10 * k
def iW (k w : Nat) : Nat := 43 + 10 * k + w
/-- where a field comes from: (0, group, index) an int; (1, index, _) a long; (2, id, _) a reference; else null -/
abbrev Sr : Type := Nat × Nat × Nat
def sv (q : Nat → Nat) (σ : SS) (r : Sr) : Value := match r.1 with
  | 0 => .int (σ.1 r.2.1 r.2.2)
  | 1 => .long (σ.2.1 r.2.1)
  | 2 => .ref (q r.2.1)
  | _ => .null
/-- a cell's form: an object (class, fields) or an array (1 refs, else ints; type, length, group or first id, step) -/
abbrev Tm : Type := (Nat × List Sr) ⊕ (Nat × Nat × Nat × Nat × Nat)
def ev (dA : Nat → ClassId) (q : Nat → Nat) (σ : SS) (t : Tm) : va_E := match t with
  | .inl o => .inr (o.1, o.2.map (sv q σ))
  | .inr a => match a.1 with
    | 1 => .inl (dA a.2.1, a.2.2.1, .inr (.inr (.inr (.inr (fun j => some (q (a.2.2.2.1 + a.2.2.2.2 * j)))))))
    | _ => .inl (dA a.2.1, a.2.2.1, .inl (fun j => σ.1 a.2.2.2.1 j))
-- types of arrays: 0 int, 1 byte, 2 short, 3 boolean, 4 Plain, 5 Wheel, 6 Shaft, 7 Sheet
def shT (p : Nat × Nat) (j : Nat) : Tm := .inr (2, (if p.1 = 1 then 1 else if p.1 = 2 then 2 else 0), p.2, 17 + j, 0)
def shO (p : Nat × Nat) (j : Nat) : Tm := .inl (7, [if p.1 = 0 then (3, 0, 0) else (2, 17 + j, 0)])
def tm0 (d : Nat → Nat × Nat) (i : Nat) : Tm := match i with
  | 0 => .inl (0, [(2, 2, 0), (2, iS 0, 0), (2, iS 1, 0), (2, 3, 0), (0, 0, 4), (2, 4, 0), (0, 0, 6), (0, 0, 7), (0, 0, 8), (0, 0, 9), (0, 0, 10), (2, 7, 0), (0, 0, 12), (0, 0, 13), (0, 0, 14), (0, 0, 15), (1, 16, 0), (1, 17, 0), (1, 18, 0), (2, 5, 0), (2, 6, 0), (2, 8, 0), (0, 0, 22)])
  | 1 => .inl (8, [(2, 21, 0), (2, 22, 0), (0, 1, 2), (2, 23, 0), (0, 1, 4), (0, 1, 5), (0, 1, 6), (0, 1, 7), (0, 1, 8), (0, 1, 9), (0, 1, 10), (0, 1, 11), (2, 24, 0), (2, 25, 0), (0, 1, 14), (0, 1, 15), (0, 1, 16), (0, 1, 17), (2, 26, 0), (0, 1, 19), (2, 27, 0), (2, 28, 0), (2, 29, 0), (2, 30, 0), (2, 31, 0), (0, 1, 25)])
  | 2 => .inr (1, 4, 4, 9, 1)
  | 3 => .inr (1, 6, 2, 60, 10)
  | 4 => .inr (0, 0, 18, 4, 0)
  | 5 => .inr (0, 0, 164, 5, 0)
  | 6 => .inr (0, 0, 410, 6, 0)
  | 7 => .inr (0, 1, 160, 7, 0)
  | 8 => .inr (1, 7, 4, 13, 1)
  | 9 => .inl (1, [])
  | 10 => .inl (2, [])
  | 11 => .inl (3, [])
  | 12 => .inl (4, [])
  | 13 => shO (d 0) 0
  | 14 => shO (d 1) 1
  | 15 => shO (d 2) 2
  | 16 => shO (d 3) 3
  | 17 => shT (d 0) 0
  | 18 => shT (d 1) 1
  | 19 => shT (d 2) 2
  | 20 => shT (d 3) 3
  | 21 => .inr (0, 0, 234, 21, 0)
  | 22 => .inr (0, 0, 39, 22, 0)
  | 23 => .inr (0, 0, 160, 23, 0)
  | 24 => .inr (0, 0, 9, 24, 0)
  | 25 => .inr (0, 0, 35, 25, 0)
  | 26 => .inr (0, 0, 18, 26, 0)
  | 27 => .inr (0, 0, 410, 27, 0)
  | 28 => .inr (0, 3, 2, 28, 0)
  | 29 => .inr (0, 0, 4, 29, 0)
  | 30 => .inr (0, 0, 4, 30, 0)
  | 31 => .inr (0, 0, 160, 31, 0)
  | _ => .inl (9, [(0, 32, 0), (2, iS 4, 0), (0, 32, 2), (0, 32, 3), (0, 32, 4), (0, 32, 5), (0, 32, 6), (2, 0, 0)])
/-- a shaft's cells: the object, the array of wheels, the array of acts, four wheels; its ints in one group, 40 + 10 k: kinds 0.., masses 4.., losses 8.., swings 12.., wheels 16, how many acts 33, mass 34, swings 35, tick 36, done 37, lack 38, omitted 39, off 40; its acts are the group 42 + 10 k -/
def tmS (k r : Nat) : Tm := match r with
  | 0 => .inl (5, [(0, iS k, 34), (0, iS k, 35), (0, iS k, 16), (2, iWA k, 0), (0, iS k, 33), (2, iAA k, 0), (0, iS k, 36), (0, iS k, 37), (0, iS k, 38), (0, iS k, 39), (0, iS k, 40)])
  | 1 => .inr (1, 5, 4, 43 + 10 * k, 1)
  | 2 => .inr (0, 2, 16, iAA k, 0)
  | r + 3 => .inl (6, [(0, iS k, r), (0, iS k, 4 + r), (0, iS k, 8 + r), (0, iS k, 12 + r)])
def tm (d : Nat → Nat × Nat) (i : Nat) : Tm := if i < 40 then tm0 d i else tmS ((i - 40) / 10) ((i - 40) % 10)
theorem tm_S (d : Nat → Nat × Nat) (k : Nat) : tm d (iS k) = tmS k 0 := by
  unfold tm iS
  rw [if_neg (by omega), show (40 + 10 * k - 40) / 10 = k by omega, show (40 + 10 * k - 40) % 10 = 0 by omega]
theorem tm_WA (d : Nat → Nat × Nat) (k : Nat) : tm d (iWA k) = tmS k 1 := by
  unfold tm iWA
  rw [if_neg (by omega), show (41 + 10 * k - 40) / 10 = k by omega, show (41 + 10 * k - 40) % 10 = 1 by omega]
theorem tm_AA (d : Nat → Nat × Nat) (k : Nat) : tm d (iAA k) = tmS k 2 := by
  unfold tm iAA
  rw [if_neg (by omega), show (42 + 10 * k - 40) / 10 = k by omega, show (42 + 10 * k - 40) % 10 = 2 by omega]
theorem tm_W (d : Nat → Nat × Nat) (k : Nat) {w : Nat} (hw : w < 4) : tm d (iW k w) = tmS k (w + 3) := by
  unfold tm iW
  rw [if_neg (by omega), show (43 + 10 * k + w - 40) / 10 = k by omega, show (43 + 10 * k + w - 40) % 10 = w + 3 by omega]
theorem tm_lo (d : Nat → Nat × Nat) {i : Nat} (h : i < 40) : tm d i = tm0 d i := if_pos h
/-- which cells there are: sheets' arrays by d, the reader and its shaft by rd -/
def wi (rd : Bool) (d : Nat → Nat × Nat) : List Nat := (List.range 90).filter (fun i => if i < 17 then true else if i < 21 then decide ((d (i - 17)).1 ≠ 0) else if i < 32 then true else if i = 32 then rd else if i < 40 then false else if i < 80 then decide ((i - 40) % 10 < 7) else rd && decide ((i - 40) % 10 < 7))
theorem wi_mem {rd : Bool} {d : Nat → Nat × Nat} {i : Nat} : i ∈ wi rd d ↔ i < 90 ∧ (if i < 17 then true else if i < 21 then decide ((d (i - 17)).1 ≠ 0) else if i < 32 then true else if i = 32 then rd else if i < 40 then false else if i < 80 then decide ((i - 40) % 10 < 7) else rd && decide ((i - 40) % 10 < 7)) = true := by
  unfold wi
  rw [List.mem_filter, List.mem_range]
theorem wi_nodup (rd : Bool) (d : Nat → Nat × Nat) : (wi rd d).Nodup := List.Nodup.sublist List.filter_sublist List.nodup_range
/-- a shaft that there is -/
def okS (rd : Bool) (k : Nat) : Prop := k < 4 ∨ (k = 4 ∧ rd = true)
theorem wi_lo {rd : Bool} {d : Nat → Nat × Nat} {i : Nat} (h : i < 17 ∨ (21 ≤ i ∧ i < 32)) : i ∈ wi rd d := by
  rw [wi_mem]
  refine ⟨by omega, ?_⟩
  rcases h with h | h
  · rw [if_pos h]
  · rw [if_neg (by omega), if_neg (by omega), if_pos h.2]
theorem wi_sh {rd : Bool} {d : Nat → Nat × Nat} {j : Nat} (h : j < 4) (hd : (d j).1 ≠ 0) : 17 + j ∈ wi rd d := by
  rw [wi_mem]
  refine ⟨by omega, ?_⟩
  rw [if_neg (by omega), if_pos (by omega), show 17 + j - 17 = j by omega]
  exact decide_eq_true hd
theorem wi_rd {d : Nat → Nat × Nat} : 32 ∈ wi true d := by
  rw [wi_mem]
  exact ⟨by omega, rfl⟩
theorem wi_s {rd : Bool} {d : Nat → Nat × Nat} {k r : Nat} (hk : okS rd k) (hr : r < 7) : 40 + 10 * k + r ∈ wi rd d := by
  rw [wi_mem]
  have h2 : (40 + 10 * k + r - 40) % 10 < 7 := by omega
  rcases hk with h | ⟨h, h1⟩
  · refine ⟨by omega, ?_⟩
    rw [if_neg (by omega), if_neg (by omega), if_neg (by omega), if_neg (by omega), if_neg (by omega), if_pos (by omega)]
    exact decide_eq_true h2
  · refine ⟨by omega, ?_⟩
    rw [if_neg (by omega), if_neg (by omega), if_neg (by omega), if_neg (by omega), if_neg (by omega), if_neg (by omega), h1]
    exact decide_eq_true h2
/-- the world's cells -/
def wc (dA : Nat → ClassId) (rd : Bool) (q : Nat → Nat) (σ : SS) : va_W := (wi rd σ.2.2).map (fun i => (q i, ev dA q σ (tm σ.2.2 i)))
theorem wc_at {dA : Nat → ClassId} {rd : Bool} {q : Nat → Nat} {σ : SS} {i : Nat} (h : i ∈ wi rd σ.2.2) : ∃ k : Nat, (wi rd σ.2.2)[k]? = some i ∧ (wc dA rd q σ)[k]? = some (q i, ev dA q σ (tm σ.2.2 i)) := by
  obtain ⟨k, hk⟩ := List.getElem?_of_mem h
  refine ⟨k, hk, ?_⟩
  unfold wc
  rw [List.getElem?_map, hk]
  rfl
/-- behind a write to the cell i -/
theorem wc_set {dA : Nat → ClassId} {rd : Bool} {q : Nat → Nat} {σ σ' : SS} {i k : Nat} {e : va_E} (hd : σ'.2.2 = σ.2.2) (hk : (wi rd σ.2.2)[k]? = some i) (he : ev dA q σ' (tm σ.2.2 i) = e) (ho : ∀ j, j ∈ wi rd σ.2.2 → j ≠ i → ev dA q σ' (tm σ.2.2 j) = ev dA q σ (tm σ.2.2 j)) : (wc dA rd q σ).set k (q i, e) = wc dA rd q σ' := by
  have hl := (List.getElem?_eq_some_iff.mp hk).1
  refine List.ext_getElem? fun n => ?_
  unfold wc
  rw [hd]
  by_cases hn : n = k
  · subst hn
    rw [List.getElem?_set_self (by rw [List.length_map]; exact hl), List.getElem?_map, hk]
    simp [he]
  · rw [List.getElem?_set_ne (Ne.symm hn), List.getElem?_map, List.getElem?_map]
    cases hj : (wi rd σ.2.2)[n]? with
    | none => rfl
    | some j =>
      have hne : j ≠ i := by
        intro e2
        subst e2
        exact hn ((List.getElem?_inj (List.getElem?_eq_some_iff.mp hj).1 (wi_nodup rd σ.2.2)).mp (hj.trans hk.symm))
      simp [ho j (List.mem_of_getElem? hj) hne]
/-- does a form read the int place (g, x)? -/
def rds (t : Tm) (g x : Nat) : Bool := match t with
  | .inl o => o.2.any (fun s => s.1 == 0 && s.2.1 == g && s.2.2 == x)
  | .inr a => a.1 != 1 && a.2.2.2.1 == g
def rdl (t : Tm) (x : Nat) : Bool := match t with
  | .inl o => o.2.any (fun s => s.1 == 1 && s.2.1 == x)
  | .inr _ => false
theorem sv_si {q : Nat → Nat} {σ : SS} {g x : Nat} {v : Int32} {r : Sr} (h : (r.1 == 0 && r.2.1 == g && r.2.2 == x) = false) : sv q (si σ g x v) r = sv q σ r := by
  obtain ⟨a, b, c⟩ := r
  unfold sv si
  match a, h with
  | 0, h =>
    have hn : ¬ (b = g ∧ c = x) := by
      rintro ⟨rfl, rfl⟩
      simp at h
    simp only [if_neg hn]
  | 1, _ => rfl
  | 2, _ => rfl
  | _ + 3, _ => rfl
theorem sv_sl {q : Nat → Nat} {σ : SS} {x : Nat} {v : Int64} {r : Sr} (h : (r.1 == 1 && r.2.1 == x) = false) : sv q (sl σ x v) r = sv q σ r := by
  obtain ⟨a, b, c⟩ := r
  unfold sv sl
  match a, h with
  | 0, _ => rfl
  | 1, h =>
    have hn : ¬ (b = x) := by
      rintro rfl
      simp at h
    simp only [if_neg hn]
  | 2, _ => rfl
  | _ + 3, _ => rfl
theorem ev_si {dA : Nat → ClassId} {q : Nat → Nat} {σ : SS} {g x : Nat} {v : Int32} {t : Tm} (h : rds t g x = false) : ev dA q (si σ g x v) t = ev dA q σ t := by
  match t, h with
  | .inl (ci, fs), h =>
    unfold ev
    have h2 : fs.map (sv q (si σ g x v)) = fs.map (sv q σ) := List.map_congr_left fun r hr => sv_si (by
      have := List.any_eq_false.mp (show fs.any (fun s => s.1 == 0 && s.2.1 == g && s.2.2 == x) = false from h) r hr
      simpa using this)
    simp only [h2]
  | .inr (a, ty, n, g2, st), h =>
    unfold ev
    match a, h with
    | 1, _ => rfl
    | 0, h =>
      have hg : ¬ g2 = g := by
        rintro rfl
        simp [rds] at h
      simp [si, hg]
    | a + 2, h =>
      have hg : ¬ g2 = g := by
        rintro rfl
        simp [rds] at h
      simp [si, hg]
theorem ev_sl {dA : Nat → ClassId} {q : Nat → Nat} {σ : SS} {x : Nat} {v : Int64} {t : Tm} (h : rdl t x = false) : ev dA q (sl σ x v) t = ev dA q σ t := by
  match t, h with
  | .inl (ci, fs), h =>
    unfold ev
    have h2 : fs.map (sv q (sl σ x v)) = fs.map (sv q σ) := List.map_congr_left fun r hr => sv_sl (by
      have := List.any_eq_false.mp (show fs.any (fun s => s.1 == 1 && s.2.1 == x) = false from h) r hr
      simpa using this)
    simp only [h2]
  | .inr (a, ty, n, g2, st), h => rfl
/-- an object's fields behind a write to the one that reads (g, x) -/
theorem fs_set {q : Nat → Nat} {σ : SS} {g x f : Nat} {v : Int32} {fs : List Sr} (hf : fs[f]? = some (0, g, x)) (hu : ∀ n r, n ≠ f → fs[n]? = some r → (r.1 == 0 && r.2.1 == g && r.2.2 == x) = false) : fs.map (sv q (si σ g x v)) = (fs.map (sv q σ)).set f (.int v) := by
  have hl := (List.getElem?_eq_some_iff.mp hf).1
  refine List.ext_getElem? fun n => ?_
  by_cases hn : n = f
  · subst hn
    rw [List.getElem?_set_self (by rw [List.length_map]; exact hl), List.getElem?_map, hf]
    simp [sv, si]
  · rw [List.getElem?_set_ne (Ne.symm hn), List.getElem?_map, List.getElem?_map]
    cases hr : fs[n]? with
    | none => rfl
    | some r =>
      show some _ = some _
      rw [sv_si (hu n r hn hr)]
theorem fs_setl {q : Nat → Nat} {σ : SS} {x y f : Nat} {v : Int64} {fs : List Sr} (hf : fs[f]? = some (1, x, y)) (hu : ∀ n r, n ≠ f → fs[n]? = some r → (r.1 == 1 && r.2.1 == x) = false) : fs.map (sv q (sl σ x v)) = (fs.map (sv q σ)).set f (.long v) := by
  have hl := (List.getElem?_eq_some_iff.mp hf).1
  refine List.ext_getElem? fun n => ?_
  by_cases hn : n = f
  · subst hn
    rw [List.getElem?_set_self (by rw [List.length_map]; exact hl), List.getElem?_map, hf]
    simp [sv, sl]
  · rw [List.getElem?_set_ne (Ne.symm hn), List.getElem?_map, List.getElem?_map]
    cases hr : fs[n]? with
    | none => rfl
    | some r =>
      show some _ = some _
      rw [sv_sl (hu n r hn hr)]
/-- the check by which a field is the only one of its object that reads its place -/
def unq (fs : List Sr) (f x : Nat) : Bool := (List.range fs.length).all (fun n => n == f || !((fs.getD n (3, 0, 0)).1 == 0 && (fs.getD n (3, 0, 0)).2.2 == x))
theorem unq_e {fs : List Sr} {f g x : Nat} (h : unq fs f x = true) : ∀ n r, n ≠ f → fs[n]? = some r → (r.1 == 0 && r.2.1 == g && r.2.2 == x) = false := by
  intro n r hn hr
  have hl := (List.getElem?_eq_some_iff.mp hr).1
  have h1 := List.all_eq_true.mp h n (List.mem_range.mpr hl)
  have h2 : fs.getD n (3, 0, 0) = r := by rw [List.getD_eq_getElem?_getD, hr]; rfl
  rw [h2] at h1
  have h3 : (n == f) = false := by simp [hn]
  rw [h3, Bool.false_or] at h1
  cases h4 : (r.1 == 0) <;> cases h5 : (r.2.2 == x) <;> simp_all
def unql (fs : List Sr) (f x : Nat) : Bool := (List.range fs.length).all (fun n => n == f || !((fs.getD n (3, 0, 0)).1 == 1 && (fs.getD n (3, 0, 0)).2.1 == x))
theorem unql_e {fs : List Sr} {f x : Nat} (h : unql fs f x = true) : ∀ n r, n ≠ f → fs[n]? = some r → (r.1 == 1 && r.2.1 == x) = false := by
  intro n r hn hr
  have hl := (List.getElem?_eq_some_iff.mp hr).1
  have h1 := List.all_eq_true.mp h n (List.mem_range.mpr hl)
  have h2 : fs.getD n (3, 0, 0) = r := by rw [List.getD_eq_getElem?_getD, hr]; rfl
  rw [h2] at h1
  have h3 : (n == f) = false := by simp [hn]
  rw [h3, Bool.false_or] at h1
  cases h4 : (r.1 == 1) <;> cases h5 : (r.2.1 == x) <;> simp_all
/-- the cells of the low ids read their own groups alone; a shaft's cells theirs -/
theorem rds_lo {d : Nat → Nat × Nat} {j g x : Nat} (hj : j ≤ 32) (hg : g ≠ j) : rds (tm d j) g x = false := by
  rw [tm_lo d (by omega)]
  have hg' : j ≠ g := Ne.symm hg
  rcases (show j = 0 ∨ j = 1 ∨ j = 2 ∨ j = 3 ∨ j = 4 ∨ j = 5 ∨ j = 6 ∨ j = 7 ∨ j = 8 ∨ j = 9 ∨ j = 10 ∨ j = 11 ∨ j = 12 ∨ j = 13 ∨ j = 14 ∨ j = 15 ∨ j = 16 ∨ j = 17 ∨ j = 18 ∨ j = 19 ∨ j = 20 ∨ j = 21 ∨ j = 22 ∨ j = 23 ∨ j = 24 ∨ j = 25 ∨ j = 26 ∨ j = 27 ∨ j = 28 ∨ j = 29 ∨ j = 30 ∨ j = 31 ∨ j = 32 by omega) with rfl | rfl | rfl | rfl | rfl | rfl | rfl | rfl | rfl | rfl | rfl | rfl | rfl | rfl | rfl | rfl | rfl | rfl | rfl | rfl | rfl | rfl | rfl | rfl | rfl | rfl | rfl | rfl | rfl | rfl | rfl | rfl | rfl
  all_goals first
    | (simp [tm0, rds, shT, hg']; done)
    | (simp only [tm0, rds, shO]; split <;> simp; done)
theorem rds_hi {d : Nat → Nat × Nat} {j g x : Nat} (hj : 40 ≤ j) (h1 : g ≠ iS ((j - 40) / 10)) (h2 : g ≠ iAA ((j - 40) / 10)) : rds (tm d j) g x = false := by
  unfold tm
  rw [if_neg (by omega)]
  have h1' := Ne.symm h1
  have h2' := Ne.symm h2
  unfold tmS
  split <;> simp [rds, h1', h2']
