/-! HELPERS: super, arraycopy of acts -/
set_option maxRecDepth 100000
theorem lw_SU {own : String} {idx : Nat} {y : MethodName} {b : ByteArray} {L : Nat} {r : Option FieldType} (h1 : Cond.methodLink own idx y ∈ lw_all) (h2 : Cond.sameMethod y.cls y.cls y.name y.desc ∈ lw_all) (h3 : Cond.superclass own y.cls ∈ lw_all) (h4 : Cond.instanceMethod y ∈ lw_all) (h5 : Cond.initialized y.cls ∈ lw_all) (h6 : Cond.code y b L r ∈ lw_all) : GoodIn lw_all (va_wsSU own idx y (ws_ y b L r)) := by
  refine lw_app ?_ (lw_meth h6)
  intro w hw
  simp only [List.mem_cons, List.not_mem_nil, or_false] at hw
  rcases hw with e | e | e | e | e
  · rw [e]; exact h1
  · rw [e]; exact h2
  · rw [e]; exact h3
  · rw [e]; exact h4
  · rw [e]; exact h5
theorem lw_OV {own : String} {idx : Nat} {C owner : String} {x y : MethodName} {b : ByteArray} {L : Nat} {r : Option FieldType} (h1 : Cond.methodLink own idx x ∈ lw_all) (h2 : Cond.sameMethod x.cls owner x.name x.desc ∈ lw_all) (h3 : Cond.instanceMethod ⟨owner, x.name, x.desc⟩ ∈ lw_all) (h4 : Cond.selects C x y ∈ lw_all) (h5 : Cond.instanceMethod y ∈ lw_all) (h6 : Cond.initialized y.cls ∈ lw_all) (h7 : Cond.code y b L r ∈ lw_all) : GoodIn lw_all (va_wsO own idx C owner x y (ws_ y b L r)) := by
  refine lw_app ?_ (lw_meth h7)
  intro w hw
  simp only [List.mem_cons, List.not_mem_nil, or_false] at hw
  rcases hw with e | e | e | e | e | e
  · rw [e]; exact h1
  · rw [e]; exact h2
  · rw [e]; exact h3
  · rw [e]; exact h4
  · rw [e]; exact h5
  · rw [e]; exact h6
theorem ev_grp {dA : Nat → ClassId} {q : Nat → Nat} {σ σ' : SS} {g : Nat} {t : Tm} (h : ∀ x, rds t g x = false) (hag : ∀ g' x, g' ≠ g → σ'.1 g' x = σ.1 g' x) (hl : σ'.2 = σ.2) : ev dA q σ' t = ev dA q σ t := by
  match t, h with
  | .inl (ci, fs), h =>
    unfold ev
    have h2 : fs.map (sv q σ') = fs.map (sv q σ) := List.map_congr_left fun r hr => by
      obtain ⟨a, b, c⟩ := r
      unfold sv
      match a with
      | 0 =>
        have h3 := List.any_eq_false.mp (show fs.any (fun s => s.1 == 0 && s.2.1 == g && s.2.2 == c) = false from h c) _ hr
        have hb : b ≠ g := by
          intro e
          apply h3
          simp [e]
        simp only [hag b c hb]
      | 1 => simp only [hl]
      | 2 => rfl
      | _ + 3 => rfl
    simp only [h2]
  | .inr (a, ty, n, g2, st), h =>
    unfold ev
    match a, h with
    | 1, _ => rfl
    | 0, h =>
      have hg : g2 ≠ g := by
        rintro rfl
        have := h 0
        simp [rds] at this
      simp [hag _ _ hg]
    | a + 2, h =>
      have hg : g2 ≠ g := by
        rintro rfl
        have := h 0
        simp [rds] at this
      simp [hag _ _ hg]
/-- the first n places of a group, out of another's -/
def scp (σ : SS) (gd_ gs n : Nat) : SS := (fun g i => if g = gd_ ∧ i < n then σ.1 gs i else σ.1 g i, σ.2)
/-- sixteen places that a short holds -/
def fit16 (σ : SS) (g : Nat) : Bool := (List.range 16).all (fun i => fits .short (.int (gi σ g i)))
theorem fit16_e {σ : SS} {g : Nat} (h : fit16 σ g = true) : ∀ i, i < 16 → fits .short (.int (gi σ g i)) = true := fun i hi => List.all_eq_true.mp h i (List.mem_range.mpr hi)
section RQ
variable {p : Program} {l : Launch} {e : Env} {R : Room} {s : State} {m : MethodId} {args : Array Value} {below : List Frame} {meth : Method} {c : Code} {H : Heap} {locs : List Loc} {cells slots : Nat} {Q : State → Prop}
variable {cc : ByteArray} {pc nL : Nat} {ls : Array Slot} {rest : List Value} {own : String} {ret : Option FieldType} {G : GG} {rd : Bool} {q : Nat → Nat} {σ σ1 : SS}
theorem ko_at {j : Nat} (hj : j < 4) (d : Nat → Nat × Nat) : ∃ qq : vw_C, clT[1 + j]? = some qq ∧ tm d (9 + j) = .inl (1 + j, []) := by
  rcases (show j = 0 ∨ j = 1 ∨ j = 2 ∨ j = 3 by omega) with rfl | rfl | rfl | rfl
  · exact ⟨_, rfl, rfl⟩
  · exact ⟨_, rfl, rfl⟩
  · exact ⟨_, rfl, rfl⟩
  · exact ⟨_, rfl, rfl⟩
theorem r_super (C : cx p s m args meth c cc nL own ret G) (hw : wx G rd q σ H) (hS : va_S (fa G) s.heap H locs) {j : Nat} (hj : j < 4) {y : MethodName} {ws : List Cond} {rm : Room} {As : List Value} {r : Int32} (hM : Met l y ws rm (pcx G rd q σ (.ref (q (9 + j)) :: As)) (qxi G rd q σ1 r) 0 0 (fa G)) {index n maxL : Nat} {bytes : ByteArray} {ret' : Option FieldType} (cw : va_CS R s args own index y bytes maxL ret' ws rm 0 0 n) (hn : As.length = n) (hsz : ls.size = nL) {st : List Value} (hst : st = As.reverse ++ .ref (q (9 + j)) :: rest) (hrm : (rest.map fun v => v.category).sum ≤ 8) (hcs : cells ≤ R.cells ∧ slots ≤ R.slots) (hdg : decode cc pc = .ok (.invokespecial index, 3))
    (kk : ∀ (H1 : Heap) (locs1 : List Loc), wx G rd q σ1 H1 → va_S (fa G) s.heap H1 locs1 → W p l e R s m args below meth c H1 locs1 cells slots Q (F0 m (pc + 3) ls (.int r :: rest))) : W p l e R s m args below meth c H locs cells slots Q (F0 m pc ls st) := by
  obtain ⟨hx, hb, hml, hown, hts, -, -, hk0, hox⟩ := C
  obtain ⟨qq, hc, ht⟩ := ko_at hj σ.2.2
  obtain ⟨kp, -, h1⟩ := wc_at (dA := G.2.1) (rd := rd) (σ := σ) (q := q) (i := 9 + j) (wi_lo (Or.inl (by omega)))
  rw [ht] at h1
  exact va_calli (va_runSU (As := As) (rest := rest) (hk0.1.1 _ _ hc).2 ⟨hx, hb, hml, hown, hts⟩ hM cw ⟨pcx.blind, va_recv hk0.1 hw.1 hc h1, pre_of hk0 hox hw hS _⟩ rfl hn hsz hst (lv_room hrm) hdg hcs) hS (fun _ _ h => h) (fun _ h => h) (fun r' _ t H1 locs1 e1 _ e2 hw1 _ _ hS1 => by
    subst e2; subst e1
    exact kk _ _ hw1 hS1)
theorem r_over (C : cx p s m args meth c cc nL own ret G) (hw : wx G rd q σ H) (hS : va_S (fa G) s.heap H locs) {i ci : Nat} {fs : List Sr} (hi : i ∈ wi rd σ.2.2) (ht : tm σ.2.2 i = .inl (ci, fs)) {qq : vw_C} (hc : clT[ci]? = some qq) {x y : MethodName} {owner : String} {ws : List Cond} {rm : Room} {As : List Value} {r : Int32} (hM : Met l y ws rm (pcx G rd q σ (.ref (q i) :: As)) (qxi G rd q σ1 r) 0 0 (fa G)) {index n maxL : Nat} {bytes : ByteArray} {ret' : Option FieldType} (cw : va_CU R s args own qq.1 owner index x y bytes maxL ret' ws rm 0 0 n) (hn : As.length = n) (hsz : ls.size = nL) {st : List Value} (hst : st = As.reverse ++ .ref (q i) :: rest) (hrm : (rest.map fun v => v.category).sum ≤ 8) (hcs : cells ≤ R.cells ∧ slots ≤ R.slots) (hdg : decode cc pc = .ok (.invokevirtual index, 3))
    (kk : ∀ (H1 : Heap) (locs1 : List Loc), wx G rd q σ1 H1 → va_S (fa G) s.heap H1 locs1 → W p l e R s m args below meth c H1 locs1 cells slots Q (F0 m (pc + 3) ls (.int r :: rest))) : W p l e R s m args below meth c H locs cells slots Q (F0 m pc ls st) := by
  obtain ⟨hx, hb, hml, hown, hts, -, -, hk0, hox⟩ := C
  obtain ⟨kp, -, h1⟩ := wc_at (dA := G.2.1) (q := q) hi
  rw [ht] at h1
  exact va_calli (va_runU (As := As) (rest := rest) ⟨hx, hb, hml, hown, hts⟩ hM cw ⟨pcx.blind, va_recv hk0.1 hw.1 hc h1, pre_of hk0 hox hw hS _⟩ rfl hn hsz hst (lv_room hrm) hdg hcs) hS (fun _ _ h => h) (fun _ h => h) (fun r' _ t H1 locs1 e1 _ e2 hw1 _ _ hS1 => by
    subst e2; subst e1
    exact kk _ _ hw1 hS1)
theorem r_acts (C : cx p s m args meth c cc nL own ret G) (hw : wx G rd q σ H) (hS : va_S (fa G) s.heap H locs) {k j : Nat} (hk : okS rd k) (hj : okS rd j) (hsz : ls.size = nL) {index : Nat} (h1 : Cond.methodLink own index arraycopyName ∈ lw_all) (hfit : ∀ i, i < 16 → fits .short (.int (gi σ (iAA j) i)) = true) (hR : 1 ≤ R.frames ∧ 8 + (nativeFrameWords "java/lang/System" "arraycopy" 5 + 11) ≤ R.locals) (hrm : (rest.map fun v => v.category).sum ≤ 8) (hdg : decode cc pc = .ok (.invokestatic index, 3)) (e1 : σ1 = scp σ (iAA k) (iAA j) 16)
    (kk : ∀ (H1 : Heap) (locs1 : List Loc), wx G rd q σ1 H1 → va_S (fa G) s.heap H1 locs1 → W p l e R s m args below meth c H1 locs1 cells slots Q (F0 m (pc + 3) ls rest)) : W p l e R s m args below meth c H locs cells slots Q (F0 m pc ls (.int (16 : Int32) :: .int (0 : Int32) :: .ref (q (iAA k)) :: .int (0 : Int32) :: .ref (q (iAA j)) :: rest)) := by
  obtain ⟨hx, hb, hml, hown, hts, -, -, hk0, hox⟩ := C
  obtain ⟨kj, -, g1⟩ := wc_at (dA := G.2.1) (q := q) (wi_AA (d := σ.2.2) hj)
  obtain ⟨kp, hkp, g2⟩ := wc_at (dA := G.2.1) (q := q) (wi_AA (d := σ.2.2) hk)
  rw [tm_AA] at g1 g2
  have e0 : (fun j' => (scp σ (iAA k) (iAA j) 16).1 (iAA k) j') = va_cpy (fun i => σ.1 (iAA j) i) (fun i => σ.1 (iAA k) i) (0 : Int32).toNatClampNeg (0 : Int32).toNatClampNeg (16 : Int32).toNatClampNeg := by
    funext i
    show (if iAA k = iAA k ∧ i < 16 then σ.1 (iAA j) i else σ.1 (iAA k) i) = (if 0 ≤ i ∧ i < 0 + 16 then σ.1 (iAA j) (0 + (i - 0)) else σ.1 (iAA k) i)
    by_cases hi : i < 16
    · rw [if_pos ⟨rfl, hi⟩, if_pos (by omega)]
      rw [show 0 + (i - 0) = i by omega]
    · rw [if_neg (by omega), if_neg (by omega)]
  have hset := wc_set (dA := G.2.1) (rd := rd) (q := q) (σ := σ) (σ' := scp σ (iAA k) (iAA j) 16) (i := iAA k) (k := kp) (e := .inl (G.2.1 2, 16, .inl (va_cpy (fun i => σ.1 (iAA j) i) (fun i => σ.1 (iAA k) i) (0 : Int32).toNatClampNeg (0 : Int32).toNatClampNeg (16 : Int32).toNatClampNeg))) rfl hkp (by
    rw [tm_AA]
    show (Sum.inl (G.2.1 2, 16, .inl (fun j' => (scp σ (iAA k) (iAA j) 16).1 (iAA k) j')) : va_E) = _
    rw [e0]) (fun i hi hne => ev_grp (g := iAA k) (fun x => ho_AA x i hi hne) (fun g' x hg => by simp [scp, hg]) rfl)
  subst e1
  exact va_copyi (f := fun i => σ.1 (iAA j) i) (g := fun i => σ.1 (iAA k) i) (ty := .short) (sp := 0) (dp := 0) (n := 16) hx hb (hml.trans hsz.symm) hown (hts _ h1) (hts _ q531) (hts _ q530) (hts _ q74) hk0.1 hw.1 hw.2 hS kj kp 2 2 g1 g2 rfl rfl rfl (by decide) (by decide) (by decide) (show (16 : Nat) ≤ 16 from Nat.le_refl _) (show (16 : Nat) ≤ 16 from Nat.le_refl _) (fun i hi => by rw [show (0 : Int32).toNatClampNeg = 0 from rfl, Nat.zero_add]; exact hfit i hi) hR.1 (Nat.le_trans (Nat.add_le_add_right hrm _) hR.2) hdg (fun H1 locs1 a1 a2 a3 => kk H1 locs1 ⟨by rw [← hset]; exact a1, by rw [← hset]; exact a2⟩ a3)
end RQ
