/-! THE ROWS over the one world -/
set_option maxRecDepth 100000
section RW
variable {p : Program} {l : Launch} {e : Env} {R : Room} {s : State} {m : MethodId} {args : Array Value} {below : List Frame} {meth : Method} {c : Code} {H : Heap} {locs : List Loc} {cells slots : Nat} {Q : State → Prop}
variable {cc : ByteArray} {pc nL : Nat} {ls : Array Slot} {rest : List Value} {own : String} {ret : Option FieldType} {G : GG} {rd : Bool} {q : Nat → Nat} {σ σ1 : SS}
/-- naming the top of the stack -/
theorem r_topi {x y : Int32} (ey : y = x) (kk : W p l e R s m args below meth c H locs cells slots Q (F0 m pc ls (.int y :: rest))) : W p l e R s m args below meth c H locs cells slots Q (F0 m pc ls (.int x :: rest)) := by subst ey; exact kk
theorem r_topl {x y : Int64} (ey : y = x) (kk : W p l e R s m args below meth c H locs cells slots Q (F0 m pc ls (.long y :: rest))) : W p l e R s m args below meth c H locs cells slots Q (F0 m pc ls (.long x :: rest)) := by subst ey; exact kk
-- fields, read
theorem r_get (C : cx p s m args meth c cc nL own ret G) (hw : wx G rd q σ H) {i ci : Nat} {fs : List Sr} (hi : i ∈ wi rd σ.2.2) (ht : tm σ.2.2 i = .inl (ci, fs)) {Cn : String} {T : u_T} {N : Nat} (hc : clT[ci]? = some (Cn, T, N)) (hin : ∀ w ∈ u_ws Cn T N, w ∈ lw_all) (k : Nat) (hk : k < N) {r : Sr} (hr : fs[k]? = some r) {index : Nat} {v : Value} (hv : sv q σ r = v)
    (hlink : (Cond.fieldLink own index (T k).1 (T k).2.1 (T k).2.2.1) ∈ lw_all) (hdg : decode cc pc = .ok (.getfield index, 3))
    (kk : W p l e R s m args below meth c H locs cells slots Q (F0 m (pc + 3) ls (v :: rest))) : W p l e R s m args below meth c H locs cells slots Q (F0 m pc ls (.ref (q i) :: rest)) := by
  obtain ⟨hx, hb, -, hown, hts, -, -, hk0, -⟩ := C
  obtain ⟨kp, -, h1⟩ := wc_at (dA := G.2.1) (q := q) hi
  rw [ht] at h1
  exact va_get hx hb hts hin hown hk0.1 hw.1 kp h1 hc k hk (hts _ hlink) (fun _ h => h) (by rw [List.getElem?_map, hr]; exact congrArg some hv) hdg kk
theorem r_getN (C : cx p s m args meth c cc nL own ret G) (hw : wx G rd q σ H) {i ci : Nat} {fs : List Sr} (hi : i ∈ wi rd σ.2.2) (ht : tm σ.2.2 i = .inl (ci, fs)) {Cn : String} {T : u_T} {N : Nat} (hc : clT[ci]? = some (Cn, T, N)) (hin : ∀ w ∈ u_ws Cn T N, w ∈ lw_all) (k : Nat) (hk : k < N) {r : Sr} (hr : fs[k]? = some r) {index : Nat} {v : Value} (hv : sv q σ r = v)
    {host : String} (n : Nat) (hn : nestF[n]? = some (own, index, (T k).1, (T k).2.1, (T k).2.2.1, host)) (hdg : decode cc pc = .ok (.getfield index, 3))
    (kk : W p l e R s m args below meth c H locs cells slots Q (F0 m (pc + 3) ls (v :: rest))) : W p l e R s m args below meth c H locs cells slots Q (F0 m pc ls (.ref (q i) :: rest)) := by
  obtain ⟨hx, hb, -, hown, hts, -, -, hk0, -⟩ := C
  obtain ⟨kp, -, h1⟩ := wc_at (dA := G.2.1) (q := q) hi
  rw [ht] at h1
  exact va_getN hx hb hts hin hown hk0.1 hw.1 kp h1 hc k hk (va_Nw.use rfl (hk0.2.1 _ (List.mem_of_getElem? hn))) (fun _ h => h) (by rw [List.getElem?_map, hr]; exact congrArg some hv) hdg kk
-- fields, written
theorem r_put (C : cx p s m args meth c cc nL own ret G) (hw : wx G rd q σ H) (hS : va_S (fa G) s.heap H locs) {i ci : Nat} {fs : List Sr} (hi : i ∈ wi rd σ.2.2) (ht : tm σ.2.2 i = .inl (ci, fs)) {Cn : String} {T : u_T} {N : Nat} (hc : clT[ci]? = some (Cn, T, N)) (hin : ∀ w ∈ u_ws Cn T N, w ∈ lw_all) (ty0 : Nat → FieldType) (hty : ∀ k, k < N → parseFieldDescriptor (T k).2.2.1 = some (ty0 k)) (hnm : ∀ a, a < N → ∀ b, b < N → a ≠ b → (T a).2.1 ≠ (T b).2.1)
    (k : Nat) (hk : k < N) {g x : Nat} (hr : fs[k]? = some (0, g, x)) (hu : ∀ n r, n ≠ k → fs[n]? = some r → (r.1 == 0 && r.2.1 == g && r.2.2 == x) = false) (ho : ∀ j, j ∈ wi rd σ.2.2 → j ≠ i → rds (tm σ.2.2 j) g x = false) {index : Nat} {v : Int32} (hfin : (T k).2.2.2 = false) {ty : FieldType} (hd : parseFieldDescriptor (T k).2.2.1 = some ty) (hn : narrow ty (.int v) = .int v) (hfit : fits ty (.int v) = true)
    (hlink : (Cond.fieldLink own index (T k).1 (T k).2.1 (T k).2.2.1) ∈ lw_all) (hdg : decode cc pc = .ok (.putfield index, 3)) (e1 : σ1 = si σ g x v)
    (kk : ∀ (H1 : Heap) (locs1 : List Loc), wx G rd q σ1 H1 → va_S (fa G) s.heap H1 locs1 → W p l e R s m args below meth c H1 locs1 cells slots Q (F0 m (pc + 3) ls rest)) : W p l e R s m args below meth c H locs cells slots Q (F0 m pc ls (.int v :: .ref (q i) :: rest)) := by
  obtain ⟨hx, hb, -, hown, hts, -, -, hk0, -⟩ := C
  obtain ⟨kp, hkp, h1⟩ := wc_at (dA := G.2.1) (q := q) hi
  rw [ht] at h1
  have hl : k < (fs.map (sv q σ)).length := by rw [List.length_map]; exact (List.getElem?_eq_some_iff.mp hr).1
  have hset := wc_set (dA := G.2.1) (rd := rd) (q := q) (σ := σ) (σ' := si σ g x v) (i := i) (k := kp) (e := .inr (ci, (fs.map (sv q σ)).set k (.int v))) rfl hkp (by rw [ht]; exact congrArg (fun z => (Sum.inr (ci, z) : va_E)) (fs_set hr hu)) (fun j hj hne => ev_si (ho j hj hne))
  subst e1
  refine va_put hx hb hts hin ty0 hty hnm hown hk0.1 hw.1 hw.2 hS kp h1 hc k hk (hts _ hlink) (fun _ h => h) hfin hd hn hfit hl hdg (fun H1 locs1 a1 a2 a3 => kk H1 locs1 ⟨by rw [← hset]; exact a1, by rw [← hset]; exact a2⟩ a3)
theorem r_putN (C : cx p s m args meth c cc nL own ret G) (hw : wx G rd q σ H) (hS : va_S (fa G) s.heap H locs) {i ci : Nat} {fs : List Sr} (hi : i ∈ wi rd σ.2.2) (ht : tm σ.2.2 i = .inl (ci, fs)) {Cn : String} {T : u_T} {N : Nat} (hc : clT[ci]? = some (Cn, T, N)) (hin : ∀ w ∈ u_ws Cn T N, w ∈ lw_all) (ty0 : Nat → FieldType) (hty : ∀ k, k < N → parseFieldDescriptor (T k).2.2.1 = some (ty0 k)) (hnm : ∀ a, a < N → ∀ b, b < N → a ≠ b → (T a).2.1 ≠ (T b).2.1)
    (k : Nat) (hk : k < N) {g x : Nat} (hr : fs[k]? = some (0, g, x)) (hu : ∀ n r, n ≠ k → fs[n]? = some r → (r.1 == 0 && r.2.1 == g && r.2.2 == x) = false) (ho : ∀ j, j ∈ wi rd σ.2.2 → j ≠ i → rds (tm σ.2.2 j) g x = false) {index : Nat} {v : Int32} (hfin : (T k).2.2.2 = false) {ty : FieldType} (hd : parseFieldDescriptor (T k).2.2.1 = some ty) (hn : narrow ty (.int v) = .int v) (hfit : fits ty (.int v) = true)
    {host : String} (n : Nat) (hnn : nestF[n]? = some (own, index, (T k).1, (T k).2.1, (T k).2.2.1, host)) (hdg : decode cc pc = .ok (.putfield index, 3)) (e1 : σ1 = si σ g x v)
    (kk : ∀ (H1 : Heap) (locs1 : List Loc), wx G rd q σ1 H1 → va_S (fa G) s.heap H1 locs1 → W p l e R s m args below meth c H1 locs1 cells slots Q (F0 m (pc + 3) ls rest)) : W p l e R s m args below meth c H locs cells slots Q (F0 m pc ls (.int v :: .ref (q i) :: rest)) := by
  obtain ⟨hx, hb, -, hown, hts, -, -, hk0, -⟩ := C
  obtain ⟨kp, hkp, h1⟩ := wc_at (dA := G.2.1) (q := q) hi
  rw [ht] at h1
  have hl : k < (fs.map (sv q σ)).length := by rw [List.length_map]; exact (List.getElem?_eq_some_iff.mp hr).1
  have hset := wc_set (dA := G.2.1) (rd := rd) (q := q) (σ := σ) (σ' := si σ g x v) (i := i) (k := kp) (e := .inr (ci, (fs.map (sv q σ)).set k (.int v))) rfl hkp (by rw [ht]; exact congrArg (fun z => (Sum.inr (ci, z) : va_E)) (fs_set hr hu)) (fun j hj hne => ev_si (ho j hj hne))
  subst e1
  exact va_putN hx hb hts hin ty0 hty hnm hown hk0.1 hw.1 hw.2 hS kp h1 hc k hk (va_Nw.use rfl (hk0.2.1 _ (List.mem_of_getElem? hnn))) (fun _ h => h) hfin hd hn hfit hl hdg (fun H1 locs1 a1 a2 a3 => kk H1 locs1 ⟨by rw [← hset]; exact a1, by rw [← hset]; exact a2⟩ a3)
theorem r_putl (C : cx p s m args meth c cc nL own ret G) (hw : wx G rd q σ H) (hS : va_S (fa G) s.heap H locs) {i ci : Nat} {fs : List Sr} (hi : i ∈ wi rd σ.2.2) (ht : tm σ.2.2 i = .inl (ci, fs)) {Cn : String} {T : u_T} {N : Nat} (hc : clT[ci]? = some (Cn, T, N)) (hin : ∀ w ∈ u_ws Cn T N, w ∈ lw_all) (ty0 : Nat → FieldType) (hty : ∀ k, k < N → parseFieldDescriptor (T k).2.2.1 = some (ty0 k)) (hnm : ∀ a, a < N → ∀ b, b < N → a ≠ b → (T a).2.1 ≠ (T b).2.1)
    (k : Nat) (hk : k < N) {x y : Nat} (hr : fs[k]? = some (1, x, y)) (hu : ∀ n r, n ≠ k → fs[n]? = some r → (r.1 == 1 && r.2.1 == x) = false) (ho : ∀ j, j ∈ wi rd σ.2.2 → j ≠ i → rdl (tm σ.2.2 j) x = false) {index : Nat} {v : Int64} (hfin : (T k).2.2.2 = false) (hd : parseFieldDescriptor (T k).2.2.1 = some .long)
    (hlink : (Cond.fieldLink own index (T k).1 (T k).2.1 (T k).2.2.1) ∈ lw_all) (hdg : decode cc pc = .ok (.putfield index, 3)) (e1 : σ1 = sl σ x v)
    (kk : ∀ (H1 : Heap) (locs1 : List Loc), wx G rd q σ1 H1 → va_S (fa G) s.heap H1 locs1 → W p l e R s m args below meth c H1 locs1 cells slots Q (F0 m (pc + 3) ls rest)) : W p l e R s m args below meth c H locs cells slots Q (F0 m pc ls (.long v :: .ref (q i) :: rest)) := by
  obtain ⟨hx, hb, -, hown, hts, -, -, hk0, -⟩ := C
  obtain ⟨kp, hkp, h1⟩ := wc_at (dA := G.2.1) (q := q) hi
  rw [ht] at h1
  have hl : k < (fs.map (sv q σ)).length := by rw [List.length_map]; exact (List.getElem?_eq_some_iff.mp hr).1
  have hset := wc_set (dA := G.2.1) (rd := rd) (q := q) (σ := σ) (σ' := sl σ x v) (i := i) (k := kp) (e := .inr (ci, (fs.map (sv q σ)).set k (.long v))) rfl hkp (by rw [ht]; exact congrArg (fun z => (Sum.inr (ci, z) : va_E)) (fs_setl hr hu)) (fun j hj hne => ev_sl (ho j hj hne))
  subst e1
  exact va_put hx hb hts hin ty0 hty hnm hown hk0.1 hw.1 hw.2 hS kp h1 hc k hk (hts _ hlink) (fun _ h => h) hfin hd rfl rfl hl hdg (fun H1 locs1 a1 a2 a3 => kk H1 locs1 ⟨by rw [← hset]; exact a1, by rw [← hset]; exact a2⟩ a3)
-- arrays of ints
theorem ev_upd {dA : Nat → ClassId} {t n g st x : Nat} {v : Int32} : ev dA q (si σ g x v) (.inr (0, t, n, g, st)) = .inl (dA t, n, .inl (upd (fun j => σ.1 g j) x v)) := by
  have h : (fun j => (si σ g x v).1 g j) = upd (fun j => σ.1 g j) x v := by
    funext j
    simp [si, upd]
  show (Sum.inl (dA t, n, .inl (fun j => (si σ g x v).1 g j)) : va_E) = _
  rw [h]
theorem r_iald (C : cx p s m args meth c cc nL own ret G) (hw : wx G rd q σ H) {i n g st : Nat} (hi : i ∈ wi rd σ.2.2) (ht : tm σ.2.2 i = .inr (0, 0, n, g, st)) {x : Int32} (hin : inR x n) (hdg : decode cc pc = .ok (.iaload, 1))
    (kk : W p l e R s m args below meth c H locs cells slots Q (F0 m (pc + 1) ls (.int (gi σ g x.toNatClampNeg) :: rest))) : W p l e R s m args below meth c H locs cells slots Q (F0 m pc ls (.int x :: .ref (q i) :: rest)) := by
  obtain ⟨hx, hb, -, hown, hts, -, -, hk0, -⟩ := C
  obtain ⟨kp, -, h1⟩ := wc_at (dA := G.2.1) (q := q) hi
  rw [ht] at h1
  exact va_iald (f := fun j => σ.1 g j) hx hb hk0.1 hw.1 kp 0 h1 rfl hin hdg kk
theorem r_iast (C : cx p s m args meth c cc nL own ret G) (hw : wx G rd q σ H) (hS : va_S (fa G) s.heap H locs) {i n g st : Nat} (hi : i ∈ wi rd σ.2.2) (ht : tm σ.2.2 i = .inr (0, 0, n, g, st)) (ho : ∀ (x j : Nat), j ∈ wi rd σ.2.2 → j ≠ i → rds (tm σ.2.2 j) g x = false) {x v : Int32} (hin : inR x n) (hdg : decode cc pc = .ok (.iastore, 1)) (e1 : σ1 = si σ g x.toNatClampNeg v)
    (kk : ∀ (H1 : Heap) (locs1 : List Loc), wx G rd q σ1 H1 → va_S (fa G) s.heap H1 locs1 → W p l e R s m args below meth c H1 locs1 cells slots Q (F0 m (pc + 1) ls rest)) : W p l e R s m args below meth c H locs cells slots Q (F0 m pc ls (.int v :: .int x :: .ref (q i) :: rest)) := by
  obtain ⟨hx, hb, -, hown, hts, -, -, hk0, -⟩ := C
  obtain ⟨kp, hkp, h1⟩ := wc_at (dA := G.2.1) (q := q) hi
  rw [ht] at h1
  have hset := wc_set (dA := G.2.1) (rd := rd) (q := q) (σ := σ) (σ' := si σ g x.toNatClampNeg v) (i := i) (k := kp) (e := .inl (G.2.1 0, n, .inl (upd (fun j => σ.1 g j) x.toNatClampNeg v))) rfl hkp (by rw [ht]; exact ev_upd) (fun j hj hne => ev_si (ho _ j hj hne))
  subst e1
  exact va_iast (f := fun j => σ.1 g j) hx hb hk0.1 hw.1 hw.2 hS kp 0 h1 rfl hin hdg (fun H1 locs1 a1 a2 a3 => kk H1 locs1 ⟨by rw [← hset]; exact a1, by rw [← hset]; exact a2⟩ a3)
theorem r_bald (C : cx p s m args meth c cc nL own ret G) (hw : wx G rd q σ H) {i n g st : Nat} (hi : i ∈ wi rd σ.2.2) (ht : tm σ.2.2 i = .inr (0, 1, n, g, st)) {x : Int32} (hin : inR x n) (hdg : decode cc pc = .ok (.baload, 1))
    (kk : W p l e R s m args below meth c H locs cells slots Q (F0 m (pc + 1) ls (.int (gi σ g x.toNatClampNeg) :: rest))) : W p l e R s m args below meth c H locs cells slots Q (F0 m pc ls (.int x :: .ref (q i) :: rest)) := by
  obtain ⟨hx, hb, -, hown, hts, -, -, hk0, -⟩ := C
  obtain ⟨kp, -, h1⟩ := wc_at (dA := G.2.1) (q := q) hi
  rw [ht] at h1
  exact va_bald (f := fun j => σ.1 g j) hx hb hk0.1 hw.1 kp 1 h1 rfl hin hdg kk
theorem r_bast (C : cx p s m args meth c cc nL own ret G) (hw : wx G rd q σ H) (hS : va_S (fa G) s.heap H locs) {i n g st : Nat} (hi : i ∈ wi rd σ.2.2) (ht : tm σ.2.2 i = .inr (0, 1, n, g, st)) (ho : ∀ (x j : Nat), j ∈ wi rd σ.2.2 → j ≠ i → rds (tm σ.2.2 j) g x = false) {x v : Int32} (hin : inR x n) (hdg : decode cc pc = .ok (.bastore, 1)) (e1 : σ1 = si σ g x.toNatClampNeg (vp_nar .byte v))
    (kk : ∀ (H1 : Heap) (locs1 : List Loc), wx G rd q σ1 H1 → va_S (fa G) s.heap H1 locs1 → W p l e R s m args below meth c H1 locs1 cells slots Q (F0 m (pc + 1) ls rest)) : W p l e R s m args below meth c H locs cells slots Q (F0 m pc ls (.int v :: .int x :: .ref (q i) :: rest)) := by
  obtain ⟨hx, hb, -, hown, hts, -, -, hk0, -⟩ := C
  obtain ⟨kp, hkp, h1⟩ := wc_at (dA := G.2.1) (q := q) hi
  rw [ht] at h1
  have hset := wc_set (dA := G.2.1) (rd := rd) (q := q) (σ := σ) (σ' := si σ g x.toNatClampNeg (vp_nar .byte v)) (i := i) (k := kp) (e := .inl (G.2.1 1, n, .inl (upd (fun j => σ.1 g j) x.toNatClampNeg (vp_nar .byte v)))) rfl hkp (by rw [ht]; exact ev_upd) (fun j hj hne => ev_si (ho _ j hj hne))
  subst e1
  exact va_bast (f := fun j => σ.1 g j) hx hb hk0.1 hw.1 hw.2 hS kp 1 h1 rfl hin hdg (fun H1 locs1 a1 a2 a3 => kk H1 locs1 ⟨by rw [← hset]; exact a1, by rw [← hset]; exact a2⟩ a3)
theorem r_sald (C : cx p s m args meth c cc nL own ret G) (hw : wx G rd q σ H) {i n g st : Nat} (hi : i ∈ wi rd σ.2.2) (ht : tm σ.2.2 i = .inr (0, 2, n, g, st)) {x : Int32} (hin : inR x n) (hdg : decode cc pc = .ok (.saload, 1))
    (kk : W p l e R s m args below meth c H locs cells slots Q (F0 m (pc + 1) ls (.int (gi σ g x.toNatClampNeg) :: rest))) : W p l e R s m args below meth c H locs cells slots Q (F0 m pc ls (.int x :: .ref (q i) :: rest)) := by
  obtain ⟨hx, hb, -, hown, hts, -, -, hk0, -⟩ := C
  obtain ⟨kp, -, h1⟩ := wc_at (dA := G.2.1) (q := q) hi
  rw [ht] at h1
  exact va_sald (f := fun j => σ.1 g j) hx hb hk0.1 hw.1 kp 2 h1 rfl hin hdg kk
theorem r_sast (C : cx p s m args meth c cc nL own ret G) (hw : wx G rd q σ H) (hS : va_S (fa G) s.heap H locs) {i n g st : Nat} (hi : i ∈ wi rd σ.2.2) (ht : tm σ.2.2 i = .inr (0, 2, n, g, st)) (ho : ∀ (x j : Nat), j ∈ wi rd σ.2.2 → j ≠ i → rds (tm σ.2.2 j) g x = false) {x v : Int32} (hin : inR x n) (hdg : decode cc pc = .ok (.sastore, 1)) (e1 : σ1 = si σ g x.toNatClampNeg (vp_nar .short v))
    (kk : ∀ (H1 : Heap) (locs1 : List Loc), wx G rd q σ1 H1 → va_S (fa G) s.heap H1 locs1 → W p l e R s m args below meth c H1 locs1 cells slots Q (F0 m (pc + 1) ls rest)) : W p l e R s m args below meth c H locs cells slots Q (F0 m pc ls (.int v :: .int x :: .ref (q i) :: rest)) := by
  obtain ⟨hx, hb, -, hown, hts, -, -, hk0, -⟩ := C
  obtain ⟨kp, hkp, h1⟩ := wc_at (dA := G.2.1) (q := q) hi
  rw [ht] at h1
  have hset := wc_set (dA := G.2.1) (rd := rd) (q := q) (σ := σ) (σ' := si σ g x.toNatClampNeg (vp_nar .short v)) (i := i) (k := kp) (e := .inl (G.2.1 2, n, .inl (upd (fun j => σ.1 g j) x.toNatClampNeg (vp_nar .short v)))) rfl hkp (by rw [ht]; exact ev_upd) (fun j hj hne => ev_si (ho _ j hj hne))
  subst e1
  exact va_sast (f := fun j => σ.1 g j) hx hb hk0.1 hw.1 hw.2 hS kp 2 h1 rfl hin hdg (fun H1 locs1 a1 a2 a3 => kk H1 locs1 ⟨by rw [← hset]; exact a1, by rw [← hset]; exact a2⟩ a3)
theorem r_zald (C : cx p s m args meth c cc nL own ret G) (hw : wx G rd q σ H) {i n g st : Nat} (hi : i ∈ wi rd σ.2.2) (ht : tm σ.2.2 i = .inr (0, 3, n, g, st)) {x : Int32} (hin : inR x n) (hdg : decode cc pc = .ok (.baload, 1))
    (kk : W p l e R s m args below meth c H locs cells slots Q (F0 m (pc + 1) ls (.int (gi σ g x.toNatClampNeg) :: rest))) : W p l e R s m args below meth c H locs cells slots Q (F0 m pc ls (.int x :: .ref (q i) :: rest)) := by
  obtain ⟨hx, hb, -, hown, hts, -, -, hk0, -⟩ := C
  obtain ⟨kp, -, h1⟩ := wc_at (dA := G.2.1) (q := q) hi
  rw [ht] at h1
  exact va_zald (f := fun j => σ.1 g j) hx hb hk0.1 hw.1 kp 3 h1 rfl hin hdg kk
theorem r_zast (C : cx p s m args meth c cc nL own ret G) (hw : wx G rd q σ H) (hS : va_S (fa G) s.heap H locs) {i n g st : Nat} (hi : i ∈ wi rd σ.2.2) (ht : tm σ.2.2 i = .inr (0, 3, n, g, st)) (ho : ∀ (x j : Nat), j ∈ wi rd σ.2.2 → j ≠ i → rds (tm σ.2.2 j) g x = false) {x v : Int32} (hin : inR x n) (hdg : decode cc pc = .ok (.bastore, 1)) (e1 : σ1 = si σ g x.toNatClampNeg (vp_nar .boolean v))
    (kk : ∀ (H1 : Heap) (locs1 : List Loc), wx G rd q σ1 H1 → va_S (fa G) s.heap H1 locs1 → W p l e R s m args below meth c H1 locs1 cells slots Q (F0 m (pc + 1) ls rest)) : W p l e R s m args below meth c H locs cells slots Q (F0 m pc ls (.int v :: .int x :: .ref (q i) :: rest)) := by
  obtain ⟨hx, hb, -, hown, hts, -, -, hk0, -⟩ := C
  obtain ⟨kp, hkp, h1⟩ := wc_at (dA := G.2.1) (q := q) hi
  rw [ht] at h1
  have hset := wc_set (dA := G.2.1) (rd := rd) (q := q) (σ := σ) (σ' := si σ g x.toNatClampNeg (vp_nar .boolean v)) (i := i) (k := kp) (e := .inl (G.2.1 3, n, .inl (upd (fun j => σ.1 g j) x.toNatClampNeg (vp_nar .boolean v)))) rfl hkp (by rw [ht]; exact ev_upd) (fun j hj hne => ev_si (ho _ j hj hne))
  subst e1
  exact va_zast (f := fun j => σ.1 g j) hx hb hk0.1 hw.1 hw.2 hS kp 3 h1 rfl hin hdg (fun H1 locs1 a1 a2 a3 => kk H1 locs1 ⟨by rw [← hset]; exact a1, by rw [← hset]; exact a2⟩ a3)
-- arrays of references
theorem r_aald (C : cx p s m args meth c cc nL own ret G) (hw : wx G rd q σ H) {i t n g st : Nat} (hi : i ∈ wi rd σ.2.2) (ht : tm σ.2.2 i = .inr (1, t, n, g, st)) {Cn : String} (hty : (tysA G.2.1)[t]? = some (G.2.1 t, .object Cn)) {x : Int32} (hin : inR x n) {a : Nat} (ha : g + st * x.toNatClampNeg = a) (hdg : decode cc pc = .ok (.aaload, 1))
    (kk : W p l e R s m args below meth c H locs cells slots Q (F0 m (pc + 1) ls (.ref (q a) :: rest))) : W p l e R s m args below meth c H locs cells slots Q (F0 m pc ls (.int x :: .ref (q i) :: rest)) := by
  obtain ⟨hx, hb, -, hown, hts, -, -, hk0, -⟩ := C
  obtain ⟨kp, -, h1⟩ := wc_at (dA := G.2.1) (q := q) hi
  rw [ht] at h1
  subst ha
  exact va_aldq (f := fun j => some (q (g + st * j))) hx hb hk0.1 hw.1 kp t h1 hty hin hdg kk
-- the ends
theorem r_iret (C : cx p s m args meth c cc nL own (some .int) G) (hw : wx G rd q σ H) (hS : va_S (fa G) s.heap H locs) {v r : Int32} {σ' : SS} (hF : some (v, σ) = some (r, σ')) (hdg : decode cc pc = .ok (.ireturn, 1)) : W p l e R s m args below meth c H locs cells slots (MQ below (qxi G rd q σ' r) args s cells slots (fa G)) (F0 m pc ls [.int v]) := by
  obtain ⟨rfl, rfl⟩ := so_e hF
  obtain ⟨hx, hb, -, hown, hts, hr, hlk, -⟩ := C
  exact W.iret hx hb hr (fun t ht hW => ⟨⟨v, (), rfl, rfl, by subst ht; exact hw⟩, hS.F ht⟩) hS.2.2 hdg hlk
theorem r_zret {ty : FieldType} (C : cx p s m args meth c cc nL own (some ty) G) (hw : wx G rd q σ H) (hS : va_S (fa G) s.heap H locs) {v r : Int32} {σ' : SS} (hF : some (v, σ) = some (r, σ')) (hn : narrow ty (.int v) = .int v) (hdg : decode cc pc = .ok (.ireturn, 1)) : W p l e R s m args below meth c H locs cells slots (MQ below (qxi G rd q σ' r) args s cells slots (fa G)) (F0 m pc ls [.int v]) := by
  obtain ⟨rfl, rfl⟩ := so_e hF
  obtain ⟨hx, hb, -, hown, hts, hr, hlk, -⟩ := C
  exact W.zret hx hb hr hn (fun t ht hW => ⟨⟨v, (), rfl, rfl, by subst ht; exact hw⟩, hS.F ht⟩) hS.2.2 hdg hlk
theorem r_lret (C : cx p s m args meth c cc nL own (some .long) G) (hw : wx G rd q σ H) (hS : va_S (fa G) s.heap H locs) {v r : Int64} {σ' : SS} (hF : some (v, σ) = some (r, σ')) (hdg : decode cc pc = .ok (.lreturn, 1)) : W p l e R s m args below meth c H locs cells slots (MQ below (qxl G rd q σ' r) args s cells slots (fa G)) (F0 m pc ls [.long v]) := by
  obtain ⟨rfl, rfl⟩ := so_e hF
  obtain ⟨hx, hb, -, hown, hts, hr, hlk, -⟩ := C
  exact W.lret hx hb hr (fun t ht hW => ⟨⟨v, (), rfl, rfl, by subst ht; exact hw⟩, hS.F ht⟩) hS.2.2 hdg hlk
theorem r_vret (C : cx p s m args meth c cc nL own none G) (hw : wx G rd q σ H) (hS : va_S (fa G) s.heap H locs) {v r : Unit} {σ' : SS} (hF : some (v, σ) = some (r, σ')) (hdg : decode cc pc = .ok (.return_, 1)) : W p l e R s m args below meth c H locs cells slots (MQ below (qxv G rd q σ' r) args s cells slots (fa G)) (F0 m pc ls []) := by
  obtain ⟨rfl, rfl⟩ := so_e hF
  obtain ⟨hx, hb, -, hown, hts, hr, hlk, -⟩ := C
  exact W.vret hx hb hr (fun t ht hW => ⟨⟨(), rfl, trivial, by subst ht; exact hw⟩, hS.F ht⟩) hS.2.2 hdg hlk
-- calls
/-- a callee's start, out of the caller's world -/
theorem pre_of (hk0 : kx G s) (hox : ox G s.heap) (hw : wx G rd q σ H) (hS : va_S (fa G) s.heap H locs) (av : List Value) : ∀ U : State, U.heap = H → s.WarmedH U.vm → pcx G rd q σ av av.toArray U := fun U hU hW => ⟨rfl, hk0.warm hW, by rw [hU]; exact hox.on hS, by rw [hU]; exact hw⟩
theorem r_callVi (C : cx p s m args meth c cc nL own ret G) (hw : wx G rd q σ H) (hS : va_S (fa G) s.heap H locs) {i ci : Nat} {fs : List Sr} (hi : i ∈ wi rd σ.2.2) (ht : tm σ.2.2 i = .inl (ci, fs)) {qq : vw_C} (hc : clT[ci]? = some qq) {y : MethodName} {ws : List Cond} {rm : Room} {As : List Value} {r : Int32} (hM : Met l y ws rm (pcx G rd q σ (.ref (q i) :: As)) (qxi G rd q σ1 r) 0 0 (fa G)) {index n maxL : Nat} {bytes : ByteArray} {ret' : Option FieldType} (cw : CallW R s args own qq.1 index y bytes maxL ret' ws rm 0 0 n) (hn : As.length = n) (hsz : ls.size = nL) {st : List Value} (hst : st = As.reverse ++ .ref (q i) :: rest) (hrm : (rest.map fun v => v.category).sum ≤ 8) (hcs : cells ≤ R.cells ∧ slots ≤ R.slots) (hdg : decode cc pc = .ok (.invokevirtual index, 3))
    (kk : ∀ (H1 : Heap) (locs1 : List Loc), wx G rd q σ1 H1 → va_S (fa G) s.heap H1 locs1 → W p l e R s m args below meth c H1 locs1 cells slots Q (F0 m (pc + 3) ls (.int r :: rest))) : W p l e R s m args below meth c H locs cells slots Q (F0 m pc ls st) := by
  obtain ⟨hx, hb, hml, hown, hts, -, -, hk0, hox⟩ := C
  obtain ⟨kp, -, h1⟩ := wc_at (dA := G.2.1) (q := q) hi
  rw [ht] at h1
  exact va_calli (va_runV (As := As) (rest := rest) ⟨hx, hb, hml, hown, hts⟩ hM cw ⟨pcx.blind, va_recv hk0.1 hw.1 hc h1, pre_of hk0 hox hw hS _⟩ rfl hn hsz hst (lv_room hrm) hdg hcs) hS (fun _ _ h => h) (fun _ h => h) (fun r' _ t H1 locs1 e1 _ e2 hw1 _ _ hS1 => by
    subst e2; subst e1
    exact kk _ _ hw1 hS1)
theorem r_callVl (C : cx p s m args meth c cc nL own ret G) (hw : wx G rd q σ H) (hS : va_S (fa G) s.heap H locs) {i ci : Nat} {fs : List Sr} (hi : i ∈ wi rd σ.2.2) (ht : tm σ.2.2 i = .inl (ci, fs)) {qq : vw_C} (hc : clT[ci]? = some qq) {y : MethodName} {ws : List Cond} {rm : Room} {As : List Value} {r : Int64} (hM : Met l y ws rm (pcx G rd q σ (.ref (q i) :: As)) (qxl G rd q σ1 r) 0 0 (fa G)) {index n maxL : Nat} {bytes : ByteArray} {ret' : Option FieldType} (cw : CallW R s args own qq.1 index y bytes maxL ret' ws rm 0 0 n) (hn : As.length = n) (hsz : ls.size = nL) {st : List Value} (hst : st = As.reverse ++ .ref (q i) :: rest) (hrm : (rest.map fun v => v.category).sum ≤ 8) (hcs : cells ≤ R.cells ∧ slots ≤ R.slots) (hdg : decode cc pc = .ok (.invokevirtual index, 3))
    (kk : ∀ (H1 : Heap) (locs1 : List Loc), wx G rd q σ1 H1 → va_S (fa G) s.heap H1 locs1 → W p l e R s m args below meth c H1 locs1 cells slots Q (F0 m (pc + 3) ls (.long r :: rest))) : W p l e R s m args below meth c H locs cells slots Q (F0 m pc ls st) := by
  obtain ⟨hx, hb, hml, hown, hts, -, -, hk0, hox⟩ := C
  obtain ⟨kp, -, h1⟩ := wc_at (dA := G.2.1) (q := q) hi
  rw [ht] at h1
  exact va_calll (va_runV (As := As) (rest := rest) ⟨hx, hb, hml, hown, hts⟩ hM cw ⟨pcx.blind, va_recv hk0.1 hw.1 hc h1, pre_of hk0 hox hw hS _⟩ rfl hn hsz hst (lv_room hrm) hdg hcs) hS (fun _ _ h => h) (fun _ h => h) (fun r' _ t H1 locs1 e1 _ e2 hw1 _ _ hS1 => by
    subst e2; subst e1
    exact kk _ _ hw1 hS1)
theorem r_callVv (C : cx p s m args meth c cc nL own ret G) (hw : wx G rd q σ H) (hS : va_S (fa G) s.heap H locs) {i ci : Nat} {fs : List Sr} (hi : i ∈ wi rd σ.2.2) (ht : tm σ.2.2 i = .inl (ci, fs)) {qq : vw_C} (hc : clT[ci]? = some qq) {y : MethodName} {ws : List Cond} {rm : Room} {As : List Value} {r : Unit} (hM : Met l y ws rm (pcx G rd q σ (.ref (q i) :: As)) (qxv G rd q σ1 r) 0 0 (fa G)) {index n maxL : Nat} {bytes : ByteArray} {ret' : Option FieldType} (cw : CallW R s args own qq.1 index y bytes maxL ret' ws rm 0 0 n) (hn : As.length = n) (hsz : ls.size = nL) {st : List Value} (hst : st = As.reverse ++ .ref (q i) :: rest) (hrm : (rest.map fun v => v.category).sum ≤ 8) (hcs : cells ≤ R.cells ∧ slots ≤ R.slots) (hdg : decode cc pc = .ok (.invokevirtual index, 3))
    (kk : ∀ (H1 : Heap) (locs1 : List Loc), wx G rd q σ1 H1 → va_S (fa G) s.heap H1 locs1 → W p l e R s m args below meth c H1 locs1 cells slots Q (F0 m (pc + 3) ls rest)) : W p l e R s m args below meth c H locs cells slots Q (F0 m pc ls st) := by
  obtain ⟨hx, hb, hml, hown, hts, -, -, hk0, hox⟩ := C
  obtain ⟨kp, -, h1⟩ := wc_at (dA := G.2.1) (q := q) hi
  rw [ht] at h1
  exact va_callv (va_runV (As := As) (rest := rest) ⟨hx, hb, hml, hown, hts⟩ hM cw ⟨pcx.blind, va_recv hk0.1 hw.1 hc h1, pre_of hk0 hox hw hS _⟩ rfl hn hsz hst (lv_room hrm) hdg hcs) hS (fun _ _ h => h) (fun _ h => h) (fun _ t H1 locs1 e1 _ _ hw1 _ _ hS1 => by
    subst e1
    exact kk _ _ hw1 hS1)
theorem r_callSi (C : cx p s m args meth c cc nL own ret G) (hw : wx G rd q σ H) (hS : va_S (fa G) s.heap H locs) {y : MethodName} {ws : List Cond} {rm : Room} {As : List Value} {r : Int32} (hM : Met l y ws rm (pcx G rd q σ As) (qxi G rd q σ1 r) 0 0 (fa G)) {index n maxL : Nat} {bytes : ByteArray} {ret' : Option FieldType} (cw : CallB R s args own index y bytes maxL ret' ws rm 0 0 n ∧ (Cond.static y).before args s = true) (hn : As.length = n) (hsz : ls.size = nL) {st : List Value} (hst : st = As.reverse ++ rest) (hrm : (rest.map fun v => v.category).sum ≤ 8) (hcs : cells ≤ R.cells ∧ slots ≤ R.slots) (hdg : decode cc pc = .ok (.invokestatic index, 3))
    (kk : ∀ (H1 : Heap) (locs1 : List Loc), wx G rd q σ1 H1 → va_S (fa G) s.heap H1 locs1 → W p l e R s m args below meth c H1 locs1 cells slots Q (F0 m (pc + 3) ls (.int r :: rest))) : W p l e R s m args below meth c H locs cells slots Q (F0 m pc ls st) := by
  obtain ⟨hx, hb, hml, hown, hts, -, -, hk0, hox⟩ := C
  exact va_calli (va_runS (As := As) (rest := rest) ⟨hx, hb, hml, hown, hts⟩ hM cw ⟨pcx.blind, pre_of hk0 hox hw hS _⟩ rfl hn hsz hst (lv_room hrm) hdg hcs) hS (fun _ _ h => h) (fun _ h => h) (fun r' _ t H1 locs1 e1 _ e2 hw1 _ _ hS1 => by
    subst e2; subst e1
    exact kk _ _ hw1 hS1)
theorem r_callSl (C : cx p s m args meth c cc nL own ret G) (hw : wx G rd q σ H) (hS : va_S (fa G) s.heap H locs) {y : MethodName} {ws : List Cond} {rm : Room} {As : List Value} {r : Int64} (hM : Met l y ws rm (pcx G rd q σ As) (qxl G rd q σ1 r) 0 0 (fa G)) {index n maxL : Nat} {bytes : ByteArray} {ret' : Option FieldType} (cw : CallB R s args own index y bytes maxL ret' ws rm 0 0 n ∧ (Cond.static y).before args s = true) (hn : As.length = n) (hsz : ls.size = nL) {st : List Value} (hst : st = As.reverse ++ rest) (hrm : (rest.map fun v => v.category).sum ≤ 8) (hcs : cells ≤ R.cells ∧ slots ≤ R.slots) (hdg : decode cc pc = .ok (.invokestatic index, 3))
    (kk : ∀ (H1 : Heap) (locs1 : List Loc), wx G rd q σ1 H1 → va_S (fa G) s.heap H1 locs1 → W p l e R s m args below meth c H1 locs1 cells slots Q (F0 m (pc + 3) ls (.long r :: rest))) : W p l e R s m args below meth c H locs cells slots Q (F0 m pc ls st) := by
  obtain ⟨hx, hb, hml, hown, hts, -, -, hk0, hox⟩ := C
  exact va_calll (va_runS (As := As) (rest := rest) ⟨hx, hb, hml, hown, hts⟩ hM cw ⟨pcx.blind, pre_of hk0 hox hw hS _⟩ rfl hn hsz hst (lv_room hrm) hdg hcs) hS (fun _ _ h => h) (fun _ h => h) (fun r' _ t H1 locs1 e1 _ e2 hw1 _ _ hS1 => by
    subst e2; subst e1
    exact kk _ _ hw1 hS1)
end RW
