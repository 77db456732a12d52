/-! CONSTRUCTORS: rows over lists of cells, leaf constructors -/
set_option maxRecDepth 100000
theorem kx.ao {G : GG} {U : State} (h : kx G U) {C : String} (hw : Cond.arrayOver (.object C) ∈ lw_tbl) : va_AO C U := by
  obtain ⟨-, -, -, s0, b, g1, -, -, -, -, g6⟩ := h
  exact va_AO.moved g6.alike (va_AO.of (g1 _ hw))
theorem kx.cast {G : GG} {U : State} (h : kx G U) {C T : String} (hw : Cond.castable C T ∈ lw_tbl) : va_Nw (.castable C T) U := by
  obtain ⟨-, -, -, s0, b, g1, -, -, -, -, g6⟩ := h
  exact va_Nw.warmC g6 (va_Nw.of rfl (g1 _ hw))
theorem ra_fc {U : State} {cA : ClassId} {ty : FieldType} (h : va_RA U cA ty) : U.vm.findClass ("[" ++ ty.toString) = some cA := by
  cases ty with
  | object C => obtain ⟨_, _, _, _, _, h4⟩ := h; exact h4
  | _ => exact h
/-- an array class is the one that the tables name -/
theorem ty_one {G : GG} {U : State} {cA : ClassId} {ty : FieldType} {t : Nat} (hk : kx G U) (h : va_K G.1 clT (tysA G.2.1 ++ [(cA, ty)]) U) (ht : (tysA G.2.1)[t]? = some (G.2.1 t, ty)) : cA = G.2.1 t := by
  have h1 := ra_fc (h.2 8 (cA, ty) rfl).2
  have h2 := ra_fc (hk.1.2 t _ ht).2
  exact Option.some.inj (h1.symm.trans h2)
/-- an array's cell by its places alone -/
theorem cell_q {cA : ClassId} {n : Nat} {f g : Nat → Option Nat} (h : ∀ j, j < n → f j = g j) : vp_cell cA (n, .inr (.inr (.inr (.inr f)))) = vp_cell cA (n, .inr (.inr (.inr (.inr g)))) := by
  show arrV cA n (fun j => va_rf (f j)) = arrV cA n (fun j => va_rf (g j))
  unfold arrV
  have e : (fun j : Fin n => va_rf (f j.val)) = fun j : Fin n => va_rf (g j.val) := funext fun j => by rw [h j.1 j.2]
  rw [e]
theorem cell_i {cA : ClassId} {n : Nat} {f g : Nat → Int32} (h : ∀ j, j < n → f j = g j) : vp_cell cA (n, .inl f) = vp_cell cA (n, .inl g) := by
  show arrV cA n (fun j => .int (f j)) = arrV cA n (fun j => .int (g j))
  unfold arrV
  have e : (fun j : Fin n => Value.int (f j.val)) = fun j : Fin n => Value.int (g j.val) := funext fun j => by rw [h j.1 j.2]
  rw [e]
section RC
variable {p : Program} {l : Launch} {e : Env} {R : Room} {s : State} {m : MethodId} {args : Array Value} {below : List Frame} {meth : Method} {c : Code} {H : Heap} {locs : List Loc} {cells slots : Nat} {Q : State → Prop}
variable {cc : ByteArray} {pc nL : Nat} {ls : Array Slot} {rest : List Value} {own : String} {ret : Option FieldType} {G : GG} {A : Nat → Prop} {ws : va_W}
theorem n_new (C : cx p s m args meth c cc nL own ret G) (hP : va_P G.1 clT ws H) (hD : va_D A ws) (hS : va_S A s.heap H locs) (hA : ∀ q, s.heap.size ≤ q → A q) {Cn : String} {T : u_T} {N ci index : Nat} {fs : List Value} (hin : ∀ w ∈ u_ws Cn T N, w ∈ lw_all) (ty : Nat → FieldType) (hty : ∀ k, k < N → parseFieldDescriptor (T k).2.2.1 = some (ty k)) (hc : clT[ci]? = some (Cn, T, N)) (hcl : Cond.classLink own index Cn ∈ lw_all) (hinst : Cond.instantiable Cn N ∈ lw_all) (hini : Cond.initialized Cn ∈ lw_all) (hfs : ∀ j, j < N → defaultValue (ty j) = vp_V fs j) (hcells : cells + 1 ≤ R.cells) (hslots : slots + N ≤ R.slots) (hdg : decode cc pc = .ok (.new index, 3))
    (kk : ∀ (a : Nat) (H1 : Heap), va_P G.1 clT (ws ++ [(a, .inr (ci, fs))]) H1 → va_D A (ws ++ [(a, .inr (ci, fs))]) → va_S A s.heap H1 locs → W p l e R s m args below meth c H1 locs (cells + 1) (slots + N) Q (F0 m (pc + 3) ls (.ref a :: rest))) : W p l e R s m args below meth c H locs cells slots Q (F0 m pc ls rest) := by
  obtain ⟨hx, hb, hml, hown, hts, -, -, hk0, hox⟩ := C
  exact va_new hx hb hts hin ty hty hown (hts _ hcl) (hts _ hinst) (hts _ hini) hk0.1 hP hD hS hA hc hfs hcells hslots hdg kk
theorem n_newq (C : cx p s m args meth c cc nL own ret G) (hP : va_P G.1 clT ws H) (hD : va_D A ws) (hS : va_S A s.heap H locs) (hA : ∀ q, s.heap.size ≤ q → A q) {Cn : String} {t index : Nat} (ht : (tysA G.2.1)[t]? = some (G.2.1 t, .object Cn)) (hcl : Cond.classLink own index Cn ∈ lw_all) (hao : Cond.arrayOver (.object Cn) ∈ lw_tbl) {n : Int32} {N : Nat} (hn : ¬ n < 0) (hN : n.toNatClampNeg = N) (hbytes : N * 4 ≤ 536870912) (hcells : cells + 1 ≤ R.cells) (hslots : slots + N ≤ R.slots) (hdg : decode cc pc = .ok (.anewarray index, 3))
    (kk : ∀ (a : Nat) (H1 : Heap), va_P G.1 clT (ws ++ [(a, .inl (G.2.1 t, N, .inr (.inr (.inr (.inr (fun _ => none))))))]) H1 → va_D A (ws ++ [(a, .inl (G.2.1 t, N, .inr (.inr (.inr (.inr (fun _ => none))))))]) → va_S A s.heap H1 locs → W p l e R s m args below meth c H1 locs (cells + 1) (slots + N) Q (F0 m (pc + 3) ls (.ref a :: rest))) : W p l e R s m args below meth c H locs cells slots Q (F0 m pc ls (.int n :: rest)) := by
  obtain ⟨hx, hb, hml, hown, hts, -, -, hk0, hox⟩ := C
  exact va_newq hx hb hown (hts _ hcl) (hk0.ao hao) hk0.1 hP hD hS hA hn hN hbytes hcells hslots hdg (fun a cA H1 h1 h2 h3 h4 => by
    have e1 := ty_one hk0 h1 ht
    subst e1
    exact kk a H1 h2 h3 h4)
theorem n_newa (C : cx p s m args meth c cc nL own ret G) (hP : va_P G.1 clT ws H) (hD : va_D A ws) (hS : va_S A s.heap H locs) (hA : ∀ q, s.heap.size ≤ q → A q) {atype : ArrayType} {ty : FieldType} {t : Nat} (hty : newarray.typeOf atype = ty) (ht : (tysA G.2.1)[t]? = some (G.2.1 t, ty)) (hcl : Cond.arrayClass (newarray.typeOf atype) ∈ lw_all) {n : Int32} {N : Nat} (ha : ∀ cA : ClassId, vp_cell cA (N, .inl (fun _ => 0)) = arrV cA N (fun _ => defaultValue ty)) (hn : ¬ n < 0) (hN : n.toNatClampNeg = N) (hbytes : N * componentBytes ty ≤ 536870912) (hcells : cells + 1 ≤ R.cells) (hslots : slots + N ≤ R.slots) (hdg : decode cc pc = .ok (.newarray atype, 2))
    (kk : ∀ (a : Nat) (H1 : Heap), va_P G.1 clT (ws ++ [(a, .inl (G.2.1 t, N, .inl (fun _ => 0)))]) H1 → va_D A (ws ++ [(a, .inl (G.2.1 t, N, .inl (fun _ => 0)))]) → va_S A s.heap H1 locs → W p l e R s m args below meth c H1 locs (cells + 1) (slots + N) Q (F0 m (pc + 2) ls (.ref a :: rest))) : W p l e R s m args below meth c H locs cells slots Q (F0 m pc ls (.int n :: rest)) := by
  obtain ⟨hx, hb, hml, hown, hts, -, -, hk0, hox⟩ := C
  exact va_newa hx hb (hts _ hcl) hty hk0.1 hP hD hS hA ha hn hN hbytes hcells hslots hdg (fun a cA H1 h1 h2 h3 h4 => by
    have e1 := ty_one hk0 h1 ht
    subst e1
    exact kk a H1 h2 h3 h4)
theorem n_put (C : cx p s m args meth c cc nL own ret G) (hP : va_P G.1 clT ws H) (hD : va_D A ws) (hS : va_S A s.heap H locs) {Cn : String} {T : u_T} {N ci : Nat} (hin : ∀ w ∈ u_ws Cn T N, w ∈ lw_all) (ty0 : Nat → FieldType) (hty : ∀ k, k < N → parseFieldDescriptor (T k).2.2.1 = some (ty0 k)) (hnm : ∀ a, a < N → ∀ b, b < N → a ≠ b → (T a).2.1 ≠ (T b).2.1) (hc : clT[ci]? = some (Cn, T, N)) (q0 : Nat) {a : Nat} {fs : List Value} (he : ws[q0]? = some (a, .inr (ci, fs))) (k : Nat) (hk : k < N) {index : Nat} (hlink : (Cond.fieldLink own index (T k).1 (T k).2.1 (T k).2.2.1) ∈ lw_all) (hfin : (T k).2.2.2 = false) {v : Value} (hn : narrow (ty0 k) v = v) (hfit : fits (ty0 k) v = true) (hl : k < fs.length) (hdg : decode cc pc = .ok (.putfield index, 3))
    (kk : ∀ (H1 : Heap) (locs1 : List Loc), va_P G.1 clT (ws.set q0 (a, .inr (ci, fs.set k v))) H1 → va_D A (ws.set q0 (a, .inr (ci, fs.set k v))) → va_S A s.heap H1 locs1 → W p l e R s m args below meth c H1 locs1 cells slots Q (F0 m (pc + 3) ls rest)) : W p l e R s m args below meth c H locs cells slots Q (F0 m pc ls (v :: .ref a :: rest)) := by
  obtain ⟨hx, hb, hml, hown, hts, -, -, hk0, hox⟩ := C
  exact va_put hx hb hts hin ty0 hty hnm hown hk0.1 hP hD hS q0 he hc k hk (hts _ hlink) (fun _ h => h) hfin (hty k hk) hn hfit hl hdg kk
theorem n_putF (C : cx p s m args meth c cc nL own ret G) (hP : va_P G.1 clT ws H) (hD : va_D A ws) (hS : va_S A s.heap H locs) {Cn : String} {T : u_T} {N ci : Nat} (hin : ∀ w ∈ u_ws Cn T N, w ∈ lw_all) (ty0 : Nat → FieldType) (hty : ∀ k, k < N → parseFieldDescriptor (T k).2.2.1 = some (ty0 k)) (hnm : ∀ a, a < N → ∀ b, b < N → a ≠ b → (T a).2.1 ≠ (T b).2.1) (hc : clT[ci]? = some (Cn, T, N)) (q0 : Nat) {a : Nat} {fs : List Value} (he : ws[q0]? = some (a, .inr (ci, fs))) (k : Nat) (hk : k < N) {index : Nat} (hlink : (Cond.fieldLink own index (T k).1 (T k).2.1 (T k).2.2.1) ∈ lw_all) (hfin : (T k).2.2.2 = true) (hin2 : meth.name = "<init>") (hdecl : (T k).1 = own) {v : Value} (hn : narrow (ty0 k) v = v) (hfit : fits (ty0 k) v = true) (hl : k < fs.length) (hdg : decode cc pc = .ok (.putfield index, 3))
    (kk : ∀ (H1 : Heap) (locs1 : List Loc), va_P G.1 clT (ws.set q0 (a, .inr (ci, fs.set k v))) H1 → va_D A (ws.set q0 (a, .inr (ci, fs.set k v))) → va_S A s.heap H1 locs1 → W p l e R s m args below meth c H1 locs1 cells slots Q (F0 m (pc + 3) ls rest)) : W p l e R s m args below meth c H locs cells slots Q (F0 m pc ls (v :: .ref a :: rest)) := by
  obtain ⟨hx, hb, hml, hown, hts, -, -, hk0, hox⟩ := C
  exact va_putF hx hb hts hin ty0 hty hnm hown hk0.1 hP hD hS q0 he hc k hk (hts _ hlink) (fun _ h => h) hfin hin2 hdecl (hty k hk) hn hfit hl hdg kk
theorem n_getq (C : cx p s m args meth c cc nL own ret G) (hP : va_P G.1 clT ws H) {Cn : String} {T : u_T} {N ci : Nat} (hin : ∀ w ∈ u_ws Cn T N, w ∈ lw_all) (hc : clT[ci]? = some (Cn, T, N)) (q0 : Nat) {a : Nat} {fs : List Value} (he : ws[q0]? = some (a, .inr (ci, fs))) (k : Nat) (hk : k < N) {index : Nat} (hlink : (Cond.fieldLink own index (T k).1 (T k).2.1 (T k).2.2.1) ∈ lw_all) {v : Value} (hv : fs[k]? = some v) (hdg : decode cc pc = .ok (.getfield index, 3))
    (kk : W p l e R s m args below meth c H locs cells slots Q (F0 m (pc + 3) ls (v :: rest))) : W p l e R s m args below meth c H locs cells slots Q (F0 m pc ls (.ref a :: rest)) := by
  obtain ⟨hx, hb, hml, hown, hts, -, -, hk0, hox⟩ := C
  exact va_get hx hb hts hin hown hk0.1 hP q0 he hc k hk (hts _ hlink) (fun _ h => h) hv hdg kk
theorem n_astq (C : cx p s m args meth c cc nL own ret G) (hP : va_P G.1 clT ws H) (hD : va_D A ws) (hS : va_S A s.heap H locs) (q0 t qk ci : Nat) {Cn : String} {T : u_T} {N a v n : Nat} {vs : List Value} {f : Nat → Option Nat} (ha : ws[q0]? = some (a, .inl (G.2.1 t, n, .inr (.inr (.inr (.inr f)))))) (ht : (tysA G.2.1)[t]? = some (G.2.1 t, .object Cn)) (hv : ws[qk]? = some (v, .inr (ci, vs))) (hc : clT[ci]? = some (Cn, T, N)) {i : Int32} (hin : vp_in i n) (hdg : decode cc pc = .ok (.aastore, 1))
    (kk : ∀ (H1 : Heap) (locs1 : List Loc), va_P G.1 clT (ws.set q0 (a, .inl (G.2.1 t, n, .inr (.inr (.inr (.inr (va_up f i.toNatClampNeg (some v)))))))) H1 → va_D A (ws.set q0 (a, .inl (G.2.1 t, n, .inr (.inr (.inr (.inr (va_up f i.toNatClampNeg (some v)))))))) → va_S A s.heap H1 locs1 → W p l e R s m args below meth c H1 locs1 cells slots Q (F0 m (pc + 1) ls rest)) : W p l e R s m args below meth c H locs cells slots Q (F0 m pc ls (.ref v :: .int i :: .ref a :: rest)) := by
  obtain ⟨hx, hb, hml, hown, hts, -, -, hk0, hox⟩ := C
  exact va_astq hx hb hk0.1 hP hD hS q0 t qk ci ha ht hv hc hin hdg kk
theorem n_astqO (C : cx p s m args meth c cc nL own ret G) (hP : va_P G.1 clT ws H) (hD : va_D A ws) (hS : va_S A s.heap H locs) (q0 t qk ci : Nat) {E : String} {r : vw_C} {a v n : Nat} {vs : List Value} {f : Nat → Option Nat} (ha : ws[q0]? = some (a, .inl (G.2.1 t, n, .inr (.inr (.inr (.inr f)))))) (ht : (tysA G.2.1)[t]? = some (G.2.1 t, .object E)) (hca : Cond.castable r.1 E ∈ lw_tbl) (hv : ws[qk]? = some (v, .inr (ci, vs))) (hc : clT[ci]? = some r) {i : Int32} (hin : vp_in i n) (hdg : decode cc pc = .ok (.aastore, 1))
    (kk : ∀ (H1 : Heap) (locs1 : List Loc), va_P G.1 clT (ws.set q0 (a, .inl (G.2.1 t, n, .inr (.inr (.inr (.inr (va_up f i.toNatClampNeg (some v)))))))) H1 → va_D A (ws.set q0 (a, .inl (G.2.1 t, n, .inr (.inr (.inr (.inr (va_up f i.toNatClampNeg (some v)))))))) → va_S A s.heap H1 locs1 → W p l e R s m args below meth c H1 locs1 cells slots Q (F0 m (pc + 1) ls rest)) : W p l e R s m args below meth c H locs cells slots Q (F0 m pc ls (.ref v :: .int i :: .ref a :: rest)) := by
  obtain ⟨hx, hb, hml, hown, hts, -, -, hk0, hox⟩ := C
  exact va_astqO hx hb hk0.1 hP hD hS q0 t qk ci ha ht (hk0.cast hca) hv hc hin hdg kk
theorem n_iast (C : cx p s m args meth c cc nL own ret G) (hP : va_P G.1 clT ws H) (hD : va_D A ws) (hS : va_S A s.heap H locs) (q0 : Nat) {a n : Nat} {f : Nat → Int32} (ha : ws[q0]? = some (a, .inl (G.2.1 0, n, .inl f))) {i x : Int32} (hin : vp_in i n) (hdg : decode cc pc = .ok (.iastore, 1))
    (kk : ∀ (H1 : Heap) (locs1 : List Loc), va_P G.1 clT (ws.set q0 (a, .inl (G.2.1 0, n, .inl (upd f i.toNatClampNeg x)))) H1 → va_D A (ws.set q0 (a, .inl (G.2.1 0, n, .inl (upd f i.toNatClampNeg x)))) → va_S A s.heap H1 locs1 → W p l e R s m args below meth c H1 locs1 cells slots Q (F0 m (pc + 1) ls rest)) : W p l e R s m args below meth c H locs cells slots Q (F0 m pc ls (.int x :: .int i :: .ref a :: rest)) := by
  obtain ⟨hx, hb, hml, hown, hts, -, -, hk0, hox⟩ := C
  exact va_iast hx hb hk0.1 hP hD hS q0 0 ha rfl hin hdg kk
/-- Object.<init> -/
theorem n_obj (C : cx p s m args meth c cc nL own ret G) {index : Nat} (hlink : Cond.methodLink own index objectInit ∈ lw_all) (h2 : Cond.instanceMethod objectInit ∈ lw_all) (h3 : Cond.code objectInit ⟨#[0xb1]⟩ 1 none ∈ lw_all) (hsz : ls.size = nL) {a : Nat} (hf : 1 ≤ R.frames) (hlo : (rest.map fun v => v.category).sum + 12 ≤ R.locals) (hdg : decode cc pc = .ok (.invokespecial index, 3))
    (kk : W p l e R s m args below meth c H locs cells slots Q (F0 m (pc + 3) ls rest)) : W p l e R s m args below meth c H locs cells slots Q (F0 m pc ls (.ref a :: rest)) := by
  obtain ⟨hx, hb, hml, hown, hts, -, -, hk0, hox⟩ := C
  refine W.objInit hx hb hown (hts _ hlink) (hts _ h2) (hts _ h3) rfl (by rw [hml]; exact hsz) rfl hdg hf (by show 2 * 0 + _ + 12 ≤ _; omega) ?_
  exact kk
end RC
/-- a constructor that leaves the heap as it is -/
abbrev pcq (G : GG) (Hc : Heap) (av : List Value) : Array Value → State → Prop := va_Pc av (fun U => kx G U ∧ ox G U.heap ∧ U.heap = Hc)
abbrev qcq (Hc : Heap) : Array Value → State → Outcome → State → Prop := va_Qv (fun (_ : Unit) => True) (fun _ t => t.heap = Hc) (fun _ => False)
theorem pcq.blind {G : GG} {Hc : Heap} {av : List Value} : FrameBlind (pcq G Hc av) := fun a _ g mk h => ⟨h.1, h.2.1.blind g mk a, h.2.2⟩
/-- a constructor's start and end over a list of cells -/
def pcl (G : GG) (ws : va_W) (sz : Nat) (av : List Value) : Array Value → State → Prop := va_Pc av (fun U => kx G U ∧ ox G U.heap ∧ U.heap.size = sz ∧ va_P G.1 clT ws U.heap ∧ va_D (fa G) ws)
theorem pcl.blind {G : GG} {ws : va_W} {sz : Nat} {av : List Value} : FrameBlind (pcl G ws sz av) := fun a _ g mk h => ⟨h.1, h.2.1.blind g mk a, h.2.2⟩
abbrev qcl (G : GG) (ws : va_W) (sz : Nat) (w1 : (Nat → Nat) → va_W) : Array Value → State → Outcome → State → Prop := va_Qv (fun (_ : Nat → Nat) => True) (fun a t => va_P G.1 clT (w1 a) t.heap ∧ va_D (va_A ws sz) (w1 a)) (va_A ws sz)
theorem met_ofC {l : Launch} {y : MethodName} {cc : ByteArray} {nL : Nat} {rm : Room} {G : GG} {Pc : State → Prop} {av : List Value} {Qc : Array Value → State → Outcome → State → Prop} {mc ms : Nat} {free : Nat → Prop} (hy : plainName y.cls = true) (hn : y.name = "<init>")
    (hle : (lg_sl av).length ≤ nL) (hkx : ∀ U, Pc U → kx G U ∧ ox G U.heap)
    (body : ∀ p e s m below meth c, cx p s m av.toArray meth c cc nL y.cls none G → meth.name = "<init>" → Pc s → ∀ (ls : Array Slot), lv_has ls nL (lv_args 0 av) → W p l e rm s m av.toArray below meth c s.heap [] 0 0 (MQ below Qc av.toArray s mc ms free) (F0 m 0 ls [])) :
    Met l y (ws_ y cc nL none) rm (va_Pc av Pc) Qc mc ms free := by
  refine Met.ofW (cc := cc) (maxL := nL) (ret := none) hy rfl ?_
  intro p e s m args below meth c s₁ B hml hv
  obtain ⟨rfl, hk⟩ := hv
  have hts := atoms_spec (ws := ws_ y cc nL none) B.pre
  have hts : ∀ w ∈ lw_all, w.before _ s = true := fun w h => hts w (List.mem_cons_of_mem _ h)
  have hl := lv_entry av (n := nL) hle
  rw [lg_entry_eq]
  exact body p e s m below meth c ⟨B.exec, B.bytes, hml, findClass_of_methodNamed B.named, hts, B.returns, B.notSynchronized, hkx s hk⟩ ((name_of_methodNamed B.named B.method).1.trans hn) hk _ hl
section RC2
variable {p : Program} {l : Launch} {e : Env} {R : Room} {s : State} {m : MethodId} {args : Array Value} {below : List Frame} {meth : Method} {c : Code} {H : Heap} {locs : List Loc} {cells slots : Nat} {Q : State → Prop}
variable {cc : ByteArray} {pc nL : Nat} {ls : Array Slot} {rest : List Value} {own : String} {ret : Option FieldType} {G : GG} {A : Nat → Prop} {ws : va_W}
/-- a call of such a constructor, by a nest mate -/
theorem n_initN (C : cx p s m args meth c cc nL own ret G) (hS : va_S A s.heap H locs) (hox : ox G H) {y : MethodName} {b : ByteArray} {maxL : Nat} {rm : Room} {a index : Nat} (hM : Met l y (ws_ y b maxL none) rm (pcq G H [.ref a]) (qcq H) 0 0 (fun _ => False)) {host : String} (n : Nat) (hn : nestM[n]? = some (own, index, y, host)) (hy : y.name = "<init>") (hi : Cond.initialized y.cls ∈ lw_all) (hin : Cond.instanceMethod y ∈ lw_all) (hcd : Cond.code y b maxL none ∈ lw_all) (hd : y.cls ≠ "java/lang/invoke/MethodHandle" ∧ y.cls ≠ "java/lang/invoke/VarHandle" ∧ (parseMethodDescriptor y.desc).map (fun d => d.parameters.length) = some 0) (hrc : rm.cells = 0) (hrs : rm.slots = 0) (hR : rm.frames + 1 ≤ R.frames ∧ 8 + (maxL + 11) + rm.locals ≤ R.locals) (hsz : ls.size = nL) (hrm : (rest.map fun v => v.category).sum ≤ 8) (hcs : cells ≤ R.cells ∧ slots ≤ R.slots) (hdg : decode cc pc = .ok (.invokespecial index, 3))
    (kk : ∀ locs1, va_S A s.heap H locs1 → W p l e R s m args below meth c H locs1 cells slots Q (F0 m (pc + 3) ls rest)) : W p l e R s m args below meth c H locs cells slots Q (F0 m pc ls (.ref a :: rest)) := by
  obtain ⟨hx, hb, hml, hown, hts, -, -, hk0, -⟩ := C
  exact va_callv (va_runIN (As := []) (rest := rest) ⟨hx, hb, hml, hown, hts⟩ hM ⟨va_cnB 0 hts (lw_meth hcd) rfl hrc hrs (hk0.2.2.1 _ (List.mem_of_getElem? hn)) (hts _ hi) hd hR, hy, hts _ hin⟩ ⟨pcq.blind, fun U hU hW => ⟨rfl, hk0.warm hW, by rw [hU]; exact hox, hU⟩⟩ rfl rfl hsz rfl (lv_room hrm) hdg hcs) hS (fun _ _ h => h.elim) (fun _ h => h.elim) (fun _ t H1 locs1 e1 _ _ e2 _ _ hS1 => by
    have e3 : H1 = H := e1.symm.trans e2
    subst e3
    exact kk locs1 hS1)
end RC2
theorem af_of {G : GG} {ws : va_W} {sz : Nat} (h : G.2.2.1 ≤ sz) (hD : va_D (fa G) ws) : ∀ q, va_A ws sz q → fa G q := by
  intro q hq
  rcases hq with ⟨k, e, h1⟩ | h1
  · exact hD.2 k (q, e) h1
  · exact Nat.le_trans h h1
theorem ox.onA {G : GG} {A : Nat → Prop} {H0 H : Heap} {locs : List Loc} (h : ox G H0) (hAf : ∀ q, A q → fa G q) (hS : va_S A H0 H locs) : ox G H := ⟨Nat.le_trans h.1 hS.1, fun a ha => (hS.2.1 a (Nat.lt_of_lt_of_le ha h.1) (fun z => Nat.not_le.mpr ha (hAf a z))).trans (h.2 a ha)⟩
