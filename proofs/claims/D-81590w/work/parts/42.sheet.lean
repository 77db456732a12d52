/-! SHEETS: rows -/
set_option maxRecDepth 100000
theorem wx.grow {G : GG} {rd : Bool} {q : Nat → Nat} {σ : SS} {H H1 : Heap} (h : wx G rd q σ H) (hz : ∀ a, a < H.size → H1[a]? = H[a]?) : wx G rd q σ H1 :=
  ⟨h.1.kept (fun k x hx => hz x.1 (h.1 k x hx).lt), h.2⟩
/-- a met contract out of one that returns or throws, where it never throws -/
theorem met_noX {l : Launch} {y : MethodName} {ws : List Cond} {rm : Room} {Pc : Array Value → State → Prop} {Qc : Array Value → State → Outcome → State → Prop} {mc ms : Nat} {free : Addr → Prop} (h : vx_Met l y ws rm Pc Qc (fun _ _ _ _ => False) mc ms free) : Met l y ws rm Pc Qc mc ms free := by
  intro p e h1 h2 h3 s m args below h4 h5 h6 h7
  obtain ⟨n, o, a1, a2, a3, a4⟩ := h p e h1 h2 h3 s m args below h4 h5 h6 h7
  refine ⟨n, o, a1, a2, a3, ?_⟩
  rcases a4 with a4 | ⟨q, -, E, ce, L, hf, -⟩
  · exact a4
  · exact hf.elim
/-- a contract of a method with handlers out of a walk of the body -/
theorem met_ofW {l : Launch} {y : MethodName} {cc : ByteArray} {nL : Nat} {ret : Option FieldType} {hh : List (Nat × Nat × Nat × Nat)} {rm : Room} {G : GG} {rd : Bool} {q : Nat → Nat} {σ : SS} {av : List Value} {Qc : Array Value → State → Outcome → State → Prop} {mc ms : Nat} (hy : plainName y.cls = true) (hle : (lg_sl av).length ≤ nL)
    (body : ∀ p e s m below meth c, cx p s m av.toArray meth c cc nL y.cls ret G → c.exceptionTable.toList = tableOf hh → ∀ (H : Heap) (locs : List Loc) (ls : Array Slot), wx G rd q σ H → va_S (fa G) s.heap H locs → lv_has ls nL (lv_args 0 av) → W p l e rm s m av.toArray below meth c H locs 0 0 (MQ below Qc av.toArray s mc ms (fa G)) (F0 m 0 ls [])) :
    Met l y (wsW_ y cc nL ret hh) rm (pcx G rd q σ av) Qc mc ms (fa G) := by
  refine met_noX (vx_ofWH hy rfl ?_)
  intro p e s m args below meth c s₁ B hml hv
  obtain ⟨rfl, hk, ho, hw⟩ := hv
  have hts := atoms_spec (ws := wsW_ y cc nL ret hh) B.pre
  have htab := vx_table (x := y) B (hts _ List.mem_cons_self)
  have hts : ∀ w ∈ lw_all, w.before _ s = true := fun w h => hts w (List.mem_cons_of_mem _ h)
  have hl := lv_entry av (n := nL) hle
  rw [lg_entry_eq]
  exact vx_ret (body p e s m below meth c ⟨B.exec, B.bytes, hml, findClass_of_methodNamed B.named, hts, B.returns, B.notSynchronized, hk, ho⟩ htab s.heap [] _ hw va_S.rf hl)
theorem tm_so {d : Nat → Nat × Nat} {j : Nat} (hj : j < 4) : tm d (13 + j) = shO (d j) j := by
  rcases (show j = 0 ∨ j = 1 ∨ j = 2 ∨ j = 3 by omega) with rfl | rfl | rfl | rfl <;> rfl
theorem tm_st {d : Nat → Nat × Nat} {j : Nat} (hj : j < 4) : tm d (17 + j) = shT (d j) j := by
  rcases (show j = 0 ∨ j = 1 ∨ j = 2 ∨ j = 3 by omega) with rfl | rfl | rfl | rfl <;> rfl
def shTy (k : Nat) : FieldType := if k = 1 then .byte else if k = 2 then .short else .int
def shId (k : Nat) : Nat := if k = 1 then 1 else if k = 2 then 2 else 0
theorem shId_at {dA : Nat → ClassId} (k : Nat) : (tysA dA)[shId k]? = some (dA (shId k), shTy k) := by
  unfold shId shTy
  by_cases h1 : k = 1
  · rw [if_pos h1, if_pos h1]; rfl
  · rw [if_neg h1, if_neg h1]
    by_cases h2 : k = 2
    · rw [if_pos h2, if_pos h2]; rfl
    · rw [if_neg h2, if_neg h2]; rfl
section RS
variable {p : Program} {l : Launch} {e : Env} {R : Room} {s : State} {m : MethodId} {args : Array Value} {below : List Frame} {meth : Method} {c : Code} {H : Heap} {locs : List Loc} {cells slots : Nat} {Q : State → Prop}
variable {cc : ByteArray} {pc nL : Nat} {ls : Array Slot} {rest : List Value} {own : String} {ret : Option FieldType} {G : GG} {rd : Bool} {q : Nat → Nat} {σ σ1 : SS}
/-- a sheet's array, where there is one -/
theorem sh_at (hw : wx G rd q σ H) {j : Nat} (hj : j < 4) (hd : (σ.2.2 j).1 ≠ 0) : ∃ kp : Nat, (wi rd σ.2.2)[kp]? = some (17 + j) ∧ (wc G.2.1 rd q σ)[kp]? = some (q (17 + j), .inl (G.2.1 (shId (σ.2.2 j).1), (σ.2.2 j).2, .inl (fun i => σ.1 (17 + j) i))) := by
  obtain ⟨kp, h0, h1⟩ := wc_at (dA := G.2.1) (q := q) (wi_sh (rd := rd) hj hd)
  rw [tm_st hj] at h1
  exact ⟨kp, h0, h1⟩
/-- the cells' field of a sheet: null, or its array -/
theorem r_getC (C : cx p s m args meth c cc nL RX0 ret G) (hw : wx G rd q σ H) {j : Nat} (hj : j < 4) (hdg : decode cc pc = .ok (.getfield 330, 3))
    (k0 : (σ.2.2 j).1 = 0 → W p l e R s m args below meth c H locs cells slots Q (F0 m (pc + 3) ls (.null :: rest)))
    (k1 : (σ.2.2 j).1 ≠ 0 → W p l e R s m args below meth c H locs cells slots Q (F0 m (pc + 3) ls (.ref (q (17 + j)) :: rest))) : W p l e R s m args below meth c H locs cells slots Q (F0 m pc ls (.ref (q (13 + j)) :: rest)) := by
  have ht : tm σ.2.2 (13 + j) = .inl (7, [if (σ.2.2 j).1 = 0 then (3, 0, 0) else (2, 17 + j, 0)]) := tm_so hj
  by_cases h0 : (σ.2.2 j).1 = 0
  · rw [if_pos h0] at ht
    exact r_getN C hw (i := 13 + j) (wi_lo (Or.inl (by omega))) ht (ci := 7) (Cn := RX7) (T := TX7) (N := 1) rfl in_X7 0 (by decide) rfl (v := .null) rfl 23 rfl hdg (k0 h0)
  · rw [if_neg h0] at ht
    exact r_getN C hw (i := 13 + j) (wi_lo (Or.inl (by omega))) ht (ci := 7) (Cn := RX7) (T := TX7) (N := 1) rfl in_X7 0 (by decide) rfl (v := .ref (q (17 + j))) rfl 23 rfl hdg (k1 h0)
theorem n_instA (C : cx p s m args meth c cc nL own ret G) {D : va_G} {cl : List vw_C} {ws : va_W} (hP : va_P D cl ws H) (q0 : Nat) {a : Nat} {cA : ClassId} {x : vp_A} (ha : ws[q0]? = some (a, .inl (cA, x))) {nm : String} {index : Nat} (hnm : s.vm.findClass nm = some cA) (hlink : Cond.classLink own index nm ∈ lw_all) (hdg : decode cc pc = .ok (.instanceof index, 3))
    (k : W p l e R s m args below meth c H locs cells slots Q (F0 m (pc + 3) ls (.int 1 :: rest))) : W p l e R s m args below meth c H locs cells slots Q (F0 m pc ls (.ref a :: rest)) := by
  obtain ⟨hx, hb, -, hown, hts, -, -, -, -⟩ := C
  have hvm0 : (vp_cell cA x).vm = .none := by
    obtain ⟨n, f | f | f | f | f⟩ := x <;> rfl
  have hcl0 : (vp_cell cA x).cls = cA := by
    obtain ⟨n, f | f | f | f | f⟩ := x <;> rfl
  intro T hT X
  obtain ⟨vm', X', st⟩ := X.instanceofYes hx hown (hts _ hlink) (by rw [hT]; exact hP q0 _ ha) (by rw [hvm0]; rfl) hnm (by rw [hcl0]; exact va_asg _ _) (g := F0 m pc ls (.ref a :: rest)) rfl rfl (by rw [hb]; exact hdg)
  obtain ⟨t, a1, b1⟩ := k (T.setVm vm') hT X'
  exact ⟨t, st t a1, b1⟩
theorem n_castA (C : cx p s m args meth c cc nL own ret G) {D : va_G} {cl : List vw_C} {ws : va_W} (hP : va_P D cl ws H) (q0 : Nat) {a : Nat} {cA : ClassId} {x : vp_A} (ha : ws[q0]? = some (a, .inl (cA, x))) {nm : String} {index : Nat} (hnm : s.vm.findClass nm = some cA) (hlink : Cond.classLink own index nm ∈ lw_all) (hdg : decode cc pc = .ok (.checkcast index, 3))
    (k : W p l e R s m args below meth c H locs cells slots Q (F0 m (pc + 3) ls (.ref a :: rest))) : W p l e R s m args below meth c H locs cells slots Q (F0 m pc ls (.ref a :: rest)) := by
  obtain ⟨hx, hb, -, hown, hts, -, -, -, -⟩ := C
  exact va_castA hx hb hown (hts _ hlink) hP q0 ha hnm hdg k
theorem n_castN (C : cx p s m args meth c cc nL own ret G) {index : Nat} (hdg : decode cc pc = .ok (.checkcast index, 3))
    (k : W p l e R s m args below meth c H locs cells slots Q (F0 m (pc + 3) ls (.null :: rest))) : W p l e R s m args below meth c H locs cells slots Q (F0 m pc ls (.null :: rest)) := by
  obtain ⟨hx, hb, -, hown, hts, -, -, -, -⟩ := C
  exact lv_castN hx hb hdg k
theorem n_instN (C : cx p s m args meth c cc nL own ret G) {index : Nat} (hdg : decode cc pc = .ok (.instanceof index, 3))
    (k : W p l e R s m args below meth c H locs cells slots Q (F0 m (pc + 3) ls (.int 0 :: rest))) : W p l e R s m args below meth c H locs cells slots Q (F0 m pc ls (.null :: rest)) := by
  obtain ⟨hx, hb, -, hown, hts, -, -, -, -⟩ := C
  exact lv_instN hx hb hdg k
theorem cell_arr {D : va_G} {cl : List vw_C} {ws : va_W} (hP : va_P D cl ws H) {q0 a : Nat} {cA : ClassId} {x : vp_A} (ha : ws[q0]? = some (a, .inl (cA, x))) {nm : String} (hnm : s.vm.findClass nm = some cA) : ∃ cell : Cell, H[a]? = some cell ∧ cell.vm.isStatics = false ∧ s.vm.findClass nm = some cell.cls := by
  refine ⟨vp_cell cA x, hP q0 _ ha, ?_, ?_⟩
  · obtain ⟨n, f | f | f | f | f⟩ := x <;> rfl
  · rw [hnm]
    obtain ⟨n, f | f | f | f | f⟩ := x <;> rfl
theorem n_instNo (C : cx p s m args meth c cc nL own ret G) {D : va_G} {cl : List vw_C} {ws : va_W} (hP : va_P D cl ws H) (q0 : Nat) {a : Nat} {cA : ClassId} {x : vp_A} (ha : ws[q0]? = some (a, .inl (cA, x))) {Cn nm : String} {index : Nat} (hnm : s.vm.findClass Cn = some cA) (hlink : Cond.classLink own index nm ∈ lw_all) (hnc : Cond.not (.castable Cn nm) ∈ flatC (Jvm.Cond.and given_1 narrow_1)) (hdg : decode cc pc = .ok (.instanceof index, 3))
    (k : W p l e R s m args below meth c H locs cells slots Q (F0 m (pc + 3) ls (.int 0 :: rest))) : W p l e R s m args below meth c H locs cells slots Q (F0 m pc ls (.ref a :: rest)) := by
  obtain ⟨hx, hb, -, hown, hts, -, -, hk0, -⟩ := C
  exact va_instNo hx hb hown (hts _ hlink) (hk0.nc hnc) (cell_arr hP ha hnm) hdg k
/-- an array class's name -/
theorem kx.fc (hk : kx G s) {t : Nat} {ty : FieldType} (ht : (tysA G.2.1)[t]? = some (G.2.1 t, ty)) : s.vm.findClass ("[" ++ ty.toString) = some (G.2.1 t) := ra_fc (hk.1.2 t _ ht).2
theorem fc_int (hk : kx G s) : s.vm.findClass "[I" = some (G.2.1 0) := hk.fc (t := 0) (ty := .int) rfl
theorem fc_byte (hk : kx G s) : s.vm.findClass "[B" = some (G.2.1 1) := hk.fc (t := 1) (ty := .byte) rfl
theorem fc_short (hk : kx G s) : s.vm.findClass "[S" = some (G.2.1 2) := hk.fc (t := 2) (ty := .short) rfl
/-- the machine throws with a text -/
theorem r_vm (C : cx p s m args meth c cc nL own ret G) (hl : l.stackTraces = false) (hw : wx G rd q σ H) (hS : va_S (fa G) s.heap H locs) (hsz : ls.size = nL) {cls text : String} {names : List String} (hcls : Bundle.fit cls = true) (hnames : ∀ n ∈ names, Bundle.fit n = true) (hsoe : (cls == "java/lang/StackOverflowError") = false) (hoom : (cls == "java/lang/OutOfMemoryError") = false) (hok : ∀ w ∈ vx_atM cls names, okw w = true) (hgood : ∀ w ∈ vx_atM cls names, vx_ot w = true) (htext : (text == notModelled) = false) {nb : Nat} (hnb : (stringBytes (stringToUtf16 text)).size ≤ nb) (hnb1 : nb ≤ 1000) (hRf : names.length + 4 < R.frames) (hRl : (rest.map fun v => v.category).sum + 10240 ≤ R.locals) (hsh : 13 * names.length + 55 ≤ 10240) (hRc : cells + 3 ≤ R.cells) (hRs : slots + (nb + 10) ≤ R.slots)
    (k : ∀ (H1 : Heap) (q9 : Addr) (ce : Cell), wx G rd q σ H1 → va_S (fa G) s.heap H1 locs → H1[q9]? = some ce → ce.vm = .none → s.vm.findClass cls = some ce.cls → vx_W p l e R s m args below meth c H1 locs (cells + 3) (slots + (nb + 10)) Q (F0 m pc ls rest) q9) :
    vx_Note p l e R s m args below meth c H locs cells slots Q (F0 m pc ls rest) cls text := by
  obtain ⟨hx, hb, hml, hown, hts, -, hlk, hk0, hox⟩ := C
  exact vx_vm hx hl hcls hnames hsoe hoom (hat_of hk0 hts (fun w h => okw_e (hok w h))) hgood (hk0.zU hox) (hk0.zN hox) hS (hsz.trans hml.symm) htext hnb hnb1 hRf hRl hsh hRc hRs hlk (fun H1 q9 ce _ h2 h3 h4 h5 h6 => k H1 q9 ce (hw.grow h2) h3 h4 h5 h6)
theorem r_npe (C : cx p s m args meth c cc nL own ret G) (hl : l.stackTraces = false) (hw : wx G rd q σ H) (hS : va_S (fa G) s.heap H locs) (hsz : ls.size = nL) (hgood : ∀ w ∈ vx_atN 8, vx_ot w = true) (hRf : 7 < R.frames) (hRl : (rest.map fun v => v.category).sum + 10240 ≤ R.locals) (hRc : cells + 1 ≤ R.cells) (hRs : slots + 8 ≤ R.slots)
    (k : ∀ (H1 : Heap) (q9 : Addr) (ce : Cell), wx G rd q σ H1 → va_S (fa G) s.heap H1 locs → H1[q9]? = some ce → ce.vm = .none → s.vm.findClass "java/lang/NullPointerException" = some ce.cls → vx_W p l e R s m args below meth c H1 locs (cells + 1) (slots + 8) Q (F0 m pc ls rest) q9) :
    vx_NoteN p l e R s m args below meth c H locs cells slots Q (F0 m pc ls rest) := by
  obtain ⟨hx, hb, hml, hown, hts, -, hlk, hk0, hox⟩ := C
  exact vx_npe hx hl (hat_of hk0 hts (fun w h => okw_e (okw_N w h))) hgood (hk0.zU hox) (hk0.zN hox) hS (hsz.trans hml.symm) hRf hRl hRc hRs hlk (fun H1 q9 ce _ h2 h3 h4 h5 h6 => k H1 q9 ce (hw.grow h2) h3 h4 h5 h6)
end RS
theorem ot_X : ∀ w ∈ vx_atM "java/lang/ArrayIndexOutOfBoundsException" nmX, vx_ot w = true := by decide +kernel
theorem ot_S : ∀ w ∈ vx_atM "java/lang/NegativeArraySizeException" nmR, vx_ot w = true := by decide +kernel
theorem ot_C : ∀ w ∈ vx_atM "java/lang/ClassCastException" nmR, vx_ot w = true := by decide +kernel
theorem ot_N : ∀ w ∈ vx_atN 8, vx_ot w = true := by decide +kernel
