/-! HELPERS of the lifted methods -/
set_option maxRecDepth 100000
theorem nar_z {v : Int32} (h : v = 0 ∨ v = 1) : narrow .boolean (.int v) = .int v := by rcases h with rfl | rfl <;> rfl
theorem fit_z {v : Int32} (h : v = 0 ∨ v = 1) : fits .boolean (.int v) = true := by rcases h with rfl | rfl <;> rfl
theorem lt_of {w x n : Nat} (e : w = x) (h : x < n) : w < n := by rw [e]; exact h
theorem ok_I {rd : Bool} {k x : Nat} (e : k = 2 + x) (h : x < 2) : okS rd k := Or.inl (by omega)
theorem ha_W {k w x : Nat} (e : w = x) : 43 + 10 * k + 1 * x = iW k w := by unfold iW; omega
theorem ha_K {j x : Nat} (e : j = x) : 9 + 1 * x = 9 + j := by omega
theorem ha_H {j x : Nat} (e : j = x) : 13 + 1 * x = 13 + j := by omega
theorem ha_I {k x : Nat} (e : k = 2 + x) : 60 + 10 * x = iS k := by unfold iS; omega
section RH
variable {p : Program} {l : Launch} {e : Env} {R : Room} {s : State} {m : MethodId} {args : Array Value} {below : List Frame} {meth : Method} {c : Code} {H : Heap} {locs : List Loc} {cells slots : Nat} {Q : State → Prop}
variable {cc : ByteArray} {pc nL : Nat} {ls : Array Slot} {rest : List Value} {own : String} {ret : Option FieldType} {G : GG} {rd : Bool} {q : Nat → Nat} {σ σ1 : SS}
theorem r_tin (hexec : p.tables.exec = Jvm.exec) (hb : c.code = cc) {dflt lo hi : Int} {offs : Array Int} {len : Nat} {x v : Int32} {off : Int} {tgt : Nat} (hdg : decode cc pc = .ok (.tableswitch dflt lo hi offs, len)) (hv : x = v) (h1 : ¬ v.toInt < lo) (h2 : ¬ hi < v.toInt) (ho : offs[(v.toInt - lo).toNat]? = some off) (ht : (pc : Int) + off = (tgt : Int))
    (k : W p l e R s m args below meth c H locs cells slots Q (F0 m tgt ls rest)) : W p l e R s m args below meth c H locs cells slots Q (F0 m pc ls (.int x :: rest)) := by
  subst hv
  exact lv_tableIn hexec hb hdg h1 h2 ho ht k
theorem r_mmax (C : cx p s m args meth c cc nL own ret G) (hsz : ls.size = nL) {index : Nat} (h1 : Cond.methodLink own index ⟨"java/lang/Math", "max", "(II)I"⟩ ∈ lw_all) (h2 : Cond.static ⟨"java/lang/Math", "max", "(II)I"⟩ ∈ lw_all) (h3 : Cond.initialized "java/lang/Math" ∈ lw_all) (h4 : Cond.code ⟨"java/lang/Math", "max", "(II)I"⟩ prog_18_method_65_code 2 (some .int) ∈ lw_all) (hf : 1 ≤ R.frames) (hlo : (rest.map fun v => v.category).sum + 13 ≤ R.locals) (hcs : cells ≤ R.cells ∧ slots ≤ R.slots) {x y : Int32} (hdg : decode cc pc = .ok (.invokestatic index, 3))
    (kk : W p l e R s m args below meth c H locs cells slots Q (F0 m (pc + 3) ls (.int (if x < y then y else x) :: rest))) : W p l e R s m args below meth c H locs cells slots Q (F0 m pc ls (.int y :: .int x :: rest)) := by
  obtain ⟨hx, hb, hml, hown, hts, -, -, -, -⟩ := C
  exact va_mmax hx hb (hml.trans hsz.symm) hown (hts _ h1) (hts _ h2) (hts _ h3) (hts _ h4) hf hlo hcs.1 hcs.2 hdg kk
theorem r_mmin (C : cx p s m args meth c cc nL own ret G) (hsz : ls.size = nL) {index : Nat} (h1 : Cond.methodLink own index ⟨"java/lang/Math", "min", "(II)I"⟩ ∈ lw_all) (h2 : Cond.static ⟨"java/lang/Math", "min", "(II)I"⟩ ∈ lw_all) (h3 : Cond.initialized "java/lang/Math" ∈ lw_all) (h4 : Cond.code ⟨"java/lang/Math", "min", "(II)I"⟩ prog_18_method_69_code 2 (some .int) ∈ lw_all) (hf : 1 ≤ R.frames) (hlo : (rest.map fun v => v.category).sum + 13 ≤ R.locals) (hcs : cells ≤ R.cells ∧ slots ≤ R.slots) {x y : Int32} (hdg : decode cc pc = .ok (.invokestatic index, 3))
    (kk : W p l e R s m args below meth c H locs cells slots Q (F0 m (pc + 3) ls (.int (if y < x then y else x) :: rest))) : W p l e R s m args below meth c H locs cells slots Q (F0 m pc ls (.int y :: .int x :: rest)) := by
  obtain ⟨hx, hb, hml, hown, hts, -, -, -, -⟩ := C
  exact va_mmin hx hb (hml.trans hsz.symm) hown (hts _ h1) (hts _ h2) (hts _ h3) (hts _ h4) hf hlo hcs.1 hcs.2 hdg kk
end RH
