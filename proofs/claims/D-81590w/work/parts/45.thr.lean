/-! METHODS THAT THROW: what was thrown (kind, code, place), contracts, calls -/
set_option maxRecDepth 100000
/-- what is thrown: 1 NullPointerException, 2 ArrayIndexOutOfBounds, 3 ClassCast, 5 Fault (its code and place) -/
abbrev XI : Type := Nat × Int32 × Int32
def exN (k : Nat) : String := if k = 1 then "java/lang/NullPointerException" else if k = 2 then "java/lang/ArrayIndexOutOfBoundsException" else if k = 3 then "java/lang/ClassCastException" else "FlyWheels$Fault"
theorem sh_0 {k : Nat} (h1 : ¬ shId k = 1) (h2 : ¬ shId k = 2) : shId k = 0 := by
  rcases shId_3 k with h | h | h
  · exact h
  · exact absurd h h1
  · exact absurd h h2
def bdx {α β : Type} (m : Option ((β ⊕ XI) × SS)) (k : β → SS → Option α) (kx : XI → SS → Option α) : Option α := match m with
  | none => none
  | some (.inl r, σ) => k r σ
  | some (.inr x, σ) => kx x σ
theorem bdx_e {α β : Type} {m : Option ((β ⊕ XI) × SS)} {k : β → SS → Option α} {kx : XI → SS → Option α} {r : α} (h : bdx m k kx = some r) : (∃ u σ, m = some (.inl u, σ) ∧ k u σ = some r) ∨ (∃ x σ, m = some (.inr x, σ) ∧ kx x σ = some r) := by
  unfold bdx at h
  split at h
  · cases h
  · exact Or.inl ⟨_, _, rfl, h⟩
  · exact Or.inr ⟨_, _, rfl, h⟩
theorem so_l {β : Type} {a r : β} {σ σ' : SS} (h : (some (Sum.inl a, σ) : Option ((β ⊕ XI) × SS)) = some (Sum.inl r, σ')) : some (a, σ) = some (r, σ') := by cases h; rfl
theorem so_r {β : Type} {a x : XI} {σ σ' : SS} (h : (some (Sum.inr a, σ) : Option ((β ⊕ XI) × SS)) = some (Sum.inr x, σ')) : a = x ∧ σ = σ' := by cases h; exact ⟨rfl, rfl⟩
/-- of a Fault that was thrown: its cell, apart from the world's -/
def ftx (G : GG) (rd : Bool) (q : Nat → Nat) (σ : SS) (x : XI) (q9 : Addr) (H : Heap) : Prop := x.1 = 5 → fa G q9 ∧ (∀ i, i ∈ wi rd σ.2.2 → q i ≠ q9) ∧ ∃ v0 v1 v2 v3 v4 v5 : Value, va_P G.1 clT [(q9, .inr (10, [v0, v1, v2, v3, v4, v5, .int x.2.1, .int x.2.2]))] H
abbrev qxx (G : GG) (rd : Bool) (q : Nat → Nat) (σ : SS) (x : XI) : String → Addr → State → State → Prop := vx_X (fun _ : Unit => True) (fun E q9 _ t => E = exN x.1 ∧ wx G rd q σ t.heap ∧ ftx G rd q σ x q9 t.heap) (fa G)
theorem met_ofX {l : Launch} {y : MethodName} {cc : ByteArray} {nL : Nat} {ret : Option FieldType} {rm : Room} {G : GG} {rd : Bool} {q : Nat → Nat} {σ : SS} {av : List Value} {Qc : Array Value → State → Outcome → State → Prop} {XC : String → Addr → State → State → Prop} {mc ms : Nat} (hy : plainName y.cls = true) (hle : (lg_sl av).length ≤ nL)
    (body : ∀ p e s m below meth c, cx p s m av.toArray meth c cc nL y.cls ret G → (∀ z ∈ c.exceptionTable.toList, False) → ∀ (H : Heap) (locs : List Loc) (ls : Array Slot), wx G rd q σ H → va_S (fa G) s.heap H locs → lv_has ls nL (lv_args 0 av) → W p l e rm s m av.toArray below meth c H locs 0 0 (vx_MQ below Qc XC av.toArray s mc ms (fa G)) (F0 m 0 ls [])) :
    vx_Met l y (ws_ y cc nL ret) rm (pcx G rd q σ av) Qc XC mc ms (fa G) := by
  refine vx_ofW hy rfl ?_
  intro p e s m args below meth c s₁ B hml hout hv
  obtain ⟨rfl, hk, ho, hw⟩ := hv
  have hts := atoms_spec (ws := ws_ y cc nL ret) B.pre
  have hts : ∀ w ∈ lw_all, w.before _ s = true := fun w h => hts w (List.mem_cons_of_mem _ h)
  have hl := lv_entry av (n := nL) hle
  rw [lg_entry_eq]
  exact body p e s m below meth c ⟨B.exec, B.bytes, hml, findClass_of_methodNamed B.named, hts, B.returns, B.notSynchronized, hk, ho⟩ hout s.heap [] _ hw va_S.rf hl
section RX3
variable {p : Program} {l : Launch} {e : Env} {R : Room} {s : State} {m : MethodId} {args : Array Value} {below : List Frame} {meth : Method} {c : Code} {H : Heap} {locs : List Loc} {cells slots : Nat} {Q : State → Prop}
variable {cc : ByteArray} {pc nL : Nat} {ls : Array Slot} {rest : List Value} {own : String} {ret : Option FieldType} {G : GG} {rd : Bool} {q : Nat → Nat} {σ σ1 : SS}
theorem r_callVx (C : cx p s m args meth c cc nL own ret G) (hw : wx G rd q σ H) (hS : va_S (fa G) s.heap H locs) {i ci : Nat} {fs : List Sr} (hi : i ∈ wi rd σ.2.2) (ht : tm σ.2.2 i = .inl (ci, fs)) {qq : vw_C} (hc : clT[ci]? = some qq) {y : MethodName} {ws : List Cond} {rm : Room} {As : List Value} {x : XI} {mc ms : Nat} (hM : vx_Met l y ws rm (pcx G rd q σ (.ref (q i) :: As)) (fun _ _ _ _ => False) (qxx G rd q σ1 x) mc ms (fa G)) {index n maxL : Nat} {bytes : ByteArray} {ret' : Option FieldType} (cw : CallW R s args own qq.1 index y bytes maxL ret' ws rm mc ms n) (hn : As.length = n) (hsz : ls.size = nL) {st : List Value} (hst : st = As.reverse ++ .ref (q i) :: rest) (hrm : (rest.map fun v => v.category).sum ≤ 8) (hcs : cells + mc ≤ R.cells ∧ slots + ms ≤ R.slots) (hdg : decode cc pc = .ok (.invokevirtual index, 3))
    (kk : ∀ (H1 : Heap) (locs1 : List Loc) (q9 : Addr) (ce : Cell), wx G rd q σ1 H1 → va_S (fa G) s.heap H1 locs1 → H1[q9]? = some ce → ce.vm = .none → s.vm.findClass (exN x.1) = some ce.cls → ftx G rd q σ1 x q9 H1 → vx_W p l e R s m args below meth c H1 locs1 (cells + mc) (slots + ms) Q (F0 m pc ls rest) q9) : W p l e R s m args below meth c H locs cells slots Q (F0 m pc ls st) := by
  obtain ⟨hx, hb, hml, hown, hts, -, -, hk0, hox⟩ := C
  obtain ⟨kp, -, h1⟩ := wc_at (dA := G.2.1) (q := q) hi
  rw [ht] at h1
  have hr := vx_runV (meth := meth) (below := below) (e := e) (cells := cells) (slots := slots) (locs := locs) (As := As) (rest := rest) (g := F0 m pc ls st) ⟨hx, hb, hml, hown, hts⟩ hM cw ⟨pcx.blind, va_recv hk0.1 hw.1 hc h1, pre_of hk0 hox hw hS _⟩ rfl hn hsz hst (lv_room hrm) hdg hcs
  intro T hT X
  rcases hr T hT X with ⟨v, st₀, t, T', L, h0, X', hL, e1, e2, hf, -⟩ | ⟨q9, st₀, t, T', L, E, ce, h0, X', hL, e1, e2, hXC, hce, hv, hcl, stt⟩
  · exact hf.elim
  · obtain ⟨-, -, ⟨rfl, hw1, hft⟩, hz, hk⟩ := hXC
    rw [h0] at hz hk
    rw [← e1] at hz hk hce hw1 hft
    have hS1 : va_S (fa G) s.heap T'.heap (locs ++ L) := ⟨Nat.le_trans hS.1 hz, fun a h1 h2 => by rw [hk a (Nat.lt_of_lt_of_le h1 hS.1) h2]; exact hS.2.1 a h1 h2, fun z hz => by
      rcases List.mem_append.mp hz with h | h
      · exact hS.2.2 z h
      · exact hL z h⟩
    obtain ⟨t2, a1, b1⟩ := kk T'.heap (locs ++ L) q9 ce hw1 hS1 hce hv hcl hft T' rfl X'
    exact ⟨t2, stt.trans a1, b1⟩
end RX3
