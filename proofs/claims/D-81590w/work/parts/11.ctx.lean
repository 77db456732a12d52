/-! THE CONTEXT of a run, a contract's start and end -/
set_option maxRecDepth 100000
def T_0 : u_T := fun _ => ("", "", "", false)
abbrev clT : List vw_C := [(RX0, TX0, 23), (RX1, T_0, 0), (RX2, T_0, 0), (RX3, T_0, 0), (RX4, T_0, 0), (RX5, TX5, 11), (RX6, TX6, 4), (RX7, TX7, 1), (RX8, TX8, 26), (RX9, TX9, 8), (RX10, TX10, 8)]
abbrev tysA (dA : Nat → ClassId) : List (ClassId × FieldType) := [(dA 0, .int), (dA 1, .byte), (dA 2, .short), (dA 3, .boolean), (dA 4, .object RX1), (dA 5, .object RX6), (dA 6, .object RX5), (dA 7, .object RX7)]
abbrev NF : Type := String × Nat × String × String × String × String
abbrev NM : Type := String × Nat × MethodName × String
def wNF (t : NF) : Cond := .fieldLinkNest t.1 t.2.1 t.2.2.1 t.2.2.2.1 t.2.2.2.2.1 t.2.2.2.2.2
def wNM (t : NM) : Cond := .methodLinkNest t.1 t.2.1 t.2.2.1 t.2.2.2
def nestF : List NF := [("FlyWheels$Shaft", 60, "FlyWheels$Wheel", "kind", "I", "FlyWheels"), ("FlyWheels", 26, "FlyWheels$Wheel", "kind", "I", "FlyWheels"), ("FlyWheels$Shaft", 63, "FlyWheels$Wheel", "mass", "I", "FlyWheels"), ("FlyWheels", 216, "FlyWheels$Wheel", "mass", "I", "FlyWheels"), ("FlyWheels$Shaft", 64, "FlyWheels$Wheel", "loss", "I", "FlyWheels"), ("FlyWheels", 77, "FlyWheels$Wheel", "loss", "I", "FlyWheels"), ("FlyWheels$Shaft", 67, "FlyWheels$Wheel", "swings", "I", "FlyWheels"), ("FlyWheels", 31, "FlyWheels$Wheel", "swings", "I", "FlyWheels"), ("FlyWheels$Reader", 96, "FlyWheels$Shaft", "mass", "I", "FlyWheels"), ("FlyWheels", 209, "FlyWheels$Shaft", "mass", "I", "FlyWheels"), ("FlyWheels", 50, "FlyWheels$Shaft", "swings", "I", "FlyWheels"), ("FlyWheels", 44, "FlyWheels$Shaft", "wheels", "I", "FlyWheels"), ("FlyWheels$Reader", 114, "FlyWheels$Shaft", "wheels", "I", "FlyWheels"), ("FlyWheels", 20, "FlyWheels$Shaft", "wheel", "[LFlyWheels$Wheel;", "FlyWheels"), ("FlyWheels$Reader", 107, "FlyWheels$Shaft", "acts", "I", "FlyWheels"), ("FlyWheels", 203, "FlyWheels$Shaft", "acts", "I", "FlyWheels"), ("FlyWheels$Reader", 103, "FlyWheels$Shaft", "act", "[S", "FlyWheels"), ("FlyWheels", 96, "FlyWheels$Shaft", "act", "[S", "FlyWheels"), ("FlyWheels", 80, "FlyWheels$Shaft", "tick", "I", "FlyWheels"), ("FlyWheels", 60, "FlyWheels$Shaft", "done", "I", "FlyWheels"), ("FlyWheels", 63, "FlyWheels$Shaft", "lack", "I", "FlyWheels"), ("FlyWheels", 93, "FlyWheels$Shaft", "omitted", "I", "FlyWheels"), ("FlyWheels", 47, "FlyWheels$Shaft", "off", "I", "FlyWheels"), ("FlyWheels", 330, "FlyWheels$Sheet", "cells", "Ljava/lang/Object;", "FlyWheels"), ("FlyWheels$Reader", 32, "FlyWheels", "tape", "[B", "FlyWheels"), ("FlyWheels", 197, "FlyWheels$Fault", "code", "I", "FlyWheels"), ("FlyWheels", 200, "FlyWheels$Fault", "place", "I", "FlyWheels"), ("FlyWheels", 182, "FlyWheels$Reader", "made", "LFlyWheels$Shaft;", "FlyWheels")]
def nestM : List NM := [("FlyWheels", 123, ⟨"FlyWheels$Plain", "<init>", "()V"⟩, "FlyWheels"), ("FlyWheels", 126, ⟨"FlyWheels$Slip", "<init>", "()V"⟩, "FlyWheels"), ("FlyWheels$Slip", 1, ⟨"FlyWheels$Plain", "<init>", "()V"⟩, "FlyWheels"), ("FlyWheels", 129, ⟨"FlyWheels$Take", "<init>", "()V"⟩, "FlyWheels"), ("FlyWheels$Take", 1, ⟨"FlyWheels$Plain", "<init>", "()V"⟩, "FlyWheels"), ("FlyWheels", 132, ⟨"FlyWheels$Soft", "<init>", "()V"⟩, "FlyWheels"), ("FlyWheels$Soft", 3, ⟨"FlyWheels$Take", "<init>", "()V"⟩, "FlyWheels"), ("FlyWheels", 133, ⟨"FlyWheels$Shaft", "<init>", "()V"⟩, "FlyWheels"), ("FlyWheels$Shaft", 17, ⟨"FlyWheels$Wheel", "<init>", "()V"⟩, "FlyWheels"), ("FlyWheels", 161, ⟨"FlyWheels$Sheet", "<init>", "()V"⟩, "FlyWheels"), ("FlyWheels$Reader", 17, ⟨"FlyWheels$Shaft", "<init>", "()V"⟩, "FlyWheels"), ("FlyWheels$Reader", 88, ⟨"FlyWheels", "in", "(JJJ)Z"⟩, "FlyWheels")]
theorem nestF_ok : ∀ t ∈ nestF, wNF t ∈ lw_tbl := List.forall_mem_cons.mpr ⟨q134, List.forall_mem_cons.mpr ⟨q135, List.forall_mem_cons.mpr ⟨q137, List.forall_mem_cons.mpr ⟨q138, List.forall_mem_cons.mpr ⟨q140, List.forall_mem_cons.mpr ⟨q141, List.forall_mem_cons.mpr ⟨q143, List.forall_mem_cons.mpr ⟨q144, List.forall_mem_cons.mpr ⟨q155, List.forall_mem_cons.mpr ⟨q156, List.forall_mem_cons.mpr ⟨q158, List.forall_mem_cons.mpr ⟨q160, List.forall_mem_cons.mpr ⟨q161, List.forall_mem_cons.mpr ⟨q163, List.forall_mem_cons.mpr ⟨q165, List.forall_mem_cons.mpr ⟨q166, List.forall_mem_cons.mpr ⟨q168, List.forall_mem_cons.mpr ⟨q169, List.forall_mem_cons.mpr ⟨q171, List.forall_mem_cons.mpr ⟨q173, List.forall_mem_cons.mpr ⟨q175, List.forall_mem_cons.mpr ⟨q177, List.forall_mem_cons.mpr ⟨q179, List.forall_mem_cons.mpr ⟨q212, List.forall_mem_cons.mpr ⟨q229, List.forall_mem_cons.mpr ⟨q390, List.forall_mem_cons.mpr ⟨q392, List.forall_mem_cons.mpr ⟨q412, fun _ h => absurd h List.not_mem_nil⟩⟩⟩⟩⟩⟩⟩⟩⟩⟩⟩⟩⟩⟩⟩⟩⟩⟩⟩⟩⟩⟩⟩⟩⟩⟩⟩⟩
theorem nestM_ok : ∀ t ∈ nestM, wNM t ∈ lw_tbl := List.forall_mem_cons.mpr ⟨q94, List.forall_mem_cons.mpr ⟨q101, List.forall_mem_cons.mpr ⟨q104, List.forall_mem_cons.mpr ⟨q108, List.forall_mem_cons.mpr ⟨q111, List.forall_mem_cons.mpr ⟨q115, List.forall_mem_cons.mpr ⟨q118, List.forall_mem_cons.mpr ⟨q122, List.forall_mem_cons.mpr ⟨q129, List.forall_mem_cons.mpr ⟨q208, List.forall_mem_cons.mpr ⟨q313, List.forall_mem_cons.mpr ⟨q516, fun _ h => absurd h List.not_mem_nil⟩⟩⟩⟩⟩⟩⟩⟩⟩⟩⟩⟩
/-- the run's fixed things: classes and slots, array classes, the first cell of the run, the heap below it -/
abbrev GG : Type := va_G × (Nat → ClassId) × Nat × Heap
/-- the law's start, from which all is known that never changes -/
def st0 (G : GG) (U : State) : Prop := ∃ (s0 : State) (b : Addr), (∀ w ∈ lw_tbl, w.before #[Value.ref b] s0 = true) ∧ (Jvm.Cond.and given_1 narrow_1).before #[Value.ref b] s0 = true ∧ modulesRight_1 s0 = true ∧ s0.heap = G.2.2.2 ∧ s0.heap.size = G.2.2.1 ∧ s0.WarmedH U.vm
def kx (G : GG) (U : State) : Prop := va_K G.1 clT (tysA G.2.1) U ∧ (∀ t ∈ nestF, va_Nw (wNF t) U) ∧ (∀ t ∈ nestM, va_Nw (wNM t) U) ∧ st0 G U
theorem kx.warm {G : GG} {s U : State} (h : kx G s) (hW : s.WarmedH U.vm) : kx G U := by
  obtain ⟨h1, h2, h3, s0, b, g1, g2, g3, g4, g5, g6⟩ := h
  exact ⟨va_K.moved hW.alike h1, fun t ht => va_Nw.warmF hW (h2 t ht), fun t ht => va_Nw.warmM hW (h3 t ht), s0, b, g1, g2, g3, g4, g5, State.WarmedH.trans g6 hW⟩
theorem kx.blind {G : GG} {U : State} (h : kx G U) (g : JFrame) (mk : MethodId) (a : Array Value) : kx G (U.calling g mk a) := by
  obtain ⟨h1, h2, h3, s0, b, g1, g2, g3, g4, g5, g6⟩ := h
  exact ⟨va_K.moved (u := U) (U := U.calling g mk a) (Vm.Alike.refl U.vm) h1, fun t ht => va_Nw.same (u := U) (U := U.calling g mk a) rfl rfl (h2 t ht), fun t ht => va_Nw.same (u := U) (U := U.calling g mk a) rfl rfl (h3 t ht), s0, b, g1, g2, g3, g4, g5, g6⟩
/-- what a method may change: the run's own cells -/
def fa (G : GG) : Nat → Prop := fun a => G.2.2.1 ≤ a
/-- the world at a heap -/
def wx (G : GG) (rd : Bool) (q : Nat → Nat) (σ : SS) (H : Heap) : Prop := va_P G.1 clT (wc G.2.1 rd q σ) H ∧ va_D (fa G) (wc G.2.1 rd q σ)
/-- the cells below the run's own are as they were at the law's start -/
def ox (G : GG) (H : Heap) : Prop := G.2.2.1 ≤ H.size ∧ ∀ a, a < G.2.2.1 → H[a]? = G.2.2.2[a]?
theorem ox.on {G : GG} {H0 H : Heap} {locs : List Loc} (h : ox G H0) (hS : va_S (fa G) H0 H locs) : ox G H := ⟨Nat.le_trans h.1 hS.1, fun a ha => (hS.2.1 a (Nat.lt_of_lt_of_le ha h.1) (Nat.not_le.mpr ha)).trans (h.2 a ha)⟩
def pcx (G : GG) (rd : Bool) (q : Nat → Nat) (σ : SS) (av : List Value) : Array Value → State → Prop := va_Pc av (fun U => kx G U ∧ ox G U.heap ∧ wx G rd q σ U.heap)
theorem pcx.blind {G : GG} {rd : Bool} {q : Nat → Nat} {σ : SS} {av : List Value} : FrameBlind (pcx G rd q σ av) := fun a _ g mk h => ⟨h.1, h.2.1.blind g mk a, h.2.2⟩
abbrev qxi (G : GG) (rd : Bool) (q : Nat → Nat) (σ : SS) (r : Int32) : Array Value → State → Outcome → State → Prop := va_Qi (fun (r' : Int32) (_ : Unit) => r' = r) (fun _ t => wx G rd q σ t.heap) (fa G)
abbrev qxl (G : GG) (rd : Bool) (q : Nat → Nat) (σ : SS) (r : Int64) : Array Value → State → Outcome → State → Prop := va_Ql (fun (r' : Int64) (_ : Unit) => r' = r) (fun _ t => wx G rd q σ t.heap) (fa G)
abbrev qxv (G : GG) (rd : Bool) (q : Nat → Nat) (σ : SS) (_ : Unit) : Array Value → State → Outcome → State → Prop := va_Qv (fun (_ : Unit) => True) (fun _ t => wx G rd q σ t.heap) (fa G)
/-- what holds all through a method's body -/
def cx (p : Program) (s : State) (m : MethodId) (args : Array Value) (meth : Method) (c : Code) (cc : ByteArray) (nL : Nat) (own : String) (ret : Option FieldType) (G : GG) : Prop :=
  p.tables.exec = Jvm.exec ∧ c.code = cc ∧ c.maxLocals = nL ∧ s.vm.findClass own = some m.cls ∧ (∀ w ∈ lw_all, w.before args s = true) ∧ meth.sig.returnType = ret ∧ meth.locks = false ∧ kx G s ∧ ox G s.heap
/-- a contract out of a walk of the body -/
theorem met_of {l : Launch} {y : MethodName} {cc : ByteArray} {nL : Nat} {ret : Option FieldType} {rm : Room} {G : GG} {rd : Bool} {q : Nat → Nat} {σ : SS} {av : List Value} {Qc : Array Value → State → Outcome → State → Prop} {mc ms : Nat} (hy : plainName y.cls = true)
    (hle : (lg_sl av).length ≤ nL)
    (body : ∀ p e s m below meth c, cx p s m av.toArray meth c cc nL y.cls ret G → ∀ (H : Heap) (locs : List Loc) (ls : Array Slot), wx G rd q σ H → va_S (fa G) s.heap H locs → lv_has ls nL (lv_args 0 av) → W p l e rm s m av.toArray below meth c H locs 0 0 (MQ below Qc av.toArray s mc ms (fa G)) (F0 m 0 ls [])) :
    Met l y (ws_ y cc nL ret) rm (pcx G rd q σ av) Qc mc ms (fa G) := by
  refine Met.ofW (cc := cc) (maxL := nL) (ret := ret) hy rfl ?_
  intro p e s m args below meth c s₁ B hml hv
  obtain ⟨rfl, hk, ho, hw⟩ := hv
  have hts := atoms_spec (ws := ws_ y cc nL ret) B.pre
  have hts : ∀ w ∈ lw_all, w.before _ s = true := fun w h => hts w (List.mem_cons_of_mem _ h)
  have hl := lv_entry av (n := nL) hle
  rw [lg_entry_eq]
  exact body p e s m below meth c ⟨B.exec, B.bytes, hml, findClass_of_methodNamed B.named, hts, B.returns, B.notSynchronized, hk, ho⟩ s.heap [] _ hw va_S.rf hl
