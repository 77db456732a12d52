/-! EXCEPTIONS of the machine in the one world; the sheets' cells -/
set_option maxRecDepth 100000
theorem kx.zU {G : GG} {s : State} (h : kx G s) (ho : ox G s.heap) : vx_Zq Bundle.tN "UNASSIGNED_STACK" Bundle.steD (fa G) s s.heap := by
  obtain ⟨-, -, -, s0, b, g1, g2, -, g4, g5, g6⟩ := h
  have h1 := flat_of_before _ g2
  have hz : vx_Zq Bundle.tN "UNASSIGNED_STACK" Bundle.steD (fa G) s0 s0.heap := vx_Zqof (g1 _ q351) (g1 _ (lw_all_tbl q67)) (h1 _ (by decide +kernel)) (fun a ha => by unfold fa; omega)
  exact (hz.kept (fun a ha hn => by rw [ho.2 a (by omega), g4])).moved g6.alike
theorem kx.zN {G : GG} {s : State} (h : kx G s) (ho : ox G s.heap) : vx_Zq Bundle.tN "SUPPRESSED_SENTINEL" Bundle.listD (fa G) s s.heap := by
  obtain ⟨-, -, -, s0, b, g1, g2, -, g4, g5, g6⟩ := h
  have h1 := flat_of_before _ g2
  have hz : vx_Zq Bundle.tN "SUPPRESSED_SENTINEL" Bundle.listD (fa G) s0 s0.heap := vx_Zqof (g1 _ q353) (g1 _ (lw_all_tbl q67)) (h1 _ (by decide +kernel)) (fun a ha => by unfold fa; omega)
  exact (hz.kept (fun a ha hn => by rw [ho.2 a (by omega), g4])).moved g6.alike
theorem kx.nc {G : GG} {s : State} (h : kx G s) {C T : String} (hw : Cond.not (.castable C T) ∈ flatC (Jvm.Cond.and given_1 narrow_1)) : va_Nc C T s := by
  obtain ⟨-, -, -, s0, b, g1, g2, -, -, -, g6⟩ := h
  exact va_Nc.moved g6.alike (va_Nc.of (flat_of_before _ g2 _ hw))
theorem kx.decl {G : GG} {s : State} (h : kx G s) {y : MethodName} (hw : Cond.declares y ∈ lw_tbl) (args : Array Value) : (Cond.declares y).before args s = true := by
  obtain ⟨-, -, -, s0, b, g1, -, -, -, -, g6⟩ := h
  exact va_Nw.use rfl (va_Nw.warmD g6 (va_Nw.of rfl (g1 _ hw)))
theorem kx.castw {G : GG} {s : State} (h : kx G s) {C T : String} (hw : Cond.castable C T ∈ lw_tbl) (args : Array Value) : (Cond.castable C T).before args s = true := va_Nw.use rfl (h.cast hw)
/-- a table's words, out of those that ride in the lists and the few that do not -/
theorem hat_of {args : Array Value} {s : State} {G : GG} (hk : kx G s) (hts : ∀ w ∈ lw_all, w.before args s = true) {L : List Cond} (h : ∀ w ∈ L, (w ∈ lw_tbl) ∧ (goodWord w = true ∨ (∃ y, w = .declares y) ∨ ∃ C T, w = .castable C T)) : ∀ w ∈ L, w.before args s = true := by
  intro w hw
  obtain ⟨h1, h2 | ⟨y, rfl⟩ | ⟨C, T, rfl⟩⟩ := h w hw
  · exact hts w (lw_g h1 h2)
  · exact hk.decl h1 args
  · exact hk.castw h1 args
def okw (w : Cond) : Bool := decide (w ∈ lw_tbl) && (goodWord w || (match w with | .declares _ => true | .castable _ _ => true | _ => false))
theorem okw_e {w : Cond} (h : okw w = true) : (w ∈ lw_tbl) ∧ (goodWord w = true ∨ (∃ y, w = .declares y) ∨ ∃ C T, w = .castable C T) := by
  unfold okw at h
  rw [Bool.and_eq_true, Bool.or_eq_true] at h
  refine ⟨of_decide_eq_true h.1, ?_⟩
  rcases h.2 with h2 | h2
  · exact Or.inl h2
  · right
    split at h2
    · exact Or.inl ⟨_, rfl⟩
    · exact Or.inr ⟨_, _, rfl⟩
    · cases h2
abbrev nmX : List String := ["java/lang/IndexOutOfBoundsException", "java/lang/RuntimeException", "java/lang/Exception"]
abbrev nmR : List String := ["java/lang/RuntimeException", "java/lang/Exception"]
theorem okw_X : ∀ w ∈ vx_atM "java/lang/ArrayIndexOutOfBoundsException" nmX, okw w = true := by decide +kernel
theorem okw_S : ∀ w ∈ vx_atM "java/lang/NegativeArraySizeException" nmR, okw w = true := by decide +kernel
theorem okw_C : ∀ w ∈ vx_atM "java/lang/ClassCastException" nmR, okw w = true := by decide +kernel
theorem okw_N : ∀ w ∈ vx_atN 8, okw w = true := by decide +kernel
