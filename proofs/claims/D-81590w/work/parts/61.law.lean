/-! THE LAW: its loop, over steps that keep an invariant -/
set_option maxRecDepth 100000
def Sp0 (Inv : Nat → SS → Prop) (N : Nat) : Prop := ∀ (t : Nat) (σ : SS) (x1 : Int32) , t < 64 → Inv t σ → ∃ r σ1 σ2, F_X0_feed N x1 σ = some (r, σ1) ∧ F_X8_feed N x1 σ1 = some (r, σ2) ∧ Inv (t + 1) σ2
def Sp1 (Inv : Nat → SS → Prop) (N : Nat) : Prop := ∀ (t : Nat) (σ : SS) (x1 : Int32) , t < 64 → Inv t σ → ∃ r σ1 σ2, F_X0_end N x1 σ = some (r, σ1) ∧ F_X8_end N x1 σ1 = some (r, σ2) ∧ Inv (t + 1) σ2
def Sp2 (Inv : Nat → SS → Prop) (N : Nat) : Prop := ∀ (t : Nat) (σ : SS) , t < 64 → Inv t σ → ∃ r σ1 σ2, F_X0_text N  σ = some (r, σ1) ∧ F_X8_text N  σ1 = some (r, σ2) ∧ Inv (t + 1) σ2
def Sp3 (Inv : Nat → SS → Prop) (N : Nat) : Prop := ∀ (t : Nat) (σ : SS) , t < 64 → Inv t σ → ∃ r σ1 σ2, F_X0_fault N  σ = some (r, σ1) ∧ F_X8_fault N  σ1 = some (r, σ2) ∧ Inv (t + 1) σ2
def Sp4 (Inv : Nat → SS → Prop) (N : Nat) : Prop := ∀ (t : Nat) (σ : SS) (x1 : Int32) , t < 64 → Inv t σ → ∃ r σ1 σ2, F_X0_rule N x1 σ = some (r, σ1) ∧ F_X8_rule N x1 σ1 = some (r, σ2) ∧ Inv (t + 1) σ2
def Sp5 (Inv : Nat → SS → Prop) (N : Nat) : Prop := ∀ (t : Nat) (σ : SS) (x1 x2 : Int32) , t < 64 → Inv t σ → ∃ r σ1 σ2, F_X0_wheel N x1 x2 σ = some (r, σ1) ∧ F_X8_wheel N x1 x2 σ1 = some (r, σ2) ∧ Inv (t + 1) σ2
def Sp6 (Inv : Nat → SS → Prop) (N : Nat) : Prop := ∀ (t : Nat) (σ : SS) (x1 : Int32) , t < 64 → Inv t σ → ∃ r σ1 σ2, F_X0_act N x1 σ = some (r, σ1) ∧ F_X8_act N x1 σ1 = some (r, σ2) ∧ Inv (t + 1) σ2
def Sp7 (Inv : Nat → SS → Prop) (N : Nat) : Prop := ∀ (t : Nat) (σ : SS) (x1 x2 x3 : Int32) , t < 64 → Inv t σ → ∃ r σ1 σ2, F_X0_alter N x1 x2 x3 σ = some (r, σ1) ∧ F_X8_alter N x1 x2 x3 σ1 = some (r, σ2) ∧ Inv (t + 1) σ2
def Sp8 (Inv : Nat → SS → Prop) (N : Nat) : Prop := ∀ (t : Nat) (σ : SS) (x1 : Int32) , t < 64 → Inv t σ → ∃ r σ1 σ2, F_X0_shaft N x1 σ = some (r, σ1) ∧ F_X8_shaft N x1 σ1 = some (r, σ2) ∧ Inv (t + 1) σ2
def Sp9 (Inv : Nat → SS → Prop) (N : Nat) : Prop := ∀ (t : Nat) (σ : SS) (x1 x2 x3 : Int32) , t < 64 → Inv t σ → ∃ r σ1 σ2, F_X0_put N x1 x2 x3 σ = some (r, σ1) ∧ F_X8_put N x1 x2 x3 σ1 = some (r, σ2) ∧ Inv (t + 1) σ2
def Sp10 (Inv : Nat → SS → Prop) (N : Nat) : Prop := ∀ (t : Nat) (σ : SS) (x1 : Int32) , t < 64 → Inv t σ → ∃ r σ1 σ2, F_X0_cut N x1 σ = some (r, σ1) ∧ F_X8_cut N x1 σ1 = some (r, σ2) ∧ Inv (t + 1) σ2
def Sp11 (Inv : Nat → SS → Prop) (N : Nat) : Prop := ∀ (t : Nat) (σ : SS) (x1 x2 : Int32) , t < 64 → Inv t σ → ∃ r σ1 σ2, F_X0_set N x1 x2 σ = some (r, σ1) ∧ F_X8_set N x1 x2 σ1 = some (r, σ2) ∧ Inv (t + 1) σ2
def Sp12 (Inv : Nat → SS → Prop) (N : Nat) : Prop := ∀ (t : Nat) (σ : SS) (x1 : Int32) , t < 64 → Inv t σ → ∃ r σ1 σ2, F_X0_add N x1 σ = some (r, σ1) ∧ F_X8_add N x1 σ1 = some (r, σ2) ∧ Inv (t + 1) σ2
def Sp13 (Inv : Nat → SS → Prop) (N : Nat) : Prop := ∀ (t : Nat) (σ : SS) (x1 : Int32) , t < 64 → Inv t σ → ∃ r σ1 σ2, F_X0_drop N x1 σ = some (r, σ1) ∧ F_X8_drop N x1 σ1 = some (r, σ2) ∧ Inv (t + 1) σ2
def Sp14 (Inv : Nat → SS → Prop) (N : Nat) : Prop := ∀ (t : Nat) (σ : SS) (x1 : Int32) , t < 64 → Inv t σ → ∃ r σ1 σ2, F_X0_turn N x1 σ = some (r, σ1) ∧ F_X8_turn N x1 σ1 = some (r, σ2) ∧ Inv (t + 1) σ2
def Sp15 (Inv : Nat → SS → Prop) (N : Nat) : Prop := ∀ (t : Nat) (σ : SS) (x1 : Int32) , t < 64 → Inv t σ → ∃ r σ1 σ2, F_X0_ticks N x1 σ = some (r, σ1) ∧ F_X8_ticks N x1 σ1 = some (r, σ2) ∧ Inv (t + 1) σ2
def Sp16 (Inv : Nat → SS → Prop) (N : Nat) : Prop := ∀ (t : Nat) (σ : SS) (x1 x2 : Int32) , t < 64 → Inv t σ → ∃ r σ1 σ2, F_X0_runs N x1 x2 σ = some (r, σ1) ∧ F_X8_runs N x1 x2 σ1 = some (r, σ2) ∧ Inv (t + 1) σ2
def Sp17 (Inv : Nat → SS → Prop) (N : Nat) : Prop := ∀ (t : Nat) (σ : SS) (x1 x2 : Int32) , t < 64 → Inv t σ → ∃ r σ1 σ2, F_X0_ahead N x1 x2 σ = some (r, σ1) ∧ F_X8_ahead N x1 x2 σ1 = some (r, σ2) ∧ Inv (t + 1) σ2
def Sp18 (Inv : Nat → SS → Prop) (N : Nat) : Prop := ∀ (t : Nat) (σ : SS) (x1 : Int32) , t < 64 → Inv t σ → ∃ r σ1 σ2, F_X0_when N x1 σ = some (r, σ1) ∧ F_X8_when N x1 σ1 = some (r, σ2) ∧ Inv (t + 1) σ2
def Sp19 (Inv : Nat → SS → Prop) (N : Nat) : Prop := ∀ (t : Nat) (σ : SS) , t < 64 → Inv t σ → ∃ r σ1 σ2, F_X0_again N  σ = some (r, σ1) ∧ F_X8_again N  σ1 = some (r, σ2) ∧ Inv (t + 1) σ2
def Sp20 (Inv : Nat → SS → Prop) (N : Nat) : Prop := ∀ (t : Nat) (σ : SS) (x1 x2 x3 : Int32) , t < 64 → Inv t σ → ∃ r σ1 σ2, F_X0_mass N x1 x2 x3 σ = some (r, σ1) ∧ F_X8_mass N x1 x2 x3 σ1 = some (r, σ2) ∧ Inv (t + 1) σ2
def Sp21 (Inv : Nat → SS → Prop) (N : Nat) : Prop := ∀ (t : Nat) (σ : SS) (x1 x2 x3 : Int32) , t < 64 → Inv t σ → ∃ r σ1 σ2, F_X0_kind N x1 x2 x3 σ = some (r, σ1) ∧ F_X8_kind N x1 x2 x3 σ1 = some (r, σ2) ∧ Inv (t + 1) σ2
def Sp22 (Inv : Nat → SS → Prop) (N : Nat) : Prop := ∀ (t : Nat) (σ : SS) (x1 x2 : Int32) , t < 64 → Inv t σ → ∃ r σ1 σ2, F_X0_bears N x1 x2 σ = some (r, σ1) ∧ F_X8_bears N x1 x2 σ1 = some (r, σ2) ∧ Inv (t + 1) σ2
def Sp23 (Inv : Nat → SS → Prop) (N : Nat) : Prop := ∀ (t : Nat) (σ : SS) (x1 x2 : Int32) , t < 64 → Inv t σ → ∃ r σ1 σ2, F_X0_swap N x1 x2 σ = some (r, σ1) ∧ F_X8_swap N x1 x2 σ1 = some (r, σ2) ∧ Inv (t + 1) σ2
def Sp24 (Inv : Nat → SS → Prop) (N : Nat) : Prop := ∀ (t : Nat) (σ : SS) (x1 x2 : Int32) , t < 64 → Inv t σ → ∃ r σ1 σ2, F_X0_omit N x1 x2 σ = some (r, σ1) ∧ F_X8_omit N x1 x2 σ1 = some (r, σ2) ∧ Inv (t + 1) σ2
def Sp25 (Inv : Nat → SS → Prop) (N : Nat) : Prop := ∀ (t : Nat) (σ : SS) (x1 x2 : Int32) , t < 64 → Inv t σ → ∃ r σ1 σ2, F_X0_off N x1 x2 σ = some (r, σ1) ∧ F_X8_off N x1 x2 σ1 = some (r, σ2) ∧ Inv (t + 1) σ2
def Sp26 (Inv : Nat → SS → Prop) (N : Nat) : Prop := ∀ (t : Nat) (σ : SS) (x1 x2 x3 : Int32) , t < 64 → Inv t σ → ∃ r σ1 σ2, F_X0_luck N x1 x2 x3 σ = some (r, σ1) ∧ F_X8_luck N x1 x2 x3 σ1 = some (r, σ2) ∧ Inv (t + 1) σ2
def Sp27 (Inv : Nat → SS → Prop) (N : Nat) : Prop := ∀ (t : Nat) (σ : SS) (x1 x2 x3 : Int32) , t < 64 → Inv t σ → ∃ r σ1 σ2, F_X0_mean N x1 x2 x3 σ = some (r, σ1) ∧ F_X8_mean N x1 x2 x3 σ1 = some (r, σ2) ∧ Inv (t + 1) σ2
def Sp28 (Inv : Nat → SS → Prop) (N : Nat) : Prop := ∀ (t : Nat) (σ : SS) (x1 x2 x3 : Int32) , t < 64 → Inv t σ → ∃ r σ1 σ2, F_X0_see N x1 x2 x3 σ = some (r, σ1) ∧ F_X8_see N x1 x2 x3 σ1 = some (r, σ2) ∧ Inv (t + 1) σ2
def Sp29 (Inv : Nat → SS → Prop) (N : Nat) : Prop := ∀ (t : Nat) (σ : SS) (x1 : Int32) , t < 64 → Inv t σ → ∃ r σ1 σ2, F_X0_forget N x1 σ = some (r, σ1) ∧ F_X8_forget N x1 σ1 = some (r, σ2) ∧ Inv (t + 1) σ2
def Sp30 (Inv : Nat → SS → Prop) (N : Nat) : Prop := ∀ (t : Nat) (σ : SS) (x1 : Int32) , t < 64 → Inv t σ → ∃ r σ1 σ2, F_X0_kinds N x1 σ = some (r, σ1) ∧ F_X8_kinds N x1 σ1 = some (r, σ2) ∧ Inv (t + 1) σ2
def Sp31 (Inv : Nat → SS → Prop) (N : Nat) : Prop := ∀ (t : Nat) (σ : SS) (x1 : Int32) , t < 64 → Inv t σ → ∃ r σ1 σ2, F_X0_losses N x1 σ = some (r, σ1) ∧ F_X8_losses N x1 σ1 = some (r, σ2) ∧ Inv (t + 1) σ2
def Sp32 (Inv : Nat → SS → Prop) (N : Nat) : Prop := ∀ (t : Nat) (σ : SS) (x1 x2 : Int32) , t < 64 → Inv t σ → ∃ r σ1 σ2, F_X0_ask N x1 x2 σ = some (r, σ1) ∧ F_X8_ask N x1 x2 σ1 = some (r, σ2) ∧ Inv (t + 1) σ2
def Sp33 (Inv : Nat → SS → Prop) (N : Nat) : Prop := ∀ (t : Nat) (σ : SS) (x1 x2 x3 : Int32) , t < 64 → Inv t σ → ∃ r σ1 σ2, F_X0_drift N x1 x2 x3 σ = some (r, σ1) ∧ F_X8_drift N x1 x2 x3 σ1 = some (r, σ2) ∧ Inv (t + 1) σ2
def Sp34 (Inv : Nat → SS → Prop) (N : Nat) : Prop := ∀ (t : Nat) (σ : SS) (x1 : Int32) , t < 64 → Inv t σ → ∃ r σ1 σ2, F_X0_keep N x1 σ = some (r, σ1) ∧ F_X8_keep N x1 σ1 = some (r, σ2) ∧ Inv (t + 1) σ2
def Sp35 (Inv : Nat → SS → Prop) (N : Nat) : Prop := ∀ (t : Nat) (σ : SS) (x1 : Int32) , t < 64 → Inv t σ → ∃ r σ1 σ2, F_X0_back N x1 σ = some (r, σ1) ∧ F_X8_back N x1 σ1 = some (r, σ2) ∧ Inv (t + 1) σ2
def Sp36 (Inv : Nat → SS → Prop) (N : Nat) : Prop := ∀ (t : Nat) (σ : SS) (x1 x2 x3 : Int32) , t < 64 → Inv t σ → ∃ r σ1 σ2, F_X0_sheet N x1 x2 x3 σ = some (r, σ1) ∧ F_X8_sheet N x1 x2 x3 σ1 = some (r, σ2) ∧ Inv (t + 1) σ2
def Sp37 (Inv : Nat → SS → Prop) (N : Nat) : Prop := ∀ (t : Nat) (σ : SS) (x1 x2 x3 : Int32) , t < 64 → Inv t σ → ∃ r σ1 σ2, F_X0_lay N x1 x2 x3 σ = some (r, σ1) ∧ F_X8_lay N x1 x2 x3 σ1 = some (r, σ2) ∧ Inv (t + 1) σ2
def Sp38 (Inv : Nat → SS → Prop) (N : Nat) : Prop := ∀ (t : Nat) (σ : SS) (x1 x2 x3 x4 : Int32) , t < 64 → Inv t σ → ∃ r σ1 σ2, F_X0_read N x1 x2 x3 x4 σ = some (r, σ1) ∧ F_X8_read N x1 x2 x3 x4 σ1 = some (r, σ2) ∧ Inv (t + 1) σ2
def Sp39 (Inv : Nat → SS → Prop) (N : Nat) : Prop := ∀ (t : Nat) (σ : SS) , t < 64 → Inv t σ → ∃ r σ1 σ2, F_X0_torn N  σ = some (r, σ1) ∧ F_X8_torn N  σ1 = some (r, σ2) ∧ Inv (t + 1) σ2
def Sp40 (Inv : Nat → SS → Prop) (N : Nat) : Prop := ∀ (t : Nat) (σ : SS) (x1 : Int32) , t < 64 → Inv t σ → ∃ r σ1 σ2, F_X0_count N x1 σ = some (r, σ1) ∧ F_X8_count N x1 σ1 = some (r, σ2) ∧ Inv (t + 1) σ2
def StepsL (Inv : Nat → SS → Prop) (N : Nat) : Prop := (∀ t σ, Inv t σ → Inv (t + 1) σ) ∧ Sp0 Inv N ∧ Sp1 Inv N ∧ Sp2 Inv N ∧ Sp3 Inv N ∧ Sp4 Inv N ∧ Sp5 Inv N ∧ Sp6 Inv N ∧ Sp7 Inv N ∧ Sp8 Inv N ∧ Sp9 Inv N ∧ Sp10 Inv N ∧ Sp11 Inv N ∧ Sp12 Inv N ∧ Sp13 Inv N ∧ Sp14 Inv N ∧ Sp15 Inv N ∧ Sp16 Inv N ∧ Sp17 Inv N ∧ Sp18 Inv N ∧ Sp19 Inv N ∧ Sp20 Inv N ∧ Sp21 Inv N ∧ Sp22 Inv N ∧ Sp23 Inv N ∧ Sp24 Inv N ∧ Sp25 Inv N ∧ Sp26 Inv N ∧ Sp27 Inv N ∧ Sp28 Inv N ∧ Sp29 Inv N ∧ Sp30 Inv N ∧ Sp31 Inv N ∧ Sp32 Inv N ∧ Sp33 Inv N ∧ Sp34 Inv N ∧ Sp35 Inv N ∧ Sp36 Inv N ∧ Sp37 Inv N ∧ Sp38 Inv N ∧ Sp39 Inv N ∧ Sp40 Inv N
section RLW
variable {p : Program} {l : Launch} {e : Env} {R : Room} {s : State} {m : MethodId} {args : Array Value} {below : List Frame} {meth : Method} {c : Code} {H : Heap} {locs : List Loc} {cells slots : Nat} {Q : State → Prop}
variable {cc : ByteArray} {pc nL : Nat} {ls : Array Slot} {rest : List Value} {own : String} {ret : Option FieldType} {G : GG} {rd : Bool} {q : Nat → Nat} {σ σ1 : SS}
/-- a call of a method with handlers -/
theorem r_callW {S : Type} (C : cx p s m args meth c cc nL own ret G) (hw : wx G rd q σ H) (hS : va_S (fa G) s.heap H locs) {i ci : Nat} {fs : List Sr} (hi : i ∈ wi rd σ.2.2) (ht : tm σ.2.2 i = .inl (ci, fs)) {qq : vw_C} (hc : clT[ci]? = some qq) {y : MethodName} {ws : List Cond} {rm : Room} {As : List Value} {r : Int32} {B : S → State → Prop} {mc ms : Nat} (hM : Met l y ws rm (pcx G rd q σ (.ref (q i) :: As)) (va_Qi (fun (r' : Int32) (_ : S) => r' = r) B (fa G)) mc ms (fa G)) {index n maxL : Nat} {bytes : ByteArray} {ret' : Option FieldType} {hh : List (Nat × Nat × Nat × Nat)} (cw : vx_CVW R s args own qq.1 index y bytes maxL ret' hh ws rm mc ms n) (hn : As.length = n) (hsz : ls.size = nL) {st : List Value} (hst : st = As.reverse ++ .ref (q i) :: rest) (hrm : (rest.map fun v => v.category).sum ≤ 8) (hcs : cells + mc ≤ R.cells ∧ slots + ms ≤ R.slots) (hdg : decode cc pc = .ok (.invokevirtual index, 3))
    (kk : ∀ (u : S) (t : State) (locs1 : List Loc), B u t → va_S (fa G) s.heap t.heap locs1 → W p l e R s m args below meth c t.heap locs1 (cells + mc) (slots + ms) Q (F0 m (pc + 3) ls (.int r :: rest))) : W p l e R s m args below meth c H locs cells slots Q (F0 m pc ls st) := by
  obtain ⟨hx, hb, hml, hown, hts, -, -, hk0, hox⟩ := C
  obtain ⟨kp, -, h1⟩ := wc_at (dA := G.2.1) (q := q) hi
  rw [ht] at h1
  exact va_calli (vx_runVW (As := As) (rest := rest) ⟨hx, hb, hml, hown, hts⟩ hM cw ⟨pcx.blind, va_recv hk0.1 hw.1 hc h1, pre_of hk0 hox hw hS _⟩ rfl hn hsz hst (lv_room hrm) hdg hcs) hS (fun _ _ h => h) (fun _ h => h) (fun r' u t H1 locs1 e1 _ e2 hB _ _ hS1 => by
    subst e2; subst e1
    exact kk u t locs1 hB hS1)
end RLW
theorem lg_cmp_self (r : Int64) : lg_cmp r r = 0 := by
  unfold lg_cmp
  rw [if_neg (Int64.lt_irrefl), if_pos rfl]
theorem ix_in {t L k : Nat} (h : 5 * t + 5 ≤ L) (hL : L ≤ 320) (hk : k < 5) : vp_in (nI (5 * t) + nI k) L := by
  rw [nI_add]
  exact nI_in (by omega) (by omega)
theorem ix_in0 {t L : Nat} (h : 5 * t + 5 ≤ L) (hL : L ≤ 320) : vp_in (nI (5 * t)) L := nI_in (by omega) (by omega)
theorem ix_sub {L : Nat} (h5 : 5 ≤ L) : nI L - (5 : Int32) = nI (L - 5) := by
  have h1 : nI L = nI (L - 5) + nI 5 := by rw [nI_add, show L - 5 + 5 = L by omega]
  rw [h1]
  exact Int32.add_sub_cancel _ _
theorem ix_neg : ∀ L, L < 5 → ∀ t, t < 65 → ¬ (nI (5 * t) ≤ nI L - (5 : Int32)) := by decide +kernel
theorem ix_le {L t : Nat} (hL : L ≤ 320) (ht : t < 65) (h : nI (5 * t) ≤ nI L - (5 : Int32)) : 5 * t + 5 ≤ L := by
  by_cases h5 : L < 5
  · exact absurd h (ix_neg L h5 t ht)
  · rw [ix_sub (by omega)] at h
    have h2 := (nI_leI (a := 5 * t) (b := L - 5) (by omega) (by omega)).mp h
    omega
theorem ix_5 (t : Nat) : nI (5 * (t + 1)) = nI (5 * t) + (5 : Int32) := by
  rw [show 5 * (t + 1) = 5 * t + 5 by omega]
  exact (nI_add (5 * t) 5).symm
theorem w_case_0 {p : Program} {e : Env} {s : State} {m : MethodId} {below : List Frame} {meth : Method} {c : Code} {l : Launch} (hst : l.stackTraces = false) {b L : Nat} {xs : Nat → Int32} (hL : L ≤ 320) (hX : va_X b L xs s s.heap) (hbl : b < s.heap.size) {G : GG} (hG : G.2.2.1 = s.heap.size) (C : cx p s m #[Value.ref b] meth c code 4 R_law ret G) {Inv : Nat → SS → Prop} {N : Nat} (T : StepsL Inv N) {t : Nat} (ht : t < 64) (h5 : 5 * t + 5 ≤ L) (go : ∀ (q : Nat → Nat) (σ : SS) (H : Heap) (locs : List Loc) (ls : Array Slot), Inv (t + 1) σ → wx G false q σ H → va_S (fa G) s.heap H locs → lv_has ls 4 [(0, .ref b), (1, .ref (q 0)), (2, .ref (q 1)), (3, .int (nI (5 * t)))] → W p l e room_1 s m #[Value.ref b] below meth c H locs (60 + 20 * t + 20) (3000 + 1000 * t + 1000) (lw_Z below #[Value.ref b] s) (F0 m 1437 ls [])) (q : Nat → Nat) (σ : SS) (H : Heap) (locs : List Loc) (ls : Array Slot) (hI : Inv t σ) (hw : wx G false q σ H) (hS : va_S (fa G) s.heap H locs) (hl : lv_has ls 4 [(0, .ref b), (1, .ref (q 0)), (2, .ref (q 1)), (3, .int (nI (5 * t)))]) : W p l e room_1 s m #[Value.ref b] below meth c H locs (60 + 20 * t) (3000 + 1000 * t) (lw_Z below #[Value.ref b] s) (F0 m 212 ls []) := by
  obtain ⟨hx, hb, hml, hown, hts, hr, hlk, hk0, hox⟩ := id C
  have hbA : ¬ fa G b := fun h => absurd (show G.2.2.1 ≤ b from h) (by rw [hG]; omega)
  have hcl : 60 + 20 * t + 20 ≤ room_1.cells ∧ 3000 + 1000 * t + 1000 ≤ room_1.slots := ⟨by show 60 + 20 * t + 20 ≤ 603072; omega, by show 3000 + 1000 * t + 1000 ≤ 7262314; omega⟩
  obtain ⟨r, σ1, σ2, f1, f2, hI2⟩ := T.2.1 t σ (xs (nI (5 * t) + (1 : Int32)).toNatClampNeg) ht hI
  refine lv_aload_n hx hb dL_law_212 rfl (lv_at hl 1 rfl) ?_
  refine lv_aload_n hx hb dL_law_213 rfl (lv_at hl 0 rfl) ?_
  refine lv_iload_n hx hb dL_law_214 rfl (lv_at hl 3 rfl) ?_
  refine lv_iconst (v := (1 : Int32)) hx hb dL_law_215 (by decide) ?_
  refine lv_iadd hx hb dL_law_216 ?_
  refine va_sld hx hb hX hbl hbA hS (ix_in h5 hL (k := 1) (by decide)) dL_law_217 ?_
  refine r_callVi (R := room_1) (cells := 60 + 20 * t) (slots := 3000 + 1000 * t) (As := [.int (xs (nI (5 * t) + (1 : Int32)).toNatClampNeg)]) (rest := []) (i := 0) C hw hS (wi_lo (Or.inl (by decide))) rfl (ci := 0) rfl (met_X0_feed l G false q f1) (cwV 1 hts (lw_V q289 q290 q291 q57 q292) rfl rfl rfl (by decide +kernel) ⟨Nat.le_of_ble_eq_true rfl, Nat.le_of_ble_eq_true rfl⟩) rfl hl.1 rfl (Nat.le_of_ble_eq_true rfl) ⟨by omega, by omega⟩ dL_law_218 (fun H locs hw hS => ?_)
  refine lv_aload_n hx hb dL_law_221 rfl (lv_at hl 2 rfl) ?_
  refine lv_aload_n hx hb dL_law_222 rfl (lv_at hl 0 rfl) ?_
  refine lv_iload_n hx hb dL_law_223 rfl (lv_at hl 3 rfl) ?_
  refine lv_iconst (v := (1 : Int32)) hx hb dL_law_224 (by decide) ?_
  refine lv_iadd hx hb dL_law_225 ?_
  refine va_sld hx hb hX hbl hbA hS (ix_in h5 hL (k := 1) (by decide)) dL_law_226 ?_
  refine r_callVi (R := room_1) (cells := 60 + 20 * t + 0) (slots := 3000 + 1000 * t + 0) (As := [.int (xs (nI (5 * t) + (1 : Int32)).toNatClampNeg)]) (rest := [.int r]) (i := 1) C hw hS (wi_lo (Or.inl (by decide))) rfl (ci := 8) rfl (met_X8_feed l G false q f2) (cwV 1 hts (lw_V q1035 q1036 q1037 q65 q1038) rfl rfl rfl (by decide +kernel) ⟨Nat.le_of_ble_eq_true rfl, Nat.le_of_ble_eq_true rfl⟩) rfl hl.1 rfl (Nat.le_of_ble_eq_true rfl) ⟨by omega, by omega⟩ dL_law_227 (fun H locs hw hS => ?_)
  refine lv_icmp_eq (tgt := 1437) hx hb dL_law_230 (by decide) (fun _ => ?_) (fun c9 => absurd rfl c9)
  refine W.widen (k := 60 + 20 * t + 20) (n := 3000 + 1000 * t + 1000) (by omega) (by omega) ?_
  exact go q σ2 H locs ls hI2 hw hS hl
theorem w_case_1 {p : Program} {e : Env} {s : State} {m : MethodId} {below : List Frame} {meth : Method} {c : Code} {l : Launch} (hst : l.stackTraces = false) {b L : Nat} {xs : Nat → Int32} (hL : L ≤ 320) (hX : va_X b L xs s s.heap) (hbl : b < s.heap.size) {G : GG} (hG : G.2.2.1 = s.heap.size) (C : cx p s m #[Value.ref b] meth c code 4 R_law ret G) {Inv : Nat → SS → Prop} {N : Nat} (T : StepsL Inv N) {t : Nat} (ht : t < 64) (h5 : 5 * t + 5 ≤ L) (go : ∀ (q : Nat → Nat) (σ : SS) (H : Heap) (locs : List Loc) (ls : Array Slot), Inv (t + 1) σ → wx G false q σ H → va_S (fa G) s.heap H locs → lv_has ls 4 [(0, .ref b), (1, .ref (q 0)), (2, .ref (q 1)), (3, .int (nI (5 * t)))] → W p l e room_1 s m #[Value.ref b] below meth c H locs (60 + 20 * t + 20) (3000 + 1000 * t + 1000) (lw_Z below #[Value.ref b] s) (F0 m 1437 ls [])) (q : Nat → Nat) (σ : SS) (H : Heap) (locs : List Loc) (ls : Array Slot) (hI : Inv t σ) (hw : wx G false q σ H) (hS : va_S (fa G) s.heap H locs) (hl : lv_has ls 4 [(0, .ref b), (1, .ref (q 0)), (2, .ref (q 1)), (3, .int (nI (5 * t)))]) : W p l e room_1 s m #[Value.ref b] below meth c H locs (60 + 20 * t) (3000 + 1000 * t) (lw_Z below #[Value.ref b] s) (F0 m 235 ls []) := by
  obtain ⟨hx, hb, hml, hown, hts, hr, hlk, hk0, hox⟩ := id C
  have hbA : ¬ fa G b := fun h => absurd (show G.2.2.1 ≤ b from h) (by rw [hG]; omega)
  have hcl : 60 + 20 * t + 20 ≤ room_1.cells ∧ 3000 + 1000 * t + 1000 ≤ room_1.slots := ⟨by show 60 + 20 * t + 20 ≤ 603072; omega, by show 3000 + 1000 * t + 1000 ≤ 7262314; omega⟩
  obtain ⟨r, σ1, σ2, f1, f2, hI2⟩ := T.2.2.1 t σ (xs (nI (5 * t) + (1 : Int32)).toNatClampNeg) ht hI
  refine lv_aload_n hx hb dL_law_235 rfl (lv_at hl 1 rfl) ?_
  refine lv_aload_n hx hb dL_law_236 rfl (lv_at hl 0 rfl) ?_
  refine lv_iload_n hx hb dL_law_237 rfl (lv_at hl 3 rfl) ?_
  refine lv_iconst (v := (1 : Int32)) hx hb dL_law_238 (by decide) ?_
  refine lv_iadd hx hb dL_law_239 ?_
  refine va_sld hx hb hX hbl hbA hS (ix_in h5 hL (k := 1) (by decide)) dL_law_240 ?_
  refine r_callVi (R := room_1) (cells := 60 + 20 * t) (slots := 3000 + 1000 * t) (As := [.int (xs (nI (5 * t) + (1 : Int32)).toNatClampNeg)]) (rest := []) (i := 0) C hw hS (wi_lo (Or.inl (by decide))) rfl (ci := 0) rfl (met_X0_end l G false q f1) (cwV 1 hts (lw_V q297 q298 q299 q57 q300) rfl rfl rfl (by decide +kernel) ⟨Nat.le_of_ble_eq_true rfl, Nat.le_of_ble_eq_true rfl⟩) rfl hl.1 rfl (Nat.le_of_ble_eq_true rfl) ⟨by omega, by omega⟩ dL_law_241 (fun H locs hw hS => ?_)
  refine lv_aload_n hx hb dL_law_244 rfl (lv_at hl 2 rfl) ?_
  refine lv_aload_n hx hb dL_law_245 rfl (lv_at hl 0 rfl) ?_
  refine lv_iload_n hx hb dL_law_246 rfl (lv_at hl 3 rfl) ?_
  refine lv_iconst (v := (1 : Int32)) hx hb dL_law_247 (by decide) ?_
  refine lv_iadd hx hb dL_law_248 ?_
  refine va_sld hx hb hX hbl hbA hS (ix_in h5 hL (k := 1) (by decide)) dL_law_249 ?_
  refine r_callVi (R := room_1) (cells := 60 + 20 * t + 0) (slots := 3000 + 1000 * t + 0) (As := [.int (xs (nI (5 * t) + (1 : Int32)).toNatClampNeg)]) (rest := [.int r]) (i := 1) C hw hS (wi_lo (Or.inl (by decide))) rfl (ci := 8) rfl (met_X8_end l G false q f2) (cwV 1 hts (lw_V q1043 q1044 q1045 q65 q1046) rfl rfl rfl (by decide +kernel) ⟨Nat.le_of_ble_eq_true rfl, Nat.le_of_ble_eq_true rfl⟩) rfl hl.1 rfl (Nat.le_of_ble_eq_true rfl) ⟨by omega, by omega⟩ dL_law_250 (fun H locs hw hS => ?_)
  refine lv_icmp_eq (tgt := 1437) hx hb dL_law_253 (by decide) (fun _ => ?_) (fun c9 => absurd rfl c9)
  refine W.widen (k := 60 + 20 * t + 20) (n := 3000 + 1000 * t + 1000) (by omega) (by omega) ?_
  exact go q σ2 H locs ls hI2 hw hS hl
theorem w_case_2 {p : Program} {e : Env} {s : State} {m : MethodId} {below : List Frame} {meth : Method} {c : Code} {l : Launch} (hst : l.stackTraces = false) {b L : Nat} {xs : Nat → Int32} (hL : L ≤ 320) (hX : va_X b L xs s s.heap) (hbl : b < s.heap.size) {G : GG} (hG : G.2.2.1 = s.heap.size) (C : cx p s m #[Value.ref b] meth c code 4 R_law ret G) {Inv : Nat → SS → Prop} {N : Nat} (T : StepsL Inv N) {t : Nat} (ht : t < 64) (h5 : 5 * t + 5 ≤ L) (go : ∀ (q : Nat → Nat) (σ : SS) (H : Heap) (locs : List Loc) (ls : Array Slot), Inv (t + 1) σ → wx G false q σ H → va_S (fa G) s.heap H locs → lv_has ls 4 [(0, .ref b), (1, .ref (q 0)), (2, .ref (q 1)), (3, .int (nI (5 * t)))] → W p l e room_1 s m #[Value.ref b] below meth c H locs (60 + 20 * t + 20) (3000 + 1000 * t + 1000) (lw_Z below #[Value.ref b] s) (F0 m 1437 ls [])) (q : Nat → Nat) (σ : SS) (H : Heap) (locs : List Loc) (ls : Array Slot) (hI : Inv t σ) (hw : wx G false q σ H) (hS : va_S (fa G) s.heap H locs) (hl : lv_has ls 4 [(0, .ref b), (1, .ref (q 0)), (2, .ref (q 1)), (3, .int (nI (5 * t)))]) : W p l e room_1 s m #[Value.ref b] below meth c H locs (60 + 20 * t) (3000 + 1000 * t) (lw_Z below #[Value.ref b] s) (F0 m 258 ls []) := by
  obtain ⟨hx, hb, hml, hown, hts, hr, hlk, hk0, hox⟩ := id C
  have hbA : ¬ fa G b := fun h => absurd (show G.2.2.1 ≤ b from h) (by rw [hG]; omega)
  have hcl : 60 + 20 * t + 20 ≤ room_1.cells ∧ 3000 + 1000 * t + 1000 ≤ room_1.slots := ⟨by show 60 + 20 * t + 20 ≤ 603072; omega, by show 3000 + 1000 * t + 1000 ≤ 7262314; omega⟩
  obtain ⟨r, σ1, σ2, f1, f2, hI2⟩ := T.2.2.2.1 t σ  ht hI
  refine lv_aload_n hx hb dL_law_258 rfl (lv_at hl 1 rfl) ?_
  refine r_callW (R := room_1) (cells := 60 + 20 * t) (slots := 3000 + 1000 * t) (As := []) (rest := []) (i := 0) C hw hS (wi_lo (Or.inl (by decide))) rfl (ci := 0) rfl (met_X0_text l G q f1) (vx_cwVW 0 hts (lw_VW q301 q302 q303 q57 q304) rfl rfl rfl (by decide +kernel) ⟨Nat.le_of_ble_eq_true rfl, Nat.le_of_ble_eq_true rfl⟩) rfl hl.1 rfl (Nat.le_of_ble_eq_true rfl) ⟨by omega, by omega⟩ dL_law_259 (fun u t9 locs hw hS => ?_)
  generalize t9.heap = H at hw hS ⊢
  have hw : wx G false q σ1 H := hw
  refine lv_aload_n hx hb dL_law_262 rfl (lv_at hl 2 rfl) ?_
  refine r_callVi (R := room_1) (cells := 60 + 20 * t + 10) (slots := 3000 + 1000 * t + 71) (As := []) (rest := [.int r]) (i := 1) C hw hS (wi_lo (Or.inl (by decide))) rfl (ci := 8) rfl (met_X8_text l G false q f2) (cwV 0 hts (lw_V q1047 q1048 q1049 q65 q1050) rfl rfl rfl (by decide +kernel) ⟨Nat.le_of_ble_eq_true rfl, Nat.le_of_ble_eq_true rfl⟩) rfl hl.1 rfl (Nat.le_of_ble_eq_true rfl) ⟨by omega, by omega⟩ dL_law_263 (fun H locs hw hS => ?_)
  refine lv_icmp_eq (tgt := 1437) hx hb dL_law_266 (by decide) (fun _ => ?_) (fun c9 => absurd rfl c9)
  refine W.widen (k := 60 + 20 * t + 20) (n := 3000 + 1000 * t + 1000) (by omega) (by omega) ?_
  exact go q σ2 H locs ls hI2 hw hS hl
theorem w_case_3 {p : Program} {e : Env} {s : State} {m : MethodId} {below : List Frame} {meth : Method} {c : Code} {l : Launch} (hst : l.stackTraces = false) {b L : Nat} {xs : Nat → Int32} (hL : L ≤ 320) (hX : va_X b L xs s s.heap) (hbl : b < s.heap.size) {G : GG} (hG : G.2.2.1 = s.heap.size) (C : cx p s m #[Value.ref b] meth c code 4 R_law ret G) {Inv : Nat → SS → Prop} {N : Nat} (T : StepsL Inv N) {t : Nat} (ht : t < 64) (h5 : 5 * t + 5 ≤ L) (go : ∀ (q : Nat → Nat) (σ : SS) (H : Heap) (locs : List Loc) (ls : Array Slot), Inv (t + 1) σ → wx G false q σ H → va_S (fa G) s.heap H locs → lv_has ls 4 [(0, .ref b), (1, .ref (q 0)), (2, .ref (q 1)), (3, .int (nI (5 * t)))] → W p l e room_1 s m #[Value.ref b] below meth c H locs (60 + 20 * t + 20) (3000 + 1000 * t + 1000) (lw_Z below #[Value.ref b] s) (F0 m 1437 ls [])) (q : Nat → Nat) (σ : SS) (H : Heap) (locs : List Loc) (ls : Array Slot) (hI : Inv t σ) (hw : wx G false q σ H) (hS : va_S (fa G) s.heap H locs) (hl : lv_has ls 4 [(0, .ref b), (1, .ref (q 0)), (2, .ref (q 1)), (3, .int (nI (5 * t)))]) : W p l e room_1 s m #[Value.ref b] below meth c H locs (60 + 20 * t) (3000 + 1000 * t) (lw_Z below #[Value.ref b] s) (F0 m 271 ls []) := by
  obtain ⟨hx, hb, hml, hown, hts, hr, hlk, hk0, hox⟩ := id C
  have hbA : ¬ fa G b := fun h => absurd (show G.2.2.1 ≤ b from h) (by rw [hG]; omega)
  have hcl : 60 + 20 * t + 20 ≤ room_1.cells ∧ 3000 + 1000 * t + 1000 ≤ room_1.slots := ⟨by show 60 + 20 * t + 20 ≤ 603072; omega, by show 3000 + 1000 * t + 1000 ≤ 7262314; omega⟩
  obtain ⟨r, σ1, σ2, f1, f2, hI2⟩ := T.2.2.2.2.1 t σ  ht hI
  refine lv_aload_n hx hb dL_law_271 rfl (lv_at hl 1 rfl) ?_
  refine r_callVi (R := room_1) (cells := 60 + 20 * t) (slots := 3000 + 1000 * t) (As := []) (rest := []) (i := 0) C hw hS (wi_lo (Or.inl (by decide))) rfl (ci := 0) rfl (met_X0_fault l G false q f1) (cwV 0 hts (lw_V q532 q533 q534 q57 q535) rfl rfl rfl (by decide +kernel) ⟨Nat.le_of_ble_eq_true rfl, Nat.le_of_ble_eq_true rfl⟩) rfl hl.1 rfl (Nat.le_of_ble_eq_true rfl) ⟨by omega, by omega⟩ dL_law_272 (fun H locs hw hS => ?_)
  refine lv_aload_n hx hb dL_law_275 rfl (lv_at hl 2 rfl) ?_
  refine r_callVi (R := room_1) (cells := 60 + 20 * t + 0) (slots := 3000 + 1000 * t + 0) (As := []) (rest := [.int r]) (i := 1) C hw hS (wi_lo (Or.inl (by decide))) rfl (ci := 8) rfl (met_X8_fault l G false q f2) (cwV 0 hts (lw_V q1084 q1085 q1086 q65 q1087) rfl rfl rfl (by decide +kernel) ⟨Nat.le_of_ble_eq_true rfl, Nat.le_of_ble_eq_true rfl⟩) rfl hl.1 rfl (Nat.le_of_ble_eq_true rfl) ⟨by omega, by omega⟩ dL_law_276 (fun H locs hw hS => ?_)
  refine lv_icmp_eq (tgt := 1437) hx hb dL_law_279 (by decide) (fun _ => ?_) (fun c9 => absurd rfl c9)
  refine W.widen (k := 60 + 20 * t + 20) (n := 3000 + 1000 * t + 1000) (by omega) (by omega) ?_
  exact go q σ2 H locs ls hI2 hw hS hl
theorem w_case_4 {p : Program} {e : Env} {s : State} {m : MethodId} {below : List Frame} {meth : Method} {c : Code} {l : Launch} (hst : l.stackTraces = false) {b L : Nat} {xs : Nat → Int32} (hL : L ≤ 320) (hX : va_X b L xs s s.heap) (hbl : b < s.heap.size) {G : GG} (hG : G.2.2.1 = s.heap.size) (C : cx p s m #[Value.ref b] meth c code 4 R_law ret G) {Inv : Nat → SS → Prop} {N : Nat} (T : StepsL Inv N) {t : Nat} (ht : t < 64) (h5 : 5 * t + 5 ≤ L) (go : ∀ (q : Nat → Nat) (σ : SS) (H : Heap) (locs : List Loc) (ls : Array Slot), Inv (t + 1) σ → wx G false q σ H → va_S (fa G) s.heap H locs → lv_has ls 4 [(0, .ref b), (1, .ref (q 0)), (2, .ref (q 1)), (3, .int (nI (5 * t)))] → W p l e room_1 s m #[Value.ref b] below meth c H locs (60 + 20 * t + 20) (3000 + 1000 * t + 1000) (lw_Z below #[Value.ref b] s) (F0 m 1437 ls [])) (q : Nat → Nat) (σ : SS) (H : Heap) (locs : List Loc) (ls : Array Slot) (hI : Inv t σ) (hw : wx G false q σ H) (hS : va_S (fa G) s.heap H locs) (hl : lv_has ls 4 [(0, .ref b), (1, .ref (q 0)), (2, .ref (q 1)), (3, .int (nI (5 * t)))]) : W p l e room_1 s m #[Value.ref b] below meth c H locs (60 + 20 * t) (3000 + 1000 * t) (lw_Z below #[Value.ref b] s) (F0 m 284 ls []) := by
  obtain ⟨hx, hb, hml, hown, hts, hr, hlk, hk0, hox⟩ := id C
  have hbA : ¬ fa G b := fun h => absurd (show G.2.2.1 ≤ b from h) (by rw [hG]; omega)
  have hcl : 60 + 20 * t + 20 ≤ room_1.cells ∧ 3000 + 1000 * t + 1000 ≤ room_1.slots := ⟨by show 60 + 20 * t + 20 ≤ 603072; omega, by show 3000 + 1000 * t + 1000 ≤ 7262314; omega⟩
  obtain ⟨r, σ1, σ2, f1, f2, hI2⟩ := T.2.2.2.2.2.1 t σ (xs (nI (5 * t) + (1 : Int32)).toNatClampNeg) ht hI
  refine lv_aload_n hx hb dL_law_284 rfl (lv_at hl 1 rfl) ?_
  refine lv_aload_n hx hb dL_law_285 rfl (lv_at hl 0 rfl) ?_
  refine lv_iload_n hx hb dL_law_286 rfl (lv_at hl 3 rfl) ?_
  refine lv_iconst (v := (1 : Int32)) hx hb dL_law_287 (by decide) ?_
  refine lv_iadd hx hb dL_law_288 ?_
  refine va_sld hx hb hX hbl hbA hS (ix_in h5 hL (k := 1) (by decide)) dL_law_289 ?_
  refine r_callVi (R := room_1) (cells := 60 + 20 * t) (slots := 3000 + 1000 * t) (As := [.int (xs (nI (5 * t) + (1 : Int32)).toNatClampNeg)]) (rest := []) (i := 0) C hw hS (wi_lo (Or.inl (by decide))) rfl (ci := 0) rfl (met_X0_rule l G false q f1) (cwV 1 hts (lw_V q536 q537 q538 q57 q539) rfl rfl rfl (by decide +kernel) ⟨Nat.le_of_ble_eq_true rfl, Nat.le_of_ble_eq_true rfl⟩) rfl hl.1 rfl (Nat.le_of_ble_eq_true rfl) ⟨by omega, by omega⟩ dL_law_290 (fun H locs hw hS => ?_)
  refine lv_aload_n hx hb dL_law_293 rfl (lv_at hl 2 rfl) ?_
  refine lv_aload_n hx hb dL_law_294 rfl (lv_at hl 0 rfl) ?_
  refine lv_iload_n hx hb dL_law_295 rfl (lv_at hl 3 rfl) ?_
  refine lv_iconst (v := (1 : Int32)) hx hb dL_law_296 (by decide) ?_
  refine lv_iadd hx hb dL_law_297 ?_
  refine va_sld hx hb hX hbl hbA hS (ix_in h5 hL (k := 1) (by decide)) dL_law_298 ?_
  refine r_callVi (R := room_1) (cells := 60 + 20 * t + 0) (slots := 3000 + 1000 * t + 0) (As := [.int (xs (nI (5 * t) + (1 : Int32)).toNatClampNeg)]) (rest := [.int r]) (i := 1) C hw hS (wi_lo (Or.inl (by decide))) rfl (ci := 8) rfl (met_X8_rule l G false q f2) (cwV 1 hts (lw_V q1088 q1089 q1090 q65 q1091) rfl rfl rfl (by decide +kernel) ⟨Nat.le_of_ble_eq_true rfl, Nat.le_of_ble_eq_true rfl⟩) rfl hl.1 rfl (Nat.le_of_ble_eq_true rfl) ⟨by omega, by omega⟩ dL_law_299 (fun H locs hw hS => ?_)
  refine lv_icmp_eq (tgt := 1437) hx hb dL_law_302 (by decide) (fun _ => ?_) (fun c9 => absurd rfl c9)
  refine W.widen (k := 60 + 20 * t + 20) (n := 3000 + 1000 * t + 1000) (by omega) (by omega) ?_
  exact go q σ2 H locs ls hI2 hw hS hl
theorem w_case_5 {p : Program} {e : Env} {s : State} {m : MethodId} {below : List Frame} {meth : Method} {c : Code} {l : Launch} (hst : l.stackTraces = false) {b L : Nat} {xs : Nat → Int32} (hL : L ≤ 320) (hX : va_X b L xs s s.heap) (hbl : b < s.heap.size) {G : GG} (hG : G.2.2.1 = s.heap.size) (C : cx p s m #[Value.ref b] meth c code 4 R_law ret G) {Inv : Nat → SS → Prop} {N : Nat} (T : StepsL Inv N) {t : Nat} (ht : t < 64) (h5 : 5 * t + 5 ≤ L) (go : ∀ (q : Nat → Nat) (σ : SS) (H : Heap) (locs : List Loc) (ls : Array Slot), Inv (t + 1) σ → wx G false q σ H → va_S (fa G) s.heap H locs → lv_has ls 4 [(0, .ref b), (1, .ref (q 0)), (2, .ref (q 1)), (3, .int (nI (5 * t)))] → W p l e room_1 s m #[Value.ref b] below meth c H locs (60 + 20 * t + 20) (3000 + 1000 * t + 1000) (lw_Z below #[Value.ref b] s) (F0 m 1437 ls [])) (q : Nat → Nat) (σ : SS) (H : Heap) (locs : List Loc) (ls : Array Slot) (hI : Inv t σ) (hw : wx G false q σ H) (hS : va_S (fa G) s.heap H locs) (hl : lv_has ls 4 [(0, .ref b), (1, .ref (q 0)), (2, .ref (q 1)), (3, .int (nI (5 * t)))]) : W p l e room_1 s m #[Value.ref b] below meth c H locs (60 + 20 * t) (3000 + 1000 * t) (lw_Z below #[Value.ref b] s) (F0 m 307 ls []) := by
  obtain ⟨hx, hb, hml, hown, hts, hr, hlk, hk0, hox⟩ := id C
  have hbA : ¬ fa G b := fun h => absurd (show G.2.2.1 ≤ b from h) (by rw [hG]; omega)
  have hcl : 60 + 20 * t + 20 ≤ room_1.cells ∧ 3000 + 1000 * t + 1000 ≤ room_1.slots := ⟨by show 60 + 20 * t + 20 ≤ 603072; omega, by show 3000 + 1000 * t + 1000 ≤ 7262314; omega⟩
  obtain ⟨r, σ1, σ2, f1, f2, hI2⟩ := T.2.2.2.2.2.2.1 t σ (xs (nI (5 * t) + (1 : Int32)).toNatClampNeg) (xs (nI (5 * t) + (2 : Int32)).toNatClampNeg) ht hI
  refine lv_aload_n hx hb dL_law_307 rfl (lv_at hl 1 rfl) ?_
  refine lv_aload_n hx hb dL_law_308 rfl (lv_at hl 0 rfl) ?_
  refine lv_iload_n hx hb dL_law_309 rfl (lv_at hl 3 rfl) ?_
  refine lv_iconst (v := (1 : Int32)) hx hb dL_law_310 (by decide) ?_
  refine lv_iadd hx hb dL_law_311 ?_
  refine va_sld hx hb hX hbl hbA hS (ix_in h5 hL (k := 1) (by decide)) dL_law_312 ?_
  refine lv_aload_n hx hb dL_law_313 rfl (lv_at hl 0 rfl) ?_
  refine lv_iload_n hx hb dL_law_314 rfl (lv_at hl 3 rfl) ?_
  refine lv_iconst (v := (2 : Int32)) hx hb dL_law_315 (by decide) ?_
  refine lv_iadd hx hb dL_law_316 ?_
  refine va_sld hx hb hX hbl hbA hS (ix_in h5 hL (k := 2) (by decide)) dL_law_317 ?_
  refine r_callVi (R := room_1) (cells := 60 + 20 * t) (slots := 3000 + 1000 * t) (As := [.int (xs (nI (5 * t) + (1 : Int32)).toNatClampNeg), .int (xs (nI (5 * t) + (2 : Int32)).toNatClampNeg)]) (rest := []) (i := 0) C hw hS (wi_lo (Or.inl (by decide))) rfl (ci := 0) rfl (met_X0_wheel l G false q f1) (cwV 2 hts (lw_V q548 q549 q550 q57 q551) rfl rfl rfl (by decide +kernel) ⟨Nat.le_of_ble_eq_true rfl, Nat.le_of_ble_eq_true rfl⟩) rfl hl.1 rfl (Nat.le_of_ble_eq_true rfl) ⟨by omega, by omega⟩ dL_law_318 (fun H locs hw hS => ?_)
  refine lv_aload_n hx hb dL_law_321 rfl (lv_at hl 2 rfl) ?_
  refine lv_aload_n hx hb dL_law_322 rfl (lv_at hl 0 rfl) ?_
  refine lv_iload_n hx hb dL_law_323 rfl (lv_at hl 3 rfl) ?_
  refine lv_iconst (v := (1 : Int32)) hx hb dL_law_324 (by decide) ?_
  refine lv_iadd hx hb dL_law_325 ?_
  refine va_sld hx hb hX hbl hbA hS (ix_in h5 hL (k := 1) (by decide)) dL_law_326 ?_
  refine lv_aload_n hx hb dL_law_327 rfl (lv_at hl 0 rfl) ?_
  refine lv_iload_n hx hb dL_law_328 rfl (lv_at hl 3 rfl) ?_
  refine lv_iconst (v := (2 : Int32)) hx hb dL_law_329 (by decide) ?_
  refine lv_iadd hx hb dL_law_330 ?_
  refine va_sld hx hb hX hbl hbA hS (ix_in h5 hL (k := 2) (by decide)) dL_law_331 ?_
  refine r_callVi (R := room_1) (cells := 60 + 20 * t + 0) (slots := 3000 + 1000 * t + 0) (As := [.int (xs (nI (5 * t) + (1 : Int32)).toNatClampNeg), .int (xs (nI (5 * t) + (2 : Int32)).toNatClampNeg)]) (rest := [.int r]) (i := 1) C hw hS (wi_lo (Or.inl (by decide))) rfl (ci := 8) rfl (met_X8_wheel l G false q f2) (cwV 2 hts (lw_V q1096 q1097 q1098 q65 q1099) rfl rfl rfl (by decide +kernel) ⟨Nat.le_of_ble_eq_true rfl, Nat.le_of_ble_eq_true rfl⟩) rfl hl.1 rfl (Nat.le_of_ble_eq_true rfl) ⟨by omega, by omega⟩ dL_law_332 (fun H locs hw hS => ?_)
  refine lv_icmp_eq (tgt := 1437) hx hb dL_law_335 (by decide) (fun _ => ?_) (fun c9 => absurd rfl c9)
  refine W.widen (k := 60 + 20 * t + 20) (n := 3000 + 1000 * t + 1000) (by omega) (by omega) ?_
  exact go q σ2 H locs ls hI2 hw hS hl
theorem w_case_6 {p : Program} {e : Env} {s : State} {m : MethodId} {below : List Frame} {meth : Method} {c : Code} {l : Launch} (hst : l.stackTraces = false) {b L : Nat} {xs : Nat → Int32} (hL : L ≤ 320) (hX : va_X b L xs s s.heap) (hbl : b < s.heap.size) {G : GG} (hG : G.2.2.1 = s.heap.size) (C : cx p s m #[Value.ref b] meth c code 4 R_law ret G) {Inv : Nat → SS → Prop} {N : Nat} (T : StepsL Inv N) {t : Nat} (ht : t < 64) (h5 : 5 * t + 5 ≤ L) (go : ∀ (q : Nat → Nat) (σ : SS) (H : Heap) (locs : List Loc) (ls : Array Slot), Inv (t + 1) σ → wx G false q σ H → va_S (fa G) s.heap H locs → lv_has ls 4 [(0, .ref b), (1, .ref (q 0)), (2, .ref (q 1)), (3, .int (nI (5 * t)))] → W p l e room_1 s m #[Value.ref b] below meth c H locs (60 + 20 * t + 20) (3000 + 1000 * t + 1000) (lw_Z below #[Value.ref b] s) (F0 m 1437 ls [])) (q : Nat → Nat) (σ : SS) (H : Heap) (locs : List Loc) (ls : Array Slot) (hI : Inv t σ) (hw : wx G false q σ H) (hS : va_S (fa G) s.heap H locs) (hl : lv_has ls 4 [(0, .ref b), (1, .ref (q 0)), (2, .ref (q 1)), (3, .int (nI (5 * t)))]) : W p l e room_1 s m #[Value.ref b] below meth c H locs (60 + 20 * t) (3000 + 1000 * t) (lw_Z below #[Value.ref b] s) (F0 m 340 ls []) := by
  obtain ⟨hx, hb, hml, hown, hts, hr, hlk, hk0, hox⟩ := id C
  have hbA : ¬ fa G b := fun h => absurd (show G.2.2.1 ≤ b from h) (by rw [hG]; omega)
  have hcl : 60 + 20 * t + 20 ≤ room_1.cells ∧ 3000 + 1000 * t + 1000 ≤ room_1.slots := ⟨by show 60 + 20 * t + 20 ≤ 603072; omega, by show 3000 + 1000 * t + 1000 ≤ 7262314; omega⟩
  obtain ⟨r, σ1, σ2, f1, f2, hI2⟩ := T.2.2.2.2.2.2.2.1 t σ (xs (nI (5 * t) + (1 : Int32)).toNatClampNeg) ht hI
  refine lv_aload_n hx hb dL_law_340 rfl (lv_at hl 1 rfl) ?_
  refine lv_aload_n hx hb dL_law_341 rfl (lv_at hl 0 rfl) ?_
  refine lv_iload_n hx hb dL_law_342 rfl (lv_at hl 3 rfl) ?_
  refine lv_iconst (v := (1 : Int32)) hx hb dL_law_343 (by decide) ?_
  refine lv_iadd hx hb dL_law_344 ?_
  refine va_sld hx hb hX hbl hbA hS (ix_in h5 hL (k := 1) (by decide)) dL_law_345 ?_
  refine r_callVi (R := room_1) (cells := 60 + 20 * t) (slots := 3000 + 1000 * t) (As := [.int (xs (nI (5 * t) + (1 : Int32)).toNatClampNeg)]) (rest := []) (i := 0) C hw hS (wi_lo (Or.inl (by decide))) rfl (ci := 0) rfl (met_X0_act l G false q f1) (cwV 1 hts (lw_V q587 q588 q589 q57 q590) rfl rfl rfl (by decide +kernel) ⟨Nat.le_of_ble_eq_true rfl, Nat.le_of_ble_eq_true rfl⟩) rfl hl.1 rfl (Nat.le_of_ble_eq_true rfl) ⟨by omega, by omega⟩ dL_law_346 (fun H locs hw hS => ?_)
  refine lv_aload_n hx hb dL_law_349 rfl (lv_at hl 2 rfl) ?_
  refine lv_aload_n hx hb dL_law_350 rfl (lv_at hl 0 rfl) ?_
  refine lv_iload_n hx hb dL_law_351 rfl (lv_at hl 3 rfl) ?_
  refine lv_iconst (v := (1 : Int32)) hx hb dL_law_352 (by decide) ?_
  refine lv_iadd hx hb dL_law_353 ?_
  refine va_sld hx hb hX hbl hbA hS (ix_in h5 hL (k := 1) (by decide)) dL_law_354 ?_
  refine r_callVi (R := room_1) (cells := 60 + 20 * t + 0) (slots := 3000 + 1000 * t + 0) (As := [.int (xs (nI (5 * t) + (1 : Int32)).toNatClampNeg)]) (rest := [.int r]) (i := 1) C hw hS (wi_lo (Or.inl (by decide))) rfl (ci := 8) rfl (met_X8_act l G false q f2) (cwV 1 hts (lw_V q1109 q1110 q1111 q65 q1112) rfl rfl rfl (by decide +kernel) ⟨Nat.le_of_ble_eq_true rfl, Nat.le_of_ble_eq_true rfl⟩) rfl hl.1 rfl (Nat.le_of_ble_eq_true rfl) ⟨by omega, by omega⟩ dL_law_355 (fun H locs hw hS => ?_)
  refine lv_icmp_eq (tgt := 1437) hx hb dL_law_358 (by decide) (fun _ => ?_) (fun c9 => absurd rfl c9)
  refine W.widen (k := 60 + 20 * t + 20) (n := 3000 + 1000 * t + 1000) (by omega) (by omega) ?_
  exact go q σ2 H locs ls hI2 hw hS hl
theorem w_case_7 {p : Program} {e : Env} {s : State} {m : MethodId} {below : List Frame} {meth : Method} {c : Code} {l : Launch} (hst : l.stackTraces = false) {b L : Nat} {xs : Nat → Int32} (hL : L ≤ 320) (hX : va_X b L xs s s.heap) (hbl : b < s.heap.size) {G : GG} (hG : G.2.2.1 = s.heap.size) (C : cx p s m #[Value.ref b] meth c code 4 R_law ret G) {Inv : Nat → SS → Prop} {N : Nat} (T : StepsL Inv N) {t : Nat} (ht : t < 64) (h5 : 5 * t + 5 ≤ L) (go : ∀ (q : Nat → Nat) (σ : SS) (H : Heap) (locs : List Loc) (ls : Array Slot), Inv (t + 1) σ → wx G false q σ H → va_S (fa G) s.heap H locs → lv_has ls 4 [(0, .ref b), (1, .ref (q 0)), (2, .ref (q 1)), (3, .int (nI (5 * t)))] → W p l e room_1 s m #[Value.ref b] below meth c H locs (60 + 20 * t + 20) (3000 + 1000 * t + 1000) (lw_Z below #[Value.ref b] s) (F0 m 1437 ls [])) (q : Nat → Nat) (σ : SS) (H : Heap) (locs : List Loc) (ls : Array Slot) (hI : Inv t σ) (hw : wx G false q σ H) (hS : va_S (fa G) s.heap H locs) (hl : lv_has ls 4 [(0, .ref b), (1, .ref (q 0)), (2, .ref (q 1)), (3, .int (nI (5 * t)))]) : W p l e room_1 s m #[Value.ref b] below meth c H locs (60 + 20 * t) (3000 + 1000 * t) (lw_Z below #[Value.ref b] s) (F0 m 363 ls []) := by
  obtain ⟨hx, hb, hml, hown, hts, hr, hlk, hk0, hox⟩ := id C
  have hbA : ¬ fa G b := fun h => absurd (show G.2.2.1 ≤ b from h) (by rw [hG]; omega)
  have hcl : 60 + 20 * t + 20 ≤ room_1.cells ∧ 3000 + 1000 * t + 1000 ≤ room_1.slots := ⟨by show 60 + 20 * t + 20 ≤ 603072; omega, by show 3000 + 1000 * t + 1000 ≤ 7262314; omega⟩
  obtain ⟨r, σ1, σ2, f1, f2, hI2⟩ := T.2.2.2.2.2.2.2.2.1 t σ (xs (nI (5 * t) + (1 : Int32)).toNatClampNeg) (xs (nI (5 * t) + (2 : Int32)).toNatClampNeg) (xs (nI (5 * t) + (3 : Int32)).toNatClampNeg) ht hI
  refine lv_aload_n hx hb dL_law_363 rfl (lv_at hl 1 rfl) ?_
  refine lv_aload_n hx hb dL_law_364 rfl (lv_at hl 0 rfl) ?_
  refine lv_iload_n hx hb dL_law_365 rfl (lv_at hl 3 rfl) ?_
  refine lv_iconst (v := (1 : Int32)) hx hb dL_law_366 (by decide) ?_
  refine lv_iadd hx hb dL_law_367 ?_
  refine va_sld hx hb hX hbl hbA hS (ix_in h5 hL (k := 1) (by decide)) dL_law_368 ?_
  refine lv_aload_n hx hb dL_law_369 rfl (lv_at hl 0 rfl) ?_
  refine lv_iload_n hx hb dL_law_370 rfl (lv_at hl 3 rfl) ?_
  refine lv_iconst (v := (2 : Int32)) hx hb dL_law_371 (by decide) ?_
  refine lv_iadd hx hb dL_law_372 ?_
  refine va_sld hx hb hX hbl hbA hS (ix_in h5 hL (k := 2) (by decide)) dL_law_373 ?_
  refine lv_aload_n hx hb dL_law_374 rfl (lv_at hl 0 rfl) ?_
  refine lv_iload_n hx hb dL_law_375 rfl (lv_at hl 3 rfl) ?_
  refine lv_iconst (v := (3 : Int32)) hx hb dL_law_376 (by decide) ?_
  refine lv_iadd hx hb dL_law_377 ?_
  refine va_sld hx hb hX hbl hbA hS (ix_in h5 hL (k := 3) (by decide)) dL_law_378 ?_
  refine r_callVi (R := room_1) (cells := 60 + 20 * t) (slots := 3000 + 1000 * t) (As := [.int (xs (nI (5 * t) + (1 : Int32)).toNatClampNeg), .int (xs (nI (5 * t) + (2 : Int32)).toNatClampNeg), .int (xs (nI (5 * t) + (3 : Int32)).toNatClampNeg)]) (rest := []) (i := 0) C hw hS (wi_lo (Or.inl (by decide))) rfl (ci := 0) rfl (met_X0_alter l G false q f1) (cwV 3 hts (lw_V q595 q596 q597 q57 q598) rfl rfl rfl (by decide +kernel) ⟨Nat.le_of_ble_eq_true rfl, Nat.le_of_ble_eq_true rfl⟩) rfl hl.1 rfl (Nat.le_of_ble_eq_true rfl) ⟨by omega, by omega⟩ dL_law_379 (fun H locs hw hS => ?_)
  refine lv_aload_n hx hb dL_law_382 rfl (lv_at hl 2 rfl) ?_
  refine lv_aload_n hx hb dL_law_383 rfl (lv_at hl 0 rfl) ?_
  refine lv_iload_n hx hb dL_law_384 rfl (lv_at hl 3 rfl) ?_
  refine lv_iconst (v := (1 : Int32)) hx hb dL_law_385 (by decide) ?_
  refine lv_iadd hx hb dL_law_386 ?_
  refine va_sld hx hb hX hbl hbA hS (ix_in h5 hL (k := 1) (by decide)) dL_law_387 ?_
  refine lv_aload_n hx hb dL_law_388 rfl (lv_at hl 0 rfl) ?_
  refine lv_iload_n hx hb dL_law_389 rfl (lv_at hl 3 rfl) ?_
  refine lv_iconst (v := (2 : Int32)) hx hb dL_law_390 (by decide) ?_
  refine lv_iadd hx hb dL_law_391 ?_
  refine va_sld hx hb hX hbl hbA hS (ix_in h5 hL (k := 2) (by decide)) dL_law_392 ?_
  refine lv_aload_n hx hb dL_law_393 rfl (lv_at hl 0 rfl) ?_
  refine lv_iload_n hx hb dL_law_394 rfl (lv_at hl 3 rfl) ?_
  refine lv_iconst (v := (3 : Int32)) hx hb dL_law_395 (by decide) ?_
  refine lv_iadd hx hb dL_law_396 ?_
  refine va_sld hx hb hX hbl hbA hS (ix_in h5 hL (k := 3) (by decide)) dL_law_397 ?_
  refine r_callVi (R := room_1) (cells := 60 + 20 * t + 0) (slots := 3000 + 1000 * t + 0) (As := [.int (xs (nI (5 * t) + (1 : Int32)).toNatClampNeg), .int (xs (nI (5 * t) + (2 : Int32)).toNatClampNeg), .int (xs (nI (5 * t) + (3 : Int32)).toNatClampNeg)]) (rest := [.int r]) (i := 1) C hw hS (wi_lo (Or.inl (by decide))) rfl (ci := 8) rfl (met_X8_alter l G false q f2) (cwV 3 hts (lw_V q1117 q1118 q1119 q65 q1120) rfl rfl rfl (by decide +kernel) ⟨Nat.le_of_ble_eq_true rfl, Nat.le_of_ble_eq_true rfl⟩) rfl hl.1 rfl (Nat.le_of_ble_eq_true rfl) ⟨by omega, by omega⟩ dL_law_398 (fun H locs hw hS => ?_)
  refine lv_icmp_eq (tgt := 1437) hx hb dL_law_401 (by decide) (fun _ => ?_) (fun c9 => absurd rfl c9)
  refine W.widen (k := 60 + 20 * t + 20) (n := 3000 + 1000 * t + 1000) (by omega) (by omega) ?_
  exact go q σ2 H locs ls hI2 hw hS hl
theorem w_case_8 {p : Program} {e : Env} {s : State} {m : MethodId} {below : List Frame} {meth : Method} {c : Code} {l : Launch} (hst : l.stackTraces = false) {b L : Nat} {xs : Nat → Int32} (hL : L ≤ 320) (hX : va_X b L xs s s.heap) (hbl : b < s.heap.size) {G : GG} (hG : G.2.2.1 = s.heap.size) (C : cx p s m #[Value.ref b] meth c code 4 R_law ret G) {Inv : Nat → SS → Prop} {N : Nat} (T : StepsL Inv N) {t : Nat} (ht : t < 64) (h5 : 5 * t + 5 ≤ L) (go : ∀ (q : Nat → Nat) (σ : SS) (H : Heap) (locs : List Loc) (ls : Array Slot), Inv (t + 1) σ → wx G false q σ H → va_S (fa G) s.heap H locs → lv_has ls 4 [(0, .ref b), (1, .ref (q 0)), (2, .ref (q 1)), (3, .int (nI (5 * t)))] → W p l e room_1 s m #[Value.ref b] below meth c H locs (60 + 20 * t + 20) (3000 + 1000 * t + 1000) (lw_Z below #[Value.ref b] s) (F0 m 1437 ls [])) (q : Nat → Nat) (σ : SS) (H : Heap) (locs : List Loc) (ls : Array Slot) (hI : Inv t σ) (hw : wx G false q σ H) (hS : va_S (fa G) s.heap H locs) (hl : lv_has ls 4 [(0, .ref b), (1, .ref (q 0)), (2, .ref (q 1)), (3, .int (nI (5 * t)))]) : W p l e room_1 s m #[Value.ref b] below meth c H locs (60 + 20 * t) (3000 + 1000 * t) (lw_Z below #[Value.ref b] s) (F0 m 406 ls []) := by
  obtain ⟨hx, hb, hml, hown, hts, hr, hlk, hk0, hox⟩ := id C
  have hbA : ¬ fa G b := fun h => absurd (show G.2.2.1 ≤ b from h) (by rw [hG]; omega)
  have hcl : 60 + 20 * t + 20 ≤ room_1.cells ∧ 3000 + 1000 * t + 1000 ≤ room_1.slots := ⟨by show 60 + 20 * t + 20 ≤ 603072; omega, by show 3000 + 1000 * t + 1000 ≤ 7262314; omega⟩
  obtain ⟨r, σ1, σ2, f1, f2, hI2⟩ := T.2.2.2.2.2.2.2.2.2.1 t σ (xs (nI (5 * t) + (1 : Int32)).toNatClampNeg) ht hI
  refine lv_aload_n hx hb dL_law_406 rfl (lv_at hl 1 rfl) ?_
  refine lv_aload_n hx hb dL_law_407 rfl (lv_at hl 0 rfl) ?_
  refine lv_iload_n hx hb dL_law_408 rfl (lv_at hl 3 rfl) ?_
  refine lv_iconst (v := (1 : Int32)) hx hb dL_law_409 (by decide) ?_
  refine lv_iadd hx hb dL_law_410 ?_
  refine va_sld hx hb hX hbl hbA hS (ix_in h5 hL (k := 1) (by decide)) dL_law_411 ?_
  refine r_callVi (R := room_1) (cells := 60 + 20 * t) (slots := 3000 + 1000 * t) (As := [.int (xs (nI (5 * t) + (1 : Int32)).toNatClampNeg)]) (rest := []) (i := 0) C hw hS (wi_lo (Or.inl (by decide))) rfl (ci := 0) rfl (met_X0_shaft l G false q f1) (cwV 1 hts (lw_V q607 q608 q609 q57 q610) rfl rfl rfl (by decide +kernel) ⟨Nat.le_of_ble_eq_true rfl, Nat.le_of_ble_eq_true rfl⟩) rfl hl.1 rfl (Nat.le_of_ble_eq_true rfl) ⟨by omega, by omega⟩ dL_law_412 (fun H locs hw hS => ?_)
  refine lv_aload_n hx hb dL_law_415 rfl (lv_at hl 2 rfl) ?_
  refine lv_aload_n hx hb dL_law_416 rfl (lv_at hl 0 rfl) ?_
  refine lv_iload_n hx hb dL_law_417 rfl (lv_at hl 3 rfl) ?_
  refine lv_iconst (v := (1 : Int32)) hx hb dL_law_418 (by decide) ?_
  refine lv_iadd hx hb dL_law_419 ?_
  refine va_sld hx hb hX hbl hbA hS (ix_in h5 hL (k := 1) (by decide)) dL_law_420 ?_
  refine r_callVi (R := room_1) (cells := 60 + 20 * t + 0) (slots := 3000 + 1000 * t + 0) (As := [.int (xs (nI (5 * t) + (1 : Int32)).toNatClampNeg)]) (rest := [.int r]) (i := 1) C hw hS (wi_lo (Or.inl (by decide))) rfl (ci := 8) rfl (met_X8_shaft l G false q f2) (cwV 1 hts (lw_V q1129 q1130 q1131 q65 q1132) rfl rfl rfl (by decide +kernel) ⟨Nat.le_of_ble_eq_true rfl, Nat.le_of_ble_eq_true rfl⟩) rfl hl.1 rfl (Nat.le_of_ble_eq_true rfl) ⟨by omega, by omega⟩ dL_law_421 (fun H locs hw hS => ?_)
  refine lv_icmp_eq (tgt := 1437) hx hb dL_law_424 (by decide) (fun _ => ?_) (fun c9 => absurd rfl c9)
  refine W.widen (k := 60 + 20 * t + 20) (n := 3000 + 1000 * t + 1000) (by omega) (by omega) ?_
  exact go q σ2 H locs ls hI2 hw hS hl
theorem w_case_9 {p : Program} {e : Env} {s : State} {m : MethodId} {below : List Frame} {meth : Method} {c : Code} {l : Launch} (hst : l.stackTraces = false) {b L : Nat} {xs : Nat → Int32} (hL : L ≤ 320) (hX : va_X b L xs s s.heap) (hbl : b < s.heap.size) {G : GG} (hG : G.2.2.1 = s.heap.size) (C : cx p s m #[Value.ref b] meth c code 4 R_law ret G) {Inv : Nat → SS → Prop} {N : Nat} (T : StepsL Inv N) {t : Nat} (ht : t < 64) (h5 : 5 * t + 5 ≤ L) (go : ∀ (q : Nat → Nat) (σ : SS) (H : Heap) (locs : List Loc) (ls : Array Slot), Inv (t + 1) σ → wx G false q σ H → va_S (fa G) s.heap H locs → lv_has ls 4 [(0, .ref b), (1, .ref (q 0)), (2, .ref (q 1)), (3, .int (nI (5 * t)))] → W p l e room_1 s m #[Value.ref b] below meth c H locs (60 + 20 * t + 20) (3000 + 1000 * t + 1000) (lw_Z below #[Value.ref b] s) (F0 m 1437 ls [])) (q : Nat → Nat) (σ : SS) (H : Heap) (locs : List Loc) (ls : Array Slot) (hI : Inv t σ) (hw : wx G false q σ H) (hS : va_S (fa G) s.heap H locs) (hl : lv_has ls 4 [(0, .ref b), (1, .ref (q 0)), (2, .ref (q 1)), (3, .int (nI (5 * t)))]) : W p l e room_1 s m #[Value.ref b] below meth c H locs (60 + 20 * t) (3000 + 1000 * t) (lw_Z below #[Value.ref b] s) (F0 m 429 ls []) := by
  obtain ⟨hx, hb, hml, hown, hts, hr, hlk, hk0, hox⟩ := id C
  have hbA : ¬ fa G b := fun h => absurd (show G.2.2.1 ≤ b from h) (by rw [hG]; omega)
  have hcl : 60 + 20 * t + 20 ≤ room_1.cells ∧ 3000 + 1000 * t + 1000 ≤ room_1.slots := ⟨by show 60 + 20 * t + 20 ≤ 603072; omega, by show 3000 + 1000 * t + 1000 ≤ 7262314; omega⟩
  obtain ⟨r, σ1, σ2, f1, f2, hI2⟩ := T.2.2.2.2.2.2.2.2.2.2.1 t σ (xs (nI (5 * t) + (1 : Int32)).toNatClampNeg) (xs (nI (5 * t) + (2 : Int32)).toNatClampNeg) (xs (nI (5 * t) + (3 : Int32)).toNatClampNeg) ht hI
  refine lv_aload_n hx hb dL_law_429 rfl (lv_at hl 1 rfl) ?_
  refine lv_aload_n hx hb dL_law_430 rfl (lv_at hl 0 rfl) ?_
  refine lv_iload_n hx hb dL_law_431 rfl (lv_at hl 3 rfl) ?_
  refine lv_iconst (v := (1 : Int32)) hx hb dL_law_432 (by decide) ?_
  refine lv_iadd hx hb dL_law_433 ?_
  refine va_sld hx hb hX hbl hbA hS (ix_in h5 hL (k := 1) (by decide)) dL_law_434 ?_
  refine lv_aload_n hx hb dL_law_435 rfl (lv_at hl 0 rfl) ?_
  refine lv_iload_n hx hb dL_law_436 rfl (lv_at hl 3 rfl) ?_
  refine lv_iconst (v := (2 : Int32)) hx hb dL_law_437 (by decide) ?_
  refine lv_iadd hx hb dL_law_438 ?_
  refine va_sld hx hb hX hbl hbA hS (ix_in h5 hL (k := 2) (by decide)) dL_law_439 ?_
  refine lv_aload_n hx hb dL_law_440 rfl (lv_at hl 0 rfl) ?_
  refine lv_iload_n hx hb dL_law_441 rfl (lv_at hl 3 rfl) ?_
  refine lv_iconst (v := (3 : Int32)) hx hb dL_law_442 (by decide) ?_
  refine lv_iadd hx hb dL_law_443 ?_
  refine va_sld hx hb hX hbl hbA hS (ix_in h5 hL (k := 3) (by decide)) dL_law_444 ?_
  refine r_callVi (R := room_1) (cells := 60 + 20 * t) (slots := 3000 + 1000 * t) (As := [.int (xs (nI (5 * t) + (1 : Int32)).toNatClampNeg), .int (xs (nI (5 * t) + (2 : Int32)).toNatClampNeg), .int (xs (nI (5 * t) + (3 : Int32)).toNatClampNeg)]) (rest := []) (i := 0) C hw hS (wi_lo (Or.inl (by decide))) rfl (ci := 0) rfl (met_X0_put l G false q f1) (cwV 3 hts (lw_V q611 q612 q613 q57 q614) rfl rfl rfl (by decide +kernel) ⟨Nat.le_of_ble_eq_true rfl, Nat.le_of_ble_eq_true rfl⟩) rfl hl.1 rfl (Nat.le_of_ble_eq_true rfl) ⟨by omega, by omega⟩ dL_law_445 (fun H locs hw hS => ?_)
  refine lv_aload_n hx hb dL_law_448 rfl (lv_at hl 2 rfl) ?_
  refine lv_aload_n hx hb dL_law_449 rfl (lv_at hl 0 rfl) ?_
  refine lv_iload_n hx hb dL_law_450 rfl (lv_at hl 3 rfl) ?_
  refine lv_iconst (v := (1 : Int32)) hx hb dL_law_451 (by decide) ?_
  refine lv_iadd hx hb dL_law_452 ?_
  refine va_sld hx hb hX hbl hbA hS (ix_in h5 hL (k := 1) (by decide)) dL_law_453 ?_
  refine lv_aload_n hx hb dL_law_454 rfl (lv_at hl 0 rfl) ?_
  refine lv_iload_n hx hb dL_law_455 rfl (lv_at hl 3 rfl) ?_
  refine lv_iconst (v := (2 : Int32)) hx hb dL_law_456 (by decide) ?_
  refine lv_iadd hx hb dL_law_457 ?_
  refine va_sld hx hb hX hbl hbA hS (ix_in h5 hL (k := 2) (by decide)) dL_law_458 ?_
  refine lv_aload_n hx hb dL_law_459 rfl (lv_at hl 0 rfl) ?_
  refine lv_iload_n hx hb dL_law_460 rfl (lv_at hl 3 rfl) ?_
  refine lv_iconst (v := (3 : Int32)) hx hb dL_law_461 (by decide) ?_
  refine lv_iadd hx hb dL_law_462 ?_
  refine va_sld hx hb hX hbl hbA hS (ix_in h5 hL (k := 3) (by decide)) dL_law_463 ?_
  refine r_callVi (R := room_1) (cells := 60 + 20 * t + 0) (slots := 3000 + 1000 * t + 0) (As := [.int (xs (nI (5 * t) + (1 : Int32)).toNatClampNeg), .int (xs (nI (5 * t) + (2 : Int32)).toNatClampNeg), .int (xs (nI (5 * t) + (3 : Int32)).toNatClampNeg)]) (rest := [.int r]) (i := 1) C hw hS (wi_lo (Or.inl (by decide))) rfl (ci := 8) rfl (met_X8_put l G false q f2) (cwV 3 hts (lw_V q1133 q1134 q1135 q65 q1136) rfl rfl rfl (by decide +kernel) ⟨Nat.le_of_ble_eq_true rfl, Nat.le_of_ble_eq_true rfl⟩) rfl hl.1 rfl (Nat.le_of_ble_eq_true rfl) ⟨by omega, by omega⟩ dL_law_464 (fun H locs hw hS => ?_)
  refine lv_icmp_eq (tgt := 1437) hx hb dL_law_467 (by decide) (fun _ => ?_) (fun c9 => absurd rfl c9)
  refine W.widen (k := 60 + 20 * t + 20) (n := 3000 + 1000 * t + 1000) (by omega) (by omega) ?_
  exact go q σ2 H locs ls hI2 hw hS hl
theorem w_case_10 {p : Program} {e : Env} {s : State} {m : MethodId} {below : List Frame} {meth : Method} {c : Code} {l : Launch} (hst : l.stackTraces = false) {b L : Nat} {xs : Nat → Int32} (hL : L ≤ 320) (hX : va_X b L xs s s.heap) (hbl : b < s.heap.size) {G : GG} (hG : G.2.2.1 = s.heap.size) (C : cx p s m #[Value.ref b] meth c code 4 R_law ret G) {Inv : Nat → SS → Prop} {N : Nat} (T : StepsL Inv N) {t : Nat} (ht : t < 64) (h5 : 5 * t + 5 ≤ L) (go : ∀ (q : Nat → Nat) (σ : SS) (H : Heap) (locs : List Loc) (ls : Array Slot), Inv (t + 1) σ → wx G false q σ H → va_S (fa G) s.heap H locs → lv_has ls 4 [(0, .ref b), (1, .ref (q 0)), (2, .ref (q 1)), (3, .int (nI (5 * t)))] → W p l e room_1 s m #[Value.ref b] below meth c H locs (60 + 20 * t + 20) (3000 + 1000 * t + 1000) (lw_Z below #[Value.ref b] s) (F0 m 1437 ls [])) (q : Nat → Nat) (σ : SS) (H : Heap) (locs : List Loc) (ls : Array Slot) (hI : Inv t σ) (hw : wx G false q σ H) (hS : va_S (fa G) s.heap H locs) (hl : lv_has ls 4 [(0, .ref b), (1, .ref (q 0)), (2, .ref (q 1)), (3, .int (nI (5 * t)))]) : W p l e room_1 s m #[Value.ref b] below meth c H locs (60 + 20 * t) (3000 + 1000 * t) (lw_Z below #[Value.ref b] s) (F0 m 472 ls []) := by
  obtain ⟨hx, hb, hml, hown, hts, hr, hlk, hk0, hox⟩ := id C
  have hbA : ¬ fa G b := fun h => absurd (show G.2.2.1 ≤ b from h) (by rw [hG]; omega)
  have hcl : 60 + 20 * t + 20 ≤ room_1.cells ∧ 3000 + 1000 * t + 1000 ≤ room_1.slots := ⟨by show 60 + 20 * t + 20 ≤ 603072; omega, by show 3000 + 1000 * t + 1000 ≤ 7262314; omega⟩
  obtain ⟨r, σ1, σ2, f1, f2, hI2⟩ := T.2.2.2.2.2.2.2.2.2.2.2.1 t σ (xs (nI (5 * t) + (1 : Int32)).toNatClampNeg) ht hI
  refine lv_aload_n hx hb dL_law_472 rfl (lv_at hl 1 rfl) ?_
  refine lv_aload_n hx hb dL_law_473 rfl (lv_at hl 0 rfl) ?_
  refine lv_iload_n hx hb dL_law_474 rfl (lv_at hl 3 rfl) ?_
  refine lv_iconst (v := (1 : Int32)) hx hb dL_law_475 (by decide) ?_
  refine lv_iadd hx hb dL_law_476 ?_
  refine va_sld hx hb hX hbl hbA hS (ix_in h5 hL (k := 1) (by decide)) dL_law_477 ?_
  refine r_callVi (R := room_1) (cells := 60 + 20 * t) (slots := 3000 + 1000 * t) (As := [.int (xs (nI (5 * t) + (1 : Int32)).toNatClampNeg)]) (rest := []) (i := 0) C hw hS (wi_lo (Or.inl (by decide))) rfl (ci := 0) rfl (met_X0_cut l G false q f1) (cwV 1 hts (lw_V q616 q617 q618 q57 q619) rfl rfl rfl (by decide +kernel) ⟨Nat.le_of_ble_eq_true rfl, Nat.le_of_ble_eq_true rfl⟩) rfl hl.1 rfl (Nat.le_of_ble_eq_true rfl) ⟨by omega, by omega⟩ dL_law_478 (fun H locs hw hS => ?_)
  refine lv_aload_n hx hb dL_law_481 rfl (lv_at hl 2 rfl) ?_
  refine lv_aload_n hx hb dL_law_482 rfl (lv_at hl 0 rfl) ?_
  refine lv_iload_n hx hb dL_law_483 rfl (lv_at hl 3 rfl) ?_
  refine lv_iconst (v := (1 : Int32)) hx hb dL_law_484 (by decide) ?_
  refine lv_iadd hx hb dL_law_485 ?_
  refine va_sld hx hb hX hbl hbA hS (ix_in h5 hL (k := 1) (by decide)) dL_law_486 ?_
  refine r_callVi (R := room_1) (cells := 60 + 20 * t + 0) (slots := 3000 + 1000 * t + 0) (As := [.int (xs (nI (5 * t) + (1 : Int32)).toNatClampNeg)]) (rest := [.int r]) (i := 1) C hw hS (wi_lo (Or.inl (by decide))) rfl (ci := 8) rfl (met_X8_cut l G false q f2) (cwV 1 hts (lw_V q1137 q1138 q1139 q65 q1140) rfl rfl rfl (by decide +kernel) ⟨Nat.le_of_ble_eq_true rfl, Nat.le_of_ble_eq_true rfl⟩) rfl hl.1 rfl (Nat.le_of_ble_eq_true rfl) ⟨by omega, by omega⟩ dL_law_487 (fun H locs hw hS => ?_)
  refine lv_icmp_eq (tgt := 1437) hx hb dL_law_490 (by decide) (fun _ => ?_) (fun c9 => absurd rfl c9)
  refine W.widen (k := 60 + 20 * t + 20) (n := 3000 + 1000 * t + 1000) (by omega) (by omega) ?_
  exact go q σ2 H locs ls hI2 hw hS hl
theorem w_case_11 {p : Program} {e : Env} {s : State} {m : MethodId} {below : List Frame} {meth : Method} {c : Code} {l : Launch} (hst : l.stackTraces = false) {b L : Nat} {xs : Nat → Int32} (hL : L ≤ 320) (hX : va_X b L xs s s.heap) (hbl : b < s.heap.size) {G : GG} (hG : G.2.2.1 = s.heap.size) (C : cx p s m #[Value.ref b] meth c code 4 R_law ret G) {Inv : Nat → SS → Prop} {N : Nat} (T : StepsL Inv N) {t : Nat} (ht : t < 64) (h5 : 5 * t + 5 ≤ L) (go : ∀ (q : Nat → Nat) (σ : SS) (H : Heap) (locs : List Loc) (ls : Array Slot), Inv (t + 1) σ → wx G false q σ H → va_S (fa G) s.heap H locs → lv_has ls 4 [(0, .ref b), (1, .ref (q 0)), (2, .ref (q 1)), (3, .int (nI (5 * t)))] → W p l e room_1 s m #[Value.ref b] below meth c H locs (60 + 20 * t + 20) (3000 + 1000 * t + 1000) (lw_Z below #[Value.ref b] s) (F0 m 1437 ls [])) (q : Nat → Nat) (σ : SS) (H : Heap) (locs : List Loc) (ls : Array Slot) (hI : Inv t σ) (hw : wx G false q σ H) (hS : va_S (fa G) s.heap H locs) (hl : lv_has ls 4 [(0, .ref b), (1, .ref (q 0)), (2, .ref (q 1)), (3, .int (nI (5 * t)))]) : W p l e room_1 s m #[Value.ref b] below meth c H locs (60 + 20 * t) (3000 + 1000 * t) (lw_Z below #[Value.ref b] s) (F0 m 495 ls []) := by
  obtain ⟨hx, hb, hml, hown, hts, hr, hlk, hk0, hox⟩ := id C
  have hbA : ¬ fa G b := fun h => absurd (show G.2.2.1 ≤ b from h) (by rw [hG]; omega)
  have hcl : 60 + 20 * t + 20 ≤ room_1.cells ∧ 3000 + 1000 * t + 1000 ≤ room_1.slots := ⟨by show 60 + 20 * t + 20 ≤ 603072; omega, by show 3000 + 1000 * t + 1000 ≤ 7262314; omega⟩
  obtain ⟨r, σ1, σ2, f1, f2, hI2⟩ := T.2.2.2.2.2.2.2.2.2.2.2.2.1 t σ (xs (nI (5 * t) + (1 : Int32)).toNatClampNeg) (xs (nI (5 * t) + (2 : Int32)).toNatClampNeg) ht hI
  refine lv_aload_n hx hb dL_law_495 rfl (lv_at hl 1 rfl) ?_
  refine lv_aload_n hx hb dL_law_496 rfl (lv_at hl 0 rfl) ?_
  refine lv_iload_n hx hb dL_law_497 rfl (lv_at hl 3 rfl) ?_
  refine lv_iconst (v := (1 : Int32)) hx hb dL_law_498 (by decide) ?_
  refine lv_iadd hx hb dL_law_499 ?_
  refine va_sld hx hb hX hbl hbA hS (ix_in h5 hL (k := 1) (by decide)) dL_law_500 ?_
  refine lv_aload_n hx hb dL_law_501 rfl (lv_at hl 0 rfl) ?_
  refine lv_iload_n hx hb dL_law_502 rfl (lv_at hl 3 rfl) ?_
  refine lv_iconst (v := (2 : Int32)) hx hb dL_law_503 (by decide) ?_
  refine lv_iadd hx hb dL_law_504 ?_
  refine va_sld hx hb hX hbl hbA hS (ix_in h5 hL (k := 2) (by decide)) dL_law_505 ?_
  refine r_callVi (R := room_1) (cells := 60 + 20 * t) (slots := 3000 + 1000 * t) (As := [.int (xs (nI (5 * t) + (1 : Int32)).toNatClampNeg), .int (xs (nI (5 * t) + (2 : Int32)).toNatClampNeg)]) (rest := []) (i := 0) C hw hS (wi_lo (Or.inl (by decide))) rfl (ci := 0) rfl (met_X0_set l G false q f1) (cwV 2 hts (lw_V q620 q621 q622 q57 q623) rfl rfl rfl (by decide +kernel) ⟨Nat.le_of_ble_eq_true rfl, Nat.le_of_ble_eq_true rfl⟩) rfl hl.1 rfl (Nat.le_of_ble_eq_true rfl) ⟨by omega, by omega⟩ dL_law_506 (fun H locs hw hS => ?_)
  refine lv_aload_n hx hb dL_law_509 rfl (lv_at hl 2 rfl) ?_
  refine lv_aload_n hx hb dL_law_510 rfl (lv_at hl 0 rfl) ?_
  refine lv_iload_n hx hb dL_law_511 rfl (lv_at hl 3 rfl) ?_
  refine lv_iconst (v := (1 : Int32)) hx hb dL_law_512 (by decide) ?_
  refine lv_iadd hx hb dL_law_513 ?_
  refine va_sld hx hb hX hbl hbA hS (ix_in h5 hL (k := 1) (by decide)) dL_law_514 ?_
  refine lv_aload_n hx hb dL_law_515 rfl (lv_at hl 0 rfl) ?_
  refine lv_iload_n hx hb dL_law_516 rfl (lv_at hl 3 rfl) ?_
  refine lv_iconst (v := (2 : Int32)) hx hb dL_law_517 (by decide) ?_
  refine lv_iadd hx hb dL_law_518 ?_
  refine va_sld hx hb hX hbl hbA hS (ix_in h5 hL (k := 2) (by decide)) dL_law_519 ?_
  refine r_callVi (R := room_1) (cells := 60 + 20 * t + 0) (slots := 3000 + 1000 * t + 0) (As := [.int (xs (nI (5 * t) + (1 : Int32)).toNatClampNeg), .int (xs (nI (5 * t) + (2 : Int32)).toNatClampNeg)]) (rest := [.int r]) (i := 1) C hw hS (wi_lo (Or.inl (by decide))) rfl (ci := 8) rfl (met_X8_set l G false q f2) (cwV 2 hts (lw_V q1141 q1142 q1143 q65 q1144) rfl rfl rfl (by decide +kernel) ⟨Nat.le_of_ble_eq_true rfl, Nat.le_of_ble_eq_true rfl⟩) rfl hl.1 rfl (Nat.le_of_ble_eq_true rfl) ⟨by omega, by omega⟩ dL_law_520 (fun H locs hw hS => ?_)
  refine lv_icmp_eq (tgt := 1437) hx hb dL_law_523 (by decide) (fun _ => ?_) (fun c9 => absurd rfl c9)
  refine W.widen (k := 60 + 20 * t + 20) (n := 3000 + 1000 * t + 1000) (by omega) (by omega) ?_
  exact go q σ2 H locs ls hI2 hw hS hl
theorem w_case_12 {p : Program} {e : Env} {s : State} {m : MethodId} {below : List Frame} {meth : Method} {c : Code} {l : Launch} (hst : l.stackTraces = false) {b L : Nat} {xs : Nat → Int32} (hL : L ≤ 320) (hX : va_X b L xs s s.heap) (hbl : b < s.heap.size) {G : GG} (hG : G.2.2.1 = s.heap.size) (C : cx p s m #[Value.ref b] meth c code 4 R_law ret G) {Inv : Nat → SS → Prop} {N : Nat} (T : StepsL Inv N) {t : Nat} (ht : t < 64) (h5 : 5 * t + 5 ≤ L) (go : ∀ (q : Nat → Nat) (σ : SS) (H : Heap) (locs : List Loc) (ls : Array Slot), Inv (t + 1) σ → wx G false q σ H → va_S (fa G) s.heap H locs → lv_has ls 4 [(0, .ref b), (1, .ref (q 0)), (2, .ref (q 1)), (3, .int (nI (5 * t)))] → W p l e room_1 s m #[Value.ref b] below meth c H locs (60 + 20 * t + 20) (3000 + 1000 * t + 1000) (lw_Z below #[Value.ref b] s) (F0 m 1437 ls [])) (q : Nat → Nat) (σ : SS) (H : Heap) (locs : List Loc) (ls : Array Slot) (hI : Inv t σ) (hw : wx G false q σ H) (hS : va_S (fa G) s.heap H locs) (hl : lv_has ls 4 [(0, .ref b), (1, .ref (q 0)), (2, .ref (q 1)), (3, .int (nI (5 * t)))]) : W p l e room_1 s m #[Value.ref b] below meth c H locs (60 + 20 * t) (3000 + 1000 * t) (lw_Z below #[Value.ref b] s) (F0 m 528 ls []) := by
  obtain ⟨hx, hb, hml, hown, hts, hr, hlk, hk0, hox⟩ := id C
  have hbA : ¬ fa G b := fun h => absurd (show G.2.2.1 ≤ b from h) (by rw [hG]; omega)
  have hcl : 60 + 20 * t + 20 ≤ room_1.cells ∧ 3000 + 1000 * t + 1000 ≤ room_1.slots := ⟨by show 60 + 20 * t + 20 ≤ 603072; omega, by show 3000 + 1000 * t + 1000 ≤ 7262314; omega⟩
  obtain ⟨r, σ1, σ2, f1, f2, hI2⟩ := T.2.2.2.2.2.2.2.2.2.2.2.2.2.1 t σ (xs (nI (5 * t) + (1 : Int32)).toNatClampNeg) ht hI
  refine lv_aload_n hx hb dL_law_528 rfl (lv_at hl 1 rfl) ?_
  refine lv_aload_n hx hb dL_law_529 rfl (lv_at hl 0 rfl) ?_
  refine lv_iload_n hx hb dL_law_530 rfl (lv_at hl 3 rfl) ?_
  refine lv_iconst (v := (1 : Int32)) hx hb dL_law_531 (by decide) ?_
  refine lv_iadd hx hb dL_law_532 ?_
  refine va_sld hx hb hX hbl hbA hS (ix_in h5 hL (k := 1) (by decide)) dL_law_533 ?_
  refine r_callVi (R := room_1) (cells := 60 + 20 * t) (slots := 3000 + 1000 * t) (As := [.int (xs (nI (5 * t) + (1 : Int32)).toNatClampNeg)]) (rest := []) (i := 0) C hw hS (wi_lo (Or.inl (by decide))) rfl (ci := 0) rfl (met_X0_add l G false q f1) (cwV 1 hts (lw_V q628 q629 q630 q57 q631) rfl rfl rfl (by decide +kernel) ⟨Nat.le_of_ble_eq_true rfl, Nat.le_of_ble_eq_true rfl⟩) rfl hl.1 rfl (Nat.le_of_ble_eq_true rfl) ⟨by omega, by omega⟩ dL_law_534 (fun H locs hw hS => ?_)
  refine lv_aload_n hx hb dL_law_537 rfl (lv_at hl 2 rfl) ?_
  refine lv_aload_n hx hb dL_law_538 rfl (lv_at hl 0 rfl) ?_
  refine lv_iload_n hx hb dL_law_539 rfl (lv_at hl 3 rfl) ?_
  refine lv_iconst (v := (1 : Int32)) hx hb dL_law_540 (by decide) ?_
  refine lv_iadd hx hb dL_law_541 ?_
  refine va_sld hx hb hX hbl hbA hS (ix_in h5 hL (k := 1) (by decide)) dL_law_542 ?_
  refine r_callVi (R := room_1) (cells := 60 + 20 * t + 0) (slots := 3000 + 1000 * t + 0) (As := [.int (xs (nI (5 * t) + (1 : Int32)).toNatClampNeg)]) (rest := [.int r]) (i := 1) C hw hS (wi_lo (Or.inl (by decide))) rfl (ci := 8) rfl (met_X8_add l G false q f2) (cwV 1 hts (lw_V q1146 q1147 q1148 q65 q1149) rfl rfl rfl (by decide +kernel) ⟨Nat.le_of_ble_eq_true rfl, Nat.le_of_ble_eq_true rfl⟩) rfl hl.1 rfl (Nat.le_of_ble_eq_true rfl) ⟨by omega, by omega⟩ dL_law_543 (fun H locs hw hS => ?_)
  refine lv_icmp_eq (tgt := 1437) hx hb dL_law_546 (by decide) (fun _ => ?_) (fun c9 => absurd rfl c9)
  refine W.widen (k := 60 + 20 * t + 20) (n := 3000 + 1000 * t + 1000) (by omega) (by omega) ?_
  exact go q σ2 H locs ls hI2 hw hS hl
theorem w_case_13 {p : Program} {e : Env} {s : State} {m : MethodId} {below : List Frame} {meth : Method} {c : Code} {l : Launch} (hst : l.stackTraces = false) {b L : Nat} {xs : Nat → Int32} (hL : L ≤ 320) (hX : va_X b L xs s s.heap) (hbl : b < s.heap.size) {G : GG} (hG : G.2.2.1 = s.heap.size) (C : cx p s m #[Value.ref b] meth c code 4 R_law ret G) {Inv : Nat → SS → Prop} {N : Nat} (T : StepsL Inv N) {t : Nat} (ht : t < 64) (h5 : 5 * t + 5 ≤ L) (go : ∀ (q : Nat → Nat) (σ : SS) (H : Heap) (locs : List Loc) (ls : Array Slot), Inv (t + 1) σ → wx G false q σ H → va_S (fa G) s.heap H locs → lv_has ls 4 [(0, .ref b), (1, .ref (q 0)), (2, .ref (q 1)), (3, .int (nI (5 * t)))] → W p l e room_1 s m #[Value.ref b] below meth c H locs (60 + 20 * t + 20) (3000 + 1000 * t + 1000) (lw_Z below #[Value.ref b] s) (F0 m 1437 ls [])) (q : Nat → Nat) (σ : SS) (H : Heap) (locs : List Loc) (ls : Array Slot) (hI : Inv t σ) (hw : wx G false q σ H) (hS : va_S (fa G) s.heap H locs) (hl : lv_has ls 4 [(0, .ref b), (1, .ref (q 0)), (2, .ref (q 1)), (3, .int (nI (5 * t)))]) : W p l e room_1 s m #[Value.ref b] below meth c H locs (60 + 20 * t) (3000 + 1000 * t) (lw_Z below #[Value.ref b] s) (F0 m 551 ls []) := by
  obtain ⟨hx, hb, hml, hown, hts, hr, hlk, hk0, hox⟩ := id C
  have hbA : ¬ fa G b := fun h => absurd (show G.2.2.1 ≤ b from h) (by rw [hG]; omega)
  have hcl : 60 + 20 * t + 20 ≤ room_1.cells ∧ 3000 + 1000 * t + 1000 ≤ room_1.slots := ⟨by show 60 + 20 * t + 20 ≤ 603072; omega, by show 3000 + 1000 * t + 1000 ≤ 7262314; omega⟩
  obtain ⟨r, σ1, σ2, f1, f2, hI2⟩ := T.2.2.2.2.2.2.2.2.2.2.2.2.2.2.1 t σ (xs (nI (5 * t) + (1 : Int32)).toNatClampNeg) ht hI
  refine lv_aload_n hx hb dL_law_551 rfl (lv_at hl 1 rfl) ?_
  refine lv_aload_n hx hb dL_law_552 rfl (lv_at hl 0 rfl) ?_
  refine lv_iload_n hx hb dL_law_553 rfl (lv_at hl 3 rfl) ?_
  refine lv_iconst (v := (1 : Int32)) hx hb dL_law_554 (by decide) ?_
  refine lv_iadd hx hb dL_law_555 ?_
  refine va_sld hx hb hX hbl hbA hS (ix_in h5 hL (k := 1) (by decide)) dL_law_556 ?_
  refine r_callVi (R := room_1) (cells := 60 + 20 * t) (slots := 3000 + 1000 * t) (As := [.int (xs (nI (5 * t) + (1 : Int32)).toNatClampNeg)]) (rest := []) (i := 0) C hw hS (wi_lo (Or.inl (by decide))) rfl (ci := 0) rfl (met_X0_drop l G false q f1) (cwV 1 hts (lw_V q632 q633 q634 q57 q635) rfl rfl rfl (by decide +kernel) ⟨Nat.le_of_ble_eq_true rfl, Nat.le_of_ble_eq_true rfl⟩) rfl hl.1 rfl (Nat.le_of_ble_eq_true rfl) ⟨by omega, by omega⟩ dL_law_557 (fun H locs hw hS => ?_)
  refine lv_aload_n hx hb dL_law_560 rfl (lv_at hl 2 rfl) ?_
  refine lv_aload_n hx hb dL_law_561 rfl (lv_at hl 0 rfl) ?_
  refine lv_iload_n hx hb dL_law_562 rfl (lv_at hl 3 rfl) ?_
  refine lv_iconst (v := (1 : Int32)) hx hb dL_law_563 (by decide) ?_
  refine lv_iadd hx hb dL_law_564 ?_
  refine va_sld hx hb hX hbl hbA hS (ix_in h5 hL (k := 1) (by decide)) dL_law_565 ?_
  refine r_callVi (R := room_1) (cells := 60 + 20 * t + 0) (slots := 3000 + 1000 * t + 0) (As := [.int (xs (nI (5 * t) + (1 : Int32)).toNatClampNeg)]) (rest := [.int r]) (i := 1) C hw hS (wi_lo (Or.inl (by decide))) rfl (ci := 8) rfl (met_X8_drop l G false q f2) (cwV 1 hts (lw_V q1154 q1155 q1156 q65 q1157) rfl rfl rfl (by decide +kernel) ⟨Nat.le_of_ble_eq_true rfl, Nat.le_of_ble_eq_true rfl⟩) rfl hl.1 rfl (Nat.le_of_ble_eq_true rfl) ⟨by omega, by omega⟩ dL_law_566 (fun H locs hw hS => ?_)
  refine lv_icmp_eq (tgt := 1437) hx hb dL_law_569 (by decide) (fun _ => ?_) (fun c9 => absurd rfl c9)
  refine W.widen (k := 60 + 20 * t + 20) (n := 3000 + 1000 * t + 1000) (by omega) (by omega) ?_
  exact go q σ2 H locs ls hI2 hw hS hl
theorem w_case_14 {p : Program} {e : Env} {s : State} {m : MethodId} {below : List Frame} {meth : Method} {c : Code} {l : Launch} (hst : l.stackTraces = false) {b L : Nat} {xs : Nat → Int32} (hL : L ≤ 320) (hX : va_X b L xs s s.heap) (hbl : b < s.heap.size) {G : GG} (hG : G.2.2.1 = s.heap.size) (C : cx p s m #[Value.ref b] meth c code 4 R_law ret G) {Inv : Nat → SS → Prop} {N : Nat} (T : StepsL Inv N) {t : Nat} (ht : t < 64) (h5 : 5 * t + 5 ≤ L) (go : ∀ (q : Nat → Nat) (σ : SS) (H : Heap) (locs : List Loc) (ls : Array Slot), Inv (t + 1) σ → wx G false q σ H → va_S (fa G) s.heap H locs → lv_has ls 4 [(0, .ref b), (1, .ref (q 0)), (2, .ref (q 1)), (3, .int (nI (5 * t)))] → W p l e room_1 s m #[Value.ref b] below meth c H locs (60 + 20 * t + 20) (3000 + 1000 * t + 1000) (lw_Z below #[Value.ref b] s) (F0 m 1437 ls [])) (q : Nat → Nat) (σ : SS) (H : Heap) (locs : List Loc) (ls : Array Slot) (hI : Inv t σ) (hw : wx G false q σ H) (hS : va_S (fa G) s.heap H locs) (hl : lv_has ls 4 [(0, .ref b), (1, .ref (q 0)), (2, .ref (q 1)), (3, .int (nI (5 * t)))]) : W p l e room_1 s m #[Value.ref b] below meth c H locs (60 + 20 * t) (3000 + 1000 * t) (lw_Z below #[Value.ref b] s) (F0 m 574 ls []) := by
  obtain ⟨hx, hb, hml, hown, hts, hr, hlk, hk0, hox⟩ := id C
  have hbA : ¬ fa G b := fun h => absurd (show G.2.2.1 ≤ b from h) (by rw [hG]; omega)
  have hcl : 60 + 20 * t + 20 ≤ room_1.cells ∧ 3000 + 1000 * t + 1000 ≤ room_1.slots := ⟨by show 60 + 20 * t + 20 ≤ 603072; omega, by show 3000 + 1000 * t + 1000 ≤ 7262314; omega⟩
  obtain ⟨r, σ1, σ2, f1, f2, hI2⟩ := T.2.2.2.2.2.2.2.2.2.2.2.2.2.2.2.1 t σ (xs (nI (5 * t) + (1 : Int32)).toNatClampNeg) ht hI
  refine lv_aload_n hx hb dL_law_574 rfl (lv_at hl 1 rfl) ?_
  refine lv_aload_n hx hb dL_law_575 rfl (lv_at hl 0 rfl) ?_
  refine lv_iload_n hx hb dL_law_576 rfl (lv_at hl 3 rfl) ?_
  refine lv_iconst (v := (1 : Int32)) hx hb dL_law_577 (by decide) ?_
  refine lv_iadd hx hb dL_law_578 ?_
  refine va_sld hx hb hX hbl hbA hS (ix_in h5 hL (k := 1) (by decide)) dL_law_579 ?_
  refine r_callVi (R := room_1) (cells := 60 + 20 * t) (slots := 3000 + 1000 * t) (As := [.int (xs (nI (5 * t) + (1 : Int32)).toNatClampNeg)]) (rest := []) (i := 0) C hw hS (wi_lo (Or.inl (by decide))) rfl (ci := 0) rfl (met_X0_turn l G false q f1) (cwV 1 hts (lw_V q636 q637 q638 q57 q639) rfl rfl rfl (by decide +kernel) ⟨Nat.le_of_ble_eq_true rfl, Nat.le_of_ble_eq_true rfl⟩) rfl hl.1 rfl (Nat.le_of_ble_eq_true rfl) ⟨by omega, by omega⟩ dL_law_580 (fun H locs hw hS => ?_)
  refine lv_aload_n hx hb dL_law_583 rfl (lv_at hl 2 rfl) ?_
  refine lv_aload_n hx hb dL_law_584 rfl (lv_at hl 0 rfl) ?_
  refine lv_iload_n hx hb dL_law_585 rfl (lv_at hl 3 rfl) ?_
  refine lv_iconst (v := (1 : Int32)) hx hb dL_law_586 (by decide) ?_
  refine lv_iadd hx hb dL_law_587 ?_
  refine va_sld hx hb hX hbl hbA hS (ix_in h5 hL (k := 1) (by decide)) dL_law_588 ?_
  refine r_callVi (R := room_1) (cells := 60 + 20 * t + 0) (slots := 3000 + 1000 * t + 0) (As := [.int (xs (nI (5 * t) + (1 : Int32)).toNatClampNeg)]) (rest := [.int r]) (i := 1) C hw hS (wi_lo (Or.inl (by decide))) rfl (ci := 8) rfl (met_X8_turn l G false q f2) (cwV 1 hts (lw_V q1158 q1159 q1160 q65 q1161) rfl rfl rfl (by decide +kernel) ⟨Nat.le_of_ble_eq_true rfl, Nat.le_of_ble_eq_true rfl⟩) rfl hl.1 rfl (Nat.le_of_ble_eq_true rfl) ⟨by omega, by omega⟩ dL_law_589 (fun H locs hw hS => ?_)
  refine lv_icmp_eq (tgt := 1437) hx hb dL_law_592 (by decide) (fun _ => ?_) (fun c9 => absurd rfl c9)
  refine W.widen (k := 60 + 20 * t + 20) (n := 3000 + 1000 * t + 1000) (by omega) (by omega) ?_
  exact go q σ2 H locs ls hI2 hw hS hl
theorem w_case_15 {p : Program} {e : Env} {s : State} {m : MethodId} {below : List Frame} {meth : Method} {c : Code} {l : Launch} (hst : l.stackTraces = false) {b L : Nat} {xs : Nat → Int32} (hL : L ≤ 320) (hX : va_X b L xs s s.heap) (hbl : b < s.heap.size) {G : GG} (hG : G.2.2.1 = s.heap.size) (C : cx p s m #[Value.ref b] meth c code 4 R_law ret G) {Inv : Nat → SS → Prop} {N : Nat} (T : StepsL Inv N) {t : Nat} (ht : t < 64) (h5 : 5 * t + 5 ≤ L) (go : ∀ (q : Nat → Nat) (σ : SS) (H : Heap) (locs : List Loc) (ls : Array Slot), Inv (t + 1) σ → wx G false q σ H → va_S (fa G) s.heap H locs → lv_has ls 4 [(0, .ref b), (1, .ref (q 0)), (2, .ref (q 1)), (3, .int (nI (5 * t)))] → W p l e room_1 s m #[Value.ref b] below meth c H locs (60 + 20 * t + 20) (3000 + 1000 * t + 1000) (lw_Z below #[Value.ref b] s) (F0 m 1437 ls [])) (q : Nat → Nat) (σ : SS) (H : Heap) (locs : List Loc) (ls : Array Slot) (hI : Inv t σ) (hw : wx G false q σ H) (hS : va_S (fa G) s.heap H locs) (hl : lv_has ls 4 [(0, .ref b), (1, .ref (q 0)), (2, .ref (q 1)), (3, .int (nI (5 * t)))]) : W p l e room_1 s m #[Value.ref b] below meth c H locs (60 + 20 * t) (3000 + 1000 * t) (lw_Z below #[Value.ref b] s) (F0 m 597 ls []) := by
  obtain ⟨hx, hb, hml, hown, hts, hr, hlk, hk0, hox⟩ := id C
  have hbA : ¬ fa G b := fun h => absurd (show G.2.2.1 ≤ b from h) (by rw [hG]; omega)
  have hcl : 60 + 20 * t + 20 ≤ room_1.cells ∧ 3000 + 1000 * t + 1000 ≤ room_1.slots := ⟨by show 60 + 20 * t + 20 ≤ 603072; omega, by show 3000 + 1000 * t + 1000 ≤ 7262314; omega⟩
  obtain ⟨r, σ1, σ2, f1, f2, hI2⟩ := T.2.2.2.2.2.2.2.2.2.2.2.2.2.2.2.2.1 t σ (xs (nI (5 * t) + (1 : Int32)).toNatClampNeg) ht hI
  refine lv_aload_n hx hb dL_law_597 rfl (lv_at hl 1 rfl) ?_
  refine lv_aload_n hx hb dL_law_598 rfl (lv_at hl 0 rfl) ?_
  refine lv_iload_n hx hb dL_law_599 rfl (lv_at hl 3 rfl) ?_
  refine lv_iconst (v := (1 : Int32)) hx hb dL_law_600 (by decide) ?_
  refine lv_iadd hx hb dL_law_601 ?_
  refine va_sld hx hb hX hbl hbA hS (ix_in h5 hL (k := 1) (by decide)) dL_law_602 ?_
  refine r_callVi (R := room_1) (cells := 60 + 20 * t) (slots := 3000 + 1000 * t) (As := [.int (xs (nI (5 * t) + (1 : Int32)).toNatClampNeg)]) (rest := []) (i := 0) C hw hS (wi_lo (Or.inl (by decide))) rfl (ci := 0) rfl (met_X0_ticks l G false q f1) (cwV 1 hts (lw_V q653 q654 q655 q57 q656) rfl rfl rfl (by decide +kernel) ⟨Nat.le_of_ble_eq_true rfl, Nat.le_of_ble_eq_true rfl⟩) rfl hl.1 rfl (Nat.le_of_ble_eq_true rfl) ⟨by omega, by omega⟩ dL_law_603 (fun H locs hw hS => ?_)
  refine lv_aload_n hx hb dL_law_606 rfl (lv_at hl 2 rfl) ?_
  refine lv_aload_n hx hb dL_law_607 rfl (lv_at hl 0 rfl) ?_
  refine lv_iload_n hx hb dL_law_608 rfl (lv_at hl 3 rfl) ?_
  refine lv_iconst (v := (1 : Int32)) hx hb dL_law_609 (by decide) ?_
  refine lv_iadd hx hb dL_law_610 ?_
  refine va_sld hx hb hX hbl hbA hS (ix_in h5 hL (k := 1) (by decide)) dL_law_611 ?_
  refine r_callVi (R := room_1) (cells := 60 + 20 * t + 0) (slots := 3000 + 1000 * t + 0) (As := [.int (xs (nI (5 * t) + (1 : Int32)).toNatClampNeg)]) (rest := [.int r]) (i := 1) C hw hS (wi_lo (Or.inl (by decide))) rfl (ci := 8) rfl (met_X8_ticks l G false q f2) (cwV 1 hts (lw_V q1166 q1167 q1168 q65 q1169) rfl rfl rfl (by decide +kernel) ⟨Nat.le_of_ble_eq_true rfl, Nat.le_of_ble_eq_true rfl⟩) rfl hl.1 rfl (Nat.le_of_ble_eq_true rfl) ⟨by omega, by omega⟩ dL_law_612 (fun H locs hw hS => ?_)
  refine lv_icmp_eq (tgt := 1437) hx hb dL_law_615 (by decide) (fun _ => ?_) (fun c9 => absurd rfl c9)
  refine W.widen (k := 60 + 20 * t + 20) (n := 3000 + 1000 * t + 1000) (by omega) (by omega) ?_
  exact go q σ2 H locs ls hI2 hw hS hl
theorem w_case_16 {p : Program} {e : Env} {s : State} {m : MethodId} {below : List Frame} {meth : Method} {c : Code} {l : Launch} (hst : l.stackTraces = false) {b L : Nat} {xs : Nat → Int32} (hL : L ≤ 320) (hX : va_X b L xs s s.heap) (hbl : b < s.heap.size) {G : GG} (hG : G.2.2.1 = s.heap.size) (C : cx p s m #[Value.ref b] meth c code 4 R_law ret G) {Inv : Nat → SS → Prop} {N : Nat} (T : StepsL Inv N) {t : Nat} (ht : t < 64) (h5 : 5 * t + 5 ≤ L) (go : ∀ (q : Nat → Nat) (σ : SS) (H : Heap) (locs : List Loc) (ls : Array Slot), Inv (t + 1) σ → wx G false q σ H → va_S (fa G) s.heap H locs → lv_has ls 4 [(0, .ref b), (1, .ref (q 0)), (2, .ref (q 1)), (3, .int (nI (5 * t)))] → W p l e room_1 s m #[Value.ref b] below meth c H locs (60 + 20 * t + 20) (3000 + 1000 * t + 1000) (lw_Z below #[Value.ref b] s) (F0 m 1437 ls [])) (q : Nat → Nat) (σ : SS) (H : Heap) (locs : List Loc) (ls : Array Slot) (hI : Inv t σ) (hw : wx G false q σ H) (hS : va_S (fa G) s.heap H locs) (hl : lv_has ls 4 [(0, .ref b), (1, .ref (q 0)), (2, .ref (q 1)), (3, .int (nI (5 * t)))]) : W p l e room_1 s m #[Value.ref b] below meth c H locs (60 + 20 * t) (3000 + 1000 * t) (lw_Z below #[Value.ref b] s) (F0 m 620 ls []) := by
  obtain ⟨hx, hb, hml, hown, hts, hr, hlk, hk0, hox⟩ := id C
  have hbA : ¬ fa G b := fun h => absurd (show G.2.2.1 ≤ b from h) (by rw [hG]; omega)
  have hcl : 60 + 20 * t + 20 ≤ room_1.cells ∧ 3000 + 1000 * t + 1000 ≤ room_1.slots := ⟨by show 60 + 20 * t + 20 ≤ 603072; omega, by show 3000 + 1000 * t + 1000 ≤ 7262314; omega⟩
  obtain ⟨r, σ1, σ2, f1, f2, hI2⟩ := T.2.2.2.2.2.2.2.2.2.2.2.2.2.2.2.2.2.1 t σ (xs (nI (5 * t) + (1 : Int32)).toNatClampNeg) (xs (nI (5 * t) + (2 : Int32)).toNatClampNeg) ht hI
  refine lv_aload_n hx hb dL_law_620 rfl (lv_at hl 1 rfl) ?_
  refine lv_aload_n hx hb dL_law_621 rfl (lv_at hl 0 rfl) ?_
  refine lv_iload_n hx hb dL_law_622 rfl (lv_at hl 3 rfl) ?_
  refine lv_iconst (v := (1 : Int32)) hx hb dL_law_623 (by decide) ?_
  refine lv_iadd hx hb dL_law_624 ?_
  refine va_sld hx hb hX hbl hbA hS (ix_in h5 hL (k := 1) (by decide)) dL_law_625 ?_
  refine lv_aload_n hx hb dL_law_626 rfl (lv_at hl 0 rfl) ?_
  refine lv_iload_n hx hb dL_law_627 rfl (lv_at hl 3 rfl) ?_
  refine lv_iconst (v := (2 : Int32)) hx hb dL_law_628 (by decide) ?_
  refine lv_iadd hx hb dL_law_629 ?_
  refine va_sld hx hb hX hbl hbA hS (ix_in h5 hL (k := 2) (by decide)) dL_law_630 ?_
  refine r_callVi (R := room_1) (cells := 60 + 20 * t) (slots := 3000 + 1000 * t) (As := [.int (xs (nI (5 * t) + (1 : Int32)).toNatClampNeg), .int (xs (nI (5 * t) + (2 : Int32)).toNatClampNeg)]) (rest := []) (i := 0) C hw hS (wi_lo (Or.inl (by decide))) rfl (ci := 0) rfl (met_X0_runs l G false q f1) (cwV 2 hts (lw_V q675 q676 q677 q57 q678) rfl rfl rfl (by decide +kernel) ⟨Nat.le_of_ble_eq_true rfl, Nat.le_of_ble_eq_true rfl⟩) rfl hl.1 rfl (Nat.le_of_ble_eq_true rfl) ⟨by omega, by omega⟩ dL_law_631 (fun H locs hw hS => ?_)
  refine lv_aload_n hx hb dL_law_634 rfl (lv_at hl 2 rfl) ?_
  refine lv_aload_n hx hb dL_law_635 rfl (lv_at hl 0 rfl) ?_
  refine lv_iload_n hx hb dL_law_636 rfl (lv_at hl 3 rfl) ?_
  refine lv_iconst (v := (1 : Int32)) hx hb dL_law_637 (by decide) ?_
  refine lv_iadd hx hb dL_law_638 ?_
  refine va_sld hx hb hX hbl hbA hS (ix_in h5 hL (k := 1) (by decide)) dL_law_639 ?_
  refine lv_aload_n hx hb dL_law_640 rfl (lv_at hl 0 rfl) ?_
  refine lv_iload_n hx hb dL_law_641 rfl (lv_at hl 3 rfl) ?_
  refine lv_iconst (v := (2 : Int32)) hx hb dL_law_642 (by decide) ?_
  refine lv_iadd hx hb dL_law_643 ?_
  refine va_sld hx hb hX hbl hbA hS (ix_in h5 hL (k := 2) (by decide)) dL_law_644 ?_
  refine r_callVi (R := room_1) (cells := 60 + 20 * t + 0) (slots := 3000 + 1000 * t + 0) (As := [.int (xs (nI (5 * t) + (1 : Int32)).toNatClampNeg), .int (xs (nI (5 * t) + (2 : Int32)).toNatClampNeg)]) (rest := [.int r]) (i := 1) C hw hS (wi_lo (Or.inl (by decide))) rfl (ci := 8) rfl (met_X8_runs l G false q f2) (cwV 2 hts (lw_V q1179 q1180 q1181 q65 q1182) rfl rfl rfl (by decide +kernel) ⟨Nat.le_of_ble_eq_true rfl, Nat.le_of_ble_eq_true rfl⟩) rfl hl.1 rfl (Nat.le_of_ble_eq_true rfl) ⟨by omega, by omega⟩ dL_law_645 (fun H locs hw hS => ?_)
  refine lv_icmp_eq (tgt := 1437) hx hb dL_law_648 (by decide) (fun _ => ?_) (fun c9 => absurd rfl c9)
  refine W.widen (k := 60 + 20 * t + 20) (n := 3000 + 1000 * t + 1000) (by omega) (by omega) ?_
  exact go q σ2 H locs ls hI2 hw hS hl
theorem w_case_17 {p : Program} {e : Env} {s : State} {m : MethodId} {below : List Frame} {meth : Method} {c : Code} {l : Launch} (hst : l.stackTraces = false) {b L : Nat} {xs : Nat → Int32} (hL : L ≤ 320) (hX : va_X b L xs s s.heap) (hbl : b < s.heap.size) {G : GG} (hG : G.2.2.1 = s.heap.size) (C : cx p s m #[Value.ref b] meth c code 4 R_law ret G) {Inv : Nat → SS → Prop} {N : Nat} (T : StepsL Inv N) {t : Nat} (ht : t < 64) (h5 : 5 * t + 5 ≤ L) (go : ∀ (q : Nat → Nat) (σ : SS) (H : Heap) (locs : List Loc) (ls : Array Slot), Inv (t + 1) σ → wx G false q σ H → va_S (fa G) s.heap H locs → lv_has ls 4 [(0, .ref b), (1, .ref (q 0)), (2, .ref (q 1)), (3, .int (nI (5 * t)))] → W p l e room_1 s m #[Value.ref b] below meth c H locs (60 + 20 * t + 20) (3000 + 1000 * t + 1000) (lw_Z below #[Value.ref b] s) (F0 m 1437 ls [])) (q : Nat → Nat) (σ : SS) (H : Heap) (locs : List Loc) (ls : Array Slot) (hI : Inv t σ) (hw : wx G false q σ H) (hS : va_S (fa G) s.heap H locs) (hl : lv_has ls 4 [(0, .ref b), (1, .ref (q 0)), (2, .ref (q 1)), (3, .int (nI (5 * t)))]) : W p l e room_1 s m #[Value.ref b] below meth c H locs (60 + 20 * t) (3000 + 1000 * t) (lw_Z below #[Value.ref b] s) (F0 m 653 ls []) := by
  obtain ⟨hx, hb, hml, hown, hts, hr, hlk, hk0, hox⟩ := id C
  have hbA : ¬ fa G b := fun h => absurd (show G.2.2.1 ≤ b from h) (by rw [hG]; omega)
  have hcl : 60 + 20 * t + 20 ≤ room_1.cells ∧ 3000 + 1000 * t + 1000 ≤ room_1.slots := ⟨by show 60 + 20 * t + 20 ≤ 603072; omega, by show 3000 + 1000 * t + 1000 ≤ 7262314; omega⟩
  obtain ⟨r, σ1, σ2, f1, f2, hI2⟩ := T.2.2.2.2.2.2.2.2.2.2.2.2.2.2.2.2.2.2.1 t σ (xs (nI (5 * t) + (1 : Int32)).toNatClampNeg) (xs (nI (5 * t) + (2 : Int32)).toNatClampNeg) ht hI
  refine lv_aload_n hx hb dL_law_653 rfl (lv_at hl 1 rfl) ?_
  refine lv_aload_n hx hb dL_law_654 rfl (lv_at hl 0 rfl) ?_
  refine lv_iload_n hx hb dL_law_655 rfl (lv_at hl 3 rfl) ?_
  refine lv_iconst (v := (1 : Int32)) hx hb dL_law_656 (by decide) ?_
  refine lv_iadd hx hb dL_law_657 ?_
  refine va_sld hx hb hX hbl hbA hS (ix_in h5 hL (k := 1) (by decide)) dL_law_658 ?_
  refine lv_aload_n hx hb dL_law_659 rfl (lv_at hl 0 rfl) ?_
  refine lv_iload_n hx hb dL_law_660 rfl (lv_at hl 3 rfl) ?_
  refine lv_iconst (v := (2 : Int32)) hx hb dL_law_661 (by decide) ?_
  refine lv_iadd hx hb dL_law_662 ?_
  refine va_sld hx hb hX hbl hbA hS (ix_in h5 hL (k := 2) (by decide)) dL_law_663 ?_
  refine r_callVi (R := room_1) (cells := 60 + 20 * t) (slots := 3000 + 1000 * t) (As := [.int (xs (nI (5 * t) + (1 : Int32)).toNatClampNeg), .int (xs (nI (5 * t) + (2 : Int32)).toNatClampNeg)]) (rest := []) (i := 0) C hw hS (wi_lo (Or.inl (by decide))) rfl (ci := 0) rfl (met_X0_ahead l G false q f1) (cwV 2 hts (lw_V q688 q689 q690 q57 q691) rfl rfl rfl (by decide +kernel) ⟨Nat.le_of_ble_eq_true rfl, Nat.le_of_ble_eq_true rfl⟩) rfl hl.1 rfl (Nat.le_of_ble_eq_true rfl) ⟨by omega, by omega⟩ dL_law_664 (fun H locs hw hS => ?_)
  refine lv_aload_n hx hb dL_law_667 rfl (lv_at hl 2 rfl) ?_
  refine lv_aload_n hx hb dL_law_668 rfl (lv_at hl 0 rfl) ?_
  refine lv_iload_n hx hb dL_law_669 rfl (lv_at hl 3 rfl) ?_
  refine lv_iconst (v := (1 : Int32)) hx hb dL_law_670 (by decide) ?_
  refine lv_iadd hx hb dL_law_671 ?_
  refine va_sld hx hb hX hbl hbA hS (ix_in h5 hL (k := 1) (by decide)) dL_law_672 ?_
  refine lv_aload_n hx hb dL_law_673 rfl (lv_at hl 0 rfl) ?_
  refine lv_iload_n hx hb dL_law_674 rfl (lv_at hl 3 rfl) ?_
  refine lv_iconst (v := (2 : Int32)) hx hb dL_law_675 (by decide) ?_
  refine lv_iadd hx hb dL_law_676 ?_
  refine va_sld hx hb hX hbl hbA hS (ix_in h5 hL (k := 2) (by decide)) dL_law_677 ?_
  refine r_callVi (R := room_1) (cells := 60 + 20 * t + 0) (slots := 3000 + 1000 * t + 0) (As := [.int (xs (nI (5 * t) + (1 : Int32)).toNatClampNeg), .int (xs (nI (5 * t) + (2 : Int32)).toNatClampNeg)]) (rest := [.int r]) (i := 1) C hw hS (wi_lo (Or.inl (by decide))) rfl (ci := 8) rfl (met_X8_ahead l G false q f2) (cwV 2 hts (lw_V q1204 q1205 q1206 q65 q1207) rfl rfl rfl (by decide +kernel) ⟨Nat.le_of_ble_eq_true rfl, Nat.le_of_ble_eq_true rfl⟩) rfl hl.1 rfl (Nat.le_of_ble_eq_true rfl) ⟨by omega, by omega⟩ dL_law_678 (fun H locs hw hS => ?_)
  refine lv_icmp_eq (tgt := 1437) hx hb dL_law_681 (by decide) (fun _ => ?_) (fun c9 => absurd rfl c9)
  refine W.widen (k := 60 + 20 * t + 20) (n := 3000 + 1000 * t + 1000) (by omega) (by omega) ?_
  exact go q σ2 H locs ls hI2 hw hS hl
theorem w_case_18 {p : Program} {e : Env} {s : State} {m : MethodId} {below : List Frame} {meth : Method} {c : Code} {l : Launch} (hst : l.stackTraces = false) {b L : Nat} {xs : Nat → Int32} (hL : L ≤ 320) (hX : va_X b L xs s s.heap) (hbl : b < s.heap.size) {G : GG} (hG : G.2.2.1 = s.heap.size) (C : cx p s m #[Value.ref b] meth c code 4 R_law ret G) {Inv : Nat → SS → Prop} {N : Nat} (T : StepsL Inv N) {t : Nat} (ht : t < 64) (h5 : 5 * t + 5 ≤ L) (go : ∀ (q : Nat → Nat) (σ : SS) (H : Heap) (locs : List Loc) (ls : Array Slot), Inv (t + 1) σ → wx G false q σ H → va_S (fa G) s.heap H locs → lv_has ls 4 [(0, .ref b), (1, .ref (q 0)), (2, .ref (q 1)), (3, .int (nI (5 * t)))] → W p l e room_1 s m #[Value.ref b] below meth c H locs (60 + 20 * t + 20) (3000 + 1000 * t + 1000) (lw_Z below #[Value.ref b] s) (F0 m 1437 ls [])) (q : Nat → Nat) (σ : SS) (H : Heap) (locs : List Loc) (ls : Array Slot) (hI : Inv t σ) (hw : wx G false q σ H) (hS : va_S (fa G) s.heap H locs) (hl : lv_has ls 4 [(0, .ref b), (1, .ref (q 0)), (2, .ref (q 1)), (3, .int (nI (5 * t)))]) : W p l e room_1 s m #[Value.ref b] below meth c H locs (60 + 20 * t) (3000 + 1000 * t) (lw_Z below #[Value.ref b] s) (F0 m 686 ls []) := by
  obtain ⟨hx, hb, hml, hown, hts, hr, hlk, hk0, hox⟩ := id C
  have hbA : ¬ fa G b := fun h => absurd (show G.2.2.1 ≤ b from h) (by rw [hG]; omega)
  have hcl : 60 + 20 * t + 20 ≤ room_1.cells ∧ 3000 + 1000 * t + 1000 ≤ room_1.slots := ⟨by show 60 + 20 * t + 20 ≤ 603072; omega, by show 3000 + 1000 * t + 1000 ≤ 7262314; omega⟩
  obtain ⟨r, σ1, σ2, f1, f2, hI2⟩ := T.2.2.2.2.2.2.2.2.2.2.2.2.2.2.2.2.2.2.2.1 t σ (xs (nI (5 * t) + (1 : Int32)).toNatClampNeg) ht hI
  refine lv_aload_n hx hb dL_law_686 rfl (lv_at hl 1 rfl) ?_
  refine lv_aload_n hx hb dL_law_687 rfl (lv_at hl 0 rfl) ?_
  refine lv_iload_n hx hb dL_law_688 rfl (lv_at hl 3 rfl) ?_
  refine lv_iconst (v := (1 : Int32)) hx hb dL_law_689 (by decide) ?_
  refine lv_iadd hx hb dL_law_690 ?_
  refine va_sld hx hb hX hbl hbA hS (ix_in h5 hL (k := 1) (by decide)) dL_law_691 ?_
  refine r_callVi (R := room_1) (cells := 60 + 20 * t) (slots := 3000 + 1000 * t) (As := [.int (xs (nI (5 * t) + (1 : Int32)).toNatClampNeg)]) (rest := []) (i := 0) C hw hS (wi_lo (Or.inl (by decide))) rfl (ci := 0) rfl (met_X0_when l G false q f1) (cwV 1 hts (lw_V q692 q693 q694 q57 q695) rfl rfl rfl (by decide +kernel) ⟨Nat.le_of_ble_eq_true rfl, Nat.le_of_ble_eq_true rfl⟩) rfl hl.1 rfl (Nat.le_of_ble_eq_true rfl) ⟨by omega, by omega⟩ dL_law_692 (fun H locs hw hS => ?_)
  refine lv_aload_n hx hb dL_law_695 rfl (lv_at hl 2 rfl) ?_
  refine lv_aload_n hx hb dL_law_696 rfl (lv_at hl 0 rfl) ?_
  refine lv_iload_n hx hb dL_law_697 rfl (lv_at hl 3 rfl) ?_
  refine lv_iconst (v := (1 : Int32)) hx hb dL_law_698 (by decide) ?_
  refine lv_iadd hx hb dL_law_699 ?_
  refine va_sld hx hb hX hbl hbA hS (ix_in h5 hL (k := 1) (by decide)) dL_law_700 ?_
  refine r_callVi (R := room_1) (cells := 60 + 20 * t + 0) (slots := 3000 + 1000 * t + 0) (As := [.int (xs (nI (5 * t) + (1 : Int32)).toNatClampNeg)]) (rest := [.int r]) (i := 1) C hw hS (wi_lo (Or.inl (by decide))) rfl (ci := 8) rfl (met_X8_when l G false q f2) (cwV 1 hts (lw_V q1208 q1209 q1210 q65 q1211) rfl rfl rfl (by decide +kernel) ⟨Nat.le_of_ble_eq_true rfl, Nat.le_of_ble_eq_true rfl⟩) rfl hl.1 rfl (Nat.le_of_ble_eq_true rfl) ⟨by omega, by omega⟩ dL_law_701 (fun H locs hw hS => ?_)
  refine lv_icmp_eq (tgt := 1437) hx hb dL_law_704 (by decide) (fun _ => ?_) (fun c9 => absurd rfl c9)
  refine W.widen (k := 60 + 20 * t + 20) (n := 3000 + 1000 * t + 1000) (by omega) (by omega) ?_
  exact go q σ2 H locs ls hI2 hw hS hl
theorem w_case_19 {p : Program} {e : Env} {s : State} {m : MethodId} {below : List Frame} {meth : Method} {c : Code} {l : Launch} (hst : l.stackTraces = false) {b L : Nat} {xs : Nat → Int32} (hL : L ≤ 320) (hX : va_X b L xs s s.heap) (hbl : b < s.heap.size) {G : GG} (hG : G.2.2.1 = s.heap.size) (C : cx p s m #[Value.ref b] meth c code 4 R_law ret G) {Inv : Nat → SS → Prop} {N : Nat} (T : StepsL Inv N) {t : Nat} (ht : t < 64) (h5 : 5 * t + 5 ≤ L) (go : ∀ (q : Nat → Nat) (σ : SS) (H : Heap) (locs : List Loc) (ls : Array Slot), Inv (t + 1) σ → wx G false q σ H → va_S (fa G) s.heap H locs → lv_has ls 4 [(0, .ref b), (1, .ref (q 0)), (2, .ref (q 1)), (3, .int (nI (5 * t)))] → W p l e room_1 s m #[Value.ref b] below meth c H locs (60 + 20 * t + 20) (3000 + 1000 * t + 1000) (lw_Z below #[Value.ref b] s) (F0 m 1437 ls [])) (q : Nat → Nat) (σ : SS) (H : Heap) (locs : List Loc) (ls : Array Slot) (hI : Inv t σ) (hw : wx G false q σ H) (hS : va_S (fa G) s.heap H locs) (hl : lv_has ls 4 [(0, .ref b), (1, .ref (q 0)), (2, .ref (q 1)), (3, .int (nI (5 * t)))]) : W p l e room_1 s m #[Value.ref b] below meth c H locs (60 + 20 * t) (3000 + 1000 * t) (lw_Z below #[Value.ref b] s) (F0 m 709 ls []) := by
  obtain ⟨hx, hb, hml, hown, hts, hr, hlk, hk0, hox⟩ := id C
  have hbA : ¬ fa G b := fun h => absurd (show G.2.2.1 ≤ b from h) (by rw [hG]; omega)
  have hcl : 60 + 20 * t + 20 ≤ room_1.cells ∧ 3000 + 1000 * t + 1000 ≤ room_1.slots := ⟨by show 60 + 20 * t + 20 ≤ 603072; omega, by show 3000 + 1000 * t + 1000 ≤ 7262314; omega⟩
  obtain ⟨r, σ1, σ2, f1, f2, hI2⟩ := T.2.2.2.2.2.2.2.2.2.2.2.2.2.2.2.2.2.2.2.2.1 t σ  ht hI
  refine lv_aload_n hx hb dL_law_709 rfl (lv_at hl 1 rfl) ?_
  refine r_callVi (R := room_1) (cells := 60 + 20 * t) (slots := 3000 + 1000 * t) (As := []) (rest := []) (i := 0) C hw hS (wi_lo (Or.inl (by decide))) rfl (ci := 0) rfl (met_X0_again l G false q f1) (cwV 0 hts (lw_V q696 q697 q698 q57 q699) rfl rfl rfl (by decide +kernel) ⟨Nat.le_of_ble_eq_true rfl, Nat.le_of_ble_eq_true rfl⟩) rfl hl.1 rfl (Nat.le_of_ble_eq_true rfl) ⟨by omega, by omega⟩ dL_law_710 (fun H locs hw hS => ?_)
  refine lv_aload_n hx hb dL_law_713 rfl (lv_at hl 2 rfl) ?_
  refine r_callVi (R := room_1) (cells := 60 + 20 * t + 0) (slots := 3000 + 1000 * t + 0) (As := []) (rest := [.int r]) (i := 1) C hw hS (wi_lo (Or.inl (by decide))) rfl (ci := 8) rfl (met_X8_again l G false q f2) (cwV 0 hts (lw_V q1212 q1213 q1214 q65 q1215) rfl rfl rfl (by decide +kernel) ⟨Nat.le_of_ble_eq_true rfl, Nat.le_of_ble_eq_true rfl⟩) rfl hl.1 rfl (Nat.le_of_ble_eq_true rfl) ⟨by omega, by omega⟩ dL_law_714 (fun H locs hw hS => ?_)
  refine lv_icmp_eq (tgt := 1437) hx hb dL_law_717 (by decide) (fun _ => ?_) (fun c9 => absurd rfl c9)
  refine W.widen (k := 60 + 20 * t + 20) (n := 3000 + 1000 * t + 1000) (by omega) (by omega) ?_
  exact go q σ2 H locs ls hI2 hw hS hl
theorem w_case_20 {p : Program} {e : Env} {s : State} {m : MethodId} {below : List Frame} {meth : Method} {c : Code} {l : Launch} (hst : l.stackTraces = false) {b L : Nat} {xs : Nat → Int32} (hL : L ≤ 320) (hX : va_X b L xs s s.heap) (hbl : b < s.heap.size) {G : GG} (hG : G.2.2.1 = s.heap.size) (C : cx p s m #[Value.ref b] meth c code 4 R_law ret G) {Inv : Nat → SS → Prop} {N : Nat} (T : StepsL Inv N) {t : Nat} (ht : t < 64) (h5 : 5 * t + 5 ≤ L) (go : ∀ (q : Nat → Nat) (σ : SS) (H : Heap) (locs : List Loc) (ls : Array Slot), Inv (t + 1) σ → wx G false q σ H → va_S (fa G) s.heap H locs → lv_has ls 4 [(0, .ref b), (1, .ref (q 0)), (2, .ref (q 1)), (3, .int (nI (5 * t)))] → W p l e room_1 s m #[Value.ref b] below meth c H locs (60 + 20 * t + 20) (3000 + 1000 * t + 1000) (lw_Z below #[Value.ref b] s) (F0 m 1437 ls [])) (q : Nat → Nat) (σ : SS) (H : Heap) (locs : List Loc) (ls : Array Slot) (hI : Inv t σ) (hw : wx G false q σ H) (hS : va_S (fa G) s.heap H locs) (hl : lv_has ls 4 [(0, .ref b), (1, .ref (q 0)), (2, .ref (q 1)), (3, .int (nI (5 * t)))]) : W p l e room_1 s m #[Value.ref b] below meth c H locs (60 + 20 * t) (3000 + 1000 * t) (lw_Z below #[Value.ref b] s) (F0 m 722 ls []) := by
  obtain ⟨hx, hb, hml, hown, hts, hr, hlk, hk0, hox⟩ := id C
  have hbA : ¬ fa G b := fun h => absurd (show G.2.2.1 ≤ b from h) (by rw [hG]; omega)
  have hcl : 60 + 20 * t + 20 ≤ room_1.cells ∧ 3000 + 1000 * t + 1000 ≤ room_1.slots := ⟨by show 60 + 20 * t + 20 ≤ 603072; omega, by show 3000 + 1000 * t + 1000 ≤ 7262314; omega⟩
  obtain ⟨r, σ1, σ2, f1, f2, hI2⟩ := T.2.2.2.2.2.2.2.2.2.2.2.2.2.2.2.2.2.2.2.2.2.1 t σ (xs (nI (5 * t) + (1 : Int32)).toNatClampNeg) (xs (nI (5 * t) + (2 : Int32)).toNatClampNeg) (xs (nI (5 * t) + (3 : Int32)).toNatClampNeg) ht hI
  refine lv_aload_n hx hb dL_law_722 rfl (lv_at hl 1 rfl) ?_
  refine lv_aload_n hx hb dL_law_723 rfl (lv_at hl 0 rfl) ?_
  refine lv_iload_n hx hb dL_law_724 rfl (lv_at hl 3 rfl) ?_
  refine lv_iconst (v := (1 : Int32)) hx hb dL_law_725 (by decide) ?_
  refine lv_iadd hx hb dL_law_726 ?_
  refine va_sld hx hb hX hbl hbA hS (ix_in h5 hL (k := 1) (by decide)) dL_law_727 ?_
  refine lv_aload_n hx hb dL_law_728 rfl (lv_at hl 0 rfl) ?_
  refine lv_iload_n hx hb dL_law_729 rfl (lv_at hl 3 rfl) ?_
  refine lv_iconst (v := (2 : Int32)) hx hb dL_law_730 (by decide) ?_
  refine lv_iadd hx hb dL_law_731 ?_
  refine va_sld hx hb hX hbl hbA hS (ix_in h5 hL (k := 2) (by decide)) dL_law_732 ?_
  refine lv_aload_n hx hb dL_law_733 rfl (lv_at hl 0 rfl) ?_
  refine lv_iload_n hx hb dL_law_734 rfl (lv_at hl 3 rfl) ?_
  refine lv_iconst (v := (3 : Int32)) hx hb dL_law_735 (by decide) ?_
  refine lv_iadd hx hb dL_law_736 ?_
  refine va_sld hx hb hX hbl hbA hS (ix_in h5 hL (k := 3) (by decide)) dL_law_737 ?_
  refine r_callVi (R := room_1) (cells := 60 + 20 * t) (slots := 3000 + 1000 * t) (As := [.int (xs (nI (5 * t) + (1 : Int32)).toNatClampNeg), .int (xs (nI (5 * t) + (2 : Int32)).toNatClampNeg), .int (xs (nI (5 * t) + (3 : Int32)).toNatClampNeg)]) (rest := []) (i := 0) C hw hS (wi_lo (Or.inl (by decide))) rfl (ci := 0) rfl (met_X0_mass l G false q f1) (cwV 3 hts (lw_V q705 q706 q707 q57 q708) rfl rfl rfl (by decide +kernel) ⟨Nat.le_of_ble_eq_true rfl, Nat.le_of_ble_eq_true rfl⟩) rfl hl.1 rfl (Nat.le_of_ble_eq_true rfl) ⟨by omega, by omega⟩ dL_law_738 (fun H locs hw hS => ?_)
  refine lv_aload_n hx hb dL_law_741 rfl (lv_at hl 2 rfl) ?_
  refine lv_aload_n hx hb dL_law_742 rfl (lv_at hl 0 rfl) ?_
  refine lv_iload_n hx hb dL_law_743 rfl (lv_at hl 3 rfl) ?_
  refine lv_iconst (v := (1 : Int32)) hx hb dL_law_744 (by decide) ?_
  refine lv_iadd hx hb dL_law_745 ?_
  refine va_sld hx hb hX hbl hbA hS (ix_in h5 hL (k := 1) (by decide)) dL_law_746 ?_
  refine lv_aload_n hx hb dL_law_747 rfl (lv_at hl 0 rfl) ?_
  refine lv_iload_n hx hb dL_law_748 rfl (lv_at hl 3 rfl) ?_
  refine lv_iconst (v := (2 : Int32)) hx hb dL_law_749 (by decide) ?_
  refine lv_iadd hx hb dL_law_750 ?_
  refine va_sld hx hb hX hbl hbA hS (ix_in h5 hL (k := 2) (by decide)) dL_law_751 ?_
  refine lv_aload_n hx hb dL_law_752 rfl (lv_at hl 0 rfl) ?_
  refine lv_iload_n hx hb dL_law_753 rfl (lv_at hl 3 rfl) ?_
  refine lv_iconst (v := (3 : Int32)) hx hb dL_law_754 (by decide) ?_
  refine lv_iadd hx hb dL_law_755 ?_
  refine va_sld hx hb hX hbl hbA hS (ix_in h5 hL (k := 3) (by decide)) dL_law_756 ?_
  refine r_callVi (R := room_1) (cells := 60 + 20 * t + 0) (slots := 3000 + 1000 * t + 0) (As := [.int (xs (nI (5 * t) + (1 : Int32)).toNatClampNeg), .int (xs (nI (5 * t) + (2 : Int32)).toNatClampNeg), .int (xs (nI (5 * t) + (3 : Int32)).toNatClampNeg)]) (rest := [.int r]) (i := 1) C hw hS (wi_lo (Or.inl (by decide))) rfl (ci := 8) rfl (met_X8_mass l G false q f2) (cwV 3 hts (lw_V q1216 q1217 q1218 q65 q1219) rfl rfl rfl (by decide +kernel) ⟨Nat.le_of_ble_eq_true rfl, Nat.le_of_ble_eq_true rfl⟩) rfl hl.1 rfl (Nat.le_of_ble_eq_true rfl) ⟨by omega, by omega⟩ dL_law_757 (fun H locs hw hS => ?_)
  refine lv_icmp_eq (tgt := 1437) hx hb dL_law_760 (by decide) (fun _ => ?_) (fun c9 => absurd rfl c9)
  refine W.widen (k := 60 + 20 * t + 20) (n := 3000 + 1000 * t + 1000) (by omega) (by omega) ?_
  exact go q σ2 H locs ls hI2 hw hS hl
theorem w_case_21 {p : Program} {e : Env} {s : State} {m : MethodId} {below : List Frame} {meth : Method} {c : Code} {l : Launch} (hst : l.stackTraces = false) {b L : Nat} {xs : Nat → Int32} (hL : L ≤ 320) (hX : va_X b L xs s s.heap) (hbl : b < s.heap.size) {G : GG} (hG : G.2.2.1 = s.heap.size) (C : cx p s m #[Value.ref b] meth c code 4 R_law ret G) {Inv : Nat → SS → Prop} {N : Nat} (T : StepsL Inv N) {t : Nat} (ht : t < 64) (h5 : 5 * t + 5 ≤ L) (go : ∀ (q : Nat → Nat) (σ : SS) (H : Heap) (locs : List Loc) (ls : Array Slot), Inv (t + 1) σ → wx G false q σ H → va_S (fa G) s.heap H locs → lv_has ls 4 [(0, .ref b), (1, .ref (q 0)), (2, .ref (q 1)), (3, .int (nI (5 * t)))] → W p l e room_1 s m #[Value.ref b] below meth c H locs (60 + 20 * t + 20) (3000 + 1000 * t + 1000) (lw_Z below #[Value.ref b] s) (F0 m 1437 ls [])) (q : Nat → Nat) (σ : SS) (H : Heap) (locs : List Loc) (ls : Array Slot) (hI : Inv t σ) (hw : wx G false q σ H) (hS : va_S (fa G) s.heap H locs) (hl : lv_has ls 4 [(0, .ref b), (1, .ref (q 0)), (2, .ref (q 1)), (3, .int (nI (5 * t)))]) : W p l e room_1 s m #[Value.ref b] below meth c H locs (60 + 20 * t) (3000 + 1000 * t) (lw_Z below #[Value.ref b] s) (F0 m 765 ls []) := by
  obtain ⟨hx, hb, hml, hown, hts, hr, hlk, hk0, hox⟩ := id C
  have hbA : ¬ fa G b := fun h => absurd (show G.2.2.1 ≤ b from h) (by rw [hG]; omega)
  have hcl : 60 + 20 * t + 20 ≤ room_1.cells ∧ 3000 + 1000 * t + 1000 ≤ room_1.slots := ⟨by show 60 + 20 * t + 20 ≤ 603072; omega, by show 3000 + 1000 * t + 1000 ≤ 7262314; omega⟩
  obtain ⟨r, σ1, σ2, f1, f2, hI2⟩ := T.2.2.2.2.2.2.2.2.2.2.2.2.2.2.2.2.2.2.2.2.2.2.1 t σ (xs (nI (5 * t) + (1 : Int32)).toNatClampNeg) (xs (nI (5 * t) + (2 : Int32)).toNatClampNeg) (xs (nI (5 * t) + (3 : Int32)).toNatClampNeg) ht hI
  refine lv_aload_n hx hb dL_law_765 rfl (lv_at hl 1 rfl) ?_
  refine lv_aload_n hx hb dL_law_766 rfl (lv_at hl 0 rfl) ?_
  refine lv_iload_n hx hb dL_law_767 rfl (lv_at hl 3 rfl) ?_
  refine lv_iconst (v := (1 : Int32)) hx hb dL_law_768 (by decide) ?_
  refine lv_iadd hx hb dL_law_769 ?_
  refine va_sld hx hb hX hbl hbA hS (ix_in h5 hL (k := 1) (by decide)) dL_law_770 ?_
  refine lv_aload_n hx hb dL_law_771 rfl (lv_at hl 0 rfl) ?_
  refine lv_iload_n hx hb dL_law_772 rfl (lv_at hl 3 rfl) ?_
  refine lv_iconst (v := (2 : Int32)) hx hb dL_law_773 (by decide) ?_
  refine lv_iadd hx hb dL_law_774 ?_
  refine va_sld hx hb hX hbl hbA hS (ix_in h5 hL (k := 2) (by decide)) dL_law_775 ?_
  refine lv_aload_n hx hb dL_law_776 rfl (lv_at hl 0 rfl) ?_
  refine lv_iload_n hx hb dL_law_777 rfl (lv_at hl 3 rfl) ?_
  refine lv_iconst (v := (3 : Int32)) hx hb dL_law_778 (by decide) ?_
  refine lv_iadd hx hb dL_law_779 ?_
  refine va_sld hx hb hX hbl hbA hS (ix_in h5 hL (k := 3) (by decide)) dL_law_780 ?_
  refine r_callVi (R := room_1) (cells := 60 + 20 * t) (slots := 3000 + 1000 * t) (As := [.int (xs (nI (5 * t) + (1 : Int32)).toNatClampNeg), .int (xs (nI (5 * t) + (2 : Int32)).toNatClampNeg), .int (xs (nI (5 * t) + (3 : Int32)).toNatClampNeg)]) (rest := []) (i := 0) C hw hS (wi_lo (Or.inl (by decide))) rfl (ci := 0) rfl (met_X0_kind l G false q f1) (cwV 3 hts (lw_V q728 q729 q730 q57 q731) rfl rfl rfl (by decide +kernel) ⟨Nat.le_of_ble_eq_true rfl, Nat.le_of_ble_eq_true rfl⟩) rfl hl.1 rfl (Nat.le_of_ble_eq_true rfl) ⟨by omega, by omega⟩ dL_law_781 (fun H locs hw hS => ?_)
  refine lv_aload_n hx hb dL_law_784 rfl (lv_at hl 2 rfl) ?_
  refine lv_aload_n hx hb dL_law_785 rfl (lv_at hl 0 rfl) ?_
  refine lv_iload_n hx hb dL_law_786 rfl (lv_at hl 3 rfl) ?_
  refine lv_iconst (v := (1 : Int32)) hx hb dL_law_787 (by decide) ?_
  refine lv_iadd hx hb dL_law_788 ?_
  refine va_sld hx hb hX hbl hbA hS (ix_in h5 hL (k := 1) (by decide)) dL_law_789 ?_
  refine lv_aload_n hx hb dL_law_790 rfl (lv_at hl 0 rfl) ?_
  refine lv_iload_n hx hb dL_law_791 rfl (lv_at hl 3 rfl) ?_
  refine lv_iconst (v := (2 : Int32)) hx hb dL_law_792 (by decide) ?_
  refine lv_iadd hx hb dL_law_793 ?_
  refine va_sld hx hb hX hbl hbA hS (ix_in h5 hL (k := 2) (by decide)) dL_law_794 ?_
  refine lv_aload_n hx hb dL_law_795 rfl (lv_at hl 0 rfl) ?_
  refine lv_iload_n hx hb dL_law_796 rfl (lv_at hl 3 rfl) ?_
  refine lv_iconst (v := (3 : Int32)) hx hb dL_law_797 (by decide) ?_
  refine lv_iadd hx hb dL_law_798 ?_
  refine va_sld hx hb hX hbl hbA hS (ix_in h5 hL (k := 3) (by decide)) dL_law_799 ?_
  refine r_callVi (R := room_1) (cells := 60 + 20 * t + 0) (slots := 3000 + 1000 * t + 0) (As := [.int (xs (nI (5 * t) + (1 : Int32)).toNatClampNeg), .int (xs (nI (5 * t) + (2 : Int32)).toNatClampNeg), .int (xs (nI (5 * t) + (3 : Int32)).toNatClampNeg)]) (rest := [.int r]) (i := 1) C hw hS (wi_lo (Or.inl (by decide))) rfl (ci := 8) rfl (met_X8_kind l G false q f2) (cwV 3 hts (lw_V q1224 q1225 q1226 q65 q1227) rfl rfl rfl (by decide +kernel) ⟨Nat.le_of_ble_eq_true rfl, Nat.le_of_ble_eq_true rfl⟩) rfl hl.1 rfl (Nat.le_of_ble_eq_true rfl) ⟨by omega, by omega⟩ dL_law_800 (fun H locs hw hS => ?_)
  refine lv_icmp_eq (tgt := 1437) hx hb dL_law_803 (by decide) (fun _ => ?_) (fun c9 => absurd rfl c9)
  refine W.widen (k := 60 + 20 * t + 20) (n := 3000 + 1000 * t + 1000) (by omega) (by omega) ?_
  exact go q σ2 H locs ls hI2 hw hS hl
theorem w_case_22 {p : Program} {e : Env} {s : State} {m : MethodId} {below : List Frame} {meth : Method} {c : Code} {l : Launch} (hst : l.stackTraces = false) {b L : Nat} {xs : Nat → Int32} (hL : L ≤ 320) (hX : va_X b L xs s s.heap) (hbl : b < s.heap.size) {G : GG} (hG : G.2.2.1 = s.heap.size) (C : cx p s m #[Value.ref b] meth c code 4 R_law ret G) {Inv : Nat → SS → Prop} {N : Nat} (T : StepsL Inv N) {t : Nat} (ht : t < 64) (h5 : 5 * t + 5 ≤ L) (go : ∀ (q : Nat → Nat) (σ : SS) (H : Heap) (locs : List Loc) (ls : Array Slot), Inv (t + 1) σ → wx G false q σ H → va_S (fa G) s.heap H locs → lv_has ls 4 [(0, .ref b), (1, .ref (q 0)), (2, .ref (q 1)), (3, .int (nI (5 * t)))] → W p l e room_1 s m #[Value.ref b] below meth c H locs (60 + 20 * t + 20) (3000 + 1000 * t + 1000) (lw_Z below #[Value.ref b] s) (F0 m 1437 ls [])) (q : Nat → Nat) (σ : SS) (H : Heap) (locs : List Loc) (ls : Array Slot) (hI : Inv t σ) (hw : wx G false q σ H) (hS : va_S (fa G) s.heap H locs) (hl : lv_has ls 4 [(0, .ref b), (1, .ref (q 0)), (2, .ref (q 1)), (3, .int (nI (5 * t)))]) : W p l e room_1 s m #[Value.ref b] below meth c H locs (60 + 20 * t) (3000 + 1000 * t) (lw_Z below #[Value.ref b] s) (F0 m 808 ls []) := by
  obtain ⟨hx, hb, hml, hown, hts, hr, hlk, hk0, hox⟩ := id C
  have hbA : ¬ fa G b := fun h => absurd (show G.2.2.1 ≤ b from h) (by rw [hG]; omega)
  have hcl : 60 + 20 * t + 20 ≤ room_1.cells ∧ 3000 + 1000 * t + 1000 ≤ room_1.slots := ⟨by show 60 + 20 * t + 20 ≤ 603072; omega, by show 3000 + 1000 * t + 1000 ≤ 7262314; omega⟩
  obtain ⟨r, σ1, σ2, f1, f2, hI2⟩ := T.2.2.2.2.2.2.2.2.2.2.2.2.2.2.2.2.2.2.2.2.2.2.2.1 t σ (xs (nI (5 * t) + (1 : Int32)).toNatClampNeg) (xs (nI (5 * t) + (2 : Int32)).toNatClampNeg) ht hI
  refine lv_aload_n hx hb dL_law_808 rfl (lv_at hl 1 rfl) ?_
  refine lv_aload_n hx hb dL_law_809 rfl (lv_at hl 0 rfl) ?_
  refine lv_iload_n hx hb dL_law_810 rfl (lv_at hl 3 rfl) ?_
  refine lv_iconst (v := (1 : Int32)) hx hb dL_law_811 (by decide) ?_
  refine lv_iadd hx hb dL_law_812 ?_
  refine va_sld hx hb hX hbl hbA hS (ix_in h5 hL (k := 1) (by decide)) dL_law_813 ?_
  refine lv_aload_n hx hb dL_law_814 rfl (lv_at hl 0 rfl) ?_
  refine lv_iload_n hx hb dL_law_815 rfl (lv_at hl 3 rfl) ?_
  refine lv_iconst (v := (2 : Int32)) hx hb dL_law_816 (by decide) ?_
  refine lv_iadd hx hb dL_law_817 ?_
  refine va_sld hx hb hX hbl hbA hS (ix_in h5 hL (k := 2) (by decide)) dL_law_818 ?_
  refine r_callVi (R := room_1) (cells := 60 + 20 * t) (slots := 3000 + 1000 * t) (As := [.int (xs (nI (5 * t) + (1 : Int32)).toNatClampNeg), .int (xs (nI (5 * t) + (2 : Int32)).toNatClampNeg)]) (rest := []) (i := 0) C hw hS (wi_lo (Or.inl (by decide))) rfl (ci := 0) rfl (met_X0_bears l G false q f1) (cwV 2 hts (lw_V q732 q733 q734 q57 q735) rfl rfl rfl (by decide +kernel) ⟨Nat.le_of_ble_eq_true rfl, Nat.le_of_ble_eq_true rfl⟩) rfl hl.1 rfl (Nat.le_of_ble_eq_true rfl) ⟨by omega, by omega⟩ dL_law_819 (fun H locs hw hS => ?_)
  refine lv_aload_n hx hb dL_law_822 rfl (lv_at hl 2 rfl) ?_
  refine lv_aload_n hx hb dL_law_823 rfl (lv_at hl 0 rfl) ?_
  refine lv_iload_n hx hb dL_law_824 rfl (lv_at hl 3 rfl) ?_
  refine lv_iconst (v := (1 : Int32)) hx hb dL_law_825 (by decide) ?_
  refine lv_iadd hx hb dL_law_826 ?_
  refine va_sld hx hb hX hbl hbA hS (ix_in h5 hL (k := 1) (by decide)) dL_law_827 ?_
  refine lv_aload_n hx hb dL_law_828 rfl (lv_at hl 0 rfl) ?_
  refine lv_iload_n hx hb dL_law_829 rfl (lv_at hl 3 rfl) ?_
  refine lv_iconst (v := (2 : Int32)) hx hb dL_law_830 (by decide) ?_
  refine lv_iadd hx hb dL_law_831 ?_
  refine va_sld hx hb hX hbl hbA hS (ix_in h5 hL (k := 2) (by decide)) dL_law_832 ?_
  refine r_callVi (R := room_1) (cells := 60 + 20 * t + 0) (slots := 3000 + 1000 * t + 0) (As := [.int (xs (nI (5 * t) + (1 : Int32)).toNatClampNeg), .int (xs (nI (5 * t) + (2 : Int32)).toNatClampNeg)]) (rest := [.int r]) (i := 1) C hw hS (wi_lo (Or.inl (by decide))) rfl (ci := 8) rfl (met_X8_bears l G false q f2) (cwV 2 hts (lw_V q1228 q1229 q1230 q65 q1231) rfl rfl rfl (by decide +kernel) ⟨Nat.le_of_ble_eq_true rfl, Nat.le_of_ble_eq_true rfl⟩) rfl hl.1 rfl (Nat.le_of_ble_eq_true rfl) ⟨by omega, by omega⟩ dL_law_833 (fun H locs hw hS => ?_)
  refine lv_icmp_eq (tgt := 1437) hx hb dL_law_836 (by decide) (fun _ => ?_) (fun c9 => absurd rfl c9)
  refine W.widen (k := 60 + 20 * t + 20) (n := 3000 + 1000 * t + 1000) (by omega) (by omega) ?_
  exact go q σ2 H locs ls hI2 hw hS hl
theorem w_case_23 {p : Program} {e : Env} {s : State} {m : MethodId} {below : List Frame} {meth : Method} {c : Code} {l : Launch} (hst : l.stackTraces = false) {b L : Nat} {xs : Nat → Int32} (hL : L ≤ 320) (hX : va_X b L xs s s.heap) (hbl : b < s.heap.size) {G : GG} (hG : G.2.2.1 = s.heap.size) (C : cx p s m #[Value.ref b] meth c code 4 R_law ret G) {Inv : Nat → SS → Prop} {N : Nat} (T : StepsL Inv N) {t : Nat} (ht : t < 64) (h5 : 5 * t + 5 ≤ L) (go : ∀ (q : Nat → Nat) (σ : SS) (H : Heap) (locs : List Loc) (ls : Array Slot), Inv (t + 1) σ → wx G false q σ H → va_S (fa G) s.heap H locs → lv_has ls 4 [(0, .ref b), (1, .ref (q 0)), (2, .ref (q 1)), (3, .int (nI (5 * t)))] → W p l e room_1 s m #[Value.ref b] below meth c H locs (60 + 20 * t + 20) (3000 + 1000 * t + 1000) (lw_Z below #[Value.ref b] s) (F0 m 1437 ls [])) (q : Nat → Nat) (σ : SS) (H : Heap) (locs : List Loc) (ls : Array Slot) (hI : Inv t σ) (hw : wx G false q σ H) (hS : va_S (fa G) s.heap H locs) (hl : lv_has ls 4 [(0, .ref b), (1, .ref (q 0)), (2, .ref (q 1)), (3, .int (nI (5 * t)))]) : W p l e room_1 s m #[Value.ref b] below meth c H locs (60 + 20 * t) (3000 + 1000 * t) (lw_Z below #[Value.ref b] s) (F0 m 841 ls []) := by
  obtain ⟨hx, hb, hml, hown, hts, hr, hlk, hk0, hox⟩ := id C
  have hbA : ¬ fa G b := fun h => absurd (show G.2.2.1 ≤ b from h) (by rw [hG]; omega)
  have hcl : 60 + 20 * t + 20 ≤ room_1.cells ∧ 3000 + 1000 * t + 1000 ≤ room_1.slots := ⟨by show 60 + 20 * t + 20 ≤ 603072; omega, by show 3000 + 1000 * t + 1000 ≤ 7262314; omega⟩
  obtain ⟨r, σ1, σ2, f1, f2, hI2⟩ := T.2.2.2.2.2.2.2.2.2.2.2.2.2.2.2.2.2.2.2.2.2.2.2.2.1 t σ (xs (nI (5 * t) + (1 : Int32)).toNatClampNeg) (xs (nI (5 * t) + (2 : Int32)).toNatClampNeg) ht hI
  refine lv_aload_n hx hb dL_law_841 rfl (lv_at hl 1 rfl) ?_
  refine lv_aload_n hx hb dL_law_842 rfl (lv_at hl 0 rfl) ?_
  refine lv_iload_n hx hb dL_law_843 rfl (lv_at hl 3 rfl) ?_
  refine lv_iconst (v := (1 : Int32)) hx hb dL_law_844 (by decide) ?_
  refine lv_iadd hx hb dL_law_845 ?_
  refine va_sld hx hb hX hbl hbA hS (ix_in h5 hL (k := 1) (by decide)) dL_law_846 ?_
  refine lv_aload_n hx hb dL_law_847 rfl (lv_at hl 0 rfl) ?_
  refine lv_iload_n hx hb dL_law_848 rfl (lv_at hl 3 rfl) ?_
  refine lv_iconst (v := (2 : Int32)) hx hb dL_law_849 (by decide) ?_
  refine lv_iadd hx hb dL_law_850 ?_
  refine va_sld hx hb hX hbl hbA hS (ix_in h5 hL (k := 2) (by decide)) dL_law_851 ?_
  refine r_callVi (R := room_1) (cells := 60 + 20 * t) (slots := 3000 + 1000 * t) (As := [.int (xs (nI (5 * t) + (1 : Int32)).toNatClampNeg), .int (xs (nI (5 * t) + (2 : Int32)).toNatClampNeg)]) (rest := []) (i := 0) C hw hS (wi_lo (Or.inl (by decide))) rfl (ci := 0) rfl (met_X0_swap l G false q f1) (cwV 2 hts (lw_V q736 q737 q738 q57 q739) rfl rfl rfl (by decide +kernel) ⟨Nat.le_of_ble_eq_true rfl, Nat.le_of_ble_eq_true rfl⟩) rfl hl.1 rfl (Nat.le_of_ble_eq_true rfl) ⟨by omega, by omega⟩ dL_law_852 (fun H locs hw hS => ?_)
  refine lv_aload_n hx hb dL_law_855 rfl (lv_at hl 2 rfl) ?_
  refine lv_aload_n hx hb dL_law_856 rfl (lv_at hl 0 rfl) ?_
  refine lv_iload_n hx hb dL_law_857 rfl (lv_at hl 3 rfl) ?_
  refine lv_iconst (v := (1 : Int32)) hx hb dL_law_858 (by decide) ?_
  refine lv_iadd hx hb dL_law_859 ?_
  refine va_sld hx hb hX hbl hbA hS (ix_in h5 hL (k := 1) (by decide)) dL_law_860 ?_
  refine lv_aload_n hx hb dL_law_861 rfl (lv_at hl 0 rfl) ?_
  refine lv_iload_n hx hb dL_law_862 rfl (lv_at hl 3 rfl) ?_
  refine lv_iconst (v := (2 : Int32)) hx hb dL_law_863 (by decide) ?_
  refine lv_iadd hx hb dL_law_864 ?_
  refine va_sld hx hb hX hbl hbA hS (ix_in h5 hL (k := 2) (by decide)) dL_law_865 ?_
  refine r_callVi (R := room_1) (cells := 60 + 20 * t + 0) (slots := 3000 + 1000 * t + 0) (As := [.int (xs (nI (5 * t) + (1 : Int32)).toNatClampNeg), .int (xs (nI (5 * t) + (2 : Int32)).toNatClampNeg)]) (rest := [.int r]) (i := 1) C hw hS (wi_lo (Or.inl (by decide))) rfl (ci := 8) rfl (met_X8_swap l G false q f2) (cwV 2 hts (lw_V q1232 q1233 q1234 q65 q1235) rfl rfl rfl (by decide +kernel) ⟨Nat.le_of_ble_eq_true rfl, Nat.le_of_ble_eq_true rfl⟩) rfl hl.1 rfl (Nat.le_of_ble_eq_true rfl) ⟨by omega, by omega⟩ dL_law_866 (fun H locs hw hS => ?_)
  refine lv_icmp_eq (tgt := 1437) hx hb dL_law_869 (by decide) (fun _ => ?_) (fun c9 => absurd rfl c9)
  refine W.widen (k := 60 + 20 * t + 20) (n := 3000 + 1000 * t + 1000) (by omega) (by omega) ?_
  exact go q σ2 H locs ls hI2 hw hS hl
theorem w_case_24 {p : Program} {e : Env} {s : State} {m : MethodId} {below : List Frame} {meth : Method} {c : Code} {l : Launch} (hst : l.stackTraces = false) {b L : Nat} {xs : Nat → Int32} (hL : L ≤ 320) (hX : va_X b L xs s s.heap) (hbl : b < s.heap.size) {G : GG} (hG : G.2.2.1 = s.heap.size) (C : cx p s m #[Value.ref b] meth c code 4 R_law ret G) {Inv : Nat → SS → Prop} {N : Nat} (T : StepsL Inv N) {t : Nat} (ht : t < 64) (h5 : 5 * t + 5 ≤ L) (go : ∀ (q : Nat → Nat) (σ : SS) (H : Heap) (locs : List Loc) (ls : Array Slot), Inv (t + 1) σ → wx G false q σ H → va_S (fa G) s.heap H locs → lv_has ls 4 [(0, .ref b), (1, .ref (q 0)), (2, .ref (q 1)), (3, .int (nI (5 * t)))] → W p l e room_1 s m #[Value.ref b] below meth c H locs (60 + 20 * t + 20) (3000 + 1000 * t + 1000) (lw_Z below #[Value.ref b] s) (F0 m 1437 ls [])) (q : Nat → Nat) (σ : SS) (H : Heap) (locs : List Loc) (ls : Array Slot) (hI : Inv t σ) (hw : wx G false q σ H) (hS : va_S (fa G) s.heap H locs) (hl : lv_has ls 4 [(0, .ref b), (1, .ref (q 0)), (2, .ref (q 1)), (3, .int (nI (5 * t)))]) : W p l e room_1 s m #[Value.ref b] below meth c H locs (60 + 20 * t) (3000 + 1000 * t) (lw_Z below #[Value.ref b] s) (F0 m 874 ls []) := by
  obtain ⟨hx, hb, hml, hown, hts, hr, hlk, hk0, hox⟩ := id C
  have hbA : ¬ fa G b := fun h => absurd (show G.2.2.1 ≤ b from h) (by rw [hG]; omega)
  have hcl : 60 + 20 * t + 20 ≤ room_1.cells ∧ 3000 + 1000 * t + 1000 ≤ room_1.slots := ⟨by show 60 + 20 * t + 20 ≤ 603072; omega, by show 3000 + 1000 * t + 1000 ≤ 7262314; omega⟩
  obtain ⟨r, σ1, σ2, f1, f2, hI2⟩ := T.2.2.2.2.2.2.2.2.2.2.2.2.2.2.2.2.2.2.2.2.2.2.2.2.2.1 t σ (xs (nI (5 * t) + (1 : Int32)).toNatClampNeg) (xs (nI (5 * t) + (2 : Int32)).toNatClampNeg) ht hI
  refine lv_aload_n hx hb dL_law_874 rfl (lv_at hl 1 rfl) ?_
  refine lv_aload_n hx hb dL_law_875 rfl (lv_at hl 0 rfl) ?_
  refine lv_iload_n hx hb dL_law_876 rfl (lv_at hl 3 rfl) ?_
  refine lv_iconst (v := (1 : Int32)) hx hb dL_law_877 (by decide) ?_
  refine lv_iadd hx hb dL_law_878 ?_
  refine va_sld hx hb hX hbl hbA hS (ix_in h5 hL (k := 1) (by decide)) dL_law_879 ?_
  refine lv_aload_n hx hb dL_law_880 rfl (lv_at hl 0 rfl) ?_
  refine lv_iload_n hx hb dL_law_881 rfl (lv_at hl 3 rfl) ?_
  refine lv_iconst (v := (2 : Int32)) hx hb dL_law_882 (by decide) ?_
  refine lv_iadd hx hb dL_law_883 ?_
  refine va_sld hx hb hX hbl hbA hS (ix_in h5 hL (k := 2) (by decide)) dL_law_884 ?_
  refine r_callVi (R := room_1) (cells := 60 + 20 * t) (slots := 3000 + 1000 * t) (As := [.int (xs (nI (5 * t) + (1 : Int32)).toNatClampNeg), .int (xs (nI (5 * t) + (2 : Int32)).toNatClampNeg)]) (rest := []) (i := 0) C hw hS (wi_lo (Or.inl (by decide))) rfl (ci := 0) rfl (met_X0_omit l G false q f1) (cwV 2 hts (lw_V q744 q745 q746 q57 q747) rfl rfl rfl (by decide +kernel) ⟨Nat.le_of_ble_eq_true rfl, Nat.le_of_ble_eq_true rfl⟩) rfl hl.1 rfl (Nat.le_of_ble_eq_true rfl) ⟨by omega, by omega⟩ dL_law_885 (fun H locs hw hS => ?_)
  refine lv_aload_n hx hb dL_law_888 rfl (lv_at hl 2 rfl) ?_
  refine lv_aload_n hx hb dL_law_889 rfl (lv_at hl 0 rfl) ?_
  refine lv_iload_n hx hb dL_law_890 rfl (lv_at hl 3 rfl) ?_
  refine lv_iconst (v := (1 : Int32)) hx hb dL_law_891 (by decide) ?_
  refine lv_iadd hx hb dL_law_892 ?_
  refine va_sld hx hb hX hbl hbA hS (ix_in h5 hL (k := 1) (by decide)) dL_law_893 ?_
  refine lv_aload_n hx hb dL_law_894 rfl (lv_at hl 0 rfl) ?_
  refine lv_iload_n hx hb dL_law_895 rfl (lv_at hl 3 rfl) ?_
  refine lv_iconst (v := (2 : Int32)) hx hb dL_law_896 (by decide) ?_
  refine lv_iadd hx hb dL_law_897 ?_
  refine va_sld hx hb hX hbl hbA hS (ix_in h5 hL (k := 2) (by decide)) dL_law_898 ?_
  refine r_callVi (R := room_1) (cells := 60 + 20 * t + 0) (slots := 3000 + 1000 * t + 0) (As := [.int (xs (nI (5 * t) + (1 : Int32)).toNatClampNeg), .int (xs (nI (5 * t) + (2 : Int32)).toNatClampNeg)]) (rest := [.int r]) (i := 1) C hw hS (wi_lo (Or.inl (by decide))) rfl (ci := 8) rfl (met_X8_omit l G false q f2) (cwV 2 hts (lw_V q1236 q1237 q1238 q65 q1239) rfl rfl rfl (by decide +kernel) ⟨Nat.le_of_ble_eq_true rfl, Nat.le_of_ble_eq_true rfl⟩) rfl hl.1 rfl (Nat.le_of_ble_eq_true rfl) ⟨by omega, by omega⟩ dL_law_899 (fun H locs hw hS => ?_)
  refine lv_icmp_eq (tgt := 1437) hx hb dL_law_902 (by decide) (fun _ => ?_) (fun c9 => absurd rfl c9)
  refine W.widen (k := 60 + 20 * t + 20) (n := 3000 + 1000 * t + 1000) (by omega) (by omega) ?_
  exact go q σ2 H locs ls hI2 hw hS hl
theorem w_case_25 {p : Program} {e : Env} {s : State} {m : MethodId} {below : List Frame} {meth : Method} {c : Code} {l : Launch} (hst : l.stackTraces = false) {b L : Nat} {xs : Nat → Int32} (hL : L ≤ 320) (hX : va_X b L xs s s.heap) (hbl : b < s.heap.size) {G : GG} (hG : G.2.2.1 = s.heap.size) (C : cx p s m #[Value.ref b] meth c code 4 R_law ret G) {Inv : Nat → SS → Prop} {N : Nat} (T : StepsL Inv N) {t : Nat} (ht : t < 64) (h5 : 5 * t + 5 ≤ L) (go : ∀ (q : Nat → Nat) (σ : SS) (H : Heap) (locs : List Loc) (ls : Array Slot), Inv (t + 1) σ → wx G false q σ H → va_S (fa G) s.heap H locs → lv_has ls 4 [(0, .ref b), (1, .ref (q 0)), (2, .ref (q 1)), (3, .int (nI (5 * t)))] → W p l e room_1 s m #[Value.ref b] below meth c H locs (60 + 20 * t + 20) (3000 + 1000 * t + 1000) (lw_Z below #[Value.ref b] s) (F0 m 1437 ls [])) (q : Nat → Nat) (σ : SS) (H : Heap) (locs : List Loc) (ls : Array Slot) (hI : Inv t σ) (hw : wx G false q σ H) (hS : va_S (fa G) s.heap H locs) (hl : lv_has ls 4 [(0, .ref b), (1, .ref (q 0)), (2, .ref (q 1)), (3, .int (nI (5 * t)))]) : W p l e room_1 s m #[Value.ref b] below meth c H locs (60 + 20 * t) (3000 + 1000 * t) (lw_Z below #[Value.ref b] s) (F0 m 907 ls []) := by
  obtain ⟨hx, hb, hml, hown, hts, hr, hlk, hk0, hox⟩ := id C
  have hbA : ¬ fa G b := fun h => absurd (show G.2.2.1 ≤ b from h) (by rw [hG]; omega)
  have hcl : 60 + 20 * t + 20 ≤ room_1.cells ∧ 3000 + 1000 * t + 1000 ≤ room_1.slots := ⟨by show 60 + 20 * t + 20 ≤ 603072; omega, by show 3000 + 1000 * t + 1000 ≤ 7262314; omega⟩
  obtain ⟨r, σ1, σ2, f1, f2, hI2⟩ := T.2.2.2.2.2.2.2.2.2.2.2.2.2.2.2.2.2.2.2.2.2.2.2.2.2.2.1 t σ (xs (nI (5 * t) + (1 : Int32)).toNatClampNeg) (xs (nI (5 * t) + (2 : Int32)).toNatClampNeg) ht hI
  refine lv_aload_n hx hb dL_law_907 rfl (lv_at hl 1 rfl) ?_
  refine lv_aload_n hx hb dL_law_908 rfl (lv_at hl 0 rfl) ?_
  refine lv_iload_n hx hb dL_law_909 rfl (lv_at hl 3 rfl) ?_
  refine lv_iconst (v := (1 : Int32)) hx hb dL_law_910 (by decide) ?_
  refine lv_iadd hx hb dL_law_911 ?_
  refine va_sld hx hb hX hbl hbA hS (ix_in h5 hL (k := 1) (by decide)) dL_law_912 ?_
  refine lv_aload_n hx hb dL_law_913 rfl (lv_at hl 0 rfl) ?_
  refine lv_iload_n hx hb dL_law_914 rfl (lv_at hl 3 rfl) ?_
  refine lv_iconst (v := (2 : Int32)) hx hb dL_law_915 (by decide) ?_
  refine lv_iadd hx hb dL_law_916 ?_
  refine va_sld hx hb hX hbl hbA hS (ix_in h5 hL (k := 2) (by decide)) dL_law_917 ?_
  refine r_callVi (R := room_1) (cells := 60 + 20 * t) (slots := 3000 + 1000 * t) (As := [.int (xs (nI (5 * t) + (1 : Int32)).toNatClampNeg), .int (xs (nI (5 * t) + (2 : Int32)).toNatClampNeg)]) (rest := []) (i := 0) C hw hS (wi_lo (Or.inl (by decide))) rfl (ci := 0) rfl (met_X0_off l G false q f1) (cwV 2 hts (lw_V q748 q749 q750 q57 q751) rfl rfl rfl (by decide +kernel) ⟨Nat.le_of_ble_eq_true rfl, Nat.le_of_ble_eq_true rfl⟩) rfl hl.1 rfl (Nat.le_of_ble_eq_true rfl) ⟨by omega, by omega⟩ dL_law_918 (fun H locs hw hS => ?_)
  refine lv_aload_n hx hb dL_law_921 rfl (lv_at hl 2 rfl) ?_
  refine lv_aload_n hx hb dL_law_922 rfl (lv_at hl 0 rfl) ?_
  refine lv_iload_n hx hb dL_law_923 rfl (lv_at hl 3 rfl) ?_
  refine lv_iconst (v := (1 : Int32)) hx hb dL_law_924 (by decide) ?_
  refine lv_iadd hx hb dL_law_925 ?_
  refine va_sld hx hb hX hbl hbA hS (ix_in h5 hL (k := 1) (by decide)) dL_law_926 ?_
  refine lv_aload_n hx hb dL_law_927 rfl (lv_at hl 0 rfl) ?_
  refine lv_iload_n hx hb dL_law_928 rfl (lv_at hl 3 rfl) ?_
  refine lv_iconst (v := (2 : Int32)) hx hb dL_law_929 (by decide) ?_
  refine lv_iadd hx hb dL_law_930 ?_
  refine va_sld hx hb hX hbl hbA hS (ix_in h5 hL (k := 2) (by decide)) dL_law_931 ?_
  refine r_callVi (R := room_1) (cells := 60 + 20 * t + 0) (slots := 3000 + 1000 * t + 0) (As := [.int (xs (nI (5 * t) + (1 : Int32)).toNatClampNeg), .int (xs (nI (5 * t) + (2 : Int32)).toNatClampNeg)]) (rest := [.int r]) (i := 1) C hw hS (wi_lo (Or.inl (by decide))) rfl (ci := 8) rfl (met_X8_off l G false q f2) (cwV 2 hts (lw_V q1240 q1241 q1242 q65 q1243) rfl rfl rfl (by decide +kernel) ⟨Nat.le_of_ble_eq_true rfl, Nat.le_of_ble_eq_true rfl⟩) rfl hl.1 rfl (Nat.le_of_ble_eq_true rfl) ⟨by omega, by omega⟩ dL_law_932 (fun H locs hw hS => ?_)
  refine lv_icmp_eq (tgt := 1437) hx hb dL_law_935 (by decide) (fun _ => ?_) (fun c9 => absurd rfl c9)
  refine W.widen (k := 60 + 20 * t + 20) (n := 3000 + 1000 * t + 1000) (by omega) (by omega) ?_
  exact go q σ2 H locs ls hI2 hw hS hl
theorem w_case_26 {p : Program} {e : Env} {s : State} {m : MethodId} {below : List Frame} {meth : Method} {c : Code} {l : Launch} (hst : l.stackTraces = false) {b L : Nat} {xs : Nat → Int32} (hL : L ≤ 320) (hX : va_X b L xs s s.heap) (hbl : b < s.heap.size) {G : GG} (hG : G.2.2.1 = s.heap.size) (C : cx p s m #[Value.ref b] meth c code 4 R_law ret G) {Inv : Nat → SS → Prop} {N : Nat} (T : StepsL Inv N) {t : Nat} (ht : t < 64) (h5 : 5 * t + 5 ≤ L) (go : ∀ (q : Nat → Nat) (σ : SS) (H : Heap) (locs : List Loc) (ls : Array Slot), Inv (t + 1) σ → wx G false q σ H → va_S (fa G) s.heap H locs → lv_has ls 4 [(0, .ref b), (1, .ref (q 0)), (2, .ref (q 1)), (3, .int (nI (5 * t)))] → W p l e room_1 s m #[Value.ref b] below meth c H locs (60 + 20 * t + 20) (3000 + 1000 * t + 1000) (lw_Z below #[Value.ref b] s) (F0 m 1437 ls [])) (q : Nat → Nat) (σ : SS) (H : Heap) (locs : List Loc) (ls : Array Slot) (hI : Inv t σ) (hw : wx G false q σ H) (hS : va_S (fa G) s.heap H locs) (hl : lv_has ls 4 [(0, .ref b), (1, .ref (q 0)), (2, .ref (q 1)), (3, .int (nI (5 * t)))]) : W p l e room_1 s m #[Value.ref b] below meth c H locs (60 + 20 * t) (3000 + 1000 * t) (lw_Z below #[Value.ref b] s) (F0 m 940 ls []) := by
  obtain ⟨hx, hb, hml, hown, hts, hr, hlk, hk0, hox⟩ := id C
  have hbA : ¬ fa G b := fun h => absurd (show G.2.2.1 ≤ b from h) (by rw [hG]; omega)
  have hcl : 60 + 20 * t + 20 ≤ room_1.cells ∧ 3000 + 1000 * t + 1000 ≤ room_1.slots := ⟨by show 60 + 20 * t + 20 ≤ 603072; omega, by show 3000 + 1000 * t + 1000 ≤ 7262314; omega⟩
  obtain ⟨r, σ1, σ2, f1, f2, hI2⟩ := T.2.2.2.2.2.2.2.2.2.2.2.2.2.2.2.2.2.2.2.2.2.2.2.2.2.2.2.1 t σ (xs (nI (5 * t) + (1 : Int32)).toNatClampNeg) (xs (nI (5 * t) + (2 : Int32)).toNatClampNeg) (xs (nI (5 * t) + (3 : Int32)).toNatClampNeg) ht hI
  refine lv_aload_n hx hb dL_law_940 rfl (lv_at hl 1 rfl) ?_
  refine lv_aload_n hx hb dL_law_941 rfl (lv_at hl 0 rfl) ?_
  refine lv_iload_n hx hb dL_law_942 rfl (lv_at hl 3 rfl) ?_
  refine lv_iconst (v := (1 : Int32)) hx hb dL_law_943 (by decide) ?_
  refine lv_iadd hx hb dL_law_944 ?_
  refine va_sld hx hb hX hbl hbA hS (ix_in h5 hL (k := 1) (by decide)) dL_law_945 ?_
  refine lv_aload_n hx hb dL_law_946 rfl (lv_at hl 0 rfl) ?_
  refine lv_iload_n hx hb dL_law_947 rfl (lv_at hl 3 rfl) ?_
  refine lv_iconst (v := (2 : Int32)) hx hb dL_law_948 (by decide) ?_
  refine lv_iadd hx hb dL_law_949 ?_
  refine va_sld hx hb hX hbl hbA hS (ix_in h5 hL (k := 2) (by decide)) dL_law_950 ?_
  refine lv_aload_n hx hb dL_law_951 rfl (lv_at hl 0 rfl) ?_
  refine lv_iload_n hx hb dL_law_952 rfl (lv_at hl 3 rfl) ?_
  refine lv_iconst (v := (3 : Int32)) hx hb dL_law_953 (by decide) ?_
  refine lv_iadd hx hb dL_law_954 ?_
  refine va_sld hx hb hX hbl hbA hS (ix_in h5 hL (k := 3) (by decide)) dL_law_955 ?_
  refine r_callVl (R := room_1) (cells := 60 + 20 * t) (slots := 3000 + 1000 * t) (As := [.int (xs (nI (5 * t) + (1 : Int32)).toNatClampNeg), .int (xs (nI (5 * t) + (2 : Int32)).toNatClampNeg), .int (xs (nI (5 * t) + (3 : Int32)).toNatClampNeg)]) (rest := []) (i := 0) C hw hS (wi_lo (Or.inl (by decide))) rfl (ci := 0) rfl (met_X0_luck l G false q f1) (cwV 3 hts (lw_V q752 q753 q754 q57 q755) rfl rfl rfl (by decide +kernel) ⟨Nat.le_of_ble_eq_true rfl, Nat.le_of_ble_eq_true rfl⟩) rfl hl.1 rfl (Nat.le_of_ble_eq_true rfl) ⟨by omega, by omega⟩ dL_law_956 (fun H locs hw hS => ?_)
  refine lv_aload_n hx hb dL_law_959 rfl (lv_at hl 2 rfl) ?_
  refine lv_aload_n hx hb dL_law_960 rfl (lv_at hl 0 rfl) ?_
  refine lv_iload_n hx hb dL_law_961 rfl (lv_at hl 3 rfl) ?_
  refine lv_iconst (v := (1 : Int32)) hx hb dL_law_962 (by decide) ?_
  refine lv_iadd hx hb dL_law_963 ?_
  refine va_sld hx hb hX hbl hbA hS (ix_in h5 hL (k := 1) (by decide)) dL_law_964 ?_
  refine lv_aload_n hx hb dL_law_965 rfl (lv_at hl 0 rfl) ?_
  refine lv_iload_n hx hb dL_law_966 rfl (lv_at hl 3 rfl) ?_
  refine lv_iconst (v := (2 : Int32)) hx hb dL_law_967 (by decide) ?_
  refine lv_iadd hx hb dL_law_968 ?_
  refine va_sld hx hb hX hbl hbA hS (ix_in h5 hL (k := 2) (by decide)) dL_law_969 ?_
  refine lv_aload_n hx hb dL_law_970 rfl (lv_at hl 0 rfl) ?_
  refine lv_iload_n hx hb dL_law_971 rfl (lv_at hl 3 rfl) ?_
  refine lv_iconst (v := (3 : Int32)) hx hb dL_law_972 (by decide) ?_
  refine lv_iadd hx hb dL_law_973 ?_
  refine va_sld hx hb hX hbl hbA hS (ix_in h5 hL (k := 3) (by decide)) dL_law_974 ?_
  refine r_callVl (R := room_1) (cells := 60 + 20 * t + 0) (slots := 3000 + 1000 * t + 0) (As := [.int (xs (nI (5 * t) + (1 : Int32)).toNatClampNeg), .int (xs (nI (5 * t) + (2 : Int32)).toNatClampNeg), .int (xs (nI (5 * t) + (3 : Int32)).toNatClampNeg)]) (rest := [.long r]) (i := 1) C hw hS (wi_lo (Or.inl (by decide))) rfl (ci := 8) rfl (met_X8_luck l G false q f2) (cwV 3 hts (lw_V q1244 q1245 q1246 q65 q1247) rfl rfl rfl (by decide +kernel) ⟨Nat.le_of_ble_eq_true rfl, Nat.le_of_ble_eq_true rfl⟩) rfl hl.1 rfl (Nat.le_of_ble_eq_true rfl) ⟨by omega, by omega⟩ dL_law_975 (fun H locs hw hS => ?_)
  refine W.lcmp hx hb dL_law_978 ?_
  refine lv_if_eq (tgt := 1437) hx hb dL_law_979 (by decide) (fun _ => ?_) (fun c9 => absurd (lg_cmp_self r) c9)
  refine W.widen (k := 60 + 20 * t + 20) (n := 3000 + 1000 * t + 1000) (by omega) (by omega) ?_
  exact go q σ2 H locs ls hI2 hw hS hl
theorem w_case_27 {p : Program} {e : Env} {s : State} {m : MethodId} {below : List Frame} {meth : Method} {c : Code} {l : Launch} (hst : l.stackTraces = false) {b L : Nat} {xs : Nat → Int32} (hL : L ≤ 320) (hX : va_X b L xs s s.heap) (hbl : b < s.heap.size) {G : GG} (hG : G.2.2.1 = s.heap.size) (C : cx p s m #[Value.ref b] meth c code 4 R_law ret G) {Inv : Nat → SS → Prop} {N : Nat} (T : StepsL Inv N) {t : Nat} (ht : t < 64) (h5 : 5 * t + 5 ≤ L) (go : ∀ (q : Nat → Nat) (σ : SS) (H : Heap) (locs : List Loc) (ls : Array Slot), Inv (t + 1) σ → wx G false q σ H → va_S (fa G) s.heap H locs → lv_has ls 4 [(0, .ref b), (1, .ref (q 0)), (2, .ref (q 1)), (3, .int (nI (5 * t)))] → W p l e room_1 s m #[Value.ref b] below meth c H locs (60 + 20 * t + 20) (3000 + 1000 * t + 1000) (lw_Z below #[Value.ref b] s) (F0 m 1437 ls [])) (q : Nat → Nat) (σ : SS) (H : Heap) (locs : List Loc) (ls : Array Slot) (hI : Inv t σ) (hw : wx G false q σ H) (hS : va_S (fa G) s.heap H locs) (hl : lv_has ls 4 [(0, .ref b), (1, .ref (q 0)), (2, .ref (q 1)), (3, .int (nI (5 * t)))]) : W p l e room_1 s m #[Value.ref b] below meth c H locs (60 + 20 * t) (3000 + 1000 * t) (lw_Z below #[Value.ref b] s) (F0 m 984 ls []) := by
  obtain ⟨hx, hb, hml, hown, hts, hr, hlk, hk0, hox⟩ := id C
  have hbA : ¬ fa G b := fun h => absurd (show G.2.2.1 ≤ b from h) (by rw [hG]; omega)
  have hcl : 60 + 20 * t + 20 ≤ room_1.cells ∧ 3000 + 1000 * t + 1000 ≤ room_1.slots := ⟨by show 60 + 20 * t + 20 ≤ 603072; omega, by show 3000 + 1000 * t + 1000 ≤ 7262314; omega⟩
  obtain ⟨r, σ1, σ2, f1, f2, hI2⟩ := T.2.2.2.2.2.2.2.2.2.2.2.2.2.2.2.2.2.2.2.2.2.2.2.2.2.2.2.2.1 t σ (xs (nI (5 * t) + (1 : Int32)).toNatClampNeg) (xs (nI (5 * t) + (2 : Int32)).toNatClampNeg) (xs (nI (5 * t) + (3 : Int32)).toNatClampNeg) ht hI
  refine lv_aload_n hx hb dL_law_984 rfl (lv_at hl 1 rfl) ?_
  refine lv_aload_n hx hb dL_law_985 rfl (lv_at hl 0 rfl) ?_
  refine lv_iload_n hx hb dL_law_986 rfl (lv_at hl 3 rfl) ?_
  refine lv_iconst (v := (1 : Int32)) hx hb dL_law_987 (by decide) ?_
  refine lv_iadd hx hb dL_law_988 ?_
  refine va_sld hx hb hX hbl hbA hS (ix_in h5 hL (k := 1) (by decide)) dL_law_989 ?_
  refine lv_aload_n hx hb dL_law_990 rfl (lv_at hl 0 rfl) ?_
  refine lv_iload_n hx hb dL_law_991 rfl (lv_at hl 3 rfl) ?_
  refine lv_iconst (v := (2 : Int32)) hx hb dL_law_992 (by decide) ?_
  refine lv_iadd hx hb dL_law_993 ?_
  refine va_sld hx hb hX hbl hbA hS (ix_in h5 hL (k := 2) (by decide)) dL_law_994 ?_
  refine lv_aload_n hx hb dL_law_995 rfl (lv_at hl 0 rfl) ?_
  refine lv_iload_n hx hb dL_law_996 rfl (lv_at hl 3 rfl) ?_
  refine lv_iconst (v := (3 : Int32)) hx hb dL_law_997 (by decide) ?_
  refine lv_iadd hx hb dL_law_998 ?_
  refine va_sld hx hb hX hbl hbA hS (ix_in h5 hL (k := 3) (by decide)) dL_law_999 ?_
  refine r_callVl (R := room_1) (cells := 60 + 20 * t) (slots := 3000 + 1000 * t) (As := [.int (xs (nI (5 * t) + (1 : Int32)).toNatClampNeg), .int (xs (nI (5 * t) + (2 : Int32)).toNatClampNeg), .int (xs (nI (5 * t) + (3 : Int32)).toNatClampNeg)]) (rest := []) (i := 0) C hw hS (wi_lo (Or.inl (by decide))) rfl (ci := 0) rfl (met_X0_mean l G false q f1) (cwV 3 hts (lw_V q769 q770 q771 q57 q772) rfl rfl rfl (by decide +kernel) ⟨Nat.le_of_ble_eq_true rfl, Nat.le_of_ble_eq_true rfl⟩) rfl hl.1 rfl (Nat.le_of_ble_eq_true rfl) ⟨by omega, by omega⟩ dL_law_1000 (fun H locs hw hS => ?_)
  refine lv_aload_n hx hb dL_law_1003 rfl (lv_at hl 2 rfl) ?_
  refine lv_aload_n hx hb dL_law_1004 rfl (lv_at hl 0 rfl) ?_
  refine lv_iload_n hx hb dL_law_1005 rfl (lv_at hl 3 rfl) ?_
  refine lv_iconst (v := (1 : Int32)) hx hb dL_law_1006 (by decide) ?_
  refine lv_iadd hx hb dL_law_1007 ?_
  refine va_sld hx hb hX hbl hbA hS (ix_in h5 hL (k := 1) (by decide)) dL_law_1008 ?_
  refine lv_aload_n hx hb dL_law_1009 rfl (lv_at hl 0 rfl) ?_
  refine lv_iload_n hx hb dL_law_1010 rfl (lv_at hl 3 rfl) ?_
  refine lv_iconst (v := (2 : Int32)) hx hb dL_law_1011 (by decide) ?_
  refine lv_iadd hx hb dL_law_1012 ?_
  refine va_sld hx hb hX hbl hbA hS (ix_in h5 hL (k := 2) (by decide)) dL_law_1013 ?_
  refine lv_aload_n hx hb dL_law_1014 rfl (lv_at hl 0 rfl) ?_
  refine lv_iload_n hx hb dL_law_1015 rfl (lv_at hl 3 rfl) ?_
  refine lv_iconst (v := (3 : Int32)) hx hb dL_law_1016 (by decide) ?_
  refine lv_iadd hx hb dL_law_1017 ?_
  refine va_sld hx hb hX hbl hbA hS (ix_in h5 hL (k := 3) (by decide)) dL_law_1018 ?_
  refine r_callVl (R := room_1) (cells := 60 + 20 * t + 0) (slots := 3000 + 1000 * t + 0) (As := [.int (xs (nI (5 * t) + (1 : Int32)).toNatClampNeg), .int (xs (nI (5 * t) + (2 : Int32)).toNatClampNeg), .int (xs (nI (5 * t) + (3 : Int32)).toNatClampNeg)]) (rest := [.long r]) (i := 1) C hw hS (wi_lo (Or.inl (by decide))) rfl (ci := 8) rfl (met_X8_mean l G false q f2) (cwV 3 hts (lw_V q1258 q1259 q1260 q65 q1261) rfl rfl rfl (by decide +kernel) ⟨Nat.le_of_ble_eq_true rfl, Nat.le_of_ble_eq_true rfl⟩) rfl hl.1 rfl (Nat.le_of_ble_eq_true rfl) ⟨by omega, by omega⟩ dL_law_1019 (fun H locs hw hS => ?_)
  refine W.lcmp hx hb dL_law_1022 ?_
  refine lv_if_eq (tgt := 1437) hx hb dL_law_1023 (by decide) (fun _ => ?_) (fun c9 => absurd (lg_cmp_self r) c9)
  refine W.widen (k := 60 + 20 * t + 20) (n := 3000 + 1000 * t + 1000) (by omega) (by omega) ?_
  exact go q σ2 H locs ls hI2 hw hS hl
theorem w_case_28 {p : Program} {e : Env} {s : State} {m : MethodId} {below : List Frame} {meth : Method} {c : Code} {l : Launch} (hst : l.stackTraces = false) {b L : Nat} {xs : Nat → Int32} (hL : L ≤ 320) (hX : va_X b L xs s s.heap) (hbl : b < s.heap.size) {G : GG} (hG : G.2.2.1 = s.heap.size) (C : cx p s m #[Value.ref b] meth c code 4 R_law ret G) {Inv : Nat → SS → Prop} {N : Nat} (T : StepsL Inv N) {t : Nat} (ht : t < 64) (h5 : 5 * t + 5 ≤ L) (go : ∀ (q : Nat → Nat) (σ : SS) (H : Heap) (locs : List Loc) (ls : Array Slot), Inv (t + 1) σ → wx G false q σ H → va_S (fa G) s.heap H locs → lv_has ls 4 [(0, .ref b), (1, .ref (q 0)), (2, .ref (q 1)), (3, .int (nI (5 * t)))] → W p l e room_1 s m #[Value.ref b] below meth c H locs (60 + 20 * t + 20) (3000 + 1000 * t + 1000) (lw_Z below #[Value.ref b] s) (F0 m 1437 ls [])) (q : Nat → Nat) (σ : SS) (H : Heap) (locs : List Loc) (ls : Array Slot) (hI : Inv t σ) (hw : wx G false q σ H) (hS : va_S (fa G) s.heap H locs) (hl : lv_has ls 4 [(0, .ref b), (1, .ref (q 0)), (2, .ref (q 1)), (3, .int (nI (5 * t)))]) : W p l e room_1 s m #[Value.ref b] below meth c H locs (60 + 20 * t) (3000 + 1000 * t) (lw_Z below #[Value.ref b] s) (F0 m 1028 ls []) := by
  obtain ⟨hx, hb, hml, hown, hts, hr, hlk, hk0, hox⟩ := id C
  have hbA : ¬ fa G b := fun h => absurd (show G.2.2.1 ≤ b from h) (by rw [hG]; omega)
  have hcl : 60 + 20 * t + 20 ≤ room_1.cells ∧ 3000 + 1000 * t + 1000 ≤ room_1.slots := ⟨by show 60 + 20 * t + 20 ≤ 603072; omega, by show 3000 + 1000 * t + 1000 ≤ 7262314; omega⟩
  obtain ⟨r, σ1, σ2, f1, f2, hI2⟩ := T.2.2.2.2.2.2.2.2.2.2.2.2.2.2.2.2.2.2.2.2.2.2.2.2.2.2.2.2.2.1 t σ (xs (nI (5 * t) + (1 : Int32)).toNatClampNeg) (xs (nI (5 * t) + (2 : Int32)).toNatClampNeg) (xs (nI (5 * t) + (3 : Int32)).toNatClampNeg) ht hI
  refine lv_aload_n hx hb dL_law_1028 rfl (lv_at hl 1 rfl) ?_
  refine lv_aload_n hx hb dL_law_1029 rfl (lv_at hl 0 rfl) ?_
  refine lv_iload_n hx hb dL_law_1030 rfl (lv_at hl 3 rfl) ?_
  refine lv_iconst (v := (1 : Int32)) hx hb dL_law_1031 (by decide) ?_
  refine lv_iadd hx hb dL_law_1032 ?_
  refine va_sld hx hb hX hbl hbA hS (ix_in h5 hL (k := 1) (by decide)) dL_law_1033 ?_
  refine lv_aload_n hx hb dL_law_1034 rfl (lv_at hl 0 rfl) ?_
  refine lv_iload_n hx hb dL_law_1035 rfl (lv_at hl 3 rfl) ?_
  refine lv_iconst (v := (2 : Int32)) hx hb dL_law_1036 (by decide) ?_
  refine lv_iadd hx hb dL_law_1037 ?_
  refine va_sld hx hb hX hbl hbA hS (ix_in h5 hL (k := 2) (by decide)) dL_law_1038 ?_
  refine lv_aload_n hx hb dL_law_1039 rfl (lv_at hl 0 rfl) ?_
  refine lv_iload_n hx hb dL_law_1040 rfl (lv_at hl 3 rfl) ?_
  refine lv_iconst (v := (3 : Int32)) hx hb dL_law_1041 (by decide) ?_
  refine lv_iadd hx hb dL_law_1042 ?_
  refine va_sld hx hb hX hbl hbA hS (ix_in h5 hL (k := 3) (by decide)) dL_law_1043 ?_
  refine r_callVi (R := room_1) (cells := 60 + 20 * t) (slots := 3000 + 1000 * t) (As := [.int (xs (nI (5 * t) + (1 : Int32)).toNatClampNeg), .int (xs (nI (5 * t) + (2 : Int32)).toNatClampNeg), .int (xs (nI (5 * t) + (3 : Int32)).toNatClampNeg)]) (rest := []) (i := 0) C hw hS (wi_lo (Or.inl (by decide))) rfl (ci := 0) rfl (met_X0_see l G false q f1) (cwV 3 hts (lw_V q773 q774 q775 q57 q776) rfl rfl rfl (by decide +kernel) ⟨Nat.le_of_ble_eq_true rfl, Nat.le_of_ble_eq_true rfl⟩) rfl hl.1 rfl (Nat.le_of_ble_eq_true rfl) ⟨by omega, by omega⟩ dL_law_1044 (fun H locs hw hS => ?_)
  refine lv_aload_n hx hb dL_law_1047 rfl (lv_at hl 2 rfl) ?_
  refine lv_aload_n hx hb dL_law_1048 rfl (lv_at hl 0 rfl) ?_
  refine lv_iload_n hx hb dL_law_1049 rfl (lv_at hl 3 rfl) ?_
  refine lv_iconst (v := (1 : Int32)) hx hb dL_law_1050 (by decide) ?_
  refine lv_iadd hx hb dL_law_1051 ?_
  refine va_sld hx hb hX hbl hbA hS (ix_in h5 hL (k := 1) (by decide)) dL_law_1052 ?_
  refine lv_aload_n hx hb dL_law_1053 rfl (lv_at hl 0 rfl) ?_
  refine lv_iload_n hx hb dL_law_1054 rfl (lv_at hl 3 rfl) ?_
  refine lv_iconst (v := (2 : Int32)) hx hb dL_law_1055 (by decide) ?_
  refine lv_iadd hx hb dL_law_1056 ?_
  refine va_sld hx hb hX hbl hbA hS (ix_in h5 hL (k := 2) (by decide)) dL_law_1057 ?_
  refine lv_aload_n hx hb dL_law_1058 rfl (lv_at hl 0 rfl) ?_
  refine lv_iload_n hx hb dL_law_1059 rfl (lv_at hl 3 rfl) ?_
  refine lv_iconst (v := (3 : Int32)) hx hb dL_law_1060 (by decide) ?_
  refine lv_iadd hx hb dL_law_1061 ?_
  refine va_sld hx hb hX hbl hbA hS (ix_in h5 hL (k := 3) (by decide)) dL_law_1062 ?_
  refine r_callVi (R := room_1) (cells := 60 + 20 * t + 0) (slots := 3000 + 1000 * t + 0) (As := [.int (xs (nI (5 * t) + (1 : Int32)).toNatClampNeg), .int (xs (nI (5 * t) + (2 : Int32)).toNatClampNeg), .int (xs (nI (5 * t) + (3 : Int32)).toNatClampNeg)]) (rest := [.int r]) (i := 1) C hw hS (wi_lo (Or.inl (by decide))) rfl (ci := 8) rfl (met_X8_see l G false q f2) (cwV 3 hts (lw_V q1262 q1263 q1264 q65 q1265) rfl rfl rfl (by decide +kernel) ⟨Nat.le_of_ble_eq_true rfl, Nat.le_of_ble_eq_true rfl⟩) rfl hl.1 rfl (Nat.le_of_ble_eq_true rfl) ⟨by omega, by omega⟩ dL_law_1063 (fun H locs hw hS => ?_)
  refine lv_icmp_eq (tgt := 1437) hx hb dL_law_1066 (by decide) (fun _ => ?_) (fun c9 => absurd rfl c9)
  refine W.widen (k := 60 + 20 * t + 20) (n := 3000 + 1000 * t + 1000) (by omega) (by omega) ?_
  exact go q σ2 H locs ls hI2 hw hS hl
theorem w_case_29 {p : Program} {e : Env} {s : State} {m : MethodId} {below : List Frame} {meth : Method} {c : Code} {l : Launch} (hst : l.stackTraces = false) {b L : Nat} {xs : Nat → Int32} (hL : L ≤ 320) (hX : va_X b L xs s s.heap) (hbl : b < s.heap.size) {G : GG} (hG : G.2.2.1 = s.heap.size) (C : cx p s m #[Value.ref b] meth c code 4 R_law ret G) {Inv : Nat → SS → Prop} {N : Nat} (T : StepsL Inv N) {t : Nat} (ht : t < 64) (h5 : 5 * t + 5 ≤ L) (go : ∀ (q : Nat → Nat) (σ : SS) (H : Heap) (locs : List Loc) (ls : Array Slot), Inv (t + 1) σ → wx G false q σ H → va_S (fa G) s.heap H locs → lv_has ls 4 [(0, .ref b), (1, .ref (q 0)), (2, .ref (q 1)), (3, .int (nI (5 * t)))] → W p l e room_1 s m #[Value.ref b] below meth c H locs (60 + 20 * t + 20) (3000 + 1000 * t + 1000) (lw_Z below #[Value.ref b] s) (F0 m 1437 ls [])) (q : Nat → Nat) (σ : SS) (H : Heap) (locs : List Loc) (ls : Array Slot) (hI : Inv t σ) (hw : wx G false q σ H) (hS : va_S (fa G) s.heap H locs) (hl : lv_has ls 4 [(0, .ref b), (1, .ref (q 0)), (2, .ref (q 1)), (3, .int (nI (5 * t)))]) : W p l e room_1 s m #[Value.ref b] below meth c H locs (60 + 20 * t) (3000 + 1000 * t) (lw_Z below #[Value.ref b] s) (F0 m 1071 ls []) := by
  obtain ⟨hx, hb, hml, hown, hts, hr, hlk, hk0, hox⟩ := id C
  have hbA : ¬ fa G b := fun h => absurd (show G.2.2.1 ≤ b from h) (by rw [hG]; omega)
  have hcl : 60 + 20 * t + 20 ≤ room_1.cells ∧ 3000 + 1000 * t + 1000 ≤ room_1.slots := ⟨by show 60 + 20 * t + 20 ≤ 603072; omega, by show 3000 + 1000 * t + 1000 ≤ 7262314; omega⟩
  obtain ⟨r, σ1, σ2, f1, f2, hI2⟩ := T.2.2.2.2.2.2.2.2.2.2.2.2.2.2.2.2.2.2.2.2.2.2.2.2.2.2.2.2.2.2.1 t σ (xs (nI (5 * t) + (1 : Int32)).toNatClampNeg) ht hI
  refine lv_aload_n hx hb dL_law_1071 rfl (lv_at hl 1 rfl) ?_
  refine lv_aload_n hx hb dL_law_1072 rfl (lv_at hl 0 rfl) ?_
  refine lv_iload_n hx hb dL_law_1073 rfl (lv_at hl 3 rfl) ?_
  refine lv_iconst (v := (1 : Int32)) hx hb dL_law_1074 (by decide) ?_
  refine lv_iadd hx hb dL_law_1075 ?_
  refine va_sld hx hb hX hbl hbA hS (ix_in h5 hL (k := 1) (by decide)) dL_law_1076 ?_
  refine r_callVi (R := room_1) (cells := 60 + 20 * t) (slots := 3000 + 1000 * t) (As := [.int (xs (nI (5 * t) + (1 : Int32)).toNatClampNeg)]) (rest := []) (i := 0) C hw hS (wi_lo (Or.inl (by decide))) rfl (ci := 0) rfl (met_X0_forget l G false q f1) (cwV 1 hts (lw_V q779 q780 q781 q57 q782) rfl rfl rfl (by decide +kernel) ⟨Nat.le_of_ble_eq_true rfl, Nat.le_of_ble_eq_true rfl⟩) rfl hl.1 rfl (Nat.le_of_ble_eq_true rfl) ⟨by omega, by omega⟩ dL_law_1077 (fun H locs hw hS => ?_)
  refine lv_aload_n hx hb dL_law_1080 rfl (lv_at hl 2 rfl) ?_
  refine lv_aload_n hx hb dL_law_1081 rfl (lv_at hl 0 rfl) ?_
  refine lv_iload_n hx hb dL_law_1082 rfl (lv_at hl 3 rfl) ?_
  refine lv_iconst (v := (1 : Int32)) hx hb dL_law_1083 (by decide) ?_
  refine lv_iadd hx hb dL_law_1084 ?_
  refine va_sld hx hb hX hbl hbA hS (ix_in h5 hL (k := 1) (by decide)) dL_law_1085 ?_
  refine r_callVi (R := room_1) (cells := 60 + 20 * t + 0) (slots := 3000 + 1000 * t + 0) (As := [.int (xs (nI (5 * t) + (1 : Int32)).toNatClampNeg)]) (rest := [.int r]) (i := 1) C hw hS (wi_lo (Or.inl (by decide))) rfl (ci := 8) rfl (met_X8_forget l G false q f2) (cwV 1 hts (lw_V q1268 q1269 q1270 q65 q1271) rfl rfl rfl (by decide +kernel) ⟨Nat.le_of_ble_eq_true rfl, Nat.le_of_ble_eq_true rfl⟩) rfl hl.1 rfl (Nat.le_of_ble_eq_true rfl) ⟨by omega, by omega⟩ dL_law_1086 (fun H locs hw hS => ?_)
  refine lv_icmp_eq (tgt := 1437) hx hb dL_law_1089 (by decide) (fun _ => ?_) (fun c9 => absurd rfl c9)
  refine W.widen (k := 60 + 20 * t + 20) (n := 3000 + 1000 * t + 1000) (by omega) (by omega) ?_
  exact go q σ2 H locs ls hI2 hw hS hl
theorem w_case_30 {p : Program} {e : Env} {s : State} {m : MethodId} {below : List Frame} {meth : Method} {c : Code} {l : Launch} (hst : l.stackTraces = false) {b L : Nat} {xs : Nat → Int32} (hL : L ≤ 320) (hX : va_X b L xs s s.heap) (hbl : b < s.heap.size) {G : GG} (hG : G.2.2.1 = s.heap.size) (C : cx p s m #[Value.ref b] meth c code 4 R_law ret G) {Inv : Nat → SS → Prop} {N : Nat} (T : StepsL Inv N) {t : Nat} (ht : t < 64) (h5 : 5 * t + 5 ≤ L) (go : ∀ (q : Nat → Nat) (σ : SS) (H : Heap) (locs : List Loc) (ls : Array Slot), Inv (t + 1) σ → wx G false q σ H → va_S (fa G) s.heap H locs → lv_has ls 4 [(0, .ref b), (1, .ref (q 0)), (2, .ref (q 1)), (3, .int (nI (5 * t)))] → W p l e room_1 s m #[Value.ref b] below meth c H locs (60 + 20 * t + 20) (3000 + 1000 * t + 1000) (lw_Z below #[Value.ref b] s) (F0 m 1437 ls [])) (q : Nat → Nat) (σ : SS) (H : Heap) (locs : List Loc) (ls : Array Slot) (hI : Inv t σ) (hw : wx G false q σ H) (hS : va_S (fa G) s.heap H locs) (hl : lv_has ls 4 [(0, .ref b), (1, .ref (q 0)), (2, .ref (q 1)), (3, .int (nI (5 * t)))]) : W p l e room_1 s m #[Value.ref b] below meth c H locs (60 + 20 * t) (3000 + 1000 * t) (lw_Z below #[Value.ref b] s) (F0 m 1094 ls []) := by
  obtain ⟨hx, hb, hml, hown, hts, hr, hlk, hk0, hox⟩ := id C
  have hbA : ¬ fa G b := fun h => absurd (show G.2.2.1 ≤ b from h) (by rw [hG]; omega)
  have hcl : 60 + 20 * t + 20 ≤ room_1.cells ∧ 3000 + 1000 * t + 1000 ≤ room_1.slots := ⟨by show 60 + 20 * t + 20 ≤ 603072; omega, by show 3000 + 1000 * t + 1000 ≤ 7262314; omega⟩
  obtain ⟨r, σ1, σ2, f1, f2, hI2⟩ := T.2.2.2.2.2.2.2.2.2.2.2.2.2.2.2.2.2.2.2.2.2.2.2.2.2.2.2.2.2.2.2.1 t σ (xs (nI (5 * t) + (1 : Int32)).toNatClampNeg) ht hI
  refine lv_aload_n hx hb dL_law_1094 rfl (lv_at hl 1 rfl) ?_
  refine lv_aload_n hx hb dL_law_1095 rfl (lv_at hl 0 rfl) ?_
  refine lv_iload_n hx hb dL_law_1096 rfl (lv_at hl 3 rfl) ?_
  refine lv_iconst (v := (1 : Int32)) hx hb dL_law_1097 (by decide) ?_
  refine lv_iadd hx hb dL_law_1098 ?_
  refine va_sld hx hb hX hbl hbA hS (ix_in h5 hL (k := 1) (by decide)) dL_law_1099 ?_
  refine r_callVi (R := room_1) (cells := 60 + 20 * t) (slots := 3000 + 1000 * t) (As := [.int (xs (nI (5 * t) + (1 : Int32)).toNatClampNeg)]) (rest := []) (i := 0) C hw hS (wi_lo (Or.inl (by decide))) rfl (ci := 0) rfl (met_X0_kinds l G false q f1) (cwV 1 hts (lw_V q783 q784 q785 q57 q786) rfl rfl rfl (by decide +kernel) ⟨Nat.le_of_ble_eq_true rfl, Nat.le_of_ble_eq_true rfl⟩) rfl hl.1 rfl (Nat.le_of_ble_eq_true rfl) ⟨by omega, by omega⟩ dL_law_1100 (fun H locs hw hS => ?_)
  refine lv_aload_n hx hb dL_law_1103 rfl (lv_at hl 2 rfl) ?_
  refine lv_aload_n hx hb dL_law_1104 rfl (lv_at hl 0 rfl) ?_
  refine lv_iload_n hx hb dL_law_1105 rfl (lv_at hl 3 rfl) ?_
  refine lv_iconst (v := (1 : Int32)) hx hb dL_law_1106 (by decide) ?_
  refine lv_iadd hx hb dL_law_1107 ?_
  refine va_sld hx hb hX hbl hbA hS (ix_in h5 hL (k := 1) (by decide)) dL_law_1108 ?_
  refine r_callVi (R := room_1) (cells := 60 + 20 * t + 0) (slots := 3000 + 1000 * t + 0) (As := [.int (xs (nI (5 * t) + (1 : Int32)).toNatClampNeg)]) (rest := [.int r]) (i := 1) C hw hS (wi_lo (Or.inl (by decide))) rfl (ci := 8) rfl (met_X8_kinds l G false q f2) (cwV 1 hts (lw_V q1272 q1273 q1274 q65 q1275) rfl rfl rfl (by decide +kernel) ⟨Nat.le_of_ble_eq_true rfl, Nat.le_of_ble_eq_true rfl⟩) rfl hl.1 rfl (Nat.le_of_ble_eq_true rfl) ⟨by omega, by omega⟩ dL_law_1109 (fun H locs hw hS => ?_)
  refine lv_icmp_eq (tgt := 1437) hx hb dL_law_1112 (by decide) (fun _ => ?_) (fun c9 => absurd rfl c9)
  refine W.widen (k := 60 + 20 * t + 20) (n := 3000 + 1000 * t + 1000) (by omega) (by omega) ?_
  exact go q σ2 H locs ls hI2 hw hS hl
theorem w_case_31 {p : Program} {e : Env} {s : State} {m : MethodId} {below : List Frame} {meth : Method} {c : Code} {l : Launch} (hst : l.stackTraces = false) {b L : Nat} {xs : Nat → Int32} (hL : L ≤ 320) (hX : va_X b L xs s s.heap) (hbl : b < s.heap.size) {G : GG} (hG : G.2.2.1 = s.heap.size) (C : cx p s m #[Value.ref b] meth c code 4 R_law ret G) {Inv : Nat → SS → Prop} {N : Nat} (T : StepsL Inv N) {t : Nat} (ht : t < 64) (h5 : 5 * t + 5 ≤ L) (go : ∀ (q : Nat → Nat) (σ : SS) (H : Heap) (locs : List Loc) (ls : Array Slot), Inv (t + 1) σ → wx G false q σ H → va_S (fa G) s.heap H locs → lv_has ls 4 [(0, .ref b), (1, .ref (q 0)), (2, .ref (q 1)), (3, .int (nI (5 * t)))] → W p l e room_1 s m #[Value.ref b] below meth c H locs (60 + 20 * t + 20) (3000 + 1000 * t + 1000) (lw_Z below #[Value.ref b] s) (F0 m 1437 ls [])) (q : Nat → Nat) (σ : SS) (H : Heap) (locs : List Loc) (ls : Array Slot) (hI : Inv t σ) (hw : wx G false q σ H) (hS : va_S (fa G) s.heap H locs) (hl : lv_has ls 4 [(0, .ref b), (1, .ref (q 0)), (2, .ref (q 1)), (3, .int (nI (5 * t)))]) : W p l e room_1 s m #[Value.ref b] below meth c H locs (60 + 20 * t) (3000 + 1000 * t) (lw_Z below #[Value.ref b] s) (F0 m 1117 ls []) := by
  obtain ⟨hx, hb, hml, hown, hts, hr, hlk, hk0, hox⟩ := id C
  have hbA : ¬ fa G b := fun h => absurd (show G.2.2.1 ≤ b from h) (by rw [hG]; omega)
  have hcl : 60 + 20 * t + 20 ≤ room_1.cells ∧ 3000 + 1000 * t + 1000 ≤ room_1.slots := ⟨by show 60 + 20 * t + 20 ≤ 603072; omega, by show 3000 + 1000 * t + 1000 ≤ 7262314; omega⟩
  obtain ⟨r, σ1, σ2, f1, f2, hI2⟩ := T.2.2.2.2.2.2.2.2.2.2.2.2.2.2.2.2.2.2.2.2.2.2.2.2.2.2.2.2.2.2.2.2.1 t σ (xs (nI (5 * t) + (1 : Int32)).toNatClampNeg) ht hI
  refine lv_aload_n hx hb dL_law_1117 rfl (lv_at hl 1 rfl) ?_
  refine lv_aload_n hx hb dL_law_1118 rfl (lv_at hl 0 rfl) ?_
  refine lv_iload_n hx hb dL_law_1119 rfl (lv_at hl 3 rfl) ?_
  refine lv_iconst (v := (1 : Int32)) hx hb dL_law_1120 (by decide) ?_
  refine lv_iadd hx hb dL_law_1121 ?_
  refine va_sld hx hb hX hbl hbA hS (ix_in h5 hL (k := 1) (by decide)) dL_law_1122 ?_
  refine r_callVi (R := room_1) (cells := 60 + 20 * t) (slots := 3000 + 1000 * t) (As := [.int (xs (nI (5 * t) + (1 : Int32)).toNatClampNeg)]) (rest := []) (i := 0) C hw hS (wi_lo (Or.inl (by decide))) rfl (ci := 0) rfl (met_X0_losses l G false q f1) (cwV 1 hts (lw_V q791 q792 q793 q57 q794) rfl rfl rfl (by decide +kernel) ⟨Nat.le_of_ble_eq_true rfl, Nat.le_of_ble_eq_true rfl⟩) rfl hl.1 rfl (Nat.le_of_ble_eq_true rfl) ⟨by omega, by omega⟩ dL_law_1123 (fun H locs hw hS => ?_)
  refine lv_aload_n hx hb dL_law_1126 rfl (lv_at hl 2 rfl) ?_
  refine lv_aload_n hx hb dL_law_1127 rfl (lv_at hl 0 rfl) ?_
  refine lv_iload_n hx hb dL_law_1128 rfl (lv_at hl 3 rfl) ?_
  refine lv_iconst (v := (1 : Int32)) hx hb dL_law_1129 (by decide) ?_
  refine lv_iadd hx hb dL_law_1130 ?_
  refine va_sld hx hb hX hbl hbA hS (ix_in h5 hL (k := 1) (by decide)) dL_law_1131 ?_
  refine r_callVi (R := room_1) (cells := 60 + 20 * t + 0) (slots := 3000 + 1000 * t + 0) (As := [.int (xs (nI (5 * t) + (1 : Int32)).toNatClampNeg)]) (rest := [.int r]) (i := 1) C hw hS (wi_lo (Or.inl (by decide))) rfl (ci := 8) rfl (met_X8_losses l G false q f2) (cwV 1 hts (lw_V q1284 q1285 q1286 q65 q1287) rfl rfl rfl (by decide +kernel) ⟨Nat.le_of_ble_eq_true rfl, Nat.le_of_ble_eq_true rfl⟩) rfl hl.1 rfl (Nat.le_of_ble_eq_true rfl) ⟨by omega, by omega⟩ dL_law_1132 (fun H locs hw hS => ?_)
  refine lv_icmp_eq (tgt := 1437) hx hb dL_law_1135 (by decide) (fun _ => ?_) (fun c9 => absurd rfl c9)
  refine W.widen (k := 60 + 20 * t + 20) (n := 3000 + 1000 * t + 1000) (by omega) (by omega) ?_
  exact go q σ2 H locs ls hI2 hw hS hl
theorem w_case_32 {p : Program} {e : Env} {s : State} {m : MethodId} {below : List Frame} {meth : Method} {c : Code} {l : Launch} (hst : l.stackTraces = false) {b L : Nat} {xs : Nat → Int32} (hL : L ≤ 320) (hX : va_X b L xs s s.heap) (hbl : b < s.heap.size) {G : GG} (hG : G.2.2.1 = s.heap.size) (C : cx p s m #[Value.ref b] meth c code 4 R_law ret G) {Inv : Nat → SS → Prop} {N : Nat} (T : StepsL Inv N) {t : Nat} (ht : t < 64) (h5 : 5 * t + 5 ≤ L) (go : ∀ (q : Nat → Nat) (σ : SS) (H : Heap) (locs : List Loc) (ls : Array Slot), Inv (t + 1) σ → wx G false q σ H → va_S (fa G) s.heap H locs → lv_has ls 4 [(0, .ref b), (1, .ref (q 0)), (2, .ref (q 1)), (3, .int (nI (5 * t)))] → W p l e room_1 s m #[Value.ref b] below meth c H locs (60 + 20 * t + 20) (3000 + 1000 * t + 1000) (lw_Z below #[Value.ref b] s) (F0 m 1437 ls [])) (q : Nat → Nat) (σ : SS) (H : Heap) (locs : List Loc) (ls : Array Slot) (hI : Inv t σ) (hw : wx G false q σ H) (hS : va_S (fa G) s.heap H locs) (hl : lv_has ls 4 [(0, .ref b), (1, .ref (q 0)), (2, .ref (q 1)), (3, .int (nI (5 * t)))]) : W p l e room_1 s m #[Value.ref b] below meth c H locs (60 + 20 * t) (3000 + 1000 * t) (lw_Z below #[Value.ref b] s) (F0 m 1140 ls []) := by
  obtain ⟨hx, hb, hml, hown, hts, hr, hlk, hk0, hox⟩ := id C
  have hbA : ¬ fa G b := fun h => absurd (show G.2.2.1 ≤ b from h) (by rw [hG]; omega)
  have hcl : 60 + 20 * t + 20 ≤ room_1.cells ∧ 3000 + 1000 * t + 1000 ≤ room_1.slots := ⟨by show 60 + 20 * t + 20 ≤ 603072; omega, by show 3000 + 1000 * t + 1000 ≤ 7262314; omega⟩
  obtain ⟨r, σ1, σ2, f1, f2, hI2⟩ := T.2.2.2.2.2.2.2.2.2.2.2.2.2.2.2.2.2.2.2.2.2.2.2.2.2.2.2.2.2.2.2.2.2.1 t σ (xs (nI (5 * t) + (1 : Int32)).toNatClampNeg) (xs (nI (5 * t) + (2 : Int32)).toNatClampNeg) ht hI
  refine lv_aload_n hx hb dL_law_1140 rfl (lv_at hl 1 rfl) ?_
  refine lv_aload_n hx hb dL_law_1141 rfl (lv_at hl 0 rfl) ?_
  refine lv_iload_n hx hb dL_law_1142 rfl (lv_at hl 3 rfl) ?_
  refine lv_iconst (v := (1 : Int32)) hx hb dL_law_1143 (by decide) ?_
  refine lv_iadd hx hb dL_law_1144 ?_
  refine va_sld hx hb hX hbl hbA hS (ix_in h5 hL (k := 1) (by decide)) dL_law_1145 ?_
  refine lv_aload_n hx hb dL_law_1146 rfl (lv_at hl 0 rfl) ?_
  refine lv_iload_n hx hb dL_law_1147 rfl (lv_at hl 3 rfl) ?_
  refine lv_iconst (v := (2 : Int32)) hx hb dL_law_1148 (by decide) ?_
  refine lv_iadd hx hb dL_law_1149 ?_
  refine va_sld hx hb hX hbl hbA hS (ix_in h5 hL (k := 2) (by decide)) dL_law_1150 ?_
  refine r_callVi (R := room_1) (cells := 60 + 20 * t) (slots := 3000 + 1000 * t) (As := [.int (xs (nI (5 * t) + (1 : Int32)).toNatClampNeg), .int (xs (nI (5 * t) + (2 : Int32)).toNatClampNeg)]) (rest := []) (i := 0) C hw hS (wi_lo (Or.inl (by decide))) rfl (ci := 0) rfl (met_X0_ask l G false q f1) (cwV 2 hts (lw_V q799 q800 q801 q57 q802) rfl rfl rfl (by decide +kernel) ⟨Nat.le_of_ble_eq_true rfl, Nat.le_of_ble_eq_true rfl⟩) rfl hl.1 rfl (Nat.le_of_ble_eq_true rfl) ⟨by omega, by omega⟩ dL_law_1151 (fun H locs hw hS => ?_)
  refine lv_aload_n hx hb dL_law_1154 rfl (lv_at hl 2 rfl) ?_
  refine lv_aload_n hx hb dL_law_1155 rfl (lv_at hl 0 rfl) ?_
  refine lv_iload_n hx hb dL_law_1156 rfl (lv_at hl 3 rfl) ?_
  refine lv_iconst (v := (1 : Int32)) hx hb dL_law_1157 (by decide) ?_
  refine lv_iadd hx hb dL_law_1158 ?_
  refine va_sld hx hb hX hbl hbA hS (ix_in h5 hL (k := 1) (by decide)) dL_law_1159 ?_
  refine lv_aload_n hx hb dL_law_1160 rfl (lv_at hl 0 rfl) ?_
  refine lv_iload_n hx hb dL_law_1161 rfl (lv_at hl 3 rfl) ?_
  refine lv_iconst (v := (2 : Int32)) hx hb dL_law_1162 (by decide) ?_
  refine lv_iadd hx hb dL_law_1163 ?_
  refine va_sld hx hb hX hbl hbA hS (ix_in h5 hL (k := 2) (by decide)) dL_law_1164 ?_
  refine r_callVi (R := room_1) (cells := 60 + 20 * t + 0) (slots := 3000 + 1000 * t + 0) (As := [.int (xs (nI (5 * t) + (1 : Int32)).toNatClampNeg), .int (xs (nI (5 * t) + (2 : Int32)).toNatClampNeg)]) (rest := [.int r]) (i := 1) C hw hS (wi_lo (Or.inl (by decide))) rfl (ci := 8) rfl (met_X8_ask l G false q f2) (cwV 2 hts (lw_V q1288 q1289 q1290 q65 q1291) rfl rfl rfl (by decide +kernel) ⟨Nat.le_of_ble_eq_true rfl, Nat.le_of_ble_eq_true rfl⟩) rfl hl.1 rfl (Nat.le_of_ble_eq_true rfl) ⟨by omega, by omega⟩ dL_law_1165 (fun H locs hw hS => ?_)
  refine lv_icmp_eq (tgt := 1437) hx hb dL_law_1168 (by decide) (fun _ => ?_) (fun c9 => absurd rfl c9)
  refine W.widen (k := 60 + 20 * t + 20) (n := 3000 + 1000 * t + 1000) (by omega) (by omega) ?_
  exact go q σ2 H locs ls hI2 hw hS hl
theorem w_case_33 {p : Program} {e : Env} {s : State} {m : MethodId} {below : List Frame} {meth : Method} {c : Code} {l : Launch} (hst : l.stackTraces = false) {b L : Nat} {xs : Nat → Int32} (hL : L ≤ 320) (hX : va_X b L xs s s.heap) (hbl : b < s.heap.size) {G : GG} (hG : G.2.2.1 = s.heap.size) (C : cx p s m #[Value.ref b] meth c code 4 R_law ret G) {Inv : Nat → SS → Prop} {N : Nat} (T : StepsL Inv N) {t : Nat} (ht : t < 64) (h5 : 5 * t + 5 ≤ L) (go : ∀ (q : Nat → Nat) (σ : SS) (H : Heap) (locs : List Loc) (ls : Array Slot), Inv (t + 1) σ → wx G false q σ H → va_S (fa G) s.heap H locs → lv_has ls 4 [(0, .ref b), (1, .ref (q 0)), (2, .ref (q 1)), (3, .int (nI (5 * t)))] → W p l e room_1 s m #[Value.ref b] below meth c H locs (60 + 20 * t + 20) (3000 + 1000 * t + 1000) (lw_Z below #[Value.ref b] s) (F0 m 1437 ls [])) (q : Nat → Nat) (σ : SS) (H : Heap) (locs : List Loc) (ls : Array Slot) (hI : Inv t σ) (hw : wx G false q σ H) (hS : va_S (fa G) s.heap H locs) (hl : lv_has ls 4 [(0, .ref b), (1, .ref (q 0)), (2, .ref (q 1)), (3, .int (nI (5 * t)))]) : W p l e room_1 s m #[Value.ref b] below meth c H locs (60 + 20 * t) (3000 + 1000 * t) (lw_Z below #[Value.ref b] s) (F0 m 1173 ls []) := by
  obtain ⟨hx, hb, hml, hown, hts, hr, hlk, hk0, hox⟩ := id C
  have hbA : ¬ fa G b := fun h => absurd (show G.2.2.1 ≤ b from h) (by rw [hG]; omega)
  have hcl : 60 + 20 * t + 20 ≤ room_1.cells ∧ 3000 + 1000 * t + 1000 ≤ room_1.slots := ⟨by show 60 + 20 * t + 20 ≤ 603072; omega, by show 3000 + 1000 * t + 1000 ≤ 7262314; omega⟩
  obtain ⟨r, σ1, σ2, f1, f2, hI2⟩ := T.2.2.2.2.2.2.2.2.2.2.2.2.2.2.2.2.2.2.2.2.2.2.2.2.2.2.2.2.2.2.2.2.2.2.1 t σ (xs (nI (5 * t) + (1 : Int32)).toNatClampNeg) (xs (nI (5 * t) + (2 : Int32)).toNatClampNeg) (xs (nI (5 * t) + (3 : Int32)).toNatClampNeg) ht hI
  refine lv_aload_n hx hb dL_law_1173 rfl (lv_at hl 1 rfl) ?_
  refine lv_aload_n hx hb dL_law_1174 rfl (lv_at hl 0 rfl) ?_
  refine lv_iload_n hx hb dL_law_1175 rfl (lv_at hl 3 rfl) ?_
  refine lv_iconst (v := (1 : Int32)) hx hb dL_law_1176 (by decide) ?_
  refine lv_iadd hx hb dL_law_1177 ?_
  refine va_sld hx hb hX hbl hbA hS (ix_in h5 hL (k := 1) (by decide)) dL_law_1178 ?_
  refine lv_aload_n hx hb dL_law_1179 rfl (lv_at hl 0 rfl) ?_
  refine lv_iload_n hx hb dL_law_1180 rfl (lv_at hl 3 rfl) ?_
  refine lv_iconst (v := (2 : Int32)) hx hb dL_law_1181 (by decide) ?_
  refine lv_iadd hx hb dL_law_1182 ?_
  refine va_sld hx hb hX hbl hbA hS (ix_in h5 hL (k := 2) (by decide)) dL_law_1183 ?_
  refine lv_aload_n hx hb dL_law_1184 rfl (lv_at hl 0 rfl) ?_
  refine lv_iload_n hx hb dL_law_1185 rfl (lv_at hl 3 rfl) ?_
  refine lv_iconst (v := (3 : Int32)) hx hb dL_law_1186 (by decide) ?_
  refine lv_iadd hx hb dL_law_1187 ?_
  refine va_sld hx hb hX hbl hbA hS (ix_in h5 hL (k := 3) (by decide)) dL_law_1188 ?_
  refine r_callVi (R := room_1) (cells := 60 + 20 * t) (slots := 3000 + 1000 * t) (As := [.int (xs (nI (5 * t) + (1 : Int32)).toNatClampNeg), .int (xs (nI (5 * t) + (2 : Int32)).toNatClampNeg), .int (xs (nI (5 * t) + (3 : Int32)).toNatClampNeg)]) (rest := []) (i := 0) C hw hS (wi_lo (Or.inl (by decide))) rfl (ci := 0) rfl (met_X0_drift l G false q f1) (cwV 3 hts (lw_V q811 q812 q813 q57 q814) rfl rfl rfl (by decide +kernel) ⟨Nat.le_of_ble_eq_true rfl, Nat.le_of_ble_eq_true rfl⟩) rfl hl.1 rfl (Nat.le_of_ble_eq_true rfl) ⟨by omega, by omega⟩ dL_law_1189 (fun H locs hw hS => ?_)
  refine lv_aload_n hx hb dL_law_1192 rfl (lv_at hl 2 rfl) ?_
  refine lv_aload_n hx hb dL_law_1193 rfl (lv_at hl 0 rfl) ?_
  refine lv_iload_n hx hb dL_law_1194 rfl (lv_at hl 3 rfl) ?_
  refine lv_iconst (v := (1 : Int32)) hx hb dL_law_1195 (by decide) ?_
  refine lv_iadd hx hb dL_law_1196 ?_
  refine va_sld hx hb hX hbl hbA hS (ix_in h5 hL (k := 1) (by decide)) dL_law_1197 ?_
  refine lv_aload_n hx hb dL_law_1198 rfl (lv_at hl 0 rfl) ?_
  refine lv_iload_n hx hb dL_law_1199 rfl (lv_at hl 3 rfl) ?_
  refine lv_iconst (v := (2 : Int32)) hx hb dL_law_1200 (by decide) ?_
  refine lv_iadd hx hb dL_law_1201 ?_
  refine va_sld hx hb hX hbl hbA hS (ix_in h5 hL (k := 2) (by decide)) dL_law_1202 ?_
  refine lv_aload_n hx hb dL_law_1203 rfl (lv_at hl 0 rfl) ?_
  refine lv_iload_n hx hb dL_law_1204 rfl (lv_at hl 3 rfl) ?_
  refine lv_iconst (v := (3 : Int32)) hx hb dL_law_1205 (by decide) ?_
  refine lv_iadd hx hb dL_law_1206 ?_
  refine va_sld hx hb hX hbl hbA hS (ix_in h5 hL (k := 3) (by decide)) dL_law_1207 ?_
  refine r_callVi (R := room_1) (cells := 60 + 20 * t + 0) (slots := 3000 + 1000 * t + 0) (As := [.int (xs (nI (5 * t) + (1 : Int32)).toNatClampNeg), .int (xs (nI (5 * t) + (2 : Int32)).toNatClampNeg), .int (xs (nI (5 * t) + (3 : Int32)).toNatClampNeg)]) (rest := [.int r]) (i := 1) C hw hS (wi_lo (Or.inl (by decide))) rfl (ci := 8) rfl (met_X8_drift l G false q f2) (cwV 3 hts (lw_V q1296 q1297 q1298 q65 q1299) rfl rfl rfl (by decide +kernel) ⟨Nat.le_of_ble_eq_true rfl, Nat.le_of_ble_eq_true rfl⟩) rfl hl.1 rfl (Nat.le_of_ble_eq_true rfl) ⟨by omega, by omega⟩ dL_law_1208 (fun H locs hw hS => ?_)
  refine lv_icmp_eq (tgt := 1437) hx hb dL_law_1211 (by decide) (fun _ => ?_) (fun c9 => absurd rfl c9)
  refine W.widen (k := 60 + 20 * t + 20) (n := 3000 + 1000 * t + 1000) (by omega) (by omega) ?_
  exact go q σ2 H locs ls hI2 hw hS hl
theorem w_case_34 {p : Program} {e : Env} {s : State} {m : MethodId} {below : List Frame} {meth : Method} {c : Code} {l : Launch} (hst : l.stackTraces = false) {b L : Nat} {xs : Nat → Int32} (hL : L ≤ 320) (hX : va_X b L xs s s.heap) (hbl : b < s.heap.size) {G : GG} (hG : G.2.2.1 = s.heap.size) (C : cx p s m #[Value.ref b] meth c code 4 R_law ret G) {Inv : Nat → SS → Prop} {N : Nat} (T : StepsL Inv N) {t : Nat} (ht : t < 64) (h5 : 5 * t + 5 ≤ L) (go : ∀ (q : Nat → Nat) (σ : SS) (H : Heap) (locs : List Loc) (ls : Array Slot), Inv (t + 1) σ → wx G false q σ H → va_S (fa G) s.heap H locs → lv_has ls 4 [(0, .ref b), (1, .ref (q 0)), (2, .ref (q 1)), (3, .int (nI (5 * t)))] → W p l e room_1 s m #[Value.ref b] below meth c H locs (60 + 20 * t + 20) (3000 + 1000 * t + 1000) (lw_Z below #[Value.ref b] s) (F0 m 1437 ls [])) (q : Nat → Nat) (σ : SS) (H : Heap) (locs : List Loc) (ls : Array Slot) (hI : Inv t σ) (hw : wx G false q σ H) (hS : va_S (fa G) s.heap H locs) (hl : lv_has ls 4 [(0, .ref b), (1, .ref (q 0)), (2, .ref (q 1)), (3, .int (nI (5 * t)))]) : W p l e room_1 s m #[Value.ref b] below meth c H locs (60 + 20 * t) (3000 + 1000 * t) (lw_Z below #[Value.ref b] s) (F0 m 1216 ls []) := by
  obtain ⟨hx, hb, hml, hown, hts, hr, hlk, hk0, hox⟩ := id C
  have hbA : ¬ fa G b := fun h => absurd (show G.2.2.1 ≤ b from h) (by rw [hG]; omega)
  have hcl : 60 + 20 * t + 20 ≤ room_1.cells ∧ 3000 + 1000 * t + 1000 ≤ room_1.slots := ⟨by show 60 + 20 * t + 20 ≤ 603072; omega, by show 3000 + 1000 * t + 1000 ≤ 7262314; omega⟩
  obtain ⟨r, σ1, σ2, f1, f2, hI2⟩ := T.2.2.2.2.2.2.2.2.2.2.2.2.2.2.2.2.2.2.2.2.2.2.2.2.2.2.2.2.2.2.2.2.2.2.2.1 t σ (xs (nI (5 * t) + (1 : Int32)).toNatClampNeg) ht hI
  refine lv_aload_n hx hb dL_law_1216 rfl (lv_at hl 1 rfl) ?_
  refine lv_aload_n hx hb dL_law_1217 rfl (lv_at hl 0 rfl) ?_
  refine lv_iload_n hx hb dL_law_1218 rfl (lv_at hl 3 rfl) ?_
  refine lv_iconst (v := (1 : Int32)) hx hb dL_law_1219 (by decide) ?_
  refine lv_iadd hx hb dL_law_1220 ?_
  refine va_sld hx hb hX hbl hbA hS (ix_in h5 hL (k := 1) (by decide)) dL_law_1221 ?_
  refine r_callVi (R := room_1) (cells := 60 + 20 * t) (slots := 3000 + 1000 * t) (As := [.int (xs (nI (5 * t) + (1 : Int32)).toNatClampNeg)]) (rest := []) (i := 0) C hw hS (wi_lo (Or.inl (by decide))) rfl (ci := 0) rfl (met_X0_keep l G false q f1) (cwV 1 hts (lw_V q816 q817 q818 q57 q819) rfl rfl rfl (by decide +kernel) ⟨Nat.le_of_ble_eq_true rfl, Nat.le_of_ble_eq_true rfl⟩) rfl hl.1 rfl (Nat.le_of_ble_eq_true rfl) ⟨by omega, by omega⟩ dL_law_1222 (fun H locs hw hS => ?_)
  refine lv_aload_n hx hb dL_law_1225 rfl (lv_at hl 2 rfl) ?_
  refine lv_aload_n hx hb dL_law_1226 rfl (lv_at hl 0 rfl) ?_
  refine lv_iload_n hx hb dL_law_1227 rfl (lv_at hl 3 rfl) ?_
  refine lv_iconst (v := (1 : Int32)) hx hb dL_law_1228 (by decide) ?_
  refine lv_iadd hx hb dL_law_1229 ?_
  refine va_sld hx hb hX hbl hbA hS (ix_in h5 hL (k := 1) (by decide)) dL_law_1230 ?_
  refine r_callVi (R := room_1) (cells := 60 + 20 * t + 0) (slots := 3000 + 1000 * t + 0) (As := [.int (xs (nI (5 * t) + (1 : Int32)).toNatClampNeg)]) (rest := [.int r]) (i := 1) C hw hS (wi_lo (Or.inl (by decide))) rfl (ci := 8) rfl (met_X8_keep l G false q f2) (cwV 1 hts (lw_V q1301 q1302 q1303 q65 q1304) rfl rfl rfl (by decide +kernel) ⟨Nat.le_of_ble_eq_true rfl, Nat.le_of_ble_eq_true rfl⟩) rfl hl.1 rfl (Nat.le_of_ble_eq_true rfl) ⟨by omega, by omega⟩ dL_law_1231 (fun H locs hw hS => ?_)
  refine lv_icmp_eq (tgt := 1437) hx hb dL_law_1234 (by decide) (fun _ => ?_) (fun c9 => absurd rfl c9)
  refine W.widen (k := 60 + 20 * t + 20) (n := 3000 + 1000 * t + 1000) (by omega) (by omega) ?_
  exact go q σ2 H locs ls hI2 hw hS hl
theorem w_case_35 {p : Program} {e : Env} {s : State} {m : MethodId} {below : List Frame} {meth : Method} {c : Code} {l : Launch} (hst : l.stackTraces = false) {b L : Nat} {xs : Nat → Int32} (hL : L ≤ 320) (hX : va_X b L xs s s.heap) (hbl : b < s.heap.size) {G : GG} (hG : G.2.2.1 = s.heap.size) (C : cx p s m #[Value.ref b] meth c code 4 R_law ret G) {Inv : Nat → SS → Prop} {N : Nat} (T : StepsL Inv N) {t : Nat} (ht : t < 64) (h5 : 5 * t + 5 ≤ L) (go : ∀ (q : Nat → Nat) (σ : SS) (H : Heap) (locs : List Loc) (ls : Array Slot), Inv (t + 1) σ → wx G false q σ H → va_S (fa G) s.heap H locs → lv_has ls 4 [(0, .ref b), (1, .ref (q 0)), (2, .ref (q 1)), (3, .int (nI (5 * t)))] → W p l e room_1 s m #[Value.ref b] below meth c H locs (60 + 20 * t + 20) (3000 + 1000 * t + 1000) (lw_Z below #[Value.ref b] s) (F0 m 1437 ls [])) (q : Nat → Nat) (σ : SS) (H : Heap) (locs : List Loc) (ls : Array Slot) (hI : Inv t σ) (hw : wx G false q σ H) (hS : va_S (fa G) s.heap H locs) (hl : lv_has ls 4 [(0, .ref b), (1, .ref (q 0)), (2, .ref (q 1)), (3, .int (nI (5 * t)))]) : W p l e room_1 s m #[Value.ref b] below meth c H locs (60 + 20 * t) (3000 + 1000 * t) (lw_Z below #[Value.ref b] s) (F0 m 1239 ls []) := by
  obtain ⟨hx, hb, hml, hown, hts, hr, hlk, hk0, hox⟩ := id C
  have hbA : ¬ fa G b := fun h => absurd (show G.2.2.1 ≤ b from h) (by rw [hG]; omega)
  have hcl : 60 + 20 * t + 20 ≤ room_1.cells ∧ 3000 + 1000 * t + 1000 ≤ room_1.slots := ⟨by show 60 + 20 * t + 20 ≤ 603072; omega, by show 3000 + 1000 * t + 1000 ≤ 7262314; omega⟩
  obtain ⟨r, σ1, σ2, f1, f2, hI2⟩ := T.2.2.2.2.2.2.2.2.2.2.2.2.2.2.2.2.2.2.2.2.2.2.2.2.2.2.2.2.2.2.2.2.2.2.2.2.1 t σ (xs (nI (5 * t) + (1 : Int32)).toNatClampNeg) ht hI
  refine lv_aload_n hx hb dL_law_1239 rfl (lv_at hl 1 rfl) ?_
  refine lv_aload_n hx hb dL_law_1240 rfl (lv_at hl 0 rfl) ?_
  refine lv_iload_n hx hb dL_law_1241 rfl (lv_at hl 3 rfl) ?_
  refine lv_iconst (v := (1 : Int32)) hx hb dL_law_1242 (by decide) ?_
  refine lv_iadd hx hb dL_law_1243 ?_
  refine va_sld hx hb hX hbl hbA hS (ix_in h5 hL (k := 1) (by decide)) dL_law_1244 ?_
  refine r_callVi (R := room_1) (cells := 60 + 20 * t) (slots := 3000 + 1000 * t) (As := [.int (xs (nI (5 * t) + (1 : Int32)).toNatClampNeg)]) (rest := []) (i := 0) C hw hS (wi_lo (Or.inl (by decide))) rfl (ci := 0) rfl (met_X0_back l G false q f1) (cwV 1 hts (lw_V q820 q821 q822 q57 q823) rfl rfl rfl (by decide +kernel) ⟨Nat.le_of_ble_eq_true rfl, Nat.le_of_ble_eq_true rfl⟩) rfl hl.1 rfl (Nat.le_of_ble_eq_true rfl) ⟨by omega, by omega⟩ dL_law_1245 (fun H locs hw hS => ?_)
  refine lv_aload_n hx hb dL_law_1248 rfl (lv_at hl 2 rfl) ?_
  refine lv_aload_n hx hb dL_law_1249 rfl (lv_at hl 0 rfl) ?_
  refine lv_iload_n hx hb dL_law_1250 rfl (lv_at hl 3 rfl) ?_
  refine lv_iconst (v := (1 : Int32)) hx hb dL_law_1251 (by decide) ?_
  refine lv_iadd hx hb dL_law_1252 ?_
  refine va_sld hx hb hX hbl hbA hS (ix_in h5 hL (k := 1) (by decide)) dL_law_1253 ?_
  refine r_callVi (R := room_1) (cells := 60 + 20 * t + 0) (slots := 3000 + 1000 * t + 0) (As := [.int (xs (nI (5 * t) + (1 : Int32)).toNatClampNeg)]) (rest := [.int r]) (i := 1) C hw hS (wi_lo (Or.inl (by decide))) rfl (ci := 8) rfl (met_X8_back l G false q f2) (cwV 1 hts (lw_V q1305 q1306 q1307 q65 q1308) rfl rfl rfl (by decide +kernel) ⟨Nat.le_of_ble_eq_true rfl, Nat.le_of_ble_eq_true rfl⟩) rfl hl.1 rfl (Nat.le_of_ble_eq_true rfl) ⟨by omega, by omega⟩ dL_law_1254 (fun H locs hw hS => ?_)
  refine lv_icmp_eq (tgt := 1437) hx hb dL_law_1257 (by decide) (fun _ => ?_) (fun c9 => absurd rfl c9)
  refine W.widen (k := 60 + 20 * t + 20) (n := 3000 + 1000 * t + 1000) (by omega) (by omega) ?_
  exact go q σ2 H locs ls hI2 hw hS hl
theorem w_case_36 {p : Program} {e : Env} {s : State} {m : MethodId} {below : List Frame} {meth : Method} {c : Code} {l : Launch} (hst : l.stackTraces = false) {b L : Nat} {xs : Nat → Int32} (hL : L ≤ 320) (hX : va_X b L xs s s.heap) (hbl : b < s.heap.size) {G : GG} (hG : G.2.2.1 = s.heap.size) (C : cx p s m #[Value.ref b] meth c code 4 R_law ret G) {Inv : Nat → SS → Prop} {N : Nat} (T : StepsL Inv N) {t : Nat} (ht : t < 64) (h5 : 5 * t + 5 ≤ L) (go : ∀ (q : Nat → Nat) (σ : SS) (H : Heap) (locs : List Loc) (ls : Array Slot), Inv (t + 1) σ → wx G false q σ H → va_S (fa G) s.heap H locs → lv_has ls 4 [(0, .ref b), (1, .ref (q 0)), (2, .ref (q 1)), (3, .int (nI (5 * t)))] → W p l e room_1 s m #[Value.ref b] below meth c H locs (60 + 20 * t + 20) (3000 + 1000 * t + 1000) (lw_Z below #[Value.ref b] s) (F0 m 1437 ls [])) (q : Nat → Nat) (σ : SS) (H : Heap) (locs : List Loc) (ls : Array Slot) (hI : Inv t σ) (hw : wx G false q σ H) (hS : va_S (fa G) s.heap H locs) (hl : lv_has ls 4 [(0, .ref b), (1, .ref (q 0)), (2, .ref (q 1)), (3, .int (nI (5 * t)))]) : W p l e room_1 s m #[Value.ref b] below meth c H locs (60 + 20 * t) (3000 + 1000 * t) (lw_Z below #[Value.ref b] s) (F0 m 1262 ls []) := by
  obtain ⟨hx, hb, hml, hown, hts, hr, hlk, hk0, hox⟩ := id C
  have hbA : ¬ fa G b := fun h => absurd (show G.2.2.1 ≤ b from h) (by rw [hG]; omega)
  have hcl : 60 + 20 * t + 20 ≤ room_1.cells ∧ 3000 + 1000 * t + 1000 ≤ room_1.slots := ⟨by show 60 + 20 * t + 20 ≤ 603072; omega, by show 3000 + 1000 * t + 1000 ≤ 7262314; omega⟩
  obtain ⟨r, σ1, σ2, f1, f2, hI2⟩ := T.2.2.2.2.2.2.2.2.2.2.2.2.2.2.2.2.2.2.2.2.2.2.2.2.2.2.2.2.2.2.2.2.2.2.2.2.2.1 t σ (xs (nI (5 * t) + (1 : Int32)).toNatClampNeg) (xs (nI (5 * t) + (2 : Int32)).toNatClampNeg) (xs (nI (5 * t) + (3 : Int32)).toNatClampNeg) ht hI
  refine lv_aload_n hx hb dL_law_1262 rfl (lv_at hl 1 rfl) ?_
  refine lv_aload_n hx hb dL_law_1263 rfl (lv_at hl 0 rfl) ?_
  refine lv_iload_n hx hb dL_law_1264 rfl (lv_at hl 3 rfl) ?_
  refine lv_iconst (v := (1 : Int32)) hx hb dL_law_1265 (by decide) ?_
  refine lv_iadd hx hb dL_law_1266 ?_
  refine va_sld hx hb hX hbl hbA hS (ix_in h5 hL (k := 1) (by decide)) dL_law_1267 ?_
  refine lv_aload_n hx hb dL_law_1268 rfl (lv_at hl 0 rfl) ?_
  refine lv_iload_n hx hb dL_law_1269 rfl (lv_at hl 3 rfl) ?_
  refine lv_iconst (v := (2 : Int32)) hx hb dL_law_1270 (by decide) ?_
  refine lv_iadd hx hb dL_law_1271 ?_
  refine va_sld hx hb hX hbl hbA hS (ix_in h5 hL (k := 2) (by decide)) dL_law_1272 ?_
  refine lv_aload_n hx hb dL_law_1273 rfl (lv_at hl 0 rfl) ?_
  refine lv_iload_n hx hb dL_law_1274 rfl (lv_at hl 3 rfl) ?_
  refine lv_iconst (v := (3 : Int32)) hx hb dL_law_1275 (by decide) ?_
  refine lv_iadd hx hb dL_law_1276 ?_
  refine va_sld hx hb hX hbl hbA hS (ix_in h5 hL (k := 3) (by decide)) dL_law_1277 ?_
  refine r_callW (R := room_1) (cells := 60 + 20 * t) (slots := 3000 + 1000 * t) (As := [.int (xs (nI (5 * t) + (1 : Int32)).toNatClampNeg), .int (xs (nI (5 * t) + (2 : Int32)).toNatClampNeg), .int (xs (nI (5 * t) + (3 : Int32)).toNatClampNeg)]) (rest := []) (i := 0) C hw hS (wi_lo (Or.inl (by decide))) rfl (ci := 0) rfl (met_X0_sheet l G false q hst f1) (vx_cwVW 3 hts (lw_VW q824 q825 q826 q57 q827) rfl rfl rfl (by decide +kernel) ⟨Nat.le_of_ble_eq_true rfl, Nat.le_of_ble_eq_true rfl⟩) rfl hl.1 rfl (Nat.le_of_ble_eq_true rfl) ⟨by omega, by omega⟩ dL_law_1278 (fun u t9 locs hw hS => ?_)
  generalize t9.heap = H at hw hS ⊢
  obtain ⟨q1, eq1⟩ : ∃ q1, q1 = qup q (17 + (xs (nI (5 * t) + (1 : Int32)).toNatClampNeg).toNatClampNeg) u := ⟨_, rfl⟩
  have g0 : q1 0 = q 0 := by rw [eq1]; exact if_neg (by omega)
  have g1 : q1 1 = q 1 := by rw [eq1]; exact if_neg (by omega)
  have hw : wx G false q1 σ1 H := by rw [eq1]; exact hw
  have hl : lv_has ls 4 [(0, .ref b), (1, .ref (q1 0)), (2, .ref (q1 1)), (3, .int (nI (5 * t)))] := by rw [g0, g1]; exact hl
  refine lv_aload_n hx hb dL_law_1281 rfl (lv_at hl 2 rfl) ?_
  refine lv_aload_n hx hb dL_law_1282 rfl (lv_at hl 0 rfl) ?_
  refine lv_iload_n hx hb dL_law_1283 rfl (lv_at hl 3 rfl) ?_
  refine lv_iconst (v := (1 : Int32)) hx hb dL_law_1284 (by decide) ?_
  refine lv_iadd hx hb dL_law_1285 ?_
  refine va_sld hx hb hX hbl hbA hS (ix_in h5 hL (k := 1) (by decide)) dL_law_1286 ?_
  refine lv_aload_n hx hb dL_law_1287 rfl (lv_at hl 0 rfl) ?_
  refine lv_iload_n hx hb dL_law_1288 rfl (lv_at hl 3 rfl) ?_
  refine lv_iconst (v := (2 : Int32)) hx hb dL_law_1289 (by decide) ?_
  refine lv_iadd hx hb dL_law_1290 ?_
  refine va_sld hx hb hX hbl hbA hS (ix_in h5 hL (k := 2) (by decide)) dL_law_1291 ?_
  refine lv_aload_n hx hb dL_law_1292 rfl (lv_at hl 0 rfl) ?_
  refine lv_iload_n hx hb dL_law_1293 rfl (lv_at hl 3 rfl) ?_
  refine lv_iconst (v := (3 : Int32)) hx hb dL_law_1294 (by decide) ?_
  refine lv_iadd hx hb dL_law_1295 ?_
  refine va_sld hx hb hX hbl hbA hS (ix_in h5 hL (k := 3) (by decide)) dL_law_1296 ?_
  refine r_callVi (R := room_1) (cells := 60 + 20 * t + 3) (slots := 3000 + 1000 * t + 60) (As := [.int (xs (nI (5 * t) + (1 : Int32)).toNatClampNeg), .int (xs (nI (5 * t) + (2 : Int32)).toNatClampNeg), .int (xs (nI (5 * t) + (3 : Int32)).toNatClampNeg)]) (rest := [.int r]) (i := 1) C hw hS (wi_lo (Or.inl (by decide))) rfl (ci := 8) rfl (met_X8_sheet l G false q1 f2) (cwV 3 hts (lw_V q1309 q1310 q1311 q65 q1312) rfl rfl rfl (by decide +kernel) ⟨Nat.le_of_ble_eq_true rfl, Nat.le_of_ble_eq_true rfl⟩) rfl hl.1 rfl (Nat.le_of_ble_eq_true rfl) ⟨by omega, by omega⟩ dL_law_1297 (fun H locs hw hS => ?_)
  refine lv_icmp_eq (tgt := 1437) hx hb dL_law_1300 (by decide) (fun _ => ?_) (fun c9 => absurd rfl c9)
  refine W.widen (k := 60 + 20 * t + 20) (n := 3000 + 1000 * t + 1000) (by omega) (by omega) ?_
  exact go q1 σ2 H locs ls hI2 hw hS hl
theorem w_case_37 {p : Program} {e : Env} {s : State} {m : MethodId} {below : List Frame} {meth : Method} {c : Code} {l : Launch} (hst : l.stackTraces = false) {b L : Nat} {xs : Nat → Int32} (hL : L ≤ 320) (hX : va_X b L xs s s.heap) (hbl : b < s.heap.size) {G : GG} (hG : G.2.2.1 = s.heap.size) (C : cx p s m #[Value.ref b] meth c code 4 R_law ret G) {Inv : Nat → SS → Prop} {N : Nat} (T : StepsL Inv N) {t : Nat} (ht : t < 64) (h5 : 5 * t + 5 ≤ L) (go : ∀ (q : Nat → Nat) (σ : SS) (H : Heap) (locs : List Loc) (ls : Array Slot), Inv (t + 1) σ → wx G false q σ H → va_S (fa G) s.heap H locs → lv_has ls 4 [(0, .ref b), (1, .ref (q 0)), (2, .ref (q 1)), (3, .int (nI (5 * t)))] → W p l e room_1 s m #[Value.ref b] below meth c H locs (60 + 20 * t + 20) (3000 + 1000 * t + 1000) (lw_Z below #[Value.ref b] s) (F0 m 1437 ls [])) (q : Nat → Nat) (σ : SS) (H : Heap) (locs : List Loc) (ls : Array Slot) (hI : Inv t σ) (hw : wx G false q σ H) (hS : va_S (fa G) s.heap H locs) (hl : lv_has ls 4 [(0, .ref b), (1, .ref (q 0)), (2, .ref (q 1)), (3, .int (nI (5 * t)))]) : W p l e room_1 s m #[Value.ref b] below meth c H locs (60 + 20 * t) (3000 + 1000 * t) (lw_Z below #[Value.ref b] s) (F0 m 1305 ls []) := by
  obtain ⟨hx, hb, hml, hown, hts, hr, hlk, hk0, hox⟩ := id C
  have hbA : ¬ fa G b := fun h => absurd (show G.2.2.1 ≤ b from h) (by rw [hG]; omega)
  have hcl : 60 + 20 * t + 20 ≤ room_1.cells ∧ 3000 + 1000 * t + 1000 ≤ room_1.slots := ⟨by show 60 + 20 * t + 20 ≤ 603072; omega, by show 3000 + 1000 * t + 1000 ≤ 7262314; omega⟩
  obtain ⟨r, σ1, σ2, f1, f2, hI2⟩ := T.2.2.2.2.2.2.2.2.2.2.2.2.2.2.2.2.2.2.2.2.2.2.2.2.2.2.2.2.2.2.2.2.2.2.2.2.2.2.1 t σ (xs (nI (5 * t) + (1 : Int32)).toNatClampNeg) (xs (nI (5 * t) + (2 : Int32)).toNatClampNeg) (xs (nI (5 * t) + (3 : Int32)).toNatClampNeg) ht hI
  refine lv_aload_n hx hb dL_law_1305 rfl (lv_at hl 1 rfl) ?_
  refine lv_aload_n hx hb dL_law_1306 rfl (lv_at hl 0 rfl) ?_
  refine lv_iload_n hx hb dL_law_1307 rfl (lv_at hl 3 rfl) ?_
  refine lv_iconst (v := (1 : Int32)) hx hb dL_law_1308 (by decide) ?_
  refine lv_iadd hx hb dL_law_1309 ?_
  refine va_sld hx hb hX hbl hbA hS (ix_in h5 hL (k := 1) (by decide)) dL_law_1310 ?_
  refine lv_aload_n hx hb dL_law_1311 rfl (lv_at hl 0 rfl) ?_
  refine lv_iload_n hx hb dL_law_1312 rfl (lv_at hl 3 rfl) ?_
  refine lv_iconst (v := (2 : Int32)) hx hb dL_law_1313 (by decide) ?_
  refine lv_iadd hx hb dL_law_1314 ?_
  refine va_sld hx hb hX hbl hbA hS (ix_in h5 hL (k := 2) (by decide)) dL_law_1315 ?_
  refine lv_aload_n hx hb dL_law_1316 rfl (lv_at hl 0 rfl) ?_
  refine lv_iload_n hx hb dL_law_1317 rfl (lv_at hl 3 rfl) ?_
  refine lv_iconst (v := (3 : Int32)) hx hb dL_law_1318 (by decide) ?_
  refine lv_iadd hx hb dL_law_1319 ?_
  refine va_sld hx hb hX hbl hbA hS (ix_in h5 hL (k := 3) (by decide)) dL_law_1320 ?_
  refine r_callW (R := room_1) (cells := 60 + 20 * t) (slots := 3000 + 1000 * t) (As := [.int (xs (nI (5 * t) + (1 : Int32)).toNatClampNeg), .int (xs (nI (5 * t) + (2 : Int32)).toNatClampNeg), .int (xs (nI (5 * t) + (3 : Int32)).toNatClampNeg)]) (rest := []) (i := 0) C hw hS (wi_lo (Or.inl (by decide))) rfl (ci := 0) rfl (met_X0_lay l G false q hst f1) (vx_cwVW 3 hts (lw_VW q861 q862 q863 q57 q864) rfl rfl rfl (by decide +kernel) ⟨Nat.le_of_ble_eq_true rfl, Nat.le_of_ble_eq_true rfl⟩) rfl hl.1 rfl (Nat.le_of_ble_eq_true rfl) ⟨by omega, by omega⟩ dL_law_1321 (fun u t9 locs hw hS => ?_)
  generalize t9.heap = H at hw hS ⊢
  have hw : wx G false q σ1 H := hw
  refine lv_aload_n hx hb dL_law_1324 rfl (lv_at hl 2 rfl) ?_
  refine lv_aload_n hx hb dL_law_1325 rfl (lv_at hl 0 rfl) ?_
  refine lv_iload_n hx hb dL_law_1326 rfl (lv_at hl 3 rfl) ?_
  refine lv_iconst (v := (1 : Int32)) hx hb dL_law_1327 (by decide) ?_
  refine lv_iadd hx hb dL_law_1328 ?_
  refine va_sld hx hb hX hbl hbA hS (ix_in h5 hL (k := 1) (by decide)) dL_law_1329 ?_
  refine lv_aload_n hx hb dL_law_1330 rfl (lv_at hl 0 rfl) ?_
  refine lv_iload_n hx hb dL_law_1331 rfl (lv_at hl 3 rfl) ?_
  refine lv_iconst (v := (2 : Int32)) hx hb dL_law_1332 (by decide) ?_
  refine lv_iadd hx hb dL_law_1333 ?_
  refine va_sld hx hb hX hbl hbA hS (ix_in h5 hL (k := 2) (by decide)) dL_law_1334 ?_
  refine lv_aload_n hx hb dL_law_1335 rfl (lv_at hl 0 rfl) ?_
  refine lv_iload_n hx hb dL_law_1336 rfl (lv_at hl 3 rfl) ?_
  refine lv_iconst (v := (3 : Int32)) hx hb dL_law_1337 (by decide) ?_
  refine lv_iadd hx hb dL_law_1338 ?_
  refine va_sld hx hb hX hbl hbA hS (ix_in h5 hL (k := 3) (by decide)) dL_law_1339 ?_
  refine r_callVi (R := room_1) (cells := 60 + 20 * t + 3) (slots := 3000 + 1000 * t + 250) (As := [.int (xs (nI (5 * t) + (1 : Int32)).toNatClampNeg), .int (xs (nI (5 * t) + (2 : Int32)).toNatClampNeg), .int (xs (nI (5 * t) + (3 : Int32)).toNatClampNeg)]) (rest := [.int r]) (i := 1) C hw hS (wi_lo (Or.inl (by decide))) rfl (ci := 8) rfl (met_X8_lay l G false q f2) (cwV 3 hts (lw_V q1314 q1315 q1316 q65 q1317) rfl rfl rfl (by decide +kernel) ⟨Nat.le_of_ble_eq_true rfl, Nat.le_of_ble_eq_true rfl⟩) rfl hl.1 rfl (Nat.le_of_ble_eq_true rfl) ⟨by omega, by omega⟩ dL_law_1340 (fun H locs hw hS => ?_)
  refine lv_icmp_eq (tgt := 1437) hx hb dL_law_1343 (by decide) (fun _ => ?_) (fun c9 => absurd rfl c9)
  refine W.widen (k := 60 + 20 * t + 20) (n := 3000 + 1000 * t + 1000) (by omega) (by omega) ?_
  exact go q σ2 H locs ls hI2 hw hS hl
theorem w_case_38 {p : Program} {e : Env} {s : State} {m : MethodId} {below : List Frame} {meth : Method} {c : Code} {l : Launch} (hst : l.stackTraces = false) {b L : Nat} {xs : Nat → Int32} (hL : L ≤ 320) (hX : va_X b L xs s s.heap) (hbl : b < s.heap.size) {G : GG} (hG : G.2.2.1 = s.heap.size) (C : cx p s m #[Value.ref b] meth c code 4 R_law ret G) {Inv : Nat → SS → Prop} {N : Nat} (T : StepsL Inv N) {t : Nat} (ht : t < 64) (h5 : 5 * t + 5 ≤ L) (go : ∀ (q : Nat → Nat) (σ : SS) (H : Heap) (locs : List Loc) (ls : Array Slot), Inv (t + 1) σ → wx G false q σ H → va_S (fa G) s.heap H locs → lv_has ls 4 [(0, .ref b), (1, .ref (q 0)), (2, .ref (q 1)), (3, .int (nI (5 * t)))] → W p l e room_1 s m #[Value.ref b] below meth c H locs (60 + 20 * t + 20) (3000 + 1000 * t + 1000) (lw_Z below #[Value.ref b] s) (F0 m 1437 ls [])) (q : Nat → Nat) (σ : SS) (H : Heap) (locs : List Loc) (ls : Array Slot) (hI : Inv t σ) (hw : wx G false q σ H) (hS : va_S (fa G) s.heap H locs) (hl : lv_has ls 4 [(0, .ref b), (1, .ref (q 0)), (2, .ref (q 1)), (3, .int (nI (5 * t)))]) : W p l e room_1 s m #[Value.ref b] below meth c H locs (60 + 20 * t) (3000 + 1000 * t) (lw_Z below #[Value.ref b] s) (F0 m 1348 ls []) := by
  obtain ⟨hx, hb, hml, hown, hts, hr, hlk, hk0, hox⟩ := id C
  have hbA : ¬ fa G b := fun h => absurd (show G.2.2.1 ≤ b from h) (by rw [hG]; omega)
  have hcl : 60 + 20 * t + 20 ≤ room_1.cells ∧ 3000 + 1000 * t + 1000 ≤ room_1.slots := ⟨by show 60 + 20 * t + 20 ≤ 603072; omega, by show 3000 + 1000 * t + 1000 ≤ 7262314; omega⟩
  obtain ⟨r, σ1, σ2, f1, f2, hI2⟩ := T.2.2.2.2.2.2.2.2.2.2.2.2.2.2.2.2.2.2.2.2.2.2.2.2.2.2.2.2.2.2.2.2.2.2.2.2.2.2.2.1 t σ (xs (nI (5 * t) + (1 : Int32)).toNatClampNeg) (xs (nI (5 * t) + (2 : Int32)).toNatClampNeg) (xs (nI (5 * t) + (3 : Int32)).toNatClampNeg) (xs (nI (5 * t) + (4 : Int32)).toNatClampNeg) ht hI
  refine lv_aload_n hx hb dL_law_1348 rfl (lv_at hl 1 rfl) ?_
  refine lv_aload_n hx hb dL_law_1349 rfl (lv_at hl 0 rfl) ?_
  refine lv_iload_n hx hb dL_law_1350 rfl (lv_at hl 3 rfl) ?_
  refine lv_iconst (v := (1 : Int32)) hx hb dL_law_1351 (by decide) ?_
  refine lv_iadd hx hb dL_law_1352 ?_
  refine va_sld hx hb hX hbl hbA hS (ix_in h5 hL (k := 1) (by decide)) dL_law_1353 ?_
  refine lv_aload_n hx hb dL_law_1354 rfl (lv_at hl 0 rfl) ?_
  refine lv_iload_n hx hb dL_law_1355 rfl (lv_at hl 3 rfl) ?_
  refine lv_iconst (v := (2 : Int32)) hx hb dL_law_1356 (by decide) ?_
  refine lv_iadd hx hb dL_law_1357 ?_
  refine va_sld hx hb hX hbl hbA hS (ix_in h5 hL (k := 2) (by decide)) dL_law_1358 ?_
  refine lv_aload_n hx hb dL_law_1359 rfl (lv_at hl 0 rfl) ?_
  refine lv_iload_n hx hb dL_law_1360 rfl (lv_at hl 3 rfl) ?_
  refine lv_iconst (v := (3 : Int32)) hx hb dL_law_1361 (by decide) ?_
  refine lv_iadd hx hb dL_law_1362 ?_
  refine va_sld hx hb hX hbl hbA hS (ix_in h5 hL (k := 3) (by decide)) dL_law_1363 ?_
  refine lv_aload_n hx hb dL_law_1364 rfl (lv_at hl 0 rfl) ?_
  refine lv_iload_n hx hb dL_law_1365 rfl (lv_at hl 3 rfl) ?_
  refine lv_iconst (v := (4 : Int32)) hx hb dL_law_1366 (by decide) ?_
  refine lv_iadd hx hb dL_law_1367 ?_
  refine va_sld hx hb hX hbl hbA hS (ix_in h5 hL (k := 4) (by decide)) dL_law_1368 ?_
  refine r_callW (R := room_1) (cells := 60 + 20 * t) (slots := 3000 + 1000 * t) (As := [.int (xs (nI (5 * t) + (1 : Int32)).toNatClampNeg), .int (xs (nI (5 * t) + (2 : Int32)).toNatClampNeg), .int (xs (nI (5 * t) + (3 : Int32)).toNatClampNeg), .int (xs (nI (5 * t) + (4 : Int32)).toNatClampNeg)]) (rest := []) (i := 0) C hw hS (wi_lo (Or.inl (by decide))) rfl (ci := 0) rfl (met_X0_read l G false q hst f1) (vx_cwVW 4 hts (lw_VW q912 q913 q914 q57 q915) rfl rfl rfl (by decide +kernel) ⟨Nat.le_of_ble_eq_true rfl, Nat.le_of_ble_eq_true rfl⟩) rfl hl.1 rfl (Nat.le_of_ble_eq_true rfl) ⟨by omega, by omega⟩ dL_law_1369 (fun u t9 locs hw hS => ?_)
  generalize t9.heap = H at hw hS ⊢
  have hw : wx G false q σ1 H := hw
  refine lv_aload_n hx hb dL_law_1372 rfl (lv_at hl 2 rfl) ?_
  refine lv_aload_n hx hb dL_law_1373 rfl (lv_at hl 0 rfl) ?_
  refine lv_iload_n hx hb dL_law_1374 rfl (lv_at hl 3 rfl) ?_
  refine lv_iconst (v := (1 : Int32)) hx hb dL_law_1375 (by decide) ?_
  refine lv_iadd hx hb dL_law_1376 ?_
  refine va_sld hx hb hX hbl hbA hS (ix_in h5 hL (k := 1) (by decide)) dL_law_1377 ?_
  refine lv_aload_n hx hb dL_law_1378 rfl (lv_at hl 0 rfl) ?_
  refine lv_iload_n hx hb dL_law_1379 rfl (lv_at hl 3 rfl) ?_
  refine lv_iconst (v := (2 : Int32)) hx hb dL_law_1380 (by decide) ?_
  refine lv_iadd hx hb dL_law_1381 ?_
  refine va_sld hx hb hX hbl hbA hS (ix_in h5 hL (k := 2) (by decide)) dL_law_1382 ?_
  refine lv_aload_n hx hb dL_law_1383 rfl (lv_at hl 0 rfl) ?_
  refine lv_iload_n hx hb dL_law_1384 rfl (lv_at hl 3 rfl) ?_
  refine lv_iconst (v := (3 : Int32)) hx hb dL_law_1385 (by decide) ?_
  refine lv_iadd hx hb dL_law_1386 ?_
  refine va_sld hx hb hX hbl hbA hS (ix_in h5 hL (k := 3) (by decide)) dL_law_1387 ?_
  refine lv_aload_n hx hb dL_law_1388 rfl (lv_at hl 0 rfl) ?_
  refine lv_iload_n hx hb dL_law_1389 rfl (lv_at hl 3 rfl) ?_
  refine lv_iconst (v := (4 : Int32)) hx hb dL_law_1390 (by decide) ?_
  refine lv_iadd hx hb dL_law_1391 ?_
  refine va_sld hx hb hX hbl hbA hS (ix_in h5 hL (k := 4) (by decide)) dL_law_1392 ?_
  refine r_callVi (R := room_1) (cells := 60 + 20 * t + 3) (slots := 3000 + 1000 * t + 700) (As := [.int (xs (nI (5 * t) + (1 : Int32)).toNatClampNeg), .int (xs (nI (5 * t) + (2 : Int32)).toNatClampNeg), .int (xs (nI (5 * t) + (3 : Int32)).toNatClampNeg), .int (xs (nI (5 * t) + (4 : Int32)).toNatClampNeg)]) (rest := [.int r]) (i := 1) C hw hS (wi_lo (Or.inl (by decide))) rfl (ci := 8) rfl (met_X8_read l G false q f2) (cwV 4 hts (lw_V q1318 q1319 q1320 q65 q1321) rfl rfl rfl (by decide +kernel) ⟨Nat.le_of_ble_eq_true rfl, Nat.le_of_ble_eq_true rfl⟩) rfl hl.1 rfl (Nat.le_of_ble_eq_true rfl) ⟨by omega, by omega⟩ dL_law_1393 (fun H locs hw hS => ?_)
  refine lv_icmp_eq (tgt := 1437) hx hb dL_law_1396 (by decide) (fun _ => ?_) (fun c9 => absurd rfl c9)
  refine W.widen (k := 60 + 20 * t + 20) (n := 3000 + 1000 * t + 1000) (by omega) (by omega) ?_
  exact go q σ2 H locs ls hI2 hw hS hl
theorem w_case_39 {p : Program} {e : Env} {s : State} {m : MethodId} {below : List Frame} {meth : Method} {c : Code} {l : Launch} (hst : l.stackTraces = false) {b L : Nat} {xs : Nat → Int32} (hL : L ≤ 320) (hX : va_X b L xs s s.heap) (hbl : b < s.heap.size) {G : GG} (hG : G.2.2.1 = s.heap.size) (C : cx p s m #[Value.ref b] meth c code 4 R_law ret G) {Inv : Nat → SS → Prop} {N : Nat} (T : StepsL Inv N) {t : Nat} (ht : t < 64) (h5 : 5 * t + 5 ≤ L) (go : ∀ (q : Nat → Nat) (σ : SS) (H : Heap) (locs : List Loc) (ls : Array Slot), Inv (t + 1) σ → wx G false q σ H → va_S (fa G) s.heap H locs → lv_has ls 4 [(0, .ref b), (1, .ref (q 0)), (2, .ref (q 1)), (3, .int (nI (5 * t)))] → W p l e room_1 s m #[Value.ref b] below meth c H locs (60 + 20 * t + 20) (3000 + 1000 * t + 1000) (lw_Z below #[Value.ref b] s) (F0 m 1437 ls [])) (q : Nat → Nat) (σ : SS) (H : Heap) (locs : List Loc) (ls : Array Slot) (hI : Inv t σ) (hw : wx G false q σ H) (hS : va_S (fa G) s.heap H locs) (hl : lv_has ls 4 [(0, .ref b), (1, .ref (q 0)), (2, .ref (q 1)), (3, .int (nI (5 * t)))]) : W p l e room_1 s m #[Value.ref b] below meth c H locs (60 + 20 * t) (3000 + 1000 * t) (lw_Z below #[Value.ref b] s) (F0 m 1401 ls []) := by
  obtain ⟨hx, hb, hml, hown, hts, hr, hlk, hk0, hox⟩ := id C
  have hbA : ¬ fa G b := fun h => absurd (show G.2.2.1 ≤ b from h) (by rw [hG]; omega)
  have hcl : 60 + 20 * t + 20 ≤ room_1.cells ∧ 3000 + 1000 * t + 1000 ≤ room_1.slots := ⟨by show 60 + 20 * t + 20 ≤ 603072; omega, by show 3000 + 1000 * t + 1000 ≤ 7262314; omega⟩
  obtain ⟨r, σ1, σ2, f1, f2, hI2⟩ := T.2.2.2.2.2.2.2.2.2.2.2.2.2.2.2.2.2.2.2.2.2.2.2.2.2.2.2.2.2.2.2.2.2.2.2.2.2.2.2.2.1 t σ  ht hI
  refine lv_aload_n hx hb dL_law_1401 rfl (lv_at hl 1 rfl) ?_
  refine r_callVi (R := room_1) (cells := 60 + 20 * t) (slots := 3000 + 1000 * t) (As := []) (rest := []) (i := 0) C hw hS (wi_lo (Or.inl (by decide))) rfl (ci := 0) rfl (met_X0_torn l G false q f1) (cwV 0 hts (lw_V q935 q936 q937 q57 q938) rfl rfl rfl (by decide +kernel) ⟨Nat.le_of_ble_eq_true rfl, Nat.le_of_ble_eq_true rfl⟩) rfl hl.1 rfl (Nat.le_of_ble_eq_true rfl) ⟨by omega, by omega⟩ dL_law_1402 (fun H locs hw hS => ?_)
  refine lv_aload_n hx hb dL_law_1405 rfl (lv_at hl 2 rfl) ?_
  refine r_callVi (R := room_1) (cells := 60 + 20 * t + 0) (slots := 3000 + 1000 * t + 0) (As := []) (rest := [.int r]) (i := 1) C hw hS (wi_lo (Or.inl (by decide))) rfl (ci := 8) rfl (met_X8_torn l G false q f2) (cwV 0 hts (lw_V q1322 q1323 q1324 q65 q1325) rfl rfl rfl (by decide +kernel) ⟨Nat.le_of_ble_eq_true rfl, Nat.le_of_ble_eq_true rfl⟩) rfl hl.1 rfl (Nat.le_of_ble_eq_true rfl) ⟨by omega, by omega⟩ dL_law_1406 (fun H locs hw hS => ?_)
  refine lv_icmp_eq (tgt := 1437) hx hb dL_law_1409 (by decide) (fun _ => ?_) (fun c9 => absurd rfl c9)
  refine W.widen (k := 60 + 20 * t + 20) (n := 3000 + 1000 * t + 1000) (by omega) (by omega) ?_
  exact go q σ2 H locs ls hI2 hw hS hl
theorem w_case_40 {p : Program} {e : Env} {s : State} {m : MethodId} {below : List Frame} {meth : Method} {c : Code} {l : Launch} (hst : l.stackTraces = false) {b L : Nat} {xs : Nat → Int32} (hL : L ≤ 320) (hX : va_X b L xs s s.heap) (hbl : b < s.heap.size) {G : GG} (hG : G.2.2.1 = s.heap.size) (C : cx p s m #[Value.ref b] meth c code 4 R_law ret G) {Inv : Nat → SS → Prop} {N : Nat} (T : StepsL Inv N) {t : Nat} (ht : t < 64) (h5 : 5 * t + 5 ≤ L) (go : ∀ (q : Nat → Nat) (σ : SS) (H : Heap) (locs : List Loc) (ls : Array Slot), Inv (t + 1) σ → wx G false q σ H → va_S (fa G) s.heap H locs → lv_has ls 4 [(0, .ref b), (1, .ref (q 0)), (2, .ref (q 1)), (3, .int (nI (5 * t)))] → W p l e room_1 s m #[Value.ref b] below meth c H locs (60 + 20 * t + 20) (3000 + 1000 * t + 1000) (lw_Z below #[Value.ref b] s) (F0 m 1437 ls [])) (q : Nat → Nat) (σ : SS) (H : Heap) (locs : List Loc) (ls : Array Slot) (hI : Inv t σ) (hw : wx G false q σ H) (hS : va_S (fa G) s.heap H locs) (hl : lv_has ls 4 [(0, .ref b), (1, .ref (q 0)), (2, .ref (q 1)), (3, .int (nI (5 * t)))]) : W p l e room_1 s m #[Value.ref b] below meth c H locs (60 + 20 * t) (3000 + 1000 * t) (lw_Z below #[Value.ref b] s) (F0 m 1414 ls []) := by
  obtain ⟨hx, hb, hml, hown, hts, hr, hlk, hk0, hox⟩ := id C
  have hbA : ¬ fa G b := fun h => absurd (show G.2.2.1 ≤ b from h) (by rw [hG]; omega)
  have hcl : 60 + 20 * t + 20 ≤ room_1.cells ∧ 3000 + 1000 * t + 1000 ≤ room_1.slots := ⟨by show 60 + 20 * t + 20 ≤ 603072; omega, by show 3000 + 1000 * t + 1000 ≤ 7262314; omega⟩
  obtain ⟨r, σ1, σ2, f1, f2, hI2⟩ := T.2.2.2.2.2.2.2.2.2.2.2.2.2.2.2.2.2.2.2.2.2.2.2.2.2.2.2.2.2.2.2.2.2.2.2.2.2.2.2.2.2 t σ (xs (nI (5 * t) + (1 : Int32)).toNatClampNeg) ht hI
  refine lv_aload_n hx hb dL_law_1414 rfl (lv_at hl 1 rfl) ?_
  refine lv_aload_n hx hb dL_law_1415 rfl (lv_at hl 0 rfl) ?_
  refine lv_iload_n hx hb dL_law_1416 rfl (lv_at hl 3 rfl) ?_
  refine lv_iconst (v := (1 : Int32)) hx hb dL_law_1417 (by decide) ?_
  refine lv_iadd hx hb dL_law_1418 ?_
  refine va_sld hx hb hX hbl hbA hS (ix_in h5 hL (k := 1) (by decide)) dL_law_1419 ?_
  refine r_callVi (R := room_1) (cells := 60 + 20 * t) (slots := 3000 + 1000 * t) (As := [.int (xs (nI (5 * t) + (1 : Int32)).toNatClampNeg)]) (rest := []) (i := 0) C hw hS (wi_lo (Or.inl (by decide))) rfl (ci := 0) rfl (met_X0_count l G false q f1) (cwV 1 hts (lw_V q939 q940 q941 q57 q942) rfl rfl rfl (by decide +kernel) ⟨Nat.le_of_ble_eq_true rfl, Nat.le_of_ble_eq_true rfl⟩) rfl hl.1 rfl (Nat.le_of_ble_eq_true rfl) ⟨by omega, by omega⟩ dL_law_1420 (fun H locs hw hS => ?_)
  refine lv_aload_n hx hb dL_law_1423 rfl (lv_at hl 2 rfl) ?_
  refine lv_aload_n hx hb dL_law_1424 rfl (lv_at hl 0 rfl) ?_
  refine lv_iload_n hx hb dL_law_1425 rfl (lv_at hl 3 rfl) ?_
  refine lv_iconst (v := (1 : Int32)) hx hb dL_law_1426 (by decide) ?_
  refine lv_iadd hx hb dL_law_1427 ?_
  refine va_sld hx hb hX hbl hbA hS (ix_in h5 hL (k := 1) (by decide)) dL_law_1428 ?_
  refine r_callVi (R := room_1) (cells := 60 + 20 * t + 0) (slots := 3000 + 1000 * t + 0) (As := [.int (xs (nI (5 * t) + (1 : Int32)).toNatClampNeg)]) (rest := [.int r]) (i := 1) C hw hS (wi_lo (Or.inl (by decide))) rfl (ci := 8) rfl (met_X8_count l G false q f2) (cwV 1 hts (lw_V q1326 q1327 q1328 q65 q1329) rfl rfl rfl (by decide +kernel) ⟨Nat.le_of_ble_eq_true rfl, Nat.le_of_ble_eq_true rfl⟩) rfl hl.1 rfl (Nat.le_of_ble_eq_true rfl) ⟨by omega, by omega⟩ dL_law_1429 (fun H locs hw hS => ?_)
  refine lv_icmp_eq (tgt := 1437) hx hb dL_law_1432 (by decide) (fun _ => ?_) (fun c9 => absurd rfl c9)
  refine W.widen (k := 60 + 20 * t + 20) (n := 3000 + 1000 * t + 1000) (by omega) (by omega) ?_
  exact go q σ2 H locs ls hI2 hw hS hl
theorem w_loop {p : Program} {e : Env} {s : State} {m : MethodId} {below : List Frame} {meth : Method} {c : Code} {l : Launch} (hst : l.stackTraces = false) {b L : Nat} {xs : Nat → Int32} (hL : L ≤ 320) (hX : va_X b L xs s s.heap) (hbl : b < s.heap.size) {G : GG} (hG : G.2.2.1 = s.heap.size) (C : cx p s m #[Value.ref b] meth c code 4 R_law ret G) {Inv : Nat → SS → Prop} {N : Nat} (T : StepsL Inv N) : ∀ (n t : Nat), n + t = 64 → ∀ (q : Nat → Nat) (σ : SS) (H : Heap) (locs : List Loc) (ls : Array Slot), Inv t σ → wx G false q σ H → va_S (fa G) s.heap H locs → lv_has ls 4 [(0, .ref b), (1, .ref (q 0)), (2, .ref (q 1)), (3, .int (nI (5 * t)))] → W p l e room_1 s m #[Value.ref b] below meth c H locs (60 + 20 * t) (3000 + 1000 * t) (lw_Z below #[Value.ref b] s) (F0 m 18 ls []) := by
  obtain ⟨hx, hb, hml, hown, hts, hr, hlk, hk0, hox⟩ := id C
  have hbA : ¬ fa G b := fun h => absurd (show G.2.2.1 ≤ b from h) (by rw [hG]; omega)
  intro n
  induction n with
  | zero =>
    intro t hnt q σ H locs ls hI hw hS hl
    refine lv_iload_n hx hb dL_law_18 rfl (lv_at hl 3 rfl) ?_
    refine lv_aload_n hx hb dL_law_19 rfl (lv_at hl 0 rfl) ?_
    refine va_slen hx hb hX hbl hbA hS dL_law_20 ?_
    refine lv_iconst (v := (5 : Int32)) hx hb dL_law_21 (by decide) ?_
    refine lv_isub hx hb dL_law_22 ?_
    refine lv_icmp_gt (tgt := 1443) hx hb dL_law_23 (by decide) (fun c9 => ?_) (fun c9 => ?_)
    · refine lv_iconst (v := (1 : Int32)) hx hb dL_law_1443 (by decide) ?_
      refine va_forget (fun z hz => by have h1 : G.2.2.1 ≤ z.base := hS.2.2 z hz; rw [hG] at h1; exact h1) ?_
      refine W.widen (k := 603072) (n := 7262314) (by omega) (by omega) ?_
      exact lw_ret hx hb hr hlk dL_law_1444
    · have h1 := ix_le hL (by omega) (Int32.not_lt.mp c9)
      omega
  | succ n ih =>
    intro t hnt q σ H locs ls hI hw hS hl
    have ht : t < 64 := by omega
    have go : ∀ (q : Nat → Nat) (σ : SS) (H : Heap) (locs : List Loc) (ls : Array Slot), Inv (t + 1) σ → wx G false q σ H → va_S (fa G) s.heap H locs → lv_has ls 4 [(0, .ref b), (1, .ref (q 0)), (2, .ref (q 1)), (3, .int (nI (5 * t)))] → W p l e room_1 s m #[Value.ref b] below meth c H locs (60 + 20 * t + 20) (3000 + 1000 * t + 1000) (lw_Z below #[Value.ref b] s) (F0 m 1437 ls []) := by
      intro q σ H locs ls hI hw hS hl
      refine lv_iinc (v := nI (5 * (t + 1))) (lv' := [(3, .int (nI (5 * (t + 1)))), (0, .ref b), (1, .ref (q 0)), (2, .ref (q 1))]) hx hb dL_law_1437 hl (k := 3) rfl (by rw [ix_5]; rfl) (by decide) rfl (fun ls hl => ?_)
      refine lv_goto (tgt := 18) hx hb dL_law_1440 (by decide) ?_
      exact ih (t + 1) (by omega) q σ H locs ls hI hw hS (lv_sub hl [1, 2, 3, 0] rfl)
    refine lv_iload_n hx hb dL_law_18 rfl (lv_at hl 3 rfl) ?_
    refine lv_aload_n hx hb dL_law_19 rfl (lv_at hl 0 rfl) ?_
    refine va_slen hx hb hX hbl hbA hS dL_law_20 ?_
    refine lv_iconst (v := (5 : Int32)) hx hb dL_law_21 (by decide) ?_
    refine lv_isub hx hb dL_law_22 ?_
    refine lv_icmp_gt (tgt := 1443) hx hb dL_law_23 (by decide) (fun c9 => ?_) (fun c9 => ?_)
    · refine lv_iconst (v := (1 : Int32)) hx hb dL_law_1443 (by decide) ?_
      refine va_forget (fun z hz => by have h1 : G.2.2.1 ≤ z.base := hS.2.2 z hz; rw [hG] at h1; exact h1) ?_
      refine W.widen (k := 603072) (n := 7262314) (by omega) (by omega) ?_
      exact lw_ret hx hb hr hlk dL_law_1444
    · have h5 := ix_le hL (by omega) (Int32.not_lt.mp c9)
      refine lv_aload_n hx hb dL_law_26 rfl (lv_at hl 0 rfl) ?_
      refine lv_iload_n hx hb dL_law_27 rfl (lv_at hl 3 rfl) ?_
      refine va_sld hx hb hX hbl hbA hS (ix_in0 h5 hL) dL_law_28 ?_
      refine lv_bipush (v := (63 : Int32)) hx hb dL_law_29 (by decide) ?_
      refine lv_iand hx hb dL_law_31 ?_
      have hno : W p l e room_1 s m #[Value.ref b] below meth c H locs (60 + 20 * t) (3000 + 1000 * t) (lw_Z below #[Value.ref b] s) (F0 m 1437 ls []) := W.widen (k := 60 + 20 * t + 20) (n := 3000 + 1000 * t + 1000) (by omega) (by omega) (go q σ H locs ls (T.1 t σ hI) hw hS hl)
      generalize xs (nI (5 * t)).toNatClampNeg &&& (63 : Int32) = op
      by_cases c0 : (op.toInt < 0 ∨ 40 < op.toInt)
      · exact lv_tableOut (tgt := 1437) hx hb dL_law_32 c0 (by decide) hno
      by_cases c1 : op = (0 : Int32)
      · exact r_tin (tgt := 212) hx hb dL_law_32 c1 (by decide) (by decide) (by rfl) (by decide) (w_case_0 hst hL hX hbl hG C T ht h5 go q σ H locs ls hI hw hS hl)
      by_cases c2 : op = (1 : Int32)
      · exact r_tin (tgt := 235) hx hb dL_law_32 c2 (by decide) (by decide) (by rfl) (by decide) (w_case_1 hst hL hX hbl hG C T ht h5 go q σ H locs ls hI hw hS hl)
      by_cases c3 : op = (2 : Int32)
      · exact r_tin (tgt := 258) hx hb dL_law_32 c3 (by decide) (by decide) (by rfl) (by decide) (w_case_2 hst hL hX hbl hG C T ht h5 go q σ H locs ls hI hw hS hl)
      by_cases c4 : op = (3 : Int32)
      · exact r_tin (tgt := 271) hx hb dL_law_32 c4 (by decide) (by decide) (by rfl) (by decide) (w_case_3 hst hL hX hbl hG C T ht h5 go q σ H locs ls hI hw hS hl)
      by_cases c5 : op = (4 : Int32)
      · exact r_tin (tgt := 284) hx hb dL_law_32 c5 (by decide) (by decide) (by rfl) (by decide) (w_case_4 hst hL hX hbl hG C T ht h5 go q σ H locs ls hI hw hS hl)
      by_cases c6 : op = (5 : Int32)
      · exact r_tin (tgt := 307) hx hb dL_law_32 c6 (by decide) (by decide) (by rfl) (by decide) (w_case_5 hst hL hX hbl hG C T ht h5 go q σ H locs ls hI hw hS hl)
      by_cases c7 : op = (6 : Int32)
      · exact r_tin (tgt := 340) hx hb dL_law_32 c7 (by decide) (by decide) (by rfl) (by decide) (w_case_6 hst hL hX hbl hG C T ht h5 go q σ H locs ls hI hw hS hl)
      by_cases c8 : op = (7 : Int32)
      · exact r_tin (tgt := 363) hx hb dL_law_32 c8 (by decide) (by decide) (by rfl) (by decide) (w_case_7 hst hL hX hbl hG C T ht h5 go q σ H locs ls hI hw hS hl)
      by_cases c9 : op = (8 : Int32)
      · exact r_tin (tgt := 406) hx hb dL_law_32 c9 (by decide) (by decide) (by rfl) (by decide) (w_case_8 hst hL hX hbl hG C T ht h5 go q σ H locs ls hI hw hS hl)
      by_cases c10 : op = (9 : Int32)
      · exact r_tin (tgt := 429) hx hb dL_law_32 c10 (by decide) (by decide) (by rfl) (by decide) (w_case_9 hst hL hX hbl hG C T ht h5 go q σ H locs ls hI hw hS hl)
      by_cases c11 : op = (10 : Int32)
      · exact r_tin (tgt := 472) hx hb dL_law_32 c11 (by decide) (by decide) (by rfl) (by decide) (w_case_10 hst hL hX hbl hG C T ht h5 go q σ H locs ls hI hw hS hl)
      by_cases c12 : op = (11 : Int32)
      · exact r_tin (tgt := 495) hx hb dL_law_32 c12 (by decide) (by decide) (by rfl) (by decide) (w_case_11 hst hL hX hbl hG C T ht h5 go q σ H locs ls hI hw hS hl)
      by_cases c13 : op = (12 : Int32)
      · exact r_tin (tgt := 528) hx hb dL_law_32 c13 (by decide) (by decide) (by rfl) (by decide) (w_case_12 hst hL hX hbl hG C T ht h5 go q σ H locs ls hI hw hS hl)
      by_cases c14 : op = (13 : Int32)
      · exact r_tin (tgt := 551) hx hb dL_law_32 c14 (by decide) (by decide) (by rfl) (by decide) (w_case_13 hst hL hX hbl hG C T ht h5 go q σ H locs ls hI hw hS hl)
      by_cases c15 : op = (14 : Int32)
      · exact r_tin (tgt := 574) hx hb dL_law_32 c15 (by decide) (by decide) (by rfl) (by decide) (w_case_14 hst hL hX hbl hG C T ht h5 go q σ H locs ls hI hw hS hl)
      by_cases c16 : op = (15 : Int32)
      · exact r_tin (tgt := 597) hx hb dL_law_32 c16 (by decide) (by decide) (by rfl) (by decide) (w_case_15 hst hL hX hbl hG C T ht h5 go q σ H locs ls hI hw hS hl)
      by_cases c17 : op = (16 : Int32)
      · exact r_tin (tgt := 620) hx hb dL_law_32 c17 (by decide) (by decide) (by rfl) (by decide) (w_case_16 hst hL hX hbl hG C T ht h5 go q σ H locs ls hI hw hS hl)
      by_cases c18 : op = (17 : Int32)
      · exact r_tin (tgt := 653) hx hb dL_law_32 c18 (by decide) (by decide) (by rfl) (by decide) (w_case_17 hst hL hX hbl hG C T ht h5 go q σ H locs ls hI hw hS hl)
      by_cases c19 : op = (18 : Int32)
      · exact r_tin (tgt := 686) hx hb dL_law_32 c19 (by decide) (by decide) (by rfl) (by decide) (w_case_18 hst hL hX hbl hG C T ht h5 go q σ H locs ls hI hw hS hl)
      by_cases c20 : op = (19 : Int32)
      · exact r_tin (tgt := 709) hx hb dL_law_32 c20 (by decide) (by decide) (by rfl) (by decide) (w_case_19 hst hL hX hbl hG C T ht h5 go q σ H locs ls hI hw hS hl)
      by_cases c21 : op = (20 : Int32)
      · exact r_tin (tgt := 722) hx hb dL_law_32 c21 (by decide) (by decide) (by rfl) (by decide) (w_case_20 hst hL hX hbl hG C T ht h5 go q σ H locs ls hI hw hS hl)
      by_cases c22 : op = (21 : Int32)
      · exact r_tin (tgt := 765) hx hb dL_law_32 c22 (by decide) (by decide) (by rfl) (by decide) (w_case_21 hst hL hX hbl hG C T ht h5 go q σ H locs ls hI hw hS hl)
      by_cases c23 : op = (22 : Int32)
      · exact r_tin (tgt := 808) hx hb dL_law_32 c23 (by decide) (by decide) (by rfl) (by decide) (w_case_22 hst hL hX hbl hG C T ht h5 go q σ H locs ls hI hw hS hl)
      by_cases c24 : op = (23 : Int32)
      · exact r_tin (tgt := 841) hx hb dL_law_32 c24 (by decide) (by decide) (by rfl) (by decide) (w_case_23 hst hL hX hbl hG C T ht h5 go q σ H locs ls hI hw hS hl)
      by_cases c25 : op = (24 : Int32)
      · exact r_tin (tgt := 874) hx hb dL_law_32 c25 (by decide) (by decide) (by rfl) (by decide) (w_case_24 hst hL hX hbl hG C T ht h5 go q σ H locs ls hI hw hS hl)
      by_cases c26 : op = (25 : Int32)
      · exact r_tin (tgt := 907) hx hb dL_law_32 c26 (by decide) (by decide) (by rfl) (by decide) (w_case_25 hst hL hX hbl hG C T ht h5 go q σ H locs ls hI hw hS hl)
      by_cases c27 : op = (26 : Int32)
      · exact r_tin (tgt := 940) hx hb dL_law_32 c27 (by decide) (by decide) (by rfl) (by decide) (w_case_26 hst hL hX hbl hG C T ht h5 go q σ H locs ls hI hw hS hl)
      by_cases c28 : op = (27 : Int32)
      · exact r_tin (tgt := 984) hx hb dL_law_32 c28 (by decide) (by decide) (by rfl) (by decide) (w_case_27 hst hL hX hbl hG C T ht h5 go q σ H locs ls hI hw hS hl)
      by_cases c29 : op = (28 : Int32)
      · exact r_tin (tgt := 1028) hx hb dL_law_32 c29 (by decide) (by decide) (by rfl) (by decide) (w_case_28 hst hL hX hbl hG C T ht h5 go q σ H locs ls hI hw hS hl)
      by_cases c30 : op = (29 : Int32)
      · exact r_tin (tgt := 1071) hx hb dL_law_32 c30 (by decide) (by decide) (by rfl) (by decide) (w_case_29 hst hL hX hbl hG C T ht h5 go q σ H locs ls hI hw hS hl)
      by_cases c31 : op = (30 : Int32)
      · exact r_tin (tgt := 1094) hx hb dL_law_32 c31 (by decide) (by decide) (by rfl) (by decide) (w_case_30 hst hL hX hbl hG C T ht h5 go q σ H locs ls hI hw hS hl)
      by_cases c32 : op = (31 : Int32)
      · exact r_tin (tgt := 1117) hx hb dL_law_32 c32 (by decide) (by decide) (by rfl) (by decide) (w_case_31 hst hL hX hbl hG C T ht h5 go q σ H locs ls hI hw hS hl)
      by_cases c33 : op = (32 : Int32)
      · exact r_tin (tgt := 1140) hx hb dL_law_32 c33 (by decide) (by decide) (by rfl) (by decide) (w_case_32 hst hL hX hbl hG C T ht h5 go q σ H locs ls hI hw hS hl)
      by_cases c34 : op = (33 : Int32)
      · exact r_tin (tgt := 1173) hx hb dL_law_32 c34 (by decide) (by decide) (by rfl) (by decide) (w_case_33 hst hL hX hbl hG C T ht h5 go q σ H locs ls hI hw hS hl)
      by_cases c35 : op = (34 : Int32)
      · exact r_tin (tgt := 1216) hx hb dL_law_32 c35 (by decide) (by decide) (by rfl) (by decide) (w_case_34 hst hL hX hbl hG C T ht h5 go q σ H locs ls hI hw hS hl)
      by_cases c36 : op = (35 : Int32)
      · exact r_tin (tgt := 1239) hx hb dL_law_32 c36 (by decide) (by decide) (by rfl) (by decide) (w_case_35 hst hL hX hbl hG C T ht h5 go q σ H locs ls hI hw hS hl)
      by_cases c37 : op = (36 : Int32)
      · exact r_tin (tgt := 1262) hx hb dL_law_32 c37 (by decide) (by decide) (by rfl) (by decide) (w_case_36 hst hL hX hbl hG C T ht h5 go q σ H locs ls hI hw hS hl)
      by_cases c38 : op = (37 : Int32)
      · exact r_tin (tgt := 1305) hx hb dL_law_32 c38 (by decide) (by decide) (by rfl) (by decide) (w_case_37 hst hL hX hbl hG C T ht h5 go q σ H locs ls hI hw hS hl)
      by_cases c39 : op = (38 : Int32)
      · exact r_tin (tgt := 1348) hx hb dL_law_32 c39 (by decide) (by decide) (by rfl) (by decide) (w_case_38 hst hL hX hbl hG C T ht h5 go q σ H locs ls hI hw hS hl)
      by_cases c40 : op = (39 : Int32)
      · exact r_tin (tgt := 1401) hx hb dL_law_32 c40 (by decide) (by decide) (by rfl) (by decide) (w_case_39 hst hL hX hbl hG C T ht h5 go q σ H locs ls hI hw hS hl)
      by_cases c41 : op = (40 : Int32)
      · exact r_tin (tgt := 1414) hx hb dL_law_32 c41 (by decide) (by decide) (by rfl) (by decide) (w_case_40 hst hL hX hbl hG C T ht h5 go q σ H locs ls hI hw hS hl)
      exfalso
      have key : ∀ v : Nat, v < 41 → ¬ op = nI v := fun v hv => by
        rcases (show v = 0 ∨ v = 1 ∨ v = 2 ∨ v = 3 ∨ v = 4 ∨ v = 5 ∨ v = 6 ∨ v = 7 ∨ v = 8 ∨ v = 9 ∨ v = 10 ∨ v = 11 ∨ v = 12 ∨ v = 13 ∨ v = 14 ∨ v = 15 ∨ v = 16 ∨ v = 17 ∨ v = 18 ∨ v = 19 ∨ v = 20 ∨ v = 21 ∨ v = 22 ∨ v = 23 ∨ v = 24 ∨ v = 25 ∨ v = 26 ∨ v = 27 ∨ v = 28 ∨ v = 29 ∨ v = 30 ∨ v = 31 ∨ v = 32 ∨ v = 33 ∨ v = 34 ∨ v = 35 ∨ v = 36 ∨ v = 37 ∨ v = 38 ∨ v = 39 ∨ v = 40 by omega) with rfl | rfl | rfl | rfl | rfl | rfl | rfl | rfl | rfl | rfl | rfl | rfl | rfl | rfl | rfl | rfl | rfl | rfl | rfl | rfl | rfl | rfl | rfl | rfl | rfl | rfl | rfl | rfl | rfl | rfl | rfl | rfl | rfl | rfl | rfl | rfl | rfl | rfl | rfl | rfl | rfl
        · exact c1
        · exact c2
        · exact c3
        · exact c4
        · exact c5
        · exact c6
        · exact c7
        · exact c8
        · exact c9
        · exact c10
        · exact c11
        · exact c12
        · exact c13
        · exact c14
        · exact c15
        · exact c16
        · exact c17
        · exact c18
        · exact c19
        · exact c20
        · exact c21
        · exact c22
        · exact c23
        · exact c24
        · exact c25
        · exact c26
        · exact c27
        · exact c28
        · exact c29
        · exact c30
        · exact c31
        · exact c32
        · exact c33
        · exact c34
        · exact c35
        · exact c36
        · exact c37
        · exact c38
        · exact c39
        · exact c40
        · exact c41
      refine key op.toInt.toNat (by omega) (Int32.toInt_inj.mp ?_)
      rw [nI_toInt (by omega)]
      omega
