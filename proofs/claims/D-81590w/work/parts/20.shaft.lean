/-! lifted: kinds of clutches, wheels, shafts -/
set_option maxRecDepth 100000
abbrev rmX1_joined : Room := { frames := 1, cells := 0, slots := 0, locals := 60 }
noncomputable def F_X1_joined (N : Nat) (j0 : Nat) (x1 : Int32) (x2 : Int32) (σ : SS) : Option (Int32 × SS) :=
  some (x2, σ)
set_option maxRecDepth 100000 in
theorem met_X1_joined (l : Launch) (G : GG) (rd : Bool) (q : Nat → Nat) {N : Nat} {j0 : Nat} (hj0 : j0 < 4) {x1 : Int32} {x2 : Int32} {σ σ' : SS} {r : Int32} (hF : F_X1_joined N j0 x1 x2 σ = some (r, σ')) : Met l yX1_joined (ws_ yX1_joined cX1_joined 3 (some .int)) rmX1_joined (pcx G rd q σ [.ref (q (9 + j0)), .int x1, .int x2]) (qxi G rd q σ' r) 0 0 (fa G) := by
  refine met_of (by decide) (Nat.le_of_ble_eq_true rfl) ?_
  intro p e s m below meth c C H locs ls hw hS hl
  obtain ⟨hx, hb, hml, hown, hts, -, -, -, -⟩ := id C
  have hl : lv_has ls 3 [(0, .ref (q (9 + j0))), (1, .int x1), (2, .int x2)] := hl
  unfold F_X1_joined at hF
  refine lv_iload_n hx hb dX1_joined_0 rfl (lv_at hl 2 rfl) ?_
  exact r_iret C hw hS hF dX1_joined_1
abbrev rmX2_joined : Room := { frames := 2, cells := 0, slots := 0, locals := 82 }
noncomputable def F_X2_joined (N : Nat) (j0 : Nat) (x1 : Int32) (x2 : Int32) (σ : SS) : Option (Int32 × SS) :=
  bd (F_X1_joined N j0 x1 x2 σ) fun r_4 σ_5 =>
  some (x1 + ((r_4 - x1) / (2 : Int32)), σ_5)
set_option maxRecDepth 100000 in
theorem met_X2_joined (l : Launch) (G : GG) (rd : Bool) (q : Nat → Nat) {N : Nat} {j0 : Nat} (hj0 : j0 < 4) {x1 : Int32} {x2 : Int32} {σ σ' : SS} {r : Int32} (hF : F_X2_joined N j0 x1 x2 σ = some (r, σ')) : Met l yX2_joined (ws_ yX2_joined cX2_joined 3 (some .int)) rmX2_joined (pcx G rd q σ [.ref (q (9 + j0)), .int x1, .int x2]) (qxi G rd q σ' r) 0 0 (fa G) := by
  refine met_of (by decide) (Nat.le_of_ble_eq_true rfl) ?_
  intro p e s m below meth c C H locs ls hw hS hl
  obtain ⟨hx, hb, hml, hown, hts, -, -, -, -⟩ := id C
  have hl : lv_has ls 3 [(0, .ref (q (9 + j0))), (1, .int x1), (2, .int x2)] := hl
  unfold F_X2_joined at hF
  refine lv_iload_n hx hb dX2_joined_0 rfl (lv_at hl 1 rfl) ?_
  refine lv_aload_n hx hb dX2_joined_1 rfl (lv_at hl 0 rfl) ?_
  refine lv_iload_n hx hb dX2_joined_2 rfl (lv_at hl 1 rfl) ?_
  refine lv_iload_n hx hb dX2_joined_3 rfl (lv_at hl 2 rfl) ?_
  obtain ⟨r_4, σ_5, h_6, hF⟩ := bd_e hF
  refine r_super (As := [.int x1, .int x2]) (rest := [.int x1]) (j := j0) C hw hS hj0 (met_X1_joined l G rd q hj0 h_6) (va_cwSU 2 hts (lw_SU q571 q567 q105 q565 q58 q572) rfl rfl rfl (by decide +kernel) ⟨Nat.le_of_ble_eq_true rfl, Nat.le_of_ble_eq_true rfl⟩) rfl hl.1 rfl (Nat.le_of_ble_eq_true rfl) ⟨Nat.le_refl _, Nat.le_refl _⟩ dX2_joined_4 (fun H locs hw hS => ?_)
  refine lv_iload_n hx hb dX2_joined_7 rfl (lv_at hl 1 rfl) ?_
  refine lv_isub hx hb dX2_joined_8 ?_
  refine lv_iconst (v := (2 : Int32)) hx hb dX2_joined_9 (by decide) ?_
  refine lv_idiv hx hb dX2_joined_10 (by decide) ?_
  refine lv_iadd hx hb dX2_joined_11 ?_
  exact r_iret C hw hS hF dX2_joined_12
abbrev rmX3_joined : Room := { frames := 2, cells := 0, slots := 0, locals := 82 }
noncomputable def F_X3_joined (N : Nat) (j0 : Nat) (x1 : Int32) (x2 : Int32) (σ : SS) : Option (Int32 × SS) :=
  bd (F_X1_joined N j0 x1 x2 σ) fun r_4 σ_5 =>
  some (if x1 < r_4 then r_4 else x1, σ_5)
set_option maxRecDepth 100000 in
theorem met_X3_joined (l : Launch) (G : GG) (rd : Bool) (q : Nat → Nat) {N : Nat} {j0 : Nat} (hj0 : j0 < 4) {x1 : Int32} {x2 : Int32} {σ σ' : SS} {r : Int32} (hF : F_X3_joined N j0 x1 x2 σ = some (r, σ')) : Met l yX3_joined (ws_ yX3_joined cX3_joined 3 (some .int)) rmX3_joined (pcx G rd q σ [.ref (q (9 + j0)), .int x1, .int x2]) (qxi G rd q σ' r) 0 0 (fa G) := by
  refine met_of (by decide) (Nat.le_of_ble_eq_true rfl) ?_
  intro p e s m below meth c C H locs ls hw hS hl
  obtain ⟨hx, hb, hml, hown, hts, -, -, -, -⟩ := id C
  have hl : lv_has ls 3 [(0, .ref (q (9 + j0))), (1, .int x1), (2, .int x2)] := hl
  unfold F_X3_joined at hF
  refine lv_iload_n hx hb dX3_joined_0 rfl (lv_at hl 1 rfl) ?_
  refine lv_aload_n hx hb dX3_joined_1 rfl (lv_at hl 0 rfl) ?_
  refine lv_iload_n hx hb dX3_joined_2 rfl (lv_at hl 1 rfl) ?_
  refine lv_iload_n hx hb dX3_joined_3 rfl (lv_at hl 2 rfl) ?_
  obtain ⟨r_4, σ_5, h_6, hF⟩ := bd_e hF
  refine r_super (As := [.int x1, .int x2]) (rest := [.int x1]) (j := j0) C hw hS hj0 (met_X1_joined l G rd q hj0 h_6) (va_cwSU 2 hts (lw_SU q579 q567 q112 q565 q58 q572) rfl rfl rfl (by decide +kernel) ⟨Nat.le_of_ble_eq_true rfl, Nat.le_of_ble_eq_true rfl⟩) rfl hl.1 rfl (Nat.le_of_ble_eq_true rfl) ⟨Nat.le_refl _, Nat.le_refl _⟩ dX3_joined_4 (fun H locs hw hS => ?_)
  refine r_mmax C hl.1 q580 q581 q75 q582 (Nat.le_of_ble_eq_true rfl) (Nat.le_of_ble_eq_true rfl) ⟨Nat.zero_le _, Nat.zero_le _⟩ dX3_joined_7 ?_
  exact r_iret C hw hS hF dX3_joined_10
abbrev rmX4_joined : Room := { frames := 3, cells := 0, slots := 0, locals := 104 }
noncomputable def F_X4_joined (N : Nat) (j0 : Nat) (x1 : Int32) (x2 : Int32) (σ : SS) : Option (Int32 × SS) :=
  bd (F_X3_joined N j0 x1 x2 σ) fun r_4 σ_5 =>
  some (if r_4 < (x1 + (20 : Int32)) then r_4 else (x1 + (20 : Int32)), σ_5)
set_option maxRecDepth 100000 in
theorem met_X4_joined (l : Launch) (G : GG) (rd : Bool) (q : Nat → Nat) {N : Nat} {j0 : Nat} (hj0 : j0 < 4) {x1 : Int32} {x2 : Int32} {σ σ' : SS} {r : Int32} (hF : F_X4_joined N j0 x1 x2 σ = some (r, σ')) : Met l yX4_joined (ws_ yX4_joined cX4_joined 3 (some .int)) rmX4_joined (pcx G rd q σ [.ref (q (9 + j0)), .int x1, .int x2]) (qxi G rd q σ' r) 0 0 (fa G) := by
  refine met_of (by decide) (Nat.le_of_ble_eq_true rfl) ?_
  intro p e s m below meth c C H locs ls hw hS hl
  obtain ⟨hx, hb, hml, hown, hts, -, -, -, -⟩ := id C
  have hl : lv_has ls 3 [(0, .ref (q (9 + j0))), (1, .int x1), (2, .int x2)] := hl
  unfold F_X4_joined at hF
  refine lv_iload_n hx hb dX4_joined_0 rfl (lv_at hl 1 rfl) ?_
  refine lv_bipush (v := (20 : Int32)) hx hb dX4_joined_1 (by decide) ?_
  refine lv_iadd hx hb dX4_joined_3 ?_
  refine lv_aload_n hx hb dX4_joined_4 rfl (lv_at hl 0 rfl) ?_
  refine lv_iload_n hx hb dX4_joined_5 rfl (lv_at hl 1 rfl) ?_
  refine lv_iload_n hx hb dX4_joined_6 rfl (lv_at hl 2 rfl) ?_
  obtain ⟨r_4, σ_5, h_6, hF⟩ := bd_e hF
  refine r_super (As := [.int x1, .int x2]) (rest := [.int (x1 + (20 : Int32))]) (j := j0) C hw hS hj0 (met_X3_joined l G rd q hj0 h_6) (va_cwSU 2 hts (lw_SU q576 q1331 q119 q577 q60 q578) rfl rfl rfl (by decide +kernel) ⟨Nat.le_of_ble_eq_true rfl, Nat.le_of_ble_eq_true rfl⟩) rfl hl.1 rfl (Nat.le_of_ble_eq_true rfl) ⟨Nat.le_refl _, Nat.le_refl _⟩ dX4_joined_7 (fun H locs hw hS => ?_)
  refine r_mmin C hl.1 q583 q584 q75 q585 (Nat.le_of_ble_eq_true rfl) (Nat.le_of_ble_eq_true rfl) ⟨Nat.zero_le _, Nat.zero_le _⟩ dX4_joined_10 ?_
  exact r_iret C hw hS hF dX4_joined_13
/-- what the clutch of kind j swings -/
noncomputable def F_joined (N : Nat) (j : Nat) (x1 x2 : Int32) (σ : SS) : Option (Int32 × SS) :=
  if j = 0 then F_X1_joined N j x1 x2 σ else if j = 1 then F_X2_joined N j x1 x2 σ else if j = 2 then F_X3_joined N j x1 x2 σ else F_X4_joined N j x1 x2 σ
section RJ
variable {p : Program} {l : Launch} {e : Env} {R : Room} {s : State} {m : MethodId} {args : Array Value} {below : List Frame} {meth : Method} {c : Code} {H : Heap} {locs : List Loc} {cells slots : Nat} {Q : State → Prop}
variable {cc : ByteArray} {pc nL : Nat} {ls : Array Slot} {rest : List Value} {ret : Option FieldType} {G : GG} {rd : Bool} {q : Nat → Nat} {σ σ1 : SS}
theorem r_joined (C : cx p s m args meth c cc nL RX0 ret G) (hw : wx G rd q σ H) (hS : va_S (fa G) s.heap H locs) {j N : Nat} (hj : j < 4) (hsz : ls.size = nL) (hrm : (rest.map fun v => v.category).sum ≤ 8) (hf : 4 ≤ R.frames) (hlo : 126 ≤ R.locals) (hcs : cells ≤ R.cells ∧ slots ≤ R.slots) {x1 x2 r : Int32} (hF : F_joined N j x1 x2 σ = some (r, σ1)) (hdg : decode cc pc = .ok (.invokevirtual 38, 3))
    (kk : ∀ (H1 : Heap) (locs1 : List Loc), wx G rd q σ1 H1 → va_S (fa G) s.heap H1 locs1 → W p l e R s m args below meth c H1 locs1 cells slots Q (F0 m (pc + 3) ls (.int r :: rest))) : W p l e R s m args below meth c H locs cells slots Q (F0 m pc ls (.int x2 :: .int x1 :: .ref (q (9 + j)) :: rest)) := by
  have hts := C.2.2.2.2.1
  have f1 : 1 + 1 ≤ R.frames := by omega
  have f2 : 2 + 1 ≤ R.frames := by omega
  have f3 : 3 + 1 ≤ R.frames := by omega
  have l1 : 8 + (3 + 11) + 60 ≤ R.locals := by omega
  have l2 : 8 + (3 + 11) + 82 ≤ R.locals := by omega
  have l3 : 8 + (3 + 11) + 104 ≤ R.locals := by omega
  unfold F_joined at hF
  rcases (show j = 0 ∨ j = 1 ∨ j = 2 ∨ j = 3 by omega) with rfl | rfl | rfl | rfl
  · have hF := it_e hF rfl
    exact r_callVi (As := [.int x1, .int x2]) (rest := rest) (i := 9) C hw hS (wi_lo (Or.inl (by decide))) rfl (ci := 1) rfl (met_X1_joined l G rd q hj hF) (cwV 2 hts (lw_V q564 q565 q566 q58 q572) rfl rfl rfl (by decide +kernel) ⟨f1, l1⟩) rfl hsz rfl hrm hcs hdg kk
  · have hF := it_e (if_e hF (by decide)) rfl
    exact r_over (As := [.int x1, .int x2]) (rest := rest) (i := 10) C hw hS (wi_lo (Or.inl (by decide))) rfl (ci := 2) rfl (met_X2_joined l G rd q hj hF) (va_cwO 2 hts (lw_OV q564 q567 q565 q568 q569 q59 q570) rfl rfl rfl q572 (by decide +kernel) ⟨f2, l2⟩) rfl hsz rfl hrm hcs hdg kk
  · have hF := it_e (if_e (if_e hF (by decide)) (by decide)) rfl
    exact r_over (As := [.int x1, .int x2]) (rest := rest) (i := 11) C hw hS (wi_lo (Or.inl (by decide))) rfl (ci := 3) rfl (met_X3_joined l G rd q hj hF) (va_cwO 2 hts (lw_OV q564 q567 q565 q586 q577 q60 q578) rfl rfl rfl q572 (by decide +kernel) ⟨f2, l2⟩) rfl hsz rfl hrm hcs hdg kk
  · have hF := if_e (if_e (if_e hF (by decide)) (by decide)) (by decide)
    exact r_over (As := [.int x1, .int x2]) (rest := rest) (i := 12) C hw hS (wi_lo (Or.inl (by decide))) rfl (ci := 4) rfl (met_X4_joined l G rd q hj hF) (va_cwO 2 hts (lw_OV q564 q567 q565 q573 q574 q61 q575) rfl rfl rfl q572 (by decide +kernel) ⟨f3, l3⟩) rfl hsz rfl hrm hcs hdg kk
end RJ
abbrev rmX6_as : Room := { frames := 1, cells := 0, slots := 0, locals := 60 }
noncomputable def F_X6_as (N : Nat) (k0 : Nat) (w0 : Nat) (k1 : Nat) (w1 : Nat)  (σ : SS) : Option (Unit × SS) :=
  nm (si σ (iS k0) w0 (gi σ (iS k1) w1)) fun σ_5 =>
  nm (si σ_5 (iS k0) (4 + w0) (gi σ_5 (iS k1) (4 + w1))) fun σ_6 =>
  nm (si σ_6 (iS k0) (8 + w0) (gi σ_6 (iS k1) (8 + w1))) fun σ_7 =>
  nm (si σ_7 (iS k0) (12 + w0) (gi σ_7 (iS k1) (12 + w1))) fun σ_8 =>
  some ((), σ_8)
set_option maxRecDepth 100000 in
theorem met_X6_as (l : Launch) (G : GG) (rd : Bool) (q : Nat → Nat) {N : Nat} {k0 : Nat} {w0 : Nat} {k1 : Nat} {w1 : Nat} (hk0 : okS rd k0) (hw0 : w0 < 4) (hk1 : okS rd k1) (hw1 : w1 < 4) {σ σ' : SS} {r : Unit} (hF : F_X6_as N k0 w0 k1 w1 σ = some (r, σ')) : Met l yX6_as (ws_ yX6_as cX6_as 2 none) rmX6_as (pcx G rd q σ [.ref (q (iW k0 w0)), .ref (q (iW k1 w1))]) (qxv G rd q σ' r) 0 0 (fa G) := by
  refine met_of (by decide) (Nat.le_of_ble_eq_true rfl) ?_
  intro p e s m below meth c C H locs ls hw hS hl
  obtain ⟨hx, hb, hml, hown, hts, -, -, -, -⟩ := id C
  have hl : lv_has ls 2 [(0, .ref (q (iW k0 w0))), (1, .ref (q (iW k1 w1)))] := hl
  unfold F_X6_as at hF
  refine lv_aload_n hx hb dX6_as_0 rfl (lv_at hl 0 rfl) ?_
  refine lv_aload_n hx hb dX6_as_1 rfl (lv_at hl 1 rfl) ?_
  refine r_getW C hw hk1 hw1 0 (by decide) rfl (v := .int (gi σ (iS k1) w1)) rfl q133 dX6_as_2 ?_
  obtain ⟨σ_5, eσ_5, hF⟩ := nm_e2 hF
  refine r_putW C hw hS hk0 hw0 0 (by decide) rfl rfl (tyX6_ok 0 (by decide)) rfl rfl q133 dX6_as_5 eσ_5 (fun H locs hw hS => ?_)
  refine lv_aload_n hx hb dX6_as_8 rfl (lv_at hl 0 rfl) ?_
  refine lv_aload_n hx hb dX6_as_9 rfl (lv_at hl 1 rfl) ?_
  refine r_getW C hw hk1 hw1 1 (by decide) rfl (v := .int (gi σ_5 (iS k1) (4 + w1))) rfl q136 dX6_as_10 ?_
  obtain ⟨σ_6, eσ_6, hF⟩ := nm_e2 hF
  refine r_putW C hw hS hk0 hw0 1 (by decide) rfl rfl (tyX6_ok 1 (by decide)) rfl rfl q136 dX6_as_13 eσ_6 (fun H locs hw hS => ?_)
  refine lv_aload_n hx hb dX6_as_16 rfl (lv_at hl 0 rfl) ?_
  refine lv_aload_n hx hb dX6_as_17 rfl (lv_at hl 1 rfl) ?_
  refine r_getW C hw hk1 hw1 2 (by decide) rfl (v := .int (gi σ_6 (iS k1) (8 + w1))) rfl q139 dX6_as_18 ?_
  obtain ⟨σ_7, eσ_7, hF⟩ := nm_e2 hF
  refine r_putW C hw hS hk0 hw0 2 (by decide) rfl rfl (tyX6_ok 2 (by decide)) rfl rfl q139 dX6_as_21 eσ_7 (fun H locs hw hS => ?_)
  refine lv_aload_n hx hb dX6_as_24 rfl (lv_at hl 0 rfl) ?_
  refine lv_aload_n hx hb dX6_as_25 rfl (lv_at hl 1 rfl) ?_
  refine r_getW C hw hk1 hw1 3 (by decide) rfl (v := .int (gi σ_7 (iS k1) (12 + w1))) rfl q142 dX6_as_26 ?_
  obtain ⟨σ_8, eσ_8, hF⟩ := nm_e2 hF
  refine r_putW C hw hS hk0 hw0 3 (by decide) rfl rfl (tyX6_ok 3 (by decide)) rfl rfl q142 dX6_as_29 eσ_8 (fun H locs hw hS => ?_)
  exact r_vret C hw hS hF dX6_as_32
abbrev rmX5_as : Room := { frames := 2, cells := 0, slots := 0, locals := 81 }
noncomputable def B_X5_as_26 (N : Nat) (k0 : Nat) (k1 : Nat) (IH : Int32 → SS → Option (Unit × SS)) (x2 : Int32) (σ : SS) : Option (Unit × SS) :=
  if (4 : Int32) ≤ x2 then
    nm (si σ (iS k0) 33 (gi σ (iS k1) 33)) fun σ_22 =>
    gd (fit16 σ_22 (iAA k1) = true) <|
    nm (scp σ_22 (iAA k0) (iAA k1) 16) fun σ_24 =>
    nm (si σ_24 (iS k0) 36 (gi σ_24 (iS k1) 36)) fun σ_25 =>
    nm (si σ_25 (iS k0) 37 (gi σ_25 (iS k1) 37)) fun σ_26 =>
    nm (si σ_26 (iS k0) 38 (gi σ_26 (iS k1) 38)) fun σ_27 =>
    nm (si σ_27 (iS k0) 39 (gi σ_27 (iS k1) 39)) fun σ_28 =>
    nm (si σ_28 (iS k0) 40 (gi σ_28 (iS k1) 40)) fun σ_29 =>
    some ((), σ_29)
  else
    gd (inR x2 4) <|
    nm (x2.toNatClampNeg) fun w_31 =>
    gd (inR x2 4) <|
    nm (x2.toNatClampNeg) fun w_33 =>
    bd (F_X6_as N k0 w_31 k1 w_33 σ) fun r_34 σ_35 =>
    nm (x2 + (1 : Int32)) fun x_37 =>
    IH x_37 σ_35
noncomputable def F_X5_as_26 (N : Nat) (k0 : Nat) (k1 : Nat) (n : Nat) : Int32 → SS → Option (Unit × SS) := Nat.rec (fun _ _ => none) (fun _ IH => B_X5_as_26 N k0 k1 IH) n
set_option maxRecDepth 100000 in
theorem w_X5_as_26 {p : Program} {l : Launch} {e : Env} {s : State} {m : MethodId} {args : Array Value} {below : List Frame} {meth : Method} {c : Code} {G : GG} {rd : Bool} {q : Nat → Nat} {N : Nat} {k0 : Nat} {k1 : Nat} {r : Unit} {σ' : SS} (C : cx p s m args meth c cX5_as 3 RX5 none G) (hk0 : okS rd k0) (hk1 : okS rd k1) : ∀ (n : Nat), ∀ (x2 : Int32) (σ : SS) (H : Heap) (locs : List Loc) (ls : Array Slot), F_X5_as_26 N k0 k1 n x2 σ = some (r, σ') → wx G rd q σ H → va_S (fa G) s.heap H locs → lv_has ls 3 [(0, .ref (q (iS k0))), (1, .ref (q (iS k1))), (2, .int x2)] → W p l e rmX5_as s m args below meth c H locs 0 0 (MQ below (qxv G rd q σ' r) args s 0 0 (fa G)) (F0 m 26 ls []) := by
  obtain ⟨hx, hb, hml, hown, hts, -, -, -, -⟩ := id C
  intro n
  induction n with
  | zero =>
    intro x2 σ H locs ls hF hw hS hl
    cases hF
  | succ n ih =>
    intro x2 σ H locs ls hF hw hS hl
    have hF : B_X5_as_26 N k0 k1 (F_X5_as_26 N k0 k1 n) x2 σ = some (r, σ') := hF
    unfold B_X5_as_26 at hF
    refine lv_iload_n hx hb dX5_as_26 rfl (lv_at hl 2 rfl) ?_
    refine lv_iconst (v := (4 : Int32)) hx hb dX5_as_27 (by decide) ?_
    refine lv_icmp_ge (tgt := 52) hx hb dX5_as_28 (by decide) (fun c_21 => ?_) (fun c_21 => ?_)
    · have hF := it_e hF c_21
      refine lv_aload_n hx hb dX5_as_52 rfl (lv_at hl 0 rfl) ?_
      refine lv_aload_n hx hb dX5_as_53 rfl (lv_at hl 1 rfl) ?_
      refine r_getS C hw hk1 4 (by decide) rfl (v := .int (gi σ (iS k1) 33)) rfl q164 dX5_as_54 ?_
      obtain ⟨σ_22, eσ_22, hF⟩ := nm_e2 hF
      refine r_putS C hw hS hk0 4 (by decide) rfl rfl (tyX5_ok 4 (by decide)) rfl rfl q164 dX5_as_57 eσ_22 (fun H locs hw hS => ?_)
      refine lv_aload_n hx hb dX5_as_60 rfl (lv_at hl 1 rfl) ?_
      refine r_getS C hw hk1 5 (by decide) rfl (v := .ref (q (iAA k1))) rfl q167 dX5_as_61 ?_
      refine lv_iconst (v := (0 : Int32)) hx hb dX5_as_64 (by decide) ?_
      refine lv_aload_n hx hb dX5_as_65 rfl (lv_at hl 0 rfl) ?_
      refine r_getS C hw hk0 5 (by decide) rfl (v := .ref (q (iAA k0))) rfl q167 dX5_as_66 ?_
      refine lv_iconst (v := (0 : Int32)) hx hb dX5_as_69 (by decide) ?_
      refine lv_bipush (v := (16 : Int32)) hx hb dX5_as_70 (by decide) ?_
      obtain ⟨h_23, hF⟩ := gd_e hF
      obtain ⟨σ_24, eσ_24, hF⟩ := nm_e2 hF
      refine r_acts (rest := []) C hw hS hk0 hk1 hl.1 q529 (fit16_e h_23) ⟨Nat.le_of_ble_eq_true rfl, Nat.le_of_ble_eq_true rfl⟩ (Nat.le_of_ble_eq_true rfl) dX5_as_72 eσ_24 (fun H locs hw hS => ?_)
      refine lv_aload_n hx hb dX5_as_75 rfl (lv_at hl 0 rfl) ?_
      refine lv_aload_n hx hb dX5_as_76 rfl (lv_at hl 1 rfl) ?_
      refine r_getS C hw hk1 6 (by decide) rfl (v := .int (gi σ_24 (iS k1) 36)) rfl q170 dX5_as_77 ?_
      obtain ⟨σ_25, eσ_25, hF⟩ := nm_e2 hF
      refine r_putS C hw hS hk0 6 (by decide) rfl rfl (tyX5_ok 6 (by decide)) rfl rfl q170 dX5_as_80 eσ_25 (fun H locs hw hS => ?_)
      refine lv_aload_n hx hb dX5_as_83 rfl (lv_at hl 0 rfl) ?_
      refine lv_aload_n hx hb dX5_as_84 rfl (lv_at hl 1 rfl) ?_
      refine r_getS C hw hk1 7 (by decide) rfl (v := .int (gi σ_25 (iS k1) 37)) rfl q172 dX5_as_85 ?_
      obtain ⟨σ_26, eσ_26, hF⟩ := nm_e2 hF
      refine r_putS C hw hS hk0 7 (by decide) rfl rfl (tyX5_ok 7 (by decide)) rfl rfl q172 dX5_as_88 eσ_26 (fun H locs hw hS => ?_)
      refine lv_aload_n hx hb dX5_as_91 rfl (lv_at hl 0 rfl) ?_
      refine lv_aload_n hx hb dX5_as_92 rfl (lv_at hl 1 rfl) ?_
      refine r_getS C hw hk1 8 (by decide) rfl (v := .int (gi σ_26 (iS k1) 38)) rfl q174 dX5_as_93 ?_
      obtain ⟨σ_27, eσ_27, hF⟩ := nm_e2 hF
      refine r_putS C hw hS hk0 8 (by decide) rfl rfl (tyX5_ok 8 (by decide)) rfl rfl q174 dX5_as_96 eσ_27 (fun H locs hw hS => ?_)
      refine lv_aload_n hx hb dX5_as_99 rfl (lv_at hl 0 rfl) ?_
      refine lv_aload_n hx hb dX5_as_100 rfl (lv_at hl 1 rfl) ?_
      refine r_getS C hw hk1 9 (by decide) rfl (v := .int (gi σ_27 (iS k1) 39)) rfl q176 dX5_as_101 ?_
      obtain ⟨σ_28, eσ_28, hF⟩ := nm_e2 hF
      refine r_putS C hw hS hk0 9 (by decide) rfl rfl (tyX5_ok 9 (by decide)) rfl rfl q176 dX5_as_104 eσ_28 (fun H locs hw hS => ?_)
      refine lv_aload_n hx hb dX5_as_107 rfl (lv_at hl 0 rfl) ?_
      refine lv_aload_n hx hb dX5_as_108 rfl (lv_at hl 1 rfl) ?_
      refine r_getS C hw hk1 10 (by decide) rfl (v := .int (gi σ_28 (iS k1) 40)) rfl q178 dX5_as_109 ?_
      obtain ⟨σ_29, eσ_29, hF⟩ := nm_e2 hF
      refine r_putS C hw hS hk0 10 (by decide) rfl rfl (tyX5_ok 10 (by decide)) rfl rfl q178 dX5_as_112 eσ_29 (fun H locs hw hS => ?_)
      exact r_vret C hw hS hF dX5_as_115
    · have hF := if_e hF c_21
      refine lv_aload_n hx hb dX5_as_31 rfl (lv_at hl 0 rfl) ?_
      refine r_getS C hw hk0 3 (by decide) rfl (v := .ref (q (iWA k0))) rfl q162 dX5_as_32 ?_
      refine lv_iload_n hx hb dX5_as_35 rfl (lv_at hl 2 rfl) ?_
      obtain ⟨h_30, hF⟩ := gd_e hF
      obtain ⟨w_31, ew_31, hF⟩ := nm_e2 hF
      have hw_31 : w_31 < 4 := lt_of ew_31 (inR_lt h_30)
      refine r_aald (i := iWA k0) (t := 5) (n := 4) (g := (43 + 10 * k0)) (st := 1) C hw (wi_WA hk0) (tm_WA _ _) rfl h_30 (ha_W ew_31) dX5_as_36 ?_
      refine lv_aload_n hx hb dX5_as_37 rfl (lv_at hl 1 rfl) ?_
      refine r_getS C hw hk1 3 (by decide) rfl (v := .ref (q (iWA k1))) rfl q162 dX5_as_38 ?_
      refine lv_iload_n hx hb dX5_as_41 rfl (lv_at hl 2 rfl) ?_
      obtain ⟨h_32, hF⟩ := gd_e hF
      obtain ⟨w_33, ew_33, hF⟩ := nm_e2 hF
      have hw_33 : w_33 < 4 := lt_of ew_33 (inR_lt h_32)
      refine r_aald (i := iWA k1) (t := 5) (n := 4) (g := (43 + 10 * k1)) (st := 1) C hw (wi_WA hk1) (tm_WA _ _) rfl h_32 (ha_W ew_33) dX5_as_42 ?_
      obtain ⟨r_34, σ_35, h_36, hF⟩ := bd_e hF
      refine r_callVv (As := [.ref (q (iW k1 w_33))]) (rest := []) (i := iW k0 w_31) C hw hS (wi_W hk0 hw_31) (tm_W _ _ hw_31) (ci := 6) rfl (met_X6_as l G rd q hk0 hw_31 hk1 hw_33 h_36) (cwV 1 hts (lw_V q525 q526 q527 q63 q528) rfl rfl rfl (by decide +kernel) ⟨Nat.le_of_ble_eq_true rfl, Nat.le_of_ble_eq_true rfl⟩) rfl hl.1 rfl (Nat.le_of_ble_eq_true rfl) ⟨Nat.le_refl _, Nat.le_refl _⟩ dX5_as_43 (fun H locs hw hS => ?_)
      obtain ⟨x_37, ex_37, hF⟩ := nm_e2 hF
      refine lv_iinc (v := x_37) (lv' := [(2, .int x_37), (0, .ref (q (iS k0))), (1, .ref (q (iS k1)))]) hx hb dX5_as_46 hl (k := 2) rfl (by rw [ex_37]; rfl) (by decide) rfl (fun ls hl => ?_)
      refine lv_goto (tgt := 26) hx hb dX5_as_49 (by decide) ?_
      exact ih _ _ _ _ _ hF hw hS (lv_sub hl [1, 2, 0] rfl)
noncomputable def F_X5_as (N : Nat) (k0 : Nat) (k1 : Nat)  (σ : SS) : Option (Unit × SS) :=
  nm (si σ (iS k0) 34 (gi σ (iS k1) 34)) fun σ_38 =>
  nm (si σ_38 (iS k0) 35 (gi σ_38 (iS k1) 35)) fun σ_39 =>
  nm (si σ_39 (iS k0) 16 (gi σ_39 (iS k1) 16)) fun σ_40 =>
  F_X5_as_26 N k0 k1 N (0 : Int32) σ_40
set_option maxRecDepth 100000 in
theorem met_X5_as (l : Launch) (G : GG) (rd : Bool) (q : Nat → Nat) {N : Nat} {k0 : Nat} {k1 : Nat} (hk0 : okS rd k0) (hk1 : okS rd k1) {σ σ' : SS} {r : Unit} (hF : F_X5_as N k0 k1 σ = some (r, σ')) : Met l yX5_as (ws_ yX5_as cX5_as 3 none) rmX5_as (pcx G rd q σ [.ref (q (iS k0)), .ref (q (iS k1))]) (qxv G rd q σ' r) 0 0 (fa G) := by
  refine met_of (by decide) (Nat.le_of_ble_eq_true rfl) ?_
  intro p e s m below meth c C H locs ls hw hS hl
  obtain ⟨hx, hb, hml, hown, hts, -, -, -, -⟩ := id C
  have hl : lv_has ls 3 [(0, .ref (q (iS k0))), (1, .ref (q (iS k1)))] := hl
  unfold F_X5_as at hF
  refine lv_aload_n hx hb dX5_as_0 rfl (lv_at hl 0 rfl) ?_
  refine lv_aload_n hx hb dX5_as_1 rfl (lv_at hl 1 rfl) ?_
  refine r_getS C hw hk1 0 (by decide) rfl (v := .int (gi σ (iS k1) 34)) rfl q154 dX5_as_2 ?_
  obtain ⟨σ_38, eσ_38, hF⟩ := nm_e2 hF
  refine r_putS C hw hS hk0 0 (by decide) rfl rfl (tyX5_ok 0 (by decide)) rfl rfl q154 dX5_as_5 eσ_38 (fun H locs hw hS => ?_)
  refine lv_aload_n hx hb dX5_as_8 rfl (lv_at hl 0 rfl) ?_
  refine lv_aload_n hx hb dX5_as_9 rfl (lv_at hl 1 rfl) ?_
  refine r_getS C hw hk1 1 (by decide) rfl (v := .int (gi σ_38 (iS k1) 35)) rfl q157 dX5_as_10 ?_
  obtain ⟨σ_39, eσ_39, hF⟩ := nm_e2 hF
  refine r_putS C hw hS hk0 1 (by decide) rfl rfl (tyX5_ok 1 (by decide)) rfl rfl q157 dX5_as_13 eσ_39 (fun H locs hw hS => ?_)
  refine lv_aload_n hx hb dX5_as_16 rfl (lv_at hl 0 rfl) ?_
  refine lv_aload_n hx hb dX5_as_17 rfl (lv_at hl 1 rfl) ?_
  refine r_getS C hw hk1 2 (by decide) rfl (v := .int (gi σ_39 (iS k1) 16)) rfl q159 dX5_as_18 ?_
  obtain ⟨σ_40, eσ_40, hF⟩ := nm_e2 hF
  refine r_putS C hw hS hk0 2 (by decide) rfl rfl (tyX5_ok 2 (by decide)) rfl rfl q159 dX5_as_21 eσ_40 (fun H locs hw hS => ?_)
  refine lv_iconst (v := (0 : Int32)) hx hb dX5_as_24 (by decide) ?_
  refine lv_istore_n (lv' := [(2, .int (0 : Int32)), (0, .ref (q (iS k0))), (1, .ref (q (iS k1)))]) hx hb dX5_as_25 rfl hl (by decide) rfl (fun ls hl => ?_)
  exact w_X5_as_26 C hk0 hk1  N _ _ _ _ _ hF hw hS (lv_sub hl [1, 2, 0] rfl)
abbrev rmX5_puts : Room := { frames := 1, cells := 0, slots := 0, locals := 60 }
noncomputable def F_X5_puts (N : Nat) (k0 : Nat) (x1 : Int32) (x2 : Int32) (x3 : Int32) (σ : SS) : Option (Unit × SS) :=
  gd (inR (gi σ (iS k0) 16) 4) <|
  nm ((gi σ (iS k0) 16).toNatClampNeg) fun w_9 =>
  nm (si σ (iS k0) w_9 x1) fun σ_10 =>
  nm (si σ_10 (iS k0) (4 + w_9) x2) fun σ_11 =>
  nm (si σ_11 (iS k0) (8 + w_9) x3) fun σ_12 =>
  nm (si σ_12 (iS k0) (12 + w_9) (0 : Int32)) fun σ_13 =>
  nm (si σ_13 (iS k0) 16 ((gi σ_13 (iS k0) 16) + (1 : Int32))) fun σ_14 =>
  some ((), σ_14)
set_option maxRecDepth 100000 in
theorem met_X5_puts (l : Launch) (G : GG) (rd : Bool) (q : Nat → Nat) {N : Nat} {k0 : Nat} (hk0 : okS rd k0) {x1 : Int32} {x2 : Int32} {x3 : Int32} {σ σ' : SS} {r : Unit} (hF : F_X5_puts N k0 x1 x2 x3 σ = some (r, σ')) : Met l yX5_puts (ws_ yX5_puts cX5_puts 5 none) rmX5_puts (pcx G rd q σ [.ref (q (iS k0)), .int x1, .int x2, .int x3]) (qxv G rd q σ' r) 0 0 (fa G) := by
  refine met_of (by decide) (Nat.le_of_ble_eq_true rfl) ?_
  intro p e s m below meth c C H locs ls hw hS hl
  obtain ⟨hx, hb, hml, hown, hts, -, -, -, -⟩ := id C
  have hl : lv_has ls 5 [(0, .ref (q (iS k0))), (1, .int x1), (2, .int x2), (3, .int x3)] := hl
  unfold F_X5_puts at hF
  refine lv_aload_n hx hb dX5_puts_0 rfl (lv_at hl 0 rfl) ?_
  refine r_getS C hw hk0 3 (by decide) rfl (v := .ref (q (iWA k0))) rfl q162 dX5_puts_1 ?_
  refine lv_aload_n hx hb dX5_puts_4 rfl (lv_at hl 0 rfl) ?_
  refine r_getS C hw hk0 2 (by decide) rfl (v := .int (gi σ (iS k0) 16)) rfl q159 dX5_puts_5 ?_
  obtain ⟨h_8, hF⟩ := gd_e hF
  obtain ⟨w_9, ew_9, hF⟩ := nm_e2 hF
  have hw_9 : w_9 < 4 := lt_of ew_9 (inR_lt h_8)
  refine r_aald (i := iWA k0) (t := 5) (n := 4) (g := (43 + 10 * k0)) (st := 1) C hw (wi_WA hk0) (tm_WA _ _) rfl h_8 (ha_W ew_9) dX5_puts_8 ?_
  refine lv_astore (lv' := [(4, .ref (q (iW k0 w_9))), (0, .ref (q (iS k0))), (1, .int x1), (2, .int x2), (3, .int x3)]) hx hb dX5_puts_9 hl (by decide) rfl (fun ls hl => ?_)
  refine lv_aload hx hb dX5_puts_11 (lv_at hl 0 rfl) ?_
  refine lv_iload_n hx hb dX5_puts_13 rfl (lv_at hl 2 rfl) ?_
  obtain ⟨σ_10, eσ_10, hF⟩ := nm_e2 hF
  refine r_putWN C hw hS hk0 hw_9 0 (by decide) rfl rfl (tyX6_ok 0 (by decide)) rfl rfl 0 rfl dX5_puts_14 eσ_10 (fun H locs hw hS => ?_)
  refine lv_aload hx hb dX5_puts_17 (lv_at hl 0 rfl) ?_
  refine lv_iload_n hx hb dX5_puts_19 rfl (lv_at hl 3 rfl) ?_
  obtain ⟨σ_11, eσ_11, hF⟩ := nm_e2 hF
  refine r_putWN C hw hS hk0 hw_9 1 (by decide) rfl rfl (tyX6_ok 1 (by decide)) rfl rfl 2 rfl dX5_puts_20 eσ_11 (fun H locs hw hS => ?_)
  refine lv_aload hx hb dX5_puts_23 (lv_at hl 0 rfl) ?_
  refine lv_iload_n hx hb dX5_puts_25 rfl (lv_at hl 4 rfl) ?_
  obtain ⟨σ_12, eσ_12, hF⟩ := nm_e2 hF
  refine r_putWN C hw hS hk0 hw_9 2 (by decide) rfl rfl (tyX6_ok 2 (by decide)) rfl rfl 4 rfl dX5_puts_26 eσ_12 (fun H locs hw hS => ?_)
  refine lv_aload hx hb dX5_puts_29 (lv_at hl 0 rfl) ?_
  refine lv_iconst (v := (0 : Int32)) hx hb dX5_puts_31 (by decide) ?_
  obtain ⟨σ_13, eσ_13, hF⟩ := nm_e2 hF
  refine r_putWN C hw hS hk0 hw_9 3 (by decide) rfl rfl (tyX6_ok 3 (by decide)) rfl rfl 6 rfl dX5_puts_32 eσ_13 (fun H locs hw hS => ?_)
  refine lv_aload_n hx hb dX5_puts_35 rfl (lv_at hl 1 rfl) ?_
  refine lv_dup hx hb dX5_puts_36 rfl ?_
  refine r_getS C hw hk0 2 (by decide) rfl (v := .int (gi σ_13 (iS k0) 16)) rfl q159 dX5_puts_37 ?_
  refine lv_iconst (v := (1 : Int32)) hx hb dX5_puts_40 (by decide) ?_
  refine lv_iadd hx hb dX5_puts_41 ?_
  obtain ⟨σ_14, eσ_14, hF⟩ := nm_e2 hF
  refine r_putS C hw hS hk0 2 (by decide) rfl rfl (tyX5_ok 2 (by decide)) rfl rfl q159 dX5_puts_42 eσ_14 (fun H locs hw hS => ?_)
  exact r_vret C hw hS hF dX5_puts_45
abbrev rmX5_next : Room := { frames := 1, cells := 0, slots := 0, locals := 60 }
noncomputable def F_X5_next (N : Nat) (k0 : Nat)  (σ : SS) : Option (Int32 × SS) :=
  if (gi σ (iS k0) 33) = (0 : Int32) then
    some ((-4 : Int32), σ)
  else
    gd (¬ (gi σ (iS k0) 33) = 0) <|
    some ((gi σ (iS k0) 36) - (gi σ (iS k0) 36) / (gi σ (iS k0) 33) * (gi σ (iS k0) 33), σ)
set_option maxRecDepth 100000 in
theorem met_X5_next (l : Launch) (G : GG) (rd : Bool) (q : Nat → Nat) {N : Nat} {k0 : Nat} (hk0 : okS rd k0) {σ σ' : SS} {r : Int32} (hF : F_X5_next N k0 σ = some (r, σ')) : Met l yX5_next (ws_ yX5_next cX5_next 1 (some .int)) rmX5_next (pcx G rd q σ [.ref (q (iS k0))]) (qxi G rd q σ' r) 0 0 (fa G) := by
  refine met_of (by decide) (Nat.le_of_ble_eq_true rfl) ?_
  intro p e s m below meth c C H locs ls hw hS hl
  obtain ⟨hx, hb, hml, hown, hts, -, -, -, -⟩ := id C
  have hl : lv_has ls 1 [(0, .ref (q (iS k0)))] := hl
  unfold F_X5_next at hF
  refine lv_aload_n hx hb dX5_next_0 rfl (lv_at hl 0 rfl) ?_
  refine r_getS C hw hk0 4 (by decide) rfl (v := .int (gi σ (iS k0) 33)) rfl q164 dX5_next_1 ?_
  refine lv_if_ne (tgt := 12) hx hb dX5_next_4 (by decide) (fun c_3 => ?_) (fun c_3 => ?_)
  · have hF := if_e hF c_3
    refine lv_aload_n hx hb dX5_next_12 rfl (lv_at hl 0 rfl) ?_
    refine r_getS C hw hk0 6 (by decide) rfl (v := .int (gi σ (iS k0) 36)) rfl q170 dX5_next_13 ?_
    refine lv_aload_n hx hb dX5_next_16 rfl (lv_at hl 0 rfl) ?_
    refine r_getS C hw hk0 4 (by decide) rfl (v := .int (gi σ (iS k0) 33)) rfl q164 dX5_next_17 ?_
    obtain ⟨h_4, hF⟩ := gd_e hF
    refine lv_irem hx hb dX5_next_20 h_4 ?_
    exact r_iret C hw hS hF dX5_next_21
  · have hF := it_e hF c_3
    refine lv_bipush (v := (-4 : Int32)) hx hb dX5_next_7 (by decide) ?_
    refine lv_goto (tgt := 21) hx hb dX5_next_9 (by decide) ?_
    exact r_iret C hw hS hF dX5_next_21
abbrev rmX5_evenOf : Room := { frames := 1, cells := 0, slots := 0, locals := 60 }
noncomputable def F_X5_evenOf (N : Nat) (k0 : Nat) (x1 : Int32) (σ : SS) : Option (Int32 × SS) :=
  gd (inR x1 4) <|
  nm (x1.toNatClampNeg) fun w_9 =>
  gd (inR x1 4) <|
  nm (x1.toNatClampNeg) fun w_11 =>
  gd (inR x1 4) <|
  nm (x1.toNatClampNeg) fun w_13 =>
  gd (¬ ((gi σ (iS k0) 34) + (gi σ (iS k0) (4 + w_13))) = 0) <|
  some ((((gi σ (iS k0) 35) + (gi σ (iS k0) (12 + w_9))) * (gi σ (iS k0) (4 + w_11))) / ((gi σ (iS k0) 34) + (gi σ (iS k0) (4 + w_13))), σ)
set_option maxRecDepth 100000 in
theorem met_X5_evenOf (l : Launch) (G : GG) (rd : Bool) (q : Nat → Nat) {N : Nat} {k0 : Nat} (hk0 : okS rd k0) {x1 : Int32} {σ σ' : SS} {r : Int32} (hF : F_X5_evenOf N k0 x1 σ = some (r, σ')) : Met l yX5_evenOf (ws_ yX5_evenOf cX5_evenOf 2 (some .int)) rmX5_evenOf (pcx G rd q σ [.ref (q (iS k0)), .int x1]) (qxi G rd q σ' r) 0 0 (fa G) := by
  refine met_of (by decide) (Nat.le_of_ble_eq_true rfl) ?_
  intro p e s m below meth c C H locs ls hw hS hl
  obtain ⟨hx, hb, hml, hown, hts, -, -, -, -⟩ := id C
  have hl : lv_has ls 2 [(0, .ref (q (iS k0))), (1, .int x1)] := hl
  unfold F_X5_evenOf at hF
  refine lv_aload_n hx hb dX5_evenOf_0 rfl (lv_at hl 0 rfl) ?_
  refine r_getS C hw hk0 1 (by decide) rfl (v := .int (gi σ (iS k0) 35)) rfl q157 dX5_evenOf_1 ?_
  refine lv_aload_n hx hb dX5_evenOf_4 rfl (lv_at hl 0 rfl) ?_
  refine r_getS C hw hk0 3 (by decide) rfl (v := .ref (q (iWA k0))) rfl q162 dX5_evenOf_5 ?_
  refine lv_iload_n hx hb dX5_evenOf_8 rfl (lv_at hl 1 rfl) ?_
  obtain ⟨h_8, hF⟩ := gd_e hF
  obtain ⟨w_9, ew_9, hF⟩ := nm_e2 hF
  have hw_9 : w_9 < 4 := lt_of ew_9 (inR_lt h_8)
  refine r_aald (i := iWA k0) (t := 5) (n := 4) (g := (43 + 10 * k0)) (st := 1) C hw (wi_WA hk0) (tm_WA _ _) rfl h_8 (ha_W ew_9) dX5_evenOf_9 ?_
  refine r_getWN C hw hk0 hw_9 3 (by decide) rfl (v := .int (gi σ (iS k0) (12 + w_9))) rfl 6 rfl dX5_evenOf_10 ?_
  refine lv_iadd hx hb dX5_evenOf_13 ?_
  refine lv_aload_n hx hb dX5_evenOf_14 rfl (lv_at hl 0 rfl) ?_
  refine r_getS C hw hk0 3 (by decide) rfl (v := .ref (q (iWA k0))) rfl q162 dX5_evenOf_15 ?_
  refine lv_iload_n hx hb dX5_evenOf_18 rfl (lv_at hl 1 rfl) ?_
  obtain ⟨h_10, hF⟩ := gd_e hF
  obtain ⟨w_11, ew_11, hF⟩ := nm_e2 hF
  have hw_11 : w_11 < 4 := lt_of ew_11 (inR_lt h_10)
  refine r_aald (i := iWA k0) (t := 5) (n := 4) (g := (43 + 10 * k0)) (st := 1) C hw (wi_WA hk0) (tm_WA _ _) rfl h_10 (ha_W ew_11) dX5_evenOf_19 ?_
  refine r_getWN C hw hk0 hw_11 1 (by decide) rfl (v := .int (gi σ (iS k0) (4 + w_11))) rfl 2 rfl dX5_evenOf_20 ?_
  refine lv_imul hx hb dX5_evenOf_23 ?_
  refine lv_aload_n hx hb dX5_evenOf_24 rfl (lv_at hl 0 rfl) ?_
  refine r_getS C hw hk0 0 (by decide) rfl (v := .int (gi σ (iS k0) 34)) rfl q154 dX5_evenOf_25 ?_
  refine lv_aload_n hx hb dX5_evenOf_28 rfl (lv_at hl 0 rfl) ?_
  refine r_getS C hw hk0 3 (by decide) rfl (v := .ref (q (iWA k0))) rfl q162 dX5_evenOf_29 ?_
  refine lv_iload_n hx hb dX5_evenOf_32 rfl (lv_at hl 1 rfl) ?_
  obtain ⟨h_12, hF⟩ := gd_e hF
  obtain ⟨w_13, ew_13, hF⟩ := nm_e2 hF
  have hw_13 : w_13 < 4 := lt_of ew_13 (inR_lt h_12)
  refine r_aald (i := iWA k0) (t := 5) (n := 4) (g := (43 + 10 * k0)) (st := 1) C hw (wi_WA hk0) (tm_WA _ _) rfl h_12 (ha_W ew_13) dX5_evenOf_33 ?_
  refine r_getWN C hw hk0 hw_13 1 (by decide) rfl (v := .int (gi σ (iS k0) (4 + w_13))) rfl 2 rfl dX5_evenOf_34 ?_
  refine lv_iadd hx hb dX5_evenOf_37 ?_
  obtain ⟨h_14, hF⟩ := gd_e hF
  refine lv_idiv hx hb dX5_evenOf_38 h_14 ?_
  exact r_iret C hw hS hF dX5_evenOf_39
abbrev rmX5_speed : Room := { frames := 1, cells := 0, slots := 0, locals := 60 }
noncomputable def F_X5_speed (N : Nat) (k0 : Nat)  (σ : SS) : Option (Int32 × SS) :=
  gd (¬ (gi σ (iS k0) 34) = 0) <|
  some ((gi σ (iS k0) 35) / (gi σ (iS k0) 34), σ)
set_option maxRecDepth 100000 in
theorem met_X5_speed (l : Launch) (G : GG) (rd : Bool) (q : Nat → Nat) {N : Nat} {k0 : Nat} (hk0 : okS rd k0) {σ σ' : SS} {r : Int32} (hF : F_X5_speed N k0 σ = some (r, σ')) : Met l yX5_speed (ws_ yX5_speed cX5_speed 1 (some .int)) rmX5_speed (pcx G rd q σ [.ref (q (iS k0))]) (qxi G rd q σ' r) 0 0 (fa G) := by
  refine met_of (by decide) (Nat.le_of_ble_eq_true rfl) ?_
  intro p e s m below meth c C H locs ls hw hS hl
  obtain ⟨hx, hb, hml, hown, hts, -, -, -, -⟩ := id C
  have hl : lv_has ls 1 [(0, .ref (q (iS k0)))] := hl
  unfold F_X5_speed at hF
  refine lv_aload_n hx hb dX5_speed_0 rfl (lv_at hl 0 rfl) ?_
  refine r_getS C hw hk0 1 (by decide) rfl (v := .int (gi σ (iS k0) 35)) rfl q157 dX5_speed_1 ?_
  refine lv_aload_n hx hb dX5_speed_4 rfl (lv_at hl 0 rfl) ?_
  refine r_getS C hw hk0 0 (by decide) rfl (v := .int (gi σ (iS k0) 34)) rfl q154 dX5_speed_5 ?_
  obtain ⟨h_2, hF⟩ := gd_e hF
  refine lv_idiv hx hb dX5_speed_8 h_2 ?_
  exact r_iret C hw hS hF dX5_speed_9
abbrev rmX5_all : Room := { frames := 1, cells := 0, slots := 0, locals := 60 }
noncomputable def B_X5_all_7 (N : Nat) (k0 : Nat) (IH : Int32 → Int32 → SS → Option (Int32 × SS)) (x1 : Int32) (x2 : Int32) (σ : SS) : Option (Int32 × SS) :=
  if (gi σ (iS k0) 16) ≤ x2 then
    some (x1, σ)
  else
    gd (inR x2 4) <|
    nm (x2.toNatClampNeg) fun w_9 =>
    nm (x1 + (gi σ (iS k0) (12 + w_9))) fun x_10 =>
    nm (x2 + (1 : Int32)) fun x_11 =>
    IH x_10 x_11 σ
noncomputable def F_X5_all_7 (N : Nat) (k0 : Nat) (n : Nat) : Int32 → Int32 → SS → Option (Int32 × SS) := Nat.rec (fun _ _ _ => none) (fun _ IH => B_X5_all_7 N k0 IH) n
set_option maxRecDepth 100000 in
theorem w_X5_all_7 {p : Program} {l : Launch} {e : Env} {s : State} {m : MethodId} {args : Array Value} {below : List Frame} {meth : Method} {c : Code} {G : GG} {rd : Bool} {q : Nat → Nat} {N : Nat} {k0 : Nat} {r : Int32} {σ' : SS} (C : cx p s m args meth c cX5_all 3 RX5 (some .int) G) (hk0 : okS rd k0) : ∀ (n : Nat), ∀ (x1 : Int32) (x2 : Int32) (σ : SS) (H : Heap) (locs : List Loc) (ls : Array Slot), F_X5_all_7 N k0 n x1 x2 σ = some (r, σ') → wx G rd q σ H → va_S (fa G) s.heap H locs → lv_has ls 3 [(0, .ref (q (iS k0))), (1, .int x1), (2, .int x2)] → W p l e rmX5_all s m args below meth c H locs 0 0 (MQ below (qxi G rd q σ' r) args s 0 0 (fa G)) (F0 m 7 ls []) := by
  obtain ⟨hx, hb, hml, hown, hts, -, -, -, -⟩ := id C
  intro n
  induction n with
  | zero =>
    intro x1 x2 σ H locs ls hF hw hS hl
    cases hF
  | succ n ih =>
    intro x1 x2 σ H locs ls hF hw hS hl
    have hF : B_X5_all_7 N k0 (F_X5_all_7 N k0 n) x1 x2 σ = some (r, σ') := hF
    unfold B_X5_all_7 at hF
    refine lv_iload_n hx hb dX5_all_7 rfl (lv_at hl 2 rfl) ?_
    refine lv_aload_n hx hb dX5_all_8 rfl (lv_at hl 0 rfl) ?_
    refine r_getS C hw hk0 2 (by decide) rfl (v := .int (gi σ (iS k0) 16)) rfl q159 dX5_all_9 ?_
    refine lv_icmp_ge (tgt := 33) hx hb dX5_all_12 (by decide) (fun c_7 => ?_) (fun c_7 => ?_)
    · have hF := it_e hF c_7
      refine lv_iload_n hx hb dX5_all_33 rfl (lv_at hl 1 rfl) ?_
      exact r_iret C hw hS hF dX5_all_34
    · have hF := if_e hF c_7
      refine lv_iload_n hx hb dX5_all_15 rfl (lv_at hl 1 rfl) ?_
      refine lv_aload_n hx hb dX5_all_16 rfl (lv_at hl 0 rfl) ?_
      refine r_getS C hw hk0 3 (by decide) rfl (v := .ref (q (iWA k0))) rfl q162 dX5_all_17 ?_
      refine lv_iload_n hx hb dX5_all_20 rfl (lv_at hl 2 rfl) ?_
      obtain ⟨h_8, hF⟩ := gd_e hF
      obtain ⟨w_9, ew_9, hF⟩ := nm_e2 hF
      have hw_9 : w_9 < 4 := lt_of ew_9 (inR_lt h_8)
      refine r_aald (i := iWA k0) (t := 5) (n := 4) (g := (43 + 10 * k0)) (st := 1) C hw (wi_WA hk0) (tm_WA _ _) rfl h_8 (ha_W ew_9) dX5_all_21 ?_
      refine r_getWN C hw hk0 hw_9 3 (by decide) rfl (v := .int (gi σ (iS k0) (12 + w_9))) rfl 6 rfl dX5_all_22 ?_
      refine lv_iadd hx hb dX5_all_25 ?_
      obtain ⟨x_10, ex_10, hF⟩ := nm_e2 hF
      refine r_topi ex_10 ?_
      refine lv_istore_n (lv' := [(1, .int x_10), (0, .ref (q (iS k0))), (2, .int x2)]) hx hb dX5_all_26 rfl hl (by decide) rfl (fun ls hl => ?_)
      obtain ⟨x_11, ex_11, hF⟩ := nm_e2 hF
      refine lv_iinc (v := x_11) (lv' := [(2, .int x_11), (1, .int x_10), (0, .ref (q (iS k0)))]) hx hb dX5_all_27 hl (k := 2) rfl (by rw [ex_11]; rfl) (by decide) rfl (fun ls hl => ?_)
      refine lv_goto (tgt := 7) hx hb dX5_all_30 (by decide) ?_
      exact ih _ _ _ _ _ _ hF hw hS (lv_sub hl [2, 1, 0] rfl)
noncomputable def F_X5_all (N : Nat) (k0 : Nat)  (σ : SS) : Option (Int32 × SS) :=
  nm (gi σ (iS k0) 35) fun x_12 =>
  F_X5_all_7 N k0 N x_12 (0 : Int32) σ
set_option maxRecDepth 100000 in
theorem met_X5_all (l : Launch) (G : GG) (rd : Bool) (q : Nat → Nat) {N : Nat} {k0 : Nat} (hk0 : okS rd k0) {σ σ' : SS} {r : Int32} (hF : F_X5_all N k0 σ = some (r, σ')) : Met l yX5_all (ws_ yX5_all cX5_all 3 (some .int)) rmX5_all (pcx G rd q σ [.ref (q (iS k0))]) (qxi G rd q σ' r) 0 0 (fa G) := by
  refine met_of (by decide) (Nat.le_of_ble_eq_true rfl) ?_
  intro p e s m below meth c C H locs ls hw hS hl
  obtain ⟨hx, hb, hml, hown, hts, -, -, -, -⟩ := id C
  have hl : lv_has ls 3 [(0, .ref (q (iS k0)))] := hl
  unfold F_X5_all at hF
  refine lv_aload_n hx hb dX5_all_0 rfl (lv_at hl 0 rfl) ?_
  refine r_getS C hw hk0 1 (by decide) rfl (v := .int (gi σ (iS k0) 35)) rfl q157 dX5_all_1 ?_
  obtain ⟨x_12, ex_12, hF⟩ := nm_e2 hF
  refine r_topi ex_12 ?_
  refine lv_istore_n (lv' := [(1, .int x_12), (0, .ref (q (iS k0)))]) hx hb dX5_all_4 rfl hl (by decide) rfl (fun ls hl => ?_)
  refine lv_iconst (v := (0 : Int32)) hx hb dX5_all_5 (by decide) ?_
  refine lv_istore_n (lv' := [(2, .int (0 : Int32)), (1, .int x_12), (0, .ref (q (iS k0)))]) hx hb dX5_all_6 rfl hl (by decide) rfl (fun ls hl => ?_)
  exact w_X5_all_7 C hk0  N _ _ _ _ _ _ hF hw hS (lv_sub hl [2, 1, 0] rfl)
abbrev rmX5_isLike : Room := { frames := 2, cells := 0, slots := 0, locals := 80 }
noncomputable def B_X5_isLike_30 (N : Nat) (k0 : Nat) (k1 : Nat) (IH : Int32 → Int32 → SS → Option (Int32 × SS)) (x2 : Int32) (x3 : Int32) (σ : SS) : Option (Int32 × SS) :=
  if (gi σ (iS k0) 16) ≤ x3 then
    gd (x2 = 0 ∨ x2 = 1) <|
    some (x2, σ)
  else
    gd (inR x3 4) <|
    nm (x3.toNatClampNeg) fun w_23 =>
    gd (inR x3 4) <|
    nm (x3.toNatClampNeg) fun w_25 =>
    if (gi σ (iS k0) (12 + w_23)) = (gi σ (iS k1) (12 + w_25)) then
      nm (x2 &&& (1 : Int32)) fun x_29 =>
      nm (x3 + (1 : Int32)) fun x_30 =>
      IH x_29 x_30 σ
    else
      nm (x2 &&& (0 : Int32)) fun x_27 =>
      nm (x3 + (1 : Int32)) fun x_28 =>
      IH x_27 x_28 σ
noncomputable def F_X5_isLike_30 (N : Nat) (k0 : Nat) (k1 : Nat) (n : Nat) : Int32 → Int32 → SS → Option (Int32 × SS) := Nat.rec (fun _ _ _ => none) (fun _ IH => B_X5_isLike_30 N k0 k1 IH) n
set_option maxRecDepth 100000 in
theorem w_X5_isLike_30 {p : Program} {l : Launch} {e : Env} {s : State} {m : MethodId} {args : Array Value} {below : List Frame} {meth : Method} {c : Code} {G : GG} {rd : Bool} {q : Nat → Nat} {N : Nat} {k0 : Nat} {k1 : Nat} {r : Int32} {σ' : SS} (C : cx p s m args meth c cX5_isLike 4 RX5 (some .boolean) G) (hk0 : okS rd k0) (hk1 : okS rd k1) : ∀ (n : Nat), ∀ (x2 : Int32) (x3 : Int32) (σ : SS) (H : Heap) (locs : List Loc) (ls : Array Slot), F_X5_isLike_30 N k0 k1 n x2 x3 σ = some (r, σ') → wx G rd q σ H → va_S (fa G) s.heap H locs → lv_has ls 4 [(0, .ref (q (iS k0))), (1, .ref (q (iS k1))), (2, .int x2), (3, .int x3)] → W p l e rmX5_isLike s m args below meth c H locs 0 0 (MQ below (qxi G rd q σ' r) args s 0 0 (fa G)) (F0 m 30 ls []) := by
  obtain ⟨hx, hb, hml, hown, hts, -, -, -, -⟩ := id C
  intro n
  induction n with
  | zero =>
    intro x2 x3 σ H locs ls hF hw hS hl
    cases hF
  | succ n ih =>
    intro x2 x3 σ H locs ls hF hw hS hl
    have hF : B_X5_isLike_30 N k0 k1 (F_X5_isLike_30 N k0 k1 n) x2 x3 σ = some (r, σ') := hF
    unfold B_X5_isLike_30 at hF
    refine lv_iload_n hx hb dX5_isLike_30 rfl (lv_at hl 3 rfl) ?_
    refine lv_aload_n hx hb dX5_isLike_31 rfl (lv_at hl 0 rfl) ?_
    refine r_getS C hw hk0 2 (by decide) rfl (v := .int (gi σ (iS k0) 16)) rfl q159 dX5_isLike_32 ?_
    refine lv_icmp_ge (tgt := 73) hx hb dX5_isLike_35 (by decide) (fun c_20 => ?_) (fun c_20 => ?_)
    · have hF := it_e hF c_20
      refine lv_iload_n hx hb dX5_isLike_73 rfl (lv_at hl 2 rfl) ?_
      obtain ⟨h_21, hF⟩ := gd_e hF
      exact r_zret C hw hS hF (nar_z h_21) dX5_isLike_74
    · have hF := if_e hF c_20
      refine lv_iload_n hx hb dX5_isLike_38 rfl (lv_at hl 2 rfl) ?_
      refine lv_aload_n hx hb dX5_isLike_39 rfl (lv_at hl 0 rfl) ?_
      refine r_getS C hw hk0 3 (by decide) rfl (v := .ref (q (iWA k0))) rfl q162 dX5_isLike_40 ?_
      refine lv_iload_n hx hb dX5_isLike_43 rfl (lv_at hl 3 rfl) ?_
      obtain ⟨h_22, hF⟩ := gd_e hF
      obtain ⟨w_23, ew_23, hF⟩ := nm_e2 hF
      have hw_23 : w_23 < 4 := lt_of ew_23 (inR_lt h_22)
      refine r_aald (i := iWA k0) (t := 5) (n := 4) (g := (43 + 10 * k0)) (st := 1) C hw (wi_WA hk0) (tm_WA _ _) rfl h_22 (ha_W ew_23) dX5_isLike_44 ?_
      refine r_getWN C hw hk0 hw_23 3 (by decide) rfl (v := .int (gi σ (iS k0) (12 + w_23))) rfl 6 rfl dX5_isLike_45 ?_
      refine lv_aload_n hx hb dX5_isLike_48 rfl (lv_at hl 1 rfl) ?_
      refine r_getS C hw hk1 3 (by decide) rfl (v := .ref (q (iWA k1))) rfl q162 dX5_isLike_49 ?_
      refine lv_iload_n hx hb dX5_isLike_52 rfl (lv_at hl 3 rfl) ?_
      obtain ⟨h_24, hF⟩ := gd_e hF
      obtain ⟨w_25, ew_25, hF⟩ := nm_e2 hF
      have hw_25 : w_25 < 4 := lt_of ew_25 (inR_lt h_24)
      refine r_aald (i := iWA k1) (t := 5) (n := 4) (g := (43 + 10 * k1)) (st := 1) C hw (wi_WA hk1) (tm_WA _ _) rfl h_24 (ha_W ew_25) dX5_isLike_53 ?_
      refine r_getWN C hw hk1 hw_25 3 (by decide) rfl (v := .int (gi σ (iS k1) (12 + w_25))) rfl 6 rfl dX5_isLike_54 ?_
      refine lv_icmp_ne (tgt := 64) hx hb dX5_isLike_57 (by decide) (fun c_26 => ?_) (fun c_26 => ?_)
      · have hF := if_e hF c_26
        refine lv_iconst (v := (0 : Int32)) hx hb dX5_isLike_64 (by decide) ?_
        refine lv_iand hx hb dX5_isLike_65 ?_
        obtain ⟨x_27, ex_27, hF⟩ := nm_e2 hF
        refine r_topi ex_27 ?_
        refine lv_istore_n (lv' := [(2, .int x_27), (0, .ref (q (iS k0))), (1, .ref (q (iS k1))), (3, .int x3)]) hx hb dX5_isLike_66 rfl hl (by decide) rfl (fun ls hl => ?_)
        obtain ⟨x_28, ex_28, hF⟩ := nm_e2 hF
        refine lv_iinc (v := x_28) (lv' := [(3, .int x_28), (2, .int x_27), (0, .ref (q (iS k0))), (1, .ref (q (iS k1)))]) hx hb dX5_isLike_67 hl (k := 3) rfl (by rw [ex_28]; rfl) (by decide) rfl (fun ls hl => ?_)
        refine lv_goto (tgt := 30) hx hb dX5_isLike_70 (by decide) ?_
        exact ih _ _ _ _ _ _ hF hw hS (lv_sub hl [2, 3, 1, 0] rfl)
      · have hF := it_e hF c_26
        refine lv_iconst (v := (1 : Int32)) hx hb dX5_isLike_60 (by decide) ?_
        refine lv_goto (tgt := 65) hx hb dX5_isLike_61 (by decide) ?_
        refine lv_iand hx hb dX5_isLike_65 ?_
        obtain ⟨x_29, ex_29, hF⟩ := nm_e2 hF
        refine r_topi ex_29 ?_
        refine lv_istore_n (lv' := [(2, .int x_29), (0, .ref (q (iS k0))), (1, .ref (q (iS k1))), (3, .int x3)]) hx hb dX5_isLike_66 rfl hl (by decide) rfl (fun ls hl => ?_)
        obtain ⟨x_30, ex_30, hF⟩ := nm_e2 hF
        refine lv_iinc (v := x_30) (lv' := [(3, .int x_30), (2, .int x_29), (0, .ref (q (iS k0))), (1, .ref (q (iS k1)))]) hx hb dX5_isLike_67 hl (k := 3) rfl (by rw [ex_30]; rfl) (by decide) rfl (fun ls hl => ?_)
        refine lv_goto (tgt := 30) hx hb dX5_isLike_70 (by decide) ?_
        exact ih _ _ _ _ _ _ hF hw hS (lv_sub hl [2, 3, 1, 0] rfl)
noncomputable def F_X5_isLike_26 (N : Nat) (k0 : Nat) (k1 : Nat)  (σ : SS) : Option (Int32 × SS) :=
  F_X5_isLike_30 N k0 k1 N (0 : Int32) (0 : Int32) σ
set_option maxRecDepth 100000 in
theorem w_X5_isLike_26 {p : Program} {l : Launch} {e : Env} {s : State} {m : MethodId} {args : Array Value} {below : List Frame} {meth : Method} {c : Code} {G : GG} {rd : Bool} {q : Nat → Nat} {N : Nat} {k0 : Nat} {k1 : Nat} {r : Int32} {σ' : SS} (C : cx p s m args meth c cX5_isLike 4 RX5 (some .boolean) G) (hk0 : okS rd k0) (hk1 : okS rd k1) : ∀ (σ : SS) (H : Heap) (locs : List Loc) (ls : Array Slot), F_X5_isLike_26 N k0 k1  σ = some (r, σ') → wx G rd q σ H → va_S (fa G) s.heap H locs → lv_has ls 4 [(0, .ref (q (iS k0))), (1, .ref (q (iS k1)))] → W p l e rmX5_isLike s m args below meth c H locs 0 0 (MQ below (qxi G rd q σ' r) args s 0 0 (fa G)) (F0 m 26 ls []) := by
  obtain ⟨hx, hb, hml, hown, hts, -, -, -, -⟩ := id C
  intro σ H locs ls hF hw hS hl
  unfold F_X5_isLike_26 at hF
  refine lv_iconst (v := (0 : Int32)) hx hb dX5_isLike_26 (by decide) ?_
  refine lv_istore_n (lv' := [(2, .int (0 : Int32)), (0, .ref (q (iS k0))), (1, .ref (q (iS k1)))]) hx hb dX5_isLike_27 rfl hl (by decide) rfl (fun ls hl => ?_)
  refine lv_iconst (v := (0 : Int32)) hx hb dX5_isLike_28 (by decide) ?_
  refine lv_istore_n (lv' := [(3, .int (0 : Int32)), (2, .int (0 : Int32)), (0, .ref (q (iS k0))), (1, .ref (q (iS k1)))]) hx hb dX5_isLike_29 rfl hl (by decide) rfl (fun ls hl => ?_)
  exact w_X5_isLike_30 C hk0 hk1  N _ _ _ _ _ _ hF hw hS (lv_sub hl [2, 3, 1, 0] rfl)
noncomputable def F_X5_isLike (N : Nat) (k0 : Nat) (k1 : Nat)  (σ : SS) : Option (Int32 × SS) :=
  bd (F_X5_next N k0 σ) fun r_31 σ_32 =>
  bd (F_X5_next N k1 σ_32) fun r_34 σ_35 =>
  if r_31 = r_34 then
    if (gi σ_35 (iS k0) 35) = (gi σ_35 (iS k1) 35) then
      F_X5_isLike_30 N k0 k1 N (1 : Int32) (0 : Int32) σ_35
    else
      F_X5_isLike_26 N k0 k1 σ_35
  else
    F_X5_isLike_26 N k0 k1 σ_35
set_option maxRecDepth 100000 in
theorem met_X5_isLike (l : Launch) (G : GG) (rd : Bool) (q : Nat → Nat) {N : Nat} {k0 : Nat} {k1 : Nat} (hk0 : okS rd k0) (hk1 : okS rd k1) {σ σ' : SS} {r : Int32} (hF : F_X5_isLike N k0 k1 σ = some (r, σ')) : Met l yX5_isLike (ws_ yX5_isLike cX5_isLike 4 (some .boolean)) rmX5_isLike (pcx G rd q σ [.ref (q (iS k0)), .ref (q (iS k1))]) (qxi G rd q σ' r) 0 0 (fa G) := by
  refine met_of (by decide) (Nat.le_of_ble_eq_true rfl) ?_
  intro p e s m below meth c C H locs ls hw hS hl
  obtain ⟨hx, hb, hml, hown, hts, -, -, -, -⟩ := id C
  have hl : lv_has ls 4 [(0, .ref (q (iS k0))), (1, .ref (q (iS k1)))] := hl
  unfold F_X5_isLike at hF
  refine lv_aload_n hx hb dX5_isLike_0 rfl (lv_at hl 0 rfl) ?_
  obtain ⟨r_31, σ_32, h_33, hF⟩ := bd_e hF
  refine r_callVi (As := []) (rest := []) (i := iS k0) C hw hS (wi_S hk0) (tm_S _ _) (ci := 5) rfl (met_X5_next l G rd q hk0 h_33) (cwV 0 hts (lw_V q704 q545 q546 q62 q547) rfl rfl rfl (by decide +kernel) ⟨Nat.le_of_ble_eq_true rfl, Nat.le_of_ble_eq_true rfl⟩) rfl hl.1 rfl (Nat.le_of_ble_eq_true rfl) ⟨Nat.le_refl _, Nat.le_refl _⟩ dX5_isLike_1 (fun H locs hw hS => ?_)
  refine lv_aload_n hx hb dX5_isLike_4 rfl (lv_at hl 1 rfl) ?_
  obtain ⟨r_34, σ_35, h_36, hF⟩ := bd_e hF
  refine r_callVi (As := []) (rest := [.int r_31]) (i := iS k1) C hw hS (wi_S hk1) (tm_S _ _) (ci := 5) rfl (met_X5_next l G rd q hk1 h_36) (cwV 0 hts (lw_V q704 q545 q546 q62 q547) rfl rfl rfl (by decide +kernel) ⟨Nat.le_of_ble_eq_true rfl, Nat.le_of_ble_eq_true rfl⟩) rfl hl.1 rfl (Nat.le_of_ble_eq_true rfl) ⟨Nat.le_refl _, Nat.le_refl _⟩ dX5_isLike_5 (fun H locs hw hS => ?_)
  refine lv_icmp_ne (tgt := 26) hx hb dX5_isLike_8 (by decide) (fun c_37 => ?_) (fun c_37 => ?_)
  · have hF := if_e hF c_37
    exact w_X5_isLike_26 C hk0 hk1   _ _ _ _ hF hw hS (lv_sub hl [0, 1] rfl)
  · have hF := it_e hF c_37
    refine lv_aload_n hx hb dX5_isLike_11 rfl (lv_at hl 0 rfl) ?_
    refine r_getS C hw hk0 1 (by decide) rfl (v := .int (gi σ_35 (iS k0) 35)) rfl q157 dX5_isLike_12 ?_
    refine lv_aload_n hx hb dX5_isLike_15 rfl (lv_at hl 1 rfl) ?_
    refine r_getS C hw hk1 1 (by decide) rfl (v := .int (gi σ_35 (iS k1) 35)) rfl q157 dX5_isLike_16 ?_
    refine lv_icmp_ne (tgt := 26) hx hb dX5_isLike_19 (by decide) (fun c_38 => ?_) (fun c_38 => ?_)
    · have hF := if_e hF c_38
      exact w_X5_isLike_26 C hk0 hk1   _ _ _ _ hF hw hS (lv_sub hl [0, 1] rfl)
    · have hF := it_e hF c_38
      refine lv_iconst (v := (1 : Int32)) hx hb dX5_isLike_22 (by decide) ?_
      refine lv_goto (tgt := 27) hx hb dX5_isLike_23 (by decide) ?_
      refine lv_istore_n (lv' := [(2, .int (1 : Int32)), (0, .ref (q (iS k0))), (1, .ref (q (iS k1)))]) hx hb dX5_isLike_27 rfl hl (by decide) rfl (fun ls hl => ?_)
      refine lv_iconst (v := (0 : Int32)) hx hb dX5_isLike_28 (by decide) ?_
      refine lv_istore_n (lv' := [(3, .int (0 : Int32)), (2, .int (1 : Int32)), (0, .ref (q (iS k0))), (1, .ref (q (iS k1)))]) hx hb dX5_isLike_29 rfl hl (by decide) rfl (fun ls hl => ?_)
      exact w_X5_isLike_30 C hk0 hk1  N _ _ _ _ _ _ hF hw hS (lv_sub hl [2, 3, 1, 0] rfl)
