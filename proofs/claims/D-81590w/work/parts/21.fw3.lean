/-! lifted: FlyWheels (3) -/
set_option maxRecDepth 100000
abbrev rmX0_lowest : Room := { frames := 1, cells := 0, slots := 0, locals := 60 }
noncomputable def B_X0_lowest_6 (N : Nat) (IH : Int64 → Int64 → Int32 → Int64 → Int64 → SS → Option (Int64 × SS)) (y0 : Int64) (y2 : Int64) (x4 : Int32) (y5 : Int64) (y7 : Int64) (σ : SS) : Option (Int64 × SS) :=
  if (lg_cmp y7 (0 : Int64)) = (0 : Int32) then
    if x4 = (0 : Int32) then
      gd (¬ y5 = 0) <|
      some (y0 / y5, σ)
    else
      gd (¬ y5 = 0) <|
      some (y2 / y5, σ)
  else
    gd (¬ y7 = 0) <|
    nm (y5 - y5 / y7 * y7) fun y_12 =>
    IH y0 y2 x4 y7 y_12 σ
noncomputable def F_X0_lowest_6 (N : Nat) (n : Nat) : Int64 → Int64 → Int32 → Int64 → Int64 → SS → Option (Int64 × SS) := Nat.rec (fun _ _ _ _ _ _ => none) (fun _ IH => B_X0_lowest_6 N IH) n
set_option maxRecDepth 100000 in
theorem w_X0_lowest_6 {p : Program} {l : Launch} {e : Env} {s : State} {m : MethodId} {args : Array Value} {below : List Frame} {meth : Method} {c : Code} {G : GG} {rd : Bool} {q : Nat → Nat} {N : Nat} {r : Int64} {σ' : SS} (C : cx p s m args meth c cX0_lowest 11 RX0 (some .long) G) : ∀ (n : Nat), ∀ (y0 : Int64) (y2 : Int64) (x4 : Int32) (y5 : Int64) (y7 : Int64) (σ : SS) (H : Heap) (locs : List Loc) (ls : Array Slot), F_X0_lowest_6 N n y0 y2 x4 y5 y7 σ = some (r, σ') → wx G rd q σ H → va_S (fa G) s.heap H locs → lv_has ls 11 [(0, .long y0), (2, .long y2), (4, .int x4), (5, .long y5), (7, .long y7)] → W p l e rmX0_lowest s m args below meth c H locs 0 0 (MQ below (qxl G rd q σ' r) args s 0 0 (fa G)) (F0 m 6 ls []) := by
  obtain ⟨hx, hb, hml, hown, hts, -, -, -, -⟩ := id C
  intro n
  induction n with
  | zero =>
    intro y0 y2 x4 y5 y7 σ H locs ls hF hw hS hl
    cases hF
  | succ n ih =>
    intro y0 y2 x4 y5 y7 σ H locs ls hF hw hS hl
    have hF : B_X0_lowest_6 N (F_X0_lowest_6 N n) y0 y2 x4 y5 y7 σ = some (r, σ') := hF
    unfold B_X0_lowest_6 at hF
    refine lv_lload hx hb dX0_lowest_6 (lv_at hl 4 rfl) ?_
    refine lv_lconst (v := (0 : Int64)) hx hb dX0_lowest_8 (by decide) ?_
    refine W.lcmp hx hb dX0_lowest_9 ?_
    refine lv_if_eq (tgt := 31) hx hb dX0_lowest_10 (by decide) (fun c_7 => ?_) (fun c_7 => ?_)
    · have hF := it_e hF c_7
      refine lv_iload hx hb dX0_lowest_31 (lv_at hl 2 rfl) ?_
      refine lv_if_ne (tgt := 43) hx hb dX0_lowest_33 (by decide) (fun c_8 => ?_) (fun c_8 => ?_)
      · have hF := if_e hF c_8
        refine lv_lload_n hx hb dX0_lowest_43 rfl (lv_at hl 1 rfl) ?_
        refine lv_lload hx hb dX0_lowest_44 (lv_at hl 3 rfl) ?_
        obtain ⟨h_9, hF⟩ := gd_e hF
        refine lv_ldiv hx hb dX0_lowest_46 h_9 ?_
        exact r_lret C hw hS hF dX0_lowest_47
      · have hF := it_e hF c_8
        refine lv_lload_n hx hb dX0_lowest_36 rfl (lv_at hl 0 rfl) ?_
        refine lv_lload hx hb dX0_lowest_37 (lv_at hl 3 rfl) ?_
        obtain ⟨h_10, hF⟩ := gd_e hF
        refine lv_ldiv hx hb dX0_lowest_39 h_10 ?_
        refine lv_goto (tgt := 47) hx hb dX0_lowest_40 (by decide) ?_
        exact r_lret C hw hS hF dX0_lowest_47
    · have hF := if_e hF c_7
      refine lv_lload hx hb dX0_lowest_13 (lv_at hl 3 rfl) ?_
      refine lv_lload hx hb dX0_lowest_15 (lv_at hl 4 rfl) ?_
      obtain ⟨h_11, hF⟩ := gd_e hF
      refine lv_lrem hx hb dX0_lowest_17 h_11 ?_
      obtain ⟨y_12, ey_12, hF⟩ := nm_e2 hF
      refine r_topl ey_12 ?_
      refine lv_lstore (lv' := [(9, .long y_12), (0, .long y0), (2, .long y2), (4, .int x4), (5, .long y5), (7, .long y7)]) hx hb dX0_lowest_18 hl (by decide) rfl (fun ls hl => ?_)
      refine lv_lload hx hb dX0_lowest_20 (lv_at hl 5 rfl) ?_
      refine lv_lstore (lv' := [(5, .long y7), (9, .long y_12), (0, .long y0), (2, .long y2), (4, .int x4), (7, .long y7)]) hx hb dX0_lowest_22 hl (by decide) rfl (fun ls hl => ?_)
      refine lv_lload hx hb dX0_lowest_24 (lv_at hl 1 rfl) ?_
      refine lv_lstore (lv' := [(7, .long y_12), (5, .long y7), (9, .long y_12), (0, .long y0), (2, .long y2), (4, .int x4)]) hx hb dX0_lowest_26 hl (by decide) rfl (fun ls hl => ?_)
      refine lv_goto (tgt := 6) hx hb dX0_lowest_28 (by decide) ?_
      exact ih _ _ _ _ _ _ _ _ _ hF hw hS (lv_sub hl [3, 4, 5, 1, 0] rfl)
noncomputable def F_X0_lowest (N : Nat) (y0 : Int64) (y2 : Int64) (x4 : Int32) (σ : SS) : Option (Int64 × SS) :=
  F_X0_lowest_6 N N y0 y2 x4 y2 y0 σ
set_option maxRecDepth 100000 in
theorem met_X0_lowest (l : Launch) (G : GG) (rd : Bool) (q : Nat → Nat) {N : Nat} {y0 : Int64} {y2 : Int64} {x4 : Int32} {σ σ' : SS} {r : Int64} (hF : F_X0_lowest N y0 y2 x4 σ = some (r, σ')) : Met l yX0_lowest (ws_ yX0_lowest cX0_lowest 11 (some .long)) rmX0_lowest (pcx G rd q σ [.long y0, .long y2, .int x4]) (qxl G rd q σ' r) 0 0 (fa G) := by
  refine met_of (by decide) (Nat.le_of_ble_eq_true rfl) ?_
  intro p e s m below meth c C H locs ls hw hS hl
  obtain ⟨hx, hb, hml, hown, hts, -, -, -, -⟩ := id C
  have hl : lv_has ls 11 [(0, .long y0), (2, .long y2), (4, .int x4)] := hl
  unfold F_X0_lowest at hF
  refine lv_lload_n hx hb dX0_lowest_0 rfl (lv_at hl 1 rfl) ?_
  refine lv_lstore (lv' := [(5, .long y2), (0, .long y0), (2, .long y2), (4, .int x4)]) hx hb dX0_lowest_1 hl (by decide) rfl (fun ls hl => ?_)
  refine lv_lload_n hx hb dX0_lowest_3 rfl (lv_at hl 1 rfl) ?_
  refine lv_lstore (lv' := [(7, .long y0), (5, .long y2), (0, .long y0), (2, .long y2), (4, .int x4)]) hx hb dX0_lowest_4 hl (by decide) rfl (fun ls hl => ?_)
  exact w_X0_lowest_6 C   N _ _ _ _ _ _ _ _ _ hF hw hS (lv_sub hl [2, 3, 4, 1, 0] rfl)
abbrev rmX0_luck : Room := { frames := 10, cells := 0, slots := 0, locals := 268 }
noncomputable def F_X0_luck (N : Nat) (x1 : Int32) (x2 : Int32) (x3 : Int32) (σ : SS) : Option (Int64 × SS) :=
  bd (F_X0_in N x1.toInt64 (0 : Int64) (10 : Int64) σ) fun r_19 σ_20 =>
  if r_19 = (0 : Int32) then
    some ((-1 : Int64), σ_20)
  else
    bd (F_X0_in N x2.toInt64 (0 : Int64) (8 : Int64) σ_20) fun r_23 σ_24 =>
    if r_23 = (0 : Int32) then
      some ((-1 : Int64), σ_24)
    else
      bd (F_X0_isPart N x3 σ_24) fun r_27 σ_28 =>
      if r_27 = (0 : Int32) then
        some ((-1 : Int64), σ_28)
      else
        bd (F_X0_findOdds N x1 x2 σ_28) fun r_31 σ_32 =>
        bd (F_X0_lowest N (gl σ_32 16) (gl σ_32 18) x3 σ_32) fun r_34 σ_35 =>
        some (r_34, σ_35)
set_option maxRecDepth 100000 in
theorem met_X0_luck (l : Launch) (G : GG) (rd : Bool) (q : Nat → Nat) {N : Nat} {x1 : Int32} {x2 : Int32} {x3 : Int32} {σ σ' : SS} {r : Int64} (hF : F_X0_luck N x1 x2 x3 σ = some (r, σ')) : Met l yX0_luck (ws_ yX0_luck cX0_luck 4 (some .long)) rmX0_luck (pcx G rd q σ [.ref (q 0), .int x1, .int x2, .int x3]) (qxl G rd q σ' r) 0 0 (fa G) := by
  refine met_of (by decide) (Nat.le_of_ble_eq_true rfl) ?_
  intro p e s m below meth c C H locs ls hw hS hl
  obtain ⟨hx, hb, hml, hown, hts, -, -, -, -⟩ := id C
  have hl : lv_has ls 4 [(0, .ref (q 0)), (1, .int x1), (2, .int x2), (3, .int x3)] := hl
  unfold F_X0_luck at hF
  refine lv_iload_n hx hb dX0_luck_0 rfl (lv_at hl 1 rfl) ?_
  refine lv_i2l hx hb dX0_luck_1 rfl ?_
  refine lv_lconst (v := (0 : Int64)) hx hb dX0_luck_2 (by decide) ?_
  refine lv_ldc2 (v := (10 : Int64)) hx hb hown (hts _ q756) dX0_luck_3 ?_
  obtain ⟨r_19, σ_20, h_21, hF⟩ := bd_e hF
  refine r_callSi (As := [.long x1.toInt64, .long (0 : Int64), .long (10 : Int64)]) (rest := []) C hw hS (met_X0_in l G rd q  h_21) (cwS 3 hts (lw_S q294 q295 q57 q296) rfl rfl rfl (by decide +kernel) ⟨Nat.le_of_ble_eq_true rfl, Nat.le_of_ble_eq_true rfl⟩) rfl hl.1 rfl (Nat.le_of_ble_eq_true rfl) ⟨Nat.le_refl _, Nat.le_refl _⟩ dX0_luck_6 (fun H locs hw hS => ?_)
  refine lv_if_eq (tgt := 31) hx hb dX0_luck_9 (by decide) (fun c_22 => ?_) (fun c_22 => ?_)
  · have hF := it_e hF c_22
    refine lv_ldc2 (v := (-1 : Int64)) hx hb hown (hts _ q758) dX0_luck_31 ?_
    exact r_lret C hw hS hF dX0_luck_34
  · have hF := if_e hF c_22
    refine lv_iload_n hx hb dX0_luck_12 rfl (lv_at hl 2 rfl) ?_
    refine lv_i2l hx hb dX0_luck_13 rfl ?_
    refine lv_lconst (v := (0 : Int64)) hx hb dX0_luck_14 (by decide) ?_
    refine lv_ldc2 (v := (8 : Int64)) hx hb hown (hts _ q757) dX0_luck_15 ?_
    obtain ⟨r_23, σ_24, h_25, hF⟩ := bd_e hF
    refine r_callSi (As := [.long x2.toInt64, .long (0 : Int64), .long (8 : Int64)]) (rest := []) C hw hS (met_X0_in l G rd q  h_25) (cwS 3 hts (lw_S q294 q295 q57 q296) rfl rfl rfl (by decide +kernel) ⟨Nat.le_of_ble_eq_true rfl, Nat.le_of_ble_eq_true rfl⟩) rfl hl.1 rfl (Nat.le_of_ble_eq_true rfl) ⟨Nat.le_refl _, Nat.le_refl _⟩ dX0_luck_18 (fun H locs hw hS => ?_)
    refine lv_if_eq (tgt := 31) hx hb dX0_luck_21 (by decide) (fun c_26 => ?_) (fun c_26 => ?_)
    · have hF := it_e hF c_26
      refine lv_ldc2 (v := (-1 : Int64)) hx hb hown (hts _ q758) dX0_luck_31 ?_
      exact r_lret C hw hS hF dX0_luck_34
    · have hF := if_e hF c_26
      refine lv_iload_n hx hb dX0_luck_24 rfl (lv_at hl 3 rfl) ?_
      obtain ⟨r_27, σ_28, h_29, hF⟩ := bd_e hF
      refine r_callSi (As := [.int x3]) (rest := []) C hw hS (met_X0_isPart l G rd q  h_29) (cwS 1 hts (lw_S q709 q710 q57 q711) rfl rfl rfl (by decide +kernel) ⟨Nat.le_of_ble_eq_true rfl, Nat.le_of_ble_eq_true rfl⟩) rfl hl.1 rfl (Nat.le_of_ble_eq_true rfl) ⟨Nat.le_refl _, Nat.le_refl _⟩ dX0_luck_25 (fun H locs hw hS => ?_)
      refine lv_if_ne (tgt := 35) hx hb dX0_luck_28 (by decide) (fun c_30 => ?_) (fun c_30 => ?_)
      · have hF := if_e hF c_30
        refine lv_aload_n hx hb dX0_luck_35 rfl (lv_at hl 0 rfl) ?_
        refine lv_iload_n hx hb dX0_luck_36 rfl (lv_at hl 1 rfl) ?_
        refine lv_iload_n hx hb dX0_luck_37 rfl (lv_at hl 2 rfl) ?_
        obtain ⟨r_31, σ_32, h_33, hF⟩ := bd_e hF
        refine r_callVv (As := [.int x1, .int x2]) (rest := []) (i := 0) C hw hS (wi_lo (Or.inl (by decide))) rfl (ci := 0) rfl (met_X0_findOdds l G rd q  h_33) (cwV 2 hts (lw_V q759 q761 qs25 q57 q762) rfl rfl rfl (by decide +kernel) ⟨Nat.le_of_ble_eq_true rfl, Nat.le_of_ble_eq_true rfl⟩) rfl hl.1 rfl (Nat.le_of_ble_eq_true rfl) ⟨Nat.le_refl _, Nat.le_refl _⟩ dX0_luck_38 (fun H locs hw hS => ?_)
        refine lv_aload_n hx hb dX0_luck_41 rfl (lv_at hl 0 rfl) ?_
        refine r_get0 C hw 16 (by decide) rfl (v := .long (gl σ_32 16)) rfl q235 dX0_luck_42 ?_
        refine lv_aload_n hx hb dX0_luck_45 rfl (lv_at hl 0 rfl) ?_
        refine r_get0 C hw 18 (by decide) rfl (v := .long (gl σ_32 18)) rfl q237 dX0_luck_46 ?_
        refine lv_iload_n hx hb dX0_luck_49 rfl (lv_at hl 3 rfl) ?_
        obtain ⟨r_34, σ_35, h_36, hF⟩ := bd_e hF
        refine r_callSl (As := [.long (gl σ_32 16), .long (gl σ_32 18), .int x3]) (rest := []) C hw hS (met_X0_lowest l G rd q  h_36) (cwS 3 hts (lw_S q766 q767 q57 q768) rfl rfl rfl (by decide +kernel) ⟨Nat.le_of_ble_eq_true rfl, Nat.le_of_ble_eq_true rfl⟩) rfl hl.1 rfl (Nat.le_of_ble_eq_true rfl) ⟨Nat.le_refl _, Nat.le_refl _⟩ dX0_luck_50 (fun H locs hw hS => ?_)
        exact r_lret C hw hS hF dX0_luck_53
      · have hF := it_e hF c_30
        refine lv_ldc2 (v := (-1 : Int64)) hx hb hown (hts _ q758) dX0_luck_31 ?_
        exact r_lret C hw hS hF dX0_luck_34
abbrev rmX0_mass : Room := { frames := 11, cells := 0, slots := 0, locals := 286 }
noncomputable def B_X0_mass_32 (N : Nat) (IH : Int32 → Int32 → Int32 → Int32 → SS → Option (Int32 × SS)) (x1 : Int32) (x2 : Int32) (x3 : Int32) (x4 : Int32) (σ : SS) : Option (Int32 × SS) :=
  if (20 : Int32) < x4 then
    bd (F_X0_judged N x3 σ) fun r_34 σ_35 =>
    some (r_34, σ_35)
  else
    bd (F_X5_as N 1 0 σ) fun r_37 σ_38 =>
    gd (inR x1 4) <|
    nm (x1.toNatClampNeg) fun w_41 =>
    nm (si σ_38 (iS 1) (4 + w_41) x4) fun σ_42 =>
    bd (F_X0_doneByTried N x2 σ_42) fun r_43 σ_44 =>
    bd (F_X0_judges N x4 r_43 σ_44) fun r_46 σ_47 =>
    nm (x4 + (1 : Int32)) fun x_49 =>
    IH x1 x2 x3 x_49 σ_47
noncomputable def F_X0_mass_32 (N : Nat) (n : Nat) : Int32 → Int32 → Int32 → Int32 → SS → Option (Int32 × SS) := Nat.rec (fun _ _ _ _ _ => none) (fun _ IH => B_X0_mass_32 N IH) n
set_option maxRecDepth 100000 in
theorem w_X0_mass_32 {p : Program} {l : Launch} {e : Env} {s : State} {m : MethodId} {args : Array Value} {below : List Frame} {meth : Method} {c : Code} {G : GG} {rd : Bool} {q : Nat → Nat} {N : Nat} {r : Int32} {σ' : SS} (C : cx p s m args meth c cX0_mass 5 RX0 (some .int) G) : ∀ (n : Nat), ∀ (x1 : Int32) (x2 : Int32) (x3 : Int32) (x4 : Int32) (σ : SS) (H : Heap) (locs : List Loc) (ls : Array Slot), F_X0_mass_32 N n x1 x2 x3 x4 σ = some (r, σ') → wx G rd q σ H → va_S (fa G) s.heap H locs → lv_has ls 5 [(0, .ref (q 0)), (1, .int x1), (2, .int x2), (3, .int x3), (4, .int x4)] → W p l e rmX0_mass s m args below meth c H locs 0 0 (MQ below (qxi G rd q σ' r) args s 0 0 (fa G)) (F0 m 32 ls []) := by
  obtain ⟨hx, hb, hml, hown, hts, -, -, -, -⟩ := id C
  intro n
  induction n with
  | zero =>
    intro x1 x2 x3 x4 σ H locs ls hF hw hS hl
    cases hF
  | succ n ih =>
    intro x1 x2 x3 x4 σ H locs ls hF hw hS hl
    have hF : B_X0_mass_32 N (F_X0_mass_32 N n) x1 x2 x3 x4 σ = some (r, σ') := hF
    unfold B_X0_mass_32 at hF
    refine lv_iload hx hb dX0_mass_32 (lv_at hl 4 rfl) ?_
    refine lv_bipush (v := (20 : Int32)) hx hb dX0_mass_34 (by decide) ?_
    refine lv_icmp_gt (tgt := 81) hx hb dX0_mass_36 (by decide) (fun c_33 => ?_) (fun c_33 => ?_)
    · have hF := it_e hF c_33
      refine lv_aload_n hx hb dX0_mass_81 rfl (lv_at hl 0 rfl) ?_
      refine lv_iload_n hx hb dX0_mass_82 rfl (lv_at hl 3 rfl) ?_
      obtain ⟨r_34, σ_35, h_36, hF⟩ := bd_e hF
      refine r_callVi (As := [.int x3]) (rest := []) (i := 0) C hw hS (wi_lo (Or.inl (by decide))) rfl (ci := 0) rfl (met_X0_judged l G rd q  h_36) (cwV 1 hts (lw_V q724 q726 qs23 q57 q727) rfl rfl rfl (by decide +kernel) ⟨Nat.le_of_ble_eq_true rfl, Nat.le_of_ble_eq_true rfl⟩) rfl hl.1 rfl (Nat.le_of_ble_eq_true rfl) ⟨Nat.le_refl _, Nat.le_refl _⟩ dX0_mass_83 (fun H locs hw hS => ?_)
      exact r_iret C hw hS hF dX0_mass_86
    · have hF := if_e hF c_33
      refine lv_aload_n hx hb dX0_mass_39 rfl (lv_at hl 0 rfl) ?_
      refine r_get0 C hw 2 (by decide) rfl (v := .ref (q (iS 1))) rfl q220 dX0_mass_40 ?_
      refine lv_aload_n hx hb dX0_mass_43 rfl (lv_at hl 0 rfl) ?_
      refine r_get0 C hw 1 (by decide) rfl (v := .ref (q (iS 0))) rfl q219 dX0_mass_44 ?_
      obtain ⟨r_37, σ_38, h_39, hF⟩ := bd_e hF
      refine r_callVv (As := [.ref (q (iS 0))]) (rest := []) (i := iS 1) C hw hS (wi_S (okS_of (by decide))) (tm_S _ _) (ci := 5) rfl (met_X5_as l G rd q (okS_of (by decide)) (okS_of (by decide)) h_39) (cwV 1 hts (lw_V q521 q522 q523 q62 q524) rfl rfl rfl (by decide +kernel) ⟨Nat.le_of_ble_eq_true rfl, Nat.le_of_ble_eq_true rfl⟩) rfl hl.1 rfl (Nat.le_of_ble_eq_true rfl) ⟨Nat.le_refl _, Nat.le_refl _⟩ dX0_mass_47 (fun H locs hw hS => ?_)
      refine lv_aload_n hx hb dX0_mass_50 rfl (lv_at hl 0 rfl) ?_
      refine r_get0 C hw 2 (by decide) rfl (v := .ref (q (iS 1))) rfl q220 dX0_mass_51 ?_
      refine r_getSN C hw (okS_of (by decide)) 3 (by decide) rfl (v := .ref (q (iWA 1))) rfl 13 rfl dX0_mass_54 ?_
      refine lv_iload_n hx hb dX0_mass_57 rfl (lv_at hl 1 rfl) ?_
      obtain ⟨h_40, hF⟩ := gd_e hF
      obtain ⟨w_41, ew_41, hF⟩ := nm_e2 hF
      have hw_41 : w_41 < 4 := lt_of ew_41 (inR_lt h_40)
      refine r_aald (i := iWA 1) (t := 5) (n := 4) (g := (43 + 10 * 1)) (st := 1) C hw (wi_WA (okS_of (by decide))) (tm_WA _ _) rfl h_40 (ha_W ew_41) dX0_mass_58 ?_
      refine lv_iload hx hb dX0_mass_59 (lv_at hl 4 rfl) ?_
      obtain ⟨σ_42, eσ_42, hF⟩ := nm_e2 hF
      refine r_putWN C hw hS (okS_of (by decide)) hw_41 1 (by decide) rfl rfl (tyX6_ok 1 (by decide)) rfl rfl 3 rfl dX0_mass_61 eσ_42 (fun H locs hw hS => ?_)
      refine lv_aload_n hx hb dX0_mass_64 rfl (lv_at hl 0 rfl) ?_
      refine lv_iload hx hb dX0_mass_65 (lv_at hl 4 rfl) ?_
      refine lv_aload_n hx hb dX0_mass_67 rfl (lv_at hl 0 rfl) ?_
      refine lv_iload_n hx hb dX0_mass_68 rfl (lv_at hl 2 rfl) ?_
      obtain ⟨r_43, σ_44, h_45, hF⟩ := bd_e hF
      refine r_callVi (As := [.int x2]) (rest := [.int x4, .ref (q 0)]) (i := 0) C hw hS (wi_lo (Or.inl (by decide))) rfl (ci := 0) rfl (met_X0_doneByTried l G rd q  h_45) (cwV 1 hts (lw_V q716 q718 qs21 q57 q719) rfl rfl rfl (by decide +kernel) ⟨Nat.le_of_ble_eq_true rfl, Nat.le_of_ble_eq_true rfl⟩) rfl hl.1 rfl (Nat.le_of_ble_eq_true rfl) ⟨Nat.le_refl _, Nat.le_refl _⟩ dX0_mass_69 (fun H locs hw hS => ?_)
      obtain ⟨r_46, σ_47, h_48, hF⟩ := bd_e hF
      refine r_callVv (As := [.int x4, .int r_43]) (rest := []) (i := 0) C hw hS (wi_lo (Or.inl (by decide))) rfl (ci := 0) rfl (met_X0_judges l G rd q  h_48) (cwV 2 hts (lw_V q720 q722 qs22 q57 q723) rfl rfl rfl (by decide +kernel) ⟨Nat.le_of_ble_eq_true rfl, Nat.le_of_ble_eq_true rfl⟩) rfl hl.1 rfl (Nat.le_of_ble_eq_true rfl) ⟨Nat.le_refl _, Nat.le_refl _⟩ dX0_mass_72 (fun H locs hw hS => ?_)
      obtain ⟨x_49, ex_49, hF⟩ := nm_e2 hF
      refine lv_iinc (v := x_49) (lv' := [(4, .int x_49), (0, .ref (q 0)), (1, .int x1), (2, .int x2), (3, .int x3)]) hx hb dX0_mass_75 hl (k := 4) rfl (by rw [ex_49]; rfl) (by decide) rfl (fun ls hl => ?_)
      refine lv_goto (tgt := 32) hx hb dX0_mass_78 (by decide) ?_
      exact ih _ _ _ _ _ _ _ _ hF hw hS (lv_sub hl [1, 2, 3, 4, 0] rfl)
noncomputable def F_X0_mass (N : Nat) (x1 : Int32) (x2 : Int32) (x3 : Int32) (σ : SS) : Option (Int32 × SS) :=
  bd (F_X0_isWheel N x1 σ) fun r_50 σ_51 =>
  if r_50 = (0 : Int32) then
    some ((-1 : Int32), σ_51)
  else
    bd (F_X0_isFar N x2 σ_51) fun r_54 σ_55 =>
    if r_54 = (0 : Int32) then
      some ((-1 : Int32), σ_55)
    else
      bd (F_X0_isPart N x3 σ_55) fun r_58 σ_59 =>
      if r_58 = (0 : Int32) then
        some ((-1 : Int32), σ_59)
      else
        bd (F_X0_startsJudging N (-1 : Int32) σ_59) fun r_62 σ_63 =>
        F_X0_mass_32 N N x1 x2 x3 (1 : Int32) σ_63
set_option maxRecDepth 100000 in
theorem met_X0_mass (l : Launch) (G : GG) (rd : Bool) (q : Nat → Nat) {N : Nat} {x1 : Int32} {x2 : Int32} {x3 : Int32} {σ σ' : SS} {r : Int32} (hF : F_X0_mass N x1 x2 x3 σ = some (r, σ')) : Met l yX0_mass (ws_ yX0_mass cX0_mass 5 (some .int)) rmX0_mass (pcx G rd q σ [.ref (q 0), .int x1, .int x2, .int x3]) (qxi G rd q σ' r) 0 0 (fa G) := by
  refine met_of (by decide) (Nat.le_of_ble_eq_true rfl) ?_
  intro p e s m below meth c C H locs ls hw hS hl
  obtain ⟨hx, hb, hml, hown, hts, -, -, -, -⟩ := id C
  have hl : lv_has ls 5 [(0, .ref (q 0)), (1, .int x1), (2, .int x2), (3, .int x3)] := hl
  unfold F_X0_mass at hF
  refine lv_aload_n hx hb dX0_mass_0 rfl (lv_at hl 0 rfl) ?_
  refine lv_iload_n hx hb dX0_mass_1 rfl (lv_at hl 1 rfl) ?_
  obtain ⟨r_50, σ_51, h_52, hF⟩ := bd_e hF
  refine r_callVi (As := [.int x1]) (rest := []) (i := 0) C hw hS (wi_lo (Or.inl (by decide))) rfl (ci := 0) rfl (met_X0_isWheel l G rd q  h_52) (cwV 1 hts (lw_V q552 q554 qs10 q57 q555) rfl rfl rfl (by decide +kernel) ⟨Nat.le_of_ble_eq_true rfl, Nat.le_of_ble_eq_true rfl⟩) rfl hl.1 rfl (Nat.le_of_ble_eq_true rfl) ⟨Nat.le_refl _, Nat.le_refl _⟩ dX0_mass_2 (fun H locs hw hS => ?_)
  refine lv_if_eq (tgt := 22) hx hb dX0_mass_5 (by decide) (fun c_53 => ?_) (fun c_53 => ?_)
  · have hF := it_e hF c_53
    refine lv_iconst (v := (-1 : Int32)) hx hb dX0_mass_22 (by decide) ?_
    exact r_iret C hw hS hF dX0_mass_23
  · have hF := if_e hF c_53
    refine lv_iload_n hx hb dX0_mass_8 rfl (lv_at hl 2 rfl) ?_
    obtain ⟨r_54, σ_55, h_56, hF⟩ := bd_e hF
    refine r_callSi (As := [.int x2]) (rest := []) C hw hS (met_X0_isFar l G rd q  h_56) (cwS 1 hts (lw_S q679 q680 q57 q681) rfl rfl rfl (by decide +kernel) ⟨Nat.le_of_ble_eq_true rfl, Nat.le_of_ble_eq_true rfl⟩) rfl hl.1 rfl (Nat.le_of_ble_eq_true rfl) ⟨Nat.le_refl _, Nat.le_refl _⟩ dX0_mass_9 (fun H locs hw hS => ?_)
    refine lv_if_eq (tgt := 22) hx hb dX0_mass_12 (by decide) (fun c_57 => ?_) (fun c_57 => ?_)
    · have hF := it_e hF c_57
      refine lv_iconst (v := (-1 : Int32)) hx hb dX0_mass_22 (by decide) ?_
      exact r_iret C hw hS hF dX0_mass_23
    · have hF := if_e hF c_57
      refine lv_iload_n hx hb dX0_mass_15 rfl (lv_at hl 3 rfl) ?_
      obtain ⟨r_58, σ_59, h_60, hF⟩ := bd_e hF
      refine r_callSi (As := [.int x3]) (rest := []) C hw hS (met_X0_isPart l G rd q  h_60) (cwS 1 hts (lw_S q709 q710 q57 q711) rfl rfl rfl (by decide +kernel) ⟨Nat.le_of_ble_eq_true rfl, Nat.le_of_ble_eq_true rfl⟩) rfl hl.1 rfl (Nat.le_of_ble_eq_true rfl) ⟨Nat.le_refl _, Nat.le_refl _⟩ dX0_mass_16 (fun H locs hw hS => ?_)
      refine lv_if_ne (tgt := 24) hx hb dX0_mass_19 (by decide) (fun c_61 => ?_) (fun c_61 => ?_)
      · have hF := if_e hF c_61
        refine lv_aload_n hx hb dX0_mass_24 rfl (lv_at hl 0 rfl) ?_
        refine lv_iconst (v := (-1 : Int32)) hx hb dX0_mass_25 (by decide) ?_
        obtain ⟨r_62, σ_63, h_64, hF⟩ := bd_e hF
        refine r_callVv (As := [.int (-1 : Int32)]) (rest := []) (i := 0) C hw hS (wi_lo (Or.inl (by decide))) rfl (ci := 0) rfl (met_X0_startsJudging l G rd q  h_64) (cwV 1 hts (lw_V q712 q714 qs20 q57 q715) rfl rfl rfl (by decide +kernel) ⟨Nat.le_of_ble_eq_true rfl, Nat.le_of_ble_eq_true rfl⟩) rfl hl.1 rfl (Nat.le_of_ble_eq_true rfl) ⟨Nat.le_refl _, Nat.le_refl _⟩ dX0_mass_26 (fun H locs hw hS => ?_)
        refine lv_iconst (v := (1 : Int32)) hx hb dX0_mass_29 (by decide) ?_
        refine lv_istore (lv' := [(4, .int (1 : Int32)), (0, .ref (q 0)), (1, .int x1), (2, .int x2), (3, .int x3)]) hx hb dX0_mass_30 hl (by decide) rfl (fun ls hl => ?_)
        exact w_X0_mass_32 C   N _ _ _ _ _ _ _ _ hF hw hS (lv_sub hl [1, 2, 3, 4, 0] rfl)
      · have hF := it_e hF c_61
        refine lv_iconst (v := (-1 : Int32)) hx hb dX0_mass_22 (by decide) ?_
        exact r_iret C hw hS hF dX0_mass_23
abbrev rmX0_mean : Room := { frames := 10, cells := 0, slots := 0, locals := 268 }
noncomputable def F_X0_mean (N : Nat) (x1 : Int32) (x2 : Int32) (x3 : Int32) (σ : SS) : Option (Int64 × SS) :=
  bd (F_X0_in N x1.toInt64 (0 : Int64) (10 : Int64) σ) fun r_19 σ_20 =>
  if r_19 = (0 : Int32) then
    some ((-1 : Int64), σ_20)
  else
    bd (F_X0_in N x2.toInt64 (0 : Int64) (8 : Int64) σ_20) fun r_23 σ_24 =>
    if r_23 = (0 : Int32) then
      some ((-1 : Int64), σ_24)
    else
      bd (F_X0_isPart N x3 σ_24) fun r_27 σ_28 =>
      if r_27 = (0 : Int32) then
        some ((-1 : Int64), σ_28)
      else
        bd (F_X0_findOdds N x1 x2 σ_28) fun r_31 σ_32 =>
        bd (F_X0_lowest N (gl σ_32 17) (gl σ_32 18) x3 σ_32) fun r_34 σ_35 =>
        some (r_34, σ_35)
set_option maxRecDepth 100000 in
theorem met_X0_mean (l : Launch) (G : GG) (rd : Bool) (q : Nat → Nat) {N : Nat} {x1 : Int32} {x2 : Int32} {x3 : Int32} {σ σ' : SS} {r : Int64} (hF : F_X0_mean N x1 x2 x3 σ = some (r, σ')) : Met l yX0_mean (ws_ yX0_mean cX0_mean 4 (some .long)) rmX0_mean (pcx G rd q σ [.ref (q 0), .int x1, .int x2, .int x3]) (qxl G rd q σ' r) 0 0 (fa G) := by
  refine met_of (by decide) (Nat.le_of_ble_eq_true rfl) ?_
  intro p e s m below meth c C H locs ls hw hS hl
  obtain ⟨hx, hb, hml, hown, hts, -, -, -, -⟩ := id C
  have hl : lv_has ls 4 [(0, .ref (q 0)), (1, .int x1), (2, .int x2), (3, .int x3)] := hl
  unfold F_X0_mean at hF
  refine lv_iload_n hx hb dX0_mean_0 rfl (lv_at hl 1 rfl) ?_
  refine lv_i2l hx hb dX0_mean_1 rfl ?_
  refine lv_lconst (v := (0 : Int64)) hx hb dX0_mean_2 (by decide) ?_
  refine lv_ldc2 (v := (10 : Int64)) hx hb hown (hts _ q756) dX0_mean_3 ?_
  obtain ⟨r_19, σ_20, h_21, hF⟩ := bd_e hF
  refine r_callSi (As := [.long x1.toInt64, .long (0 : Int64), .long (10 : Int64)]) (rest := []) C hw hS (met_X0_in l G rd q  h_21) (cwS 3 hts (lw_S q294 q295 q57 q296) rfl rfl rfl (by decide +kernel) ⟨Nat.le_of_ble_eq_true rfl, Nat.le_of_ble_eq_true rfl⟩) rfl hl.1 rfl (Nat.le_of_ble_eq_true rfl) ⟨Nat.le_refl _, Nat.le_refl _⟩ dX0_mean_6 (fun H locs hw hS => ?_)
  refine lv_if_eq (tgt := 31) hx hb dX0_mean_9 (by decide) (fun c_22 => ?_) (fun c_22 => ?_)
  · have hF := it_e hF c_22
    refine lv_ldc2 (v := (-1 : Int64)) hx hb hown (hts _ q758) dX0_mean_31 ?_
    exact r_lret C hw hS hF dX0_mean_34
  · have hF := if_e hF c_22
    refine lv_iload_n hx hb dX0_mean_12 rfl (lv_at hl 2 rfl) ?_
    refine lv_i2l hx hb dX0_mean_13 rfl ?_
    refine lv_lconst (v := (0 : Int64)) hx hb dX0_mean_14 (by decide) ?_
    refine lv_ldc2 (v := (8 : Int64)) hx hb hown (hts _ q757) dX0_mean_15 ?_
    obtain ⟨r_23, σ_24, h_25, hF⟩ := bd_e hF
    refine r_callSi (As := [.long x2.toInt64, .long (0 : Int64), .long (8 : Int64)]) (rest := []) C hw hS (met_X0_in l G rd q  h_25) (cwS 3 hts (lw_S q294 q295 q57 q296) rfl rfl rfl (by decide +kernel) ⟨Nat.le_of_ble_eq_true rfl, Nat.le_of_ble_eq_true rfl⟩) rfl hl.1 rfl (Nat.le_of_ble_eq_true rfl) ⟨Nat.le_refl _, Nat.le_refl _⟩ dX0_mean_18 (fun H locs hw hS => ?_)
    refine lv_if_eq (tgt := 31) hx hb dX0_mean_21 (by decide) (fun c_26 => ?_) (fun c_26 => ?_)
    · have hF := it_e hF c_26
      refine lv_ldc2 (v := (-1 : Int64)) hx hb hown (hts _ q758) dX0_mean_31 ?_
      exact r_lret C hw hS hF dX0_mean_34
    · have hF := if_e hF c_26
      refine lv_iload_n hx hb dX0_mean_24 rfl (lv_at hl 3 rfl) ?_
      obtain ⟨r_27, σ_28, h_29, hF⟩ := bd_e hF
      refine r_callSi (As := [.int x3]) (rest := []) C hw hS (met_X0_isPart l G rd q  h_29) (cwS 1 hts (lw_S q709 q710 q57 q711) rfl rfl rfl (by decide +kernel) ⟨Nat.le_of_ble_eq_true rfl, Nat.le_of_ble_eq_true rfl⟩) rfl hl.1 rfl (Nat.le_of_ble_eq_true rfl) ⟨Nat.le_refl _, Nat.le_refl _⟩ dX0_mean_25 (fun H locs hw hS => ?_)
      refine lv_if_ne (tgt := 35) hx hb dX0_mean_28 (by decide) (fun c_30 => ?_) (fun c_30 => ?_)
      · have hF := if_e hF c_30
        refine lv_aload_n hx hb dX0_mean_35 rfl (lv_at hl 0 rfl) ?_
        refine lv_iload_n hx hb dX0_mean_36 rfl (lv_at hl 1 rfl) ?_
        refine lv_iload_n hx hb dX0_mean_37 rfl (lv_at hl 2 rfl) ?_
        obtain ⟨r_31, σ_32, h_33, hF⟩ := bd_e hF
        refine r_callVv (As := [.int x1, .int x2]) (rest := []) (i := 0) C hw hS (wi_lo (Or.inl (by decide))) rfl (ci := 0) rfl (met_X0_findOdds l G rd q  h_33) (cwV 2 hts (lw_V q759 q761 qs25 q57 q762) rfl rfl rfl (by decide +kernel) ⟨Nat.le_of_ble_eq_true rfl, Nat.le_of_ble_eq_true rfl⟩) rfl hl.1 rfl (Nat.le_of_ble_eq_true rfl) ⟨Nat.le_refl _, Nat.le_refl _⟩ dX0_mean_38 (fun H locs hw hS => ?_)
        refine lv_aload_n hx hb dX0_mean_41 rfl (lv_at hl 0 rfl) ?_
        refine r_get0 C hw 17 (by decide) rfl (v := .long (gl σ_32 17)) rfl q236 dX0_mean_42 ?_
        refine lv_aload_n hx hb dX0_mean_45 rfl (lv_at hl 0 rfl) ?_
        refine r_get0 C hw 18 (by decide) rfl (v := .long (gl σ_32 18)) rfl q237 dX0_mean_46 ?_
        refine lv_iload_n hx hb dX0_mean_49 rfl (lv_at hl 3 rfl) ?_
        obtain ⟨r_34, σ_35, h_36, hF⟩ := bd_e hF
        refine r_callSl (As := [.long (gl σ_32 17), .long (gl σ_32 18), .int x3]) (rest := []) C hw hS (met_X0_lowest l G rd q  h_36) (cwS 3 hts (lw_S q766 q767 q57 q768) rfl rfl rfl (by decide +kernel) ⟨Nat.le_of_ble_eq_true rfl, Nat.le_of_ble_eq_true rfl⟩) rfl hl.1 rfl (Nat.le_of_ble_eq_true rfl) ⟨Nat.le_refl _, Nat.le_refl _⟩ dX0_mean_50 (fun H locs hw hS => ?_)
        exact r_lret C hw hS hF dX0_mean_53
      · have hF := it_e hF c_30
        refine lv_ldc2 (v := (-1 : Int64)) hx hb hown (hts _ q758) dX0_mean_31 ?_
        exact r_lret C hw hS hF dX0_mean_34
abbrev rmX0_startsByNow : Room := { frames := 11, cells := 0, slots := 0, locals := 286 }
noncomputable def F_X0_startsByNow (N : Nat) (x1 : Int32) (σ : SS) : Option (Unit × SS) :=
  bd (F_X5_as N 1 0 σ) fun r_10 σ_11 =>
  bd (F_X0_doneByTried N x1 σ_11) fun r_13 σ_14 =>
  bd (F_X0_startsJudging N r_13 σ_14) fun r_16 σ_17 =>
  some ((), σ_17)
set_option maxRecDepth 100000 in
theorem met_X0_startsByNow (l : Launch) (G : GG) (rd : Bool) (q : Nat → Nat) {N : Nat} {x1 : Int32} {σ σ' : SS} {r : Unit} (hF : F_X0_startsByNow N x1 σ = some (r, σ')) : Met l yX0_startsByNow (ws_ yX0_startsByNow cX0_startsByNow 2 none) rmX0_startsByNow (pcx G rd q σ [.ref (q 0), .int x1]) (qxv G rd q σ' r) 0 0 (fa G) := by
  refine met_of (by decide) (Nat.le_of_ble_eq_true rfl) ?_
  intro p e s m below meth c C H locs ls hw hS hl
  obtain ⟨hx, hb, hml, hown, hts, -, -, -, -⟩ := id C
  have hl : lv_has ls 2 [(0, .ref (q 0)), (1, .int x1)] := hl
  unfold F_X0_startsByNow at hF
  refine lv_aload_n hx hb dX0_startsByNow_0 rfl (lv_at hl 0 rfl) ?_
  refine r_get0 C hw 2 (by decide) rfl (v := .ref (q (iS 1))) rfl q220 dX0_startsByNow_1 ?_
  refine lv_aload_n hx hb dX0_startsByNow_4 rfl (lv_at hl 0 rfl) ?_
  refine r_get0 C hw 1 (by decide) rfl (v := .ref (q (iS 0))) rfl q219 dX0_startsByNow_5 ?_
  obtain ⟨r_10, σ_11, h_12, hF⟩ := bd_e hF
  refine r_callVv (As := [.ref (q (iS 0))]) (rest := []) (i := iS 1) C hw hS (wi_S (okS_of (by decide))) (tm_S _ _) (ci := 5) rfl (met_X5_as l G rd q (okS_of (by decide)) (okS_of (by decide)) h_12) (cwV 1 hts (lw_V q521 q522 q523 q62 q524) rfl rfl rfl (by decide +kernel) ⟨Nat.le_of_ble_eq_true rfl, Nat.le_of_ble_eq_true rfl⟩) rfl hl.1 rfl (Nat.le_of_ble_eq_true rfl) ⟨Nat.le_refl _, Nat.le_refl _⟩ dX0_startsByNow_8 (fun H locs hw hS => ?_)
  refine lv_aload_n hx hb dX0_startsByNow_11 rfl (lv_at hl 0 rfl) ?_
  refine lv_aload_n hx hb dX0_startsByNow_12 rfl (lv_at hl 0 rfl) ?_
  refine lv_iload_n hx hb dX0_startsByNow_13 rfl (lv_at hl 1 rfl) ?_
  obtain ⟨r_13, σ_14, h_15, hF⟩ := bd_e hF
  refine r_callVi (As := [.int x1]) (rest := [.ref (q 0)]) (i := 0) C hw hS (wi_lo (Or.inl (by decide))) rfl (ci := 0) rfl (met_X0_doneByTried l G rd q  h_15) (cwV 1 hts (lw_V q716 q718 qs21 q57 q719) rfl rfl rfl (by decide +kernel) ⟨Nat.le_of_ble_eq_true rfl, Nat.le_of_ble_eq_true rfl⟩) rfl hl.1 rfl (Nat.le_of_ble_eq_true rfl) ⟨Nat.le_refl _, Nat.le_refl _⟩ dX0_startsByNow_14 (fun H locs hw hS => ?_)
  obtain ⟨r_16, σ_17, h_18, hF⟩ := bd_e hF
  refine r_callVv (As := [.int r_13]) (rest := []) (i := 0) C hw hS (wi_lo (Or.inl (by decide))) rfl (ci := 0) rfl (met_X0_startsJudging l G rd q  h_18) (cwV 1 hts (lw_V q712 q714 qs20 q57 q715) rfl rfl rfl (by decide +kernel) ⟨Nat.le_of_ble_eq_true rfl, Nat.le_of_ble_eq_true rfl⟩) rfl hl.1 rfl (Nat.le_of_ble_eq_true rfl) ⟨Nat.le_refl _, Nat.le_refl _⟩ dX0_startsByNow_17 (fun H locs hw hS => ?_)
  exact r_vret C hw hS hF dX0_startsByNow_20
abbrev rmX0_off : Room := { frames := 12, cells := 0, slots := 0, locals := 307 }
noncomputable def B_X0_off_23 (N : Nat) (IH : Int32 → Int32 → Int32 → SS → Option (Int32 × SS)) (x1 : Int32) (x2 : Int32) (x3 : Int32) (σ : SS) : Option (Int32 × SS) :=
  if (gi σ (iS 0) 16) ≤ x3 then
    bd (F_X0_judged N x2 σ) fun r_28 σ_29 =>
    some (r_28, σ_29)
  else
    bd (F_X5_as N 1 0 σ) fun r_31 σ_32 =>
    nm (si σ_32 (iS 1) 40 x3) fun σ_34 =>
    bd (F_X0_doneByTried N x1 σ_34) fun r_35 σ_36 =>
    bd (F_X0_judges N x3 r_35 σ_36) fun r_38 σ_39 =>
    nm (x3 + (1 : Int32)) fun x_41 =>
    IH x1 x2 x_41 σ_39
noncomputable def F_X0_off_23 (N : Nat) (n : Nat) : Int32 → Int32 → Int32 → SS → Option (Int32 × SS) := Nat.rec (fun _ _ _ _ => none) (fun _ IH => B_X0_off_23 N IH) n
set_option maxRecDepth 100000 in
theorem w_X0_off_23 {p : Program} {l : Launch} {e : Env} {s : State} {m : MethodId} {args : Array Value} {below : List Frame} {meth : Method} {c : Code} {G : GG} {rd : Bool} {q : Nat → Nat} {N : Nat} {r : Int32} {σ' : SS} (C : cx p s m args meth c cX0_off 4 RX0 (some .int) G) : ∀ (n : Nat), ∀ (x1 : Int32) (x2 : Int32) (x3 : Int32) (σ : SS) (H : Heap) (locs : List Loc) (ls : Array Slot), F_X0_off_23 N n x1 x2 x3 σ = some (r, σ') → wx G rd q σ H → va_S (fa G) s.heap H locs → lv_has ls 4 [(0, .ref (q 0)), (1, .int x1), (2, .int x2), (3, .int x3)] → W p l e rmX0_off s m args below meth c H locs 0 0 (MQ below (qxi G rd q σ' r) args s 0 0 (fa G)) (F0 m 23 ls []) := by
  obtain ⟨hx, hb, hml, hown, hts, -, -, -, -⟩ := id C
  intro n
  induction n with
  | zero =>
    intro x1 x2 x3 σ H locs ls hF hw hS hl
    cases hF
  | succ n ih =>
    intro x1 x2 x3 σ H locs ls hF hw hS hl
    have hF : B_X0_off_23 N (F_X0_off_23 N n) x1 x2 x3 σ = some (r, σ') := hF
    unfold B_X0_off_23 at hF
    refine lv_iload_n hx hb dX0_off_23 rfl (lv_at hl 3 rfl) ?_
    refine lv_aload_n hx hb dX0_off_24 rfl (lv_at hl 0 rfl) ?_
    refine r_get0 C hw 1 (by decide) rfl (v := .ref (q (iS 0))) rfl q219 dX0_off_25 ?_
    refine r_getSN C hw (okS_of (by decide)) 2 (by decide) rfl (v := .int (gi σ (iS 0) 16)) rfl 11 rfl dX0_off_28 ?_
    refine lv_icmp_ge (tgt := 69) hx hb dX0_off_31 (by decide) (fun c_27 => ?_) (fun c_27 => ?_)
    · have hF := it_e hF c_27
      refine lv_aload_n hx hb dX0_off_69 rfl (lv_at hl 0 rfl) ?_
      refine lv_iload_n hx hb dX0_off_70 rfl (lv_at hl 2 rfl) ?_
      obtain ⟨r_28, σ_29, h_30, hF⟩ := bd_e hF
      refine r_callVi (As := [.int x2]) (rest := []) (i := 0) C hw hS (wi_lo (Or.inl (by decide))) rfl (ci := 0) rfl (met_X0_judged l G rd q  h_30) (cwV 1 hts (lw_V q724 q726 qs23 q57 q727) rfl rfl rfl (by decide +kernel) ⟨Nat.le_of_ble_eq_true rfl, Nat.le_of_ble_eq_true rfl⟩) rfl hl.1 rfl (Nat.le_of_ble_eq_true rfl) ⟨Nat.le_refl _, Nat.le_refl _⟩ dX0_off_71 (fun H locs hw hS => ?_)
      exact r_iret C hw hS hF dX0_off_74
    · have hF := if_e hF c_27
      refine lv_aload_n hx hb dX0_off_34 rfl (lv_at hl 0 rfl) ?_
      refine r_get0 C hw 2 (by decide) rfl (v := .ref (q (iS 1))) rfl q220 dX0_off_35 ?_
      refine lv_aload_n hx hb dX0_off_38 rfl (lv_at hl 0 rfl) ?_
      refine r_get0 C hw 1 (by decide) rfl (v := .ref (q (iS 0))) rfl q219 dX0_off_39 ?_
      obtain ⟨r_31, σ_32, h_33, hF⟩ := bd_e hF
      refine r_callVv (As := [.ref (q (iS 0))]) (rest := []) (i := iS 1) C hw hS (wi_S (okS_of (by decide))) (tm_S _ _) (ci := 5) rfl (met_X5_as l G rd q (okS_of (by decide)) (okS_of (by decide)) h_33) (cwV 1 hts (lw_V q521 q522 q523 q62 q524) rfl rfl rfl (by decide +kernel) ⟨Nat.le_of_ble_eq_true rfl, Nat.le_of_ble_eq_true rfl⟩) rfl hl.1 rfl (Nat.le_of_ble_eq_true rfl) ⟨Nat.le_refl _, Nat.le_refl _⟩ dX0_off_42 (fun H locs hw hS => ?_)
      refine lv_aload_n hx hb dX0_off_45 rfl (lv_at hl 0 rfl) ?_
      refine r_get0 C hw 2 (by decide) rfl (v := .ref (q (iS 1))) rfl q220 dX0_off_46 ?_
      refine lv_iload_n hx hb dX0_off_49 rfl (lv_at hl 3 rfl) ?_
      obtain ⟨σ_34, eσ_34, hF⟩ := nm_e2 hF
      refine r_putSN C hw hS (okS_of (by decide)) 10 (by decide) rfl rfl (tyX5_ok 10 (by decide)) rfl rfl 22 rfl dX0_off_50 eσ_34 (fun H locs hw hS => ?_)
      refine lv_aload_n hx hb dX0_off_53 rfl (lv_at hl 0 rfl) ?_
      refine lv_iload_n hx hb dX0_off_54 rfl (lv_at hl 3 rfl) ?_
      refine lv_aload_n hx hb dX0_off_55 rfl (lv_at hl 0 rfl) ?_
      refine lv_iload_n hx hb dX0_off_56 rfl (lv_at hl 1 rfl) ?_
      obtain ⟨r_35, σ_36, h_37, hF⟩ := bd_e hF
      refine r_callVi (As := [.int x1]) (rest := [.int x3, .ref (q 0)]) (i := 0) C hw hS (wi_lo (Or.inl (by decide))) rfl (ci := 0) rfl (met_X0_doneByTried l G rd q  h_37) (cwV 1 hts (lw_V q716 q718 qs21 q57 q719) rfl rfl rfl (by decide +kernel) ⟨Nat.le_of_ble_eq_true rfl, Nat.le_of_ble_eq_true rfl⟩) rfl hl.1 rfl (Nat.le_of_ble_eq_true rfl) ⟨Nat.le_refl _, Nat.le_refl _⟩ dX0_off_57 (fun H locs hw hS => ?_)
      obtain ⟨r_38, σ_39, h_40, hF⟩ := bd_e hF
      refine r_callVv (As := [.int x3, .int r_35]) (rest := []) (i := 0) C hw hS (wi_lo (Or.inl (by decide))) rfl (ci := 0) rfl (met_X0_judges l G rd q  h_40) (cwV 2 hts (lw_V q720 q722 qs22 q57 q723) rfl rfl rfl (by decide +kernel) ⟨Nat.le_of_ble_eq_true rfl, Nat.le_of_ble_eq_true rfl⟩) rfl hl.1 rfl (Nat.le_of_ble_eq_true rfl) ⟨Nat.le_refl _, Nat.le_refl _⟩ dX0_off_60 (fun H locs hw hS => ?_)
      obtain ⟨x_41, ex_41, hF⟩ := nm_e2 hF
      refine lv_iinc (v := x_41) (lv' := [(3, .int x_41), (0, .ref (q 0)), (1, .int x1), (2, .int x2)]) hx hb dX0_off_63 hl (k := 3) rfl (by rw [ex_41]; rfl) (by decide) rfl (fun ls hl => ?_)
      refine lv_goto (tgt := 23) hx hb dX0_off_66 (by decide) ?_
      exact ih _ _ _ _ _ _ _ hF hw hS (lv_sub hl [1, 2, 3, 0] rfl)
noncomputable def F_X0_off (N : Nat) (x1 : Int32) (x2 : Int32) (σ : SS) : Option (Int32 × SS) :=
  bd (F_X0_isFar N x1 σ) fun r_42 σ_43 =>
  if r_42 = (0 : Int32) then
    some ((-1 : Int32), σ_43)
  else
    bd (F_X0_isPart N x2 σ_43) fun r_46 σ_47 =>
    if r_46 = (0 : Int32) then
      some ((-1 : Int32), σ_47)
    else
      bd (F_X0_startsByNow N x1 σ_47) fun r_50 σ_51 =>
      F_X0_off_23 N N x1 x2 (0 : Int32) σ_51
set_option maxRecDepth 100000 in
theorem met_X0_off (l : Launch) (G : GG) (rd : Bool) (q : Nat → Nat) {N : Nat} {x1 : Int32} {x2 : Int32} {σ σ' : SS} {r : Int32} (hF : F_X0_off N x1 x2 σ = some (r, σ')) : Met l yX0_off (ws_ yX0_off cX0_off 4 (some .int)) rmX0_off (pcx G rd q σ [.ref (q 0), .int x1, .int x2]) (qxi G rd q σ' r) 0 0 (fa G) := by
  refine met_of (by decide) (Nat.le_of_ble_eq_true rfl) ?_
  intro p e s m below meth c C H locs ls hw hS hl
  obtain ⟨hx, hb, hml, hown, hts, -, -, -, -⟩ := id C
  have hl : lv_has ls 4 [(0, .ref (q 0)), (1, .int x1), (2, .int x2)] := hl
  unfold F_X0_off at hF
  refine lv_iload_n hx hb dX0_off_0 rfl (lv_at hl 1 rfl) ?_
  obtain ⟨r_42, σ_43, h_44, hF⟩ := bd_e hF
  refine r_callSi (As := [.int x1]) (rest := []) C hw hS (met_X0_isFar l G rd q  h_44) (cwS 1 hts (lw_S q679 q680 q57 q681) rfl rfl rfl (by decide +kernel) ⟨Nat.le_of_ble_eq_true rfl, Nat.le_of_ble_eq_true rfl⟩) rfl hl.1 rfl (Nat.le_of_ble_eq_true rfl) ⟨Nat.le_refl _, Nat.le_refl _⟩ dX0_off_1 (fun H locs hw hS => ?_)
  refine lv_if_eq (tgt := 14) hx hb dX0_off_4 (by decide) (fun c_45 => ?_) (fun c_45 => ?_)
  · have hF := it_e hF c_45
    refine lv_iconst (v := (-1 : Int32)) hx hb dX0_off_14 (by decide) ?_
    exact r_iret C hw hS hF dX0_off_15
  · have hF := if_e hF c_45
    refine lv_iload_n hx hb dX0_off_7 rfl (lv_at hl 2 rfl) ?_
    obtain ⟨r_46, σ_47, h_48, hF⟩ := bd_e hF
    refine r_callSi (As := [.int x2]) (rest := []) C hw hS (met_X0_isPart l G rd q  h_48) (cwS 1 hts (lw_S q709 q710 q57 q711) rfl rfl rfl (by decide +kernel) ⟨Nat.le_of_ble_eq_true rfl, Nat.le_of_ble_eq_true rfl⟩) rfl hl.1 rfl (Nat.le_of_ble_eq_true rfl) ⟨Nat.le_refl _, Nat.le_refl _⟩ dX0_off_8 (fun H locs hw hS => ?_)
    refine lv_if_ne (tgt := 16) hx hb dX0_off_11 (by decide) (fun c_49 => ?_) (fun c_49 => ?_)
    · have hF := if_e hF c_49
      refine lv_aload_n hx hb dX0_off_16 rfl (lv_at hl 0 rfl) ?_
      refine lv_iload_n hx hb dX0_off_17 rfl (lv_at hl 1 rfl) ?_
      obtain ⟨r_50, σ_51, h_52, hF⟩ := bd_e hF
      refine r_callVv (As := [.int x1]) (rest := []) (i := 0) C hw hS (wi_lo (Or.inl (by decide))) rfl (ci := 0) rfl (met_X0_startsByNow l G rd q  h_52) (cwV 1 hts (lw_V q740 q742 qs24 q57 q743) rfl rfl rfl (by decide +kernel) ⟨Nat.le_of_ble_eq_true rfl, Nat.le_of_ble_eq_true rfl⟩) rfl hl.1 rfl (Nat.le_of_ble_eq_true rfl) ⟨Nat.le_refl _, Nat.le_refl _⟩ dX0_off_18 (fun H locs hw hS => ?_)
      refine lv_iconst (v := (0 : Int32)) hx hb dX0_off_21 (by decide) ?_
      refine lv_istore_n (lv' := [(3, .int (0 : Int32)), (0, .ref (q 0)), (1, .int x1), (2, .int x2)]) hx hb dX0_off_22 rfl hl (by decide) rfl (fun ls hl => ?_)
      exact w_X0_off_23 C   N _ _ _ _ _ _ _ hF hw hS (lv_sub hl [1, 2, 3, 0] rfl)
    · have hF := it_e hF c_49
      refine lv_iconst (v := (-1 : Int32)) hx hb dX0_off_14 (by decide) ?_
      exact r_iret C hw hS hF dX0_off_15
abbrev rmX0_omit : Room := { frames := 12, cells := 0, slots := 0, locals := 307 }
noncomputable def B_X0_omit_23 (N : Nat) (IH : Int32 → Int32 → Int32 → SS → Option (Int32 × SS)) (x1 : Int32) (x2 : Int32) (x3 : Int32) (σ : SS) : Option (Int32 × SS) :=
  if (gi σ (iS 0) 33) ≤ x3 then
    bd (F_X0_judged N x2 σ) fun r_28 σ_29 =>
    some (r_28, σ_29)
  else
    bd (F_X5_as N 1 0 σ) fun r_31 σ_32 =>
    nm (si σ_32 (iS 1) 39 x3) fun σ_34 =>
    bd (F_X0_doneByTried N x1 σ_34) fun r_35 σ_36 =>
    bd (F_X0_judges N x3 r_35 σ_36) fun r_38 σ_39 =>
    nm (x3 + (1 : Int32)) fun x_41 =>
    IH x1 x2 x_41 σ_39
noncomputable def F_X0_omit_23 (N : Nat) (n : Nat) : Int32 → Int32 → Int32 → SS → Option (Int32 × SS) := Nat.rec (fun _ _ _ _ => none) (fun _ IH => B_X0_omit_23 N IH) n
set_option maxRecDepth 100000 in
theorem w_X0_omit_23 {p : Program} {l : Launch} {e : Env} {s : State} {m : MethodId} {args : Array Value} {below : List Frame} {meth : Method} {c : Code} {G : GG} {rd : Bool} {q : Nat → Nat} {N : Nat} {r : Int32} {σ' : SS} (C : cx p s m args meth c cX0_omit 4 RX0 (some .int) G) : ∀ (n : Nat), ∀ (x1 : Int32) (x2 : Int32) (x3 : Int32) (σ : SS) (H : Heap) (locs : List Loc) (ls : Array Slot), F_X0_omit_23 N n x1 x2 x3 σ = some (r, σ') → wx G rd q σ H → va_S (fa G) s.heap H locs → lv_has ls 4 [(0, .ref (q 0)), (1, .int x1), (2, .int x2), (3, .int x3)] → W p l e rmX0_omit s m args below meth c H locs 0 0 (MQ below (qxi G rd q σ' r) args s 0 0 (fa G)) (F0 m 23 ls []) := by
  obtain ⟨hx, hb, hml, hown, hts, -, -, -, -⟩ := id C
  intro n
  induction n with
  | zero =>
    intro x1 x2 x3 σ H locs ls hF hw hS hl
    cases hF
  | succ n ih =>
    intro x1 x2 x3 σ H locs ls hF hw hS hl
    have hF : B_X0_omit_23 N (F_X0_omit_23 N n) x1 x2 x3 σ = some (r, σ') := hF
    unfold B_X0_omit_23 at hF
    refine lv_iload_n hx hb dX0_omit_23 rfl (lv_at hl 3 rfl) ?_
    refine lv_aload_n hx hb dX0_omit_24 rfl (lv_at hl 0 rfl) ?_
    refine r_get0 C hw 1 (by decide) rfl (v := .ref (q (iS 0))) rfl q219 dX0_omit_25 ?_
    refine r_getSN C hw (okS_of (by decide)) 4 (by decide) rfl (v := .int (gi σ (iS 0) 33)) rfl 15 rfl dX0_omit_28 ?_
    refine lv_icmp_ge (tgt := 69) hx hb dX0_omit_31 (by decide) (fun c_27 => ?_) (fun c_27 => ?_)
    · have hF := it_e hF c_27
      refine lv_aload_n hx hb dX0_omit_69 rfl (lv_at hl 0 rfl) ?_
      refine lv_iload_n hx hb dX0_omit_70 rfl (lv_at hl 2 rfl) ?_
      obtain ⟨r_28, σ_29, h_30, hF⟩ := bd_e hF
      refine r_callVi (As := [.int x2]) (rest := []) (i := 0) C hw hS (wi_lo (Or.inl (by decide))) rfl (ci := 0) rfl (met_X0_judged l G rd q  h_30) (cwV 1 hts (lw_V q724 q726 qs23 q57 q727) rfl rfl rfl (by decide +kernel) ⟨Nat.le_of_ble_eq_true rfl, Nat.le_of_ble_eq_true rfl⟩) rfl hl.1 rfl (Nat.le_of_ble_eq_true rfl) ⟨Nat.le_refl _, Nat.le_refl _⟩ dX0_omit_71 (fun H locs hw hS => ?_)
      exact r_iret C hw hS hF dX0_omit_74
    · have hF := if_e hF c_27
      refine lv_aload_n hx hb dX0_omit_34 rfl (lv_at hl 0 rfl) ?_
      refine r_get0 C hw 2 (by decide) rfl (v := .ref (q (iS 1))) rfl q220 dX0_omit_35 ?_
      refine lv_aload_n hx hb dX0_omit_38 rfl (lv_at hl 0 rfl) ?_
      refine r_get0 C hw 1 (by decide) rfl (v := .ref (q (iS 0))) rfl q219 dX0_omit_39 ?_
      obtain ⟨r_31, σ_32, h_33, hF⟩ := bd_e hF
      refine r_callVv (As := [.ref (q (iS 0))]) (rest := []) (i := iS 1) C hw hS (wi_S (okS_of (by decide))) (tm_S _ _) (ci := 5) rfl (met_X5_as l G rd q (okS_of (by decide)) (okS_of (by decide)) h_33) (cwV 1 hts (lw_V q521 q522 q523 q62 q524) rfl rfl rfl (by decide +kernel) ⟨Nat.le_of_ble_eq_true rfl, Nat.le_of_ble_eq_true rfl⟩) rfl hl.1 rfl (Nat.le_of_ble_eq_true rfl) ⟨Nat.le_refl _, Nat.le_refl _⟩ dX0_omit_42 (fun H locs hw hS => ?_)
      refine lv_aload_n hx hb dX0_omit_45 rfl (lv_at hl 0 rfl) ?_
      refine r_get0 C hw 2 (by decide) rfl (v := .ref (q (iS 1))) rfl q220 dX0_omit_46 ?_
      refine lv_iload_n hx hb dX0_omit_49 rfl (lv_at hl 3 rfl) ?_
      obtain ⟨σ_34, eσ_34, hF⟩ := nm_e2 hF
      refine r_putSN C hw hS (okS_of (by decide)) 9 (by decide) rfl rfl (tyX5_ok 9 (by decide)) rfl rfl 21 rfl dX0_omit_50 eσ_34 (fun H locs hw hS => ?_)
      refine lv_aload_n hx hb dX0_omit_53 rfl (lv_at hl 0 rfl) ?_
      refine lv_iload_n hx hb dX0_omit_54 rfl (lv_at hl 3 rfl) ?_
      refine lv_aload_n hx hb dX0_omit_55 rfl (lv_at hl 0 rfl) ?_
      refine lv_iload_n hx hb dX0_omit_56 rfl (lv_at hl 1 rfl) ?_
      obtain ⟨r_35, σ_36, h_37, hF⟩ := bd_e hF
      refine r_callVi (As := [.int x1]) (rest := [.int x3, .ref (q 0)]) (i := 0) C hw hS (wi_lo (Or.inl (by decide))) rfl (ci := 0) rfl (met_X0_doneByTried l G rd q  h_37) (cwV 1 hts (lw_V q716 q718 qs21 q57 q719) rfl rfl rfl (by decide +kernel) ⟨Nat.le_of_ble_eq_true rfl, Nat.le_of_ble_eq_true rfl⟩) rfl hl.1 rfl (Nat.le_of_ble_eq_true rfl) ⟨Nat.le_refl _, Nat.le_refl _⟩ dX0_omit_57 (fun H locs hw hS => ?_)
      obtain ⟨r_38, σ_39, h_40, hF⟩ := bd_e hF
      refine r_callVv (As := [.int x3, .int r_35]) (rest := []) (i := 0) C hw hS (wi_lo (Or.inl (by decide))) rfl (ci := 0) rfl (met_X0_judges l G rd q  h_40) (cwV 2 hts (lw_V q720 q722 qs22 q57 q723) rfl rfl rfl (by decide +kernel) ⟨Nat.le_of_ble_eq_true rfl, Nat.le_of_ble_eq_true rfl⟩) rfl hl.1 rfl (Nat.le_of_ble_eq_true rfl) ⟨Nat.le_refl _, Nat.le_refl _⟩ dX0_omit_60 (fun H locs hw hS => ?_)
      obtain ⟨x_41, ex_41, hF⟩ := nm_e2 hF
      refine lv_iinc (v := x_41) (lv' := [(3, .int x_41), (0, .ref (q 0)), (1, .int x1), (2, .int x2)]) hx hb dX0_omit_63 hl (k := 3) rfl (by rw [ex_41]; rfl) (by decide) rfl (fun ls hl => ?_)
      refine lv_goto (tgt := 23) hx hb dX0_omit_66 (by decide) ?_
      exact ih _ _ _ _ _ _ _ hF hw hS (lv_sub hl [1, 2, 3, 0] rfl)
noncomputable def F_X0_omit (N : Nat) (x1 : Int32) (x2 : Int32) (σ : SS) : Option (Int32 × SS) :=
  bd (F_X0_isFar N x1 σ) fun r_42 σ_43 =>
  if r_42 = (0 : Int32) then
    some ((-1 : Int32), σ_43)
  else
    bd (F_X0_isPart N x2 σ_43) fun r_46 σ_47 =>
    if r_46 = (0 : Int32) then
      some ((-1 : Int32), σ_47)
    else
      bd (F_X0_startsByNow N x1 σ_47) fun r_50 σ_51 =>
      F_X0_omit_23 N N x1 x2 (0 : Int32) σ_51
set_option maxRecDepth 100000 in
theorem met_X0_omit (l : Launch) (G : GG) (rd : Bool) (q : Nat → Nat) {N : Nat} {x1 : Int32} {x2 : Int32} {σ σ' : SS} {r : Int32} (hF : F_X0_omit N x1 x2 σ = some (r, σ')) : Met l yX0_omit (ws_ yX0_omit cX0_omit 4 (some .int)) rmX0_omit (pcx G rd q σ [.ref (q 0), .int x1, .int x2]) (qxi G rd q σ' r) 0 0 (fa G) := by
  refine met_of (by decide) (Nat.le_of_ble_eq_true rfl) ?_
  intro p e s m below meth c C H locs ls hw hS hl
  obtain ⟨hx, hb, hml, hown, hts, -, -, -, -⟩ := id C
  have hl : lv_has ls 4 [(0, .ref (q 0)), (1, .int x1), (2, .int x2)] := hl
  unfold F_X0_omit at hF
  refine lv_iload_n hx hb dX0_omit_0 rfl (lv_at hl 1 rfl) ?_
  obtain ⟨r_42, σ_43, h_44, hF⟩ := bd_e hF
  refine r_callSi (As := [.int x1]) (rest := []) C hw hS (met_X0_isFar l G rd q  h_44) (cwS 1 hts (lw_S q679 q680 q57 q681) rfl rfl rfl (by decide +kernel) ⟨Nat.le_of_ble_eq_true rfl, Nat.le_of_ble_eq_true rfl⟩) rfl hl.1 rfl (Nat.le_of_ble_eq_true rfl) ⟨Nat.le_refl _, Nat.le_refl _⟩ dX0_omit_1 (fun H locs hw hS => ?_)
  refine lv_if_eq (tgt := 14) hx hb dX0_omit_4 (by decide) (fun c_45 => ?_) (fun c_45 => ?_)
  · have hF := it_e hF c_45
    refine lv_iconst (v := (-1 : Int32)) hx hb dX0_omit_14 (by decide) ?_
    exact r_iret C hw hS hF dX0_omit_15
  · have hF := if_e hF c_45
    refine lv_iload_n hx hb dX0_omit_7 rfl (lv_at hl 2 rfl) ?_
    obtain ⟨r_46, σ_47, h_48, hF⟩ := bd_e hF
    refine r_callSi (As := [.int x2]) (rest := []) C hw hS (met_X0_isPart l G rd q  h_48) (cwS 1 hts (lw_S q709 q710 q57 q711) rfl rfl rfl (by decide +kernel) ⟨Nat.le_of_ble_eq_true rfl, Nat.le_of_ble_eq_true rfl⟩) rfl hl.1 rfl (Nat.le_of_ble_eq_true rfl) ⟨Nat.le_refl _, Nat.le_refl _⟩ dX0_omit_8 (fun H locs hw hS => ?_)
    refine lv_if_ne (tgt := 16) hx hb dX0_omit_11 (by decide) (fun c_49 => ?_) (fun c_49 => ?_)
    · have hF := if_e hF c_49
      refine lv_aload_n hx hb dX0_omit_16 rfl (lv_at hl 0 rfl) ?_
      refine lv_iload_n hx hb dX0_omit_17 rfl (lv_at hl 1 rfl) ?_
      obtain ⟨r_50, σ_51, h_52, hF⟩ := bd_e hF
      refine r_callVv (As := [.int x1]) (rest := []) (i := 0) C hw hS (wi_lo (Or.inl (by decide))) rfl (ci := 0) rfl (met_X0_startsByNow l G rd q  h_52) (cwV 1 hts (lw_V q740 q742 qs24 q57 q743) rfl rfl rfl (by decide +kernel) ⟨Nat.le_of_ble_eq_true rfl, Nat.le_of_ble_eq_true rfl⟩) rfl hl.1 rfl (Nat.le_of_ble_eq_true rfl) ⟨Nat.le_refl _, Nat.le_refl _⟩ dX0_omit_18 (fun H locs hw hS => ?_)
      refine lv_iconst (v := (0 : Int32)) hx hb dX0_omit_21 (by decide) ?_
      refine lv_istore_n (lv' := [(3, .int (0 : Int32)), (0, .ref (q 0)), (1, .int x1), (2, .int x2)]) hx hb dX0_omit_22 rfl hl (by decide) rfl (fun ls hl => ?_)
      exact w_X0_omit_23 C   N _ _ _ _ _ _ _ hF hw hS (lv_sub hl [1, 2, 3, 0] rfl)
    · have hF := it_e hF c_49
      refine lv_iconst (v := (-1 : Int32)) hx hb dX0_omit_14 (by decide) ?_
      exact r_iret C hw hS hF dX0_omit_15
abbrev rmX0_put : Room := { frames := 3, cells := 0, slots := 0, locals := 106 }
noncomputable def F_X0_put (N : Nat) (x1 : Int32) (x2 : Int32) (x3 : Int32) (σ : SS) : Option (Int32 × SS) :=
  bd (F_X0_canBe N (0 : Int32) x1 σ) fun r_17 σ_18 =>
  if r_17 = (0 : Int32) then
    some ((-1 : Int32), σ_18)
  else
    bd (F_X0_canBe N (1 : Int32) x2 σ_18) fun r_21 σ_22 =>
    if r_21 = (0 : Int32) then
      some ((-1 : Int32), σ_22)
    else
      bd (F_X0_canBe N (2 : Int32) x3 σ_22) fun r_25 σ_26 =>
      if r_25 = (0 : Int32) then
        some ((-1 : Int32), σ_26)
      else
        if (gi σ_26 (iS 0) 16) = (4 : Int32) then
          some ((-3 : Int32), σ_26)
        else
          bd (F_X5_puts N 0 x1 x2 x3 σ_26) fun r_30 σ_31 =>
          some (gi σ_31 (iS 0) 16, σ_31)
set_option maxRecDepth 100000 in
theorem met_X0_put (l : Launch) (G : GG) (rd : Bool) (q : Nat → Nat) {N : Nat} {x1 : Int32} {x2 : Int32} {x3 : Int32} {σ σ' : SS} {r : Int32} (hF : F_X0_put N x1 x2 x3 σ = some (r, σ')) : Met l yX0_put (ws_ yX0_put cX0_put 4 (some .int)) rmX0_put (pcx G rd q σ [.ref (q 0), .int x1, .int x2, .int x3]) (qxi G rd q σ' r) 0 0 (fa G) := by
  refine met_of (by decide) (Nat.le_of_ble_eq_true rfl) ?_
  intro p e s m below meth c C H locs ls hw hS hl
  obtain ⟨hx, hb, hml, hown, hts, -, -, -, -⟩ := id C
  have hl : lv_has ls 4 [(0, .ref (q 0)), (1, .int x1), (2, .int x2), (3, .int x3)] := hl
  unfold F_X0_put at hF
  refine lv_iconst (v := (0 : Int32)) hx hb dX0_put_0 (by decide) ?_
  refine lv_iload_n hx hb dX0_put_1 rfl (lv_at hl 1 rfl) ?_
  obtain ⟨r_17, σ_18, h_19, hF⟩ := bd_e hF
  refine r_callSi (As := [.int (0 : Int32), .int x1]) (rest := []) C hw hS (met_X0_canBe l G rd q  h_19) (cwS 2 hts (lw_S q599 q600 q57 q601) rfl rfl rfl (by decide +kernel) ⟨Nat.le_of_ble_eq_true rfl, Nat.le_of_ble_eq_true rfl⟩) rfl hl.1 rfl (Nat.le_of_ble_eq_true rfl) ⟨Nat.le_refl _, Nat.le_refl _⟩ dX0_put_2 (fun H locs hw hS => ?_)
  refine lv_if_eq (tgt := 24) hx hb dX0_put_5 (by decide) (fun c_20 => ?_) (fun c_20 => ?_)
  · have hF := it_e hF c_20
    refine lv_iconst (v := (-1 : Int32)) hx hb dX0_put_24 (by decide) ?_
    exact r_iret C hw hS hF dX0_put_25
  · have hF := if_e hF c_20
    refine lv_iconst (v := (1 : Int32)) hx hb dX0_put_8 (by decide) ?_
    refine lv_iload_n hx hb dX0_put_9 rfl (lv_at hl 2 rfl) ?_
    obtain ⟨r_21, σ_22, h_23, hF⟩ := bd_e hF
    refine r_callSi (As := [.int (1 : Int32), .int x2]) (rest := []) C hw hS (met_X0_canBe l G rd q  h_23) (cwS 2 hts (lw_S q599 q600 q57 q601) rfl rfl rfl (by decide +kernel) ⟨Nat.le_of_ble_eq_true rfl, Nat.le_of_ble_eq_true rfl⟩) rfl hl.1 rfl (Nat.le_of_ble_eq_true rfl) ⟨Nat.le_refl _, Nat.le_refl _⟩ dX0_put_10 (fun H locs hw hS => ?_)
    refine lv_if_eq (tgt := 24) hx hb dX0_put_13 (by decide) (fun c_24 => ?_) (fun c_24 => ?_)
    · have hF := it_e hF c_24
      refine lv_iconst (v := (-1 : Int32)) hx hb dX0_put_24 (by decide) ?_
      exact r_iret C hw hS hF dX0_put_25
    · have hF := if_e hF c_24
      refine lv_iconst (v := (2 : Int32)) hx hb dX0_put_16 (by decide) ?_
      refine lv_iload_n hx hb dX0_put_17 rfl (lv_at hl 3 rfl) ?_
      obtain ⟨r_25, σ_26, h_27, hF⟩ := bd_e hF
      refine r_callSi (As := [.int (2 : Int32), .int x3]) (rest := []) C hw hS (met_X0_canBe l G rd q  h_27) (cwS 2 hts (lw_S q599 q600 q57 q601) rfl rfl rfl (by decide +kernel) ⟨Nat.le_of_ble_eq_true rfl, Nat.le_of_ble_eq_true rfl⟩) rfl hl.1 rfl (Nat.le_of_ble_eq_true rfl) ⟨Nat.le_refl _, Nat.le_refl _⟩ dX0_put_18 (fun H locs hw hS => ?_)
      refine lv_if_ne (tgt := 26) hx hb dX0_put_21 (by decide) (fun c_28 => ?_) (fun c_28 => ?_)
      · have hF := if_e hF c_28
        refine lv_aload_n hx hb dX0_put_26 rfl (lv_at hl 0 rfl) ?_
        refine r_get0 C hw 1 (by decide) rfl (v := .ref (q (iS 0))) rfl q219 dX0_put_27 ?_
        refine r_getSN C hw (okS_of (by decide)) 2 (by decide) rfl (v := .int (gi σ_26 (iS 0) 16)) rfl 11 rfl dX0_put_30 ?_
        refine lv_iconst (v := (4 : Int32)) hx hb dX0_put_33 (by decide) ?_
        refine lv_icmp_ne (tgt := 40) hx hb dX0_put_34 (by decide) (fun c_29 => ?_) (fun c_29 => ?_)
        · have hF := if_e hF c_29
          refine lv_aload_n hx hb dX0_put_40 rfl (lv_at hl 0 rfl) ?_
          refine r_get0 C hw 1 (by decide) rfl (v := .ref (q (iS 0))) rfl q219 dX0_put_41 ?_
          refine lv_iload_n hx hb dX0_put_44 rfl (lv_at hl 1 rfl) ?_
          refine lv_iload_n hx hb dX0_put_45 rfl (lv_at hl 2 rfl) ?_
          refine lv_iload_n hx hb dX0_put_46 rfl (lv_at hl 3 rfl) ?_
          obtain ⟨r_30, σ_31, h_32, hF⟩ := bd_e hF
          refine r_callVv (As := [.int x1, .int x2, .int x3]) (rest := []) (i := iS 0) C hw hS (wi_S (okS_of (by decide))) (tm_S _ _) (ci := 5) rfl (met_X5_puts l G rd q (okS_of (by decide)) h_32) (cwV 3 hts (lw_V q615 q518 q519 q62 q520) rfl rfl rfl (by decide +kernel) ⟨Nat.le_of_ble_eq_true rfl, Nat.le_of_ble_eq_true rfl⟩) rfl hl.1 rfl (Nat.le_of_ble_eq_true rfl) ⟨Nat.le_refl _, Nat.le_refl _⟩ dX0_put_47 (fun H locs hw hS => ?_)
          refine lv_aload_n hx hb dX0_put_50 rfl (lv_at hl 0 rfl) ?_
          refine r_get0 C hw 1 (by decide) rfl (v := .ref (q (iS 0))) rfl q219 dX0_put_51 ?_
          refine r_getSN C hw (okS_of (by decide)) 2 (by decide) rfl (v := .int (gi σ_31 (iS 0) 16)) rfl 11 rfl dX0_put_54 ?_
          exact r_iret C hw hS hF dX0_put_57
        · have hF := it_e hF c_29
          refine lv_bipush (v := (-3 : Int32)) hx hb dX0_put_37 (by decide) ?_
          exact r_iret C hw hS hF dX0_put_39
      · have hF := it_e hF c_28
        refine lv_iconst (v := (-1 : Int32)) hx hb dX0_put_24 (by decide) ?_
        exact r_iret C hw hS hF dX0_put_25
abbrev rmX0_rule : Room := { frames := 2, cells := 0, slots := 0, locals := 80 }
noncomputable def F_X0_rule (N : Nat) (x1 : Int32) (σ : SS) : Option (Int32 × SS) :=
  if (x1.toInt < 0 ∨ 8 < x1.toInt) then
    some ((-1 : Int32), σ)
  else
    if x1 = (0 : Int32) then
      some (gi σ (iS 0) 16, σ)
    else
      if x1 = (1 : Int32) then
        some (gi σ (iS 0) 33, σ)
      else
        if x1 = (2 : Int32) then
          some (gi σ (iS 0) 36, σ)
        else
          if x1 = (3 : Int32) then
            some (gi σ (iS 0) 37, σ)
          else
            if x1 = (4 : Int32) then
              some (gi σ (iS 0) 38, σ)
            else
              if x1 = (5 : Int32) then
                some (gi σ (iS 0) 34, σ)
              else
                if x1 = (6 : Int32) then
                  some (gi σ (iS 0) 35, σ)
                else
                  if x1 = (7 : Int32) then
                    bd (F_X5_speed N 0 σ) fun r_28 σ_29 =>
                    some (r_28, σ_29)
                  else
                    if x1 = (8 : Int32) then
                      if (gi σ (iS 0) 33) = (0 : Int32) then
                        some ((-4 : Int32), σ)
                      else
                        bd (F_X5_next N 0 σ) fun r_33 σ_34 =>
                        gd (inR r_33 16) <|
                        some (gi σ_34 (iAA 0) r_33.toNatClampNeg, σ_34)
                    else
                      none
set_option maxRecDepth 100000 in
theorem met_X0_rule (l : Launch) (G : GG) (rd : Bool) (q : Nat → Nat) {N : Nat} {x1 : Int32} {σ σ' : SS} {r : Int32} (hF : F_X0_rule N x1 σ = some (r, σ')) : Met l yX0_rule (ws_ yX0_rule cX0_rule 2 (some .int)) rmX0_rule (pcx G rd q σ [.ref (q 0), .int x1]) (qxi G rd q σ' r) 0 0 (fa G) := by
  refine met_of (by decide) (Nat.le_of_ble_eq_true rfl) ?_
  intro p e s m below meth c C H locs ls hw hS hl
  obtain ⟨hx, hb, hml, hown, hts, -, -, -, -⟩ := id C
  have hl : lv_has ls 2 [(0, .ref (q 0)), (1, .int x1)] := hl
  unfold F_X0_rule at hF
  refine lv_iload_n hx hb dX0_rule_0 rfl (lv_at hl 1 rfl) ?_
  by_cases c_19 : (x1.toInt < 0 ∨ 8 < x1.toInt)
  · have hF := it_e hF c_19
    refine lv_tableOut (tgt := 147) hx hb dX0_rule_1 c_19 (by decide) ?_
    refine lv_iconst (v := (-1 : Int32)) hx hb dX0_rule_147 (by decide) ?_
    exact r_iret C hw hS hF dX0_rule_148
  · have hF := if_e hF c_19
    by_cases c_20 : x1 = (0 : Int32)
    · have hF := it_e hF c_20
      refine r_tin (tgt := 52) hx hb dX0_rule_1 c_20 (by decide) (by decide) (by rfl) (by decide) ?_
      refine lv_aload_n hx hb dX0_rule_52 rfl (lv_at hl 0 rfl) ?_
      refine r_get0 C hw 1 (by decide) rfl (v := .ref (q (iS 0))) rfl q219 dX0_rule_53 ?_
      refine r_getSN C hw (okS_of (by decide)) 2 (by decide) rfl (v := .int (gi σ (iS 0) 16)) rfl 11 rfl dX0_rule_56 ?_
      exact r_iret C hw hS hF dX0_rule_59
    · have hF := if_e hF c_20
      by_cases c_21 : x1 = (1 : Int32)
      · have hF := it_e hF c_21
        refine r_tin (tgt := 60) hx hb dX0_rule_1 c_21 (by decide) (by decide) (by rfl) (by decide) ?_
        refine lv_aload_n hx hb dX0_rule_60 rfl (lv_at hl 0 rfl) ?_
        refine r_get0 C hw 1 (by decide) rfl (v := .ref (q (iS 0))) rfl q219 dX0_rule_61 ?_
        refine r_getSN C hw (okS_of (by decide)) 4 (by decide) rfl (v := .int (gi σ (iS 0) 33)) rfl 15 rfl dX0_rule_64 ?_
        exact r_iret C hw hS hF dX0_rule_67
      · have hF := if_e hF c_21
        by_cases c_22 : x1 = (2 : Int32)
        · have hF := it_e hF c_22
          refine r_tin (tgt := 68) hx hb dX0_rule_1 c_22 (by decide) (by decide) (by rfl) (by decide) ?_
          refine lv_aload_n hx hb dX0_rule_68 rfl (lv_at hl 0 rfl) ?_
          refine r_get0 C hw 1 (by decide) rfl (v := .ref (q (iS 0))) rfl q219 dX0_rule_69 ?_
          refine r_getSN C hw (okS_of (by decide)) 6 (by decide) rfl (v := .int (gi σ (iS 0) 36)) rfl 18 rfl dX0_rule_72 ?_
          exact r_iret C hw hS hF dX0_rule_75
        · have hF := if_e hF c_22
          by_cases c_23 : x1 = (3 : Int32)
          · have hF := it_e hF c_23
            refine r_tin (tgt := 76) hx hb dX0_rule_1 c_23 (by decide) (by decide) (by rfl) (by decide) ?_
            refine lv_aload_n hx hb dX0_rule_76 rfl (lv_at hl 0 rfl) ?_
            refine r_get0 C hw 1 (by decide) rfl (v := .ref (q (iS 0))) rfl q219 dX0_rule_77 ?_
            refine r_getSN C hw (okS_of (by decide)) 7 (by decide) rfl (v := .int (gi σ (iS 0) 37)) rfl 19 rfl dX0_rule_80 ?_
            exact r_iret C hw hS hF dX0_rule_83
          · have hF := if_e hF c_23
            by_cases c_24 : x1 = (4 : Int32)
            · have hF := it_e hF c_24
              refine r_tin (tgt := 84) hx hb dX0_rule_1 c_24 (by decide) (by decide) (by rfl) (by decide) ?_
              refine lv_aload_n hx hb dX0_rule_84 rfl (lv_at hl 0 rfl) ?_
              refine r_get0 C hw 1 (by decide) rfl (v := .ref (q (iS 0))) rfl q219 dX0_rule_85 ?_
              refine r_getSN C hw (okS_of (by decide)) 8 (by decide) rfl (v := .int (gi σ (iS 0) 38)) rfl 20 rfl dX0_rule_88 ?_
              exact r_iret C hw hS hF dX0_rule_91
            · have hF := if_e hF c_24
              by_cases c_25 : x1 = (5 : Int32)
              · have hF := it_e hF c_25
                refine r_tin (tgt := 92) hx hb dX0_rule_1 c_25 (by decide) (by decide) (by rfl) (by decide) ?_
                refine lv_aload_n hx hb dX0_rule_92 rfl (lv_at hl 0 rfl) ?_
                refine r_get0 C hw 1 (by decide) rfl (v := .ref (q (iS 0))) rfl q219 dX0_rule_93 ?_
                refine r_getSN C hw (okS_of (by decide)) 0 (by decide) rfl (v := .int (gi σ (iS 0) 34)) rfl 9 rfl dX0_rule_96 ?_
                exact r_iret C hw hS hF dX0_rule_99
              · have hF := if_e hF c_25
                by_cases c_26 : x1 = (6 : Int32)
                · have hF := it_e hF c_26
                  refine r_tin (tgt := 100) hx hb dX0_rule_1 c_26 (by decide) (by decide) (by rfl) (by decide) ?_
                  refine lv_aload_n hx hb dX0_rule_100 rfl (lv_at hl 0 rfl) ?_
                  refine r_get0 C hw 1 (by decide) rfl (v := .ref (q (iS 0))) rfl q219 dX0_rule_101 ?_
                  refine r_getSN C hw (okS_of (by decide)) 1 (by decide) rfl (v := .int (gi σ (iS 0) 35)) rfl 10 rfl dX0_rule_104 ?_
                  exact r_iret C hw hS hF dX0_rule_107
                · have hF := if_e hF c_26
                  by_cases c_27 : x1 = (7 : Int32)
                  · have hF := it_e hF c_27
                    refine r_tin (tgt := 108) hx hb dX0_rule_1 c_27 (by decide) (by decide) (by rfl) (by decide) ?_
                    refine lv_aload_n hx hb dX0_rule_108 rfl (lv_at hl 0 rfl) ?_
                    refine r_get0 C hw 1 (by decide) rfl (v := .ref (q (iS 0))) rfl q219 dX0_rule_109 ?_
                    obtain ⟨r_28, σ_29, h_30, hF⟩ := bd_e hF
                    refine r_callVi (As := []) (rest := []) (i := iS 0) C hw hS (wi_S (okS_of (by decide))) (tm_S _ _) (ci := 5) rfl (met_X5_speed l G rd q (okS_of (by decide)) h_30) (cwV 0 hts (lw_V q540 q541 q542 q62 q543) rfl rfl rfl (by decide +kernel) ⟨Nat.le_of_ble_eq_true rfl, Nat.le_of_ble_eq_true rfl⟩) rfl hl.1 rfl (Nat.le_of_ble_eq_true rfl) ⟨Nat.le_refl _, Nat.le_refl _⟩ dX0_rule_112 (fun H locs hw hS => ?_)
                    exact r_iret C hw hS hF dX0_rule_115
                  · have hF := if_e hF c_27
                    by_cases c_31 : x1 = (8 : Int32)
                    · have hF := it_e hF c_31
                      refine r_tin (tgt := 116) hx hb dX0_rule_1 c_31 (by decide) (by decide) (by rfl) (by decide) ?_
                      refine lv_aload_n hx hb dX0_rule_116 rfl (lv_at hl 0 rfl) ?_
                      refine r_get0 C hw 1 (by decide) rfl (v := .ref (q (iS 0))) rfl q219 dX0_rule_117 ?_
                      refine r_getSN C hw (okS_of (by decide)) 4 (by decide) rfl (v := .int (gi σ (iS 0) 33)) rfl 15 rfl dX0_rule_120 ?_
                      refine lv_if_ne (tgt := 131) hx hb dX0_rule_123 (by decide) (fun c_32 => ?_) (fun c_32 => ?_)
                      · have hF := if_e hF c_32
                        refine lv_aload_n hx hb dX0_rule_131 rfl (lv_at hl 0 rfl) ?_
                        refine r_get0 C hw 1 (by decide) rfl (v := .ref (q (iS 0))) rfl q219 dX0_rule_132 ?_
                        refine r_getSN C hw (okS_of (by decide)) 5 (by decide) rfl (v := .ref (q (iAA 0))) rfl 17 rfl dX0_rule_135 ?_
                        refine lv_aload_n hx hb dX0_rule_138 rfl (lv_at hl 0 rfl) ?_
                        refine r_get0 C hw 1 (by decide) rfl (v := .ref (q (iS 0))) rfl q219 dX0_rule_139 ?_
                        obtain ⟨r_33, σ_34, h_35, hF⟩ := bd_e hF
                        refine r_callVi (As := []) (rest := [.ref (q (iAA 0))]) (i := iS 0) C hw hS (wi_S (okS_of (by decide))) (tm_S _ _) (ci := 5) rfl (met_X5_next l G rd q (okS_of (by decide)) h_35) (cwV 0 hts (lw_V q544 q545 q546 q62 q547) rfl rfl rfl (by decide +kernel) ⟨Nat.le_of_ble_eq_true rfl, Nat.le_of_ble_eq_true rfl⟩) rfl hl.1 rfl (Nat.le_of_ble_eq_true rfl) ⟨Nat.le_refl _, Nat.le_refl _⟩ dX0_rule_142 (fun H locs hw hS => ?_)
                        obtain ⟨h_36, hF⟩ := gd_e hF
                        refine r_sald (i := iAA 0) (n := 16) (g := (iAA 0)) (st := 0) C hw (wi_AA (okS_of (by decide))) (tm_AA _ _) h_36 dX0_rule_145 ?_
                        exact r_iret C hw hS hF dX0_rule_146
                      · have hF := it_e hF c_32
                        refine lv_bipush (v := (-4 : Int32)) hx hb dX0_rule_126 (by decide) ?_
                        refine lv_goto (tgt := 146) hx hb dX0_rule_128 (by decide) ?_
                        exact r_iret C hw hS hF dX0_rule_146
                    · have hF := if_e hF c_31
                      cases hF
abbrev rmX0_runs : Room := { frames := 10, cells := 0, slots := 0, locals := 265 }
noncomputable def F_X0_runs (N : Nat) (x1 : Int32) (x2 : Int32) (σ : SS) : Option (Int32 × SS) :=
  bd (F_X0_isFar N x1 σ) fun r_26 σ_27 =>
  if r_26 = (0 : Int32) then
    some ((-1 : Int32), σ_27)
  else
    bd (F_X0_in N x2.toInt64 (0 : Int64) (4 : Int64) σ_27) fun r_30 σ_31 =>
    if r_30 = (0 : Int32) then
      some ((-1 : Int32), σ_31)
    else
      bd (F_X5_as N 1 0 σ_31) fun r_34 σ_35 =>
      bd (F_X0_ticksGo N 1 x1 σ_35) fun r_37 σ_38 =>
      if (x2.toInt < 0 ∨ 3 < x2.toInt) then
        bd (F_X5_speed N 0 σ_38) fun r_41 σ_42 =>
        some (if r_41 < (gi σ_42 0 10) then (gi σ_42 0 10) else r_41, σ_42)
      else
        if x2 = (0 : Int32) then
          some (gi σ_38 0 7, σ_38)
        else
          if x2 = (1 : Int32) then
            some (gi σ_38 0 8, σ_38)
          else
            if x2 = (2 : Int32) then
              some (gi σ_38 0 9, σ_38)
            else
              if x2 = (3 : Int32) then
                bd (F_X5_all N 1 σ_38) fun r_48 σ_49 =>
                some (r_48, σ_49)
              else
                none
set_option maxRecDepth 100000 in
theorem met_X0_runs (l : Launch) (G : GG) (rd : Bool) (q : Nat → Nat) {N : Nat} {x1 : Int32} {x2 : Int32} {σ σ' : SS} {r : Int32} (hF : F_X0_runs N x1 x2 σ = some (r, σ')) : Met l yX0_runs (ws_ yX0_runs cX0_runs 3 (some .int)) rmX0_runs (pcx G rd q σ [.ref (q 0), .int x1, .int x2]) (qxi G rd q σ' r) 0 0 (fa G) := by
  refine met_of (by decide) (Nat.le_of_ble_eq_true rfl) ?_
  intro p e s m below meth c C H locs ls hw hS hl
  obtain ⟨hx, hb, hml, hown, hts, -, -, -, -⟩ := id C
  have hl : lv_has ls 3 [(0, .ref (q 0)), (1, .int x1), (2, .int x2)] := hl
  unfold F_X0_runs at hF
  refine lv_iload_n hx hb dX0_runs_0 rfl (lv_at hl 1 rfl) ?_
  obtain ⟨r_26, σ_27, h_28, hF⟩ := bd_e hF
  refine r_callSi (As := [.int x1]) (rest := []) C hw hS (met_X0_isFar l G rd q  h_28) (cwS 1 hts (lw_S q679 q680 q57 q681) rfl rfl rfl (by decide +kernel) ⟨Nat.le_of_ble_eq_true rfl, Nat.le_of_ble_eq_true rfl⟩) rfl hl.1 rfl (Nat.le_of_ble_eq_true rfl) ⟨Nat.le_refl _, Nat.le_refl _⟩ dX0_runs_1 (fun H locs hw hS => ?_)
  refine lv_if_eq (tgt := 19) hx hb dX0_runs_4 (by decide) (fun c_29 => ?_) (fun c_29 => ?_)
  · have hF := it_e hF c_29
    refine lv_iconst (v := (-1 : Int32)) hx hb dX0_runs_19 (by decide) ?_
    exact r_iret C hw hS hF dX0_runs_20
  · have hF := if_e hF c_29
    refine lv_iload_n hx hb dX0_runs_7 rfl (lv_at hl 2 rfl) ?_
    refine lv_i2l hx hb dX0_runs_8 rfl ?_
    refine lv_lconst (v := (0 : Int64)) hx hb dX0_runs_9 (by decide) ?_
    refine lv_ldc2 (v := (4 : Int64)) hx hb hown (hts _ q683) dX0_runs_10 ?_
    obtain ⟨r_30, σ_31, h_32, hF⟩ := bd_e hF
    refine r_callSi (As := [.long x2.toInt64, .long (0 : Int64), .long (4 : Int64)]) (rest := []) C hw hS (met_X0_in l G rd q  h_32) (cwS 3 hts (lw_S q294 q295 q57 q296) rfl rfl rfl (by decide +kernel) ⟨Nat.le_of_ble_eq_true rfl, Nat.le_of_ble_eq_true rfl⟩) rfl hl.1 rfl (Nat.le_of_ble_eq_true rfl) ⟨Nat.le_refl _, Nat.le_refl _⟩ dX0_runs_13 (fun H locs hw hS => ?_)
    refine lv_if_ne (tgt := 21) hx hb dX0_runs_16 (by decide) (fun c_33 => ?_) (fun c_33 => ?_)
    · have hF := if_e hF c_33
      refine lv_aload_n hx hb dX0_runs_21 rfl (lv_at hl 0 rfl) ?_
      refine r_get0 C hw 2 (by decide) rfl (v := .ref (q (iS 1))) rfl q220 dX0_runs_22 ?_
      refine lv_aload_n hx hb dX0_runs_25 rfl (lv_at hl 0 rfl) ?_
      refine r_get0 C hw 1 (by decide) rfl (v := .ref (q (iS 0))) rfl q219 dX0_runs_26 ?_
      obtain ⟨r_34, σ_35, h_36, hF⟩ := bd_e hF
      refine r_callVv (As := [.ref (q (iS 0))]) (rest := []) (i := iS 1) C hw hS (wi_S (okS_of (by decide))) (tm_S _ _) (ci := 5) rfl (met_X5_as l G rd q (okS_of (by decide)) (okS_of (by decide)) h_36) (cwV 1 hts (lw_V q521 q522 q523 q62 q524) rfl rfl rfl (by decide +kernel) ⟨Nat.le_of_ble_eq_true rfl, Nat.le_of_ble_eq_true rfl⟩) rfl hl.1 rfl (Nat.le_of_ble_eq_true rfl) ⟨Nat.le_refl _, Nat.le_refl _⟩ dX0_runs_29 (fun H locs hw hS => ?_)
      refine lv_aload_n hx hb dX0_runs_32 rfl (lv_at hl 0 rfl) ?_
      refine lv_aload_n hx hb dX0_runs_33 rfl (lv_at hl 0 rfl) ?_
      refine r_get0 C hw 2 (by decide) rfl (v := .ref (q (iS 1))) rfl q220 dX0_runs_34 ?_
      refine lv_iload_n hx hb dX0_runs_37 rfl (lv_at hl 1 rfl) ?_
      obtain ⟨r_37, σ_38, h_39, hF⟩ := bd_e hF
      refine r_callVv (As := [.ref (q (iS 1)), .int x1]) (rest := []) (i := 0) C hw hS (wi_lo (Or.inl (by decide))) rfl (ci := 0) rfl (met_X0_ticksGo l G rd q (okS_of (by decide)) h_39) (cwV 2 hts (lw_V q658 q660 qs16 q57 q661) rfl rfl rfl (by decide +kernel) ⟨Nat.le_of_ble_eq_true rfl, Nat.le_of_ble_eq_true rfl⟩) rfl hl.1 rfl (Nat.le_of_ble_eq_true rfl) ⟨Nat.le_refl _, Nat.le_refl _⟩ dX0_runs_38 (fun H locs hw hS => ?_)
      refine lv_iload_n hx hb dX0_runs_41 rfl (lv_at hl 2 rfl) ?_
      by_cases c_40 : (x2.toInt < 0 ∨ 3 < x2.toInt)
      · have hF := it_e hF c_40
        refine lv_tableOut (tgt := 95) hx hb dX0_runs_42 c_40 (by decide) ?_
        refine lv_aload_n hx hb dX0_runs_95 rfl (lv_at hl 0 rfl) ?_
        refine r_get0 C hw 1 (by decide) rfl (v := .ref (q (iS 0))) rfl q219 dX0_runs_96 ?_
        obtain ⟨r_41, σ_42, h_43, hF⟩ := bd_e hF
        refine r_callVi (As := []) (rest := []) (i := iS 0) C hw hS (wi_S (okS_of (by decide))) (tm_S _ _) (ci := 5) rfl (met_X5_speed l G rd q (okS_of (by decide)) h_43) (cwV 0 hts (lw_V q540 q541 q542 q62 q543) rfl rfl rfl (by decide +kernel) ⟨Nat.le_of_ble_eq_true rfl, Nat.le_of_ble_eq_true rfl⟩) rfl hl.1 rfl (Nat.le_of_ble_eq_true rfl) ⟨Nat.le_refl _, Nat.le_refl _⟩ dX0_runs_99 (fun H locs hw hS => ?_)
        refine lv_aload_n hx hb dX0_runs_102 rfl (lv_at hl 0 rfl) ?_
        refine r_get0 C hw 10 (by decide) rfl (v := .int (gi σ_42 0 10)) rfl q228 dX0_runs_103 ?_
        refine r_mmax C hl.1 q674 q581 q75 q582 (Nat.le_of_ble_eq_true rfl) (Nat.le_of_ble_eq_true rfl) ⟨Nat.zero_le _, Nat.zero_le _⟩ dX0_runs_106 ?_
        exact r_iret C hw hS hF dX0_runs_109
      · have hF := if_e hF c_40
        by_cases c_44 : x2 = (0 : Int32)
        · have hF := it_e hF c_44
          refine r_tin (tgt := 72) hx hb dX0_runs_42 c_44 (by decide) (by decide) (by rfl) (by decide) ?_
          refine lv_aload_n hx hb dX0_runs_72 rfl (lv_at hl 0 rfl) ?_
          refine r_get0 C hw 7 (by decide) rfl (v := .int (gi σ_38 0 7)) rfl q225 dX0_runs_73 ?_
          exact r_iret C hw hS hF dX0_runs_76
        · have hF := if_e hF c_44
          by_cases c_45 : x2 = (1 : Int32)
          · have hF := it_e hF c_45
            refine r_tin (tgt := 77) hx hb dX0_runs_42 c_45 (by decide) (by decide) (by rfl) (by decide) ?_
            refine lv_aload_n hx hb dX0_runs_77 rfl (lv_at hl 0 rfl) ?_
            refine r_get0 C hw 8 (by decide) rfl (v := .int (gi σ_38 0 8)) rfl q226 dX0_runs_78 ?_
            exact r_iret C hw hS hF dX0_runs_81
          · have hF := if_e hF c_45
            by_cases c_46 : x2 = (2 : Int32)
            · have hF := it_e hF c_46
              refine r_tin (tgt := 82) hx hb dX0_runs_42 c_46 (by decide) (by decide) (by rfl) (by decide) ?_
              refine lv_aload_n hx hb dX0_runs_82 rfl (lv_at hl 0 rfl) ?_
              refine r_get0 C hw 9 (by decide) rfl (v := .int (gi σ_38 0 9)) rfl q227 dX0_runs_83 ?_
              exact r_iret C hw hS hF dX0_runs_86
            · have hF := if_e hF c_46
              by_cases c_47 : x2 = (3 : Int32)
              · have hF := it_e hF c_47
                refine r_tin (tgt := 87) hx hb dX0_runs_42 c_47 (by decide) (by decide) (by rfl) (by decide) ?_
                refine lv_aload_n hx hb dX0_runs_87 rfl (lv_at hl 0 rfl) ?_
                refine r_get0 C hw 2 (by decide) rfl (v := .ref (q (iS 1))) rfl q220 dX0_runs_88 ?_
                obtain ⟨r_48, σ_49, h_50, hF⟩ := bd_e hF
                refine r_callVi (As := []) (rest := []) (i := iS 1) C hw hS (wi_S (okS_of (by decide))) (tm_S _ _) (ci := 5) rfl (met_X5_all l G rd q (okS_of (by decide)) h_50) (cwV 0 hts (lw_V q684 q685 q686 q62 q687) rfl rfl rfl (by decide +kernel) ⟨Nat.le_of_ble_eq_true rfl, Nat.le_of_ble_eq_true rfl⟩) rfl hl.1 rfl (Nat.le_of_ble_eq_true rfl) ⟨Nat.le_refl _, Nat.le_refl _⟩ dX0_runs_91 (fun H locs hw hS => ?_)
                exact r_iret C hw hS hF dX0_runs_94
              · have hF := if_e hF c_47
                cases hF
    · have hF := it_e hF c_33
      refine lv_iconst (v := (-1 : Int32)) hx hb dX0_runs_19 (by decide) ?_
      exact r_iret C hw hS hF dX0_runs_20
abbrev rmX0_see : Room := { frames := 3, cells := 0, slots := 0, locals := 106 }
noncomputable def F_X0_see (N : Nat) (x1 : Int32) (x2 : Int32) (x3 : Int32) (σ : SS) : Option (Int32 × SS) :=
  bd (F_X0_in N x1.toInt64 (0 : Int64) (40 : Int64) σ) fun r_21 σ_22 =>
  if r_21 = (0 : Int32) then
    some ((-1 : Int32), σ_22)
  else
    bd (F_X0_isWheel N x2 σ_22) fun r_25 σ_26 =>
    if r_25 = (0 : Int32) then
      some ((-1 : Int32), σ_26)
    else
      bd (F_X0_in N x3.toInt64 (0 : Int64) (9999999 : Int64) σ_26) fun r_29 σ_30 =>
      if r_29 = (0 : Int32) then
        some ((-1 : Int32), σ_30)
      else
        if (gi σ_30 0 6) = (6 : Int32) then
          some ((-3 : Int32), σ_30)
        else
          gd (inR ((3 : Int32) * (gi σ_30 0 6)) 18) <|
          nm (si σ_30 4 ((3 : Int32) * (gi σ_30 0 6)).toNatClampNeg x1) fun σ_35 =>
          gd (inR (((3 : Int32) * (gi σ_35 0 6)) + (1 : Int32)) 18) <|
          nm (si σ_35 4 (((3 : Int32) * (gi σ_35 0 6)) + (1 : Int32)).toNatClampNeg x2) fun σ_37 =>
          gd (inR (((3 : Int32) * (gi σ_37 0 6)) + (2 : Int32)) 18) <|
          nm (si σ_37 4 (((3 : Int32) * (gi σ_37 0 6)) + (2 : Int32)).toNatClampNeg x3) fun σ_39 =>
          nm (si σ_39 0 6 ((gi σ_39 0 6) + (1 : Int32))) fun σ_40 =>
          some (gi σ_40 0 6, σ_40)
set_option maxRecDepth 100000 in
theorem met_X0_see (l : Launch) (G : GG) (rd : Bool) (q : Nat → Nat) {N : Nat} {x1 : Int32} {x2 : Int32} {x3 : Int32} {σ σ' : SS} {r : Int32} (hF : F_X0_see N x1 x2 x3 σ = some (r, σ')) : Met l yX0_see (ws_ yX0_see cX0_see 4 (some .int)) rmX0_see (pcx G rd q σ [.ref (q 0), .int x1, .int x2, .int x3]) (qxi G rd q σ' r) 0 0 (fa G) := by
  refine met_of (by decide) (Nat.le_of_ble_eq_true rfl) ?_
  intro p e s m below meth c C H locs ls hw hS hl
  obtain ⟨hx, hb, hml, hown, hts, -, -, -, -⟩ := id C
  have hl : lv_has ls 4 [(0, .ref (q 0)), (1, .int x1), (2, .int x2), (3, .int x3)] := hl
  unfold F_X0_see at hF
  refine lv_iload_n hx hb dX0_see_0 rfl (lv_at hl 1 rfl) ?_
  refine lv_i2l hx hb dX0_see_1 rfl ?_
  refine lv_lconst (v := (0 : Int64)) hx hb dX0_see_2 (by decide) ?_
  refine lv_ldc2 (v := (40 : Int64)) hx hb hown (hts _ q777) dX0_see_3 ?_
  obtain ⟨r_21, σ_22, h_23, hF⟩ := bd_e hF
  refine r_callSi (As := [.long x1.toInt64, .long (0 : Int64), .long (40 : Int64)]) (rest := []) C hw hS (met_X0_in l G rd q  h_23) (cwS 3 hts (lw_S q294 q295 q57 q296) rfl rfl rfl (by decide +kernel) ⟨Nat.le_of_ble_eq_true rfl, Nat.le_of_ble_eq_true rfl⟩) rfl hl.1 rfl (Nat.le_of_ble_eq_true rfl) ⟨Nat.le_refl _, Nat.le_refl _⟩ dX0_see_6 (fun H locs hw hS => ?_)
  refine lv_if_eq (tgt := 32) hx hb dX0_see_9 (by decide) (fun c_24 => ?_) (fun c_24 => ?_)
  · have hF := it_e hF c_24
    refine lv_iconst (v := (-1 : Int32)) hx hb dX0_see_32 (by decide) ?_
    exact r_iret C hw hS hF dX0_see_33
  · have hF := if_e hF c_24
    refine lv_aload_n hx hb dX0_see_12 rfl (lv_at hl 0 rfl) ?_
    refine lv_iload_n hx hb dX0_see_13 rfl (lv_at hl 2 rfl) ?_
    obtain ⟨r_25, σ_26, h_27, hF⟩ := bd_e hF
    refine r_callVi (As := [.int x2]) (rest := []) (i := 0) C hw hS (wi_lo (Or.inl (by decide))) rfl (ci := 0) rfl (met_X0_isWheel l G rd q  h_27) (cwV 1 hts (lw_V q552 q554 qs10 q57 q555) rfl rfl rfl (by decide +kernel) ⟨Nat.le_of_ble_eq_true rfl, Nat.le_of_ble_eq_true rfl⟩) rfl hl.1 rfl (Nat.le_of_ble_eq_true rfl) ⟨Nat.le_refl _, Nat.le_refl _⟩ dX0_see_14 (fun H locs hw hS => ?_)
    refine lv_if_eq (tgt := 32) hx hb dX0_see_17 (by decide) (fun c_28 => ?_) (fun c_28 => ?_)
    · have hF := it_e hF c_28
      refine lv_iconst (v := (-1 : Int32)) hx hb dX0_see_32 (by decide) ?_
      exact r_iret C hw hS hF dX0_see_33
    · have hF := if_e hF c_28
      refine lv_iload_n hx hb dX0_see_20 rfl (lv_at hl 3 rfl) ?_
      refine lv_i2l hx hb dX0_see_21 rfl ?_
      refine lv_lconst (v := (0 : Int64)) hx hb dX0_see_22 (by decide) ?_
      refine lv_ldc2 (v := (9999999 : Int64)) hx hb hown (hts _ q778) dX0_see_23 ?_
      obtain ⟨r_29, σ_30, h_31, hF⟩ := bd_e hF
      refine r_callSi (As := [.long x3.toInt64, .long (0 : Int64), .long (9999999 : Int64)]) (rest := []) C hw hS (met_X0_in l G rd q  h_31) (cwS 3 hts (lw_S q294 q295 q57 q296) rfl rfl rfl (by decide +kernel) ⟨Nat.le_of_ble_eq_true rfl, Nat.le_of_ble_eq_true rfl⟩) rfl hl.1 rfl (Nat.le_of_ble_eq_true rfl) ⟨Nat.le_refl _, Nat.le_refl _⟩ dX0_see_26 (fun H locs hw hS => ?_)
      refine lv_if_ne (tgt := 34) hx hb dX0_see_29 (by decide) (fun c_32 => ?_) (fun c_32 => ?_)
      · have hF := if_e hF c_32
        refine lv_aload_n hx hb dX0_see_34 rfl (lv_at hl 0 rfl) ?_
        refine r_get0 C hw 6 (by decide) rfl (v := .int (gi σ_30 0 6)) rfl q224 dX0_see_35 ?_
        refine lv_bipush (v := (6 : Int32)) hx hb dX0_see_38 (by decide) ?_
        refine lv_icmp_ne (tgt := 46) hx hb dX0_see_40 (by decide) (fun c_33 => ?_) (fun c_33 => ?_)
        · have hF := if_e hF c_33
          refine lv_aload_n hx hb dX0_see_46 rfl (lv_at hl 0 rfl) ?_
          refine r_get0 C hw 5 (by decide) rfl (v := .ref (q 4)) rfl q223 dX0_see_47 ?_
          refine lv_iconst (v := (3 : Int32)) hx hb dX0_see_50 (by decide) ?_
          refine lv_aload_n hx hb dX0_see_51 rfl (lv_at hl 0 rfl) ?_
          refine r_get0 C hw 6 (by decide) rfl (v := .int (gi σ_30 0 6)) rfl q224 dX0_see_52 ?_
          refine lv_imul hx hb dX0_see_55 ?_
          refine lv_iload_n hx hb dX0_see_56 rfl (lv_at hl 1 rfl) ?_
          obtain ⟨h_34, hF⟩ := gd_e hF
          obtain ⟨σ_35, eσ_35, hF⟩ := nm_e2 hF
          refine r_iast (i := 4) (n := 18) (g := 4) (st := 0) C hw hS (wi_lo (Or.inl (by decide))) rfl (fun _ => ho_lo (by decide)) h_34 dX0_see_57 eσ_35 (fun H locs hw hS => ?_)
          refine lv_aload_n hx hb dX0_see_58 rfl (lv_at hl 0 rfl) ?_
          refine r_get0 C hw 5 (by decide) rfl (v := .ref (q 4)) rfl q223 dX0_see_59 ?_
          refine lv_iconst (v := (3 : Int32)) hx hb dX0_see_62 (by decide) ?_
          refine lv_aload_n hx hb dX0_see_63 rfl (lv_at hl 0 rfl) ?_
          refine r_get0 C hw 6 (by decide) rfl (v := .int (gi σ_35 0 6)) rfl q224 dX0_see_64 ?_
          refine lv_imul hx hb dX0_see_67 ?_
          refine lv_iconst (v := (1 : Int32)) hx hb dX0_see_68 (by decide) ?_
          refine lv_iadd hx hb dX0_see_69 ?_
          refine lv_iload_n hx hb dX0_see_70 rfl (lv_at hl 2 rfl) ?_
          obtain ⟨h_36, hF⟩ := gd_e hF
          obtain ⟨σ_37, eσ_37, hF⟩ := nm_e2 hF
          refine r_iast (i := 4) (n := 18) (g := 4) (st := 0) C hw hS (wi_lo (Or.inl (by decide))) rfl (fun _ => ho_lo (by decide)) h_36 dX0_see_71 eσ_37 (fun H locs hw hS => ?_)
          refine lv_aload_n hx hb dX0_see_72 rfl (lv_at hl 0 rfl) ?_
          refine r_get0 C hw 5 (by decide) rfl (v := .ref (q 4)) rfl q223 dX0_see_73 ?_
          refine lv_iconst (v := (3 : Int32)) hx hb dX0_see_76 (by decide) ?_
          refine lv_aload_n hx hb dX0_see_77 rfl (lv_at hl 0 rfl) ?_
          refine r_get0 C hw 6 (by decide) rfl (v := .int (gi σ_37 0 6)) rfl q224 dX0_see_78 ?_
          refine lv_imul hx hb dX0_see_81 ?_
          refine lv_iconst (v := (2 : Int32)) hx hb dX0_see_82 (by decide) ?_
          refine lv_iadd hx hb dX0_see_83 ?_
          refine lv_iload_n hx hb dX0_see_84 rfl (lv_at hl 3 rfl) ?_
          obtain ⟨h_38, hF⟩ := gd_e hF
          obtain ⟨σ_39, eσ_39, hF⟩ := nm_e2 hF
          refine r_iast (i := 4) (n := 18) (g := 4) (st := 0) C hw hS (wi_lo (Or.inl (by decide))) rfl (fun _ => ho_lo (by decide)) h_38 dX0_see_85 eσ_39 (fun H locs hw hS => ?_)
          refine lv_aload_n hx hb dX0_see_86 rfl (lv_at hl 0 rfl) ?_
          refine lv_dup hx hb dX0_see_87 rfl ?_
          refine r_get0 C hw 6 (by decide) rfl (v := .int (gi σ_39 0 6)) rfl q224 dX0_see_88 ?_
          refine lv_iconst (v := (1 : Int32)) hx hb dX0_see_91 (by decide) ?_
          refine lv_iadd hx hb dX0_see_92 ?_
          obtain ⟨σ_40, eσ_40, hF⟩ := nm_e2 hF
          refine r_put0 C hw hS 6 (by decide) rfl rfl (tyX0_ok 6 (by decide)) rfl rfl q224 dX0_see_93 eσ_40 (fun H locs hw hS => ?_)
          refine lv_aload_n hx hb dX0_see_96 rfl (lv_at hl 0 rfl) ?_
          refine r_get0 C hw 6 (by decide) rfl (v := .int (gi σ_40 0 6)) rfl q224 dX0_see_97 ?_
          exact r_iret C hw hS hF dX0_see_100
        · have hF := it_e hF c_33
          refine lv_bipush (v := (-3 : Int32)) hx hb dX0_see_43 (by decide) ?_
          exact r_iret C hw hS hF dX0_see_45
      · have hF := it_e hF c_32
        refine lv_iconst (v := (-1 : Int32)) hx hb dX0_see_32 (by decide) ?_
        exact r_iret C hw hS hF dX0_see_33
abbrev rmX0_set : Room := { frames := 3, cells := 0, slots := 0, locals := 106 }
noncomputable def F_X0_set (N : Nat) (x1 : Int32) (x2 : Int32) (σ : SS) : Option (Int32 × SS) :=
  bd (F_X0_isAct N x1 σ) fun r_13 σ_14 =>
  if r_13 = (0 : Int32) then
    some ((-1 : Int32), σ_14)
  else
    bd (F_X0_isTold N x2 σ_14) fun r_17 σ_18 =>
    if r_17 = (0 : Int32) then
      some ((-1 : Int32), σ_18)
    else
      gd (inR x1 16) <|
      nm (gi σ_18 (iAA 0) x1.toNatClampNeg) fun x_22 =>
      gd (inR x1 16) <|
      nm (si σ_18 (iAA 0) x1.toNatClampNeg (vp_nar .short x2.toInt16.toInt32)) fun σ_24 =>
      some (x_22, σ_24)
set_option maxRecDepth 100000 in
theorem met_X0_set (l : Launch) (G : GG) (rd : Bool) (q : Nat → Nat) {N : Nat} {x1 : Int32} {x2 : Int32} {σ σ' : SS} {r : Int32} (hF : F_X0_set N x1 x2 σ = some (r, σ')) : Met l yX0_set (ws_ yX0_set cX0_set 4 (some .int)) rmX0_set (pcx G rd q σ [.ref (q 0), .int x1, .int x2]) (qxi G rd q σ' r) 0 0 (fa G) := by
  refine met_of (by decide) (Nat.le_of_ble_eq_true rfl) ?_
  intro p e s m below meth c C H locs ls hw hS hl
  obtain ⟨hx, hb, hml, hown, hts, -, -, -, -⟩ := id C
  have hl : lv_has ls 4 [(0, .ref (q 0)), (1, .int x1), (2, .int x2)] := hl
  unfold F_X0_set at hF
  refine lv_aload_n hx hb dX0_set_0 rfl (lv_at hl 0 rfl) ?_
  refine lv_iload_n hx hb dX0_set_1 rfl (lv_at hl 1 rfl) ?_
  obtain ⟨r_13, σ_14, h_15, hF⟩ := bd_e hF
  refine r_callVi (As := [.int x1]) (rest := []) (i := 0) C hw hS (wi_lo (Or.inl (by decide))) rfl (ci := 0) rfl (met_X0_isAct l G rd q  h_15) (cwV 1 hts (lw_V q591 q593 qs12 q57 q594) rfl rfl rfl (by decide +kernel) ⟨Nat.le_of_ble_eq_true rfl, Nat.le_of_ble_eq_true rfl⟩) rfl hl.1 rfl (Nat.le_of_ble_eq_true rfl) ⟨Nat.le_refl _, Nat.le_refl _⟩ dX0_set_2 (fun H locs hw hS => ?_)
  refine lv_if_eq (tgt := 15) hx hb dX0_set_5 (by decide) (fun c_16 => ?_) (fun c_16 => ?_)
  · have hF := it_e hF c_16
    refine lv_iconst (v := (-1 : Int32)) hx hb dX0_set_15 (by decide) ?_
    exact r_iret C hw hS hF dX0_set_16
  · have hF := if_e hF c_16
    refine lv_iload_n hx hb dX0_set_8 rfl (lv_at hl 2 rfl) ?_
    obtain ⟨r_17, σ_18, h_19, hF⟩ := bd_e hF
    refine r_callSi (As := [.int x2]) (rest := []) C hw hS (met_X0_isTold l G rd q  h_19) (cwS 1 hts (lw_S q624 q625 q57 q626) rfl rfl rfl (by decide +kernel) ⟨Nat.le_of_ble_eq_true rfl, Nat.le_of_ble_eq_true rfl⟩) rfl hl.1 rfl (Nat.le_of_ble_eq_true rfl) ⟨Nat.le_refl _, Nat.le_refl _⟩ dX0_set_9 (fun H locs hw hS => ?_)
    refine lv_if_ne (tgt := 17) hx hb dX0_set_12 (by decide) (fun c_20 => ?_) (fun c_20 => ?_)
    · have hF := if_e hF c_20
      refine lv_aload_n hx hb dX0_set_17 rfl (lv_at hl 0 rfl) ?_
      refine r_get0 C hw 1 (by decide) rfl (v := .ref (q (iS 0))) rfl q219 dX0_set_18 ?_
      refine r_getSN C hw (okS_of (by decide)) 5 (by decide) rfl (v := .ref (q (iAA 0))) rfl 17 rfl dX0_set_21 ?_
      refine lv_iload_n hx hb dX0_set_24 rfl (lv_at hl 1 rfl) ?_
      obtain ⟨h_21, hF⟩ := gd_e hF
      refine r_sald (i := iAA 0) (n := 16) (g := (iAA 0)) (st := 0) C hw (wi_AA (okS_of (by decide))) (tm_AA _ _) h_21 dX0_set_25 ?_
      obtain ⟨x_22, ex_22, hF⟩ := nm_e2 hF
      refine r_topi ex_22 ?_
      refine lv_istore_n (lv' := [(3, .int x_22), (0, .ref (q 0)), (1, .int x1), (2, .int x2)]) hx hb dX0_set_26 rfl hl (by decide) rfl (fun ls hl => ?_)
      refine lv_aload_n hx hb dX0_set_27 rfl (lv_at hl 1 rfl) ?_
      refine r_get0 C hw 1 (by decide) rfl (v := .ref (q (iS 0))) rfl q219 dX0_set_28 ?_
      refine r_getSN C hw (okS_of (by decide)) 5 (by decide) rfl (v := .ref (q (iAA 0))) rfl 17 rfl dX0_set_31 ?_
      refine lv_iload_n hx hb dX0_set_34 rfl (lv_at hl 2 rfl) ?_
      refine lv_iload_n hx hb dX0_set_35 rfl (lv_at hl 3 rfl) ?_
      refine lv_i2s hx hb dX0_set_36 rfl ?_
      obtain ⟨h_23, hF⟩ := gd_e hF
      obtain ⟨σ_24, eσ_24, hF⟩ := nm_e2 hF
      refine r_sast (i := iAA 0) (n := 16) (g := (iAA 0)) (st := 0) C hw hS (wi_AA (okS_of (by decide))) (tm_AA _ _) ho_AA h_23 dX0_set_37 eσ_24 (fun H locs hw hS => ?_)
      refine lv_iload_n hx hb dX0_set_38 rfl (lv_at hl 0 rfl) ?_
      exact r_iret C hw hS hF dX0_set_39
    · have hF := it_e hF c_20
      refine lv_iconst (v := (-1 : Int32)) hx hb dX0_set_15 (by decide) ?_
      exact r_iret C hw hS hF dX0_set_16
abbrev rmX0_shaft : Room := { frames := 3, cells := 0, slots := 0, locals := 106 }
noncomputable def F_X0_shaft (N : Nat) (x1 : Int32) (σ : SS) : Option (Int32 × SS) :=
  bd (F_X0_canBe N (1 : Int32) x1 σ) fun r_7 σ_8 =>
  if r_7 = (0 : Int32) then
    some ((-1 : Int32), σ_8)
  else
    nm (gi σ_8 (iS 0) 34) fun x_11 =>
    nm (si σ_8 (iS 0) 34 x1) fun σ_12 =>
    some (x_11, σ_12)
set_option maxRecDepth 100000 in
theorem met_X0_shaft (l : Launch) (G : GG) (rd : Bool) (q : Nat → Nat) {N : Nat} {x1 : Int32} {σ σ' : SS} {r : Int32} (hF : F_X0_shaft N x1 σ = some (r, σ')) : Met l yX0_shaft (ws_ yX0_shaft cX0_shaft 3 (some .int)) rmX0_shaft (pcx G rd q σ [.ref (q 0), .int x1]) (qxi G rd q σ' r) 0 0 (fa G) := by
  refine met_of (by decide) (Nat.le_of_ble_eq_true rfl) ?_
  intro p e s m below meth c C H locs ls hw hS hl
  obtain ⟨hx, hb, hml, hown, hts, -, -, -, -⟩ := id C
  have hl : lv_has ls 3 [(0, .ref (q 0)), (1, .int x1)] := hl
  unfold F_X0_shaft at hF
  refine lv_iconst (v := (1 : Int32)) hx hb dX0_shaft_0 (by decide) ?_
  refine lv_iload_n hx hb dX0_shaft_1 rfl (lv_at hl 1 rfl) ?_
  obtain ⟨r_7, σ_8, h_9, hF⟩ := bd_e hF
  refine r_callSi (As := [.int (1 : Int32), .int x1]) (rest := []) C hw hS (met_X0_canBe l G rd q  h_9) (cwS 2 hts (lw_S q599 q600 q57 q601) rfl rfl rfl (by decide +kernel) ⟨Nat.le_of_ble_eq_true rfl, Nat.le_of_ble_eq_true rfl⟩) rfl hl.1 rfl (Nat.le_of_ble_eq_true rfl) ⟨Nat.le_refl _, Nat.le_refl _⟩ dX0_shaft_2 (fun H locs hw hS => ?_)
  refine lv_if_ne (tgt := 10) hx hb dX0_shaft_5 (by decide) (fun c_10 => ?_) (fun c_10 => ?_)
  · have hF := if_e hF c_10
    refine lv_aload_n hx hb dX0_shaft_10 rfl (lv_at hl 0 rfl) ?_
    refine r_get0 C hw 1 (by decide) rfl (v := .ref (q (iS 0))) rfl q219 dX0_shaft_11 ?_
    refine r_getSN C hw (okS_of (by decide)) 0 (by decide) rfl (v := .int (gi σ_8 (iS 0) 34)) rfl 9 rfl dX0_shaft_14 ?_
    obtain ⟨x_11, ex_11, hF⟩ := nm_e2 hF
    refine r_topi ex_11 ?_
    refine lv_istore_n (lv' := [(2, .int x_11), (0, .ref (q 0)), (1, .int x1)]) hx hb dX0_shaft_17 rfl hl (by decide) rfl (fun ls hl => ?_)
    refine lv_aload_n hx hb dX0_shaft_18 rfl (lv_at hl 1 rfl) ?_
    refine r_get0 C hw 1 (by decide) rfl (v := .ref (q (iS 0))) rfl q219 dX0_shaft_19 ?_
    refine lv_iload_n hx hb dX0_shaft_22 rfl (lv_at hl 2 rfl) ?_
    obtain ⟨σ_12, eσ_12, hF⟩ := nm_e2 hF
    refine r_putSN C hw hS (okS_of (by decide)) 0 (by decide) rfl rfl (tyX5_ok 0 (by decide)) rfl rfl 9 rfl dX0_shaft_23 eσ_12 (fun H locs hw hS => ?_)
    refine lv_iload_n hx hb dX0_shaft_26 rfl (lv_at hl 0 rfl) ?_
    exact r_iret C hw hS hF dX0_shaft_27
  · have hF := it_e hF c_10
    refine lv_iconst (v := (-1 : Int32)) hx hb dX0_shaft_8 (by decide) ?_
    exact r_iret C hw hS hF dX0_shaft_9
abbrev rmX0_swap : Room := { frames := 12, cells := 0, slots := 0, locals := 307 }
noncomputable def B_X0_swap_39 (N : Nat) (K23 : Int32 → Int32 → Int32 → SS → Option (Int32 × SS)) (IH : Int32 → Int32 → Int32 → Int32 → SS → Option (Int32 × SS)) (x1 : Int32) (x2 : Int32) (x3 : Int32) (x4 : Int32) (σ : SS) : Option (Int32 × SS) :=
  if (gi σ (iS 0) 33) ≤ x4 then
    nm (x3 + (1 : Int32)) fun x_36 =>
    K23 x1 x2 x_36 σ
  else
    bd (F_X5_as N 1 0 σ) fun r_37 σ_38 =>
    gd (inR x4 16) <|
    gd (inR x3 16) <|
    nm (si σ_38 (iAA 1) x3.toNatClampNeg (vp_nar .short (gi σ_38 (iAA 0) x4.toNatClampNeg))) fun σ_42 =>
    gd (inR x3 16) <|
    gd (inR x4 16) <|
    nm (si σ_42 (iAA 1) x4.toNatClampNeg (vp_nar .short (gi σ_42 (iAA 0) x3.toNatClampNeg))) fun σ_45 =>
    bd (F_X0_doneByTried N x1 σ_45) fun r_46 σ_47 =>
    bd (F_X0_judges N (((100 : Int32) * x3) + x4) r_46 σ_47) fun r_49 σ_50 =>
    nm (x4 + (1 : Int32)) fun x_52 =>
    IH x1 x2 x3 x_52 σ_50
noncomputable def F_X0_swap_39 (N : Nat) (K23 : Int32 → Int32 → Int32 → SS → Option (Int32 × SS)) (n : Nat) : Int32 → Int32 → Int32 → Int32 → SS → Option (Int32 × SS) := Nat.rec (fun _ _ _ _ _ => none) (fun _ IH => B_X0_swap_39 N K23 IH) n
set_option maxRecDepth 100000 in
theorem w_X0_swap_39 {p : Program} {l : Launch} {e : Env} {s : State} {m : MethodId} {args : Array Value} {below : List Frame} {meth : Method} {c : Code} {G : GG} {rd : Bool} {q : Nat → Nat} {N : Nat} {r : Int32} {σ' : SS} (C : cx p s m args meth c cX0_swap 5 RX0 (some .int) G) {K23 : Int32 → Int32 → Int32 → SS → Option (Int32 × SS)} (HK23 : ∀ (x1 : Int32) (x2 : Int32) (x3 : Int32) (σ : SS) (H : Heap) (locs : List Loc) (ls : Array Slot), K23 x1 x2 x3 σ = some (r, σ') → wx G rd q σ H → va_S (fa G) s.heap H locs → lv_has ls 5 [(0, .ref (q 0)), (1, .int x1), (2, .int x2), (3, .int x3)] → W p l e rmX0_swap s m args below meth c H locs 0 0 (MQ below (qxi G rd q σ' r) args s 0 0 (fa G)) (F0 m 23 ls [])) : ∀ (n : Nat), ∀ (x1 : Int32) (x2 : Int32) (x3 : Int32) (x4 : Int32) (σ : SS) (H : Heap) (locs : List Loc) (ls : Array Slot), F_X0_swap_39 N K23 n x1 x2 x3 x4 σ = some (r, σ') → wx G rd q σ H → va_S (fa G) s.heap H locs → lv_has ls 5 [(0, .ref (q 0)), (1, .int x1), (2, .int x2), (3, .int x3), (4, .int x4)] → W p l e rmX0_swap s m args below meth c H locs 0 0 (MQ below (qxi G rd q σ' r) args s 0 0 (fa G)) (F0 m 39 ls []) := by
  obtain ⟨hx, hb, hml, hown, hts, -, -, -, -⟩ := id C
  intro n
  induction n with
  | zero =>
    intro x1 x2 x3 x4 σ H locs ls hF hw hS hl
    cases hF
  | succ n ih =>
    intro x1 x2 x3 x4 σ H locs ls hF hw hS hl
    have hF : B_X0_swap_39 N K23 (F_X0_swap_39 N K23 n) x1 x2 x3 x4 σ = some (r, σ') := hF
    unfold B_X0_swap_39 at hF
    refine lv_iload hx hb dX0_swap_39 (lv_at hl 4 rfl) ?_
    refine lv_aload_n hx hb dX0_swap_41 rfl (lv_at hl 0 rfl) ?_
    refine r_get0 C hw 1 (by decide) rfl (v := .ref (q (iS 0))) rfl q219 dX0_swap_42 ?_
    refine r_getSN C hw (okS_of (by decide)) 4 (by decide) rfl (v := .int (gi σ (iS 0) 33)) rfl 15 rfl dX0_swap_45 ?_
    refine lv_icmp_ge (tgt := 122) hx hb dX0_swap_48 (by decide) (fun c_35 => ?_) (fun c_35 => ?_)
    · have hF := it_e hF c_35
      obtain ⟨x_36, ex_36, hF⟩ := nm_e2 hF
      refine lv_iinc (v := x_36) (lv' := [(3, .int x_36), (0, .ref (q 0)), (1, .int x1), (2, .int x2), (4, .int x4)]) hx hb dX0_swap_122 hl (k := 3) rfl (by rw [ex_36]; rfl) (by decide) rfl (fun ls hl => ?_)
      refine lv_goto (tgt := 23) hx hb dX0_swap_125 (by decide) ?_
      exact HK23 _ _ _ _ _ _ _ hF hw hS (lv_sub hl [1, 2, 3, 0] rfl)
    · have hF := if_e hF c_35
      refine lv_aload_n hx hb dX0_swap_51 rfl (lv_at hl 0 rfl) ?_
      refine r_get0 C hw 2 (by decide) rfl (v := .ref (q (iS 1))) rfl q220 dX0_swap_52 ?_
      refine lv_aload_n hx hb dX0_swap_55 rfl (lv_at hl 0 rfl) ?_
      refine r_get0 C hw 1 (by decide) rfl (v := .ref (q (iS 0))) rfl q219 dX0_swap_56 ?_
      obtain ⟨r_37, σ_38, h_39, hF⟩ := bd_e hF
      refine r_callVv (As := [.ref (q (iS 0))]) (rest := []) (i := iS 1) C hw hS (wi_S (okS_of (by decide))) (tm_S _ _) (ci := 5) rfl (met_X5_as l G rd q (okS_of (by decide)) (okS_of (by decide)) h_39) (cwV 1 hts (lw_V q521 q522 q523 q62 q524) rfl rfl rfl (by decide +kernel) ⟨Nat.le_of_ble_eq_true rfl, Nat.le_of_ble_eq_true rfl⟩) rfl hl.1 rfl (Nat.le_of_ble_eq_true rfl) ⟨Nat.le_refl _, Nat.le_refl _⟩ dX0_swap_59 (fun H locs hw hS => ?_)
      refine lv_aload_n hx hb dX0_swap_62 rfl (lv_at hl 0 rfl) ?_
      refine r_get0 C hw 2 (by decide) rfl (v := .ref (q (iS 1))) rfl q220 dX0_swap_63 ?_
      refine r_getSN C hw (okS_of (by decide)) 5 (by decide) rfl (v := .ref (q (iAA 1))) rfl 17 rfl dX0_swap_66 ?_
      refine lv_iload_n hx hb dX0_swap_69 rfl (lv_at hl 3 rfl) ?_
      refine lv_aload_n hx hb dX0_swap_70 rfl (lv_at hl 0 rfl) ?_
      refine r_get0 C hw 1 (by decide) rfl (v := .ref (q (iS 0))) rfl q219 dX0_swap_71 ?_
      refine r_getSN C hw (okS_of (by decide)) 5 (by decide) rfl (v := .ref (q (iAA 0))) rfl 17 rfl dX0_swap_74 ?_
      refine lv_iload hx hb dX0_swap_77 (lv_at hl 4 rfl) ?_
      obtain ⟨h_40, hF⟩ := gd_e hF
      refine r_sald (i := iAA 0) (n := 16) (g := (iAA 0)) (st := 0) C hw (wi_AA (okS_of (by decide))) (tm_AA _ _) h_40 dX0_swap_79 ?_
      obtain ⟨h_41, hF⟩ := gd_e hF
      obtain ⟨σ_42, eσ_42, hF⟩ := nm_e2 hF
      refine r_sast (i := iAA 1) (n := 16) (g := (iAA 1)) (st := 0) C hw hS (wi_AA (okS_of (by decide))) (tm_AA _ _) ho_AA h_41 dX0_swap_80 eσ_42 (fun H locs hw hS => ?_)
      refine lv_aload_n hx hb dX0_swap_81 rfl (lv_at hl 0 rfl) ?_
      refine r_get0 C hw 2 (by decide) rfl (v := .ref (q (iS 1))) rfl q220 dX0_swap_82 ?_
      refine r_getSN C hw (okS_of (by decide)) 5 (by decide) rfl (v := .ref (q (iAA 1))) rfl 17 rfl dX0_swap_85 ?_
      refine lv_iload hx hb dX0_swap_88 (lv_at hl 4 rfl) ?_
      refine lv_aload_n hx hb dX0_swap_90 rfl (lv_at hl 0 rfl) ?_
      refine r_get0 C hw 1 (by decide) rfl (v := .ref (q (iS 0))) rfl q219 dX0_swap_91 ?_
      refine r_getSN C hw (okS_of (by decide)) 5 (by decide) rfl (v := .ref (q (iAA 0))) rfl 17 rfl dX0_swap_94 ?_
      refine lv_iload_n hx hb dX0_swap_97 rfl (lv_at hl 3 rfl) ?_
      obtain ⟨h_43, hF⟩ := gd_e hF
      refine r_sald (i := iAA 0) (n := 16) (g := (iAA 0)) (st := 0) C hw (wi_AA (okS_of (by decide))) (tm_AA _ _) h_43 dX0_swap_98 ?_
      obtain ⟨h_44, hF⟩ := gd_e hF
      obtain ⟨σ_45, eσ_45, hF⟩ := nm_e2 hF
      refine r_sast (i := iAA 1) (n := 16) (g := (iAA 1)) (st := 0) C hw hS (wi_AA (okS_of (by decide))) (tm_AA _ _) ho_AA h_44 dX0_swap_99 eσ_45 (fun H locs hw hS => ?_)
      refine lv_aload_n hx hb dX0_swap_100 rfl (lv_at hl 0 rfl) ?_
      refine lv_bipush (v := (100 : Int32)) hx hb dX0_swap_101 (by decide) ?_
      refine lv_iload_n hx hb dX0_swap_103 rfl (lv_at hl 3 rfl) ?_
      refine lv_imul hx hb dX0_swap_104 ?_
      refine lv_iload hx hb dX0_swap_105 (lv_at hl 4 rfl) ?_
      refine lv_iadd hx hb dX0_swap_107 ?_
      refine lv_aload_n hx hb dX0_swap_108 rfl (lv_at hl 0 rfl) ?_
      refine lv_iload_n hx hb dX0_swap_109 rfl (lv_at hl 1 rfl) ?_
      obtain ⟨r_46, σ_47, h_48, hF⟩ := bd_e hF
      refine r_callVi (As := [.int x1]) (rest := [.int (((100 : Int32) * x3) + x4), .ref (q 0)]) (i := 0) C hw hS (wi_lo (Or.inl (by decide))) rfl (ci := 0) rfl (met_X0_doneByTried l G rd q  h_48) (cwV 1 hts (lw_V q716 q718 qs21 q57 q719) rfl rfl rfl (by decide +kernel) ⟨Nat.le_of_ble_eq_true rfl, Nat.le_of_ble_eq_true rfl⟩) rfl hl.1 rfl (Nat.le_of_ble_eq_true rfl) ⟨Nat.le_refl _, Nat.le_refl _⟩ dX0_swap_110 (fun H locs hw hS => ?_)
      obtain ⟨r_49, σ_50, h_51, hF⟩ := bd_e hF
      refine r_callVv (As := [.int (((100 : Int32) * x3) + x4), .int r_46]) (rest := []) (i := 0) C hw hS (wi_lo (Or.inl (by decide))) rfl (ci := 0) rfl (met_X0_judges l G rd q  h_51) (cwV 2 hts (lw_V q720 q722 qs22 q57 q723) rfl rfl rfl (by decide +kernel) ⟨Nat.le_of_ble_eq_true rfl, Nat.le_of_ble_eq_true rfl⟩) rfl hl.1 rfl (Nat.le_of_ble_eq_true rfl) ⟨Nat.le_refl _, Nat.le_refl _⟩ dX0_swap_113 (fun H locs hw hS => ?_)
      obtain ⟨x_52, ex_52, hF⟩ := nm_e2 hF
      refine lv_iinc (v := x_52) (lv' := [(4, .int x_52), (0, .ref (q 0)), (1, .int x1), (2, .int x2), (3, .int x3)]) hx hb dX0_swap_116 hl (k := 4) rfl (by rw [ex_52]; rfl) (by decide) rfl (fun ls hl => ?_)
      refine lv_goto (tgt := 39) hx hb dX0_swap_119 (by decide) ?_
      exact ih _ _ _ _ _ _ _ _ hF hw hS (lv_sub hl [1, 2, 3, 4, 0] rfl)
noncomputable def B_X0_swap_23 (N : Nat) (IH : Int32 → Int32 → Int32 → SS → Option (Int32 × SS)) (x1 : Int32) (x2 : Int32) (x3 : Int32) (σ : SS) : Option (Int32 × SS) :=
  if (gi σ (iS 0) 33) ≤ x3 then
    bd (F_X0_judged N x2 σ) fun r_54 σ_55 =>
    some (r_54, σ_55)
  else
    nm (x3 + (1 : Int32)) fun x_57 =>
    F_X0_swap_39 N IH N x1 x2 x3 x_57 σ
noncomputable def F_X0_swap_23 (N : Nat) (n : Nat) : Int32 → Int32 → Int32 → SS → Option (Int32 × SS) := Nat.rec (fun _ _ _ _ => none) (fun _ IH => B_X0_swap_23 N IH) n
set_option maxRecDepth 100000 in
theorem w_X0_swap_23 {p : Program} {l : Launch} {e : Env} {s : State} {m : MethodId} {args : Array Value} {below : List Frame} {meth : Method} {c : Code} {G : GG} {rd : Bool} {q : Nat → Nat} {N : Nat} {r : Int32} {σ' : SS} (C : cx p s m args meth c cX0_swap 5 RX0 (some .int) G) : ∀ (n : Nat), ∀ (x1 : Int32) (x2 : Int32) (x3 : Int32) (σ : SS) (H : Heap) (locs : List Loc) (ls : Array Slot), F_X0_swap_23 N n x1 x2 x3 σ = some (r, σ') → wx G rd q σ H → va_S (fa G) s.heap H locs → lv_has ls 5 [(0, .ref (q 0)), (1, .int x1), (2, .int x2), (3, .int x3)] → W p l e rmX0_swap s m args below meth c H locs 0 0 (MQ below (qxi G rd q σ' r) args s 0 0 (fa G)) (F0 m 23 ls []) := by
  obtain ⟨hx, hb, hml, hown, hts, -, -, -, -⟩ := id C
  intro n
  induction n with
  | zero =>
    intro x1 x2 x3 σ H locs ls hF hw hS hl
    cases hF
  | succ n ih =>
    intro x1 x2 x3 σ H locs ls hF hw hS hl
    have hF : B_X0_swap_23 N (F_X0_swap_23 N n) x1 x2 x3 σ = some (r, σ') := hF
    unfold B_X0_swap_23 at hF
    refine lv_iload_n hx hb dX0_swap_23 rfl (lv_at hl 3 rfl) ?_
    refine lv_aload_n hx hb dX0_swap_24 rfl (lv_at hl 0 rfl) ?_
    refine r_get0 C hw 1 (by decide) rfl (v := .ref (q (iS 0))) rfl q219 dX0_swap_25 ?_
    refine r_getSN C hw (okS_of (by decide)) 4 (by decide) rfl (v := .int (gi σ (iS 0) 33)) rfl 15 rfl dX0_swap_28 ?_
    refine lv_icmp_ge (tgt := 128) hx hb dX0_swap_31 (by decide) (fun c_53 => ?_) (fun c_53 => ?_)
    · have hF := it_e hF c_53
      refine lv_aload_n hx hb dX0_swap_128 rfl (lv_at hl 0 rfl) ?_
      refine lv_iload_n hx hb dX0_swap_129 rfl (lv_at hl 2 rfl) ?_
      obtain ⟨r_54, σ_55, h_56, hF⟩ := bd_e hF
      refine r_callVi (As := [.int x2]) (rest := []) (i := 0) C hw hS (wi_lo (Or.inl (by decide))) rfl (ci := 0) rfl (met_X0_judged l G rd q  h_56) (cwV 1 hts (lw_V q724 q726 qs23 q57 q727) rfl rfl rfl (by decide +kernel) ⟨Nat.le_of_ble_eq_true rfl, Nat.le_of_ble_eq_true rfl⟩) rfl hl.1 rfl (Nat.le_of_ble_eq_true rfl) ⟨Nat.le_refl _, Nat.le_refl _⟩ dX0_swap_130 (fun H locs hw hS => ?_)
      exact r_iret C hw hS hF dX0_swap_133
    · have hF := if_e hF c_53
      refine lv_iload_n hx hb dX0_swap_34 rfl (lv_at hl 3 rfl) ?_
      refine lv_iconst (v := (1 : Int32)) hx hb dX0_swap_35 (by decide) ?_
      refine lv_iadd hx hb dX0_swap_36 ?_
      obtain ⟨x_57, ex_57, hF⟩ := nm_e2 hF
      refine r_topi ex_57 ?_
      refine lv_istore (lv' := [(4, .int x_57), (0, .ref (q 0)), (1, .int x1), (2, .int x2), (3, .int x3)]) hx hb dX0_swap_37 hl (by decide) rfl (fun ls hl => ?_)
      exact w_X0_swap_39 C  ih N _ _ _ _ _ _ _ _ hF hw hS (lv_sub hl [1, 2, 3, 4, 0] rfl)
noncomputable def F_X0_swap (N : Nat) (x1 : Int32) (x2 : Int32) (σ : SS) : Option (Int32 × SS) :=
  bd (F_X0_isFar N x1 σ) fun r_58 σ_59 =>
  if r_58 = (0 : Int32) then
    some ((-1 : Int32), σ_59)
  else
    bd (F_X0_isPart N x2 σ_59) fun r_62 σ_63 =>
    if r_62 = (0 : Int32) then
      some ((-1 : Int32), σ_63)
    else
      bd (F_X0_startsByNow N x1 σ_63) fun r_66 σ_67 =>
      F_X0_swap_23 N N x1 x2 (0 : Int32) σ_67
set_option maxRecDepth 100000 in
theorem met_X0_swap (l : Launch) (G : GG) (rd : Bool) (q : Nat → Nat) {N : Nat} {x1 : Int32} {x2 : Int32} {σ σ' : SS} {r : Int32} (hF : F_X0_swap N x1 x2 σ = some (r, σ')) : Met l yX0_swap (ws_ yX0_swap cX0_swap 5 (some .int)) rmX0_swap (pcx G rd q σ [.ref (q 0), .int x1, .int x2]) (qxi G rd q σ' r) 0 0 (fa G) := by
  refine met_of (by decide) (Nat.le_of_ble_eq_true rfl) ?_
  intro p e s m below meth c C H locs ls hw hS hl
  obtain ⟨hx, hb, hml, hown, hts, -, -, -, -⟩ := id C
  have hl : lv_has ls 5 [(0, .ref (q 0)), (1, .int x1), (2, .int x2)] := hl
  unfold F_X0_swap at hF
  refine lv_iload_n hx hb dX0_swap_0 rfl (lv_at hl 1 rfl) ?_
  obtain ⟨r_58, σ_59, h_60, hF⟩ := bd_e hF
  refine r_callSi (As := [.int x1]) (rest := []) C hw hS (met_X0_isFar l G rd q  h_60) (cwS 1 hts (lw_S q679 q680 q57 q681) rfl rfl rfl (by decide +kernel) ⟨Nat.le_of_ble_eq_true rfl, Nat.le_of_ble_eq_true rfl⟩) rfl hl.1 rfl (Nat.le_of_ble_eq_true rfl) ⟨Nat.le_refl _, Nat.le_refl _⟩ dX0_swap_1 (fun H locs hw hS => ?_)
  refine lv_if_eq (tgt := 14) hx hb dX0_swap_4 (by decide) (fun c_61 => ?_) (fun c_61 => ?_)
  · have hF := it_e hF c_61
    refine lv_iconst (v := (-1 : Int32)) hx hb dX0_swap_14 (by decide) ?_
    exact r_iret C hw hS hF dX0_swap_15
  · have hF := if_e hF c_61
    refine lv_iload_n hx hb dX0_swap_7 rfl (lv_at hl 2 rfl) ?_
    obtain ⟨r_62, σ_63, h_64, hF⟩ := bd_e hF
    refine r_callSi (As := [.int x2]) (rest := []) C hw hS (met_X0_isPart l G rd q  h_64) (cwS 1 hts (lw_S q709 q710 q57 q711) rfl rfl rfl (by decide +kernel) ⟨Nat.le_of_ble_eq_true rfl, Nat.le_of_ble_eq_true rfl⟩) rfl hl.1 rfl (Nat.le_of_ble_eq_true rfl) ⟨Nat.le_refl _, Nat.le_refl _⟩ dX0_swap_8 (fun H locs hw hS => ?_)
    refine lv_if_ne (tgt := 16) hx hb dX0_swap_11 (by decide) (fun c_65 => ?_) (fun c_65 => ?_)
    · have hF := if_e hF c_65
      refine lv_aload_n hx hb dX0_swap_16 rfl (lv_at hl 0 rfl) ?_
      refine lv_iload_n hx hb dX0_swap_17 rfl (lv_at hl 1 rfl) ?_
      obtain ⟨r_66, σ_67, h_68, hF⟩ := bd_e hF
      refine r_callVv (As := [.int x1]) (rest := []) (i := 0) C hw hS (wi_lo (Or.inl (by decide))) rfl (ci := 0) rfl (met_X0_startsByNow l G rd q  h_68) (cwV 1 hts (lw_V q740 q742 qs24 q57 q743) rfl rfl rfl (by decide +kernel) ⟨Nat.le_of_ble_eq_true rfl, Nat.le_of_ble_eq_true rfl⟩) rfl hl.1 rfl (Nat.le_of_ble_eq_true rfl) ⟨Nat.le_refl _, Nat.le_refl _⟩ dX0_swap_18 (fun H locs hw hS => ?_)
      refine lv_iconst (v := (0 : Int32)) hx hb dX0_swap_21 (by decide) ?_
      refine lv_istore_n (lv' := [(3, .int (0 : Int32)), (0, .ref (q 0)), (1, .int x1), (2, .int x2)]) hx hb dX0_swap_22 rfl hl (by decide) rfl (fun ls hl => ?_)
      exact w_X0_swap_23 C   N _ _ _ _ _ _ _ hF hw hS (lv_sub hl [1, 2, 3, 0] rfl)
    · have hF := it_e hF c_65
      refine lv_iconst (v := (-1 : Int32)) hx hb dX0_swap_14 (by decide) ?_
      exact r_iret C hw hS hF dX0_swap_15
abbrev rmX0_ticks : Room := { frames := 10, cells := 0, slots := 0, locals := 265 }
noncomputable def F_X0_ticks (N : Nat) (x1 : Int32) (σ : SS) : Option (Int32 × SS) :=
  bd (F_X0_in N x1.toInt64 (0 : Int64) (100 : Int64) σ) fun r_9 σ_10 =>
  if r_9 = (0 : Int32) then
    some ((-1 : Int32), σ_10)
  else
    if ((gi σ_10 (iS 0) 36) + x1) ≤ (9999 : Int32) then
      bd (F_X0_ticksGo N 0 x1 σ_10) fun r_14 σ_15 =>
      some (gi σ_15 0 7, σ_15)
    else
      some ((-3 : Int32), σ_10)
set_option maxRecDepth 100000 in
theorem met_X0_ticks (l : Launch) (G : GG) (rd : Bool) (q : Nat → Nat) {N : Nat} {x1 : Int32} {σ σ' : SS} {r : Int32} (hF : F_X0_ticks N x1 σ = some (r, σ')) : Met l yX0_ticks (ws_ yX0_ticks cX0_ticks 2 (some .int)) rmX0_ticks (pcx G rd q σ [.ref (q 0), .int x1]) (qxi G rd q σ' r) 0 0 (fa G) := by
  refine met_of (by decide) (Nat.le_of_ble_eq_true rfl) ?_
  intro p e s m below meth c C H locs ls hw hS hl
  obtain ⟨hx, hb, hml, hown, hts, -, -, -, -⟩ := id C
  have hl : lv_has ls 2 [(0, .ref (q 0)), (1, .int x1)] := hl
  unfold F_X0_ticks at hF
  refine lv_iload_n hx hb dX0_ticks_0 rfl (lv_at hl 1 rfl) ?_
  refine lv_i2l hx hb dX0_ticks_1 rfl ?_
  refine lv_lconst (v := (0 : Int64)) hx hb dX0_ticks_2 (by decide) ?_
  refine lv_ldc2 (v := (100 : Int64)) hx hb hown (hts _ q657) dX0_ticks_3 ?_
  obtain ⟨r_9, σ_10, h_11, hF⟩ := bd_e hF
  refine r_callSi (As := [.long x1.toInt64, .long (0 : Int64), .long (100 : Int64)]) (rest := []) C hw hS (met_X0_in l G rd q  h_11) (cwS 3 hts (lw_S q294 q295 q57 q296) rfl rfl rfl (by decide +kernel) ⟨Nat.le_of_ble_eq_true rfl, Nat.le_of_ble_eq_true rfl⟩) rfl hl.1 rfl (Nat.le_of_ble_eq_true rfl) ⟨Nat.le_refl _, Nat.le_refl _⟩ dX0_ticks_6 (fun H locs hw hS => ?_)
  refine lv_if_ne (tgt := 14) hx hb dX0_ticks_9 (by decide) (fun c_12 => ?_) (fun c_12 => ?_)
  · have hF := if_e hF c_12
    refine lv_aload_n hx hb dX0_ticks_14 rfl (lv_at hl 0 rfl) ?_
    refine r_get0 C hw 1 (by decide) rfl (v := .ref (q (iS 0))) rfl q219 dX0_ticks_15 ?_
    refine r_getSN C hw (okS_of (by decide)) 6 (by decide) rfl (v := .int (gi σ_10 (iS 0) 36)) rfl 18 rfl dX0_ticks_18 ?_
    refine lv_iload_n hx hb dX0_ticks_21 rfl (lv_at hl 1 rfl) ?_
    refine lv_iadd hx hb dX0_ticks_22 ?_
    refine lv_sipush (v := (9999 : Int32)) hx hb dX0_ticks_23 (by decide) ?_
    refine lv_icmp_le (tgt := 32) hx hb dX0_ticks_26 (by decide) (fun c_13 => ?_) (fun c_13 => ?_)
    · have hF := it_e hF c_13
      refine lv_aload_n hx hb dX0_ticks_32 rfl (lv_at hl 0 rfl) ?_
      refine lv_aload_n hx hb dX0_ticks_33 rfl (lv_at hl 0 rfl) ?_
      refine r_get0 C hw 1 (by decide) rfl (v := .ref (q (iS 0))) rfl q219 dX0_ticks_34 ?_
      refine lv_iload_n hx hb dX0_ticks_37 rfl (lv_at hl 1 rfl) ?_
      obtain ⟨r_14, σ_15, h_16, hF⟩ := bd_e hF
      refine r_callVv (As := [.ref (q (iS 0)), .int x1]) (rest := []) (i := 0) C hw hS (wi_lo (Or.inl (by decide))) rfl (ci := 0) rfl (met_X0_ticksGo l G rd q (okS_of (by decide)) h_16) (cwV 2 hts (lw_V q658 q660 qs16 q57 q661) rfl rfl rfl (by decide +kernel) ⟨Nat.le_of_ble_eq_true rfl, Nat.le_of_ble_eq_true rfl⟩) rfl hl.1 rfl (Nat.le_of_ble_eq_true rfl) ⟨Nat.le_refl _, Nat.le_refl _⟩ dX0_ticks_38 (fun H locs hw hS => ?_)
      refine lv_aload_n hx hb dX0_ticks_41 rfl (lv_at hl 0 rfl) ?_
      refine r_get0 C hw 7 (by decide) rfl (v := .int (gi σ_15 0 7)) rfl q225 dX0_ticks_42 ?_
      exact r_iret C hw hS hF dX0_ticks_45
    · have hF := if_e hF c_13
      refine lv_bipush (v := (-3 : Int32)) hx hb dX0_ticks_29 (by decide) ?_
      exact r_iret C hw hS hF dX0_ticks_31
  · have hF := it_e hF c_12
    refine lv_iconst (v := (-1 : Int32)) hx hb dX0_ticks_12 (by decide) ?_
    exact r_iret C hw hS hF dX0_ticks_13
abbrev rmX0_torn : Room := { frames := 1, cells := 0, slots := 0, locals := 60 }
noncomputable def F_X0_torn (N : Nat)  (σ : SS) : Option (Int32 × SS) :=
  some (gi σ 0 22, σ)
set_option maxRecDepth 100000 in
theorem met_X0_torn (l : Launch) (G : GG) (rd : Bool) (q : Nat → Nat) {N : Nat} {σ σ' : SS} {r : Int32} (hF : F_X0_torn N  σ = some (r, σ')) : Met l yX0_torn (ws_ yX0_torn cX0_torn 1 (some .int)) rmX0_torn (pcx G rd q σ [.ref (q 0)]) (qxi G rd q σ' r) 0 0 (fa G) := by
  refine met_of (by decide) (Nat.le_of_ble_eq_true rfl) ?_
  intro p e s m below meth c C H locs ls hw hS hl
  obtain ⟨hx, hb, hml, hown, hts, -, -, -, -⟩ := id C
  have hl : lv_has ls 1 [(0, .ref (q 0))] := hl
  unfold F_X0_torn at hF
  refine lv_aload_n hx hb dX0_torn_0 rfl (lv_at hl 0 rfl) ?_
  refine r_get0 C hw 22 (by decide) rfl (v := .int (gi σ 0 22)) rfl q241 dX0_torn_1 ?_
  exact r_iret C hw hS hF dX0_torn_4
abbrev rmX0_turn : Room := { frames := 7, cells := 0, slots := 0, locals := 194 }
noncomputable def F_X0_turn_31 (N : Nat) (x1 : Int32) (σ : SS) : Option (Int32 × SS) :=
  bd (F_X0_acts N 0 x1 (0 : Int32) σ) fun r_13 σ_14 =>
  some (gi σ_14 (iS 0) 35, σ_14)
set_option maxRecDepth 100000 in
theorem w_X0_turn_31 {p : Program} {l : Launch} {e : Env} {s : State} {m : MethodId} {args : Array Value} {below : List Frame} {meth : Method} {c : Code} {G : GG} {rd : Bool} {q : Nat → Nat} {N : Nat} {r : Int32} {σ' : SS} (C : cx p s m args meth c cX0_turn 2 RX0 (some .int) G) : ∀ (x1 : Int32) (σ : SS) (H : Heap) (locs : List Loc) (ls : Array Slot), F_X0_turn_31 N x1 σ = some (r, σ') → wx G rd q σ H → va_S (fa G) s.heap H locs → lv_has ls 2 [(0, .ref (q 0)), (1, .int x1)] → W p l e rmX0_turn s m args below meth c H locs 0 0 (MQ below (qxi G rd q σ' r) args s 0 0 (fa G)) (F0 m 31 ls []) := by
  obtain ⟨hx, hb, hml, hown, hts, -, -, -, -⟩ := id C
  intro x1 σ H locs ls hF hw hS hl
  unfold F_X0_turn_31 at hF
  refine lv_aload_n hx hb dX0_turn_31 rfl (lv_at hl 0 rfl) ?_
  refine lv_aload_n hx hb dX0_turn_32 rfl (lv_at hl 0 rfl) ?_
  refine r_get0 C hw 1 (by decide) rfl (v := .ref (q (iS 0))) rfl q219 dX0_turn_33 ?_
  refine lv_iload_n hx hb dX0_turn_36 rfl (lv_at hl 1 rfl) ?_
  refine lv_iconst (v := (0 : Int32)) hx hb dX0_turn_37 (by decide) ?_
  obtain ⟨r_13, σ_14, h_15, hF⟩ := bd_e hF
  refine r_callVv (As := [.ref (q (iS 0)), .int x1, .int (0 : Int32)]) (rest := []) (i := 0) C hw hS (wi_lo (Or.inl (by decide))) rfl (ci := 0) rfl (met_X0_acts l G rd q (okS_of (by decide)) h_15) (cwV 3 hts (lw_V q640 q642 qs13 q57 q643) rfl rfl rfl (by decide +kernel) ⟨Nat.le_of_ble_eq_true rfl, Nat.le_of_ble_eq_true rfl⟩) rfl hl.1 rfl (Nat.le_of_ble_eq_true rfl) ⟨Nat.le_refl _, Nat.le_refl _⟩ dX0_turn_38 (fun H locs hw hS => ?_)
  refine lv_aload_n hx hb dX0_turn_41 rfl (lv_at hl 0 rfl) ?_
  refine r_get0 C hw 1 (by decide) rfl (v := .ref (q (iS 0))) rfl q219 dX0_turn_42 ?_
  refine r_getSN C hw (okS_of (by decide)) 1 (by decide) rfl (v := .int (gi σ_14 (iS 0) 35)) rfl 10 rfl dX0_turn_45 ?_
  exact r_iret C hw hS hF dX0_turn_48
noncomputable def F_X0_turn (N : Nat) (x1 : Int32) (σ : SS) : Option (Int32 × SS) :=
  bd (F_X0_isTold N x1 σ) fun r_16 σ_17 =>
  if r_16 = (0 : Int32) then
    some ((-1 : Int32), σ_17)
  else
    if x1 < (200 : Int32) then
      F_X0_turn_31 N x1 σ_17
    else
      bd (F_X0_isWheel N (x1 - (200 : Int32)) σ_17) fun r_21 σ_22 =>
      if r_21 = (0 : Int32) then
        some ((-2 : Int32), σ_22)
      else
        F_X0_turn_31 N x1 σ_22
set_option maxRecDepth 100000 in
theorem met_X0_turn (l : Launch) (G : GG) (rd : Bool) (q : Nat → Nat) {N : Nat} {x1 : Int32} {σ σ' : SS} {r : Int32} (hF : F_X0_turn N x1 σ = some (r, σ')) : Met l yX0_turn (ws_ yX0_turn cX0_turn 2 (some .int)) rmX0_turn (pcx G rd q σ [.ref (q 0), .int x1]) (qxi G rd q σ' r) 0 0 (fa G) := by
  refine met_of (by decide) (Nat.le_of_ble_eq_true rfl) ?_
  intro p e s m below meth c C H locs ls hw hS hl
  obtain ⟨hx, hb, hml, hown, hts, -, -, -, -⟩ := id C
  have hl : lv_has ls 2 [(0, .ref (q 0)), (1, .int x1)] := hl
  unfold F_X0_turn at hF
  refine lv_iload_n hx hb dX0_turn_0 rfl (lv_at hl 1 rfl) ?_
  obtain ⟨r_16, σ_17, h_18, hF⟩ := bd_e hF
  refine r_callSi (As := [.int x1]) (rest := []) C hw hS (met_X0_isTold l G rd q  h_18) (cwS 1 hts (lw_S q624 q625 q57 q626) rfl rfl rfl (by decide +kernel) ⟨Nat.le_of_ble_eq_true rfl, Nat.le_of_ble_eq_true rfl⟩) rfl hl.1 rfl (Nat.le_of_ble_eq_true rfl) ⟨Nat.le_refl _, Nat.le_refl _⟩ dX0_turn_1 (fun H locs hw hS => ?_)
  refine lv_if_ne (tgt := 9) hx hb dX0_turn_4 (by decide) (fun c_19 => ?_) (fun c_19 => ?_)
  · have hF := if_e hF c_19
    refine lv_iload_n hx hb dX0_turn_9 rfl (lv_at hl 1 rfl) ?_
    refine lv_sipush (v := (200 : Int32)) hx hb dX0_turn_10 (by decide) ?_
    refine lv_icmp_lt (tgt := 31) hx hb dX0_turn_13 (by decide) (fun c_20 => ?_) (fun c_20 => ?_)
    · have hF := it_e hF c_20
      exact w_X0_turn_31 C   _ _ _ _ _ hF hw hS (lv_sub hl [0, 1] rfl)
    · have hF := if_e hF c_20
      refine lv_aload_n hx hb dX0_turn_16 rfl (lv_at hl 0 rfl) ?_
      refine lv_iload_n hx hb dX0_turn_17 rfl (lv_at hl 1 rfl) ?_
      refine lv_sipush (v := (200 : Int32)) hx hb dX0_turn_18 (by decide) ?_
      refine lv_isub hx hb dX0_turn_21 ?_
      obtain ⟨r_21, σ_22, h_23, hF⟩ := bd_e hF
      refine r_callVi (As := [.int (x1 - (200 : Int32))]) (rest := []) (i := 0) C hw hS (wi_lo (Or.inl (by decide))) rfl (ci := 0) rfl (met_X0_isWheel l G rd q  h_23) (cwV 1 hts (lw_V q552 q554 qs10 q57 q555) rfl rfl rfl (by decide +kernel) ⟨Nat.le_of_ble_eq_true rfl, Nat.le_of_ble_eq_true rfl⟩) rfl hl.1 rfl (Nat.le_of_ble_eq_true rfl) ⟨Nat.le_refl _, Nat.le_refl _⟩ dX0_turn_22 (fun H locs hw hS => ?_)
      refine lv_if_ne (tgt := 31) hx hb dX0_turn_25 (by decide) (fun c_24 => ?_) (fun c_24 => ?_)
      · have hF := if_e hF c_24
        exact w_X0_turn_31 C   _ _ _ _ _ hF hw hS (lv_sub hl [0, 1] rfl)
      · have hF := it_e hF c_24
        refine lv_bipush (v := (-2 : Int32)) hx hb dX0_turn_28 (by decide) ?_
        exact r_iret C hw hS hF dX0_turn_30
  · have hF := it_e hF c_19
    refine lv_iconst (v := (-1 : Int32)) hx hb dX0_turn_7 (by decide) ?_
    exact r_iret C hw hS hF dX0_turn_8
abbrev rmX0_when : Room := { frames := 9, cells := 0, slots := 0, locals := 242 }
noncomputable def B_X0_when_23 (N : Nat) (IH : Int32 → Int32 → SS → Option (Int32 × SS)) (x1 : Int32) (x2 : Int32) (σ : SS) : Option (Int32 × SS) :=
  if (200 : Int32) < x2 then
    some ((-4 : Int32), σ)
  else
    gd (inR x1 4) <|
    nm (x1.toNatClampNeg) fun w_18 =>
    if (gi σ (iS 1) (12 + w_18)) = (0 : Int32) then
      some (x2, σ)
    else
      bd (F_X0_tickGoes N 1 (0 : Int32) σ) fun r_20 σ_21 =>
      nm (x2 + (1 : Int32)) fun x_23 =>
      IH x1 x_23 σ_21
noncomputable def F_X0_when_23 (N : Nat) (n : Nat) : Int32 → Int32 → SS → Option (Int32 × SS) := Nat.rec (fun _ _ _ => none) (fun _ IH => B_X0_when_23 N IH) n
set_option maxRecDepth 100000 in
theorem w_X0_when_23 {p : Program} {l : Launch} {e : Env} {s : State} {m : MethodId} {args : Array Value} {below : List Frame} {meth : Method} {c : Code} {G : GG} {rd : Bool} {q : Nat → Nat} {N : Nat} {r : Int32} {σ' : SS} (C : cx p s m args meth c cX0_when 3 RX0 (some .int) G) : ∀ (n : Nat), ∀ (x1 : Int32) (x2 : Int32) (σ : SS) (H : Heap) (locs : List Loc) (ls : Array Slot), F_X0_when_23 N n x1 x2 σ = some (r, σ') → wx G rd q σ H → va_S (fa G) s.heap H locs → lv_has ls 3 [(0, .ref (q 0)), (1, .int x1), (2, .int x2)] → W p l e rmX0_when s m args below meth c H locs 0 0 (MQ below (qxi G rd q σ' r) args s 0 0 (fa G)) (F0 m 23 ls []) := by
  obtain ⟨hx, hb, hml, hown, hts, -, -, -, -⟩ := id C
  intro n
  induction n with
  | zero =>
    intro x1 x2 σ H locs ls hF hw hS hl
    cases hF
  | succ n ih =>
    intro x1 x2 σ H locs ls hF hw hS hl
    have hF : B_X0_when_23 N (F_X0_when_23 N n) x1 x2 σ = some (r, σ') := hF
    unfold B_X0_when_23 at hF
    refine lv_iload_n hx hb dX0_when_23 rfl (lv_at hl 2 rfl) ?_
    refine lv_sipush (v := (200 : Int32)) hx hb dX0_when_24 (by decide) ?_
    refine lv_icmp_gt (tgt := 62) hx hb dX0_when_27 (by decide) (fun c_16 => ?_) (fun c_16 => ?_)
    · have hF := it_e hF c_16
      refine lv_bipush (v := (-4 : Int32)) hx hb dX0_when_62 (by decide) ?_
      exact r_iret C hw hS hF dX0_when_64
    · have hF := if_e hF c_16
      refine lv_aload_n hx hb dX0_when_30 rfl (lv_at hl 0 rfl) ?_
      refine r_get0 C hw 2 (by decide) rfl (v := .ref (q (iS 1))) rfl q220 dX0_when_31 ?_
      refine r_getSN C hw (okS_of (by decide)) 3 (by decide) rfl (v := .ref (q (iWA 1))) rfl 13 rfl dX0_when_34 ?_
      refine lv_iload_n hx hb dX0_when_37 rfl (lv_at hl 1 rfl) ?_
      obtain ⟨h_17, hF⟩ := gd_e hF
      obtain ⟨w_18, ew_18, hF⟩ := nm_e2 hF
      have hw_18 : w_18 < 4 := lt_of ew_18 (inR_lt h_17)
      refine r_aald (i := iWA 1) (t := 5) (n := 4) (g := (43 + 10 * 1)) (st := 1) C hw (wi_WA (okS_of (by decide))) (tm_WA _ _) rfl h_17 (ha_W ew_18) dX0_when_38 ?_
      refine r_getWN C hw (okS_of (by decide)) hw_18 3 (by decide) rfl (v := .int (gi σ (iS 1) (12 + w_18))) rfl 7 rfl dX0_when_39 ?_
      refine lv_if_ne (tgt := 47) hx hb dX0_when_42 (by decide) (fun c_19 => ?_) (fun c_19 => ?_)
      · have hF := if_e hF c_19
        refine lv_aload_n hx hb dX0_when_47 rfl (lv_at hl 0 rfl) ?_
        refine lv_aload_n hx hb dX0_when_48 rfl (lv_at hl 0 rfl) ?_
        refine r_get0 C hw 2 (by decide) rfl (v := .ref (q (iS 1))) rfl q220 dX0_when_49 ?_
        refine lv_iconst (v := (0 : Int32)) hx hb dX0_when_52 (by decide) ?_
        obtain ⟨r_20, σ_21, h_22, hF⟩ := bd_e hF
        refine r_callVv (As := [.ref (q (iS 1)), .int (0 : Int32)]) (rest := []) (i := 0) C hw hS (wi_lo (Or.inl (by decide))) rfl (ci := 0) rfl (met_X0_tickGoes l G rd q (okS_of (by decide)) h_22) (cwV 2 hts (lw_V q666 q668 qs18 q57 q669) rfl rfl rfl (by decide +kernel) ⟨Nat.le_of_ble_eq_true rfl, Nat.le_of_ble_eq_true rfl⟩) rfl hl.1 rfl (Nat.le_of_ble_eq_true rfl) ⟨Nat.le_refl _, Nat.le_refl _⟩ dX0_when_53 (fun H locs hw hS => ?_)
        obtain ⟨x_23, ex_23, hF⟩ := nm_e2 hF
        refine lv_iinc (v := x_23) (lv' := [(2, .int x_23), (0, .ref (q 0)), (1, .int x1)]) hx hb dX0_when_56 hl (k := 2) rfl (by rw [ex_23]; rfl) (by decide) rfl (fun ls hl => ?_)
        refine lv_goto (tgt := 23) hx hb dX0_when_59 (by decide) ?_
        exact ih _ _ _ _ _ _ hF hw hS (lv_sub hl [1, 2, 0] rfl)
      · have hF := it_e hF c_19
        refine lv_iload_n hx hb dX0_when_45 rfl (lv_at hl 2 rfl) ?_
        exact r_iret C hw hS hF dX0_when_46
noncomputable def F_X0_when (N : Nat) (x1 : Int32) (σ : SS) : Option (Int32 × SS) :=
  bd (F_X0_isWheel N x1 σ) fun r_24 σ_25 =>
  if r_24 = (0 : Int32) then
    some ((-1 : Int32), σ_25)
  else
    bd (F_X5_as N 1 0 σ_25) fun r_28 σ_29 =>
    F_X0_when_23 N N x1 (0 : Int32) σ_29
set_option maxRecDepth 100000 in
theorem met_X0_when (l : Launch) (G : GG) (rd : Bool) (q : Nat → Nat) {N : Nat} {x1 : Int32} {σ σ' : SS} {r : Int32} (hF : F_X0_when N x1 σ = some (r, σ')) : Met l yX0_when (ws_ yX0_when cX0_when 3 (some .int)) rmX0_when (pcx G rd q σ [.ref (q 0), .int x1]) (qxi G rd q σ' r) 0 0 (fa G) := by
  refine met_of (by decide) (Nat.le_of_ble_eq_true rfl) ?_
  intro p e s m below meth c C H locs ls hw hS hl
  obtain ⟨hx, hb, hml, hown, hts, -, -, -, -⟩ := id C
  have hl : lv_has ls 3 [(0, .ref (q 0)), (1, .int x1)] := hl
  unfold F_X0_when at hF
  refine lv_aload_n hx hb dX0_when_0 rfl (lv_at hl 0 rfl) ?_
  refine lv_iload_n hx hb dX0_when_1 rfl (lv_at hl 1 rfl) ?_
  obtain ⟨r_24, σ_25, h_26, hF⟩ := bd_e hF
  refine r_callVi (As := [.int x1]) (rest := []) (i := 0) C hw hS (wi_lo (Or.inl (by decide))) rfl (ci := 0) rfl (met_X0_isWheel l G rd q  h_26) (cwV 1 hts (lw_V q552 q554 qs10 q57 q555) rfl rfl rfl (by decide +kernel) ⟨Nat.le_of_ble_eq_true rfl, Nat.le_of_ble_eq_true rfl⟩) rfl hl.1 rfl (Nat.le_of_ble_eq_true rfl) ⟨Nat.le_refl _, Nat.le_refl _⟩ dX0_when_2 (fun H locs hw hS => ?_)
  refine lv_if_ne (tgt := 10) hx hb dX0_when_5 (by decide) (fun c_27 => ?_) (fun c_27 => ?_)
  · have hF := if_e hF c_27
    refine lv_aload_n hx hb dX0_when_10 rfl (lv_at hl 0 rfl) ?_
    refine r_get0 C hw 2 (by decide) rfl (v := .ref (q (iS 1))) rfl q220 dX0_when_11 ?_
    refine lv_aload_n hx hb dX0_when_14 rfl (lv_at hl 0 rfl) ?_
    refine r_get0 C hw 1 (by decide) rfl (v := .ref (q (iS 0))) rfl q219 dX0_when_15 ?_
    obtain ⟨r_28, σ_29, h_30, hF⟩ := bd_e hF
    refine r_callVv (As := [.ref (q (iS 0))]) (rest := []) (i := iS 1) C hw hS (wi_S (okS_of (by decide))) (tm_S _ _) (ci := 5) rfl (met_X5_as l G rd q (okS_of (by decide)) (okS_of (by decide)) h_30) (cwV 1 hts (lw_V q521 q522 q523 q62 q524) rfl rfl rfl (by decide +kernel) ⟨Nat.le_of_ble_eq_true rfl, Nat.le_of_ble_eq_true rfl⟩) rfl hl.1 rfl (Nat.le_of_ble_eq_true rfl) ⟨Nat.le_refl _, Nat.le_refl _⟩ dX0_when_18 (fun H locs hw hS => ?_)
    refine lv_iconst (v := (0 : Int32)) hx hb dX0_when_21 (by decide) ?_
    refine lv_istore_n (lv' := [(2, .int (0 : Int32)), (0, .ref (q 0)), (1, .int x1)]) hx hb dX0_when_22 rfl hl (by decide) rfl (fun ls hl => ?_)
    exact w_X0_when_23 C   N _ _ _ _ _ _ hF hw hS (lv_sub hl [1, 2, 0] rfl)
  · have hF := it_e hF c_27
    refine lv_iconst (v := (-1 : Int32)) hx hb dX0_when_8 (by decide) ?_
    exact r_iret C hw hS hF dX0_when_9
