/-! lifted: FlyWheelsModel (3) -/
set_option maxRecDepth 100000
abbrev rmX8_kind : Room := { frames := 6, cells := 0, slots := 0, locals := 187 }
noncomputable def F_X8_kind (N : Nat) (x1 : Int32) (x2 : Int32) (x3 : Int32) (σ : SS) : Option (Int32 × SS) :=
  bd (F_X8_isWheel N x1 σ) fun r_16 σ_17 =>
  if r_16 = (0 : Int32) then
    some ((-1 : Int32), σ_17)
  else
    bd (F_X8_isLong N x2 σ_17) fun r_20 σ_21 =>
    if r_20 = (0 : Int32) then
      some ((-1 : Int32), σ_21)
    else
      bd (F_X8_in N x3.toInt64 (0 : Int64) (1 : Int64) σ_21) fun r_24 σ_25 =>
      if r_24 = (0 : Int32) then
        some ((-1 : Int32), σ_25)
      else
        bd (F_X8_mostAt N x1 (0 : Int32) (3 : Int32) x2 x3 σ_25) fun r_28 σ_29 =>
        some (r_28, σ_29)
set_option maxRecDepth 100000 in
theorem met_X8_kind (l : Launch) (G : GG) (rd : Bool) (q : Nat → Nat) {N : Nat} {x1 : Int32} {x2 : Int32} {x3 : Int32} {σ σ' : SS} {r : Int32} (hF : F_X8_kind N x1 x2 x3 σ = some (r, σ')) : Met l yX8_kind (ws_ yX8_kind cX8_kind 4 (some .int)) rmX8_kind (pcx G rd q σ [.ref (q 1), .int x1, .int x2, .int x3]) (qxi G rd q σ' r) 0 0 (fa G) := by
  refine met_of (by decide) (Nat.le_of_ble_eq_true rfl) ?_
  intro p e s m below meth c C H locs ls hw hS hl
  obtain ⟨hx, hb, hml, hown, hts, -, -, -, -⟩ := id C
  have hl : lv_has ls 4 [(0, .ref (q 1)), (1, .int x1), (2, .int x2), (3, .int x3)] := hl
  unfold F_X8_kind at hF
  refine lv_aload_n hx hb dX8_kind_0 rfl (lv_at hl 0 rfl) ?_
  refine lv_iload_n hx hb dX8_kind_1 rfl (lv_at hl 1 rfl) ?_
  obtain ⟨r_16, σ_17, h_18, hF⟩ := bd_e hF
  refine r_callVi (As := [.int x1]) (rest := []) (i := 1) C hw hS (wi_lo (Or.inl (by decide))) rfl (ci := 8) rfl (met_X8_isWheel l G rd q  h_18) (cwV 1 hts (lw_V q1100 q1102 qs39 q65 q1103) rfl rfl rfl (by decide +kernel) ⟨Nat.le_of_ble_eq_true rfl, Nat.le_of_ble_eq_true rfl⟩) rfl hl.1 rfl (Nat.le_of_ble_eq_true rfl) ⟨Nat.le_refl _, Nat.le_refl _⟩ dX8_kind_2 (fun H locs hw hS => ?_)
  refine lv_if_eq (tgt := 37) hx hb dX8_kind_5 (by decide) (fun c_19 => ?_) (fun c_19 => ?_)
  · have hF := it_e hF c_19
    refine lv_iconst (v := (-1 : Int32)) hx hb dX8_kind_37 (by decide) ?_
    exact r_iret C hw hS hF dX8_kind_38
  · have hF := if_e hF c_19
    refine lv_iload_n hx hb dX8_kind_8 rfl (lv_at hl 2 rfl) ?_
    obtain ⟨r_20, σ_21, h_22, hF⟩ := bd_e hF
    refine r_callSi (As := [.int x2]) (rest := []) C hw hS (met_X8_isLong l G rd q  h_22) (cwS 1 hts (lw_S q1183 q1184 q65 q1185) rfl rfl rfl (by decide +kernel) ⟨Nat.le_of_ble_eq_true rfl, Nat.le_of_ble_eq_true rfl⟩) rfl hl.1 rfl (Nat.le_of_ble_eq_true rfl) ⟨Nat.le_refl _, Nat.le_refl _⟩ dX8_kind_9 (fun H locs hw hS => ?_)
    refine lv_if_eq (tgt := 37) hx hb dX8_kind_12 (by decide) (fun c_23 => ?_) (fun c_23 => ?_)
    · have hF := it_e hF c_23
      refine lv_iconst (v := (-1 : Int32)) hx hb dX8_kind_37 (by decide) ?_
      exact r_iret C hw hS hF dX8_kind_38
    · have hF := if_e hF c_23
      refine lv_iload_n hx hb dX8_kind_15 rfl (lv_at hl 3 rfl) ?_
      refine lv_i2l hx hb dX8_kind_16 rfl ?_
      refine lv_lconst (v := (0 : Int64)) hx hb dX8_kind_17 (by decide) ?_
      refine lv_lconst (v := (1 : Int64)) hx hb dX8_kind_18 (by decide) ?_
      obtain ⟨r_24, σ_25, h_26, hF⟩ := bd_e hF
      refine r_callSi (As := [.long x3.toInt64, .long (0 : Int64), .long (1 : Int64)]) (rest := []) C hw hS (met_X8_in l G rd q  h_26) (cwS 3 hts (lw_S q1040 q1041 q65 q1042) rfl rfl rfl (by decide +kernel) ⟨Nat.le_of_ble_eq_true rfl, Nat.le_of_ble_eq_true rfl⟩) rfl hl.1 rfl (Nat.le_of_ble_eq_true rfl) ⟨Nat.le_refl _, Nat.le_refl _⟩ dX8_kind_19 (fun H locs hw hS => ?_)
      refine lv_if_eq (tgt := 37) hx hb dX8_kind_22 (by decide) (fun c_27 => ?_) (fun c_27 => ?_)
      · have hF := it_e hF c_27
        refine lv_iconst (v := (-1 : Int32)) hx hb dX8_kind_37 (by decide) ?_
        exact r_iret C hw hS hF dX8_kind_38
      · have hF := if_e hF c_27
        refine lv_aload_n hx hb dX8_kind_25 rfl (lv_at hl 0 rfl) ?_
        refine lv_iload_n hx hb dX8_kind_26 rfl (lv_at hl 1 rfl) ?_
        refine lv_iconst (v := (0 : Int32)) hx hb dX8_kind_27 (by decide) ?_
        refine lv_iconst (v := (3 : Int32)) hx hb dX8_kind_28 (by decide) ?_
        refine lv_iload_n hx hb dX8_kind_29 rfl (lv_at hl 2 rfl) ?_
        refine lv_iload_n hx hb dX8_kind_30 rfl (lv_at hl 3 rfl) ?_
        obtain ⟨r_28, σ_29, h_30, hF⟩ := bd_e hF
        refine r_callVi (As := [.int x1, .int (0 : Int32), .int (3 : Int32), .int x2, .int x3]) (rest := []) (i := 1) C hw hS (wi_lo (Or.inl (by decide))) rfl (ci := 8) rfl (met_X8_mostAt l G rd q  h_30) (cwV 5 hts (lw_V q1220 q1222 qs51 q65 q1223) rfl rfl rfl (by decide +kernel) ⟨Nat.le_of_ble_eq_true rfl, Nat.le_of_ble_eq_true rfl⟩) rfl hl.1 rfl (Nat.le_of_ble_eq_true rfl) ⟨Nat.le_refl _, Nat.le_refl _⟩ dX8_kind_31 (fun H locs hw hS => ?_)
        refine lv_goto (tgt := 38) hx hb dX8_kind_34 (by decide) ?_
        exact r_iret C hw hS hF dX8_kind_38
abbrev rmX8_kinds : Room := { frames := 6, cells := 0, slots := 0, locals := 188 }
noncomputable def F_X8_kinds (N : Nat) (x1 : Int32) (σ : SS) : Option (Int32 × SS) :=
  bd (F_X8_isWheel N x1 σ) fun r_8 σ_9 =>
  if r_8 = (0 : Int32) then
    some ((-1 : Int32), σ_9)
  else
    bd (F_X8_numbersAt N x1 x1 (4 : Int32) σ_9) fun r_12 σ_13 =>
    some (r_12, σ_13)
set_option maxRecDepth 100000 in
theorem met_X8_kinds (l : Launch) (G : GG) (rd : Bool) (q : Nat → Nat) {N : Nat} {x1 : Int32} {σ σ' : SS} {r : Int32} (hF : F_X8_kinds N x1 σ = some (r, σ')) : Met l yX8_kinds (ws_ yX8_kinds cX8_kinds 2 (some .int)) rmX8_kinds (pcx G rd q σ [.ref (q 1), .int x1]) (qxi G rd q σ' r) 0 0 (fa G) := by
  refine met_of (by decide) (Nat.le_of_ble_eq_true rfl) ?_
  intro p e s m below meth c C H locs ls hw hS hl
  obtain ⟨hx, hb, hml, hown, hts, -, -, -, -⟩ := id C
  have hl : lv_has ls 2 [(0, .ref (q 1)), (1, .int x1)] := hl
  unfold F_X8_kinds at hF
  refine lv_aload_n hx hb dX8_kinds_0 rfl (lv_at hl 0 rfl) ?_
  refine lv_iload_n hx hb dX8_kinds_1 rfl (lv_at hl 1 rfl) ?_
  obtain ⟨r_8, σ_9, h_10, hF⟩ := bd_e hF
  refine r_callVi (As := [.int x1]) (rest := []) (i := 1) C hw hS (wi_lo (Or.inl (by decide))) rfl (ci := 8) rfl (met_X8_isWheel l G rd q  h_10) (cwV 1 hts (lw_V q1100 q1102 qs39 q65 q1103) rfl rfl rfl (by decide +kernel) ⟨Nat.le_of_ble_eq_true rfl, Nat.le_of_ble_eq_true rfl⟩) rfl hl.1 rfl (Nat.le_of_ble_eq_true rfl) ⟨Nat.le_refl _, Nat.le_refl _⟩ dX8_kinds_2 (fun H locs hw hS => ?_)
  refine lv_if_eq (tgt := 18) hx hb dX8_kinds_5 (by decide) (fun c_11 => ?_) (fun c_11 => ?_)
  · have hF := it_e hF c_11
    refine lv_iconst (v := (-1 : Int32)) hx hb dX8_kinds_18 (by decide) ?_
    exact r_iret C hw hS hF dX8_kinds_19
  · have hF := if_e hF c_11
    refine lv_aload_n hx hb dX8_kinds_8 rfl (lv_at hl 0 rfl) ?_
    refine lv_iload_n hx hb dX8_kinds_9 rfl (lv_at hl 1 rfl) ?_
    refine lv_iload_n hx hb dX8_kinds_10 rfl (lv_at hl 1 rfl) ?_
    refine lv_iconst (v := (4 : Int32)) hx hb dX8_kinds_11 (by decide) ?_
    obtain ⟨r_12, σ_13, h_14, hF⟩ := bd_e hF
    refine r_callVi (As := [.int x1, .int x1, .int (4 : Int32)]) (rest := []) (i := 1) C hw hS (wi_lo (Or.inl (by decide))) rfl (ci := 8) rfl (met_X8_numbersAt l G rd q  h_14) (cwV 3 hts (lw_V q1276 q1278 qs53 q65 q1279) rfl rfl rfl (by decide +kernel) ⟨Nat.le_of_ble_eq_true rfl, Nat.le_of_ble_eq_true rfl⟩) rfl hl.1 rfl (Nat.le_of_ble_eq_true rfl) ⟨Nat.le_refl _, Nat.le_refl _⟩ dX8_kinds_12 (fun H locs hw hS => ?_)
    refine lv_goto (tgt := 19) hx hb dX8_kinds_15 (by decide) ?_
    exact r_iret C hw hS hF dX8_kinds_19
abbrev rmX8_lay : Room := { frames := 2, cells := 0, slots := 0, locals := 85 }
noncomputable def F_X8_lay_99 (N : Nat) (z0 : Int32) (z1 : Int32) (σ : SS) : Option (Int32 × SS) :=
  gd (inR z1 160) <|
  nm (si σ 31 z1.toNatClampNeg z0) fun σ_19 =>
  some ((1 : Int32), σ_19)
set_option maxRecDepth 100000 in
theorem w_X8_lay_99 {p : Program} {l : Launch} {e : Env} {s : State} {m : MethodId} {args : Array Value} {below : List Frame} {meth : Method} {c : Code} {G : GG} {rd : Bool} {q : Nat → Nat} {N : Nat} {r : Int32} {σ' : SS} (C : cx p s m args meth c cX8_lay 4 RX8 (some .int) G) : ∀ (z0 : Int32) (z1 : Int32) (σ : SS) (H : Heap) (locs : List Loc) (ls : Array Slot), F_X8_lay_99 N z0 z1 σ = some (r, σ') → wx G rd q σ H → va_S (fa G) s.heap H locs → lv_has ls 4 [] → W p l e rmX8_lay s m args below meth c H locs 0 0 (MQ below (qxi G rd q σ' r) args s 0 0 (fa G)) (F0 m 99 ls [.int z0, .int z1, .ref (q 31)]) := by
  obtain ⟨hx, hb, hml, hown, hts, -, -, -, -⟩ := id C
  intro z0 z1 σ H locs ls hF hw hS hl
  unfold F_X8_lay_99 at hF
  obtain ⟨h_18, hF⟩ := gd_e hF
  obtain ⟨σ_19, eσ_19, hF⟩ := nm_e2 hF
  refine r_iast (i := 31) (n := 160) (g := 31) (st := 0) C hw hS (wi_lo (Or.inr ⟨by decide, by decide⟩)) rfl (fun _ => ho_lo (by decide)) h_18 dX8_lay_99 eσ_19 (fun H locs hw hS => ?_)
  refine lv_iconst (v := (1 : Int32)) hx hb dX8_lay_100 (by decide) ?_
  exact r_iret C hw hS hF dX8_lay_101
noncomputable def F_X8_lay (N : Nat) (x1 : Int32) (x2 : Int32) (x3 : Int32) (σ : SS) : Option (Int32 × SS) :=
  bd (F_X8_in N x1.toInt64 (0 : Int64) (3 : Int64) σ) fun r_20 σ_21 =>
  if r_20 = (0 : Int32) then
    some ((-1 : Int32), σ_21)
  else
    gd (inR x1 4) <|
    if (gi σ_21 29 x1.toNatClampNeg) = (-4 : Int32) then
      some ((-11 : Int32), σ_21)
    else
      gd (inR x1 4) <|
      bd (F_X8_in N x2.toInt64 (0 : Int64) (((gi σ_21 30 x1.toNatClampNeg) - (1 : Int32)).toInt64) σ_21) fun r_27 σ_28 =>
      if r_27 = (0 : Int32) then
        some ((-12 : Int32), σ_28)
      else
        gd (inR x1 4) <|
        if (gi σ_28 29 x1.toNatClampNeg) = (0 : Int32) then
          F_X8_lay_99 N ((x3 <<< ((24 : Int32) &&& 31)) >>> ((24 : Int32) &&& 31)) (((40 : Int32) * x1) + x2) σ_28
        else
          gd (inR x1 4) <|
          if (gi σ_28 29 x1.toNatClampNeg) = (1 : Int32) then
            F_X8_lay_99 N ((x3 <<< ((16 : Int32) &&& 31)) >>> ((16 : Int32) &&& 31)) (((40 : Int32) * x1) + x2) σ_28
          else
            F_X8_lay_99 N x3 (((40 : Int32) * x1) + x2) σ_28
set_option maxRecDepth 100000 in
theorem met_X8_lay (l : Launch) (G : GG) (rd : Bool) (q : Nat → Nat) {N : Nat} {x1 : Int32} {x2 : Int32} {x3 : Int32} {σ σ' : SS} {r : Int32} (hF : F_X8_lay N x1 x2 x3 σ = some (r, σ')) : Met l yX8_lay (ws_ yX8_lay cX8_lay 4 (some .int)) rmX8_lay (pcx G rd q σ [.ref (q 1), .int x1, .int x2, .int x3]) (qxi G rd q σ' r) 0 0 (fa G) := by
  refine met_of (by decide) (Nat.le_of_ble_eq_true rfl) ?_
  intro p e s m below meth c C H locs ls hw hS hl
  obtain ⟨hx, hb, hml, hown, hts, -, -, -, -⟩ := id C
  have hl : lv_has ls 4 [(0, .ref (q 1)), (1, .int x1), (2, .int x2), (3, .int x3)] := hl
  unfold F_X8_lay at hF
  refine lv_iload_n hx hb dX8_lay_0 rfl (lv_at hl 1 rfl) ?_
  refine lv_i2l hx hb dX8_lay_1 rfl ?_
  refine lv_lconst (v := (0 : Int64)) hx hb dX8_lay_2 (by decide) ?_
  refine lv_ldc2 (v := (3 : Int64)) hx hb hown (hts _ q1121) dX8_lay_3 ?_
  obtain ⟨r_20, σ_21, h_22, hF⟩ := bd_e hF
  refine r_callSi (As := [.long x1.toInt64, .long (0 : Int64), .long (3 : Int64)]) (rest := []) C hw hS (met_X8_in l G rd q  h_22) (cwS 3 hts (lw_S q1040 q1041 q65 q1042) rfl rfl rfl (by decide +kernel) ⟨Nat.le_of_ble_eq_true rfl, Nat.le_of_ble_eq_true rfl⟩) rfl hl.1 rfl (Nat.le_of_ble_eq_true rfl) ⟨Nat.le_refl _, Nat.le_refl _⟩ dX8_lay_6 (fun H locs hw hS => ?_)
  refine lv_if_ne (tgt := 14) hx hb dX8_lay_9 (by decide) (fun c_23 => ?_) (fun c_23 => ?_)
  · have hF := if_e hF c_23
    refine lv_aload_n hx hb dX8_lay_14 rfl (lv_at hl 0 rfl) ?_
    refine r_get8 C hw 22 (by decide) rfl (v := .ref (q 29)) rfl q977 dX8_lay_15 ?_
    refine lv_iload_n hx hb dX8_lay_18 rfl (lv_at hl 1 rfl) ?_
    obtain ⟨h_24, hF⟩ := gd_e hF
    refine r_iald (i := 29) (n := 4) (g := 29) (st := 0) C hw (wi_lo (Or.inr ⟨by decide, by decide⟩)) rfl h_24 dX8_lay_19 ?_
    refine lv_bipush (v := (-4 : Int32)) hx hb dX8_lay_20 (by decide) ?_
    refine lv_icmp_ne (tgt := 28) hx hb dX8_lay_22 (by decide) (fun c_25 => ?_) (fun c_25 => ?_)
    · have hF := if_e hF c_25
      refine lv_iload_n hx hb dX8_lay_28 rfl (lv_at hl 2 rfl) ?_
      refine lv_i2l hx hb dX8_lay_29 rfl ?_
      refine lv_lconst (v := (0 : Int64)) hx hb dX8_lay_30 (by decide) ?_
      refine lv_aload_n hx hb dX8_lay_31 rfl (lv_at hl 0 rfl) ?_
      refine r_get8 C hw 23 (by decide) rfl (v := .ref (q 30)) rfl q978 dX8_lay_32 ?_
      refine lv_iload_n hx hb dX8_lay_35 rfl (lv_at hl 1 rfl) ?_
      obtain ⟨h_26, hF⟩ := gd_e hF
      refine r_iald (i := 30) (n := 4) (g := 30) (st := 0) C hw (wi_lo (Or.inr ⟨by decide, by decide⟩)) rfl h_26 dX8_lay_36 ?_
      refine lv_iconst (v := (1 : Int32)) hx hb dX8_lay_37 (by decide) ?_
      refine lv_isub hx hb dX8_lay_38 ?_
      refine lv_i2l hx hb dX8_lay_39 rfl ?_
      obtain ⟨r_27, σ_28, h_29, hF⟩ := bd_e hF
      refine r_callSi (As := [.long x2.toInt64, .long (0 : Int64), .long (((gi σ_21 30 x1.toNatClampNeg) - (1 : Int32)).toInt64)]) (rest := []) C hw hS (met_X8_in l G rd q  h_29) (cwS 3 hts (lw_S q1040 q1041 q65 q1042) rfl rfl rfl (by decide +kernel) ⟨Nat.le_of_ble_eq_true rfl, Nat.le_of_ble_eq_true rfl⟩) rfl hl.1 rfl (Nat.le_of_ble_eq_true rfl) ⟨Nat.le_refl _, Nat.le_refl _⟩ dX8_lay_40 (fun H locs hw hS => ?_)
      refine lv_if_ne (tgt := 49) hx hb dX8_lay_43 (by decide) (fun c_30 => ?_) (fun c_30 => ?_)
      · have hF := if_e hF c_30
        refine lv_aload_n hx hb dX8_lay_49 rfl (lv_at hl 0 rfl) ?_
        refine r_get8 C hw 24 (by decide) rfl (v := .ref (q 31)) rfl q979 dX8_lay_50 ?_
        refine lv_bipush (v := (40 : Int32)) hx hb dX8_lay_53 (by decide) ?_
        refine lv_iload_n hx hb dX8_lay_55 rfl (lv_at hl 1 rfl) ?_
        refine lv_imul hx hb dX8_lay_56 ?_
        refine lv_iload_n hx hb dX8_lay_57 rfl (lv_at hl 2 rfl) ?_
        refine lv_iadd hx hb dX8_lay_58 ?_
        refine lv_aload_n hx hb dX8_lay_59 rfl (lv_at hl 0 rfl) ?_
        refine r_get8 C hw 22 (by decide) rfl (v := .ref (q 29)) rfl q977 dX8_lay_60 ?_
        refine lv_iload_n hx hb dX8_lay_63 rfl (lv_at hl 1 rfl) ?_
        obtain ⟨h_31, hF⟩ := gd_e hF
        refine r_iald (i := 29) (n := 4) (g := 29) (st := 0) C hw (wi_lo (Or.inr ⟨by decide, by decide⟩)) rfl h_31 dX8_lay_64 ?_
        refine lv_if_ne (tgt := 78) hx hb dX8_lay_65 (by decide) (fun c_32 => ?_) (fun c_32 => ?_)
        · have hF := if_e hF c_32
          refine lv_aload_n hx hb dX8_lay_78 rfl (lv_at hl 0 rfl) ?_
          refine r_get8 C hw 22 (by decide) rfl (v := .ref (q 29)) rfl q977 dX8_lay_79 ?_
          refine lv_iload_n hx hb dX8_lay_82 rfl (lv_at hl 1 rfl) ?_
          obtain ⟨h_33, hF⟩ := gd_e hF
          refine r_iald (i := 29) (n := 4) (g := 29) (st := 0) C hw (wi_lo (Or.inr ⟨by decide, by decide⟩)) rfl h_33 dX8_lay_83 ?_
          refine lv_iconst (v := (1 : Int32)) hx hb dX8_lay_84 (by decide) ?_
          refine lv_icmp_ne (tgt := 98) hx hb dX8_lay_85 (by decide) (fun c_34 => ?_) (fun c_34 => ?_)
          · have hF := if_e hF c_34
            refine lv_iload_n hx hb dX8_lay_98 rfl (lv_at hl 3 rfl) ?_
            exact w_X8_lay_99 C   _ _ _ _ _ _ hF hw hS (lv_sub hl [] rfl)
          · have hF := it_e hF c_34
            refine lv_iload_n hx hb dX8_lay_88 rfl (lv_at hl 3 rfl) ?_
            refine lv_bipush (v := (16 : Int32)) hx hb dX8_lay_89 (by decide) ?_
            refine lv_ishl hx hb dX8_lay_91 ?_
            refine lv_bipush (v := (16 : Int32)) hx hb dX8_lay_92 (by decide) ?_
            refine lv_ishr hx hb dX8_lay_94 ?_
            refine lv_goto (tgt := 99) hx hb dX8_lay_95 (by decide) ?_
            exact w_X8_lay_99 C   _ _ _ _ _ _ hF hw hS (lv_sub hl [] rfl)
        · have hF := it_e hF c_32
          refine lv_iload_n hx hb dX8_lay_68 rfl (lv_at hl 3 rfl) ?_
          refine lv_bipush (v := (24 : Int32)) hx hb dX8_lay_69 (by decide) ?_
          refine lv_ishl hx hb dX8_lay_71 ?_
          refine lv_bipush (v := (24 : Int32)) hx hb dX8_lay_72 (by decide) ?_
          refine lv_ishr hx hb dX8_lay_74 ?_
          refine lv_goto (tgt := 99) hx hb dX8_lay_75 (by decide) ?_
          exact w_X8_lay_99 C   _ _ _ _ _ _ hF hw hS (lv_sub hl [] rfl)
      · have hF := it_e hF c_30
        refine lv_bipush (v := (-12 : Int32)) hx hb dX8_lay_46 (by decide) ?_
        exact r_iret C hw hS hF dX8_lay_48
    · have hF := it_e hF c_25
      refine lv_bipush (v := (-11 : Int32)) hx hb dX8_lay_25 (by decide) ?_
      exact r_iret C hw hS hF dX8_lay_27
  · have hF := it_e hF c_23
    refine lv_iconst (v := (-1 : Int32)) hx hb dX8_lay_12 (by decide) ?_
    exact r_iret C hw hS hF dX8_lay_13
abbrev rmX8_losses : Room := { frames := 6, cells := 0, slots := 0, locals := 188 }
noncomputable def F_X8_losses (N : Nat) (x1 : Int32) (σ : SS) : Option (Int32 × SS) :=
  bd (F_X8_isWheel N x1 σ) fun r_8 σ_9 =>
  if r_8 = (0 : Int32) then
    some ((-1 : Int32), σ_9)
  else
    bd (F_X8_numbersAt N ((8 : Int32) + x1) x1 (10 : Int32) σ_9) fun r_12 σ_13 =>
    some (r_12, σ_13)
set_option maxRecDepth 100000 in
theorem met_X8_losses (l : Launch) (G : GG) (rd : Bool) (q : Nat → Nat) {N : Nat} {x1 : Int32} {σ σ' : SS} {r : Int32} (hF : F_X8_losses N x1 σ = some (r, σ')) : Met l yX8_losses (ws_ yX8_losses cX8_losses 2 (some .int)) rmX8_losses (pcx G rd q σ [.ref (q 1), .int x1]) (qxi G rd q σ' r) 0 0 (fa G) := by
  refine met_of (by decide) (Nat.le_of_ble_eq_true rfl) ?_
  intro p e s m below meth c C H locs ls hw hS hl
  obtain ⟨hx, hb, hml, hown, hts, -, -, -, -⟩ := id C
  have hl : lv_has ls 2 [(0, .ref (q 1)), (1, .int x1)] := hl
  unfold F_X8_losses at hF
  refine lv_aload_n hx hb dX8_losses_0 rfl (lv_at hl 0 rfl) ?_
  refine lv_iload_n hx hb dX8_losses_1 rfl (lv_at hl 1 rfl) ?_
  obtain ⟨r_8, σ_9, h_10, hF⟩ := bd_e hF
  refine r_callVi (As := [.int x1]) (rest := []) (i := 1) C hw hS (wi_lo (Or.inl (by decide))) rfl (ci := 8) rfl (met_X8_isWheel l G rd q  h_10) (cwV 1 hts (lw_V q1100 q1102 qs39 q65 q1103) rfl rfl rfl (by decide +kernel) ⟨Nat.le_of_ble_eq_true rfl, Nat.le_of_ble_eq_true rfl⟩) rfl hl.1 rfl (Nat.le_of_ble_eq_true rfl) ⟨Nat.le_refl _, Nat.le_refl _⟩ dX8_losses_2 (fun H locs hw hS => ?_)
  refine lv_if_eq (tgt := 22) hx hb dX8_losses_5 (by decide) (fun c_11 => ?_) (fun c_11 => ?_)
  · have hF := it_e hF c_11
    refine lv_iconst (v := (-1 : Int32)) hx hb dX8_losses_22 (by decide) ?_
    exact r_iret C hw hS hF dX8_losses_23
  · have hF := if_e hF c_11
    refine lv_aload_n hx hb dX8_losses_8 rfl (lv_at hl 0 rfl) ?_
    refine lv_bipush (v := (8 : Int32)) hx hb dX8_losses_9 (by decide) ?_
    refine lv_iload_n hx hb dX8_losses_11 rfl (lv_at hl 1 rfl) ?_
    refine lv_iadd hx hb dX8_losses_12 ?_
    refine lv_iload_n hx hb dX8_losses_13 rfl (lv_at hl 1 rfl) ?_
    refine lv_bipush (v := (10 : Int32)) hx hb dX8_losses_14 (by decide) ?_
    obtain ⟨r_12, σ_13, h_14, hF⟩ := bd_e hF
    refine r_callVi (As := [.int ((8 : Int32) + x1), .int x1, .int (10 : Int32)]) (rest := []) (i := 1) C hw hS (wi_lo (Or.inl (by decide))) rfl (ci := 8) rfl (met_X8_numbersAt l G rd q  h_14) (cwV 3 hts (lw_V q1276 q1278 qs53 q65 q1279) rfl rfl rfl (by decide +kernel) ⟨Nat.le_of_ble_eq_true rfl, Nat.le_of_ble_eq_true rfl⟩) rfl hl.1 rfl (Nat.le_of_ble_eq_true rfl) ⟨Nat.le_refl _, Nat.le_refl _⟩ dX8_losses_16 (fun H locs hw hS => ?_)
    refine lv_goto (tgt := 23) hx hb dX8_losses_19 (by decide) ?_
    exact r_iret C hw hS hF dX8_losses_23
abbrev rmX8_luck : Room := { frames := 5, cells := 0, slots := 0, locals := 168 }
noncomputable def F_X8_luck (N : Nat) (x1 : Int32) (x2 : Int32) (x3 : Int32) (σ : SS) : Option (Int64 × SS) :=
  bd (F_X8_in N x1.toInt64 (0 : Int64) (10 : Int64) σ) fun r_16 σ_17 =>
  if r_16 = (0 : Int32) then
    some ((-1 : Int64), σ_17)
  else
    bd (F_X8_in N x2.toInt64 (0 : Int64) (8 : Int64) σ_17) fun r_20 σ_21 =>
    if r_20 = (0 : Int32) then
      some ((-1 : Int64), σ_21)
    else
      bd (F_X8_in N x3.toInt64 (0 : Int64) (1 : Int64) σ_21) fun r_24 σ_25 =>
      if r_24 = (0 : Int32) then
        some ((-1 : Int64), σ_25)
      else
        bd (F_X8_byFails N x1 x2 (0 : Int32) x3 σ_25) fun r_28 σ_29 =>
        some (r_28, σ_29)
set_option maxRecDepth 100000 in
theorem met_X8_luck (l : Launch) (G : GG) (rd : Bool) (q : Nat → Nat) {N : Nat} {x1 : Int32} {x2 : Int32} {x3 : Int32} {σ σ' : SS} {r : Int64} (hF : F_X8_luck N x1 x2 x3 σ = some (r, σ')) : Met l yX8_luck (ws_ yX8_luck cX8_luck 4 (some .long)) rmX8_luck (pcx G rd q σ [.ref (q 1), .int x1, .int x2, .int x3]) (qxl G rd q σ' r) 0 0 (fa G) := by
  refine met_of (by decide) (Nat.le_of_ble_eq_true rfl) ?_
  intro p e s m below meth c C H locs ls hw hS hl
  obtain ⟨hx, hb, hml, hown, hts, -, -, -, -⟩ := id C
  have hl : lv_has ls 4 [(0, .ref (q 1)), (1, .int x1), (2, .int x2), (3, .int x3)] := hl
  unfold F_X8_luck at hF
  refine lv_iload_n hx hb dX8_luck_0 rfl (lv_at hl 1 rfl) ?_
  refine lv_i2l hx hb dX8_luck_1 rfl ?_
  refine lv_lconst (v := (0 : Int64)) hx hb dX8_luck_2 (by decide) ?_
  refine lv_ldc2 (v := (10 : Int64)) hx hb hown (hts _ q1248) dX8_luck_3 ?_
  obtain ⟨r_16, σ_17, h_18, hF⟩ := bd_e hF
  refine r_callSi (As := [.long x1.toInt64, .long (0 : Int64), .long (10 : Int64)]) (rest := []) C hw hS (met_X8_in l G rd q  h_18) (cwS 3 hts (lw_S q1040 q1041 q65 q1042) rfl rfl rfl (by decide +kernel) ⟨Nat.le_of_ble_eq_true rfl, Nat.le_of_ble_eq_true rfl⟩) rfl hl.1 rfl (Nat.le_of_ble_eq_true rfl) ⟨Nat.le_refl _, Nat.le_refl _⟩ dX8_luck_6 (fun H locs hw hS => ?_)
  refine lv_if_eq (tgt := 45) hx hb dX8_luck_9 (by decide) (fun c_19 => ?_) (fun c_19 => ?_)
  · have hF := it_e hF c_19
    refine lv_ldc2 (v := (-1 : Int64)) hx hb hown (hts _ q1257) dX8_luck_45 ?_
    exact r_lret C hw hS hF dX8_luck_48
  · have hF := if_e hF c_19
    refine lv_iload_n hx hb dX8_luck_12 rfl (lv_at hl 2 rfl) ?_
    refine lv_i2l hx hb dX8_luck_13 rfl ?_
    refine lv_lconst (v := (0 : Int64)) hx hb dX8_luck_14 (by decide) ?_
    refine lv_ldc2 (v := (8 : Int64)) hx hb hown (hts _ q1249) dX8_luck_15 ?_
    obtain ⟨r_20, σ_21, h_22, hF⟩ := bd_e hF
    refine r_callSi (As := [.long x2.toInt64, .long (0 : Int64), .long (8 : Int64)]) (rest := []) C hw hS (met_X8_in l G rd q  h_22) (cwS 3 hts (lw_S q1040 q1041 q65 q1042) rfl rfl rfl (by decide +kernel) ⟨Nat.le_of_ble_eq_true rfl, Nat.le_of_ble_eq_true rfl⟩) rfl hl.1 rfl (Nat.le_of_ble_eq_true rfl) ⟨Nat.le_refl _, Nat.le_refl _⟩ dX8_luck_18 (fun H locs hw hS => ?_)
    refine lv_if_eq (tgt := 45) hx hb dX8_luck_21 (by decide) (fun c_23 => ?_) (fun c_23 => ?_)
    · have hF := it_e hF c_23
      refine lv_ldc2 (v := (-1 : Int64)) hx hb hown (hts _ q1257) dX8_luck_45 ?_
      exact r_lret C hw hS hF dX8_luck_48
    · have hF := if_e hF c_23
      refine lv_iload_n hx hb dX8_luck_24 rfl (lv_at hl 3 rfl) ?_
      refine lv_i2l hx hb dX8_luck_25 rfl ?_
      refine lv_lconst (v := (0 : Int64)) hx hb dX8_luck_26 (by decide) ?_
      refine lv_lconst (v := (1 : Int64)) hx hb dX8_luck_27 (by decide) ?_
      obtain ⟨r_24, σ_25, h_26, hF⟩ := bd_e hF
      refine r_callSi (As := [.long x3.toInt64, .long (0 : Int64), .long (1 : Int64)]) (rest := []) C hw hS (met_X8_in l G rd q  h_26) (cwS 3 hts (lw_S q1040 q1041 q65 q1042) rfl rfl rfl (by decide +kernel) ⟨Nat.le_of_ble_eq_true rfl, Nat.le_of_ble_eq_true rfl⟩) rfl hl.1 rfl (Nat.le_of_ble_eq_true rfl) ⟨Nat.le_refl _, Nat.le_refl _⟩ dX8_luck_28 (fun H locs hw hS => ?_)
      refine lv_if_eq (tgt := 45) hx hb dX8_luck_31 (by decide) (fun c_27 => ?_) (fun c_27 => ?_)
      · have hF := it_e hF c_27
        refine lv_ldc2 (v := (-1 : Int64)) hx hb hown (hts _ q1257) dX8_luck_45 ?_
        exact r_lret C hw hS hF dX8_luck_48
      · have hF := if_e hF c_27
        refine lv_aload_n hx hb dX8_luck_34 rfl (lv_at hl 0 rfl) ?_
        refine lv_iload_n hx hb dX8_luck_35 rfl (lv_at hl 1 rfl) ?_
        refine lv_iload_n hx hb dX8_luck_36 rfl (lv_at hl 2 rfl) ?_
        refine lv_iconst (v := (0 : Int32)) hx hb dX8_luck_37 (by decide) ?_
        refine lv_iload_n hx hb dX8_luck_38 rfl (lv_at hl 3 rfl) ?_
        obtain ⟨r_28, σ_29, h_30, hF⟩ := bd_e hF
        refine r_callVl (As := [.int x1, .int x2, .int (0 : Int32), .int x3]) (rest := []) (i := 1) C hw hS (wi_lo (Or.inl (by decide))) rfl (ci := 8) rfl (met_X8_byFails l G rd q  h_30) (cwV 4 hts (lw_V q1250 q1252 qs52 q65 q1253) rfl rfl rfl (by decide +kernel) ⟨Nat.le_of_ble_eq_true rfl, Nat.le_of_ble_eq_true rfl⟩) rfl hl.1 rfl (Nat.le_of_ble_eq_true rfl) ⟨Nat.le_refl _, Nat.le_refl _⟩ dX8_luck_39 (fun H locs hw hS => ?_)
        refine lv_goto (tgt := 48) hx hb dX8_luck_42 (by decide) ?_
        exact r_lret C hw hS hF dX8_luck_48
abbrev rmX8_mass : Room := { frames := 6, cells := 0, slots := 0, locals := 187 }
noncomputable def F_X8_mass (N : Nat) (x1 : Int32) (x2 : Int32) (x3 : Int32) (σ : SS) : Option (Int32 × SS) :=
  bd (F_X8_isWheel N x1 σ) fun r_16 σ_17 =>
  if r_16 = (0 : Int32) then
    some ((-1 : Int32), σ_17)
  else
    bd (F_X8_isLong N x2 σ_17) fun r_20 σ_21 =>
    if r_20 = (0 : Int32) then
      some ((-1 : Int32), σ_21)
    else
      bd (F_X8_in N x3.toInt64 (0 : Int64) (1 : Int64) σ_21) fun r_24 σ_25 =>
      if r_24 = (0 : Int32) then
        some ((-1 : Int32), σ_25)
      else
        bd (F_X8_mostAt N ((4 : Int32) + x1) (1 : Int32) (20 : Int32) x2 x3 σ_25) fun r_28 σ_29 =>
        some (r_28, σ_29)
set_option maxRecDepth 100000 in
theorem met_X8_mass (l : Launch) (G : GG) (rd : Bool) (q : Nat → Nat) {N : Nat} {x1 : Int32} {x2 : Int32} {x3 : Int32} {σ σ' : SS} {r : Int32} (hF : F_X8_mass N x1 x2 x3 σ = some (r, σ')) : Met l yX8_mass (ws_ yX8_mass cX8_mass 4 (some .int)) rmX8_mass (pcx G rd q σ [.ref (q 1), .int x1, .int x2, .int x3]) (qxi G rd q σ' r) 0 0 (fa G) := by
  refine met_of (by decide) (Nat.le_of_ble_eq_true rfl) ?_
  intro p e s m below meth c C H locs ls hw hS hl
  obtain ⟨hx, hb, hml, hown, hts, -, -, -, -⟩ := id C
  have hl : lv_has ls 4 [(0, .ref (q 1)), (1, .int x1), (2, .int x2), (3, .int x3)] := hl
  unfold F_X8_mass at hF
  refine lv_aload_n hx hb dX8_mass_0 rfl (lv_at hl 0 rfl) ?_
  refine lv_iload_n hx hb dX8_mass_1 rfl (lv_at hl 1 rfl) ?_
  obtain ⟨r_16, σ_17, h_18, hF⟩ := bd_e hF
  refine r_callVi (As := [.int x1]) (rest := []) (i := 1) C hw hS (wi_lo (Or.inl (by decide))) rfl (ci := 8) rfl (met_X8_isWheel l G rd q  h_18) (cwV 1 hts (lw_V q1100 q1102 qs39 q65 q1103) rfl rfl rfl (by decide +kernel) ⟨Nat.le_of_ble_eq_true rfl, Nat.le_of_ble_eq_true rfl⟩) rfl hl.1 rfl (Nat.le_of_ble_eq_true rfl) ⟨Nat.le_refl _, Nat.le_refl _⟩ dX8_mass_2 (fun H locs hw hS => ?_)
  refine lv_if_eq (tgt := 40) hx hb dX8_mass_5 (by decide) (fun c_19 => ?_) (fun c_19 => ?_)
  · have hF := it_e hF c_19
    refine lv_iconst (v := (-1 : Int32)) hx hb dX8_mass_40 (by decide) ?_
    exact r_iret C hw hS hF dX8_mass_41
  · have hF := if_e hF c_19
    refine lv_iload_n hx hb dX8_mass_8 rfl (lv_at hl 2 rfl) ?_
    obtain ⟨r_20, σ_21, h_22, hF⟩ := bd_e hF
    refine r_callSi (As := [.int x2]) (rest := []) C hw hS (met_X8_isLong l G rd q  h_22) (cwS 1 hts (lw_S q1183 q1184 q65 q1185) rfl rfl rfl (by decide +kernel) ⟨Nat.le_of_ble_eq_true rfl, Nat.le_of_ble_eq_true rfl⟩) rfl hl.1 rfl (Nat.le_of_ble_eq_true rfl) ⟨Nat.le_refl _, Nat.le_refl _⟩ dX8_mass_9 (fun H locs hw hS => ?_)
    refine lv_if_eq (tgt := 40) hx hb dX8_mass_12 (by decide) (fun c_23 => ?_) (fun c_23 => ?_)
    · have hF := it_e hF c_23
      refine lv_iconst (v := (-1 : Int32)) hx hb dX8_mass_40 (by decide) ?_
      exact r_iret C hw hS hF dX8_mass_41
    · have hF := if_e hF c_23
      refine lv_iload_n hx hb dX8_mass_15 rfl (lv_at hl 3 rfl) ?_
      refine lv_i2l hx hb dX8_mass_16 rfl ?_
      refine lv_lconst (v := (0 : Int64)) hx hb dX8_mass_17 (by decide) ?_
      refine lv_lconst (v := (1 : Int64)) hx hb dX8_mass_18 (by decide) ?_
      obtain ⟨r_24, σ_25, h_26, hF⟩ := bd_e hF
      refine r_callSi (As := [.long x3.toInt64, .long (0 : Int64), .long (1 : Int64)]) (rest := []) C hw hS (met_X8_in l G rd q  h_26) (cwS 3 hts (lw_S q1040 q1041 q65 q1042) rfl rfl rfl (by decide +kernel) ⟨Nat.le_of_ble_eq_true rfl, Nat.le_of_ble_eq_true rfl⟩) rfl hl.1 rfl (Nat.le_of_ble_eq_true rfl) ⟨Nat.le_refl _, Nat.le_refl _⟩ dX8_mass_19 (fun H locs hw hS => ?_)
      refine lv_if_eq (tgt := 40) hx hb dX8_mass_22 (by decide) (fun c_27 => ?_) (fun c_27 => ?_)
      · have hF := it_e hF c_27
        refine lv_iconst (v := (-1 : Int32)) hx hb dX8_mass_40 (by decide) ?_
        exact r_iret C hw hS hF dX8_mass_41
      · have hF := if_e hF c_27
        refine lv_aload_n hx hb dX8_mass_25 rfl (lv_at hl 0 rfl) ?_
        refine lv_iconst (v := (4 : Int32)) hx hb dX8_mass_26 (by decide) ?_
        refine lv_iload_n hx hb dX8_mass_27 rfl (lv_at hl 1 rfl) ?_
        refine lv_iadd hx hb dX8_mass_28 ?_
        refine lv_iconst (v := (1 : Int32)) hx hb dX8_mass_29 (by decide) ?_
        refine lv_bipush (v := (20 : Int32)) hx hb dX8_mass_30 (by decide) ?_
        refine lv_iload_n hx hb dX8_mass_32 rfl (lv_at hl 2 rfl) ?_
        refine lv_iload_n hx hb dX8_mass_33 rfl (lv_at hl 3 rfl) ?_
        obtain ⟨r_28, σ_29, h_30, hF⟩ := bd_e hF
        refine r_callVi (As := [.int ((4 : Int32) + x1), .int (1 : Int32), .int (20 : Int32), .int x2, .int x3]) (rest := []) (i := 1) C hw hS (wi_lo (Or.inl (by decide))) rfl (ci := 8) rfl (met_X8_mostAt l G rd q  h_30) (cwV 5 hts (lw_V q1220 q1222 qs51 q65 q1223) rfl rfl rfl (by decide +kernel) ⟨Nat.le_of_ble_eq_true rfl, Nat.le_of_ble_eq_true rfl⟩) rfl hl.1 rfl (Nat.le_of_ble_eq_true rfl) ⟨Nat.le_refl _, Nat.le_refl _⟩ dX8_mass_34 (fun H locs hw hS => ?_)
        refine lv_goto (tgt := 41) hx hb dX8_mass_37 (by decide) ?_
        exact r_iret C hw hS hF dX8_mass_41
abbrev rmX8_mean : Room := { frames := 5, cells := 0, slots := 0, locals := 168 }
noncomputable def F_X8_mean (N : Nat) (x1 : Int32) (x2 : Int32) (x3 : Int32) (σ : SS) : Option (Int64 × SS) :=
  bd (F_X8_in N x1.toInt64 (0 : Int64) (10 : Int64) σ) fun r_16 σ_17 =>
  if r_16 = (0 : Int32) then
    some ((-1 : Int64), σ_17)
  else
    bd (F_X8_in N x2.toInt64 (0 : Int64) (8 : Int64) σ_17) fun r_20 σ_21 =>
    if r_20 = (0 : Int32) then
      some ((-1 : Int64), σ_21)
    else
      bd (F_X8_in N x3.toInt64 (0 : Int64) (1 : Int64) σ_21) fun r_24 σ_25 =>
      if r_24 = (0 : Int32) then
        some ((-1 : Int64), σ_25)
      else
        bd (F_X8_byFails N x1 x2 (1 : Int32) x3 σ_25) fun r_28 σ_29 =>
        some (r_28, σ_29)
set_option maxRecDepth 100000 in
theorem met_X8_mean (l : Launch) (G : GG) (rd : Bool) (q : Nat → Nat) {N : Nat} {x1 : Int32} {x2 : Int32} {x3 : Int32} {σ σ' : SS} {r : Int64} (hF : F_X8_mean N x1 x2 x3 σ = some (r, σ')) : Met l yX8_mean (ws_ yX8_mean cX8_mean 4 (some .long)) rmX8_mean (pcx G rd q σ [.ref (q 1), .int x1, .int x2, .int x3]) (qxl G rd q σ' r) 0 0 (fa G) := by
  refine met_of (by decide) (Nat.le_of_ble_eq_true rfl) ?_
  intro p e s m below meth c C H locs ls hw hS hl
  obtain ⟨hx, hb, hml, hown, hts, -, -, -, -⟩ := id C
  have hl : lv_has ls 4 [(0, .ref (q 1)), (1, .int x1), (2, .int x2), (3, .int x3)] := hl
  unfold F_X8_mean at hF
  refine lv_iload_n hx hb dX8_mean_0 rfl (lv_at hl 1 rfl) ?_
  refine lv_i2l hx hb dX8_mean_1 rfl ?_
  refine lv_lconst (v := (0 : Int64)) hx hb dX8_mean_2 (by decide) ?_
  refine lv_ldc2 (v := (10 : Int64)) hx hb hown (hts _ q1248) dX8_mean_3 ?_
  obtain ⟨r_16, σ_17, h_18, hF⟩ := bd_e hF
  refine r_callSi (As := [.long x1.toInt64, .long (0 : Int64), .long (10 : Int64)]) (rest := []) C hw hS (met_X8_in l G rd q  h_18) (cwS 3 hts (lw_S q1040 q1041 q65 q1042) rfl rfl rfl (by decide +kernel) ⟨Nat.le_of_ble_eq_true rfl, Nat.le_of_ble_eq_true rfl⟩) rfl hl.1 rfl (Nat.le_of_ble_eq_true rfl) ⟨Nat.le_refl _, Nat.le_refl _⟩ dX8_mean_6 (fun H locs hw hS => ?_)
  refine lv_if_eq (tgt := 45) hx hb dX8_mean_9 (by decide) (fun c_19 => ?_) (fun c_19 => ?_)
  · have hF := it_e hF c_19
    refine lv_ldc2 (v := (-1 : Int64)) hx hb hown (hts _ q1257) dX8_mean_45 ?_
    exact r_lret C hw hS hF dX8_mean_48
  · have hF := if_e hF c_19
    refine lv_iload_n hx hb dX8_mean_12 rfl (lv_at hl 2 rfl) ?_
    refine lv_i2l hx hb dX8_mean_13 rfl ?_
    refine lv_lconst (v := (0 : Int64)) hx hb dX8_mean_14 (by decide) ?_
    refine lv_ldc2 (v := (8 : Int64)) hx hb hown (hts _ q1249) dX8_mean_15 ?_
    obtain ⟨r_20, σ_21, h_22, hF⟩ := bd_e hF
    refine r_callSi (As := [.long x2.toInt64, .long (0 : Int64), .long (8 : Int64)]) (rest := []) C hw hS (met_X8_in l G rd q  h_22) (cwS 3 hts (lw_S q1040 q1041 q65 q1042) rfl rfl rfl (by decide +kernel) ⟨Nat.le_of_ble_eq_true rfl, Nat.le_of_ble_eq_true rfl⟩) rfl hl.1 rfl (Nat.le_of_ble_eq_true rfl) ⟨Nat.le_refl _, Nat.le_refl _⟩ dX8_mean_18 (fun H locs hw hS => ?_)
    refine lv_if_eq (tgt := 45) hx hb dX8_mean_21 (by decide) (fun c_23 => ?_) (fun c_23 => ?_)
    · have hF := it_e hF c_23
      refine lv_ldc2 (v := (-1 : Int64)) hx hb hown (hts _ q1257) dX8_mean_45 ?_
      exact r_lret C hw hS hF dX8_mean_48
    · have hF := if_e hF c_23
      refine lv_iload_n hx hb dX8_mean_24 rfl (lv_at hl 3 rfl) ?_
      refine lv_i2l hx hb dX8_mean_25 rfl ?_
      refine lv_lconst (v := (0 : Int64)) hx hb dX8_mean_26 (by decide) ?_
      refine lv_lconst (v := (1 : Int64)) hx hb dX8_mean_27 (by decide) ?_
      obtain ⟨r_24, σ_25, h_26, hF⟩ := bd_e hF
      refine r_callSi (As := [.long x3.toInt64, .long (0 : Int64), .long (1 : Int64)]) (rest := []) C hw hS (met_X8_in l G rd q  h_26) (cwS 3 hts (lw_S q1040 q1041 q65 q1042) rfl rfl rfl (by decide +kernel) ⟨Nat.le_of_ble_eq_true rfl, Nat.le_of_ble_eq_true rfl⟩) rfl hl.1 rfl (Nat.le_of_ble_eq_true rfl) ⟨Nat.le_refl _, Nat.le_refl _⟩ dX8_mean_28 (fun H locs hw hS => ?_)
      refine lv_if_eq (tgt := 45) hx hb dX8_mean_31 (by decide) (fun c_27 => ?_) (fun c_27 => ?_)
      · have hF := it_e hF c_27
        refine lv_ldc2 (v := (-1 : Int64)) hx hb hown (hts _ q1257) dX8_mean_45 ?_
        exact r_lret C hw hS hF dX8_mean_48
      · have hF := if_e hF c_27
        refine lv_aload_n hx hb dX8_mean_34 rfl (lv_at hl 0 rfl) ?_
        refine lv_iload_n hx hb dX8_mean_35 rfl (lv_at hl 1 rfl) ?_
        refine lv_iload_n hx hb dX8_mean_36 rfl (lv_at hl 2 rfl) ?_
        refine lv_iconst (v := (1 : Int32)) hx hb dX8_mean_37 (by decide) ?_
        refine lv_iload_n hx hb dX8_mean_38 rfl (lv_at hl 3 rfl) ?_
        obtain ⟨r_28, σ_29, h_30, hF⟩ := bd_e hF
        refine r_callVl (As := [.int x1, .int x2, .int (1 : Int32), .int x3]) (rest := []) (i := 1) C hw hS (wi_lo (Or.inl (by decide))) rfl (ci := 8) rfl (met_X8_byFails l G rd q  h_30) (cwV 4 hts (lw_V q1250 q1252 qs52 q65 q1253) rfl rfl rfl (by decide +kernel) ⟨Nat.le_of_ble_eq_true rfl, Nat.le_of_ble_eq_true rfl⟩) rfl hl.1 rfl (Nat.le_of_ble_eq_true rfl) ⟨Nat.le_refl _, Nat.le_refl _⟩ dX8_mean_39 (fun H locs hw hS => ?_)
        refine lv_goto (tgt := 48) hx hb dX8_mean_42 (by decide) ?_
        exact r_lret C hw hS hF dX8_mean_48
abbrev rmX8_nameHere : Room := { frames := 2, cells := 0, slots := 0, locals := 81 }
noncomputable def F_X8_nameHere_106 (N : Nat) (K2 : Int32 → SS → Option (Int32 × SS)) (x1 : Int32) (x2 : Int32) (σ : SS) : Option (Int32 × SS) :=
  if x2 = (0 : Int32) then
    nm (x1 + (1 : Int32)) fun x_19 =>
    K2 x_19 σ
  else
    some (x1, σ)
set_option maxRecDepth 100000 in
theorem w_X8_nameHere_106 {p : Program} {l : Launch} {e : Env} {s : State} {m : MethodId} {args : Array Value} {below : List Frame} {meth : Method} {c : Code} {G : GG} {rd : Bool} {q : Nat → Nat} {N : Nat} {r : Int32} {σ' : SS} (C : cx p s m args meth c cX8_nameHere 4 RX8 (some .int) G) {K2 : Int32 → SS → Option (Int32 × SS)} (HK2 : ∀ (x1 : Int32) (σ : SS) (H : Heap) (locs : List Loc) (ls : Array Slot), K2 x1 σ = some (r, σ') → wx G rd q σ H → va_S (fa G) s.heap H locs → lv_has ls 4 [(0, .ref (q 1)), (1, .int x1)] → W p l e rmX8_nameHere s m args below meth c H locs 0 0 (MQ below (qxi G rd q σ' r) args s 0 0 (fa G)) (F0 m 2 ls [])) : ∀ (x1 : Int32) (x2 : Int32) (σ : SS) (H : Heap) (locs : List Loc) (ls : Array Slot), F_X8_nameHere_106 N K2 x1 x2 σ = some (r, σ') → wx G rd q σ H → va_S (fa G) s.heap H locs → lv_has ls 4 [(0, .ref (q 1)), (1, .int x1), (2, .int x2)] → W p l e rmX8_nameHere s m args below meth c H locs 0 0 (MQ below (qxi G rd q σ' r) args s 0 0 (fa G)) (F0 m 106 ls []) := by
  obtain ⟨hx, hb, hml, hown, hts, -, -, -, -⟩ := id C
  intro x1 x2 σ H locs ls hF hw hS hl
  unfold F_X8_nameHere_106 at hF
  refine lv_iload_n hx hb dX8_nameHere_106 rfl (lv_at hl 2 rfl) ?_
  refine lv_if_eq (tgt := 112) hx hb dX8_nameHere_107 (by decide) (fun c_18 => ?_) (fun c_18 => ?_)
  · have hF := it_e hF c_18
    obtain ⟨x_19, ex_19, hF⟩ := nm_e2 hF
    refine lv_iinc (v := x_19) (lv' := [(1, .int x_19), (0, .ref (q 1)), (2, .int x2)]) hx hb dX8_nameHere_112 hl (k := 1) rfl (by rw [ex_19]; rfl) (by decide) rfl (fun ls hl => ?_)
    refine lv_goto (tgt := 2) hx hb dX8_nameHere_115 (by decide) ?_
    exact HK2 _ _ _ _ _ hF hw hS (lv_sub hl [1, 0] rfl)
  · have hF := if_e hF c_18
    refine lv_iload_n hx hb dX8_nameHere_110 rfl (lv_at hl 1 rfl) ?_
    exact r_iret C hw hS hF dX8_nameHere_111
noncomputable def B_X8_nameHere_51 (N : Nat) (K2 : Int32 → SS → Option (Int32 × SS)) (IH : Int32 → Int32 → Int32 → SS → Option (Int32 × SS)) (x1 : Int32) (x2 : Int32) (x3 : Int32) (σ : SS) : Option (Int32 × SS) :=
  if x2 = (0 : Int32) then
    F_X8_nameHere_106 N K2 x1 x2 σ
  else
    if ((gi σ 1 8) - (gi σ 1 9)) ≤ x3 then
      F_X8_nameHere_106 N K2 x1 x2 σ
    else
      bd (F_X8_byteAt N ((gi σ 1 9) + x3) σ) fun r_22 σ_23 =>
      gd (inR x1 9) <|
      gd (inR ((gi σ_23 24 x1.toNatClampNeg) + x3) 35) <|
      if r_22 = (gi σ_23 25 ((gi σ_23 24 x1.toNatClampNeg) + x3).toNatClampNeg) then
        nm (x3 + (1 : Int32)) fun x_29 =>
        IH x1 (1 : Int32) x_29 σ_23
      else
        nm (x3 + (1 : Int32)) fun x_28 =>
        IH x1 (0 : Int32) x_28 σ_23
noncomputable def F_X8_nameHere_51 (N : Nat) (K2 : Int32 → SS → Option (Int32 × SS)) (n : Nat) : Int32 → Int32 → Int32 → SS → Option (Int32 × SS) := Nat.rec (fun _ _ _ _ => none) (fun _ IH => B_X8_nameHere_51 N K2 IH) n
set_option maxRecDepth 100000 in
theorem w_X8_nameHere_51 {p : Program} {l : Launch} {e : Env} {s : State} {m : MethodId} {args : Array Value} {below : List Frame} {meth : Method} {c : Code} {G : GG} {rd : Bool} {q : Nat → Nat} {N : Nat} {r : Int32} {σ' : SS} (C : cx p s m args meth c cX8_nameHere 4 RX8 (some .int) G) {K2 : Int32 → SS → Option (Int32 × SS)} (HK2 : ∀ (x1 : Int32) (σ : SS) (H : Heap) (locs : List Loc) (ls : Array Slot), K2 x1 σ = some (r, σ') → wx G rd q σ H → va_S (fa G) s.heap H locs → lv_has ls 4 [(0, .ref (q 1)), (1, .int x1)] → W p l e rmX8_nameHere s m args below meth c H locs 0 0 (MQ below (qxi G rd q σ' r) args s 0 0 (fa G)) (F0 m 2 ls [])) : ∀ (n : Nat), ∀ (x1 : Int32) (x2 : Int32) (x3 : Int32) (σ : SS) (H : Heap) (locs : List Loc) (ls : Array Slot), F_X8_nameHere_51 N K2 n x1 x2 x3 σ = some (r, σ') → wx G rd q σ H → va_S (fa G) s.heap H locs → lv_has ls 4 [(0, .ref (q 1)), (1, .int x1), (2, .int x2), (3, .int x3)] → W p l e rmX8_nameHere s m args below meth c H locs 0 0 (MQ below (qxi G rd q σ' r) args s 0 0 (fa G)) (F0 m 51 ls []) := by
  obtain ⟨hx, hb, hml, hown, hts, -, -, -, -⟩ := id C
  intro n
  induction n with
  | zero =>
    intro x1 x2 x3 σ H locs ls hF hw hS hl
    cases hF
  | succ n ih =>
    intro x1 x2 x3 σ H locs ls hF hw hS hl
    have hF : B_X8_nameHere_51 N K2 (F_X8_nameHere_51 N K2 n) x1 x2 x3 σ = some (r, σ') := hF
    unfold B_X8_nameHere_51 at hF
    refine lv_iload_n hx hb dX8_nameHere_51 rfl (lv_at hl 2 rfl) ?_
    refine lv_if_eq (tgt := 106) hx hb dX8_nameHere_52 (by decide) (fun c_20 => ?_) (fun c_20 => ?_)
    · have hF := it_e hF c_20
      exact w_X8_nameHere_106 C  HK2 _ _ _ _ _ _ hF hw hS (lv_sub hl [0, 1, 2] rfl)
    · have hF := if_e hF c_20
      refine lv_iload_n hx hb dX8_nameHere_55 rfl (lv_at hl 3 rfl) ?_
      refine lv_aload_n hx hb dX8_nameHere_56 rfl (lv_at hl 0 rfl) ?_
      refine r_get8 C hw 8 (by decide) rfl (v := .int (gi σ 1 8)) rfl q963 dX8_nameHere_57 ?_
      refine lv_aload_n hx hb dX8_nameHere_60 rfl (lv_at hl 0 rfl) ?_
      refine r_get8 C hw 9 (by decide) rfl (v := .int (gi σ 1 9)) rfl q964 dX8_nameHere_61 ?_
      refine lv_isub hx hb dX8_nameHere_64 ?_
      refine lv_icmp_ge (tgt := 106) hx hb dX8_nameHere_65 (by decide) (fun c_21 => ?_) (fun c_21 => ?_)
      · have hF := it_e hF c_21
        exact w_X8_nameHere_106 C  HK2 _ _ _ _ _ _ hF hw hS (lv_sub hl [0, 1, 2] rfl)
      · have hF := if_e hF c_21
        refine lv_aload_n hx hb dX8_nameHere_68 rfl (lv_at hl 0 rfl) ?_
        refine lv_aload_n hx hb dX8_nameHere_69 rfl (lv_at hl 0 rfl) ?_
        refine r_get8 C hw 9 (by decide) rfl (v := .int (gi σ 1 9)) rfl q964 dX8_nameHere_70 ?_
        refine lv_iload_n hx hb dX8_nameHere_73 rfl (lv_at hl 3 rfl) ?_
        refine lv_iadd hx hb dX8_nameHere_74 ?_
        obtain ⟨r_22, σ_23, h_24, hF⟩ := bd_e hF
        refine r_callVi (As := [.int ((gi σ 1 9) + x3)]) (rest := []) (i := 1) C hw hS (wi_lo (Or.inl (by decide))) rfl (ci := 8) rfl (met_X8_byteAt l G rd q  h_24) (cwV 1 hts (lw_V q1055 q1057 qs32 q65 q1058) rfl rfl rfl (by decide +kernel) ⟨Nat.le_of_ble_eq_true rfl, Nat.le_of_ble_eq_true rfl⟩) rfl hl.1 rfl (Nat.le_of_ble_eq_true rfl) ⟨Nat.le_refl _, Nat.le_refl _⟩ dX8_nameHere_75 (fun H locs hw hS => ?_)
        refine lv_aload_n hx hb dX8_nameHere_78 rfl (lv_at hl 0 rfl) ?_
        refine r_get8 C hw 13 (by decide) rfl (v := .ref (q 25)) rfl q968 dX8_nameHere_79 ?_
        refine lv_aload_n hx hb dX8_nameHere_82 rfl (lv_at hl 0 rfl) ?_
        refine r_get8 C hw 12 (by decide) rfl (v := .ref (q 24)) rfl q967 dX8_nameHere_83 ?_
        refine lv_iload_n hx hb dX8_nameHere_86 rfl (lv_at hl 1 rfl) ?_
        obtain ⟨h_25, hF⟩ := gd_e hF
        refine r_iald (i := 24) (n := 9) (g := 24) (st := 0) C hw (wi_lo (Or.inr ⟨by decide, by decide⟩)) rfl h_25 dX8_nameHere_87 ?_
        refine lv_iload_n hx hb dX8_nameHere_88 rfl (lv_at hl 3 rfl) ?_
        refine lv_iadd hx hb dX8_nameHere_89 ?_
        obtain ⟨h_26, hF⟩ := gd_e hF
        refine r_iald (i := 25) (n := 35) (g := 25) (st := 0) C hw (wi_lo (Or.inr ⟨by decide, by decide⟩)) rfl h_26 dX8_nameHere_90 ?_
        refine lv_icmp_ne (tgt := 98) hx hb dX8_nameHere_91 (by decide) (fun c_27 => ?_) (fun c_27 => ?_)
        · have hF := if_e hF c_27
          refine lv_iconst (v := (0 : Int32)) hx hb dX8_nameHere_98 (by decide) ?_
          refine lv_istore_n (lv' := [(2, .int (0 : Int32)), (0, .ref (q 1)), (1, .int x1), (3, .int x3)]) hx hb dX8_nameHere_99 rfl hl (by decide) rfl (fun ls hl => ?_)
          obtain ⟨x_28, ex_28, hF⟩ := nm_e2 hF
          refine lv_iinc (v := x_28) (lv' := [(3, .int x_28), (2, .int (0 : Int32)), (0, .ref (q 1)), (1, .int x1)]) hx hb dX8_nameHere_100 hl (k := 3) rfl (by rw [ex_28]; rfl) (by decide) rfl (fun ls hl => ?_)
          refine lv_goto (tgt := 51) hx hb dX8_nameHere_103 (by decide) ?_
          exact ih _ _ _ _ _ _ _ hF hw hS (lv_sub hl [2, 3, 1, 0] rfl)
        · have hF := it_e hF c_27
          refine lv_iconst (v := (1 : Int32)) hx hb dX8_nameHere_94 (by decide) ?_
          refine lv_goto (tgt := 99) hx hb dX8_nameHere_95 (by decide) ?_
          refine lv_istore_n (lv' := [(2, .int (1 : Int32)), (0, .ref (q 1)), (1, .int x1), (3, .int x3)]) hx hb dX8_nameHere_99 rfl hl (by decide) rfl (fun ls hl => ?_)
          obtain ⟨x_29, ex_29, hF⟩ := nm_e2 hF
          refine lv_iinc (v := x_29) (lv' := [(3, .int x_29), (2, .int (1 : Int32)), (0, .ref (q 1)), (1, .int x1)]) hx hb dX8_nameHere_100 hl (k := 3) rfl (by rw [ex_29]; rfl) (by decide) rfl (fun ls hl => ?_)
          refine lv_goto (tgt := 51) hx hb dX8_nameHere_103 (by decide) ?_
          exact ih _ _ _ _ _ _ _ hF hw hS (lv_sub hl [2, 3, 1, 0] rfl)
noncomputable def B_X8_nameHere_2 (N : Nat) (IH : Int32 → SS → Option (Int32 × SS)) (x1 : Int32) (σ : SS) : Option (Int32 × SS) :=
  if (8 : Int32) ≤ x1 then
    some ((-4 : Int32), σ)
  else
    if (gi σ 1 10) = (1 : Int32) then
      gd (inR (x1 + (1 : Int32)) 9) <|
      gd (inR x1 9) <|
      if ((gi σ 1 8) - (gi σ 1 9)) = ((gi σ 24 (x1 + (1 : Int32)).toNatClampNeg) - (gi σ 24 x1.toNatClampNeg)) then
        F_X8_nameHere_51 N IH N x1 (1 : Int32) (0 : Int32) σ
      else
        F_X8_nameHere_51 N IH N x1 (0 : Int32) (0 : Int32) σ
    else
      some ((-4 : Int32), σ)
noncomputable def F_X8_nameHere_2 (N : Nat) (n : Nat) : Int32 → SS → Option (Int32 × SS) := Nat.rec (fun _ _ => none) (fun _ IH => B_X8_nameHere_2 N IH) n
set_option maxRecDepth 100000 in
theorem w_X8_nameHere_2 {p : Program} {l : Launch} {e : Env} {s : State} {m : MethodId} {args : Array Value} {below : List Frame} {meth : Method} {c : Code} {G : GG} {rd : Bool} {q : Nat → Nat} {N : Nat} {r : Int32} {σ' : SS} (C : cx p s m args meth c cX8_nameHere 4 RX8 (some .int) G) : ∀ (n : Nat), ∀ (x1 : Int32) (σ : SS) (H : Heap) (locs : List Loc) (ls : Array Slot), F_X8_nameHere_2 N n x1 σ = some (r, σ') → wx G rd q σ H → va_S (fa G) s.heap H locs → lv_has ls 4 [(0, .ref (q 1)), (1, .int x1)] → W p l e rmX8_nameHere s m args below meth c H locs 0 0 (MQ below (qxi G rd q σ' r) args s 0 0 (fa G)) (F0 m 2 ls []) := by
  obtain ⟨hx, hb, hml, hown, hts, -, -, -, -⟩ := id C
  intro n
  induction n with
  | zero =>
    intro x1 σ H locs ls hF hw hS hl
    cases hF
  | succ n ih =>
    intro x1 σ H locs ls hF hw hS hl
    have hF : B_X8_nameHere_2 N (F_X8_nameHere_2 N n) x1 σ = some (r, σ') := hF
    unfold B_X8_nameHere_2 at hF
    refine lv_iload_n hx hb dX8_nameHere_2 rfl (lv_at hl 1 rfl) ?_
    refine lv_bipush (v := (8 : Int32)) hx hb dX8_nameHere_3 (by decide) ?_
    refine lv_icmp_ge (tgt := 118) hx hb dX8_nameHere_5 (by decide) (fun c_30 => ?_) (fun c_30 => ?_)
    · have hF := it_e hF c_30
      refine lv_bipush (v := (-4 : Int32)) hx hb dX8_nameHere_118 (by decide) ?_
      exact r_iret C hw hS hF dX8_nameHere_120
    · have hF := if_e hF c_30
      refine lv_aload_n hx hb dX8_nameHere_8 rfl (lv_at hl 0 rfl) ?_
      refine r_get8 C hw 10 (by decide) rfl (v := .int (gi σ 1 10)) rfl q965 dX8_nameHere_9 ?_
      refine lv_iconst (v := (1 : Int32)) hx hb dX8_nameHere_12 (by decide) ?_
      refine lv_icmp_ne (tgt := 118) hx hb dX8_nameHere_13 (by decide) (fun c_31 => ?_) (fun c_31 => ?_)
      · have hF := if_e hF c_31
        refine lv_bipush (v := (-4 : Int32)) hx hb dX8_nameHere_118 (by decide) ?_
        exact r_iret C hw hS hF dX8_nameHere_120
      · have hF := it_e hF c_31
        refine lv_aload_n hx hb dX8_nameHere_16 rfl (lv_at hl 0 rfl) ?_
        refine r_get8 C hw 8 (by decide) rfl (v := .int (gi σ 1 8)) rfl q963 dX8_nameHere_17 ?_
        refine lv_aload_n hx hb dX8_nameHere_20 rfl (lv_at hl 0 rfl) ?_
        refine r_get8 C hw 9 (by decide) rfl (v := .int (gi σ 1 9)) rfl q964 dX8_nameHere_21 ?_
        refine lv_isub hx hb dX8_nameHere_24 ?_
        refine lv_aload_n hx hb dX8_nameHere_25 rfl (lv_at hl 0 rfl) ?_
        refine r_get8 C hw 12 (by decide) rfl (v := .ref (q 24)) rfl q967 dX8_nameHere_26 ?_
        refine lv_iload_n hx hb dX8_nameHere_29 rfl (lv_at hl 1 rfl) ?_
        refine lv_iconst (v := (1 : Int32)) hx hb dX8_nameHere_30 (by decide) ?_
        refine lv_iadd hx hb dX8_nameHere_31 ?_
        obtain ⟨h_32, hF⟩ := gd_e hF
        refine r_iald (i := 24) (n := 9) (g := 24) (st := 0) C hw (wi_lo (Or.inr ⟨by decide, by decide⟩)) rfl h_32 dX8_nameHere_32 ?_
        refine lv_aload_n hx hb dX8_nameHere_33 rfl (lv_at hl 0 rfl) ?_
        refine r_get8 C hw 12 (by decide) rfl (v := .ref (q 24)) rfl q967 dX8_nameHere_34 ?_
        refine lv_iload_n hx hb dX8_nameHere_37 rfl (lv_at hl 1 rfl) ?_
        obtain ⟨h_33, hF⟩ := gd_e hF
        refine r_iald (i := 24) (n := 9) (g := 24) (st := 0) C hw (wi_lo (Or.inr ⟨by decide, by decide⟩)) rfl h_33 dX8_nameHere_38 ?_
        refine lv_isub hx hb dX8_nameHere_39 ?_
        refine lv_icmp_ne (tgt := 47) hx hb dX8_nameHere_40 (by decide) (fun c_34 => ?_) (fun c_34 => ?_)
        · have hF := if_e hF c_34
          refine lv_iconst (v := (0 : Int32)) hx hb dX8_nameHere_47 (by decide) ?_
          refine lv_istore_n (lv' := [(2, .int (0 : Int32)), (0, .ref (q 1)), (1, .int x1)]) hx hb dX8_nameHere_48 rfl hl (by decide) rfl (fun ls hl => ?_)
          refine lv_iconst (v := (0 : Int32)) hx hb dX8_nameHere_49 (by decide) ?_
          refine lv_istore_n (lv' := [(3, .int (0 : Int32)), (2, .int (0 : Int32)), (0, .ref (q 1)), (1, .int x1)]) hx hb dX8_nameHere_50 rfl hl (by decide) rfl (fun ls hl => ?_)
          exact w_X8_nameHere_51 C  ih N _ _ _ _ _ _ _ hF hw hS (lv_sub hl [2, 3, 1, 0] rfl)
        · have hF := it_e hF c_34
          refine lv_iconst (v := (1 : Int32)) hx hb dX8_nameHere_43 (by decide) ?_
          refine lv_goto (tgt := 48) hx hb dX8_nameHere_44 (by decide) ?_
          refine lv_istore_n (lv' := [(2, .int (1 : Int32)), (0, .ref (q 1)), (1, .int x1)]) hx hb dX8_nameHere_48 rfl hl (by decide) rfl (fun ls hl => ?_)
          refine lv_iconst (v := (0 : Int32)) hx hb dX8_nameHere_49 (by decide) ?_
          refine lv_istore_n (lv' := [(3, .int (0 : Int32)), (2, .int (1 : Int32)), (0, .ref (q 1)), (1, .int x1)]) hx hb dX8_nameHere_50 rfl hl (by decide) rfl (fun ls hl => ?_)
          exact w_X8_nameHere_51 C  ih N _ _ _ _ _ _ _ hF hw hS (lv_sub hl [2, 3, 1, 0] rfl)
noncomputable def F_X8_nameHere (N : Nat)  (σ : SS) : Option (Int32 × SS) :=
  F_X8_nameHere_2 N N (0 : Int32) σ
set_option maxRecDepth 100000 in
theorem met_X8_nameHere (l : Launch) (G : GG) (rd : Bool) (q : Nat → Nat) {N : Nat} {σ σ' : SS} {r : Int32} (hF : F_X8_nameHere N  σ = some (r, σ')) : Met l yX8_nameHere (ws_ yX8_nameHere cX8_nameHere 4 (some .int)) rmX8_nameHere (pcx G rd q σ [.ref (q 1)]) (qxi G rd q σ' r) 0 0 (fa G) := by
  refine met_of (by decide) (Nat.le_of_ble_eq_true rfl) ?_
  intro p e s m below meth c C H locs ls hw hS hl
  obtain ⟨hx, hb, hml, hown, hts, -, -, -, -⟩ := id C
  have hl : lv_has ls 4 [(0, .ref (q 1))] := hl
  unfold F_X8_nameHere at hF
  refine lv_iconst (v := (0 : Int32)) hx hb dX8_nameHere_0 (by decide) ?_
  refine lv_istore_n (lv' := [(1, .int (0 : Int32)), (0, .ref (q 1))]) hx hb dX8_nameHere_1 rfl hl (by decide) rfl (fun ls hl => ?_)
  exact w_X8_nameHere_2 C   N _ _ _ _ _ hF hw hS (lv_sub hl [1, 0] rfl)
abbrev rmX8_readsOn : Room := { frames := 2, cells := 0, slots := 0, locals := 85 }
noncomputable def F_X8_readsOn_201 (N : Nat) (K140 : SS → Option (Unit × SS)) (z0 : Int32) (σ : SS) : Option (Unit × SS) :=
  nm (si σ 1 11 z0) fun σ_55 =>
  nm (si σ_55 1 8 ((gi σ_55 1 8) + (1 : Int32))) fun σ_56 =>
  K140 σ_56
set_option maxRecDepth 100000 in
theorem w_X8_readsOn_201 {p : Program} {l : Launch} {e : Env} {s : State} {m : MethodId} {args : Array Value} {below : List Frame} {meth : Method} {c : Code} {G : GG} {rd : Bool} {q : Nat → Nat} {N : Nat} {r : Unit} {σ' : SS} (C : cx p s m args meth c cX8_readsOn 2 RX8 none G) {K140 : SS → Option (Unit × SS)} (HK140 : ∀ (σ : SS) (H : Heap) (locs : List Loc) (ls : Array Slot), K140  σ = some (r, σ') → wx G rd q σ H → va_S (fa G) s.heap H locs → lv_has ls 2 [(0, .ref (q 1))] → W p l e rmX8_readsOn s m args below meth c H locs 0 0 (MQ below (qxv G rd q σ' r) args s 0 0 (fa G)) (F0 m 140 ls [])) : ∀ (z0 : Int32) (σ : SS) (H : Heap) (locs : List Loc) (ls : Array Slot), F_X8_readsOn_201 N K140 z0 σ = some (r, σ') → wx G rd q σ H → va_S (fa G) s.heap H locs → lv_has ls 2 [(0, .ref (q 1))] → W p l e rmX8_readsOn s m args below meth c H locs 0 0 (MQ below (qxv G rd q σ' r) args s 0 0 (fa G)) (F0 m 201 ls [.int z0, .ref (q 1)]) := by
  obtain ⟨hx, hb, hml, hown, hts, -, -, -, -⟩ := id C
  intro z0 σ H locs ls hF hw hS hl
  unfold F_X8_readsOn_201 at hF
  obtain ⟨σ_55, eσ_55, hF⟩ := nm_e2 hF
  refine r_put8 C hw hS 11 (by decide) rfl rfl (tyX8_ok 11 (by decide)) rfl rfl q966 dX8_readsOn_201 eσ_55 (fun H locs hw hS => ?_)
  refine lv_aload_n hx hb dX8_readsOn_204 rfl (lv_at hl 0 rfl) ?_
  refine lv_dup hx hb dX8_readsOn_205 rfl ?_
  refine r_get8 C hw 8 (by decide) rfl (v := .int (gi σ_55 1 8)) rfl q963 dX8_readsOn_206 ?_
  refine lv_iconst (v := (1 : Int32)) hx hb dX8_readsOn_209 (by decide) ?_
  refine lv_iadd hx hb dX8_readsOn_210 ?_
  obtain ⟨σ_56, eσ_56, hF⟩ := nm_e2 hF
  refine r_put8 C hw hS 8 (by decide) rfl rfl (tyX8_ok 8 (by decide)) rfl rfl q963 dX8_readsOn_211 eσ_56 (fun H locs hw hS => ?_)
  refine lv_goto (tgt := 140) hx hb dX8_readsOn_214 (by decide) ?_
  exact HK140  _ _ _ _ hF hw hS (lv_sub hl [0] rfl)
noncomputable def B_X8_readsOn_140 (N : Nat) (IH : SS → Option (Unit × SS))  (σ : SS) : Option (Unit × SS) :=
  bd (F_X8_byteAt N (gi σ 1 8) σ) fun r_57 σ_58 =>
  bd (F_X8_in N r_57.toInt64 (48 : Int64) (57 : Int64) σ_58) fun r_60 σ_61 =>
  if r_60 = (0 : Int32) then
    nm (si σ_61 1 10 (2 : Int32)) fun σ_64 =>
    if ((gi σ_64 1 8) - (gi σ_64 1 9)) ≤ (2 : Int32) then
      some ((), σ_64)
    else
      bd (F_X8_fails N (1 : Int32) σ_64) fun r_66 σ_67 =>
      some ((), σ_67)
  else
    if (2 : Int32) ≤ ((gi σ_61 1 8) - (gi σ_61 1 9)) then
      F_X8_readsOn_201 N IH (gi σ_61 1 11) σ_61
    else
      bd (F_X8_byteAt N (gi σ_61 1 8) σ_61) fun r_70 σ_71 =>
      F_X8_readsOn_201 N IH ((((10 : Int32) * (gi σ_61 1 11)) + r_70) - (48 : Int32)) σ_71
noncomputable def F_X8_readsOn_140 (N : Nat) (n : Nat) : SS → Option (Unit × SS) := Nat.rec (fun  _ => none) (fun _ IH => B_X8_readsOn_140 N IH) n
set_option maxRecDepth 100000 in
theorem w_X8_readsOn_140 {p : Program} {l : Launch} {e : Env} {s : State} {m : MethodId} {args : Array Value} {below : List Frame} {meth : Method} {c : Code} {G : GG} {rd : Bool} {q : Nat → Nat} {N : Nat} {r : Unit} {σ' : SS} (C : cx p s m args meth c cX8_readsOn 2 RX8 none G) : ∀ (n : Nat), ∀ (σ : SS) (H : Heap) (locs : List Loc) (ls : Array Slot), F_X8_readsOn_140 N n  σ = some (r, σ') → wx G rd q σ H → va_S (fa G) s.heap H locs → lv_has ls 2 [(0, .ref (q 1))] → W p l e rmX8_readsOn s m args below meth c H locs 0 0 (MQ below (qxv G rd q σ' r) args s 0 0 (fa G)) (F0 m 140 ls []) := by
  obtain ⟨hx, hb, hml, hown, hts, -, -, -, -⟩ := id C
  intro n
  induction n with
  | zero =>
    intro σ H locs ls hF hw hS hl
    cases hF
  | succ n ih =>
    intro σ H locs ls hF hw hS hl
    have hF : B_X8_readsOn_140 N (F_X8_readsOn_140 N n)  σ = some (r, σ') := hF
    unfold B_X8_readsOn_140 at hF
    refine lv_aload_n hx hb dX8_readsOn_140 rfl (lv_at hl 0 rfl) ?_
    refine lv_aload_n hx hb dX8_readsOn_141 rfl (lv_at hl 0 rfl) ?_
    refine r_get8 C hw 8 (by decide) rfl (v := .int (gi σ 1 8)) rfl q963 dX8_readsOn_142 ?_
    obtain ⟨r_57, σ_58, h_59, hF⟩ := bd_e hF
    refine r_callVi (As := [.int (gi σ 1 8)]) (rest := []) (i := 1) C hw hS (wi_lo (Or.inl (by decide))) rfl (ci := 8) rfl (met_X8_byteAt l G rd q  h_59) (cwV 1 hts (lw_V q1055 q1057 qs32 q65 q1058) rfl rfl rfl (by decide +kernel) ⟨Nat.le_of_ble_eq_true rfl, Nat.le_of_ble_eq_true rfl⟩) rfl hl.1 rfl (Nat.le_of_ble_eq_true rfl) ⟨Nat.le_refl _, Nat.le_refl _⟩ dX8_readsOn_145 (fun H locs hw hS => ?_)
    refine lv_i2l hx hb dX8_readsOn_148 rfl ?_
    refine lv_ldc2 (v := (48 : Int64)) hx hb hown (hts _ q1061) dX8_readsOn_149 ?_
    refine lv_ldc2 (v := (57 : Int64)) hx hb hown (hts _ q1062) dX8_readsOn_152 ?_
    obtain ⟨r_60, σ_61, h_62, hF⟩ := bd_e hF
    refine r_callSi (As := [.long r_57.toInt64, .long (48 : Int64), .long (57 : Int64)]) (rest := []) C hw hS (met_X8_in l G rd q  h_62) (cwS 3 hts (lw_S q1040 q1041 q65 q1042) rfl rfl rfl (by decide +kernel) ⟨Nat.le_of_ble_eq_true rfl, Nat.le_of_ble_eq_true rfl⟩) rfl hl.1 rfl (Nat.le_of_ble_eq_true rfl) ⟨Nat.le_refl _, Nat.le_refl _⟩ dX8_readsOn_155 (fun H locs hw hS => ?_)
    refine lv_if_eq (tgt := 217) hx hb dX8_readsOn_158 (by decide) (fun c_63 => ?_) (fun c_63 => ?_)
    · have hF := it_e hF c_63
      refine lv_aload_n hx hb dX8_readsOn_217 rfl (lv_at hl 0 rfl) ?_
      refine lv_iconst (v := (2 : Int32)) hx hb dX8_readsOn_218 (by decide) ?_
      obtain ⟨σ_64, eσ_64, hF⟩ := nm_e2 hF
      refine r_put8 C hw hS 10 (by decide) rfl rfl (tyX8_ok 10 (by decide)) rfl rfl q965 dX8_readsOn_219 eσ_64 (fun H locs hw hS => ?_)
      refine lv_aload_n hx hb dX8_readsOn_222 rfl (lv_at hl 0 rfl) ?_
      refine r_get8 C hw 8 (by decide) rfl (v := .int (gi σ_64 1 8)) rfl q963 dX8_readsOn_223 ?_
      refine lv_aload_n hx hb dX8_readsOn_226 rfl (lv_at hl 0 rfl) ?_
      refine r_get8 C hw 9 (by decide) rfl (v := .int (gi σ_64 1 9)) rfl q964 dX8_readsOn_227 ?_
      refine lv_isub hx hb dX8_readsOn_230 ?_
      refine lv_iconst (v := (2 : Int32)) hx hb dX8_readsOn_231 (by decide) ?_
      refine lv_icmp_le (tgt := 269) hx hb dX8_readsOn_232 (by decide) (fun c_65 => ?_) (fun c_65 => ?_)
      · have hF := it_e hF c_65
        exact r_vret C hw hS hF dX8_readsOn_269
      · have hF := if_e hF c_65
        refine lv_aload_n hx hb dX8_readsOn_235 rfl (lv_at hl 0 rfl) ?_
        refine lv_iconst (v := (1 : Int32)) hx hb dX8_readsOn_236 (by decide) ?_
        obtain ⟨r_66, σ_67, h_68, hF⟩ := bd_e hF
        refine r_callVv (As := [.int (1 : Int32)]) (rest := []) (i := 1) C hw hS (wi_lo (Or.inl (by decide))) rfl (ci := 8) rfl (met_X8_fails l G rd q  h_68) (cwV 1 hts (lw_V q1063 q1065 qs33 q65 q1066) rfl rfl rfl (by decide +kernel) ⟨Nat.le_of_ble_eq_true rfl, Nat.le_of_ble_eq_true rfl⟩) rfl hl.1 rfl (Nat.le_of_ble_eq_true rfl) ⟨Nat.le_refl _, Nat.le_refl _⟩ dX8_readsOn_237 (fun H locs hw hS => ?_)
        refine lv_goto (tgt := 269) hx hb dX8_readsOn_240 (by decide) ?_
        exact r_vret C hw hS hF dX8_readsOn_269
    · have hF := if_e hF c_63
      refine lv_aload_n hx hb dX8_readsOn_161 rfl (lv_at hl 0 rfl) ?_
      refine lv_aload_n hx hb dX8_readsOn_162 rfl (lv_at hl 0 rfl) ?_
      refine r_get8 C hw 8 (by decide) rfl (v := .int (gi σ_61 1 8)) rfl q963 dX8_readsOn_163 ?_
      refine lv_aload_n hx hb dX8_readsOn_166 rfl (lv_at hl 0 rfl) ?_
      refine r_get8 C hw 9 (by decide) rfl (v := .int (gi σ_61 1 9)) rfl q964 dX8_readsOn_167 ?_
      refine lv_isub hx hb dX8_readsOn_170 ?_
      refine lv_iconst (v := (2 : Int32)) hx hb dX8_readsOn_171 (by decide) ?_
      refine lv_icmp_ge (tgt := 197) hx hb dX8_readsOn_172 (by decide) (fun c_69 => ?_) (fun c_69 => ?_)
      · have hF := it_e hF c_69
        refine lv_aload_n hx hb dX8_readsOn_197 rfl (lv_at hl 0 rfl) ?_
        refine r_get8 C hw 11 (by decide) rfl (v := .int (gi σ_61 1 11)) rfl q966 dX8_readsOn_198 ?_
        exact w_X8_readsOn_201 C  ih _ _ _ _ _ hF hw hS (lv_sub hl [0] rfl)
      · have hF := if_e hF c_69
        refine lv_bipush (v := (10 : Int32)) hx hb dX8_readsOn_175 (by decide) ?_
        refine lv_aload_n hx hb dX8_readsOn_177 rfl (lv_at hl 0 rfl) ?_
        refine r_get8 C hw 11 (by decide) rfl (v := .int (gi σ_61 1 11)) rfl q966 dX8_readsOn_178 ?_
        refine lv_imul hx hb dX8_readsOn_181 ?_
        refine lv_aload_n hx hb dX8_readsOn_182 rfl (lv_at hl 0 rfl) ?_
        refine lv_aload_n hx hb dX8_readsOn_183 rfl (lv_at hl 0 rfl) ?_
        refine r_get8 C hw 8 (by decide) rfl (v := .int (gi σ_61 1 8)) rfl q963 dX8_readsOn_184 ?_
        obtain ⟨r_70, σ_71, h_72, hF⟩ := bd_e hF
        refine r_callVi (As := [.int (gi σ_61 1 8)]) (rest := [.int ((10 : Int32) * (gi σ_61 1 11)), .ref (q 1)]) (i := 1) C hw hS (wi_lo (Or.inl (by decide))) rfl (ci := 8) rfl (met_X8_byteAt l G rd q  h_72) (cwV 1 hts (lw_V q1055 q1057 qs32 q65 q1058) rfl rfl rfl (by decide +kernel) ⟨Nat.le_of_ble_eq_true rfl, Nat.le_of_ble_eq_true rfl⟩) rfl hl.1 rfl (Nat.le_of_ble_eq_true rfl) ⟨Nat.le_refl _, Nat.le_refl _⟩ dX8_readsOn_187 (fun H locs hw hS => ?_)
        refine lv_iadd hx hb dX8_readsOn_190 ?_
        refine lv_bipush (v := (48 : Int32)) hx hb dX8_readsOn_191 (by decide) ?_
        refine lv_isub hx hb dX8_readsOn_193 ?_
        refine lv_goto (tgt := 201) hx hb dX8_readsOn_194 (by decide) ?_
        exact w_X8_readsOn_201 C  ih _ _ _ _ _ hF hw hS (lv_sub hl [0] rfl)
noncomputable def B_X8_readsOn_84 (N : Nat) (IH : SS → Option (Unit × SS))  (σ : SS) : Option (Unit × SS) :=
  bd (F_X8_byteAt N (gi σ 1 8) σ) fun r_73 σ_74 =>
  bd (F_X8_in N r_73.toInt64 (97 : Int64) (122 : Int64) σ_74) fun r_76 σ_77 =>
  if r_76 = (0 : Int32) then
    nm (si σ_77 1 10 (1 : Int32)) fun σ_80 =>
    some ((), σ_80)
  else
    nm (si σ_77 1 8 ((gi σ_77 1 8) + (1 : Int32))) fun σ_81 =>
    IH σ_81
noncomputable def F_X8_readsOn_84 (N : Nat) (n : Nat) : SS → Option (Unit × SS) := Nat.rec (fun  _ => none) (fun _ IH => B_X8_readsOn_84 N IH) n
set_option maxRecDepth 100000 in
theorem w_X8_readsOn_84 {p : Program} {l : Launch} {e : Env} {s : State} {m : MethodId} {args : Array Value} {below : List Frame} {meth : Method} {c : Code} {G : GG} {rd : Bool} {q : Nat → Nat} {N : Nat} {r : Unit} {σ' : SS} (C : cx p s m args meth c cX8_readsOn 2 RX8 none G) : ∀ (n : Nat), ∀ (σ : SS) (H : Heap) (locs : List Loc) (ls : Array Slot), F_X8_readsOn_84 N n  σ = some (r, σ') → wx G rd q σ H → va_S (fa G) s.heap H locs → lv_has ls 2 [(0, .ref (q 1))] → W p l e rmX8_readsOn s m args below meth c H locs 0 0 (MQ below (qxv G rd q σ' r) args s 0 0 (fa G)) (F0 m 84 ls []) := by
  obtain ⟨hx, hb, hml, hown, hts, -, -, -, -⟩ := id C
  intro n
  induction n with
  | zero =>
    intro σ H locs ls hF hw hS hl
    cases hF
  | succ n ih =>
    intro σ H locs ls hF hw hS hl
    have hF : B_X8_readsOn_84 N (F_X8_readsOn_84 N n)  σ = some (r, σ') := hF
    unfold B_X8_readsOn_84 at hF
    refine lv_aload_n hx hb dX8_readsOn_84 rfl (lv_at hl 0 rfl) ?_
    refine lv_aload_n hx hb dX8_readsOn_85 rfl (lv_at hl 0 rfl) ?_
    refine r_get8 C hw 8 (by decide) rfl (v := .int (gi σ 1 8)) rfl q963 dX8_readsOn_86 ?_
    obtain ⟨r_73, σ_74, h_75, hF⟩ := bd_e hF
    refine r_callVi (As := [.int (gi σ 1 8)]) (rest := []) (i := 1) C hw hS (wi_lo (Or.inl (by decide))) rfl (ci := 8) rfl (met_X8_byteAt l G rd q  h_75) (cwV 1 hts (lw_V q1055 q1057 qs32 q65 q1058) rfl rfl rfl (by decide +kernel) ⟨Nat.le_of_ble_eq_true rfl, Nat.le_of_ble_eq_true rfl⟩) rfl hl.1 rfl (Nat.le_of_ble_eq_true rfl) ⟨Nat.le_refl _, Nat.le_refl _⟩ dX8_readsOn_89 (fun H locs hw hS => ?_)
    refine lv_i2l hx hb dX8_readsOn_92 rfl ?_
    refine lv_ldc2 (v := (97 : Int64)) hx hb hown (hts _ q1059) dX8_readsOn_93 ?_
    refine lv_ldc2 (v := (122 : Int64)) hx hb hown (hts _ q1060) dX8_readsOn_96 ?_
    obtain ⟨r_76, σ_77, h_78, hF⟩ := bd_e hF
    refine r_callSi (As := [.long r_73.toInt64, .long (97 : Int64), .long (122 : Int64)]) (rest := []) C hw hS (met_X8_in l G rd q  h_78) (cwS 3 hts (lw_S q1040 q1041 q65 q1042) rfl rfl rfl (by decide +kernel) ⟨Nat.le_of_ble_eq_true rfl, Nat.le_of_ble_eq_true rfl⟩) rfl hl.1 rfl (Nat.le_of_ble_eq_true rfl) ⟨Nat.le_refl _, Nat.le_refl _⟩ dX8_readsOn_99 (fun H locs hw hS => ?_)
    refine lv_if_eq (tgt := 118) hx hb dX8_readsOn_102 (by decide) (fun c_79 => ?_) (fun c_79 => ?_)
    · have hF := it_e hF c_79
      refine lv_aload_n hx hb dX8_readsOn_118 rfl (lv_at hl 0 rfl) ?_
      refine lv_iconst (v := (1 : Int32)) hx hb dX8_readsOn_119 (by decide) ?_
      obtain ⟨σ_80, eσ_80, hF⟩ := nm_e2 hF
      refine r_put8 C hw hS 10 (by decide) rfl rfl (tyX8_ok 10 (by decide)) rfl rfl q965 dX8_readsOn_120 eσ_80 (fun H locs hw hS => ?_)
      refine lv_goto (tgt := 269) hx hb dX8_readsOn_123 (by decide) ?_
      exact r_vret C hw hS hF dX8_readsOn_269
    · have hF := if_e hF c_79
      refine lv_aload_n hx hb dX8_readsOn_105 rfl (lv_at hl 0 rfl) ?_
      refine lv_dup hx hb dX8_readsOn_106 rfl ?_
      refine r_get8 C hw 8 (by decide) rfl (v := .int (gi σ_77 1 8)) rfl q963 dX8_readsOn_107 ?_
      refine lv_iconst (v := (1 : Int32)) hx hb dX8_readsOn_110 (by decide) ?_
      refine lv_iadd hx hb dX8_readsOn_111 ?_
      obtain ⟨σ_81, eσ_81, hF⟩ := nm_e2 hF
      refine r_put8 C hw hS 8 (by decide) rfl rfl (tyX8_ok 8 (by decide)) rfl rfl q963 dX8_readsOn_112 eσ_81 (fun H locs hw hS => ?_)
      refine lv_goto (tgt := 84) hx hb dX8_readsOn_115 (by decide) ?_
      exact ih  _ _ _ _ hF hw hS (lv_sub hl [0] rfl)
noncomputable def B_X8_readsOn_8 (N : Nat) (IH : SS → Option (Unit × SS))  (σ : SS) : Option (Unit × SS) :=
  bd (F_X8_byteAt N (gi σ 1 8) σ) fun r_82 σ_83 =>
  if r_82 = (32 : Int32) then
    nm (si σ_83 1 8 ((gi σ_83 1 8) + (1 : Int32))) fun σ_107 =>
    IH σ_107
  else
    nm (si σ_83 1 9 (gi σ_83 1 8)) fun σ_86 =>
    bd (F_X8_byteAt N (gi σ_86 1 8) σ_86) fun r_87 σ_88 =>
    nm (si σ_88 1 11 (0 : Int32)) fun σ_90 =>
    if r_87 = (-4 : Int32) then
      nm (si σ_90 1 10 (0 : Int32)) fun σ_106 =>
      some ((), σ_106)
    else
      bd (F_X8_in N r_87.toInt64 (97 : Int64) (122 : Int64) σ_90) fun r_92 σ_93 =>
      if r_92 = (0 : Int32) then
        bd (F_X8_in N r_87.toInt64 (48 : Int64) (57 : Int64) σ_93) fun r_96 σ_97 =>
        if r_96 = (0 : Int32) then
          nm (si σ_97 1 10 (3 : Int32)) fun σ_100 =>
          nm (si σ_100 1 8 ((gi σ_100 1 8) + (1 : Int32))) fun σ_101 =>
          if r_87 = (59 : Int32) then
            some ((), σ_101)
          else
            bd (F_X8_fails N (1 : Int32) σ_101) fun r_103 σ_104 =>
            some ((), σ_104)
        else
          F_X8_readsOn_140 N N σ_97
      else
        F_X8_readsOn_84 N N σ_93
noncomputable def F_X8_readsOn_8 (N : Nat) (n : Nat) : SS → Option (Unit × SS) := Nat.rec (fun  _ => none) (fun _ IH => B_X8_readsOn_8 N IH) n
set_option maxRecDepth 100000 in
theorem w_X8_readsOn_8 {p : Program} {l : Launch} {e : Env} {s : State} {m : MethodId} {args : Array Value} {below : List Frame} {meth : Method} {c : Code} {G : GG} {rd : Bool} {q : Nat → Nat} {N : Nat} {r : Unit} {σ' : SS} (C : cx p s m args meth c cX8_readsOn 2 RX8 none G) : ∀ (n : Nat), ∀ (σ : SS) (H : Heap) (locs : List Loc) (ls : Array Slot), F_X8_readsOn_8 N n  σ = some (r, σ') → wx G rd q σ H → va_S (fa G) s.heap H locs → lv_has ls 2 [(0, .ref (q 1))] → W p l e rmX8_readsOn s m args below meth c H locs 0 0 (MQ below (qxv G rd q σ' r) args s 0 0 (fa G)) (F0 m 8 ls []) := by
  obtain ⟨hx, hb, hml, hown, hts, -, -, -, -⟩ := id C
  intro n
  induction n with
  | zero =>
    intro σ H locs ls hF hw hS hl
    cases hF
  | succ n ih =>
    intro σ H locs ls hF hw hS hl
    have hF : B_X8_readsOn_8 N (F_X8_readsOn_8 N n)  σ = some (r, σ') := hF
    unfold B_X8_readsOn_8 at hF
    refine lv_aload_n hx hb dX8_readsOn_8 rfl (lv_at hl 0 rfl) ?_
    refine lv_aload_n hx hb dX8_readsOn_9 rfl (lv_at hl 0 rfl) ?_
    refine r_get8 C hw 8 (by decide) rfl (v := .int (gi σ 1 8)) rfl q963 dX8_readsOn_10 ?_
    obtain ⟨r_82, σ_83, h_84, hF⟩ := bd_e hF
    refine r_callVi (As := [.int (gi σ 1 8)]) (rest := []) (i := 1) C hw hS (wi_lo (Or.inl (by decide))) rfl (ci := 8) rfl (met_X8_byteAt l G rd q  h_84) (cwV 1 hts (lw_V q1055 q1057 qs32 q65 q1058) rfl rfl rfl (by decide +kernel) ⟨Nat.le_of_ble_eq_true rfl, Nat.le_of_ble_eq_true rfl⟩) rfl hl.1 rfl (Nat.le_of_ble_eq_true rfl) ⟨Nat.le_refl _, Nat.le_refl _⟩ dX8_readsOn_13 (fun H locs hw hS => ?_)
    refine lv_bipush (v := (32 : Int32)) hx hb dX8_readsOn_16 (by decide) ?_
    refine lv_icmp_ne (tgt := 34) hx hb dX8_readsOn_18 (by decide) (fun c_85 => ?_) (fun c_85 => ?_)
    · have hF := if_e hF c_85
      refine lv_aload_n hx hb dX8_readsOn_34 rfl (lv_at hl 0 rfl) ?_
      refine lv_aload_n hx hb dX8_readsOn_35 rfl (lv_at hl 0 rfl) ?_
      refine r_get8 C hw 8 (by decide) rfl (v := .int (gi σ_83 1 8)) rfl q963 dX8_readsOn_36 ?_
      obtain ⟨σ_86, eσ_86, hF⟩ := nm_e2 hF
      refine r_put8 C hw hS 9 (by decide) rfl rfl (tyX8_ok 9 (by decide)) rfl rfl q964 dX8_readsOn_39 eσ_86 (fun H locs hw hS => ?_)
      refine lv_aload_n hx hb dX8_readsOn_42 rfl (lv_at hl 0 rfl) ?_
      refine lv_aload_n hx hb dX8_readsOn_43 rfl (lv_at hl 0 rfl) ?_
      refine r_get8 C hw 8 (by decide) rfl (v := .int (gi σ_86 1 8)) rfl q963 dX8_readsOn_44 ?_
      obtain ⟨r_87, σ_88, h_89, hF⟩ := bd_e hF
      refine r_callVi (As := [.int (gi σ_86 1 8)]) (rest := []) (i := 1) C hw hS (wi_lo (Or.inl (by decide))) rfl (ci := 8) rfl (met_X8_byteAt l G rd q  h_89) (cwV 1 hts (lw_V q1055 q1057 qs32 q65 q1058) rfl rfl rfl (by decide +kernel) ⟨Nat.le_of_ble_eq_true rfl, Nat.le_of_ble_eq_true rfl⟩) rfl hl.1 rfl (Nat.le_of_ble_eq_true rfl) ⟨Nat.le_refl _, Nat.le_refl _⟩ dX8_readsOn_47 (fun H locs hw hS => ?_)
      refine lv_istore_n (lv' := [(1, .int r_87), (0, .ref (q 1))]) hx hb dX8_readsOn_50 rfl hl (by decide) rfl (fun ls hl => ?_)
      refine lv_aload_n hx hb dX8_readsOn_51 rfl (lv_at hl 1 rfl) ?_
      refine lv_iconst (v := (0 : Int32)) hx hb dX8_readsOn_52 (by decide) ?_
      obtain ⟨σ_90, eσ_90, hF⟩ := nm_e2 hF
      refine r_put8 C hw hS 11 (by decide) rfl rfl (tyX8_ok 11 (by decide)) rfl rfl q966 dX8_readsOn_53 eσ_90 (fun H locs hw hS => ?_)
      refine lv_iload_n hx hb dX8_readsOn_56 rfl (lv_at hl 0 rfl) ?_
      refine lv_bipush (v := (-4 : Int32)) hx hb dX8_readsOn_57 (by decide) ?_
      refine lv_icmp_ne (tgt := 70) hx hb dX8_readsOn_59 (by decide) (fun c_91 => ?_) (fun c_91 => ?_)
      · have hF := if_e hF c_91
        refine lv_iload_n hx hb dX8_readsOn_70 rfl (lv_at hl 0 rfl) ?_
        refine lv_i2l hx hb dX8_readsOn_71 rfl ?_
        refine lv_ldc2 (v := (97 : Int64)) hx hb hown (hts _ q1059) dX8_readsOn_72 ?_
        refine lv_ldc2 (v := (122 : Int64)) hx hb hown (hts _ q1060) dX8_readsOn_75 ?_
        obtain ⟨r_92, σ_93, h_94, hF⟩ := bd_e hF
        refine r_callSi (As := [.long r_87.toInt64, .long (97 : Int64), .long (122 : Int64)]) (rest := []) C hw hS (met_X8_in l G rd q  h_94) (cwS 3 hts (lw_S q1040 q1041 q65 q1042) rfl rfl rfl (by decide +kernel) ⟨Nat.le_of_ble_eq_true rfl, Nat.le_of_ble_eq_true rfl⟩) rfl hl.1 rfl (Nat.le_of_ble_eq_true rfl) ⟨Nat.le_refl _, Nat.le_refl _⟩ dX8_readsOn_78 (fun H locs hw hS => ?_)
        refine lv_if_eq (tgt := 126) hx hb dX8_readsOn_81 (by decide) (fun c_95 => ?_) (fun c_95 => ?_)
        · have hF := it_e hF c_95
          refine lv_iload_n hx hb dX8_readsOn_126 rfl (lv_at hl 0 rfl) ?_
          refine lv_i2l hx hb dX8_readsOn_127 rfl ?_
          refine lv_ldc2 (v := (48 : Int64)) hx hb hown (hts _ q1061) dX8_readsOn_128 ?_
          refine lv_ldc2 (v := (57 : Int64)) hx hb hown (hts _ q1062) dX8_readsOn_131 ?_
          obtain ⟨r_96, σ_97, h_98, hF⟩ := bd_e hF
          refine r_callSi (As := [.long r_87.toInt64, .long (48 : Int64), .long (57 : Int64)]) (rest := []) C hw hS (met_X8_in l G rd q  h_98) (cwS 3 hts (lw_S q1040 q1041 q65 q1042) rfl rfl rfl (by decide +kernel) ⟨Nat.le_of_ble_eq_true rfl, Nat.le_of_ble_eq_true rfl⟩) rfl hl.1 rfl (Nat.le_of_ble_eq_true rfl) ⟨Nat.le_refl _, Nat.le_refl _⟩ dX8_readsOn_134 (fun H locs hw hS => ?_)
          refine lv_if_eq (tgt := 243) hx hb dX8_readsOn_137 (by decide) (fun c_99 => ?_) (fun c_99 => ?_)
          · have hF := it_e hF c_99
            refine lv_aload_n hx hb dX8_readsOn_243 rfl (lv_at hl 1 rfl) ?_
            refine lv_iconst (v := (3 : Int32)) hx hb dX8_readsOn_244 (by decide) ?_
            obtain ⟨σ_100, eσ_100, hF⟩ := nm_e2 hF
            refine r_put8 C hw hS 10 (by decide) rfl rfl (tyX8_ok 10 (by decide)) rfl rfl q965 dX8_readsOn_245 eσ_100 (fun H locs hw hS => ?_)
            refine lv_aload_n hx hb dX8_readsOn_248 rfl (lv_at hl 1 rfl) ?_
            refine lv_dup hx hb dX8_readsOn_249 rfl ?_
            refine r_get8 C hw 8 (by decide) rfl (v := .int (gi σ_100 1 8)) rfl q963 dX8_readsOn_250 ?_
            refine lv_iconst (v := (1 : Int32)) hx hb dX8_readsOn_253 (by decide) ?_
            refine lv_iadd hx hb dX8_readsOn_254 ?_
            obtain ⟨σ_101, eσ_101, hF⟩ := nm_e2 hF
            refine r_put8 C hw hS 8 (by decide) rfl rfl (tyX8_ok 8 (by decide)) rfl rfl q963 dX8_readsOn_255 eσ_101 (fun H locs hw hS => ?_)
            refine lv_iload_n hx hb dX8_readsOn_258 rfl (lv_at hl 0 rfl) ?_
            refine lv_bipush (v := (59 : Int32)) hx hb dX8_readsOn_259 (by decide) ?_
            refine lv_icmp_eq (tgt := 269) hx hb dX8_readsOn_261 (by decide) (fun c_102 => ?_) (fun c_102 => ?_)
            · have hF := it_e hF c_102
              exact r_vret C hw hS hF dX8_readsOn_269
            · have hF := if_e hF c_102
              refine lv_aload_n hx hb dX8_readsOn_264 rfl (lv_at hl 1 rfl) ?_
              refine lv_iconst (v := (1 : Int32)) hx hb dX8_readsOn_265 (by decide) ?_
              obtain ⟨r_103, σ_104, h_105, hF⟩ := bd_e hF
              refine r_callVv (As := [.int (1 : Int32)]) (rest := []) (i := 1) C hw hS (wi_lo (Or.inl (by decide))) rfl (ci := 8) rfl (met_X8_fails l G rd q  h_105) (cwV 1 hts (lw_V q1063 q1065 qs33 q65 q1066) rfl rfl rfl (by decide +kernel) ⟨Nat.le_of_ble_eq_true rfl, Nat.le_of_ble_eq_true rfl⟩) rfl hl.1 rfl (Nat.le_of_ble_eq_true rfl) ⟨Nat.le_refl _, Nat.le_refl _⟩ dX8_readsOn_266 (fun H locs hw hS => ?_)
              exact r_vret C hw hS hF dX8_readsOn_269
          · have hF := if_e hF c_99
            exact w_X8_readsOn_140 C   N  _ _ _ _ hF hw hS (lv_sub hl [1] rfl)
        · have hF := if_e hF c_95
          exact w_X8_readsOn_84 C   N  _ _ _ _ hF hw hS (lv_sub hl [1] rfl)
      · have hF := it_e hF c_91
        refine lv_aload_n hx hb dX8_readsOn_62 rfl (lv_at hl 1 rfl) ?_
        refine lv_iconst (v := (0 : Int32)) hx hb dX8_readsOn_63 (by decide) ?_
        obtain ⟨σ_106, eσ_106, hF⟩ := nm_e2 hF
        refine r_put8 C hw hS 10 (by decide) rfl rfl (tyX8_ok 10 (by decide)) rfl rfl q965 dX8_readsOn_64 eσ_106 (fun H locs hw hS => ?_)
        refine lv_goto (tgt := 269) hx hb dX8_readsOn_67 (by decide) ?_
        exact r_vret C hw hS hF dX8_readsOn_269
    · have hF := it_e hF c_85
      refine lv_aload_n hx hb dX8_readsOn_21 rfl (lv_at hl 0 rfl) ?_
      refine lv_dup hx hb dX8_readsOn_22 rfl ?_
      refine r_get8 C hw 8 (by decide) rfl (v := .int (gi σ_83 1 8)) rfl q963 dX8_readsOn_23 ?_
      refine lv_iconst (v := (1 : Int32)) hx hb dX8_readsOn_26 (by decide) ?_
      refine lv_iadd hx hb dX8_readsOn_27 ?_
      obtain ⟨σ_107, eσ_107, hF⟩ := nm_e2 hF
      refine r_put8 C hw hS 8 (by decide) rfl rfl (tyX8_ok 8 (by decide)) rfl rfl q963 dX8_readsOn_28 eσ_107 (fun H locs hw hS => ?_)
      refine lv_goto (tgt := 8) hx hb dX8_readsOn_31 (by decide) ?_
      exact ih  _ _ _ _ hF hw hS (lv_sub hl [0] rfl)
noncomputable def F_X8_readsOn (N : Nat)  (σ : SS) : Option (Unit × SS) :=
  if (gi σ 1 6) ≤ (0 : Int32) then
    F_X8_readsOn_8 N N σ
  else
    some ((), σ)
set_option maxRecDepth 100000 in
theorem met_X8_readsOn (l : Launch) (G : GG) (rd : Bool) (q : Nat → Nat) {N : Nat} {σ σ' : SS} {r : Unit} (hF : F_X8_readsOn N  σ = some (r, σ')) : Met l yX8_readsOn (ws_ yX8_readsOn cX8_readsOn 2 none) rmX8_readsOn (pcx G rd q σ [.ref (q 1)]) (qxv G rd q σ' r) 0 0 (fa G) := by
  refine met_of (by decide) (Nat.le_of_ble_eq_true rfl) ?_
  intro p e s m below meth c C H locs ls hw hS hl
  obtain ⟨hx, hb, hml, hown, hts, -, -, -, -⟩ := id C
  have hl : lv_has ls 2 [(0, .ref (q 1))] := hl
  unfold F_X8_readsOn at hF
  refine lv_aload_n hx hb dX8_readsOn_0 rfl (lv_at hl 0 rfl) ?_
  refine r_get8 C hw 6 (by decide) rfl (v := .int (gi σ 1 6)) rfl q961 dX8_readsOn_1 ?_
  refine lv_if_le (tgt := 8) hx hb dX8_readsOn_4 (by decide) (fun c_108 => ?_) (fun c_108 => ?_)
  · have hF := it_e hF c_108
    exact w_X8_readsOn_8 C   N  _ _ _ _ hF hw hS (lv_sub hl [0] rfl)
  · have hF := if_e hF c_108
    exact r_vret C hw hS hF dX8_readsOn_7
abbrev rmX8_number : Room := { frames := 3, cells := 0, slots := 0, locals := 106 }
noncomputable def F_X8_number_62 (N : Nat) (z0 : Int32) (σ : SS) : Option (Int32 × SS) :=
  bd (F_X8_readsOn N σ) fun r_18 σ_19 =>
  some (z0, σ_19)
set_option maxRecDepth 100000 in
theorem w_X8_number_62 {p : Program} {l : Launch} {e : Env} {s : State} {m : MethodId} {args : Array Value} {below : List Frame} {meth : Method} {c : Code} {G : GG} {rd : Bool} {q : Nat → Nat} {N : Nat} {r : Int32} {σ' : SS} (C : cx p s m args meth c cX8_number 4 RX8 (some .int) G) : ∀ (z0 : Int32) (σ : SS) (H : Heap) (locs : List Loc) (ls : Array Slot), F_X8_number_62 N z0 σ = some (r, σ') → wx G rd q σ H → va_S (fa G) s.heap H locs → lv_has ls 4 [(0, .ref (q 1))] → W p l e rmX8_number s m args below meth c H locs 0 0 (MQ below (qxi G rd q σ' r) args s 0 0 (fa G)) (F0 m 62 ls [.int z0]) := by
  obtain ⟨hx, hb, hml, hown, hts, -, -, -, -⟩ := id C
  intro z0 σ H locs ls hF hw hS hl
  unfold F_X8_number_62 at hF
  refine lv_istore_n (lv' := [(3, .int z0), (0, .ref (q 1))]) hx hb dX8_number_62 rfl hl (by decide) rfl (fun ls hl => ?_)
  refine lv_aload_n hx hb dX8_number_63 rfl (lv_at hl 1 rfl) ?_
  obtain ⟨r_18, σ_19, h_20, hF⟩ := bd_e hF
  refine r_callVv (As := []) (rest := []) (i := 1) C hw hS (wi_lo (Or.inl (by decide))) rfl (ci := 8) rfl (met_X8_readsOn l G rd q  h_20) (cwV 0 hts (lw_V q1051 q1053 qs31 q65 q1054) rfl rfl rfl (by decide +kernel) ⟨Nat.le_of_ble_eq_true rfl, Nat.le_of_ble_eq_true rfl⟩) rfl hl.1 rfl (Nat.le_of_ble_eq_true rfl) ⟨Nat.le_refl _, Nat.le_refl _⟩ dX8_number_64 (fun H locs hw hS => ?_)
  refine lv_iload_n hx hb dX8_number_67 rfl (lv_at hl 0 rfl) ?_
  exact r_iret C hw hS hF dX8_number_68
noncomputable def F_X8_number_47 (N : Nat) (x1 : Int32) (σ : SS) : Option (Int32 × SS) :=
  if (gi σ 1 6) = (0 : Int32) then
    F_X8_number_62 N (gi σ 1 11) σ
  else
    F_X8_number_62 N x1 σ
set_option maxRecDepth 100000 in
theorem w_X8_number_47 {p : Program} {l : Launch} {e : Env} {s : State} {m : MethodId} {args : Array Value} {below : List Frame} {meth : Method} {c : Code} {G : GG} {rd : Bool} {q : Nat → Nat} {N : Nat} {r : Int32} {σ' : SS} (C : cx p s m args meth c cX8_number 4 RX8 (some .int) G) : ∀ (x1 : Int32) (σ : SS) (H : Heap) (locs : List Loc) (ls : Array Slot), F_X8_number_47 N x1 σ = some (r, σ') → wx G rd q σ H → va_S (fa G) s.heap H locs → lv_has ls 4 [(0, .ref (q 1)), (1, .int x1)] → W p l e rmX8_number s m args below meth c H locs 0 0 (MQ below (qxi G rd q σ' r) args s 0 0 (fa G)) (F0 m 47 ls []) := by
  obtain ⟨hx, hb, hml, hown, hts, -, -, -, -⟩ := id C
  intro x1 σ H locs ls hF hw hS hl
  unfold F_X8_number_47 at hF
  refine lv_aload_n hx hb dX8_number_47 rfl (lv_at hl 0 rfl) ?_
  refine r_get8 C hw 6 (by decide) rfl (v := .int (gi σ 1 6)) rfl q961 dX8_number_48 ?_
  refine lv_if_ne (tgt := 61) hx hb dX8_number_51 (by decide) (fun c_21 => ?_) (fun c_21 => ?_)
  · have hF := if_e hF c_21
    refine lv_iload_n hx hb dX8_number_61 rfl (lv_at hl 1 rfl) ?_
    exact w_X8_number_62 C   _ _ _ _ _ hF hw hS (lv_sub hl [0] rfl)
  · have hF := it_e hF c_21
    refine lv_aload_n hx hb dX8_number_54 rfl (lv_at hl 0 rfl) ?_
    refine r_get8 C hw 11 (by decide) rfl (v := .int (gi σ 1 11)) rfl q966 dX8_number_55 ?_
    refine lv_goto (tgt := 62) hx hb dX8_number_58 (by decide) ?_
    exact w_X8_number_62 C   _ _ _ _ _ hF hw hS (lv_sub hl [0] rfl)
noncomputable def F_X8_number_20 (N : Nat) (x1 : Int32) (x2 : Int32) (σ : SS) : Option (Int32 × SS) :=
  if (gi σ 1 6) = (0 : Int32) then
    bd (F_X8_in N ((gi σ 1 11).toInt64) x1.toInt64 x2.toInt64 σ) fun r_23 σ_24 =>
    if r_23 = (0 : Int32) then
      bd (F_X8_fails N (3 : Int32) σ_24) fun r_27 σ_28 =>
      F_X8_number_47 N x1 σ_28
    else
      F_X8_number_47 N x1 σ_24
  else
    F_X8_number_47 N x1 σ
set_option maxRecDepth 100000 in
theorem w_X8_number_20 {p : Program} {l : Launch} {e : Env} {s : State} {m : MethodId} {args : Array Value} {below : List Frame} {meth : Method} {c : Code} {G : GG} {rd : Bool} {q : Nat → Nat} {N : Nat} {r : Int32} {σ' : SS} (C : cx p s m args meth c cX8_number 4 RX8 (some .int) G) : ∀ (x1 : Int32) (x2 : Int32) (σ : SS) (H : Heap) (locs : List Loc) (ls : Array Slot), F_X8_number_20 N x1 x2 σ = some (r, σ') → wx G rd q σ H → va_S (fa G) s.heap H locs → lv_has ls 4 [(0, .ref (q 1)), (1, .int x1), (2, .int x2)] → W p l e rmX8_number s m args below meth c H locs 0 0 (MQ below (qxi G rd q σ' r) args s 0 0 (fa G)) (F0 m 20 ls []) := by
  obtain ⟨hx, hb, hml, hown, hts, -, -, -, -⟩ := id C
  intro x1 x2 σ H locs ls hF hw hS hl
  unfold F_X8_number_20 at hF
  refine lv_aload_n hx hb dX8_number_20 rfl (lv_at hl 0 rfl) ?_
  refine r_get8 C hw 6 (by decide) rfl (v := .int (gi σ 1 6)) rfl q961 dX8_number_21 ?_
  refine lv_if_ne (tgt := 47) hx hb dX8_number_24 (by decide) (fun c_22 => ?_) (fun c_22 => ?_)
  · have hF := if_e hF c_22
    exact w_X8_number_47 C   _ _ _ _ _ hF hw hS (lv_sub hl [0, 1] rfl)
  · have hF := it_e hF c_22
    refine lv_aload_n hx hb dX8_number_27 rfl (lv_at hl 0 rfl) ?_
    refine r_get8 C hw 11 (by decide) rfl (v := .int (gi σ 1 11)) rfl q966 dX8_number_28 ?_
    refine lv_i2l hx hb dX8_number_31 rfl ?_
    refine lv_iload_n hx hb dX8_number_32 rfl (lv_at hl 1 rfl) ?_
    refine lv_i2l hx hb dX8_number_33 rfl ?_
    refine lv_iload_n hx hb dX8_number_34 rfl (lv_at hl 2 rfl) ?_
    refine lv_i2l hx hb dX8_number_35 rfl ?_
    obtain ⟨r_23, σ_24, h_25, hF⟩ := bd_e hF
    refine r_callSi (As := [.long ((gi σ 1 11).toInt64), .long x1.toInt64, .long x2.toInt64]) (rest := []) C hw hS (met_X8_in l G rd q  h_25) (cwS 3 hts (lw_S q1040 q1041 q65 q1042) rfl rfl rfl (by decide +kernel) ⟨Nat.le_of_ble_eq_true rfl, Nat.le_of_ble_eq_true rfl⟩) rfl hl.1 rfl (Nat.le_of_ble_eq_true rfl) ⟨Nat.le_refl _, Nat.le_refl _⟩ dX8_number_36 (fun H locs hw hS => ?_)
    refine lv_if_ne (tgt := 47) hx hb dX8_number_39 (by decide) (fun c_26 => ?_) (fun c_26 => ?_)
    · have hF := if_e hF c_26
      exact w_X8_number_47 C   _ _ _ _ _ hF hw hS (lv_sub hl [0, 1] rfl)
    · have hF := it_e hF c_26
      refine lv_aload_n hx hb dX8_number_42 rfl (lv_at hl 0 rfl) ?_
      refine lv_iconst (v := (3 : Int32)) hx hb dX8_number_43 (by decide) ?_
      obtain ⟨r_27, σ_28, h_29, hF⟩ := bd_e hF
      refine r_callVv (As := [.int (3 : Int32)]) (rest := []) (i := 1) C hw hS (wi_lo (Or.inl (by decide))) rfl (ci := 8) rfl (met_X8_fails l G rd q  h_29) (cwV 1 hts (lw_V q1063 q1065 qs33 q65 q1066) rfl rfl rfl (by decide +kernel) ⟨Nat.le_of_ble_eq_true rfl, Nat.le_of_ble_eq_true rfl⟩) rfl hl.1 rfl (Nat.le_of_ble_eq_true rfl) ⟨Nat.le_refl _, Nat.le_refl _⟩ dX8_number_44 (fun H locs hw hS => ?_)
      exact w_X8_number_47 C   _ _ _ _ _ hF hw hS (lv_sub hl [0, 1] rfl)
noncomputable def F_X8_number (N : Nat) (x1 : Int32) (x2 : Int32) (σ : SS) : Option (Int32 × SS) :=
  if (gi σ 1 6) = (0 : Int32) then
    if (gi σ 1 10) = (2 : Int32) then
      F_X8_number_20 N x1 x2 σ
    else
      bd (F_X8_fails N (2 : Int32) σ) fun r_32 σ_33 =>
      F_X8_number_20 N x1 x2 σ_33
  else
    F_X8_number_20 N x1 x2 σ
set_option maxRecDepth 100000 in
theorem met_X8_number (l : Launch) (G : GG) (rd : Bool) (q : Nat → Nat) {N : Nat} {x1 : Int32} {x2 : Int32} {σ σ' : SS} {r : Int32} (hF : F_X8_number N x1 x2 σ = some (r, σ')) : Met l yX8_number (ws_ yX8_number cX8_number 4 (some .int)) rmX8_number (pcx G rd q σ [.ref (q 1), .int x1, .int x2]) (qxi G rd q σ' r) 0 0 (fa G) := by
  refine met_of (by decide) (Nat.le_of_ble_eq_true rfl) ?_
  intro p e s m below meth c C H locs ls hw hS hl
  obtain ⟨hx, hb, hml, hown, hts, -, -, -, -⟩ := id C
  have hl : lv_has ls 4 [(0, .ref (q 1)), (1, .int x1), (2, .int x2)] := hl
  unfold F_X8_number at hF
  refine lv_aload_n hx hb dX8_number_0 rfl (lv_at hl 0 rfl) ?_
  refine r_get8 C hw 6 (by decide) rfl (v := .int (gi σ 1 6)) rfl q961 dX8_number_1 ?_
  refine lv_if_ne (tgt := 20) hx hb dX8_number_4 (by decide) (fun c_30 => ?_) (fun c_30 => ?_)
  · have hF := if_e hF c_30
    exact w_X8_number_20 C   _ _ _ _ _ _ hF hw hS (lv_sub hl [0, 1, 2] rfl)
  · have hF := it_e hF c_30
    refine lv_aload_n hx hb dX8_number_7 rfl (lv_at hl 0 rfl) ?_
    refine r_get8 C hw 10 (by decide) rfl (v := .int (gi σ 1 10)) rfl q965 dX8_number_8 ?_
    refine lv_iconst (v := (2 : Int32)) hx hb dX8_number_11 (by decide) ?_
    refine lv_icmp_eq (tgt := 20) hx hb dX8_number_12 (by decide) (fun c_31 => ?_) (fun c_31 => ?_)
    · have hF := it_e hF c_31
      exact w_X8_number_20 C   _ _ _ _ _ _ hF hw hS (lv_sub hl [0, 1, 2] rfl)
    · have hF := if_e hF c_31
      refine lv_aload_n hx hb dX8_number_15 rfl (lv_at hl 0 rfl) ?_
      refine lv_iconst (v := (2 : Int32)) hx hb dX8_number_16 (by decide) ?_
      obtain ⟨r_32, σ_33, h_34, hF⟩ := bd_e hF
      refine r_callVv (As := [.int (2 : Int32)]) (rest := []) (i := 1) C hw hS (wi_lo (Or.inl (by decide))) rfl (ci := 8) rfl (met_X8_fails l G rd q  h_34) (cwV 1 hts (lw_V q1063 q1065 qs33 q65 q1066) rfl rfl rfl (by decide +kernel) ⟨Nat.le_of_ble_eq_true rfl, Nat.le_of_ble_eq_true rfl⟩) rfl hl.1 rfl (Nat.le_of_ble_eq_true rfl) ⟨Nat.le_refl _, Nat.le_refl _⟩ dX8_number_17 (fun H locs hw hS => ?_)
      exact w_X8_number_20 C   _ _ _ _ _ _ hF hw hS (lv_sub hl [0, 1, 2] rfl)
abbrev rmX8_off : Room := { frames := 5, cells := 0, slots := 0, locals := 158 }
noncomputable def F_X8_off_78 (N : Nat) (K33 : Int32 → Int32 → Int32 → Int32 → Int32 → SS → Option (Int32 × SS)) (x1 : Int32) (x2 : Int32) (x3 : Int32) (x5 : Int32) (x6 : Int32) (z0 : Int32) (σ : SS) : Option (Int32 × SS) :=
  if x6 ≤ x3 then
    nm (x5 + (1 : Int32)) fun x_26 =>
    K33 x1 x2 x3 z0 x_26 σ
  else
    nm (x5 + (1 : Int32)) fun x_27 =>
    K33 x1 x2 x6 z0 x_27 σ
set_option maxRecDepth 100000 in
theorem w_X8_off_78 {p : Program} {l : Launch} {e : Env} {s : State} {m : MethodId} {args : Array Value} {below : List Frame} {meth : Method} {c : Code} {G : GG} {rd : Bool} {q : Nat → Nat} {N : Nat} {r : Int32} {σ' : SS} (C : cx p s m args meth c cX8_off 7 RX8 (some .int) G) {K33 : Int32 → Int32 → Int32 → Int32 → Int32 → SS → Option (Int32 × SS)} (HK33 : ∀ (x1 : Int32) (x2 : Int32) (x3 : Int32) (x4 : Int32) (x5 : Int32) (σ : SS) (H : Heap) (locs : List Loc) (ls : Array Slot), K33 x1 x2 x3 x4 x5 σ = some (r, σ') → wx G rd q σ H → va_S (fa G) s.heap H locs → lv_has ls 7 [(0, .ref (q 1)), (1, .int x1), (2, .int x2), (3, .int x3), (4, .int x4), (5, .int x5)] → W p l e rmX8_off s m args below meth c H locs 0 0 (MQ below (qxi G rd q σ' r) args s 0 0 (fa G)) (F0 m 33 ls [])) : ∀ (x1 : Int32) (x2 : Int32) (x3 : Int32) (x5 : Int32) (x6 : Int32) (z0 : Int32) (σ : SS) (H : Heap) (locs : List Loc) (ls : Array Slot), F_X8_off_78 N K33 x1 x2 x3 x5 x6 z0 σ = some (r, σ') → wx G rd q σ H → va_S (fa G) s.heap H locs → lv_has ls 7 [(0, .ref (q 1)), (1, .int x1), (2, .int x2), (3, .int x3), (5, .int x5), (6, .int x6)] → W p l e rmX8_off s m args below meth c H locs 0 0 (MQ below (qxi G rd q σ' r) args s 0 0 (fa G)) (F0 m 78 ls [.int z0]) := by
  obtain ⟨hx, hb, hml, hown, hts, -, -, -, -⟩ := id C
  intro x1 x2 x3 x5 x6 z0 σ H locs ls hF hw hS hl
  unfold F_X8_off_78 at hF
  refine lv_istore (lv' := [(4, .int z0), (0, .ref (q 1)), (1, .int x1), (2, .int x2), (3, .int x3), (5, .int x5), (6, .int x6)]) hx hb dX8_off_78 hl (by decide) rfl (fun ls hl => ?_)
  refine lv_iload hx hb dX8_off_80 (lv_at hl 6 rfl) ?_
  refine lv_iload_n hx hb dX8_off_82 rfl (lv_at hl 4 rfl) ?_
  refine lv_icmp_le (tgt := 91) hx hb dX8_off_83 (by decide) (fun c_25 => ?_) (fun c_25 => ?_)
  · have hF := it_e hF c_25
    refine lv_iload_n hx hb dX8_off_91 rfl (lv_at hl 4 rfl) ?_
    refine lv_istore_n (lv' := [(3, .int x3), (4, .int z0), (0, .ref (q 1)), (1, .int x1), (2, .int x2), (5, .int x5), (6, .int x6)]) hx hb dX8_off_92 rfl hl (by decide) rfl (fun ls hl => ?_)
    obtain ⟨x_26, ex_26, hF⟩ := nm_e2 hF
    refine lv_iinc (v := x_26) (lv' := [(5, .int x_26), (3, .int x3), (4, .int z0), (0, .ref (q 1)), (1, .int x1), (2, .int x2), (6, .int x6)]) hx hb dX8_off_93 hl (k := 5) rfl (by rw [ex_26]; rfl) (by decide) rfl (fun ls hl => ?_)
    refine lv_goto (tgt := 33) hx hb dX8_off_96 (by decide) ?_
    exact HK33 _ _ _ _ _ _ _ _ _ hF hw hS (lv_sub hl [3, 4, 5, 1, 2, 0] rfl)
  · have hF := if_e hF c_25
    refine lv_iload hx hb dX8_off_86 (lv_at hl 6 rfl) ?_
    refine lv_goto (tgt := 92) hx hb dX8_off_88 (by decide) ?_
    refine lv_istore_n (lv' := [(3, .int x6), (4, .int z0), (0, .ref (q 1)), (1, .int x1), (2, .int x2), (5, .int x5), (6, .int x6)]) hx hb dX8_off_92 rfl hl (by decide) rfl (fun ls hl => ?_)
    obtain ⟨x_27, ex_27, hF⟩ := nm_e2 hF
    refine lv_iinc (v := x_27) (lv' := [(5, .int x_27), (3, .int x6), (4, .int z0), (0, .ref (q 1)), (1, .int x1), (2, .int x2), (6, .int x6)]) hx hb dX8_off_93 hl (k := 5) rfl (by rw [ex_27]; rfl) (by decide) rfl (fun ls hl => ?_)
    refine lv_goto (tgt := 33) hx hb dX8_off_96 (by decide) ?_
    exact HK33 _ _ _ _ _ _ _ _ _ hF hw hS (lv_sub hl [3, 4, 5, 1, 2, 0] rfl)
noncomputable def B_X8_off_33 (N : Nat) (IH : Int32 → Int32 → Int32 → Int32 → Int32 → SS → Option (Int32 × SS)) (x1 : Int32) (x2 : Int32) (x3 : Int32) (x4 : Int32) (x5 : Int32) (σ : SS) : Option (Int32 × SS) :=
  gd (inR (16 : Int32) 234) <|
  if (gi σ 21 (16 : Int32).toNatClampNeg) ≤ x5 then
    if x4 = (-4 : Int32) then
      some (x4, σ)
    else
      if x2 = (0 : Int32) then
        some (x4, σ)
      else
        some (x3, σ)
  else
    nm (si σ 1 14 x5) fun σ_32 =>
    bd (F_X8_ticksGo N (0 : Int32) x1 σ_32) fun r_33 σ_34 =>
    nm (si σ_34 1 14 (-4 : Int32)) fun σ_36 =>
    if r_33 ≤ x3 then
      F_X8_off_78 N IH x1 x2 x3 x5 r_33 x4 σ_36
    else
      F_X8_off_78 N IH x1 x2 x3 x5 r_33 x5 σ_36
noncomputable def F_X8_off_33 (N : Nat) (n : Nat) : Int32 → Int32 → Int32 → Int32 → Int32 → SS → Option (Int32 × SS) := Nat.rec (fun _ _ _ _ _ _ => none) (fun _ IH => B_X8_off_33 N IH) n
set_option maxRecDepth 100000 in
theorem w_X8_off_33 {p : Program} {l : Launch} {e : Env} {s : State} {m : MethodId} {args : Array Value} {below : List Frame} {meth : Method} {c : Code} {G : GG} {rd : Bool} {q : Nat → Nat} {N : Nat} {r : Int32} {σ' : SS} (C : cx p s m args meth c cX8_off 7 RX8 (some .int) G) : ∀ (n : Nat), ∀ (x1 : Int32) (x2 : Int32) (x3 : Int32) (x4 : Int32) (x5 : Int32) (σ : SS) (H : Heap) (locs : List Loc) (ls : Array Slot), F_X8_off_33 N n x1 x2 x3 x4 x5 σ = some (r, σ') → wx G rd q σ H → va_S (fa G) s.heap H locs → lv_has ls 7 [(0, .ref (q 1)), (1, .int x1), (2, .int x2), (3, .int x3), (4, .int x4), (5, .int x5)] → W p l e rmX8_off s m args below meth c H locs 0 0 (MQ below (qxi G rd q σ' r) args s 0 0 (fa G)) (F0 m 33 ls []) := by
  obtain ⟨hx, hb, hml, hown, hts, -, -, -, -⟩ := id C
  intro n
  induction n with
  | zero =>
    intro x1 x2 x3 x4 x5 σ H locs ls hF hw hS hl
    cases hF
  | succ n ih =>
    intro x1 x2 x3 x4 x5 σ H locs ls hF hw hS hl
    have hF : B_X8_off_33 N (F_X8_off_33 N n) x1 x2 x3 x4 x5 σ = some (r, σ') := hF
    unfold B_X8_off_33 at hF
    refine lv_iload hx hb dX8_off_33 (lv_at hl 5 rfl) ?_
    refine lv_aload_n hx hb dX8_off_35 rfl (lv_at hl 0 rfl) ?_
    refine r_get8 C hw 0 (by decide) rfl (v := .ref (q 21)) rfl q955 dX8_off_36 ?_
    refine lv_bipush (v := (16 : Int32)) hx hb dX8_off_39 (by decide) ?_
    obtain ⟨h_28, hF⟩ := gd_e hF
    refine r_iald (i := 21) (n := 234) (g := 21) (st := 0) C hw (wi_lo (Or.inr ⟨by decide, by decide⟩)) rfl h_28 dX8_off_41 ?_
    refine lv_icmp_ge (tgt := 99) hx hb dX8_off_42 (by decide) (fun c_29 => ?_) (fun c_29 => ?_)
    · have hF := it_e hF c_29
      refine lv_iload hx hb dX8_off_99 (lv_at hl 4 rfl) ?_
      refine lv_bipush (v := (-4 : Int32)) hx hb dX8_off_101 (by decide) ?_
      refine lv_icmp_eq (tgt := 110) hx hb dX8_off_103 (by decide) (fun c_30 => ?_) (fun c_30 => ?_)
      · have hF := it_e hF c_30
        refine lv_iload hx hb dX8_off_110 (lv_at hl 4 rfl) ?_
        refine lv_goto (tgt := 116) hx hb dX8_off_112 (by decide) ?_
        exact r_iret C hw hS hF dX8_off_116
      · have hF := if_e hF c_30
        refine lv_iload_n hx hb dX8_off_106 rfl (lv_at hl 2 rfl) ?_
        refine lv_if_ne (tgt := 115) hx hb dX8_off_107 (by decide) (fun c_31 => ?_) (fun c_31 => ?_)
        · have hF := if_e hF c_31
          refine lv_iload_n hx hb dX8_off_115 rfl (lv_at hl 3 rfl) ?_
          exact r_iret C hw hS hF dX8_off_116
        · have hF := it_e hF c_31
          refine lv_iload hx hb dX8_off_110 (lv_at hl 4 rfl) ?_
          refine lv_goto (tgt := 116) hx hb dX8_off_112 (by decide) ?_
          exact r_iret C hw hS hF dX8_off_116
    · have hF := if_e hF c_29
      refine lv_aload_n hx hb dX8_off_45 rfl (lv_at hl 0 rfl) ?_
      refine lv_iload hx hb dX8_off_46 (lv_at hl 5 rfl) ?_
      obtain ⟨σ_32, eσ_32, hF⟩ := nm_e2 hF
      refine r_put8 C hw hS 14 (by decide) rfl rfl (tyX8_ok 14 (by decide)) rfl rfl q969 dX8_off_48 eσ_32 (fun H locs hw hS => ?_)
      refine lv_aload_n hx hb dX8_off_51 rfl (lv_at hl 0 rfl) ?_
      refine lv_iconst (v := (0 : Int32)) hx hb dX8_off_52 (by decide) ?_
      refine lv_iload_n hx hb dX8_off_53 rfl (lv_at hl 1 rfl) ?_
      obtain ⟨r_33, σ_34, h_35, hF⟩ := bd_e hF
      refine r_callVi (As := [.int (0 : Int32), .int x1]) (rest := []) (i := 1) C hw hS (wi_lo (Or.inl (by decide))) rfl (ci := 8) rfl (met_X8_ticksGo l G rd q  h_35) (cwV 2 hts (lw_V q1188 q1190 qs47 q65 q1191) rfl rfl rfl (by decide +kernel) ⟨Nat.le_of_ble_eq_true rfl, Nat.le_of_ble_eq_true rfl⟩) rfl hl.1 rfl (Nat.le_of_ble_eq_true rfl) ⟨Nat.le_refl _, Nat.le_refl _⟩ dX8_off_54 (fun H locs hw hS => ?_)
      refine lv_istore (lv' := [(6, .int r_33), (0, .ref (q 1)), (1, .int x1), (2, .int x2), (3, .int x3), (4, .int x4), (5, .int x5)]) hx hb dX8_off_57 hl (by decide) rfl (fun ls hl => ?_)
      refine lv_aload_n hx hb dX8_off_59 rfl (lv_at hl 1 rfl) ?_
      refine lv_bipush (v := (-4 : Int32)) hx hb dX8_off_60 (by decide) ?_
      obtain ⟨σ_36, eσ_36, hF⟩ := nm_e2 hF
      refine r_put8 C hw hS 14 (by decide) rfl rfl (tyX8_ok 14 (by decide)) rfl rfl q969 dX8_off_62 eσ_36 (fun H locs hw hS => ?_)
      refine lv_iload hx hb dX8_off_65 (lv_at hl 0 rfl) ?_
      refine lv_iload_n hx hb dX8_off_67 rfl (lv_at hl 4 rfl) ?_
      refine lv_icmp_le (tgt := 76) hx hb dX8_off_68 (by decide) (fun c_37 => ?_) (fun c_37 => ?_)
      · have hF := it_e hF c_37
        refine lv_iload hx hb dX8_off_76 (lv_at hl 5 rfl) ?_
        exact w_X8_off_78 C  ih _ _ _ _ _ _ _ _ _ _ hF hw hS (lv_sub hl [1, 2, 3, 4, 6, 0] rfl)
      · have hF := if_e hF c_37
        refine lv_iload hx hb dX8_off_71 (lv_at hl 6 rfl) ?_
        refine lv_goto (tgt := 78) hx hb dX8_off_73 (by decide) ?_
        exact w_X8_off_78 C  ih _ _ _ _ _ _ _ _ _ _ hF hw hS (lv_sub hl [1, 2, 3, 4, 6, 0] rfl)
noncomputable def F_X8_off (N : Nat) (x1 : Int32) (x2 : Int32) (σ : SS) : Option (Int32 × SS) :=
  bd (F_X8_isLong N x1 σ) fun r_38 σ_39 =>
  if r_38 = (0 : Int32) then
    some ((-1 : Int32), σ_39)
  else
    bd (F_X8_in N x2.toInt64 (0 : Int64) (1 : Int64) σ_39) fun r_42 σ_43 =>
    if r_42 = (0 : Int32) then
      some ((-1 : Int32), σ_43)
    else
      bd (F_X8_ticksGo N (0 : Int32) x1 σ_43) fun r_46 σ_47 =>
      F_X8_off_33 N N x1 x2 r_46 (-4 : Int32) (0 : Int32) σ_47
set_option maxRecDepth 100000 in
theorem met_X8_off (l : Launch) (G : GG) (rd : Bool) (q : Nat → Nat) {N : Nat} {x1 : Int32} {x2 : Int32} {σ σ' : SS} {r : Int32} (hF : F_X8_off N x1 x2 σ = some (r, σ')) : Met l yX8_off (ws_ yX8_off cX8_off 7 (some .int)) rmX8_off (pcx G rd q σ [.ref (q 1), .int x1, .int x2]) (qxi G rd q σ' r) 0 0 (fa G) := by
  refine met_of (by decide) (Nat.le_of_ble_eq_true rfl) ?_
  intro p e s m below meth c C H locs ls hw hS hl
  obtain ⟨hx, hb, hml, hown, hts, -, -, -, -⟩ := id C
  have hl : lv_has ls 7 [(0, .ref (q 1)), (1, .int x1), (2, .int x2)] := hl
  unfold F_X8_off at hF
  refine lv_iload_n hx hb dX8_off_0 rfl (lv_at hl 1 rfl) ?_
  obtain ⟨r_38, σ_39, h_40, hF⟩ := bd_e hF
  refine r_callSi (As := [.int x1]) (rest := []) C hw hS (met_X8_isLong l G rd q  h_40) (cwS 1 hts (lw_S q1183 q1184 q65 q1185) rfl rfl rfl (by decide +kernel) ⟨Nat.le_of_ble_eq_true rfl, Nat.le_of_ble_eq_true rfl⟩) rfl hl.1 rfl (Nat.le_of_ble_eq_true rfl) ⟨Nat.le_refl _, Nat.le_refl _⟩ dX8_off_1 (fun H locs hw hS => ?_)
  refine lv_if_eq (tgt := 17) hx hb dX8_off_4 (by decide) (fun c_41 => ?_) (fun c_41 => ?_)
  · have hF := it_e hF c_41
    refine lv_iconst (v := (-1 : Int32)) hx hb dX8_off_17 (by decide) ?_
    exact r_iret C hw hS hF dX8_off_18
  · have hF := if_e hF c_41
    refine lv_iload_n hx hb dX8_off_7 rfl (lv_at hl 2 rfl) ?_
    refine lv_i2l hx hb dX8_off_8 rfl ?_
    refine lv_lconst (v := (0 : Int64)) hx hb dX8_off_9 (by decide) ?_
    refine lv_lconst (v := (1 : Int64)) hx hb dX8_off_10 (by decide) ?_
    obtain ⟨r_42, σ_43, h_44, hF⟩ := bd_e hF
    refine r_callSi (As := [.long x2.toInt64, .long (0 : Int64), .long (1 : Int64)]) (rest := []) C hw hS (met_X8_in l G rd q  h_44) (cwS 3 hts (lw_S q1040 q1041 q65 q1042) rfl rfl rfl (by decide +kernel) ⟨Nat.le_of_ble_eq_true rfl, Nat.le_of_ble_eq_true rfl⟩) rfl hl.1 rfl (Nat.le_of_ble_eq_true rfl) ⟨Nat.le_refl _, Nat.le_refl _⟩ dX8_off_11 (fun H locs hw hS => ?_)
    refine lv_if_ne (tgt := 19) hx hb dX8_off_14 (by decide) (fun c_45 => ?_) (fun c_45 => ?_)
    · have hF := if_e hF c_45
      refine lv_aload_n hx hb dX8_off_19 rfl (lv_at hl 0 rfl) ?_
      refine lv_iconst (v := (0 : Int32)) hx hb dX8_off_20 (by decide) ?_
      refine lv_iload_n hx hb dX8_off_21 rfl (lv_at hl 1 rfl) ?_
      obtain ⟨r_46, σ_47, h_48, hF⟩ := bd_e hF
      refine r_callVi (As := [.int (0 : Int32), .int x1]) (rest := []) (i := 1) C hw hS (wi_lo (Or.inl (by decide))) rfl (ci := 8) rfl (met_X8_ticksGo l G rd q  h_48) (cwV 2 hts (lw_V q1188 q1190 qs47 q65 q1191) rfl rfl rfl (by decide +kernel) ⟨Nat.le_of_ble_eq_true rfl, Nat.le_of_ble_eq_true rfl⟩) rfl hl.1 rfl (Nat.le_of_ble_eq_true rfl) ⟨Nat.le_refl _, Nat.le_refl _⟩ dX8_off_22 (fun H locs hw hS => ?_)
      refine lv_istore_n (lv' := [(3, .int r_46), (0, .ref (q 1)), (1, .int x1), (2, .int x2)]) hx hb dX8_off_25 rfl hl (by decide) rfl (fun ls hl => ?_)
      refine lv_bipush (v := (-4 : Int32)) hx hb dX8_off_26 (by decide) ?_
      refine lv_istore (lv' := [(4, .int (-4 : Int32)), (3, .int r_46), (0, .ref (q 1)), (1, .int x1), (2, .int x2)]) hx hb dX8_off_28 hl (by decide) rfl (fun ls hl => ?_)
      refine lv_iconst (v := (0 : Int32)) hx hb dX8_off_30 (by decide) ?_
      refine lv_istore (lv' := [(5, .int (0 : Int32)), (4, .int (-4 : Int32)), (3, .int r_46), (0, .ref (q 1)), (1, .int x1), (2, .int x2)]) hx hb dX8_off_31 hl (by decide) rfl (fun ls hl => ?_)
      exact w_X8_off_33 C   N _ _ _ _ _ _ _ _ _ hF hw hS (lv_sub hl [3, 4, 5, 2, 1, 0] rfl)
    · have hF := it_e hF c_45
      refine lv_iconst (v := (-1 : Int32)) hx hb dX8_off_17 (by decide) ?_
      exact r_iret C hw hS hF dX8_off_18
abbrev rmX8_omit : Room := { frames := 5, cells := 0, slots := 0, locals := 158 }
noncomputable def F_X8_omit_78 (N : Nat) (K33 : Int32 → Int32 → Int32 → Int32 → Int32 → SS → Option (Int32 × SS)) (x1 : Int32) (x2 : Int32) (x3 : Int32) (x5 : Int32) (x6 : Int32) (z0 : Int32) (σ : SS) : Option (Int32 × SS) :=
  if x6 ≤ x3 then
    nm (x5 + (1 : Int32)) fun x_26 =>
    K33 x1 x2 x3 z0 x_26 σ
  else
    nm (x5 + (1 : Int32)) fun x_27 =>
    K33 x1 x2 x6 z0 x_27 σ
set_option maxRecDepth 100000 in
theorem w_X8_omit_78 {p : Program} {l : Launch} {e : Env} {s : State} {m : MethodId} {args : Array Value} {below : List Frame} {meth : Method} {c : Code} {G : GG} {rd : Bool} {q : Nat → Nat} {N : Nat} {r : Int32} {σ' : SS} (C : cx p s m args meth c cX8_omit 7 RX8 (some .int) G) {K33 : Int32 → Int32 → Int32 → Int32 → Int32 → SS → Option (Int32 × SS)} (HK33 : ∀ (x1 : Int32) (x2 : Int32) (x3 : Int32) (x4 : Int32) (x5 : Int32) (σ : SS) (H : Heap) (locs : List Loc) (ls : Array Slot), K33 x1 x2 x3 x4 x5 σ = some (r, σ') → wx G rd q σ H → va_S (fa G) s.heap H locs → lv_has ls 7 [(0, .ref (q 1)), (1, .int x1), (2, .int x2), (3, .int x3), (4, .int x4), (5, .int x5)] → W p l e rmX8_omit s m args below meth c H locs 0 0 (MQ below (qxi G rd q σ' r) args s 0 0 (fa G)) (F0 m 33 ls [])) : ∀ (x1 : Int32) (x2 : Int32) (x3 : Int32) (x5 : Int32) (x6 : Int32) (z0 : Int32) (σ : SS) (H : Heap) (locs : List Loc) (ls : Array Slot), F_X8_omit_78 N K33 x1 x2 x3 x5 x6 z0 σ = some (r, σ') → wx G rd q σ H → va_S (fa G) s.heap H locs → lv_has ls 7 [(0, .ref (q 1)), (1, .int x1), (2, .int x2), (3, .int x3), (5, .int x5), (6, .int x6)] → W p l e rmX8_omit s m args below meth c H locs 0 0 (MQ below (qxi G rd q σ' r) args s 0 0 (fa G)) (F0 m 78 ls [.int z0]) := by
  obtain ⟨hx, hb, hml, hown, hts, -, -, -, -⟩ := id C
  intro x1 x2 x3 x5 x6 z0 σ H locs ls hF hw hS hl
  unfold F_X8_omit_78 at hF
  refine lv_istore (lv' := [(4, .int z0), (0, .ref (q 1)), (1, .int x1), (2, .int x2), (3, .int x3), (5, .int x5), (6, .int x6)]) hx hb dX8_omit_78 hl (by decide) rfl (fun ls hl => ?_)
  refine lv_iload hx hb dX8_omit_80 (lv_at hl 6 rfl) ?_
  refine lv_iload_n hx hb dX8_omit_82 rfl (lv_at hl 4 rfl) ?_
  refine lv_icmp_le (tgt := 91) hx hb dX8_omit_83 (by decide) (fun c_25 => ?_) (fun c_25 => ?_)
  · have hF := it_e hF c_25
    refine lv_iload_n hx hb dX8_omit_91 rfl (lv_at hl 4 rfl) ?_
    refine lv_istore_n (lv' := [(3, .int x3), (4, .int z0), (0, .ref (q 1)), (1, .int x1), (2, .int x2), (5, .int x5), (6, .int x6)]) hx hb dX8_omit_92 rfl hl (by decide) rfl (fun ls hl => ?_)
    obtain ⟨x_26, ex_26, hF⟩ := nm_e2 hF
    refine lv_iinc (v := x_26) (lv' := [(5, .int x_26), (3, .int x3), (4, .int z0), (0, .ref (q 1)), (1, .int x1), (2, .int x2), (6, .int x6)]) hx hb dX8_omit_93 hl (k := 5) rfl (by rw [ex_26]; rfl) (by decide) rfl (fun ls hl => ?_)
    refine lv_goto (tgt := 33) hx hb dX8_omit_96 (by decide) ?_
    exact HK33 _ _ _ _ _ _ _ _ _ hF hw hS (lv_sub hl [3, 4, 5, 1, 2, 0] rfl)
  · have hF := if_e hF c_25
    refine lv_iload hx hb dX8_omit_86 (lv_at hl 6 rfl) ?_
    refine lv_goto (tgt := 92) hx hb dX8_omit_88 (by decide) ?_
    refine lv_istore_n (lv' := [(3, .int x6), (4, .int z0), (0, .ref (q 1)), (1, .int x1), (2, .int x2), (5, .int x5), (6, .int x6)]) hx hb dX8_omit_92 rfl hl (by decide) rfl (fun ls hl => ?_)
    obtain ⟨x_27, ex_27, hF⟩ := nm_e2 hF
    refine lv_iinc (v := x_27) (lv' := [(5, .int x_27), (3, .int x6), (4, .int z0), (0, .ref (q 1)), (1, .int x1), (2, .int x2), (6, .int x6)]) hx hb dX8_omit_93 hl (k := 5) rfl (by rw [ex_27]; rfl) (by decide) rfl (fun ls hl => ?_)
    refine lv_goto (tgt := 33) hx hb dX8_omit_96 (by decide) ?_
    exact HK33 _ _ _ _ _ _ _ _ _ hF hw hS (lv_sub hl [3, 4, 5, 1, 2, 0] rfl)
noncomputable def B_X8_omit_33 (N : Nat) (IH : Int32 → Int32 → Int32 → Int32 → Int32 → SS → Option (Int32 × SS)) (x1 : Int32) (x2 : Int32) (x3 : Int32) (x4 : Int32) (x5 : Int32) (σ : SS) : Option (Int32 × SS) :=
  gd (inR (33 : Int32) 234) <|
  if (gi σ 21 (33 : Int32).toNatClampNeg) ≤ x5 then
    if x4 = (-4 : Int32) then
      some (x4, σ)
    else
      if x2 = (0 : Int32) then
        some (x4, σ)
      else
        some (x3, σ)
  else
    nm (si σ 1 15 x5) fun σ_32 =>
    bd (F_X8_ticksGo N (0 : Int32) x1 σ_32) fun r_33 σ_34 =>
    nm (si σ_34 1 15 (-4 : Int32)) fun σ_36 =>
    if r_33 ≤ x3 then
      F_X8_omit_78 N IH x1 x2 x3 x5 r_33 x4 σ_36
    else
      F_X8_omit_78 N IH x1 x2 x3 x5 r_33 x5 σ_36
noncomputable def F_X8_omit_33 (N : Nat) (n : Nat) : Int32 → Int32 → Int32 → Int32 → Int32 → SS → Option (Int32 × SS) := Nat.rec (fun _ _ _ _ _ _ => none) (fun _ IH => B_X8_omit_33 N IH) n
set_option maxRecDepth 100000 in
theorem w_X8_omit_33 {p : Program} {l : Launch} {e : Env} {s : State} {m : MethodId} {args : Array Value} {below : List Frame} {meth : Method} {c : Code} {G : GG} {rd : Bool} {q : Nat → Nat} {N : Nat} {r : Int32} {σ' : SS} (C : cx p s m args meth c cX8_omit 7 RX8 (some .int) G) : ∀ (n : Nat), ∀ (x1 : Int32) (x2 : Int32) (x3 : Int32) (x4 : Int32) (x5 : Int32) (σ : SS) (H : Heap) (locs : List Loc) (ls : Array Slot), F_X8_omit_33 N n x1 x2 x3 x4 x5 σ = some (r, σ') → wx G rd q σ H → va_S (fa G) s.heap H locs → lv_has ls 7 [(0, .ref (q 1)), (1, .int x1), (2, .int x2), (3, .int x3), (4, .int x4), (5, .int x5)] → W p l e rmX8_omit s m args below meth c H locs 0 0 (MQ below (qxi G rd q σ' r) args s 0 0 (fa G)) (F0 m 33 ls []) := by
  obtain ⟨hx, hb, hml, hown, hts, -, -, -, -⟩ := id C
  intro n
  induction n with
  | zero =>
    intro x1 x2 x3 x4 x5 σ H locs ls hF hw hS hl
    cases hF
  | succ n ih =>
    intro x1 x2 x3 x4 x5 σ H locs ls hF hw hS hl
    have hF : B_X8_omit_33 N (F_X8_omit_33 N n) x1 x2 x3 x4 x5 σ = some (r, σ') := hF
    unfold B_X8_omit_33 at hF
    refine lv_iload hx hb dX8_omit_33 (lv_at hl 5 rfl) ?_
    refine lv_aload_n hx hb dX8_omit_35 rfl (lv_at hl 0 rfl) ?_
    refine r_get8 C hw 0 (by decide) rfl (v := .ref (q 21)) rfl q955 dX8_omit_36 ?_
    refine lv_bipush (v := (33 : Int32)) hx hb dX8_omit_39 (by decide) ?_
    obtain ⟨h_28, hF⟩ := gd_e hF
    refine r_iald (i := 21) (n := 234) (g := 21) (st := 0) C hw (wi_lo (Or.inr ⟨by decide, by decide⟩)) rfl h_28 dX8_omit_41 ?_
    refine lv_icmp_ge (tgt := 99) hx hb dX8_omit_42 (by decide) (fun c_29 => ?_) (fun c_29 => ?_)
    · have hF := it_e hF c_29
      refine lv_iload hx hb dX8_omit_99 (lv_at hl 4 rfl) ?_
      refine lv_bipush (v := (-4 : Int32)) hx hb dX8_omit_101 (by decide) ?_
      refine lv_icmp_eq (tgt := 110) hx hb dX8_omit_103 (by decide) (fun c_30 => ?_) (fun c_30 => ?_)
      · have hF := it_e hF c_30
        refine lv_iload hx hb dX8_omit_110 (lv_at hl 4 rfl) ?_
        refine lv_goto (tgt := 116) hx hb dX8_omit_112 (by decide) ?_
        exact r_iret C hw hS hF dX8_omit_116
      · have hF := if_e hF c_30
        refine lv_iload_n hx hb dX8_omit_106 rfl (lv_at hl 2 rfl) ?_
        refine lv_if_ne (tgt := 115) hx hb dX8_omit_107 (by decide) (fun c_31 => ?_) (fun c_31 => ?_)
        · have hF := if_e hF c_31
          refine lv_iload_n hx hb dX8_omit_115 rfl (lv_at hl 3 rfl) ?_
          exact r_iret C hw hS hF dX8_omit_116
        · have hF := it_e hF c_31
          refine lv_iload hx hb dX8_omit_110 (lv_at hl 4 rfl) ?_
          refine lv_goto (tgt := 116) hx hb dX8_omit_112 (by decide) ?_
          exact r_iret C hw hS hF dX8_omit_116
    · have hF := if_e hF c_29
      refine lv_aload_n hx hb dX8_omit_45 rfl (lv_at hl 0 rfl) ?_
      refine lv_iload hx hb dX8_omit_46 (lv_at hl 5 rfl) ?_
      obtain ⟨σ_32, eσ_32, hF⟩ := nm_e2 hF
      refine r_put8 C hw hS 15 (by decide) rfl rfl (tyX8_ok 15 (by decide)) rfl rfl q970 dX8_omit_48 eσ_32 (fun H locs hw hS => ?_)
      refine lv_aload_n hx hb dX8_omit_51 rfl (lv_at hl 0 rfl) ?_
      refine lv_iconst (v := (0 : Int32)) hx hb dX8_omit_52 (by decide) ?_
      refine lv_iload_n hx hb dX8_omit_53 rfl (lv_at hl 1 rfl) ?_
      obtain ⟨r_33, σ_34, h_35, hF⟩ := bd_e hF
      refine r_callVi (As := [.int (0 : Int32), .int x1]) (rest := []) (i := 1) C hw hS (wi_lo (Or.inl (by decide))) rfl (ci := 8) rfl (met_X8_ticksGo l G rd q  h_35) (cwV 2 hts (lw_V q1188 q1190 qs47 q65 q1191) rfl rfl rfl (by decide +kernel) ⟨Nat.le_of_ble_eq_true rfl, Nat.le_of_ble_eq_true rfl⟩) rfl hl.1 rfl (Nat.le_of_ble_eq_true rfl) ⟨Nat.le_refl _, Nat.le_refl _⟩ dX8_omit_54 (fun H locs hw hS => ?_)
      refine lv_istore (lv' := [(6, .int r_33), (0, .ref (q 1)), (1, .int x1), (2, .int x2), (3, .int x3), (4, .int x4), (5, .int x5)]) hx hb dX8_omit_57 hl (by decide) rfl (fun ls hl => ?_)
      refine lv_aload_n hx hb dX8_omit_59 rfl (lv_at hl 1 rfl) ?_
      refine lv_bipush (v := (-4 : Int32)) hx hb dX8_omit_60 (by decide) ?_
      obtain ⟨σ_36, eσ_36, hF⟩ := nm_e2 hF
      refine r_put8 C hw hS 15 (by decide) rfl rfl (tyX8_ok 15 (by decide)) rfl rfl q970 dX8_omit_62 eσ_36 (fun H locs hw hS => ?_)
      refine lv_iload hx hb dX8_omit_65 (lv_at hl 0 rfl) ?_
      refine lv_iload_n hx hb dX8_omit_67 rfl (lv_at hl 4 rfl) ?_
      refine lv_icmp_le (tgt := 76) hx hb dX8_omit_68 (by decide) (fun c_37 => ?_) (fun c_37 => ?_)
      · have hF := it_e hF c_37
        refine lv_iload hx hb dX8_omit_76 (lv_at hl 5 rfl) ?_
        exact w_X8_omit_78 C  ih _ _ _ _ _ _ _ _ _ _ hF hw hS (lv_sub hl [1, 2, 3, 4, 6, 0] rfl)
      · have hF := if_e hF c_37
        refine lv_iload hx hb dX8_omit_71 (lv_at hl 6 rfl) ?_
        refine lv_goto (tgt := 78) hx hb dX8_omit_73 (by decide) ?_
        exact w_X8_omit_78 C  ih _ _ _ _ _ _ _ _ _ _ hF hw hS (lv_sub hl [1, 2, 3, 4, 6, 0] rfl)
noncomputable def F_X8_omit (N : Nat) (x1 : Int32) (x2 : Int32) (σ : SS) : Option (Int32 × SS) :=
  bd (F_X8_isLong N x1 σ) fun r_38 σ_39 =>
  if r_38 = (0 : Int32) then
    some ((-1 : Int32), σ_39)
  else
    bd (F_X8_in N x2.toInt64 (0 : Int64) (1 : Int64) σ_39) fun r_42 σ_43 =>
    if r_42 = (0 : Int32) then
      some ((-1 : Int32), σ_43)
    else
      bd (F_X8_ticksGo N (0 : Int32) x1 σ_43) fun r_46 σ_47 =>
      F_X8_omit_33 N N x1 x2 r_46 (-4 : Int32) (0 : Int32) σ_47
set_option maxRecDepth 100000 in
theorem met_X8_omit (l : Launch) (G : GG) (rd : Bool) (q : Nat → Nat) {N : Nat} {x1 : Int32} {x2 : Int32} {σ σ' : SS} {r : Int32} (hF : F_X8_omit N x1 x2 σ = some (r, σ')) : Met l yX8_omit (ws_ yX8_omit cX8_omit 7 (some .int)) rmX8_omit (pcx G rd q σ [.ref (q 1), .int x1, .int x2]) (qxi G rd q σ' r) 0 0 (fa G) := by
  refine met_of (by decide) (Nat.le_of_ble_eq_true rfl) ?_
  intro p e s m below meth c C H locs ls hw hS hl
  obtain ⟨hx, hb, hml, hown, hts, -, -, -, -⟩ := id C
  have hl : lv_has ls 7 [(0, .ref (q 1)), (1, .int x1), (2, .int x2)] := hl
  unfold F_X8_omit at hF
  refine lv_iload_n hx hb dX8_omit_0 rfl (lv_at hl 1 rfl) ?_
  obtain ⟨r_38, σ_39, h_40, hF⟩ := bd_e hF
  refine r_callSi (As := [.int x1]) (rest := []) C hw hS (met_X8_isLong l G rd q  h_40) (cwS 1 hts (lw_S q1183 q1184 q65 q1185) rfl rfl rfl (by decide +kernel) ⟨Nat.le_of_ble_eq_true rfl, Nat.le_of_ble_eq_true rfl⟩) rfl hl.1 rfl (Nat.le_of_ble_eq_true rfl) ⟨Nat.le_refl _, Nat.le_refl _⟩ dX8_omit_1 (fun H locs hw hS => ?_)
  refine lv_if_eq (tgt := 17) hx hb dX8_omit_4 (by decide) (fun c_41 => ?_) (fun c_41 => ?_)
  · have hF := it_e hF c_41
    refine lv_iconst (v := (-1 : Int32)) hx hb dX8_omit_17 (by decide) ?_
    exact r_iret C hw hS hF dX8_omit_18
  · have hF := if_e hF c_41
    refine lv_iload_n hx hb dX8_omit_7 rfl (lv_at hl 2 rfl) ?_
    refine lv_i2l hx hb dX8_omit_8 rfl ?_
    refine lv_lconst (v := (0 : Int64)) hx hb dX8_omit_9 (by decide) ?_
    refine lv_lconst (v := (1 : Int64)) hx hb dX8_omit_10 (by decide) ?_
    obtain ⟨r_42, σ_43, h_44, hF⟩ := bd_e hF
    refine r_callSi (As := [.long x2.toInt64, .long (0 : Int64), .long (1 : Int64)]) (rest := []) C hw hS (met_X8_in l G rd q  h_44) (cwS 3 hts (lw_S q1040 q1041 q65 q1042) rfl rfl rfl (by decide +kernel) ⟨Nat.le_of_ble_eq_true rfl, Nat.le_of_ble_eq_true rfl⟩) rfl hl.1 rfl (Nat.le_of_ble_eq_true rfl) ⟨Nat.le_refl _, Nat.le_refl _⟩ dX8_omit_11 (fun H locs hw hS => ?_)
    refine lv_if_ne (tgt := 19) hx hb dX8_omit_14 (by decide) (fun c_45 => ?_) (fun c_45 => ?_)
    · have hF := if_e hF c_45
      refine lv_aload_n hx hb dX8_omit_19 rfl (lv_at hl 0 rfl) ?_
      refine lv_iconst (v := (0 : Int32)) hx hb dX8_omit_20 (by decide) ?_
      refine lv_iload_n hx hb dX8_omit_21 rfl (lv_at hl 1 rfl) ?_
      obtain ⟨r_46, σ_47, h_48, hF⟩ := bd_e hF
      refine r_callVi (As := [.int (0 : Int32), .int x1]) (rest := []) (i := 1) C hw hS (wi_lo (Or.inl (by decide))) rfl (ci := 8) rfl (met_X8_ticksGo l G rd q  h_48) (cwV 2 hts (lw_V q1188 q1190 qs47 q65 q1191) rfl rfl rfl (by decide +kernel) ⟨Nat.le_of_ble_eq_true rfl, Nat.le_of_ble_eq_true rfl⟩) rfl hl.1 rfl (Nat.le_of_ble_eq_true rfl) ⟨Nat.le_refl _, Nat.le_refl _⟩ dX8_omit_22 (fun H locs hw hS => ?_)
      refine lv_istore_n (lv' := [(3, .int r_46), (0, .ref (q 1)), (1, .int x1), (2, .int x2)]) hx hb dX8_omit_25 rfl hl (by decide) rfl (fun ls hl => ?_)
      refine lv_bipush (v := (-4 : Int32)) hx hb dX8_omit_26 (by decide) ?_
      refine lv_istore (lv' := [(4, .int (-4 : Int32)), (3, .int r_46), (0, .ref (q 1)), (1, .int x1), (2, .int x2)]) hx hb dX8_omit_28 hl (by decide) rfl (fun ls hl => ?_)
      refine lv_iconst (v := (0 : Int32)) hx hb dX8_omit_30 (by decide) ?_
      refine lv_istore (lv' := [(5, .int (0 : Int32)), (4, .int (-4 : Int32)), (3, .int r_46), (0, .ref (q 1)), (1, .int x1), (2, .int x2)]) hx hb dX8_omit_31 hl (by decide) rfl (fun ls hl => ?_)
      exact w_X8_omit_33 C   N _ _ _ _ _ _ _ _ _ hF hw hS (lv_sub hl [3, 4, 5, 2, 1, 0] rfl)
    · have hF := it_e hF c_45
      refine lv_iconst (v := (-1 : Int32)) hx hb dX8_omit_17 (by decide) ?_
      exact r_iret C hw hS hF dX8_omit_18
abbrev rmX8_put : Room := { frames := 2, cells := 0, slots := 0, locals := 85 }
noncomputable def F_X8_put (N : Nat) (x1 : Int32) (x2 : Int32) (x3 : Int32) (σ : SS) : Option (Int32 × SS) :=
  bd (F_X8_in N x1.toInt64 (0 : Int64) (3 : Int64) σ) fun r_28 σ_29 =>
  if r_28 = (0 : Int32) then
    some ((-1 : Int32), σ_29)
  else
    bd (F_X8_in N x2.toInt64 (1 : Int64) (20 : Int64) σ_29) fun r_32 σ_33 =>
    if r_32 = (0 : Int32) then
      some ((-1 : Int32), σ_33)
    else
      bd (F_X8_in N x3.toInt64 (0 : Int64) (9 : Int64) σ_33) fun r_36 σ_37 =>
      if r_36 = (0 : Int32) then
        some ((-1 : Int32), σ_37)
      else
        gd (inR (16 : Int32) 234) <|
        nm (gi σ_37 21 (16 : Int32).toNatClampNeg) fun x_41 =>
        if x_41 = (4 : Int32) then
          some ((-3 : Int32), σ_37)
        else
          gd (inR x_41 234) <|
          nm (si σ_37 21 x_41.toNatClampNeg x1) fun σ_44 =>
          gd (inR ((4 : Int32) + x_41) 234) <|
          nm (si σ_44 21 ((4 : Int32) + x_41).toNatClampNeg x2) fun σ_46 =>
          gd (inR ((8 : Int32) + x_41) 234) <|
          nm (si σ_46 21 ((8 : Int32) + x_41).toNatClampNeg x3) fun σ_48 =>
          gd (inR ((12 : Int32) + x_41) 234) <|
          nm (si σ_48 21 ((12 : Int32) + x_41).toNatClampNeg (0 : Int32)) fun σ_50 =>
          gd (inR (16 : Int32) 234) <|
          gd (inR (16 : Int32) 234) <|
          nm (si σ_50 21 (16 : Int32).toNatClampNeg ((gi σ_50 21 (16 : Int32).toNatClampNeg) + (1 : Int32))) fun σ_53 =>
          gd (inR (16 : Int32) 234) <|
          some (gi σ_53 21 (16 : Int32).toNatClampNeg, σ_53)
set_option maxRecDepth 100000 in
theorem met_X8_put (l : Launch) (G : GG) (rd : Bool) (q : Nat → Nat) {N : Nat} {x1 : Int32} {x2 : Int32} {x3 : Int32} {σ σ' : SS} {r : Int32} (hF : F_X8_put N x1 x2 x3 σ = some (r, σ')) : Met l yX8_put (ws_ yX8_put cX8_put 5 (some .int)) rmX8_put (pcx G rd q σ [.ref (q 1), .int x1, .int x2, .int x3]) (qxi G rd q σ' r) 0 0 (fa G) := by
  refine met_of (by decide) (Nat.le_of_ble_eq_true rfl) ?_
  intro p e s m below meth c C H locs ls hw hS hl
  obtain ⟨hx, hb, hml, hown, hts, -, -, -, -⟩ := id C
  have hl : lv_has ls 5 [(0, .ref (q 1)), (1, .int x1), (2, .int x2), (3, .int x3)] := hl
  unfold F_X8_put at hF
  refine lv_iload_n hx hb dX8_put_0 rfl (lv_at hl 1 rfl) ?_
  refine lv_i2l hx hb dX8_put_1 rfl ?_
  refine lv_lconst (v := (0 : Int64)) hx hb dX8_put_2 (by decide) ?_
  refine lv_ldc2 (v := (3 : Int64)) hx hb hown (hts _ q1121) dX8_put_3 ?_
  obtain ⟨r_28, σ_29, h_30, hF⟩ := bd_e hF
  refine r_callSi (As := [.long x1.toInt64, .long (0 : Int64), .long (3 : Int64)]) (rest := []) C hw hS (met_X8_in l G rd q  h_30) (cwS 3 hts (lw_S q1040 q1041 q65 q1042) rfl rfl rfl (by decide +kernel) ⟨Nat.le_of_ble_eq_true rfl, Nat.le_of_ble_eq_true rfl⟩) rfl hl.1 rfl (Nat.le_of_ble_eq_true rfl) ⟨Nat.le_refl _, Nat.le_refl _⟩ dX8_put_6 (fun H locs hw hS => ?_)
  refine lv_if_eq (tgt := 36) hx hb dX8_put_9 (by decide) (fun c_31 => ?_) (fun c_31 => ?_)
  · have hF := it_e hF c_31
    refine lv_iconst (v := (-1 : Int32)) hx hb dX8_put_36 (by decide) ?_
    exact r_iret C hw hS hF dX8_put_37
  · have hF := if_e hF c_31
    refine lv_iload_n hx hb dX8_put_12 rfl (lv_at hl 2 rfl) ?_
    refine lv_i2l hx hb dX8_put_13 rfl ?_
    refine lv_lconst (v := (1 : Int64)) hx hb dX8_put_14 (by decide) ?_
    refine lv_ldc2 (v := (20 : Int64)) hx hb hown (hts _ q1122) dX8_put_15 ?_
    obtain ⟨r_32, σ_33, h_34, hF⟩ := bd_e hF
    refine r_callSi (As := [.long x2.toInt64, .long (1 : Int64), .long (20 : Int64)]) (rest := []) C hw hS (met_X8_in l G rd q  h_34) (cwS 3 hts (lw_S q1040 q1041 q65 q1042) rfl rfl rfl (by decide +kernel) ⟨Nat.le_of_ble_eq_true rfl, Nat.le_of_ble_eq_true rfl⟩) rfl hl.1 rfl (Nat.le_of_ble_eq_true rfl) ⟨Nat.le_refl _, Nat.le_refl _⟩ dX8_put_18 (fun H locs hw hS => ?_)
    refine lv_if_eq (tgt := 36) hx hb dX8_put_21 (by decide) (fun c_35 => ?_) (fun c_35 => ?_)
    · have hF := it_e hF c_35
      refine lv_iconst (v := (-1 : Int32)) hx hb dX8_put_36 (by decide) ?_
      exact r_iret C hw hS hF dX8_put_37
    · have hF := if_e hF c_35
      refine lv_iload_n hx hb dX8_put_24 rfl (lv_at hl 3 rfl) ?_
      refine lv_i2l hx hb dX8_put_25 rfl ?_
      refine lv_lconst (v := (0 : Int64)) hx hb dX8_put_26 (by decide) ?_
      refine lv_ldc2 (v := (9 : Int64)) hx hb hown (hts _ q1123) dX8_put_27 ?_
      obtain ⟨r_36, σ_37, h_38, hF⟩ := bd_e hF
      refine r_callSi (As := [.long x3.toInt64, .long (0 : Int64), .long (9 : Int64)]) (rest := []) C hw hS (met_X8_in l G rd q  h_38) (cwS 3 hts (lw_S q1040 q1041 q65 q1042) rfl rfl rfl (by decide +kernel) ⟨Nat.le_of_ble_eq_true rfl, Nat.le_of_ble_eq_true rfl⟩) rfl hl.1 rfl (Nat.le_of_ble_eq_true rfl) ⟨Nat.le_refl _, Nat.le_refl _⟩ dX8_put_30 (fun H locs hw hS => ?_)
      refine lv_if_ne (tgt := 38) hx hb dX8_put_33 (by decide) (fun c_39 => ?_) (fun c_39 => ?_)
      · have hF := if_e hF c_39
        refine lv_aload_n hx hb dX8_put_38 rfl (lv_at hl 0 rfl) ?_
        refine r_get8 C hw 0 (by decide) rfl (v := .ref (q 21)) rfl q955 dX8_put_39 ?_
        refine lv_bipush (v := (16 : Int32)) hx hb dX8_put_42 (by decide) ?_
        obtain ⟨h_40, hF⟩ := gd_e hF
        refine r_iald (i := 21) (n := 234) (g := 21) (st := 0) C hw (wi_lo (Or.inr ⟨by decide, by decide⟩)) rfl h_40 dX8_put_44 ?_
        obtain ⟨x_41, ex_41, hF⟩ := nm_e2 hF
        refine r_topi ex_41 ?_
        refine lv_istore (lv' := [(4, .int x_41), (0, .ref (q 1)), (1, .int x1), (2, .int x2), (3, .int x3)]) hx hb dX8_put_45 hl (by decide) rfl (fun ls hl => ?_)
        refine lv_iload hx hb dX8_put_47 (lv_at hl 0 rfl) ?_
        refine lv_iconst (v := (4 : Int32)) hx hb dX8_put_49 (by decide) ?_
        refine lv_icmp_ne (tgt := 56) hx hb dX8_put_50 (by decide) (fun c_42 => ?_) (fun c_42 => ?_)
        · have hF := if_e hF c_42
          refine lv_aload_n hx hb dX8_put_56 rfl (lv_at hl 1 rfl) ?_
          refine r_get8 C hw 0 (by decide) rfl (v := .ref (q 21)) rfl q955 dX8_put_57 ?_
          refine lv_iload hx hb dX8_put_60 (lv_at hl 0 rfl) ?_
          refine lv_iload_n hx hb dX8_put_62 rfl (lv_at hl 2 rfl) ?_
          obtain ⟨h_43, hF⟩ := gd_e hF
          obtain ⟨σ_44, eσ_44, hF⟩ := nm_e2 hF
          refine r_iast (i := 21) (n := 234) (g := 21) (st := 0) C hw hS (wi_lo (Or.inr ⟨by decide, by decide⟩)) rfl (fun _ => ho_lo (by decide)) h_43 dX8_put_63 eσ_44 (fun H locs hw hS => ?_)
          refine lv_aload_n hx hb dX8_put_64 rfl (lv_at hl 1 rfl) ?_
          refine r_get8 C hw 0 (by decide) rfl (v := .ref (q 21)) rfl q955 dX8_put_65 ?_
          refine lv_iconst (v := (4 : Int32)) hx hb dX8_put_68 (by decide) ?_
          refine lv_iload hx hb dX8_put_69 (lv_at hl 0 rfl) ?_
          refine lv_iadd hx hb dX8_put_71 ?_
          refine lv_iload_n hx hb dX8_put_72 rfl (lv_at hl 3 rfl) ?_
          obtain ⟨h_45, hF⟩ := gd_e hF
          obtain ⟨σ_46, eσ_46, hF⟩ := nm_e2 hF
          refine r_iast (i := 21) (n := 234) (g := 21) (st := 0) C hw hS (wi_lo (Or.inr ⟨by decide, by decide⟩)) rfl (fun _ => ho_lo (by decide)) h_45 dX8_put_73 eσ_46 (fun H locs hw hS => ?_)
          refine lv_aload_n hx hb dX8_put_74 rfl (lv_at hl 1 rfl) ?_
          refine r_get8 C hw 0 (by decide) rfl (v := .ref (q 21)) rfl q955 dX8_put_75 ?_
          refine lv_bipush (v := (8 : Int32)) hx hb dX8_put_78 (by decide) ?_
          refine lv_iload hx hb dX8_put_80 (lv_at hl 0 rfl) ?_
          refine lv_iadd hx hb dX8_put_82 ?_
          refine lv_iload_n hx hb dX8_put_83 rfl (lv_at hl 4 rfl) ?_
          obtain ⟨h_47, hF⟩ := gd_e hF
          obtain ⟨σ_48, eσ_48, hF⟩ := nm_e2 hF
          refine r_iast (i := 21) (n := 234) (g := 21) (st := 0) C hw hS (wi_lo (Or.inr ⟨by decide, by decide⟩)) rfl (fun _ => ho_lo (by decide)) h_47 dX8_put_84 eσ_48 (fun H locs hw hS => ?_)
          refine lv_aload_n hx hb dX8_put_85 rfl (lv_at hl 1 rfl) ?_
          refine r_get8 C hw 0 (by decide) rfl (v := .ref (q 21)) rfl q955 dX8_put_86 ?_
          refine lv_bipush (v := (12 : Int32)) hx hb dX8_put_89 (by decide) ?_
          refine lv_iload hx hb dX8_put_91 (lv_at hl 0 rfl) ?_
          refine lv_iadd hx hb dX8_put_93 ?_
          refine lv_iconst (v := (0 : Int32)) hx hb dX8_put_94 (by decide) ?_
          obtain ⟨h_49, hF⟩ := gd_e hF
          obtain ⟨σ_50, eσ_50, hF⟩ := nm_e2 hF
          refine r_iast (i := 21) (n := 234) (g := 21) (st := 0) C hw hS (wi_lo (Or.inr ⟨by decide, by decide⟩)) rfl (fun _ => ho_lo (by decide)) h_49 dX8_put_95 eσ_50 (fun H locs hw hS => ?_)
          refine lv_aload_n hx hb dX8_put_96 rfl (lv_at hl 1 rfl) ?_
          refine r_get8 C hw 0 (by decide) rfl (v := .ref (q 21)) rfl q955 dX8_put_97 ?_
          refine lv_bipush (v := (16 : Int32)) hx hb dX8_put_100 (by decide) ?_
          refine lv_dup2_11 hx hb dX8_put_102 rfl rfl ?_
          obtain ⟨h_51, hF⟩ := gd_e hF
          refine r_iald (i := 21) (n := 234) (g := 21) (st := 0) C hw (wi_lo (Or.inr ⟨by decide, by decide⟩)) rfl h_51 dX8_put_103 ?_
          refine lv_iconst (v := (1 : Int32)) hx hb dX8_put_104 (by decide) ?_
          refine lv_iadd hx hb dX8_put_105 ?_
          obtain ⟨h_52, hF⟩ := gd_e hF
          obtain ⟨σ_53, eσ_53, hF⟩ := nm_e2 hF
          refine r_iast (i := 21) (n := 234) (g := 21) (st := 0) C hw hS (wi_lo (Or.inr ⟨by decide, by decide⟩)) rfl (fun _ => ho_lo (by decide)) h_52 dX8_put_106 eσ_53 (fun H locs hw hS => ?_)
          refine lv_aload_n hx hb dX8_put_107 rfl (lv_at hl 1 rfl) ?_
          refine r_get8 C hw 0 (by decide) rfl (v := .ref (q 21)) rfl q955 dX8_put_108 ?_
          refine lv_bipush (v := (16 : Int32)) hx hb dX8_put_111 (by decide) ?_
          obtain ⟨h_54, hF⟩ := gd_e hF
          refine r_iald (i := 21) (n := 234) (g := 21) (st := 0) C hw (wi_lo (Or.inr ⟨by decide, by decide⟩)) rfl h_54 dX8_put_113 ?_
          exact r_iret C hw hS hF dX8_put_114
        · have hF := it_e hF c_42
          refine lv_bipush (v := (-3 : Int32)) hx hb dX8_put_53 (by decide) ?_
          exact r_iret C hw hS hF dX8_put_55
      · have hF := it_e hF c_39
        refine lv_iconst (v := (-1 : Int32)) hx hb dX8_put_36 (by decide) ?_
        exact r_iret C hw hS hF dX8_put_37
abbrev rmX8_read : Room := { frames := 3, cells := 0, slots := 0, locals := 106 }
noncomputable def F_X8_read_177 (N : Nat) (x5 : Int32) (x6 : Int32) (σ : SS) : Option (Int32 × SS) :=
  nm (si σ 1 25 x5) fun σ_41 =>
  some (x6, σ_41)
set_option maxRecDepth 100000 in
theorem w_X8_read_177 {p : Program} {l : Launch} {e : Env} {s : State} {m : MethodId} {args : Array Value} {below : List Frame} {meth : Method} {c : Code} {G : GG} {rd : Bool} {q : Nat → Nat} {N : Nat} {r : Int32} {σ' : SS} (C : cx p s m args meth c cX8_read 9 RX8 (some .int) G) : ∀ (x5 : Int32) (x6 : Int32) (σ : SS) (H : Heap) (locs : List Loc) (ls : Array Slot), F_X8_read_177 N x5 x6 σ = some (r, σ') → wx G rd q σ H → va_S (fa G) s.heap H locs → lv_has ls 9 [(0, .ref (q 1)), (5, .int x5), (6, .int x6)] → W p l e rmX8_read s m args below meth c H locs 0 0 (MQ below (qxi G rd q σ' r) args s 0 0 (fa G)) (F0 m 177 ls []) := by
  obtain ⟨hx, hb, hml, hown, hts, -, -, -, -⟩ := id C
  intro x5 x6 σ H locs ls hF hw hS hl
  unfold F_X8_read_177 at hF
  refine lv_aload_n hx hb dX8_read_177 rfl (lv_at hl 0 rfl) ?_
  refine lv_iload hx hb dX8_read_178 (lv_at hl 1 rfl) ?_
  obtain ⟨σ_41, eσ_41, hF⟩ := nm_e2 hF
  refine r_put8 C hw hS 25 (by decide) rfl rfl (tyX8_ok 25 (by decide)) rfl rfl q980 dX8_read_180 eσ_41 (fun H locs hw hS => ?_)
  refine lv_iload hx hb dX8_read_183 (lv_at hl 2 rfl) ?_
  exact r_iret C hw hS hF dX8_read_185
noncomputable def F_X8_read_123 (N : Nat) (K55 : Int32 → Int32 → Int32 → Int32 → Int32 → Int32 → Int32 → SS → Option (Int32 × SS)) (x1 : Int32) (x2 : Int32) (x3 : Int32) (x4 : Int32) (x6 : Int32) (x7 : Int32) (z0 : Int32) (σ : SS) : Option (Int32 × SS) :=
  if z0 = (0 : Int32) then
    nm ((((40 : Int32) * x1) + x3) + x7) fun x_44 =>
    gd (inR x_44 160) <|
    bd (F_X8_adds N (gi σ 31 x_44.toNatClampNeg) σ) fun r_46 σ_47 =>
    if (0 : Int32) ≤ r_46 then
      nm (x6 + (1 : Int32)) fun x_50 =>
      nm (x7 + (1 : Int32)) fun x_51 =>
      K55 x1 x2 x3 x4 z0 x_50 x_51 σ_47
    else
      bd (F_X8_copies N (117 : Int32) (0 : Int32) σ_47) fun r_52 σ_53 =>
      some ((-20 : Int32) - x6, σ_53)
  else
    nm (x7 + (1 : Int32)) fun x_43 =>
    K55 x1 x2 x3 x4 z0 x6 x_43 σ
set_option maxRecDepth 100000 in
theorem w_X8_read_123 {p : Program} {l : Launch} {e : Env} {s : State} {m : MethodId} {args : Array Value} {below : List Frame} {meth : Method} {c : Code} {G : GG} {rd : Bool} {q : Nat → Nat} {N : Nat} {r : Int32} {σ' : SS} (C : cx p s m args meth c cX8_read 9 RX8 (some .int) G) {K55 : Int32 → Int32 → Int32 → Int32 → Int32 → Int32 → Int32 → SS → Option (Int32 × SS)} (HK55 : ∀ (x1 : Int32) (x2 : Int32) (x3 : Int32) (x4 : Int32) (x5 : Int32) (x6 : Int32) (x7 : Int32) (σ : SS) (H : Heap) (locs : List Loc) (ls : Array Slot), K55 x1 x2 x3 x4 x5 x6 x7 σ = some (r, σ') → wx G rd q σ H → va_S (fa G) s.heap H locs → lv_has ls 9 [(0, .ref (q 1)), (1, .int x1), (2, .int x2), (3, .int x3), (4, .int x4), (5, .int x5), (6, .int x6), (7, .int x7)] → W p l e rmX8_read s m args below meth c H locs 0 0 (MQ below (qxi G rd q σ' r) args s 0 0 (fa G)) (F0 m 55 ls [])) : ∀ (x1 : Int32) (x2 : Int32) (x3 : Int32) (x4 : Int32) (x6 : Int32) (x7 : Int32) (z0 : Int32) (σ : SS) (H : Heap) (locs : List Loc) (ls : Array Slot), F_X8_read_123 N K55 x1 x2 x3 x4 x6 x7 z0 σ = some (r, σ') → wx G rd q σ H → va_S (fa G) s.heap H locs → lv_has ls 9 [(0, .ref (q 1)), (1, .int x1), (2, .int x2), (3, .int x3), (4, .int x4), (6, .int x6), (7, .int x7)] → W p l e rmX8_read s m args below meth c H locs 0 0 (MQ below (qxi G rd q σ' r) args s 0 0 (fa G)) (F0 m 123 ls [.int z0]) := by
  obtain ⟨hx, hb, hml, hown, hts, -, -, -, -⟩ := id C
  intro x1 x2 x3 x4 x6 x7 z0 σ H locs ls hF hw hS hl
  unfold F_X8_read_123 at hF
  refine lv_istore (lv' := [(5, .int z0), (0, .ref (q 1)), (1, .int x1), (2, .int x2), (3, .int x3), (4, .int x4), (6, .int x6), (7, .int x7)]) hx hb dX8_read_123 hl (by decide) rfl (fun ls hl => ?_)
  refine lv_iload hx hb dX8_read_125 (lv_at hl 0 rfl) ?_
  refine lv_if_ne (tgt := 171) hx hb dX8_read_127 (by decide) (fun c_42 => ?_) (fun c_42 => ?_)
  · have hF := if_e hF c_42
    obtain ⟨x_43, ex_43, hF⟩ := nm_e2 hF
    refine lv_iinc (v := x_43) (lv' := [(7, .int x_43), (5, .int z0), (0, .ref (q 1)), (1, .int x1), (2, .int x2), (3, .int x3), (4, .int x4), (6, .int x6)]) hx hb dX8_read_171 hl (k := 7) rfl (by rw [ex_43]; rfl) (by decide) rfl (fun ls hl => ?_)
    refine lv_goto (tgt := 55) hx hb dX8_read_174 (by decide) ?_
    exact HK55 _ _ _ _ _ _ _ _ _ _ _ hF hw hS (lv_sub hl [2, 3, 4, 5, 6, 1, 7, 0] rfl)
  · have hF := it_e hF c_42
    refine lv_bipush (v := (40 : Int32)) hx hb dX8_read_130 (by decide) ?_
    refine lv_iload_n hx hb dX8_read_132 rfl (lv_at hl 2 rfl) ?_
    refine lv_imul hx hb dX8_read_133 ?_
    refine lv_iload_n hx hb dX8_read_134 rfl (lv_at hl 4 rfl) ?_
    refine lv_iadd hx hb dX8_read_135 ?_
    refine lv_iload hx hb dX8_read_136 (lv_at hl 7 rfl) ?_
    refine lv_iadd hx hb dX8_read_138 ?_
    obtain ⟨x_44, ex_44, hF⟩ := nm_e2 hF
    refine r_topi ex_44 ?_
    refine lv_istore (lv' := [(8, .int x_44), (5, .int z0), (0, .ref (q 1)), (1, .int x1), (2, .int x2), (3, .int x3), (4, .int x4), (6, .int x6), (7, .int x7)]) hx hb dX8_read_139 hl (by decide) rfl (fun ls hl => ?_)
    refine lv_aload_n hx hb dX8_read_141 rfl (lv_at hl 2 rfl) ?_
    refine lv_aload_n hx hb dX8_read_142 rfl (lv_at hl 2 rfl) ?_
    refine r_get8 C hw 24 (by decide) rfl (v := .ref (q 31)) rfl q979 dX8_read_143 ?_
    refine lv_iload hx hb dX8_read_146 (lv_at hl 0 rfl) ?_
    obtain ⟨h_45, hF⟩ := gd_e hF
    refine r_iald (i := 31) (n := 160) (g := 31) (st := 0) C hw (wi_lo (Or.inr ⟨by decide, by decide⟩)) rfl h_45 dX8_read_148 ?_
    obtain ⟨r_46, σ_47, h_48, hF⟩ := bd_e hF
    refine r_callVi (As := [.int (gi σ 31 x_44.toNatClampNeg)]) (rest := []) (i := 1) C hw hS (wi_lo (Or.inl (by decide))) rfl (ci := 8) rfl (met_X8_adds l G rd q  h_48) (cwV 1 hts (lw_V q1150 q1152 qs43 q65 q1153) rfl rfl rfl (by decide +kernel) ⟨Nat.le_of_ble_eq_true rfl, Nat.le_of_ble_eq_true rfl⟩) rfl hl.1 rfl (Nat.le_of_ble_eq_true rfl) ⟨Nat.le_refl _, Nat.le_refl _⟩ dX8_read_149 (fun H locs hw hS => ?_)
    refine lv_if_ge (tgt := 168) hx hb dX8_read_152 (by decide) (fun c_49 => ?_) (fun c_49 => ?_)
    · have hF := it_e hF c_49
      obtain ⟨x_50, ex_50, hF⟩ := nm_e2 hF
      refine lv_iinc (v := x_50) (lv' := [(6, .int x_50), (8, .int x_44), (5, .int z0), (0, .ref (q 1)), (1, .int x1), (2, .int x2), (3, .int x3), (4, .int x4), (7, .int x7)]) hx hb dX8_read_168 hl (k := 7) rfl (by rw [ex_50]; rfl) (by decide) rfl (fun ls hl => ?_)
      obtain ⟨x_51, ex_51, hF⟩ := nm_e2 hF
      refine lv_iinc (v := x_51) (lv' := [(7, .int x_51), (6, .int x_50), (8, .int x_44), (5, .int z0), (0, .ref (q 1)), (1, .int x1), (2, .int x2), (3, .int x3), (4, .int x4)]) hx hb dX8_read_171 hl (k := 8) rfl (by rw [ex_51]; rfl) (by decide) rfl (fun ls hl => ?_)
      refine lv_goto (tgt := 55) hx hb dX8_read_174 (by decide) ?_
      exact HK55 _ _ _ _ _ _ _ _ _ _ _ hF hw hS (lv_sub hl [4, 5, 6, 7, 8, 3, 1, 0] rfl)
    · have hF := if_e hF c_49
      refine lv_aload_n hx hb dX8_read_155 rfl (lv_at hl 2 rfl) ?_
      refine lv_bipush (v := (117 : Int32)) hx hb dX8_read_156 (by decide) ?_
      refine lv_iconst (v := (0 : Int32)) hx hb dX8_read_158 (by decide) ?_
      obtain ⟨r_52, σ_53, h_54, hF⟩ := bd_e hF
      refine r_callVv (As := [.int (117 : Int32), .int (0 : Int32)]) (rest := []) (i := 1) C hw hS (wi_lo (Or.inl (by decide))) rfl (ci := 8) rfl (met_X8_copies l G rd q  h_54) (cwV 2 hts (lw_V q1192 q1194 qs48 q65 q1195) rfl rfl rfl (by decide +kernel) ⟨Nat.le_of_ble_eq_true rfl, Nat.le_of_ble_eq_true rfl⟩) rfl hl.1 rfl (Nat.le_of_ble_eq_true rfl) ⟨Nat.le_refl _, Nat.le_refl _⟩ dX8_read_159 (fun H locs hw hS => ?_)
      refine lv_bipush (v := (-20 : Int32)) hx hb dX8_read_162 (by decide) ?_
      refine lv_iload hx hb dX8_read_164 (lv_at hl 7 rfl) ?_
      refine lv_isub hx hb dX8_read_166 ?_
      exact r_iret C hw hS hF dX8_read_167
noncomputable def B_X8_read_55 (N : Nat) (IH : Int32 → Int32 → Int32 → Int32 → Int32 → Int32 → Int32 → SS → Option (Int32 × SS)) (x1 : Int32) (x2 : Int32) (x3 : Int32) (x4 : Int32) (x5 : Int32) (x6 : Int32) (x7 : Int32) (σ : SS) : Option (Int32 × SS) :=
  if x4 ≤ x7 then
    F_X8_read_177 N x5 x6 σ
  else
    if x5 = (0 : Int32) then
      gd (inR x1 4) <|
      if (gi σ 29 x1.toNatClampNeg) = (-4 : Int32) then
        F_X8_read_123 N IH x1 x2 x3 x4 x6 x7 (1 : Int32) σ
      else
        gd (inR x1 4) <|
        if (gi σ 29 x1.toNatClampNeg) = x2 then
          gd (inR x1 4) <|
          bd (F_X8_in N (x3.toInt64 + x7.toInt64) (0 : Int64) (((gi σ 30 x1.toNatClampNeg) - (1 : Int32)).toInt64) σ) fun r_62 σ_63 =>
          if r_62 = (0 : Int32) then
            F_X8_read_123 N IH x1 x2 x3 x4 x6 x7 (2 : Int32) σ_63
          else
            F_X8_read_123 N IH x1 x2 x3 x4 x6 x7 (0 : Int32) σ_63
        else
          F_X8_read_123 N IH x1 x2 x3 x4 x6 x7 (3 : Int32) σ
    else
      F_X8_read_177 N x5 x6 σ
noncomputable def F_X8_read_55 (N : Nat) (n : Nat) : Int32 → Int32 → Int32 → Int32 → Int32 → Int32 → Int32 → SS → Option (Int32 × SS) := Nat.rec (fun _ _ _ _ _ _ _ _ => none) (fun _ IH => B_X8_read_55 N IH) n
set_option maxRecDepth 100000 in
theorem w_X8_read_55 {p : Program} {l : Launch} {e : Env} {s : State} {m : MethodId} {args : Array Value} {below : List Frame} {meth : Method} {c : Code} {G : GG} {rd : Bool} {q : Nat → Nat} {N : Nat} {r : Int32} {σ' : SS} (C : cx p s m args meth c cX8_read 9 RX8 (some .int) G) : ∀ (n : Nat), ∀ (x1 : Int32) (x2 : Int32) (x3 : Int32) (x4 : Int32) (x5 : Int32) (x6 : Int32) (x7 : Int32) (σ : SS) (H : Heap) (locs : List Loc) (ls : Array Slot), F_X8_read_55 N n x1 x2 x3 x4 x5 x6 x7 σ = some (r, σ') → wx G rd q σ H → va_S (fa G) s.heap H locs → lv_has ls 9 [(0, .ref (q 1)), (1, .int x1), (2, .int x2), (3, .int x3), (4, .int x4), (5, .int x5), (6, .int x6), (7, .int x7)] → W p l e rmX8_read s m args below meth c H locs 0 0 (MQ below (qxi G rd q σ' r) args s 0 0 (fa G)) (F0 m 55 ls []) := by
  obtain ⟨hx, hb, hml, hown, hts, -, -, -, -⟩ := id C
  intro n
  induction n with
  | zero =>
    intro x1 x2 x3 x4 x5 x6 x7 σ H locs ls hF hw hS hl
    cases hF
  | succ n ih =>
    intro x1 x2 x3 x4 x5 x6 x7 σ H locs ls hF hw hS hl
    have hF : B_X8_read_55 N (F_X8_read_55 N n) x1 x2 x3 x4 x5 x6 x7 σ = some (r, σ') := hF
    unfold B_X8_read_55 at hF
    refine lv_iload hx hb dX8_read_55 (lv_at hl 7 rfl) ?_
    refine lv_iload hx hb dX8_read_57 (lv_at hl 4 rfl) ?_
    refine lv_icmp_ge (tgt := 177) hx hb dX8_read_59 (by decide) (fun c_55 => ?_) (fun c_55 => ?_)
    · have hF := it_e hF c_55
      exact w_X8_read_177 C   _ _ _ _ _ _ hF hw hS (lv_sub hl [0, 5, 6] rfl)
    · have hF := if_e hF c_55
      refine lv_iload hx hb dX8_read_62 (lv_at hl 5 rfl) ?_
      refine lv_if_ne (tgt := 177) hx hb dX8_read_64 (by decide) (fun c_56 => ?_) (fun c_56 => ?_)
      · have hF := if_e hF c_56
        exact w_X8_read_177 C   _ _ _ _ _ _ hF hw hS (lv_sub hl [0, 5, 6] rfl)
      · have hF := it_e hF c_56
        refine lv_aload_n hx hb dX8_read_67 rfl (lv_at hl 0 rfl) ?_
        refine r_get8 C hw 22 (by decide) rfl (v := .ref (q 29)) rfl q977 dX8_read_68 ?_
        refine lv_iload_n hx hb dX8_read_71 rfl (lv_at hl 1 rfl) ?_
        obtain ⟨h_57, hF⟩ := gd_e hF
        refine r_iald (i := 29) (n := 4) (g := 29) (st := 0) C hw (wi_lo (Or.inr ⟨by decide, by decide⟩)) rfl h_57 dX8_read_72 ?_
        refine lv_bipush (v := (-4 : Int32)) hx hb dX8_read_73 (by decide) ?_
        refine lv_icmp_ne (tgt := 82) hx hb dX8_read_75 (by decide) (fun c_58 => ?_) (fun c_58 => ?_)
        · have hF := if_e hF c_58
          refine lv_aload_n hx hb dX8_read_82 rfl (lv_at hl 0 rfl) ?_
          refine r_get8 C hw 22 (by decide) rfl (v := .ref (q 29)) rfl q977 dX8_read_83 ?_
          refine lv_iload_n hx hb dX8_read_86 rfl (lv_at hl 1 rfl) ?_
          obtain ⟨h_59, hF⟩ := gd_e hF
          refine r_iald (i := 29) (n := 4) (g := 29) (st := 0) C hw (wi_lo (Or.inr ⟨by decide, by decide⟩)) rfl h_59 dX8_read_87 ?_
          refine lv_iload_n hx hb dX8_read_88 rfl (lv_at hl 2 rfl) ?_
          refine lv_icmp_eq (tgt := 96) hx hb dX8_read_89 (by decide) (fun c_60 => ?_) (fun c_60 => ?_)
          · have hF := it_e hF c_60
            refine lv_iload_n hx hb dX8_read_96 rfl (lv_at hl 3 rfl) ?_
            refine lv_i2l hx hb dX8_read_97 rfl ?_
            refine lv_iload hx hb dX8_read_98 (lv_at hl 7 rfl) ?_
            refine lv_i2l hx hb dX8_read_100 rfl ?_
            refine lv_ladd hx hb dX8_read_101 ?_
            refine lv_lconst (v := (0 : Int64)) hx hb dX8_read_102 (by decide) ?_
            refine lv_aload_n hx hb dX8_read_103 rfl (lv_at hl 0 rfl) ?_
            refine r_get8 C hw 23 (by decide) rfl (v := .ref (q 30)) rfl q978 dX8_read_104 ?_
            refine lv_iload_n hx hb dX8_read_107 rfl (lv_at hl 1 rfl) ?_
            obtain ⟨h_61, hF⟩ := gd_e hF
            refine r_iald (i := 30) (n := 4) (g := 30) (st := 0) C hw (wi_lo (Or.inr ⟨by decide, by decide⟩)) rfl h_61 dX8_read_108 ?_
            refine lv_iconst (v := (1 : Int32)) hx hb dX8_read_109 (by decide) ?_
            refine lv_isub hx hb dX8_read_110 ?_
            refine lv_i2l hx hb dX8_read_111 rfl ?_
            obtain ⟨r_62, σ_63, h_64, hF⟩ := bd_e hF
            refine r_callSi (As := [.long (x3.toInt64 + x7.toInt64), .long (0 : Int64), .long (((gi σ 30 x1.toNatClampNeg) - (1 : Int32)).toInt64)]) (rest := []) C hw hS (met_X8_in l G rd q  h_64) (cwS 3 hts (lw_S q1040 q1041 q65 q1042) rfl rfl rfl (by decide +kernel) ⟨Nat.le_of_ble_eq_true rfl, Nat.le_of_ble_eq_true rfl⟩) rfl hl.1 rfl (Nat.le_of_ble_eq_true rfl) ⟨Nat.le_refl _, Nat.le_refl _⟩ dX8_read_112 (fun H locs hw hS => ?_)
            refine lv_if_ne (tgt := 122) hx hb dX8_read_115 (by decide) (fun c_65 => ?_) (fun c_65 => ?_)
            · have hF := if_e hF c_65
              refine lv_iconst (v := (0 : Int32)) hx hb dX8_read_122 (by decide) ?_
              exact w_X8_read_123 C  ih _ _ _ _ _ _ _ _ _ _ _ hF hw hS (lv_sub hl [0, 1, 2, 3, 4, 6, 7] rfl)
            · have hF := it_e hF c_65
              refine lv_iconst (v := (2 : Int32)) hx hb dX8_read_118 (by decide) ?_
              refine lv_goto (tgt := 123) hx hb dX8_read_119 (by decide) ?_
              exact w_X8_read_123 C  ih _ _ _ _ _ _ _ _ _ _ _ hF hw hS (lv_sub hl [0, 1, 2, 3, 4, 6, 7] rfl)
          · have hF := if_e hF c_60
            refine lv_iconst (v := (3 : Int32)) hx hb dX8_read_92 (by decide) ?_
            refine lv_goto (tgt := 123) hx hb dX8_read_93 (by decide) ?_
            exact w_X8_read_123 C  ih _ _ _ _ _ _ _ _ _ _ _ hF hw hS (lv_sub hl [0, 1, 2, 3, 4, 6, 7] rfl)
        · have hF := it_e hF c_58
          refine lv_iconst (v := (1 : Int32)) hx hb dX8_read_78 (by decide) ?_
          refine lv_goto (tgt := 123) hx hb dX8_read_79 (by decide) ?_
          exact w_X8_read_123 C  ih _ _ _ _ _ _ _ _ _ _ _ hF hw hS (lv_sub hl [0, 1, 2, 3, 4, 6, 7] rfl)
noncomputable def F_X8_read (N : Nat) (x1 : Int32) (x2 : Int32) (x3 : Int32) (x4 : Int32) (σ : SS) : Option (Int32 × SS) :=
  bd (F_X8_in N x1.toInt64 (0 : Int64) (3 : Int64) σ) fun r_66 σ_67 =>
  if r_66 = (0 : Int32) then
    some ((-1 : Int32), σ_67)
  else
    bd (F_X8_in N x2.toInt64 (0 : Int64) (2 : Int64) σ_67) fun r_70 σ_71 =>
    if r_70 = (0 : Int32) then
      some ((-1 : Int32), σ_71)
    else
      bd (F_X8_in N x4.toInt64 (0 : Int64) (40 : Int64) σ_71) fun r_74 σ_75 =>
      if r_74 = (0 : Int32) then
        some ((-1 : Int32), σ_75)
      else
        bd (F_X8_copies N (0 : Int32) (117 : Int32) σ_75) fun r_78 σ_79 =>
        F_X8_read_55 N N x1 x2 x3 x4 (0 : Int32) (0 : Int32) (0 : Int32) σ_79
set_option maxRecDepth 100000 in
theorem met_X8_read (l : Launch) (G : GG) (rd : Bool) (q : Nat → Nat) {N : Nat} {x1 : Int32} {x2 : Int32} {x3 : Int32} {x4 : Int32} {σ σ' : SS} {r : Int32} (hF : F_X8_read N x1 x2 x3 x4 σ = some (r, σ')) : Met l yX8_read (ws_ yX8_read cX8_read 9 (some .int)) rmX8_read (pcx G rd q σ [.ref (q 1), .int x1, .int x2, .int x3, .int x4]) (qxi G rd q σ' r) 0 0 (fa G) := by
  refine met_of (by decide) (Nat.le_of_ble_eq_true rfl) ?_
  intro p e s m below meth c C H locs ls hw hS hl
  obtain ⟨hx, hb, hml, hown, hts, -, -, -, -⟩ := id C
  have hl : lv_has ls 9 [(0, .ref (q 1)), (1, .int x1), (2, .int x2), (3, .int x3), (4, .int x4)] := hl
  unfold F_X8_read at hF
  refine lv_iload_n hx hb dX8_read_0 rfl (lv_at hl 1 rfl) ?_
  refine lv_i2l hx hb dX8_read_1 rfl ?_
  refine lv_lconst (v := (0 : Int64)) hx hb dX8_read_2 (by decide) ?_
  refine lv_ldc2 (v := (3 : Int64)) hx hb hown (hts _ q1121) dX8_read_3 ?_
  obtain ⟨r_66, σ_67, h_68, hF⟩ := bd_e hF
  refine r_callSi (As := [.long x1.toInt64, .long (0 : Int64), .long (3 : Int64)]) (rest := []) C hw hS (met_X8_in l G rd q  h_68) (cwS 3 hts (lw_S q1040 q1041 q65 q1042) rfl rfl rfl (by decide +kernel) ⟨Nat.le_of_ble_eq_true rfl, Nat.le_of_ble_eq_true rfl⟩) rfl hl.1 rfl (Nat.le_of_ble_eq_true rfl) ⟨Nat.le_refl _, Nat.le_refl _⟩ dX8_read_6 (fun H locs hw hS => ?_)
  refine lv_if_eq (tgt := 37) hx hb dX8_read_9 (by decide) (fun c_69 => ?_) (fun c_69 => ?_)
  · have hF := it_e hF c_69
    refine lv_iconst (v := (-1 : Int32)) hx hb dX8_read_37 (by decide) ?_
    exact r_iret C hw hS hF dX8_read_38
  · have hF := if_e hF c_69
    refine lv_iload_n hx hb dX8_read_12 rfl (lv_at hl 2 rfl) ?_
    refine lv_i2l hx hb dX8_read_13 rfl ?_
    refine lv_lconst (v := (0 : Int64)) hx hb dX8_read_14 (by decide) ?_
    refine lv_ldc2 (v := (2 : Int64)) hx hb hown (hts _ q1313) dX8_read_15 ?_
    obtain ⟨r_70, σ_71, h_72, hF⟩ := bd_e hF
    refine r_callSi (As := [.long x2.toInt64, .long (0 : Int64), .long (2 : Int64)]) (rest := []) C hw hS (met_X8_in l G rd q  h_72) (cwS 3 hts (lw_S q1040 q1041 q65 q1042) rfl rfl rfl (by decide +kernel) ⟨Nat.le_of_ble_eq_true rfl, Nat.le_of_ble_eq_true rfl⟩) rfl hl.1 rfl (Nat.le_of_ble_eq_true rfl) ⟨Nat.le_refl _, Nat.le_refl _⟩ dX8_read_18 (fun H locs hw hS => ?_)
    refine lv_if_eq (tgt := 37) hx hb dX8_read_21 (by decide) (fun c_73 => ?_) (fun c_73 => ?_)
    · have hF := it_e hF c_73
      refine lv_iconst (v := (-1 : Int32)) hx hb dX8_read_37 (by decide) ?_
      exact r_iret C hw hS hF dX8_read_38
    · have hF := if_e hF c_73
      refine lv_iload hx hb dX8_read_24 (lv_at hl 4 rfl) ?_
      refine lv_i2l hx hb dX8_read_26 rfl ?_
      refine lv_lconst (v := (0 : Int64)) hx hb dX8_read_27 (by decide) ?_
      refine lv_ldc2 (v := (40 : Int64)) hx hb hown (hts _ q1266) dX8_read_28 ?_
      obtain ⟨r_74, σ_75, h_76, hF⟩ := bd_e hF
      refine r_callSi (As := [.long x4.toInt64, .long (0 : Int64), .long (40 : Int64)]) (rest := []) C hw hS (met_X8_in l G rd q  h_76) (cwS 3 hts (lw_S q1040 q1041 q65 q1042) rfl rfl rfl (by decide +kernel) ⟨Nat.le_of_ble_eq_true rfl, Nat.le_of_ble_eq_true rfl⟩) rfl hl.1 rfl (Nat.le_of_ble_eq_true rfl) ⟨Nat.le_refl _, Nat.le_refl _⟩ dX8_read_31 (fun H locs hw hS => ?_)
      refine lv_if_ne (tgt := 39) hx hb dX8_read_34 (by decide) (fun c_77 => ?_) (fun c_77 => ?_)
      · have hF := if_e hF c_77
        refine lv_aload_n hx hb dX8_read_39 rfl (lv_at hl 0 rfl) ?_
        refine lv_iconst (v := (0 : Int32)) hx hb dX8_read_40 (by decide) ?_
        refine lv_bipush (v := (117 : Int32)) hx hb dX8_read_41 (by decide) ?_
        obtain ⟨r_78, σ_79, h_80, hF⟩ := bd_e hF
        refine r_callVv (As := [.int (0 : Int32), .int (117 : Int32)]) (rest := []) (i := 1) C hw hS (wi_lo (Or.inl (by decide))) rfl (ci := 8) rfl (met_X8_copies l G rd q  h_80) (cwV 2 hts (lw_V q1192 q1194 qs48 q65 q1195) rfl rfl rfl (by decide +kernel) ⟨Nat.le_of_ble_eq_true rfl, Nat.le_of_ble_eq_true rfl⟩) rfl hl.1 rfl (Nat.le_of_ble_eq_true rfl) ⟨Nat.le_refl _, Nat.le_refl _⟩ dX8_read_43 (fun H locs hw hS => ?_)
        refine lv_iconst (v := (0 : Int32)) hx hb dX8_read_46 (by decide) ?_
        refine lv_istore (lv' := [(5, .int (0 : Int32)), (0, .ref (q 1)), (1, .int x1), (2, .int x2), (3, .int x3), (4, .int x4)]) hx hb dX8_read_47 hl (by decide) rfl (fun ls hl => ?_)
        refine lv_iconst (v := (0 : Int32)) hx hb dX8_read_49 (by decide) ?_
        refine lv_istore (lv' := [(6, .int (0 : Int32)), (5, .int (0 : Int32)), (0, .ref (q 1)), (1, .int x1), (2, .int x2), (3, .int x3), (4, .int x4)]) hx hb dX8_read_50 hl (by decide) rfl (fun ls hl => ?_)
        refine lv_iconst (v := (0 : Int32)) hx hb dX8_read_52 (by decide) ?_
        refine lv_istore (lv' := [(7, .int (0 : Int32)), (6, .int (0 : Int32)), (5, .int (0 : Int32)), (0, .ref (q 1)), (1, .int x1), (2, .int x2), (3, .int x3), (4, .int x4)]) hx hb dX8_read_53 hl (by decide) rfl (fun ls hl => ?_)
        exact w_X8_read_55 C   N _ _ _ _ _ _ _ _ _ _ _ hF hw hS (lv_sub hl [3, 4, 5, 6, 7, 2, 1, 0] rfl)
      · have hF := it_e hF c_77
        refine lv_iconst (v := (-1 : Int32)) hx hb dX8_read_37 (by decide) ?_
        exact r_iret C hw hS hF dX8_read_38
abbrev rmX8_readMore : Room := { frames := 4, cells := 0, slots := 0, locals := 129 }
noncomputable def F_X8_readMore_125 (N : Nat) (z0 : Int32) (z1 : Int32) (z3 : Int32) (z4 : Int32) (σ : SS) : Option (Unit × SS) :=
  bd (F_X8_number N z1 z0 σ) fun r_36 σ_37 =>
  gd (inR z4 39) <|
  nm (si σ_37 22 z4.toNatClampNeg (z3 + r_36)) fun σ_40 =>
  gd (inR (33 : Int32) 39) <|
  gd (inR (33 : Int32) 39) <|
  nm (si σ_40 22 (33 : Int32).toNatClampNeg ((gi σ_40 22 (33 : Int32).toNatClampNeg) + (1 : Int32))) fun σ_43 =>
  some ((), σ_43)
set_option maxRecDepth 100000 in
theorem w_X8_readMore_125 {p : Program} {l : Launch} {e : Env} {s : State} {m : MethodId} {args : Array Value} {below : List Frame} {meth : Method} {c : Code} {G : GG} {rd : Bool} {q : Nat → Nat} {N : Nat} {r : Unit} {σ' : SS} (C : cx p s m args meth c cX8_readMore 3 RX8 none G) : ∀ (z0 : Int32) (z1 : Int32) (z3 : Int32) (z4 : Int32) (σ : SS) (H : Heap) (locs : List Loc) (ls : Array Slot), F_X8_readMore_125 N z0 z1 z3 z4 σ = some (r, σ') → wx G rd q σ H → va_S (fa G) s.heap H locs → lv_has ls 3 [(0, .ref (q 1))] → W p l e rmX8_readMore s m args below meth c H locs 0 0 (MQ below (qxv G rd q σ' r) args s 0 0 (fa G)) (F0 m 125 ls [.int z0, .int z1, .ref (q 1), .int z3, .int z4, .ref (q 22)]) := by
  obtain ⟨hx, hb, hml, hown, hts, -, -, -, -⟩ := id C
  intro z0 z1 z3 z4 σ H locs ls hF hw hS hl
  unfold F_X8_readMore_125 at hF
  obtain ⟨r_36, σ_37, h_38, hF⟩ := bd_e hF
  refine r_callVi (As := [.int z1, .int z0]) (rest := [.int z3, .int z4, .ref (q 22)]) (i := 1) C hw hS (wi_lo (Or.inl (by decide))) rfl (ci := 8) rfl (met_X8_number l G rd q  h_38) (cwV 2 hts (lw_V q1080 q1082 qs37 q65 q1083) rfl rfl rfl (by decide +kernel) ⟨Nat.le_of_ble_eq_true rfl, Nat.le_of_ble_eq_true rfl⟩) rfl hl.1 rfl (Nat.le_of_ble_eq_true rfl) ⟨Nat.le_refl _, Nat.le_refl _⟩ dX8_readMore_125 (fun H locs hw hS => ?_)
  refine lv_iadd hx hb dX8_readMore_128 ?_
  obtain ⟨h_39, hF⟩ := gd_e hF
  obtain ⟨σ_40, eσ_40, hF⟩ := nm_e2 hF
  refine r_iast (i := 22) (n := 39) (g := 22) (st := 0) C hw hS (wi_lo (Or.inr ⟨by decide, by decide⟩)) rfl (fun _ => ho_lo (by decide)) h_39 dX8_readMore_129 eσ_40 (fun H locs hw hS => ?_)
  refine lv_aload_n hx hb dX8_readMore_130 rfl (lv_at hl 0 rfl) ?_
  refine r_get8 C hw 1 (by decide) rfl (v := .ref (q 22)) rfl q956 dX8_readMore_131 ?_
  refine lv_bipush (v := (33 : Int32)) hx hb dX8_readMore_134 (by decide) ?_
  refine lv_dup2_11 hx hb dX8_readMore_136 rfl rfl ?_
  obtain ⟨h_41, hF⟩ := gd_e hF
  refine r_iald (i := 22) (n := 39) (g := 22) (st := 0) C hw (wi_lo (Or.inr ⟨by decide, by decide⟩)) rfl h_41 dX8_readMore_137 ?_
  refine lv_iconst (v := (1 : Int32)) hx hb dX8_readMore_138 (by decide) ?_
  refine lv_iadd hx hb dX8_readMore_139 ?_
  obtain ⟨h_42, hF⟩ := gd_e hF
  obtain ⟨σ_43, eσ_43, hF⟩ := nm_e2 hF
  refine r_iast (i := 22) (n := 39) (g := 22) (st := 0) C hw hS (wi_lo (Or.inr ⟨by decide, by decide⟩)) rfl (fun _ => ho_lo (by decide)) h_42 dX8_readMore_140 eσ_43 (fun H locs hw hS => ?_)
  exact r_vret C hw hS hF dX8_readMore_141
noncomputable def F_X8_readMore (N : Nat) (x1 : Int32) (σ : SS) : Option (Unit × SS) :=
  if (3 : Int32) < x1 then
    if x1 = (4 : Int32) then
      bd (F_X8_number N (1 : Int32) (20 : Int32) σ) fun r_49 σ_50 =>
      gd (inR (34 : Int32) 39) <|
      nm (si σ_50 22 (34 : Int32).toNatClampNeg (r_49 - (5 : Int32))) fun σ_53 =>
      some ((), σ_53)
    else
      gd (inR (33 : Int32) 39) <|
      nm (gi σ 22 (33 : Int32).toNatClampNeg) fun x_47 =>
      if x1 = (7 : Int32) then
        F_X8_readMore_125 N (3 : Int32) (0 : Int32) ((100 : Int32) * (x1 - (5 : Int32))) ((17 : Int32) + x_47) σ
      else
        F_X8_readMore_125 N (99 : Int32) (0 : Int32) ((100 : Int32) * (x1 - (5 : Int32))) ((17 : Int32) + x_47) σ
  else
    gd (inR (16 : Int32) 39) <|
    nm (gi σ 22 (16 : Int32).toNatClampNeg) fun x_55 =>
    gd (inR x_55 39) <|
    nm (si σ 22 x_55.toNatClampNeg x1) fun σ_57 =>
    bd (F_X8_number N (1 : Int32) (20 : Int32) σ_57) fun r_58 σ_59 =>
    gd (inR ((4 : Int32) + x_55) 39) <|
    nm (si σ_59 22 ((4 : Int32) + x_55).toNatClampNeg r_58) fun σ_62 =>
    bd (F_X8_number N (0 : Int32) (9 : Int32) σ_62) fun r_63 σ_64 =>
    gd (inR ((8 : Int32) + x_55) 39) <|
    nm (si σ_64 22 ((8 : Int32) + x_55).toNatClampNeg r_63) fun σ_67 =>
    gd (inR (16 : Int32) 39) <|
    gd (inR (16 : Int32) 39) <|
    nm (si σ_67 22 (16 : Int32).toNatClampNeg ((gi σ_67 22 (16 : Int32).toNatClampNeg) + (1 : Int32))) fun σ_70 =>
    some ((), σ_70)
set_option maxRecDepth 100000 in
theorem met_X8_readMore (l : Launch) (G : GG) (rd : Bool) (q : Nat → Nat) {N : Nat} {x1 : Int32} {σ σ' : SS} {r : Unit} (hF : F_X8_readMore N x1 σ = some (r, σ')) : Met l yX8_readMore (ws_ yX8_readMore cX8_readMore 3 none) rmX8_readMore (pcx G rd q σ [.ref (q 1), .int x1]) (qxv G rd q σ' r) 0 0 (fa G) := by
  refine met_of (by decide) (Nat.le_of_ble_eq_true rfl) ?_
  intro p e s m below meth c C H locs ls hw hS hl
  obtain ⟨hx, hb, hml, hown, hts, -, -, -, -⟩ := id C
  have hl : lv_has ls 3 [(0, .ref (q 1)), (1, .int x1)] := hl
  unfold F_X8_readMore at hF
  refine lv_iload_n hx hb dX8_readMore_0 rfl (lv_at hl 1 rfl) ?_
  refine lv_iconst (v := (3 : Int32)) hx hb dX8_readMore_1 (by decide) ?_
  refine lv_icmp_gt (tgt := 65) hx hb dX8_readMore_2 (by decide) (fun c_44 => ?_) (fun c_44 => ?_)
  · have hF := it_e hF c_44
    refine lv_iload_n hx hb dX8_readMore_65 rfl (lv_at hl 1 rfl) ?_
    refine lv_iconst (v := (4 : Int32)) hx hb dX8_readMore_66 (by decide) ?_
    refine lv_icmp_ne (tgt := 89) hx hb dX8_readMore_67 (by decide) (fun c_45 => ?_) (fun c_45 => ?_)
    · have hF := if_e hF c_45
      refine lv_aload_n hx hb dX8_readMore_89 rfl (lv_at hl 0 rfl) ?_
      refine r_get8 C hw 1 (by decide) rfl (v := .ref (q 22)) rfl q956 dX8_readMore_90 ?_
      refine lv_bipush (v := (33 : Int32)) hx hb dX8_readMore_93 (by decide) ?_
      obtain ⟨h_46, hF⟩ := gd_e hF
      refine r_iald (i := 22) (n := 39) (g := 22) (st := 0) C hw (wi_lo (Or.inr ⟨by decide, by decide⟩)) rfl h_46 dX8_readMore_95 ?_
      obtain ⟨x_47, ex_47, hF⟩ := nm_e2 hF
      refine r_topi ex_47 ?_
      refine lv_istore_n (lv' := [(2, .int x_47), (0, .ref (q 1)), (1, .int x1)]) hx hb dX8_readMore_96 rfl hl (by decide) rfl (fun ls hl => ?_)
      refine lv_aload_n hx hb dX8_readMore_97 rfl (lv_at hl 1 rfl) ?_
      refine r_get8 C hw 1 (by decide) rfl (v := .ref (q 22)) rfl q956 dX8_readMore_98 ?_
      refine lv_bipush (v := (17 : Int32)) hx hb dX8_readMore_101 (by decide) ?_
      refine lv_iload_n hx hb dX8_readMore_103 rfl (lv_at hl 0 rfl) ?_
      refine lv_iadd hx hb dX8_readMore_104 ?_
      refine lv_bipush (v := (100 : Int32)) hx hb dX8_readMore_105 (by decide) ?_
      refine lv_iload_n hx hb dX8_readMore_107 rfl (lv_at hl 2 rfl) ?_
      refine lv_iconst (v := (5 : Int32)) hx hb dX8_readMore_108 (by decide) ?_
      refine lv_isub hx hb dX8_readMore_109 ?_
      refine lv_imul hx hb dX8_readMore_110 ?_
      refine lv_aload_n hx hb dX8_readMore_111 rfl (lv_at hl 1 rfl) ?_
      refine lv_iconst (v := (0 : Int32)) hx hb dX8_readMore_112 (by decide) ?_
      refine lv_iload_n hx hb dX8_readMore_113 rfl (lv_at hl 2 rfl) ?_
      refine lv_bipush (v := (7 : Int32)) hx hb dX8_readMore_114 (by decide) ?_
      refine lv_icmp_ne (tgt := 123) hx hb dX8_readMore_116 (by decide) (fun c_48 => ?_) (fun c_48 => ?_)
      · have hF := if_e hF c_48
        refine lv_bipush (v := (99 : Int32)) hx hb dX8_readMore_123 (by decide) ?_
        exact w_X8_readMore_125 C   _ _ _ _ _ _ _ _ hF hw hS (lv_sub hl [1] rfl)
      · have hF := it_e hF c_48
        refine lv_iconst (v := (3 : Int32)) hx hb dX8_readMore_119 (by decide) ?_
        refine lv_goto (tgt := 125) hx hb dX8_readMore_120 (by decide) ?_
        exact w_X8_readMore_125 C   _ _ _ _ _ _ _ _ hF hw hS (lv_sub hl [1] rfl)
    · have hF := it_e hF c_45
      refine lv_aload_n hx hb dX8_readMore_70 rfl (lv_at hl 0 rfl) ?_
      refine r_get8 C hw 1 (by decide) rfl (v := .ref (q 22)) rfl q956 dX8_readMore_71 ?_
      refine lv_bipush (v := (34 : Int32)) hx hb dX8_readMore_74 (by decide) ?_
      refine lv_aload_n hx hb dX8_readMore_76 rfl (lv_at hl 0 rfl) ?_
      refine lv_iconst (v := (1 : Int32)) hx hb dX8_readMore_77 (by decide) ?_
      refine lv_bipush (v := (20 : Int32)) hx hb dX8_readMore_78 (by decide) ?_
      obtain ⟨r_49, σ_50, h_51, hF⟩ := bd_e hF
      refine r_callVi (As := [.int (1 : Int32), .int (20 : Int32)]) (rest := [.int (34 : Int32), .ref (q 22)]) (i := 1) C hw hS (wi_lo (Or.inl (by decide))) rfl (ci := 8) rfl (met_X8_number l G rd q  h_51) (cwV 2 hts (lw_V q1080 q1082 qs37 q65 q1083) rfl rfl rfl (by decide +kernel) ⟨Nat.le_of_ble_eq_true rfl, Nat.le_of_ble_eq_true rfl⟩) rfl hl.1 rfl (Nat.le_of_ble_eq_true rfl) ⟨Nat.le_refl _, Nat.le_refl _⟩ dX8_readMore_80 (fun H locs hw hS => ?_)
      refine lv_iconst (v := (5 : Int32)) hx hb dX8_readMore_83 (by decide) ?_
      refine lv_isub hx hb dX8_readMore_84 ?_
      obtain ⟨h_52, hF⟩ := gd_e hF
      obtain ⟨σ_53, eσ_53, hF⟩ := nm_e2 hF
      refine r_iast (i := 22) (n := 39) (g := 22) (st := 0) C hw hS (wi_lo (Or.inr ⟨by decide, by decide⟩)) rfl (fun _ => ho_lo (by decide)) h_52 dX8_readMore_85 eσ_53 (fun H locs hw hS => ?_)
      refine lv_goto (tgt := 141) hx hb dX8_readMore_86 (by decide) ?_
      exact r_vret C hw hS hF dX8_readMore_141
  · have hF := if_e hF c_44
    refine lv_aload_n hx hb dX8_readMore_5 rfl (lv_at hl 0 rfl) ?_
    refine r_get8 C hw 1 (by decide) rfl (v := .ref (q 22)) rfl q956 dX8_readMore_6 ?_
    refine lv_bipush (v := (16 : Int32)) hx hb dX8_readMore_9 (by decide) ?_
    obtain ⟨h_54, hF⟩ := gd_e hF
    refine r_iald (i := 22) (n := 39) (g := 22) (st := 0) C hw (wi_lo (Or.inr ⟨by decide, by decide⟩)) rfl h_54 dX8_readMore_11 ?_
    obtain ⟨x_55, ex_55, hF⟩ := nm_e2 hF
    refine r_topi ex_55 ?_
    refine lv_istore_n (lv' := [(2, .int x_55), (0, .ref (q 1)), (1, .int x1)]) hx hb dX8_readMore_12 rfl hl (by decide) rfl (fun ls hl => ?_)
    refine lv_aload_n hx hb dX8_readMore_13 rfl (lv_at hl 1 rfl) ?_
    refine r_get8 C hw 1 (by decide) rfl (v := .ref (q 22)) rfl q956 dX8_readMore_14 ?_
    refine lv_iload_n hx hb dX8_readMore_17 rfl (lv_at hl 0 rfl) ?_
    refine lv_iload_n hx hb dX8_readMore_18 rfl (lv_at hl 2 rfl) ?_
    obtain ⟨h_56, hF⟩ := gd_e hF
    obtain ⟨σ_57, eσ_57, hF⟩ := nm_e2 hF
    refine r_iast (i := 22) (n := 39) (g := 22) (st := 0) C hw hS (wi_lo (Or.inr ⟨by decide, by decide⟩)) rfl (fun _ => ho_lo (by decide)) h_56 dX8_readMore_19 eσ_57 (fun H locs hw hS => ?_)
    refine lv_aload_n hx hb dX8_readMore_20 rfl (lv_at hl 1 rfl) ?_
    refine r_get8 C hw 1 (by decide) rfl (v := .ref (q 22)) rfl q956 dX8_readMore_21 ?_
    refine lv_iconst (v := (4 : Int32)) hx hb dX8_readMore_24 (by decide) ?_
    refine lv_iload_n hx hb dX8_readMore_25 rfl (lv_at hl 0 rfl) ?_
    refine lv_iadd hx hb dX8_readMore_26 ?_
    refine lv_aload_n hx hb dX8_readMore_27 rfl (lv_at hl 1 rfl) ?_
    refine lv_iconst (v := (1 : Int32)) hx hb dX8_readMore_28 (by decide) ?_
    refine lv_bipush (v := (20 : Int32)) hx hb dX8_readMore_29 (by decide) ?_
    obtain ⟨r_58, σ_59, h_60, hF⟩ := bd_e hF
    refine r_callVi (As := [.int (1 : Int32), .int (20 : Int32)]) (rest := [.int ((4 : Int32) + x_55), .ref (q 22)]) (i := 1) C hw hS (wi_lo (Or.inl (by decide))) rfl (ci := 8) rfl (met_X8_number l G rd q  h_60) (cwV 2 hts (lw_V q1080 q1082 qs37 q65 q1083) rfl rfl rfl (by decide +kernel) ⟨Nat.le_of_ble_eq_true rfl, Nat.le_of_ble_eq_true rfl⟩) rfl hl.1 rfl (Nat.le_of_ble_eq_true rfl) ⟨Nat.le_refl _, Nat.le_refl _⟩ dX8_readMore_31 (fun H locs hw hS => ?_)
    obtain ⟨h_61, hF⟩ := gd_e hF
    obtain ⟨σ_62, eσ_62, hF⟩ := nm_e2 hF
    refine r_iast (i := 22) (n := 39) (g := 22) (st := 0) C hw hS (wi_lo (Or.inr ⟨by decide, by decide⟩)) rfl (fun _ => ho_lo (by decide)) h_61 dX8_readMore_34 eσ_62 (fun H locs hw hS => ?_)
    refine lv_aload_n hx hb dX8_readMore_35 rfl (lv_at hl 1 rfl) ?_
    refine r_get8 C hw 1 (by decide) rfl (v := .ref (q 22)) rfl q956 dX8_readMore_36 ?_
    refine lv_bipush (v := (8 : Int32)) hx hb dX8_readMore_39 (by decide) ?_
    refine lv_iload_n hx hb dX8_readMore_41 rfl (lv_at hl 0 rfl) ?_
    refine lv_iadd hx hb dX8_readMore_42 ?_
    refine lv_aload_n hx hb dX8_readMore_43 rfl (lv_at hl 1 rfl) ?_
    refine lv_iconst (v := (0 : Int32)) hx hb dX8_readMore_44 (by decide) ?_
    refine lv_bipush (v := (9 : Int32)) hx hb dX8_readMore_45 (by decide) ?_
    obtain ⟨r_63, σ_64, h_65, hF⟩ := bd_e hF
    refine r_callVi (As := [.int (0 : Int32), .int (9 : Int32)]) (rest := [.int ((8 : Int32) + x_55), .ref (q 22)]) (i := 1) C hw hS (wi_lo (Or.inl (by decide))) rfl (ci := 8) rfl (met_X8_number l G rd q  h_65) (cwV 2 hts (lw_V q1080 q1082 qs37 q65 q1083) rfl rfl rfl (by decide +kernel) ⟨Nat.le_of_ble_eq_true rfl, Nat.le_of_ble_eq_true rfl⟩) rfl hl.1 rfl (Nat.le_of_ble_eq_true rfl) ⟨Nat.le_refl _, Nat.le_refl _⟩ dX8_readMore_47 (fun H locs hw hS => ?_)
    obtain ⟨h_66, hF⟩ := gd_e hF
    obtain ⟨σ_67, eσ_67, hF⟩ := nm_e2 hF
    refine r_iast (i := 22) (n := 39) (g := 22) (st := 0) C hw hS (wi_lo (Or.inr ⟨by decide, by decide⟩)) rfl (fun _ => ho_lo (by decide)) h_66 dX8_readMore_50 eσ_67 (fun H locs hw hS => ?_)
    refine lv_aload_n hx hb dX8_readMore_51 rfl (lv_at hl 1 rfl) ?_
    refine r_get8 C hw 1 (by decide) rfl (v := .ref (q 22)) rfl q956 dX8_readMore_52 ?_
    refine lv_bipush (v := (16 : Int32)) hx hb dX8_readMore_55 (by decide) ?_
    refine lv_dup2_11 hx hb dX8_readMore_57 rfl rfl ?_
    obtain ⟨h_68, hF⟩ := gd_e hF
    refine r_iald (i := 22) (n := 39) (g := 22) (st := 0) C hw (wi_lo (Or.inr ⟨by decide, by decide⟩)) rfl h_68 dX8_readMore_58 ?_
    refine lv_iconst (v := (1 : Int32)) hx hb dX8_readMore_59 (by decide) ?_
    refine lv_iadd hx hb dX8_readMore_60 ?_
    obtain ⟨h_69, hF⟩ := gd_e hF
    obtain ⟨σ_70, eσ_70, hF⟩ := nm_e2 hF
    refine r_iast (i := 22) (n := 39) (g := 22) (st := 0) C hw hS (wi_lo (Or.inr ⟨by decide, by decide⟩)) rfl (fun _ => ho_lo (by decide)) h_69 dX8_readMore_61 eσ_70 (fun H locs hw hS => ?_)
    refine lv_goto (tgt := 141) hx hb dX8_readMore_62 (by decide) ?_
    exact r_vret C hw hS hF dX8_readMore_141
