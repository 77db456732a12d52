/-! lifted: FlyWheels (1) -/
set_option maxRecDepth 100000
abbrev rmX0_in : Room := { frames := 1, cells := 0, slots := 0, locals := 60 }
noncomputable def F_X0_in (N : Nat) (y0 : Int64) (y2 : Int64) (y4 : Int64) (σ : SS) : Option (Int32 × SS) :=
  if (lg_cmp y0 y2) < (0 : Int32) then
    some ((0 : Int32), σ)
  else
    if (0 : Int32) < (lg_cmp y0 y4) then
      some ((0 : Int32), σ)
    else
      some ((1 : Int32), σ)
set_option maxRecDepth 100000 in
theorem met_X0_in (l : Launch) (G : GG) (rd : Bool) (q : Nat → Nat) {N : Nat} {y0 : Int64} {y2 : Int64} {y4 : Int64} {σ σ' : SS} {r : Int32} (hF : F_X0_in N y0 y2 y4 σ = some (r, σ')) : Met l yX0_in (ws_ yX0_in cX0_in 6 (some .boolean)) rmX0_in (pcx G rd q σ [.long y0, .long y2, .long y4]) (qxi G rd q σ' r) 0 0 (fa G) := by
  refine met_of (by decide) (Nat.le_of_ble_eq_true rfl) ?_
  intro p e s m below meth c C H locs ls hw hS hl
  obtain ⟨hx, hb, hml, hown, hts, -, -, -, -⟩ := id C
  have hl : lv_has ls 6 [(0, .long y0), (2, .long y2), (4, .long y4)] := hl
  unfold F_X0_in at hF
  refine lv_lload_n hx hb dX0_in_0 rfl (lv_at hl 0 rfl) ?_
  refine lv_lload_n hx hb dX0_in_1 rfl (lv_at hl 1 rfl) ?_
  refine W.lcmp hx hb dX0_in_2 ?_
  refine lv_if_lt (tgt := 17) hx hb dX0_in_3 (by decide) (fun c_3 => ?_) (fun c_3 => ?_)
  · have hF := it_e hF c_3
    refine lv_iconst (v := (0 : Int32)) hx hb dX0_in_17 (by decide) ?_
    exact r_zret C hw hS hF rfl dX0_in_18
  · have hF := if_e hF c_3
    refine lv_lload_n hx hb dX0_in_6 rfl (lv_at hl 0 rfl) ?_
    refine lv_lload hx hb dX0_in_7 (lv_at hl 2 rfl) ?_
    refine W.lcmp hx hb dX0_in_9 ?_
    refine lv_if_gt (tgt := 17) hx hb dX0_in_10 (by decide) (fun c_4 => ?_) (fun c_4 => ?_)
    · have hF := it_e hF c_4
      refine lv_iconst (v := (0 : Int32)) hx hb dX0_in_17 (by decide) ?_
      exact r_zret C hw hS hF rfl dX0_in_18
    · have hF := if_e hF c_4
      refine lv_iconst (v := (1 : Int32)) hx hb dX0_in_13 (by decide) ?_
      refine lv_goto (tgt := 18) hx hb dX0_in_14 (by decide) ?_
      exact r_zret C hw hS hF rfl dX0_in_18
abbrev rmX0_isAct : Room := { frames := 2, cells := 0, slots := 0, locals := 85 }
noncomputable def F_X0_isAct (N : Nat) (x1 : Int32) (σ : SS) : Option (Int32 × SS) :=
  bd (F_X0_in N x1.toInt64 (0 : Int64) (((gi σ (iS 0) 33) - (1 : Int32)).toInt64) σ) fun r_5 σ_6 =>
  gd (r_5 = 0 ∨ r_5 = 1) <|
  some (r_5, σ_6)
set_option maxRecDepth 100000 in
theorem met_X0_isAct (l : Launch) (G : GG) (rd : Bool) (q : Nat → Nat) {N : Nat} {x1 : Int32} {σ σ' : SS} {r : Int32} (hF : F_X0_isAct N x1 σ = some (r, σ')) : Met l yX0_isAct (ws_ yX0_isAct cX0_isAct 2 (some .boolean)) rmX0_isAct (pcx G rd q σ [.ref (q 0), .int x1]) (qxi G rd q σ' r) 0 0 (fa G) := by
  refine met_of (by decide) (Nat.le_of_ble_eq_true rfl) ?_
  intro p e s m below meth c C H locs ls hw hS hl
  obtain ⟨hx, hb, hml, hown, hts, -, -, -, -⟩ := id C
  have hl : lv_has ls 2 [(0, .ref (q 0)), (1, .int x1)] := hl
  unfold F_X0_isAct at hF
  refine lv_iload_n hx hb dX0_isAct_0 rfl (lv_at hl 1 rfl) ?_
  refine lv_i2l hx hb dX0_isAct_1 rfl ?_
  refine lv_lconst (v := (0 : Int64)) hx hb dX0_isAct_2 (by decide) ?_
  refine lv_aload_n hx hb dX0_isAct_3 rfl (lv_at hl 0 rfl) ?_
  refine r_get0 C hw 1 (by decide) rfl (v := .ref (q (iS 0))) rfl q219 dX0_isAct_4 ?_
  refine r_getSN C hw (okS_of (by decide)) 4 (by decide) rfl (v := .int (gi σ (iS 0) 33)) rfl 15 rfl dX0_isAct_7 ?_
  refine lv_iconst (v := (1 : Int32)) hx hb dX0_isAct_10 (by decide) ?_
  refine lv_isub hx hb dX0_isAct_11 ?_
  refine lv_i2l hx hb dX0_isAct_12 rfl ?_
  obtain ⟨r_5, σ_6, h_7, hF⟩ := bd_e hF
  refine r_callSi (As := [.long x1.toInt64, .long (0 : Int64), .long (((gi σ (iS 0) 33) - (1 : Int32)).toInt64)]) (rest := []) C hw hS (met_X0_in l G rd q  h_7) (cwS 3 hts (lw_S q294 q295 q57 q296) rfl rfl rfl (by decide +kernel) ⟨Nat.le_of_ble_eq_true rfl, Nat.le_of_ble_eq_true rfl⟩) rfl hl.1 rfl (Nat.le_of_ble_eq_true rfl) ⟨Nat.le_refl _, Nat.le_refl _⟩ dX0_isAct_13 (fun H locs hw hS => ?_)
  obtain ⟨h_8, hF⟩ := gd_e hF
  exact r_zret C hw hS hF (nar_z h_8) dX0_isAct_16
abbrev rmX0_act : Room := { frames := 3, cells := 0, slots := 0, locals := 106 }
noncomputable def F_X0_act (N : Nat) (x1 : Int32) (σ : SS) : Option (Int32 × SS) :=
  bd (F_X0_isAct N x1 σ) fun r_6 σ_7 =>
  if r_6 = (0 : Int32) then
    some ((-1 : Int32), σ_7)
  else
    gd (inR x1 16) <|
    some (gi σ_7 (iAA 0) x1.toNatClampNeg, σ_7)
set_option maxRecDepth 100000 in
theorem met_X0_act (l : Launch) (G : GG) (rd : Bool) (q : Nat → Nat) {N : Nat} {x1 : Int32} {σ σ' : SS} {r : Int32} (hF : F_X0_act N x1 σ = some (r, σ')) : Met l yX0_act (ws_ yX0_act cX0_act 2 (some .int)) rmX0_act (pcx G rd q σ [.ref (q 0), .int x1]) (qxi G rd q σ' r) 0 0 (fa G) := by
  refine met_of (by decide) (Nat.le_of_ble_eq_true rfl) ?_
  intro p e s m below meth c C H locs ls hw hS hl
  obtain ⟨hx, hb, hml, hown, hts, -, -, -, -⟩ := id C
  have hl : lv_has ls 2 [(0, .ref (q 0)), (1, .int x1)] := hl
  unfold F_X0_act at hF
  refine lv_aload_n hx hb dX0_act_0 rfl (lv_at hl 0 rfl) ?_
  refine lv_iload_n hx hb dX0_act_1 rfl (lv_at hl 1 rfl) ?_
  obtain ⟨r_6, σ_7, h_8, hF⟩ := bd_e hF
  refine r_callVi (As := [.int x1]) (rest := []) (i := 0) C hw hS (wi_lo (Or.inl (by decide))) rfl (ci := 0) rfl (met_X0_isAct l G rd q  h_8) (cwV 1 hts (lw_V q591 q593 qs12 q57 q594) rfl rfl rfl (by decide +kernel) ⟨Nat.le_of_ble_eq_true rfl, Nat.le_of_ble_eq_true rfl⟩) rfl hl.1 rfl (Nat.le_of_ble_eq_true rfl) ⟨Nat.le_refl _, Nat.le_refl _⟩ dX0_act_2 (fun H locs hw hS => ?_)
  refine lv_if_eq (tgt := 20) hx hb dX0_act_5 (by decide) (fun c_9 => ?_) (fun c_9 => ?_)
  · have hF := it_e hF c_9
    refine lv_iconst (v := (-1 : Int32)) hx hb dX0_act_20 (by decide) ?_
    exact r_iret C hw hS hF dX0_act_21
  · have hF := if_e hF c_9
    refine lv_aload_n hx hb dX0_act_8 rfl (lv_at hl 0 rfl) ?_
    refine r_get0 C hw 1 (by decide) rfl (v := .ref (q (iS 0))) rfl q219 dX0_act_9 ?_
    refine r_getSN C hw (okS_of (by decide)) 5 (by decide) rfl (v := .ref (q (iAA 0))) rfl 17 rfl dX0_act_12 ?_
    refine lv_iload_n hx hb dX0_act_15 rfl (lv_at hl 1 rfl) ?_
    obtain ⟨h_10, hF⟩ := gd_e hF
    refine r_sald (i := iAA 0) (n := 16) (g := (iAA 0)) (st := 0) C hw (wi_AA (okS_of (by decide))) (tm_AA _ _) h_10 dX0_act_16 ?_
    refine lv_goto (tgt := 21) hx hb dX0_act_17 (by decide) ?_
    exact r_iret C hw hS hF dX0_act_21
abbrev rmX0_joinedBy : Room := { frames := 4, cells := 0, slots := 0, locals := 126 }
noncomputable def F_X0_joinedBy (N : Nat) (k1 : Nat) (x2 : Int32) (σ : SS) : Option (Int32 × SS) :=
  gd (inR x2 4) <|
  nm (x2.toNatClampNeg) fun w_14 =>
  gd (inR (gi σ (iS k1) w_14) 4) <|
  nm ((gi σ (iS k1) w_14).toNatClampNeg) fun w_16 =>
  gd (inR x2 4) <|
  nm (x2.toNatClampNeg) fun w_18 =>
  bd (F_X5_evenOf N k1 x2 σ) fun r_19 σ_20 =>
  bd (F_joined N w_16 (gi σ (iS k1) (12 + w_18)) r_19 σ_20) fun r_22 σ_23 =>
  some (r_22, σ_23)
set_option maxRecDepth 100000 in
theorem met_X0_joinedBy (l : Launch) (G : GG) (rd : Bool) (q : Nat → Nat) {N : Nat} {k1 : Nat} (hk1 : okS rd k1) {x2 : Int32} {σ σ' : SS} {r : Int32} (hF : F_X0_joinedBy N k1 x2 σ = some (r, σ')) : Met l yX0_joinedBy (ws_ yX0_joinedBy cX0_joinedBy 3 (some .int)) rmX0_joinedBy (pcx G rd q σ [.ref (q 0), .ref (q (iS k1)), .int x2]) (qxi G rd q σ' r) 0 0 (fa G) := by
  refine met_of (by decide) (Nat.le_of_ble_eq_true rfl) ?_
  intro p e s m below meth c C H locs ls hw hS hl
  obtain ⟨hx, hb, hml, hown, hts, -, -, -, -⟩ := id C
  have hl : lv_has ls 3 [(0, .ref (q 0)), (1, .ref (q (iS k1))), (2, .int x2)] := hl
  unfold F_X0_joinedBy at hF
  refine lv_aload_n hx hb dX0_joinedBy_0 rfl (lv_at hl 0 rfl) ?_
  refine r_get0 C hw 0 (by decide) rfl (v := .ref (q 2)) rfl q218 dX0_joinedBy_1 ?_
  refine lv_aload_n hx hb dX0_joinedBy_4 rfl (lv_at hl 1 rfl) ?_
  refine r_getSN C hw hk1 3 (by decide) rfl (v := .ref (q (iWA k1))) rfl 13 rfl dX0_joinedBy_5 ?_
  refine lv_iload_n hx hb dX0_joinedBy_8 rfl (lv_at hl 2 rfl) ?_
  obtain ⟨h_13, hF⟩ := gd_e hF
  obtain ⟨w_14, ew_14, hF⟩ := nm_e2 hF
  have hw_14 : w_14 < 4 := lt_of ew_14 (inR_lt h_13)
  refine r_aald (i := iWA k1) (t := 5) (n := 4) (g := (43 + 10 * k1)) (st := 1) C hw (wi_WA hk1) (tm_WA _ _) rfl h_13 (ha_W ew_14) dX0_joinedBy_9 ?_
  refine r_getWN C hw hk1 hw_14 0 (by decide) rfl (v := .int (gi σ (iS k1) w_14)) rfl 1 rfl dX0_joinedBy_10 ?_
  obtain ⟨h_15, hF⟩ := gd_e hF
  obtain ⟨w_16, ew_16, hF⟩ := nm_e2 hF
  have hw_16 : w_16 < 4 := lt_of ew_16 (inR_lt h_15)
  refine r_aald (i := 2) (t := 4) (n := 4) (g := 9) (st := 1) C hw (wi_lo (Or.inl (by decide))) rfl rfl h_15 (ha_K ew_16) dX0_joinedBy_13 ?_
  refine lv_aload_n hx hb dX0_joinedBy_14 rfl (lv_at hl 1 rfl) ?_
  refine r_getSN C hw hk1 3 (by decide) rfl (v := .ref (q (iWA k1))) rfl 13 rfl dX0_joinedBy_15 ?_
  refine lv_iload_n hx hb dX0_joinedBy_18 rfl (lv_at hl 2 rfl) ?_
  obtain ⟨h_17, hF⟩ := gd_e hF
  obtain ⟨w_18, ew_18, hF⟩ := nm_e2 hF
  have hw_18 : w_18 < 4 := lt_of ew_18 (inR_lt h_17)
  refine r_aald (i := iWA k1) (t := 5) (n := 4) (g := (43 + 10 * k1)) (st := 1) C hw (wi_WA hk1) (tm_WA _ _) rfl h_17 (ha_W ew_18) dX0_joinedBy_19 ?_
  refine r_getWN C hw hk1 hw_18 3 (by decide) rfl (v := .int (gi σ (iS k1) (12 + w_18))) rfl 7 rfl dX0_joinedBy_20 ?_
  refine lv_aload_n hx hb dX0_joinedBy_23 rfl (lv_at hl 1 rfl) ?_
  refine lv_iload_n hx hb dX0_joinedBy_24 rfl (lv_at hl 2 rfl) ?_
  obtain ⟨r_19, σ_20, h_21, hF⟩ := bd_e hF
  refine r_callVi (As := [.int x2]) (rest := [.int (gi σ (iS k1) (12 + w_18)), .ref (q (9 + w_16))]) (i := iS k1) C hw hS (wi_S hk1) (tm_S _ _) (ci := 5) rfl (met_X5_evenOf l G rd q hk1 h_21) (cwV 1 hts (lw_V q560 q561 q562 q62 q563) rfl rfl rfl (by decide +kernel) ⟨Nat.le_of_ble_eq_true rfl, Nat.le_of_ble_eq_true rfl⟩) rfl hl.1 rfl (Nat.le_of_ble_eq_true rfl) ⟨Nat.le_refl _, Nat.le_refl _⟩ dX0_joinedBy_25 (fun H locs hw hS => ?_)
  obtain ⟨r_22, σ_23, h_24, hF⟩ := bd_e hF
  refine r_joined (rest := []) C hw hS hw_16 hl.1 (Nat.le_of_ble_eq_true rfl) (Nat.le_of_ble_eq_true rfl) (Nat.le_of_ble_eq_true rfl) ⟨Nat.le_refl _, Nat.le_refl _⟩ h_24 dX0_joinedBy_28 (fun H locs hw hS => ?_)
  exact r_iret C hw hS hF dX0_joinedBy_31
abbrev rmX0_joins : Room := { frames := 5, cells := 0, slots := 0, locals := 148 }
noncomputable def F_X0_joins (N : Nat) (k1 : Nat) (x2 : Int32) (σ : SS) : Option (Unit × SS) :=
  if (gi σ (iS k1) 16) ≤ x2 then
    some ((), σ)
  else
    if x2 = (gi σ (iS k1) 40) then
      some ((), σ)
    else
      gd (inR x2 4) <|
      nm (x2.toNatClampNeg) fun w_18 =>
      nm ((gi σ (iS k1) 35) + (gi σ (iS k1) (12 + w_18))) fun x_19 =>
      gd (inR x2 4) <|
      nm (x2.toNatClampNeg) fun w_21 =>
      bd (F_X0_joinedBy N k1 x2 σ) fun r_22 σ_23 =>
      nm (si σ_23 (iS k1) (12 + w_21) r_22) fun σ_25 =>
      gd (inR x2 4) <|
      nm (x2.toNatClampNeg) fun w_27 =>
      nm (si σ_25 (iS k1) 35 (x_19 - (gi σ_25 (iS k1) (12 + w_27)))) fun σ_28 =>
      some ((), σ_28)
set_option maxRecDepth 100000 in
theorem met_X0_joins (l : Launch) (G : GG) (rd : Bool) (q : Nat → Nat) {N : Nat} {k1 : Nat} (hk1 : okS rd k1) {x2 : Int32} {σ σ' : SS} {r : Unit} (hF : F_X0_joins N k1 x2 σ = some (r, σ')) : Met l yX0_joins (ws_ yX0_joins cX0_joins 4 none) rmX0_joins (pcx G rd q σ [.ref (q 0), .ref (q (iS k1)), .int x2]) (qxv G rd q σ' r) 0 0 (fa G) := by
  refine met_of (by decide) (Nat.le_of_ble_eq_true rfl) ?_
  intro p e s m below meth c C H locs ls hw hS hl
  obtain ⟨hx, hb, hml, hown, hts, -, -, -, -⟩ := id C
  have hl : lv_has ls 4 [(0, .ref (q 0)), (1, .ref (q (iS k1))), (2, .int x2)] := hl
  unfold F_X0_joins at hF
  refine lv_iload_n hx hb dX0_joins_0 rfl (lv_at hl 2 rfl) ?_
  refine lv_aload_n hx hb dX0_joins_1 rfl (lv_at hl 1 rfl) ?_
  refine r_getSN C hw hk1 2 (by decide) rfl (v := .int (gi σ (iS k1) 16)) rfl 11 rfl dX0_joins_2 ?_
  refine lv_icmp_ge (tgt := 61) hx hb dX0_joins_5 (by decide) (fun c_15 => ?_) (fun c_15 => ?_)
  · have hF := it_e hF c_15
    exact r_vret C hw hS hF dX0_joins_61
  · have hF := if_e hF c_15
    refine lv_iload_n hx hb dX0_joins_8 rfl (lv_at hl 2 rfl) ?_
    refine lv_aload_n hx hb dX0_joins_9 rfl (lv_at hl 1 rfl) ?_
    refine r_getSN C hw hk1 10 (by decide) rfl (v := .int (gi σ (iS k1) 40)) rfl 22 rfl dX0_joins_10 ?_
    refine lv_icmp_eq (tgt := 61) hx hb dX0_joins_13 (by decide) (fun c_16 => ?_) (fun c_16 => ?_)
    · have hF := it_e hF c_16
      exact r_vret C hw hS hF dX0_joins_61
    · have hF := if_e hF c_16
      refine lv_aload_n hx hb dX0_joins_16 rfl (lv_at hl 1 rfl) ?_
      refine r_getSN C hw hk1 1 (by decide) rfl (v := .int (gi σ (iS k1) 35)) rfl 10 rfl dX0_joins_17 ?_
      refine lv_aload_n hx hb dX0_joins_20 rfl (lv_at hl 1 rfl) ?_
      refine r_getSN C hw hk1 3 (by decide) rfl (v := .ref (q (iWA k1))) rfl 13 rfl dX0_joins_21 ?_
      refine lv_iload_n hx hb dX0_joins_24 rfl (lv_at hl 2 rfl) ?_
      obtain ⟨h_17, hF⟩ := gd_e hF
      obtain ⟨w_18, ew_18, hF⟩ := nm_e2 hF
      have hw_18 : w_18 < 4 := lt_of ew_18 (inR_lt h_17)
      refine r_aald (i := iWA k1) (t := 5) (n := 4) (g := (43 + 10 * k1)) (st := 1) C hw (wi_WA hk1) (tm_WA _ _) rfl h_17 (ha_W ew_18) dX0_joins_25 ?_
      refine r_getWN C hw hk1 hw_18 3 (by decide) rfl (v := .int (gi σ (iS k1) (12 + w_18))) rfl 7 rfl dX0_joins_26 ?_
      refine lv_iadd hx hb dX0_joins_29 ?_
      obtain ⟨x_19, ex_19, hF⟩ := nm_e2 hF
      refine r_topi ex_19 ?_
      refine lv_istore_n (lv' := [(3, .int x_19), (0, .ref (q 0)), (1, .ref (q (iS k1))), (2, .int x2)]) hx hb dX0_joins_30 rfl hl (by decide) rfl (fun ls hl => ?_)
      refine lv_aload_n hx hb dX0_joins_31 rfl (lv_at hl 2 rfl) ?_
      refine r_getSN C hw hk1 3 (by decide) rfl (v := .ref (q (iWA k1))) rfl 13 rfl dX0_joins_32 ?_
      refine lv_iload_n hx hb dX0_joins_35 rfl (lv_at hl 3 rfl) ?_
      obtain ⟨h_20, hF⟩ := gd_e hF
      obtain ⟨w_21, ew_21, hF⟩ := nm_e2 hF
      have hw_21 : w_21 < 4 := lt_of ew_21 (inR_lt h_20)
      refine r_aald (i := iWA k1) (t := 5) (n := 4) (g := (43 + 10 * k1)) (st := 1) C hw (wi_WA hk1) (tm_WA _ _) rfl h_20 (ha_W ew_21) dX0_joins_36 ?_
      refine lv_aload_n hx hb dX0_joins_37 rfl (lv_at hl 1 rfl) ?_
      refine lv_aload_n hx hb dX0_joins_38 rfl (lv_at hl 2 rfl) ?_
      refine lv_iload_n hx hb dX0_joins_39 rfl (lv_at hl 3 rfl) ?_
      obtain ⟨r_22, σ_23, h_24, hF⟩ := bd_e hF
      refine r_callVi (As := [.ref (q (iS k1)), .int x2]) (rest := [.ref (q (iW k1 w_21))]) (i := 0) C hw hS (wi_lo (Or.inl (by decide))) rfl (ci := 0) rfl (met_X0_joinedBy l G rd q hk1 h_24) (cwV 2 hts (lw_V q556 q558 qs11 q57 q559) rfl rfl rfl (by decide +kernel) ⟨Nat.le_of_ble_eq_true rfl, Nat.le_of_ble_eq_true rfl⟩) rfl hl.1 rfl (Nat.le_of_ble_eq_true rfl) ⟨Nat.le_refl _, Nat.le_refl _⟩ dX0_joins_40 (fun H locs hw hS => ?_)
      obtain ⟨σ_25, eσ_25, hF⟩ := nm_e2 hF
      refine r_putWN C hw hS hk1 hw_21 3 (by decide) rfl rfl (tyX6_ok 3 (by decide)) rfl rfl 7 rfl dX0_joins_43 eσ_25 (fun H locs hw hS => ?_)
      refine lv_aload_n hx hb dX0_joins_46 rfl (lv_at hl 2 rfl) ?_
      refine lv_iload_n hx hb dX0_joins_47 rfl (lv_at hl 0 rfl) ?_
      refine lv_aload_n hx hb dX0_joins_48 rfl (lv_at hl 2 rfl) ?_
      refine r_getSN C hw hk1 3 (by decide) rfl (v := .ref (q (iWA k1))) rfl 13 rfl dX0_joins_49 ?_
      refine lv_iload_n hx hb dX0_joins_52 rfl (lv_at hl 3 rfl) ?_
      obtain ⟨h_26, hF⟩ := gd_e hF
      obtain ⟨w_27, ew_27, hF⟩ := nm_e2 hF
      have hw_27 : w_27 < 4 := lt_of ew_27 (inR_lt h_26)
      refine r_aald (i := iWA k1) (t := 5) (n := 4) (g := (43 + 10 * k1)) (st := 1) C hw (wi_WA hk1) (tm_WA _ _) rfl h_26 (ha_W ew_27) dX0_joins_53 ?_
      refine r_getWN C hw hk1 hw_27 3 (by decide) rfl (v := .int (gi σ_25 (iS k1) (12 + w_27))) rfl 7 rfl dX0_joins_54 ?_
      refine lv_isub hx hb dX0_joins_57 ?_
      obtain ⟨σ_28, eσ_28, hF⟩ := nm_e2 hF
      refine r_putSN C hw hS hk1 1 (by decide) rfl rfl (tyX5_ok 1 (by decide)) rfl rfl 10 rfl dX0_joins_58 eσ_28 (fun H locs hw hS => ?_)
      exact r_vret C hw hS hF dX0_joins_61
abbrev rmX0_loads : Room := { frames := 1, cells := 0, slots := 0, locals := 60 }
noncomputable def F_X0_loads (N : Nat) (k1 : Nat) (x2 : Int32) (σ : SS) : Option (Unit × SS) :=
  nm (if (gi σ (iS k1) 35) < x2 then (gi σ (iS k1) 35) else x2) fun x_7 =>
  nm (si σ (iS k1) 35 ((gi σ (iS k1) 35) - x_7)) fun σ_8 =>
  nm (si σ_8 (iS k1) 37 ((gi σ_8 (iS k1) 37) + x_7)) fun σ_9 =>
  nm (si σ_9 (iS k1) 38 ((gi σ_9 (iS k1) 38) + (x2 - x_7))) fun σ_10 =>
  nm (si σ_10 0 7 ((gi σ_10 0 7) + x_7)) fun σ_11 =>
  nm (si σ_11 0 8 ((gi σ_11 0 8) + (x2 - x_7))) fun σ_12 =>
  some ((), σ_12)
set_option maxRecDepth 100000 in
theorem met_X0_loads (l : Launch) (G : GG) (rd : Bool) (q : Nat → Nat) {N : Nat} {k1 : Nat} (hk1 : okS rd k1) {x2 : Int32} {σ σ' : SS} {r : Unit} (hF : F_X0_loads N k1 x2 σ = some (r, σ')) : Met l yX0_loads (ws_ yX0_loads cX0_loads 4 none) rmX0_loads (pcx G rd q σ [.ref (q 0), .ref (q (iS k1)), .int x2]) (qxv G rd q σ' r) 0 0 (fa G) := by
  refine met_of (by decide) (Nat.le_of_ble_eq_true rfl) ?_
  intro p e s m below meth c C H locs ls hw hS hl
  obtain ⟨hx, hb, hml, hown, hts, -, -, -, -⟩ := id C
  have hl : lv_has ls 4 [(0, .ref (q 0)), (1, .ref (q (iS k1))), (2, .int x2)] := hl
  unfold F_X0_loads at hF
  refine lv_iload_n hx hb dX0_loads_0 rfl (lv_at hl 2 rfl) ?_
  refine lv_aload_n hx hb dX0_loads_1 rfl (lv_at hl 1 rfl) ?_
  refine r_getSN C hw hk1 1 (by decide) rfl (v := .int (gi σ (iS k1) 35)) rfl 10 rfl dX0_loads_2 ?_
  refine r_mmin C hl.1 q652 q584 q75 q585 (Nat.le_of_ble_eq_true rfl) (Nat.le_of_ble_eq_true rfl) ⟨Nat.zero_le _, Nat.zero_le _⟩ dX0_loads_5 ?_
  obtain ⟨x_7, ex_7, hF⟩ := nm_e2 hF
  refine r_topi ex_7 ?_
  refine lv_istore_n (lv' := [(3, .int x_7), (0, .ref (q 0)), (1, .ref (q (iS k1))), (2, .int x2)]) hx hb dX0_loads_8 rfl hl (by decide) rfl (fun ls hl => ?_)
  refine lv_aload_n hx hb dX0_loads_9 rfl (lv_at hl 2 rfl) ?_
  refine lv_dup hx hb dX0_loads_10 rfl ?_
  refine r_getSN C hw hk1 1 (by decide) rfl (v := .int (gi σ (iS k1) 35)) rfl 10 rfl dX0_loads_11 ?_
  refine lv_iload_n hx hb dX0_loads_14 rfl (lv_at hl 0 rfl) ?_
  refine lv_isub hx hb dX0_loads_15 ?_
  obtain ⟨σ_8, eσ_8, hF⟩ := nm_e2 hF
  refine r_putSN C hw hS hk1 1 (by decide) rfl rfl (tyX5_ok 1 (by decide)) rfl rfl 10 rfl dX0_loads_16 eσ_8 (fun H locs hw hS => ?_)
  refine lv_aload_n hx hb dX0_loads_19 rfl (lv_at hl 2 rfl) ?_
  refine lv_dup hx hb dX0_loads_20 rfl ?_
  refine r_getSN C hw hk1 7 (by decide) rfl (v := .int (gi σ_8 (iS k1) 37)) rfl 19 rfl dX0_loads_21 ?_
  refine lv_iload_n hx hb dX0_loads_24 rfl (lv_at hl 0 rfl) ?_
  refine lv_iadd hx hb dX0_loads_25 ?_
  obtain ⟨σ_9, eσ_9, hF⟩ := nm_e2 hF
  refine r_putSN C hw hS hk1 7 (by decide) rfl rfl (tyX5_ok 7 (by decide)) rfl rfl 19 rfl dX0_loads_26 eσ_9 (fun H locs hw hS => ?_)
  refine lv_aload_n hx hb dX0_loads_29 rfl (lv_at hl 2 rfl) ?_
  refine lv_dup hx hb dX0_loads_30 rfl ?_
  refine r_getSN C hw hk1 8 (by decide) rfl (v := .int (gi σ_9 (iS k1) 38)) rfl 20 rfl dX0_loads_31 ?_
  refine lv_iload_n hx hb dX0_loads_34 rfl (lv_at hl 3 rfl) ?_
  refine lv_iload_n hx hb dX0_loads_35 rfl (lv_at hl 0 rfl) ?_
  refine lv_isub hx hb dX0_loads_36 ?_
  refine lv_iadd hx hb dX0_loads_37 ?_
  obtain ⟨σ_10, eσ_10, hF⟩ := nm_e2 hF
  refine r_putSN C hw hS hk1 8 (by decide) rfl rfl (tyX5_ok 8 (by decide)) rfl rfl 20 rfl dX0_loads_38 eσ_10 (fun H locs hw hS => ?_)
  refine lv_aload_n hx hb dX0_loads_41 rfl (lv_at hl 1 rfl) ?_
  refine lv_dup hx hb dX0_loads_42 rfl ?_
  refine r_get0 C hw 7 (by decide) rfl (v := .int (gi σ_10 0 7)) rfl q225 dX0_loads_43 ?_
  refine lv_iload_n hx hb dX0_loads_46 rfl (lv_at hl 0 rfl) ?_
  refine lv_iadd hx hb dX0_loads_47 ?_
  obtain ⟨σ_11, eσ_11, hF⟩ := nm_e2 hF
  refine r_put0 C hw hS 7 (by decide) rfl rfl (tyX0_ok 7 (by decide)) rfl rfl q225 dX0_loads_48 eσ_11 (fun H locs hw hS => ?_)
  refine lv_aload_n hx hb dX0_loads_51 rfl (lv_at hl 1 rfl) ?_
  refine lv_dup hx hb dX0_loads_52 rfl ?_
  refine r_get0 C hw 8 (by decide) rfl (v := .int (gi σ_11 0 8)) rfl q226 dX0_loads_53 ?_
  refine lv_iload_n hx hb dX0_loads_56 rfl (lv_at hl 3 rfl) ?_
  refine lv_iload_n hx hb dX0_loads_57 rfl (lv_at hl 0 rfl) ?_
  refine lv_isub hx hb dX0_loads_58 ?_
  refine lv_iadd hx hb dX0_loads_59 ?_
  obtain ⟨σ_12, eσ_12, hF⟩ := nm_e2 hF
  refine r_put0 C hw hS 8 (by decide) rfl rfl (tyX0_ok 8 (by decide)) rfl rfl q226 dX0_loads_60 eσ_12 (fun H locs hw hS => ?_)
  exact r_vret C hw hS hF dX0_loads_63
abbrev rmX0_acts : Room := { frames := 6, cells := 0, slots := 0, locals := 171 }
noncomputable def F_X0_acts (N : Nat) (k1 : Nat) (x2 : Int32) (x3 : Int32) (σ : SS) : Option (Unit × SS) :=
  if x2 < (200 : Int32) then
    if x2 < (100 : Int32) then
      if x3 = (0 : Int32) then
        nm (si σ (iS k1) 35 ((gi σ (iS k1) 35) + x2)) fun σ_14 =>
        some ((), σ_14)
      else
        some ((), σ)
    else
      bd (F_X0_loads N k1 (x2 - (100 : Int32)) σ) fun r_15 σ_16 =>
      some ((), σ_16)
  else
    bd (F_X0_joins N k1 (x2 - (200 : Int32)) σ) fun r_18 σ_19 =>
    some ((), σ_19)
set_option maxRecDepth 100000 in
theorem met_X0_acts (l : Launch) (G : GG) (rd : Bool) (q : Nat → Nat) {N : Nat} {k1 : Nat} (hk1 : okS rd k1) {x2 : Int32} {x3 : Int32} {σ σ' : SS} {r : Unit} (hF : F_X0_acts N k1 x2 x3 σ = some (r, σ')) : Met l yX0_acts (ws_ yX0_acts cX0_acts 4 none) rmX0_acts (pcx G rd q σ [.ref (q 0), .ref (q (iS k1)), .int x2, .int x3]) (qxv G rd q σ' r) 0 0 (fa G) := by
  refine met_of (by decide) (Nat.le_of_ble_eq_true rfl) ?_
  intro p e s m below meth c C H locs ls hw hS hl
  obtain ⟨hx, hb, hml, hown, hts, -, -, -, -⟩ := id C
  have hl : lv_has ls 4 [(0, .ref (q 0)), (1, .ref (q (iS k1))), (2, .int x2), (3, .int x3)] := hl
  unfold F_X0_acts at hF
  refine lv_iload_n hx hb dX0_acts_0 rfl (lv_at hl 2 rfl) ?_
  refine lv_sipush (v := (200 : Int32)) hx hb dX0_acts_1 (by decide) ?_
  refine lv_icmp_lt (tgt := 20) hx hb dX0_acts_4 (by decide) (fun c_11 => ?_) (fun c_11 => ?_)
  · have hF := it_e hF c_11
    refine lv_iload_n hx hb dX0_acts_20 rfl (lv_at hl 2 rfl) ?_
    refine lv_bipush (v := (100 : Int32)) hx hb dX0_acts_21 (by decide) ?_
    refine lv_icmp_lt (tgt := 38) hx hb dX0_acts_23 (by decide) (fun c_12 => ?_) (fun c_12 => ?_)
    · have hF := it_e hF c_12
      refine lv_iload_n hx hb dX0_acts_38 rfl (lv_at hl 3 rfl) ?_
      refine lv_if_ne (tgt := 52) hx hb dX0_acts_39 (by decide) (fun c_13 => ?_) (fun c_13 => ?_)
      · have hF := if_e hF c_13
        exact r_vret C hw hS hF dX0_acts_52
      · have hF := it_e hF c_13
        refine lv_aload_n hx hb dX0_acts_42 rfl (lv_at hl 1 rfl) ?_
        refine lv_dup hx hb dX0_acts_43 rfl ?_
        refine r_getSN C hw hk1 1 (by decide) rfl (v := .int (gi σ (iS k1) 35)) rfl 10 rfl dX0_acts_44 ?_
        refine lv_iload_n hx hb dX0_acts_47 rfl (lv_at hl 2 rfl) ?_
        refine lv_iadd hx hb dX0_acts_48 ?_
        obtain ⟨σ_14, eσ_14, hF⟩ := nm_e2 hF
        refine r_putSN C hw hS hk1 1 (by decide) rfl rfl (tyX5_ok 1 (by decide)) rfl rfl 10 rfl dX0_acts_49 eσ_14 (fun H locs hw hS => ?_)
        exact r_vret C hw hS hF dX0_acts_52
    · have hF := if_e hF c_12
      refine lv_aload_n hx hb dX0_acts_26 rfl (lv_at hl 0 rfl) ?_
      refine lv_aload_n hx hb dX0_acts_27 rfl (lv_at hl 1 rfl) ?_
      refine lv_iload_n hx hb dX0_acts_28 rfl (lv_at hl 2 rfl) ?_
      refine lv_bipush (v := (100 : Int32)) hx hb dX0_acts_29 (by decide) ?_
      refine lv_isub hx hb dX0_acts_31 ?_
      obtain ⟨r_15, σ_16, h_17, hF⟩ := bd_e hF
      refine r_callVv (As := [.ref (q (iS k1)), .int (x2 - (100 : Int32))]) (rest := []) (i := 0) C hw hS (wi_lo (Or.inl (by decide))) rfl (ci := 0) rfl (met_X0_loads l G rd q hk1 h_17) (cwV 2 hts (lw_V q648 q650 qs15 q57 q651) rfl rfl rfl (by decide +kernel) ⟨Nat.le_of_ble_eq_true rfl, Nat.le_of_ble_eq_true rfl⟩) rfl hl.1 rfl (Nat.le_of_ble_eq_true rfl) ⟨Nat.le_refl _, Nat.le_refl _⟩ dX0_acts_32 (fun H locs hw hS => ?_)
      refine lv_goto (tgt := 52) hx hb dX0_acts_35 (by decide) ?_
      exact r_vret C hw hS hF dX0_acts_52
  · have hF := if_e hF c_11
    refine lv_aload_n hx hb dX0_acts_7 rfl (lv_at hl 0 rfl) ?_
    refine lv_aload_n hx hb dX0_acts_8 rfl (lv_at hl 1 rfl) ?_
    refine lv_iload_n hx hb dX0_acts_9 rfl (lv_at hl 2 rfl) ?_
    refine lv_sipush (v := (200 : Int32)) hx hb dX0_acts_10 (by decide) ?_
    refine lv_isub hx hb dX0_acts_13 ?_
    obtain ⟨r_18, σ_19, h_20, hF⟩ := bd_e hF
    refine r_callVv (As := [.ref (q (iS k1)), .int (x2 - (200 : Int32))]) (rest := []) (i := 0) C hw hS (wi_lo (Or.inl (by decide))) rfl (ci := 0) rfl (met_X0_joins l G rd q hk1 h_20) (cwV 2 hts (lw_V q644 q646 qs14 q57 q647) rfl rfl rfl (by decide +kernel) ⟨Nat.le_of_ble_eq_true rfl, Nat.le_of_ble_eq_true rfl⟩) rfl hl.1 rfl (Nat.le_of_ble_eq_true rfl) ⟨Nat.le_refl _, Nat.le_refl _⟩ dX0_acts_14 (fun H locs hw hS => ?_)
    refine lv_goto (tgt := 52) hx hb dX0_acts_17 (by decide) ?_
    exact r_vret C hw hS hF dX0_acts_52
abbrev rmX0_isTold : Room := { frames := 2, cells := 0, slots := 0, locals := 85 }
noncomputable def F_X0_isTold (N : Nat) (x0 : Int32) (σ : SS) : Option (Int32 × SS) :=
  bd (F_X0_in N x0.toInt64 (0 : Int64) (203 : Int64) σ) fun r_5 σ_6 =>
  gd (r_5 = 0 ∨ r_5 = 1) <|
  some (r_5, σ_6)
set_option maxRecDepth 100000 in
theorem met_X0_isTold (l : Launch) (G : GG) (rd : Bool) (q : Nat → Nat) {N : Nat} {x0 : Int32} {σ σ' : SS} {r : Int32} (hF : F_X0_isTold N x0 σ = some (r, σ')) : Met l yX0_isTold (ws_ yX0_isTold cX0_isTold 1 (some .boolean)) rmX0_isTold (pcx G rd q σ [.int x0]) (qxi G rd q σ' r) 0 0 (fa G) := by
  refine met_of (by decide) (Nat.le_of_ble_eq_true rfl) ?_
  intro p e s m below meth c C H locs ls hw hS hl
  obtain ⟨hx, hb, hml, hown, hts, -, -, -, -⟩ := id C
  have hl : lv_has ls 1 [(0, .int x0)] := hl
  unfold F_X0_isTold at hF
  refine lv_iload_n hx hb dX0_isTold_0 rfl (lv_at hl 0 rfl) ?_
  refine lv_i2l hx hb dX0_isTold_1 rfl ?_
  refine lv_lconst (v := (0 : Int64)) hx hb dX0_isTold_2 (by decide) ?_
  refine lv_ldc2 (v := (203 : Int64)) hx hb hown (hts _ q627) dX0_isTold_3 ?_
  obtain ⟨r_5, σ_6, h_7, hF⟩ := bd_e hF
  refine r_callSi (As := [.long x0.toInt64, .long (0 : Int64), .long (203 : Int64)]) (rest := []) C hw hS (met_X0_in l G rd q  h_7) (cwS 3 hts (lw_S q294 q295 q57 q296) rfl rfl rfl (by decide +kernel) ⟨Nat.le_of_ble_eq_true rfl, Nat.le_of_ble_eq_true rfl⟩) rfl hl.1 rfl (Nat.le_of_ble_eq_true rfl) ⟨Nat.le_refl _, Nat.le_refl _⟩ dX0_isTold_6 (fun H locs hw hS => ?_)
  obtain ⟨h_8, hF⟩ := gd_e hF
  exact r_zret C hw hS hF (nar_z h_8) dX0_isTold_9
abbrev rmX0_add : Room := { frames := 3, cells := 0, slots := 0, locals := 105 }
noncomputable def F_X0_add (N : Nat) (x1 : Int32) (σ : SS) : Option (Int32 × SS) :=
  bd (F_X0_isTold N x1 σ) fun r_9 σ_10 =>
  if r_9 = (0 : Int32) then
    some ((-1 : Int32), σ_10)
  else
    if (gi σ_10 (iS 0) 33) = (16 : Int32) then
      some ((-3 : Int32), σ_10)
    else
      gd (inR (gi σ_10 (iS 0) 33) 16) <|
      nm (si σ_10 (iAA 0) (gi σ_10 (iS 0) 33).toNatClampNeg (vp_nar .short x1.toInt16.toInt32)) fun σ_15 =>
      nm (si σ_15 (iS 0) 33 ((gi σ_15 (iS 0) 33) + (1 : Int32))) fun σ_16 =>
      some (gi σ_16 (iS 0) 33, σ_16)
set_option maxRecDepth 100000 in
theorem met_X0_add (l : Launch) (G : GG) (rd : Bool) (q : Nat → Nat) {N : Nat} {x1 : Int32} {σ σ' : SS} {r : Int32} (hF : F_X0_add N x1 σ = some (r, σ')) : Met l yX0_add (ws_ yX0_add cX0_add 2 (some .int)) rmX0_add (pcx G rd q σ [.ref (q 0), .int x1]) (qxi G rd q σ' r) 0 0 (fa G) := by
  refine met_of (by decide) (Nat.le_of_ble_eq_true rfl) ?_
  intro p e s m below meth c C H locs ls hw hS hl
  obtain ⟨hx, hb, hml, hown, hts, -, -, -, -⟩ := id C
  have hl : lv_has ls 2 [(0, .ref (q 0)), (1, .int x1)] := hl
  unfold F_X0_add at hF
  refine lv_iload_n hx hb dX0_add_0 rfl (lv_at hl 1 rfl) ?_
  obtain ⟨r_9, σ_10, h_11, hF⟩ := bd_e hF
  refine r_callSi (As := [.int x1]) (rest := []) C hw hS (met_X0_isTold l G rd q  h_11) (cwS 1 hts (lw_S q624 q625 q57 q626) rfl rfl rfl (by decide +kernel) ⟨Nat.le_of_ble_eq_true rfl, Nat.le_of_ble_eq_true rfl⟩) rfl hl.1 rfl (Nat.le_of_ble_eq_true rfl) ⟨Nat.le_refl _, Nat.le_refl _⟩ dX0_add_1 (fun H locs hw hS => ?_)
  refine lv_if_ne (tgt := 9) hx hb dX0_add_4 (by decide) (fun c_12 => ?_) (fun c_12 => ?_)
  · have hF := if_e hF c_12
    refine lv_aload_n hx hb dX0_add_9 rfl (lv_at hl 0 rfl) ?_
    refine r_get0 C hw 1 (by decide) rfl (v := .ref (q (iS 0))) rfl q219 dX0_add_10 ?_
    refine r_getSN C hw (okS_of (by decide)) 4 (by decide) rfl (v := .int (gi σ_10 (iS 0) 33)) rfl 15 rfl dX0_add_13 ?_
    refine lv_bipush (v := (16 : Int32)) hx hb dX0_add_16 (by decide) ?_
    refine lv_icmp_ne (tgt := 24) hx hb dX0_add_18 (by decide) (fun c_13 => ?_) (fun c_13 => ?_)
    · have hF := if_e hF c_13
      refine lv_aload_n hx hb dX0_add_24 rfl (lv_at hl 0 rfl) ?_
      refine r_get0 C hw 1 (by decide) rfl (v := .ref (q (iS 0))) rfl q219 dX0_add_25 ?_
      refine r_getSN C hw (okS_of (by decide)) 5 (by decide) rfl (v := .ref (q (iAA 0))) rfl 17 rfl dX0_add_28 ?_
      refine lv_aload_n hx hb dX0_add_31 rfl (lv_at hl 0 rfl) ?_
      refine r_get0 C hw 1 (by decide) rfl (v := .ref (q (iS 0))) rfl q219 dX0_add_32 ?_
      refine r_getSN C hw (okS_of (by decide)) 4 (by decide) rfl (v := .int (gi σ_10 (iS 0) 33)) rfl 15 rfl dX0_add_35 ?_
      refine lv_iload_n hx hb dX0_add_38 rfl (lv_at hl 1 rfl) ?_
      refine lv_i2s hx hb dX0_add_39 rfl ?_
      obtain ⟨h_14, hF⟩ := gd_e hF
      obtain ⟨σ_15, eσ_15, hF⟩ := nm_e2 hF
      refine r_sast (i := iAA 0) (n := 16) (g := (iAA 0)) (st := 0) C hw hS (wi_AA (okS_of (by decide))) (tm_AA _ _) ho_AA h_14 dX0_add_40 eσ_15 (fun H locs hw hS => ?_)
      refine lv_aload_n hx hb dX0_add_41 rfl (lv_at hl 0 rfl) ?_
      refine r_get0 C hw 1 (by decide) rfl (v := .ref (q (iS 0))) rfl q219 dX0_add_42 ?_
      refine lv_dup hx hb dX0_add_45 rfl ?_
      refine r_getSN C hw (okS_of (by decide)) 4 (by decide) rfl (v := .int (gi σ_15 (iS 0) 33)) rfl 15 rfl dX0_add_46 ?_
      refine lv_iconst (v := (1 : Int32)) hx hb dX0_add_49 (by decide) ?_
      refine lv_iadd hx hb dX0_add_50 ?_
      obtain ⟨σ_16, eσ_16, hF⟩ := nm_e2 hF
      refine r_putSN C hw hS (okS_of (by decide)) 4 (by decide) rfl rfl (tyX5_ok 4 (by decide)) rfl rfl 15 rfl dX0_add_51 eσ_16 (fun H locs hw hS => ?_)
      refine lv_aload_n hx hb dX0_add_54 rfl (lv_at hl 0 rfl) ?_
      refine r_get0 C hw 1 (by decide) rfl (v := .ref (q (iS 0))) rfl q219 dX0_add_55 ?_
      refine r_getSN C hw (okS_of (by decide)) 4 (by decide) rfl (v := .int (gi σ_16 (iS 0) 33)) rfl 15 rfl dX0_add_58 ?_
      exact r_iret C hw hS hF dX0_add_61
    · have hF := it_e hF c_13
      refine lv_bipush (v := (-3 : Int32)) hx hb dX0_add_21 (by decide) ?_
      exact r_iret C hw hS hF dX0_add_23
  · have hF := it_e hF c_12
    refine lv_iconst (v := (-1 : Int32)) hx hb dX0_add_7 (by decide) ?_
    exact r_iret C hw hS hF dX0_add_8
abbrev rmX0_tickGoesBy : Room := { frames := 7, cells := 0, slots := 0, locals := 194 }
noncomputable def B_X0_tickGoesBy_16 (N : Nat) (k1 : Nat) (IH : Int32 → SS → Option (Unit × SS)) (x4 : Int32) (σ : SS) : Option (Unit × SS) :=
  if (gi σ (iS k1) 16) ≤ x4 then
    nm (si σ (iS k1) 36 ((gi σ (iS k1) 36) + (1 : Int32))) fun σ_22 =>
    bd (F_X5_speed N k1 σ_22) fun r_23 σ_24 =>
    nm (si σ_24 0 10 (if (gi σ_22 0 10) < r_23 then r_23 else (gi σ_22 0 10))) fun σ_26 =>
    some ((), σ_26)
  else
    gd (inR x4 4) <|
    nm (x4.toNatClampNeg) fun w_28 =>
    gd (inR x4 4) <|
    nm (x4.toNatClampNeg) fun w_30 =>
    nm (if (gi σ (iS k1) (12 + w_30)) < (gi σ (iS k1) (8 + w_28)) then (gi σ (iS k1) (12 + w_30)) else (gi σ (iS k1) (8 + w_28))) fun x_31 =>
    gd (inR x4 4) <|
    nm (x4.toNatClampNeg) fun w_33 =>
    nm (si σ (iS k1) (12 + w_33) ((gi σ (iS k1) (12 + w_33)) - x_31)) fun σ_34 =>
    nm (si σ_34 0 9 ((gi σ_34 0 9) + x_31)) fun σ_35 =>
    nm (x4 + (1 : Int32)) fun x_36 =>
    IH x_36 σ_35
noncomputable def F_X0_tickGoesBy_16 (N : Nat) (k1 : Nat) (n : Nat) : Int32 → SS → Option (Unit × SS) := Nat.rec (fun _ _ => none) (fun _ IH => B_X0_tickGoesBy_16 N k1 IH) n
set_option maxRecDepth 100000 in
theorem w_X0_tickGoesBy_16 {p : Program} {l : Launch} {e : Env} {s : State} {m : MethodId} {args : Array Value} {below : List Frame} {meth : Method} {c : Code} {G : GG} {rd : Bool} {q : Nat → Nat} {N : Nat} {k1 : Nat} {r : Unit} {σ' : SS} (C : cx p s m args meth c cX0_tickGoesBy 6 RX0 none G) (hk1 : okS rd k1) : ∀ (n : Nat), ∀ (x4 : Int32) (σ : SS) (H : Heap) (locs : List Loc) (ls : Array Slot), F_X0_tickGoesBy_16 N k1 n x4 σ = some (r, σ') → wx G rd q σ H → va_S (fa G) s.heap H locs → lv_has ls 6 [(0, .ref (q 0)), (1, .ref (q (iS k1))), (4, .int x4)] → W p l e rmX0_tickGoesBy s m args below meth c H locs 0 0 (MQ below (qxv G rd q σ' r) args s 0 0 (fa G)) (F0 m 16 ls []) := by
  obtain ⟨hx, hb, hml, hown, hts, -, -, -, -⟩ := id C
  intro n
  induction n with
  | zero =>
    intro x4 σ H locs ls hF hw hS hl
    cases hF
  | succ n ih =>
    intro x4 σ H locs ls hF hw hS hl
    have hF : B_X0_tickGoesBy_16 N k1 (F_X0_tickGoesBy_16 N k1 n) x4 σ = some (r, σ') := hF
    unfold B_X0_tickGoesBy_16 at hF
    refine lv_iload hx hb dX0_tickGoesBy_16 (lv_at hl 2 rfl) ?_
    refine lv_aload_n hx hb dX0_tickGoesBy_18 rfl (lv_at hl 1 rfl) ?_
    refine r_getSN C hw hk1 2 (by decide) rfl (v := .int (gi σ (iS k1) 16)) rfl 11 rfl dX0_tickGoesBy_19 ?_
    refine lv_icmp_ge (tgt := 84) hx hb dX0_tickGoesBy_22 (by decide) (fun c_21 => ?_) (fun c_21 => ?_)
    · have hF := it_e hF c_21
      refine lv_aload_n hx hb dX0_tickGoesBy_84 rfl (lv_at hl 1 rfl) ?_
      refine lv_dup hx hb dX0_tickGoesBy_85 rfl ?_
      refine r_getSN C hw hk1 6 (by decide) rfl (v := .int (gi σ (iS k1) 36)) rfl 18 rfl dX0_tickGoesBy_86 ?_
      refine lv_iconst (v := (1 : Int32)) hx hb dX0_tickGoesBy_89 (by decide) ?_
      refine lv_iadd hx hb dX0_tickGoesBy_90 ?_
      obtain ⟨σ_22, eσ_22, hF⟩ := nm_e2 hF
      refine r_putSN C hw hS hk1 6 (by decide) rfl rfl (tyX5_ok 6 (by decide)) rfl rfl 18 rfl dX0_tickGoesBy_91 eσ_22 (fun H locs hw hS => ?_)
      refine lv_aload_n hx hb dX0_tickGoesBy_94 rfl (lv_at hl 0 rfl) ?_
      refine lv_aload_n hx hb dX0_tickGoesBy_95 rfl (lv_at hl 0 rfl) ?_
      refine r_get0 C hw 10 (by decide) rfl (v := .int (gi σ_22 0 10)) rfl q228 dX0_tickGoesBy_96 ?_
      refine lv_aload_n hx hb dX0_tickGoesBy_99 rfl (lv_at hl 1 rfl) ?_
      obtain ⟨r_23, σ_24, h_25, hF⟩ := bd_e hF
      refine r_callVi (As := []) (rest := [.int (gi σ_22 0 10), .ref (q 0)]) (i := iS k1) C hw hS (wi_S hk1) (tm_S _ _) (ci := 5) rfl (met_X5_speed l G rd q hk1 h_25) (cwV 0 hts (lw_V q540 q541 q542 q62 q543) rfl rfl rfl (by decide +kernel) ⟨Nat.le_of_ble_eq_true rfl, Nat.le_of_ble_eq_true rfl⟩) rfl hl.1 rfl (Nat.le_of_ble_eq_true rfl) ⟨Nat.le_refl _, Nat.le_refl _⟩ dX0_tickGoesBy_100 (fun H locs hw hS => ?_)
      refine r_mmax C hl.1 q674 q581 q75 q582 (Nat.le_of_ble_eq_true rfl) (Nat.le_of_ble_eq_true rfl) ⟨Nat.zero_le _, Nat.zero_le _⟩ dX0_tickGoesBy_103 ?_
      obtain ⟨σ_26, eσ_26, hF⟩ := nm_e2 hF
      refine r_put0 C hw hS 10 (by decide) rfl rfl (tyX0_ok 10 (by decide)) rfl rfl q228 dX0_tickGoesBy_106 eσ_26 (fun H locs hw hS => ?_)
      exact r_vret C hw hS hF dX0_tickGoesBy_109
    · have hF := if_e hF c_21
      refine lv_aload_n hx hb dX0_tickGoesBy_25 rfl (lv_at hl 1 rfl) ?_
      refine r_getSN C hw hk1 3 (by decide) rfl (v := .ref (q (iWA k1))) rfl 13 rfl dX0_tickGoesBy_26 ?_
      refine lv_iload hx hb dX0_tickGoesBy_29 (lv_at hl 2 rfl) ?_
      obtain ⟨h_27, hF⟩ := gd_e hF
      obtain ⟨w_28, ew_28, hF⟩ := nm_e2 hF
      have hw_28 : w_28 < 4 := lt_of ew_28 (inR_lt h_27)
      refine r_aald (i := iWA k1) (t := 5) (n := 4) (g := (43 + 10 * k1)) (st := 1) C hw (wi_WA hk1) (tm_WA _ _) rfl h_27 (ha_W ew_28) dX0_tickGoesBy_31 ?_
      refine r_getWN C hw hk1 hw_28 2 (by decide) rfl (v := .int (gi σ (iS k1) (8 + w_28))) rfl 5 rfl dX0_tickGoesBy_32 ?_
      refine lv_aload_n hx hb dX0_tickGoesBy_35 rfl (lv_at hl 1 rfl) ?_
      refine r_getSN C hw hk1 3 (by decide) rfl (v := .ref (q (iWA k1))) rfl 13 rfl dX0_tickGoesBy_36 ?_
      refine lv_iload hx hb dX0_tickGoesBy_39 (lv_at hl 2 rfl) ?_
      obtain ⟨h_29, hF⟩ := gd_e hF
      obtain ⟨w_30, ew_30, hF⟩ := nm_e2 hF
      have hw_30 : w_30 < 4 := lt_of ew_30 (inR_lt h_29)
      refine r_aald (i := iWA k1) (t := 5) (n := 4) (g := (43 + 10 * k1)) (st := 1) C hw (wi_WA hk1) (tm_WA _ _) rfl h_29 (ha_W ew_30) dX0_tickGoesBy_41 ?_
      refine r_getWN C hw hk1 hw_30 3 (by decide) rfl (v := .int (gi σ (iS k1) (12 + w_30))) rfl 7 rfl dX0_tickGoesBy_42 ?_
      refine r_mmin C hl.1 q652 q584 q75 q585 (Nat.le_of_ble_eq_true rfl) (Nat.le_of_ble_eq_true rfl) ⟨Nat.zero_le _, Nat.zero_le _⟩ dX0_tickGoesBy_45 ?_
      obtain ⟨x_31, ex_31, hF⟩ := nm_e2 hF
      refine r_topi ex_31 ?_
      refine lv_istore (lv' := [(5, .int x_31), (0, .ref (q 0)), (1, .ref (q (iS k1))), (4, .int x4)]) hx hb dX0_tickGoesBy_48 hl (by decide) rfl (fun ls hl => ?_)
      refine lv_aload_n hx hb dX0_tickGoesBy_50 rfl (lv_at hl 2 rfl) ?_
      refine r_getSN C hw hk1 3 (by decide) rfl (v := .ref (q (iWA k1))) rfl 13 rfl dX0_tickGoesBy_51 ?_
      refine lv_iload hx hb dX0_tickGoesBy_54 (lv_at hl 3 rfl) ?_
      obtain ⟨h_32, hF⟩ := gd_e hF
      obtain ⟨w_33, ew_33, hF⟩ := nm_e2 hF
      have hw_33 : w_33 < 4 := lt_of ew_33 (inR_lt h_32)
      refine r_aald (i := iWA k1) (t := 5) (n := 4) (g := (43 + 10 * k1)) (st := 1) C hw (wi_WA hk1) (tm_WA _ _) rfl h_32 (ha_W ew_33) dX0_tickGoesBy_56 ?_
      refine lv_dup hx hb dX0_tickGoesBy_57 rfl ?_
      refine r_getWN C hw hk1 hw_33 3 (by decide) rfl (v := .int (gi σ (iS k1) (12 + w_33))) rfl 7 rfl dX0_tickGoesBy_58 ?_
      refine lv_iload hx hb dX0_tickGoesBy_61 (lv_at hl 0 rfl) ?_
      refine lv_isub hx hb dX0_tickGoesBy_63 ?_
      obtain ⟨σ_34, eσ_34, hF⟩ := nm_e2 hF
      refine r_putWN C hw hS hk1 hw_33 3 (by decide) rfl rfl (tyX6_ok 3 (by decide)) rfl rfl 7 rfl dX0_tickGoesBy_64 eσ_34 (fun H locs hw hS => ?_)
      refine lv_aload_n hx hb dX0_tickGoesBy_67 rfl (lv_at hl 1 rfl) ?_
      refine lv_dup hx hb dX0_tickGoesBy_68 rfl ?_
      refine r_get0 C hw 9 (by decide) rfl (v := .int (gi σ_34 0 9)) rfl q227 dX0_tickGoesBy_69 ?_
      refine lv_iload hx hb dX0_tickGoesBy_72 (lv_at hl 0 rfl) ?_
      refine lv_iadd hx hb dX0_tickGoesBy_74 ?_
      obtain ⟨σ_35, eσ_35, hF⟩ := nm_e2 hF
      refine r_put0 C hw hS 9 (by decide) rfl rfl (tyX0_ok 9 (by decide)) rfl rfl q227 dX0_tickGoesBy_75 eσ_35 (fun H locs hw hS => ?_)
      obtain ⟨x_36, ex_36, hF⟩ := nm_e2 hF
      refine lv_iinc (v := x_36) (lv' := [(4, .int x_36), (5, .int x_31), (0, .ref (q 0)), (1, .ref (q (iS k1)))]) hx hb dX0_tickGoesBy_78 hl (k := 3) rfl (by rw [ex_36]; rfl) (by decide) rfl (fun ls hl => ?_)
      refine lv_goto (tgt := 16) hx hb dX0_tickGoesBy_81 (by decide) ?_
      exact ih _ _ _ _ _ hF hw hS (lv_sub hl [2, 3, 0] rfl)
noncomputable def F_X0_tickGoesBy (N : Nat) (k1 : Nat) (x2 : Int32) (x3 : Int32) (σ : SS) : Option (Unit × SS) :=
  if x2 = (-4 : Int32) then
    F_X0_tickGoesBy_16 N k1 N (0 : Int32) σ
  else
    bd (F_X0_acts N k1 x2 x3 σ) fun r_38 σ_39 =>
    F_X0_tickGoesBy_16 N k1 N (0 : Int32) σ_39
set_option maxRecDepth 100000 in
theorem met_X0_tickGoesBy (l : Launch) (G : GG) (rd : Bool) (q : Nat → Nat) {N : Nat} {k1 : Nat} (hk1 : okS rd k1) {x2 : Int32} {x3 : Int32} {σ σ' : SS} {r : Unit} (hF : F_X0_tickGoesBy N k1 x2 x3 σ = some (r, σ')) : Met l yX0_tickGoesBy (ws_ yX0_tickGoesBy cX0_tickGoesBy 6 none) rmX0_tickGoesBy (pcx G rd q σ [.ref (q 0), .ref (q (iS k1)), .int x2, .int x3]) (qxv G rd q σ' r) 0 0 (fa G) := by
  refine met_of (by decide) (Nat.le_of_ble_eq_true rfl) ?_
  intro p e s m below meth c C H locs ls hw hS hl
  obtain ⟨hx, hb, hml, hown, hts, -, -, -, -⟩ := id C
  have hl : lv_has ls 6 [(0, .ref (q 0)), (1, .ref (q (iS k1))), (2, .int x2), (3, .int x3)] := hl
  unfold F_X0_tickGoesBy at hF
  refine lv_iload_n hx hb dX0_tickGoesBy_0 rfl (lv_at hl 2 rfl) ?_
  refine lv_bipush (v := (-4 : Int32)) hx hb dX0_tickGoesBy_1 (by decide) ?_
  refine lv_icmp_eq (tgt := 13) hx hb dX0_tickGoesBy_3 (by decide) (fun c_37 => ?_) (fun c_37 => ?_)
  · have hF := it_e hF c_37
    refine lv_iconst (v := (0 : Int32)) hx hb dX0_tickGoesBy_13 (by decide) ?_
    refine lv_istore (lv' := [(4, .int (0 : Int32)), (0, .ref (q 0)), (1, .ref (q (iS k1))), (2, .int x2), (3, .int x3)]) hx hb dX0_tickGoesBy_14 hl (by decide) rfl (fun ls hl => ?_)
    exact w_X0_tickGoesBy_16 C hk1  N _ _ _ _ _ hF hw hS (lv_sub hl [1, 2, 0] rfl)
  · have hF := if_e hF c_37
    refine lv_aload_n hx hb dX0_tickGoesBy_6 rfl (lv_at hl 0 rfl) ?_
    refine lv_aload_n hx hb dX0_tickGoesBy_7 rfl (lv_at hl 1 rfl) ?_
    refine lv_iload_n hx hb dX0_tickGoesBy_8 rfl (lv_at hl 2 rfl) ?_
    refine lv_iload_n hx hb dX0_tickGoesBy_9 rfl (lv_at hl 3 rfl) ?_
    obtain ⟨r_38, σ_39, h_40, hF⟩ := bd_e hF
    refine r_callVv (As := [.ref (q (iS k1)), .int x2, .int x3]) (rest := []) (i := 0) C hw hS (wi_lo (Or.inl (by decide))) rfl (ci := 0) rfl (met_X0_acts l G rd q hk1 h_40) (cwV 3 hts (lw_V q640 q642 qs13 q57 q643) rfl rfl rfl (by decide +kernel) ⟨Nat.le_of_ble_eq_true rfl, Nat.le_of_ble_eq_true rfl⟩) rfl hl.1 rfl (Nat.le_of_ble_eq_true rfl) ⟨Nat.le_refl _, Nat.le_refl _⟩ dX0_tickGoesBy_10 (fun H locs hw hS => ?_)
    refine lv_iconst (v := (0 : Int32)) hx hb dX0_tickGoesBy_13 (by decide) ?_
    refine lv_istore (lv' := [(4, .int (0 : Int32)), (0, .ref (q 0)), (1, .ref (q (iS k1))), (2, .int x2), (3, .int x3)]) hx hb dX0_tickGoesBy_14 hl (by decide) rfl (fun ls hl => ?_)
    exact w_X0_tickGoesBy_16 C hk1  N _ _ _ _ _ hF hw hS (lv_sub hl [1, 2, 0] rfl)
abbrev rmX0_tickGoes : Room := { frames := 8, cells := 0, slots := 0, locals := 219 }
noncomputable def F_X0_tickGoes_32 (N : Nat) (k1 : Nat) (x2 : Int32) (z0 : Int32) (σ : SS) : Option (Unit × SS) :=
  bd (F_X0_tickGoesBy N k1 z0 x2 σ) fun r_10 σ_11 =>
  some ((), σ_11)
set_option maxRecDepth 100000 in
theorem w_X0_tickGoes_32 {p : Program} {l : Launch} {e : Env} {s : State} {m : MethodId} {args : Array Value} {below : List Frame} {meth : Method} {c : Code} {G : GG} {rd : Bool} {q : Nat → Nat} {N : Nat} {k1 : Nat} {r : Unit} {σ' : SS} (C : cx p s m args meth c cX0_tickGoes 4 RX0 none G) (hk1 : okS rd k1) : ∀ (x2 : Int32) (z0 : Int32) (σ : SS) (H : Heap) (locs : List Loc) (ls : Array Slot), F_X0_tickGoes_32 N k1 x2 z0 σ = some (r, σ') → wx G rd q σ H → va_S (fa G) s.heap H locs → lv_has ls 4 [(2, .int x2)] → W p l e rmX0_tickGoes s m args below meth c H locs 0 0 (MQ below (qxv G rd q σ' r) args s 0 0 (fa G)) (F0 m 32 ls [.int z0, .ref (q (iS k1)), .ref (q 0)]) := by
  obtain ⟨hx, hb, hml, hown, hts, -, -, -, -⟩ := id C
  intro x2 z0 σ H locs ls hF hw hS hl
  unfold F_X0_tickGoes_32 at hF
  refine lv_iload_n hx hb dX0_tickGoes_32 rfl (lv_at hl 0 rfl) ?_
  obtain ⟨r_10, σ_11, h_12, hF⟩ := bd_e hF
  refine r_callVv (As := [.ref (q (iS k1)), .int z0, .int x2]) (rest := []) (i := 0) C hw hS (wi_lo (Or.inl (by decide))) rfl (ci := 0) rfl (met_X0_tickGoesBy l G rd q hk1 h_12) (cwV 3 hts (lw_V q670 q672 qs19 q57 q673) rfl rfl rfl (by decide +kernel) ⟨Nat.le_of_ble_eq_true rfl, Nat.le_of_ble_eq_true rfl⟩) rfl hl.1 rfl (Nat.le_of_ble_eq_true rfl) ⟨Nat.le_refl _, Nat.le_refl _⟩ dX0_tickGoes_33 (fun H locs hw hS => ?_)
  exact r_vret C hw hS hF dX0_tickGoes_36
noncomputable def F_X0_tickGoes_21 (N : Nat) (k1 : Nat) (x2 : Int32) (σ : SS) : Option (Unit × SS) :=
  F_X0_tickGoes_32 N k1 x2 (-4 : Int32) σ
set_option maxRecDepth 100000 in
theorem w_X0_tickGoes_21 {p : Program} {l : Launch} {e : Env} {s : State} {m : MethodId} {args : Array Value} {below : List Frame} {meth : Method} {c : Code} {G : GG} {rd : Bool} {q : Nat → Nat} {N : Nat} {k1 : Nat} {r : Unit} {σ' : SS} (C : cx p s m args meth c cX0_tickGoes 4 RX0 none G) (hk1 : okS rd k1) : ∀ (x2 : Int32) (σ : SS) (H : Heap) (locs : List Loc) (ls : Array Slot), F_X0_tickGoes_21 N k1 x2 σ = some (r, σ') → wx G rd q σ H → va_S (fa G) s.heap H locs → lv_has ls 4 [(2, .int x2)] → W p l e rmX0_tickGoes s m args below meth c H locs 0 0 (MQ below (qxv G rd q σ' r) args s 0 0 (fa G)) (F0 m 21 ls [.ref (q (iS k1)), .ref (q 0)]) := by
  obtain ⟨hx, hb, hml, hown, hts, -, -, -, -⟩ := id C
  intro x2 σ H locs ls hF hw hS hl
  unfold F_X0_tickGoes_21 at hF
  refine lv_bipush (v := (-4 : Int32)) hx hb dX0_tickGoes_21 (by decide) ?_
  refine lv_goto (tgt := 32) hx hb dX0_tickGoes_23 (by decide) ?_
  exact w_X0_tickGoes_32 C hk1  _ _ _ _ _ _ hF hw hS (lv_sub hl [0] rfl)
noncomputable def F_X0_tickGoes (N : Nat) (k1 : Nat) (x2 : Int32) (σ : SS) : Option (Unit × SS) :=
  bd (F_X5_next N k1 σ) fun r_13 σ_14 =>
  if r_13 = (-4 : Int32) then
    F_X0_tickGoes_21 N k1 x2 σ_14
  else
    if r_13 = (gi σ_14 (iS k1) 39) then
      F_X0_tickGoes_21 N k1 x2 σ_14
    else
      gd (inR r_13 16) <|
      F_X0_tickGoes_32 N k1 x2 (gi σ_14 (iAA k1) r_13.toNatClampNeg) σ_14
set_option maxRecDepth 100000 in
theorem met_X0_tickGoes (l : Launch) (G : GG) (rd : Bool) (q : Nat → Nat) {N : Nat} {k1 : Nat} (hk1 : okS rd k1) {x2 : Int32} {σ σ' : SS} {r : Unit} (hF : F_X0_tickGoes N k1 x2 σ = some (r, σ')) : Met l yX0_tickGoes (ws_ yX0_tickGoes cX0_tickGoes 4 none) rmX0_tickGoes (pcx G rd q σ [.ref (q 0), .ref (q (iS k1)), .int x2]) (qxv G rd q σ' r) 0 0 (fa G) := by
  refine met_of (by decide) (Nat.le_of_ble_eq_true rfl) ?_
  intro p e s m below meth c C H locs ls hw hS hl
  obtain ⟨hx, hb, hml, hown, hts, -, -, -, -⟩ := id C
  have hl : lv_has ls 4 [(0, .ref (q 0)), (1, .ref (q (iS k1))), (2, .int x2)] := hl
  unfold F_X0_tickGoes at hF
  refine lv_aload_n hx hb dX0_tickGoes_0 rfl (lv_at hl 1 rfl) ?_
  obtain ⟨r_13, σ_14, h_15, hF⟩ := bd_e hF
  refine r_callVi (As := []) (rest := []) (i := iS k1) C hw hS (wi_S hk1) (tm_S _ _) (ci := 5) rfl (met_X5_next l G rd q hk1 h_15) (cwV 0 hts (lw_V q544 q545 q546 q62 q547) rfl rfl rfl (by decide +kernel) ⟨Nat.le_of_ble_eq_true rfl, Nat.le_of_ble_eq_true rfl⟩) rfl hl.1 rfl (Nat.le_of_ble_eq_true rfl) ⟨Nat.le_refl _, Nat.le_refl _⟩ dX0_tickGoes_1 (fun H locs hw hS => ?_)
  refine lv_istore_n (lv' := [(3, .int r_13), (0, .ref (q 0)), (1, .ref (q (iS k1))), (2, .int x2)]) hx hb dX0_tickGoes_4 rfl hl (by decide) rfl (fun ls hl => ?_)
  refine lv_aload_n hx hb dX0_tickGoes_5 rfl (lv_at hl 1 rfl) ?_
  refine lv_aload_n hx hb dX0_tickGoes_6 rfl (lv_at hl 2 rfl) ?_
  refine lv_iload_n hx hb dX0_tickGoes_7 rfl (lv_at hl 0 rfl) ?_
  refine lv_bipush (v := (-4 : Int32)) hx hb dX0_tickGoes_8 (by decide) ?_
  refine lv_icmp_eq (tgt := 21) hx hb dX0_tickGoes_10 (by decide) (fun c_16 => ?_) (fun c_16 => ?_)
  · have hF := it_e hF c_16
    exact w_X0_tickGoes_21 C hk1  _ _ _ _ _ hF hw hS (lv_sub hl [3] rfl)
  · have hF := if_e hF c_16
    refine lv_iload_n hx hb dX0_tickGoes_13 rfl (lv_at hl 0 rfl) ?_
    refine lv_aload_n hx hb dX0_tickGoes_14 rfl (lv_at hl 2 rfl) ?_
    refine r_getSN C hw hk1 9 (by decide) rfl (v := .int (gi σ_14 (iS k1) 39)) rfl 21 rfl dX0_tickGoes_15 ?_
    refine lv_icmp_ne (tgt := 26) hx hb dX0_tickGoes_18 (by decide) (fun c_17 => ?_) (fun c_17 => ?_)
    · have hF := if_e hF c_17
      refine lv_aload_n hx hb dX0_tickGoes_26 rfl (lv_at hl 2 rfl) ?_
      refine r_getSN C hw hk1 5 (by decide) rfl (v := .ref (q (iAA k1))) rfl 17 rfl dX0_tickGoes_27 ?_
      refine lv_iload_n hx hb dX0_tickGoes_30 rfl (lv_at hl 0 rfl) ?_
      obtain ⟨h_18, hF⟩ := gd_e hF
      refine r_sald (i := iAA k1) (n := 16) (g := (iAA k1)) (st := 0) C hw (wi_AA hk1) (tm_AA _ _) h_18 dX0_tickGoes_31 ?_
      exact w_X0_tickGoes_32 C hk1  _ _ _ _ _ _ hF hw hS (lv_sub hl [3] rfl)
    · have hF := it_e hF c_17
      exact w_X0_tickGoes_21 C hk1  _ _ _ _ _ hF hw hS (lv_sub hl [3] rfl)
abbrev rmX0_again : Room := { frames := 9, cells := 0, slots := 0, locals := 242 }
noncomputable def B_X0_again_13 (N : Nat) (IH : Int32 → SS → Option (Int32 × SS)) (x1 : Int32) (σ : SS) : Option (Int32 × SS) :=
  if (200 : Int32) < x1 then
    some ((-4 : Int32), σ)
  else
    bd (F_X0_tickGoes N 1 (0 : Int32) σ) fun r_14 σ_15 =>
    bd (F_X5_isLike N 1 0 σ_15) fun r_17 σ_18 =>
    if r_17 = (0 : Int32) then
      nm (x1 + (1 : Int32)) fun x_21 =>
      IH x_21 σ_18
    else
      some (x1, σ_18)
noncomputable def F_X0_again_13 (N : Nat) (n : Nat) : Int32 → SS → Option (Int32 × SS) := Nat.rec (fun _ _ => none) (fun _ IH => B_X0_again_13 N IH) n
set_option maxRecDepth 100000 in
theorem w_X0_again_13 {p : Program} {l : Launch} {e : Env} {s : State} {m : MethodId} {args : Array Value} {below : List Frame} {meth : Method} {c : Code} {G : GG} {rd : Bool} {q : Nat → Nat} {N : Nat} {r : Int32} {σ' : SS} (C : cx p s m args meth c cX0_again 2 RX0 (some .int) G) : ∀ (n : Nat), ∀ (x1 : Int32) (σ : SS) (H : Heap) (locs : List Loc) (ls : Array Slot), F_X0_again_13 N n x1 σ = some (r, σ') → wx G rd q σ H → va_S (fa G) s.heap H locs → lv_has ls 2 [(0, .ref (q 0)), (1, .int x1)] → W p l e rmX0_again s m args below meth c H locs 0 0 (MQ below (qxi G rd q σ' r) args s 0 0 (fa G)) (F0 m 13 ls []) := by
  obtain ⟨hx, hb, hml, hown, hts, -, -, -, -⟩ := id C
  intro n
  induction n with
  | zero =>
    intro x1 σ H locs ls hF hw hS hl
    cases hF
  | succ n ih =>
    intro x1 σ H locs ls hF hw hS hl
    have hF : B_X0_again_13 N (F_X0_again_13 N n) x1 σ = some (r, σ') := hF
    unfold B_X0_again_13 at hF
    refine lv_iload_n hx hb dX0_again_13 rfl (lv_at hl 1 rfl) ?_
    refine lv_sipush (v := (200 : Int32)) hx hb dX0_again_14 (by decide) ?_
    refine lv_icmp_gt (tgt := 51) hx hb dX0_again_17 (by decide) (fun c_13 => ?_) (fun c_13 => ?_)
    · have hF := it_e hF c_13
      refine lv_bipush (v := (-4 : Int32)) hx hb dX0_again_51 (by decide) ?_
      exact r_iret C hw hS hF dX0_again_53
    · have hF := if_e hF c_13
      refine lv_aload_n hx hb dX0_again_20 rfl (lv_at hl 0 rfl) ?_
      refine lv_aload_n hx hb dX0_again_21 rfl (lv_at hl 0 rfl) ?_
      refine r_get0 C hw 2 (by decide) rfl (v := .ref (q (iS 1))) rfl q220 dX0_again_22 ?_
      refine lv_iconst (v := (0 : Int32)) hx hb dX0_again_25 (by decide) ?_
      obtain ⟨r_14, σ_15, h_16, hF⟩ := bd_e hF
      refine r_callVv (As := [.ref (q (iS 1)), .int (0 : Int32)]) (rest := []) (i := 0) C hw hS (wi_lo (Or.inl (by decide))) rfl (ci := 0) rfl (met_X0_tickGoes l G rd q (okS_of (by decide)) h_16) (cwV 2 hts (lw_V q666 q668 qs18 q57 q669) rfl rfl rfl (by decide +kernel) ⟨Nat.le_of_ble_eq_true rfl, Nat.le_of_ble_eq_true rfl⟩) rfl hl.1 rfl (Nat.le_of_ble_eq_true rfl) ⟨Nat.le_refl _, Nat.le_refl _⟩ dX0_again_26 (fun H locs hw hS => ?_)
      refine lv_aload_n hx hb dX0_again_29 rfl (lv_at hl 0 rfl) ?_
      refine r_get0 C hw 2 (by decide) rfl (v := .ref (q (iS 1))) rfl q220 dX0_again_30 ?_
      refine lv_aload_n hx hb dX0_again_33 rfl (lv_at hl 0 rfl) ?_
      refine r_get0 C hw 1 (by decide) rfl (v := .ref (q (iS 0))) rfl q219 dX0_again_34 ?_
      obtain ⟨r_17, σ_18, h_19, hF⟩ := bd_e hF
      refine r_callVi (As := [.ref (q (iS 0))]) (rest := []) (i := iS 1) C hw hS (wi_S (okS_of (by decide))) (tm_S _ _) (ci := 5) rfl (met_X5_isLike l G rd q (okS_of (by decide)) (okS_of (by decide)) h_19) (cwV 1 hts (lw_V q700 q701 q702 q62 q703) rfl rfl rfl (by decide +kernel) ⟨Nat.le_of_ble_eq_true rfl, Nat.le_of_ble_eq_true rfl⟩) rfl hl.1 rfl (Nat.le_of_ble_eq_true rfl) ⟨Nat.le_refl _, Nat.le_refl _⟩ dX0_again_37 (fun H locs hw hS => ?_)
      refine lv_if_eq (tgt := 45) hx hb dX0_again_40 (by decide) (fun c_20 => ?_) (fun c_20 => ?_)
      · have hF := it_e hF c_20
        obtain ⟨x_21, ex_21, hF⟩ := nm_e2 hF
        refine lv_iinc (v := x_21) (lv' := [(1, .int x_21), (0, .ref (q 0))]) hx hb dX0_again_45 hl (k := 1) rfl (by rw [ex_21]; rfl) (by decide) rfl (fun ls hl => ?_)
        refine lv_goto (tgt := 13) hx hb dX0_again_48 (by decide) ?_
        exact ih _ _ _ _ _ hF hw hS (lv_sub hl [1, 0] rfl)
      · have hF := if_e hF c_20
        refine lv_iload_n hx hb dX0_again_43 rfl (lv_at hl 1 rfl) ?_
        exact r_iret C hw hS hF dX0_again_44
noncomputable def F_X0_again (N : Nat)  (σ : SS) : Option (Int32 × SS) :=
  bd (F_X5_as N 1 0 σ) fun r_22 σ_23 =>
  F_X0_again_13 N N (1 : Int32) σ_23
set_option maxRecDepth 100000 in
theorem met_X0_again (l : Launch) (G : GG) (rd : Bool) (q : Nat → Nat) {N : Nat} {σ σ' : SS} {r : Int32} (hF : F_X0_again N  σ = some (r, σ')) : Met l yX0_again (ws_ yX0_again cX0_again 2 (some .int)) rmX0_again (pcx G rd q σ [.ref (q 0)]) (qxi G rd q σ' r) 0 0 (fa G) := by
  refine met_of (by decide) (Nat.le_of_ble_eq_true rfl) ?_
  intro p e s m below meth c C H locs ls hw hS hl
  obtain ⟨hx, hb, hml, hown, hts, -, -, -, -⟩ := id C
  have hl : lv_has ls 2 [(0, .ref (q 0))] := hl
  unfold F_X0_again at hF
  refine lv_aload_n hx hb dX0_again_0 rfl (lv_at hl 0 rfl) ?_
  refine r_get0 C hw 2 (by decide) rfl (v := .ref (q (iS 1))) rfl q220 dX0_again_1 ?_
  refine lv_aload_n hx hb dX0_again_4 rfl (lv_at hl 0 rfl) ?_
  refine r_get0 C hw 1 (by decide) rfl (v := .ref (q (iS 0))) rfl q219 dX0_again_5 ?_
  obtain ⟨r_22, σ_23, h_24, hF⟩ := bd_e hF
  refine r_callVv (As := [.ref (q (iS 0))]) (rest := []) (i := iS 1) C hw hS (wi_S (okS_of (by decide))) (tm_S _ _) (ci := 5) rfl (met_X5_as l G rd q (okS_of (by decide)) (okS_of (by decide)) h_24) (cwV 1 hts (lw_V q521 q522 q523 q62 q524) rfl rfl rfl (by decide +kernel) ⟨Nat.le_of_ble_eq_true rfl, Nat.le_of_ble_eq_true rfl⟩) rfl hl.1 rfl (Nat.le_of_ble_eq_true rfl) ⟨Nat.le_refl _, Nat.le_refl _⟩ dX0_again_8 (fun H locs hw hS => ?_)
  refine lv_iconst (v := (1 : Int32)) hx hb dX0_again_11 (by decide) ?_
  refine lv_istore_n (lv' := [(1, .int (1 : Int32)), (0, .ref (q 0))]) hx hb dX0_again_12 rfl hl (by decide) rfl (fun ls hl => ?_)
  exact w_X0_again_13 C   N _ _ _ _ _ hF hw hS (lv_sub hl [1, 0] rfl)
abbrev rmX0_isWheel : Room := { frames := 2, cells := 0, slots := 0, locals := 85 }
noncomputable def F_X0_isWheel (N : Nat) (x1 : Int32) (σ : SS) : Option (Int32 × SS) :=
  bd (F_X0_in N x1.toInt64 (0 : Int64) (((gi σ (iS 0) 16) - (1 : Int32)).toInt64) σ) fun r_5 σ_6 =>
  gd (r_5 = 0 ∨ r_5 = 1) <|
  some (r_5, σ_6)
set_option maxRecDepth 100000 in
theorem met_X0_isWheel (l : Launch) (G : GG) (rd : Bool) (q : Nat → Nat) {N : Nat} {x1 : Int32} {σ σ' : SS} {r : Int32} (hF : F_X0_isWheel N x1 σ = some (r, σ')) : Met l yX0_isWheel (ws_ yX0_isWheel cX0_isWheel 2 (some .boolean)) rmX0_isWheel (pcx G rd q σ [.ref (q 0), .int x1]) (qxi G rd q σ' r) 0 0 (fa G) := by
  refine met_of (by decide) (Nat.le_of_ble_eq_true rfl) ?_
  intro p e s m below meth c C H locs ls hw hS hl
  obtain ⟨hx, hb, hml, hown, hts, -, -, -, -⟩ := id C
  have hl : lv_has ls 2 [(0, .ref (q 0)), (1, .int x1)] := hl
  unfold F_X0_isWheel at hF
  refine lv_iload_n hx hb dX0_isWheel_0 rfl (lv_at hl 1 rfl) ?_
  refine lv_i2l hx hb dX0_isWheel_1 rfl ?_
  refine lv_lconst (v := (0 : Int64)) hx hb dX0_isWheel_2 (by decide) ?_
  refine lv_aload_n hx hb dX0_isWheel_3 rfl (lv_at hl 0 rfl) ?_
  refine r_get0 C hw 1 (by decide) rfl (v := .ref (q (iS 0))) rfl q219 dX0_isWheel_4 ?_
  refine r_getSN C hw (okS_of (by decide)) 2 (by decide) rfl (v := .int (gi σ (iS 0) 16)) rfl 11 rfl dX0_isWheel_7 ?_
  refine lv_iconst (v := (1 : Int32)) hx hb dX0_isWheel_10 (by decide) ?_
  refine lv_isub hx hb dX0_isWheel_11 ?_
  refine lv_i2l hx hb dX0_isWheel_12 rfl ?_
  obtain ⟨r_5, σ_6, h_7, hF⟩ := bd_e hF
  refine r_callSi (As := [.long x1.toInt64, .long (0 : Int64), .long (((gi σ (iS 0) 16) - (1 : Int32)).toInt64)]) (rest := []) C hw hS (met_X0_in l G rd q  h_7) (cwS 3 hts (lw_S q294 q295 q57 q296) rfl rfl rfl (by decide +kernel) ⟨Nat.le_of_ble_eq_true rfl, Nat.le_of_ble_eq_true rfl⟩) rfl hl.1 rfl (Nat.le_of_ble_eq_true rfl) ⟨Nat.le_refl _, Nat.le_refl _⟩ dX0_isWheel_13 (fun H locs hw hS => ?_)
  obtain ⟨h_8, hF⟩ := gd_e hF
  exact r_zret C hw hS hF (nar_z h_8) dX0_isWheel_16
abbrev rmX0_isFar : Room := { frames := 2, cells := 0, slots := 0, locals := 85 }
noncomputable def F_X0_isFar (N : Nat) (x0 : Int32) (σ : SS) : Option (Int32 × SS) :=
  bd (F_X0_in N x0.toInt64 (0 : Int64) (200 : Int64) σ) fun r_5 σ_6 =>
  gd (r_5 = 0 ∨ r_5 = 1) <|
  some (r_5, σ_6)
set_option maxRecDepth 100000 in
theorem met_X0_isFar (l : Launch) (G : GG) (rd : Bool) (q : Nat → Nat) {N : Nat} {x0 : Int32} {σ σ' : SS} {r : Int32} (hF : F_X0_isFar N x0 σ = some (r, σ')) : Met l yX0_isFar (ws_ yX0_isFar cX0_isFar 1 (some .boolean)) rmX0_isFar (pcx G rd q σ [.int x0]) (qxi G rd q σ' r) 0 0 (fa G) := by
  refine met_of (by decide) (Nat.le_of_ble_eq_true rfl) ?_
  intro p e s m below meth c C H locs ls hw hS hl
  obtain ⟨hx, hb, hml, hown, hts, -, -, -, -⟩ := id C
  have hl : lv_has ls 1 [(0, .int x0)] := hl
  unfold F_X0_isFar at hF
  refine lv_iload_n hx hb dX0_isFar_0 rfl (lv_at hl 0 rfl) ?_
  refine lv_i2l hx hb dX0_isFar_1 rfl ?_
  refine lv_lconst (v := (0 : Int64)) hx hb dX0_isFar_2 (by decide) ?_
  refine lv_ldc2 (v := (200 : Int64)) hx hb hown (hts _ q682) dX0_isFar_3 ?_
  obtain ⟨r_5, σ_6, h_7, hF⟩ := bd_e hF
  refine r_callSi (As := [.long x0.toInt64, .long (0 : Int64), .long (200 : Int64)]) (rest := []) C hw hS (met_X0_in l G rd q  h_7) (cwS 3 hts (lw_S q294 q295 q57 q296) rfl rfl rfl (by decide +kernel) ⟨Nat.le_of_ble_eq_true rfl, Nat.le_of_ble_eq_true rfl⟩) rfl hl.1 rfl (Nat.le_of_ble_eq_true rfl) ⟨Nat.le_refl _, Nat.le_refl _⟩ dX0_isFar_6 (fun H locs hw hS => ?_)
  obtain ⟨h_8, hF⟩ := gd_e hF
  exact r_zret C hw hS hF (nar_z h_8) dX0_isFar_9
abbrev rmX0_startsCounting : Room := { frames := 1, cells := 0, slots := 0, locals := 60 }
noncomputable def F_X0_startsCounting (N : Nat)  (σ : SS) : Option (Unit × SS) :=
  nm (si σ 0 7 (0 : Int32)) fun σ_5 =>
  nm (si σ_5 0 8 (0 : Int32)) fun σ_6 =>
  nm (si σ_6 0 9 (0 : Int32)) fun σ_7 =>
  nm (si σ_7 0 10 (0 : Int32)) fun σ_8 =>
  some ((), σ_8)
set_option maxRecDepth 100000 in
theorem met_X0_startsCounting (l : Launch) (G : GG) (rd : Bool) (q : Nat → Nat) {N : Nat} {σ σ' : SS} {r : Unit} (hF : F_X0_startsCounting N  σ = some (r, σ')) : Met l yX0_startsCounting (ws_ yX0_startsCounting cX0_startsCounting 1 none) rmX0_startsCounting (pcx G rd q σ [.ref (q 0)]) (qxv G rd q σ' r) 0 0 (fa G) := by
  refine met_of (by decide) (Nat.le_of_ble_eq_true rfl) ?_
  intro p e s m below meth c C H locs ls hw hS hl
  obtain ⟨hx, hb, hml, hown, hts, -, -, -, -⟩ := id C
  have hl : lv_has ls 1 [(0, .ref (q 0))] := hl
  unfold F_X0_startsCounting at hF
  refine lv_aload_n hx hb dX0_startsCounting_0 rfl (lv_at hl 0 rfl) ?_
  refine lv_iconst (v := (0 : Int32)) hx hb dX0_startsCounting_1 (by decide) ?_
  obtain ⟨σ_5, eσ_5, hF⟩ := nm_e2 hF
  refine r_put0 C hw hS 7 (by decide) rfl rfl (tyX0_ok 7 (by decide)) rfl rfl q225 dX0_startsCounting_2 eσ_5 (fun H locs hw hS => ?_)
  refine lv_aload_n hx hb dX0_startsCounting_5 rfl (lv_at hl 0 rfl) ?_
  refine lv_iconst (v := (0 : Int32)) hx hb dX0_startsCounting_6 (by decide) ?_
  obtain ⟨σ_6, eσ_6, hF⟩ := nm_e2 hF
  refine r_put0 C hw hS 8 (by decide) rfl rfl (tyX0_ok 8 (by decide)) rfl rfl q226 dX0_startsCounting_7 eσ_6 (fun H locs hw hS => ?_)
  refine lv_aload_n hx hb dX0_startsCounting_10 rfl (lv_at hl 0 rfl) ?_
  refine lv_iconst (v := (0 : Int32)) hx hb dX0_startsCounting_11 (by decide) ?_
  obtain ⟨σ_7, eσ_7, hF⟩ := nm_e2 hF
  refine r_put0 C hw hS 9 (by decide) rfl rfl (tyX0_ok 9 (by decide)) rfl rfl q227 dX0_startsCounting_12 eσ_7 (fun H locs hw hS => ?_)
  refine lv_aload_n hx hb dX0_startsCounting_15 rfl (lv_at hl 0 rfl) ?_
  refine lv_iconst (v := (0 : Int32)) hx hb dX0_startsCounting_16 (by decide) ?_
  obtain ⟨σ_8, eσ_8, hF⟩ := nm_e2 hF
  refine r_put0 C hw hS 10 (by decide) rfl rfl (tyX0_ok 10 (by decide)) rfl rfl q228 dX0_startsCounting_17 eσ_8 (fun H locs hw hS => ?_)
  exact r_vret C hw hS hF dX0_startsCounting_20
abbrev rmX0_ticksGo : Room := { frames := 9, cells := 0, slots := 0, locals := 242 }
noncomputable def B_X0_ticksGo_6 (N : Nat) (k1 : Nat) (IH : Int32 → Int32 → SS → Option (Unit × SS)) (x2 : Int32) (x3 : Int32) (σ : SS) : Option (Unit × SS) :=
  if x2 ≤ x3 then
    some ((), σ)
  else
    bd (F_X0_tickGoes N k1 (0 : Int32) σ) fun r_10 σ_11 =>
    nm (x3 + (1 : Int32)) fun x_13 =>
    IH x2 x_13 σ_11
noncomputable def F_X0_ticksGo_6 (N : Nat) (k1 : Nat) (n : Nat) : Int32 → Int32 → SS → Option (Unit × SS) := Nat.rec (fun _ _ _ => none) (fun _ IH => B_X0_ticksGo_6 N k1 IH) n
set_option maxRecDepth 100000 in
theorem w_X0_ticksGo_6 {p : Program} {l : Launch} {e : Env} {s : State} {m : MethodId} {args : Array Value} {below : List Frame} {meth : Method} {c : Code} {G : GG} {rd : Bool} {q : Nat → Nat} {N : Nat} {k1 : Nat} {r : Unit} {σ' : SS} (C : cx p s m args meth c cX0_ticksGo 4 RX0 none G) (hk1 : okS rd k1) : ∀ (n : Nat), ∀ (x2 : Int32) (x3 : Int32) (σ : SS) (H : Heap) (locs : List Loc) (ls : Array Slot), F_X0_ticksGo_6 N k1 n x2 x3 σ = some (r, σ') → wx G rd q σ H → va_S (fa G) s.heap H locs → lv_has ls 4 [(0, .ref (q 0)), (1, .ref (q (iS k1))), (2, .int x2), (3, .int x3)] → W p l e rmX0_ticksGo s m args below meth c H locs 0 0 (MQ below (qxv G rd q σ' r) args s 0 0 (fa G)) (F0 m 6 ls []) := by
  obtain ⟨hx, hb, hml, hown, hts, -, -, -, -⟩ := id C
  intro n
  induction n with
  | zero =>
    intro x2 x3 σ H locs ls hF hw hS hl
    cases hF
  | succ n ih =>
    intro x2 x3 σ H locs ls hF hw hS hl
    have hF : B_X0_ticksGo_6 N k1 (F_X0_ticksGo_6 N k1 n) x2 x3 σ = some (r, σ') := hF
    unfold B_X0_ticksGo_6 at hF
    refine lv_iload_n hx hb dX0_ticksGo_6 rfl (lv_at hl 3 rfl) ?_
    refine lv_iload_n hx hb dX0_ticksGo_7 rfl (lv_at hl 2 rfl) ?_
    refine lv_icmp_ge (tgt := 23) hx hb dX0_ticksGo_8 (by decide) (fun c_9 => ?_) (fun c_9 => ?_)
    · have hF := it_e hF c_9
      exact r_vret C hw hS hF dX0_ticksGo_23
    · have hF := if_e hF c_9
      refine lv_aload_n hx hb dX0_ticksGo_11 rfl (lv_at hl 0 rfl) ?_
      refine lv_aload_n hx hb dX0_ticksGo_12 rfl (lv_at hl 1 rfl) ?_
      refine lv_iconst (v := (0 : Int32)) hx hb dX0_ticksGo_13 (by decide) ?_
      obtain ⟨r_10, σ_11, h_12, hF⟩ := bd_e hF
      refine r_callVv (As := [.ref (q (iS k1)), .int (0 : Int32)]) (rest := []) (i := 0) C hw hS (wi_lo (Or.inl (by decide))) rfl (ci := 0) rfl (met_X0_tickGoes l G rd q hk1 h_12) (cwV 2 hts (lw_V q666 q668 qs18 q57 q669) rfl rfl rfl (by decide +kernel) ⟨Nat.le_of_ble_eq_true rfl, Nat.le_of_ble_eq_true rfl⟩) rfl hl.1 rfl (Nat.le_of_ble_eq_true rfl) ⟨Nat.le_refl _, Nat.le_refl _⟩ dX0_ticksGo_14 (fun H locs hw hS => ?_)
      obtain ⟨x_13, ex_13, hF⟩ := nm_e2 hF
      refine lv_iinc (v := x_13) (lv' := [(3, .int x_13), (0, .ref (q 0)), (1, .ref (q (iS k1))), (2, .int x2)]) hx hb dX0_ticksGo_17 hl (k := 3) rfl (by rw [ex_13]; rfl) (by decide) rfl (fun ls hl => ?_)
      refine lv_goto (tgt := 6) hx hb dX0_ticksGo_20 (by decide) ?_
      exact ih _ _ _ _ _ _ hF hw hS (lv_sub hl [1, 2, 3, 0] rfl)
noncomputable def F_X0_ticksGo (N : Nat) (k1 : Nat) (x2 : Int32) (σ : SS) : Option (Unit × SS) :=
  bd (F_X0_startsCounting N σ) fun r_14 σ_15 =>
  F_X0_ticksGo_6 N k1 N x2 (0 : Int32) σ_15
set_option maxRecDepth 100000 in
theorem met_X0_ticksGo (l : Launch) (G : GG) (rd : Bool) (q : Nat → Nat) {N : Nat} {k1 : Nat} (hk1 : okS rd k1) {x2 : Int32} {σ σ' : SS} {r : Unit} (hF : F_X0_ticksGo N k1 x2 σ = some (r, σ')) : Met l yX0_ticksGo (ws_ yX0_ticksGo cX0_ticksGo 4 none) rmX0_ticksGo (pcx G rd q σ [.ref (q 0), .ref (q (iS k1)), .int x2]) (qxv G rd q σ' r) 0 0 (fa G) := by
  refine met_of (by decide) (Nat.le_of_ble_eq_true rfl) ?_
  intro p e s m below meth c C H locs ls hw hS hl
  obtain ⟨hx, hb, hml, hown, hts, -, -, -, -⟩ := id C
  have hl : lv_has ls 4 [(0, .ref (q 0)), (1, .ref (q (iS k1))), (2, .int x2)] := hl
  unfold F_X0_ticksGo at hF
  refine lv_aload_n hx hb dX0_ticksGo_0 rfl (lv_at hl 0 rfl) ?_
  obtain ⟨r_14, σ_15, h_16, hF⟩ := bd_e hF
  refine r_callVv (As := []) (rest := []) (i := 0) C hw hS (wi_lo (Or.inl (by decide))) rfl (ci := 0) rfl (met_X0_startsCounting l G rd q  h_16) (cwV 0 hts (lw_V q662 q664 qs17 q57 q665) rfl rfl rfl (by decide +kernel) ⟨Nat.le_of_ble_eq_true rfl, Nat.le_of_ble_eq_true rfl⟩) rfl hl.1 rfl (Nat.le_of_ble_eq_true rfl) ⟨Nat.le_refl _, Nat.le_refl _⟩ dX0_ticksGo_1 (fun H locs hw hS => ?_)
  refine lv_iconst (v := (0 : Int32)) hx hb dX0_ticksGo_4 (by decide) ?_
  refine lv_istore_n (lv' := [(3, .int (0 : Int32)), (0, .ref (q 0)), (1, .ref (q (iS k1))), (2, .int x2)]) hx hb dX0_ticksGo_5 rfl hl (by decide) rfl (fun ls hl => ?_)
  exact w_X0_ticksGo_6 C hk1  N _ _ _ _ _ _ hF hw hS (lv_sub hl [1, 2, 3, 0] rfl)
abbrev rmX0_ahead : Room := { frames := 10, cells := 0, slots := 0, locals := 265 }
noncomputable def F_X0_ahead (N : Nat) (x1 : Int32) (x2 : Int32) (σ : SS) : Option (Int32 × SS) :=
  bd (F_X0_isWheel N x1 σ) fun r_17 σ_18 =>
  if r_17 = (0 : Int32) then
    some ((-1 : Int32), σ_18)
  else
    bd (F_X0_isFar N x2 σ_18) fun r_21 σ_22 =>
    if r_21 = (0 : Int32) then
      some ((-1 : Int32), σ_22)
    else
      bd (F_X5_as N 1 0 σ_22) fun r_25 σ_26 =>
      bd (F_X0_ticksGo N 1 x2 σ_26) fun r_28 σ_29 =>
      gd (inR x1 4) <|
      nm (x1.toNatClampNeg) fun w_32 =>
      some (gi σ_29 (iS 1) (12 + w_32), σ_29)
set_option maxRecDepth 100000 in
theorem met_X0_ahead (l : Launch) (G : GG) (rd : Bool) (q : Nat → Nat) {N : Nat} {x1 : Int32} {x2 : Int32} {σ σ' : SS} {r : Int32} (hF : F_X0_ahead N x1 x2 σ = some (r, σ')) : Met l yX0_ahead (ws_ yX0_ahead cX0_ahead 3 (some .int)) rmX0_ahead (pcx G rd q σ [.ref (q 0), .int x1, .int x2]) (qxi G rd q σ' r) 0 0 (fa G) := by
  refine met_of (by decide) (Nat.le_of_ble_eq_true rfl) ?_
  intro p e s m below meth c C H locs ls hw hS hl
  obtain ⟨hx, hb, hml, hown, hts, -, -, -, -⟩ := id C
  have hl : lv_has ls 3 [(0, .ref (q 0)), (1, .int x1), (2, .int x2)] := hl
  unfold F_X0_ahead at hF
  refine lv_aload_n hx hb dX0_ahead_0 rfl (lv_at hl 0 rfl) ?_
  refine lv_iload_n hx hb dX0_ahead_1 rfl (lv_at hl 1 rfl) ?_
  obtain ⟨r_17, σ_18, h_19, hF⟩ := bd_e hF
  refine r_callVi (As := [.int x1]) (rest := []) (i := 0) C hw hS (wi_lo (Or.inl (by decide))) rfl (ci := 0) rfl (met_X0_isWheel l G rd q  h_19) (cwV 1 hts (lw_V q552 q554 qs10 q57 q555) rfl rfl rfl (by decide +kernel) ⟨Nat.le_of_ble_eq_true rfl, Nat.le_of_ble_eq_true rfl⟩) rfl hl.1 rfl (Nat.le_of_ble_eq_true rfl) ⟨Nat.le_refl _, Nat.le_refl _⟩ dX0_ahead_2 (fun H locs hw hS => ?_)
  refine lv_if_eq (tgt := 15) hx hb dX0_ahead_5 (by decide) (fun c_20 => ?_) (fun c_20 => ?_)
  · have hF := it_e hF c_20
    refine lv_iconst (v := (-1 : Int32)) hx hb dX0_ahead_15 (by decide) ?_
    exact r_iret C hw hS hF dX0_ahead_16
  · have hF := if_e hF c_20
    refine lv_iload_n hx hb dX0_ahead_8 rfl (lv_at hl 2 rfl) ?_
    obtain ⟨r_21, σ_22, h_23, hF⟩ := bd_e hF
    refine r_callSi (As := [.int x2]) (rest := []) C hw hS (met_X0_isFar l G rd q  h_23) (cwS 1 hts (lw_S q679 q680 q57 q681) rfl rfl rfl (by decide +kernel) ⟨Nat.le_of_ble_eq_true rfl, Nat.le_of_ble_eq_true rfl⟩) rfl hl.1 rfl (Nat.le_of_ble_eq_true rfl) ⟨Nat.le_refl _, Nat.le_refl _⟩ dX0_ahead_9 (fun H locs hw hS => ?_)
    refine lv_if_ne (tgt := 17) hx hb dX0_ahead_12 (by decide) (fun c_24 => ?_) (fun c_24 => ?_)
    · have hF := if_e hF c_24
      refine lv_aload_n hx hb dX0_ahead_17 rfl (lv_at hl 0 rfl) ?_
      refine r_get0 C hw 2 (by decide) rfl (v := .ref (q (iS 1))) rfl q220 dX0_ahead_18 ?_
      refine lv_aload_n hx hb dX0_ahead_21 rfl (lv_at hl 0 rfl) ?_
      refine r_get0 C hw 1 (by decide) rfl (v := .ref (q (iS 0))) rfl q219 dX0_ahead_22 ?_
      obtain ⟨r_25, σ_26, h_27, hF⟩ := bd_e hF
      refine r_callVv (As := [.ref (q (iS 0))]) (rest := []) (i := iS 1) C hw hS (wi_S (okS_of (by decide))) (tm_S _ _) (ci := 5) rfl (met_X5_as l G rd q (okS_of (by decide)) (okS_of (by decide)) h_27) (cwV 1 hts (lw_V q521 q522 q523 q62 q524) rfl rfl rfl (by decide +kernel) ⟨Nat.le_of_ble_eq_true rfl, Nat.le_of_ble_eq_true rfl⟩) rfl hl.1 rfl (Nat.le_of_ble_eq_true rfl) ⟨Nat.le_refl _, Nat.le_refl _⟩ dX0_ahead_25 (fun H locs hw hS => ?_)
      refine lv_aload_n hx hb dX0_ahead_28 rfl (lv_at hl 0 rfl) ?_
      refine lv_aload_n hx hb dX0_ahead_29 rfl (lv_at hl 0 rfl) ?_
      refine r_get0 C hw 2 (by decide) rfl (v := .ref (q (iS 1))) rfl q220 dX0_ahead_30 ?_
      refine lv_iload_n hx hb dX0_ahead_33 rfl (lv_at hl 2 rfl) ?_
      obtain ⟨r_28, σ_29, h_30, hF⟩ := bd_e hF
      refine r_callVv (As := [.ref (q (iS 1)), .int x2]) (rest := []) (i := 0) C hw hS (wi_lo (Or.inl (by decide))) rfl (ci := 0) rfl (met_X0_ticksGo l G rd q (okS_of (by decide)) h_30) (cwV 2 hts (lw_V q658 q660 qs16 q57 q661) rfl rfl rfl (by decide +kernel) ⟨Nat.le_of_ble_eq_true rfl, Nat.le_of_ble_eq_true rfl⟩) rfl hl.1 rfl (Nat.le_of_ble_eq_true rfl) ⟨Nat.le_refl _, Nat.le_refl _⟩ dX0_ahead_34 (fun H locs hw hS => ?_)
      refine lv_aload_n hx hb dX0_ahead_37 rfl (lv_at hl 0 rfl) ?_
      refine r_get0 C hw 2 (by decide) rfl (v := .ref (q (iS 1))) rfl q220 dX0_ahead_38 ?_
      refine r_getSN C hw (okS_of (by decide)) 3 (by decide) rfl (v := .ref (q (iWA 1))) rfl 13 rfl dX0_ahead_41 ?_
      refine lv_iload_n hx hb dX0_ahead_44 rfl (lv_at hl 1 rfl) ?_
      obtain ⟨h_31, hF⟩ := gd_e hF
      obtain ⟨w_32, ew_32, hF⟩ := nm_e2 hF
      have hw_32 : w_32 < 4 := lt_of ew_32 (inR_lt h_31)
      refine r_aald (i := iWA 1) (t := 5) (n := 4) (g := (43 + 10 * 1)) (st := 1) C hw (wi_WA (okS_of (by decide))) (tm_WA _ _) rfl h_31 (ha_W ew_32) dX0_ahead_45 ?_
      refine r_getWN C hw (okS_of (by decide)) hw_32 3 (by decide) rfl (v := .int (gi σ_29 (iS 1) (12 + w_32))) rfl 7 rfl dX0_ahead_46 ?_
      exact r_iret C hw hS hF dX0_ahead_49
    · have hF := it_e hF c_24
      refine lv_iconst (v := (-1 : Int32)) hx hb dX0_ahead_15 (by decide) ?_
      exact r_iret C hw hS hF dX0_ahead_16
abbrev rmX0_canBe : Room := { frames := 2, cells := 0, slots := 0, locals := 85 }
noncomputable def F_X0_canBe (N : Nat) (x0 : Int32) (x1 : Int32) (σ : SS) : Option (Int32 × SS) :=
  if (x0.toInt < 0 ∨ 3 < x0.toInt) then
    some ((0 : Int32), σ)
  else
    if x0 = (0 : Int32) then
      bd (F_X0_in N x1.toInt64 (0 : Int64) (3 : Int64) σ) fun r_24 σ_25 =>
      gd (r_24 = 0 ∨ r_24 = 1) <|
      some (r_24, σ_25)
    else
      if x0 = (1 : Int32) then
        bd (F_X0_in N x1.toInt64 (1 : Int64) (20 : Int64) σ) fun r_29 σ_30 =>
        gd (r_29 = 0 ∨ r_29 = 1) <|
        some (r_29, σ_30)
      else
        if x0 = (2 : Int32) then
          bd (F_X0_in N x1.toInt64 (0 : Int64) (9 : Int64) σ) fun r_34 σ_35 =>
          gd (r_34 = 0 ∨ r_34 = 1) <|
          some (r_34, σ_35)
        else
          if x0 = (3 : Int32) then
            bd (F_X0_in N x1.toInt64 (0 : Int64) (9999 : Int64) σ) fun r_39 σ_40 =>
            gd (r_39 = 0 ∨ r_39 = 1) <|
            some (r_39, σ_40)
          else
            none
set_option maxRecDepth 100000 in
theorem met_X0_canBe (l : Launch) (G : GG) (rd : Bool) (q : Nat → Nat) {N : Nat} {x0 : Int32} {x1 : Int32} {σ σ' : SS} {r : Int32} (hF : F_X0_canBe N x0 x1 σ = some (r, σ')) : Met l yX0_canBe (ws_ yX0_canBe cX0_canBe 2 (some .boolean)) rmX0_canBe (pcx G rd q σ [.int x0, .int x1]) (qxi G rd q σ' r) 0 0 (fa G) := by
  refine met_of (by decide) (Nat.le_of_ble_eq_true rfl) ?_
  intro p e s m below meth c C H locs ls hw hS hl
  obtain ⟨hx, hb, hml, hown, hts, -, -, -, -⟩ := id C
  have hl : lv_has ls 2 [(0, .int x0), (1, .int x1)] := hl
  unfold F_X0_canBe at hF
  refine lv_iload_n hx hb dX0_canBe_0 rfl (lv_at hl 0 rfl) ?_
  by_cases c_22 : (x0.toInt < 0 ∨ 3 < x0.toInt)
  · have hF := it_e hF c_22
    refine lv_tableOut (tgt := 72) hx hb dX0_canBe_1 c_22 (by decide) ?_
    refine lv_iconst (v := (0 : Int32)) hx hb dX0_canBe_72 (by decide) ?_
    exact r_zret C hw hS hF rfl dX0_canBe_73
  · have hF := if_e hF c_22
    by_cases c_23 : x0 = (0 : Int32)
    · have hF := it_e hF c_23
      refine r_tin (tgt := 32) hx hb dX0_canBe_1 c_23 (by decide) (by decide) (by rfl) (by decide) ?_
      refine lv_iload_n hx hb dX0_canBe_32 rfl (lv_at hl 1 rfl) ?_
      refine lv_i2l hx hb dX0_canBe_33 rfl ?_
      refine lv_lconst (v := (0 : Int64)) hx hb dX0_canBe_34 (by decide) ?_
      refine lv_ldc2 (v := (3 : Int64)) hx hb hown (hts _ q602) dX0_canBe_35 ?_
      obtain ⟨r_24, σ_25, h_26, hF⟩ := bd_e hF
      refine r_callSi (As := [.long x1.toInt64, .long (0 : Int64), .long (3 : Int64)]) (rest := []) C hw hS (met_X0_in l G rd q  h_26) (cwS 3 hts (lw_S q294 q295 q57 q296) rfl rfl rfl (by decide +kernel) ⟨Nat.le_of_ble_eq_true rfl, Nat.le_of_ble_eq_true rfl⟩) rfl hl.1 rfl (Nat.le_of_ble_eq_true rfl) ⟨Nat.le_refl _, Nat.le_refl _⟩ dX0_canBe_38 (fun H locs hw hS => ?_)
      obtain ⟨h_27, hF⟩ := gd_e hF
      exact r_zret C hw hS hF (nar_z h_27) dX0_canBe_41
    · have hF := if_e hF c_23
      by_cases c_28 : x0 = (1 : Int32)
      · have hF := it_e hF c_28
        refine r_tin (tgt := 42) hx hb dX0_canBe_1 c_28 (by decide) (by decide) (by rfl) (by decide) ?_
        refine lv_iload_n hx hb dX0_canBe_42 rfl (lv_at hl 1 rfl) ?_
        refine lv_i2l hx hb dX0_canBe_43 rfl ?_
        refine lv_lconst (v := (1 : Int64)) hx hb dX0_canBe_44 (by decide) ?_
        refine lv_ldc2 (v := (20 : Int64)) hx hb hown (hts _ q603) dX0_canBe_45 ?_
        obtain ⟨r_29, σ_30, h_31, hF⟩ := bd_e hF
        refine r_callSi (As := [.long x1.toInt64, .long (1 : Int64), .long (20 : Int64)]) (rest := []) C hw hS (met_X0_in l G rd q  h_31) (cwS 3 hts (lw_S q294 q295 q57 q296) rfl rfl rfl (by decide +kernel) ⟨Nat.le_of_ble_eq_true rfl, Nat.le_of_ble_eq_true rfl⟩) rfl hl.1 rfl (Nat.le_of_ble_eq_true rfl) ⟨Nat.le_refl _, Nat.le_refl _⟩ dX0_canBe_48 (fun H locs hw hS => ?_)
        obtain ⟨h_32, hF⟩ := gd_e hF
        exact r_zret C hw hS hF (nar_z h_32) dX0_canBe_51
      · have hF := if_e hF c_28
        by_cases c_33 : x0 = (2 : Int32)
        · have hF := it_e hF c_33
          refine r_tin (tgt := 52) hx hb dX0_canBe_1 c_33 (by decide) (by decide) (by rfl) (by decide) ?_
          refine lv_iload_n hx hb dX0_canBe_52 rfl (lv_at hl 1 rfl) ?_
          refine lv_i2l hx hb dX0_canBe_53 rfl ?_
          refine lv_lconst (v := (0 : Int64)) hx hb dX0_canBe_54 (by decide) ?_
          refine lv_ldc2 (v := (9 : Int64)) hx hb hown (hts _ q604) dX0_canBe_55 ?_
          obtain ⟨r_34, σ_35, h_36, hF⟩ := bd_e hF
          refine r_callSi (As := [.long x1.toInt64, .long (0 : Int64), .long (9 : Int64)]) (rest := []) C hw hS (met_X0_in l G rd q  h_36) (cwS 3 hts (lw_S q294 q295 q57 q296) rfl rfl rfl (by decide +kernel) ⟨Nat.le_of_ble_eq_true rfl, Nat.le_of_ble_eq_true rfl⟩) rfl hl.1 rfl (Nat.le_of_ble_eq_true rfl) ⟨Nat.le_refl _, Nat.le_refl _⟩ dX0_canBe_58 (fun H locs hw hS => ?_)
          obtain ⟨h_37, hF⟩ := gd_e hF
          exact r_zret C hw hS hF (nar_z h_37) dX0_canBe_61
        · have hF := if_e hF c_33
          by_cases c_38 : x0 = (3 : Int32)
          · have hF := it_e hF c_38
            refine r_tin (tgt := 62) hx hb dX0_canBe_1 c_38 (by decide) (by decide) (by rfl) (by decide) ?_
            refine lv_iload_n hx hb dX0_canBe_62 rfl (lv_at hl 1 rfl) ?_
            refine lv_i2l hx hb dX0_canBe_63 rfl ?_
            refine lv_lconst (v := (0 : Int64)) hx hb dX0_canBe_64 (by decide) ?_
            refine lv_ldc2 (v := (9999 : Int64)) hx hb hown (hts _ q605) dX0_canBe_65 ?_
            obtain ⟨r_39, σ_40, h_41, hF⟩ := bd_e hF
            refine r_callSi (As := [.long x1.toInt64, .long (0 : Int64), .long (9999 : Int64)]) (rest := []) C hw hS (met_X0_in l G rd q  h_41) (cwS 3 hts (lw_S q294 q295 q57 q296) rfl rfl rfl (by decide +kernel) ⟨Nat.le_of_ble_eq_true rfl, Nat.le_of_ble_eq_true rfl⟩) rfl hl.1 rfl (Nat.le_of_ble_eq_true rfl) ⟨Nat.le_refl _, Nat.le_refl _⟩ dX0_canBe_68 (fun H locs hw hS => ?_)
            obtain ⟨h_42, hF⟩ := gd_e hF
            exact r_zret C hw hS hF (nar_z h_42) dX0_canBe_71
          · have hF := if_e hF c_38
            cases hF
abbrev rmX0_wheel : Room := { frames := 5, cells := 0, slots := 0, locals := 148 }
noncomputable def F_X0_wheel (N : Nat) (x1 : Int32) (x2 : Int32) (σ : SS) : Option (Int32 × SS) :=
  bd (F_X0_isWheel N x1 σ) fun r_18 σ_19 =>
  if r_18 = (0 : Int32) then
    some ((-1 : Int32), σ_19)
  else
    gd (inR x1 4) <|
    nm (x1.toNatClampNeg) fun w_23 =>
    if (x2.toInt < 0 ∨ 5 < x2.toInt) then
      some ((-1 : Int32), σ_19)
    else
      if x2 = (0 : Int32) then
        some (gi σ_19 (iS 0) w_23, σ_19)
      else
        if x2 = (1 : Int32) then
          some (gi σ_19 (iS 0) (4 + w_23), σ_19)
        else
          if x2 = (2 : Int32) then
            some (gi σ_19 (iS 0) (8 + w_23), σ_19)
          else
            if x2 = (3 : Int32) then
              some (gi σ_19 (iS 0) (12 + w_23), σ_19)
            else
              if x2 = (4 : Int32) then
                gd (¬ (gi σ_19 (iS 0) (4 + w_23)) = 0) <|
                some ((gi σ_19 (iS 0) (12 + w_23)) / (gi σ_19 (iS 0) (4 + w_23)), σ_19)
              else
                if x2 = (5 : Int32) then
                  bd (F_X0_joinedBy N 0 x1 σ_19) fun r_32 σ_33 =>
                  some (r_32, σ_33)
                else
                  none
set_option maxRecDepth 100000 in
theorem met_X0_wheel (l : Launch) (G : GG) (rd : Bool) (q : Nat → Nat) {N : Nat} {x1 : Int32} {x2 : Int32} {σ σ' : SS} {r : Int32} (hF : F_X0_wheel N x1 x2 σ = some (r, σ')) : Met l yX0_wheel (ws_ yX0_wheel cX0_wheel 4 (some .int)) rmX0_wheel (pcx G rd q σ [.ref (q 0), .int x1, .int x2]) (qxi G rd q σ' r) 0 0 (fa G) := by
  refine met_of (by decide) (Nat.le_of_ble_eq_true rfl) ?_
  intro p e s m below meth c C H locs ls hw hS hl
  obtain ⟨hx, hb, hml, hown, hts, -, -, -, -⟩ := id C
  have hl : lv_has ls 4 [(0, .ref (q 0)), (1, .int x1), (2, .int x2)] := hl
  unfold F_X0_wheel at hF
  refine lv_aload_n hx hb dX0_wheel_0 rfl (lv_at hl 0 rfl) ?_
  refine lv_iload_n hx hb dX0_wheel_1 rfl (lv_at hl 1 rfl) ?_
  obtain ⟨r_18, σ_19, h_20, hF⟩ := bd_e hF
  refine r_callVi (As := [.int x1]) (rest := []) (i := 0) C hw hS (wi_lo (Or.inl (by decide))) rfl (ci := 0) rfl (met_X0_isWheel l G rd q  h_20) (cwV 1 hts (lw_V q552 q554 qs10 q57 q555) rfl rfl rfl (by decide +kernel) ⟨Nat.le_of_ble_eq_true rfl, Nat.le_of_ble_eq_true rfl⟩) rfl hl.1 rfl (Nat.le_of_ble_eq_true rfl) ⟨Nat.le_refl _, Nat.le_refl _⟩ dX0_wheel_2 (fun H locs hw hS => ?_)
  refine lv_if_ne (tgt := 10) hx hb dX0_wheel_5 (by decide) (fun c_21 => ?_) (fun c_21 => ?_)
  · have hF := if_e hF c_21
    refine lv_aload_n hx hb dX0_wheel_10 rfl (lv_at hl 0 rfl) ?_
    refine r_get0 C hw 1 (by decide) rfl (v := .ref (q (iS 0))) rfl q219 dX0_wheel_11 ?_
    refine r_getSN C hw (okS_of (by decide)) 3 (by decide) rfl (v := .ref (q (iWA 0))) rfl 13 rfl dX0_wheel_14 ?_
    refine lv_iload_n hx hb dX0_wheel_17 rfl (lv_at hl 1 rfl) ?_
    obtain ⟨h_22, hF⟩ := gd_e hF
    obtain ⟨w_23, ew_23, hF⟩ := nm_e2 hF
    have hw_23 : w_23 < 4 := lt_of ew_23 (inR_lt h_22)
    refine r_aald (i := iWA 0) (t := 5) (n := 4) (g := (43 + 10 * 0)) (st := 1) C hw (wi_WA (okS_of (by decide))) (tm_WA _ _) rfl h_22 (ha_W ew_23) dX0_wheel_18 ?_
    refine lv_astore_n (lv' := [(3, .ref (q (iW 0 w_23))), (0, .ref (q 0)), (1, .int x1), (2, .int x2)]) hx hb dX0_wheel_19 rfl hl (by decide) rfl (fun ls hl => ?_)
    refine lv_iload_n hx hb dX0_wheel_20 rfl (lv_at hl 3 rfl) ?_
    by_cases c_24 : (x2.toInt < 0 ∨ 5 < x2.toInt)
    · have hF := it_e hF c_24
      refine lv_tableOut (tgt := 100) hx hb dX0_wheel_21 c_24 (by decide) ?_
      refine lv_iconst (v := (-1 : Int32)) hx hb dX0_wheel_100 (by decide) ?_
      exact r_iret C hw hS hF dX0_wheel_101
    · have hF := if_e hF c_24
      by_cases c_25 : x2 = (0 : Int32)
      · have hF := it_e hF c_25
        refine r_tin (tgt := 60) hx hb dX0_wheel_21 c_25 (by decide) (by decide) (by rfl) (by decide) ?_
        refine lv_aload_n hx hb dX0_wheel_60 rfl (lv_at hl 0 rfl) ?_
        refine r_getWN C hw (okS_of (by decide)) hw_23 0 (by decide) rfl (v := .int (gi σ_19 (iS 0) w_23)) rfl 1 rfl dX0_wheel_61 ?_
        exact r_iret C hw hS hF dX0_wheel_64
      · have hF := if_e hF c_25
        by_cases c_26 : x2 = (1 : Int32)
        · have hF := it_e hF c_26
          refine r_tin (tgt := 65) hx hb dX0_wheel_21 c_26 (by decide) (by decide) (by rfl) (by decide) ?_
          refine lv_aload_n hx hb dX0_wheel_65 rfl (lv_at hl 0 rfl) ?_
          refine r_getWN C hw (okS_of (by decide)) hw_23 1 (by decide) rfl (v := .int (gi σ_19 (iS 0) (4 + w_23))) rfl 3 rfl dX0_wheel_66 ?_
          exact r_iret C hw hS hF dX0_wheel_69
        · have hF := if_e hF c_26
          by_cases c_27 : x2 = (2 : Int32)
          · have hF := it_e hF c_27
            refine r_tin (tgt := 70) hx hb dX0_wheel_21 c_27 (by decide) (by decide) (by rfl) (by decide) ?_
            refine lv_aload_n hx hb dX0_wheel_70 rfl (lv_at hl 0 rfl) ?_
            refine r_getWN C hw (okS_of (by decide)) hw_23 2 (by decide) rfl (v := .int (gi σ_19 (iS 0) (8 + w_23))) rfl 5 rfl dX0_wheel_71 ?_
            exact r_iret C hw hS hF dX0_wheel_74
          · have hF := if_e hF c_27
            by_cases c_28 : x2 = (3 : Int32)
            · have hF := it_e hF c_28
              refine r_tin (tgt := 75) hx hb dX0_wheel_21 c_28 (by decide) (by decide) (by rfl) (by decide) ?_
              refine lv_aload_n hx hb dX0_wheel_75 rfl (lv_at hl 0 rfl) ?_
              refine r_getWN C hw (okS_of (by decide)) hw_23 3 (by decide) rfl (v := .int (gi σ_19 (iS 0) (12 + w_23))) rfl 7 rfl dX0_wheel_76 ?_
              exact r_iret C hw hS hF dX0_wheel_79
            · have hF := if_e hF c_28
              by_cases c_29 : x2 = (4 : Int32)
              · have hF := it_e hF c_29
                refine r_tin (tgt := 80) hx hb dX0_wheel_21 c_29 (by decide) (by decide) (by rfl) (by decide) ?_
                refine lv_aload_n hx hb dX0_wheel_80 rfl (lv_at hl 0 rfl) ?_
                refine r_getWN C hw (okS_of (by decide)) hw_23 3 (by decide) rfl (v := .int (gi σ_19 (iS 0) (12 + w_23))) rfl 7 rfl dX0_wheel_81 ?_
                refine lv_aload_n hx hb dX0_wheel_84 rfl (lv_at hl 0 rfl) ?_
                refine r_getWN C hw (okS_of (by decide)) hw_23 1 (by decide) rfl (v := .int (gi σ_19 (iS 0) (4 + w_23))) rfl 3 rfl dX0_wheel_85 ?_
                obtain ⟨h_30, hF⟩ := gd_e hF
                refine lv_idiv hx hb dX0_wheel_88 h_30 ?_
                exact r_iret C hw hS hF dX0_wheel_89
              · have hF := if_e hF c_29
                by_cases c_31 : x2 = (5 : Int32)
                · have hF := it_e hF c_31
                  refine r_tin (tgt := 90) hx hb dX0_wheel_21 c_31 (by decide) (by decide) (by rfl) (by decide) ?_
                  refine lv_aload_n hx hb dX0_wheel_90 rfl (lv_at hl 1 rfl) ?_
                  refine lv_aload_n hx hb dX0_wheel_91 rfl (lv_at hl 1 rfl) ?_
                  refine r_get0 C hw 1 (by decide) rfl (v := .ref (q (iS 0))) rfl q219 dX0_wheel_92 ?_
                  refine lv_iload_n hx hb dX0_wheel_95 rfl (lv_at hl 2 rfl) ?_
                  obtain ⟨r_32, σ_33, h_34, hF⟩ := bd_e hF
                  refine r_callVi (As := [.ref (q (iS 0)), .int x1]) (rest := []) (i := 0) C hw hS (wi_lo (Or.inl (by decide))) rfl (ci := 0) rfl (met_X0_joinedBy l G rd q (okS_of (by decide)) h_34) (cwV 2 hts (lw_V q556 q558 qs11 q57 q559) rfl rfl rfl (by decide +kernel) ⟨Nat.le_of_ble_eq_true rfl, Nat.le_of_ble_eq_true rfl⟩) rfl hl.1 rfl (Nat.le_of_ble_eq_true rfl) ⟨Nat.le_refl _, Nat.le_refl _⟩ dX0_wheel_96 (fun H locs hw hS => ?_)
                  exact r_iret C hw hS hF dX0_wheel_99
                · have hF := if_e hF c_31
                  cases hF
  · have hF := it_e hF c_21
    refine lv_iconst (v := (-1 : Int32)) hx hb dX0_wheel_8 (by decide) ?_
    exact r_iret C hw hS hF dX0_wheel_9
abbrev rmX0_alter : Room := { frames := 6, cells := 0, slots := 0, locals := 171 }
noncomputable def F_X0_alter (N : Nat) (x1 : Int32) (x2 : Int32) (x3 : Int32) (σ : SS) : Option (Int32 × SS) :=
  bd (F_X0_isWheel N x1 σ) fun r_22 σ_23 =>
  if r_22 = (0 : Int32) then
    some ((-1 : Int32), σ_23)
  else
    bd (F_X0_canBe N x2 x3 σ_23) fun r_26 σ_27 =>
    if r_26 = (0 : Int32) then
      some ((-1 : Int32), σ_27)
    else
      bd (F_X0_wheel N x1 x2 σ_27) fun r_30 σ_31 =>
      gd (inR x1 4) <|
      nm (x1.toNatClampNeg) fun w_34 =>
      if (x2.toInt < 0 ∨ 2 < x2.toInt) then
        nm (si σ_31 (iS 0) (12 + w_34) x3) fun σ_36 =>
        some (r_30, σ_36)
      else
        if x2 = (0 : Int32) then
          nm (si σ_31 (iS 0) w_34 x3) fun σ_38 =>
          some (r_30, σ_38)
        else
          if x2 = (1 : Int32) then
            nm (si σ_31 (iS 0) (4 + w_34) x3) fun σ_40 =>
            some (r_30, σ_40)
          else
            if x2 = (2 : Int32) then
              nm (si σ_31 (iS 0) (8 + w_34) x3) fun σ_42 =>
              some (r_30, σ_42)
            else
              none
set_option maxRecDepth 100000 in
theorem met_X0_alter (l : Launch) (G : GG) (rd : Bool) (q : Nat → Nat) {N : Nat} {x1 : Int32} {x2 : Int32} {x3 : Int32} {σ σ' : SS} {r : Int32} (hF : F_X0_alter N x1 x2 x3 σ = some (r, σ')) : Met l yX0_alter (ws_ yX0_alter cX0_alter 6 (some .int)) rmX0_alter (pcx G rd q σ [.ref (q 0), .int x1, .int x2, .int x3]) (qxi G rd q σ' r) 0 0 (fa G) := by
  refine met_of (by decide) (Nat.le_of_ble_eq_true rfl) ?_
  intro p e s m below meth c C H locs ls hw hS hl
  obtain ⟨hx, hb, hml, hown, hts, -, -, -, -⟩ := id C
  have hl : lv_has ls 6 [(0, .ref (q 0)), (1, .int x1), (2, .int x2), (3, .int x3)] := hl
  unfold F_X0_alter at hF
  refine lv_aload_n hx hb dX0_alter_0 rfl (lv_at hl 0 rfl) ?_
  refine lv_iload_n hx hb dX0_alter_1 rfl (lv_at hl 1 rfl) ?_
  obtain ⟨r_22, σ_23, h_24, hF⟩ := bd_e hF
  refine r_callVi (As := [.int x1]) (rest := []) (i := 0) C hw hS (wi_lo (Or.inl (by decide))) rfl (ci := 0) rfl (met_X0_isWheel l G rd q  h_24) (cwV 1 hts (lw_V q552 q554 qs10 q57 q555) rfl rfl rfl (by decide +kernel) ⟨Nat.le_of_ble_eq_true rfl, Nat.le_of_ble_eq_true rfl⟩) rfl hl.1 rfl (Nat.le_of_ble_eq_true rfl) ⟨Nat.le_refl _, Nat.le_refl _⟩ dX0_alter_2 (fun H locs hw hS => ?_)
  refine lv_if_eq (tgt := 16) hx hb dX0_alter_5 (by decide) (fun c_25 => ?_) (fun c_25 => ?_)
  · have hF := it_e hF c_25
    refine lv_iconst (v := (-1 : Int32)) hx hb dX0_alter_16 (by decide) ?_
    exact r_iret C hw hS hF dX0_alter_17
  · have hF := if_e hF c_25
    refine lv_iload_n hx hb dX0_alter_8 rfl (lv_at hl 2 rfl) ?_
    refine lv_iload_n hx hb dX0_alter_9 rfl (lv_at hl 3 rfl) ?_
    obtain ⟨r_26, σ_27, h_28, hF⟩ := bd_e hF
    refine r_callSi (As := [.int x2, .int x3]) (rest := []) C hw hS (met_X0_canBe l G rd q  h_28) (cwS 2 hts (lw_S q599 q600 q57 q601) rfl rfl rfl (by decide +kernel) ⟨Nat.le_of_ble_eq_true rfl, Nat.le_of_ble_eq_true rfl⟩) rfl hl.1 rfl (Nat.le_of_ble_eq_true rfl) ⟨Nat.le_refl _, Nat.le_refl _⟩ dX0_alter_10 (fun H locs hw hS => ?_)
    refine lv_if_ne (tgt := 18) hx hb dX0_alter_13 (by decide) (fun c_29 => ?_) (fun c_29 => ?_)
    · have hF := if_e hF c_29
      refine lv_aload_n hx hb dX0_alter_18 rfl (lv_at hl 0 rfl) ?_
      refine lv_iload_n hx hb dX0_alter_19 rfl (lv_at hl 1 rfl) ?_
      refine lv_iload_n hx hb dX0_alter_20 rfl (lv_at hl 2 rfl) ?_
      obtain ⟨r_30, σ_31, h_32, hF⟩ := bd_e hF
      refine r_callVi (As := [.int x1, .int x2]) (rest := []) (i := 0) C hw hS (wi_lo (Or.inl (by decide))) rfl (ci := 0) rfl (met_X0_wheel l G rd q  h_32) (cwV 2 hts (lw_V q606 q549 q550 q57 q551) rfl rfl rfl (by decide +kernel) ⟨Nat.le_of_ble_eq_true rfl, Nat.le_of_ble_eq_true rfl⟩) rfl hl.1 rfl (Nat.le_of_ble_eq_true rfl) ⟨Nat.le_refl _, Nat.le_refl _⟩ dX0_alter_21 (fun H locs hw hS => ?_)
      refine lv_istore (lv' := [(4, .int r_30), (0, .ref (q 0)), (1, .int x1), (2, .int x2), (3, .int x3)]) hx hb dX0_alter_24 hl (by decide) rfl (fun ls hl => ?_)
      refine lv_aload_n hx hb dX0_alter_26 rfl (lv_at hl 1 rfl) ?_
      refine r_get0 C hw 1 (by decide) rfl (v := .ref (q (iS 0))) rfl q219 dX0_alter_27 ?_
      refine r_getSN C hw (okS_of (by decide)) 3 (by decide) rfl (v := .ref (q (iWA 0))) rfl 13 rfl dX0_alter_30 ?_
      refine lv_iload_n hx hb dX0_alter_33 rfl (lv_at hl 2 rfl) ?_
      obtain ⟨h_33, hF⟩ := gd_e hF
      obtain ⟨w_34, ew_34, hF⟩ := nm_e2 hF
      have hw_34 : w_34 < 4 := lt_of ew_34 (inR_lt h_33)
      refine r_aald (i := iWA 0) (t := 5) (n := 4) (g := (43 + 10 * 0)) (st := 1) C hw (wi_WA (okS_of (by decide))) (tm_WA _ _) rfl h_33 (ha_W ew_34) dX0_alter_34 ?_
      refine lv_astore (lv' := [(5, .ref (q (iW 0 w_34))), (4, .int r_30), (0, .ref (q 0)), (1, .int x1), (2, .int x2), (3, .int x3)]) hx hb dX0_alter_35 hl (by decide) rfl (fun ls hl => ?_)
      refine lv_iload_n hx hb dX0_alter_37 rfl (lv_at hl 4 rfl) ?_
      by_cases c_35 : (x2.toInt < 0 ∨ 2 < x2.toInt)
      · have hF := it_e hF c_35
        refine lv_tableOut (tgt := 91) hx hb dX0_alter_38 c_35 (by decide) ?_
        refine lv_aload hx hb dX0_alter_91 (lv_at hl 0 rfl) ?_
        refine lv_iload_n hx hb dX0_alter_93 rfl (lv_at hl 5 rfl) ?_
        obtain ⟨σ_36, eσ_36, hF⟩ := nm_e2 hF
        refine r_putWN C hw hS (okS_of (by decide)) hw_34 3 (by decide) rfl rfl (tyX6_ok 3 (by decide)) rfl rfl 7 rfl dX0_alter_94 eσ_36 (fun H locs hw hS => ?_)
        refine lv_iload hx hb dX0_alter_97 (lv_at hl 1 rfl) ?_
        exact r_iret C hw hS hF dX0_alter_99
      · have hF := if_e hF c_35
        by_cases c_37 : x2 = (0 : Int32)
        · have hF := it_e hF c_37
          refine r_tin (tgt := 64) hx hb dX0_alter_38 c_37 (by decide) (by decide) (by rfl) (by decide) ?_
          refine lv_aload hx hb dX0_alter_64 (lv_at hl 0 rfl) ?_
          refine lv_iload_n hx hb dX0_alter_66 rfl (lv_at hl 5 rfl) ?_
          obtain ⟨σ_38, eσ_38, hF⟩ := nm_e2 hF
          refine r_putWN C hw hS (okS_of (by decide)) hw_34 0 (by decide) rfl rfl (tyX6_ok 0 (by decide)) rfl rfl 1 rfl dX0_alter_67 eσ_38 (fun H locs hw hS => ?_)
          refine lv_goto (tgt := 97) hx hb dX0_alter_70 (by decide) ?_
          refine lv_iload hx hb dX0_alter_97 (lv_at hl 1 rfl) ?_
          exact r_iret C hw hS hF dX0_alter_99
        · have hF := if_e hF c_37
          by_cases c_39 : x2 = (1 : Int32)
          · have hF := it_e hF c_39
            refine r_tin (tgt := 73) hx hb dX0_alter_38 c_39 (by decide) (by decide) (by rfl) (by decide) ?_
            refine lv_aload hx hb dX0_alter_73 (lv_at hl 0 rfl) ?_
            refine lv_iload_n hx hb dX0_alter_75 rfl (lv_at hl 5 rfl) ?_
            obtain ⟨σ_40, eσ_40, hF⟩ := nm_e2 hF
            refine r_putWN C hw hS (okS_of (by decide)) hw_34 1 (by decide) rfl rfl (tyX6_ok 1 (by decide)) rfl rfl 3 rfl dX0_alter_76 eσ_40 (fun H locs hw hS => ?_)
            refine lv_goto (tgt := 97) hx hb dX0_alter_79 (by decide) ?_
            refine lv_iload hx hb dX0_alter_97 (lv_at hl 1 rfl) ?_
            exact r_iret C hw hS hF dX0_alter_99
          · have hF := if_e hF c_39
            by_cases c_41 : x2 = (2 : Int32)
            · have hF := it_e hF c_41
              refine r_tin (tgt := 82) hx hb dX0_alter_38 c_41 (by decide) (by decide) (by rfl) (by decide) ?_
              refine lv_aload hx hb dX0_alter_82 (lv_at hl 0 rfl) ?_
              refine lv_iload_n hx hb dX0_alter_84 rfl (lv_at hl 5 rfl) ?_
              obtain ⟨σ_42, eσ_42, hF⟩ := nm_e2 hF
              refine r_putWN C hw hS (okS_of (by decide)) hw_34 2 (by decide) rfl rfl (tyX6_ok 2 (by decide)) rfl rfl 5 rfl dX0_alter_85 eσ_42 (fun H locs hw hS => ?_)
              refine lv_goto (tgt := 97) hx hb dX0_alter_88 (by decide) ?_
              refine lv_iload hx hb dX0_alter_97 (lv_at hl 1 rfl) ?_
              exact r_iret C hw hS hF dX0_alter_99
            · have hF := if_e hF c_41
              cases hF
    · have hF := it_e hF c_29
      refine lv_iconst (v := (-1 : Int32)) hx hb dX0_alter_16 (by decide) ?_
      exact r_iret C hw hS hF dX0_alter_17
abbrev rmX0_isPart : Room := { frames := 2, cells := 0, slots := 0, locals := 85 }
noncomputable def F_X0_isPart (N : Nat) (x0 : Int32) (σ : SS) : Option (Int32 × SS) :=
  bd (F_X0_in N x0.toInt64 (0 : Int64) (1 : Int64) σ) fun r_5 σ_6 =>
  gd (r_5 = 0 ∨ r_5 = 1) <|
  some (r_5, σ_6)
set_option maxRecDepth 100000 in
theorem met_X0_isPart (l : Launch) (G : GG) (rd : Bool) (q : Nat → Nat) {N : Nat} {x0 : Int32} {σ σ' : SS} {r : Int32} (hF : F_X0_isPart N x0 σ = some (r, σ')) : Met l yX0_isPart (ws_ yX0_isPart cX0_isPart 1 (some .boolean)) rmX0_isPart (pcx G rd q σ [.int x0]) (qxi G rd q σ' r) 0 0 (fa G) := by
  refine met_of (by decide) (Nat.le_of_ble_eq_true rfl) ?_
  intro p e s m below meth c C H locs ls hw hS hl
  obtain ⟨hx, hb, hml, hown, hts, -, -, -, -⟩ := id C
  have hl : lv_has ls 1 [(0, .int x0)] := hl
  unfold F_X0_isPart at hF
  refine lv_iload_n hx hb dX0_isPart_0 rfl (lv_at hl 0 rfl) ?_
  refine lv_i2l hx hb dX0_isPart_1 rfl ?_
  refine lv_lconst (v := (0 : Int64)) hx hb dX0_isPart_2 (by decide) ?_
  refine lv_lconst (v := (1 : Int64)) hx hb dX0_isPart_3 (by decide) ?_
  obtain ⟨r_5, σ_6, h_7, hF⟩ := bd_e hF
  refine r_callSi (As := [.long x0.toInt64, .long (0 : Int64), .long (1 : Int64)]) (rest := []) C hw hS (met_X0_in l G rd q  h_7) (cwS 3 hts (lw_S q294 q295 q57 q296) rfl rfl rfl (by decide +kernel) ⟨Nat.le_of_ble_eq_true rfl, Nat.le_of_ble_eq_true rfl⟩) rfl hl.1 rfl (Nat.le_of_ble_eq_true rfl) ⟨Nat.le_refl _, Nat.le_refl _⟩ dX0_isPart_4 (fun H locs hw hS => ?_)
  obtain ⟨h_8, hF⟩ := gd_e hF
  exact r_zret C hw hS hF (nar_z h_8) dX0_isPart_7
abbrev rmX0_isSo : Room := { frames := 9, cells := 0, slots := 0, locals := 242 }
noncomputable def F_X0_isSo_133 (N : Nat) (K68 : Int32 → Int32 → SS → Option (Int32 × SS)) (x2 : Int32) (z0 : Int32) (σ : SS) : Option (Int32 × SS) :=
  nm (z0 &&& (0 : Int32)) fun x_25 =>
  nm (x2 + (1 : Int32)) fun x_26 =>
  K68 x_25 x_26 σ
set_option maxRecDepth 100000 in
theorem w_X0_isSo_133 {p : Program} {l : Launch} {e : Env} {s : State} {m : MethodId} {args : Array Value} {below : List Frame} {meth : Method} {c : Code} {G : GG} {rd : Bool} {q : Nat → Nat} {N : Nat} {r : Int32} {σ' : SS} (C : cx p s m args meth c cX0_isSo 4 RX0 (some .boolean) G) {K68 : Int32 → Int32 → SS → Option (Int32 × SS)} (HK68 : ∀ (x1 : Int32) (x2 : Int32) (σ : SS) (H : Heap) (locs : List Loc) (ls : Array Slot), K68 x1 x2 σ = some (r, σ') → wx G rd q σ H → va_S (fa G) s.heap H locs → lv_has ls 4 [(0, .ref (q 0)), (1, .int x1), (2, .int x2)] → W p l e rmX0_isSo s m args below meth c H locs 0 0 (MQ below (qxi G rd q σ' r) args s 0 0 (fa G)) (F0 m 68 ls [])) : ∀ (x2 : Int32) (z0 : Int32) (σ : SS) (H : Heap) (locs : List Loc) (ls : Array Slot), F_X0_isSo_133 N K68 x2 z0 σ = some (r, σ') → wx G rd q σ H → va_S (fa G) s.heap H locs → lv_has ls 4 [(0, .ref (q 0)), (2, .int x2)] → W p l e rmX0_isSo s m args below meth c H locs 0 0 (MQ below (qxi G rd q σ' r) args s 0 0 (fa G)) (F0 m 133 ls [.int z0]) := by
  obtain ⟨hx, hb, hml, hown, hts, -, -, -, -⟩ := id C
  intro x2 z0 σ H locs ls hF hw hS hl
  unfold F_X0_isSo_133 at hF
  refine lv_iconst (v := (0 : Int32)) hx hb dX0_isSo_133 (by decide) ?_
  refine lv_iand hx hb dX0_isSo_134 ?_
  obtain ⟨x_25, ex_25, hF⟩ := nm_e2 hF
  refine r_topi ex_25 ?_
  refine lv_istore_n (lv' := [(1, .int x_25), (0, .ref (q 0)), (2, .int x2)]) hx hb dX0_isSo_135 rfl hl (by decide) rfl (fun ls hl => ?_)
  obtain ⟨x_26, ex_26, hF⟩ := nm_e2 hF
  refine lv_iinc (v := x_26) (lv' := [(2, .int x_26), (1, .int x_25), (0, .ref (q 0))]) hx hb dX0_isSo_136 hl (k := 2) rfl (by rw [ex_26]; rfl) (by decide) rfl (fun ls hl => ?_)
  refine lv_goto (tgt := 68) hx hb dX0_isSo_139 (by decide) ?_
  exact HK68 _ _ _ _ _ _ hF hw hS (lv_sub hl [2, 1, 0] rfl)
noncomputable def B_X0_isSo_68 (N : Nat) (IH : Int32 → Int32 → SS → Option (Int32 × SS)) (x1 : Int32) (x2 : Int32) (σ : SS) : Option (Int32 × SS) :=
  if (gi σ 0 6) ≤ x2 then
    gd (x1 = 0 ∨ x1 = 1) <|
    some (x1, σ)
  else
    gd (inR (((3 : Int32) * x2) + (1 : Int32)) 18) <|
    nm (gi σ 4 (((3 : Int32) * x2) + (1 : Int32)).toNatClampNeg) fun x_30 =>
    if (gi σ (iS 0) 16) ≤ x_30 then
      F_X0_isSo_133 N IH x2 x1 σ
    else
      gd (inR ((3 : Int32) * x2) 18) <|
      gd (inR (((4 : Int32) * (gi σ 4 ((3 : Int32) * x2).toNatClampNeg)) + x_30) 164) <|
      gd (inR (((3 : Int32) * x2) + (2 : Int32)) 18) <|
      if (gi σ 5 (((4 : Int32) * (gi σ 4 ((3 : Int32) * x2).toNatClampNeg)) + x_30).toNatClampNeg) = (gi σ 4 (((3 : Int32) * x2) + (2 : Int32)).toNatClampNeg) then
        nm (x1 &&& (1 : Int32)) fun x_36 =>
        nm (x2 + (1 : Int32)) fun x_37 =>
        IH x_36 x_37 σ
      else
        F_X0_isSo_133 N IH x2 x1 σ
noncomputable def F_X0_isSo_68 (N : Nat) (n : Nat) : Int32 → Int32 → SS → Option (Int32 × SS) := Nat.rec (fun _ _ _ => none) (fun _ IH => B_X0_isSo_68 N IH) n
set_option maxRecDepth 100000 in
theorem w_X0_isSo_68 {p : Program} {l : Launch} {e : Env} {s : State} {m : MethodId} {args : Array Value} {below : List Frame} {meth : Method} {c : Code} {G : GG} {rd : Bool} {q : Nat → Nat} {N : Nat} {r : Int32} {σ' : SS} (C : cx p s m args meth c cX0_isSo 4 RX0 (some .boolean) G) : ∀ (n : Nat), ∀ (x1 : Int32) (x2 : Int32) (σ : SS) (H : Heap) (locs : List Loc) (ls : Array Slot), F_X0_isSo_68 N n x1 x2 σ = some (r, σ') → wx G rd q σ H → va_S (fa G) s.heap H locs → lv_has ls 4 [(0, .ref (q 0)), (1, .int x1), (2, .int x2)] → W p l e rmX0_isSo s m args below meth c H locs 0 0 (MQ below (qxi G rd q σ' r) args s 0 0 (fa G)) (F0 m 68 ls []) := by
  obtain ⟨hx, hb, hml, hown, hts, -, -, -, -⟩ := id C
  intro n
  induction n with
  | zero =>
    intro x1 x2 σ H locs ls hF hw hS hl
    cases hF
  | succ n ih =>
    intro x1 x2 σ H locs ls hF hw hS hl
    have hF : B_X0_isSo_68 N (F_X0_isSo_68 N n) x1 x2 σ = some (r, σ') := hF
    unfold B_X0_isSo_68 at hF
    refine lv_iload_n hx hb dX0_isSo_68 rfl (lv_at hl 2 rfl) ?_
    refine lv_aload_n hx hb dX0_isSo_69 rfl (lv_at hl 0 rfl) ?_
    refine r_get0 C hw 6 (by decide) rfl (v := .int (gi σ 0 6)) rfl q224 dX0_isSo_70 ?_
    refine lv_icmp_ge (tgt := 142) hx hb dX0_isSo_73 (by decide) (fun c_27 => ?_) (fun c_27 => ?_)
    · have hF := it_e hF c_27
      refine lv_iload_n hx hb dX0_isSo_142 rfl (lv_at hl 1 rfl) ?_
      obtain ⟨h_28, hF⟩ := gd_e hF
      exact r_zret C hw hS hF (nar_z h_28) dX0_isSo_143
    · have hF := if_e hF c_27
      refine lv_aload_n hx hb dX0_isSo_76 rfl (lv_at hl 0 rfl) ?_
      refine r_get0 C hw 5 (by decide) rfl (v := .ref (q 4)) rfl q223 dX0_isSo_77 ?_
      refine lv_iconst (v := (3 : Int32)) hx hb dX0_isSo_80 (by decide) ?_
      refine lv_iload_n hx hb dX0_isSo_81 rfl (lv_at hl 2 rfl) ?_
      refine lv_imul hx hb dX0_isSo_82 ?_
      refine lv_iconst (v := (1 : Int32)) hx hb dX0_isSo_83 (by decide) ?_
      refine lv_iadd hx hb dX0_isSo_84 ?_
      obtain ⟨h_29, hF⟩ := gd_e hF
      refine r_iald (i := 4) (n := 18) (g := 4) (st := 0) C hw (wi_lo (Or.inl (by decide))) rfl h_29 dX0_isSo_85 ?_
      obtain ⟨x_30, ex_30, hF⟩ := nm_e2 hF
      refine r_topi ex_30 ?_
      refine lv_istore_n (lv' := [(3, .int x_30), (0, .ref (q 0)), (1, .int x1), (2, .int x2)]) hx hb dX0_isSo_86 rfl hl (by decide) rfl (fun ls hl => ?_)
      refine lv_iload_n hx hb dX0_isSo_87 rfl (lv_at hl 2 rfl) ?_
      refine lv_iload_n hx hb dX0_isSo_88 rfl (lv_at hl 0 rfl) ?_
      refine lv_aload_n hx hb dX0_isSo_89 rfl (lv_at hl 1 rfl) ?_
      refine r_get0 C hw 1 (by decide) rfl (v := .ref (q (iS 0))) rfl q219 dX0_isSo_90 ?_
      refine r_getSN C hw (okS_of (by decide)) 2 (by decide) rfl (v := .int (gi σ (iS 0) 16)) rfl 11 rfl dX0_isSo_93 ?_
      refine lv_icmp_ge (tgt := 133) hx hb dX0_isSo_96 (by decide) (fun c_31 => ?_) (fun c_31 => ?_)
      · have hF := it_e hF c_31
        exact w_X0_isSo_133 C  ih _ _ _ _ _ _ hF hw hS (lv_sub hl [1, 3] rfl)
      · have hF := if_e hF c_31
        refine lv_aload_n hx hb dX0_isSo_99 rfl (lv_at hl 1 rfl) ?_
        refine r_get0 C hw 19 (by decide) rfl (v := .ref (q 5)) rfl q238 dX0_isSo_100 ?_
        refine lv_iconst (v := (4 : Int32)) hx hb dX0_isSo_103 (by decide) ?_
        refine lv_aload_n hx hb dX0_isSo_104 rfl (lv_at hl 1 rfl) ?_
        refine r_get0 C hw 5 (by decide) rfl (v := .ref (q 4)) rfl q223 dX0_isSo_105 ?_
        refine lv_iconst (v := (3 : Int32)) hx hb dX0_isSo_108 (by decide) ?_
        refine lv_iload_n hx hb dX0_isSo_109 rfl (lv_at hl 3 rfl) ?_
        refine lv_imul hx hb dX0_isSo_110 ?_
        obtain ⟨h_32, hF⟩ := gd_e hF
        refine r_iald (i := 4) (n := 18) (g := 4) (st := 0) C hw (wi_lo (Or.inl (by decide))) rfl h_32 dX0_isSo_111 ?_
        refine lv_imul hx hb dX0_isSo_112 ?_
        refine lv_iload_n hx hb dX0_isSo_113 rfl (lv_at hl 0 rfl) ?_
        refine lv_iadd hx hb dX0_isSo_114 ?_
        obtain ⟨h_33, hF⟩ := gd_e hF
        refine r_iald (i := 5) (n := 164) (g := 5) (st := 0) C hw (wi_lo (Or.inl (by decide))) rfl h_33 dX0_isSo_115 ?_
        refine lv_aload_n hx hb dX0_isSo_116 rfl (lv_at hl 1 rfl) ?_
        refine r_get0 C hw 5 (by decide) rfl (v := .ref (q 4)) rfl q223 dX0_isSo_117 ?_
        refine lv_iconst (v := (3 : Int32)) hx hb dX0_isSo_120 (by decide) ?_
        refine lv_iload_n hx hb dX0_isSo_121 rfl (lv_at hl 3 rfl) ?_
        refine lv_imul hx hb dX0_isSo_122 ?_
        refine lv_iconst (v := (2 : Int32)) hx hb dX0_isSo_123 (by decide) ?_
        refine lv_iadd hx hb dX0_isSo_124 ?_
        obtain ⟨h_34, hF⟩ := gd_e hF
        refine r_iald (i := 4) (n := 18) (g := 4) (st := 0) C hw (wi_lo (Or.inl (by decide))) rfl h_34 dX0_isSo_125 ?_
        refine lv_icmp_ne (tgt := 133) hx hb dX0_isSo_126 (by decide) (fun c_35 => ?_) (fun c_35 => ?_)
        · have hF := if_e hF c_35
          exact w_X0_isSo_133 C  ih _ _ _ _ _ _ hF hw hS (lv_sub hl [1, 3] rfl)
        · have hF := it_e hF c_35
          refine lv_iconst (v := (1 : Int32)) hx hb dX0_isSo_129 (by decide) ?_
          refine lv_goto (tgt := 134) hx hb dX0_isSo_130 (by decide) ?_
          refine lv_iand hx hb dX0_isSo_134 ?_
          obtain ⟨x_36, ex_36, hF⟩ := nm_e2 hF
          refine r_topi ex_36 ?_
          refine lv_istore_n (lv' := [(1, .int x_36), (3, .int x_30), (0, .ref (q 0)), (2, .int x2)]) hx hb dX0_isSo_135 rfl hl (by decide) rfl (fun ls hl => ?_)
          obtain ⟨x_37, ex_37, hF⟩ := nm_e2 hF
          refine lv_iinc (v := x_37) (lv' := [(2, .int x_37), (1, .int x_36), (3, .int x_30), (0, .ref (q 0))]) hx hb dX0_isSo_136 hl (k := 3) rfl (by rw [ex_37]; rfl) (by decide) rfl (fun ls hl => ?_)
          refine lv_goto (tgt := 68) hx hb dX0_isSo_139 (by decide) ?_
          exact ih _ _ _ _ _ _ hF hw hS (lv_sub hl [3, 1, 0] rfl)
noncomputable def B_X0_isSo_10 (N : Nat) (K2 : Int32 → SS → Option (Int32 × SS)) (IH : Int32 → Int32 → SS → Option (Int32 × SS)) (x1 : Int32) (x2 : Int32) (σ : SS) : Option (Int32 × SS) :=
  if (gi σ (iS 0) 16) ≤ x2 then
    bd (F_X0_tickGoes N 1 (0 : Int32) σ) fun r_39 σ_40 =>
    nm (x1 + (1 : Int32)) fun x_42 =>
    K2 x_42 σ_40
  else
    gd (inR x2 4) <|
    nm (x2.toNatClampNeg) fun w_44 =>
    gd (inR (((4 : Int32) * x1) + x2) 164) <|
    nm (si σ 5 (((4 : Int32) * x1) + x2).toNatClampNeg (gi σ (iS 1) (12 + w_44))) fun σ_46 =>
    nm (x2 + (1 : Int32)) fun x_47 =>
    IH x1 x_47 σ_46
noncomputable def F_X0_isSo_10 (N : Nat) (K2 : Int32 → SS → Option (Int32 × SS)) (n : Nat) : Int32 → Int32 → SS → Option (Int32 × SS) := Nat.rec (fun _ _ _ => none) (fun _ IH => B_X0_isSo_10 N K2 IH) n
set_option maxRecDepth 100000 in
theorem w_X0_isSo_10 {p : Program} {l : Launch} {e : Env} {s : State} {m : MethodId} {args : Array Value} {below : List Frame} {meth : Method} {c : Code} {G : GG} {rd : Bool} {q : Nat → Nat} {N : Nat} {r : Int32} {σ' : SS} (C : cx p s m args meth c cX0_isSo 4 RX0 (some .boolean) G) {K2 : Int32 → SS → Option (Int32 × SS)} (HK2 : ∀ (x1 : Int32) (σ : SS) (H : Heap) (locs : List Loc) (ls : Array Slot), K2 x1 σ = some (r, σ') → wx G rd q σ H → va_S (fa G) s.heap H locs → lv_has ls 4 [(0, .ref (q 0)), (1, .int x1)] → W p l e rmX0_isSo s m args below meth c H locs 0 0 (MQ below (qxi G rd q σ' r) args s 0 0 (fa G)) (F0 m 2 ls [])) : ∀ (n : Nat), ∀ (x1 : Int32) (x2 : Int32) (σ : SS) (H : Heap) (locs : List Loc) (ls : Array Slot), F_X0_isSo_10 N K2 n x1 x2 σ = some (r, σ') → wx G rd q σ H → va_S (fa G) s.heap H locs → lv_has ls 4 [(0, .ref (q 0)), (1, .int x1), (2, .int x2)] → W p l e rmX0_isSo s m args below meth c H locs 0 0 (MQ below (qxi G rd q σ' r) args s 0 0 (fa G)) (F0 m 10 ls []) := by
  obtain ⟨hx, hb, hml, hown, hts, -, -, -, -⟩ := id C
  intro n
  induction n with
  | zero =>
    intro x1 x2 σ H locs ls hF hw hS hl
    cases hF
  | succ n ih =>
    intro x1 x2 σ H locs ls hF hw hS hl
    have hF : B_X0_isSo_10 N K2 (F_X0_isSo_10 N K2 n) x1 x2 σ = some (r, σ') := hF
    unfold B_X0_isSo_10 at hF
    refine lv_iload_n hx hb dX0_isSo_10 rfl (lv_at hl 2 rfl) ?_
    refine lv_aload_n hx hb dX0_isSo_11 rfl (lv_at hl 0 rfl) ?_
    refine r_get0 C hw 1 (by decide) rfl (v := .ref (q (iS 0))) rfl q219 dX0_isSo_12 ?_
    refine r_getSN C hw (okS_of (by decide)) 2 (by decide) rfl (v := .int (gi σ (iS 0) 16)) rfl 11 rfl dX0_isSo_15 ?_
    refine lv_icmp_ge (tgt := 49) hx hb dX0_isSo_18 (by decide) (fun c_38 => ?_) (fun c_38 => ?_)
    · have hF := it_e hF c_38
      refine lv_aload_n hx hb dX0_isSo_49 rfl (lv_at hl 0 rfl) ?_
      refine lv_aload_n hx hb dX0_isSo_50 rfl (lv_at hl 0 rfl) ?_
      refine r_get0 C hw 2 (by decide) rfl (v := .ref (q (iS 1))) rfl q220 dX0_isSo_51 ?_
      refine lv_iconst (v := (0 : Int32)) hx hb dX0_isSo_54 (by decide) ?_
      obtain ⟨r_39, σ_40, h_41, hF⟩ := bd_e hF
      refine r_callVv (As := [.ref (q (iS 1)), .int (0 : Int32)]) (rest := []) (i := 0) C hw hS (wi_lo (Or.inl (by decide))) rfl (ci := 0) rfl (met_X0_tickGoes l G rd q (okS_of (by decide)) h_41) (cwV 2 hts (lw_V q666 q668 qs18 q57 q669) rfl rfl rfl (by decide +kernel) ⟨Nat.le_of_ble_eq_true rfl, Nat.le_of_ble_eq_true rfl⟩) rfl hl.1 rfl (Nat.le_of_ble_eq_true rfl) ⟨Nat.le_refl _, Nat.le_refl _⟩ dX0_isSo_55 (fun H locs hw hS => ?_)
      obtain ⟨x_42, ex_42, hF⟩ := nm_e2 hF
      refine lv_iinc (v := x_42) (lv' := [(1, .int x_42), (0, .ref (q 0)), (2, .int x2)]) hx hb dX0_isSo_58 hl (k := 1) rfl (by rw [ex_42]; rfl) (by decide) rfl (fun ls hl => ?_)
      refine lv_goto (tgt := 2) hx hb dX0_isSo_61 (by decide) ?_
      exact HK2 _ _ _ _ _ hF hw hS (lv_sub hl [1, 0] rfl)
    · have hF := if_e hF c_38
      refine lv_aload_n hx hb dX0_isSo_21 rfl (lv_at hl 0 rfl) ?_
      refine r_get0 C hw 19 (by decide) rfl (v := .ref (q 5)) rfl q238 dX0_isSo_22 ?_
      refine lv_iconst (v := (4 : Int32)) hx hb dX0_isSo_25 (by decide) ?_
      refine lv_iload_n hx hb dX0_isSo_26 rfl (lv_at hl 1 rfl) ?_
      refine lv_imul hx hb dX0_isSo_27 ?_
      refine lv_iload_n hx hb dX0_isSo_28 rfl (lv_at hl 2 rfl) ?_
      refine lv_iadd hx hb dX0_isSo_29 ?_
      refine lv_aload_n hx hb dX0_isSo_30 rfl (lv_at hl 0 rfl) ?_
      refine r_get0 C hw 2 (by decide) rfl (v := .ref (q (iS 1))) rfl q220 dX0_isSo_31 ?_
      refine r_getSN C hw (okS_of (by decide)) 3 (by decide) rfl (v := .ref (q (iWA 1))) rfl 13 rfl dX0_isSo_34 ?_
      refine lv_iload_n hx hb dX0_isSo_37 rfl (lv_at hl 2 rfl) ?_
      obtain ⟨h_43, hF⟩ := gd_e hF
      obtain ⟨w_44, ew_44, hF⟩ := nm_e2 hF
      have hw_44 : w_44 < 4 := lt_of ew_44 (inR_lt h_43)
      refine r_aald (i := iWA 1) (t := 5) (n := 4) (g := (43 + 10 * 1)) (st := 1) C hw (wi_WA (okS_of (by decide))) (tm_WA _ _) rfl h_43 (ha_W ew_44) dX0_isSo_38 ?_
      refine r_getWN C hw (okS_of (by decide)) hw_44 3 (by decide) rfl (v := .int (gi σ (iS 1) (12 + w_44))) rfl 7 rfl dX0_isSo_39 ?_
      obtain ⟨h_45, hF⟩ := gd_e hF
      obtain ⟨σ_46, eσ_46, hF⟩ := nm_e2 hF
      refine r_iast (i := 5) (n := 164) (g := 5) (st := 0) C hw hS (wi_lo (Or.inl (by decide))) rfl (fun _ => ho_lo (by decide)) h_45 dX0_isSo_42 eσ_46 (fun H locs hw hS => ?_)
      obtain ⟨x_47, ex_47, hF⟩ := nm_e2 hF
      refine lv_iinc (v := x_47) (lv' := [(2, .int x_47), (0, .ref (q 0)), (1, .int x1)]) hx hb dX0_isSo_43 hl (k := 2) rfl (by rw [ex_47]; rfl) (by decide) rfl (fun ls hl => ?_)
      refine lv_goto (tgt := 10) hx hb dX0_isSo_46 (by decide) ?_
      exact ih _ _ _ _ _ _ hF hw hS (lv_sub hl [1, 2, 0] rfl)
noncomputable def B_X0_isSo_2 (N : Nat) (IH : Int32 → SS → Option (Int32 × SS)) (x1 : Int32) (σ : SS) : Option (Int32 × SS) :=
  if (40 : Int32) < x1 then
    F_X0_isSo_68 N N (1 : Int32) (0 : Int32) σ
  else
    F_X0_isSo_10 N IH N x1 (0 : Int32) σ
noncomputable def F_X0_isSo_2 (N : Nat) (n : Nat) : Int32 → SS → Option (Int32 × SS) := Nat.rec (fun _ _ => none) (fun _ IH => B_X0_isSo_2 N IH) n
set_option maxRecDepth 100000 in
theorem w_X0_isSo_2 {p : Program} {l : Launch} {e : Env} {s : State} {m : MethodId} {args : Array Value} {below : List Frame} {meth : Method} {c : Code} {G : GG} {rd : Bool} {q : Nat → Nat} {N : Nat} {r : Int32} {σ' : SS} (C : cx p s m args meth c cX0_isSo 4 RX0 (some .boolean) G) : ∀ (n : Nat), ∀ (x1 : Int32) (σ : SS) (H : Heap) (locs : List Loc) (ls : Array Slot), F_X0_isSo_2 N n x1 σ = some (r, σ') → wx G rd q σ H → va_S (fa G) s.heap H locs → lv_has ls 4 [(0, .ref (q 0)), (1, .int x1)] → W p l e rmX0_isSo s m args below meth c H locs 0 0 (MQ below (qxi G rd q σ' r) args s 0 0 (fa G)) (F0 m 2 ls []) := by
  obtain ⟨hx, hb, hml, hown, hts, -, -, -, -⟩ := id C
  intro n
  induction n with
  | zero =>
    intro x1 σ H locs ls hF hw hS hl
    cases hF
  | succ n ih =>
    intro x1 σ H locs ls hF hw hS hl
    have hF : B_X0_isSo_2 N (F_X0_isSo_2 N n) x1 σ = some (r, σ') := hF
    unfold B_X0_isSo_2 at hF
    refine lv_iload_n hx hb dX0_isSo_2 rfl (lv_at hl 1 rfl) ?_
    refine lv_bipush (v := (40 : Int32)) hx hb dX0_isSo_3 (by decide) ?_
    refine lv_icmp_gt (tgt := 64) hx hb dX0_isSo_5 (by decide) (fun c_48 => ?_) (fun c_48 => ?_)
    · have hF := it_e hF c_48
      refine lv_iconst (v := (1 : Int32)) hx hb dX0_isSo_64 (by decide) ?_
      refine lv_istore_n (lv' := [(1, .int (1 : Int32)), (0, .ref (q 0))]) hx hb dX0_isSo_65 rfl hl (by decide) rfl (fun ls hl => ?_)
      refine lv_iconst (v := (0 : Int32)) hx hb dX0_isSo_66 (by decide) ?_
      refine lv_istore_n (lv' := [(2, .int (0 : Int32)), (1, .int (1 : Int32)), (0, .ref (q 0))]) hx hb dX0_isSo_67 rfl hl (by decide) rfl (fun ls hl => ?_)
      exact w_X0_isSo_68 C   N _ _ _ _ _ _ hF hw hS (lv_sub hl [2, 1, 0] rfl)
    · have hF := if_e hF c_48
      refine lv_iconst (v := (0 : Int32)) hx hb dX0_isSo_8 (by decide) ?_
      refine lv_istore_n (lv' := [(2, .int (0 : Int32)), (0, .ref (q 0)), (1, .int x1)]) hx hb dX0_isSo_9 rfl hl (by decide) rfl (fun ls hl => ?_)
      exact w_X0_isSo_10 C  ih N _ _ _ _ _ _ hF hw hS (lv_sub hl [1, 2, 0] rfl)
noncomputable def F_X0_isSo (N : Nat)  (σ : SS) : Option (Int32 × SS) :=
  F_X0_isSo_2 N N (0 : Int32) σ
set_option maxRecDepth 100000 in
theorem met_X0_isSo (l : Launch) (G : GG) (rd : Bool) (q : Nat → Nat) {N : Nat} {σ σ' : SS} {r : Int32} (hF : F_X0_isSo N  σ = some (r, σ')) : Met l yX0_isSo (ws_ yX0_isSo cX0_isSo 4 (some .boolean)) rmX0_isSo (pcx G rd q σ [.ref (q 0)]) (qxi G rd q σ' r) 0 0 (fa G) := by
  refine met_of (by decide) (Nat.le_of_ble_eq_true rfl) ?_
  intro p e s m below meth c C H locs ls hw hS hl
  obtain ⟨hx, hb, hml, hown, hts, -, -, -, -⟩ := id C
  have hl : lv_has ls 4 [(0, .ref (q 0))] := hl
  unfold F_X0_isSo at hF
  refine lv_iconst (v := (0 : Int32)) hx hb dX0_isSo_0 (by decide) ?_
  refine lv_istore_n (lv' := [(1, .int (0 : Int32)), (0, .ref (q 0))]) hx hb dX0_isSo_1 rfl hl (by decide) rfl (fun ls hl => ?_)
  exact w_X0_isSo_2 C   N _ _ _ _ _ hF hw hS (lv_sub hl [1, 0] rfl)
abbrev rmX0_isLossSo : Room := { frames := 10, cells := 0, slots := 0, locals := 265 }
noncomputable def F_X0_isLossSo (N : Nat) (x1 : Int32) (x2 : Int32) (σ : SS) : Option (Int32 × SS) :=
  bd (F_X5_as N 1 0 σ) fun r_11 σ_12 =>
  gd (inR x1 4) <|
  nm (x1.toNatClampNeg) fun w_15 =>
  nm (si σ_12 (iS 1) (8 + w_15) x2) fun σ_16 =>
  bd (F_X0_isSo N σ_16) fun r_17 σ_18 =>
  gd (r_17 = 0 ∨ r_17 = 1) <|
  some (r_17, σ_18)
set_option maxRecDepth 100000 in
theorem met_X0_isLossSo (l : Launch) (G : GG) (rd : Bool) (q : Nat → Nat) {N : Nat} {x1 : Int32} {x2 : Int32} {σ σ' : SS} {r : Int32} (hF : F_X0_isLossSo N x1 x2 σ = some (r, σ')) : Met l yX0_isLossSo (ws_ yX0_isLossSo cX0_isLossSo 3 (some .boolean)) rmX0_isLossSo (pcx G rd q σ [.ref (q 0), .int x1, .int x2]) (qxi G rd q σ' r) 0 0 (fa G) := by
  refine met_of (by decide) (Nat.le_of_ble_eq_true rfl) ?_
  intro p e s m below meth c C H locs ls hw hS hl
  obtain ⟨hx, hb, hml, hown, hts, -, -, -, -⟩ := id C
  have hl : lv_has ls 3 [(0, .ref (q 0)), (1, .int x1), (2, .int x2)] := hl
  unfold F_X0_isLossSo at hF
  refine lv_aload_n hx hb dX0_isLossSo_0 rfl (lv_at hl 0 rfl) ?_
  refine r_get0 C hw 2 (by decide) rfl (v := .ref (q (iS 1))) rfl q220 dX0_isLossSo_1 ?_
  refine lv_aload_n hx hb dX0_isLossSo_4 rfl (lv_at hl 0 rfl) ?_
  refine r_get0 C hw 1 (by decide) rfl (v := .ref (q (iS 0))) rfl q219 dX0_isLossSo_5 ?_
  obtain ⟨r_11, σ_12, h_13, hF⟩ := bd_e hF
  refine r_callVv (As := [.ref (q (iS 0))]) (rest := []) (i := iS 1) C hw hS (wi_S (okS_of (by decide))) (tm_S _ _) (ci := 5) rfl (met_X5_as l G rd q (okS_of (by decide)) (okS_of (by decide)) h_13) (cwV 1 hts (lw_V q521 q522 q523 q62 q524) rfl rfl rfl (by decide +kernel) ⟨Nat.le_of_ble_eq_true rfl, Nat.le_of_ble_eq_true rfl⟩) rfl hl.1 rfl (Nat.le_of_ble_eq_true rfl) ⟨Nat.le_refl _, Nat.le_refl _⟩ dX0_isLossSo_8 (fun H locs hw hS => ?_)
  refine lv_aload_n hx hb dX0_isLossSo_11 rfl (lv_at hl 0 rfl) ?_
  refine r_get0 C hw 2 (by decide) rfl (v := .ref (q (iS 1))) rfl q220 dX0_isLossSo_12 ?_
  refine r_getSN C hw (okS_of (by decide)) 3 (by decide) rfl (v := .ref (q (iWA 1))) rfl 13 rfl dX0_isLossSo_15 ?_
  refine lv_iload_n hx hb dX0_isLossSo_18 rfl (lv_at hl 1 rfl) ?_
  obtain ⟨h_14, hF⟩ := gd_e hF
  obtain ⟨w_15, ew_15, hF⟩ := nm_e2 hF
  have hw_15 : w_15 < 4 := lt_of ew_15 (inR_lt h_14)
  refine r_aald (i := iWA 1) (t := 5) (n := 4) (g := (43 + 10 * 1)) (st := 1) C hw (wi_WA (okS_of (by decide))) (tm_WA _ _) rfl h_14 (ha_W ew_15) dX0_isLossSo_19 ?_
  refine lv_iload_n hx hb dX0_isLossSo_20 rfl (lv_at hl 2 rfl) ?_
  obtain ⟨σ_16, eσ_16, hF⟩ := nm_e2 hF
  refine r_putWN C hw hS (okS_of (by decide)) hw_15 2 (by decide) rfl rfl (tyX6_ok 2 (by decide)) rfl rfl 5 rfl dX0_isLossSo_21 eσ_16 (fun H locs hw hS => ?_)
  refine lv_aload_n hx hb dX0_isLossSo_24 rfl (lv_at hl 0 rfl) ?_
  obtain ⟨r_17, σ_18, h_19, hF⟩ := bd_e hF
  refine r_callVi (As := []) (rest := []) (i := 0) C hw hS (wi_lo (Or.inl (by decide))) rfl (ci := 0) rfl (met_X0_isSo l G rd q  h_19) (cwV 0 hts (lw_V q787 q789 qs26 q57 q790) rfl rfl rfl (by decide +kernel) ⟨Nat.le_of_ble_eq_true rfl, Nat.le_of_ble_eq_true rfl⟩) rfl hl.1 rfl (Nat.le_of_ble_eq_true rfl) ⟨Nat.le_refl _, Nat.le_refl _⟩ dX0_isLossSo_25 (fun H locs hw hS => ?_)
  obtain ⟨h_20, hF⟩ := gd_e hF
  exact r_zret C hw hS hF (nar_z h_20) dX0_isLossSo_28
abbrev rmX0_findLosses : Room := { frames := 11, cells := 0, slots := 0, locals := 287 }
noncomputable def B_X0_findLosses_22 (N : Nat) (K4 : Int32 → Int32 → Int32 → SS → Option (Int32 × SS)) (IH : Int32 → Int32 → Int32 → Int32 → SS → Option (Int32 × SS)) (x1 : Int32) (x2 : Int32) (x3 : Int32) (x4 : Int32) (σ : SS) : Option (Int32 × SS) :=
  if (40 : Int32) < x4 then
    nm (x2 + (1 : Int32)) fun x_15 =>
    nm (x3 + (1 : Int32)) fun x_16 =>
    K4 x1 x_15 x_16 σ
  else
    gd (inR (((4 : Int32) * x4) + x1) 164) <|
    gd (inR (((41 : Int32) * x2) + x4) 410) <|
    nm (si σ 6 (((41 : Int32) * x2) + x4).toNatClampNeg (gi σ 5 (((4 : Int32) * x4) + x1).toNatClampNeg)) fun σ_19 =>
    nm (x4 + (1 : Int32)) fun x_20 =>
    IH x1 x2 x3 x_20 σ_19
noncomputable def F_X0_findLosses_22 (N : Nat) (K4 : Int32 → Int32 → Int32 → SS → Option (Int32 × SS)) (n : Nat) : Int32 → Int32 → Int32 → Int32 → SS → Option (Int32 × SS) := Nat.rec (fun _ _ _ _ _ => none) (fun _ IH => B_X0_findLosses_22 N K4 IH) n
set_option maxRecDepth 100000 in
theorem w_X0_findLosses_22 {p : Program} {l : Launch} {e : Env} {s : State} {m : MethodId} {args : Array Value} {below : List Frame} {meth : Method} {c : Code} {G : GG} {rd : Bool} {q : Nat → Nat} {N : Nat} {r : Int32} {σ' : SS} (C : cx p s m args meth c cX0_findLosses 5 RX0 (some .int) G) {K4 : Int32 → Int32 → Int32 → SS → Option (Int32 × SS)} (HK4 : ∀ (x1 : Int32) (x2 : Int32) (x3 : Int32) (σ : SS) (H : Heap) (locs : List Loc) (ls : Array Slot), K4 x1 x2 x3 σ = some (r, σ') → wx G rd q σ H → va_S (fa G) s.heap H locs → lv_has ls 5 [(0, .ref (q 0)), (1, .int x1), (2, .int x2), (3, .int x3)] → W p l e rmX0_findLosses s m args below meth c H locs 0 0 (MQ below (qxi G rd q σ' r) args s 0 0 (fa G)) (F0 m 4 ls [])) : ∀ (n : Nat), ∀ (x1 : Int32) (x2 : Int32) (x3 : Int32) (x4 : Int32) (σ : SS) (H : Heap) (locs : List Loc) (ls : Array Slot), F_X0_findLosses_22 N K4 n x1 x2 x3 x4 σ = some (r, σ') → wx G rd q σ H → va_S (fa G) s.heap H locs → lv_has ls 5 [(0, .ref (q 0)), (1, .int x1), (2, .int x2), (3, .int x3), (4, .int x4)] → W p l e rmX0_findLosses s m args below meth c H locs 0 0 (MQ below (qxi G rd q σ' r) args s 0 0 (fa G)) (F0 m 22 ls []) := by
  obtain ⟨hx, hb, hml, hown, hts, -, -, -, -⟩ := id C
  intro n
  induction n with
  | zero =>
    intro x1 x2 x3 x4 σ H locs ls hF hw hS hl
    cases hF
  | succ n ih =>
    intro x1 x2 x3 x4 σ H locs ls hF hw hS hl
    have hF : B_X0_findLosses_22 N K4 (F_X0_findLosses_22 N K4 n) x1 x2 x3 x4 σ = some (r, σ') := hF
    unfold B_X0_findLosses_22 at hF
    refine lv_iload hx hb dX0_findLosses_22 (lv_at hl 4 rfl) ?_
    refine lv_bipush (v := (40 : Int32)) hx hb dX0_findLosses_24 (by decide) ?_
    refine lv_icmp_gt (tgt := 58) hx hb dX0_findLosses_26 (by decide) (fun c_14 => ?_) (fun c_14 => ?_)
    · have hF := it_e hF c_14
      obtain ⟨x_15, ex_15, hF⟩ := nm_e2 hF
      refine lv_iinc (v := x_15) (lv' := [(2, .int x_15), (0, .ref (q 0)), (1, .int x1), (3, .int x3), (4, .int x4)]) hx hb dX0_findLosses_58 hl (k := 2) rfl (by rw [ex_15]; rfl) (by decide) rfl (fun ls hl => ?_)
      obtain ⟨x_16, ex_16, hF⟩ := nm_e2 hF
      refine lv_iinc (v := x_16) (lv' := [(3, .int x_16), (2, .int x_15), (0, .ref (q 0)), (1, .int x1), (4, .int x4)]) hx hb dX0_findLosses_61 hl (k := 3) rfl (by rw [ex_16]; rfl) (by decide) rfl (fun ls hl => ?_)
      refine lv_goto (tgt := 4) hx hb dX0_findLosses_64 (by decide) ?_
      exact HK4 _ _ _ _ _ _ _ hF hw hS (lv_sub hl [2, 3, 1, 0] rfl)
    · have hF := if_e hF c_14
      refine lv_aload_n hx hb dX0_findLosses_29 rfl (lv_at hl 0 rfl) ?_
      refine r_get0 C hw 20 (by decide) rfl (v := .ref (q 6)) rfl q239 dX0_findLosses_30 ?_
      refine lv_bipush (v := (41 : Int32)) hx hb dX0_findLosses_33 (by decide) ?_
      refine lv_iload_n hx hb dX0_findLosses_35 rfl (lv_at hl 2 rfl) ?_
      refine lv_imul hx hb dX0_findLosses_36 ?_
      refine lv_iload hx hb dX0_findLosses_37 (lv_at hl 4 rfl) ?_
      refine lv_iadd hx hb dX0_findLosses_39 ?_
      refine lv_aload_n hx hb dX0_findLosses_40 rfl (lv_at hl 0 rfl) ?_
      refine r_get0 C hw 19 (by decide) rfl (v := .ref (q 5)) rfl q238 dX0_findLosses_41 ?_
      refine lv_iconst (v := (4 : Int32)) hx hb dX0_findLosses_44 (by decide) ?_
      refine lv_iload hx hb dX0_findLosses_45 (lv_at hl 4 rfl) ?_
      refine lv_imul hx hb dX0_findLosses_47 ?_
      refine lv_iload_n hx hb dX0_findLosses_48 rfl (lv_at hl 1 rfl) ?_
      refine lv_iadd hx hb dX0_findLosses_49 ?_
      obtain ⟨h_17, hF⟩ := gd_e hF
      refine r_iald (i := 5) (n := 164) (g := 5) (st := 0) C hw (wi_lo (Or.inl (by decide))) rfl h_17 dX0_findLosses_50 ?_
      obtain ⟨h_18, hF⟩ := gd_e hF
      obtain ⟨σ_19, eσ_19, hF⟩ := nm_e2 hF
      refine r_iast (i := 6) (n := 410) (g := 6) (st := 0) C hw hS (wi_lo (Or.inl (by decide))) rfl (fun _ => ho_lo (by decide)) h_18 dX0_findLosses_51 eσ_19 (fun H locs hw hS => ?_)
      obtain ⟨x_20, ex_20, hF⟩ := nm_e2 hF
      refine lv_iinc (v := x_20) (lv' := [(4, .int x_20), (0, .ref (q 0)), (1, .int x1), (2, .int x2), (3, .int x3)]) hx hb dX0_findLosses_52 hl (k := 4) rfl (by rw [ex_20]; rfl) (by decide) rfl (fun ls hl => ?_)
      refine lv_goto (tgt := 22) hx hb dX0_findLosses_55 (by decide) ?_
      exact ih _ _ _ _ _ _ _ _ hF hw hS (lv_sub hl [1, 2, 3, 4, 0] rfl)
noncomputable def B_X0_findLosses_4 (N : Nat) (IH : Int32 → Int32 → Int32 → SS → Option (Int32 × SS)) (x1 : Int32) (x2 : Int32) (x3 : Int32) (σ : SS) : Option (Int32 × SS) :=
  if (9 : Int32) < x3 then
    some (x2, σ)
  else
    bd (F_X0_isLossSo N x1 x3 σ) fun r_22 σ_23 =>
    if r_22 = (0 : Int32) then
      nm (x3 + (1 : Int32)) fun x_26 =>
      IH x1 x2 x_26 σ_23
    else
      F_X0_findLosses_22 N IH N x1 x2 x3 (0 : Int32) σ_23
noncomputable def F_X0_findLosses_4 (N : Nat) (n : Nat) : Int32 → Int32 → Int32 → SS → Option (Int32 × SS) := Nat.rec (fun _ _ _ _ => none) (fun _ IH => B_X0_findLosses_4 N IH) n
set_option maxRecDepth 100000 in
theorem w_X0_findLosses_4 {p : Program} {l : Launch} {e : Env} {s : State} {m : MethodId} {args : Array Value} {below : List Frame} {meth : Method} {c : Code} {G : GG} {rd : Bool} {q : Nat → Nat} {N : Nat} {r : Int32} {σ' : SS} (C : cx p s m args meth c cX0_findLosses 5 RX0 (some .int) G) : ∀ (n : Nat), ∀ (x1 : Int32) (x2 : Int32) (x3 : Int32) (σ : SS) (H : Heap) (locs : List Loc) (ls : Array Slot), F_X0_findLosses_4 N n x1 x2 x3 σ = some (r, σ') → wx G rd q σ H → va_S (fa G) s.heap H locs → lv_has ls 5 [(0, .ref (q 0)), (1, .int x1), (2, .int x2), (3, .int x3)] → W p l e rmX0_findLosses s m args below meth c H locs 0 0 (MQ below (qxi G rd q σ' r) args s 0 0 (fa G)) (F0 m 4 ls []) := by
  obtain ⟨hx, hb, hml, hown, hts, -, -, -, -⟩ := id C
  intro n
  induction n with
  | zero =>
    intro x1 x2 x3 σ H locs ls hF hw hS hl
    cases hF
  | succ n ih =>
    intro x1 x2 x3 σ H locs ls hF hw hS hl
    have hF : B_X0_findLosses_4 N (F_X0_findLosses_4 N n) x1 x2 x3 σ = some (r, σ') := hF
    unfold B_X0_findLosses_4 at hF
    refine lv_iload_n hx hb dX0_findLosses_4 rfl (lv_at hl 3 rfl) ?_
    refine lv_bipush (v := (9 : Int32)) hx hb dX0_findLosses_5 (by decide) ?_
    refine lv_icmp_gt (tgt := 67) hx hb dX0_findLosses_7 (by decide) (fun c_21 => ?_) (fun c_21 => ?_)
    · have hF := it_e hF c_21
      refine lv_iload_n hx hb dX0_findLosses_67 rfl (lv_at hl 2 rfl) ?_
      exact r_iret C hw hS hF dX0_findLosses_68
    · have hF := if_e hF c_21
      refine lv_aload_n hx hb dX0_findLosses_10 rfl (lv_at hl 0 rfl) ?_
      refine lv_iload_n hx hb dX0_findLosses_11 rfl (lv_at hl 1 rfl) ?_
      refine lv_iload_n hx hb dX0_findLosses_12 rfl (lv_at hl 3 rfl) ?_
      obtain ⟨r_22, σ_23, h_24, hF⟩ := bd_e hF
      refine r_callVi (As := [.int x1, .int x3]) (rest := []) (i := 0) C hw hS (wi_lo (Or.inl (by decide))) rfl (ci := 0) rfl (met_X0_isLossSo l G rd q  h_24) (cwV 2 hts (lw_V q795 q797 qs27 q57 q798) rfl rfl rfl (by decide +kernel) ⟨Nat.le_of_ble_eq_true rfl, Nat.le_of_ble_eq_true rfl⟩) rfl hl.1 rfl (Nat.le_of_ble_eq_true rfl) ⟨Nat.le_refl _, Nat.le_refl _⟩ dX0_findLosses_13 (fun H locs hw hS => ?_)
      refine lv_if_eq (tgt := 61) hx hb dX0_findLosses_16 (by decide) (fun c_25 => ?_) (fun c_25 => ?_)
      · have hF := it_e hF c_25
        obtain ⟨x_26, ex_26, hF⟩ := nm_e2 hF
        refine lv_iinc (v := x_26) (lv' := [(3, .int x_26), (0, .ref (q 0)), (1, .int x1), (2, .int x2)]) hx hb dX0_findLosses_61 hl (k := 3) rfl (by rw [ex_26]; rfl) (by decide) rfl (fun ls hl => ?_)
        refine lv_goto (tgt := 4) hx hb dX0_findLosses_64 (by decide) ?_
        exact ih _ _ _ _ _ _ _ hF hw hS (lv_sub hl [1, 2, 3, 0] rfl)
      · have hF := if_e hF c_25
        refine lv_iconst (v := (0 : Int32)) hx hb dX0_findLosses_19 (by decide) ?_
        refine lv_istore (lv' := [(4, .int (0 : Int32)), (0, .ref (q 0)), (1, .int x1), (2, .int x2), (3, .int x3)]) hx hb dX0_findLosses_20 hl (by decide) rfl (fun ls hl => ?_)
        exact w_X0_findLosses_22 C  ih N _ _ _ _ _ _ _ _ hF hw hS (lv_sub hl [1, 2, 3, 4, 0] rfl)
noncomputable def F_X0_findLosses (N : Nat) (x1 : Int32) (σ : SS) : Option (Int32 × SS) :=
  F_X0_findLosses_4 N N x1 (0 : Int32) (0 : Int32) σ
set_option maxRecDepth 100000 in
theorem met_X0_findLosses (l : Launch) (G : GG) (rd : Bool) (q : Nat → Nat) {N : Nat} {x1 : Int32} {σ σ' : SS} {r : Int32} (hF : F_X0_findLosses N x1 σ = some (r, σ')) : Met l yX0_findLosses (ws_ yX0_findLosses cX0_findLosses 5 (some .int)) rmX0_findLosses (pcx G rd q σ [.ref (q 0), .int x1]) (qxi G rd q σ' r) 0 0 (fa G) := by
  refine met_of (by decide) (Nat.le_of_ble_eq_true rfl) ?_
  intro p e s m below meth c C H locs ls hw hS hl
  obtain ⟨hx, hb, hml, hown, hts, -, -, -, -⟩ := id C
  have hl : lv_has ls 5 [(0, .ref (q 0)), (1, .int x1)] := hl
  unfold F_X0_findLosses at hF
  refine lv_iconst (v := (0 : Int32)) hx hb dX0_findLosses_0 (by decide) ?_
  refine lv_istore_n (lv' := [(2, .int (0 : Int32)), (0, .ref (q 0)), (1, .int x1)]) hx hb dX0_findLosses_1 rfl hl (by decide) rfl (fun ls hl => ?_)
  refine lv_iconst (v := (0 : Int32)) hx hb dX0_findLosses_2 (by decide) ?_
  refine lv_istore_n (lv' := [(3, .int (0 : Int32)), (2, .int (0 : Int32)), (0, .ref (q 0)), (1, .int x1)]) hx hb dX0_findLosses_3 rfl hl (by decide) rfl (fun ls hl => ?_)
  exact w_X0_findLosses_4 C   N _ _ _ _ _ _ _ hF hw hS (lv_sub hl [2, 3, 1, 0] rfl)
