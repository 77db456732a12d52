/-! lifted: FlyWheelsModel (1) -/
set_option maxRecDepth 100000
abbrev rmX8_in : Room := { frames := 1, cells := 0, slots := 0, locals := 60 }
noncomputable def F_X8_in (N : Nat) (y0 : Int64) (y2 : Int64) (y4 : Int64) (σ : SS) : Option (Int32 × SS) :=
  if (lg_cmp y0 y2) < (0 : Int32) then
    some ((0 : Int32), σ)
  else
    if (0 : Int32) < (lg_cmp y0 y4) then
      some ((0 : Int32), σ)
    else
      some ((1 : Int32), σ)
set_option maxRecDepth 100000 in
theorem met_X8_in (l : Launch) (G : GG) (rd : Bool) (q : Nat → Nat) {N : Nat} {y0 : Int64} {y2 : Int64} {y4 : Int64} {σ σ' : SS} {r : Int32} (hF : F_X8_in N y0 y2 y4 σ = some (r, σ')) : Met l yX8_in (ws_ yX8_in cX8_in 6 (some .boolean)) rmX8_in (pcx G rd q σ [.long y0, .long y2, .long y4]) (qxi G rd q σ' r) 0 0 (fa G) := by
  refine met_of (by decide) (Nat.le_of_ble_eq_true rfl) ?_
  intro p e s m below meth c C H locs ls hw hS hl
  obtain ⟨hx, hb, hml, hown, hts, -, -, -, -⟩ := id C
  have hl : lv_has ls 6 [(0, .long y0), (2, .long y2), (4, .long y4)] := hl
  unfold F_X8_in at hF
  refine lv_lload_n hx hb dX8_in_0 rfl (lv_at hl 0 rfl) ?_
  refine lv_lload_n hx hb dX8_in_1 rfl (lv_at hl 1 rfl) ?_
  refine W.lcmp hx hb dX8_in_2 ?_
  refine lv_if_lt (tgt := 17) hx hb dX8_in_3 (by decide) (fun c_3 => ?_) (fun c_3 => ?_)
  · have hF := it_e hF c_3
    refine lv_iconst (v := (0 : Int32)) hx hb dX8_in_17 (by decide) ?_
    exact r_zret C hw hS hF rfl dX8_in_18
  · have hF := if_e hF c_3
    refine lv_lload_n hx hb dX8_in_6 rfl (lv_at hl 0 rfl) ?_
    refine lv_lload hx hb dX8_in_7 (lv_at hl 2 rfl) ?_
    refine W.lcmp hx hb dX8_in_9 ?_
    refine lv_if_gt (tgt := 17) hx hb dX8_in_10 (by decide) (fun c_4 => ?_) (fun c_4 => ?_)
    · have hF := it_e hF c_4
      refine lv_iconst (v := (0 : Int32)) hx hb dX8_in_17 (by decide) ?_
      exact r_zret C hw hS hF rfl dX8_in_18
    · have hF := if_e hF c_4
      refine lv_iconst (v := (1 : Int32)) hx hb dX8_in_13 (by decide) ?_
      refine lv_goto (tgt := 18) hx hb dX8_in_14 (by decide) ?_
      exact r_zret C hw hS hF rfl dX8_in_18
abbrev rmX8_isAct : Room := { frames := 2, cells := 0, slots := 0, locals := 85 }
noncomputable def F_X8_isAct (N : Nat) (x1 : Int32) (σ : SS) : Option (Int32 × SS) :=
  gd (inR (33 : Int32) 234) <|
  bd (F_X8_in N x1.toInt64 (0 : Int64) (((gi σ 21 (33 : Int32).toNatClampNeg) - (1 : Int32)).toInt64) σ) fun r_7 σ_8 =>
  gd (r_7 = 0 ∨ r_7 = 1) <|
  some (r_7, σ_8)
set_option maxRecDepth 100000 in
theorem met_X8_isAct (l : Launch) (G : GG) (rd : Bool) (q : Nat → Nat) {N : Nat} {x1 : Int32} {σ σ' : SS} {r : Int32} (hF : F_X8_isAct N x1 σ = some (r, σ')) : Met l yX8_isAct (ws_ yX8_isAct cX8_isAct 2 (some .boolean)) rmX8_isAct (pcx G rd q σ [.ref (q 1), .int x1]) (qxi G rd q σ' r) 0 0 (fa G) := by
  refine met_of (by decide) (Nat.le_of_ble_eq_true rfl) ?_
  intro p e s m below meth c C H locs ls hw hS hl
  obtain ⟨hx, hb, hml, hown, hts, -, -, -, -⟩ := id C
  have hl : lv_has ls 2 [(0, .ref (q 1)), (1, .int x1)] := hl
  unfold F_X8_isAct at hF
  refine lv_iload_n hx hb dX8_isAct_0 rfl (lv_at hl 1 rfl) ?_
  refine lv_i2l hx hb dX8_isAct_1 rfl ?_
  refine lv_lconst (v := (0 : Int64)) hx hb dX8_isAct_2 (by decide) ?_
  refine lv_aload_n hx hb dX8_isAct_3 rfl (lv_at hl 0 rfl) ?_
  refine r_get8 C hw 0 (by decide) rfl (v := .ref (q 21)) rfl q955 dX8_isAct_4 ?_
  refine lv_bipush (v := (33 : Int32)) hx hb dX8_isAct_7 (by decide) ?_
  obtain ⟨h_6, hF⟩ := gd_e hF
  refine r_iald (i := 21) (n := 234) (g := 21) (st := 0) C hw (wi_lo (Or.inr ⟨by decide, by decide⟩)) rfl h_6 dX8_isAct_9 ?_
  refine lv_iconst (v := (1 : Int32)) hx hb dX8_isAct_10 (by decide) ?_
  refine lv_isub hx hb dX8_isAct_11 ?_
  refine lv_i2l hx hb dX8_isAct_12 rfl ?_
  obtain ⟨r_7, σ_8, h_9, hF⟩ := bd_e hF
  refine r_callSi (As := [.long x1.toInt64, .long (0 : Int64), .long (((gi σ 21 (33 : Int32).toNatClampNeg) - (1 : Int32)).toInt64)]) (rest := []) C hw hS (met_X8_in l G rd q  h_9) (cwS 3 hts (lw_S q1040 q1041 q65 q1042) rfl rfl rfl (by decide +kernel) ⟨Nat.le_of_ble_eq_true rfl, Nat.le_of_ble_eq_true rfl⟩) rfl hl.1 rfl (Nat.le_of_ble_eq_true rfl) ⟨Nat.le_refl _, Nat.le_refl _⟩ dX8_isAct_13 (fun H locs hw hS => ?_)
  obtain ⟨h_10, hF⟩ := gd_e hF
  exact r_zret C hw hS hF (nar_z h_10) dX8_isAct_16
abbrev rmX8_act : Room := { frames := 3, cells := 0, slots := 0, locals := 106 }
noncomputable def F_X8_act (N : Nat) (x1 : Int32) (σ : SS) : Option (Int32 × SS) :=
  bd (F_X8_isAct N x1 σ) fun r_6 σ_7 =>
  if r_6 = (0 : Int32) then
    some ((-1 : Int32), σ_7)
  else
    gd (inR ((17 : Int32) + x1) 234) <|
    some (gi σ_7 21 ((17 : Int32) + x1).toNatClampNeg, σ_7)
set_option maxRecDepth 100000 in
theorem met_X8_act (l : Launch) (G : GG) (rd : Bool) (q : Nat → Nat) {N : Nat} {x1 : Int32} {σ σ' : SS} {r : Int32} (hF : F_X8_act N x1 σ = some (r, σ')) : Met l yX8_act (ws_ yX8_act cX8_act 2 (some .int)) rmX8_act (pcx G rd q σ [.ref (q 1), .int x1]) (qxi G rd q σ' r) 0 0 (fa G) := by
  refine met_of (by decide) (Nat.le_of_ble_eq_true rfl) ?_
  intro p e s m below meth c C H locs ls hw hS hl
  obtain ⟨hx, hb, hml, hown, hts, -, -, -, -⟩ := id C
  have hl : lv_has ls 2 [(0, .ref (q 1)), (1, .int x1)] := hl
  unfold F_X8_act at hF
  refine lv_aload_n hx hb dX8_act_0 rfl (lv_at hl 0 rfl) ?_
  refine lv_iload_n hx hb dX8_act_1 rfl (lv_at hl 1 rfl) ?_
  obtain ⟨r_6, σ_7, h_8, hF⟩ := bd_e hF
  refine r_callVi (As := [.int x1]) (rest := []) (i := 1) C hw hS (wi_lo (Or.inl (by decide))) rfl (ci := 8) rfl (met_X8_isAct l G rd q  h_8) (cwV 1 hts (lw_V q1113 q1115 qs41 q65 q1116) rfl rfl rfl (by decide +kernel) ⟨Nat.le_of_ble_eq_true rfl, Nat.le_of_ble_eq_true rfl⟩) rfl hl.1 rfl (Nat.le_of_ble_eq_true rfl) ⟨Nat.le_refl _, Nat.le_refl _⟩ dX8_act_2 (fun H locs hw hS => ?_)
  refine lv_if_eq (tgt := 20) hx hb dX8_act_5 (by decide) (fun c_9 => ?_) (fun c_9 => ?_)
  · have hF := it_e hF c_9
    refine lv_iconst (v := (-1 : Int32)) hx hb dX8_act_20 (by decide) ?_
    exact r_iret C hw hS hF dX8_act_21
  · have hF := if_e hF c_9
    refine lv_aload_n hx hb dX8_act_8 rfl (lv_at hl 0 rfl) ?_
    refine r_get8 C hw 0 (by decide) rfl (v := .ref (q 21)) rfl q955 dX8_act_9 ?_
    refine lv_bipush (v := (17 : Int32)) hx hb dX8_act_12 (by decide) ?_
    refine lv_iload_n hx hb dX8_act_14 rfl (lv_at hl 1 rfl) ?_
    refine lv_iadd hx hb dX8_act_15 ?_
    obtain ⟨h_10, hF⟩ := gd_e hF
    refine r_iald (i := 21) (n := 234) (g := 21) (st := 0) C hw (wi_lo (Or.inr ⟨by decide, by decide⟩)) rfl h_10 dX8_act_16 ?_
    refine lv_goto (tgt := 21) hx hb dX8_act_17 (by decide) ?_
    exact r_iret C hw hS hF dX8_act_21
abbrev rmX8_joinedOn : Room := { frames := 1, cells := 0, slots := 0, locals := 60 }
noncomputable def F_X8_joinedOn_103 (N : Nat) (x3 : Int32) (x4 : Int32) (z0 : Int32) (σ : SS) : Option (Int32 × SS) :=
  if x3 = (3 : Int32) then
    if z0 ≤ (x4 + (20 : Int32)) then
      some (z0, σ)
    else
      some (x4 + (20 : Int32), σ)
  else
    some (z0, σ)
set_option maxRecDepth 100000 in
theorem w_X8_joinedOn_103 {p : Program} {l : Launch} {e : Env} {s : State} {m : MethodId} {args : Array Value} {below : List Frame} {meth : Method} {c : Code} {G : GG} {rd : Bool} {q : Nat → Nat} {N : Nat} {r : Int32} {σ' : SS} (C : cx p s m args meth c cX8_joinedOn 8 RX8 (some .int) G) : ∀ (x3 : Int32) (x4 : Int32) (z0 : Int32) (σ : SS) (H : Heap) (locs : List Loc) (ls : Array Slot), F_X8_joinedOn_103 N x3 x4 z0 σ = some (r, σ') → wx G rd q σ H → va_S (fa G) s.heap H locs → lv_has ls 8 [(3, .int x3), (4, .int x4)] → W p l e rmX8_joinedOn s m args below meth c H locs 0 0 (MQ below (qxi G rd q σ' r) args s 0 0 (fa G)) (F0 m 103 ls [.int z0]) := by
  obtain ⟨hx, hb, hml, hown, hts, -, -, -, -⟩ := id C
  intro x3 x4 z0 σ H locs ls hF hw hS hl
  unfold F_X8_joinedOn_103 at hF
  refine lv_istore (lv' := [(7, .int z0), (3, .int x3), (4, .int x4)]) hx hb dX8_joinedOn_103 hl (by decide) rfl (fun ls hl => ?_)
  refine lv_iload_n hx hb dX8_joinedOn_105 rfl (lv_at hl 1 rfl) ?_
  refine lv_iconst (v := (3 : Int32)) hx hb dX8_joinedOn_106 (by decide) ?_
  refine lv_icmp_ne (tgt := 128) hx hb dX8_joinedOn_107 (by decide) (fun c_16 => ?_) (fun c_16 => ?_)
  · have hF := if_e hF c_16
    refine lv_iload hx hb dX8_joinedOn_128 (lv_at hl 0 rfl) ?_
    exact r_iret C hw hS hF dX8_joinedOn_130
  · have hF := it_e hF c_16
    refine lv_iload hx hb dX8_joinedOn_110 (lv_at hl 0 rfl) ?_
    refine lv_iload hx hb dX8_joinedOn_112 (lv_at hl 2 rfl) ?_
    refine lv_bipush (v := (20 : Int32)) hx hb dX8_joinedOn_114 (by decide) ?_
    refine lv_iadd hx hb dX8_joinedOn_116 ?_
    refine lv_icmp_le (tgt := 128) hx hb dX8_joinedOn_117 (by decide) (fun c_17 => ?_) (fun c_17 => ?_)
    · have hF := it_e hF c_17
      refine lv_iload hx hb dX8_joinedOn_128 (lv_at hl 0 rfl) ?_
      exact r_iret C hw hS hF dX8_joinedOn_130
    · have hF := if_e hF c_17
      refine lv_iload hx hb dX8_joinedOn_120 (lv_at hl 2 rfl) ?_
      refine lv_bipush (v := (20 : Int32)) hx hb dX8_joinedOn_122 (by decide) ?_
      refine lv_iadd hx hb dX8_joinedOn_124 ?_
      refine lv_goto (tgt := 130) hx hb dX8_joinedOn_125 (by decide) ?_
      exact r_iret C hw hS hF dX8_joinedOn_130
noncomputable def F_X8_joinedOn (N : Nat) (x1 : Int32) (x2 : Int32) (σ : SS) : Option (Int32 × SS) :=
  gd (inR (x1 + x2) 234) <|
  nm (gi σ 21 (x1 + x2).toNatClampNeg) fun x_19 =>
  gd (inR ((x1 + (12 : Int32)) + x2) 234) <|
  nm (gi σ 21 ((x1 + (12 : Int32)) + x2).toNatClampNeg) fun x_21 =>
  gd (inR ((x1 + (4 : Int32)) + x2) 234) <|
  nm (gi σ 21 ((x1 + (4 : Int32)) + x2).toNatClampNeg) fun x_23 =>
  gd (inR (x1 + (35 : Int32)) 234) <|
  gd (inR (x1 + (34 : Int32)) 234) <|
  gd (¬ ((x_23 + (gi σ 21 (x1 + (34 : Int32)).toNatClampNeg)) + (5 : Int32)) = 0) <|
  nm (((x_21 + (gi σ 21 (x1 + (35 : Int32)).toNatClampNeg)) * x_23) / ((x_23 + (gi σ 21 (x1 + (34 : Int32)).toNatClampNeg)) + (5 : Int32))) fun x_27 =>
  if x_19 = (0 : Int32) then
    some (x_27, σ)
  else
    if x_19 = (1 : Int32) then
      some (x_21 + ((x_27 - x_21) / (2 : Int32)), σ)
    else
      if x_27 ≤ x_21 then
        F_X8_joinedOn_103 N x_19 x_21 x_21 σ
      else
        F_X8_joinedOn_103 N x_19 x_21 x_27 σ
set_option maxRecDepth 100000 in
theorem met_X8_joinedOn (l : Launch) (G : GG) (rd : Bool) (q : Nat → Nat) {N : Nat} {x1 : Int32} {x2 : Int32} {σ σ' : SS} {r : Int32} (hF : F_X8_joinedOn N x1 x2 σ = some (r, σ')) : Met l yX8_joinedOn (ws_ yX8_joinedOn cX8_joinedOn 8 (some .int)) rmX8_joinedOn (pcx G rd q σ [.ref (q 1), .int x1, .int x2]) (qxi G rd q σ' r) 0 0 (fa G) := by
  refine met_of (by decide) (Nat.le_of_ble_eq_true rfl) ?_
  intro p e s m below meth c C H locs ls hw hS hl
  obtain ⟨hx, hb, hml, hown, hts, -, -, -, -⟩ := id C
  have hl : lv_has ls 8 [(0, .ref (q 1)), (1, .int x1), (2, .int x2)] := hl
  unfold F_X8_joinedOn at hF
  refine lv_aload_n hx hb dX8_joinedOn_0 rfl (lv_at hl 0 rfl) ?_
  refine r_get8 C hw 0 (by decide) rfl (v := .ref (q 21)) rfl q955 dX8_joinedOn_1 ?_
  refine lv_iload_n hx hb dX8_joinedOn_4 rfl (lv_at hl 1 rfl) ?_
  refine lv_iload_n hx hb dX8_joinedOn_5 rfl (lv_at hl 2 rfl) ?_
  refine lv_iadd hx hb dX8_joinedOn_6 ?_
  obtain ⟨h_18, hF⟩ := gd_e hF
  refine r_iald (i := 21) (n := 234) (g := 21) (st := 0) C hw (wi_lo (Or.inr ⟨by decide, by decide⟩)) rfl h_18 dX8_joinedOn_7 ?_
  obtain ⟨x_19, ex_19, hF⟩ := nm_e2 hF
  refine r_topi ex_19 ?_
  refine lv_istore_n (lv' := [(3, .int x_19), (0, .ref (q 1)), (1, .int x1), (2, .int x2)]) hx hb dX8_joinedOn_8 rfl hl (by decide) rfl (fun ls hl => ?_)
  refine lv_aload_n hx hb dX8_joinedOn_9 rfl (lv_at hl 1 rfl) ?_
  refine r_get8 C hw 0 (by decide) rfl (v := .ref (q 21)) rfl q955 dX8_joinedOn_10 ?_
  refine lv_iload_n hx hb dX8_joinedOn_13 rfl (lv_at hl 2 rfl) ?_
  refine lv_bipush (v := (12 : Int32)) hx hb dX8_joinedOn_14 (by decide) ?_
  refine lv_iadd hx hb dX8_joinedOn_16 ?_
  refine lv_iload_n hx hb dX8_joinedOn_17 rfl (lv_at hl 3 rfl) ?_
  refine lv_iadd hx hb dX8_joinedOn_18 ?_
  obtain ⟨h_20, hF⟩ := gd_e hF
  refine r_iald (i := 21) (n := 234) (g := 21) (st := 0) C hw (wi_lo (Or.inr ⟨by decide, by decide⟩)) rfl h_20 dX8_joinedOn_19 ?_
  obtain ⟨x_21, ex_21, hF⟩ := nm_e2 hF
  refine r_topi ex_21 ?_
  refine lv_istore (lv' := [(4, .int x_21), (3, .int x_19), (0, .ref (q 1)), (1, .int x1), (2, .int x2)]) hx hb dX8_joinedOn_20 hl (by decide) rfl (fun ls hl => ?_)
  refine lv_aload_n hx hb dX8_joinedOn_22 rfl (lv_at hl 2 rfl) ?_
  refine r_get8 C hw 0 (by decide) rfl (v := .ref (q 21)) rfl q955 dX8_joinedOn_23 ?_
  refine lv_iload_n hx hb dX8_joinedOn_26 rfl (lv_at hl 3 rfl) ?_
  refine lv_iconst (v := (4 : Int32)) hx hb dX8_joinedOn_27 (by decide) ?_
  refine lv_iadd hx hb dX8_joinedOn_28 ?_
  refine lv_iload_n hx hb dX8_joinedOn_29 rfl (lv_at hl 4 rfl) ?_
  refine lv_iadd hx hb dX8_joinedOn_30 ?_
  obtain ⟨h_22, hF⟩ := gd_e hF
  refine r_iald (i := 21) (n := 234) (g := 21) (st := 0) C hw (wi_lo (Or.inr ⟨by decide, by decide⟩)) rfl h_22 dX8_joinedOn_31 ?_
  obtain ⟨x_23, ex_23, hF⟩ := nm_e2 hF
  refine r_topi ex_23 ?_
  refine lv_istore (lv' := [(5, .int x_23), (4, .int x_21), (3, .int x_19), (0, .ref (q 1)), (1, .int x1), (2, .int x2)]) hx hb dX8_joinedOn_32 hl (by decide) rfl (fun ls hl => ?_)
  refine lv_iload hx hb dX8_joinedOn_34 (lv_at hl 1 rfl) ?_
  refine lv_aload_n hx hb dX8_joinedOn_36 rfl (lv_at hl 3 rfl) ?_
  refine r_get8 C hw 0 (by decide) rfl (v := .ref (q 21)) rfl q955 dX8_joinedOn_37 ?_
  refine lv_iload_n hx hb dX8_joinedOn_40 rfl (lv_at hl 4 rfl) ?_
  refine lv_bipush (v := (35 : Int32)) hx hb dX8_joinedOn_41 (by decide) ?_
  refine lv_iadd hx hb dX8_joinedOn_43 ?_
  obtain ⟨h_24, hF⟩ := gd_e hF
  refine r_iald (i := 21) (n := 234) (g := 21) (st := 0) C hw (wi_lo (Or.inr ⟨by decide, by decide⟩)) rfl h_24 dX8_joinedOn_44 ?_
  refine lv_iadd hx hb dX8_joinedOn_45 ?_
  refine lv_iload hx hb dX8_joinedOn_46 (lv_at hl 0 rfl) ?_
  refine lv_imul hx hb dX8_joinedOn_48 ?_
  refine lv_iload hx hb dX8_joinedOn_49 (lv_at hl 0 rfl) ?_
  refine lv_aload_n hx hb dX8_joinedOn_51 rfl (lv_at hl 3 rfl) ?_
  refine r_get8 C hw 0 (by decide) rfl (v := .ref (q 21)) rfl q955 dX8_joinedOn_52 ?_
  refine lv_iload_n hx hb dX8_joinedOn_55 rfl (lv_at hl 4 rfl) ?_
  refine lv_bipush (v := (34 : Int32)) hx hb dX8_joinedOn_56 (by decide) ?_
  refine lv_iadd hx hb dX8_joinedOn_58 ?_
  obtain ⟨h_25, hF⟩ := gd_e hF
  refine r_iald (i := 21) (n := 234) (g := 21) (st := 0) C hw (wi_lo (Or.inr ⟨by decide, by decide⟩)) rfl h_25 dX8_joinedOn_59 ?_
  refine lv_iadd hx hb dX8_joinedOn_60 ?_
  refine lv_iconst (v := (5 : Int32)) hx hb dX8_joinedOn_61 (by decide) ?_
  refine lv_iadd hx hb dX8_joinedOn_62 ?_
  obtain ⟨h_26, hF⟩ := gd_e hF
  refine lv_idiv hx hb dX8_joinedOn_63 h_26 ?_
  obtain ⟨x_27, ex_27, hF⟩ := nm_e2 hF
  refine r_topi ex_27 ?_
  refine lv_istore (lv' := [(6, .int x_27), (5, .int x_23), (4, .int x_21), (3, .int x_19), (0, .ref (q 1)), (1, .int x1), (2, .int x2)]) hx hb dX8_joinedOn_64 hl (by decide) rfl (fun ls hl => ?_)
  refine lv_iload_n hx hb dX8_joinedOn_66 rfl (lv_at hl 3 rfl) ?_
  refine lv_if_ne (tgt := 73) hx hb dX8_joinedOn_67 (by decide) (fun c_28 => ?_) (fun c_28 => ?_)
  · have hF := if_e hF c_28
    refine lv_iload_n hx hb dX8_joinedOn_73 rfl (lv_at hl 3 rfl) ?_
    refine lv_iconst (v := (1 : Int32)) hx hb dX8_joinedOn_74 (by decide) ?_
    refine lv_icmp_ne (tgt := 89) hx hb dX8_joinedOn_75 (by decide) (fun c_29 => ?_) (fun c_29 => ?_)
    · have hF := if_e hF c_29
      refine lv_iload hx hb dX8_joinedOn_89 (lv_at hl 0 rfl) ?_
      refine lv_iload hx hb dX8_joinedOn_91 (lv_at hl 2 rfl) ?_
      refine lv_icmp_le (tgt := 101) hx hb dX8_joinedOn_93 (by decide) (fun c_30 => ?_) (fun c_30 => ?_)
      · have hF := it_e hF c_30
        refine lv_iload hx hb dX8_joinedOn_101 (lv_at hl 2 rfl) ?_
        exact w_X8_joinedOn_103 C   _ _ _ _ _ _ _ hF hw hS (lv_sub hl [3, 2] rfl)
      · have hF := if_e hF c_30
        refine lv_iload hx hb dX8_joinedOn_96 (lv_at hl 0 rfl) ?_
        refine lv_goto (tgt := 103) hx hb dX8_joinedOn_98 (by decide) ?_
        exact w_X8_joinedOn_103 C   _ _ _ _ _ _ _ hF hw hS (lv_sub hl [3, 2] rfl)
    · have hF := it_e hF c_29
      refine lv_iload hx hb dX8_joinedOn_78 (lv_at hl 2 rfl) ?_
      refine lv_iload hx hb dX8_joinedOn_80 (lv_at hl 0 rfl) ?_
      refine lv_iload hx hb dX8_joinedOn_82 (lv_at hl 2 rfl) ?_
      refine lv_isub hx hb dX8_joinedOn_84 ?_
      refine lv_iconst (v := (2 : Int32)) hx hb dX8_joinedOn_85 (by decide) ?_
      refine lv_idiv hx hb dX8_joinedOn_86 (by decide) ?_
      refine lv_iadd hx hb dX8_joinedOn_87 ?_
      exact r_iret C hw hS hF dX8_joinedOn_88
  · have hF := it_e hF c_28
    refine lv_iload hx hb dX8_joinedOn_70 (lv_at hl 0 rfl) ?_
    exact r_iret C hw hS hF dX8_joinedOn_72
abbrev rmX8_actOn : Room := { frames := 2, cells := 0, slots := 0, locals := 87 }
noncomputable def F_X8_actOn_66 (N : Nat) (x1 : Int32) (x2 : Int32) (x4 : Int32) (z0 : Int32) (σ : SS) : Option (Unit × SS) :=
  gd (inR (x1 + (35 : Int32)) 234) <|
  nm (si σ 21 (x1 + (35 : Int32)).toNatClampNeg (x4 - z0)) fun σ_34 =>
  gd (inR (x1 + (37 : Int32)) 234) <|
  gd (inR (x1 + (37 : Int32)) 234) <|
  nm (si σ_34 21 (x1 + (37 : Int32)).toNatClampNeg ((gi σ_34 21 (x1 + (37 : Int32)).toNatClampNeg) + z0)) fun σ_37 =>
  gd (inR (x1 + (38 : Int32)) 234) <|
  gd (inR (x1 + (38 : Int32)) 234) <|
  nm (si σ_37 21 (x1 + (38 : Int32)).toNatClampNeg ((gi σ_37 21 (x1 + (38 : Int32)).toNatClampNeg) + ((x2 - (100 : Int32)) - z0))) fun σ_40 =>
  some ((), σ_40)
set_option maxRecDepth 100000 in
theorem w_X8_actOn_66 {p : Program} {l : Launch} {e : Env} {s : State} {m : MethodId} {args : Array Value} {below : List Frame} {meth : Method} {c : Code} {G : GG} {rd : Bool} {q : Nat → Nat} {N : Nat} {r : Unit} {σ' : SS} (C : cx p s m args meth c cX8_actOn 6 RX8 none G) : ∀ (x1 : Int32) (x2 : Int32) (x4 : Int32) (z0 : Int32) (σ : SS) (H : Heap) (locs : List Loc) (ls : Array Slot), F_X8_actOn_66 N x1 x2 x4 z0 σ = some (r, σ') → wx G rd q σ H → va_S (fa G) s.heap H locs → lv_has ls 6 [(0, .ref (q 1)), (1, .int x1), (2, .int x2), (4, .int x4)] → W p l e rmX8_actOn s m args below meth c H locs 0 0 (MQ below (qxv G rd q σ' r) args s 0 0 (fa G)) (F0 m 66 ls [.int z0]) := by
  obtain ⟨hx, hb, hml, hown, hts, -, -, -, -⟩ := id C
  intro x1 x2 x4 z0 σ H locs ls hF hw hS hl
  unfold F_X8_actOn_66 at hF
  refine lv_istore (lv' := [(5, .int z0), (0, .ref (q 1)), (1, .int x1), (2, .int x2), (4, .int x4)]) hx hb dX8_actOn_66 hl (by decide) rfl (fun ls hl => ?_)
  refine lv_aload_n hx hb dX8_actOn_68 rfl (lv_at hl 1 rfl) ?_
  refine r_get8 C hw 0 (by decide) rfl (v := .ref (q 21)) rfl q955 dX8_actOn_69 ?_
  refine lv_iload_n hx hb dX8_actOn_72 rfl (lv_at hl 2 rfl) ?_
  refine lv_bipush (v := (35 : Int32)) hx hb dX8_actOn_73 (by decide) ?_
  refine lv_iadd hx hb dX8_actOn_75 ?_
  refine lv_iload hx hb dX8_actOn_76 (lv_at hl 4 rfl) ?_
  refine lv_iload hx hb dX8_actOn_78 (lv_at hl 0 rfl) ?_
  refine lv_isub hx hb dX8_actOn_80 ?_
  obtain ⟨h_33, hF⟩ := gd_e hF
  obtain ⟨σ_34, eσ_34, hF⟩ := nm_e2 hF
  refine r_iast (i := 21) (n := 234) (g := 21) (st := 0) C hw hS (wi_lo (Or.inr ⟨by decide, by decide⟩)) rfl (fun _ => ho_lo (by decide)) h_33 dX8_actOn_81 eσ_34 (fun H locs hw hS => ?_)
  refine lv_aload_n hx hb dX8_actOn_82 rfl (lv_at hl 1 rfl) ?_
  refine r_get8 C hw 0 (by decide) rfl (v := .ref (q 21)) rfl q955 dX8_actOn_83 ?_
  refine lv_iload_n hx hb dX8_actOn_86 rfl (lv_at hl 2 rfl) ?_
  refine lv_bipush (v := (37 : Int32)) hx hb dX8_actOn_87 (by decide) ?_
  refine lv_iadd hx hb dX8_actOn_89 ?_
  refine lv_dup2_11 hx hb dX8_actOn_90 rfl rfl ?_
  obtain ⟨h_35, hF⟩ := gd_e hF
  refine r_iald (i := 21) (n := 234) (g := 21) (st := 0) C hw (wi_lo (Or.inr ⟨by decide, by decide⟩)) rfl h_35 dX8_actOn_91 ?_
  refine lv_iload hx hb dX8_actOn_92 (lv_at hl 0 rfl) ?_
  refine lv_iadd hx hb dX8_actOn_94 ?_
  obtain ⟨h_36, hF⟩ := gd_e hF
  obtain ⟨σ_37, eσ_37, hF⟩ := nm_e2 hF
  refine r_iast (i := 21) (n := 234) (g := 21) (st := 0) C hw hS (wi_lo (Or.inr ⟨by decide, by decide⟩)) rfl (fun _ => ho_lo (by decide)) h_36 dX8_actOn_95 eσ_37 (fun H locs hw hS => ?_)
  refine lv_aload_n hx hb dX8_actOn_96 rfl (lv_at hl 1 rfl) ?_
  refine r_get8 C hw 0 (by decide) rfl (v := .ref (q 21)) rfl q955 dX8_actOn_97 ?_
  refine lv_iload_n hx hb dX8_actOn_100 rfl (lv_at hl 2 rfl) ?_
  refine lv_bipush (v := (38 : Int32)) hx hb dX8_actOn_101 (by decide) ?_
  refine lv_iadd hx hb dX8_actOn_103 ?_
  refine lv_dup2_11 hx hb dX8_actOn_104 rfl rfl ?_
  obtain ⟨h_38, hF⟩ := gd_e hF
  refine r_iald (i := 21) (n := 234) (g := 21) (st := 0) C hw (wi_lo (Or.inr ⟨by decide, by decide⟩)) rfl h_38 dX8_actOn_105 ?_
  refine lv_iload_n hx hb dX8_actOn_106 rfl (lv_at hl 3 rfl) ?_
  refine lv_bipush (v := (100 : Int32)) hx hb dX8_actOn_107 (by decide) ?_
  refine lv_isub hx hb dX8_actOn_109 ?_
  refine lv_iload hx hb dX8_actOn_110 (lv_at hl 0 rfl) ?_
  refine lv_isub hx hb dX8_actOn_112 ?_
  refine lv_iadd hx hb dX8_actOn_113 ?_
  obtain ⟨h_39, hF⟩ := gd_e hF
  obtain ⟨σ_40, eσ_40, hF⟩ := nm_e2 hF
  refine r_iast (i := 21) (n := 234) (g := 21) (st := 0) C hw hS (wi_lo (Or.inr ⟨by decide, by decide⟩)) rfl (fun _ => ho_lo (by decide)) h_39 dX8_actOn_114 eσ_40 (fun H locs hw hS => ?_)
  refine lv_goto (tgt := 221) hx hb dX8_actOn_115 (by decide) ?_
  exact r_vret C hw hS hF dX8_actOn_221
noncomputable def F_X8_actOn_25 (N : Nat) (z0 : Int32) (z1 : Int32) (z2 : Int32) (σ : SS) : Option (Unit × SS) :=
  gd (inR z2 234) <|
  nm (si σ 21 z2.toNatClampNeg (z1 + z0)) fun σ_42 =>
  some ((), σ_42)
set_option maxRecDepth 100000 in
theorem w_X8_actOn_25 {p : Program} {l : Launch} {e : Env} {s : State} {m : MethodId} {args : Array Value} {below : List Frame} {meth : Method} {c : Code} {G : GG} {rd : Bool} {q : Nat → Nat} {N : Nat} {r : Unit} {σ' : SS} (C : cx p s m args meth c cX8_actOn 6 RX8 none G) : ∀ (z0 : Int32) (z1 : Int32) (z2 : Int32) (σ : SS) (H : Heap) (locs : List Loc) (ls : Array Slot), F_X8_actOn_25 N z0 z1 z2 σ = some (r, σ') → wx G rd q σ H → va_S (fa G) s.heap H locs → lv_has ls 6 [] → W p l e rmX8_actOn s m args below meth c H locs 0 0 (MQ below (qxv G rd q σ' r) args s 0 0 (fa G)) (F0 m 25 ls [.int z0, .int z1, .int z2, .ref (q 21)]) := by
  obtain ⟨hx, hb, hml, hown, hts, -, -, -, -⟩ := id C
  intro z0 z1 z2 σ H locs ls hF hw hS hl
  unfold F_X8_actOn_25 at hF
  refine lv_iadd hx hb dX8_actOn_25 ?_
  obtain ⟨h_41, hF⟩ := gd_e hF
  obtain ⟨σ_42, eσ_42, hF⟩ := nm_e2 hF
  refine r_iast (i := 21) (n := 234) (g := 21) (st := 0) C hw hS (wi_lo (Or.inr ⟨by decide, by decide⟩)) rfl (fun _ => ho_lo (by decide)) h_41 dX8_actOn_26 eσ_42 (fun H locs hw hS => ?_)
  refine lv_goto (tgt := 221) hx hb dX8_actOn_27 (by decide) ?_
  exact r_vret C hw hS hF dX8_actOn_221
noncomputable def F_X8_actOn (N : Nat) (x1 : Int32) (x2 : Int32) (x3 : Int32) (σ : SS) : Option (Unit × SS) :=
  if (100 : Int32) ≤ x2 then
    if (200 : Int32) ≤ x2 then
      gd (inR (x1 + (16 : Int32)) 234) <|
      if (gi σ 21 (x1 + (16 : Int32)).toNatClampNeg) ≤ (x2 - (200 : Int32)) then
        some ((), σ)
      else
        if (x2 - (200 : Int32)) = (gi σ 1 14) then
          some ((), σ)
        else
          nm (x2 - (200 : Int32)) fun x_48 =>
          gd (inR ((x1 + (12 : Int32)) + x_48) 234) <|
          gd (inR (x1 + (35 : Int32)) 234) <|
          nm ((gi σ 21 ((x1 + (12 : Int32)) + x_48).toNatClampNeg) + (gi σ 21 (x1 + (35 : Int32)).toNatClampNeg)) fun x_51 =>
          bd (F_X8_joinedOn N x1 x_48 σ) fun r_52 σ_53 =>
          gd (inR ((x1 + (12 : Int32)) + x_48) 234) <|
          nm (si σ_53 21 ((x1 + (12 : Int32)) + x_48).toNatClampNeg r_52) fun σ_56 =>
          gd (inR ((x1 + (12 : Int32)) + x_48) 234) <|
          gd (inR (x1 + (35 : Int32)) 234) <|
          nm (si σ_56 21 (x1 + (35 : Int32)).toNatClampNeg (x_51 - (gi σ_56 21 ((x1 + (12 : Int32)) + x_48).toNatClampNeg))) fun σ_59 =>
          some ((), σ_59)
    else
      gd (inR (x1 + (35 : Int32)) 234) <|
      nm (gi σ 21 (x1 + (35 : Int32)).toNatClampNeg) fun x_61 =>
      if (x2 - (100 : Int32)) ≤ x_61 then
        F_X8_actOn_66 N x1 x2 x_61 (x2 - (100 : Int32)) σ
      else
        F_X8_actOn_66 N x1 x2 x_61 x_61 σ
  else
    gd (inR (x1 + (35 : Int32)) 234) <|
    if x3 = (0 : Int32) then
      F_X8_actOn_25 N x2 (gi σ 21 (x1 + (35 : Int32)).toNatClampNeg) (x1 + (35 : Int32)) σ
    else
      F_X8_actOn_25 N (0 : Int32) (gi σ 21 (x1 + (35 : Int32)).toNatClampNeg) (x1 + (35 : Int32)) σ
set_option maxRecDepth 100000 in
theorem met_X8_actOn (l : Launch) (G : GG) (rd : Bool) (q : Nat → Nat) {N : Nat} {x1 : Int32} {x2 : Int32} {x3 : Int32} {σ σ' : SS} {r : Unit} (hF : F_X8_actOn N x1 x2 x3 σ = some (r, σ')) : Met l yX8_actOn (ws_ yX8_actOn cX8_actOn 6 none) rmX8_actOn (pcx G rd q σ [.ref (q 1), .int x1, .int x2, .int x3]) (qxv G rd q σ' r) 0 0 (fa G) := by
  refine met_of (by decide) (Nat.le_of_ble_eq_true rfl) ?_
  intro p e s m below meth c C H locs ls hw hS hl
  obtain ⟨hx, hb, hml, hown, hts, -, -, -, -⟩ := id C
  have hl : lv_has ls 6 [(0, .ref (q 1)), (1, .int x1), (2, .int x2), (3, .int x3)] := hl
  unfold F_X8_actOn at hF
  refine lv_iload_n hx hb dX8_actOn_0 rfl (lv_at hl 2 rfl) ?_
  refine lv_bipush (v := (100 : Int32)) hx hb dX8_actOn_1 (by decide) ?_
  refine lv_icmp_ge (tgt := 30) hx hb dX8_actOn_3 (by decide) (fun c_43 => ?_) (fun c_43 => ?_)
  · have hF := it_e hF c_43
    refine lv_iload_n hx hb dX8_actOn_30 rfl (lv_at hl 2 rfl) ?_
    refine lv_sipush (v := (200 : Int32)) hx hb dX8_actOn_31 (by decide) ?_
    refine lv_icmp_ge (tgt := 118) hx hb dX8_actOn_34 (by decide) (fun c_44 => ?_) (fun c_44 => ?_)
    · have hF := it_e hF c_44
      refine lv_iload_n hx hb dX8_actOn_118 rfl (lv_at hl 2 rfl) ?_
      refine lv_sipush (v := (200 : Int32)) hx hb dX8_actOn_119 (by decide) ?_
      refine lv_isub hx hb dX8_actOn_122 ?_
      refine lv_aload_n hx hb dX8_actOn_123 rfl (lv_at hl 0 rfl) ?_
      refine r_get8 C hw 0 (by decide) rfl (v := .ref (q 21)) rfl q955 dX8_actOn_124 ?_
      refine lv_iload_n hx hb dX8_actOn_127 rfl (lv_at hl 1 rfl) ?_
      refine lv_bipush (v := (16 : Int32)) hx hb dX8_actOn_128 (by decide) ?_
      refine lv_iadd hx hb dX8_actOn_130 ?_
      obtain ⟨h_45, hF⟩ := gd_e hF
      refine r_iald (i := 21) (n := 234) (g := 21) (st := 0) C hw (wi_lo (Or.inr ⟨by decide, by decide⟩)) rfl h_45 dX8_actOn_131 ?_
      refine lv_icmp_ge (tgt := 221) hx hb dX8_actOn_132 (by decide) (fun c_46 => ?_) (fun c_46 => ?_)
      · have hF := it_e hF c_46
        exact r_vret C hw hS hF dX8_actOn_221
      · have hF := if_e hF c_46
        refine lv_iload_n hx hb dX8_actOn_135 rfl (lv_at hl 2 rfl) ?_
        refine lv_sipush (v := (200 : Int32)) hx hb dX8_actOn_136 (by decide) ?_
        refine lv_isub hx hb dX8_actOn_139 ?_
        refine lv_aload_n hx hb dX8_actOn_140 rfl (lv_at hl 0 rfl) ?_
        refine r_get8 C hw 14 (by decide) rfl (v := .int (gi σ 1 14)) rfl q969 dX8_actOn_141 ?_
        refine lv_icmp_eq (tgt := 221) hx hb dX8_actOn_144 (by decide) (fun c_47 => ?_) (fun c_47 => ?_)
        · have hF := it_e hF c_47
          exact r_vret C hw hS hF dX8_actOn_221
        · have hF := if_e hF c_47
          refine lv_iload_n hx hb dX8_actOn_147 rfl (lv_at hl 2 rfl) ?_
          refine lv_sipush (v := (200 : Int32)) hx hb dX8_actOn_148 (by decide) ?_
          refine lv_isub hx hb dX8_actOn_151 ?_
          obtain ⟨x_48, ex_48, hF⟩ := nm_e2 hF
          refine r_topi ex_48 ?_
          refine lv_istore (lv' := [(4, .int x_48), (0, .ref (q 1)), (1, .int x1), (2, .int x2), (3, .int x3)]) hx hb dX8_actOn_152 hl (by decide) rfl (fun ls hl => ?_)
          refine lv_aload_n hx hb dX8_actOn_154 rfl (lv_at hl 1 rfl) ?_
          refine r_get8 C hw 0 (by decide) rfl (v := .ref (q 21)) rfl q955 dX8_actOn_155 ?_
          refine lv_iload_n hx hb dX8_actOn_158 rfl (lv_at hl 2 rfl) ?_
          refine lv_bipush (v := (12 : Int32)) hx hb dX8_actOn_159 (by decide) ?_
          refine lv_iadd hx hb dX8_actOn_161 ?_
          refine lv_iload hx hb dX8_actOn_162 (lv_at hl 0 rfl) ?_
          refine lv_iadd hx hb dX8_actOn_164 ?_
          obtain ⟨h_49, hF⟩ := gd_e hF
          refine r_iald (i := 21) (n := 234) (g := 21) (st := 0) C hw (wi_lo (Or.inr ⟨by decide, by decide⟩)) rfl h_49 dX8_actOn_165 ?_
          refine lv_aload_n hx hb dX8_actOn_166 rfl (lv_at hl 1 rfl) ?_
          refine r_get8 C hw 0 (by decide) rfl (v := .ref (q 21)) rfl q955 dX8_actOn_167 ?_
          refine lv_iload_n hx hb dX8_actOn_170 rfl (lv_at hl 2 rfl) ?_
          refine lv_bipush (v := (35 : Int32)) hx hb dX8_actOn_171 (by decide) ?_
          refine lv_iadd hx hb dX8_actOn_173 ?_
          obtain ⟨h_50, hF⟩ := gd_e hF
          refine r_iald (i := 21) (n := 234) (g := 21) (st := 0) C hw (wi_lo (Or.inr ⟨by decide, by decide⟩)) rfl h_50 dX8_actOn_174 ?_
          refine lv_iadd hx hb dX8_actOn_175 ?_
          obtain ⟨x_51, ex_51, hF⟩ := nm_e2 hF
          refine r_topi ex_51 ?_
          refine lv_istore (lv' := [(5, .int x_51), (4, .int x_48), (0, .ref (q 1)), (1, .int x1), (2, .int x2), (3, .int x3)]) hx hb dX8_actOn_176 hl (by decide) rfl (fun ls hl => ?_)
          refine lv_aload_n hx hb dX8_actOn_178 rfl (lv_at hl 2 rfl) ?_
          refine r_get8 C hw 0 (by decide) rfl (v := .ref (q 21)) rfl q955 dX8_actOn_179 ?_
          refine lv_iload_n hx hb dX8_actOn_182 rfl (lv_at hl 3 rfl) ?_
          refine lv_bipush (v := (12 : Int32)) hx hb dX8_actOn_183 (by decide) ?_
          refine lv_iadd hx hb dX8_actOn_185 ?_
          refine lv_iload hx hb dX8_actOn_186 (lv_at hl 1 rfl) ?_
          refine lv_iadd hx hb dX8_actOn_188 ?_
          refine lv_aload_n hx hb dX8_actOn_189 rfl (lv_at hl 2 rfl) ?_
          refine lv_iload_n hx hb dX8_actOn_190 rfl (lv_at hl 3 rfl) ?_
          refine lv_iload hx hb dX8_actOn_191 (lv_at hl 1 rfl) ?_
          obtain ⟨r_52, σ_53, h_54, hF⟩ := bd_e hF
          refine r_callVi (As := [.int x1, .int x_48]) (rest := [.int ((x1 + (12 : Int32)) + x_48), .ref (q 21)]) (i := 1) C hw hS (wi_lo (Or.inl (by decide))) rfl (ci := 8) rfl (met_X8_joinedOn l G rd q  h_54) (cwV 2 hts (lw_V q1105 q1107 qs40 q65 q1108) rfl rfl rfl (by decide +kernel) ⟨Nat.le_of_ble_eq_true rfl, Nat.le_of_ble_eq_true rfl⟩) rfl hl.1 rfl (Nat.le_of_ble_eq_true rfl) ⟨Nat.le_refl _, Nat.le_refl _⟩ dX8_actOn_193 (fun H locs hw hS => ?_)
          obtain ⟨h_55, hF⟩ := gd_e hF
          obtain ⟨σ_56, eσ_56, hF⟩ := nm_e2 hF
          refine r_iast (i := 21) (n := 234) (g := 21) (st := 0) C hw hS (wi_lo (Or.inr ⟨by decide, by decide⟩)) rfl (fun _ => ho_lo (by decide)) h_55 dX8_actOn_196 eσ_56 (fun H locs hw hS => ?_)
          refine lv_aload_n hx hb dX8_actOn_197 rfl (lv_at hl 2 rfl) ?_
          refine r_get8 C hw 0 (by decide) rfl (v := .ref (q 21)) rfl q955 dX8_actOn_198 ?_
          refine lv_iload_n hx hb dX8_actOn_201 rfl (lv_at hl 3 rfl) ?_
          refine lv_bipush (v := (35 : Int32)) hx hb dX8_actOn_202 (by decide) ?_
          refine lv_iadd hx hb dX8_actOn_204 ?_
          refine lv_iload hx hb dX8_actOn_205 (lv_at hl 0 rfl) ?_
          refine lv_aload_n hx hb dX8_actOn_207 rfl (lv_at hl 2 rfl) ?_
          refine r_get8 C hw 0 (by decide) rfl (v := .ref (q 21)) rfl q955 dX8_actOn_208 ?_
          refine lv_iload_n hx hb dX8_actOn_211 rfl (lv_at hl 3 rfl) ?_
          refine lv_bipush (v := (12 : Int32)) hx hb dX8_actOn_212 (by decide) ?_
          refine lv_iadd hx hb dX8_actOn_214 ?_
          refine lv_iload hx hb dX8_actOn_215 (lv_at hl 1 rfl) ?_
          refine lv_iadd hx hb dX8_actOn_217 ?_
          obtain ⟨h_57, hF⟩ := gd_e hF
          refine r_iald (i := 21) (n := 234) (g := 21) (st := 0) C hw (wi_lo (Or.inr ⟨by decide, by decide⟩)) rfl h_57 dX8_actOn_218 ?_
          refine lv_isub hx hb dX8_actOn_219 ?_
          obtain ⟨h_58, hF⟩ := gd_e hF
          obtain ⟨σ_59, eσ_59, hF⟩ := nm_e2 hF
          refine r_iast (i := 21) (n := 234) (g := 21) (st := 0) C hw hS (wi_lo (Or.inr ⟨by decide, by decide⟩)) rfl (fun _ => ho_lo (by decide)) h_58 dX8_actOn_220 eσ_59 (fun H locs hw hS => ?_)
          exact r_vret C hw hS hF dX8_actOn_221
    · have hF := if_e hF c_44
      refine lv_aload_n hx hb dX8_actOn_37 rfl (lv_at hl 0 rfl) ?_
      refine r_get8 C hw 0 (by decide) rfl (v := .ref (q 21)) rfl q955 dX8_actOn_38 ?_
      refine lv_iload_n hx hb dX8_actOn_41 rfl (lv_at hl 1 rfl) ?_
      refine lv_bipush (v := (35 : Int32)) hx hb dX8_actOn_42 (by decide) ?_
      refine lv_iadd hx hb dX8_actOn_44 ?_
      obtain ⟨h_60, hF⟩ := gd_e hF
      refine r_iald (i := 21) (n := 234) (g := 21) (st := 0) C hw (wi_lo (Or.inr ⟨by decide, by decide⟩)) rfl h_60 dX8_actOn_45 ?_
      obtain ⟨x_61, ex_61, hF⟩ := nm_e2 hF
      refine r_topi ex_61 ?_
      refine lv_istore (lv' := [(4, .int x_61), (0, .ref (q 1)), (1, .int x1), (2, .int x2), (3, .int x3)]) hx hb dX8_actOn_46 hl (by decide) rfl (fun ls hl => ?_)
      refine lv_iload_n hx hb dX8_actOn_48 rfl (lv_at hl 3 rfl) ?_
      refine lv_bipush (v := (100 : Int32)) hx hb dX8_actOn_49 (by decide) ?_
      refine lv_isub hx hb dX8_actOn_51 ?_
      refine lv_iload hx hb dX8_actOn_52 (lv_at hl 0 rfl) ?_
      refine lv_icmp_le (tgt := 62) hx hb dX8_actOn_54 (by decide) (fun c_62 => ?_) (fun c_62 => ?_)
      · have hF := it_e hF c_62
        refine lv_iload_n hx hb dX8_actOn_62 rfl (lv_at hl 3 rfl) ?_
        refine lv_bipush (v := (100 : Int32)) hx hb dX8_actOn_63 (by decide) ?_
        refine lv_isub hx hb dX8_actOn_65 ?_
        exact w_X8_actOn_66 C   _ _ _ _ _ _ _ _ hF hw hS (lv_sub hl [1, 2, 3, 0] rfl)
      · have hF := if_e hF c_62
        refine lv_iload hx hb dX8_actOn_57 (lv_at hl 0 rfl) ?_
        refine lv_goto (tgt := 66) hx hb dX8_actOn_59 (by decide) ?_
        exact w_X8_actOn_66 C   _ _ _ _ _ _ _ _ hF hw hS (lv_sub hl [1, 2, 3, 0] rfl)
  · have hF := if_e hF c_43
    refine lv_aload_n hx hb dX8_actOn_6 rfl (lv_at hl 0 rfl) ?_
    refine r_get8 C hw 0 (by decide) rfl (v := .ref (q 21)) rfl q955 dX8_actOn_7 ?_
    refine lv_iload_n hx hb dX8_actOn_10 rfl (lv_at hl 1 rfl) ?_
    refine lv_bipush (v := (35 : Int32)) hx hb dX8_actOn_11 (by decide) ?_
    refine lv_iadd hx hb dX8_actOn_13 ?_
    refine lv_dup2_11 hx hb dX8_actOn_14 rfl rfl ?_
    obtain ⟨h_63, hF⟩ := gd_e hF
    refine r_iald (i := 21) (n := 234) (g := 21) (st := 0) C hw (wi_lo (Or.inr ⟨by decide, by decide⟩)) rfl h_63 dX8_actOn_15 ?_
    refine lv_iload_n hx hb dX8_actOn_16 rfl (lv_at hl 3 rfl) ?_
    refine lv_if_eq (tgt := 24) hx hb dX8_actOn_17 (by decide) (fun c_64 => ?_) (fun c_64 => ?_)
    · have hF := it_e hF c_64
      refine lv_iload_n hx hb dX8_actOn_24 rfl (lv_at hl 2 rfl) ?_
      exact w_X8_actOn_25 C   _ _ _ _ _ _ _ hF hw hS (lv_sub hl [] rfl)
    · have hF := if_e hF c_64
      refine lv_iconst (v := (0 : Int32)) hx hb dX8_actOn_20 (by decide) ?_
      refine lv_goto (tgt := 25) hx hb dX8_actOn_21 (by decide) ?_
      exact w_X8_actOn_25 C   _ _ _ _ _ _ _ hF hw hS (lv_sub hl [] rfl)
abbrev rmX8_adds : Room := { frames := 2, cells := 0, slots := 0, locals := 85 }
noncomputable def F_X8_adds (N : Nat) (x1 : Int32) (σ : SS) : Option (Int32 × SS) :=
  bd (F_X8_in N x1.toInt64 (0 : Int64) (203 : Int64) σ) fun r_14 σ_15 =>
  if r_14 = (0 : Int32) then
    some ((-1 : Int32), σ_15)
  else
    gd (inR (33 : Int32) 234) <|
    if (gi σ_15 21 (33 : Int32).toNatClampNeg) = (16 : Int32) then
      some ((-3 : Int32), σ_15)
    else
      gd (inR (33 : Int32) 234) <|
      gd (inR ((17 : Int32) + (gi σ_15 21 (33 : Int32).toNatClampNeg)) 234) <|
      nm (si σ_15 21 ((17 : Int32) + (gi σ_15 21 (33 : Int32).toNatClampNeg)).toNatClampNeg x1) fun σ_22 =>
      gd (inR (33 : Int32) 234) <|
      gd (inR (33 : Int32) 234) <|
      nm (si σ_22 21 (33 : Int32).toNatClampNeg ((gi σ_22 21 (33 : Int32).toNatClampNeg) + (1 : Int32))) fun σ_25 =>
      gd (inR (33 : Int32) 234) <|
      some (gi σ_25 21 (33 : Int32).toNatClampNeg, σ_25)
set_option maxRecDepth 100000 in
theorem met_X8_adds (l : Launch) (G : GG) (rd : Bool) (q : Nat → Nat) {N : Nat} {x1 : Int32} {σ σ' : SS} {r : Int32} (hF : F_X8_adds N x1 σ = some (r, σ')) : Met l yX8_adds (ws_ yX8_adds cX8_adds 2 (some .int)) rmX8_adds (pcx G rd q σ [.ref (q 1), .int x1]) (qxi G rd q σ' r) 0 0 (fa G) := by
  refine met_of (by decide) (Nat.le_of_ble_eq_true rfl) ?_
  intro p e s m below meth c C H locs ls hw hS hl
  obtain ⟨hx, hb, hml, hown, hts, -, -, -, -⟩ := id C
  have hl : lv_has ls 2 [(0, .ref (q 1)), (1, .int x1)] := hl
  unfold F_X8_adds at hF
  refine lv_iload_n hx hb dX8_adds_0 rfl (lv_at hl 1 rfl) ?_
  refine lv_i2l hx hb dX8_adds_1 rfl ?_
  refine lv_lconst (v := (0 : Int64)) hx hb dX8_adds_2 (by decide) ?_
  refine lv_ldc2 (v := (203 : Int64)) hx hb hown (hts _ q1145) dX8_adds_3 ?_
  obtain ⟨r_14, σ_15, h_16, hF⟩ := bd_e hF
  refine r_callSi (As := [.long x1.toInt64, .long (0 : Int64), .long (203 : Int64)]) (rest := []) C hw hS (met_X8_in l G rd q  h_16) (cwS 3 hts (lw_S q1040 q1041 q65 q1042) rfl rfl rfl (by decide +kernel) ⟨Nat.le_of_ble_eq_true rfl, Nat.le_of_ble_eq_true rfl⟩) rfl hl.1 rfl (Nat.le_of_ble_eq_true rfl) ⟨Nat.le_refl _, Nat.le_refl _⟩ dX8_adds_6 (fun H locs hw hS => ?_)
  refine lv_if_ne (tgt := 14) hx hb dX8_adds_9 (by decide) (fun c_17 => ?_) (fun c_17 => ?_)
  · have hF := if_e hF c_17
    refine lv_aload_n hx hb dX8_adds_14 rfl (lv_at hl 0 rfl) ?_
    refine r_get8 C hw 0 (by decide) rfl (v := .ref (q 21)) rfl q955 dX8_adds_15 ?_
    refine lv_bipush (v := (33 : Int32)) hx hb dX8_adds_18 (by decide) ?_
    obtain ⟨h_18, hF⟩ := gd_e hF
    refine r_iald (i := 21) (n := 234) (g := 21) (st := 0) C hw (wi_lo (Or.inr ⟨by decide, by decide⟩)) rfl h_18 dX8_adds_20 ?_
    refine lv_bipush (v := (16 : Int32)) hx hb dX8_adds_21 (by decide) ?_
    refine lv_icmp_ne (tgt := 29) hx hb dX8_adds_23 (by decide) (fun c_19 => ?_) (fun c_19 => ?_)
    · have hF := if_e hF c_19
      refine lv_aload_n hx hb dX8_adds_29 rfl (lv_at hl 0 rfl) ?_
      refine r_get8 C hw 0 (by decide) rfl (v := .ref (q 21)) rfl q955 dX8_adds_30 ?_
      refine lv_bipush (v := (17 : Int32)) hx hb dX8_adds_33 (by decide) ?_
      refine lv_aload_n hx hb dX8_adds_35 rfl (lv_at hl 0 rfl) ?_
      refine r_get8 C hw 0 (by decide) rfl (v := .ref (q 21)) rfl q955 dX8_adds_36 ?_
      refine lv_bipush (v := (33 : Int32)) hx hb dX8_adds_39 (by decide) ?_
      obtain ⟨h_20, hF⟩ := gd_e hF
      refine r_iald (i := 21) (n := 234) (g := 21) (st := 0) C hw (wi_lo (Or.inr ⟨by decide, by decide⟩)) rfl h_20 dX8_adds_41 ?_
      refine lv_iadd hx hb dX8_adds_42 ?_
      refine lv_iload_n hx hb dX8_adds_43 rfl (lv_at hl 1 rfl) ?_
      obtain ⟨h_21, hF⟩ := gd_e hF
      obtain ⟨σ_22, eσ_22, hF⟩ := nm_e2 hF
      refine r_iast (i := 21) (n := 234) (g := 21) (st := 0) C hw hS (wi_lo (Or.inr ⟨by decide, by decide⟩)) rfl (fun _ => ho_lo (by decide)) h_21 dX8_adds_44 eσ_22 (fun H locs hw hS => ?_)
      refine lv_aload_n hx hb dX8_adds_45 rfl (lv_at hl 0 rfl) ?_
      refine r_get8 C hw 0 (by decide) rfl (v := .ref (q 21)) rfl q955 dX8_adds_46 ?_
      refine lv_bipush (v := (33 : Int32)) hx hb dX8_adds_49 (by decide) ?_
      refine lv_dup2_11 hx hb dX8_adds_51 rfl rfl ?_
      obtain ⟨h_23, hF⟩ := gd_e hF
      refine r_iald (i := 21) (n := 234) (g := 21) (st := 0) C hw (wi_lo (Or.inr ⟨by decide, by decide⟩)) rfl h_23 dX8_adds_52 ?_
      refine lv_iconst (v := (1 : Int32)) hx hb dX8_adds_53 (by decide) ?_
      refine lv_iadd hx hb dX8_adds_54 ?_
      obtain ⟨h_24, hF⟩ := gd_e hF
      obtain ⟨σ_25, eσ_25, hF⟩ := nm_e2 hF
      refine r_iast (i := 21) (n := 234) (g := 21) (st := 0) C hw hS (wi_lo (Or.inr ⟨by decide, by decide⟩)) rfl (fun _ => ho_lo (by decide)) h_24 dX8_adds_55 eσ_25 (fun H locs hw hS => ?_)
      refine lv_aload_n hx hb dX8_adds_56 rfl (lv_at hl 0 rfl) ?_
      refine r_get8 C hw 0 (by decide) rfl (v := .ref (q 21)) rfl q955 dX8_adds_57 ?_
      refine lv_bipush (v := (33 : Int32)) hx hb dX8_adds_60 (by decide) ?_
      obtain ⟨h_26, hF⟩ := gd_e hF
      refine r_iald (i := 21) (n := 234) (g := 21) (st := 0) C hw (wi_lo (Or.inr ⟨by decide, by decide⟩)) rfl h_26 dX8_adds_62 ?_
      exact r_iret C hw hS hF dX8_adds_63
    · have hF := it_e hF c_19
      refine lv_bipush (v := (-3 : Int32)) hx hb dX8_adds_26 (by decide) ?_
      exact r_iret C hw hS hF dX8_adds_28
  · have hF := it_e hF c_17
    refine lv_iconst (v := (-1 : Int32)) hx hb dX8_adds_12 (by decide) ?_
    exact r_iret C hw hS hF dX8_adds_13
abbrev rmX8_add : Room := { frames := 3, cells := 0, slots := 0, locals := 106 }
noncomputable def F_X8_add (N : Nat) (x1 : Int32) (σ : SS) : Option (Int32 × SS) :=
  bd (F_X8_adds N x1 σ) fun r_4 σ_5 =>
  some (r_4, σ_5)
set_option maxRecDepth 100000 in
theorem met_X8_add (l : Launch) (G : GG) (rd : Bool) (q : Nat → Nat) {N : Nat} {x1 : Int32} {σ σ' : SS} {r : Int32} (hF : F_X8_add N x1 σ = some (r, σ')) : Met l yX8_add (ws_ yX8_add cX8_add 2 (some .int)) rmX8_add (pcx G rd q σ [.ref (q 1), .int x1]) (qxi G rd q σ' r) 0 0 (fa G) := by
  refine met_of (by decide) (Nat.le_of_ble_eq_true rfl) ?_
  intro p e s m below meth c C H locs ls hw hS hl
  obtain ⟨hx, hb, hml, hown, hts, -, -, -, -⟩ := id C
  have hl : lv_has ls 2 [(0, .ref (q 1)), (1, .int x1)] := hl
  unfold F_X8_add at hF
  refine lv_aload_n hx hb dX8_add_0 rfl (lv_at hl 0 rfl) ?_
  refine lv_iload_n hx hb dX8_add_1 rfl (lv_at hl 1 rfl) ?_
  obtain ⟨r_4, σ_5, h_6, hF⟩ := bd_e hF
  refine r_callVi (As := [.int x1]) (rest := []) (i := 1) C hw hS (wi_lo (Or.inl (by decide))) rfl (ci := 8) rfl (met_X8_adds l G rd q  h_6) (cwV 1 hts (lw_V q1150 q1152 qs43 q65 q1153) rfl rfl rfl (by decide +kernel) ⟨Nat.le_of_ble_eq_true rfl, Nat.le_of_ble_eq_true rfl⟩) rfl hl.1 rfl (Nat.le_of_ble_eq_true rfl) ⟨Nat.le_refl _, Nat.le_refl _⟩ dX8_add_2 (fun H locs hw hS => ?_)
  exact r_iret C hw hS hF dX8_add_5
abbrev rmX8_copies : Room := { frames := 1, cells := 0, slots := 0, locals := 60 }
noncomputable def B_X8_copies_2 (N : Nat) (IH : Int32 → Int32 → Int32 → SS → Option (Unit × SS)) (x1 : Int32) (x2 : Int32) (x3 : Int32) (σ : SS) : Option (Unit × SS) :=
  if (39 : Int32) ≤ x3 then
    some ((), σ)
  else
    gd (inR (x1 + x3) 234) <|
    gd (inR (x2 + x3) 234) <|
    nm (si σ 21 (x2 + x3).toNatClampNeg (gi σ 21 (x1 + x3).toNatClampNeg)) fun σ_9 =>
    nm (x3 + (1 : Int32)) fun x_10 =>
    IH x1 x2 x_10 σ_9
noncomputable def F_X8_copies_2 (N : Nat) (n : Nat) : Int32 → Int32 → Int32 → SS → Option (Unit × SS) := Nat.rec (fun _ _ _ _ => none) (fun _ IH => B_X8_copies_2 N IH) n
set_option maxRecDepth 100000 in
theorem w_X8_copies_2 {p : Program} {l : Launch} {e : Env} {s : State} {m : MethodId} {args : Array Value} {below : List Frame} {meth : Method} {c : Code} {G : GG} {rd : Bool} {q : Nat → Nat} {N : Nat} {r : Unit} {σ' : SS} (C : cx p s m args meth c cX8_copies 4 RX8 none G) : ∀ (n : Nat), ∀ (x1 : Int32) (x2 : Int32) (x3 : Int32) (σ : SS) (H : Heap) (locs : List Loc) (ls : Array Slot), F_X8_copies_2 N n x1 x2 x3 σ = some (r, σ') → wx G rd q σ H → va_S (fa G) s.heap H locs → lv_has ls 4 [(0, .ref (q 1)), (1, .int x1), (2, .int x2), (3, .int x3)] → W p l e rmX8_copies s m args below meth c H locs 0 0 (MQ below (qxv G rd q σ' r) args s 0 0 (fa G)) (F0 m 2 ls []) := by
  obtain ⟨hx, hb, hml, hown, hts, -, -, -, -⟩ := id C
  intro n
  induction n with
  | zero =>
    intro x1 x2 x3 σ H locs ls hF hw hS hl
    cases hF
  | succ n ih =>
    intro x1 x2 x3 σ H locs ls hF hw hS hl
    have hF : B_X8_copies_2 N (F_X8_copies_2 N n) x1 x2 x3 σ = some (r, σ') := hF
    unfold B_X8_copies_2 at hF
    refine lv_iload_n hx hb dX8_copies_2 rfl (lv_at hl 3 rfl) ?_
    refine lv_bipush (v := (39 : Int32)) hx hb dX8_copies_3 (by decide) ?_
    refine lv_icmp_ge (tgt := 30) hx hb dX8_copies_5 (by decide) (fun c_6 => ?_) (fun c_6 => ?_)
    · have hF := it_e hF c_6
      exact r_vret C hw hS hF dX8_copies_30
    · have hF := if_e hF c_6
      refine lv_aload_n hx hb dX8_copies_8 rfl (lv_at hl 0 rfl) ?_
      refine r_get8 C hw 0 (by decide) rfl (v := .ref (q 21)) rfl q955 dX8_copies_9 ?_
      refine lv_iload_n hx hb dX8_copies_12 rfl (lv_at hl 2 rfl) ?_
      refine lv_iload_n hx hb dX8_copies_13 rfl (lv_at hl 3 rfl) ?_
      refine lv_iadd hx hb dX8_copies_14 ?_
      refine lv_aload_n hx hb dX8_copies_15 rfl (lv_at hl 0 rfl) ?_
      refine r_get8 C hw 0 (by decide) rfl (v := .ref (q 21)) rfl q955 dX8_copies_16 ?_
      refine lv_iload_n hx hb dX8_copies_19 rfl (lv_at hl 1 rfl) ?_
      refine lv_iload_n hx hb dX8_copies_20 rfl (lv_at hl 3 rfl) ?_
      refine lv_iadd hx hb dX8_copies_21 ?_
      obtain ⟨h_7, hF⟩ := gd_e hF
      refine r_iald (i := 21) (n := 234) (g := 21) (st := 0) C hw (wi_lo (Or.inr ⟨by decide, by decide⟩)) rfl h_7 dX8_copies_22 ?_
      obtain ⟨h_8, hF⟩ := gd_e hF
      obtain ⟨σ_9, eσ_9, hF⟩ := nm_e2 hF
      refine r_iast (i := 21) (n := 234) (g := 21) (st := 0) C hw hS (wi_lo (Or.inr ⟨by decide, by decide⟩)) rfl (fun _ => ho_lo (by decide)) h_8 dX8_copies_23 eσ_9 (fun H locs hw hS => ?_)
      obtain ⟨x_10, ex_10, hF⟩ := nm_e2 hF
      refine lv_iinc (v := x_10) (lv' := [(3, .int x_10), (0, .ref (q 1)), (1, .int x1), (2, .int x2)]) hx hb dX8_copies_24 hl (k := 3) rfl (by rw [ex_10]; rfl) (by decide) rfl (fun ls hl => ?_)
      refine lv_goto (tgt := 2) hx hb dX8_copies_27 (by decide) ?_
      exact ih _ _ _ _ _ _ _ hF hw hS (lv_sub hl [1, 2, 3, 0] rfl)
noncomputable def F_X8_copies (N : Nat) (x1 : Int32) (x2 : Int32) (σ : SS) : Option (Unit × SS) :=
  F_X8_copies_2 N N x1 x2 (0 : Int32) σ
set_option maxRecDepth 100000 in
theorem met_X8_copies (l : Launch) (G : GG) (rd : Bool) (q : Nat → Nat) {N : Nat} {x1 : Int32} {x2 : Int32} {σ σ' : SS} {r : Unit} (hF : F_X8_copies N x1 x2 σ = some (r, σ')) : Met l yX8_copies (ws_ yX8_copies cX8_copies 4 none) rmX8_copies (pcx G rd q σ [.ref (q 1), .int x1, .int x2]) (qxv G rd q σ' r) 0 0 (fa G) := by
  refine met_of (by decide) (Nat.le_of_ble_eq_true rfl) ?_
  intro p e s m below meth c C H locs ls hw hS hl
  obtain ⟨hx, hb, hml, hown, hts, -, -, -, -⟩ := id C
  have hl : lv_has ls 4 [(0, .ref (q 1)), (1, .int x1), (2, .int x2)] := hl
  unfold F_X8_copies at hF
  refine lv_iconst (v := (0 : Int32)) hx hb dX8_copies_0 (by decide) ?_
  refine lv_istore_n (lv' := [(3, .int (0 : Int32)), (0, .ref (q 1)), (1, .int x1), (2, .int x2)]) hx hb dX8_copies_1 rfl hl (by decide) rfl (fun ls hl => ?_)
  exact w_X8_copies_2 C   N _ _ _ _ _ _ _ hF hw hS (lv_sub hl [1, 2, 3, 0] rfl)
abbrev rmX8_speedOn : Room := { frames := 1, cells := 0, slots := 0, locals := 60 }
noncomputable def F_X8_speedOn (N : Nat) (x1 : Int32) (σ : SS) : Option (Int32 × SS) :=
  gd (inR (x1 + (35 : Int32)) 234) <|
  gd (inR (x1 + (34 : Int32)) 234) <|
  gd (¬ ((gi σ 21 (x1 + (34 : Int32)).toNatClampNeg) + (5 : Int32)) = 0) <|
  some ((gi σ 21 (x1 + (35 : Int32)).toNatClampNeg) / ((gi σ 21 (x1 + (34 : Int32)).toNatClampNeg) + (5 : Int32)), σ)
set_option maxRecDepth 100000 in
theorem met_X8_speedOn (l : Launch) (G : GG) (rd : Bool) (q : Nat → Nat) {N : Nat} {x1 : Int32} {σ σ' : SS} {r : Int32} (hF : F_X8_speedOn N x1 σ = some (r, σ')) : Met l yX8_speedOn (ws_ yX8_speedOn cX8_speedOn 2 (some .int)) rmX8_speedOn (pcx G rd q σ [.ref (q 1), .int x1]) (qxi G rd q σ' r) 0 0 (fa G) := by
  refine met_of (by decide) (Nat.le_of_ble_eq_true rfl) ?_
  intro p e s m below meth c C H locs ls hw hS hl
  obtain ⟨hx, hb, hml, hown, hts, -, -, -, -⟩ := id C
  have hl : lv_has ls 2 [(0, .ref (q 1)), (1, .int x1)] := hl
  unfold F_X8_speedOn at hF
  refine lv_aload_n hx hb dX8_speedOn_0 rfl (lv_at hl 0 rfl) ?_
  refine r_get8 C hw 0 (by decide) rfl (v := .ref (q 21)) rfl q955 dX8_speedOn_1 ?_
  refine lv_iload_n hx hb dX8_speedOn_4 rfl (lv_at hl 1 rfl) ?_
  refine lv_bipush (v := (35 : Int32)) hx hb dX8_speedOn_5 (by decide) ?_
  refine lv_iadd hx hb dX8_speedOn_7 ?_
  obtain ⟨h_4, hF⟩ := gd_e hF
  refine r_iald (i := 21) (n := 234) (g := 21) (st := 0) C hw (wi_lo (Or.inr ⟨by decide, by decide⟩)) rfl h_4 dX8_speedOn_8 ?_
  refine lv_aload_n hx hb dX8_speedOn_9 rfl (lv_at hl 0 rfl) ?_
  refine r_get8 C hw 0 (by decide) rfl (v := .ref (q 21)) rfl q955 dX8_speedOn_10 ?_
  refine lv_iload_n hx hb dX8_speedOn_13 rfl (lv_at hl 1 rfl) ?_
  refine lv_bipush (v := (34 : Int32)) hx hb dX8_speedOn_14 (by decide) ?_
  refine lv_iadd hx hb dX8_speedOn_16 ?_
  obtain ⟨h_5, hF⟩ := gd_e hF
  refine r_iald (i := 21) (n := 234) (g := 21) (st := 0) C hw (wi_lo (Or.inr ⟨by decide, by decide⟩)) rfl h_5 dX8_speedOn_17 ?_
  refine lv_iconst (v := (5 : Int32)) hx hb dX8_speedOn_18 (by decide) ?_
  refine lv_iadd hx hb dX8_speedOn_19 ?_
  obtain ⟨h_6, hF⟩ := gd_e hF
  refine lv_idiv hx hb dX8_speedOn_20 h_6 ?_
  exact r_iret C hw hS hF dX8_speedOn_21
abbrev rmX8_lossesOn : Room := { frames := 2, cells := 0, slots := 0, locals := 81 }
noncomputable def F_X8_lossesOn_52 (N : Nat) (K2 : Int32 → Int32 → SS → Option (Unit × SS)) (x1 : Int32) (x2 : Int32) (x4 : Int32) (z0 : Int32) (σ : SS) : Option (Unit × SS) :=
  gd (inR ((x1 + (12 : Int32)) + x2) 234) <|
  nm (si σ 21 ((x1 + (12 : Int32)) + x2).toNatClampNeg (x4 - z0)) fun σ_22 =>
  nm (si σ_22 1 16 ((gi σ_22 1 16) + z0)) fun σ_23 =>
  nm (x2 + (1 : Int32)) fun x_24 =>
  K2 x1 x_24 σ_23
set_option maxRecDepth 100000 in
theorem w_X8_lossesOn_52 {p : Program} {l : Launch} {e : Env} {s : State} {m : MethodId} {args : Array Value} {below : List Frame} {meth : Method} {c : Code} {G : GG} {rd : Bool} {q : Nat → Nat} {N : Nat} {r : Unit} {σ' : SS} (C : cx p s m args meth c cX8_lossesOn 6 RX8 none G) {K2 : Int32 → Int32 → SS → Option (Unit × SS)} (HK2 : ∀ (x1 : Int32) (x2 : Int32) (σ : SS) (H : Heap) (locs : List Loc) (ls : Array Slot), K2 x1 x2 σ = some (r, σ') → wx G rd q σ H → va_S (fa G) s.heap H locs → lv_has ls 6 [(0, .ref (q 1)), (1, .int x1), (2, .int x2)] → W p l e rmX8_lossesOn s m args below meth c H locs 0 0 (MQ below (qxv G rd q σ' r) args s 0 0 (fa G)) (F0 m 2 ls [])) : ∀ (x1 : Int32) (x2 : Int32) (x4 : Int32) (z0 : Int32) (σ : SS) (H : Heap) (locs : List Loc) (ls : Array Slot), F_X8_lossesOn_52 N K2 x1 x2 x4 z0 σ = some (r, σ') → wx G rd q σ H → va_S (fa G) s.heap H locs → lv_has ls 6 [(0, .ref (q 1)), (1, .int x1), (2, .int x2), (4, .int x4)] → W p l e rmX8_lossesOn s m args below meth c H locs 0 0 (MQ below (qxv G rd q σ' r) args s 0 0 (fa G)) (F0 m 52 ls [.int z0]) := by
  obtain ⟨hx, hb, hml, hown, hts, -, -, -, -⟩ := id C
  intro x1 x2 x4 z0 σ H locs ls hF hw hS hl
  unfold F_X8_lossesOn_52 at hF
  refine lv_istore (lv' := [(5, .int z0), (0, .ref (q 1)), (1, .int x1), (2, .int x2), (4, .int x4)]) hx hb dX8_lossesOn_52 hl (by decide) rfl (fun ls hl => ?_)
  refine lv_aload_n hx hb dX8_lossesOn_54 rfl (lv_at hl 1 rfl) ?_
  refine r_get8 C hw 0 (by decide) rfl (v := .ref (q 21)) rfl q955 dX8_lossesOn_55 ?_
  refine lv_iload_n hx hb dX8_lossesOn_58 rfl (lv_at hl 2 rfl) ?_
  refine lv_bipush (v := (12 : Int32)) hx hb dX8_lossesOn_59 (by decide) ?_
  refine lv_iadd hx hb dX8_lossesOn_61 ?_
  refine lv_iload_n hx hb dX8_lossesOn_62 rfl (lv_at hl 3 rfl) ?_
  refine lv_iadd hx hb dX8_lossesOn_63 ?_
  refine lv_iload hx hb dX8_lossesOn_64 (lv_at hl 4 rfl) ?_
  refine lv_iload hx hb dX8_lossesOn_66 (lv_at hl 0 rfl) ?_
  refine lv_isub hx hb dX8_lossesOn_68 ?_
  obtain ⟨h_21, hF⟩ := gd_e hF
  obtain ⟨σ_22, eσ_22, hF⟩ := nm_e2 hF
  refine r_iast (i := 21) (n := 234) (g := 21) (st := 0) C hw hS (wi_lo (Or.inr ⟨by decide, by decide⟩)) rfl (fun _ => ho_lo (by decide)) h_21 dX8_lossesOn_69 eσ_22 (fun H locs hw hS => ?_)
  refine lv_aload_n hx hb dX8_lossesOn_70 rfl (lv_at hl 1 rfl) ?_
  refine lv_dup hx hb dX8_lossesOn_71 rfl ?_
  refine r_get8 C hw 16 (by decide) rfl (v := .int (gi σ_22 1 16)) rfl q971 dX8_lossesOn_72 ?_
  refine lv_iload hx hb dX8_lossesOn_75 (lv_at hl 0 rfl) ?_
  refine lv_iadd hx hb dX8_lossesOn_77 ?_
  obtain ⟨σ_23, eσ_23, hF⟩ := nm_e2 hF
  refine r_put8 C hw hS 16 (by decide) rfl rfl (tyX8_ok 16 (by decide)) rfl rfl q971 dX8_lossesOn_78 eσ_23 (fun H locs hw hS => ?_)
  obtain ⟨x_24, ex_24, hF⟩ := nm_e2 hF
  refine lv_iinc (v := x_24) (lv' := [(2, .int x_24), (5, .int z0), (0, .ref (q 1)), (1, .int x1), (4, .int x4)]) hx hb dX8_lossesOn_81 hl (k := 3) rfl (by rw [ex_24]; rfl) (by decide) rfl (fun ls hl => ?_)
  refine lv_goto (tgt := 2) hx hb dX8_lossesOn_84 (by decide) ?_
  exact HK2 _ _ _ _ _ _ hF hw hS (lv_sub hl [2, 3, 0] rfl)
noncomputable def B_X8_lossesOn_2 (N : Nat) (IH : Int32 → Int32 → SS → Option (Unit × SS)) (x1 : Int32) (x2 : Int32) (σ : SS) : Option (Unit × SS) :=
  gd (inR (x1 + (16 : Int32)) 234) <|
  if (gi σ 21 (x1 + (16 : Int32)).toNatClampNeg) ≤ x2 then
    gd (inR (x1 + (36 : Int32)) 234) <|
    gd (inR (x1 + (36 : Int32)) 234) <|
    nm (si σ 21 (x1 + (36 : Int32)).toNatClampNeg ((gi σ 21 (x1 + (36 : Int32)).toNatClampNeg) + (1 : Int32))) fun σ_29 =>
    bd (F_X8_speedOn N x1 σ_29) fun r_30 σ_31 =>
    if r_30 ≤ (gi σ_31 1 17) then
      nm (si σ_31 1 17 (gi σ_31 1 17)) fun σ_34 =>
      some ((), σ_34)
    else
      nm (si σ_31 1 17 r_30) fun σ_35 =>
      some ((), σ_35)
  else
    gd (inR ((x1 + (8 : Int32)) + x2) 234) <|
    nm (gi σ 21 ((x1 + (8 : Int32)) + x2).toNatClampNeg) fun x_37 =>
    gd (inR ((x1 + (12 : Int32)) + x2) 234) <|
    nm (gi σ 21 ((x1 + (12 : Int32)) + x2).toNatClampNeg) fun x_39 =>
    if x_37 ≤ x_39 then
      F_X8_lossesOn_52 N IH x1 x2 x_39 x_37 σ
    else
      F_X8_lossesOn_52 N IH x1 x2 x_39 x_39 σ
noncomputable def F_X8_lossesOn_2 (N : Nat) (n : Nat) : Int32 → Int32 → SS → Option (Unit × SS) := Nat.rec (fun _ _ _ => none) (fun _ IH => B_X8_lossesOn_2 N IH) n
set_option maxRecDepth 100000 in
theorem w_X8_lossesOn_2 {p : Program} {l : Launch} {e : Env} {s : State} {m : MethodId} {args : Array Value} {below : List Frame} {meth : Method} {c : Code} {G : GG} {rd : Bool} {q : Nat → Nat} {N : Nat} {r : Unit} {σ' : SS} (C : cx p s m args meth c cX8_lossesOn 6 RX8 none G) : ∀ (n : Nat), ∀ (x1 : Int32) (x2 : Int32) (σ : SS) (H : Heap) (locs : List Loc) (ls : Array Slot), F_X8_lossesOn_2 N n x1 x2 σ = some (r, σ') → wx G rd q σ H → va_S (fa G) s.heap H locs → lv_has ls 6 [(0, .ref (q 1)), (1, .int x1), (2, .int x2)] → W p l e rmX8_lossesOn s m args below meth c H locs 0 0 (MQ below (qxv G rd q σ' r) args s 0 0 (fa G)) (F0 m 2 ls []) := by
  obtain ⟨hx, hb, hml, hown, hts, -, -, -, -⟩ := id C
  intro n
  induction n with
  | zero =>
    intro x1 x2 σ H locs ls hF hw hS hl
    cases hF
  | succ n ih =>
    intro x1 x2 σ H locs ls hF hw hS hl
    have hF : B_X8_lossesOn_2 N (F_X8_lossesOn_2 N n) x1 x2 σ = some (r, σ') := hF
    unfold B_X8_lossesOn_2 at hF
    refine lv_iload_n hx hb dX8_lossesOn_2 rfl (lv_at hl 2 rfl) ?_
    refine lv_aload_n hx hb dX8_lossesOn_3 rfl (lv_at hl 0 rfl) ?_
    refine r_get8 C hw 0 (by decide) rfl (v := .ref (q 21)) rfl q955 dX8_lossesOn_4 ?_
    refine lv_iload_n hx hb dX8_lossesOn_7 rfl (lv_at hl 1 rfl) ?_
    refine lv_bipush (v := (16 : Int32)) hx hb dX8_lossesOn_8 (by decide) ?_
    refine lv_iadd hx hb dX8_lossesOn_10 ?_
    obtain ⟨h_25, hF⟩ := gd_e hF
    refine r_iald (i := 21) (n := 234) (g := 21) (st := 0) C hw (wi_lo (Or.inr ⟨by decide, by decide⟩)) rfl h_25 dX8_lossesOn_11 ?_
    refine lv_icmp_ge (tgt := 87) hx hb dX8_lossesOn_12 (by decide) (fun c_26 => ?_) (fun c_26 => ?_)
    · have hF := it_e hF c_26
      refine lv_aload_n hx hb dX8_lossesOn_87 rfl (lv_at hl 0 rfl) ?_
      refine r_get8 C hw 0 (by decide) rfl (v := .ref (q 21)) rfl q955 dX8_lossesOn_88 ?_
      refine lv_iload_n hx hb dX8_lossesOn_91 rfl (lv_at hl 1 rfl) ?_
      refine lv_bipush (v := (36 : Int32)) hx hb dX8_lossesOn_92 (by decide) ?_
      refine lv_iadd hx hb dX8_lossesOn_94 ?_
      refine lv_dup2_11 hx hb dX8_lossesOn_95 rfl rfl ?_
      obtain ⟨h_27, hF⟩ := gd_e hF
      refine r_iald (i := 21) (n := 234) (g := 21) (st := 0) C hw (wi_lo (Or.inr ⟨by decide, by decide⟩)) rfl h_27 dX8_lossesOn_96 ?_
      refine lv_iconst (v := (1 : Int32)) hx hb dX8_lossesOn_97 (by decide) ?_
      refine lv_iadd hx hb dX8_lossesOn_98 ?_
      obtain ⟨h_28, hF⟩ := gd_e hF
      obtain ⟨σ_29, eσ_29, hF⟩ := nm_e2 hF
      refine r_iast (i := 21) (n := 234) (g := 21) (st := 0) C hw hS (wi_lo (Or.inr ⟨by decide, by decide⟩)) rfl (fun _ => ho_lo (by decide)) h_28 dX8_lossesOn_99 eσ_29 (fun H locs hw hS => ?_)
      refine lv_aload_n hx hb dX8_lossesOn_100 rfl (lv_at hl 0 rfl) ?_
      refine lv_iload_n hx hb dX8_lossesOn_101 rfl (lv_at hl 1 rfl) ?_
      obtain ⟨r_30, σ_31, h_32, hF⟩ := bd_e hF
      refine r_callVi (As := [.int x1]) (rest := []) (i := 1) C hw hS (wi_lo (Or.inl (by decide))) rfl (ci := 8) rfl (met_X8_speedOn l G rd q  h_32) (cwV 1 hts (lw_V q1092 q1094 qs38 q65 q1095) rfl rfl rfl (by decide +kernel) ⟨Nat.le_of_ble_eq_true rfl, Nat.le_of_ble_eq_true rfl⟩) rfl hl.1 rfl (Nat.le_of_ble_eq_true rfl) ⟨Nat.le_refl _, Nat.le_refl _⟩ dX8_lossesOn_102 (fun H locs hw hS => ?_)
      refine lv_istore_n (lv' := [(2, .int r_30), (0, .ref (q 1)), (1, .int x1)]) hx hb dX8_lossesOn_105 rfl hl (by decide) rfl (fun ls hl => ?_)
      refine lv_aload_n hx hb dX8_lossesOn_106 rfl (lv_at hl 1 rfl) ?_
      refine lv_iload_n hx hb dX8_lossesOn_107 rfl (lv_at hl 0 rfl) ?_
      refine lv_aload_n hx hb dX8_lossesOn_108 rfl (lv_at hl 1 rfl) ?_
      refine r_get8 C hw 17 (by decide) rfl (v := .int (gi σ_31 1 17)) rfl q972 dX8_lossesOn_109 ?_
      refine lv_icmp_le (tgt := 119) hx hb dX8_lossesOn_112 (by decide) (fun c_33 => ?_) (fun c_33 => ?_)
      · have hF := it_e hF c_33
        refine lv_aload_n hx hb dX8_lossesOn_119 rfl (lv_at hl 1 rfl) ?_
        refine r_get8 C hw 17 (by decide) rfl (v := .int (gi σ_31 1 17)) rfl q972 dX8_lossesOn_120 ?_
        obtain ⟨σ_34, eσ_34, hF⟩ := nm_e2 hF
        refine r_put8 C hw hS 17 (by decide) rfl rfl (tyX8_ok 17 (by decide)) rfl rfl q972 dX8_lossesOn_123 eσ_34 (fun H locs hw hS => ?_)
        exact r_vret C hw hS hF dX8_lossesOn_126
      · have hF := if_e hF c_33
        refine lv_iload_n hx hb dX8_lossesOn_115 rfl (lv_at hl 0 rfl) ?_
        refine lv_goto (tgt := 123) hx hb dX8_lossesOn_116 (by decide) ?_
        obtain ⟨σ_35, eσ_35, hF⟩ := nm_e2 hF
        refine r_put8 C hw hS 17 (by decide) rfl rfl (tyX8_ok 17 (by decide)) rfl rfl q972 dX8_lossesOn_123 eσ_35 (fun H locs hw hS => ?_)
        exact r_vret C hw hS hF dX8_lossesOn_126
    · have hF := if_e hF c_26
      refine lv_aload_n hx hb dX8_lossesOn_15 rfl (lv_at hl 0 rfl) ?_
      refine r_get8 C hw 0 (by decide) rfl (v := .ref (q 21)) rfl q955 dX8_lossesOn_16 ?_
      refine lv_iload_n hx hb dX8_lossesOn_19 rfl (lv_at hl 1 rfl) ?_
      refine lv_bipush (v := (8 : Int32)) hx hb dX8_lossesOn_20 (by decide) ?_
      refine lv_iadd hx hb dX8_lossesOn_22 ?_
      refine lv_iload_n hx hb dX8_lossesOn_23 rfl (lv_at hl 2 rfl) ?_
      refine lv_iadd hx hb dX8_lossesOn_24 ?_
      obtain ⟨h_36, hF⟩ := gd_e hF
      refine r_iald (i := 21) (n := 234) (g := 21) (st := 0) C hw (wi_lo (Or.inr ⟨by decide, by decide⟩)) rfl h_36 dX8_lossesOn_25 ?_
      obtain ⟨x_37, ex_37, hF⟩ := nm_e2 hF
      refine r_topi ex_37 ?_
      refine lv_istore_n (lv' := [(3, .int x_37), (0, .ref (q 1)), (1, .int x1), (2, .int x2)]) hx hb dX8_lossesOn_26 rfl hl (by decide) rfl (fun ls hl => ?_)
      refine lv_aload_n hx hb dX8_lossesOn_27 rfl (lv_at hl 1 rfl) ?_
      refine r_get8 C hw 0 (by decide) rfl (v := .ref (q 21)) rfl q955 dX8_lossesOn_28 ?_
      refine lv_iload_n hx hb dX8_lossesOn_31 rfl (lv_at hl 2 rfl) ?_
      refine lv_bipush (v := (12 : Int32)) hx hb dX8_lossesOn_32 (by decide) ?_
      refine lv_iadd hx hb dX8_lossesOn_34 ?_
      refine lv_iload_n hx hb dX8_lossesOn_35 rfl (lv_at hl 3 rfl) ?_
      refine lv_iadd hx hb dX8_lossesOn_36 ?_
      obtain ⟨h_38, hF⟩ := gd_e hF
      refine r_iald (i := 21) (n := 234) (g := 21) (st := 0) C hw (wi_lo (Or.inr ⟨by decide, by decide⟩)) rfl h_38 dX8_lossesOn_37 ?_
      obtain ⟨x_39, ex_39, hF⟩ := nm_e2 hF
      refine r_topi ex_39 ?_
      refine lv_istore (lv' := [(4, .int x_39), (3, .int x_37), (0, .ref (q 1)), (1, .int x1), (2, .int x2)]) hx hb dX8_lossesOn_38 hl (by decide) rfl (fun ls hl => ?_)
      refine lv_iload_n hx hb dX8_lossesOn_40 rfl (lv_at hl 1 rfl) ?_
      refine lv_iload hx hb dX8_lossesOn_41 (lv_at hl 0 rfl) ?_
      refine lv_icmp_le (tgt := 51) hx hb dX8_lossesOn_43 (by decide) (fun c_40 => ?_) (fun c_40 => ?_)
      · have hF := it_e hF c_40
        refine lv_iload_n hx hb dX8_lossesOn_51 rfl (lv_at hl 1 rfl) ?_
        exact w_X8_lossesOn_52 C  ih _ _ _ _ _ _ _ _ hF hw hS (lv_sub hl [2, 3, 4, 0] rfl)
      · have hF := if_e hF c_40
        refine lv_iload hx hb dX8_lossesOn_46 (lv_at hl 0 rfl) ?_
        refine lv_goto (tgt := 52) hx hb dX8_lossesOn_48 (by decide) ?_
        exact w_X8_lossesOn_52 C  ih _ _ _ _ _ _ _ _ hF hw hS (lv_sub hl [2, 3, 4, 0] rfl)
noncomputable def F_X8_lossesOn (N : Nat) (x1 : Int32) (σ : SS) : Option (Unit × SS) :=
  F_X8_lossesOn_2 N N x1 (0 : Int32) σ
set_option maxRecDepth 100000 in
theorem met_X8_lossesOn (l : Launch) (G : GG) (rd : Bool) (q : Nat → Nat) {N : Nat} {x1 : Int32} {σ σ' : SS} {r : Unit} (hF : F_X8_lossesOn N x1 σ = some (r, σ')) : Met l yX8_lossesOn (ws_ yX8_lossesOn cX8_lossesOn 6 none) rmX8_lossesOn (pcx G rd q σ [.ref (q 1), .int x1]) (qxv G rd q σ' r) 0 0 (fa G) := by
  refine met_of (by decide) (Nat.le_of_ble_eq_true rfl) ?_
  intro p e s m below meth c C H locs ls hw hS hl
  obtain ⟨hx, hb, hml, hown, hts, -, -, -, -⟩ := id C
  have hl : lv_has ls 6 [(0, .ref (q 1)), (1, .int x1)] := hl
  unfold F_X8_lossesOn at hF
  refine lv_iconst (v := (0 : Int32)) hx hb dX8_lossesOn_0 (by decide) ?_
  refine lv_istore_n (lv' := [(2, .int (0 : Int32)), (0, .ref (q 1)), (1, .int x1)]) hx hb dX8_lossesOn_1 rfl hl (by decide) rfl (fun ls hl => ?_)
  exact w_X8_lossesOn_2 C   N _ _ _ _ _ _ hF hw hS (lv_sub hl [1, 2, 0] rfl)
abbrev rmX8_tickOn : Room := { frames := 3, cells := 0, slots := 0, locals := 112 }
noncomputable def F_X8_tickOn_59 (N : Nat) (x1 : Int32) (σ : SS) : Option (Unit × SS) :=
  bd (F_X8_lossesOn N x1 σ) fun r_16 σ_17 =>
  some ((), σ_17)
set_option maxRecDepth 100000 in
theorem w_X8_tickOn_59 {p : Program} {l : Launch} {e : Env} {s : State} {m : MethodId} {args : Array Value} {below : List Frame} {meth : Method} {c : Code} {G : GG} {rd : Bool} {q : Nat → Nat} {N : Nat} {r : Unit} {σ' : SS} (C : cx p s m args meth c cX8_tickOn 4 RX8 none G) : ∀ (x1 : Int32) (σ : SS) (H : Heap) (locs : List Loc) (ls : Array Slot), F_X8_tickOn_59 N x1 σ = some (r, σ') → wx G rd q σ H → va_S (fa G) s.heap H locs → lv_has ls 4 [(0, .ref (q 1)), (1, .int x1)] → W p l e rmX8_tickOn s m args below meth c H locs 0 0 (MQ below (qxv G rd q σ' r) args s 0 0 (fa G)) (F0 m 59 ls []) := by
  obtain ⟨hx, hb, hml, hown, hts, -, -, -, -⟩ := id C
  intro x1 σ H locs ls hF hw hS hl
  unfold F_X8_tickOn_59 at hF
  refine lv_aload_n hx hb dX8_tickOn_59 rfl (lv_at hl 0 rfl) ?_
  refine lv_iload_n hx hb dX8_tickOn_60 rfl (lv_at hl 1 rfl) ?_
  obtain ⟨r_16, σ_17, h_18, hF⟩ := bd_e hF
  refine r_callVv (As := [.int x1]) (rest := []) (i := 1) C hw hS (wi_lo (Or.inl (by decide))) rfl (ci := 8) rfl (met_X8_lossesOn l G rd q  h_18) (cwV 1 hts (lw_V q1175 q1177 qs46 q65 q1178) rfl rfl rfl (by decide +kernel) ⟨Nat.le_of_ble_eq_true rfl, Nat.le_of_ble_eq_true rfl⟩) rfl hl.1 rfl (Nat.le_of_ble_eq_true rfl) ⟨Nat.le_refl _, Nat.le_refl _⟩ dX8_tickOn_61 (fun H locs hw hS => ?_)
  exact r_vret C hw hS hF dX8_tickOn_64
noncomputable def F_X8_tickOn (N : Nat) (x1 : Int32) (x2 : Int32) (σ : SS) : Option (Unit × SS) :=
  gd (inR (x1 + (33 : Int32)) 234) <|
  nm (gi σ 21 (x1 + (33 : Int32)).toNatClampNeg) fun x_20 =>
  if x_20 ≤ (0 : Int32) then
    F_X8_tickOn_59 N x1 σ
  else
    gd (inR (x1 + (36 : Int32)) 234) <|
    gd (¬ x_20 = 0) <|
    if ((gi σ 21 (x1 + (36 : Int32)).toNatClampNeg) - (gi σ 21 (x1 + (36 : Int32)).toNatClampNeg) / x_20 * x_20) = (gi σ 1 15) then
      F_X8_tickOn_59 N x1 σ
    else
      gd (inR (x1 + (36 : Int32)) 234) <|
      gd (¬ x_20 = 0) <|
      gd (inR ((x1 + (17 : Int32)) + ((gi σ 21 (x1 + (36 : Int32)).toNatClampNeg) - (gi σ 21 (x1 + (36 : Int32)).toNatClampNeg) / x_20 * x_20)) 234) <|
      bd (F_X8_actOn N x1 (gi σ 21 ((x1 + (17 : Int32)) + ((gi σ 21 (x1 + (36 : Int32)).toNatClampNeg) - (gi σ 21 (x1 + (36 : Int32)).toNatClampNeg) / x_20 * x_20)).toNatClampNeg) x2 σ) fun r_28 σ_29 =>
      F_X8_tickOn_59 N x1 σ_29
set_option maxRecDepth 100000 in
theorem met_X8_tickOn (l : Launch) (G : GG) (rd : Bool) (q : Nat → Nat) {N : Nat} {x1 : Int32} {x2 : Int32} {σ σ' : SS} {r : Unit} (hF : F_X8_tickOn N x1 x2 σ = some (r, σ')) : Met l yX8_tickOn (ws_ yX8_tickOn cX8_tickOn 4 none) rmX8_tickOn (pcx G rd q σ [.ref (q 1), .int x1, .int x2]) (qxv G rd q σ' r) 0 0 (fa G) := by
  refine met_of (by decide) (Nat.le_of_ble_eq_true rfl) ?_
  intro p e s m below meth c C H locs ls hw hS hl
  obtain ⟨hx, hb, hml, hown, hts, -, -, -, -⟩ := id C
  have hl : lv_has ls 4 [(0, .ref (q 1)), (1, .int x1), (2, .int x2)] := hl
  unfold F_X8_tickOn at hF
  refine lv_aload_n hx hb dX8_tickOn_0 rfl (lv_at hl 0 rfl) ?_
  refine r_get8 C hw 0 (by decide) rfl (v := .ref (q 21)) rfl q955 dX8_tickOn_1 ?_
  refine lv_iload_n hx hb dX8_tickOn_4 rfl (lv_at hl 1 rfl) ?_
  refine lv_bipush (v := (33 : Int32)) hx hb dX8_tickOn_5 (by decide) ?_
  refine lv_iadd hx hb dX8_tickOn_7 ?_
  obtain ⟨h_19, hF⟩ := gd_e hF
  refine r_iald (i := 21) (n := 234) (g := 21) (st := 0) C hw (wi_lo (Or.inr ⟨by decide, by decide⟩)) rfl h_19 dX8_tickOn_8 ?_
  obtain ⟨x_20, ex_20, hF⟩ := nm_e2 hF
  refine r_topi ex_20 ?_
  refine lv_istore_n (lv' := [(3, .int x_20), (0, .ref (q 1)), (1, .int x1), (2, .int x2)]) hx hb dX8_tickOn_9 rfl hl (by decide) rfl (fun ls hl => ?_)
  refine lv_iload_n hx hb dX8_tickOn_10 rfl (lv_at hl 0 rfl) ?_
  refine lv_if_le (tgt := 59) hx hb dX8_tickOn_11 (by decide) (fun c_21 => ?_) (fun c_21 => ?_)
  · have hF := it_e hF c_21
    exact w_X8_tickOn_59 C   _ _ _ _ _ hF hw hS (lv_sub hl [1, 2] rfl)
  · have hF := if_e hF c_21
    refine lv_aload_n hx hb dX8_tickOn_14 rfl (lv_at hl 1 rfl) ?_
    refine r_get8 C hw 0 (by decide) rfl (v := .ref (q 21)) rfl q955 dX8_tickOn_15 ?_
    refine lv_iload_n hx hb dX8_tickOn_18 rfl (lv_at hl 2 rfl) ?_
    refine lv_bipush (v := (36 : Int32)) hx hb dX8_tickOn_19 (by decide) ?_
    refine lv_iadd hx hb dX8_tickOn_21 ?_
    obtain ⟨h_22, hF⟩ := gd_e hF
    refine r_iald (i := 21) (n := 234) (g := 21) (st := 0) C hw (wi_lo (Or.inr ⟨by decide, by decide⟩)) rfl h_22 dX8_tickOn_22 ?_
    refine lv_iload_n hx hb dX8_tickOn_23 rfl (lv_at hl 0 rfl) ?_
    obtain ⟨h_23, hF⟩ := gd_e hF
    refine lv_irem hx hb dX8_tickOn_24 h_23 ?_
    refine lv_aload_n hx hb dX8_tickOn_25 rfl (lv_at hl 1 rfl) ?_
    refine r_get8 C hw 15 (by decide) rfl (v := .int (gi σ 1 15)) rfl q970 dX8_tickOn_26 ?_
    refine lv_icmp_eq (tgt := 59) hx hb dX8_tickOn_29 (by decide) (fun c_24 => ?_) (fun c_24 => ?_)
    · have hF := it_e hF c_24
      exact w_X8_tickOn_59 C   _ _ _ _ _ hF hw hS (lv_sub hl [1, 2] rfl)
    · have hF := if_e hF c_24
      refine lv_aload_n hx hb dX8_tickOn_32 rfl (lv_at hl 1 rfl) ?_
      refine lv_iload_n hx hb dX8_tickOn_33 rfl (lv_at hl 2 rfl) ?_
      refine lv_aload_n hx hb dX8_tickOn_34 rfl (lv_at hl 1 rfl) ?_
      refine r_get8 C hw 0 (by decide) rfl (v := .ref (q 21)) rfl q955 dX8_tickOn_35 ?_
      refine lv_iload_n hx hb dX8_tickOn_38 rfl (lv_at hl 2 rfl) ?_
      refine lv_bipush (v := (17 : Int32)) hx hb dX8_tickOn_39 (by decide) ?_
      refine lv_iadd hx hb dX8_tickOn_41 ?_
      refine lv_aload_n hx hb dX8_tickOn_42 rfl (lv_at hl 1 rfl) ?_
      refine r_get8 C hw 0 (by decide) rfl (v := .ref (q 21)) rfl q955 dX8_tickOn_43 ?_
      refine lv_iload_n hx hb dX8_tickOn_46 rfl (lv_at hl 2 rfl) ?_
      refine lv_bipush (v := (36 : Int32)) hx hb dX8_tickOn_47 (by decide) ?_
      refine lv_iadd hx hb dX8_tickOn_49 ?_
      obtain ⟨h_25, hF⟩ := gd_e hF
      refine r_iald (i := 21) (n := 234) (g := 21) (st := 0) C hw (wi_lo (Or.inr ⟨by decide, by decide⟩)) rfl h_25 dX8_tickOn_50 ?_
      refine lv_iload_n hx hb dX8_tickOn_51 rfl (lv_at hl 0 rfl) ?_
      obtain ⟨h_26, hF⟩ := gd_e hF
      refine lv_irem hx hb dX8_tickOn_52 h_26 ?_
      refine lv_iadd hx hb dX8_tickOn_53 ?_
      obtain ⟨h_27, hF⟩ := gd_e hF
      refine r_iald (i := 21) (n := 234) (g := 21) (st := 0) C hw (wi_lo (Or.inr ⟨by decide, by decide⟩)) rfl h_27 dX8_tickOn_54 ?_
      refine lv_iload_n hx hb dX8_tickOn_55 rfl (lv_at hl 3 rfl) ?_
      obtain ⟨r_28, σ_29, h_30, hF⟩ := bd_e hF
      refine r_callVv (As := [.int x1, .int (gi σ 21 ((x1 + (17 : Int32)) + ((gi σ 21 (x1 + (36 : Int32)).toNatClampNeg) - (gi σ 21 (x1 + (36 : Int32)).toNatClampNeg) / x_20 * x_20)).toNatClampNeg), .int x2]) (rest := []) (i := 1) C hw hS (wi_lo (Or.inl (by decide))) rfl (ci := 8) rfl (met_X8_actOn l G rd q  h_30) (cwV 3 hts (lw_V q1162 q1164 qs44 q65 q1165) rfl rfl rfl (by decide +kernel) ⟨Nat.le_of_ble_eq_true rfl, Nat.le_of_ble_eq_true rfl⟩) rfl hl.1 rfl (Nat.le_of_ble_eq_true rfl) ⟨Nat.le_refl _, Nat.le_refl _⟩ dX8_tickOn_56 (fun H locs hw hS => ?_)
      exact w_X8_tickOn_59 C   _ _ _ _ _ hF hw hS (lv_sub hl [1, 2] rfl)
abbrev rmX8_again : Room := { frames := 4, cells := 0, slots := 0, locals := 135 }
noncomputable def B_X8_again_70 (N : Nat) (K18 : Int32 → Int32 → SS → Option (Int32 × SS)) (IH : Int32 → Int32 → Int32 → Int32 → SS → Option (Int32 × SS)) (x1 : Int32) (x2 : Int32) (x3 : Int32) (x4 : Int32) (σ : SS) : Option (Int32 × SS) :=
  gd (inR (16 : Int32) 234) <|
  if (gi σ 21 (16 : Int32).toNatClampNeg) ≤ x4 then
    if x3 = (0 : Int32) then
      nm (x2 + (1 : Int32)) fun x_30 =>
      K18 x1 x_30 σ
    else
      some (x2, σ)
  else
    if x3 = (0 : Int32) then
      nm (x4 + (1 : Int32)) fun x_32 =>
      IH x1 x2 (0 : Int32) x_32 σ
    else
      gd (inR ((168 : Int32) + x4) 234) <|
      gd (inR ((12 : Int32) + x4) 234) <|
      if (gi σ 21 ((168 : Int32) + x4).toNatClampNeg) = (gi σ 21 ((12 : Int32) + x4).toNatClampNeg) then
        nm (x4 + (1 : Int32)) fun x_37 =>
        IH x1 x2 (1 : Int32) x_37 σ
      else
        nm (x4 + (1 : Int32)) fun x_36 =>
        IH x1 x2 (0 : Int32) x_36 σ
noncomputable def F_X8_again_70 (N : Nat) (K18 : Int32 → Int32 → SS → Option (Int32 × SS)) (n : Nat) : Int32 → Int32 → Int32 → Int32 → SS → Option (Int32 × SS) := Nat.rec (fun _ _ _ _ _ => none) (fun _ IH => B_X8_again_70 N K18 IH) n
set_option maxRecDepth 100000 in
theorem w_X8_again_70 {p : Program} {l : Launch} {e : Env} {s : State} {m : MethodId} {args : Array Value} {below : List Frame} {meth : Method} {c : Code} {G : GG} {rd : Bool} {q : Nat → Nat} {N : Nat} {r : Int32} {σ' : SS} (C : cx p s m args meth c cX8_again 5 RX8 (some .int) G) {K18 : Int32 → Int32 → SS → Option (Int32 × SS)} (HK18 : ∀ (x1 : Int32) (x2 : Int32) (σ : SS) (H : Heap) (locs : List Loc) (ls : Array Slot), K18 x1 x2 σ = some (r, σ') → wx G rd q σ H → va_S (fa G) s.heap H locs → lv_has ls 5 [(0, .ref (q 1)), (1, .int x1), (2, .int x2)] → W p l e rmX8_again s m args below meth c H locs 0 0 (MQ below (qxi G rd q σ' r) args s 0 0 (fa G)) (F0 m 18 ls [])) : ∀ (n : Nat), ∀ (x1 : Int32) (x2 : Int32) (x3 : Int32) (x4 : Int32) (σ : SS) (H : Heap) (locs : List Loc) (ls : Array Slot), F_X8_again_70 N K18 n x1 x2 x3 x4 σ = some (r, σ') → wx G rd q σ H → va_S (fa G) s.heap H locs → lv_has ls 5 [(0, .ref (q 1)), (1, .int x1), (2, .int x2), (3, .int x3), (4, .int x4)] → W p l e rmX8_again s m args below meth c H locs 0 0 (MQ below (qxi G rd q σ' r) args s 0 0 (fa G)) (F0 m 70 ls []) := by
  obtain ⟨hx, hb, hml, hown, hts, -, -, -, -⟩ := id C
  intro n
  induction n with
  | zero =>
    intro x1 x2 x3 x4 σ H locs ls hF hw hS hl
    cases hF
  | succ n ih =>
    intro x1 x2 x3 x4 σ H locs ls hF hw hS hl
    have hF : B_X8_again_70 N K18 (F_X8_again_70 N K18 n) x1 x2 x3 x4 σ = some (r, σ') := hF
    unfold B_X8_again_70 at hF
    refine lv_iload hx hb dX8_again_70 (lv_at hl 4 rfl) ?_
    refine lv_aload_n hx hb dX8_again_72 rfl (lv_at hl 0 rfl) ?_
    refine r_get8 C hw 0 (by decide) rfl (v := .ref (q 21)) rfl q955 dX8_again_73 ?_
    refine lv_bipush (v := (16 : Int32)) hx hb dX8_again_76 (by decide) ?_
    obtain ⟨h_27, hF⟩ := gd_e hF
    refine r_iald (i := 21) (n := 234) (g := 21) (st := 0) C hw (wi_lo (Or.inr ⟨by decide, by decide⟩)) rfl h_27 dX8_again_78 ?_
    refine lv_icmp_ge (tgt := 122) hx hb dX8_again_79 (by decide) (fun c_28 => ?_) (fun c_28 => ?_)
    · have hF := it_e hF c_28
      refine lv_iload_n hx hb dX8_again_122 rfl (lv_at hl 3 rfl) ?_
      refine lv_if_eq (tgt := 128) hx hb dX8_again_123 (by decide) (fun c_29 => ?_) (fun c_29 => ?_)
      · have hF := it_e hF c_29
        obtain ⟨x_30, ex_30, hF⟩ := nm_e2 hF
        refine lv_iinc (v := x_30) (lv' := [(2, .int x_30), (0, .ref (q 1)), (1, .int x1), (3, .int x3), (4, .int x4)]) hx hb dX8_again_128 hl (k := 2) rfl (by rw [ex_30]; rfl) (by decide) rfl (fun ls hl => ?_)
        refine lv_goto (tgt := 18) hx hb dX8_again_131 (by decide) ?_
        exact HK18 _ _ _ _ _ _ hF hw hS (lv_sub hl [1, 2, 0] rfl)
      · have hF := if_e hF c_29
        refine lv_iload_n hx hb dX8_again_126 rfl (lv_at hl 2 rfl) ?_
        exact r_iret C hw hS hF dX8_again_127
    · have hF := if_e hF c_28
      refine lv_iload_n hx hb dX8_again_82 rfl (lv_at hl 3 rfl) ?_
      refine lv_if_eq (tgt := 114) hx hb dX8_again_83 (by decide) (fun c_31 => ?_) (fun c_31 => ?_)
      · have hF := it_e hF c_31
        refine lv_iconst (v := (0 : Int32)) hx hb dX8_again_114 (by decide) ?_
        refine lv_istore_n (lv' := [(3, .int (0 : Int32)), (0, .ref (q 1)), (1, .int x1), (2, .int x2), (4, .int x4)]) hx hb dX8_again_115 rfl hl (by decide) rfl (fun ls hl => ?_)
        obtain ⟨x_32, ex_32, hF⟩ := nm_e2 hF
        refine lv_iinc (v := x_32) (lv' := [(4, .int x_32), (3, .int (0 : Int32)), (0, .ref (q 1)), (1, .int x1), (2, .int x2)]) hx hb dX8_again_116 hl (k := 4) rfl (by rw [ex_32]; rfl) (by decide) rfl (fun ls hl => ?_)
        refine lv_goto (tgt := 70) hx hb dX8_again_119 (by decide) ?_
        exact ih _ _ _ _ _ _ _ _ hF hw hS (lv_sub hl [2, 3, 4, 1, 0] rfl)
      · have hF := if_e hF c_31
        refine lv_aload_n hx hb dX8_again_86 rfl (lv_at hl 0 rfl) ?_
        refine r_get8 C hw 0 (by decide) rfl (v := .ref (q 21)) rfl q955 dX8_again_87 ?_
        refine lv_sipush (v := (168 : Int32)) hx hb dX8_again_90 (by decide) ?_
        refine lv_iload hx hb dX8_again_93 (lv_at hl 4 rfl) ?_
        refine lv_iadd hx hb dX8_again_95 ?_
        obtain ⟨h_33, hF⟩ := gd_e hF
        refine r_iald (i := 21) (n := 234) (g := 21) (st := 0) C hw (wi_lo (Or.inr ⟨by decide, by decide⟩)) rfl h_33 dX8_again_96 ?_
        refine lv_aload_n hx hb dX8_again_97 rfl (lv_at hl 0 rfl) ?_
        refine r_get8 C hw 0 (by decide) rfl (v := .ref (q 21)) rfl q955 dX8_again_98 ?_
        refine lv_bipush (v := (12 : Int32)) hx hb dX8_again_101 (by decide) ?_
        refine lv_iload hx hb dX8_again_103 (lv_at hl 4 rfl) ?_
        refine lv_iadd hx hb dX8_again_105 ?_
        obtain ⟨h_34, hF⟩ := gd_e hF
        refine r_iald (i := 21) (n := 234) (g := 21) (st := 0) C hw (wi_lo (Or.inr ⟨by decide, by decide⟩)) rfl h_34 dX8_again_106 ?_
        refine lv_icmp_ne (tgt := 114) hx hb dX8_again_107 (by decide) (fun c_35 => ?_) (fun c_35 => ?_)
        · have hF := if_e hF c_35
          refine lv_iconst (v := (0 : Int32)) hx hb dX8_again_114 (by decide) ?_
          refine lv_istore_n (lv' := [(3, .int (0 : Int32)), (0, .ref (q 1)), (1, .int x1), (2, .int x2), (4, .int x4)]) hx hb dX8_again_115 rfl hl (by decide) rfl (fun ls hl => ?_)
          obtain ⟨x_36, ex_36, hF⟩ := nm_e2 hF
          refine lv_iinc (v := x_36) (lv' := [(4, .int x_36), (3, .int (0 : Int32)), (0, .ref (q 1)), (1, .int x1), (2, .int x2)]) hx hb dX8_again_116 hl (k := 4) rfl (by rw [ex_36]; rfl) (by decide) rfl (fun ls hl => ?_)
          refine lv_goto (tgt := 70) hx hb dX8_again_119 (by decide) ?_
          exact ih _ _ _ _ _ _ _ _ hF hw hS (lv_sub hl [2, 3, 4, 1, 0] rfl)
        · have hF := it_e hF c_35
          refine lv_iconst (v := (1 : Int32)) hx hb dX8_again_110 (by decide) ?_
          refine lv_goto (tgt := 115) hx hb dX8_again_111 (by decide) ?_
          refine lv_istore_n (lv' := [(3, .int (1 : Int32)), (0, .ref (q 1)), (1, .int x1), (2, .int x2), (4, .int x4)]) hx hb dX8_again_115 rfl hl (by decide) rfl (fun ls hl => ?_)
          obtain ⟨x_37, ex_37, hF⟩ := nm_e2 hF
          refine lv_iinc (v := x_37) (lv' := [(4, .int x_37), (3, .int (1 : Int32)), (0, .ref (q 1)), (1, .int x1), (2, .int x2)]) hx hb dX8_again_116 hl (k := 4) rfl (by rw [ex_37]; rfl) (by decide) rfl (fun ls hl => ?_)
          refine lv_goto (tgt := 70) hx hb dX8_again_119 (by decide) ?_
          exact ih _ _ _ _ _ _ _ _ hF hw hS (lv_sub hl [2, 3, 4, 1, 0] rfl)
noncomputable def F_X8_again_65 (N : Nat) (K18 : Int32 → Int32 → SS → Option (Int32 × SS)) (x1 : Int32) (x2 : Int32) (σ : SS) : Option (Int32 × SS) :=
  F_X8_again_70 N K18 N x1 x2 (0 : Int32) (0 : Int32) σ
set_option maxRecDepth 100000 in
theorem w_X8_again_65 {p : Program} {l : Launch} {e : Env} {s : State} {m : MethodId} {args : Array Value} {below : List Frame} {meth : Method} {c : Code} {G : GG} {rd : Bool} {q : Nat → Nat} {N : Nat} {r : Int32} {σ' : SS} (C : cx p s m args meth c cX8_again 5 RX8 (some .int) G) {K18 : Int32 → Int32 → SS → Option (Int32 × SS)} (HK18 : ∀ (x1 : Int32) (x2 : Int32) (σ : SS) (H : Heap) (locs : List Loc) (ls : Array Slot), K18 x1 x2 σ = some (r, σ') → wx G rd q σ H → va_S (fa G) s.heap H locs → lv_has ls 5 [(0, .ref (q 1)), (1, .int x1), (2, .int x2)] → W p l e rmX8_again s m args below meth c H locs 0 0 (MQ below (qxi G rd q σ' r) args s 0 0 (fa G)) (F0 m 18 ls [])) : ∀ (x1 : Int32) (x2 : Int32) (σ : SS) (H : Heap) (locs : List Loc) (ls : Array Slot), F_X8_again_65 N K18 x1 x2 σ = some (r, σ') → wx G rd q σ H → va_S (fa G) s.heap H locs → lv_has ls 5 [(0, .ref (q 1)), (1, .int x1), (2, .int x2)] → W p l e rmX8_again s m args below meth c H locs 0 0 (MQ below (qxi G rd q σ' r) args s 0 0 (fa G)) (F0 m 65 ls []) := by
  obtain ⟨hx, hb, hml, hown, hts, -, -, -, -⟩ := id C
  intro x1 x2 σ H locs ls hF hw hS hl
  unfold F_X8_again_65 at hF
  refine lv_iconst (v := (0 : Int32)) hx hb dX8_again_65 (by decide) ?_
  refine lv_istore_n (lv' := [(3, .int (0 : Int32)), (0, .ref (q 1)), (1, .int x1), (2, .int x2)]) hx hb dX8_again_66 rfl hl (by decide) rfl (fun ls hl => ?_)
  refine lv_iconst (v := (0 : Int32)) hx hb dX8_again_67 (by decide) ?_
  refine lv_istore (lv' := [(4, .int (0 : Int32)), (3, .int (0 : Int32)), (0, .ref (q 1)), (1, .int x1), (2, .int x2)]) hx hb dX8_again_68 hl (by decide) rfl (fun ls hl => ?_)
  exact w_X8_again_70 C  HK18 N _ _ _ _ _ _ _ _ hF hw hS (lv_sub hl [2, 3, 4, 1, 0] rfl)
noncomputable def F_X8_again_43 (N : Nat) (K18 : Int32 → Int32 → SS → Option (Int32 × SS)) (x1 : Int32) (x2 : Int32) (σ : SS) : Option (Int32 × SS) :=
  gd (inR (191 : Int32) 234) <|
  gd (inR (35 : Int32) 234) <|
  if (gi σ 21 (191 : Int32).toNatClampNeg) = (gi σ 21 (35 : Int32).toNatClampNeg) then
    F_X8_again_70 N K18 N x1 x2 (1 : Int32) (0 : Int32) σ
  else
    F_X8_again_65 N K18 x1 x2 σ
set_option maxRecDepth 100000 in
theorem w_X8_again_43 {p : Program} {l : Launch} {e : Env} {s : State} {m : MethodId} {args : Array Value} {below : List Frame} {meth : Method} {c : Code} {G : GG} {rd : Bool} {q : Nat → Nat} {N : Nat} {r : Int32} {σ' : SS} (C : cx p s m args meth c cX8_again 5 RX8 (some .int) G) {K18 : Int32 → Int32 → SS → Option (Int32 × SS)} (HK18 : ∀ (x1 : Int32) (x2 : Int32) (σ : SS) (H : Heap) (locs : List Loc) (ls : Array Slot), K18 x1 x2 σ = some (r, σ') → wx G rd q σ H → va_S (fa G) s.heap H locs → lv_has ls 5 [(0, .ref (q 1)), (1, .int x1), (2, .int x2)] → W p l e rmX8_again s m args below meth c H locs 0 0 (MQ below (qxi G rd q σ' r) args s 0 0 (fa G)) (F0 m 18 ls [])) : ∀ (x1 : Int32) (x2 : Int32) (σ : SS) (H : Heap) (locs : List Loc) (ls : Array Slot), F_X8_again_43 N K18 x1 x2 σ = some (r, σ') → wx G rd q σ H → va_S (fa G) s.heap H locs → lv_has ls 5 [(0, .ref (q 1)), (1, .int x1), (2, .int x2)] → W p l e rmX8_again s m args below meth c H locs 0 0 (MQ below (qxi G rd q σ' r) args s 0 0 (fa G)) (F0 m 43 ls []) := by
  obtain ⟨hx, hb, hml, hown, hts, -, -, -, -⟩ := id C
  intro x1 x2 σ H locs ls hF hw hS hl
  unfold F_X8_again_43 at hF
  refine lv_aload_n hx hb dX8_again_43 rfl (lv_at hl 0 rfl) ?_
  refine r_get8 C hw 0 (by decide) rfl (v := .ref (q 21)) rfl q955 dX8_again_44 ?_
  refine lv_sipush (v := (191 : Int32)) hx hb dX8_again_47 (by decide) ?_
  obtain ⟨h_38, hF⟩ := gd_e hF
  refine r_iald (i := 21) (n := 234) (g := 21) (st := 0) C hw (wi_lo (Or.inr ⟨by decide, by decide⟩)) rfl h_38 dX8_again_50 ?_
  refine lv_aload_n hx hb dX8_again_51 rfl (lv_at hl 0 rfl) ?_
  refine r_get8 C hw 0 (by decide) rfl (v := .ref (q 21)) rfl q955 dX8_again_52 ?_
  refine lv_bipush (v := (35 : Int32)) hx hb dX8_again_55 (by decide) ?_
  obtain ⟨h_39, hF⟩ := gd_e hF
  refine r_iald (i := 21) (n := 234) (g := 21) (st := 0) C hw (wi_lo (Or.inr ⟨by decide, by decide⟩)) rfl h_39 dX8_again_57 ?_
  refine lv_icmp_ne (tgt := 65) hx hb dX8_again_58 (by decide) (fun c_40 => ?_) (fun c_40 => ?_)
  · have hF := if_e hF c_40
    exact w_X8_again_65 C  HK18 _ _ _ _ _ _ hF hw hS (lv_sub hl [0, 1, 2] rfl)
  · have hF := it_e hF c_40
    refine lv_iconst (v := (1 : Int32)) hx hb dX8_again_61 (by decide) ?_
    refine lv_goto (tgt := 66) hx hb dX8_again_62 (by decide) ?_
    refine lv_istore_n (lv' := [(3, .int (1 : Int32)), (0, .ref (q 1)), (1, .int x1), (2, .int x2)]) hx hb dX8_again_66 rfl hl (by decide) rfl (fun ls hl => ?_)
    refine lv_iconst (v := (0 : Int32)) hx hb dX8_again_67 (by decide) ?_
    refine lv_istore (lv' := [(4, .int (0 : Int32)), (3, .int (1 : Int32)), (0, .ref (q 1)), (1, .int x1), (2, .int x2)]) hx hb dX8_again_68 hl (by decide) rfl (fun ls hl => ?_)
    exact w_X8_again_70 C  HK18 N _ _ _ _ _ _ _ _ hF hw hS (lv_sub hl [2, 3, 4, 1, 0] rfl)
noncomputable def B_X8_again_18 (N : Nat) (IH : Int32 → Int32 → SS → Option (Int32 × SS)) (x1 : Int32) (x2 : Int32) (σ : SS) : Option (Int32 × SS) :=
  if (200 : Int32) < x2 then
    some ((-4 : Int32), σ)
  else
    bd (F_X8_tickOn N (156 : Int32) (0 : Int32) σ) fun r_42 σ_43 =>
    if x1 = (0 : Int32) then
      F_X8_again_43 N IH x1 x2 σ_43
    else
      gd (¬ x1 = 0) <|
      if (x2 - x2 / x1 * x1) = (0 : Int32) then
        F_X8_again_43 N IH x1 x2 σ_43
      else
        F_X8_again_65 N IH x1 x2 σ_43
noncomputable def F_X8_again_18 (N : Nat) (n : Nat) : Int32 → Int32 → SS → Option (Int32 × SS) := Nat.rec (fun _ _ _ => none) (fun _ IH => B_X8_again_18 N IH) n
set_option maxRecDepth 100000 in
theorem w_X8_again_18 {p : Program} {l : Launch} {e : Env} {s : State} {m : MethodId} {args : Array Value} {below : List Frame} {meth : Method} {c : Code} {G : GG} {rd : Bool} {q : Nat → Nat} {N : Nat} {r : Int32} {σ' : SS} (C : cx p s m args meth c cX8_again 5 RX8 (some .int) G) : ∀ (n : Nat), ∀ (x1 : Int32) (x2 : Int32) (σ : SS) (H : Heap) (locs : List Loc) (ls : Array Slot), F_X8_again_18 N n x1 x2 σ = some (r, σ') → wx G rd q σ H → va_S (fa G) s.heap H locs → lv_has ls 5 [(0, .ref (q 1)), (1, .int x1), (2, .int x2)] → W p l e rmX8_again s m args below meth c H locs 0 0 (MQ below (qxi G rd q σ' r) args s 0 0 (fa G)) (F0 m 18 ls []) := by
  obtain ⟨hx, hb, hml, hown, hts, -, -, -, -⟩ := id C
  intro n
  induction n with
  | zero =>
    intro x1 x2 σ H locs ls hF hw hS hl
    cases hF
  | succ n ih =>
    intro x1 x2 σ H locs ls hF hw hS hl
    have hF : B_X8_again_18 N (F_X8_again_18 N n) x1 x2 σ = some (r, σ') := hF
    unfold B_X8_again_18 at hF
    refine lv_iload_n hx hb dX8_again_18 rfl (lv_at hl 2 rfl) ?_
    refine lv_sipush (v := (200 : Int32)) hx hb dX8_again_19 (by decide) ?_
    refine lv_icmp_gt (tgt := 134) hx hb dX8_again_22 (by decide) (fun c_41 => ?_) (fun c_41 => ?_)
    · have hF := it_e hF c_41
      refine lv_bipush (v := (-4 : Int32)) hx hb dX8_again_134 (by decide) ?_
      exact r_iret C hw hS hF dX8_again_136
    · have hF := if_e hF c_41
      refine lv_aload_n hx hb dX8_again_25 rfl (lv_at hl 0 rfl) ?_
      refine lv_sipush (v := (156 : Int32)) hx hb dX8_again_26 (by decide) ?_
      refine lv_iconst (v := (0 : Int32)) hx hb dX8_again_29 (by decide) ?_
      obtain ⟨r_42, σ_43, h_44, hF⟩ := bd_e hF
      refine r_callVv (As := [.int (156 : Int32), .int (0 : Int32)]) (rest := []) (i := 1) C hw hS (wi_lo (Or.inl (by decide))) rfl (ci := 8) rfl (met_X8_tickOn l G rd q  h_44) (cwV 2 hts (lw_V q1171 q1173 qs45 q65 q1174) rfl rfl rfl (by decide +kernel) ⟨Nat.le_of_ble_eq_true rfl, Nat.le_of_ble_eq_true rfl⟩) rfl hl.1 rfl (Nat.le_of_ble_eq_true rfl) ⟨Nat.le_refl _, Nat.le_refl _⟩ dX8_again_30 (fun H locs hw hS => ?_)
      refine lv_iload_n hx hb dX8_again_33 rfl (lv_at hl 1 rfl) ?_
      refine lv_if_eq (tgt := 43) hx hb dX8_again_34 (by decide) (fun c_45 => ?_) (fun c_45 => ?_)
      · have hF := it_e hF c_45
        exact w_X8_again_43 C  ih _ _ _ _ _ _ hF hw hS (lv_sub hl [0, 1, 2] rfl)
      · have hF := if_e hF c_45
        refine lv_iload_n hx hb dX8_again_37 rfl (lv_at hl 2 rfl) ?_
        refine lv_iload_n hx hb dX8_again_38 rfl (lv_at hl 1 rfl) ?_
        obtain ⟨h_46, hF⟩ := gd_e hF
        refine lv_irem hx hb dX8_again_39 h_46 ?_
        refine lv_if_ne (tgt := 65) hx hb dX8_again_40 (by decide) (fun c_47 => ?_) (fun c_47 => ?_)
        · have hF := if_e hF c_47
          exact w_X8_again_65 C  ih _ _ _ _ _ _ hF hw hS (lv_sub hl [0, 1, 2] rfl)
        · have hF := it_e hF c_47
          exact w_X8_again_43 C  ih _ _ _ _ _ _ hF hw hS (lv_sub hl [0, 1, 2] rfl)
noncomputable def F_X8_again (N : Nat)  (σ : SS) : Option (Int32 × SS) :=
  gd (inR (33 : Int32) 234) <|
  nm (gi σ 21 (33 : Int32).toNatClampNeg) fun x_49 =>
  bd (F_X8_copies N (0 : Int32) (156 : Int32) σ) fun r_50 σ_51 =>
  F_X8_again_18 N N x_49 (1 : Int32) σ_51
set_option maxRecDepth 100000 in
theorem met_X8_again (l : Launch) (G : GG) (rd : Bool) (q : Nat → Nat) {N : Nat} {σ σ' : SS} {r : Int32} (hF : F_X8_again N  σ = some (r, σ')) : Met l yX8_again (ws_ yX8_again cX8_again 5 (some .int)) rmX8_again (pcx G rd q σ [.ref (q 1)]) (qxi G rd q σ' r) 0 0 (fa G) := by
  refine met_of (by decide) (Nat.le_of_ble_eq_true rfl) ?_
  intro p e s m below meth c C H locs ls hw hS hl
  obtain ⟨hx, hb, hml, hown, hts, -, -, -, -⟩ := id C
  have hl : lv_has ls 5 [(0, .ref (q 1))] := hl
  unfold F_X8_again at hF
  refine lv_aload_n hx hb dX8_again_0 rfl (lv_at hl 0 rfl) ?_
  refine r_get8 C hw 0 (by decide) rfl (v := .ref (q 21)) rfl q955 dX8_again_1 ?_
  refine lv_bipush (v := (33 : Int32)) hx hb dX8_again_4 (by decide) ?_
  obtain ⟨h_48, hF⟩ := gd_e hF
  refine r_iald (i := 21) (n := 234) (g := 21) (st := 0) C hw (wi_lo (Or.inr ⟨by decide, by decide⟩)) rfl h_48 dX8_again_6 ?_
  obtain ⟨x_49, ex_49, hF⟩ := nm_e2 hF
  refine r_topi ex_49 ?_
  refine lv_istore_n (lv' := [(1, .int x_49), (0, .ref (q 1))]) hx hb dX8_again_7 rfl hl (by decide) rfl (fun ls hl => ?_)
  refine lv_aload_n hx hb dX8_again_8 rfl (lv_at hl 1 rfl) ?_
  refine lv_iconst (v := (0 : Int32)) hx hb dX8_again_9 (by decide) ?_
  refine lv_sipush (v := (156 : Int32)) hx hb dX8_again_10 (by decide) ?_
  obtain ⟨r_50, σ_51, h_52, hF⟩ := bd_e hF
  refine r_callVv (As := [.int (0 : Int32), .int (156 : Int32)]) (rest := []) (i := 1) C hw hS (wi_lo (Or.inl (by decide))) rfl (ci := 8) rfl (met_X8_copies l G rd q  h_52) (cwV 2 hts (lw_V q1192 q1194 qs48 q65 q1195) rfl rfl rfl (by decide +kernel) ⟨Nat.le_of_ble_eq_true rfl, Nat.le_of_ble_eq_true rfl⟩) rfl hl.1 rfl (Nat.le_of_ble_eq_true rfl) ⟨Nat.le_refl _, Nat.le_refl _⟩ dX8_again_13 (fun H locs hw hS => ?_)
  refine lv_iconst (v := (1 : Int32)) hx hb dX8_again_16 (by decide) ?_
  refine lv_istore_n (lv' := [(2, .int (1 : Int32)), (1, .int x_49), (0, .ref (q 1))]) hx hb dX8_again_17 rfl hl (by decide) rfl (fun ls hl => ?_)
  exact w_X8_again_18 C   N _ _ _ _ _ _ hF hw hS (lv_sub hl [2, 1, 0] rfl)
abbrev rmX8_isWheel : Room := { frames := 2, cells := 0, slots := 0, locals := 85 }
noncomputable def F_X8_isWheel (N : Nat) (x1 : Int32) (σ : SS) : Option (Int32 × SS) :=
  gd (inR (16 : Int32) 234) <|
  bd (F_X8_in N x1.toInt64 (0 : Int64) (((gi σ 21 (16 : Int32).toNatClampNeg) - (1 : Int32)).toInt64) σ) fun r_7 σ_8 =>
  gd (r_7 = 0 ∨ r_7 = 1) <|
  some (r_7, σ_8)
set_option maxRecDepth 100000 in
theorem met_X8_isWheel (l : Launch) (G : GG) (rd : Bool) (q : Nat → Nat) {N : Nat} {x1 : Int32} {σ σ' : SS} {r : Int32} (hF : F_X8_isWheel N x1 σ = some (r, σ')) : Met l yX8_isWheel (ws_ yX8_isWheel cX8_isWheel 2 (some .boolean)) rmX8_isWheel (pcx G rd q σ [.ref (q 1), .int x1]) (qxi G rd q σ' r) 0 0 (fa G) := by
  refine met_of (by decide) (Nat.le_of_ble_eq_true rfl) ?_
  intro p e s m below meth c C H locs ls hw hS hl
  obtain ⟨hx, hb, hml, hown, hts, -, -, -, -⟩ := id C
  have hl : lv_has ls 2 [(0, .ref (q 1)), (1, .int x1)] := hl
  unfold F_X8_isWheel at hF
  refine lv_iload_n hx hb dX8_isWheel_0 rfl (lv_at hl 1 rfl) ?_
  refine lv_i2l hx hb dX8_isWheel_1 rfl ?_
  refine lv_lconst (v := (0 : Int64)) hx hb dX8_isWheel_2 (by decide) ?_
  refine lv_aload_n hx hb dX8_isWheel_3 rfl (lv_at hl 0 rfl) ?_
  refine r_get8 C hw 0 (by decide) rfl (v := .ref (q 21)) rfl q955 dX8_isWheel_4 ?_
  refine lv_bipush (v := (16 : Int32)) hx hb dX8_isWheel_7 (by decide) ?_
  obtain ⟨h_6, hF⟩ := gd_e hF
  refine r_iald (i := 21) (n := 234) (g := 21) (st := 0) C hw (wi_lo (Or.inr ⟨by decide, by decide⟩)) rfl h_6 dX8_isWheel_9 ?_
  refine lv_iconst (v := (1 : Int32)) hx hb dX8_isWheel_10 (by decide) ?_
  refine lv_isub hx hb dX8_isWheel_11 ?_
  refine lv_i2l hx hb dX8_isWheel_12 rfl ?_
  obtain ⟨r_7, σ_8, h_9, hF⟩ := bd_e hF
  refine r_callSi (As := [.long x1.toInt64, .long (0 : Int64), .long (((gi σ 21 (16 : Int32).toNatClampNeg) - (1 : Int32)).toInt64)]) (rest := []) C hw hS (met_X8_in l G rd q  h_9) (cwS 3 hts (lw_S q1040 q1041 q65 q1042) rfl rfl rfl (by decide +kernel) ⟨Nat.le_of_ble_eq_true rfl, Nat.le_of_ble_eq_true rfl⟩) rfl hl.1 rfl (Nat.le_of_ble_eq_true rfl) ⟨Nat.le_refl _, Nat.le_refl _⟩ dX8_isWheel_13 (fun H locs hw hS => ?_)
  obtain ⟨h_10, hF⟩ := gd_e hF
  exact r_zret C hw hS hF (nar_z h_10) dX8_isWheel_16
abbrev rmX8_isLong : Room := { frames := 2, cells := 0, slots := 0, locals := 85 }
noncomputable def F_X8_isLong (N : Nat) (x0 : Int32) (σ : SS) : Option (Int32 × SS) :=
  bd (F_X8_in N x0.toInt64 (0 : Int64) (200 : Int64) σ) fun r_5 σ_6 =>
  gd (r_5 = 0 ∨ r_5 = 1) <|
  some (r_5, σ_6)
set_option maxRecDepth 100000 in
theorem met_X8_isLong (l : Launch) (G : GG) (rd : Bool) (q : Nat → Nat) {N : Nat} {x0 : Int32} {σ σ' : SS} {r : Int32} (hF : F_X8_isLong N x0 σ = some (r, σ')) : Met l yX8_isLong (ws_ yX8_isLong cX8_isLong 1 (some .boolean)) rmX8_isLong (pcx G rd q σ [.int x0]) (qxi G rd q σ' r) 0 0 (fa G) := by
  refine met_of (by decide) (Nat.le_of_ble_eq_true rfl) ?_
  intro p e s m below meth c C H locs ls hw hS hl
  obtain ⟨hx, hb, hml, hown, hts, -, -, -, -⟩ := id C
  have hl : lv_has ls 1 [(0, .int x0)] := hl
  unfold F_X8_isLong at hF
  refine lv_iload_n hx hb dX8_isLong_0 rfl (lv_at hl 0 rfl) ?_
  refine lv_i2l hx hb dX8_isLong_1 rfl ?_
  refine lv_lconst (v := (0 : Int64)) hx hb dX8_isLong_2 (by decide) ?_
  refine lv_ldc2 (v := (200 : Int64)) hx hb hown (hts _ q1186) dX8_isLong_3 ?_
  obtain ⟨r_5, σ_6, h_7, hF⟩ := bd_e hF
  refine r_callSi (As := [.long x0.toInt64, .long (0 : Int64), .long (200 : Int64)]) (rest := []) C hw hS (met_X8_in l G rd q  h_7) (cwS 3 hts (lw_S q1040 q1041 q65 q1042) rfl rfl rfl (by decide +kernel) ⟨Nat.le_of_ble_eq_true rfl, Nat.le_of_ble_eq_true rfl⟩) rfl hl.1 rfl (Nat.le_of_ble_eq_true rfl) ⟨Nat.le_refl _, Nat.le_refl _⟩ dX8_isLong_6 (fun H locs hw hS => ?_)
  obtain ⟨h_8, hF⟩ := gd_e hF
  exact r_zret C hw hS hF (nar_z h_8) dX8_isLong_9
abbrev rmX8_ticksGo : Room := { frames := 4, cells := 0, slots := 0, locals := 135 }
noncomputable def B_X8_ticksGo_26 (N : Nat) (IH : Int32 → Int32 → SS → Option (Int32 × SS)) (x2 : Int32) (x3 : Int32) (σ : SS) : Option (Int32 × SS) :=
  if x2 ≤ x3 then
    gd (inR (193 : Int32) 234) <|
    gd (inR (37 : Int32) 234) <|
    some ((gi σ 21 (193 : Int32).toNatClampNeg) - (gi σ 21 (37 : Int32).toNatClampNeg), σ)
  else
    bd (F_X8_tickOn N (156 : Int32) (0 : Int32) σ) fun r_19 σ_20 =>
    nm (x3 + (1 : Int32)) fun x_22 =>
    IH x2 x_22 σ_20
noncomputable def F_X8_ticksGo_26 (N : Nat) (n : Nat) : Int32 → Int32 → SS → Option (Int32 × SS) := Nat.rec (fun _ _ _ => none) (fun _ IH => B_X8_ticksGo_26 N IH) n
set_option maxRecDepth 100000 in
theorem w_X8_ticksGo_26 {p : Program} {l : Launch} {e : Env} {s : State} {m : MethodId} {args : Array Value} {below : List Frame} {meth : Method} {c : Code} {G : GG} {rd : Bool} {q : Nat → Nat} {N : Nat} {r : Int32} {σ' : SS} (C : cx p s m args meth c cX8_ticksGo 4 RX8 (some .int) G) : ∀ (n : Nat), ∀ (x2 : Int32) (x3 : Int32) (σ : SS) (H : Heap) (locs : List Loc) (ls : Array Slot), F_X8_ticksGo_26 N n x2 x3 σ = some (r, σ') → wx G rd q σ H → va_S (fa G) s.heap H locs → lv_has ls 4 [(0, .ref (q 1)), (2, .int x2), (3, .int x3)] → W p l e rmX8_ticksGo s m args below meth c H locs 0 0 (MQ below (qxi G rd q σ' r) args s 0 0 (fa G)) (F0 m 26 ls []) := by
  obtain ⟨hx, hb, hml, hown, hts, -, -, -, -⟩ := id C
  intro n
  induction n with
  | zero =>
    intro x2 x3 σ H locs ls hF hw hS hl
    cases hF
  | succ n ih =>
    intro x2 x3 σ H locs ls hF hw hS hl
    have hF : B_X8_ticksGo_26 N (F_X8_ticksGo_26 N n) x2 x3 σ = some (r, σ') := hF
    unfold B_X8_ticksGo_26 at hF
    refine lv_iload_n hx hb dX8_ticksGo_26 rfl (lv_at hl 2 rfl) ?_
    refine lv_iload_n hx hb dX8_ticksGo_27 rfl (lv_at hl 1 rfl) ?_
    refine lv_icmp_ge (tgt := 45) hx hb dX8_ticksGo_28 (by decide) (fun c_16 => ?_) (fun c_16 => ?_)
    · have hF := it_e hF c_16
      refine lv_aload_n hx hb dX8_ticksGo_45 rfl (lv_at hl 0 rfl) ?_
      refine r_get8 C hw 0 (by decide) rfl (v := .ref (q 21)) rfl q955 dX8_ticksGo_46 ?_
      refine lv_sipush (v := (193 : Int32)) hx hb dX8_ticksGo_49 (by decide) ?_
      obtain ⟨h_17, hF⟩ := gd_e hF
      refine r_iald (i := 21) (n := 234) (g := 21) (st := 0) C hw (wi_lo (Or.inr ⟨by decide, by decide⟩)) rfl h_17 dX8_ticksGo_52 ?_
      refine lv_aload_n hx hb dX8_ticksGo_53 rfl (lv_at hl 0 rfl) ?_
      refine r_get8 C hw 0 (by decide) rfl (v := .ref (q 21)) rfl q955 dX8_ticksGo_54 ?_
      refine lv_bipush (v := (37 : Int32)) hx hb dX8_ticksGo_57 (by decide) ?_
      obtain ⟨h_18, hF⟩ := gd_e hF
      refine r_iald (i := 21) (n := 234) (g := 21) (st := 0) C hw (wi_lo (Or.inr ⟨by decide, by decide⟩)) rfl h_18 dX8_ticksGo_59 ?_
      refine lv_isub hx hb dX8_ticksGo_60 ?_
      exact r_iret C hw hS hF dX8_ticksGo_61
    · have hF := if_e hF c_16
      refine lv_aload_n hx hb dX8_ticksGo_31 rfl (lv_at hl 0 rfl) ?_
      refine lv_sipush (v := (156 : Int32)) hx hb dX8_ticksGo_32 (by decide) ?_
      refine lv_iconst (v := (0 : Int32)) hx hb dX8_ticksGo_35 (by decide) ?_
      obtain ⟨r_19, σ_20, h_21, hF⟩ := bd_e hF
      refine r_callVv (As := [.int (156 : Int32), .int (0 : Int32)]) (rest := []) (i := 1) C hw hS (wi_lo (Or.inl (by decide))) rfl (ci := 8) rfl (met_X8_tickOn l G rd q  h_21) (cwV 2 hts (lw_V q1171 q1173 qs45 q65 q1174) rfl rfl rfl (by decide +kernel) ⟨Nat.le_of_ble_eq_true rfl, Nat.le_of_ble_eq_true rfl⟩) rfl hl.1 rfl (Nat.le_of_ble_eq_true rfl) ⟨Nat.le_refl _, Nat.le_refl _⟩ dX8_ticksGo_36 (fun H locs hw hS => ?_)
      obtain ⟨x_22, ex_22, hF⟩ := nm_e2 hF
      refine lv_iinc (v := x_22) (lv' := [(3, .int x_22), (0, .ref (q 1)), (2, .int x2)]) hx hb dX8_ticksGo_39 hl (k := 2) rfl (by rw [ex_22]; rfl) (by decide) rfl (fun ls hl => ?_)
      refine lv_goto (tgt := 26) hx hb dX8_ticksGo_42 (by decide) ?_
      exact ih _ _ _ _ _ _ hF hw hS (lv_sub hl [1, 2, 0] rfl)
noncomputable def F_X8_ticksGo (N : Nat) (x1 : Int32) (x2 : Int32) (σ : SS) : Option (Int32 × SS) :=
  bd (F_X8_copies N x1 (156 : Int32) σ) fun r_23 σ_24 =>
  nm (si σ_24 1 16 (0 : Int32)) fun σ_26 =>
  bd (F_X8_speedOn N (156 : Int32) σ_26) fun r_27 σ_28 =>
  nm (si σ_28 1 17 r_27) fun σ_30 =>
  F_X8_ticksGo_26 N N x2 (0 : Int32) σ_30
set_option maxRecDepth 100000 in
theorem met_X8_ticksGo (l : Launch) (G : GG) (rd : Bool) (q : Nat → Nat) {N : Nat} {x1 : Int32} {x2 : Int32} {σ σ' : SS} {r : Int32} (hF : F_X8_ticksGo N x1 x2 σ = some (r, σ')) : Met l yX8_ticksGo (ws_ yX8_ticksGo cX8_ticksGo 4 (some .int)) rmX8_ticksGo (pcx G rd q σ [.ref (q 1), .int x1, .int x2]) (qxi G rd q σ' r) 0 0 (fa G) := by
  refine met_of (by decide) (Nat.le_of_ble_eq_true rfl) ?_
  intro p e s m below meth c C H locs ls hw hS hl
  obtain ⟨hx, hb, hml, hown, hts, -, -, -, -⟩ := id C
  have hl : lv_has ls 4 [(0, .ref (q 1)), (1, .int x1), (2, .int x2)] := hl
  unfold F_X8_ticksGo at hF
  refine lv_aload_n hx hb dX8_ticksGo_0 rfl (lv_at hl 0 rfl) ?_
  refine lv_iload_n hx hb dX8_ticksGo_1 rfl (lv_at hl 1 rfl) ?_
  refine lv_sipush (v := (156 : Int32)) hx hb dX8_ticksGo_2 (by decide) ?_
  obtain ⟨r_23, σ_24, h_25, hF⟩ := bd_e hF
  refine r_callVv (As := [.int x1, .int (156 : Int32)]) (rest := []) (i := 1) C hw hS (wi_lo (Or.inl (by decide))) rfl (ci := 8) rfl (met_X8_copies l G rd q  h_25) (cwV 2 hts (lw_V q1192 q1194 qs48 q65 q1195) rfl rfl rfl (by decide +kernel) ⟨Nat.le_of_ble_eq_true rfl, Nat.le_of_ble_eq_true rfl⟩) rfl hl.1 rfl (Nat.le_of_ble_eq_true rfl) ⟨Nat.le_refl _, Nat.le_refl _⟩ dX8_ticksGo_5 (fun H locs hw hS => ?_)
  refine lv_aload_n hx hb dX8_ticksGo_8 rfl (lv_at hl 0 rfl) ?_
  refine lv_iconst (v := (0 : Int32)) hx hb dX8_ticksGo_9 (by decide) ?_
  obtain ⟨σ_26, eσ_26, hF⟩ := nm_e2 hF
  refine r_put8 C hw hS 16 (by decide) rfl rfl (tyX8_ok 16 (by decide)) rfl rfl q971 dX8_ticksGo_10 eσ_26 (fun H locs hw hS => ?_)
  refine lv_aload_n hx hb dX8_ticksGo_13 rfl (lv_at hl 0 rfl) ?_
  refine lv_aload_n hx hb dX8_ticksGo_14 rfl (lv_at hl 0 rfl) ?_
  refine lv_sipush (v := (156 : Int32)) hx hb dX8_ticksGo_15 (by decide) ?_
  obtain ⟨r_27, σ_28, h_29, hF⟩ := bd_e hF
  refine r_callVi (As := [.int (156 : Int32)]) (rest := [.ref (q 1)]) (i := 1) C hw hS (wi_lo (Or.inl (by decide))) rfl (ci := 8) rfl (met_X8_speedOn l G rd q  h_29) (cwV 1 hts (lw_V q1092 q1094 qs38 q65 q1095) rfl rfl rfl (by decide +kernel) ⟨Nat.le_of_ble_eq_true rfl, Nat.le_of_ble_eq_true rfl⟩) rfl hl.1 rfl (Nat.le_of_ble_eq_true rfl) ⟨Nat.le_refl _, Nat.le_refl _⟩ dX8_ticksGo_18 (fun H locs hw hS => ?_)
  obtain ⟨σ_30, eσ_30, hF⟩ := nm_e2 hF
  refine r_put8 C hw hS 17 (by decide) rfl rfl (tyX8_ok 17 (by decide)) rfl rfl q972 dX8_ticksGo_21 eσ_30 (fun H locs hw hS => ?_)
  refine lv_iconst (v := (0 : Int32)) hx hb dX8_ticksGo_24 (by decide) ?_
  refine lv_istore_n (lv' := [(3, .int (0 : Int32)), (0, .ref (q 1)), (1, .int x1), (2, .int x2)]) hx hb dX8_ticksGo_25 rfl hl (by decide) rfl (fun ls hl => ?_)
  exact w_X8_ticksGo_26 C   N _ _ _ _ _ _ hF hw hS (lv_sub hl [1, 3, 0] rfl)
abbrev rmX8_ahead : Room := { frames := 5, cells := 0, slots := 0, locals := 158 }
noncomputable def F_X8_ahead (N : Nat) (x1 : Int32) (x2 : Int32) (σ : SS) : Option (Int32 × SS) :=
  bd (F_X8_isWheel N x1 σ) fun r_13 σ_14 =>
  if r_13 = (0 : Int32) then
    some ((-1 : Int32), σ_14)
  else
    bd (F_X8_isLong N x2 σ_14) fun r_17 σ_18 =>
    if r_17 = (0 : Int32) then
      some ((-1 : Int32), σ_18)
    else
      bd (F_X8_ticksGo N (0 : Int32) x2 σ_18) fun r_21 σ_22 =>
      gd (inR ((168 : Int32) + x1) 234) <|
      some (gi σ_22 21 ((168 : Int32) + x1).toNatClampNeg, σ_22)
set_option maxRecDepth 100000 in
theorem met_X8_ahead (l : Launch) (G : GG) (rd : Bool) (q : Nat → Nat) {N : Nat} {x1 : Int32} {x2 : Int32} {σ σ' : SS} {r : Int32} (hF : F_X8_ahead N x1 x2 σ = some (r, σ')) : Met l yX8_ahead (ws_ yX8_ahead cX8_ahead 3 (some .int)) rmX8_ahead (pcx G rd q σ [.ref (q 1), .int x1, .int x2]) (qxi G rd q σ' r) 0 0 (fa G) := by
  refine met_of (by decide) (Nat.le_of_ble_eq_true rfl) ?_
  intro p e s m below meth c C H locs ls hw hS hl
  obtain ⟨hx, hb, hml, hown, hts, -, -, -, -⟩ := id C
  have hl : lv_has ls 3 [(0, .ref (q 1)), (1, .int x1), (2, .int x2)] := hl
  unfold F_X8_ahead at hF
  refine lv_aload_n hx hb dX8_ahead_0 rfl (lv_at hl 0 rfl) ?_
  refine lv_iload_n hx hb dX8_ahead_1 rfl (lv_at hl 1 rfl) ?_
  obtain ⟨r_13, σ_14, h_15, hF⟩ := bd_e hF
  refine r_callVi (As := [.int x1]) (rest := []) (i := 1) C hw hS (wi_lo (Or.inl (by decide))) rfl (ci := 8) rfl (met_X8_isWheel l G rd q  h_15) (cwV 1 hts (lw_V q1100 q1102 qs39 q65 q1103) rfl rfl rfl (by decide +kernel) ⟨Nat.le_of_ble_eq_true rfl, Nat.le_of_ble_eq_true rfl⟩) rfl hl.1 rfl (Nat.le_of_ble_eq_true rfl) ⟨Nat.le_refl _, Nat.le_refl _⟩ dX8_ahead_2 (fun H locs hw hS => ?_)
  refine lv_if_eq (tgt := 15) hx hb dX8_ahead_5 (by decide) (fun c_16 => ?_) (fun c_16 => ?_)
  · have hF := it_e hF c_16
    refine lv_iconst (v := (-1 : Int32)) hx hb dX8_ahead_15 (by decide) ?_
    exact r_iret C hw hS hF dX8_ahead_16
  · have hF := if_e hF c_16
    refine lv_iload_n hx hb dX8_ahead_8 rfl (lv_at hl 2 rfl) ?_
    obtain ⟨r_17, σ_18, h_19, hF⟩ := bd_e hF
    refine r_callSi (As := [.int x2]) (rest := []) C hw hS (met_X8_isLong l G rd q  h_19) (cwS 1 hts (lw_S q1183 q1184 q65 q1185) rfl rfl rfl (by decide +kernel) ⟨Nat.le_of_ble_eq_true rfl, Nat.le_of_ble_eq_true rfl⟩) rfl hl.1 rfl (Nat.le_of_ble_eq_true rfl) ⟨Nat.le_refl _, Nat.le_refl _⟩ dX8_ahead_9 (fun H locs hw hS => ?_)
    refine lv_if_ne (tgt := 17) hx hb dX8_ahead_12 (by decide) (fun c_20 => ?_) (fun c_20 => ?_)
    · have hF := if_e hF c_20
      refine lv_aload_n hx hb dX8_ahead_17 rfl (lv_at hl 0 rfl) ?_
      refine lv_iconst (v := (0 : Int32)) hx hb dX8_ahead_18 (by decide) ?_
      refine lv_iload_n hx hb dX8_ahead_19 rfl (lv_at hl 2 rfl) ?_
      obtain ⟨r_21, σ_22, h_23, hF⟩ := bd_e hF
      refine r_callVi (As := [.int (0 : Int32), .int x2]) (rest := []) (i := 1) C hw hS (wi_lo (Or.inl (by decide))) rfl (ci := 8) rfl (met_X8_ticksGo l G rd q  h_23) (cwV 2 hts (lw_V q1188 q1190 qs47 q65 q1191) rfl rfl rfl (by decide +kernel) ⟨Nat.le_of_ble_eq_true rfl, Nat.le_of_ble_eq_true rfl⟩) rfl hl.1 rfl (Nat.le_of_ble_eq_true rfl) ⟨Nat.le_refl _, Nat.le_refl _⟩ dX8_ahead_20 (fun H locs hw hS => ?_)
      refine lv_pop hx hb dX8_ahead_23 rfl ?_
      refine lv_aload_n hx hb dX8_ahead_24 rfl (lv_at hl 0 rfl) ?_
      refine r_get8 C hw 0 (by decide) rfl (v := .ref (q 21)) rfl q955 dX8_ahead_25 ?_
      refine lv_sipush (v := (168 : Int32)) hx hb dX8_ahead_28 (by decide) ?_
      refine lv_iload_n hx hb dX8_ahead_31 rfl (lv_at hl 1 rfl) ?_
      refine lv_iadd hx hb dX8_ahead_32 ?_
      obtain ⟨h_24, hF⟩ := gd_e hF
      refine r_iald (i := 21) (n := 234) (g := 21) (st := 0) C hw (wi_lo (Or.inr ⟨by decide, by decide⟩)) rfl h_24 dX8_ahead_33 ?_
      exact r_iret C hw hS hF dX8_ahead_34
    · have hF := it_e hF c_20
      refine lv_iconst (v := (-1 : Int32)) hx hb dX8_ahead_15 (by decide) ?_
      exact r_iret C hw hS hF dX8_ahead_16
abbrev rmX8_puts : Room := { frames := 1, cells := 0, slots := 0, locals := 60 }
noncomputable def F_X8_puts (N : Nat) (x1 : Int32) (x2 : Int32) (x3 : Int32) (x4 : Int32) (σ : SS) : Option (Int32 × SS) :=
  if x1 = (0 : Int32) then
    some ((-1 : Int32), σ)
  else
    gd (inR x2 234) <|
    nm ((gi σ 21 x2.toNatClampNeg) + x4) fun x_8 =>
    gd (inR x2 234) <|
    nm (si σ 21 x2.toNatClampNeg (x3 - x4)) fun σ_10 =>
    some (x_8, σ_10)
set_option maxRecDepth 100000 in
theorem met_X8_puts (l : Launch) (G : GG) (rd : Bool) (q : Nat → Nat) {N : Nat} {x1 : Int32} {x2 : Int32} {x3 : Int32} {x4 : Int32} {σ σ' : SS} {r : Int32} (hF : F_X8_puts N x1 x2 x3 x4 σ = some (r, σ')) : Met l yX8_puts (ws_ yX8_puts cX8_puts 6 (some .int)) rmX8_puts (pcx G rd q σ [.ref (q 1), .int x1, .int x2, .int x3, .int x4]) (qxi G rd q σ' r) 0 0 (fa G) := by
  refine met_of (by decide) (Nat.le_of_ble_eq_true rfl) ?_
  intro p e s m below meth c C H locs ls hw hS hl
  obtain ⟨hx, hb, hml, hown, hts, -, -, -, -⟩ := id C
  have hl : lv_has ls 6 [(0, .ref (q 1)), (1, .int x1), (2, .int x2), (3, .int x3), (4, .int x4)] := hl
  unfold F_X8_puts at hF
  refine lv_iload_n hx hb dX8_puts_0 rfl (lv_at hl 1 rfl) ?_
  refine lv_if_ne (tgt := 6) hx hb dX8_puts_1 (by decide) (fun c_6 => ?_) (fun c_6 => ?_)
  · have hF := if_e hF c_6
    refine lv_aload_n hx hb dX8_puts_6 rfl (lv_at hl 0 rfl) ?_
    refine r_get8 C hw 0 (by decide) rfl (v := .ref (q 21)) rfl q955 dX8_puts_7 ?_
    refine lv_iload_n hx hb dX8_puts_10 rfl (lv_at hl 2 rfl) ?_
    obtain ⟨h_7, hF⟩ := gd_e hF
    refine r_iald (i := 21) (n := 234) (g := 21) (st := 0) C hw (wi_lo (Or.inr ⟨by decide, by decide⟩)) rfl h_7 dX8_puts_11 ?_
    refine lv_iload hx hb dX8_puts_12 (lv_at hl 4 rfl) ?_
    refine lv_iadd hx hb dX8_puts_14 ?_
    obtain ⟨x_8, ex_8, hF⟩ := nm_e2 hF
    refine r_topi ex_8 ?_
    refine lv_istore (lv' := [(5, .int x_8), (0, .ref (q 1)), (1, .int x1), (2, .int x2), (3, .int x3), (4, .int x4)]) hx hb dX8_puts_15 hl (by decide) rfl (fun ls hl => ?_)
    refine lv_aload_n hx hb dX8_puts_17 rfl (lv_at hl 1 rfl) ?_
    refine r_get8 C hw 0 (by decide) rfl (v := .ref (q 21)) rfl q955 dX8_puts_18 ?_
    refine lv_iload_n hx hb dX8_puts_21 rfl (lv_at hl 3 rfl) ?_
    refine lv_iload_n hx hb dX8_puts_22 rfl (lv_at hl 4 rfl) ?_
    refine lv_iload hx hb dX8_puts_23 (lv_at hl 5 rfl) ?_
    refine lv_isub hx hb dX8_puts_25 ?_
    obtain ⟨h_9, hF⟩ := gd_e hF
    obtain ⟨σ_10, eσ_10, hF⟩ := nm_e2 hF
    refine r_iast (i := 21) (n := 234) (g := 21) (st := 0) C hw hS (wi_lo (Or.inr ⟨by decide, by decide⟩)) rfl (fun _ => ho_lo (by decide)) h_9 dX8_puts_26 eσ_10 (fun H locs hw hS => ?_)
    refine lv_iload hx hb dX8_puts_27 (lv_at hl 0 rfl) ?_
    exact r_iret C hw hS hF dX8_puts_29
  · have hF := it_e hF c_6
    refine lv_iconst (v := (-1 : Int32)) hx hb dX8_puts_4 (by decide) ?_
    exact r_iret C hw hS hF dX8_puts_5
abbrev rmX8_alter : Room := { frames := 3, cells := 0, slots := 0, locals := 106 }
noncomputable def F_X8_alter_93 (N : Nat) (x1 : Int32) (x2 : Int32) (x3 : Int32) (z0 : Int32) (σ : SS) : Option (Int32 × SS) :=
  bd (F_X8_puts N z0 (((4 : Int32) * x2) + x1) x3 (0 : Int32) σ) fun r_26 σ_27 =>
  some (r_26, σ_27)
set_option maxRecDepth 100000 in
theorem w_X8_alter_93 {p : Program} {l : Launch} {e : Env} {s : State} {m : MethodId} {args : Array Value} {below : List Frame} {meth : Method} {c : Code} {G : GG} {rd : Bool} {q : Nat → Nat} {N : Nat} {r : Int32} {σ' : SS} (C : cx p s m args meth c cX8_alter 5 RX8 (some .int) G) : ∀ (x1 : Int32) (x2 : Int32) (x3 : Int32) (z0 : Int32) (σ : SS) (H : Heap) (locs : List Loc) (ls : Array Slot), F_X8_alter_93 N x1 x2 x3 z0 σ = some (r, σ') → wx G rd q σ H → va_S (fa G) s.heap H locs → lv_has ls 5 [(1, .int x1), (2, .int x2), (3, .int x3)] → W p l e rmX8_alter s m args below meth c H locs 0 0 (MQ below (qxi G rd q σ' r) args s 0 0 (fa G)) (F0 m 93 ls [.int z0, .ref (q 1)]) := by
  obtain ⟨hx, hb, hml, hown, hts, -, -, -, -⟩ := id C
  intro x1 x2 x3 z0 σ H locs ls hF hw hS hl
  unfold F_X8_alter_93 at hF
  refine lv_iconst (v := (4 : Int32)) hx hb dX8_alter_93 (by decide) ?_
  refine lv_iload_n hx hb dX8_alter_94 rfl (lv_at hl 1 rfl) ?_
  refine lv_imul hx hb dX8_alter_95 ?_
  refine lv_iload_n hx hb dX8_alter_96 rfl (lv_at hl 0 rfl) ?_
  refine lv_iadd hx hb dX8_alter_97 ?_
  refine lv_iload_n hx hb dX8_alter_98 rfl (lv_at hl 2 rfl) ?_
  refine lv_iconst (v := (0 : Int32)) hx hb dX8_alter_99 (by decide) ?_
  obtain ⟨r_26, σ_27, h_28, hF⟩ := bd_e hF
  refine r_callVi (As := [.int z0, .int (((4 : Int32) * x2) + x1), .int x3, .int (0 : Int32)]) (rest := []) (i := 1) C hw hS (wi_lo (Or.inl (by decide))) rfl (ci := 8) rfl (met_X8_puts l G rd q  h_28) (cwV 4 hts (lw_V q1125 q1127 qs42 q65 q1128) rfl rfl rfl (by decide +kernel) ⟨Nat.le_of_ble_eq_true rfl, Nat.le_of_ble_eq_true rfl⟩) rfl hl.1 rfl (Nat.le_of_ble_eq_true rfl) ⟨Nat.le_refl _, Nat.le_refl _⟩ dX8_alter_100 (fun H locs hw hS => ?_)
  exact r_iret C hw hS hF dX8_alter_103
noncomputable def F_X8_alter_92 (N : Nat) (x1 : Int32) (x2 : Int32) (x3 : Int32) (σ : SS) : Option (Int32 × SS) :=
  F_X8_alter_93 N x1 x2 x3 (0 : Int32) σ
set_option maxRecDepth 100000 in
theorem w_X8_alter_92 {p : Program} {l : Launch} {e : Env} {s : State} {m : MethodId} {args : Array Value} {below : List Frame} {meth : Method} {c : Code} {G : GG} {rd : Bool} {q : Nat → Nat} {N : Nat} {r : Int32} {σ' : SS} (C : cx p s m args meth c cX8_alter 5 RX8 (some .int) G) : ∀ (x1 : Int32) (x2 : Int32) (x3 : Int32) (σ : SS) (H : Heap) (locs : List Loc) (ls : Array Slot), F_X8_alter_92 N x1 x2 x3 σ = some (r, σ') → wx G rd q σ H → va_S (fa G) s.heap H locs → lv_has ls 5 [(1, .int x1), (2, .int x2), (3, .int x3)] → W p l e rmX8_alter s m args below meth c H locs 0 0 (MQ below (qxi G rd q σ' r) args s 0 0 (fa G)) (F0 m 92 ls [.ref (q 1)]) := by
  obtain ⟨hx, hb, hml, hown, hts, -, -, -, -⟩ := id C
  intro x1 x2 x3 σ H locs ls hF hw hS hl
  unfold F_X8_alter_92 at hF
  refine lv_iconst (v := (0 : Int32)) hx hb dX8_alter_92 (by decide) ?_
  exact w_X8_alter_93 C   _ _ _ _ _ _ _ _ hF hw hS (lv_sub hl [0, 1, 2] rfl)
noncomputable def F_X8_alter_72 (N : Nat) (x1 : Int32) (x2 : Int32) (x3 : Int32) (z0 : Int32) (σ : SS) : Option (Int32 × SS) :=
  bd (F_X8_isWheel N x1 σ) fun r_29 σ_30 =>
  if r_29 = (0 : Int32) then
    F_X8_alter_92 N x1 x2 x3 σ_30
  else
    if z0 = (0 : Int32) then
      F_X8_alter_92 N x1 x2 x3 σ_30
    else
      F_X8_alter_93 N x1 x2 x3 (1 : Int32) σ_30
set_option maxRecDepth 100000 in
theorem w_X8_alter_72 {p : Program} {l : Launch} {e : Env} {s : State} {m : MethodId} {args : Array Value} {below : List Frame} {meth : Method} {c : Code} {G : GG} {rd : Bool} {q : Nat → Nat} {N : Nat} {r : Int32} {σ' : SS} (C : cx p s m args meth c cX8_alter 5 RX8 (some .int) G) : ∀ (x1 : Int32) (x2 : Int32) (x3 : Int32) (z0 : Int32) (σ : SS) (H : Heap) (locs : List Loc) (ls : Array Slot), F_X8_alter_72 N x1 x2 x3 z0 σ = some (r, σ') → wx G rd q σ H → va_S (fa G) s.heap H locs → lv_has ls 5 [(0, .ref (q 1)), (1, .int x1), (2, .int x2), (3, .int x3)] → W p l e rmX8_alter s m args below meth c H locs 0 0 (MQ below (qxi G rd q σ' r) args s 0 0 (fa G)) (F0 m 72 ls [.int z0]) := by
  obtain ⟨hx, hb, hml, hown, hts, -, -, -, -⟩ := id C
  intro x1 x2 x3 z0 σ H locs ls hF hw hS hl
  unfold F_X8_alter_72 at hF
  refine lv_istore (lv' := [(4, .int z0), (0, .ref (q 1)), (1, .int x1), (2, .int x2), (3, .int x3)]) hx hb dX8_alter_72 hl (by decide) rfl (fun ls hl => ?_)
  refine lv_aload_n hx hb dX8_alter_74 rfl (lv_at hl 1 rfl) ?_
  refine lv_aload_n hx hb dX8_alter_75 rfl (lv_at hl 1 rfl) ?_
  refine lv_iload_n hx hb dX8_alter_76 rfl (lv_at hl 2 rfl) ?_
  obtain ⟨r_29, σ_30, h_31, hF⟩ := bd_e hF
  refine r_callVi (As := [.int x1]) (rest := [.ref (q 1)]) (i := 1) C hw hS (wi_lo (Or.inl (by decide))) rfl (ci := 8) rfl (met_X8_isWheel l G rd q  h_31) (cwV 1 hts (lw_V q1100 q1102 qs39 q65 q1103) rfl rfl rfl (by decide +kernel) ⟨Nat.le_of_ble_eq_true rfl, Nat.le_of_ble_eq_true rfl⟩) rfl hl.1 rfl (Nat.le_of_ble_eq_true rfl) ⟨Nat.le_refl _, Nat.le_refl _⟩ dX8_alter_77 (fun H locs hw hS => ?_)
  refine lv_if_eq (tgt := 92) hx hb dX8_alter_80 (by decide) (fun c_32 => ?_) (fun c_32 => ?_)
  · have hF := it_e hF c_32
    exact w_X8_alter_92 C   _ _ _ _ _ _ _ hF hw hS (lv_sub hl [2, 3, 4] rfl)
  · have hF := if_e hF c_32
    refine lv_iload hx hb dX8_alter_83 (lv_at hl 0 rfl) ?_
    refine lv_if_eq (tgt := 92) hx hb dX8_alter_85 (by decide) (fun c_33 => ?_) (fun c_33 => ?_)
    · have hF := it_e hF c_33
      exact w_X8_alter_92 C   _ _ _ _ _ _ _ hF hw hS (lv_sub hl [2, 3, 4] rfl)
    · have hF := if_e hF c_33
      refine lv_iconst (v := (1 : Int32)) hx hb dX8_alter_88 (by decide) ?_
      refine lv_goto (tgt := 93) hx hb dX8_alter_89 (by decide) ?_
      exact w_X8_alter_93 C   _ _ _ _ _ _ _ _ hF hw hS (lv_sub hl [2, 3, 4] rfl)
noncomputable def F_X8_alter_71 (N : Nat) (x1 : Int32) (x2 : Int32) (x3 : Int32) (σ : SS) : Option (Int32 × SS) :=
  F_X8_alter_72 N x1 x2 x3 (0 : Int32) σ
set_option maxRecDepth 100000 in
theorem w_X8_alter_71 {p : Program} {l : Launch} {e : Env} {s : State} {m : MethodId} {args : Array Value} {below : List Frame} {meth : Method} {c : Code} {G : GG} {rd : Bool} {q : Nat → Nat} {N : Nat} {r : Int32} {σ' : SS} (C : cx p s m args meth c cX8_alter 5 RX8 (some .int) G) : ∀ (x1 : Int32) (x2 : Int32) (x3 : Int32) (σ : SS) (H : Heap) (locs : List Loc) (ls : Array Slot), F_X8_alter_71 N x1 x2 x3 σ = some (r, σ') → wx G rd q σ H → va_S (fa G) s.heap H locs → lv_has ls 5 [(0, .ref (q 1)), (1, .int x1), (2, .int x2), (3, .int x3)] → W p l e rmX8_alter s m args below meth c H locs 0 0 (MQ below (qxi G rd q σ' r) args s 0 0 (fa G)) (F0 m 71 ls []) := by
  obtain ⟨hx, hb, hml, hown, hts, -, -, -, -⟩ := id C
  intro x1 x2 x3 σ H locs ls hF hw hS hl
  unfold F_X8_alter_71 at hF
  refine lv_iconst (v := (0 : Int32)) hx hb dX8_alter_71 (by decide) ?_
  exact w_X8_alter_72 C   _ _ _ _ _ _ _ _ hF hw hS (lv_sub hl [0, 1, 2, 3] rfl)
noncomputable def F_X8_alter (N : Nat) (x1 : Int32) (x2 : Int32) (x3 : Int32) (σ : SS) : Option (Int32 × SS) :=
  if x2 = (0 : Int32) then
    bd (F_X8_in N x3.toInt64 (0 : Int64) (3 : Int64) σ) fun r_48 σ_49 =>
    F_X8_alter_72 N x1 x2 x3 r_48 σ_49
  else
    if x2 = (1 : Int32) then
      bd (F_X8_in N x3.toInt64 (1 : Int64) (20 : Int64) σ) fun r_45 σ_46 =>
      F_X8_alter_72 N x1 x2 x3 r_45 σ_46
    else
      if x2 = (2 : Int32) then
        bd (F_X8_in N x3.toInt64 (0 : Int64) (9 : Int64) σ) fun r_42 σ_43 =>
        F_X8_alter_72 N x1 x2 x3 r_42 σ_43
      else
        if x2 = (3 : Int32) then
          bd (F_X8_in N x3.toInt64 (0 : Int64) (9999 : Int64) σ) fun r_38 σ_39 =>
          if r_38 = (0 : Int32) then
            F_X8_alter_71 N x1 x2 x3 σ_39
          else
            F_X8_alter_72 N x1 x2 x3 (1 : Int32) σ_39
        else
          F_X8_alter_71 N x1 x2 x3 σ
set_option maxRecDepth 100000 in
theorem met_X8_alter (l : Launch) (G : GG) (rd : Bool) (q : Nat → Nat) {N : Nat} {x1 : Int32} {x2 : Int32} {x3 : Int32} {σ σ' : SS} {r : Int32} (hF : F_X8_alter N x1 x2 x3 σ = some (r, σ')) : Met l yX8_alter (ws_ yX8_alter cX8_alter 5 (some .int)) rmX8_alter (pcx G rd q σ [.ref (q 1), .int x1, .int x2, .int x3]) (qxi G rd q σ' r) 0 0 (fa G) := by
  refine met_of (by decide) (Nat.le_of_ble_eq_true rfl) ?_
  intro p e s m below meth c C H locs ls hw hS hl
  obtain ⟨hx, hb, hml, hown, hts, -, -, -, -⟩ := id C
  have hl : lv_has ls 5 [(0, .ref (q 1)), (1, .int x1), (2, .int x2), (3, .int x3)] := hl
  unfold F_X8_alter at hF
  refine lv_iload_n hx hb dX8_alter_0 rfl (lv_at hl 2 rfl) ?_
  refine lv_if_ne (tgt := 16) hx hb dX8_alter_1 (by decide) (fun c_34 => ?_) (fun c_34 => ?_)
  · have hF := if_e hF c_34
    refine lv_iload_n hx hb dX8_alter_16 rfl (lv_at hl 2 rfl) ?_
    refine lv_iconst (v := (1 : Int32)) hx hb dX8_alter_17 (by decide) ?_
    refine lv_icmp_ne (tgt := 33) hx hb dX8_alter_18 (by decide) (fun c_35 => ?_) (fun c_35 => ?_)
    · have hF := if_e hF c_35
      refine lv_iload_n hx hb dX8_alter_33 rfl (lv_at hl 2 rfl) ?_
      refine lv_iconst (v := (2 : Int32)) hx hb dX8_alter_34 (by decide) ?_
      refine lv_icmp_ne (tgt := 50) hx hb dX8_alter_35 (by decide) (fun c_36 => ?_) (fun c_36 => ?_)
      · have hF := if_e hF c_36
        refine lv_iload_n hx hb dX8_alter_50 rfl (lv_at hl 2 rfl) ?_
        refine lv_iconst (v := (3 : Int32)) hx hb dX8_alter_51 (by decide) ?_
        refine lv_icmp_ne (tgt := 71) hx hb dX8_alter_52 (by decide) (fun c_37 => ?_) (fun c_37 => ?_)
        · have hF := if_e hF c_37
          exact w_X8_alter_71 C   _ _ _ _ _ _ _ hF hw hS (lv_sub hl [0, 1, 2, 3] rfl)
        · have hF := it_e hF c_37
          refine lv_iload_n hx hb dX8_alter_55 rfl (lv_at hl 3 rfl) ?_
          refine lv_i2l hx hb dX8_alter_56 rfl ?_
          refine lv_lconst (v := (0 : Int64)) hx hb dX8_alter_57 (by decide) ?_
          refine lv_ldc2 (v := (9999 : Int64)) hx hb hown (hts _ q1124) dX8_alter_58 ?_
          obtain ⟨r_38, σ_39, h_40, hF⟩ := bd_e hF
          refine r_callSi (As := [.long x3.toInt64, .long (0 : Int64), .long (9999 : Int64)]) (rest := []) C hw hS (met_X8_in l G rd q  h_40) (cwS 3 hts (lw_S q1040 q1041 q65 q1042) rfl rfl rfl (by decide +kernel) ⟨Nat.le_of_ble_eq_true rfl, Nat.le_of_ble_eq_true rfl⟩) rfl hl.1 rfl (Nat.le_of_ble_eq_true rfl) ⟨Nat.le_refl _, Nat.le_refl _⟩ dX8_alter_61 (fun H locs hw hS => ?_)
          refine lv_if_eq (tgt := 71) hx hb dX8_alter_64 (by decide) (fun c_41 => ?_) (fun c_41 => ?_)
          · have hF := it_e hF c_41
            exact w_X8_alter_71 C   _ _ _ _ _ _ _ hF hw hS (lv_sub hl [0, 1, 2, 3] rfl)
          · have hF := if_e hF c_41
            refine lv_iconst (v := (1 : Int32)) hx hb dX8_alter_67 (by decide) ?_
            refine lv_goto (tgt := 72) hx hb dX8_alter_68 (by decide) ?_
            exact w_X8_alter_72 C   _ _ _ _ _ _ _ _ hF hw hS (lv_sub hl [0, 1, 2, 3] rfl)
      · have hF := it_e hF c_36
        refine lv_iload_n hx hb dX8_alter_38 rfl (lv_at hl 3 rfl) ?_
        refine lv_i2l hx hb dX8_alter_39 rfl ?_
        refine lv_lconst (v := (0 : Int64)) hx hb dX8_alter_40 (by decide) ?_
        refine lv_ldc2 (v := (9 : Int64)) hx hb hown (hts _ q1123) dX8_alter_41 ?_
        obtain ⟨r_42, σ_43, h_44, hF⟩ := bd_e hF
        refine r_callSi (As := [.long x3.toInt64, .long (0 : Int64), .long (9 : Int64)]) (rest := []) C hw hS (met_X8_in l G rd q  h_44) (cwS 3 hts (lw_S q1040 q1041 q65 q1042) rfl rfl rfl (by decide +kernel) ⟨Nat.le_of_ble_eq_true rfl, Nat.le_of_ble_eq_true rfl⟩) rfl hl.1 rfl (Nat.le_of_ble_eq_true rfl) ⟨Nat.le_refl _, Nat.le_refl _⟩ dX8_alter_44 (fun H locs hw hS => ?_)
        refine lv_goto (tgt := 72) hx hb dX8_alter_47 (by decide) ?_
        exact w_X8_alter_72 C   _ _ _ _ _ _ _ _ hF hw hS (lv_sub hl [0, 1, 2, 3] rfl)
    · have hF := it_e hF c_35
      refine lv_iload_n hx hb dX8_alter_21 rfl (lv_at hl 3 rfl) ?_
      refine lv_i2l hx hb dX8_alter_22 rfl ?_
      refine lv_lconst (v := (1 : Int64)) hx hb dX8_alter_23 (by decide) ?_
      refine lv_ldc2 (v := (20 : Int64)) hx hb hown (hts _ q1122) dX8_alter_24 ?_
      obtain ⟨r_45, σ_46, h_47, hF⟩ := bd_e hF
      refine r_callSi (As := [.long x3.toInt64, .long (1 : Int64), .long (20 : Int64)]) (rest := []) C hw hS (met_X8_in l G rd q  h_47) (cwS 3 hts (lw_S q1040 q1041 q65 q1042) rfl rfl rfl (by decide +kernel) ⟨Nat.le_of_ble_eq_true rfl, Nat.le_of_ble_eq_true rfl⟩) rfl hl.1 rfl (Nat.le_of_ble_eq_true rfl) ⟨Nat.le_refl _, Nat.le_refl _⟩ dX8_alter_27 (fun H locs hw hS => ?_)
      refine lv_goto (tgt := 72) hx hb dX8_alter_30 (by decide) ?_
      exact w_X8_alter_72 C   _ _ _ _ _ _ _ _ hF hw hS (lv_sub hl [0, 1, 2, 3] rfl)
  · have hF := it_e hF c_34
    refine lv_iload_n hx hb dX8_alter_4 rfl (lv_at hl 3 rfl) ?_
    refine lv_i2l hx hb dX8_alter_5 rfl ?_
    refine lv_lconst (v := (0 : Int64)) hx hb dX8_alter_6 (by decide) ?_
    refine lv_ldc2 (v := (3 : Int64)) hx hb hown (hts _ q1121) dX8_alter_7 ?_
    obtain ⟨r_48, σ_49, h_50, hF⟩ := bd_e hF
    refine r_callSi (As := [.long x3.toInt64, .long (0 : Int64), .long (3 : Int64)]) (rest := []) C hw hS (met_X8_in l G rd q  h_50) (cwS 3 hts (lw_S q1040 q1041 q65 q1042) rfl rfl rfl (by decide +kernel) ⟨Nat.le_of_ble_eq_true rfl, Nat.le_of_ble_eq_true rfl⟩) rfl hl.1 rfl (Nat.le_of_ble_eq_true rfl) ⟨Nat.le_refl _, Nat.le_refl _⟩ dX8_alter_10 (fun H locs hw hS => ?_)
    refine lv_goto (tgt := 72) hx hb dX8_alter_13 (by decide) ?_
    exact w_X8_alter_72 C   _ _ _ _ _ _ _ _ hF hw hS (lv_sub hl [0, 1, 2, 3] rfl)
abbrev rmX8_isAsSeen : Room := { frames := 4, cells := 0, slots := 0, locals := 135 }
noncomputable def F_X8_isAsSeen_134 (N : Nat) (K13 : Int32 → Int32 → Int32 → Int32 → SS → Option (Int32 × SS)) (K45 : Int32 → Int32 → Int32 → Int32 → Int32 → SS → Option (Int32 × SS)) (x1 : Int32) (x2 : Int32) (x4 : Int32) (x5 : Int32) (σ : SS) : Option (Int32 × SS) :=
  nm (x5 + (1 : Int32)) fun x_28 =>
  K45 x1 x2 (1 : Int32) x4 x_28 σ
set_option maxRecDepth 100000 in
theorem w_X8_isAsSeen_134 {p : Program} {l : Launch} {e : Env} {s : State} {m : MethodId} {args : Array Value} {below : List Frame} {meth : Method} {c : Code} {G : GG} {rd : Bool} {q : Nat → Nat} {N : Nat} {r : Int32} {σ' : SS} (C : cx p s m args meth c cX8_isAsSeen 8 RX8 (some .boolean) G) {K13 : Int32 → Int32 → Int32 → Int32 → SS → Option (Int32 × SS)} (HK13 : ∀ (x1 : Int32) (x2 : Int32) (x3 : Int32) (x4 : Int32) (σ : SS) (H : Heap) (locs : List Loc) (ls : Array Slot), K13 x1 x2 x3 x4 σ = some (r, σ') → wx G rd q σ H → va_S (fa G) s.heap H locs → lv_has ls 8 [(0, .ref (q 1)), (1, .int x1), (2, .int x2), (3, .int x3), (4, .int x4)] → W p l e rmX8_isAsSeen s m args below meth c H locs 0 0 (MQ below (qxi G rd q σ' r) args s 0 0 (fa G)) (F0 m 13 ls [])) {K45 : Int32 → Int32 → Int32 → Int32 → Int32 → SS → Option (Int32 × SS)} (HK45 : ∀ (x1 : Int32) (x2 : Int32) (x3 : Int32) (x4 : Int32) (x5 : Int32) (σ : SS) (H : Heap) (locs : List Loc) (ls : Array Slot), K45 x1 x2 x3 x4 x5 σ = some (r, σ') → wx G rd q σ H → va_S (fa G) s.heap H locs → lv_has ls 8 [(0, .ref (q 1)), (1, .int x1), (2, .int x2), (3, .int x3), (4, .int x4), (5, .int x5)] → W p l e rmX8_isAsSeen s m args below meth c H locs 0 0 (MQ below (qxi G rd q σ' r) args s 0 0 (fa G)) (F0 m 45 ls [])) : ∀ (x1 : Int32) (x2 : Int32) (x4 : Int32) (x5 : Int32) (σ : SS) (H : Heap) (locs : List Loc) (ls : Array Slot), F_X8_isAsSeen_134 N K13 K45 x1 x2 x4 x5 σ = some (r, σ') → wx G rd q σ H → va_S (fa G) s.heap H locs → lv_has ls 8 [(0, .ref (q 1)), (1, .int x1), (2, .int x2), (4, .int x4), (5, .int x5)] → W p l e rmX8_isAsSeen s m args below meth c H locs 0 0 (MQ below (qxi G rd q σ' r) args s 0 0 (fa G)) (F0 m 134 ls []) := by
  obtain ⟨hx, hb, hml, hown, hts, -, -, -, -⟩ := id C
  intro x1 x2 x4 x5 σ H locs ls hF hw hS hl
  unfold F_X8_isAsSeen_134 at hF
  refine lv_iconst (v := (1 : Int32)) hx hb dX8_isAsSeen_134 (by decide) ?_
  refine lv_goto (tgt := 139) hx hb dX8_isAsSeen_135 (by decide) ?_
  refine lv_istore_n (lv' := [(3, .int (1 : Int32)), (0, .ref (q 1)), (1, .int x1), (2, .int x2), (4, .int x4), (5, .int x5)]) hx hb dX8_isAsSeen_139 rfl hl (by decide) rfl (fun ls hl => ?_)
  obtain ⟨x_28, ex_28, hF⟩ := nm_e2 hF
  refine lv_iinc (v := x_28) (lv' := [(5, .int x_28), (3, .int (1 : Int32)), (0, .ref (q 1)), (1, .int x1), (2, .int x2), (4, .int x4)]) hx hb dX8_isAsSeen_140 hl (k := 5) rfl (by rw [ex_28]; rfl) (by decide) rfl (fun ls hl => ?_)
  refine lv_goto (tgt := 45) hx hb dX8_isAsSeen_143 (by decide) ?_
  exact HK45 _ _ _ _ _ _ _ _ _ hF hw hS (lv_sub hl [2, 3, 4, 1, 5, 0] rfl)
noncomputable def F_X8_isAsSeen_109 (N : Nat) (K13 : Int32 → Int32 → Int32 → Int32 → SS → Option (Int32 × SS)) (K45 : Int32 → Int32 → Int32 → Int32 → Int32 → SS → Option (Int32 × SS)) (x1 : Int32) (x2 : Int32) (x3 : Int32) (x4 : Int32) (x5 : Int32) (z0 : Int32) (σ : SS) : Option (Int32 × SS) :=
  if x3 = (0 : Int32) then
    nm (x5 + (1 : Int32)) fun x_30 =>
    K45 x1 x2 (0 : Int32) x4 x_30 σ
  else
    gd (inR ((3 : Int32) * x5) 18) <|
    if (gi σ 26 ((3 : Int32) * x5).toNatClampNeg) = x4 then
      if z0 = (0 : Int32) then
        nm (x5 + (1 : Int32)) fun x_34 =>
        K45 x1 x2 (0 : Int32) x4 x_34 σ
      else
        F_X8_isAsSeen_134 N K13 K45 x1 x2 x4 x5 σ
    else
      F_X8_isAsSeen_134 N K13 K45 x1 x2 x4 x5 σ
set_option maxRecDepth 100000 in
theorem w_X8_isAsSeen_109 {p : Program} {l : Launch} {e : Env} {s : State} {m : MethodId} {args : Array Value} {below : List Frame} {meth : Method} {c : Code} {G : GG} {rd : Bool} {q : Nat → Nat} {N : Nat} {r : Int32} {σ' : SS} (C : cx p s m args meth c cX8_isAsSeen 8 RX8 (some .boolean) G) {K13 : Int32 → Int32 → Int32 → Int32 → SS → Option (Int32 × SS)} (HK13 : ∀ (x1 : Int32) (x2 : Int32) (x3 : Int32) (x4 : Int32) (σ : SS) (H : Heap) (locs : List Loc) (ls : Array Slot), K13 x1 x2 x3 x4 σ = some (r, σ') → wx G rd q σ H → va_S (fa G) s.heap H locs → lv_has ls 8 [(0, .ref (q 1)), (1, .int x1), (2, .int x2), (3, .int x3), (4, .int x4)] → W p l e rmX8_isAsSeen s m args below meth c H locs 0 0 (MQ below (qxi G rd q σ' r) args s 0 0 (fa G)) (F0 m 13 ls [])) {K45 : Int32 → Int32 → Int32 → Int32 → Int32 → SS → Option (Int32 × SS)} (HK45 : ∀ (x1 : Int32) (x2 : Int32) (x3 : Int32) (x4 : Int32) (x5 : Int32) (σ : SS) (H : Heap) (locs : List Loc) (ls : Array Slot), K45 x1 x2 x3 x4 x5 σ = some (r, σ') → wx G rd q σ H → va_S (fa G) s.heap H locs → lv_has ls 8 [(0, .ref (q 1)), (1, .int x1), (2, .int x2), (3, .int x3), (4, .int x4), (5, .int x5)] → W p l e rmX8_isAsSeen s m args below meth c H locs 0 0 (MQ below (qxi G rd q σ' r) args s 0 0 (fa G)) (F0 m 45 ls [])) : ∀ (x1 : Int32) (x2 : Int32) (x3 : Int32) (x4 : Int32) (x5 : Int32) (z0 : Int32) (σ : SS) (H : Heap) (locs : List Loc) (ls : Array Slot), F_X8_isAsSeen_109 N K13 K45 x1 x2 x3 x4 x5 z0 σ = some (r, σ') → wx G rd q σ H → va_S (fa G) s.heap H locs → lv_has ls 8 [(0, .ref (q 1)), (1, .int x1), (2, .int x2), (3, .int x3), (4, .int x4), (5, .int x5)] → W p l e rmX8_isAsSeen s m args below meth c H locs 0 0 (MQ below (qxi G rd q σ' r) args s 0 0 (fa G)) (F0 m 109 ls [.int z0]) := by
  obtain ⟨hx, hb, hml, hown, hts, -, -, -, -⟩ := id C
  intro x1 x2 x3 x4 x5 z0 σ H locs ls hF hw hS hl
  unfold F_X8_isAsSeen_109 at hF
  refine lv_istore (lv' := [(7, .int z0), (0, .ref (q 1)), (1, .int x1), (2, .int x2), (3, .int x3), (4, .int x4), (5, .int x5)]) hx hb dX8_isAsSeen_109 hl (by decide) rfl (fun ls hl => ?_)
  refine lv_iload_n hx hb dX8_isAsSeen_111 rfl (lv_at hl 4 rfl) ?_
  refine lv_if_eq (tgt := 138) hx hb dX8_isAsSeen_112 (by decide) (fun c_29 => ?_) (fun c_29 => ?_)
  · have hF := it_e hF c_29
    refine lv_iconst (v := (0 : Int32)) hx hb dX8_isAsSeen_138 (by decide) ?_
    refine lv_istore_n (lv' := [(3, .int (0 : Int32)), (7, .int z0), (0, .ref (q 1)), (1, .int x1), (2, .int x2), (4, .int x4), (5, .int x5)]) hx hb dX8_isAsSeen_139 rfl hl (by decide) rfl (fun ls hl => ?_)
    obtain ⟨x_30, ex_30, hF⟩ := nm_e2 hF
    refine lv_iinc (v := x_30) (lv' := [(5, .int x_30), (3, .int (0 : Int32)), (7, .int z0), (0, .ref (q 1)), (1, .int x1), (2, .int x2), (4, .int x4)]) hx hb dX8_isAsSeen_140 hl (k := 6) rfl (by rw [ex_30]; rfl) (by decide) rfl (fun ls hl => ?_)
    refine lv_goto (tgt := 45) hx hb dX8_isAsSeen_143 (by decide) ?_
    exact HK45 _ _ _ _ _ _ _ _ _ hF hw hS (lv_sub hl [3, 4, 5, 1, 6, 0] rfl)
  · have hF := if_e hF c_29
    refine lv_aload_n hx hb dX8_isAsSeen_115 rfl (lv_at hl 1 rfl) ?_
    refine r_get8 C hw 18 (by decide) rfl (v := .ref (q 26)) rfl q973 dX8_isAsSeen_116 ?_
    refine lv_iconst (v := (3 : Int32)) hx hb dX8_isAsSeen_119 (by decide) ?_
    refine lv_iload hx hb dX8_isAsSeen_120 (lv_at hl 6 rfl) ?_
    refine lv_imul hx hb dX8_isAsSeen_122 ?_
    obtain ⟨h_31, hF⟩ := gd_e hF
    refine r_iald (i := 26) (n := 18) (g := 26) (st := 0) C hw (wi_lo (Or.inr ⟨by decide, by decide⟩)) rfl h_31 dX8_isAsSeen_123 ?_
    refine lv_iload hx hb dX8_isAsSeen_124 (lv_at hl 5 rfl) ?_
    refine lv_icmp_ne (tgt := 134) hx hb dX8_isAsSeen_126 (by decide) (fun c_32 => ?_) (fun c_32 => ?_)
    · have hF := if_e hF c_32
      exact w_X8_isAsSeen_134 C  HK13 HK45 _ _ _ _ _ _ _ _ hF hw hS (lv_sub hl [1, 2, 3, 5, 6] rfl)
    · have hF := it_e hF c_32
      refine lv_iload hx hb dX8_isAsSeen_129 (lv_at hl 0 rfl) ?_
      refine lv_if_eq (tgt := 138) hx hb dX8_isAsSeen_131 (by decide) (fun c_33 => ?_) (fun c_33 => ?_)
      · have hF := it_e hF c_33
        refine lv_iconst (v := (0 : Int32)) hx hb dX8_isAsSeen_138 (by decide) ?_
        refine lv_istore_n (lv' := [(3, .int (0 : Int32)), (7, .int z0), (0, .ref (q 1)), (1, .int x1), (2, .int x2), (4, .int x4), (5, .int x5)]) hx hb dX8_isAsSeen_139 rfl hl (by decide) rfl (fun ls hl => ?_)
        obtain ⟨x_34, ex_34, hF⟩ := nm_e2 hF
        refine lv_iinc (v := x_34) (lv' := [(5, .int x_34), (3, .int (0 : Int32)), (7, .int z0), (0, .ref (q 1)), (1, .int x1), (2, .int x2), (4, .int x4)]) hx hb dX8_isAsSeen_140 hl (k := 6) rfl (by rw [ex_34]; rfl) (by decide) rfl (fun ls hl => ?_)
        refine lv_goto (tgt := 45) hx hb dX8_isAsSeen_143 (by decide) ?_
        exact HK45 _ _ _ _ _ _ _ _ _ hF hw hS (lv_sub hl [3, 4, 5, 1, 6, 0] rfl)
      · have hF := if_e hF c_33
        exact w_X8_isAsSeen_134 C  HK13 HK45 _ _ _ _ _ _ _ _ hF hw hS (lv_sub hl [1, 2, 3, 5, 6] rfl)
noncomputable def F_X8_isAsSeen_108 (N : Nat) (K13 : Int32 → Int32 → Int32 → Int32 → SS → Option (Int32 × SS)) (K45 : Int32 → Int32 → Int32 → Int32 → Int32 → SS → Option (Int32 × SS)) (x1 : Int32) (x2 : Int32) (x3 : Int32) (x4 : Int32) (x5 : Int32) (σ : SS) : Option (Int32 × SS) :=
  F_X8_isAsSeen_109 N K13 K45 x1 x2 x3 x4 x5 (0 : Int32) σ
set_option maxRecDepth 100000 in
theorem w_X8_isAsSeen_108 {p : Program} {l : Launch} {e : Env} {s : State} {m : MethodId} {args : Array Value} {below : List Frame} {meth : Method} {c : Code} {G : GG} {rd : Bool} {q : Nat → Nat} {N : Nat} {r : Int32} {σ' : SS} (C : cx p s m args meth c cX8_isAsSeen 8 RX8 (some .boolean) G) {K13 : Int32 → Int32 → Int32 → Int32 → SS → Option (Int32 × SS)} (HK13 : ∀ (x1 : Int32) (x2 : Int32) (x3 : Int32) (x4 : Int32) (σ : SS) (H : Heap) (locs : List Loc) (ls : Array Slot), K13 x1 x2 x3 x4 σ = some (r, σ') → wx G rd q σ H → va_S (fa G) s.heap H locs → lv_has ls 8 [(0, .ref (q 1)), (1, .int x1), (2, .int x2), (3, .int x3), (4, .int x4)] → W p l e rmX8_isAsSeen s m args below meth c H locs 0 0 (MQ below (qxi G rd q σ' r) args s 0 0 (fa G)) (F0 m 13 ls [])) {K45 : Int32 → Int32 → Int32 → Int32 → Int32 → SS → Option (Int32 × SS)} (HK45 : ∀ (x1 : Int32) (x2 : Int32) (x3 : Int32) (x4 : Int32) (x5 : Int32) (σ : SS) (H : Heap) (locs : List Loc) (ls : Array Slot), K45 x1 x2 x3 x4 x5 σ = some (r, σ') → wx G rd q σ H → va_S (fa G) s.heap H locs → lv_has ls 8 [(0, .ref (q 1)), (1, .int x1), (2, .int x2), (3, .int x3), (4, .int x4), (5, .int x5)] → W p l e rmX8_isAsSeen s m args below meth c H locs 0 0 (MQ below (qxi G rd q σ' r) args s 0 0 (fa G)) (F0 m 45 ls [])) : ∀ (x1 : Int32) (x2 : Int32) (x3 : Int32) (x4 : Int32) (x5 : Int32) (σ : SS) (H : Heap) (locs : List Loc) (ls : Array Slot), F_X8_isAsSeen_108 N K13 K45 x1 x2 x3 x4 x5 σ = some (r, σ') → wx G rd q σ H → va_S (fa G) s.heap H locs → lv_has ls 8 [(0, .ref (q 1)), (1, .int x1), (2, .int x2), (3, .int x3), (4, .int x4), (5, .int x5)] → W p l e rmX8_isAsSeen s m args below meth c H locs 0 0 (MQ below (qxi G rd q σ' r) args s 0 0 (fa G)) (F0 m 108 ls []) := by
  obtain ⟨hx, hb, hml, hown, hts, -, -, -, -⟩ := id C
  intro x1 x2 x3 x4 x5 σ H locs ls hF hw hS hl
  unfold F_X8_isAsSeen_108 at hF
  refine lv_iconst (v := (0 : Int32)) hx hb dX8_isAsSeen_108 (by decide) ?_
  exact w_X8_isAsSeen_109 C  HK13 HK45 _ _ _ _ _ _ _ _ _ _ hF hw hS (lv_sub hl [0, 1, 2, 3, 4, 5] rfl)
noncomputable def B_X8_isAsSeen_45 (N : Nat) (K13 : Int32 → Int32 → Int32 → Int32 → SS → Option (Int32 × SS)) (IH : Int32 → Int32 → Int32 → Int32 → Int32 → SS → Option (Int32 × SS)) (x1 : Int32) (x2 : Int32) (x3 : Int32) (x4 : Int32) (x5 : Int32) (σ : SS) : Option (Int32 × SS) :=
  if (gi σ 1 19) ≤ x5 then
    bd (F_X8_tickOn N (156 : Int32) (0 : Int32) σ) fun r_36 σ_37 =>
    nm (x4 + (1 : Int32)) fun x_39 =>
    K13 x1 x2 x3 x_39 σ_37
  else
    gd (inR (((3 : Int32) * x5) + (1 : Int32)) 18) <|
    nm (gi σ 26 (((3 : Int32) * x5) + (1 : Int32)).toNatClampNeg) fun x_41 =>
    gd (inR (16 : Int32) 234) <|
    if (gi σ 21 (16 : Int32).toNatClampNeg) ≤ x_41 then
      F_X8_isAsSeen_108 N K13 IH x1 x2 x3 x4 x5 σ
    else
      gd (inR ((168 : Int32) + x_41) 234) <|
      gd (inR (((3 : Int32) * x5) + (2 : Int32)) 18) <|
      if (gi σ 21 ((168 : Int32) + x_41).toNatClampNeg) = (gi σ 26 (((3 : Int32) * x5) + (2 : Int32)).toNatClampNeg) then
        F_X8_isAsSeen_109 N K13 IH x1 x2 x3 x4 x5 (1 : Int32) σ
      else
        F_X8_isAsSeen_108 N K13 IH x1 x2 x3 x4 x5 σ
noncomputable def F_X8_isAsSeen_45 (N : Nat) (K13 : Int32 → Int32 → Int32 → Int32 → SS → Option (Int32 × SS)) (n : Nat) : Int32 → Int32 → Int32 → Int32 → Int32 → SS → Option (Int32 × SS) := Nat.rec (fun _ _ _ _ _ _ => none) (fun _ IH => B_X8_isAsSeen_45 N K13 IH) n
set_option maxRecDepth 100000 in
theorem w_X8_isAsSeen_45 {p : Program} {l : Launch} {e : Env} {s : State} {m : MethodId} {args : Array Value} {below : List Frame} {meth : Method} {c : Code} {G : GG} {rd : Bool} {q : Nat → Nat} {N : Nat} {r : Int32} {σ' : SS} (C : cx p s m args meth c cX8_isAsSeen 8 RX8 (some .boolean) G) {K13 : Int32 → Int32 → Int32 → Int32 → SS → Option (Int32 × SS)} (HK13 : ∀ (x1 : Int32) (x2 : Int32) (x3 : Int32) (x4 : Int32) (σ : SS) (H : Heap) (locs : List Loc) (ls : Array Slot), K13 x1 x2 x3 x4 σ = some (r, σ') → wx G rd q σ H → va_S (fa G) s.heap H locs → lv_has ls 8 [(0, .ref (q 1)), (1, .int x1), (2, .int x2), (3, .int x3), (4, .int x4)] → W p l e rmX8_isAsSeen s m args below meth c H locs 0 0 (MQ below (qxi G rd q σ' r) args s 0 0 (fa G)) (F0 m 13 ls [])) : ∀ (n : Nat), ∀ (x1 : Int32) (x2 : Int32) (x3 : Int32) (x4 : Int32) (x5 : Int32) (σ : SS) (H : Heap) (locs : List Loc) (ls : Array Slot), F_X8_isAsSeen_45 N K13 n x1 x2 x3 x4 x5 σ = some (r, σ') → wx G rd q σ H → va_S (fa G) s.heap H locs → lv_has ls 8 [(0, .ref (q 1)), (1, .int x1), (2, .int x2), (3, .int x3), (4, .int x4), (5, .int x5)] → W p l e rmX8_isAsSeen s m args below meth c H locs 0 0 (MQ below (qxi G rd q σ' r) args s 0 0 (fa G)) (F0 m 45 ls []) := by
  obtain ⟨hx, hb, hml, hown, hts, -, -, -, -⟩ := id C
  intro n
  induction n with
  | zero =>
    intro x1 x2 x3 x4 x5 σ H locs ls hF hw hS hl
    cases hF
  | succ n ih =>
    intro x1 x2 x3 x4 x5 σ H locs ls hF hw hS hl
    have hF : B_X8_isAsSeen_45 N K13 (F_X8_isAsSeen_45 N K13 n) x1 x2 x3 x4 x5 σ = some (r, σ') := hF
    unfold B_X8_isAsSeen_45 at hF
    refine lv_iload hx hb dX8_isAsSeen_45 (lv_at hl 5 rfl) ?_
    refine lv_aload_n hx hb dX8_isAsSeen_47 rfl (lv_at hl 0 rfl) ?_
    refine r_get8 C hw 19 (by decide) rfl (v := .int (gi σ 1 19)) rfl q974 dX8_isAsSeen_48 ?_
    refine lv_icmp_ge (tgt := 146) hx hb dX8_isAsSeen_51 (by decide) (fun c_35 => ?_) (fun c_35 => ?_)
    · have hF := it_e hF c_35
      refine lv_aload_n hx hb dX8_isAsSeen_146 rfl (lv_at hl 0 rfl) ?_
      refine lv_sipush (v := (156 : Int32)) hx hb dX8_isAsSeen_147 (by decide) ?_
      refine lv_iconst (v := (0 : Int32)) hx hb dX8_isAsSeen_150 (by decide) ?_
      obtain ⟨r_36, σ_37, h_38, hF⟩ := bd_e hF
      refine r_callVv (As := [.int (156 : Int32), .int (0 : Int32)]) (rest := []) (i := 1) C hw hS (wi_lo (Or.inl (by decide))) rfl (ci := 8) rfl (met_X8_tickOn l G rd q  h_38) (cwV 2 hts (lw_V q1171 q1173 qs45 q65 q1174) rfl rfl rfl (by decide +kernel) ⟨Nat.le_of_ble_eq_true rfl, Nat.le_of_ble_eq_true rfl⟩) rfl hl.1 rfl (Nat.le_of_ble_eq_true rfl) ⟨Nat.le_refl _, Nat.le_refl _⟩ dX8_isAsSeen_151 (fun H locs hw hS => ?_)
      obtain ⟨x_39, ex_39, hF⟩ := nm_e2 hF
      refine lv_iinc (v := x_39) (lv' := [(4, .int x_39), (0, .ref (q 1)), (1, .int x1), (2, .int x2), (3, .int x3), (5, .int x5)]) hx hb dX8_isAsSeen_154 hl (k := 4) rfl (by rw [ex_39]; rfl) (by decide) rfl (fun ls hl => ?_)
      refine lv_goto (tgt := 13) hx hb dX8_isAsSeen_157 (by decide) ?_
      exact HK13 _ _ _ _ _ _ _ _ hF hw hS (lv_sub hl [1, 2, 3, 4, 0] rfl)
    · have hF := if_e hF c_35
      refine lv_aload_n hx hb dX8_isAsSeen_54 rfl (lv_at hl 0 rfl) ?_
      refine r_get8 C hw 18 (by decide) rfl (v := .ref (q 26)) rfl q973 dX8_isAsSeen_55 ?_
      refine lv_iconst (v := (3 : Int32)) hx hb dX8_isAsSeen_58 (by decide) ?_
      refine lv_iload hx hb dX8_isAsSeen_59 (lv_at hl 5 rfl) ?_
      refine lv_imul hx hb dX8_isAsSeen_61 ?_
      refine lv_iconst (v := (1 : Int32)) hx hb dX8_isAsSeen_62 (by decide) ?_
      refine lv_iadd hx hb dX8_isAsSeen_63 ?_
      obtain ⟨h_40, hF⟩ := gd_e hF
      refine r_iald (i := 26) (n := 18) (g := 26) (st := 0) C hw (wi_lo (Or.inr ⟨by decide, by decide⟩)) rfl h_40 dX8_isAsSeen_64 ?_
      obtain ⟨x_41, ex_41, hF⟩ := nm_e2 hF
      refine r_topi ex_41 ?_
      refine lv_istore (lv' := [(6, .int x_41), (0, .ref (q 1)), (1, .int x1), (2, .int x2), (3, .int x3), (4, .int x4), (5, .int x5)]) hx hb dX8_isAsSeen_65 hl (by decide) rfl (fun ls hl => ?_)
      refine lv_iload hx hb dX8_isAsSeen_67 (lv_at hl 0 rfl) ?_
      refine lv_aload_n hx hb dX8_isAsSeen_69 rfl (lv_at hl 1 rfl) ?_
      refine r_get8 C hw 0 (by decide) rfl (v := .ref (q 21)) rfl q955 dX8_isAsSeen_70 ?_
      refine lv_bipush (v := (16 : Int32)) hx hb dX8_isAsSeen_73 (by decide) ?_
      obtain ⟨h_42, hF⟩ := gd_e hF
      refine r_iald (i := 21) (n := 234) (g := 21) (st := 0) C hw (wi_lo (Or.inr ⟨by decide, by decide⟩)) rfl h_42 dX8_isAsSeen_75 ?_
      refine lv_icmp_ge (tgt := 108) hx hb dX8_isAsSeen_76 (by decide) (fun c_43 => ?_) (fun c_43 => ?_)
      · have hF := it_e hF c_43
        exact w_X8_isAsSeen_108 C  HK13 ih _ _ _ _ _ _ _ _ _ hF hw hS (lv_sub hl [1, 2, 3, 4, 5, 6] rfl)
      · have hF := if_e hF c_43
        refine lv_aload_n hx hb dX8_isAsSeen_79 rfl (lv_at hl 1 rfl) ?_
        refine r_get8 C hw 0 (by decide) rfl (v := .ref (q 21)) rfl q955 dX8_isAsSeen_80 ?_
        refine lv_sipush (v := (168 : Int32)) hx hb dX8_isAsSeen_83 (by decide) ?_
        refine lv_iload hx hb dX8_isAsSeen_86 (lv_at hl 0 rfl) ?_
        refine lv_iadd hx hb dX8_isAsSeen_88 ?_
        obtain ⟨h_44, hF⟩ := gd_e hF
        refine r_iald (i := 21) (n := 234) (g := 21) (st := 0) C hw (wi_lo (Or.inr ⟨by decide, by decide⟩)) rfl h_44 dX8_isAsSeen_89 ?_
        refine lv_aload_n hx hb dX8_isAsSeen_90 rfl (lv_at hl 1 rfl) ?_
        refine r_get8 C hw 18 (by decide) rfl (v := .ref (q 26)) rfl q973 dX8_isAsSeen_91 ?_
        refine lv_iconst (v := (3 : Int32)) hx hb dX8_isAsSeen_94 (by decide) ?_
        refine lv_iload hx hb dX8_isAsSeen_95 (lv_at hl 6 rfl) ?_
        refine lv_imul hx hb dX8_isAsSeen_97 ?_
        refine lv_iconst (v := (2 : Int32)) hx hb dX8_isAsSeen_98 (by decide) ?_
        refine lv_iadd hx hb dX8_isAsSeen_99 ?_
        obtain ⟨h_45, hF⟩ := gd_e hF
        refine r_iald (i := 26) (n := 18) (g := 26) (st := 0) C hw (wi_lo (Or.inr ⟨by decide, by decide⟩)) rfl h_45 dX8_isAsSeen_100 ?_
        refine lv_icmp_ne (tgt := 108) hx hb dX8_isAsSeen_101 (by decide) (fun c_46 => ?_) (fun c_46 => ?_)
        · have hF := if_e hF c_46
          exact w_X8_isAsSeen_108 C  HK13 ih _ _ _ _ _ _ _ _ _ hF hw hS (lv_sub hl [1, 2, 3, 4, 5, 6] rfl)
        · have hF := it_e hF c_46
          refine lv_iconst (v := (1 : Int32)) hx hb dX8_isAsSeen_104 (by decide) ?_
          refine lv_goto (tgt := 109) hx hb dX8_isAsSeen_105 (by decide) ?_
          exact w_X8_isAsSeen_109 C  HK13 ih _ _ _ _ _ _ _ _ _ _ hF hw hS (lv_sub hl [1, 2, 3, 4, 5, 6] rfl)
noncomputable def B_X8_isAsSeen_13 (N : Nat) (IH : Int32 → Int32 → Int32 → Int32 → SS → Option (Int32 × SS)) (x1 : Int32) (x2 : Int32) (x3 : Int32) (x4 : Int32) (σ : SS) : Option (Int32 × SS) :=
  if (40 : Int32) < x4 then
    gd (x3 = 0 ∨ x3 = 1) <|
    some (x3, σ)
  else
    gd (inR ((168 : Int32) + x2) 234) <|
    gd (inR (((41 : Int32) * x1) + x4) 410) <|
    nm (si σ 27 (((41 : Int32) * x1) + x4).toNatClampNeg (gi σ 21 ((168 : Int32) + x2).toNatClampNeg)) fun σ_51 =>
    F_X8_isAsSeen_45 N IH N x1 x2 x3 x4 (0 : Int32) σ_51
noncomputable def F_X8_isAsSeen_13 (N : Nat) (n : Nat) : Int32 → Int32 → Int32 → Int32 → SS → Option (Int32 × SS) := Nat.rec (fun _ _ _ _ _ => none) (fun _ IH => B_X8_isAsSeen_13 N IH) n
set_option maxRecDepth 100000 in
theorem w_X8_isAsSeen_13 {p : Program} {l : Launch} {e : Env} {s : State} {m : MethodId} {args : Array Value} {below : List Frame} {meth : Method} {c : Code} {G : GG} {rd : Bool} {q : Nat → Nat} {N : Nat} {r : Int32} {σ' : SS} (C : cx p s m args meth c cX8_isAsSeen 8 RX8 (some .boolean) G) : ∀ (n : Nat), ∀ (x1 : Int32) (x2 : Int32) (x3 : Int32) (x4 : Int32) (σ : SS) (H : Heap) (locs : List Loc) (ls : Array Slot), F_X8_isAsSeen_13 N n x1 x2 x3 x4 σ = some (r, σ') → wx G rd q σ H → va_S (fa G) s.heap H locs → lv_has ls 8 [(0, .ref (q 1)), (1, .int x1), (2, .int x2), (3, .int x3), (4, .int x4)] → W p l e rmX8_isAsSeen s m args below meth c H locs 0 0 (MQ below (qxi G rd q σ' r) args s 0 0 (fa G)) (F0 m 13 ls []) := by
  obtain ⟨hx, hb, hml, hown, hts, -, -, -, -⟩ := id C
  intro n
  induction n with
  | zero =>
    intro x1 x2 x3 x4 σ H locs ls hF hw hS hl
    cases hF
  | succ n ih =>
    intro x1 x2 x3 x4 σ H locs ls hF hw hS hl
    have hF : B_X8_isAsSeen_13 N (F_X8_isAsSeen_13 N n) x1 x2 x3 x4 σ = some (r, σ') := hF
    unfold B_X8_isAsSeen_13 at hF
    refine lv_iload hx hb dX8_isAsSeen_13 (lv_at hl 4 rfl) ?_
    refine lv_bipush (v := (40 : Int32)) hx hb dX8_isAsSeen_15 (by decide) ?_
    refine lv_icmp_gt (tgt := 160) hx hb dX8_isAsSeen_17 (by decide) (fun c_47 => ?_) (fun c_47 => ?_)
    · have hF := it_e hF c_47
      refine lv_iload_n hx hb dX8_isAsSeen_160 rfl (lv_at hl 3 rfl) ?_
      obtain ⟨h_48, hF⟩ := gd_e hF
      exact r_zret C hw hS hF (nar_z h_48) dX8_isAsSeen_161
    · have hF := if_e hF c_47
      refine lv_aload_n hx hb dX8_isAsSeen_20 rfl (lv_at hl 0 rfl) ?_
      refine r_get8 C hw 20 (by decide) rfl (v := .ref (q 27)) rfl q975 dX8_isAsSeen_21 ?_
      refine lv_bipush (v := (41 : Int32)) hx hb dX8_isAsSeen_24 (by decide) ?_
      refine lv_iload_n hx hb dX8_isAsSeen_26 rfl (lv_at hl 1 rfl) ?_
      refine lv_imul hx hb dX8_isAsSeen_27 ?_
      refine lv_iload hx hb dX8_isAsSeen_28 (lv_at hl 4 rfl) ?_
      refine lv_iadd hx hb dX8_isAsSeen_30 ?_
      refine lv_aload_n hx hb dX8_isAsSeen_31 rfl (lv_at hl 0 rfl) ?_
      refine r_get8 C hw 0 (by decide) rfl (v := .ref (q 21)) rfl q955 dX8_isAsSeen_32 ?_
      refine lv_sipush (v := (168 : Int32)) hx hb dX8_isAsSeen_35 (by decide) ?_
      refine lv_iload_n hx hb dX8_isAsSeen_38 rfl (lv_at hl 2 rfl) ?_
      refine lv_iadd hx hb dX8_isAsSeen_39 ?_
      obtain ⟨h_49, hF⟩ := gd_e hF
      refine r_iald (i := 21) (n := 234) (g := 21) (st := 0) C hw (wi_lo (Or.inr ⟨by decide, by decide⟩)) rfl h_49 dX8_isAsSeen_40 ?_
      obtain ⟨h_50, hF⟩ := gd_e hF
      obtain ⟨σ_51, eσ_51, hF⟩ := nm_e2 hF
      refine r_iast (i := 27) (n := 410) (g := 27) (st := 0) C hw hS (wi_lo (Or.inr ⟨by decide, by decide⟩)) rfl (fun _ => ho_lo (by decide)) h_50 dX8_isAsSeen_41 eσ_51 (fun H locs hw hS => ?_)
      refine lv_iconst (v := (0 : Int32)) hx hb dX8_isAsSeen_42 (by decide) ?_
      refine lv_istore (lv' := [(5, .int (0 : Int32)), (0, .ref (q 1)), (1, .int x1), (2, .int x2), (3, .int x3), (4, .int x4)]) hx hb dX8_isAsSeen_43 hl (by decide) rfl (fun ls hl => ?_)
      exact w_X8_isAsSeen_45 C  ih N _ _ _ _ _ _ _ _ _ hF hw hS (lv_sub hl [1, 2, 3, 4, 5, 0] rfl)
noncomputable def F_X8_isAsSeen (N : Nat) (x1 : Int32) (x2 : Int32) (σ : SS) : Option (Int32 × SS) :=
  bd (F_X8_copies N (0 : Int32) (156 : Int32) σ) fun r_52 σ_53 =>
  F_X8_isAsSeen_13 N N x1 x2 (1 : Int32) (0 : Int32) σ_53
set_option maxRecDepth 100000 in
theorem met_X8_isAsSeen (l : Launch) (G : GG) (rd : Bool) (q : Nat → Nat) {N : Nat} {x1 : Int32} {x2 : Int32} {σ σ' : SS} {r : Int32} (hF : F_X8_isAsSeen N x1 x2 σ = some (r, σ')) : Met l yX8_isAsSeen (ws_ yX8_isAsSeen cX8_isAsSeen 8 (some .boolean)) rmX8_isAsSeen (pcx G rd q σ [.ref (q 1), .int x1, .int x2]) (qxi G rd q σ' r) 0 0 (fa G) := by
  refine met_of (by decide) (Nat.le_of_ble_eq_true rfl) ?_
  intro p e s m below meth c C H locs ls hw hS hl
  obtain ⟨hx, hb, hml, hown, hts, -, -, -, -⟩ := id C
  have hl : lv_has ls 8 [(0, .ref (q 1)), (1, .int x1), (2, .int x2)] := hl
  unfold F_X8_isAsSeen at hF
  refine lv_aload_n hx hb dX8_isAsSeen_0 rfl (lv_at hl 0 rfl) ?_
  refine lv_iconst (v := (0 : Int32)) hx hb dX8_isAsSeen_1 (by decide) ?_
  refine lv_sipush (v := (156 : Int32)) hx hb dX8_isAsSeen_2 (by decide) ?_
  obtain ⟨r_52, σ_53, h_54, hF⟩ := bd_e hF
  refine r_callVv (As := [.int (0 : Int32), .int (156 : Int32)]) (rest := []) (i := 1) C hw hS (wi_lo (Or.inl (by decide))) rfl (ci := 8) rfl (met_X8_copies l G rd q  h_54) (cwV 2 hts (lw_V q1192 q1194 qs48 q65 q1195) rfl rfl rfl (by decide +kernel) ⟨Nat.le_of_ble_eq_true rfl, Nat.le_of_ble_eq_true rfl⟩) rfl hl.1 rfl (Nat.le_of_ble_eq_true rfl) ⟨Nat.le_refl _, Nat.le_refl _⟩ dX8_isAsSeen_5 (fun H locs hw hS => ?_)
  refine lv_iconst (v := (1 : Int32)) hx hb dX8_isAsSeen_8 (by decide) ?_
  refine lv_istore_n (lv' := [(3, .int (1 : Int32)), (0, .ref (q 1)), (1, .int x1), (2, .int x2)]) hx hb dX8_isAsSeen_9 rfl hl (by decide) rfl (fun ls hl => ?_)
  refine lv_iconst (v := (0 : Int32)) hx hb dX8_isAsSeen_10 (by decide) ?_
  refine lv_istore (lv' := [(4, .int (0 : Int32)), (3, .int (1 : Int32)), (0, .ref (q 1)), (1, .int x1), (2, .int x2)]) hx hb dX8_isAsSeen_11 hl (by decide) rfl (fun ls hl => ?_)
  exact w_X8_isAsSeen_13 C   N _ _ _ _ _ _ _ _ hF hw hS (lv_sub hl [2, 3, 4, 1, 0] rfl)
