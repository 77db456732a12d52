/-! lifted: count -/
set_option maxRecDepth 100000
abbrev rmJ13_bitCount : Room := { frames := 1, cells := 0, slots := 0, locals := 60 }
noncomputable def F_J13_bitCount (N : Nat) (x0 : Int32) (σ : SS) : Option (Int32 × SS) :=
  nm (x0 - (((x0.toUInt32 >>> ((1 : Int32).toUInt32 &&& Int32.toUInt32 31)).toInt32) &&& (1431655765 : Int32))) fun x_6 =>
  nm ((x_6 &&& (858993459 : Int32)) + (((x_6.toUInt32 >>> ((2 : Int32).toUInt32 &&& Int32.toUInt32 31)).toInt32) &&& (858993459 : Int32))) fun x_7 =>
  nm ((x_7 + ((x_7.toUInt32 >>> ((4 : Int32).toUInt32 &&& Int32.toUInt32 31)).toInt32)) &&& (252645135 : Int32)) fun x_8 =>
  nm (x_8 + ((x_8.toUInt32 >>> ((8 : Int32).toUInt32 &&& Int32.toUInt32 31)).toInt32)) fun x_9 =>
  nm (x_9 + ((x_9.toUInt32 >>> ((16 : Int32).toUInt32 &&& Int32.toUInt32 31)).toInt32)) fun x_10 =>
  some (x_10 &&& (63 : Int32), σ)
set_option maxRecDepth 100000 in
theorem met_J13_bitCount (l : Launch) (G : GG) (rd : Bool) (q : Nat → Nat) {N : Nat} {x0 : Int32} {σ σ' : SS} {r : Int32} (hF : F_J13_bitCount N x0 σ = some (r, σ')) : Met l yJ13_bitCount (ws_ yJ13_bitCount cJ13_bitCount 1 (some .int)) rmJ13_bitCount (pcx G rd q σ [.int x0]) (qxi G rd q σ' r) 0 0 (fa G) := by
  refine met_of (by decide) (Nat.le_of_ble_eq_true rfl) ?_
  intro p e s m below meth c C H locs ls hw hS hl
  obtain ⟨hx, hb, hml, hown, hts, -, hlk, hk0, -⟩ := id C
  have hl : lv_has ls 1 [(0, .int x0)] := hl
  unfold F_J13_bitCount at hF
  refine lv_iload_n hx hb dJ13_bitCount_0 rfl (lv_at hl 0 rfl) ?_
  refine lv_iload_n hx hb dJ13_bitCount_1 rfl (lv_at hl 0 rfl) ?_
  refine lv_iconst (v := (1 : Int32)) hx hb dJ13_bitCount_2 (by decide) ?_
  refine lv_iushr hx hb dJ13_bitCount_3 rfl ?_
  refine lv_ldcw (v := (1431655765 : Int32)) hx hb hown (hts _ q946) dJ13_bitCount_4 ?_
  refine lv_iand hx hb dJ13_bitCount_7 ?_
  refine lv_isub hx hb dJ13_bitCount_8 ?_
  obtain ⟨x_6, ex_6, hF⟩ := nm_e2 hF
  refine r_topi ex_6 ?_
  refine lv_istore_n (lv' := [(0, .int x_6)]) hx hb dJ13_bitCount_9 rfl hl (by decide) rfl (fun ls hl => ?_)
  refine lv_iload_n hx hb dJ13_bitCount_10 rfl (lv_at hl 0 rfl) ?_
  refine lv_ldcw (v := (858993459 : Int32)) hx hb hown (hts _ q947) dJ13_bitCount_11 ?_
  refine lv_iand hx hb dJ13_bitCount_14 ?_
  refine lv_iload_n hx hb dJ13_bitCount_15 rfl (lv_at hl 0 rfl) ?_
  refine lv_iconst (v := (2 : Int32)) hx hb dJ13_bitCount_16 (by decide) ?_
  refine lv_iushr hx hb dJ13_bitCount_17 rfl ?_
  refine lv_ldcw (v := (858993459 : Int32)) hx hb hown (hts _ q947) dJ13_bitCount_18 ?_
  refine lv_iand hx hb dJ13_bitCount_21 ?_
  refine lv_iadd hx hb dJ13_bitCount_22 ?_
  obtain ⟨x_7, ex_7, hF⟩ := nm_e2 hF
  refine r_topi ex_7 ?_
  refine lv_istore_n (lv' := [(0, .int x_7)]) hx hb dJ13_bitCount_23 rfl hl (by decide) rfl (fun ls hl => ?_)
  refine lv_iload_n hx hb dJ13_bitCount_24 rfl (lv_at hl 0 rfl) ?_
  refine lv_iload_n hx hb dJ13_bitCount_25 rfl (lv_at hl 0 rfl) ?_
  refine lv_iconst (v := (4 : Int32)) hx hb dJ13_bitCount_26 (by decide) ?_
  refine lv_iushr hx hb dJ13_bitCount_27 rfl ?_
  refine lv_iadd hx hb dJ13_bitCount_28 ?_
  refine lv_ldcw (v := (252645135 : Int32)) hx hb hown (hts _ q948) dJ13_bitCount_29 ?_
  refine lv_iand hx hb dJ13_bitCount_32 ?_
  obtain ⟨x_8, ex_8, hF⟩ := nm_e2 hF
  refine r_topi ex_8 ?_
  refine lv_istore_n (lv' := [(0, .int x_8)]) hx hb dJ13_bitCount_33 rfl hl (by decide) rfl (fun ls hl => ?_)
  refine lv_iload_n hx hb dJ13_bitCount_34 rfl (lv_at hl 0 rfl) ?_
  refine lv_iload_n hx hb dJ13_bitCount_35 rfl (lv_at hl 0 rfl) ?_
  refine lv_bipush (v := (8 : Int32)) hx hb dJ13_bitCount_36 (by decide) ?_
  refine lv_iushr hx hb dJ13_bitCount_38 rfl ?_
  refine lv_iadd hx hb dJ13_bitCount_39 ?_
  obtain ⟨x_9, ex_9, hF⟩ := nm_e2 hF
  refine r_topi ex_9 ?_
  refine lv_istore_n (lv' := [(0, .int x_9)]) hx hb dJ13_bitCount_40 rfl hl (by decide) rfl (fun ls hl => ?_)
  refine lv_iload_n hx hb dJ13_bitCount_41 rfl (lv_at hl 0 rfl) ?_
  refine lv_iload_n hx hb dJ13_bitCount_42 rfl (lv_at hl 0 rfl) ?_
  refine lv_bipush (v := (16 : Int32)) hx hb dJ13_bitCount_43 (by decide) ?_
  refine lv_iushr hx hb dJ13_bitCount_45 rfl ?_
  refine lv_iadd hx hb dJ13_bitCount_46 ?_
  obtain ⟨x_10, ex_10, hF⟩ := nm_e2 hF
  refine r_topi ex_10 ?_
  refine lv_istore_n (lv' := [(0, .int x_10)]) hx hb dJ13_bitCount_47 rfl hl (by decide) rfl (fun ls hl => ?_)
  refine lv_iload_n hx hb dJ13_bitCount_48 rfl (lv_at hl 0 rfl) ?_
  refine lv_bipush (v := (63 : Int32)) hx hb dJ13_bitCount_49 (by decide) ?_
  refine lv_iand hx hb dJ13_bitCount_51 ?_
  exact r_iret C hw hS hF dJ13_bitCount_52
abbrev rmX0_count : Room := { frames := 2, cells := 0, slots := 0, locals := 80 }
noncomputable def B_X0_count_67 (N : Nat) (IH : Int32 → Int32 → Int32 → Int32 → Int32 → SS → Option (Int32 × SS)) (x1 : Int32) (x3 : Int32) (x4 : Int32) (x5 : Int32) (x6 : Int32) (σ : SS) : Option (Int32 × SS) :=
  if (gi σ (iS 0) 16) ≤ x6 then
    if (x1.toInt < 0 ∨ 5 < x1.toInt) then
      some ((-1 : Int32), σ)
    else
      if x1 = (0 : Int32) then
        some (gi σ 0 6, σ)
      else
        if x1 = (1 : Int32) then
          bd (F_J13_bitCount N (gi σ 0 4) σ) fun r_29 σ_30 =>
          some (r_29, σ_30)
        else
          if x1 = (2 : Int32) then
            some (gi σ 0 12, σ)
          else
            if x1 = (3 : Int32) then
              some (x3, σ)
            else
              if x1 = (4 : Int32) then
                some (x4, σ)
              else
                if x1 = (5 : Int32) then
                  some (x5, σ)
                else
                  none
  else
    gd (inR x6 4) <|
    nm (x6.toNatClampNeg) fun w_37 =>
    nm (x4 + (gi σ (iS 0) (4 + w_37))) fun x_38 =>
    gd (inR x6 4) <|
    nm (x6.toNatClampNeg) fun w_40 =>
    nm (x5 + (gi σ (iS 0) (8 + w_40))) fun x_41 =>
    nm (x6 + (1 : Int32)) fun x_42 =>
    IH x1 x3 x_38 x_41 x_42 σ
noncomputable def F_X0_count_67 (N : Nat) (n : Nat) : Int32 → Int32 → Int32 → Int32 → Int32 → SS → Option (Int32 × SS) := Nat.rec (fun _ _ _ _ _ _ => none) (fun _ IH => B_X0_count_67 N IH) n
set_option maxRecDepth 100000 in
theorem w_X0_count_67 {p : Program} {l : Launch} {e : Env} {s : State} {m : MethodId} {args : Array Value} {below : List Frame} {meth : Method} {c : Code} {G : GG} {rd : Bool} {q : Nat → Nat} {N : Nat} {r : Int32} {σ' : SS} (C : cx p s m args meth c cX0_count 7 RX0 (some .int) G) : ∀ (n : Nat), ∀ (x1 : Int32) (x3 : Int32) (x4 : Int32) (x5 : Int32) (x6 : Int32) (σ : SS) (H : Heap) (locs : List Loc) (ls : Array Slot), F_X0_count_67 N n x1 x3 x4 x5 x6 σ = some (r, σ') → wx G rd q σ H → va_S (fa G) s.heap H locs → lv_has ls 7 [(0, .ref (q 0)), (1, .int x1), (3, .int x3), (4, .int x4), (5, .int x5), (6, .int x6)] → W p l e rmX0_count s m args below meth c H locs 0 0 (MQ below (qxi G rd q σ' r) args s 0 0 (fa G)) (F0 m 67 ls []) := by
  obtain ⟨hx, hb, hml, hown, hts, -, hlk, hk0, -⟩ := id C
  intro n
  induction n with
  | zero =>
    intro x1 x3 x4 x5 x6 σ H locs ls hF hw hS hl
    cases hF
  | succ n ih =>
    intro x1 x3 x4 x5 x6 σ H locs ls hF hw hS hl
    have hF : B_X0_count_67 N (F_X0_count_67 N n) x1 x3 x4 x5 x6 σ = some (r, σ') := hF
    unfold B_X0_count_67 at hF
    refine lv_iload hx hb dX0_count_67 (lv_at hl 5 rfl) ?_
    refine lv_aload_n hx hb dX0_count_69 rfl (lv_at hl 0 rfl) ?_
    refine r_get0 C hw 1 (by decide) rfl (v := .ref (q (iS 0))) rfl q219 dX0_count_70 ?_
    refine r_getSN C hw (okS_of (by decide)) 2 (by decide) rfl (v := .int (gi σ (iS 0) 16)) rfl 11 rfl dX0_count_73 ?_
    refine lv_icmp_ge (tgt := 121) hx hb dX0_count_76 (by decide) (fun c_25 => ?_) (fun c_25 => ?_)
    · have hF := it_e hF c_25
      refine lv_iload_n hx hb dX0_count_121 rfl (lv_at hl 1 rfl) ?_
      by_cases c_26 : (x1.toInt < 0 ∨ 5 < x1.toInt)
      · have hF := it_e hF c_26
        refine lv_tableOut (tgt := 186) hx hb dX0_count_122 c_26 (by decide) ?_
        refine lv_iconst (v := (-1 : Int32)) hx hb dX0_count_186 (by decide) ?_
        exact r_iret C hw hS hF dX0_count_187
      · have hF := if_e hF c_26
        by_cases c_27 : x1 = (0 : Int32)
        · have hF := it_e hF c_27
          refine r_tin (tgt := 160) hx hb dX0_count_122 c_27 (by decide) (by decide) (by rfl) (by decide) ?_
          refine lv_aload_n hx hb dX0_count_160 rfl (lv_at hl 0 rfl) ?_
          refine r_get0 C hw 6 (by decide) rfl (v := .int (gi σ 0 6)) rfl q224 dX0_count_161 ?_
          exact r_iret C hw hS hF dX0_count_164
        · have hF := if_e hF c_27
          by_cases c_28 : x1 = (1 : Int32)
          · have hF := it_e hF c_28
            refine r_tin (tgt := 165) hx hb dX0_count_122 c_28 (by decide) (by decide) (by rfl) (by decide) ?_
            refine lv_aload_n hx hb dX0_count_165 rfl (lv_at hl 0 rfl) ?_
            refine r_get0 C hw 4 (by decide) rfl (v := .int (gi σ 0 4)) rfl q222 dX0_count_166 ?_
            obtain ⟨r_29, σ_30, h_31, hF⟩ := bd_e hF
            refine r_callSi (As := [.int (gi σ 0 4)]) (rest := []) C hw hS (met_J13_bitCount l G rd q  h_31) (va_cwS 1 hts (lw_S q943 q944 q82 q945) rfl rfl rfl (by decide +kernel) ⟨Nat.le_of_ble_eq_true rfl, Nat.le_of_ble_eq_true rfl⟩) rfl hl.1 rfl (Nat.le_of_ble_eq_true rfl) ⟨Nat.le_refl _, Nat.le_refl _⟩ dX0_count_169 (fun H locs hw hS => ?_)
            exact r_iret C hw hS hF dX0_count_172
          · have hF := if_e hF c_28
            by_cases c_32 : x1 = (2 : Int32)
            · have hF := it_e hF c_32
              refine r_tin (tgt := 173) hx hb dX0_count_122 c_32 (by decide) (by decide) (by rfl) (by decide) ?_
              refine lv_aload_n hx hb dX0_count_173 rfl (lv_at hl 0 rfl) ?_
              refine r_get0 C hw 12 (by decide) rfl (v := .int (gi σ 0 12)) rfl q231 dX0_count_174 ?_
              exact r_iret C hw hS hF dX0_count_177
            · have hF := if_e hF c_32
              by_cases c_33 : x1 = (3 : Int32)
              · have hF := it_e hF c_33
                refine r_tin (tgt := 178) hx hb dX0_count_122 c_33 (by decide) (by decide) (by rfl) (by decide) ?_
                refine lv_iload_n hx hb dX0_count_178 rfl (lv_at hl 2 rfl) ?_
                exact r_iret C hw hS hF dX0_count_179
              · have hF := if_e hF c_33
                by_cases c_34 : x1 = (4 : Int32)
                · have hF := it_e hF c_34
                  refine r_tin (tgt := 180) hx hb dX0_count_122 c_34 (by decide) (by decide) (by rfl) (by decide) ?_
                  refine lv_iload hx hb dX0_count_180 (lv_at hl 3 rfl) ?_
                  exact r_iret C hw hS hF dX0_count_182
                · have hF := if_e hF c_34
                  by_cases c_35 : x1 = (5 : Int32)
                  · have hF := it_e hF c_35
                    refine r_tin (tgt := 183) hx hb dX0_count_122 c_35 (by decide) (by decide) (by rfl) (by decide) ?_
                    refine lv_iload hx hb dX0_count_183 (lv_at hl 4 rfl) ?_
                    exact r_iret C hw hS hF dX0_count_185
                  · have hF := if_e hF c_35
                    cases hF
    · have hF := if_e hF c_25
      refine lv_iload hx hb dX0_count_79 (lv_at hl 3 rfl) ?_
      refine lv_aload_n hx hb dX0_count_81 rfl (lv_at hl 0 rfl) ?_
      refine r_get0 C hw 1 (by decide) rfl (v := .ref (q (iS 0))) rfl q219 dX0_count_82 ?_
      refine r_getSN C hw (okS_of (by decide)) 3 (by decide) rfl (v := .ref (q (iWA 0))) rfl 13 rfl dX0_count_85 ?_
      refine lv_iload hx hb dX0_count_88 (lv_at hl 5 rfl) ?_
      obtain ⟨h_36, hF⟩ := gd_e hF
      obtain ⟨w_37, ew_37, hF⟩ := nm_e2 hF
      have hw_37 : w_37 < 4 := lt_of ew_37 (inR_lt h_36)
      refine r_aald (i := iWA 0) (t := 5) (n := 4) (g := (43 + 10 * 0)) (st := 1) C hw (wi_WA (okS_of (by decide))) (tm_WA _ _) rfl h_36 (ha_W ew_37) dX0_count_90 ?_
      refine r_getWN C hw (okS_of (by decide)) hw_37 1 (by decide) rfl (v := .int (gi σ (iS 0) (4 + w_37))) rfl 3 rfl dX0_count_91 ?_
      refine lv_iadd hx hb dX0_count_94 ?_
      obtain ⟨x_38, ex_38, hF⟩ := nm_e2 hF
      refine r_topi ex_38 ?_
      refine lv_istore (lv' := [(4, .int x_38), (0, .ref (q 0)), (1, .int x1), (3, .int x3), (5, .int x5), (6, .int x6)]) hx hb dX0_count_95 hl (by decide) rfl (fun ls hl => ?_)
      refine lv_iload hx hb dX0_count_97 (lv_at hl 4 rfl) ?_
      refine lv_aload_n hx hb dX0_count_99 rfl (lv_at hl 1 rfl) ?_
      refine r_get0 C hw 1 (by decide) rfl (v := .ref (q (iS 0))) rfl q219 dX0_count_100 ?_
      refine r_getSN C hw (okS_of (by decide)) 3 (by decide) rfl (v := .ref (q (iWA 0))) rfl 13 rfl dX0_count_103 ?_
      refine lv_iload hx hb dX0_count_106 (lv_at hl 5 rfl) ?_
      obtain ⟨h_39, hF⟩ := gd_e hF
      obtain ⟨w_40, ew_40, hF⟩ := nm_e2 hF
      have hw_40 : w_40 < 4 := lt_of ew_40 (inR_lt h_39)
      refine r_aald (i := iWA 0) (t := 5) (n := 4) (g := (43 + 10 * 0)) (st := 1) C hw (wi_WA (okS_of (by decide))) (tm_WA _ _) rfl h_39 (ha_W ew_40) dX0_count_108 ?_
      refine r_getWN C hw (okS_of (by decide)) hw_40 2 (by decide) rfl (v := .int (gi σ (iS 0) (8 + w_40))) rfl 5 rfl dX0_count_109 ?_
      refine lv_iadd hx hb dX0_count_112 ?_
      obtain ⟨x_41, ex_41, hF⟩ := nm_e2 hF
      refine r_topi ex_41 ?_
      refine lv_istore (lv' := [(5, .int x_41), (4, .int x_38), (0, .ref (q 0)), (1, .int x1), (3, .int x3), (6, .int x6)]) hx hb dX0_count_113 hl (by decide) rfl (fun ls hl => ?_)
      obtain ⟨x_42, ex_42, hF⟩ := nm_e2 hF
      refine lv_iinc (v := x_42) (lv' := [(6, .int x_42), (5, .int x_41), (4, .int x_38), (0, .ref (q 0)), (1, .int x1), (3, .int x3)]) hx hb dX0_count_115 hl (k := 5) rfl (by rw [ex_42]; rfl) (by decide) rfl (fun ls hl => ?_)
      refine lv_goto (tgt := 67) hx hb dX0_count_118 (by decide) ?_
      exact ih _ _ _ _ _ _ _ _ _ hF hw hS (lv_sub hl [3, 4, 5, 2, 1, 0] rfl)
noncomputable def F_X0_count_57 (N : Nat) (x1 : Int32) (z0 : Int32) (σ : SS) : Option (Int32 × SS) :=
  F_X0_count_67 N N x1 z0 (0 : Int32) (0 : Int32) (0 : Int32) σ
set_option maxRecDepth 100000 in
theorem w_X0_count_57 {p : Program} {l : Launch} {e : Env} {s : State} {m : MethodId} {args : Array Value} {below : List Frame} {meth : Method} {c : Code} {G : GG} {rd : Bool} {q : Nat → Nat} {N : Nat} {r : Int32} {σ' : SS} (C : cx p s m args meth c cX0_count 7 RX0 (some .int) G) : ∀ (x1 : Int32) (z0 : Int32) (σ : SS) (H : Heap) (locs : List Loc) (ls : Array Slot), F_X0_count_57 N x1 z0 σ = some (r, σ') → wx G rd q σ H → va_S (fa G) s.heap H locs → lv_has ls 7 [(0, .ref (q 0)), (1, .int x1)] → W p l e rmX0_count s m args below meth c H locs 0 0 (MQ below (qxi G rd q σ' r) args s 0 0 (fa G)) (F0 m 57 ls [.int z0]) := by
  obtain ⟨hx, hb, hml, hown, hts, -, hlk, hk0, -⟩ := id C
  intro x1 z0 σ H locs ls hF hw hS hl
  unfold F_X0_count_57 at hF
  refine lv_istore_n (lv' := [(3, .int z0), (0, .ref (q 0)), (1, .int x1)]) hx hb dX0_count_57 rfl hl (by decide) rfl (fun ls hl => ?_)
  refine lv_iconst (v := (0 : Int32)) hx hb dX0_count_58 (by decide) ?_
  refine lv_istore (lv' := [(4, .int (0 : Int32)), (3, .int z0), (0, .ref (q 0)), (1, .int x1)]) hx hb dX0_count_59 hl (by decide) rfl (fun ls hl => ?_)
  refine lv_iconst (v := (0 : Int32)) hx hb dX0_count_61 (by decide) ?_
  refine lv_istore (lv' := [(5, .int (0 : Int32)), (4, .int (0 : Int32)), (3, .int z0), (0, .ref (q 0)), (1, .int x1)]) hx hb dX0_count_62 hl (by decide) rfl (fun ls hl => ?_)
  refine lv_iconst (v := (0 : Int32)) hx hb dX0_count_64 (by decide) ?_
  refine lv_istore (lv' := [(6, .int (0 : Int32)), (5, .int (0 : Int32)), (4, .int (0 : Int32)), (3, .int z0), (0, .ref (q 0)), (1, .int x1)]) hx hb dX0_count_65 hl (by decide) rfl (fun ls hl => ?_)
  exact w_X0_count_67 C   N _ _ _ _ _ _ _ _ _ hF hw hS (lv_sub hl [4, 5, 3, 2, 1, 0] rfl)
noncomputable def F_X0_count (N : Nat) (x1 : Int32) (σ : SS) : Option (Int32 × SS) :=
  gd (inR (0 : Int32) 4) <|
  nm ((0 : Int32).toNatClampNeg) fun w_44 =>
  if (σ.2.2 w_44).1 = 0 then
    F_X0_count_57 N x1 (-4 : Int32) σ
  else
    if shId (σ.2.2 w_44).1 = 1 then
      F_X0_count_57 N x1 (Int32.ofNat (σ.2.2 w_44).2) σ
    else
      if shId (σ.2.2 w_44).1 = 2 then
        F_X0_count_57 N x1 (Int32.ofNat (σ.2.2 w_44).2) σ
      else
        if shId (σ.2.2 w_44).1 = 0 then
          F_X0_count_57 N x1 (Int32.ofNat (σ.2.2 w_44).2) σ
        else
          F_X0_count_57 N x1 (-4 : Int32) σ
set_option maxRecDepth 100000 in
theorem met_X0_count (l : Launch) (G : GG) (rd : Bool) (q : Nat → Nat) {N : Nat} {x1 : Int32} {σ σ' : SS} {r : Int32} (hF : F_X0_count N x1 σ = some (r, σ')) : Met l yX0_count (ws_ yX0_count cX0_count 7 (some .int)) rmX0_count (pcx G rd q σ [.ref (q 0), .int x1]) (qxi G rd q σ' r) 0 0 (fa G) := by
  refine met_of (by decide) (Nat.le_of_ble_eq_true rfl) ?_
  intro p e s m below meth c C H locs ls hw hS hl
  obtain ⟨hx, hb, hml, hown, hts, -, hlk, hk0, -⟩ := id C
  have hl : lv_has ls 7 [(0, .ref (q 0)), (1, .int x1)] := hl
  unfold F_X0_count at hF
  refine lv_aload_n hx hb dX0_count_0 rfl (lv_at hl 0 rfl) ?_
  refine r_get0 C hw 21 (by decide) rfl (v := .ref (q 8)) rfl q240 dX0_count_1 ?_
  refine lv_iconst (v := (0 : Int32)) hx hb dX0_count_4 (by decide) ?_
  obtain ⟨h_43, hF⟩ := gd_e hF
  obtain ⟨w_44, ew_44, hF⟩ := nm_e2 hF
  have hw_44 : w_44 < 4 := lt_of ew_44 (inR_lt h_43)
  refine r_aald (i := 8) (t := 7) (n := 4) (g := 13) (st := 1) C hw (wi_lo (Or.inl (by decide))) rfl rfl h_43 (ha_H ew_44) dX0_count_5 ?_
  refine r_getC C hw hw_44 dX0_count_6 (fun c_45 => ?_) (fun c_45 => ?_)
  · have hF := it_e hF c_45
    refine lv_astore_nN (lv' := [(2, .null), (0, .ref (q 0)), (1, .int x1)]) hx hb dX0_count_9 rfl hl (by decide) rfl (fun ls hl => ?_)
    refine lv_aload_nN hx hb dX0_count_10 rfl (lv_at hl 0 rfl) ?_
    refine n_instN C dX0_count_11 ?_
    refine lv_if_eq (tgt := 25) hx hb dX0_count_14 (by decide) (fun _ => ?_) (fun c9 => absurd (by decide) c9)
    refine lv_aload_nN hx hb dX0_count_25 rfl (lv_at hl 0 rfl) ?_
    refine n_instN C dX0_count_26 ?_
    refine lv_if_eq (tgt := 40) hx hb dX0_count_29 (by decide) (fun _ => ?_) (fun c9 => absurd (by decide) c9)
    refine lv_aload_nN hx hb dX0_count_40 rfl (lv_at hl 0 rfl) ?_
    refine n_instN C dX0_count_41 ?_
    refine lv_if_eq (tgt := 55) hx hb dX0_count_44 (by decide) (fun _ => ?_) (fun c9 => absurd (by decide) c9)
    refine lv_bipush (v := (-4 : Int32)) hx hb dX0_count_55 (by decide) ?_
    exact w_X0_count_57 C   _ _ _ _ _ _ hF hw hS (lv_sub hl [1, 2] rfl)
  · have hF := if_e hF c_45
    refine lv_astore_n (lv' := [(2, .ref (q (17 + w_44))), (0, .ref (q 0)), (1, .int x1)]) hx hb dX0_count_9 rfl hl (by decide) rfl (fun ls hl => ?_)
    refine lv_aload_n hx hb dX0_count_10 rfl (lv_at hl 0 rfl) ?_
    refine r_instT C hw hw_44 c_45 1 (by decide) q909 dX0_count_11 (fun c_46 => ?_) (fun c_46 => ?_)
    · have hF := it_e hF c_46
      refine lv_if_eq (tgt := 25) hx hb dX0_count_14 (by decide) (fun c9 => absurd c9 (by decide)) (fun _ => ?_)
      refine lv_aload_n hx hb dX0_count_17 rfl (lv_at hl 0 rfl) ?_
      refine r_castT C hw hw_44 c_45 1 (by decide) q909 dX0_count_18 (fun _ => ?_) (fun hno => absurd c_46 hno)
      refine r_lenT C hw hw_44 c_45 dX0_count_21 ?_
      refine lv_goto (tgt := 57) hx hb dX0_count_22 (by decide) ?_
      exact w_X0_count_57 C   _ _ _ _ _ _ hF hw hS (lv_sub hl [1, 2] rfl)
    · have hF := if_e hF c_46
      refine lv_if_eq (tgt := 25) hx hb dX0_count_14 (by decide) (fun _ => ?_) (fun c9 => absurd (by decide) c9)
      refine lv_aload_n hx hb dX0_count_25 rfl (lv_at hl 0 rfl) ?_
      refine r_instT C hw hw_44 c_45 2 (by decide) q910 dX0_count_26 (fun c_47 => ?_) (fun c_47 => ?_)
      · have hF := it_e hF c_47
        refine lv_if_eq (tgt := 40) hx hb dX0_count_29 (by decide) (fun c9 => absurd c9 (by decide)) (fun _ => ?_)
        refine lv_aload_n hx hb dX0_count_32 rfl (lv_at hl 0 rfl) ?_
        refine r_castT C hw hw_44 c_45 2 (by decide) q910 dX0_count_33 (fun _ => ?_) (fun hno => absurd c_47 hno)
        refine r_lenT C hw hw_44 c_45 dX0_count_36 ?_
        refine lv_goto (tgt := 57) hx hb dX0_count_37 (by decide) ?_
        exact w_X0_count_57 C   _ _ _ _ _ _ hF hw hS (lv_sub hl [1, 2] rfl)
      · have hF := if_e hF c_47
        refine lv_if_eq (tgt := 40) hx hb dX0_count_29 (by decide) (fun _ => ?_) (fun c9 => absurd (by decide) c9)
        refine lv_aload_n hx hb dX0_count_40 rfl (lv_at hl 0 rfl) ?_
        refine r_instT C hw hw_44 c_45 0 (by decide) q911 dX0_count_41 (fun c_48 => ?_) (fun c_48 => ?_)
        · have hF := it_e hF c_48
          refine lv_if_eq (tgt := 55) hx hb dX0_count_44 (by decide) (fun c9 => absurd c9 (by decide)) (fun _ => ?_)
          refine lv_aload_n hx hb dX0_count_47 rfl (lv_at hl 0 rfl) ?_
          refine r_castT C hw hw_44 c_45 0 (by decide) q911 dX0_count_48 (fun _ => ?_) (fun hno => absurd c_48 hno)
          refine r_lenT C hw hw_44 c_45 dX0_count_51 ?_
          refine lv_goto (tgt := 57) hx hb dX0_count_52 (by decide) ?_
          exact w_X0_count_57 C   _ _ _ _ _ _ hF hw hS (lv_sub hl [1, 2] rfl)
        · have hF := if_e hF c_48
          refine lv_if_eq (tgt := 55) hx hb dX0_count_44 (by decide) (fun _ => ?_) (fun c9 => absurd (by decide) c9)
          refine lv_bipush (v := (-4 : Int32)) hx hb dX0_count_55 (by decide) ?_
          exact w_X0_count_57 C   _ _ _ _ _ _ hF hw hS (lv_sub hl [1, 2] rfl)
