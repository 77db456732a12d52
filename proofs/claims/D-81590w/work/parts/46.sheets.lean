/-! lifted: sheets -/
set_option maxRecDepth 100000
abbrev rmX0_takenOf : Room := { frames := 9, cells := 0, slots := 0, locals := 10300 }
abbrev rmX0_takenOfx : Room := { frames := 9, cells := 3, slots := 700, locals := 10300 }
noncomputable def F_X0_takenOf (N : Nat) (x1 : Int32) (x2 : Int32) (x3 : Int32) (σ : SS) : Option ((Int32 ⊕ XI) × SS) :=
  gd (inR x1 4) <|
  nm (x1.toNatClampNeg) fun w_18 =>
  if (σ.2.2 w_18).1 = 0 then
    if x2 = (0 : Int32) then
      some (Sum.inr (1, 0, 0), σ)
    else
      if x2 = (1 : Int32) then
        some (Sum.inr (1, 0, 0), σ)
      else
        some (Sum.inr (1, 0, 0), σ)
  else
    if x2 = (0 : Int32) then
      if shId (σ.2.2 w_18).1 = 1 then
        gd ((σ.2.2 w_18).2 < 2147483648) <|
        if inR x3 (σ.2.2 w_18).2 then
          some (Sum.inl (gi σ (17 + w_18) x3.toNatClampNeg), σ)
        else
          some (Sum.inr (2, 0, 0), σ)
      else
        some (Sum.inr (3, 0, 0), σ)
    else
      if x2 = (1 : Int32) then
        if shId (σ.2.2 w_18).1 = 2 then
          gd ((σ.2.2 w_18).2 < 2147483648) <|
          if inR x3 (σ.2.2 w_18).2 then
            some (Sum.inl (gi σ (17 + w_18) x3.toNatClampNeg), σ)
          else
            some (Sum.inr (2, 0, 0), σ)
        else
          some (Sum.inr (3, 0, 0), σ)
      else
        if shId (σ.2.2 w_18).1 = 0 then
          gd ((σ.2.2 w_18).2 < 2147483648) <|
          if inR x3 (σ.2.2 w_18).2 then
            some (Sum.inl (gi σ (17 + w_18) x3.toNatClampNeg), σ)
          else
            some (Sum.inr (2, 0, 0), σ)
        else
          some (Sum.inr (3, 0, 0), σ)
set_option maxRecDepth 100000 in
theorem met_X0_takenOf (l : Launch) (G : GG) (rd : Bool) (q : Nat → Nat) {N : Nat} {x1 : Int32} {x2 : Int32} {x3 : Int32} {σ σ' : SS} {r : Int32} (hF : F_X0_takenOf N x1 x2 x3 σ = some (Sum.inl r, σ')) : Met l yX0_takenOf (ws_ yX0_takenOf cX0_takenOf 5 (some .int)) rmX0_takenOf (pcx G rd q σ [.ref (q 0), .int x1, .int x2, .int x3]) (qxi G rd q σ' r) 0 0 (fa G) := by
  refine met_of (by decide) (Nat.le_of_ble_eq_true rfl) ?_
  intro p e s m below meth c C H locs ls hw hS hl
  obtain ⟨hx, hb, hml, hown, hts, -, hlk, hk0, -⟩ := id C
  have hl : lv_has ls 5 [(0, .ref (q 0)), (1, .int x1), (2, .int x2), (3, .int x3)] := hl
  unfold F_X0_takenOf at hF
  refine lv_aload_n hx hb dX0_takenOf_0 rfl (lv_at hl 0 rfl) ?_
  refine r_get0 C hw 21 (by decide) rfl (v := .ref (q 8)) rfl q240 dX0_takenOf_1 ?_
  refine lv_iload_n hx hb dX0_takenOf_4 rfl (lv_at hl 1 rfl) ?_
  obtain ⟨h_17, hF⟩ := gd_e hF
  obtain ⟨w_18, ew_18, hF⟩ := nm_e2 hF
  have hw_18 : w_18 < 4 := lt_of ew_18 (inR_lt h_17)
  refine r_aald (i := 8) (t := 7) (n := 4) (g := 13) (st := 1) C hw (wi_lo (Or.inl (by decide))) rfl rfl h_17 (ha_H ew_18) dX0_takenOf_5 ?_
  refine r_getC C hw hw_18 dX0_takenOf_6 (fun c_19 => ?_) (fun c_19 => ?_)
  · have hF := it_e hF c_19
    refine lv_astoreN (lv' := [(4, .null), (0, .ref (q 0)), (1, .int x1), (2, .int x2), (3, .int x3)]) hx hb dX0_takenOf_9 hl (by decide) rfl (fun ls hl => ?_)
    refine lv_iload_n hx hb dX0_takenOf_11 rfl (lv_at hl 3 rfl) ?_
    refine lv_if_ne (tgt := 25) hx hb dX0_takenOf_12 (by decide) (fun c_20 => ?_) (fun c_20 => ?_)
    · have hF := if_e hF c_20
      refine lv_iload_n hx hb dX0_takenOf_25 rfl (lv_at hl 3 rfl) ?_
      refine lv_iconst (v := (1 : Int32)) hx hb dX0_takenOf_26 (by decide) ?_
      refine lv_icmp_ne (tgt := 40) hx hb dX0_takenOf_27 (by decide) (fun c_21 => ?_) (fun c_21 => ?_)
      · have hF := if_e hF c_21
        refine lv_aloadN hx hb dX0_takenOf_40 (lv_at hl 0 rfl) ?_
        refine n_castN C dX0_takenOf_42 ?_
        refine lv_iload_n hx hb dX0_takenOf_45 rfl (lv_at hl 4 rfl) ?_
        refine vx_ialoadN hx hb dX0_takenOf_46 ?_
        cases hF
      · have hF := it_e hF c_21
        refine lv_aloadN hx hb dX0_takenOf_30 (lv_at hl 0 rfl) ?_
        refine n_castN C dX0_takenOf_32 ?_
        refine lv_iload_n hx hb dX0_takenOf_35 rfl (lv_at hl 4 rfl) ?_
        refine vx_saloadN hx hb dX0_takenOf_36 ?_
        cases hF
    · have hF := it_e hF c_20
      refine lv_aloadN hx hb dX0_takenOf_15 (lv_at hl 0 rfl) ?_
      refine n_castN C dX0_takenOf_17 ?_
      refine lv_iload_n hx hb dX0_takenOf_20 rfl (lv_at hl 4 rfl) ?_
      refine vx_baloadN hx hb dX0_takenOf_21 ?_
      cases hF
  · have hF := if_e hF c_19
    refine lv_astore (lv' := [(4, .ref (q (17 + w_18))), (0, .ref (q 0)), (1, .int x1), (2, .int x2), (3, .int x3)]) hx hb dX0_takenOf_9 hl (by decide) rfl (fun ls hl => ?_)
    refine lv_iload_n hx hb dX0_takenOf_11 rfl (lv_at hl 3 rfl) ?_
    refine lv_if_ne (tgt := 25) hx hb dX0_takenOf_12 (by decide) (fun c_22 => ?_) (fun c_22 => ?_)
    · have hF := if_e hF c_22
      refine lv_iload_n hx hb dX0_takenOf_25 rfl (lv_at hl 3 rfl) ?_
      refine lv_iconst (v := (1 : Int32)) hx hb dX0_takenOf_26 (by decide) ?_
      refine lv_icmp_ne (tgt := 40) hx hb dX0_takenOf_27 (by decide) (fun c_23 => ?_) (fun c_23 => ?_)
      · have hF := if_e hF c_23
        refine lv_aload hx hb dX0_takenOf_40 (lv_at hl 0 rfl) ?_
        refine r_castT C hw hw_18 c_19 0 (by decide) q911 dX0_takenOf_42 (fun c_24 => ?_) (fun c_24 tx htx hbt => ?_)
        · have hF := it_e hF c_24
          refine lv_iload_n hx hb dX0_takenOf_45 rfl (lv_at hl 4 rfl) ?_
          obtain ⟨h_25, hF⟩ := gd_e hF
          refine r_aldT C hw hw_18 c_19 h_25 0 c_24 rfl dX0_takenOf_46 (fun c_26 => ?_) (fun c_26 tx htx hbt => ?_)
          · have hF := it_e hF c_26
            exact r_iret C hw hS (so_l hF) dX0_takenOf_47
          · have hF := if_e hF c_26
            cases hF
        · have hF := if_e hF c_24
          cases hF
      · have hF := it_e hF c_23
        refine lv_aload hx hb dX0_takenOf_30 (lv_at hl 0 rfl) ?_
        refine r_castT C hw hw_18 c_19 2 (by decide) q910 dX0_takenOf_32 (fun c_27 => ?_) (fun c_27 tx htx hbt => ?_)
        · have hF := it_e hF c_27
          refine lv_iload_n hx hb dX0_takenOf_35 rfl (lv_at hl 4 rfl) ?_
          obtain ⟨h_28, hF⟩ := gd_e hF
          refine r_aldT C hw hw_18 c_19 h_28 2 c_27 rfl dX0_takenOf_36 (fun c_29 => ?_) (fun c_29 tx htx hbt => ?_)
          · have hF := it_e hF c_29
            refine lv_goto (tgt := 47) hx hb dX0_takenOf_37 (by decide) ?_
            exact r_iret C hw hS (so_l hF) dX0_takenOf_47
          · have hF := if_e hF c_29
            cases hF
        · have hF := if_e hF c_27
          cases hF
    · have hF := it_e hF c_22
      refine lv_aload hx hb dX0_takenOf_15 (lv_at hl 0 rfl) ?_
      refine r_castT C hw hw_18 c_19 1 (by decide) q909 dX0_takenOf_17 (fun c_30 => ?_) (fun c_30 tx htx hbt => ?_)
      · have hF := it_e hF c_30
        refine lv_iload_n hx hb dX0_takenOf_20 rfl (lv_at hl 4 rfl) ?_
        obtain ⟨h_31, hF⟩ := gd_e hF
        refine r_aldT C hw hw_18 c_19 h_31 1 c_30 rfl dX0_takenOf_21 (fun c_32 => ?_) (fun c_32 tx htx hbt => ?_)
        · have hF := it_e hF c_32
          refine lv_goto (tgt := 47) hx hb dX0_takenOf_22 (by decide) ?_
          exact r_iret C hw hS (so_l hF) dX0_takenOf_47
        · have hF := if_e hF c_32
          cases hF
      · have hF := if_e hF c_30
        cases hF
set_option maxRecDepth 100000 in
theorem mex_X0_takenOf (l : Launch) (G : GG) (rd : Bool) (q : Nat → Nat) {N : Nat} (hst : l.stackTraces = false) {x1 : Int32} {x2 : Int32} {x3 : Int32} {σ σ' : SS} {x : XI} (hF : F_X0_takenOf N x1 x2 x3 σ = some (Sum.inr x, σ')) : vx_Met l yX0_takenOf (ws_ yX0_takenOf cX0_takenOf 5 (some .int)) rmX0_takenOfx (pcx G rd q σ [.ref (q 0), .int x1, .int x2, .int x3]) (fun _ _ _ _ => False) (qxx G rd q σ' x) 3 700 (fa G) := by
  refine met_ofX (by decide) (Nat.le_of_ble_eq_true rfl) ?_
  intro p e s m below meth c C hout H locs ls hw hS hl
  obtain ⟨hx, hb, hml, hown, hts, -, hlk, hk0, -⟩ := id C
  have hl : lv_has ls 5 [(0, .ref (q 0)), (1, .int x1), (2, .int x2), (3, .int x3)] := hl
  unfold F_X0_takenOf at hF
  refine lv_aload_n hx hb dX0_takenOf_0 rfl (lv_at hl 0 rfl) ?_
  refine r_get0 C hw 21 (by decide) rfl (v := .ref (q 8)) rfl q240 dX0_takenOf_1 ?_
  refine lv_iload_n hx hb dX0_takenOf_4 rfl (lv_at hl 1 rfl) ?_
  obtain ⟨h_33, hF⟩ := gd_e hF
  obtain ⟨w_34, ew_34, hF⟩ := nm_e2 hF
  have hw_34 : w_34 < 4 := lt_of ew_34 (inR_lt h_33)
  refine r_aald (i := 8) (t := 7) (n := 4) (g := 13) (st := 1) C hw (wi_lo (Or.inl (by decide))) rfl rfl h_33 (ha_H ew_34) dX0_takenOf_5 ?_
  refine r_getC C hw hw_34 dX0_takenOf_6 (fun c_35 => ?_) (fun c_35 => ?_)
  · have hF := it_e hF c_35
    refine lv_astoreN (lv' := [(4, .null), (0, .ref (q 0)), (1, .int x1), (2, .int x2), (3, .int x3)]) hx hb dX0_takenOf_9 hl (by decide) rfl (fun ls hl => ?_)
    refine lv_iload_n hx hb dX0_takenOf_11 rfl (lv_at hl 3 rfl) ?_
    refine lv_if_ne (tgt := 25) hx hb dX0_takenOf_12 (by decide) (fun c_36 => ?_) (fun c_36 => ?_)
    · have hF := if_e hF c_36
      refine lv_iload_n hx hb dX0_takenOf_25 rfl (lv_at hl 3 rfl) ?_
      refine lv_iconst (v := (1 : Int32)) hx hb dX0_takenOf_26 (by decide) ?_
      refine lv_icmp_ne (tgt := 40) hx hb dX0_takenOf_27 (by decide) (fun c_37 => ?_) (fun c_37 => ?_)
      · have hF := if_e hF c_37
        refine lv_aloadN hx hb dX0_takenOf_40 (lv_at hl 0 rfl) ?_
        refine n_castN C dX0_takenOf_42 ?_
        refine lv_iload_n hx hb dX0_takenOf_45 rfl (lv_at hl 4 rfl) ?_
        refine vx_ialoadN hx hb dX0_takenOf_46 ?_
        refine r_npe C hst hw hS hl.1 ot_N (Nat.le_of_ble_eq_true rfl) (Nat.le_of_ble_eq_true rfl) (Nat.le_of_ble_eq_true rfl) (Nat.le_of_ble_eq_true rfl) (fun H q9 ce hw hS h9 hv9 hc9 => ?_)
        obtain ⟨rfl, rfl⟩ := so_r hF
        exact vx_out (fun z hz => (hout z hz).elim) hlk h9 hv9 hc9 (fun t ht _ => ⟨(), trivial, ⟨rfl, by subst ht; exact hw, fun h => by cases h⟩, hS.F ht⟩) hS.2.2 (Nat.le_of_ble_eq_true rfl) (Nat.le_of_ble_eq_true rfl)
      · have hF := it_e hF c_37
        refine lv_aloadN hx hb dX0_takenOf_30 (lv_at hl 0 rfl) ?_
        refine n_castN C dX0_takenOf_32 ?_
        refine lv_iload_n hx hb dX0_takenOf_35 rfl (lv_at hl 4 rfl) ?_
        refine vx_saloadN hx hb dX0_takenOf_36 ?_
        refine r_npe C hst hw hS hl.1 ot_N (Nat.le_of_ble_eq_true rfl) (Nat.le_of_ble_eq_true rfl) (Nat.le_of_ble_eq_true rfl) (Nat.le_of_ble_eq_true rfl) (fun H q9 ce hw hS h9 hv9 hc9 => ?_)
        obtain ⟨rfl, rfl⟩ := so_r hF
        exact vx_out (fun z hz => (hout z hz).elim) hlk h9 hv9 hc9 (fun t ht _ => ⟨(), trivial, ⟨rfl, by subst ht; exact hw, fun h => by cases h⟩, hS.F ht⟩) hS.2.2 (Nat.le_of_ble_eq_true rfl) (Nat.le_of_ble_eq_true rfl)
    · have hF := it_e hF c_36
      refine lv_aloadN hx hb dX0_takenOf_15 (lv_at hl 0 rfl) ?_
      refine n_castN C dX0_takenOf_17 ?_
      refine lv_iload_n hx hb dX0_takenOf_20 rfl (lv_at hl 4 rfl) ?_
      refine vx_baloadN hx hb dX0_takenOf_21 ?_
      refine r_npe C hst hw hS hl.1 ot_N (Nat.le_of_ble_eq_true rfl) (Nat.le_of_ble_eq_true rfl) (Nat.le_of_ble_eq_true rfl) (Nat.le_of_ble_eq_true rfl) (fun H q9 ce hw hS h9 hv9 hc9 => ?_)
      obtain ⟨rfl, rfl⟩ := so_r hF
      exact vx_out (fun z hz => (hout z hz).elim) hlk h9 hv9 hc9 (fun t ht _ => ⟨(), trivial, ⟨rfl, by subst ht; exact hw, fun h => by cases h⟩, hS.F ht⟩) hS.2.2 (Nat.le_of_ble_eq_true rfl) (Nat.le_of_ble_eq_true rfl)
  · have hF := if_e hF c_35
    refine lv_astore (lv' := [(4, .ref (q (17 + w_34))), (0, .ref (q 0)), (1, .int x1), (2, .int x2), (3, .int x3)]) hx hb dX0_takenOf_9 hl (by decide) rfl (fun ls hl => ?_)
    refine lv_iload_n hx hb dX0_takenOf_11 rfl (lv_at hl 3 rfl) ?_
    refine lv_if_ne (tgt := 25) hx hb dX0_takenOf_12 (by decide) (fun c_38 => ?_) (fun c_38 => ?_)
    · have hF := if_e hF c_38
      refine lv_iload_n hx hb dX0_takenOf_25 rfl (lv_at hl 3 rfl) ?_
      refine lv_iconst (v := (1 : Int32)) hx hb dX0_takenOf_26 (by decide) ?_
      refine lv_icmp_ne (tgt := 40) hx hb dX0_takenOf_27 (by decide) (fun c_39 => ?_) (fun c_39 => ?_)
      · have hF := if_e hF c_39
        refine lv_aload hx hb dX0_takenOf_40 (lv_at hl 0 rfl) ?_
        refine r_castT C hw hw_34 c_35 0 (by decide) q911 dX0_takenOf_42 (fun c_40 => ?_) (fun c_40 tx htx hbt => ?_)
        · have hF := it_e hF c_40
          refine lv_iload_n hx hb dX0_takenOf_45 rfl (lv_at hl 4 rfl) ?_
          obtain ⟨h_41, hF⟩ := gd_e hF
          refine r_aldT C hw hw_34 c_35 h_41 0 c_40 rfl dX0_takenOf_46 (fun c_42 => ?_) (fun c_42 tx htx hbt => ?_)
          · have hF := it_e hF c_42
            cases hF
          · have hF := if_e hF c_42
            refine r_vm (names := nmX) (nb := 212) C hst hw hS hl.1 (by decide +kernel) (by decide +kernel) (by decide) (by decide) okw_X ot_X htx hbt (by decide) (Nat.le_of_ble_eq_true rfl) (Nat.le_of_ble_eq_true rfl) (by decide) (Nat.le_of_ble_eq_true rfl) (Nat.le_of_ble_eq_true rfl) (fun H q9 ce hw hS h9 hv9 hc9 => ?_)
            obtain ⟨rfl, rfl⟩ := so_r hF
            exact vx_out (fun z hz => (hout z hz).elim) hlk h9 hv9 hc9 (fun t ht _ => ⟨(), trivial, ⟨rfl, by subst ht; exact hw, fun h => by cases h⟩, hS.F ht⟩) hS.2.2 (Nat.le_of_ble_eq_true rfl) (Nat.le_of_ble_eq_true rfl)
        · have hF := if_e hF c_40
          refine r_vm (names := nmR) (nb := 640) C hst hw hS hl.1 (by decide +kernel) (by decide +kernel) (by decide) (by decide) okw_C ot_C htx hbt (by decide) (Nat.le_of_ble_eq_true rfl) (Nat.le_of_ble_eq_true rfl) (by decide) (Nat.le_of_ble_eq_true rfl) (Nat.le_of_ble_eq_true rfl) (fun H q9 ce hw hS h9 hv9 hc9 => ?_)
          obtain ⟨rfl, rfl⟩ := so_r hF
          exact vx_out (fun z hz => (hout z hz).elim) hlk h9 hv9 hc9 (fun t ht _ => ⟨(), trivial, ⟨rfl, by subst ht; exact hw, fun h => by cases h⟩, hS.F ht⟩) hS.2.2 (Nat.le_of_ble_eq_true rfl) (Nat.le_of_ble_eq_true rfl)
      · have hF := it_e hF c_39
        refine lv_aload hx hb dX0_takenOf_30 (lv_at hl 0 rfl) ?_
        refine r_castT C hw hw_34 c_35 2 (by decide) q910 dX0_takenOf_32 (fun c_43 => ?_) (fun c_43 tx htx hbt => ?_)
        · have hF := it_e hF c_43
          refine lv_iload_n hx hb dX0_takenOf_35 rfl (lv_at hl 4 rfl) ?_
          obtain ⟨h_44, hF⟩ := gd_e hF
          refine r_aldT C hw hw_34 c_35 h_44 2 c_43 rfl dX0_takenOf_36 (fun c_45 => ?_) (fun c_45 tx htx hbt => ?_)
          · have hF := it_e hF c_45
            refine lv_goto (tgt := 47) hx hb dX0_takenOf_37 (by decide) ?_
            cases hF
          · have hF := if_e hF c_45
            refine r_vm (names := nmX) (nb := 212) C hst hw hS hl.1 (by decide +kernel) (by decide +kernel) (by decide) (by decide) okw_X ot_X htx hbt (by decide) (Nat.le_of_ble_eq_true rfl) (Nat.le_of_ble_eq_true rfl) (by decide) (Nat.le_of_ble_eq_true rfl) (Nat.le_of_ble_eq_true rfl) (fun H q9 ce hw hS h9 hv9 hc9 => ?_)
            obtain ⟨rfl, rfl⟩ := so_r hF
            exact vx_out (fun z hz => (hout z hz).elim) hlk h9 hv9 hc9 (fun t ht _ => ⟨(), trivial, ⟨rfl, by subst ht; exact hw, fun h => by cases h⟩, hS.F ht⟩) hS.2.2 (Nat.le_of_ble_eq_true rfl) (Nat.le_of_ble_eq_true rfl)
        · have hF := if_e hF c_43
          refine r_vm (names := nmR) (nb := 640) C hst hw hS hl.1 (by decide +kernel) (by decide +kernel) (by decide) (by decide) okw_C ot_C htx hbt (by decide) (Nat.le_of_ble_eq_true rfl) (Nat.le_of_ble_eq_true rfl) (by decide) (Nat.le_of_ble_eq_true rfl) (Nat.le_of_ble_eq_true rfl) (fun H q9 ce hw hS h9 hv9 hc9 => ?_)
          obtain ⟨rfl, rfl⟩ := so_r hF
          exact vx_out (fun z hz => (hout z hz).elim) hlk h9 hv9 hc9 (fun t ht _ => ⟨(), trivial, ⟨rfl, by subst ht; exact hw, fun h => by cases h⟩, hS.F ht⟩) hS.2.2 (Nat.le_of_ble_eq_true rfl) (Nat.le_of_ble_eq_true rfl)
    · have hF := it_e hF c_38
      refine lv_aload hx hb dX0_takenOf_15 (lv_at hl 0 rfl) ?_
      refine r_castT C hw hw_34 c_35 1 (by decide) q909 dX0_takenOf_17 (fun c_46 => ?_) (fun c_46 tx htx hbt => ?_)
      · have hF := it_e hF c_46
        refine lv_iload_n hx hb dX0_takenOf_20 rfl (lv_at hl 4 rfl) ?_
        obtain ⟨h_47, hF⟩ := gd_e hF
        refine r_aldT C hw hw_34 c_35 h_47 1 c_46 rfl dX0_takenOf_21 (fun c_48 => ?_) (fun c_48 tx htx hbt => ?_)
        · have hF := it_e hF c_48
          refine lv_goto (tgt := 47) hx hb dX0_takenOf_22 (by decide) ?_
          cases hF
        · have hF := if_e hF c_48
          refine r_vm (names := nmX) (nb := 212) C hst hw hS hl.1 (by decide +kernel) (by decide +kernel) (by decide) (by decide) okw_X ot_X htx hbt (by decide) (Nat.le_of_ble_eq_true rfl) (Nat.le_of_ble_eq_true rfl) (by decide) (Nat.le_of_ble_eq_true rfl) (Nat.le_of_ble_eq_true rfl) (fun H q9 ce hw hS h9 hv9 hc9 => ?_)
          obtain ⟨rfl, rfl⟩ := so_r hF
          exact vx_out (fun z hz => (hout z hz).elim) hlk h9 hv9 hc9 (fun t ht _ => ⟨(), trivial, ⟨rfl, by subst ht; exact hw, fun h => by cases h⟩, hS.F ht⟩) hS.2.2 (Nat.le_of_ble_eq_true rfl) (Nat.le_of_ble_eq_true rfl)
      · have hF := if_e hF c_46
        refine r_vm (names := nmR) (nb := 640) C hst hw hS hl.1 (by decide +kernel) (by decide +kernel) (by decide) (by decide) okw_C ot_C htx hbt (by decide) (Nat.le_of_ble_eq_true rfl) (Nat.le_of_ble_eq_true rfl) (by decide) (Nat.le_of_ble_eq_true rfl) (Nat.le_of_ble_eq_true rfl) (fun H q9 ce hw hS h9 hv9 hc9 => ?_)
        obtain ⟨rfl, rfl⟩ := so_r hF
        exact vx_out (fun z hz => (hout z hz).elim) hlk h9 hv9 hc9 (fun t ht _ => ⟨(), trivial, ⟨rfl, by subst ht; exact hw, fun h => by cases h⟩, hS.F ht⟩) hS.2.2 (Nat.le_of_ble_eq_true rfl) (Nat.le_of_ble_eq_true rfl)
abbrev rmX0_lay : Room := { frames := 9, cells := 3, slots := 250, locals := 10300 }
noncomputable def F_X0_lay (N : Nat) (x1 : Int32) (x2 : Int32) (x3 : Int32) (σ : SS) : Option (Int32 × SS) :=
  bd (F_X0_in N x1.toInt64 (0 : Int64) (3 : Int64) σ) fun r_19 σ_20 =>
  if r_19 = (0 : Int32) then
    some ((-1 : Int32), σ_20)
  else
    gd (inR x1 4) <|
    nm (x1.toNatClampNeg) fun w_24 =>
    if (σ_20.2.2 w_24).1 = 0 then
      some ((-11 : Int32), σ_20)
    else
      if shId (σ_20.2.2 w_24).1 = 1 then
        gd ((σ_20.2.2 w_24).2 < 2147483648) <|
        if inR x2 (σ_20.2.2 w_24).2 then
          nm (si σ_20 (17 + w_24) x2.toNatClampNeg (narT 1 x3.toInt8.toInt32)) fun σ_29 =>
            some ((1 : Int32), σ_29)
        else
          some ((-12 : Int32), σ_20)
      else
        if shId (σ_20.2.2 w_24).1 = 2 then
          gd ((σ_20.2.2 w_24).2 < 2147483648) <|
          if inR x2 (σ_20.2.2 w_24).2 then
            nm (si σ_20 (17 + w_24) x2.toNatClampNeg (narT 2 x3.toInt16.toInt32)) fun σ_33 =>
              some ((1 : Int32), σ_33)
          else
            some ((-12 : Int32), σ_20)
        else
          gd ((σ_20.2.2 w_24).2 < 2147483648) <|
          if inR x2 (σ_20.2.2 w_24).2 then
            nm (si σ_20 (17 + w_24) x2.toNatClampNeg (narT 0 x3)) fun σ_36 =>
              some ((1 : Int32), σ_36)
          else
            some ((-12 : Int32), σ_20)
set_option maxRecDepth 100000 in
theorem met_X0_lay (l : Launch) (G : GG) (rd : Bool) (q : Nat → Nat) {N : Nat} (hst : l.stackTraces = false) {x1 : Int32} {x2 : Int32} {x3 : Int32} {σ σ' : SS} {r : Int32} (hF : F_X0_lay N x1 x2 x3 σ = some (r, σ')) : Met l yX0_lay (wsW_ yX0_lay cX0_lay 6 (some .int) [(25, 74, 75, 339), (25, 74, 80, 341)]) rmX0_lay (pcx G rd q σ [.ref (q 0), .int x1, .int x2, .int x3]) (qxi G rd q σ' r) 3 250 (fa G) := by
  refine met_ofW (by decide) (Nat.le_of_ble_eq_true rfl) ?_
  intro p e s m below meth c C htab H locs ls hw hS hl
  obtain ⟨hx, hb, hml, hown, hts, -, hlk, hk0, -⟩ := id C
  have hl : lv_has ls 6 [(0, .ref (q 0)), (1, .int x1), (2, .int x2), (3, .int x3)] := hl
  unfold F_X0_lay at hF
  refine lv_iload_n hx hb dX0_lay_0 rfl (lv_at hl 1 rfl) ?_
  refine lv_i2l hx hb dX0_lay_1 rfl ?_
  refine lv_lconst (v := (0 : Int64)) hx hb dX0_lay_2 (by decide) ?_
  refine lv_ldc2 (v := (3 : Int64)) hx hb hown (hts _ q602) dX0_lay_3 ?_
  obtain ⟨r_19, σ_20, h_21, hF⟩ := bd_e hF
  refine r_callSi (As := [.long x1.toInt64, .long (0 : Int64), .long (3 : Int64)]) (rest := []) C hw hS (met_X0_in l G rd q  h_21) (cwS 3 hts (lw_S q294 q295 q57 q296) rfl rfl rfl (by decide +kernel) ⟨Nat.le_of_ble_eq_true rfl, Nat.le_of_ble_eq_true rfl⟩) rfl hl.1 rfl (Nat.le_of_ble_eq_true rfl) ⟨Nat.zero_le _, Nat.zero_le _⟩ dX0_lay_6 (fun H locs hw hS => ?_)
  refine lv_if_ne (tgt := 14) hx hb dX0_lay_9 (by decide) (fun c_22 => ?_) (fun c_22 => ?_)
  · have hF := if_e hF c_22
    refine lv_aload_n hx hb dX0_lay_14 rfl (lv_at hl 0 rfl) ?_
    refine r_get0 C hw 21 (by decide) rfl (v := .ref (q 8)) rfl q240 dX0_lay_15 ?_
    refine lv_iload_n hx hb dX0_lay_18 rfl (lv_at hl 1 rfl) ?_
    obtain ⟨h_23, hF⟩ := gd_e hF
    obtain ⟨w_24, ew_24, hF⟩ := nm_e2 hF
    have hw_24 : w_24 < 4 := lt_of ew_24 (inR_lt h_23)
    refine r_aald (i := 8) (t := 7) (n := 4) (g := 13) (st := 1) C hw (wi_lo (Or.inl (by decide))) rfl rfl h_23 (ha_H ew_24) dX0_lay_19 ?_
    refine r_getC C hw hw_24 dX0_lay_20 (fun c_25 => ?_) (fun c_25 => ?_)
    · have hF := it_e hF c_25
      refine lv_astoreN (lv' := [(4, .null), (0, .ref (q 0)), (1, .int x1), (2, .int x2), (3, .int x3)]) hx hb dX0_lay_23 hl (by decide) rfl (fun ls hl => ?_)
      refine lv_aloadN hx hb dX0_lay_25 (lv_at hl 0 rfl) ?_
      refine n_instN C dX0_lay_27 ?_
      refine lv_if_eq (tgt := 45) hx hb dX0_lay_30 (by decide) (fun _ => ?_) (fun c9 => absurd (by decide) c9)
      refine lv_aloadN hx hb dX0_lay_45 (lv_at hl 0 rfl) ?_
      refine n_instN C dX0_lay_47 ?_
      refine lv_if_eq (tgt := 65) hx hb dX0_lay_50 (by decide) (fun _ => ?_) (fun c9 => absurd (by decide) c9)
      refine lv_aloadN hx hb dX0_lay_65 (lv_at hl 0 rfl) ?_
      refine n_castN C dX0_lay_67 ?_
      refine lv_iload_n hx hb dX0_lay_70 rfl (lv_at hl 3 rfl) ?_
      refine lv_iload_n hx hb dX0_lay_71 rfl (lv_at hl 4 rfl) ?_
      refine vx_iastoreN hx hb dX0_lay_72 ?_
      refine r_npe C hst hw hS hl.1 ot_N (Nat.le_of_ble_eq_true rfl) (Nat.le_of_ble_eq_true rfl) (Nat.le_of_ble_eq_true rfl) (Nat.le_of_ble_eq_true rfl) (fun H q9 ce hw hS h9 hv9 hc9 => ?_)
      refine vx_catch (name := "java/lang/NullPointerException") (E := "java/lang/NullPointerException") hown [] ⟨25, 74, 75, 339⟩ [⟨25, 74, 80, 341⟩] htab (fun z hz => absurd hz List.not_mem_nil) (by decide) (by decide) (hts _ q865) (hk0.castw q887 _) h9 hv9 hc9 ?_
      refine lv_astore (lv' := [(5, .ref q9), (4, .null), (0, .ref (q 0)), (1, .int x1), (2, .int x2), (3, .int x3)]) hx hb dX0_lay_75 hl (by decide) rfl (fun ls hl => ?_)
      refine lv_bipush (v := (-11 : Int32)) hx hb dX0_lay_77 (by decide) ?_
      refine W.widen (k := 3) (n := 250) (Nat.le_of_ble_eq_true rfl) (Nat.le_of_ble_eq_true rfl) ?_
      exact r_iret C hw hS hF dX0_lay_79
    · have hF := if_e hF c_25
      refine lv_astore (lv' := [(4, .ref (q (17 + w_24))), (0, .ref (q 0)), (1, .int x1), (2, .int x2), (3, .int x3)]) hx hb dX0_lay_23 hl (by decide) rfl (fun ls hl => ?_)
      refine lv_aload hx hb dX0_lay_25 (lv_at hl 0 rfl) ?_
      refine r_instT C hw hw_24 c_25 1 (by decide) q909 dX0_lay_27 (fun c_26 => ?_) (fun c_26 => ?_)
      · have hF := it_e hF c_26
        refine lv_if_eq (tgt := 45) hx hb dX0_lay_30 (by decide) (fun c9 => absurd c9 (by decide)) (fun _ => ?_)
        refine lv_aload hx hb dX0_lay_33 (lv_at hl 0 rfl) ?_
        refine r_castT C hw hw_24 c_25 1 (by decide) q909 dX0_lay_35 (fun _ => ?_) (fun hno => absurd c_26 hno)
        refine lv_iload_n hx hb dX0_lay_38 rfl (lv_at hl 3 rfl) ?_
        refine lv_iload_n hx hb dX0_lay_39 rfl (lv_at hl 4 rfl) ?_
        refine lv_i2b hx hb dX0_lay_40 rfl ?_
        obtain ⟨h_27, hF⟩ := gd_e hF
        refine r_astT C hw hS hw_24 c_25 h_27 1 c_26 rfl dX0_lay_41 (fun c_28 H locs hw hS => ?_) (fun c_28 tx htx hbt => ?_)
        · have hF := it_e hF c_28
          obtain ⟨σ_29, eσ_29, hF⟩ := nm_e2 hF
          rw [← eσ_29] at hw
          refine lv_goto (tgt := 73) hx hb dX0_lay_42 (by decide) ?_
          refine lv_iconst (v := (1 : Int32)) hx hb dX0_lay_73 (by decide) ?_
          refine W.widen (k := 3) (n := 250) (Nat.le_of_ble_eq_true rfl) (Nat.le_of_ble_eq_true rfl) ?_
          exact r_iret C hw hS hF dX0_lay_74
        · have hF := if_e hF c_28
          refine r_vm (names := nmX) (nb := 212) C hst hw hS hl.1 (by decide +kernel) (by decide +kernel) (by decide) (by decide) okw_X ot_X htx hbt (by decide) (Nat.le_of_ble_eq_true rfl) (Nat.le_of_ble_eq_true rfl) (by decide) (Nat.le_of_ble_eq_true rfl) (Nat.le_of_ble_eq_true rfl) (fun H q9 ce hw hS h9 hv9 hc9 => ?_)
          refine vx_catch (name := "java/lang/IndexOutOfBoundsException") (E := "java/lang/ArrayIndexOutOfBoundsException") hown [⟨25, 74, 75, 339⟩] ⟨25, 74, 80, 341⟩ [] htab (fun z hz => by
              simp only [List.mem_cons, List.not_mem_nil, or_false] at hz
              rcases hz with rfl
              · exact Or.inr ⟨by decide, _, hts _ q865, hk0.nc (by decide +kernel)⟩) (by decide) (by decide) (hts _ q890) (hk0.castw q1332 _) h9 hv9 hc9 ?_
          refine lv_astore (lv' := [(5, .ref q9), (4, .ref (q (17 + w_24))), (0, .ref (q 0)), (1, .int x1), (2, .int x2), (3, .int x3)]) hx hb dX0_lay_80 hl (by decide) rfl (fun ls hl => ?_)
          refine lv_bipush (v := (-12 : Int32)) hx hb dX0_lay_82 (by decide) ?_
          refine W.widen (k := 3) (n := 250) (Nat.le_of_ble_eq_true rfl) (Nat.le_of_ble_eq_true rfl) ?_
          exact r_iret C hw hS hF dX0_lay_84
      · have hF := if_e hF c_26
        refine lv_if_eq (tgt := 45) hx hb dX0_lay_30 (by decide) (fun _ => ?_) (fun c9 => absurd (by decide) c9)
        refine lv_aload hx hb dX0_lay_45 (lv_at hl 0 rfl) ?_
        refine r_instT C hw hw_24 c_25 2 (by decide) q910 dX0_lay_47 (fun c_30 => ?_) (fun c_30 => ?_)
        · have hF := it_e hF c_30
          refine lv_if_eq (tgt := 65) hx hb dX0_lay_50 (by decide) (fun c9 => absurd c9 (by decide)) (fun _ => ?_)
          refine lv_aload hx hb dX0_lay_53 (lv_at hl 0 rfl) ?_
          refine r_castT C hw hw_24 c_25 2 (by decide) q910 dX0_lay_55 (fun _ => ?_) (fun hno => absurd c_30 hno)
          refine lv_iload_n hx hb dX0_lay_58 rfl (lv_at hl 3 rfl) ?_
          refine lv_iload_n hx hb dX0_lay_59 rfl (lv_at hl 4 rfl) ?_
          refine lv_i2s hx hb dX0_lay_60 rfl ?_
          obtain ⟨h_31, hF⟩ := gd_e hF
          refine r_astT C hw hS hw_24 c_25 h_31 2 c_30 rfl dX0_lay_61 (fun c_32 H locs hw hS => ?_) (fun c_32 tx htx hbt => ?_)
          · have hF := it_e hF c_32
            obtain ⟨σ_33, eσ_33, hF⟩ := nm_e2 hF
            rw [← eσ_33] at hw
            refine lv_goto (tgt := 73) hx hb dX0_lay_62 (by decide) ?_
            refine lv_iconst (v := (1 : Int32)) hx hb dX0_lay_73 (by decide) ?_
            refine W.widen (k := 3) (n := 250) (Nat.le_of_ble_eq_true rfl) (Nat.le_of_ble_eq_true rfl) ?_
            exact r_iret C hw hS hF dX0_lay_74
          · have hF := if_e hF c_32
            refine r_vm (names := nmX) (nb := 212) C hst hw hS hl.1 (by decide +kernel) (by decide +kernel) (by decide) (by decide) okw_X ot_X htx hbt (by decide) (Nat.le_of_ble_eq_true rfl) (Nat.le_of_ble_eq_true rfl) (by decide) (Nat.le_of_ble_eq_true rfl) (Nat.le_of_ble_eq_true rfl) (fun H q9 ce hw hS h9 hv9 hc9 => ?_)
            refine vx_catch (name := "java/lang/IndexOutOfBoundsException") (E := "java/lang/ArrayIndexOutOfBoundsException") hown [⟨25, 74, 75, 339⟩] ⟨25, 74, 80, 341⟩ [] htab (fun z hz => by
                simp only [List.mem_cons, List.not_mem_nil, or_false] at hz
                rcases hz with rfl
                · exact Or.inr ⟨by decide, _, hts _ q865, hk0.nc (by decide +kernel)⟩) (by decide) (by decide) (hts _ q890) (hk0.castw q1332 _) h9 hv9 hc9 ?_
            refine lv_astore (lv' := [(5, .ref q9), (4, .ref (q (17 + w_24))), (0, .ref (q 0)), (1, .int x1), (2, .int x2), (3, .int x3)]) hx hb dX0_lay_80 hl (by decide) rfl (fun ls hl => ?_)
            refine lv_bipush (v := (-12 : Int32)) hx hb dX0_lay_82 (by decide) ?_
            refine W.widen (k := 3) (n := 250) (Nat.le_of_ble_eq_true rfl) (Nat.le_of_ble_eq_true rfl) ?_
            exact r_iret C hw hS hF dX0_lay_84
        · have hF := if_e hF c_30
          refine lv_if_eq (tgt := 65) hx hb dX0_lay_50 (by decide) (fun _ => ?_) (fun c9 => absurd (by decide) c9)
          refine lv_aload hx hb dX0_lay_65 (lv_at hl 0 rfl) ?_
          refine r_castT C hw hw_24 c_25 0 (by decide) q911 dX0_lay_67 (fun _ => ?_) (fun hno => absurd (sh_0 c_26 c_30) hno)
          refine lv_iload_n hx hb dX0_lay_70 rfl (lv_at hl 3 rfl) ?_
          refine lv_iload_n hx hb dX0_lay_71 rfl (lv_at hl 4 rfl) ?_
          obtain ⟨h_34, hF⟩ := gd_e hF
          refine r_astT C hw hS hw_24 c_25 h_34 0 (sh_0 c_26 c_30) rfl dX0_lay_72 (fun c_35 H locs hw hS => ?_) (fun c_35 tx htx hbt => ?_)
          · have hF := it_e hF c_35
            obtain ⟨σ_36, eσ_36, hF⟩ := nm_e2 hF
            rw [← eσ_36] at hw
            refine lv_iconst (v := (1 : Int32)) hx hb dX0_lay_73 (by decide) ?_
            refine W.widen (k := 3) (n := 250) (Nat.le_of_ble_eq_true rfl) (Nat.le_of_ble_eq_true rfl) ?_
            exact r_iret C hw hS hF dX0_lay_74
          · have hF := if_e hF c_35
            refine r_vm (names := nmX) (nb := 212) C hst hw hS hl.1 (by decide +kernel) (by decide +kernel) (by decide) (by decide) okw_X ot_X htx hbt (by decide) (Nat.le_of_ble_eq_true rfl) (Nat.le_of_ble_eq_true rfl) (by decide) (Nat.le_of_ble_eq_true rfl) (Nat.le_of_ble_eq_true rfl) (fun H q9 ce hw hS h9 hv9 hc9 => ?_)
            refine vx_catch (name := "java/lang/IndexOutOfBoundsException") (E := "java/lang/ArrayIndexOutOfBoundsException") hown [⟨25, 74, 75, 339⟩] ⟨25, 74, 80, 341⟩ [] htab (fun z hz => by
                simp only [List.mem_cons, List.not_mem_nil, or_false] at hz
                rcases hz with rfl
                · exact Or.inr ⟨by decide, _, hts _ q865, hk0.nc (by decide +kernel)⟩) (by decide) (by decide) (hts _ q890) (hk0.castw q1332 _) h9 hv9 hc9 ?_
            refine lv_astore (lv' := [(5, .ref q9), (4, .ref (q (17 + w_24))), (0, .ref (q 0)), (1, .int x1), (2, .int x2), (3, .int x3)]) hx hb dX0_lay_80 hl (by decide) rfl (fun ls hl => ?_)
            refine lv_bipush (v := (-12 : Int32)) hx hb dX0_lay_82 (by decide) ?_
            refine W.widen (k := 3) (n := 250) (Nat.le_of_ble_eq_true rfl) (Nat.le_of_ble_eq_true rfl) ?_
            exact r_iret C hw hS hF dX0_lay_84
  · have hF := it_e hF c_22
    refine lv_iconst (v := (-1 : Int32)) hx hb dX0_lay_12 (by decide) ?_
    refine W.widen (k := 3) (n := 250) (Nat.le_of_ble_eq_true rfl) (Nat.le_of_ble_eq_true rfl) ?_
    exact r_iret C hw hS hF dX0_lay_13
abbrev rmX0_read : Room := { frames := 10, cells := 3, slots := 700, locals := 10324 }
noncomputable def F_X0_read_107 (N : Nat) (x6 : Int32) (x7 : Int32) (σ : SS) : Option (Int32 × SS) :=
  nm (si σ 0 22 x6) fun σ_25 =>
  some (x7, σ_25)
set_option maxRecDepth 100000 in
theorem w_X0_read_107 {p : Program} {l : Launch} {e : Env} {s : State} {m : MethodId} {args : Array Value} {below : List Frame} {meth : Method} {c : Code} {G : GG} {rd : Bool} {q : Nat → Nat} {N : Nat} {r : Int32} {σ' : SS} (C : cx p s m args meth c cX0_read 9 RX0 (some .int) G) (hst : l.stackTraces = false) (htab : c.exceptionTable.toList = tableOf [(38, 76, 86, 339), (77, 83, 86, 339), (38, 76, 94, 350), (77, 83, 94, 350), (38, 76, 102, 341), (77, 83, 102, 341)]) : ∀ (x6 : Int32) (x7 : Int32) (σ : SS) (H : Heap) (locs : List Loc) (ls : Array Slot), F_X0_read_107 N x6 x7 σ = some (r, σ') → wx G rd q σ H → va_S (fa G) s.heap H locs → lv_has ls 9 [(0, .ref (q 0)), (6, .int x6), (7, .int x7)] → W p l e rmX0_read s m args below meth c H locs 3 700 (MQ below (qxi G rd q σ' r) args s 3 700 (fa G)) (F0 m 107 ls []) := by
  obtain ⟨hx, hb, hml, hown, hts, -, hlk, hk0, -⟩ := id C
  intro x6 x7 σ H locs ls hF hw hS hl
  unfold F_X0_read_107 at hF
  refine lv_aload_n hx hb dX0_read_107 rfl (lv_at hl 0 rfl) ?_
  refine lv_iload hx hb dX0_read_108 (lv_at hl 1 rfl) ?_
  obtain ⟨σ_25, eσ_25, hF⟩ := nm_e2 hF
  refine r_put0 C hw hS 22 (by decide) rfl rfl (tyX0_ok 22 (by decide)) rfl rfl q241 dX0_read_110 eσ_25 (fun H locs hw hS => ?_)
  refine lv_iload hx hb dX0_read_113 (lv_at hl 2 rfl) ?_
  exact r_iret C hw hS hF dX0_read_115
noncomputable def B_X0_read_38 (N : Nat) (IH : Int32 → Int32 → Int32 → Int32 → Int32 → Int32 → Int32 → SS → Option (Int32 × SS)) (x1 : Int32) (x2 : Int32) (x3 : Int32) (x4 : Int32) (x5 : Int32) (x6 : Int32) (x7 : Int32) (σ : SS) : Option (Int32 × SS) :=
  if x4 ≤ x7 then
    F_X0_read_107 N x6 x7 σ
  else
    bdx (F_X0_takenOf N x1 x2 (x3 + x7) σ)
      (fun r_27 σ_28 =>
        bd (F_X0_add N r_27 σ_28) fun r_31 σ_32 =>
        if (0 : Int32) ≤ r_31 then
          nm (x7 + (1 : Int32)) fun x_35 =>
          IH x1 x2 x3 x4 x5 x6 x_35 σ_32
        else
          nm (si σ_32 (iS 0) 33 x5) fun σ_36 =>
          some ((-20 : Int32) - x7, σ_36))
      (fun x_30 σ_28 =>
        if x_30.1 = 1 then
        F_X0_read_107 N (1 : Int32) x7 σ_28
        else
          if x_30.1 = 2 then
          F_X0_read_107 N (2 : Int32) x7 σ_28
          else
            if x_30.1 = 3 then
            F_X0_read_107 N (3 : Int32) x7 σ_28
            else
              none)
noncomputable def F_X0_read_38 (N : Nat) (n : Nat) : Int32 → Int32 → Int32 → Int32 → Int32 → Int32 → Int32 → SS → Option (Int32 × SS) := Nat.rec (fun _ _ _ _ _ _ _ _ => none) (fun _ IH => B_X0_read_38 N IH) n
set_option maxRecDepth 100000 in
theorem w_X0_read_38 {p : Program} {l : Launch} {e : Env} {s : State} {m : MethodId} {args : Array Value} {below : List Frame} {meth : Method} {c : Code} {G : GG} {rd : Bool} {q : Nat → Nat} {N : Nat} {r : Int32} {σ' : SS} (C : cx p s m args meth c cX0_read 9 RX0 (some .int) G) (hst : l.stackTraces = false) (htab : c.exceptionTable.toList = tableOf [(38, 76, 86, 339), (77, 83, 86, 339), (38, 76, 94, 350), (77, 83, 94, 350), (38, 76, 102, 341), (77, 83, 102, 341)]) : ∀ (n : Nat), ∀ (x1 : Int32) (x2 : Int32) (x3 : Int32) (x4 : Int32) (x5 : Int32) (x6 : Int32) (x7 : Int32) (σ : SS) (H : Heap) (locs : List Loc) (ls : Array Slot), F_X0_read_38 N n x1 x2 x3 x4 x5 x6 x7 σ = some (r, σ') → wx G rd q σ H → va_S (fa G) s.heap H locs → lv_has ls 9 [(0, .ref (q 0)), (1, .int x1), (2, .int x2), (3, .int x3), (4, .int x4), (5, .int x5), (6, .int x6), (7, .int x7)] → W p l e rmX0_read s m args below meth c H locs 0 0 (MQ below (qxi G rd q σ' r) args s 3 700 (fa G)) (F0 m 38 ls []) := by
  obtain ⟨hx, hb, hml, hown, hts, -, hlk, hk0, -⟩ := id C
  intro n
  induction n with
  | zero =>
    intro x1 x2 x3 x4 x5 x6 x7 σ H locs ls hF hw hS hl
    cases hF
  | succ n ih =>
    intro x1 x2 x3 x4 x5 x6 x7 σ H locs ls hF hw hS hl
    have hF : B_X0_read_38 N (F_X0_read_38 N n) x1 x2 x3 x4 x5 x6 x7 σ = some (r, σ') := hF
    unfold B_X0_read_38 at hF
    refine lv_iload hx hb dX0_read_38 (lv_at hl 7 rfl) ?_
    refine lv_iload hx hb dX0_read_40 (lv_at hl 4 rfl) ?_
    refine lv_icmp_ge (tgt := 83) hx hb dX0_read_42 (by decide) (fun c_26 => ?_) (fun c_26 => ?_)
    · have hF := it_e hF c_26
      refine lv_goto (tgt := 107) hx hb dX0_read_83 (by decide) ?_
      refine W.widen (k := 3) (n := 700) (Nat.le_of_ble_eq_true rfl) (Nat.le_of_ble_eq_true rfl) ?_
      exact w_X0_read_107 C hst htab   _ _ _ _ _ _ hF hw hS (lv_sub hl [0, 6, 7] rfl)
    · have hF := if_e hF c_26
      refine lv_aload_n hx hb dX0_read_45 rfl (lv_at hl 0 rfl) ?_
      refine lv_aload_n hx hb dX0_read_46 rfl (lv_at hl 0 rfl) ?_
      refine lv_iload_n hx hb dX0_read_47 rfl (lv_at hl 1 rfl) ?_
      refine lv_iload_n hx hb dX0_read_48 rfl (lv_at hl 2 rfl) ?_
      refine lv_iload_n hx hb dX0_read_49 rfl (lv_at hl 3 rfl) ?_
      refine lv_iload hx hb dX0_read_50 (lv_at hl 7 rfl) ?_
      refine lv_iadd hx hb dX0_read_52 ?_
      rcases bdx_e hF with ⟨r_27, σ_28, h_29, hF⟩ | ⟨x_30, σ_28, h_29, hF⟩
      · refine r_callVi (As := [.int x1, .int x2, .int (x3 + x7)]) (rest := [.ref (q 0)]) (i := 0) C hw hS (wi_lo (Or.inl (by decide))) rfl (ci := 0) rfl (met_X0_takenOf l G rd q  h_29) (cwV 3 hts (lw_V q930 q932 qs30 q57 q933) rfl rfl rfl (by decide +kernel) ⟨Nat.le_of_ble_eq_true rfl, Nat.le_of_ble_eq_true rfl⟩) rfl hl.1 rfl (Nat.le_of_ble_eq_true rfl) ⟨Nat.zero_le _, Nat.zero_le _⟩ dX0_read_53 (fun H locs hw hS => ?_)
        obtain ⟨r_31, σ_32, h_33, hF⟩ := bd_e hF
        refine r_callVi (As := [.int r_27]) (rest := []) (i := 0) C hw hS (wi_lo (Or.inl (by decide))) rfl (ci := 0) rfl (met_X0_add l G rd q  h_33) (cwV 1 hts (lw_V q934 q629 q630 q57 q631) rfl rfl rfl (by decide +kernel) ⟨Nat.le_of_ble_eq_true rfl, Nat.le_of_ble_eq_true rfl⟩) rfl hl.1 rfl (Nat.le_of_ble_eq_true rfl) ⟨Nat.zero_le _, Nat.zero_le _⟩ dX0_read_56 (fun H locs hw hS => ?_)
        refine lv_if_ge (tgt := 77) hx hb dX0_read_59 (by decide) (fun c_34 => ?_) (fun c_34 => ?_)
        · have hF := it_e hF c_34
          obtain ⟨x_35, ex_35, hF⟩ := nm_e2 hF
          refine lv_iinc (v := x_35) (lv' := [(7, .int x_35), (0, .ref (q 0)), (1, .int x1), (2, .int x2), (3, .int x3), (4, .int x4), (5, .int x5), (6, .int x6)]) hx hb dX0_read_77 hl (k := 7) rfl (by rw [ex_35]; rfl) (by decide) rfl (fun ls hl => ?_)
          refine lv_goto (tgt := 38) hx hb dX0_read_80 (by decide) ?_
          exact ih _ _ _ _ _ _ _ _ _ _ _ hF hw hS (lv_sub hl [1, 2, 3, 4, 5, 6, 7, 0] rfl)
        · have hF := if_e hF c_34
          refine lv_aload_n hx hb dX0_read_62 rfl (lv_at hl 0 rfl) ?_
          refine r_get0 C hw 1 (by decide) rfl (v := .ref (q (iS 0))) rfl q219 dX0_read_63 ?_
          refine lv_iload hx hb dX0_read_66 (lv_at hl 5 rfl) ?_
          obtain ⟨σ_36, eσ_36, hF⟩ := nm_e2 hF
          refine r_putSN C hw hS (okS_of (by decide)) 4 (by decide) rfl rfl (tyX5_ok 4 (by decide)) rfl rfl 15 rfl dX0_read_68 eσ_36 (fun H locs hw hS => ?_)
          refine lv_bipush (v := (-20 : Int32)) hx hb dX0_read_71 (by decide) ?_
          refine lv_iload hx hb dX0_read_73 (lv_at hl 7 rfl) ?_
          refine lv_isub hx hb dX0_read_75 ?_
          refine W.widen (k := 3) (n := 700) (Nat.le_of_ble_eq_true rfl) (Nat.le_of_ble_eq_true rfl) ?_
          exact r_iret C hw hS hF dX0_read_76
      · refine r_callVx (As := [.int x1, .int x2, .int (x3 + x7)]) (rest := [.ref (q 0)]) (i := 0) C hw hS (wi_lo (Or.inl (by decide))) rfl (ci := 0) rfl (mex_X0_takenOf l G rd q hst  h_29) (cwV 3 hts (lw_V q930 q932 qs30 q57 q933) rfl rfl rfl (by decide +kernel) ⟨Nat.le_of_ble_eq_true rfl, Nat.le_of_ble_eq_true rfl⟩) rfl hl.1 rfl (Nat.le_of_ble_eq_true rfl) ⟨Nat.le_of_ble_eq_true rfl, Nat.le_of_ble_eq_true rfl⟩ dX0_read_53 (fun H locs q9 ce hw hS h9 hv9 hc9 hft9 => ?_)
        by_cases c_37 : x_30.1 = 1
        · have hF := it_e hF c_37
          have hc9 : s.vm.findClass "java/lang/NullPointerException" = some ce.cls := by rw [c_37] at hc9; exact hc9
          refine vx_catch (name := "java/lang/NullPointerException") (E := "java/lang/NullPointerException") hown [] ⟨38, 76, 86, 339⟩ [⟨77, 83, 86, 339⟩, ⟨38, 76, 94, 350⟩, ⟨77, 83, 94, 350⟩, ⟨38, 76, 102, 341⟩, ⟨77, 83, 102, 341⟩] htab (fun z hz => absurd hz List.not_mem_nil) (by decide) (by decide) (hts _ q865) (hk0.castw q887 _) h9 hv9 hc9 ?_
          refine lv_astore (lv' := [(8, .ref q9), (0, .ref (q 0)), (1, .int x1), (2, .int x2), (3, .int x3), (4, .int x4), (5, .int x5), (6, .int x6), (7, .int x7)]) hx hb dX0_read_86 hl (by decide) rfl (fun ls hl => ?_)
          refine lv_iconst (v := (1 : Int32)) hx hb dX0_read_88 (by decide) ?_
          refine lv_istore (lv' := [(6, .int (1 : Int32)), (8, .ref q9), (0, .ref (q 0)), (1, .int x1), (2, .int x2), (3, .int x3), (4, .int x4), (5, .int x5), (7, .int x7)]) hx hb dX0_read_89 hl (by decide) rfl (fun ls hl => ?_)
          refine lv_goto (tgt := 107) hx hb dX0_read_91 (by decide) ?_
          exact w_X0_read_107 C hst htab   _ _ _ _ _ _ hF hw hS (lv_sub hl [2, 0, 8] rfl)
        · have hF := if_e hF c_37
          by_cases c_38 : x_30.1 = 2
          · have hF := it_e hF c_38
            have hc9 : s.vm.findClass "java/lang/ArrayIndexOutOfBoundsException" = some ce.cls := by rw [c_38] at hc9; exact hc9
            refine vx_catch (name := "java/lang/IndexOutOfBoundsException") (E := "java/lang/ArrayIndexOutOfBoundsException") hown [⟨38, 76, 86, 339⟩, ⟨77, 83, 86, 339⟩, ⟨38, 76, 94, 350⟩, ⟨77, 83, 94, 350⟩] ⟨38, 76, 102, 341⟩ [⟨77, 83, 102, 341⟩] htab (fun z hz => by
              simp only [List.mem_cons, List.not_mem_nil, or_false] at hz
              rcases hz with rfl | rfl | rfl | rfl
              · exact Or.inr ⟨by decide, _, hts _ q865, hk0.nc (by decide +kernel)⟩
              · exact Or.inl (by decide)
              · exact Or.inr ⟨by decide, _, hts _ q916, hk0.nc (by decide +kernel)⟩
              · exact Or.inl (by decide)) (by decide) (by decide) (hts _ q890) (hk0.castw q1332 _) h9 hv9 hc9 ?_
            refine lv_astore (lv' := [(8, .ref q9), (0, .ref (q 0)), (1, .int x1), (2, .int x2), (3, .int x3), (4, .int x4), (5, .int x5), (6, .int x6), (7, .int x7)]) hx hb dX0_read_102 hl (by decide) rfl (fun ls hl => ?_)
            refine lv_iconst (v := (2 : Int32)) hx hb dX0_read_104 (by decide) ?_
            refine lv_istore (lv' := [(6, .int (2 : Int32)), (8, .ref q9), (0, .ref (q 0)), (1, .int x1), (2, .int x2), (3, .int x3), (4, .int x4), (5, .int x5), (7, .int x7)]) hx hb dX0_read_105 hl (by decide) rfl (fun ls hl => ?_)
            exact w_X0_read_107 C hst htab   _ _ _ _ _ _ hF hw hS (lv_sub hl [2, 0, 8] rfl)
          · have hF := if_e hF c_38
            by_cases c_39 : x_30.1 = 3
            · have hF := it_e hF c_39
              have hc9 : s.vm.findClass "java/lang/ClassCastException" = some ce.cls := by rw [c_39] at hc9; exact hc9
              refine vx_catch (name := "java/lang/ClassCastException") (E := "java/lang/ClassCastException") hown [⟨38, 76, 86, 339⟩, ⟨77, 83, 86, 339⟩] ⟨38, 76, 94, 350⟩ [⟨77, 83, 94, 350⟩, ⟨38, 76, 102, 341⟩, ⟨77, 83, 102, 341⟩] htab (fun z hz => by
                simp only [List.mem_cons, List.not_mem_nil, or_false] at hz
                rcases hz with rfl | rfl
                · exact Or.inr ⟨by decide, _, hts _ q865, hk0.nc (by decide +kernel)⟩
                · exact Or.inl (by decide)) (by decide) (by decide) (hts _ q916) (hk0.castw q928 _) h9 hv9 hc9 ?_
              refine lv_astore (lv' := [(8, .ref q9), (0, .ref (q 0)), (1, .int x1), (2, .int x2), (3, .int x3), (4, .int x4), (5, .int x5), (6, .int x6), (7, .int x7)]) hx hb dX0_read_94 hl (by decide) rfl (fun ls hl => ?_)
              refine lv_iconst (v := (3 : Int32)) hx hb dX0_read_96 (by decide) ?_
              refine lv_istore (lv' := [(6, .int (3 : Int32)), (8, .ref q9), (0, .ref (q 0)), (1, .int x1), (2, .int x2), (3, .int x3), (4, .int x4), (5, .int x5), (7, .int x7)]) hx hb dX0_read_97 hl (by decide) rfl (fun ls hl => ?_)
              refine lv_goto (tgt := 107) hx hb dX0_read_99 (by decide) ?_
              exact w_X0_read_107 C hst htab   _ _ _ _ _ _ hF hw hS (lv_sub hl [2, 0, 8] rfl)
            · have hF := if_e hF c_39
              cases hF
noncomputable def F_X0_read (N : Nat) (x1 : Int32) (x2 : Int32) (x3 : Int32) (x4 : Int32) (σ : SS) : Option (Int32 × SS) :=
  bd (F_X0_isSheet N x1 x2 σ) fun r_40 σ_41 =>
  if r_40 = (0 : Int32) then
    some ((-1 : Int32), σ_41)
  else
    bd (F_X0_in N x4.toInt64 (0 : Int64) (40 : Int64) σ_41) fun r_44 σ_45 =>
    if r_44 = (0 : Int32) then
      some ((-1 : Int32), σ_45)
    else
      nm (gi σ_45 (iS 0) 33) fun x_48 =>
      F_X0_read_38 N N x1 x2 x3 x4 x_48 (0 : Int32) (0 : Int32) σ_45
set_option maxRecDepth 100000 in
theorem met_X0_read (l : Launch) (G : GG) (rd : Bool) (q : Nat → Nat) {N : Nat} (hst : l.stackTraces = false) {x1 : Int32} {x2 : Int32} {x3 : Int32} {x4 : Int32} {σ σ' : SS} {r : Int32} (hF : F_X0_read N x1 x2 x3 x4 σ = some (r, σ')) : Met l yX0_read (wsW_ yX0_read cX0_read 9 (some .int) [(38, 76, 86, 339), (77, 83, 86, 339), (38, 76, 94, 350), (77, 83, 94, 350), (38, 76, 102, 341), (77, 83, 102, 341)]) rmX0_read (pcx G rd q σ [.ref (q 0), .int x1, .int x2, .int x3, .int x4]) (qxi G rd q σ' r) 3 700 (fa G) := by
  refine met_ofW (by decide) (Nat.le_of_ble_eq_true rfl) ?_
  intro p e s m below meth c C htab H locs ls hw hS hl
  obtain ⟨hx, hb, hml, hown, hts, -, hlk, hk0, -⟩ := id C
  have hl : lv_has ls 9 [(0, .ref (q 0)), (1, .int x1), (2, .int x2), (3, .int x3), (4, .int x4)] := hl
  unfold F_X0_read at hF
  refine lv_iload_n hx hb dX0_read_0 rfl (lv_at hl 1 rfl) ?_
  refine lv_iload_n hx hb dX0_read_1 rfl (lv_at hl 2 rfl) ?_
  obtain ⟨r_40, σ_41, h_42, hF⟩ := bd_e hF
  refine r_callSi (As := [.int x1, .int x2]) (rest := []) C hw hS (met_X0_isSheet l G rd q  h_42) (cwS 2 hts (lw_S q857 q858 q57 q859) rfl rfl rfl (by decide +kernel) ⟨Nat.le_of_ble_eq_true rfl, Nat.le_of_ble_eq_true rfl⟩) rfl hl.1 rfl (Nat.le_of_ble_eq_true rfl) ⟨Nat.zero_le _, Nat.zero_le _⟩ dX0_read_2 (fun H locs hw hS => ?_)
  refine lv_if_eq (tgt := 21) hx hb dX0_read_5 (by decide) (fun c_43 => ?_) (fun c_43 => ?_)
  · have hF := it_e hF c_43
    refine lv_iconst (v := (-1 : Int32)) hx hb dX0_read_21 (by decide) ?_
    refine W.widen (k := 3) (n := 700) (Nat.le_of_ble_eq_true rfl) (Nat.le_of_ble_eq_true rfl) ?_
    exact r_iret C hw hS hF dX0_read_22
  · have hF := if_e hF c_43
    refine lv_iload hx hb dX0_read_8 (lv_at hl 4 rfl) ?_
    refine lv_i2l hx hb dX0_read_10 rfl ?_
    refine lv_lconst (v := (0 : Int64)) hx hb dX0_read_11 (by decide) ?_
    refine lv_ldc2 (v := (40 : Int64)) hx hb hown (hts _ q777) dX0_read_12 ?_
    obtain ⟨r_44, σ_45, h_46, hF⟩ := bd_e hF
    refine r_callSi (As := [.long x4.toInt64, .long (0 : Int64), .long (40 : Int64)]) (rest := []) C hw hS (met_X0_in l G rd q  h_46) (cwS 3 hts (lw_S q294 q295 q57 q296) rfl rfl rfl (by decide +kernel) ⟨Nat.le_of_ble_eq_true rfl, Nat.le_of_ble_eq_true rfl⟩) rfl hl.1 rfl (Nat.le_of_ble_eq_true rfl) ⟨Nat.zero_le _, Nat.zero_le _⟩ dX0_read_15 (fun H locs hw hS => ?_)
    refine lv_if_ne (tgt := 23) hx hb dX0_read_18 (by decide) (fun c_47 => ?_) (fun c_47 => ?_)
    · have hF := if_e hF c_47
      refine lv_aload_n hx hb dX0_read_23 rfl (lv_at hl 0 rfl) ?_
      refine r_get0 C hw 1 (by decide) rfl (v := .ref (q (iS 0))) rfl q219 dX0_read_24 ?_
      refine r_getSN C hw (okS_of (by decide)) 4 (by decide) rfl (v := .int (gi σ_45 (iS 0) 33)) rfl 15 rfl dX0_read_27 ?_
      obtain ⟨x_48, ex_48, hF⟩ := nm_e2 hF
      refine r_topi ex_48 ?_
      refine lv_istore (lv' := [(5, .int x_48), (0, .ref (q 0)), (1, .int x1), (2, .int x2), (3, .int x3), (4, .int x4)]) hx hb dX0_read_30 hl (by decide) rfl (fun ls hl => ?_)
      refine lv_iconst (v := (0 : Int32)) hx hb dX0_read_32 (by decide) ?_
      refine lv_istore (lv' := [(6, .int (0 : Int32)), (5, .int x_48), (0, .ref (q 0)), (1, .int x1), (2, .int x2), (3, .int x3), (4, .int x4)]) hx hb dX0_read_33 hl (by decide) rfl (fun ls hl => ?_)
      refine lv_iconst (v := (0 : Int32)) hx hb dX0_read_35 (by decide) ?_
      refine lv_istore (lv' := [(7, .int (0 : Int32)), (6, .int (0 : Int32)), (5, .int x_48), (0, .ref (q 0)), (1, .int x1), (2, .int x2), (3, .int x3), (4, .int x4)]) hx hb dX0_read_36 hl (by decide) rfl (fun ls hl => ?_)
      exact w_X0_read_38 C hst htab   N _ _ _ _ _ _ _ _ _ _ _ hF hw hS (lv_sub hl [3, 4, 5, 6, 7, 2, 1, 0] rfl)
    · have hF := it_e hF c_47
      refine lv_iconst (v := (-1 : Int32)) hx hb dX0_read_21 (by decide) ?_
      refine W.widen (k := 3) (n := 700) (Nat.le_of_ble_eq_true rfl) (Nat.le_of_ble_eq_true rfl) ?_
      exact r_iret C hw hS hF dX0_read_22
