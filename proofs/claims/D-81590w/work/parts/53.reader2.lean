/-! lifted: the Reader's methods -/
set_option maxRecDepth 100000
abbrev rmX9_isIn : Room := { frames := 1, cells := 0, slots := 0, locals := 60 }
noncomputable def F_X9_isIn (N : Nat) (x1 : Int32) (x2 : Int32) (σ : SS) : Option (Int32 × SS) :=
  if (gi σ 32 0) ≤ (gi σ 32 3) then
    some ((0 : Int32), σ)
  else
    gd (inR (gi σ 32 3) 160) <|
    if (gi σ 7 (gi σ 32 3).toNatClampNeg) < x1 then
      some ((0 : Int32), σ)
    else
      gd (inR (gi σ 32 3) 160) <|
      if x2 < (gi σ 7 (gi σ 32 3).toNatClampNeg) then
        some ((0 : Int32), σ)
      else
        some ((1 : Int32), σ)
set_option maxRecDepth 100000 in
theorem met_X9_isIn (l : Launch) (G : GG) (q : Nat → Nat) {N : Nat} {x1 : Int32} {x2 : Int32} {σ σ' : SS} {r : Int32} (hF : F_X9_isIn N x1 x2 σ = some (r, σ')) : Met l yX9_isIn (ws_ yX9_isIn cX9_isIn 3 (some .boolean)) rmX9_isIn (pcx G true q σ [.ref (q 32), .int x1, .int x2]) (qxi G true q σ' r) 0 0 (fa G) := by
  refine met_of (by decide) (Nat.le_of_ble_eq_true rfl) ?_
  intro p e s m below meth c C H locs ls hw hS hl
  obtain ⟨hx, hb, hml, hown, hts, -, hlk, hk0, -⟩ := id C
  have hl : lv_has ls 3 [(0, .ref (q 32)), (1, .int x1), (2, .int x2)] := hl
  unfold F_X9_isIn at hF
  refine lv_aload_n hx hb dX9_isIn_0 rfl (lv_at hl 0 rfl) ?_
  refine r_get9 C hw 3 (by decide) rfl (v := .int (gi σ 32 3)) rfl q414 dX9_isIn_1 ?_
  refine lv_aload_n hx hb dX9_isIn_4 rfl (lv_at hl 0 rfl) ?_
  refine r_get9 C hw 0 (by decide) rfl (v := .int (gi σ 32 0)) rfl q410 dX9_isIn_5 ?_
  refine lv_icmp_ge (tgt := 47) hx hb dX9_isIn_8 (by decide) (fun c_6 => ?_) (fun c_6 => ?_)
  · have hF := it_e hF c_6
    refine lv_iconst (v := (0 : Int32)) hx hb dX9_isIn_47 (by decide) ?_
    exact r_zret C hw hS hF rfl dX9_isIn_48
  · have hF := if_e hF c_6
    refine lv_aload_n hx hb dX9_isIn_11 rfl (lv_at hl 0 rfl) ?_
    refine r_get9 C hw 7 (by decide) rfl (v := .ref (q 0)) rfl q418 dX9_isIn_12 ?_
    refine r_get0N C hw 11 (by decide) rfl (v := .ref (q 7)) rfl 24 rfl dX9_isIn_15 ?_
    refine lv_aload_n hx hb dX9_isIn_18 rfl (lv_at hl 0 rfl) ?_
    refine r_get9 C hw 3 (by decide) rfl (v := .int (gi σ 32 3)) rfl q414 dX9_isIn_19 ?_
    obtain ⟨h_7, hF⟩ := gd_e hF
    refine r_bald (i := 7) (n := 160) (g := 7) (st := 0) C hw (wi_lo (Or.inl (by decide))) rfl h_7 dX9_isIn_22 ?_
    refine lv_iload_n hx hb dX9_isIn_23 rfl (lv_at hl 1 rfl) ?_
    refine lv_icmp_lt (tgt := 47) hx hb dX9_isIn_24 (by decide) (fun c_8 => ?_) (fun c_8 => ?_)
    · have hF := it_e hF c_8
      refine lv_iconst (v := (0 : Int32)) hx hb dX9_isIn_47 (by decide) ?_
      exact r_zret C hw hS hF rfl dX9_isIn_48
    · have hF := if_e hF c_8
      refine lv_aload_n hx hb dX9_isIn_27 rfl (lv_at hl 0 rfl) ?_
      refine r_get9 C hw 7 (by decide) rfl (v := .ref (q 0)) rfl q418 dX9_isIn_28 ?_
      refine r_get0N C hw 11 (by decide) rfl (v := .ref (q 7)) rfl 24 rfl dX9_isIn_31 ?_
      refine lv_aload_n hx hb dX9_isIn_34 rfl (lv_at hl 0 rfl) ?_
      refine r_get9 C hw 3 (by decide) rfl (v := .int (gi σ 32 3)) rfl q414 dX9_isIn_35 ?_
      obtain ⟨h_9, hF⟩ := gd_e hF
      refine r_bald (i := 7) (n := 160) (g := 7) (st := 0) C hw (wi_lo (Or.inl (by decide))) rfl h_9 dX9_isIn_38 ?_
      refine lv_iload_n hx hb dX9_isIn_39 rfl (lv_at hl 2 rfl) ?_
      refine lv_icmp_gt (tgt := 47) hx hb dX9_isIn_40 (by decide) (fun c_10 => ?_) (fun c_10 => ?_)
      · have hF := it_e hF c_10
        refine lv_iconst (v := (0 : Int32)) hx hb dX9_isIn_47 (by decide) ?_
        exact r_zret C hw hS hF rfl dX9_isIn_48
      · have hF := if_e hF c_10
        refine lv_iconst (v := (1 : Int32)) hx hb dX9_isIn_43 (by decide) ?_
        refine lv_goto (tgt := 48) hx hb dX9_isIn_44 (by decide) ?_
        exact r_zret C hw hS hF rfl dX9_isIn_48
abbrev rmX9_is : Room := { frames := 6, cells := 0, slots := 0, locals := 260 }
noncomputable def B_X9_is_39 (N : Nat) (IH : Nat → Int32 → Int32 → SS → Option (Int32 × SS)) (j2 : Nat) (x3 : Int32) (x4 : Int32) (σ : SS) : Option (Int32 × SS) :=
  if x3 = (0 : Int32) then
    gd (x3 = 0 ∨ x3 = 1) <|
    some (x3, σ)
  else
    if (Int32.ofNat (lenS j2)) ≤ x4 then
      gd (x3 = 0 ∨ x3 = 1) <|
      some (x3, σ)
    else
      gd (inR ((gi σ 32 4) + x4) 160) <|
      gd (inR x4 (lenS j2)) <|
      if (gi σ 7 ((gi σ 32 4) + x4).toNatClampNeg) = (chS j2 x4.toNatClampNeg) then
        nm (x4 + (1 : Int32)) fun x_21 =>
        IH j2 (1 : Int32) x_21 σ
      else
        nm (x4 + (1 : Int32)) fun x_20 =>
        IH j2 (0 : Int32) x_20 σ
noncomputable def F_X9_is_39 (N : Nat) (n : Nat) : Nat → Int32 → Int32 → SS → Option (Int32 × SS) := Nat.rec (fun _ _ _ _ => none) (fun _ IH => B_X9_is_39 N IH) n
set_option maxRecDepth 100000 in
theorem w_X9_is_39 {p : Program} {l : Launch} {e : Env} {s : State} {m : MethodId} {args : Array Value} {below : List Frame} {meth : Method} {c : Code} {G : GG} {q : Nat → Nat} {N : Nat} {ad : Nat → Nat} {r : Int32} {σ' : SS} (C : cx p s m args meth c cX9_is 5 RX9 (some .boolean) G) (hs : strs G s ad) : ∀ (n : Nat), ∀ (j2 : Nat) (x3 : Int32) (x4 : Int32) (σ : SS) (H : Heap) (locs : List Loc) (ls : Array Slot), j2 < 8 → F_X9_is_39 N n j2 x3 x4 σ = some (r, σ') → wx G true q σ H → va_S (fa G) s.heap H locs → lv_has ls 5 [(0, .ref (q 32)), (2, .ref (ad j2)), (3, .int x3), (4, .int x4)] → W p l e rmX9_is s m args below meth c H locs 0 0 (MQ below (qxi G true q σ' r) args s 0 0 (fa G)) (F0 m 39 ls []) := by
  obtain ⟨hx, hb, hml, hown, hts, -, hlk, hk0, -⟩ := id C
  intro n
  induction n with
  | zero =>
    intro j2 x3 x4 σ H locs ls hj2 hF hw hS hl
    cases hF
  | succ n ih =>
    intro j2 x3 x4 σ H locs ls hj2 hF hw hS hl
    have hF : B_X9_is_39 N (F_X9_is_39 N n) j2 x3 x4 σ = some (r, σ') := hF
    unfold B_X9_is_39 at hF
    refine lv_iload_n hx hb dX9_is_39 rfl (lv_at hl 2 rfl) ?_
    refine lv_if_eq (tgt := 88) hx hb dX9_is_40 (by decide) (fun c_13 => ?_) (fun c_13 => ?_)
    · have hF := it_e hF c_13
      refine lv_iload_n hx hb dX9_is_88 rfl (lv_at hl 2 rfl) ?_
      obtain ⟨h_14, hF⟩ := gd_e hF
      exact r_zret C hw hS hF (nar_z h_14) dX9_is_89
    · have hF := if_e hF c_13
      refine lv_iload hx hb dX9_is_43 (lv_at hl 3 rfl) ?_
      refine lv_aload_n hx hb dX9_is_45 rfl (lv_at hl 1 rfl) ?_
      refine s_callV (As := []) (rest := [.int x4]) C (C.2.2.2.2.2.2.2.2.on hS) hS (hs j2 hj2).1 (met_J2_length l G H j2 (ad j2)) (cwV 0 hts (lw_V q460 q461 q462 q70 q463) rfl rfl rfl (by decide +kernel) ⟨Nat.le_of_ble_eq_true rfl, Nat.le_of_ble_eq_true rfl⟩) rfl hl.1 rfl (Nat.le_of_ble_eq_true rfl) ⟨Nat.zero_le _, Nat.zero_le _⟩ dX9_is_46 (fun locs hS => ?_)
      refine lv_icmp_ge (tgt := 88) hx hb dX9_is_49 (by decide) (fun c_15 => ?_) (fun c_15 => ?_)
      · have hF := it_e hF c_15
        refine lv_iload_n hx hb dX9_is_88 rfl (lv_at hl 2 rfl) ?_
        obtain ⟨h_16, hF⟩ := gd_e hF
        exact r_zret C hw hS hF (nar_z h_16) dX9_is_89
      · have hF := if_e hF c_15
        refine lv_aload_n hx hb dX9_is_52 rfl (lv_at hl 0 rfl) ?_
        refine r_get9 C hw 7 (by decide) rfl (v := .ref (q 0)) rfl q418 dX9_is_53 ?_
        refine r_get0N C hw 11 (by decide) rfl (v := .ref (q 7)) rfl 24 rfl dX9_is_56 ?_
        refine lv_aload_n hx hb dX9_is_59 rfl (lv_at hl 0 rfl) ?_
        refine r_get9 C hw 4 (by decide) rfl (v := .int (gi σ 32 4)) rfl q415 dX9_is_60 ?_
        refine lv_iload hx hb dX9_is_63 (lv_at hl 3 rfl) ?_
        refine lv_iadd hx hb dX9_is_65 ?_
        obtain ⟨h_17, hF⟩ := gd_e hF
        refine r_bald (i := 7) (n := 160) (g := 7) (st := 0) C hw (wi_lo (Or.inl (by decide))) rfl h_17 dX9_is_66 ?_
        refine lv_aload_n hx hb dX9_is_67 rfl (lv_at hl 1 rfl) ?_
        refine lv_iload hx hb dX9_is_68 (lv_at hl 3 rfl) ?_
        obtain ⟨h_18, hF⟩ := gd_e hF
        refine s_callV (As := [.int x4]) (rest := [.int (gi σ 7 ((gi σ 32 4) + x4).toNatClampNeg)]) C (C.2.2.2.2.2.2.2.2.on hS) hS (hs j2 hj2).1 (met_J2_charAt l G H (a := ad j2) h_18) (cwV 1 hts (lw_V q470 q471 q472 q70 q473) rfl rfl rfl (by decide +kernel) ⟨Nat.le_of_ble_eq_true rfl, Nat.le_of_ble_eq_true rfl⟩) rfl hl.1 rfl (Nat.le_of_ble_eq_true rfl) ⟨Nat.zero_le _, Nat.zero_le _⟩ dX9_is_70 (fun locs hS => ?_)
        refine lv_icmp_ne (tgt := 80) hx hb dX9_is_73 (by decide) (fun c_19 => ?_) (fun c_19 => ?_)
        · have hF := if_e hF c_19
          refine lv_iconst (v := (0 : Int32)) hx hb dX9_is_80 (by decide) ?_
          refine lv_istore_n (lv' := [(3, .int (0 : Int32)), (0, .ref (q 32)), (2, .ref (ad j2)), (4, .int x4)]) hx hb dX9_is_81 rfl hl (by decide) rfl (fun ls hl => ?_)
          obtain ⟨x_20, ex_20, hF⟩ := nm_e2 hF
          refine lv_iinc (v := x_20) (lv' := [(4, .int x_20), (3, .int (0 : Int32)), (0, .ref (q 32)), (2, .ref (ad j2))]) hx hb dX9_is_82 hl (k := 3) rfl (by rw [ex_20]; rfl) (by decide) rfl (fun ls hl => ?_)
          refine lv_goto (tgt := 39) hx hb dX9_is_85 (by decide) ?_
          exact ih _ _ _ _ _ _ _ hj2 hF hw hS (lv_sub hl [2, 3, 1, 0] rfl)
        · have hF := it_e hF c_19
          refine lv_iconst (v := (1 : Int32)) hx hb dX9_is_76 (by decide) ?_
          refine lv_goto (tgt := 81) hx hb dX9_is_77 (by decide) ?_
          refine lv_istore_n (lv' := [(3, .int (1 : Int32)), (0, .ref (q 32)), (2, .ref (ad j2)), (4, .int x4)]) hx hb dX9_is_81 rfl hl (by decide) rfl (fun ls hl => ?_)
          obtain ⟨x_21, ex_21, hF⟩ := nm_e2 hF
          refine lv_iinc (v := x_21) (lv' := [(4, .int x_21), (3, .int (1 : Int32)), (0, .ref (q 32)), (2, .ref (ad j2))]) hx hb dX9_is_82 hl (k := 3) rfl (by rw [ex_21]; rfl) (by decide) rfl (fun ls hl => ?_)
          refine lv_goto (tgt := 39) hx hb dX9_is_85 (by decide) ?_
          exact ih _ _ _ _ _ _ _ hj2 hF hw hS (lv_sub hl [2, 3, 1, 0] rfl)
noncomputable def F_X9_is_34 (N : Nat) (j2 : Nat) (σ : SS) : Option (Int32 × SS) :=
  F_X9_is_39 N N j2 (0 : Int32) (0 : Int32) σ
set_option maxRecDepth 100000 in
theorem w_X9_is_34 {p : Program} {l : Launch} {e : Env} {s : State} {m : MethodId} {args : Array Value} {below : List Frame} {meth : Method} {c : Code} {G : GG} {q : Nat → Nat} {N : Nat} {ad : Nat → Nat} {r : Int32} {σ' : SS} (C : cx p s m args meth c cX9_is 5 RX9 (some .boolean) G) (hs : strs G s ad) : ∀ (j2 : Nat) (σ : SS) (H : Heap) (locs : List Loc) (ls : Array Slot), j2 < 8 → F_X9_is_34 N j2 σ = some (r, σ') → wx G true q σ H → va_S (fa G) s.heap H locs → lv_has ls 5 [(0, .ref (q 32)), (2, .ref (ad j2))] → W p l e rmX9_is s m args below meth c H locs 0 0 (MQ below (qxi G true q σ' r) args s 0 0 (fa G)) (F0 m 34 ls []) := by
  obtain ⟨hx, hb, hml, hown, hts, -, hlk, hk0, -⟩ := id C
  intro j2 σ H locs ls hj2 hF hw hS hl
  unfold F_X9_is_34 at hF
  refine lv_iconst (v := (0 : Int32)) hx hb dX9_is_34 (by decide) ?_
  refine lv_istore_n (lv' := [(3, .int (0 : Int32)), (0, .ref (q 32)), (2, .ref (ad j2))]) hx hb dX9_is_35 rfl hl (by decide) rfl (fun ls hl => ?_)
  refine lv_iconst (v := (0 : Int32)) hx hb dX9_is_36 (by decide) ?_
  refine lv_istore (lv' := [(4, .int (0 : Int32)), (3, .int (0 : Int32)), (0, .ref (q 32)), (2, .ref (ad j2))]) hx hb dX9_is_37 hl (by decide) rfl (fun ls hl => ?_)
  exact w_X9_is_39 C hs   N _ _ _ _ _ _ _ hj2 hF hw hS (lv_sub hl [2, 3, 1, 0] rfl)
noncomputable def F_X9_is (N : Nat) (x1 : Int32) (σ : SS) : Option (Int32 × SS) :=
  nm (nmS x1) fun j_22 =>
  if (gi σ 32 5) = (1 : Int32) then
    if ((gi σ 32 3) - (gi σ 32 4)) = (Int32.ofNat (lenS j_22)) then
      F_X9_is_39 N N j_22 (1 : Int32) (0 : Int32) σ
    else
      F_X9_is_34 N j_22 σ
  else
    F_X9_is_34 N j_22 σ
set_option maxRecDepth 100000 in
theorem met_X9_is (l : Launch) (G : GG) (q : Nat → Nat) {N : Nat} {x1 : Int32} {σ σ' : SS} {r : Int32} (hF : F_X9_is N x1 σ = some (r, σ')) : Met l yX9_is (ws_ yX9_is cX9_is 5 (some .boolean)) rmX9_is (pcx G true q σ [.ref (q 32), .int x1]) (qxi G true q σ' r) 0 0 (fa G) := by
  refine met_of (by decide) (Nat.le_of_ble_eq_true rfl) ?_
  intro p e s m below meth c C H locs ls hw hS hl
  obtain ⟨hx, hb, hml, hown, hts, -, hlk, hk0, -⟩ := id C
  have hl : lv_has ls 5 [(0, .ref (q 32)), (1, .int x1)] := hl
  unfold F_X9_is at hF
  obtain ⟨ad, hs⟩ := hk0.strs
  refine lv_aload_n hx hb dX9_is_0 rfl (lv_at hl 0 rfl) ?_
  refine lv_iload_n hx hb dX9_is_1 rfl (lv_at hl 1 rfl) ?_
  obtain ⟨j_22, ej_22, hF⟩ := nm_e2 hF
  have hj_22 : j_22 < 8 := by rw [ej_22]; exact nmS_lt _
  refine r_name (x1 := x1) (rest := []) C hw hS hs hl.1 (Nat.le_of_ble_eq_true rfl) (Nat.le_of_ble_eq_true rfl) (Nat.le_of_ble_eq_true rfl) dX9_is_2 (fun H locs hw hS => ?_)
  rw [← ej_22]
  refine lv_astore_n (lv' := [(2, .ref (ad j_22)), (0, .ref (q 32)), (1, .int x1)]) hx hb dX9_is_5 rfl hl (by decide) rfl (fun ls hl => ?_)
  refine lv_aload_n hx hb dX9_is_6 rfl (lv_at hl 1 rfl) ?_
  refine r_get9 C hw 5 (by decide) rfl (v := .int (gi σ 32 5)) rfl q416 dX9_is_7 ?_
  refine lv_iconst (v := (1 : Int32)) hx hb dX9_is_10 (by decide) ?_
  refine lv_icmp_ne (tgt := 34) hx hb dX9_is_11 (by decide) (fun c_23 => ?_) (fun c_23 => ?_)
  · have hF := if_e hF c_23
    exact w_X9_is_34 C hs   _ _ _ _ _ hj_22 hF hw hS (lv_sub hl [1, 0] rfl)
  · have hF := it_e hF c_23
    refine lv_aload_n hx hb dX9_is_14 rfl (lv_at hl 1 rfl) ?_
    refine r_get9 C hw 3 (by decide) rfl (v := .int (gi σ 32 3)) rfl q414 dX9_is_15 ?_
    refine lv_aload_n hx hb dX9_is_18 rfl (lv_at hl 1 rfl) ?_
    refine r_get9 C hw 4 (by decide) rfl (v := .int (gi σ 32 4)) rfl q415 dX9_is_19 ?_
    refine lv_isub hx hb dX9_is_22 ?_
    refine lv_aload_n hx hb dX9_is_23 rfl (lv_at hl 0 rfl) ?_
    refine s_callV (As := []) (rest := [.int ((gi σ 32 3) - (gi σ 32 4))]) C (C.2.2.2.2.2.2.2.2.on hS) hS (hs j_22 hj_22).1 (met_J2_length l G H j_22 (ad j_22)) (cwV 0 hts (lw_V q460 q461 q462 q70 q463) rfl rfl rfl (by decide +kernel) ⟨Nat.le_of_ble_eq_true rfl, Nat.le_of_ble_eq_true rfl⟩) rfl hl.1 rfl (Nat.le_of_ble_eq_true rfl) ⟨Nat.zero_le _, Nat.zero_le _⟩ dX9_is_24 (fun locs hS => ?_)
    refine lv_icmp_ne (tgt := 34) hx hb dX9_is_27 (by decide) (fun c_24 => ?_) (fun c_24 => ?_)
    · have hF := if_e hF c_24
      exact w_X9_is_34 C hs   _ _ _ _ _ hj_22 hF hw hS (lv_sub hl [1, 0] rfl)
    · have hF := it_e hF c_24
      refine lv_iconst (v := (1 : Int32)) hx hb dX9_is_30 (by decide) ?_
      refine lv_goto (tgt := 35) hx hb dX9_is_31 (by decide) ?_
      refine lv_istore_n (lv' := [(3, .int (1 : Int32)), (2, .ref (ad j_22)), (0, .ref (q 32)), (1, .int x1)]) hx hb dX9_is_35 rfl hl (by decide) rfl (fun ls hl => ?_)
      refine lv_iconst (v := (0 : Int32)) hx hb dX9_is_36 (by decide) ?_
      refine lv_istore (lv' := [(4, .int (0 : Int32)), (3, .int (1 : Int32)), (2, .ref (ad j_22)), (0, .ref (q 32)), (1, .int x1)]) hx hb dX9_is_37 hl (by decide) rfl (fun ls hl => ?_)
      exact w_X9_is_39 C hs   N _ _ _ _ _ _ _ hj_22 hF hw hS (lv_sub hl [3, 2, 1, 0] rfl)
abbrev rmX9_next : Room := { frames := 6, cells := 0, slots := 0, locals := 222 }
abbrev rmX9_nextx : Room := { frames := 6, cells := 1, slots := 8, locals := 222 }
noncomputable def F_X9_next_202 (N : Nat) (z0 : Int32) (σ : SS) : Option ((Unit ⊕ XI) × SS) :=
  bdx (F_X9_need N z0 (1 : Int32) σ)
    (fun r_47 σ_48 =>
      some (Sum.inl (), σ_48))
    (fun x_50 σ_48 => some (Sum.inr x_50, σ_48))
set_option maxRecDepth 100000 in
theorem w_X9_next_202 {p : Program} {l : Launch} {e : Env} {s : State} {m : MethodId} {args : Array Value} {below : List Frame} {meth : Method} {c : Code} {G : GG} {q : Nat → Nat} {N : Nat} {r : Unit} {σ' : SS} (C : cx p s m args meth c cX9_next 1 RX9 none G) : ∀ (z0 : Int32) (σ : SS) (H : Heap) (locs : List Loc) (ls : Array Slot), F_X9_next_202 N z0 σ = some (Sum.inl r, σ') → wx G true q σ H → va_S (fa G) s.heap H locs → lv_has ls 1 [] → W p l e rmX9_next s m args below meth c H locs 0 0 (MQ below (qxv G true q σ' r) args s 0 0 (fa G)) (F0 m 202 ls [.int z0, .ref (q 32)]) := by
  obtain ⟨hx, hb, hml, hown, hts, -, hlk, hk0, -⟩ := id C
  intro z0 σ H locs ls hF hw hS hl
  unfold F_X9_next_202 at hF
  refine lv_iconst (v := (1 : Int32)) hx hb dX9_next_202 (by decide) ?_
  rcases bdx_e hF with ⟨r_47, σ_48, h_49, hF⟩ | ⟨x_50, σ_48, h_49, hF⟩
  · refine r_callVv (As := [.int z0, .int (1 : Int32)]) (rest := []) (i := 32) C hw hS wi_rd rfl (ci := 9) rfl (met_X9_need l G q  h_49) (cwV 2 hts (lw_V q322 q324 qs2 q66 q325) rfl rfl rfl (by decide +kernel) ⟨Nat.le_of_ble_eq_true rfl, Nat.le_of_ble_eq_true rfl⟩) rfl hl.1 rfl (Nat.le_of_ble_eq_true rfl) ⟨Nat.zero_le _, Nat.zero_le _⟩ dX9_next_203 (fun H locs hw hS => ?_)
    refine lv_goto (tgt := 237) hx hb dX9_next_206 (by decide) ?_
    exact r_vret C hw hS (so_l hF) dX9_next_237
  · cases hF
set_option maxRecDepth 100000 in
theorem x_X9_next_202 {p : Program} {l : Launch} {e : Env} {s : State} {m : MethodId} {args : Array Value} {below : List Frame} {meth : Method} {c : Code} {G : GG} {q : Nat → Nat} {N : Nat} {x : XI} {σ' : SS} (C : cx p s m args meth c cX9_next 1 RX9 none G) (hout : ∀ z ∈ c.exceptionTable.toList, False) : ∀ (z0 : Int32) (σ : SS) (H : Heap) (locs : List Loc) (ls : Array Slot), F_X9_next_202 N z0 σ = some (Sum.inr x, σ') → wx G true q σ H → va_S (fa G) s.heap H locs → lv_has ls 1 [] → W p l e rmX9_nextx s m args below meth c H locs 0 0 (vx_MQ below (fun _ _ _ _ => False) (qxx G true q σ' x) args s 1 8 (fa G)) (F0 m 202 ls [.int z0, .ref (q 32)]) := by
  obtain ⟨hx, hb, hml, hown, hts, -, hlk, hk0, -⟩ := id C
  intro z0 σ H locs ls hF hw hS hl
  unfold F_X9_next_202 at hF
  refine lv_iconst (v := (1 : Int32)) hx hb dX9_next_202 (by decide) ?_
  rcases bdx_e hF with ⟨r_51, σ_52, h_53, hF⟩ | ⟨x_54, σ_52, h_53, hF⟩
  · refine r_callVv (As := [.int z0, .int (1 : Int32)]) (rest := []) (i := 32) C hw hS wi_rd rfl (ci := 9) rfl (met_X9_need l G q  h_53) (cwV 2 hts (lw_V q322 q324 qs2 q66 q325) rfl rfl rfl (by decide +kernel) ⟨Nat.le_of_ble_eq_true rfl, Nat.le_of_ble_eq_true rfl⟩) rfl hl.1 rfl (Nat.le_of_ble_eq_true rfl) ⟨Nat.zero_le _, Nat.zero_le _⟩ dX9_next_203 (fun H locs hw hS => ?_)
    refine lv_goto (tgt := 237) hx hb dX9_next_206 (by decide) ?_
    cases hF
  · refine r_callVx (As := [.int z0, .int (1 : Int32)]) (rest := []) (i := 32) C hw hS wi_rd rfl (ci := 9) rfl (mex_X9_need l G q  h_53) (cwV 2 hts (lw_V q322 q324 qs2 q66 q325) rfl rfl rfl (by decide +kernel) ⟨Nat.le_of_ble_eq_true rfl, Nat.le_of_ble_eq_true rfl⟩) rfl hl.1 rfl (Nat.le_of_ble_eq_true rfl) ⟨Nat.le_of_ble_eq_true rfl, Nat.le_of_ble_eq_true rfl⟩ dX9_next_203 (fun H locs q9 ce hw hS h9 hv9 hc9 hft9 => ?_)
    obtain ⟨rfl, rfl⟩ := so_r hF
    exact vx_out (fun z hz => (hout z hz).elim) hlk h9 hv9 hc9 (fun t ht _ => ⟨(), trivial, ⟨rfl, by subst ht; exact hw, by subst ht; exact hft9⟩, hS.F ht⟩) hS.2.2 (Nat.le_of_ble_eq_true rfl) (Nat.le_of_ble_eq_true rfl)
noncomputable def F_X9_next_167 (N : Nat) (K112 : SS → Option ((Unit ⊕ XI) × SS)) (z0 : Int32) (σ : SS) : Option ((Unit ⊕ XI) × SS) :=
  nm (si σ 32 6 z0) fun σ_55 =>
  nm (si σ_55 32 3 ((gi σ_55 32 3) + (1 : Int32))) fun σ_56 =>
  K112 σ_56
set_option maxRecDepth 100000 in
theorem w_X9_next_167 {p : Program} {l : Launch} {e : Env} {s : State} {m : MethodId} {args : Array Value} {below : List Frame} {meth : Method} {c : Code} {G : GG} {q : Nat → Nat} {N : Nat} {r : Unit} {σ' : SS} (C : cx p s m args meth c cX9_next 1 RX9 none G) {K112 : SS → Option ((Unit ⊕ XI) × SS)} (HK112 : ∀ (σ : SS) (H : Heap) (locs : List Loc) (ls : Array Slot), K112  σ = some (Sum.inl r, σ') → wx G true q σ H → va_S (fa G) s.heap H locs → lv_has ls 1 [(0, .ref (q 32))] → W p l e rmX9_next s m args below meth c H locs 0 0 (MQ below (qxv G true q σ' r) args s 0 0 (fa G)) (F0 m 112 ls [])) : ∀ (z0 : Int32) (σ : SS) (H : Heap) (locs : List Loc) (ls : Array Slot), F_X9_next_167 N K112 z0 σ = some (Sum.inl r, σ') → wx G true q σ H → va_S (fa G) s.heap H locs → lv_has ls 1 [(0, .ref (q 32))] → W p l e rmX9_next s m args below meth c H locs 0 0 (MQ below (qxv G true q σ' r) args s 0 0 (fa G)) (F0 m 167 ls [.int z0, .ref (q 32)]) := by
  obtain ⟨hx, hb, hml, hown, hts, -, hlk, hk0, -⟩ := id C
  intro z0 σ H locs ls hF hw hS hl
  unfold F_X9_next_167 at hF
  obtain ⟨σ_55, eσ_55, hF⟩ := nm_e2 hF
  refine r_put9 C hw hS 6 (by decide) rfl rfl (tyX9_ok 6 (by decide)) rfl rfl q417 dX9_next_167 eσ_55 (fun H locs hw hS => ?_)
  refine lv_aload_n hx hb dX9_next_170 rfl (lv_at hl 0 rfl) ?_
  refine lv_dup hx hb dX9_next_171 rfl ?_
  refine r_get9 C hw 3 (by decide) rfl (v := .int (gi σ_55 32 3)) rfl q414 dX9_next_172 ?_
  refine lv_iconst (v := (1 : Int32)) hx hb dX9_next_175 (by decide) ?_
  refine lv_iadd hx hb dX9_next_176 ?_
  obtain ⟨σ_56, eσ_56, hF⟩ := nm_e2 hF
  refine r_put9 C hw hS 3 (by decide) rfl rfl (tyX9_ok 3 (by decide)) rfl rfl q414 dX9_next_177 eσ_56 (fun H locs hw hS => ?_)
  refine lv_goto (tgt := 112) hx hb dX9_next_180 (by decide) ?_
  exact HK112  _ _ _ _ hF hw hS (lv_sub hl [0] rfl)
set_option maxRecDepth 100000 in
theorem x_X9_next_167 {p : Program} {l : Launch} {e : Env} {s : State} {m : MethodId} {args : Array Value} {below : List Frame} {meth : Method} {c : Code} {G : GG} {q : Nat → Nat} {N : Nat} {x : XI} {σ' : SS} (C : cx p s m args meth c cX9_next 1 RX9 none G) (hout : ∀ z ∈ c.exceptionTable.toList, False) {K112 : SS → Option ((Unit ⊕ XI) × SS)} (HK112 : ∀ (σ : SS) (H : Heap) (locs : List Loc) (ls : Array Slot), K112  σ = some (Sum.inr x, σ') → wx G true q σ H → va_S (fa G) s.heap H locs → lv_has ls 1 [(0, .ref (q 32))] → W p l e rmX9_nextx s m args below meth c H locs 0 0 (vx_MQ below (fun _ _ _ _ => False) (qxx G true q σ' x) args s 1 8 (fa G)) (F0 m 112 ls [])) : ∀ (z0 : Int32) (σ : SS) (H : Heap) (locs : List Loc) (ls : Array Slot), F_X9_next_167 N K112 z0 σ = some (Sum.inr x, σ') → wx G true q σ H → va_S (fa G) s.heap H locs → lv_has ls 1 [(0, .ref (q 32))] → W p l e rmX9_nextx s m args below meth c H locs 0 0 (vx_MQ below (fun _ _ _ _ => False) (qxx G true q σ' x) args s 1 8 (fa G)) (F0 m 167 ls [.int z0, .ref (q 32)]) := by
  obtain ⟨hx, hb, hml, hown, hts, -, hlk, hk0, -⟩ := id C
  intro z0 σ H locs ls hF hw hS hl
  unfold F_X9_next_167 at hF
  obtain ⟨σ_57, eσ_57, hF⟩ := nm_e2 hF
  refine r_put9 C hw hS 6 (by decide) rfl rfl (tyX9_ok 6 (by decide)) rfl rfl q417 dX9_next_167 eσ_57 (fun H locs hw hS => ?_)
  refine lv_aload_n hx hb dX9_next_170 rfl (lv_at hl 0 rfl) ?_
  refine lv_dup hx hb dX9_next_171 rfl ?_
  refine r_get9 C hw 3 (by decide) rfl (v := .int (gi σ_57 32 3)) rfl q414 dX9_next_172 ?_
  refine lv_iconst (v := (1 : Int32)) hx hb dX9_next_175 (by decide) ?_
  refine lv_iadd hx hb dX9_next_176 ?_
  obtain ⟨σ_58, eσ_58, hF⟩ := nm_e2 hF
  refine r_put9 C hw hS 3 (by decide) rfl rfl (tyX9_ok 3 (by decide)) rfl rfl q414 dX9_next_177 eσ_58 (fun H locs hw hS => ?_)
  refine lv_goto (tgt := 112) hx hb dX9_next_180 (by decide) ?_
  exact HK112  _ _ _ _ hF hw hS (lv_sub hl [0] rfl)
noncomputable def B_X9_next_112 (N : Nat) (IH : SS → Option ((Unit ⊕ XI) × SS))  (σ : SS) : Option ((Unit ⊕ XI) × SS) :=
  bd (F_X9_isIn N (48 : Int32) (57 : Int32) σ) fun r_59 σ_60 =>
  if r_59 = (0 : Int32) then
    if (3 : Int32) ≤ ((gi σ_60 32 3) - (gi σ_60 32 4)) then
      F_X9_next_202 N (0 : Int32) σ_60
    else
      F_X9_next_202 N (1 : Int32) σ_60
  else
    if (2 : Int32) ≤ ((gi σ_60 32 3) - (gi σ_60 32 4)) then
      F_X9_next_167 N IH (gi σ_60 32 6) σ_60
    else
      gd (inR (gi σ_60 32 3) 160) <|
      F_X9_next_167 N IH ((((10 : Int32) * (gi σ_60 32 6)) + (gi σ_60 7 (gi σ_60 32 3).toNatClampNeg)) - (48 : Int32)) σ_60
noncomputable def F_X9_next_112 (N : Nat) (n : Nat) : SS → Option ((Unit ⊕ XI) × SS) := Nat.rec (fun  _ => none) (fun _ IH => B_X9_next_112 N IH) n
set_option maxRecDepth 100000 in
theorem w_X9_next_112 {p : Program} {l : Launch} {e : Env} {s : State} {m : MethodId} {args : Array Value} {below : List Frame} {meth : Method} {c : Code} {G : GG} {q : Nat → Nat} {N : Nat} {r : Unit} {σ' : SS} (C : cx p s m args meth c cX9_next 1 RX9 none G) : ∀ (n : Nat), ∀ (σ : SS) (H : Heap) (locs : List Loc) (ls : Array Slot), F_X9_next_112 N n  σ = some (Sum.inl r, σ') → wx G true q σ H → va_S (fa G) s.heap H locs → lv_has ls 1 [(0, .ref (q 32))] → W p l e rmX9_next s m args below meth c H locs 0 0 (MQ below (qxv G true q σ' r) args s 0 0 (fa G)) (F0 m 112 ls []) := by
  obtain ⟨hx, hb, hml, hown, hts, -, hlk, hk0, -⟩ := id C
  intro n
  induction n with
  | zero =>
    intro σ H locs ls hF hw hS hl
    cases hF
  | succ n ih =>
    intro σ H locs ls hF hw hS hl
    have hF : B_X9_next_112 N (F_X9_next_112 N n)  σ = some (Sum.inl r, σ') := hF
    unfold B_X9_next_112 at hF
    refine lv_aload_n hx hb dX9_next_112 rfl (lv_at hl 0 rfl) ?_
    refine lv_bipush (v := (48 : Int32)) hx hb dX9_next_113 (by decide) ?_
    refine lv_bipush (v := (57 : Int32)) hx hb dX9_next_115 (by decide) ?_
    obtain ⟨r_59, σ_60, h_61, hF⟩ := bd_e hF
    refine r_callVi (As := [.int (48 : Int32), .int (57 : Int32)]) (rest := []) (i := 32) C hw hS wi_rd rfl (ci := 9) rfl (met_X9_isIn l G q  h_61) (cwV 2 hts (lw_V q318 q320 qs1 q66 q321) rfl rfl rfl (by decide +kernel) ⟨Nat.le_of_ble_eq_true rfl, Nat.le_of_ble_eq_true rfl⟩) rfl hl.1 rfl (Nat.le_of_ble_eq_true rfl) ⟨Nat.zero_le _, Nat.zero_le _⟩ dX9_next_117 (fun H locs hw hS => ?_)
    refine lv_if_eq (tgt := 183) hx hb dX9_next_120 (by decide) (fun c_62 => ?_) (fun c_62 => ?_)
    · have hF := it_e hF c_62
      refine lv_aload_n hx hb dX9_next_183 rfl (lv_at hl 0 rfl) ?_
      refine lv_aload_n hx hb dX9_next_184 rfl (lv_at hl 0 rfl) ?_
      refine r_get9 C hw 3 (by decide) rfl (v := .int (gi σ_60 32 3)) rfl q414 dX9_next_185 ?_
      refine lv_aload_n hx hb dX9_next_188 rfl (lv_at hl 0 rfl) ?_
      refine r_get9 C hw 4 (by decide) rfl (v := .int (gi σ_60 32 4)) rfl q415 dX9_next_189 ?_
      refine lv_isub hx hb dX9_next_192 ?_
      refine lv_iconst (v := (3 : Int32)) hx hb dX9_next_193 (by decide) ?_
      refine lv_icmp_ge (tgt := 201) hx hb dX9_next_194 (by decide) (fun c_63 => ?_) (fun c_63 => ?_)
      · have hF := it_e hF c_63
        refine lv_iconst (v := (0 : Int32)) hx hb dX9_next_201 (by decide) ?_
        exact w_X9_next_202 C   _ _ _ _ _ hF hw hS (lv_sub hl [] rfl)
      · have hF := if_e hF c_63
        refine lv_iconst (v := (1 : Int32)) hx hb dX9_next_197 (by decide) ?_
        refine lv_goto (tgt := 202) hx hb dX9_next_198 (by decide) ?_
        exact w_X9_next_202 C   _ _ _ _ _ hF hw hS (lv_sub hl [] rfl)
    · have hF := if_e hF c_62
      refine lv_aload_n hx hb dX9_next_123 rfl (lv_at hl 0 rfl) ?_
      refine lv_aload_n hx hb dX9_next_124 rfl (lv_at hl 0 rfl) ?_
      refine r_get9 C hw 3 (by decide) rfl (v := .int (gi σ_60 32 3)) rfl q414 dX9_next_125 ?_
      refine lv_aload_n hx hb dX9_next_128 rfl (lv_at hl 0 rfl) ?_
      refine r_get9 C hw 4 (by decide) rfl (v := .int (gi σ_60 32 4)) rfl q415 dX9_next_129 ?_
      refine lv_isub hx hb dX9_next_132 ?_
      refine lv_iconst (v := (2 : Int32)) hx hb dX9_next_133 (by decide) ?_
      refine lv_icmp_ge (tgt := 163) hx hb dX9_next_134 (by decide) (fun c_64 => ?_) (fun c_64 => ?_)
      · have hF := it_e hF c_64
        refine lv_aload_n hx hb dX9_next_163 rfl (lv_at hl 0 rfl) ?_
        refine r_get9 C hw 6 (by decide) rfl (v := .int (gi σ_60 32 6)) rfl q417 dX9_next_164 ?_
        exact w_X9_next_167 C  ih _ _ _ _ _ hF hw hS (lv_sub hl [0] rfl)
      · have hF := if_e hF c_64
        refine lv_bipush (v := (10 : Int32)) hx hb dX9_next_137 (by decide) ?_
        refine lv_aload_n hx hb dX9_next_139 rfl (lv_at hl 0 rfl) ?_
        refine r_get9 C hw 6 (by decide) rfl (v := .int (gi σ_60 32 6)) rfl q417 dX9_next_140 ?_
        refine lv_imul hx hb dX9_next_143 ?_
        refine lv_aload_n hx hb dX9_next_144 rfl (lv_at hl 0 rfl) ?_
        refine r_get9 C hw 7 (by decide) rfl (v := .ref (q 0)) rfl q418 dX9_next_145 ?_
        refine r_get0N C hw 11 (by decide) rfl (v := .ref (q 7)) rfl 24 rfl dX9_next_148 ?_
        refine lv_aload_n hx hb dX9_next_151 rfl (lv_at hl 0 rfl) ?_
        refine r_get9 C hw 3 (by decide) rfl (v := .int (gi σ_60 32 3)) rfl q414 dX9_next_152 ?_
        obtain ⟨h_65, hF⟩ := gd_e hF
        refine r_bald (i := 7) (n := 160) (g := 7) (st := 0) C hw (wi_lo (Or.inl (by decide))) rfl h_65 dX9_next_155 ?_
        refine lv_iadd hx hb dX9_next_156 ?_
        refine lv_bipush (v := (48 : Int32)) hx hb dX9_next_157 (by decide) ?_
        refine lv_isub hx hb dX9_next_159 ?_
        refine lv_goto (tgt := 167) hx hb dX9_next_160 (by decide) ?_
        exact w_X9_next_167 C  ih _ _ _ _ _ hF hw hS (lv_sub hl [0] rfl)
set_option maxRecDepth 100000 in
theorem x_X9_next_112 {p : Program} {l : Launch} {e : Env} {s : State} {m : MethodId} {args : Array Value} {below : List Frame} {meth : Method} {c : Code} {G : GG} {q : Nat → Nat} {N : Nat} {x : XI} {σ' : SS} (C : cx p s m args meth c cX9_next 1 RX9 none G) (hout : ∀ z ∈ c.exceptionTable.toList, False) : ∀ (n : Nat), ∀ (σ : SS) (H : Heap) (locs : List Loc) (ls : Array Slot), F_X9_next_112 N n  σ = some (Sum.inr x, σ') → wx G true q σ H → va_S (fa G) s.heap H locs → lv_has ls 1 [(0, .ref (q 32))] → W p l e rmX9_nextx s m args below meth c H locs 0 0 (vx_MQ below (fun _ _ _ _ => False) (qxx G true q σ' x) args s 1 8 (fa G)) (F0 m 112 ls []) := by
  obtain ⟨hx, hb, hml, hown, hts, -, hlk, hk0, -⟩ := id C
  intro n
  induction n with
  | zero =>
    intro σ H locs ls hF hw hS hl
    cases hF
  | succ n ih =>
    intro σ H locs ls hF hw hS hl
    have hF : B_X9_next_112 N (F_X9_next_112 N n)  σ = some (Sum.inr x, σ') := hF
    unfold B_X9_next_112 at hF
    refine lv_aload_n hx hb dX9_next_112 rfl (lv_at hl 0 rfl) ?_
    refine lv_bipush (v := (48 : Int32)) hx hb dX9_next_113 (by decide) ?_
    refine lv_bipush (v := (57 : Int32)) hx hb dX9_next_115 (by decide) ?_
    obtain ⟨r_66, σ_67, h_68, hF⟩ := bd_e hF
    refine r_callVi (As := [.int (48 : Int32), .int (57 : Int32)]) (rest := []) (i := 32) C hw hS wi_rd rfl (ci := 9) rfl (met_X9_isIn l G q  h_68) (cwV 2 hts (lw_V q318 q320 qs1 q66 q321) rfl rfl rfl (by decide +kernel) ⟨Nat.le_of_ble_eq_true rfl, Nat.le_of_ble_eq_true rfl⟩) rfl hl.1 rfl (Nat.le_of_ble_eq_true rfl) ⟨Nat.zero_le _, Nat.zero_le _⟩ dX9_next_117 (fun H locs hw hS => ?_)
    refine lv_if_eq (tgt := 183) hx hb dX9_next_120 (by decide) (fun c_69 => ?_) (fun c_69 => ?_)
    · have hF := it_e hF c_69
      refine lv_aload_n hx hb dX9_next_183 rfl (lv_at hl 0 rfl) ?_
      refine lv_aload_n hx hb dX9_next_184 rfl (lv_at hl 0 rfl) ?_
      refine r_get9 C hw 3 (by decide) rfl (v := .int (gi σ_67 32 3)) rfl q414 dX9_next_185 ?_
      refine lv_aload_n hx hb dX9_next_188 rfl (lv_at hl 0 rfl) ?_
      refine r_get9 C hw 4 (by decide) rfl (v := .int (gi σ_67 32 4)) rfl q415 dX9_next_189 ?_
      refine lv_isub hx hb dX9_next_192 ?_
      refine lv_iconst (v := (3 : Int32)) hx hb dX9_next_193 (by decide) ?_
      refine lv_icmp_ge (tgt := 201) hx hb dX9_next_194 (by decide) (fun c_70 => ?_) (fun c_70 => ?_)
      · have hF := it_e hF c_70
        refine lv_iconst (v := (0 : Int32)) hx hb dX9_next_201 (by decide) ?_
        exact x_X9_next_202 C hout   _ _ _ _ _ hF hw hS (lv_sub hl [] rfl)
      · have hF := if_e hF c_70
        refine lv_iconst (v := (1 : Int32)) hx hb dX9_next_197 (by decide) ?_
        refine lv_goto (tgt := 202) hx hb dX9_next_198 (by decide) ?_
        exact x_X9_next_202 C hout   _ _ _ _ _ hF hw hS (lv_sub hl [] rfl)
    · have hF := if_e hF c_69
      refine lv_aload_n hx hb dX9_next_123 rfl (lv_at hl 0 rfl) ?_
      refine lv_aload_n hx hb dX9_next_124 rfl (lv_at hl 0 rfl) ?_
      refine r_get9 C hw 3 (by decide) rfl (v := .int (gi σ_67 32 3)) rfl q414 dX9_next_125 ?_
      refine lv_aload_n hx hb dX9_next_128 rfl (lv_at hl 0 rfl) ?_
      refine r_get9 C hw 4 (by decide) rfl (v := .int (gi σ_67 32 4)) rfl q415 dX9_next_129 ?_
      refine lv_isub hx hb dX9_next_132 ?_
      refine lv_iconst (v := (2 : Int32)) hx hb dX9_next_133 (by decide) ?_
      refine lv_icmp_ge (tgt := 163) hx hb dX9_next_134 (by decide) (fun c_71 => ?_) (fun c_71 => ?_)
      · have hF := it_e hF c_71
        refine lv_aload_n hx hb dX9_next_163 rfl (lv_at hl 0 rfl) ?_
        refine r_get9 C hw 6 (by decide) rfl (v := .int (gi σ_67 32 6)) rfl q417 dX9_next_164 ?_
        exact x_X9_next_167 C hout  ih _ _ _ _ _ hF hw hS (lv_sub hl [0] rfl)
      · have hF := if_e hF c_71
        refine lv_bipush (v := (10 : Int32)) hx hb dX9_next_137 (by decide) ?_
        refine lv_aload_n hx hb dX9_next_139 rfl (lv_at hl 0 rfl) ?_
        refine r_get9 C hw 6 (by decide) rfl (v := .int (gi σ_67 32 6)) rfl q417 dX9_next_140 ?_
        refine lv_imul hx hb dX9_next_143 ?_
        refine lv_aload_n hx hb dX9_next_144 rfl (lv_at hl 0 rfl) ?_
        refine r_get9 C hw 7 (by decide) rfl (v := .ref (q 0)) rfl q418 dX9_next_145 ?_
        refine r_get0N C hw 11 (by decide) rfl (v := .ref (q 7)) rfl 24 rfl dX9_next_148 ?_
        refine lv_aload_n hx hb dX9_next_151 rfl (lv_at hl 0 rfl) ?_
        refine r_get9 C hw 3 (by decide) rfl (v := .int (gi σ_67 32 3)) rfl q414 dX9_next_152 ?_
        obtain ⟨h_72, hF⟩ := gd_e hF
        refine r_bald (i := 7) (n := 160) (g := 7) (st := 0) C hw (wi_lo (Or.inl (by decide))) rfl h_72 dX9_next_155 ?_
        refine lv_iadd hx hb dX9_next_156 ?_
        refine lv_bipush (v := (48 : Int32)) hx hb dX9_next_157 (by decide) ?_
        refine lv_isub hx hb dX9_next_159 ?_
        refine lv_goto (tgt := 167) hx hb dX9_next_160 (by decide) ?_
        exact x_X9_next_167 C hout  ih _ _ _ _ _ hF hw hS (lv_sub hl [0] rfl)
noncomputable def B_X9_next_67 (N : Nat) (IH : SS → Option ((Unit ⊕ XI) × SS))  (σ : SS) : Option ((Unit ⊕ XI) × SS) :=
  bd (F_X9_isIn N (97 : Int32) (122 : Int32) σ) fun r_73 σ_74 =>
  if r_73 = (0 : Int32) then
    some (Sum.inl (), σ_74)
  else
    nm (si σ_74 32 3 ((gi σ_74 32 3) + (1 : Int32))) fun σ_77 =>
    IH σ_77
noncomputable def F_X9_next_67 (N : Nat) (n : Nat) : SS → Option ((Unit ⊕ XI) × SS) := Nat.rec (fun  _ => none) (fun _ IH => B_X9_next_67 N IH) n
set_option maxRecDepth 100000 in
theorem w_X9_next_67 {p : Program} {l : Launch} {e : Env} {s : State} {m : MethodId} {args : Array Value} {below : List Frame} {meth : Method} {c : Code} {G : GG} {q : Nat → Nat} {N : Nat} {r : Unit} {σ' : SS} (C : cx p s m args meth c cX9_next 1 RX9 none G) : ∀ (n : Nat), ∀ (σ : SS) (H : Heap) (locs : List Loc) (ls : Array Slot), F_X9_next_67 N n  σ = some (Sum.inl r, σ') → wx G true q σ H → va_S (fa G) s.heap H locs → lv_has ls 1 [(0, .ref (q 32))] → W p l e rmX9_next s m args below meth c H locs 0 0 (MQ below (qxv G true q σ' r) args s 0 0 (fa G)) (F0 m 67 ls []) := by
  obtain ⟨hx, hb, hml, hown, hts, -, hlk, hk0, -⟩ := id C
  intro n
  induction n with
  | zero =>
    intro σ H locs ls hF hw hS hl
    cases hF
  | succ n ih =>
    intro σ H locs ls hF hw hS hl
    have hF : B_X9_next_67 N (F_X9_next_67 N n)  σ = some (Sum.inl r, σ') := hF
    unfold B_X9_next_67 at hF
    refine lv_aload_n hx hb dX9_next_67 rfl (lv_at hl 0 rfl) ?_
    refine lv_bipush (v := (97 : Int32)) hx hb dX9_next_68 (by decide) ?_
    refine lv_bipush (v := (122 : Int32)) hx hb dX9_next_70 (by decide) ?_
    obtain ⟨r_73, σ_74, h_75, hF⟩ := bd_e hF
    refine r_callVi (As := [.int (97 : Int32), .int (122 : Int32)]) (rest := []) (i := 32) C hw hS wi_rd rfl (ci := 9) rfl (met_X9_isIn l G q  h_75) (cwV 2 hts (lw_V q318 q320 qs1 q66 q321) rfl rfl rfl (by decide +kernel) ⟨Nat.le_of_ble_eq_true rfl, Nat.le_of_ble_eq_true rfl⟩) rfl hl.1 rfl (Nat.le_of_ble_eq_true rfl) ⟨Nat.zero_le _, Nat.zero_le _⟩ dX9_next_72 (fun H locs hw hS => ?_)
    refine lv_if_eq (tgt := 237) hx hb dX9_next_75 (by decide) (fun c_76 => ?_) (fun c_76 => ?_)
    · have hF := it_e hF c_76
      exact r_vret C hw hS (so_l hF) dX9_next_237
    · have hF := if_e hF c_76
      refine lv_aload_n hx hb dX9_next_78 rfl (lv_at hl 0 rfl) ?_
      refine lv_dup hx hb dX9_next_79 rfl ?_
      refine r_get9 C hw 3 (by decide) rfl (v := .int (gi σ_74 32 3)) rfl q414 dX9_next_80 ?_
      refine lv_iconst (v := (1 : Int32)) hx hb dX9_next_83 (by decide) ?_
      refine lv_iadd hx hb dX9_next_84 ?_
      obtain ⟨σ_77, eσ_77, hF⟩ := nm_e2 hF
      refine r_put9 C hw hS 3 (by decide) rfl rfl (tyX9_ok 3 (by decide)) rfl rfl q414 dX9_next_85 eσ_77 (fun H locs hw hS => ?_)
      refine lv_goto (tgt := 67) hx hb dX9_next_88 (by decide) ?_
      exact ih  _ _ _ _ hF hw hS (lv_sub hl [0] rfl)
set_option maxRecDepth 100000 in
theorem x_X9_next_67 {p : Program} {l : Launch} {e : Env} {s : State} {m : MethodId} {args : Array Value} {below : List Frame} {meth : Method} {c : Code} {G : GG} {q : Nat → Nat} {N : Nat} {x : XI} {σ' : SS} (C : cx p s m args meth c cX9_next 1 RX9 none G) (hout : ∀ z ∈ c.exceptionTable.toList, False) : ∀ (n : Nat), ∀ (σ : SS) (H : Heap) (locs : List Loc) (ls : Array Slot), F_X9_next_67 N n  σ = some (Sum.inr x, σ') → wx G true q σ H → va_S (fa G) s.heap H locs → lv_has ls 1 [(0, .ref (q 32))] → W p l e rmX9_nextx s m args below meth c H locs 0 0 (vx_MQ below (fun _ _ _ _ => False) (qxx G true q σ' x) args s 1 8 (fa G)) (F0 m 67 ls []) := by
  obtain ⟨hx, hb, hml, hown, hts, -, hlk, hk0, -⟩ := id C
  intro n
  induction n with
  | zero =>
    intro σ H locs ls hF hw hS hl
    cases hF
  | succ n ih =>
    intro σ H locs ls hF hw hS hl
    have hF : B_X9_next_67 N (F_X9_next_67 N n)  σ = some (Sum.inr x, σ') := hF
    unfold B_X9_next_67 at hF
    refine lv_aload_n hx hb dX9_next_67 rfl (lv_at hl 0 rfl) ?_
    refine lv_bipush (v := (97 : Int32)) hx hb dX9_next_68 (by decide) ?_
    refine lv_bipush (v := (122 : Int32)) hx hb dX9_next_70 (by decide) ?_
    obtain ⟨r_78, σ_79, h_80, hF⟩ := bd_e hF
    refine r_callVi (As := [.int (97 : Int32), .int (122 : Int32)]) (rest := []) (i := 32) C hw hS wi_rd rfl (ci := 9) rfl (met_X9_isIn l G q  h_80) (cwV 2 hts (lw_V q318 q320 qs1 q66 q321) rfl rfl rfl (by decide +kernel) ⟨Nat.le_of_ble_eq_true rfl, Nat.le_of_ble_eq_true rfl⟩) rfl hl.1 rfl (Nat.le_of_ble_eq_true rfl) ⟨Nat.zero_le _, Nat.zero_le _⟩ dX9_next_72 (fun H locs hw hS => ?_)
    refine lv_if_eq (tgt := 237) hx hb dX9_next_75 (by decide) (fun c_81 => ?_) (fun c_81 => ?_)
    · have hF := it_e hF c_81
      cases hF
    · have hF := if_e hF c_81
      refine lv_aload_n hx hb dX9_next_78 rfl (lv_at hl 0 rfl) ?_
      refine lv_dup hx hb dX9_next_79 rfl ?_
      refine r_get9 C hw 3 (by decide) rfl (v := .int (gi σ_79 32 3)) rfl q414 dX9_next_80 ?_
      refine lv_iconst (v := (1 : Int32)) hx hb dX9_next_83 (by decide) ?_
      refine lv_iadd hx hb dX9_next_84 ?_
      obtain ⟨σ_82, eσ_82, hF⟩ := nm_e2 hF
      refine r_put9 C hw hS 3 (by decide) rfl rfl (tyX9_ok 3 (by decide)) rfl rfl q414 dX9_next_85 eσ_82 (fun H locs hw hS => ?_)
      refine lv_goto (tgt := 67) hx hb dX9_next_88 (by decide) ?_
      exact ih  _ _ _ _ hF hw hS (lv_sub hl [0] rfl)
noncomputable def B_X9_next_0 (N : Nat) (IH : SS → Option ((Unit ⊕ XI) × SS))  (σ : SS) : Option ((Unit ⊕ XI) × SS) :=
  bd (F_X9_isIn N (32 : Int32) (32 : Int32) σ) fun r_83 σ_84 =>
  if r_83 = (0 : Int32) then
    nm (si σ_84 32 4 (gi σ_84 32 3)) fun σ_87 =>
    if (gi σ_87 32 3) = (gi σ_87 32 0) then
      nm (si σ_87 32 5 (0 : Int32)) fun σ_109 =>
      some (Sum.inl (), σ_109)
    else
      bd (F_X9_isIn N (97 : Int32) (122 : Int32) σ_87) fun r_89 σ_90 =>
      if r_89 = (0 : Int32) then
        bd (F_X9_isIn N (48 : Int32) (57 : Int32) σ_90) fun r_93 σ_94 =>
        if r_93 = (0 : Int32) then
          nm (si σ_94 32 5 (3 : Int32)) fun σ_97 =>
          bd (F_X9_isIn N (59 : Int32) (59 : Int32) σ_97) fun r_98 σ_99 =>
          bdx (F_X9_need N r_98 (1 : Int32) σ_99)
            (fun r_101 σ_102 =>
              nm (si σ_102 32 3 ((gi σ_102 32 3) + (1 : Int32))) fun σ_105 =>
              some (Sum.inl (), σ_105))
            (fun x_104 σ_102 => some (Sum.inr x_104, σ_102))
        else
          nm (si σ_94 32 5 (2 : Int32)) fun σ_106 =>
          nm (si σ_106 32 6 (0 : Int32)) fun σ_107 =>
          F_X9_next_112 N N σ_107
      else
        nm (si σ_90 32 5 (1 : Int32)) fun σ_108 =>
        F_X9_next_67 N N σ_108
  else
    nm (si σ_84 32 3 ((gi σ_84 32 3) + (1 : Int32))) fun σ_110 =>
    IH σ_110
noncomputable def F_X9_next_0 (N : Nat) (n : Nat) : SS → Option ((Unit ⊕ XI) × SS) := Nat.rec (fun  _ => none) (fun _ IH => B_X9_next_0 N IH) n
set_option maxRecDepth 100000 in
theorem w_X9_next_0 {p : Program} {l : Launch} {e : Env} {s : State} {m : MethodId} {args : Array Value} {below : List Frame} {meth : Method} {c : Code} {G : GG} {q : Nat → Nat} {N : Nat} {r : Unit} {σ' : SS} (C : cx p s m args meth c cX9_next 1 RX9 none G) : ∀ (n : Nat), ∀ (σ : SS) (H : Heap) (locs : List Loc) (ls : Array Slot), F_X9_next_0 N n  σ = some (Sum.inl r, σ') → wx G true q σ H → va_S (fa G) s.heap H locs → lv_has ls 1 [(0, .ref (q 32))] → W p l e rmX9_next s m args below meth c H locs 0 0 (MQ below (qxv G true q σ' r) args s 0 0 (fa G)) (F0 m 0 ls []) := by
  obtain ⟨hx, hb, hml, hown, hts, -, hlk, hk0, -⟩ := id C
  intro n
  induction n with
  | zero =>
    intro σ H locs ls hF hw hS hl
    cases hF
  | succ n ih =>
    intro σ H locs ls hF hw hS hl
    have hF : B_X9_next_0 N (F_X9_next_0 N n)  σ = some (Sum.inl r, σ') := hF
    unfold B_X9_next_0 at hF
    refine lv_aload_n hx hb dX9_next_0 rfl (lv_at hl 0 rfl) ?_
    refine lv_bipush (v := (32 : Int32)) hx hb dX9_next_1 (by decide) ?_
    refine lv_bipush (v := (32 : Int32)) hx hb dX9_next_3 (by decide) ?_
    obtain ⟨r_83, σ_84, h_85, hF⟩ := bd_e hF
    refine r_callVi (As := [.int (32 : Int32), .int (32 : Int32)]) (rest := []) (i := 32) C hw hS wi_rd rfl (ci := 9) rfl (met_X9_isIn l G q  h_85) (cwV 2 hts (lw_V q318 q320 qs1 q66 q321) rfl rfl rfl (by decide +kernel) ⟨Nat.le_of_ble_eq_true rfl, Nat.le_of_ble_eq_true rfl⟩) rfl hl.1 rfl (Nat.le_of_ble_eq_true rfl) ⟨Nat.zero_le _, Nat.zero_le _⟩ dX9_next_5 (fun H locs hw hS => ?_)
    refine lv_if_eq (tgt := 24) hx hb dX9_next_8 (by decide) (fun c_86 => ?_) (fun c_86 => ?_)
    · have hF := it_e hF c_86
      refine lv_aload_n hx hb dX9_next_24 rfl (lv_at hl 0 rfl) ?_
      refine lv_aload_n hx hb dX9_next_25 rfl (lv_at hl 0 rfl) ?_
      refine r_get9 C hw 3 (by decide) rfl (v := .int (gi σ_84 32 3)) rfl q414 dX9_next_26 ?_
      obtain ⟨σ_87, eσ_87, hF⟩ := nm_e2 hF
      refine r_put9 C hw hS 4 (by decide) rfl rfl (tyX9_ok 4 (by decide)) rfl rfl q415 dX9_next_29 eσ_87 (fun H locs hw hS => ?_)
      refine lv_aload_n hx hb dX9_next_32 rfl (lv_at hl 0 rfl) ?_
      refine r_get9 C hw 3 (by decide) rfl (v := .int (gi σ_87 32 3)) rfl q414 dX9_next_33 ?_
      refine lv_aload_n hx hb dX9_next_36 rfl (lv_at hl 0 rfl) ?_
      refine r_get9 C hw 0 (by decide) rfl (v := .int (gi σ_87 32 0)) rfl q410 dX9_next_37 ?_
      refine lv_icmp_ne (tgt := 51) hx hb dX9_next_40 (by decide) (fun c_88 => ?_) (fun c_88 => ?_)
      · have hF := if_e hF c_88
        refine lv_aload_n hx hb dX9_next_51 rfl (lv_at hl 0 rfl) ?_
        refine lv_bipush (v := (97 : Int32)) hx hb dX9_next_52 (by decide) ?_
        refine lv_bipush (v := (122 : Int32)) hx hb dX9_next_54 (by decide) ?_
        obtain ⟨r_89, σ_90, h_91, hF⟩ := bd_e hF
        refine r_callVi (As := [.int (97 : Int32), .int (122 : Int32)]) (rest := []) (i := 32) C hw hS wi_rd rfl (ci := 9) rfl (met_X9_isIn l G q  h_91) (cwV 2 hts (lw_V q318 q320 qs1 q66 q321) rfl rfl rfl (by decide +kernel) ⟨Nat.le_of_ble_eq_true rfl, Nat.le_of_ble_eq_true rfl⟩) rfl hl.1 rfl (Nat.le_of_ble_eq_true rfl) ⟨Nat.zero_le _, Nat.zero_le _⟩ dX9_next_56 (fun H locs hw hS => ?_)
        refine lv_if_eq (tgt := 91) hx hb dX9_next_59 (by decide) (fun c_92 => ?_) (fun c_92 => ?_)
        · have hF := it_e hF c_92
          refine lv_aload_n hx hb dX9_next_91 rfl (lv_at hl 0 rfl) ?_
          refine lv_bipush (v := (48 : Int32)) hx hb dX9_next_92 (by decide) ?_
          refine lv_bipush (v := (57 : Int32)) hx hb dX9_next_94 (by decide) ?_
          obtain ⟨r_93, σ_94, h_95, hF⟩ := bd_e hF
          refine r_callVi (As := [.int (48 : Int32), .int (57 : Int32)]) (rest := []) (i := 32) C hw hS wi_rd rfl (ci := 9) rfl (met_X9_isIn l G q  h_95) (cwV 2 hts (lw_V q318 q320 qs1 q66 q321) rfl rfl rfl (by decide +kernel) ⟨Nat.le_of_ble_eq_true rfl, Nat.le_of_ble_eq_true rfl⟩) rfl hl.1 rfl (Nat.le_of_ble_eq_true rfl) ⟨Nat.zero_le _, Nat.zero_le _⟩ dX9_next_96 (fun H locs hw hS => ?_)
          refine lv_if_eq (tgt := 209) hx hb dX9_next_99 (by decide) (fun c_96 => ?_) (fun c_96 => ?_)
          · have hF := it_e hF c_96
            refine lv_aload_n hx hb dX9_next_209 rfl (lv_at hl 0 rfl) ?_
            refine lv_iconst (v := (3 : Int32)) hx hb dX9_next_210 (by decide) ?_
            obtain ⟨σ_97, eσ_97, hF⟩ := nm_e2 hF
            refine r_put9 C hw hS 5 (by decide) rfl rfl (tyX9_ok 5 (by decide)) rfl rfl q416 dX9_next_211 eσ_97 (fun H locs hw hS => ?_)
            refine lv_aload_n hx hb dX9_next_214 rfl (lv_at hl 0 rfl) ?_
            refine lv_aload_n hx hb dX9_next_215 rfl (lv_at hl 0 rfl) ?_
            refine lv_bipush (v := (59 : Int32)) hx hb dX9_next_216 (by decide) ?_
            refine lv_bipush (v := (59 : Int32)) hx hb dX9_next_218 (by decide) ?_
            obtain ⟨r_98, σ_99, h_100, hF⟩ := bd_e hF
            refine r_callVi (As := [.int (59 : Int32), .int (59 : Int32)]) (rest := [.ref (q 32)]) (i := 32) C hw hS wi_rd rfl (ci := 9) rfl (met_X9_isIn l G q  h_100) (cwV 2 hts (lw_V q318 q320 qs1 q66 q321) rfl rfl rfl (by decide +kernel) ⟨Nat.le_of_ble_eq_true rfl, Nat.le_of_ble_eq_true rfl⟩) rfl hl.1 rfl (Nat.le_of_ble_eq_true rfl) ⟨Nat.zero_le _, Nat.zero_le _⟩ dX9_next_220 (fun H locs hw hS => ?_)
            refine lv_iconst (v := (1 : Int32)) hx hb dX9_next_223 (by decide) ?_
            rcases bdx_e hF with ⟨r_101, σ_102, h_103, hF⟩ | ⟨x_104, σ_102, h_103, hF⟩
            · refine r_callVv (As := [.int r_98, .int (1 : Int32)]) (rest := []) (i := 32) C hw hS wi_rd rfl (ci := 9) rfl (met_X9_need l G q  h_103) (cwV 2 hts (lw_V q322 q324 qs2 q66 q325) rfl rfl rfl (by decide +kernel) ⟨Nat.le_of_ble_eq_true rfl, Nat.le_of_ble_eq_true rfl⟩) rfl hl.1 rfl (Nat.le_of_ble_eq_true rfl) ⟨Nat.zero_le _, Nat.zero_le _⟩ dX9_next_224 (fun H locs hw hS => ?_)
              refine lv_aload_n hx hb dX9_next_227 rfl (lv_at hl 0 rfl) ?_
              refine lv_dup hx hb dX9_next_228 rfl ?_
              refine r_get9 C hw 3 (by decide) rfl (v := .int (gi σ_102 32 3)) rfl q414 dX9_next_229 ?_
              refine lv_iconst (v := (1 : Int32)) hx hb dX9_next_232 (by decide) ?_
              refine lv_iadd hx hb dX9_next_233 ?_
              obtain ⟨σ_105, eσ_105, hF⟩ := nm_e2 hF
              refine r_put9 C hw hS 3 (by decide) rfl rfl (tyX9_ok 3 (by decide)) rfl rfl q414 dX9_next_234 eσ_105 (fun H locs hw hS => ?_)
              exact r_vret C hw hS (so_l hF) dX9_next_237
            · cases hF
          · have hF := if_e hF c_96
            refine lv_aload_n hx hb dX9_next_102 rfl (lv_at hl 0 rfl) ?_
            refine lv_iconst (v := (2 : Int32)) hx hb dX9_next_103 (by decide) ?_
            obtain ⟨σ_106, eσ_106, hF⟩ := nm_e2 hF
            refine r_put9 C hw hS 5 (by decide) rfl rfl (tyX9_ok 5 (by decide)) rfl rfl q416 dX9_next_104 eσ_106 (fun H locs hw hS => ?_)
            refine lv_aload_n hx hb dX9_next_107 rfl (lv_at hl 0 rfl) ?_
            refine lv_iconst (v := (0 : Int32)) hx hb dX9_next_108 (by decide) ?_
            obtain ⟨σ_107, eσ_107, hF⟩ := nm_e2 hF
            refine r_put9 C hw hS 6 (by decide) rfl rfl (tyX9_ok 6 (by decide)) rfl rfl q417 dX9_next_109 eσ_107 (fun H locs hw hS => ?_)
            exact w_X9_next_112 C   N  _ _ _ _ hF hw hS (lv_sub hl [0] rfl)
        · have hF := if_e hF c_92
          refine lv_aload_n hx hb dX9_next_62 rfl (lv_at hl 0 rfl) ?_
          refine lv_iconst (v := (1 : Int32)) hx hb dX9_next_63 (by decide) ?_
          obtain ⟨σ_108, eσ_108, hF⟩ := nm_e2 hF
          refine r_put9 C hw hS 5 (by decide) rfl rfl (tyX9_ok 5 (by decide)) rfl rfl q416 dX9_next_64 eσ_108 (fun H locs hw hS => ?_)
          exact w_X9_next_67 C   N  _ _ _ _ hF hw hS (lv_sub hl [0] rfl)
      · have hF := it_e hF c_88
        refine lv_aload_n hx hb dX9_next_43 rfl (lv_at hl 0 rfl) ?_
        refine lv_iconst (v := (0 : Int32)) hx hb dX9_next_44 (by decide) ?_
        obtain ⟨σ_109, eσ_109, hF⟩ := nm_e2 hF
        refine r_put9 C hw hS 5 (by decide) rfl rfl (tyX9_ok 5 (by decide)) rfl rfl q416 dX9_next_45 eσ_109 (fun H locs hw hS => ?_)
        refine lv_goto (tgt := 237) hx hb dX9_next_48 (by decide) ?_
        exact r_vret C hw hS (so_l hF) dX9_next_237
    · have hF := if_e hF c_86
      refine lv_aload_n hx hb dX9_next_11 rfl (lv_at hl 0 rfl) ?_
      refine lv_dup hx hb dX9_next_12 rfl ?_
      refine r_get9 C hw 3 (by decide) rfl (v := .int (gi σ_84 32 3)) rfl q414 dX9_next_13 ?_
      refine lv_iconst (v := (1 : Int32)) hx hb dX9_next_16 (by decide) ?_
      refine lv_iadd hx hb dX9_next_17 ?_
      obtain ⟨σ_110, eσ_110, hF⟩ := nm_e2 hF
      refine r_put9 C hw hS 3 (by decide) rfl rfl (tyX9_ok 3 (by decide)) rfl rfl q414 dX9_next_18 eσ_110 (fun H locs hw hS => ?_)
      refine lv_goto (tgt := 0) hx hb dX9_next_21 (by decide) ?_
      exact ih  _ _ _ _ hF hw hS (lv_sub hl [0] rfl)
set_option maxRecDepth 100000 in
theorem x_X9_next_0 {p : Program} {l : Launch} {e : Env} {s : State} {m : MethodId} {args : Array Value} {below : List Frame} {meth : Method} {c : Code} {G : GG} {q : Nat → Nat} {N : Nat} {x : XI} {σ' : SS} (C : cx p s m args meth c cX9_next 1 RX9 none G) (hout : ∀ z ∈ c.exceptionTable.toList, False) : ∀ (n : Nat), ∀ (σ : SS) (H : Heap) (locs : List Loc) (ls : Array Slot), F_X9_next_0 N n  σ = some (Sum.inr x, σ') → wx G true q σ H → va_S (fa G) s.heap H locs → lv_has ls 1 [(0, .ref (q 32))] → W p l e rmX9_nextx s m args below meth c H locs 0 0 (vx_MQ below (fun _ _ _ _ => False) (qxx G true q σ' x) args s 1 8 (fa G)) (F0 m 0 ls []) := by
  obtain ⟨hx, hb, hml, hown, hts, -, hlk, hk0, -⟩ := id C
  intro n
  induction n with
  | zero =>
    intro σ H locs ls hF hw hS hl
    cases hF
  | succ n ih =>
    intro σ H locs ls hF hw hS hl
    have hF : B_X9_next_0 N (F_X9_next_0 N n)  σ = some (Sum.inr x, σ') := hF
    unfold B_X9_next_0 at hF
    refine lv_aload_n hx hb dX9_next_0 rfl (lv_at hl 0 rfl) ?_
    refine lv_bipush (v := (32 : Int32)) hx hb dX9_next_1 (by decide) ?_
    refine lv_bipush (v := (32 : Int32)) hx hb dX9_next_3 (by decide) ?_
    obtain ⟨r_111, σ_112, h_113, hF⟩ := bd_e hF
    refine r_callVi (As := [.int (32 : Int32), .int (32 : Int32)]) (rest := []) (i := 32) C hw hS wi_rd rfl (ci := 9) rfl (met_X9_isIn l G q  h_113) (cwV 2 hts (lw_V q318 q320 qs1 q66 q321) rfl rfl rfl (by decide +kernel) ⟨Nat.le_of_ble_eq_true rfl, Nat.le_of_ble_eq_true rfl⟩) rfl hl.1 rfl (Nat.le_of_ble_eq_true rfl) ⟨Nat.zero_le _, Nat.zero_le _⟩ dX9_next_5 (fun H locs hw hS => ?_)
    refine lv_if_eq (tgt := 24) hx hb dX9_next_8 (by decide) (fun c_114 => ?_) (fun c_114 => ?_)
    · have hF := it_e hF c_114
      refine lv_aload_n hx hb dX9_next_24 rfl (lv_at hl 0 rfl) ?_
      refine lv_aload_n hx hb dX9_next_25 rfl (lv_at hl 0 rfl) ?_
      refine r_get9 C hw 3 (by decide) rfl (v := .int (gi σ_112 32 3)) rfl q414 dX9_next_26 ?_
      obtain ⟨σ_115, eσ_115, hF⟩ := nm_e2 hF
      refine r_put9 C hw hS 4 (by decide) rfl rfl (tyX9_ok 4 (by decide)) rfl rfl q415 dX9_next_29 eσ_115 (fun H locs hw hS => ?_)
      refine lv_aload_n hx hb dX9_next_32 rfl (lv_at hl 0 rfl) ?_
      refine r_get9 C hw 3 (by decide) rfl (v := .int (gi σ_115 32 3)) rfl q414 dX9_next_33 ?_
      refine lv_aload_n hx hb dX9_next_36 rfl (lv_at hl 0 rfl) ?_
      refine r_get9 C hw 0 (by decide) rfl (v := .int (gi σ_115 32 0)) rfl q410 dX9_next_37 ?_
      refine lv_icmp_ne (tgt := 51) hx hb dX9_next_40 (by decide) (fun c_116 => ?_) (fun c_116 => ?_)
      · have hF := if_e hF c_116
        refine lv_aload_n hx hb dX9_next_51 rfl (lv_at hl 0 rfl) ?_
        refine lv_bipush (v := (97 : Int32)) hx hb dX9_next_52 (by decide) ?_
        refine lv_bipush (v := (122 : Int32)) hx hb dX9_next_54 (by decide) ?_
        obtain ⟨r_117, σ_118, h_119, hF⟩ := bd_e hF
        refine r_callVi (As := [.int (97 : Int32), .int (122 : Int32)]) (rest := []) (i := 32) C hw hS wi_rd rfl (ci := 9) rfl (met_X9_isIn l G q  h_119) (cwV 2 hts (lw_V q318 q320 qs1 q66 q321) rfl rfl rfl (by decide +kernel) ⟨Nat.le_of_ble_eq_true rfl, Nat.le_of_ble_eq_true rfl⟩) rfl hl.1 rfl (Nat.le_of_ble_eq_true rfl) ⟨Nat.zero_le _, Nat.zero_le _⟩ dX9_next_56 (fun H locs hw hS => ?_)
        refine lv_if_eq (tgt := 91) hx hb dX9_next_59 (by decide) (fun c_120 => ?_) (fun c_120 => ?_)
        · have hF := it_e hF c_120
          refine lv_aload_n hx hb dX9_next_91 rfl (lv_at hl 0 rfl) ?_
          refine lv_bipush (v := (48 : Int32)) hx hb dX9_next_92 (by decide) ?_
          refine lv_bipush (v := (57 : Int32)) hx hb dX9_next_94 (by decide) ?_
          obtain ⟨r_121, σ_122, h_123, hF⟩ := bd_e hF
          refine r_callVi (As := [.int (48 : Int32), .int (57 : Int32)]) (rest := []) (i := 32) C hw hS wi_rd rfl (ci := 9) rfl (met_X9_isIn l G q  h_123) (cwV 2 hts (lw_V q318 q320 qs1 q66 q321) rfl rfl rfl (by decide +kernel) ⟨Nat.le_of_ble_eq_true rfl, Nat.le_of_ble_eq_true rfl⟩) rfl hl.1 rfl (Nat.le_of_ble_eq_true rfl) ⟨Nat.zero_le _, Nat.zero_le _⟩ dX9_next_96 (fun H locs hw hS => ?_)
          refine lv_if_eq (tgt := 209) hx hb dX9_next_99 (by decide) (fun c_124 => ?_) (fun c_124 => ?_)
          · have hF := it_e hF c_124
            refine lv_aload_n hx hb dX9_next_209 rfl (lv_at hl 0 rfl) ?_
            refine lv_iconst (v := (3 : Int32)) hx hb dX9_next_210 (by decide) ?_
            obtain ⟨σ_125, eσ_125, hF⟩ := nm_e2 hF
            refine r_put9 C hw hS 5 (by decide) rfl rfl (tyX9_ok 5 (by decide)) rfl rfl q416 dX9_next_211 eσ_125 (fun H locs hw hS => ?_)
            refine lv_aload_n hx hb dX9_next_214 rfl (lv_at hl 0 rfl) ?_
            refine lv_aload_n hx hb dX9_next_215 rfl (lv_at hl 0 rfl) ?_
            refine lv_bipush (v := (59 : Int32)) hx hb dX9_next_216 (by decide) ?_
            refine lv_bipush (v := (59 : Int32)) hx hb dX9_next_218 (by decide) ?_
            obtain ⟨r_126, σ_127, h_128, hF⟩ := bd_e hF
            refine r_callVi (As := [.int (59 : Int32), .int (59 : Int32)]) (rest := [.ref (q 32)]) (i := 32) C hw hS wi_rd rfl (ci := 9) rfl (met_X9_isIn l G q  h_128) (cwV 2 hts (lw_V q318 q320 qs1 q66 q321) rfl rfl rfl (by decide +kernel) ⟨Nat.le_of_ble_eq_true rfl, Nat.le_of_ble_eq_true rfl⟩) rfl hl.1 rfl (Nat.le_of_ble_eq_true rfl) ⟨Nat.zero_le _, Nat.zero_le _⟩ dX9_next_220 (fun H locs hw hS => ?_)
            refine lv_iconst (v := (1 : Int32)) hx hb dX9_next_223 (by decide) ?_
            rcases bdx_e hF with ⟨r_129, σ_130, h_131, hF⟩ | ⟨x_132, σ_130, h_131, hF⟩
            · refine r_callVv (As := [.int r_126, .int (1 : Int32)]) (rest := []) (i := 32) C hw hS wi_rd rfl (ci := 9) rfl (met_X9_need l G q  h_131) (cwV 2 hts (lw_V q322 q324 qs2 q66 q325) rfl rfl rfl (by decide +kernel) ⟨Nat.le_of_ble_eq_true rfl, Nat.le_of_ble_eq_true rfl⟩) rfl hl.1 rfl (Nat.le_of_ble_eq_true rfl) ⟨Nat.zero_le _, Nat.zero_le _⟩ dX9_next_224 (fun H locs hw hS => ?_)
              refine lv_aload_n hx hb dX9_next_227 rfl (lv_at hl 0 rfl) ?_
              refine lv_dup hx hb dX9_next_228 rfl ?_
              refine r_get9 C hw 3 (by decide) rfl (v := .int (gi σ_130 32 3)) rfl q414 dX9_next_229 ?_
              refine lv_iconst (v := (1 : Int32)) hx hb dX9_next_232 (by decide) ?_
              refine lv_iadd hx hb dX9_next_233 ?_
              obtain ⟨σ_133, eσ_133, hF⟩ := nm_e2 hF
              refine r_put9 C hw hS 3 (by decide) rfl rfl (tyX9_ok 3 (by decide)) rfl rfl q414 dX9_next_234 eσ_133 (fun H locs hw hS => ?_)
              cases hF
            · refine r_callVx (As := [.int r_126, .int (1 : Int32)]) (rest := []) (i := 32) C hw hS wi_rd rfl (ci := 9) rfl (mex_X9_need l G q  h_131) (cwV 2 hts (lw_V q322 q324 qs2 q66 q325) rfl rfl rfl (by decide +kernel) ⟨Nat.le_of_ble_eq_true rfl, Nat.le_of_ble_eq_true rfl⟩) rfl hl.1 rfl (Nat.le_of_ble_eq_true rfl) ⟨Nat.le_of_ble_eq_true rfl, Nat.le_of_ble_eq_true rfl⟩ dX9_next_224 (fun H locs q9 ce hw hS h9 hv9 hc9 hft9 => ?_)
              obtain ⟨rfl, rfl⟩ := so_r hF
              exact vx_out (fun z hz => (hout z hz).elim) hlk h9 hv9 hc9 (fun t ht _ => ⟨(), trivial, ⟨rfl, by subst ht; exact hw, by subst ht; exact hft9⟩, hS.F ht⟩) hS.2.2 (Nat.le_of_ble_eq_true rfl) (Nat.le_of_ble_eq_true rfl)
          · have hF := if_e hF c_124
            refine lv_aload_n hx hb dX9_next_102 rfl (lv_at hl 0 rfl) ?_
            refine lv_iconst (v := (2 : Int32)) hx hb dX9_next_103 (by decide) ?_
            obtain ⟨σ_134, eσ_134, hF⟩ := nm_e2 hF
            refine r_put9 C hw hS 5 (by decide) rfl rfl (tyX9_ok 5 (by decide)) rfl rfl q416 dX9_next_104 eσ_134 (fun H locs hw hS => ?_)
            refine lv_aload_n hx hb dX9_next_107 rfl (lv_at hl 0 rfl) ?_
            refine lv_iconst (v := (0 : Int32)) hx hb dX9_next_108 (by decide) ?_
            obtain ⟨σ_135, eσ_135, hF⟩ := nm_e2 hF
            refine r_put9 C hw hS 6 (by decide) rfl rfl (tyX9_ok 6 (by decide)) rfl rfl q417 dX9_next_109 eσ_135 (fun H locs hw hS => ?_)
            exact x_X9_next_112 C hout   N  _ _ _ _ hF hw hS (lv_sub hl [0] rfl)
        · have hF := if_e hF c_120
          refine lv_aload_n hx hb dX9_next_62 rfl (lv_at hl 0 rfl) ?_
          refine lv_iconst (v := (1 : Int32)) hx hb dX9_next_63 (by decide) ?_
          obtain ⟨σ_136, eσ_136, hF⟩ := nm_e2 hF
          refine r_put9 C hw hS 5 (by decide) rfl rfl (tyX9_ok 5 (by decide)) rfl rfl q416 dX9_next_64 eσ_136 (fun H locs hw hS => ?_)
          exact x_X9_next_67 C hout   N  _ _ _ _ hF hw hS (lv_sub hl [0] rfl)
      · have hF := it_e hF c_116
        refine lv_aload_n hx hb dX9_next_43 rfl (lv_at hl 0 rfl) ?_
        refine lv_iconst (v := (0 : Int32)) hx hb dX9_next_44 (by decide) ?_
        obtain ⟨σ_137, eσ_137, hF⟩ := nm_e2 hF
        refine r_put9 C hw hS 5 (by decide) rfl rfl (tyX9_ok 5 (by decide)) rfl rfl q416 dX9_next_45 eσ_137 (fun H locs hw hS => ?_)
        refine lv_goto (tgt := 237) hx hb dX9_next_48 (by decide) ?_
        cases hF
    · have hF := if_e hF c_114
      refine lv_aload_n hx hb dX9_next_11 rfl (lv_at hl 0 rfl) ?_
      refine lv_dup hx hb dX9_next_12 rfl ?_
      refine r_get9 C hw 3 (by decide) rfl (v := .int (gi σ_112 32 3)) rfl q414 dX9_next_13 ?_
      refine lv_iconst (v := (1 : Int32)) hx hb dX9_next_16 (by decide) ?_
      refine lv_iadd hx hb dX9_next_17 ?_
      obtain ⟨σ_138, eσ_138, hF⟩ := nm_e2 hF
      refine r_put9 C hw hS 3 (by decide) rfl rfl (tyX9_ok 3 (by decide)) rfl rfl q414 dX9_next_18 eσ_138 (fun H locs hw hS => ?_)
      refine lv_goto (tgt := 0) hx hb dX9_next_21 (by decide) ?_
      exact ih  _ _ _ _ hF hw hS (lv_sub hl [0] rfl)
noncomputable def F_X9_next (N : Nat)  (σ : SS) : Option ((Unit ⊕ XI) × SS) :=
  F_X9_next_0 N N σ
set_option maxRecDepth 100000 in
theorem met_X9_next (l : Launch) (G : GG) (q : Nat → Nat) {N : Nat} {σ σ' : SS} {r : Unit} (hF : F_X9_next N  σ = some (Sum.inl r, σ')) : Met l yX9_next (ws_ yX9_next cX9_next 1 none) rmX9_next (pcx G true q σ [.ref (q 32)]) (qxv G true q σ' r) 0 0 (fa G) := by
  refine met_of (by decide) (Nat.le_of_ble_eq_true rfl) ?_
  intro p e s m below meth c C H locs ls hw hS hl
  obtain ⟨hx, hb, hml, hown, hts, -, hlk, hk0, -⟩ := id C
  have hl : lv_has ls 1 [(0, .ref (q 32))] := hl
  unfold F_X9_next at hF
  exact w_X9_next_0 C   N  _ _ _ _ hF hw hS (lv_sub hl [0] rfl)
set_option maxRecDepth 100000 in
theorem mex_X9_next (l : Launch) (G : GG) (q : Nat → Nat) {N : Nat} {σ σ' : SS} {x : XI} (hF : F_X9_next N  σ = some (Sum.inr x, σ')) : vx_Met l yX9_next (ws_ yX9_next cX9_next 1 none) rmX9_nextx (pcx G true q σ [.ref (q 32)]) (fun _ _ _ _ => False) (qxx G true q σ' x) 1 8 (fa G) := by
  refine met_ofX (by decide) (Nat.le_of_ble_eq_true rfl) ?_
  intro p e s m below meth c C hout H locs ls hw hS hl
  obtain ⟨hx, hb, hml, hown, hts, -, hlk, hk0, -⟩ := id C
  have hl : lv_has ls 1 [(0, .ref (q 32))] := hl
  unfold F_X9_next at hF
  exact x_X9_next_0 C hout   N  _ _ _ _ hF hw hS (lv_sub hl [0] rfl)
abbrev rmX9_taken : Room := { frames := 7, cells := 0, slots := 0, locals := 242 }
abbrev rmX9_takenx : Room := { frames := 7, cells := 1, slots := 8, locals := 242 }
noncomputable def F_X9_taken_14 (N : Nat) (x1 : Int32) (x2 : Int32) (z0 : Int32) (σ : SS) : Option ((Int32 ⊕ XI) × SS) :=
  bdx (F_X9_need N z0 (2 : Int32) σ)
    (fun r_18 σ_19 =>
      bd (F_X0_in N ((gi σ_19 32 6).toInt64) x1.toInt64 x2.toInt64 σ_19) fun r_22 σ_23 =>
      bdx (F_X9_need N r_22 (3 : Int32) σ_23)
        (fun r_25 σ_26 =>
          nm (gi σ_26 32 6) fun x_29 =>
          bdx (F_X9_next N σ_26)
            (fun r_30 σ_31 =>
              some (Sum.inl (x_29), σ_31))
            (fun x_33 σ_31 => some (Sum.inr x_33, σ_31)))
        (fun x_28 σ_26 => some (Sum.inr x_28, σ_26)))
    (fun x_21 σ_19 => some (Sum.inr x_21, σ_19))
set_option maxRecDepth 100000 in
theorem w_X9_taken_14 {p : Program} {l : Launch} {e : Env} {s : State} {m : MethodId} {args : Array Value} {below : List Frame} {meth : Method} {c : Code} {G : GG} {q : Nat → Nat} {N : Nat} {r : Int32} {σ' : SS} (C : cx p s m args meth c cX9_taken 4 RX9 (some .int) G) : ∀ (x1 : Int32) (x2 : Int32) (z0 : Int32) (σ : SS) (H : Heap) (locs : List Loc) (ls : Array Slot), F_X9_taken_14 N x1 x2 z0 σ = some (Sum.inl r, σ') → wx G true q σ H → va_S (fa G) s.heap H locs → lv_has ls 4 [(0, .ref (q 32)), (1, .int x1), (2, .int x2)] → W p l e rmX9_taken s m args below meth c H locs 0 0 (MQ below (qxi G true q σ' r) args s 0 0 (fa G)) (F0 m 14 ls [.int z0, .ref (q 32)]) := by
  obtain ⟨hx, hb, hml, hown, hts, -, hlk, hk0, -⟩ := id C
  intro x1 x2 z0 σ H locs ls hF hw hS hl
  unfold F_X9_taken_14 at hF
  refine lv_iconst (v := (2 : Int32)) hx hb dX9_taken_14 (by decide) ?_
  rcases bdx_e hF with ⟨r_18, σ_19, h_20, hF⟩ | ⟨x_21, σ_19, h_20, hF⟩
  · refine r_callVv (As := [.int z0, .int (2 : Int32)]) (rest := []) (i := 32) C hw hS wi_rd rfl (ci := 9) rfl (met_X9_need l G q  h_20) (cwV 2 hts (lw_V q322 q324 qs2 q66 q325) rfl rfl rfl (by decide +kernel) ⟨Nat.le_of_ble_eq_true rfl, Nat.le_of_ble_eq_true rfl⟩) rfl hl.1 rfl (Nat.le_of_ble_eq_true rfl) ⟨Nat.zero_le _, Nat.zero_le _⟩ dX9_taken_15 (fun H locs hw hS => ?_)
    refine lv_aload_n hx hb dX9_taken_18 rfl (lv_at hl 0 rfl) ?_
    refine lv_aload_n hx hb dX9_taken_19 rfl (lv_at hl 0 rfl) ?_
    refine r_get9 C hw 6 (by decide) rfl (v := .int (gi σ_19 32 6)) rfl q417 dX9_taken_20 ?_
    refine lv_i2l hx hb dX9_taken_23 rfl ?_
    refine lv_iload_n hx hb dX9_taken_24 rfl (lv_at hl 1 rfl) ?_
    refine lv_i2l hx hb dX9_taken_25 rfl ?_
    refine lv_iload_n hx hb dX9_taken_26 rfl (lv_at hl 2 rfl) ?_
    refine lv_i2l hx hb dX9_taken_27 rfl ?_
    obtain ⟨r_22, σ_23, h_24, hF⟩ := bd_e hF
    refine r_callSiN (As := [.long ((gi σ_19 32 6).toInt64), .long x1.toInt64, .long x2.toInt64]) (rest := [.ref (q 32)]) C hw hS (met_X0_in l G true q  h_24) ⟨va_cnB 3 hts (lw_meth q296) rfl rfl rfl (hk0.2.2.1 _ (List.mem_of_getElem? (i := 11) rfl)) (hts _ q57) (by decide +kernel) ⟨Nat.le_of_ble_eq_true rfl, Nat.le_of_ble_eq_true rfl⟩, hts _ q295, trivial⟩ rfl hl.1 rfl (Nat.le_of_ble_eq_true rfl) ⟨Nat.zero_le _, Nat.zero_le _⟩ dX9_taken_28 (fun H locs hw hS => ?_)
    refine lv_iconst (v := (3 : Int32)) hx hb dX9_taken_31 (by decide) ?_
    rcases bdx_e hF with ⟨r_25, σ_26, h_27, hF⟩ | ⟨x_28, σ_26, h_27, hF⟩
    · refine r_callVv (As := [.int r_22, .int (3 : Int32)]) (rest := []) (i := 32) C hw hS wi_rd rfl (ci := 9) rfl (met_X9_need l G q  h_27) (cwV 2 hts (lw_V q322 q324 qs2 q66 q325) rfl rfl rfl (by decide +kernel) ⟨Nat.le_of_ble_eq_true rfl, Nat.le_of_ble_eq_true rfl⟩) rfl hl.1 rfl (Nat.le_of_ble_eq_true rfl) ⟨Nat.zero_le _, Nat.zero_le _⟩ dX9_taken_32 (fun H locs hw hS => ?_)
      refine lv_aload_n hx hb dX9_taken_35 rfl (lv_at hl 0 rfl) ?_
      refine r_get9 C hw 6 (by decide) rfl (v := .int (gi σ_26 32 6)) rfl q417 dX9_taken_36 ?_
      obtain ⟨x_29, ex_29, hF⟩ := nm_e2 hF
      refine r_topi ex_29 ?_
      refine lv_istore_n (lv' := [(3, .int x_29), (0, .ref (q 32)), (1, .int x1), (2, .int x2)]) hx hb dX9_taken_39 rfl hl (by decide) rfl (fun ls hl => ?_)
      refine lv_aload_n hx hb dX9_taken_40 rfl (lv_at hl 1 rfl) ?_
      rcases bdx_e hF with ⟨r_30, σ_31, h_32, hF⟩ | ⟨x_33, σ_31, h_32, hF⟩
      · refine r_callVv (As := []) (rest := []) (i := 32) C hw hS wi_rd rfl (ci := 9) rfl (met_X9_next l G q  h_32) (cwV 0 hts (lw_V q314 q316 qs0 q66 q317) rfl rfl rfl (by decide +kernel) ⟨Nat.le_of_ble_eq_true rfl, Nat.le_of_ble_eq_true rfl⟩) rfl hl.1 rfl (Nat.le_of_ble_eq_true rfl) ⟨Nat.zero_le _, Nat.zero_le _⟩ dX9_taken_41 (fun H locs hw hS => ?_)
        refine lv_iload_n hx hb dX9_taken_44 rfl (lv_at hl 0 rfl) ?_
        exact r_iret C hw hS (so_l hF) dX9_taken_45
      · cases hF
    · cases hF
  · cases hF
set_option maxRecDepth 100000 in
theorem x_X9_taken_14 {p : Program} {l : Launch} {e : Env} {s : State} {m : MethodId} {args : Array Value} {below : List Frame} {meth : Method} {c : Code} {G : GG} {q : Nat → Nat} {N : Nat} {x : XI} {σ' : SS} (C : cx p s m args meth c cX9_taken 4 RX9 (some .int) G) (hout : ∀ z ∈ c.exceptionTable.toList, False) : ∀ (x1 : Int32) (x2 : Int32) (z0 : Int32) (σ : SS) (H : Heap) (locs : List Loc) (ls : Array Slot), F_X9_taken_14 N x1 x2 z0 σ = some (Sum.inr x, σ') → wx G true q σ H → va_S (fa G) s.heap H locs → lv_has ls 4 [(0, .ref (q 32)), (1, .int x1), (2, .int x2)] → W p l e rmX9_takenx s m args below meth c H locs 0 0 (vx_MQ below (fun _ _ _ _ => False) (qxx G true q σ' x) args s 1 8 (fa G)) (F0 m 14 ls [.int z0, .ref (q 32)]) := by
  obtain ⟨hx, hb, hml, hown, hts, -, hlk, hk0, -⟩ := id C
  intro x1 x2 z0 σ H locs ls hF hw hS hl
  unfold F_X9_taken_14 at hF
  refine lv_iconst (v := (2 : Int32)) hx hb dX9_taken_14 (by decide) ?_
  rcases bdx_e hF with ⟨r_34, σ_35, h_36, hF⟩ | ⟨x_37, σ_35, h_36, hF⟩
  · refine r_callVv (As := [.int z0, .int (2 : Int32)]) (rest := []) (i := 32) C hw hS wi_rd rfl (ci := 9) rfl (met_X9_need l G q  h_36) (cwV 2 hts (lw_V q322 q324 qs2 q66 q325) rfl rfl rfl (by decide +kernel) ⟨Nat.le_of_ble_eq_true rfl, Nat.le_of_ble_eq_true rfl⟩) rfl hl.1 rfl (Nat.le_of_ble_eq_true rfl) ⟨Nat.zero_le _, Nat.zero_le _⟩ dX9_taken_15 (fun H locs hw hS => ?_)
    refine lv_aload_n hx hb dX9_taken_18 rfl (lv_at hl 0 rfl) ?_
    refine lv_aload_n hx hb dX9_taken_19 rfl (lv_at hl 0 rfl) ?_
    refine r_get9 C hw 6 (by decide) rfl (v := .int (gi σ_35 32 6)) rfl q417 dX9_taken_20 ?_
    refine lv_i2l hx hb dX9_taken_23 rfl ?_
    refine lv_iload_n hx hb dX9_taken_24 rfl (lv_at hl 1 rfl) ?_
    refine lv_i2l hx hb dX9_taken_25 rfl ?_
    refine lv_iload_n hx hb dX9_taken_26 rfl (lv_at hl 2 rfl) ?_
    refine lv_i2l hx hb dX9_taken_27 rfl ?_
    obtain ⟨r_38, σ_39, h_40, hF⟩ := bd_e hF
    refine r_callSiN (As := [.long ((gi σ_35 32 6).toInt64), .long x1.toInt64, .long x2.toInt64]) (rest := [.ref (q 32)]) C hw hS (met_X0_in l G true q  h_40) ⟨va_cnB 3 hts (lw_meth q296) rfl rfl rfl (hk0.2.2.1 _ (List.mem_of_getElem? (i := 11) rfl)) (hts _ q57) (by decide +kernel) ⟨Nat.le_of_ble_eq_true rfl, Nat.le_of_ble_eq_true rfl⟩, hts _ q295, trivial⟩ rfl hl.1 rfl (Nat.le_of_ble_eq_true rfl) ⟨Nat.zero_le _, Nat.zero_le _⟩ dX9_taken_28 (fun H locs hw hS => ?_)
    refine lv_iconst (v := (3 : Int32)) hx hb dX9_taken_31 (by decide) ?_
    rcases bdx_e hF with ⟨r_41, σ_42, h_43, hF⟩ | ⟨x_44, σ_42, h_43, hF⟩
    · refine r_callVv (As := [.int r_38, .int (3 : Int32)]) (rest := []) (i := 32) C hw hS wi_rd rfl (ci := 9) rfl (met_X9_need l G q  h_43) (cwV 2 hts (lw_V q322 q324 qs2 q66 q325) rfl rfl rfl (by decide +kernel) ⟨Nat.le_of_ble_eq_true rfl, Nat.le_of_ble_eq_true rfl⟩) rfl hl.1 rfl (Nat.le_of_ble_eq_true rfl) ⟨Nat.zero_le _, Nat.zero_le _⟩ dX9_taken_32 (fun H locs hw hS => ?_)
      refine lv_aload_n hx hb dX9_taken_35 rfl (lv_at hl 0 rfl) ?_
      refine r_get9 C hw 6 (by decide) rfl (v := .int (gi σ_42 32 6)) rfl q417 dX9_taken_36 ?_
      obtain ⟨x_45, ex_45, hF⟩ := nm_e2 hF
      refine r_topi ex_45 ?_
      refine lv_istore_n (lv' := [(3, .int x_45), (0, .ref (q 32)), (1, .int x1), (2, .int x2)]) hx hb dX9_taken_39 rfl hl (by decide) rfl (fun ls hl => ?_)
      refine lv_aload_n hx hb dX9_taken_40 rfl (lv_at hl 1 rfl) ?_
      rcases bdx_e hF with ⟨r_46, σ_47, h_48, hF⟩ | ⟨x_49, σ_47, h_48, hF⟩
      · refine r_callVv (As := []) (rest := []) (i := 32) C hw hS wi_rd rfl (ci := 9) rfl (met_X9_next l G q  h_48) (cwV 0 hts (lw_V q314 q316 qs0 q66 q317) rfl rfl rfl (by decide +kernel) ⟨Nat.le_of_ble_eq_true rfl, Nat.le_of_ble_eq_true rfl⟩) rfl hl.1 rfl (Nat.le_of_ble_eq_true rfl) ⟨Nat.zero_le _, Nat.zero_le _⟩ dX9_taken_41 (fun H locs hw hS => ?_)
        refine lv_iload_n hx hb dX9_taken_44 rfl (lv_at hl 0 rfl) ?_
        cases hF
      · refine r_callVx (As := []) (rest := []) (i := 32) C hw hS wi_rd rfl (ci := 9) rfl (mex_X9_next l G q  h_48) (cwV 0 hts (lw_V q314 q316 qs0 q66 q317) rfl rfl rfl (by decide +kernel) ⟨Nat.le_of_ble_eq_true rfl, Nat.le_of_ble_eq_true rfl⟩) rfl hl.1 rfl (Nat.le_of_ble_eq_true rfl) ⟨Nat.le_of_ble_eq_true rfl, Nat.le_of_ble_eq_true rfl⟩ dX9_taken_41 (fun H locs q9 ce hw hS h9 hv9 hc9 hft9 => ?_)
        obtain ⟨rfl, rfl⟩ := so_r hF
        exact vx_out (fun z hz => (hout z hz).elim) hlk h9 hv9 hc9 (fun t ht _ => ⟨(), trivial, ⟨rfl, by subst ht; exact hw, by subst ht; exact hft9⟩, hS.F ht⟩) hS.2.2 (Nat.le_of_ble_eq_true rfl) (Nat.le_of_ble_eq_true rfl)
    · refine r_callVx (As := [.int r_38, .int (3 : Int32)]) (rest := []) (i := 32) C hw hS wi_rd rfl (ci := 9) rfl (mex_X9_need l G q  h_43) (cwV 2 hts (lw_V q322 q324 qs2 q66 q325) rfl rfl rfl (by decide +kernel) ⟨Nat.le_of_ble_eq_true rfl, Nat.le_of_ble_eq_true rfl⟩) rfl hl.1 rfl (Nat.le_of_ble_eq_true rfl) ⟨Nat.le_of_ble_eq_true rfl, Nat.le_of_ble_eq_true rfl⟩ dX9_taken_32 (fun H locs q9 ce hw hS h9 hv9 hc9 hft9 => ?_)
      obtain ⟨rfl, rfl⟩ := so_r hF
      exact vx_out (fun z hz => (hout z hz).elim) hlk h9 hv9 hc9 (fun t ht _ => ⟨(), trivial, ⟨rfl, by subst ht; exact hw, by subst ht; exact hft9⟩, hS.F ht⟩) hS.2.2 (Nat.le_of_ble_eq_true rfl) (Nat.le_of_ble_eq_true rfl)
  · refine r_callVx (As := [.int z0, .int (2 : Int32)]) (rest := []) (i := 32) C hw hS wi_rd rfl (ci := 9) rfl (mex_X9_need l G q  h_36) (cwV 2 hts (lw_V q322 q324 qs2 q66 q325) rfl rfl rfl (by decide +kernel) ⟨Nat.le_of_ble_eq_true rfl, Nat.le_of_ble_eq_true rfl⟩) rfl hl.1 rfl (Nat.le_of_ble_eq_true rfl) ⟨Nat.le_of_ble_eq_true rfl, Nat.le_of_ble_eq_true rfl⟩ dX9_taken_15 (fun H locs q9 ce hw hS h9 hv9 hc9 hft9 => ?_)
    obtain ⟨rfl, rfl⟩ := so_r hF
    exact vx_out (fun z hz => (hout z hz).elim) hlk h9 hv9 hc9 (fun t ht _ => ⟨(), trivial, ⟨rfl, by subst ht; exact hw, by subst ht; exact hft9⟩, hS.F ht⟩) hS.2.2 (Nat.le_of_ble_eq_true rfl) (Nat.le_of_ble_eq_true rfl)
noncomputable def F_X9_taken (N : Nat) (x1 : Int32) (x2 : Int32) (σ : SS) : Option ((Int32 ⊕ XI) × SS) :=
  if (gi σ 32 5) = (2 : Int32) then
    F_X9_taken_14 N x1 x2 (1 : Int32) σ
  else
    F_X9_taken_14 N x1 x2 (0 : Int32) σ
set_option maxRecDepth 100000 in
theorem met_X9_taken (l : Launch) (G : GG) (q : Nat → Nat) {N : Nat} {x1 : Int32} {x2 : Int32} {σ σ' : SS} {r : Int32} (hF : F_X9_taken N x1 x2 σ = some (Sum.inl r, σ')) : Met l yX9_taken (ws_ yX9_taken cX9_taken 4 (some .int)) rmX9_taken (pcx G true q σ [.ref (q 32), .int x1, .int x2]) (qxi G true q σ' r) 0 0 (fa G) := by
  refine met_of (by decide) (Nat.le_of_ble_eq_true rfl) ?_
  intro p e s m below meth c C H locs ls hw hS hl
  obtain ⟨hx, hb, hml, hown, hts, -, hlk, hk0, -⟩ := id C
  have hl : lv_has ls 4 [(0, .ref (q 32)), (1, .int x1), (2, .int x2)] := hl
  unfold F_X9_taken at hF
  refine lv_aload_n hx hb dX9_taken_0 rfl (lv_at hl 0 rfl) ?_
  refine lv_aload_n hx hb dX9_taken_1 rfl (lv_at hl 0 rfl) ?_
  refine r_get9 C hw 5 (by decide) rfl (v := .int (gi σ 32 5)) rfl q416 dX9_taken_2 ?_
  refine lv_iconst (v := (2 : Int32)) hx hb dX9_taken_5 (by decide) ?_
  refine lv_icmp_ne (tgt := 13) hx hb dX9_taken_6 (by decide) (fun c_50 => ?_) (fun c_50 => ?_)
  · have hF := if_e hF c_50
    refine lv_iconst (v := (0 : Int32)) hx hb dX9_taken_13 (by decide) ?_
    exact w_X9_taken_14 C   _ _ _ _ _ _ _ hF hw hS (lv_sub hl [0, 1, 2] rfl)
  · have hF := it_e hF c_50
    refine lv_iconst (v := (1 : Int32)) hx hb dX9_taken_9 (by decide) ?_
    refine lv_goto (tgt := 14) hx hb dX9_taken_10 (by decide) ?_
    exact w_X9_taken_14 C   _ _ _ _ _ _ _ hF hw hS (lv_sub hl [0, 1, 2] rfl)
set_option maxRecDepth 100000 in
theorem mex_X9_taken (l : Launch) (G : GG) (q : Nat → Nat) {N : Nat} {x1 : Int32} {x2 : Int32} {σ σ' : SS} {x : XI} (hF : F_X9_taken N x1 x2 σ = some (Sum.inr x, σ')) : vx_Met l yX9_taken (ws_ yX9_taken cX9_taken 4 (some .int)) rmX9_takenx (pcx G true q σ [.ref (q 32), .int x1, .int x2]) (fun _ _ _ _ => False) (qxx G true q σ' x) 1 8 (fa G) := by
  refine met_ofX (by decide) (Nat.le_of_ble_eq_true rfl) ?_
  intro p e s m below meth c C hout H locs ls hw hS hl
  obtain ⟨hx, hb, hml, hown, hts, -, hlk, hk0, -⟩ := id C
  have hl : lv_has ls 4 [(0, .ref (q 32)), (1, .int x1), (2, .int x2)] := hl
  unfold F_X9_taken at hF
  refine lv_aload_n hx hb dX9_taken_0 rfl (lv_at hl 0 rfl) ?_
  refine lv_aload_n hx hb dX9_taken_1 rfl (lv_at hl 0 rfl) ?_
  refine r_get9 C hw 5 (by decide) rfl (v := .int (gi σ 32 5)) rfl q416 dX9_taken_2 ?_
  refine lv_iconst (v := (2 : Int32)) hx hb dX9_taken_5 (by decide) ?_
  refine lv_icmp_ne (tgt := 13) hx hb dX9_taken_6 (by decide) (fun c_51 => ?_) (fun c_51 => ?_)
  · have hF := if_e hF c_51
    refine lv_iconst (v := (0 : Int32)) hx hb dX9_taken_13 (by decide) ?_
    exact x_X9_taken_14 C hout   _ _ _ _ _ _ _ hF hw hS (lv_sub hl [0, 1, 2] rfl)
  · have hF := it_e hF c_51
    refine lv_iconst (v := (1 : Int32)) hx hb dX9_taken_9 (by decide) ?_
    refine lv_goto (tgt := 14) hx hb dX9_taken_10 (by decide) ?_
    exact x_X9_taken_14 C hout   _ _ _ _ _ _ _ hF hw hS (lv_sub hl [0, 1, 2] rfl)
abbrev rmX9_told : Room := { frames := 8, cells := 0, slots := 0, locals := 265 }
abbrev rmX9_toldx : Room := { frames := 8, cells := 1, slots := 8, locals := 265 }
noncomputable def F_X9_told_88 (N : Nat) (z0 : Int32) (z1 : Int32) (z3 : Int32) (z4 : Int32) (σ : SS) : Option ((Unit ⊕ XI) × SS) :=
  bdx (F_X9_taken N z1 z0 σ)
    (fun r_27 σ_28 =>
      gd (inR z4 16) <|
      nm (si σ_28 (iAA 4) z4.toNatClampNeg (vp_nar .short ((z3 + r_27).toInt16.toInt32))) fun σ_32 =>
      nm (si σ_32 (iS 4) 33 ((gi σ_32 (iS 4) 33) + (1 : Int32))) fun σ_33 =>
      some (Sum.inl (), σ_33))
    (fun x_30 σ_28 => some (Sum.inr x_30, σ_28))
set_option maxRecDepth 100000 in
theorem w_X9_told_88 {p : Program} {l : Launch} {e : Env} {s : State} {m : MethodId} {args : Array Value} {below : List Frame} {meth : Method} {c : Code} {G : GG} {q : Nat → Nat} {N : Nat} {r : Unit} {σ' : SS} (C : cx p s m args meth c cX9_told 3 RX9 none G) : ∀ (z0 : Int32) (z1 : Int32) (z3 : Int32) (z4 : Int32) (σ : SS) (H : Heap) (locs : List Loc) (ls : Array Slot), F_X9_told_88 N z0 z1 z3 z4 σ = some (Sum.inl r, σ') → wx G true q σ H → va_S (fa G) s.heap H locs → lv_has ls 3 [(0, .ref (q 32))] → W p l e rmX9_told s m args below meth c H locs 0 0 (MQ below (qxv G true q σ' r) args s 0 0 (fa G)) (F0 m 88 ls [.int z0, .int z1, .ref (q 32), .int z3, .int z4, .ref (q (iAA 4))]) := by
  obtain ⟨hx, hb, hml, hown, hts, -, hlk, hk0, -⟩ := id C
  intro z0 z1 z3 z4 σ H locs ls hF hw hS hl
  unfold F_X9_told_88 at hF
  rcases bdx_e hF with ⟨r_27, σ_28, h_29, hF⟩ | ⟨x_30, σ_28, h_29, hF⟩
  · refine r_callVi (As := [.int z1, .int z0]) (rest := [.int z3, .int z4, .ref (q (iAA 4))]) (i := 32) C hw hS wi_rd rfl (ci := 9) rfl (met_X9_taken l G q  h_29) (cwV 2 hts (lw_V q512 q514 qs9 q66 q515) rfl rfl rfl (by decide +kernel) ⟨Nat.le_of_ble_eq_true rfl, Nat.le_of_ble_eq_true rfl⟩) rfl hl.1 rfl (Nat.le_of_ble_eq_true rfl) ⟨Nat.zero_le _, Nat.zero_le _⟩ dX9_told_88 (fun H locs hw hS => ?_)
    refine lv_iadd hx hb dX9_told_91 ?_
    refine lv_i2s hx hb dX9_told_92 rfl ?_
    obtain ⟨h_31, hF⟩ := gd_e hF
    obtain ⟨σ_32, eσ_32, hF⟩ := nm_e2 hF
    refine r_sast (i := iAA 4) (n := 16) (g := (iAA 4)) (st := 0) C hw hS (wi_AA okS_4) (tm_AA _ _) ho_AA h_31 dX9_told_93 eσ_32 (fun H locs hw hS => ?_)
    refine lv_aload_n hx hb dX9_told_94 rfl (lv_at hl 0 rfl) ?_
    refine r_get9 C hw 1 (by decide) rfl (v := .ref (q (iS 4))) rfl q411 dX9_told_95 ?_
    refine lv_dup hx hb dX9_told_98 rfl ?_
    refine r_getSN C hw okS_4 4 (by decide) rfl (v := .int (gi σ_32 (iS 4) 33)) rfl 14 rfl dX9_told_99 ?_
    refine lv_iconst (v := (1 : Int32)) hx hb dX9_told_102 (by decide) ?_
    refine lv_iadd hx hb dX9_told_103 ?_
    obtain ⟨σ_33, eσ_33, hF⟩ := nm_e2 hF
    refine r_putSN C hw hS okS_4 4 (by decide) rfl rfl (tyX5_ok 4 (by decide)) rfl rfl 14 rfl dX9_told_104 eσ_33 (fun H locs hw hS => ?_)
    exact r_vret C hw hS (so_l hF) dX9_told_107
  · cases hF
set_option maxRecDepth 100000 in
theorem x_X9_told_88 {p : Program} {l : Launch} {e : Env} {s : State} {m : MethodId} {args : Array Value} {below : List Frame} {meth : Method} {c : Code} {G : GG} {q : Nat → Nat} {N : Nat} {x : XI} {σ' : SS} (C : cx p s m args meth c cX9_told 3 RX9 none G) (hout : ∀ z ∈ c.exceptionTable.toList, False) : ∀ (z0 : Int32) (z1 : Int32) (z3 : Int32) (z4 : Int32) (σ : SS) (H : Heap) (locs : List Loc) (ls : Array Slot), F_X9_told_88 N z0 z1 z3 z4 σ = some (Sum.inr x, σ') → wx G true q σ H → va_S (fa G) s.heap H locs → lv_has ls 3 [(0, .ref (q 32))] → W p l e rmX9_toldx s m args below meth c H locs 0 0 (vx_MQ below (fun _ _ _ _ => False) (qxx G true q σ' x) args s 1 8 (fa G)) (F0 m 88 ls [.int z0, .int z1, .ref (q 32), .int z3, .int z4, .ref (q (iAA 4))]) := by
  obtain ⟨hx, hb, hml, hown, hts, -, hlk, hk0, -⟩ := id C
  intro z0 z1 z3 z4 σ H locs ls hF hw hS hl
  unfold F_X9_told_88 at hF
  rcases bdx_e hF with ⟨r_34, σ_35, h_36, hF⟩ | ⟨x_37, σ_35, h_36, hF⟩
  · refine r_callVi (As := [.int z1, .int z0]) (rest := [.int z3, .int z4, .ref (q (iAA 4))]) (i := 32) C hw hS wi_rd rfl (ci := 9) rfl (met_X9_taken l G q  h_36) (cwV 2 hts (lw_V q512 q514 qs9 q66 q515) rfl rfl rfl (by decide +kernel) ⟨Nat.le_of_ble_eq_true rfl, Nat.le_of_ble_eq_true rfl⟩) rfl hl.1 rfl (Nat.le_of_ble_eq_true rfl) ⟨Nat.zero_le _, Nat.zero_le _⟩ dX9_told_88 (fun H locs hw hS => ?_)
    refine lv_iadd hx hb dX9_told_91 ?_
    refine lv_i2s hx hb dX9_told_92 rfl ?_
    obtain ⟨h_38, hF⟩ := gd_e hF
    obtain ⟨σ_39, eσ_39, hF⟩ := nm_e2 hF
    refine r_sast (i := iAA 4) (n := 16) (g := (iAA 4)) (st := 0) C hw hS (wi_AA okS_4) (tm_AA _ _) ho_AA h_38 dX9_told_93 eσ_39 (fun H locs hw hS => ?_)
    refine lv_aload_n hx hb dX9_told_94 rfl (lv_at hl 0 rfl) ?_
    refine r_get9 C hw 1 (by decide) rfl (v := .ref (q (iS 4))) rfl q411 dX9_told_95 ?_
    refine lv_dup hx hb dX9_told_98 rfl ?_
    refine r_getSN C hw okS_4 4 (by decide) rfl (v := .int (gi σ_39 (iS 4) 33)) rfl 14 rfl dX9_told_99 ?_
    refine lv_iconst (v := (1 : Int32)) hx hb dX9_told_102 (by decide) ?_
    refine lv_iadd hx hb dX9_told_103 ?_
    obtain ⟨σ_40, eσ_40, hF⟩ := nm_e2 hF
    refine r_putSN C hw hS okS_4 4 (by decide) rfl rfl (tyX5_ok 4 (by decide)) rfl rfl 14 rfl dX9_told_104 eσ_40 (fun H locs hw hS => ?_)
    cases hF
  · refine r_callVx (As := [.int z1, .int z0]) (rest := [.int z3, .int z4, .ref (q (iAA 4))]) (i := 32) C hw hS wi_rd rfl (ci := 9) rfl (mex_X9_taken l G q  h_36) (cwV 2 hts (lw_V q512 q514 qs9 q66 q515) rfl rfl rfl (by decide +kernel) ⟨Nat.le_of_ble_eq_true rfl, Nat.le_of_ble_eq_true rfl⟩) rfl hl.1 rfl (Nat.le_of_ble_eq_true rfl) ⟨Nat.le_of_ble_eq_true rfl, Nat.le_of_ble_eq_true rfl⟩ dX9_told_88 (fun H locs q9 ce hw hS h9 hv9 hc9 hft9 => ?_)
    obtain ⟨rfl, rfl⟩ := so_r hF
    exact vx_out (fun z hz => (hout z hz).elim) hlk h9 hv9 hc9 (fun t ht _ => ⟨(), trivial, ⟨rfl, by subst ht; exact hw, by subst ht; exact hft9⟩, hS.F ht⟩) hS.2.2 (Nat.le_of_ble_eq_true rfl) (Nat.le_of_ble_eq_true rfl)
noncomputable def F_X9_told (N : Nat) (x1 : Int32) (σ : SS) : Option ((Unit ⊕ XI) × SS) :=
  if x1 = (4 : Int32) then
    bdx (F_X9_taken N (1 : Int32) (20 : Int32) σ)
      (fun r_55 σ_56 =>
        nm (si σ_56 (iS 4) 34 r_55) fun σ_59 =>
        some (Sum.inl (), σ_59))
      (fun x_58 σ_56 => some (Sum.inr x_58, σ_56))
  else
    if (4 : Int32) ≤ x1 then
      if x1 = (7 : Int32) then
        F_X9_told_88 N (3 : Int32) (0 : Int32) ((100 : Int32) * (x1 - (5 : Int32))) (gi σ (iS 4) 33) σ
      else
        F_X9_told_88 N (99 : Int32) (0 : Int32) ((100 : Int32) * (x1 - (5 : Int32))) (gi σ (iS 4) 33) σ
    else
      bdx (F_X9_taken N (1 : Int32) (20 : Int32) σ)
        (fun r_44 σ_45 =>
          bdx (F_X9_taken N (0 : Int32) (9 : Int32) σ_45)
            (fun r_48 σ_49 =>
              bd (F_X5_puts N 4 x1 r_44 r_48 σ_49) fun r_52 σ_53 =>
              some (Sum.inl (), σ_53))
            (fun x_51 σ_49 => some (Sum.inr x_51, σ_49)))
        (fun x_47 σ_45 => some (Sum.inr x_47, σ_45))
set_option maxRecDepth 100000 in
theorem met_X9_told (l : Launch) (G : GG) (q : Nat → Nat) {N : Nat} {x1 : Int32} {σ σ' : SS} {r : Unit} (hF : F_X9_told N x1 σ = some (Sum.inl r, σ')) : Met l yX9_told (ws_ yX9_told cX9_told 3 none) rmX9_told (pcx G true q σ [.ref (q 32), .int x1]) (qxv G true q σ' r) 0 0 (fa G) := by
  refine met_of (by decide) (Nat.le_of_ble_eq_true rfl) ?_
  intro p e s m below meth c C H locs ls hw hS hl
  obtain ⟨hx, hb, hml, hown, hts, -, hlk, hk0, -⟩ := id C
  have hl : lv_has ls 3 [(0, .ref (q 32)), (1, .int x1)] := hl
  unfold F_X9_told at hF
  refine lv_iload_n hx hb dX9_told_0 rfl (lv_at hl 1 rfl) ?_
  refine lv_iconst (v := (4 : Int32)) hx hb dX9_told_1 (by decide) ?_
  refine lv_icmp_ne (tgt := 22) hx hb dX9_told_2 (by decide) (fun c_41 => ?_) (fun c_41 => ?_)
  · have hF := if_e hF c_41
    refine lv_iload_n hx hb dX9_told_22 rfl (lv_at hl 1 rfl) ?_
    refine lv_iconst (v := (4 : Int32)) hx hb dX9_told_23 (by decide) ?_
    refine lv_icmp_ge (tgt := 54) hx hb dX9_told_24 (by decide) (fun c_42 => ?_) (fun c_42 => ?_)
    · have hF := it_e hF c_42
      refine lv_aload_n hx hb dX9_told_54 rfl (lv_at hl 0 rfl) ?_
      refine r_get9 C hw 1 (by decide) rfl (v := .ref (q (iS 4))) rfl q411 dX9_told_55 ?_
      refine r_getSN C hw okS_4 5 (by decide) rfl (v := .ref (q (iAA 4))) rfl 16 rfl dX9_told_58 ?_
      refine lv_aload_n hx hb dX9_told_61 rfl (lv_at hl 0 rfl) ?_
      refine r_get9 C hw 1 (by decide) rfl (v := .ref (q (iS 4))) rfl q411 dX9_told_62 ?_
      refine r_getSN C hw okS_4 4 (by decide) rfl (v := .int (gi σ (iS 4) 33)) rfl 14 rfl dX9_told_65 ?_
      refine lv_bipush (v := (100 : Int32)) hx hb dX9_told_68 (by decide) ?_
      refine lv_iload_n hx hb dX9_told_70 rfl (lv_at hl 1 rfl) ?_
      refine lv_iconst (v := (5 : Int32)) hx hb dX9_told_71 (by decide) ?_
      refine lv_isub hx hb dX9_told_72 ?_
      refine lv_imul hx hb dX9_told_73 ?_
      refine lv_aload_n hx hb dX9_told_74 rfl (lv_at hl 0 rfl) ?_
      refine lv_iconst (v := (0 : Int32)) hx hb dX9_told_75 (by decide) ?_
      refine lv_iload_n hx hb dX9_told_76 rfl (lv_at hl 1 rfl) ?_
      refine lv_bipush (v := (7 : Int32)) hx hb dX9_told_77 (by decide) ?_
      refine lv_icmp_ne (tgt := 86) hx hb dX9_told_79 (by decide) (fun c_43 => ?_) (fun c_43 => ?_)
      · have hF := if_e hF c_43
        refine lv_bipush (v := (99 : Int32)) hx hb dX9_told_86 (by decide) ?_
        exact w_X9_told_88 C   _ _ _ _ _ _ _ _ hF hw hS (lv_sub hl [0] rfl)
      · have hF := it_e hF c_43
        refine lv_iconst (v := (3 : Int32)) hx hb dX9_told_82 (by decide) ?_
        refine lv_goto (tgt := 88) hx hb dX9_told_83 (by decide) ?_
        exact w_X9_told_88 C   _ _ _ _ _ _ _ _ hF hw hS (lv_sub hl [0] rfl)
    · have hF := if_e hF c_42
      refine lv_aload_n hx hb dX9_told_27 rfl (lv_at hl 0 rfl) ?_
      refine lv_iconst (v := (1 : Int32)) hx hb dX9_told_28 (by decide) ?_
      refine lv_bipush (v := (20 : Int32)) hx hb dX9_told_29 (by decide) ?_
      rcases bdx_e hF with ⟨r_44, σ_45, h_46, hF⟩ | ⟨x_47, σ_45, h_46, hF⟩
      · refine r_callVi (As := [.int (1 : Int32), .int (20 : Int32)]) (rest := []) (i := 32) C hw hS wi_rd rfl (ci := 9) rfl (met_X9_taken l G q  h_46) (cwV 2 hts (lw_V q512 q514 qs9 q66 q515) rfl rfl rfl (by decide +kernel) ⟨Nat.le_of_ble_eq_true rfl, Nat.le_of_ble_eq_true rfl⟩) rfl hl.1 rfl (Nat.le_of_ble_eq_true rfl) ⟨Nat.zero_le _, Nat.zero_le _⟩ dX9_told_31 (fun H locs hw hS => ?_)
        refine lv_istore_n (lv' := [(2, .int r_44), (0, .ref (q 32)), (1, .int x1)]) hx hb dX9_told_34 rfl hl (by decide) rfl (fun ls hl => ?_)
        refine lv_aload_n hx hb dX9_told_35 rfl (lv_at hl 1 rfl) ?_
        refine r_get9 C hw 1 (by decide) rfl (v := .ref (q (iS 4))) rfl q411 dX9_told_36 ?_
        refine lv_iload_n hx hb dX9_told_39 rfl (lv_at hl 2 rfl) ?_
        refine lv_iload_n hx hb dX9_told_40 rfl (lv_at hl 0 rfl) ?_
        refine lv_aload_n hx hb dX9_told_41 rfl (lv_at hl 1 rfl) ?_
        refine lv_iconst (v := (0 : Int32)) hx hb dX9_told_42 (by decide) ?_
        refine lv_bipush (v := (9 : Int32)) hx hb dX9_told_43 (by decide) ?_
        rcases bdx_e hF with ⟨r_48, σ_49, h_50, hF⟩ | ⟨x_51, σ_49, h_50, hF⟩
        · refine r_callVi (As := [.int (0 : Int32), .int (9 : Int32)]) (rest := [.int r_44, .int x1, .ref (q (iS 4))]) (i := 32) C hw hS wi_rd rfl (ci := 9) rfl (met_X9_taken l G q  h_50) (cwV 2 hts (lw_V q512 q514 qs9 q66 q515) rfl rfl rfl (by decide +kernel) ⟨Nat.le_of_ble_eq_true rfl, Nat.le_of_ble_eq_true rfl⟩) rfl hl.1 rfl (Nat.le_of_ble_eq_true rfl) ⟨Nat.zero_le _, Nat.zero_le _⟩ dX9_told_45 (fun H locs hw hS => ?_)
          obtain ⟨r_52, σ_53, h_54, hF⟩ := bd_e hF
          refine r_callVv (As := [.int x1, .int r_44, .int r_48]) (rest := []) (i := iS 4) C hw hS (wi_S okS_4) (tm_S _ _) (ci := 5) rfl (met_X5_puts l G true q okS_4 h_54) (cwV 3 hts (lw_V q517 q518 q519 q62 q520) rfl rfl rfl (by decide +kernel) ⟨Nat.le_of_ble_eq_true rfl, Nat.le_of_ble_eq_true rfl⟩) rfl hl.1 rfl (Nat.le_of_ble_eq_true rfl) ⟨Nat.zero_le _, Nat.zero_le _⟩ dX9_told_48 (fun H locs hw hS => ?_)
          refine lv_goto (tgt := 107) hx hb dX9_told_51 (by decide) ?_
          exact r_vret C hw hS (so_l hF) dX9_told_107
        · cases hF
      · cases hF
  · have hF := it_e hF c_41
    refine lv_aload_n hx hb dX9_told_5 rfl (lv_at hl 0 rfl) ?_
    refine r_get9 C hw 1 (by decide) rfl (v := .ref (q (iS 4))) rfl q411 dX9_told_6 ?_
    refine lv_aload_n hx hb dX9_told_9 rfl (lv_at hl 0 rfl) ?_
    refine lv_iconst (v := (1 : Int32)) hx hb dX9_told_10 (by decide) ?_
    refine lv_bipush (v := (20 : Int32)) hx hb dX9_told_11 (by decide) ?_
    rcases bdx_e hF with ⟨r_55, σ_56, h_57, hF⟩ | ⟨x_58, σ_56, h_57, hF⟩
    · refine r_callVi (As := [.int (1 : Int32), .int (20 : Int32)]) (rest := [.ref (q (iS 4))]) (i := 32) C hw hS wi_rd rfl (ci := 9) rfl (met_X9_taken l G q  h_57) (cwV 2 hts (lw_V q512 q514 qs9 q66 q515) rfl rfl rfl (by decide +kernel) ⟨Nat.le_of_ble_eq_true rfl, Nat.le_of_ble_eq_true rfl⟩) rfl hl.1 rfl (Nat.le_of_ble_eq_true rfl) ⟨Nat.zero_le _, Nat.zero_le _⟩ dX9_told_13 (fun H locs hw hS => ?_)
      obtain ⟨σ_59, eσ_59, hF⟩ := nm_e2 hF
      refine r_putSN C hw hS okS_4 0 (by decide) rfl rfl (tyX5_ok 0 (by decide)) rfl rfl 8 rfl dX9_told_16 eσ_59 (fun H locs hw hS => ?_)
      refine lv_goto (tgt := 107) hx hb dX9_told_19 (by decide) ?_
      exact r_vret C hw hS (so_l hF) dX9_told_107
    · cases hF
set_option maxRecDepth 100000 in
theorem mex_X9_told (l : Launch) (G : GG) (q : Nat → Nat) {N : Nat} {x1 : Int32} {σ σ' : SS} {x : XI} (hF : F_X9_told N x1 σ = some (Sum.inr x, σ')) : vx_Met l yX9_told (ws_ yX9_told cX9_told 3 none) rmX9_toldx (pcx G true q σ [.ref (q 32), .int x1]) (fun _ _ _ _ => False) (qxx G true q σ' x) 1 8 (fa G) := by
  refine met_ofX (by decide) (Nat.le_of_ble_eq_true rfl) ?_
  intro p e s m below meth c C hout H locs ls hw hS hl
  obtain ⟨hx, hb, hml, hown, hts, -, hlk, hk0, -⟩ := id C
  have hl : lv_has ls 3 [(0, .ref (q 32)), (1, .int x1)] := hl
  unfold F_X9_told at hF
  refine lv_iload_n hx hb dX9_told_0 rfl (lv_at hl 1 rfl) ?_
  refine lv_iconst (v := (4 : Int32)) hx hb dX9_told_1 (by decide) ?_
  refine lv_icmp_ne (tgt := 22) hx hb dX9_told_2 (by decide) (fun c_60 => ?_) (fun c_60 => ?_)
  · have hF := if_e hF c_60
    refine lv_iload_n hx hb dX9_told_22 rfl (lv_at hl 1 rfl) ?_
    refine lv_iconst (v := (4 : Int32)) hx hb dX9_told_23 (by decide) ?_
    refine lv_icmp_ge (tgt := 54) hx hb dX9_told_24 (by decide) (fun c_61 => ?_) (fun c_61 => ?_)
    · have hF := it_e hF c_61
      refine lv_aload_n hx hb dX9_told_54 rfl (lv_at hl 0 rfl) ?_
      refine r_get9 C hw 1 (by decide) rfl (v := .ref (q (iS 4))) rfl q411 dX9_told_55 ?_
      refine r_getSN C hw okS_4 5 (by decide) rfl (v := .ref (q (iAA 4))) rfl 16 rfl dX9_told_58 ?_
      refine lv_aload_n hx hb dX9_told_61 rfl (lv_at hl 0 rfl) ?_
      refine r_get9 C hw 1 (by decide) rfl (v := .ref (q (iS 4))) rfl q411 dX9_told_62 ?_
      refine r_getSN C hw okS_4 4 (by decide) rfl (v := .int (gi σ (iS 4) 33)) rfl 14 rfl dX9_told_65 ?_
      refine lv_bipush (v := (100 : Int32)) hx hb dX9_told_68 (by decide) ?_
      refine lv_iload_n hx hb dX9_told_70 rfl (lv_at hl 1 rfl) ?_
      refine lv_iconst (v := (5 : Int32)) hx hb dX9_told_71 (by decide) ?_
      refine lv_isub hx hb dX9_told_72 ?_
      refine lv_imul hx hb dX9_told_73 ?_
      refine lv_aload_n hx hb dX9_told_74 rfl (lv_at hl 0 rfl) ?_
      refine lv_iconst (v := (0 : Int32)) hx hb dX9_told_75 (by decide) ?_
      refine lv_iload_n hx hb dX9_told_76 rfl (lv_at hl 1 rfl) ?_
      refine lv_bipush (v := (7 : Int32)) hx hb dX9_told_77 (by decide) ?_
      refine lv_icmp_ne (tgt := 86) hx hb dX9_told_79 (by decide) (fun c_62 => ?_) (fun c_62 => ?_)
      · have hF := if_e hF c_62
        refine lv_bipush (v := (99 : Int32)) hx hb dX9_told_86 (by decide) ?_
        exact x_X9_told_88 C hout   _ _ _ _ _ _ _ _ hF hw hS (lv_sub hl [0] rfl)
      · have hF := it_e hF c_62
        refine lv_iconst (v := (3 : Int32)) hx hb dX9_told_82 (by decide) ?_
        refine lv_goto (tgt := 88) hx hb dX9_told_83 (by decide) ?_
        exact x_X9_told_88 C hout   _ _ _ _ _ _ _ _ hF hw hS (lv_sub hl [0] rfl)
    · have hF := if_e hF c_61
      refine lv_aload_n hx hb dX9_told_27 rfl (lv_at hl 0 rfl) ?_
      refine lv_iconst (v := (1 : Int32)) hx hb dX9_told_28 (by decide) ?_
      refine lv_bipush (v := (20 : Int32)) hx hb dX9_told_29 (by decide) ?_
      rcases bdx_e hF with ⟨r_63, σ_64, h_65, hF⟩ | ⟨x_66, σ_64, h_65, hF⟩
      · refine r_callVi (As := [.int (1 : Int32), .int (20 : Int32)]) (rest := []) (i := 32) C hw hS wi_rd rfl (ci := 9) rfl (met_X9_taken l G q  h_65) (cwV 2 hts (lw_V q512 q514 qs9 q66 q515) rfl rfl rfl (by decide +kernel) ⟨Nat.le_of_ble_eq_true rfl, Nat.le_of_ble_eq_true rfl⟩) rfl hl.1 rfl (Nat.le_of_ble_eq_true rfl) ⟨Nat.zero_le _, Nat.zero_le _⟩ dX9_told_31 (fun H locs hw hS => ?_)
        refine lv_istore_n (lv' := [(2, .int r_63), (0, .ref (q 32)), (1, .int x1)]) hx hb dX9_told_34 rfl hl (by decide) rfl (fun ls hl => ?_)
        refine lv_aload_n hx hb dX9_told_35 rfl (lv_at hl 1 rfl) ?_
        refine r_get9 C hw 1 (by decide) rfl (v := .ref (q (iS 4))) rfl q411 dX9_told_36 ?_
        refine lv_iload_n hx hb dX9_told_39 rfl (lv_at hl 2 rfl) ?_
        refine lv_iload_n hx hb dX9_told_40 rfl (lv_at hl 0 rfl) ?_
        refine lv_aload_n hx hb dX9_told_41 rfl (lv_at hl 1 rfl) ?_
        refine lv_iconst (v := (0 : Int32)) hx hb dX9_told_42 (by decide) ?_
        refine lv_bipush (v := (9 : Int32)) hx hb dX9_told_43 (by decide) ?_
        rcases bdx_e hF with ⟨r_67, σ_68, h_69, hF⟩ | ⟨x_70, σ_68, h_69, hF⟩
        · refine r_callVi (As := [.int (0 : Int32), .int (9 : Int32)]) (rest := [.int r_63, .int x1, .ref (q (iS 4))]) (i := 32) C hw hS wi_rd rfl (ci := 9) rfl (met_X9_taken l G q  h_69) (cwV 2 hts (lw_V q512 q514 qs9 q66 q515) rfl rfl rfl (by decide +kernel) ⟨Nat.le_of_ble_eq_true rfl, Nat.le_of_ble_eq_true rfl⟩) rfl hl.1 rfl (Nat.le_of_ble_eq_true rfl) ⟨Nat.zero_le _, Nat.zero_le _⟩ dX9_told_45 (fun H locs hw hS => ?_)
          obtain ⟨r_71, σ_72, h_73, hF⟩ := bd_e hF
          refine r_callVv (As := [.int x1, .int r_63, .int r_67]) (rest := []) (i := iS 4) C hw hS (wi_S okS_4) (tm_S _ _) (ci := 5) rfl (met_X5_puts l G true q okS_4 h_73) (cwV 3 hts (lw_V q517 q518 q519 q62 q520) rfl rfl rfl (by decide +kernel) ⟨Nat.le_of_ble_eq_true rfl, Nat.le_of_ble_eq_true rfl⟩) rfl hl.1 rfl (Nat.le_of_ble_eq_true rfl) ⟨Nat.zero_le _, Nat.zero_le _⟩ dX9_told_48 (fun H locs hw hS => ?_)
          refine lv_goto (tgt := 107) hx hb dX9_told_51 (by decide) ?_
          cases hF
        · refine r_callVx (As := [.int (0 : Int32), .int (9 : Int32)]) (rest := [.int r_63, .int x1, .ref (q (iS 4))]) (i := 32) C hw hS wi_rd rfl (ci := 9) rfl (mex_X9_taken l G q  h_69) (cwV 2 hts (lw_V q512 q514 qs9 q66 q515) rfl rfl rfl (by decide +kernel) ⟨Nat.le_of_ble_eq_true rfl, Nat.le_of_ble_eq_true rfl⟩) rfl hl.1 rfl (Nat.le_of_ble_eq_true rfl) ⟨Nat.le_of_ble_eq_true rfl, Nat.le_of_ble_eq_true rfl⟩ dX9_told_45 (fun H locs q9 ce hw hS h9 hv9 hc9 hft9 => ?_)
          obtain ⟨rfl, rfl⟩ := so_r hF
          exact vx_out (fun z hz => (hout z hz).elim) hlk h9 hv9 hc9 (fun t ht _ => ⟨(), trivial, ⟨rfl, by subst ht; exact hw, by subst ht; exact hft9⟩, hS.F ht⟩) hS.2.2 (Nat.le_of_ble_eq_true rfl) (Nat.le_of_ble_eq_true rfl)
      · refine r_callVx (As := [.int (1 : Int32), .int (20 : Int32)]) (rest := []) (i := 32) C hw hS wi_rd rfl (ci := 9) rfl (mex_X9_taken l G q  h_65) (cwV 2 hts (lw_V q512 q514 qs9 q66 q515) rfl rfl rfl (by decide +kernel) ⟨Nat.le_of_ble_eq_true rfl, Nat.le_of_ble_eq_true rfl⟩) rfl hl.1 rfl (Nat.le_of_ble_eq_true rfl) ⟨Nat.le_of_ble_eq_true rfl, Nat.le_of_ble_eq_true rfl⟩ dX9_told_31 (fun H locs q9 ce hw hS h9 hv9 hc9 hft9 => ?_)
        obtain ⟨rfl, rfl⟩ := so_r hF
        exact vx_out (fun z hz => (hout z hz).elim) hlk h9 hv9 hc9 (fun t ht _ => ⟨(), trivial, ⟨rfl, by subst ht; exact hw, by subst ht; exact hft9⟩, hS.F ht⟩) hS.2.2 (Nat.le_of_ble_eq_true rfl) (Nat.le_of_ble_eq_true rfl)
  · have hF := it_e hF c_60
    refine lv_aload_n hx hb dX9_told_5 rfl (lv_at hl 0 rfl) ?_
    refine r_get9 C hw 1 (by decide) rfl (v := .ref (q (iS 4))) rfl q411 dX9_told_6 ?_
    refine lv_aload_n hx hb dX9_told_9 rfl (lv_at hl 0 rfl) ?_
    refine lv_iconst (v := (1 : Int32)) hx hb dX9_told_10 (by decide) ?_
    refine lv_bipush (v := (20 : Int32)) hx hb dX9_told_11 (by decide) ?_
    rcases bdx_e hF with ⟨r_74, σ_75, h_76, hF⟩ | ⟨x_77, σ_75, h_76, hF⟩
    · refine r_callVi (As := [.int (1 : Int32), .int (20 : Int32)]) (rest := [.ref (q (iS 4))]) (i := 32) C hw hS wi_rd rfl (ci := 9) rfl (met_X9_taken l G q  h_76) (cwV 2 hts (lw_V q512 q514 qs9 q66 q515) rfl rfl rfl (by decide +kernel) ⟨Nat.le_of_ble_eq_true rfl, Nat.le_of_ble_eq_true rfl⟩) rfl hl.1 rfl (Nat.le_of_ble_eq_true rfl) ⟨Nat.zero_le _, Nat.zero_le _⟩ dX9_told_13 (fun H locs hw hS => ?_)
      obtain ⟨σ_78, eσ_78, hF⟩ := nm_e2 hF
      refine r_putSN C hw hS okS_4 0 (by decide) rfl rfl (tyX5_ok 0 (by decide)) rfl rfl 8 rfl dX9_told_16 eσ_78 (fun H locs hw hS => ?_)
      refine lv_goto (tgt := 107) hx hb dX9_told_19 (by decide) ?_
      cases hF
    · refine r_callVx (As := [.int (1 : Int32), .int (20 : Int32)]) (rest := [.ref (q (iS 4))]) (i := 32) C hw hS wi_rd rfl (ci := 9) rfl (mex_X9_taken l G q  h_76) (cwV 2 hts (lw_V q512 q514 qs9 q66 q515) rfl rfl rfl (by decide +kernel) ⟨Nat.le_of_ble_eq_true rfl, Nat.le_of_ble_eq_true rfl⟩) rfl hl.1 rfl (Nat.le_of_ble_eq_true rfl) ⟨Nat.le_of_ble_eq_true rfl, Nat.le_of_ble_eq_true rfl⟩ dX9_told_13 (fun H locs q9 ce hw hS h9 hv9 hc9 hft9 => ?_)
      obtain ⟨rfl, rfl⟩ := so_r hF
      exact vx_out (fun z hz => (hout z hz).elim) hlk h9 hv9 hc9 (fun t ht _ => ⟨(), trivial, ⟨rfl, by subst ht; exact hw, by subst ht; exact hft9⟩, hS.F ht⟩) hS.2.2 (Nat.le_of_ble_eq_true rfl) (Nat.le_of_ble_eq_true rfl)
abbrev rmX9_line : Room := { frames := 9, cells := 0, slots := 0, locals := 287 }
abbrev rmX9_linex : Room := { frames := 9, cells := 1, slots := 8, locals := 287 }
noncomputable def F_X9_line_155 (N : Nat) (z0 : Int32) (σ : SS) : Option ((Unit ⊕ XI) × SS) :=
  bdx (F_X9_need N z0 (2 : Int32) σ)
    (fun r_50 σ_51 =>
      bdx (F_X9_next N σ_51)
        (fun r_54 σ_55 =>
          some (Sum.inl (), σ_55))
        (fun x_57 σ_55 => some (Sum.inr x_57, σ_55)))
    (fun x_53 σ_51 => some (Sum.inr x_53, σ_51))
set_option maxRecDepth 100000 in
theorem w_X9_line_155 {p : Program} {l : Launch} {e : Env} {s : State} {m : MethodId} {args : Array Value} {below : List Frame} {meth : Method} {c : Code} {G : GG} {q : Nat → Nat} {N : Nat} {r : Unit} {σ' : SS} (C : cx p s m args meth c cX9_line 2 RX9 none G) : ∀ (z0 : Int32) (σ : SS) (H : Heap) (locs : List Loc) (ls : Array Slot), F_X9_line_155 N z0 σ = some (Sum.inl r, σ') → wx G true q σ H → va_S (fa G) s.heap H locs → lv_has ls 2 [(0, .ref (q 32))] → W p l e rmX9_line s m args below meth c H locs 0 0 (MQ below (qxv G true q σ' r) args s 0 0 (fa G)) (F0 m 155 ls [.int z0, .ref (q 32)]) := by
  obtain ⟨hx, hb, hml, hown, hts, -, hlk, hk0, -⟩ := id C
  intro z0 σ H locs ls hF hw hS hl
  unfold F_X9_line_155 at hF
  refine lv_iconst (v := (2 : Int32)) hx hb dX9_line_155 (by decide) ?_
  rcases bdx_e hF with ⟨r_50, σ_51, h_52, hF⟩ | ⟨x_53, σ_51, h_52, hF⟩
  · refine r_callVv (As := [.int z0, .int (2 : Int32)]) (rest := []) (i := 32) C hw hS wi_rd rfl (ci := 9) rfl (met_X9_need l G q  h_52) (cwV 2 hts (lw_V q322 q324 qs2 q66 q325) rfl rfl rfl (by decide +kernel) ⟨Nat.le_of_ble_eq_true rfl, Nat.le_of_ble_eq_true rfl⟩) rfl hl.1 rfl (Nat.le_of_ble_eq_true rfl) ⟨Nat.zero_le _, Nat.zero_le _⟩ dX9_line_156 (fun H locs hw hS => ?_)
    refine lv_aload_n hx hb dX9_line_159 rfl (lv_at hl 0 rfl) ?_
    rcases bdx_e hF with ⟨r_54, σ_55, h_56, hF⟩ | ⟨x_57, σ_55, h_56, hF⟩
    · refine r_callVv (As := []) (rest := []) (i := 32) C hw hS wi_rd rfl (ci := 9) rfl (met_X9_next l G q  h_56) (cwV 0 hts (lw_V q314 q316 qs0 q66 q317) rfl rfl rfl (by decide +kernel) ⟨Nat.le_of_ble_eq_true rfl, Nat.le_of_ble_eq_true rfl⟩) rfl hl.1 rfl (Nat.le_of_ble_eq_true rfl) ⟨Nat.zero_le _, Nat.zero_le _⟩ dX9_line_160 (fun H locs hw hS => ?_)
      exact r_vret C hw hS (so_l hF) dX9_line_163
    · cases hF
  · cases hF
set_option maxRecDepth 100000 in
theorem x_X9_line_155 {p : Program} {l : Launch} {e : Env} {s : State} {m : MethodId} {args : Array Value} {below : List Frame} {meth : Method} {c : Code} {G : GG} {q : Nat → Nat} {N : Nat} {x : XI} {σ' : SS} (C : cx p s m args meth c cX9_line 2 RX9 none G) (hout : ∀ z ∈ c.exceptionTable.toList, False) : ∀ (z0 : Int32) (σ : SS) (H : Heap) (locs : List Loc) (ls : Array Slot), F_X9_line_155 N z0 σ = some (Sum.inr x, σ') → wx G true q σ H → va_S (fa G) s.heap H locs → lv_has ls 2 [(0, .ref (q 32))] → W p l e rmX9_linex s m args below meth c H locs 0 0 (vx_MQ below (fun _ _ _ _ => False) (qxx G true q σ' x) args s 1 8 (fa G)) (F0 m 155 ls [.int z0, .ref (q 32)]) := by
  obtain ⟨hx, hb, hml, hown, hts, -, hlk, hk0, -⟩ := id C
  intro z0 σ H locs ls hF hw hS hl
  unfold F_X9_line_155 at hF
  refine lv_iconst (v := (2 : Int32)) hx hb dX9_line_155 (by decide) ?_
  rcases bdx_e hF with ⟨r_58, σ_59, h_60, hF⟩ | ⟨x_61, σ_59, h_60, hF⟩
  · refine r_callVv (As := [.int z0, .int (2 : Int32)]) (rest := []) (i := 32) C hw hS wi_rd rfl (ci := 9) rfl (met_X9_need l G q  h_60) (cwV 2 hts (lw_V q322 q324 qs2 q66 q325) rfl rfl rfl (by decide +kernel) ⟨Nat.le_of_ble_eq_true rfl, Nat.le_of_ble_eq_true rfl⟩) rfl hl.1 rfl (Nat.le_of_ble_eq_true rfl) ⟨Nat.zero_le _, Nat.zero_le _⟩ dX9_line_156 (fun H locs hw hS => ?_)
    refine lv_aload_n hx hb dX9_line_159 rfl (lv_at hl 0 rfl) ?_
    rcases bdx_e hF with ⟨r_62, σ_63, h_64, hF⟩ | ⟨x_65, σ_63, h_64, hF⟩
    · refine r_callVv (As := []) (rest := []) (i := 32) C hw hS wi_rd rfl (ci := 9) rfl (met_X9_next l G q  h_64) (cwV 0 hts (lw_V q314 q316 qs0 q66 q317) rfl rfl rfl (by decide +kernel) ⟨Nat.le_of_ble_eq_true rfl, Nat.le_of_ble_eq_true rfl⟩) rfl hl.1 rfl (Nat.le_of_ble_eq_true rfl) ⟨Nat.zero_le _, Nat.zero_le _⟩ dX9_line_160 (fun H locs hw hS => ?_)
      cases hF
    · refine r_callVx (As := []) (rest := []) (i := 32) C hw hS wi_rd rfl (ci := 9) rfl (mex_X9_next l G q  h_64) (cwV 0 hts (lw_V q314 q316 qs0 q66 q317) rfl rfl rfl (by decide +kernel) ⟨Nat.le_of_ble_eq_true rfl, Nat.le_of_ble_eq_true rfl⟩) rfl hl.1 rfl (Nat.le_of_ble_eq_true rfl) ⟨Nat.le_of_ble_eq_true rfl, Nat.le_of_ble_eq_true rfl⟩ dX9_line_160 (fun H locs q9 ce hw hS h9 hv9 hc9 hft9 => ?_)
      obtain ⟨rfl, rfl⟩ := so_r hF
      exact vx_out (fun z hz => (hout z hz).elim) hlk h9 hv9 hc9 (fun t ht _ => ⟨(), trivial, ⟨rfl, by subst ht; exact hw, by subst ht; exact hft9⟩, hS.F ht⟩) hS.2.2 (Nat.le_of_ble_eq_true rfl) (Nat.le_of_ble_eq_true rfl)
  · refine r_callVx (As := [.int z0, .int (2 : Int32)]) (rest := []) (i := 32) C hw hS wi_rd rfl (ci := 9) rfl (mex_X9_need l G q  h_60) (cwV 2 hts (lw_V q322 q324 qs2 q66 q325) rfl rfl rfl (by decide +kernel) ⟨Nat.le_of_ble_eq_true rfl, Nat.le_of_ble_eq_true rfl⟩) rfl hl.1 rfl (Nat.le_of_ble_eq_true rfl) ⟨Nat.le_of_ble_eq_true rfl, Nat.le_of_ble_eq_true rfl⟩ dX9_line_156 (fun H locs q9 ce hw hS h9 hv9 hc9 hft9 => ?_)
    obtain ⟨rfl, rfl⟩ := so_r hF
    exact vx_out (fun z hz => (hout z hz).elim) hlk h9 hv9 hc9 (fun t ht _ => ⟨(), trivial, ⟨rfl, by subst ht; exact hw, by subst ht; exact hft9⟩, hS.F ht⟩) hS.2.2 (Nat.le_of_ble_eq_true rfl) (Nat.le_of_ble_eq_true rfl)
noncomputable def F_X9_line_128 (N : Nat) (x1 : Int32) (z0 : Int32) (z1 : Int32) (σ : SS) : Option ((Unit ⊕ XI) × SS) :=
  gd ((z1 ||| z0) = 0 ∨ (z1 ||| z0) = 1) <|
  nm (si σ 32 2 (z1 ||| z0)) fun σ_67 =>
  bdx (F_X9_next N σ_67)
    (fun r_68 σ_69 =>
      bdx (F_X9_told N x1 σ_69)
        (fun r_72 σ_73 =>
          if (gi σ_73 32 5) = (3 : Int32) then
            F_X9_line_155 N (1 : Int32) σ_73
          else
            F_X9_line_155 N (0 : Int32) σ_73)
        (fun x_75 σ_73 => some (Sum.inr x_75, σ_73)))
    (fun x_71 σ_69 => some (Sum.inr x_71, σ_69))
set_option maxRecDepth 100000 in
theorem w_X9_line_128 {p : Program} {l : Launch} {e : Env} {s : State} {m : MethodId} {args : Array Value} {below : List Frame} {meth : Method} {c : Code} {G : GG} {q : Nat → Nat} {N : Nat} {r : Unit} {σ' : SS} (C : cx p s m args meth c cX9_line 2 RX9 none G) : ∀ (x1 : Int32) (z0 : Int32) (z1 : Int32) (σ : SS) (H : Heap) (locs : List Loc) (ls : Array Slot), F_X9_line_128 N x1 z0 z1 σ = some (Sum.inl r, σ') → wx G true q σ H → va_S (fa G) s.heap H locs → lv_has ls 2 [(0, .ref (q 32)), (1, .int x1)] → W p l e rmX9_line s m args below meth c H locs 0 0 (MQ below (qxv G true q σ' r) args s 0 0 (fa G)) (F0 m 128 ls [.int z0, .int z1, .ref (q 32)]) := by
  obtain ⟨hx, hb, hml, hown, hts, -, hlk, hk0, -⟩ := id C
  intro x1 z0 z1 σ H locs ls hF hw hS hl
  unfold F_X9_line_128 at hF
  refine lv_ior hx hb dX9_line_128 ?_
  obtain ⟨h_66, hF⟩ := gd_e hF
  obtain ⟨σ_67, eσ_67, hF⟩ := nm_e2 hF
  refine r_put9 C hw hS 2 (by decide) rfl rfl (tyX9_ok 2 (by decide)) (nar_z h_66) (fit_z h_66) q413 dX9_line_129 eσ_67 (fun H locs hw hS => ?_)
  refine lv_aload_n hx hb dX9_line_132 rfl (lv_at hl 0 rfl) ?_
  rcases bdx_e hF with ⟨r_68, σ_69, h_70, hF⟩ | ⟨x_71, σ_69, h_70, hF⟩
  · refine r_callVv (As := []) (rest := []) (i := 32) C hw hS wi_rd rfl (ci := 9) rfl (met_X9_next l G q  h_70) (cwV 0 hts (lw_V q314 q316 qs0 q66 q317) rfl rfl rfl (by decide +kernel) ⟨Nat.le_of_ble_eq_true rfl, Nat.le_of_ble_eq_true rfl⟩) rfl hl.1 rfl (Nat.le_of_ble_eq_true rfl) ⟨Nat.zero_le _, Nat.zero_le _⟩ dX9_line_133 (fun H locs hw hS => ?_)
    refine lv_aload_n hx hb dX9_line_136 rfl (lv_at hl 0 rfl) ?_
    refine lv_iload_n hx hb dX9_line_137 rfl (lv_at hl 1 rfl) ?_
    rcases bdx_e hF with ⟨r_72, σ_73, h_74, hF⟩ | ⟨x_75, σ_73, h_74, hF⟩
    · refine r_callVv (As := [.int x1]) (rest := []) (i := 32) C hw hS wi_rd rfl (ci := 9) rfl (met_X9_told l G q  h_74) (cwV 1 hts (lw_V q508 q510 qs8 q66 q511) rfl rfl rfl (by decide +kernel) ⟨Nat.le_of_ble_eq_true rfl, Nat.le_of_ble_eq_true rfl⟩) rfl hl.1 rfl (Nat.le_of_ble_eq_true rfl) ⟨Nat.zero_le _, Nat.zero_le _⟩ dX9_line_138 (fun H locs hw hS => ?_)
      refine lv_aload_n hx hb dX9_line_141 rfl (lv_at hl 0 rfl) ?_
      refine lv_aload_n hx hb dX9_line_142 rfl (lv_at hl 0 rfl) ?_
      refine r_get9 C hw 5 (by decide) rfl (v := .int (gi σ_73 32 5)) rfl q416 dX9_line_143 ?_
      refine lv_iconst (v := (3 : Int32)) hx hb dX9_line_146 (by decide) ?_
      refine lv_icmp_ne (tgt := 154) hx hb dX9_line_147 (by decide) (fun c_76 => ?_) (fun c_76 => ?_)
      · have hF := if_e hF c_76
        refine lv_iconst (v := (0 : Int32)) hx hb dX9_line_154 (by decide) ?_
        exact w_X9_line_155 C   _ _ _ _ _ hF hw hS (lv_sub hl [0] rfl)
      · have hF := it_e hF c_76
        refine lv_iconst (v := (1 : Int32)) hx hb dX9_line_150 (by decide) ?_
        refine lv_goto (tgt := 155) hx hb dX9_line_151 (by decide) ?_
        exact w_X9_line_155 C   _ _ _ _ _ hF hw hS (lv_sub hl [0] rfl)
    · cases hF
  · cases hF
set_option maxRecDepth 100000 in
theorem x_X9_line_128 {p : Program} {l : Launch} {e : Env} {s : State} {m : MethodId} {args : Array Value} {below : List Frame} {meth : Method} {c : Code} {G : GG} {q : Nat → Nat} {N : Nat} {x : XI} {σ' : SS} (C : cx p s m args meth c cX9_line 2 RX9 none G) (hout : ∀ z ∈ c.exceptionTable.toList, False) : ∀ (x1 : Int32) (z0 : Int32) (z1 : Int32) (σ : SS) (H : Heap) (locs : List Loc) (ls : Array Slot), F_X9_line_128 N x1 z0 z1 σ = some (Sum.inr x, σ') → wx G true q σ H → va_S (fa G) s.heap H locs → lv_has ls 2 [(0, .ref (q 32)), (1, .int x1)] → W p l e rmX9_linex s m args below meth c H locs 0 0 (vx_MQ below (fun _ _ _ _ => False) (qxx G true q σ' x) args s 1 8 (fa G)) (F0 m 128 ls [.int z0, .int z1, .ref (q 32)]) := by
  obtain ⟨hx, hb, hml, hown, hts, -, hlk, hk0, -⟩ := id C
  intro x1 z0 z1 σ H locs ls hF hw hS hl
  unfold F_X9_line_128 at hF
  refine lv_ior hx hb dX9_line_128 ?_
  obtain ⟨h_77, hF⟩ := gd_e hF
  obtain ⟨σ_78, eσ_78, hF⟩ := nm_e2 hF
  refine r_put9 C hw hS 2 (by decide) rfl rfl (tyX9_ok 2 (by decide)) (nar_z h_77) (fit_z h_77) q413 dX9_line_129 eσ_78 (fun H locs hw hS => ?_)
  refine lv_aload_n hx hb dX9_line_132 rfl (lv_at hl 0 rfl) ?_
  rcases bdx_e hF with ⟨r_79, σ_80, h_81, hF⟩ | ⟨x_82, σ_80, h_81, hF⟩
  · refine r_callVv (As := []) (rest := []) (i := 32) C hw hS wi_rd rfl (ci := 9) rfl (met_X9_next l G q  h_81) (cwV 0 hts (lw_V q314 q316 qs0 q66 q317) rfl rfl rfl (by decide +kernel) ⟨Nat.le_of_ble_eq_true rfl, Nat.le_of_ble_eq_true rfl⟩) rfl hl.1 rfl (Nat.le_of_ble_eq_true rfl) ⟨Nat.zero_le _, Nat.zero_le _⟩ dX9_line_133 (fun H locs hw hS => ?_)
    refine lv_aload_n hx hb dX9_line_136 rfl (lv_at hl 0 rfl) ?_
    refine lv_iload_n hx hb dX9_line_137 rfl (lv_at hl 1 rfl) ?_
    rcases bdx_e hF with ⟨r_83, σ_84, h_85, hF⟩ | ⟨x_86, σ_84, h_85, hF⟩
    · refine r_callVv (As := [.int x1]) (rest := []) (i := 32) C hw hS wi_rd rfl (ci := 9) rfl (met_X9_told l G q  h_85) (cwV 1 hts (lw_V q508 q510 qs8 q66 q511) rfl rfl rfl (by decide +kernel) ⟨Nat.le_of_ble_eq_true rfl, Nat.le_of_ble_eq_true rfl⟩) rfl hl.1 rfl (Nat.le_of_ble_eq_true rfl) ⟨Nat.zero_le _, Nat.zero_le _⟩ dX9_line_138 (fun H locs hw hS => ?_)
      refine lv_aload_n hx hb dX9_line_141 rfl (lv_at hl 0 rfl) ?_
      refine lv_aload_n hx hb dX9_line_142 rfl (lv_at hl 0 rfl) ?_
      refine r_get9 C hw 5 (by decide) rfl (v := .int (gi σ_84 32 5)) rfl q416 dX9_line_143 ?_
      refine lv_iconst (v := (3 : Int32)) hx hb dX9_line_146 (by decide) ?_
      refine lv_icmp_ne (tgt := 154) hx hb dX9_line_147 (by decide) (fun c_87 => ?_) (fun c_87 => ?_)
      · have hF := if_e hF c_87
        refine lv_iconst (v := (0 : Int32)) hx hb dX9_line_154 (by decide) ?_
        exact x_X9_line_155 C hout   _ _ _ _ _ hF hw hS (lv_sub hl [0] rfl)
      · have hF := it_e hF c_87
        refine lv_iconst (v := (1 : Int32)) hx hb dX9_line_150 (by decide) ?_
        refine lv_goto (tgt := 155) hx hb dX9_line_151 (by decide) ?_
        exact x_X9_line_155 C hout   _ _ _ _ _ hF hw hS (lv_sub hl [0] rfl)
    · refine r_callVx (As := [.int x1]) (rest := []) (i := 32) C hw hS wi_rd rfl (ci := 9) rfl (mex_X9_told l G q  h_85) (cwV 1 hts (lw_V q508 q510 qs8 q66 q511) rfl rfl rfl (by decide +kernel) ⟨Nat.le_of_ble_eq_true rfl, Nat.le_of_ble_eq_true rfl⟩) rfl hl.1 rfl (Nat.le_of_ble_eq_true rfl) ⟨Nat.le_of_ble_eq_true rfl, Nat.le_of_ble_eq_true rfl⟩ dX9_line_138 (fun H locs q9 ce hw hS h9 hv9 hc9 hft9 => ?_)
      obtain ⟨rfl, rfl⟩ := so_r hF
      exact vx_out (fun z hz => (hout z hz).elim) hlk h9 hv9 hc9 (fun t ht _ => ⟨(), trivial, ⟨rfl, by subst ht; exact hw, by subst ht; exact hft9⟩, hS.F ht⟩) hS.2.2 (Nat.le_of_ble_eq_true rfl) (Nat.le_of_ble_eq_true rfl)
  · refine r_callVx (As := []) (rest := []) (i := 32) C hw hS wi_rd rfl (ci := 9) rfl (mex_X9_next l G q  h_81) (cwV 0 hts (lw_V q314 q316 qs0 q66 q317) rfl rfl rfl (by decide +kernel) ⟨Nat.le_of_ble_eq_true rfl, Nat.le_of_ble_eq_true rfl⟩) rfl hl.1 rfl (Nat.le_of_ble_eq_true rfl) ⟨Nat.le_of_ble_eq_true rfl, Nat.le_of_ble_eq_true rfl⟩ dX9_line_133 (fun H locs q9 ce hw hS h9 hv9 hc9 hft9 => ?_)
    obtain ⟨rfl, rfl⟩ := so_r hF
    exact vx_out (fun z hz => (hout z hz).elim) hlk h9 hv9 hc9 (fun t ht _ => ⟨(), trivial, ⟨rfl, by subst ht; exact hw, by subst ht; exact hft9⟩, hS.F ht⟩) hS.2.2 (Nat.le_of_ble_eq_true rfl) (Nat.le_of_ble_eq_true rfl)
noncomputable def F_X9_line_109 (N : Nat) (x1 : Int32) (z0 : Int32) (σ : SS) : Option ((Unit ⊕ XI) × SS) :=
  bdx (F_X9_need N z0 (4 : Int32) σ)
    (fun r_88 σ_89 =>
      if x1 = (4 : Int32) then
        F_X9_line_128 N x1 (1 : Int32) (gi σ_89 32 2) σ_89
      else
        F_X9_line_128 N x1 (0 : Int32) (gi σ_89 32 2) σ_89)
    (fun x_91 σ_89 => some (Sum.inr x_91, σ_89))
set_option maxRecDepth 100000 in
theorem w_X9_line_109 {p : Program} {l : Launch} {e : Env} {s : State} {m : MethodId} {args : Array Value} {below : List Frame} {meth : Method} {c : Code} {G : GG} {q : Nat → Nat} {N : Nat} {r : Unit} {σ' : SS} (C : cx p s m args meth c cX9_line 2 RX9 none G) : ∀ (x1 : Int32) (z0 : Int32) (σ : SS) (H : Heap) (locs : List Loc) (ls : Array Slot), F_X9_line_109 N x1 z0 σ = some (Sum.inl r, σ') → wx G true q σ H → va_S (fa G) s.heap H locs → lv_has ls 2 [(0, .ref (q 32)), (1, .int x1)] → W p l e rmX9_line s m args below meth c H locs 0 0 (MQ below (qxv G true q σ' r) args s 0 0 (fa G)) (F0 m 109 ls [.int z0, .ref (q 32)]) := by
  obtain ⟨hx, hb, hml, hown, hts, -, hlk, hk0, -⟩ := id C
  intro x1 z0 σ H locs ls hF hw hS hl
  unfold F_X9_line_109 at hF
  refine lv_iconst (v := (4 : Int32)) hx hb dX9_line_109 (by decide) ?_
  rcases bdx_e hF with ⟨r_88, σ_89, h_90, hF⟩ | ⟨x_91, σ_89, h_90, hF⟩
  · refine r_callVv (As := [.int z0, .int (4 : Int32)]) (rest := []) (i := 32) C hw hS wi_rd rfl (ci := 9) rfl (met_X9_need l G q  h_90) (cwV 2 hts (lw_V q322 q324 qs2 q66 q325) rfl rfl rfl (by decide +kernel) ⟨Nat.le_of_ble_eq_true rfl, Nat.le_of_ble_eq_true rfl⟩) rfl hl.1 rfl (Nat.le_of_ble_eq_true rfl) ⟨Nat.zero_le _, Nat.zero_le _⟩ dX9_line_110 (fun H locs hw hS => ?_)
    refine lv_aload_n hx hb dX9_line_113 rfl (lv_at hl 0 rfl) ?_
    refine lv_dup hx hb dX9_line_114 rfl ?_
    refine r_get9 C hw 2 (by decide) rfl (v := .int (gi σ_89 32 2)) rfl q413 dX9_line_115 ?_
    refine lv_iload_n hx hb dX9_line_118 rfl (lv_at hl 1 rfl) ?_
    refine lv_iconst (v := (4 : Int32)) hx hb dX9_line_119 (by decide) ?_
    refine lv_icmp_ne (tgt := 127) hx hb dX9_line_120 (by decide) (fun c_92 => ?_) (fun c_92 => ?_)
    · have hF := if_e hF c_92
      refine lv_iconst (v := (0 : Int32)) hx hb dX9_line_127 (by decide) ?_
      exact w_X9_line_128 C   _ _ _ _ _ _ _ hF hw hS (lv_sub hl [0, 1] rfl)
    · have hF := it_e hF c_92
      refine lv_iconst (v := (1 : Int32)) hx hb dX9_line_123 (by decide) ?_
      refine lv_goto (tgt := 128) hx hb dX9_line_124 (by decide) ?_
      exact w_X9_line_128 C   _ _ _ _ _ _ _ hF hw hS (lv_sub hl [0, 1] rfl)
  · cases hF
set_option maxRecDepth 100000 in
theorem x_X9_line_109 {p : Program} {l : Launch} {e : Env} {s : State} {m : MethodId} {args : Array Value} {below : List Frame} {meth : Method} {c : Code} {G : GG} {q : Nat → Nat} {N : Nat} {x : XI} {σ' : SS} (C : cx p s m args meth c cX9_line 2 RX9 none G) (hout : ∀ z ∈ c.exceptionTable.toList, False) : ∀ (x1 : Int32) (z0 : Int32) (σ : SS) (H : Heap) (locs : List Loc) (ls : Array Slot), F_X9_line_109 N x1 z0 σ = some (Sum.inr x, σ') → wx G true q σ H → va_S (fa G) s.heap H locs → lv_has ls 2 [(0, .ref (q 32)), (1, .int x1)] → W p l e rmX9_linex s m args below meth c H locs 0 0 (vx_MQ below (fun _ _ _ _ => False) (qxx G true q σ' x) args s 1 8 (fa G)) (F0 m 109 ls [.int z0, .ref (q 32)]) := by
  obtain ⟨hx, hb, hml, hown, hts, -, hlk, hk0, -⟩ := id C
  intro x1 z0 σ H locs ls hF hw hS hl
  unfold F_X9_line_109 at hF
  refine lv_iconst (v := (4 : Int32)) hx hb dX9_line_109 (by decide) ?_
  rcases bdx_e hF with ⟨r_93, σ_94, h_95, hF⟩ | ⟨x_96, σ_94, h_95, hF⟩
  · refine r_callVv (As := [.int z0, .int (4 : Int32)]) (rest := []) (i := 32) C hw hS wi_rd rfl (ci := 9) rfl (met_X9_need l G q  h_95) (cwV 2 hts (lw_V q322 q324 qs2 q66 q325) rfl rfl rfl (by decide +kernel) ⟨Nat.le_of_ble_eq_true rfl, Nat.le_of_ble_eq_true rfl⟩) rfl hl.1 rfl (Nat.le_of_ble_eq_true rfl) ⟨Nat.zero_le _, Nat.zero_le _⟩ dX9_line_110 (fun H locs hw hS => ?_)
    refine lv_aload_n hx hb dX9_line_113 rfl (lv_at hl 0 rfl) ?_
    refine lv_dup hx hb dX9_line_114 rfl ?_
    refine r_get9 C hw 2 (by decide) rfl (v := .int (gi σ_94 32 2)) rfl q413 dX9_line_115 ?_
    refine lv_iload_n hx hb dX9_line_118 rfl (lv_at hl 1 rfl) ?_
    refine lv_iconst (v := (4 : Int32)) hx hb dX9_line_119 (by decide) ?_
    refine lv_icmp_ne (tgt := 127) hx hb dX9_line_120 (by decide) (fun c_97 => ?_) (fun c_97 => ?_)
    · have hF := if_e hF c_97
      refine lv_iconst (v := (0 : Int32)) hx hb dX9_line_127 (by decide) ?_
      exact x_X9_line_128 C hout   _ _ _ _ _ _ _ hF hw hS (lv_sub hl [0, 1] rfl)
    · have hF := it_e hF c_97
      refine lv_iconst (v := (1 : Int32)) hx hb dX9_line_123 (by decide) ?_
      refine lv_goto (tgt := 128) hx hb dX9_line_124 (by decide) ?_
      exact x_X9_line_128 C hout   _ _ _ _ _ _ _ hF hw hS (lv_sub hl [0, 1] rfl)
  · refine r_callVx (As := [.int z0, .int (4 : Int32)]) (rest := []) (i := 32) C hw hS wi_rd rfl (ci := 9) rfl (mex_X9_need l G q  h_95) (cwV 2 hts (lw_V q322 q324 qs2 q66 q325) rfl rfl rfl (by decide +kernel) ⟨Nat.le_of_ble_eq_true rfl, Nat.le_of_ble_eq_true rfl⟩) rfl hl.1 rfl (Nat.le_of_ble_eq_true rfl) ⟨Nat.le_of_ble_eq_true rfl, Nat.le_of_ble_eq_true rfl⟩ dX9_line_110 (fun H locs q9 ce hw hS h9 hv9 hc9 hft9 => ?_)
    obtain ⟨rfl, rfl⟩ := so_r hF
    exact vx_out (fun z hz => (hout z hz).elim) hlk h9 hv9 hc9 (fun t ht _ => ⟨(), trivial, ⟨rfl, by subst ht; exact hw, by subst ht; exact hft9⟩, hS.F ht⟩) hS.2.2 (Nat.le_of_ble_eq_true rfl) (Nat.le_of_ble_eq_true rfl)
noncomputable def F_X9_line_104 (N : Nat) (x1 : Int32) (σ : SS) : Option ((Unit ⊕ XI) × SS) :=
  F_X9_line_109 N x1 (1 : Int32) σ
set_option maxRecDepth 100000 in
theorem w_X9_line_104 {p : Program} {l : Launch} {e : Env} {s : State} {m : MethodId} {args : Array Value} {below : List Frame} {meth : Method} {c : Code} {G : GG} {q : Nat → Nat} {N : Nat} {r : Unit} {σ' : SS} (C : cx p s m args meth c cX9_line 2 RX9 none G) : ∀ (x1 : Int32) (σ : SS) (H : Heap) (locs : List Loc) (ls : Array Slot), F_X9_line_104 N x1 σ = some (Sum.inl r, σ') → wx G true q σ H → va_S (fa G) s.heap H locs → lv_has ls 2 [(0, .ref (q 32)), (1, .int x1)] → W p l e rmX9_line s m args below meth c H locs 0 0 (MQ below (qxv G true q σ' r) args s 0 0 (fa G)) (F0 m 104 ls [.ref (q 32)]) := by
  obtain ⟨hx, hb, hml, hown, hts, -, hlk, hk0, -⟩ := id C
  intro x1 σ H locs ls hF hw hS hl
  unfold F_X9_line_104 at hF
  refine lv_iconst (v := (1 : Int32)) hx hb dX9_line_104 (by decide) ?_
  refine lv_goto (tgt := 109) hx hb dX9_line_105 (by decide) ?_
  exact w_X9_line_109 C   _ _ _ _ _ _ hF hw hS (lv_sub hl [0, 1] rfl)
set_option maxRecDepth 100000 in
theorem x_X9_line_104 {p : Program} {l : Launch} {e : Env} {s : State} {m : MethodId} {args : Array Value} {below : List Frame} {meth : Method} {c : Code} {G : GG} {q : Nat → Nat} {N : Nat} {x : XI} {σ' : SS} (C : cx p s m args meth c cX9_line 2 RX9 none G) (hout : ∀ z ∈ c.exceptionTable.toList, False) : ∀ (x1 : Int32) (σ : SS) (H : Heap) (locs : List Loc) (ls : Array Slot), F_X9_line_104 N x1 σ = some (Sum.inr x, σ') → wx G true q σ H → va_S (fa G) s.heap H locs → lv_has ls 2 [(0, .ref (q 32)), (1, .int x1)] → W p l e rmX9_linex s m args below meth c H locs 0 0 (vx_MQ below (fun _ _ _ _ => False) (qxx G true q σ' x) args s 1 8 (fa G)) (F0 m 104 ls [.ref (q 32)]) := by
  obtain ⟨hx, hb, hml, hown, hts, -, hlk, hk0, -⟩ := id C
  intro x1 σ H locs ls hF hw hS hl
  unfold F_X9_line_104 at hF
  refine lv_iconst (v := (1 : Int32)) hx hb dX9_line_104 (by decide) ?_
  refine lv_goto (tgt := 109) hx hb dX9_line_105 (by decide) ?_
  exact x_X9_line_109 C hout   _ _ _ _ _ _ hF hw hS (lv_sub hl [0, 1] rfl)
noncomputable def F_X9_line_87 (N : Nat) (x1 : Int32) (z0 : Int32) (σ : SS) : Option ((Unit ⊕ XI) × SS) :=
  bdx (F_X9_need N z0 (5 : Int32) σ)
    (fun r_98 σ_99 =>
      if x1 = (4 : Int32) then
        if (gi σ_99 32 2) = (0 : Int32) then
          F_X9_line_104 N x1 σ_99
        else
          F_X9_line_109 N x1 (0 : Int32) σ_99
      else
        F_X9_line_104 N x1 σ_99)
    (fun x_101 σ_99 => some (Sum.inr x_101, σ_99))
set_option maxRecDepth 100000 in
theorem w_X9_line_87 {p : Program} {l : Launch} {e : Env} {s : State} {m : MethodId} {args : Array Value} {below : List Frame} {meth : Method} {c : Code} {G : GG} {q : Nat → Nat} {N : Nat} {r : Unit} {σ' : SS} (C : cx p s m args meth c cX9_line 2 RX9 none G) : ∀ (x1 : Int32) (z0 : Int32) (σ : SS) (H : Heap) (locs : List Loc) (ls : Array Slot), F_X9_line_87 N x1 z0 σ = some (Sum.inl r, σ') → wx G true q σ H → va_S (fa G) s.heap H locs → lv_has ls 2 [(0, .ref (q 32)), (1, .int x1)] → W p l e rmX9_line s m args below meth c H locs 0 0 (MQ below (qxv G true q σ' r) args s 0 0 (fa G)) (F0 m 87 ls [.int z0, .ref (q 32)]) := by
  obtain ⟨hx, hb, hml, hown, hts, -, hlk, hk0, -⟩ := id C
  intro x1 z0 σ H locs ls hF hw hS hl
  unfold F_X9_line_87 at hF
  refine lv_iconst (v := (5 : Int32)) hx hb dX9_line_87 (by decide) ?_
  rcases bdx_e hF with ⟨r_98, σ_99, h_100, hF⟩ | ⟨x_101, σ_99, h_100, hF⟩
  · refine r_callVv (As := [.int z0, .int (5 : Int32)]) (rest := []) (i := 32) C hw hS wi_rd rfl (ci := 9) rfl (met_X9_need l G q  h_100) (cwV 2 hts (lw_V q322 q324 qs2 q66 q325) rfl rfl rfl (by decide +kernel) ⟨Nat.le_of_ble_eq_true rfl, Nat.le_of_ble_eq_true rfl⟩) rfl hl.1 rfl (Nat.le_of_ble_eq_true rfl) ⟨Nat.zero_le _, Nat.zero_le _⟩ dX9_line_88 (fun H locs hw hS => ?_)
    refine lv_aload_n hx hb dX9_line_91 rfl (lv_at hl 0 rfl) ?_
    refine lv_iload_n hx hb dX9_line_92 rfl (lv_at hl 1 rfl) ?_
    refine lv_iconst (v := (4 : Int32)) hx hb dX9_line_93 (by decide) ?_
    refine lv_icmp_ne (tgt := 104) hx hb dX9_line_94 (by decide) (fun c_102 => ?_) (fun c_102 => ?_)
    · have hF := if_e hF c_102
      exact w_X9_line_104 C   _ _ _ _ _ hF hw hS (lv_sub hl [0, 1] rfl)
    · have hF := it_e hF c_102
      refine lv_aload_n hx hb dX9_line_97 rfl (lv_at hl 0 rfl) ?_
      refine r_get9 C hw 2 (by decide) rfl (v := .int (gi σ_99 32 2)) rfl q413 dX9_line_98 ?_
      refine lv_if_ne (tgt := 108) hx hb dX9_line_101 (by decide) (fun c_103 => ?_) (fun c_103 => ?_)
      · have hF := if_e hF c_103
        refine lv_iconst (v := (0 : Int32)) hx hb dX9_line_108 (by decide) ?_
        exact w_X9_line_109 C   _ _ _ _ _ _ hF hw hS (lv_sub hl [0, 1] rfl)
      · have hF := it_e hF c_103
        exact w_X9_line_104 C   _ _ _ _ _ hF hw hS (lv_sub hl [0, 1] rfl)
  · cases hF
set_option maxRecDepth 100000 in
theorem x_X9_line_87 {p : Program} {l : Launch} {e : Env} {s : State} {m : MethodId} {args : Array Value} {below : List Frame} {meth : Method} {c : Code} {G : GG} {q : Nat → Nat} {N : Nat} {x : XI} {σ' : SS} (C : cx p s m args meth c cX9_line 2 RX9 none G) (hout : ∀ z ∈ c.exceptionTable.toList, False) : ∀ (x1 : Int32) (z0 : Int32) (σ : SS) (H : Heap) (locs : List Loc) (ls : Array Slot), F_X9_line_87 N x1 z0 σ = some (Sum.inr x, σ') → wx G true q σ H → va_S (fa G) s.heap H locs → lv_has ls 2 [(0, .ref (q 32)), (1, .int x1)] → W p l e rmX9_linex s m args below meth c H locs 0 0 (vx_MQ below (fun _ _ _ _ => False) (qxx G true q σ' x) args s 1 8 (fa G)) (F0 m 87 ls [.int z0, .ref (q 32)]) := by
  obtain ⟨hx, hb, hml, hown, hts, -, hlk, hk0, -⟩ := id C
  intro x1 z0 σ H locs ls hF hw hS hl
  unfold F_X9_line_87 at hF
  refine lv_iconst (v := (5 : Int32)) hx hb dX9_line_87 (by decide) ?_
  rcases bdx_e hF with ⟨r_104, σ_105, h_106, hF⟩ | ⟨x_107, σ_105, h_106, hF⟩
  · refine r_callVv (As := [.int z0, .int (5 : Int32)]) (rest := []) (i := 32) C hw hS wi_rd rfl (ci := 9) rfl (met_X9_need l G q  h_106) (cwV 2 hts (lw_V q322 q324 qs2 q66 q325) rfl rfl rfl (by decide +kernel) ⟨Nat.le_of_ble_eq_true rfl, Nat.le_of_ble_eq_true rfl⟩) rfl hl.1 rfl (Nat.le_of_ble_eq_true rfl) ⟨Nat.zero_le _, Nat.zero_le _⟩ dX9_line_88 (fun H locs hw hS => ?_)
    refine lv_aload_n hx hb dX9_line_91 rfl (lv_at hl 0 rfl) ?_
    refine lv_iload_n hx hb dX9_line_92 rfl (lv_at hl 1 rfl) ?_
    refine lv_iconst (v := (4 : Int32)) hx hb dX9_line_93 (by decide) ?_
    refine lv_icmp_ne (tgt := 104) hx hb dX9_line_94 (by decide) (fun c_108 => ?_) (fun c_108 => ?_)
    · have hF := if_e hF c_108
      exact x_X9_line_104 C hout   _ _ _ _ _ hF hw hS (lv_sub hl [0, 1] rfl)
    · have hF := it_e hF c_108
      refine lv_aload_n hx hb dX9_line_97 rfl (lv_at hl 0 rfl) ?_
      refine r_get9 C hw 2 (by decide) rfl (v := .int (gi σ_105 32 2)) rfl q413 dX9_line_98 ?_
      refine lv_if_ne (tgt := 108) hx hb dX9_line_101 (by decide) (fun c_109 => ?_) (fun c_109 => ?_)
      · have hF := if_e hF c_109
        refine lv_iconst (v := (0 : Int32)) hx hb dX9_line_108 (by decide) ?_
        exact x_X9_line_109 C hout   _ _ _ _ _ _ hF hw hS (lv_sub hl [0, 1] rfl)
      · have hF := it_e hF c_109
        exact x_X9_line_104 C hout   _ _ _ _ _ hF hw hS (lv_sub hl [0, 1] rfl)
  · refine r_callVx (As := [.int z0, .int (5 : Int32)]) (rest := []) (i := 32) C hw hS wi_rd rfl (ci := 9) rfl (mex_X9_need l G q  h_106) (cwV 2 hts (lw_V q322 q324 qs2 q66 q325) rfl rfl rfl (by decide +kernel) ⟨Nat.le_of_ble_eq_true rfl, Nat.le_of_ble_eq_true rfl⟩) rfl hl.1 rfl (Nat.le_of_ble_eq_true rfl) ⟨Nat.le_of_ble_eq_true rfl, Nat.le_of_ble_eq_true rfl⟩ dX9_line_88 (fun H locs q9 ce hw hS h9 hv9 hc9 hft9 => ?_)
    obtain ⟨rfl, rfl⟩ := so_r hF
    exact vx_out (fun z hz => (hout z hz).elim) hlk h9 hv9 hc9 (fun t ht _ => ⟨(), trivial, ⟨rfl, by subst ht; exact hw, by subst ht; exact hft9⟩, hS.F ht⟩) hS.2.2 (Nat.le_of_ble_eq_true rfl) (Nat.le_of_ble_eq_true rfl)
noncomputable def F_X9_line_82 (N : Nat) (x1 : Int32) (σ : SS) : Option ((Unit ⊕ XI) × SS) :=
  F_X9_line_87 N x1 (1 : Int32) σ
set_option maxRecDepth 100000 in
theorem w_X9_line_82 {p : Program} {l : Launch} {e : Env} {s : State} {m : MethodId} {args : Array Value} {below : List Frame} {meth : Method} {c : Code} {G : GG} {q : Nat → Nat} {N : Nat} {r : Unit} {σ' : SS} (C : cx p s m args meth c cX9_line 2 RX9 none G) : ∀ (x1 : Int32) (σ : SS) (H : Heap) (locs : List Loc) (ls : Array Slot), F_X9_line_82 N x1 σ = some (Sum.inl r, σ') → wx G true q σ H → va_S (fa G) s.heap H locs → lv_has ls 2 [(0, .ref (q 32)), (1, .int x1)] → W p l e rmX9_line s m args below meth c H locs 0 0 (MQ below (qxv G true q σ' r) args s 0 0 (fa G)) (F0 m 82 ls [.ref (q 32)]) := by
  obtain ⟨hx, hb, hml, hown, hts, -, hlk, hk0, -⟩ := id C
  intro x1 σ H locs ls hF hw hS hl
  unfold F_X9_line_82 at hF
  refine lv_iconst (v := (1 : Int32)) hx hb dX9_line_82 (by decide) ?_
  refine lv_goto (tgt := 87) hx hb dX9_line_83 (by decide) ?_
  exact w_X9_line_87 C   _ _ _ _ _ _ hF hw hS (lv_sub hl [0, 1] rfl)
set_option maxRecDepth 100000 in
theorem x_X9_line_82 {p : Program} {l : Launch} {e : Env} {s : State} {m : MethodId} {args : Array Value} {below : List Frame} {meth : Method} {c : Code} {G : GG} {q : Nat → Nat} {N : Nat} {x : XI} {σ' : SS} (C : cx p s m args meth c cX9_line 2 RX9 none G) (hout : ∀ z ∈ c.exceptionTable.toList, False) : ∀ (x1 : Int32) (σ : SS) (H : Heap) (locs : List Loc) (ls : Array Slot), F_X9_line_82 N x1 σ = some (Sum.inr x, σ') → wx G true q σ H → va_S (fa G) s.heap H locs → lv_has ls 2 [(0, .ref (q 32)), (1, .int x1)] → W p l e rmX9_linex s m args below meth c H locs 0 0 (vx_MQ below (fun _ _ _ _ => False) (qxx G true q σ' x) args s 1 8 (fa G)) (F0 m 82 ls [.ref (q 32)]) := by
  obtain ⟨hx, hb, hml, hown, hts, -, hlk, hk0, -⟩ := id C
  intro x1 σ H locs ls hF hw hS hl
  unfold F_X9_line_82 at hF
  refine lv_iconst (v := (1 : Int32)) hx hb dX9_line_82 (by decide) ?_
  refine lv_goto (tgt := 87) hx hb dX9_line_83 (by decide) ?_
  exact x_X9_line_87 C hout   _ _ _ _ _ _ hF hw hS (lv_sub hl [0, 1] rfl)
noncomputable def F_X9_line_60 (N : Nat) (x1 : Int32) (z0 : Int32) (σ : SS) : Option ((Unit ⊕ XI) × SS) :=
  bdx (F_X9_need N z0 (5 : Int32) σ)
    (fun r_110 σ_111 =>
      if x1 < (5 : Int32) then
        F_X9_line_82 N x1 σ_111
      else
        if (16 : Int32) ≤ (gi σ_111 (iS 4) 33) then
          F_X9_line_87 N x1 (0 : Int32) σ_111
        else
          F_X9_line_82 N x1 σ_111)
    (fun x_113 σ_111 => some (Sum.inr x_113, σ_111))
set_option maxRecDepth 100000 in
theorem w_X9_line_60 {p : Program} {l : Launch} {e : Env} {s : State} {m : MethodId} {args : Array Value} {below : List Frame} {meth : Method} {c : Code} {G : GG} {q : Nat → Nat} {N : Nat} {r : Unit} {σ' : SS} (C : cx p s m args meth c cX9_line 2 RX9 none G) : ∀ (x1 : Int32) (z0 : Int32) (σ : SS) (H : Heap) (locs : List Loc) (ls : Array Slot), F_X9_line_60 N x1 z0 σ = some (Sum.inl r, σ') → wx G true q σ H → va_S (fa G) s.heap H locs → lv_has ls 2 [(0, .ref (q 32)), (1, .int x1)] → W p l e rmX9_line s m args below meth c H locs 0 0 (MQ below (qxv G true q σ' r) args s 0 0 (fa G)) (F0 m 60 ls [.int z0, .ref (q 32)]) := by
  obtain ⟨hx, hb, hml, hown, hts, -, hlk, hk0, -⟩ := id C
  intro x1 z0 σ H locs ls hF hw hS hl
  unfold F_X9_line_60 at hF
  refine lv_iconst (v := (5 : Int32)) hx hb dX9_line_60 (by decide) ?_
  rcases bdx_e hF with ⟨r_110, σ_111, h_112, hF⟩ | ⟨x_113, σ_111, h_112, hF⟩
  · refine r_callVv (As := [.int z0, .int (5 : Int32)]) (rest := []) (i := 32) C hw hS wi_rd rfl (ci := 9) rfl (met_X9_need l G q  h_112) (cwV 2 hts (lw_V q322 q324 qs2 q66 q325) rfl rfl rfl (by decide +kernel) ⟨Nat.le_of_ble_eq_true rfl, Nat.le_of_ble_eq_true rfl⟩) rfl hl.1 rfl (Nat.le_of_ble_eq_true rfl) ⟨Nat.zero_le _, Nat.zero_le _⟩ dX9_line_61 (fun H locs hw hS => ?_)
    refine lv_aload_n hx hb dX9_line_64 rfl (lv_at hl 0 rfl) ?_
    refine lv_iload_n hx hb dX9_line_65 rfl (lv_at hl 1 rfl) ?_
    refine lv_iconst (v := (5 : Int32)) hx hb dX9_line_66 (by decide) ?_
    refine lv_icmp_lt (tgt := 82) hx hb dX9_line_67 (by decide) (fun c_114 => ?_) (fun c_114 => ?_)
    · have hF := it_e hF c_114
      exact w_X9_line_82 C   _ _ _ _ _ hF hw hS (lv_sub hl [0, 1] rfl)
    · have hF := if_e hF c_114
      refine lv_aload_n hx hb dX9_line_70 rfl (lv_at hl 0 rfl) ?_
      refine r_get9 C hw 1 (by decide) rfl (v := .ref (q (iS 4))) rfl q411 dX9_line_71 ?_
      refine r_getSN C hw okS_4 4 (by decide) rfl (v := .int (gi σ_111 (iS 4) 33)) rfl 14 rfl dX9_line_74 ?_
      refine lv_bipush (v := (16 : Int32)) hx hb dX9_line_77 (by decide) ?_
      refine lv_icmp_ge (tgt := 86) hx hb dX9_line_79 (by decide) (fun c_115 => ?_) (fun c_115 => ?_)
      · have hF := it_e hF c_115
        refine lv_iconst (v := (0 : Int32)) hx hb dX9_line_86 (by decide) ?_
        exact w_X9_line_87 C   _ _ _ _ _ _ hF hw hS (lv_sub hl [0, 1] rfl)
      · have hF := if_e hF c_115
        exact w_X9_line_82 C   _ _ _ _ _ hF hw hS (lv_sub hl [0, 1] rfl)
  · cases hF
set_option maxRecDepth 100000 in
theorem x_X9_line_60 {p : Program} {l : Launch} {e : Env} {s : State} {m : MethodId} {args : Array Value} {below : List Frame} {meth : Method} {c : Code} {G : GG} {q : Nat → Nat} {N : Nat} {x : XI} {σ' : SS} (C : cx p s m args meth c cX9_line 2 RX9 none G) (hout : ∀ z ∈ c.exceptionTable.toList, False) : ∀ (x1 : Int32) (z0 : Int32) (σ : SS) (H : Heap) (locs : List Loc) (ls : Array Slot), F_X9_line_60 N x1 z0 σ = some (Sum.inr x, σ') → wx G true q σ H → va_S (fa G) s.heap H locs → lv_has ls 2 [(0, .ref (q 32)), (1, .int x1)] → W p l e rmX9_linex s m args below meth c H locs 0 0 (vx_MQ below (fun _ _ _ _ => False) (qxx G true q σ' x) args s 1 8 (fa G)) (F0 m 60 ls [.int z0, .ref (q 32)]) := by
  obtain ⟨hx, hb, hml, hown, hts, -, hlk, hk0, -⟩ := id C
  intro x1 z0 σ H locs ls hF hw hS hl
  unfold F_X9_line_60 at hF
  refine lv_iconst (v := (5 : Int32)) hx hb dX9_line_60 (by decide) ?_
  rcases bdx_e hF with ⟨r_116, σ_117, h_118, hF⟩ | ⟨x_119, σ_117, h_118, hF⟩
  · refine r_callVv (As := [.int z0, .int (5 : Int32)]) (rest := []) (i := 32) C hw hS wi_rd rfl (ci := 9) rfl (met_X9_need l G q  h_118) (cwV 2 hts (lw_V q322 q324 qs2 q66 q325) rfl rfl rfl (by decide +kernel) ⟨Nat.le_of_ble_eq_true rfl, Nat.le_of_ble_eq_true rfl⟩) rfl hl.1 rfl (Nat.le_of_ble_eq_true rfl) ⟨Nat.zero_le _, Nat.zero_le _⟩ dX9_line_61 (fun H locs hw hS => ?_)
    refine lv_aload_n hx hb dX9_line_64 rfl (lv_at hl 0 rfl) ?_
    refine lv_iload_n hx hb dX9_line_65 rfl (lv_at hl 1 rfl) ?_
    refine lv_iconst (v := (5 : Int32)) hx hb dX9_line_66 (by decide) ?_
    refine lv_icmp_lt (tgt := 82) hx hb dX9_line_67 (by decide) (fun c_120 => ?_) (fun c_120 => ?_)
    · have hF := it_e hF c_120
      exact x_X9_line_82 C hout   _ _ _ _ _ hF hw hS (lv_sub hl [0, 1] rfl)
    · have hF := if_e hF c_120
      refine lv_aload_n hx hb dX9_line_70 rfl (lv_at hl 0 rfl) ?_
      refine r_get9 C hw 1 (by decide) rfl (v := .ref (q (iS 4))) rfl q411 dX9_line_71 ?_
      refine r_getSN C hw okS_4 4 (by decide) rfl (v := .int (gi σ_117 (iS 4) 33)) rfl 14 rfl dX9_line_74 ?_
      refine lv_bipush (v := (16 : Int32)) hx hb dX9_line_77 (by decide) ?_
      refine lv_icmp_ge (tgt := 86) hx hb dX9_line_79 (by decide) (fun c_121 => ?_) (fun c_121 => ?_)
      · have hF := it_e hF c_121
        refine lv_iconst (v := (0 : Int32)) hx hb dX9_line_86 (by decide) ?_
        exact x_X9_line_87 C hout   _ _ _ _ _ _ hF hw hS (lv_sub hl [0, 1] rfl)
      · have hF := if_e hF c_121
        exact x_X9_line_82 C hout   _ _ _ _ _ hF hw hS (lv_sub hl [0, 1] rfl)
  · refine r_callVx (As := [.int z0, .int (5 : Int32)]) (rest := []) (i := 32) C hw hS wi_rd rfl (ci := 9) rfl (mex_X9_need l G q  h_118) (cwV 2 hts (lw_V q322 q324 qs2 q66 q325) rfl rfl rfl (by decide +kernel) ⟨Nat.le_of_ble_eq_true rfl, Nat.le_of_ble_eq_true rfl⟩) rfl hl.1 rfl (Nat.le_of_ble_eq_true rfl) ⟨Nat.le_of_ble_eq_true rfl, Nat.le_of_ble_eq_true rfl⟩ dX9_line_61 (fun H locs q9 ce hw hS h9 hv9 hc9 hft9 => ?_)
    obtain ⟨rfl, rfl⟩ := so_r hF
    exact vx_out (fun z hz => (hout z hz).elim) hlk h9 hv9 hc9 (fun t ht _ => ⟨(), trivial, ⟨rfl, by subst ht; exact hw, by subst ht; exact hft9⟩, hS.F ht⟩) hS.2.2 (Nat.le_of_ble_eq_true rfl) (Nat.le_of_ble_eq_true rfl)
noncomputable def F_X9_line_55 (N : Nat) (x1 : Int32) (σ : SS) : Option ((Unit ⊕ XI) × SS) :=
  F_X9_line_60 N x1 (1 : Int32) σ
set_option maxRecDepth 100000 in
theorem w_X9_line_55 {p : Program} {l : Launch} {e : Env} {s : State} {m : MethodId} {args : Array Value} {below : List Frame} {meth : Method} {c : Code} {G : GG} {q : Nat → Nat} {N : Nat} {r : Unit} {σ' : SS} (C : cx p s m args meth c cX9_line 2 RX9 none G) : ∀ (x1 : Int32) (σ : SS) (H : Heap) (locs : List Loc) (ls : Array Slot), F_X9_line_55 N x1 σ = some (Sum.inl r, σ') → wx G true q σ H → va_S (fa G) s.heap H locs → lv_has ls 2 [(0, .ref (q 32)), (1, .int x1)] → W p l e rmX9_line s m args below meth c H locs 0 0 (MQ below (qxv G true q σ' r) args s 0 0 (fa G)) (F0 m 55 ls [.ref (q 32)]) := by
  obtain ⟨hx, hb, hml, hown, hts, -, hlk, hk0, -⟩ := id C
  intro x1 σ H locs ls hF hw hS hl
  unfold F_X9_line_55 at hF
  refine lv_iconst (v := (1 : Int32)) hx hb dX9_line_55 (by decide) ?_
  refine lv_goto (tgt := 60) hx hb dX9_line_56 (by decide) ?_
  exact w_X9_line_60 C   _ _ _ _ _ _ hF hw hS (lv_sub hl [0, 1] rfl)
set_option maxRecDepth 100000 in
theorem x_X9_line_55 {p : Program} {l : Launch} {e : Env} {s : State} {m : MethodId} {args : Array Value} {below : List Frame} {meth : Method} {c : Code} {G : GG} {q : Nat → Nat} {N : Nat} {x : XI} {σ' : SS} (C : cx p s m args meth c cX9_line 2 RX9 none G) (hout : ∀ z ∈ c.exceptionTable.toList, False) : ∀ (x1 : Int32) (σ : SS) (H : Heap) (locs : List Loc) (ls : Array Slot), F_X9_line_55 N x1 σ = some (Sum.inr x, σ') → wx G true q σ H → va_S (fa G) s.heap H locs → lv_has ls 2 [(0, .ref (q 32)), (1, .int x1)] → W p l e rmX9_linex s m args below meth c H locs 0 0 (vx_MQ below (fun _ _ _ _ => False) (qxx G true q σ' x) args s 1 8 (fa G)) (F0 m 55 ls [.ref (q 32)]) := by
  obtain ⟨hx, hb, hml, hown, hts, -, hlk, hk0, -⟩ := id C
  intro x1 σ H locs ls hF hw hS hl
  unfold F_X9_line_55 at hF
  refine lv_iconst (v := (1 : Int32)) hx hb dX9_line_55 (by decide) ?_
  refine lv_goto (tgt := 60) hx hb dX9_line_56 (by decide) ?_
  exact x_X9_line_60 C hout   _ _ _ _ _ _ hF hw hS (lv_sub hl [0, 1] rfl)
noncomputable def F_X9_line_34 (N : Nat) (x1 : Int32) (z0 : Int32) (σ : SS) : Option ((Unit ⊕ XI) × SS) :=
  bdx (F_X9_need N z0 (2 : Int32) σ)
    (fun r_122 σ_123 =>
      if (4 : Int32) ≤ x1 then
        F_X9_line_55 N x1 σ_123
      else
        if (4 : Int32) ≤ (gi σ_123 (iS 4) 16) then
          F_X9_line_60 N x1 (0 : Int32) σ_123
        else
          F_X9_line_55 N x1 σ_123)
    (fun x_125 σ_123 => some (Sum.inr x_125, σ_123))
set_option maxRecDepth 100000 in
theorem w_X9_line_34 {p : Program} {l : Launch} {e : Env} {s : State} {m : MethodId} {args : Array Value} {below : List Frame} {meth : Method} {c : Code} {G : GG} {q : Nat → Nat} {N : Nat} {r : Unit} {σ' : SS} (C : cx p s m args meth c cX9_line 2 RX9 none G) : ∀ (x1 : Int32) (z0 : Int32) (σ : SS) (H : Heap) (locs : List Loc) (ls : Array Slot), F_X9_line_34 N x1 z0 σ = some (Sum.inl r, σ') → wx G true q σ H → va_S (fa G) s.heap H locs → lv_has ls 2 [(0, .ref (q 32)), (1, .int x1)] → W p l e rmX9_line s m args below meth c H locs 0 0 (MQ below (qxv G true q σ' r) args s 0 0 (fa G)) (F0 m 34 ls [.int z0, .ref (q 32)]) := by
  obtain ⟨hx, hb, hml, hown, hts, -, hlk, hk0, -⟩ := id C
  intro x1 z0 σ H locs ls hF hw hS hl
  unfold F_X9_line_34 at hF
  refine lv_iconst (v := (2 : Int32)) hx hb dX9_line_34 (by decide) ?_
  rcases bdx_e hF with ⟨r_122, σ_123, h_124, hF⟩ | ⟨x_125, σ_123, h_124, hF⟩
  · refine r_callVv (As := [.int z0, .int (2 : Int32)]) (rest := []) (i := 32) C hw hS wi_rd rfl (ci := 9) rfl (met_X9_need l G q  h_124) (cwV 2 hts (lw_V q322 q324 qs2 q66 q325) rfl rfl rfl (by decide +kernel) ⟨Nat.le_of_ble_eq_true rfl, Nat.le_of_ble_eq_true rfl⟩) rfl hl.1 rfl (Nat.le_of_ble_eq_true rfl) ⟨Nat.zero_le _, Nat.zero_le _⟩ dX9_line_35 (fun H locs hw hS => ?_)
    refine lv_aload_n hx hb dX9_line_38 rfl (lv_at hl 0 rfl) ?_
    refine lv_iload_n hx hb dX9_line_39 rfl (lv_at hl 1 rfl) ?_
    refine lv_iconst (v := (4 : Int32)) hx hb dX9_line_40 (by decide) ?_
    refine lv_icmp_ge (tgt := 55) hx hb dX9_line_41 (by decide) (fun c_126 => ?_) (fun c_126 => ?_)
    · have hF := it_e hF c_126
      exact w_X9_line_55 C   _ _ _ _ _ hF hw hS (lv_sub hl [0, 1] rfl)
    · have hF := if_e hF c_126
      refine lv_aload_n hx hb dX9_line_44 rfl (lv_at hl 0 rfl) ?_
      refine r_get9 C hw 1 (by decide) rfl (v := .ref (q (iS 4))) rfl q411 dX9_line_45 ?_
      refine r_getSN C hw okS_4 2 (by decide) rfl (v := .int (gi σ_123 (iS 4) 16)) rfl 12 rfl dX9_line_48 ?_
      refine lv_iconst (v := (4 : Int32)) hx hb dX9_line_51 (by decide) ?_
      refine lv_icmp_ge (tgt := 59) hx hb dX9_line_52 (by decide) (fun c_127 => ?_) (fun c_127 => ?_)
      · have hF := it_e hF c_127
        refine lv_iconst (v := (0 : Int32)) hx hb dX9_line_59 (by decide) ?_
        exact w_X9_line_60 C   _ _ _ _ _ _ hF hw hS (lv_sub hl [0, 1] rfl)
      · have hF := if_e hF c_127
        exact w_X9_line_55 C   _ _ _ _ _ hF hw hS (lv_sub hl [0, 1] rfl)
  · cases hF
set_option maxRecDepth 100000 in
theorem x_X9_line_34 {p : Program} {l : Launch} {e : Env} {s : State} {m : MethodId} {args : Array Value} {below : List Frame} {meth : Method} {c : Code} {G : GG} {q : Nat → Nat} {N : Nat} {x : XI} {σ' : SS} (C : cx p s m args meth c cX9_line 2 RX9 none G) (hout : ∀ z ∈ c.exceptionTable.toList, False) : ∀ (x1 : Int32) (z0 : Int32) (σ : SS) (H : Heap) (locs : List Loc) (ls : Array Slot), F_X9_line_34 N x1 z0 σ = some (Sum.inr x, σ') → wx G true q σ H → va_S (fa G) s.heap H locs → lv_has ls 2 [(0, .ref (q 32)), (1, .int x1)] → W p l e rmX9_linex s m args below meth c H locs 0 0 (vx_MQ below (fun _ _ _ _ => False) (qxx G true q σ' x) args s 1 8 (fa G)) (F0 m 34 ls [.int z0, .ref (q 32)]) := by
  obtain ⟨hx, hb, hml, hown, hts, -, hlk, hk0, -⟩ := id C
  intro x1 z0 σ H locs ls hF hw hS hl
  unfold F_X9_line_34 at hF
  refine lv_iconst (v := (2 : Int32)) hx hb dX9_line_34 (by decide) ?_
  rcases bdx_e hF with ⟨r_128, σ_129, h_130, hF⟩ | ⟨x_131, σ_129, h_130, hF⟩
  · refine r_callVv (As := [.int z0, .int (2 : Int32)]) (rest := []) (i := 32) C hw hS wi_rd rfl (ci := 9) rfl (met_X9_need l G q  h_130) (cwV 2 hts (lw_V q322 q324 qs2 q66 q325) rfl rfl rfl (by decide +kernel) ⟨Nat.le_of_ble_eq_true rfl, Nat.le_of_ble_eq_true rfl⟩) rfl hl.1 rfl (Nat.le_of_ble_eq_true rfl) ⟨Nat.zero_le _, Nat.zero_le _⟩ dX9_line_35 (fun H locs hw hS => ?_)
    refine lv_aload_n hx hb dX9_line_38 rfl (lv_at hl 0 rfl) ?_
    refine lv_iload_n hx hb dX9_line_39 rfl (lv_at hl 1 rfl) ?_
    refine lv_iconst (v := (4 : Int32)) hx hb dX9_line_40 (by decide) ?_
    refine lv_icmp_ge (tgt := 55) hx hb dX9_line_41 (by decide) (fun c_132 => ?_) (fun c_132 => ?_)
    · have hF := it_e hF c_132
      exact x_X9_line_55 C hout   _ _ _ _ _ hF hw hS (lv_sub hl [0, 1] rfl)
    · have hF := if_e hF c_132
      refine lv_aload_n hx hb dX9_line_44 rfl (lv_at hl 0 rfl) ?_
      refine r_get9 C hw 1 (by decide) rfl (v := .ref (q (iS 4))) rfl q411 dX9_line_45 ?_
      refine r_getSN C hw okS_4 2 (by decide) rfl (v := .int (gi σ_129 (iS 4) 16)) rfl 12 rfl dX9_line_48 ?_
      refine lv_iconst (v := (4 : Int32)) hx hb dX9_line_51 (by decide) ?_
      refine lv_icmp_ge (tgt := 59) hx hb dX9_line_52 (by decide) (fun c_133 => ?_) (fun c_133 => ?_)
      · have hF := it_e hF c_133
        refine lv_iconst (v := (0 : Int32)) hx hb dX9_line_59 (by decide) ?_
        exact x_X9_line_60 C hout   _ _ _ _ _ _ hF hw hS (lv_sub hl [0, 1] rfl)
      · have hF := if_e hF c_133
        exact x_X9_line_55 C hout   _ _ _ _ _ hF hw hS (lv_sub hl [0, 1] rfl)
  · refine r_callVx (As := [.int z0, .int (2 : Int32)]) (rest := []) (i := 32) C hw hS wi_rd rfl (ci := 9) rfl (mex_X9_need l G q  h_130) (cwV 2 hts (lw_V q322 q324 qs2 q66 q325) rfl rfl rfl (by decide +kernel) ⟨Nat.le_of_ble_eq_true rfl, Nat.le_of_ble_eq_true rfl⟩) rfl hl.1 rfl (Nat.le_of_ble_eq_true rfl) ⟨Nat.le_of_ble_eq_true rfl, Nat.le_of_ble_eq_true rfl⟩ dX9_line_35 (fun H locs q9 ce hw hS h9 hv9 hc9 hft9 => ?_)
    obtain ⟨rfl, rfl⟩ := so_r hF
    exact vx_out (fun z hz => (hout z hz).elim) hlk h9 hv9 hc9 (fun t ht _ => ⟨(), trivial, ⟨rfl, by subst ht; exact hw, by subst ht; exact hft9⟩, hS.F ht⟩) hS.2.2 (Nat.le_of_ble_eq_true rfl) (Nat.le_of_ble_eq_true rfl)
noncomputable def F_X9_line_22 (N : Nat) (x1 : Int32) (σ : SS) : Option ((Unit ⊕ XI) × SS) :=
  if (7 : Int32) < x1 then
    F_X9_line_34 N x1 (0 : Int32) σ
  else
    F_X9_line_34 N x1 (1 : Int32) σ
set_option maxRecDepth 100000 in
theorem w_X9_line_22 {p : Program} {l : Launch} {e : Env} {s : State} {m : MethodId} {args : Array Value} {below : List Frame} {meth : Method} {c : Code} {G : GG} {q : Nat → Nat} {N : Nat} {r : Unit} {σ' : SS} (C : cx p s m args meth c cX9_line 2 RX9 none G) : ∀ (x1 : Int32) (σ : SS) (H : Heap) (locs : List Loc) (ls : Array Slot), F_X9_line_22 N x1 σ = some (Sum.inl r, σ') → wx G true q σ H → va_S (fa G) s.heap H locs → lv_has ls 2 [(0, .ref (q 32)), (1, .int x1)] → W p l e rmX9_line s m args below meth c H locs 0 0 (MQ below (qxv G true q σ' r) args s 0 0 (fa G)) (F0 m 22 ls []) := by
  obtain ⟨hx, hb, hml, hown, hts, -, hlk, hk0, -⟩ := id C
  intro x1 σ H locs ls hF hw hS hl
  unfold F_X9_line_22 at hF
  refine lv_aload_n hx hb dX9_line_22 rfl (lv_at hl 0 rfl) ?_
  refine lv_iload_n hx hb dX9_line_23 rfl (lv_at hl 1 rfl) ?_
  refine lv_bipush (v := (7 : Int32)) hx hb dX9_line_24 (by decide) ?_
  refine lv_icmp_gt (tgt := 33) hx hb dX9_line_26 (by decide) (fun c_134 => ?_) (fun c_134 => ?_)
  · have hF := it_e hF c_134
    refine lv_iconst (v := (0 : Int32)) hx hb dX9_line_33 (by decide) ?_
    exact w_X9_line_34 C   _ _ _ _ _ _ hF hw hS (lv_sub hl [0, 1] rfl)
  · have hF := if_e hF c_134
    refine lv_iconst (v := (1 : Int32)) hx hb dX9_line_29 (by decide) ?_
    refine lv_goto (tgt := 34) hx hb dX9_line_30 (by decide) ?_
    exact w_X9_line_34 C   _ _ _ _ _ _ hF hw hS (lv_sub hl [0, 1] rfl)
set_option maxRecDepth 100000 in
theorem x_X9_line_22 {p : Program} {l : Launch} {e : Env} {s : State} {m : MethodId} {args : Array Value} {below : List Frame} {meth : Method} {c : Code} {G : GG} {q : Nat → Nat} {N : Nat} {x : XI} {σ' : SS} (C : cx p s m args meth c cX9_line 2 RX9 none G) (hout : ∀ z ∈ c.exceptionTable.toList, False) : ∀ (x1 : Int32) (σ : SS) (H : Heap) (locs : List Loc) (ls : Array Slot), F_X9_line_22 N x1 σ = some (Sum.inr x, σ') → wx G true q σ H → va_S (fa G) s.heap H locs → lv_has ls 2 [(0, .ref (q 32)), (1, .int x1)] → W p l e rmX9_linex s m args below meth c H locs 0 0 (vx_MQ below (fun _ _ _ _ => False) (qxx G true q σ' x) args s 1 8 (fa G)) (F0 m 22 ls []) := by
  obtain ⟨hx, hb, hml, hown, hts, -, hlk, hk0, -⟩ := id C
  intro x1 σ H locs ls hF hw hS hl
  unfold F_X9_line_22 at hF
  refine lv_aload_n hx hb dX9_line_22 rfl (lv_at hl 0 rfl) ?_
  refine lv_iload_n hx hb dX9_line_23 rfl (lv_at hl 1 rfl) ?_
  refine lv_bipush (v := (7 : Int32)) hx hb dX9_line_24 (by decide) ?_
  refine lv_icmp_gt (tgt := 33) hx hb dX9_line_26 (by decide) (fun c_135 => ?_) (fun c_135 => ?_)
  · have hF := it_e hF c_135
    refine lv_iconst (v := (0 : Int32)) hx hb dX9_line_33 (by decide) ?_
    exact x_X9_line_34 C hout   _ _ _ _ _ _ hF hw hS (lv_sub hl [0, 1] rfl)
  · have hF := if_e hF c_135
    refine lv_iconst (v := (1 : Int32)) hx hb dX9_line_29 (by decide) ?_
    refine lv_goto (tgt := 34) hx hb dX9_line_30 (by decide) ?_
    exact x_X9_line_34 C hout   _ _ _ _ _ _ hF hw hS (lv_sub hl [0, 1] rfl)
noncomputable def B_X9_line_2 (N : Nat) (IH : Int32 → SS → Option ((Unit ⊕ XI) × SS)) (x1 : Int32) (σ : SS) : Option ((Unit ⊕ XI) × SS) :=
  if (7 : Int32) < x1 then
    F_X9_line_22 N x1 σ
  else
    bd (F_X9_is N x1 σ) fun r_137 σ_138 =>
    if r_137 = (0 : Int32) then
      nm (x1 + (1 : Int32)) fun x_141 =>
      IH x_141 σ_138
    else
      F_X9_line_22 N x1 σ_138
noncomputable def F_X9_line_2 (N : Nat) (n : Nat) : Int32 → SS → Option ((Unit ⊕ XI) × SS) := Nat.rec (fun _ _ => none) (fun _ IH => B_X9_line_2 N IH) n
set_option maxRecDepth 100000 in
theorem w_X9_line_2 {p : Program} {l : Launch} {e : Env} {s : State} {m : MethodId} {args : Array Value} {below : List Frame} {meth : Method} {c : Code} {G : GG} {q : Nat → Nat} {N : Nat} {r : Unit} {σ' : SS} (C : cx p s m args meth c cX9_line 2 RX9 none G) : ∀ (n : Nat), ∀ (x1 : Int32) (σ : SS) (H : Heap) (locs : List Loc) (ls : Array Slot), F_X9_line_2 N n x1 σ = some (Sum.inl r, σ') → wx G true q σ H → va_S (fa G) s.heap H locs → lv_has ls 2 [(0, .ref (q 32)), (1, .int x1)] → W p l e rmX9_line s m args below meth c H locs 0 0 (MQ below (qxv G true q σ' r) args s 0 0 (fa G)) (F0 m 2 ls []) := by
  obtain ⟨hx, hb, hml, hown, hts, -, hlk, hk0, -⟩ := id C
  intro n
  induction n with
  | zero =>
    intro x1 σ H locs ls hF hw hS hl
    cases hF
  | succ n ih =>
    intro x1 σ H locs ls hF hw hS hl
    have hF : B_X9_line_2 N (F_X9_line_2 N n) x1 σ = some (Sum.inl r, σ') := hF
    unfold B_X9_line_2 at hF
    refine lv_iload_n hx hb dX9_line_2 rfl (lv_at hl 1 rfl) ?_
    refine lv_bipush (v := (7 : Int32)) hx hb dX9_line_3 (by decide) ?_
    refine lv_icmp_gt (tgt := 22) hx hb dX9_line_5 (by decide) (fun c_136 => ?_) (fun c_136 => ?_)
    · have hF := it_e hF c_136
      exact w_X9_line_22 C   _ _ _ _ _ hF hw hS (lv_sub hl [0, 1] rfl)
    · have hF := if_e hF c_136
      refine lv_aload_n hx hb dX9_line_8 rfl (lv_at hl 0 rfl) ?_
      refine lv_iload_n hx hb dX9_line_9 rfl (lv_at hl 1 rfl) ?_
      obtain ⟨r_137, σ_138, h_139, hF⟩ := bd_e hF
      refine r_callVi (As := [.int x1]) (rest := []) (i := 32) C hw hS wi_rd rfl (ci := 9) rfl (met_X9_is l G q  h_139) (cwV 1 hts (lw_V q444 q446 qs6 q66 q447) rfl rfl rfl (by decide +kernel) ⟨Nat.le_of_ble_eq_true rfl, Nat.le_of_ble_eq_true rfl⟩) rfl hl.1 rfl (Nat.le_of_ble_eq_true rfl) ⟨Nat.zero_le _, Nat.zero_le _⟩ dX9_line_10 (fun H locs hw hS => ?_)
      refine lv_if_ne (tgt := 22) hx hb dX9_line_13 (by decide) (fun c_140 => ?_) (fun c_140 => ?_)
      · have hF := if_e hF c_140
        exact w_X9_line_22 C   _ _ _ _ _ hF hw hS (lv_sub hl [0, 1] rfl)
      · have hF := it_e hF c_140
        obtain ⟨x_141, ex_141, hF⟩ := nm_e2 hF
        refine lv_iinc (v := x_141) (lv' := [(1, .int x_141), (0, .ref (q 32))]) hx hb dX9_line_16 hl (k := 1) rfl (by rw [ex_141]; rfl) (by decide) rfl (fun ls hl => ?_)
        refine lv_goto (tgt := 2) hx hb dX9_line_19 (by decide) ?_
        exact ih _ _ _ _ _ hF hw hS (lv_sub hl [1, 0] rfl)
set_option maxRecDepth 100000 in
theorem x_X9_line_2 {p : Program} {l : Launch} {e : Env} {s : State} {m : MethodId} {args : Array Value} {below : List Frame} {meth : Method} {c : Code} {G : GG} {q : Nat → Nat} {N : Nat} {x : XI} {σ' : SS} (C : cx p s m args meth c cX9_line 2 RX9 none G) (hout : ∀ z ∈ c.exceptionTable.toList, False) : ∀ (n : Nat), ∀ (x1 : Int32) (σ : SS) (H : Heap) (locs : List Loc) (ls : Array Slot), F_X9_line_2 N n x1 σ = some (Sum.inr x, σ') → wx G true q σ H → va_S (fa G) s.heap H locs → lv_has ls 2 [(0, .ref (q 32)), (1, .int x1)] → W p l e rmX9_linex s m args below meth c H locs 0 0 (vx_MQ below (fun _ _ _ _ => False) (qxx G true q σ' x) args s 1 8 (fa G)) (F0 m 2 ls []) := by
  obtain ⟨hx, hb, hml, hown, hts, -, hlk, hk0, -⟩ := id C
  intro n
  induction n with
  | zero =>
    intro x1 σ H locs ls hF hw hS hl
    cases hF
  | succ n ih =>
    intro x1 σ H locs ls hF hw hS hl
    have hF : B_X9_line_2 N (F_X9_line_2 N n) x1 σ = some (Sum.inr x, σ') := hF
    unfold B_X9_line_2 at hF
    refine lv_iload_n hx hb dX9_line_2 rfl (lv_at hl 1 rfl) ?_
    refine lv_bipush (v := (7 : Int32)) hx hb dX9_line_3 (by decide) ?_
    refine lv_icmp_gt (tgt := 22) hx hb dX9_line_5 (by decide) (fun c_142 => ?_) (fun c_142 => ?_)
    · have hF := it_e hF c_142
      exact x_X9_line_22 C hout   _ _ _ _ _ hF hw hS (lv_sub hl [0, 1] rfl)
    · have hF := if_e hF c_142
      refine lv_aload_n hx hb dX9_line_8 rfl (lv_at hl 0 rfl) ?_
      refine lv_iload_n hx hb dX9_line_9 rfl (lv_at hl 1 rfl) ?_
      obtain ⟨r_143, σ_144, h_145, hF⟩ := bd_e hF
      refine r_callVi (As := [.int x1]) (rest := []) (i := 32) C hw hS wi_rd rfl (ci := 9) rfl (met_X9_is l G q  h_145) (cwV 1 hts (lw_V q444 q446 qs6 q66 q447) rfl rfl rfl (by decide +kernel) ⟨Nat.le_of_ble_eq_true rfl, Nat.le_of_ble_eq_true rfl⟩) rfl hl.1 rfl (Nat.le_of_ble_eq_true rfl) ⟨Nat.zero_le _, Nat.zero_le _⟩ dX9_line_10 (fun H locs hw hS => ?_)
      refine lv_if_ne (tgt := 22) hx hb dX9_line_13 (by decide) (fun c_146 => ?_) (fun c_146 => ?_)
      · have hF := if_e hF c_146
        exact x_X9_line_22 C hout   _ _ _ _ _ hF hw hS (lv_sub hl [0, 1] rfl)
      · have hF := it_e hF c_146
        obtain ⟨x_147, ex_147, hF⟩ := nm_e2 hF
        refine lv_iinc (v := x_147) (lv' := [(1, .int x_147), (0, .ref (q 32))]) hx hb dX9_line_16 hl (k := 1) rfl (by rw [ex_147]; rfl) (by decide) rfl (fun ls hl => ?_)
        refine lv_goto (tgt := 2) hx hb dX9_line_19 (by decide) ?_
        exact ih _ _ _ _ _ hF hw hS (lv_sub hl [1, 0] rfl)
noncomputable def F_X9_line (N : Nat)  (σ : SS) : Option ((Unit ⊕ XI) × SS) :=
  F_X9_line_2 N N (0 : Int32) σ
set_option maxRecDepth 100000 in
theorem met_X9_line (l : Launch) (G : GG) (q : Nat → Nat) {N : Nat} {σ σ' : SS} {r : Unit} (hF : F_X9_line N  σ = some (Sum.inl r, σ')) : Met l yX9_line (ws_ yX9_line cX9_line 2 none) rmX9_line (pcx G true q σ [.ref (q 32)]) (qxv G true q σ' r) 0 0 (fa G) := by
  refine met_of (by decide) (Nat.le_of_ble_eq_true rfl) ?_
  intro p e s m below meth c C H locs ls hw hS hl
  obtain ⟨hx, hb, hml, hown, hts, -, hlk, hk0, -⟩ := id C
  have hl : lv_has ls 2 [(0, .ref (q 32))] := hl
  unfold F_X9_line at hF
  refine lv_iconst (v := (0 : Int32)) hx hb dX9_line_0 (by decide) ?_
  refine lv_istore_n (lv' := [(1, .int (0 : Int32)), (0, .ref (q 32))]) hx hb dX9_line_1 rfl hl (by decide) rfl (fun ls hl => ?_)
  exact w_X9_line_2 C   N _ _ _ _ _ hF hw hS (lv_sub hl [1, 0] rfl)
set_option maxRecDepth 100000 in
theorem mex_X9_line (l : Launch) (G : GG) (q : Nat → Nat) {N : Nat} {σ σ' : SS} {x : XI} (hF : F_X9_line N  σ = some (Sum.inr x, σ')) : vx_Met l yX9_line (ws_ yX9_line cX9_line 2 none) rmX9_linex (pcx G true q σ [.ref (q 32)]) (fun _ _ _ _ => False) (qxx G true q σ' x) 1 8 (fa G) := by
  refine met_ofX (by decide) (Nat.le_of_ble_eq_true rfl) ?_
  intro p e s m below meth c C hout H locs ls hw hS hl
  obtain ⟨hx, hb, hml, hown, hts, -, hlk, hk0, -⟩ := id C
  have hl : lv_has ls 2 [(0, .ref (q 32))] := hl
  unfold F_X9_line at hF
  refine lv_iconst (v := (0 : Int32)) hx hb dX9_line_0 (by decide) ?_
  refine lv_istore_n (lv' := [(1, .int (0 : Int32)), (0, .ref (q 32))]) hx hb dX9_line_1 rfl hl (by decide) rfl (fun ls hl => ?_)
  exact x_X9_line_2 C hout   N _ _ _ _ _ hF hw hS (lv_sub hl [1, 0] rfl)
abbrev rmX9_lines : Room := { frames := 10, cells := 0, slots := 0, locals := 308 }
abbrev rmX9_linesx : Room := { frames := 10, cells := 1, slots := 8, locals := 308 }
noncomputable def B_X9_lines_2 (N : Nat) (IH : Int32 → SS → Option ((Int32 ⊕ XI) × SS)) (x1 : Int32) (σ : SS) : Option ((Int32 ⊕ XI) × SS) :=
  if (gi σ 32 5) = (0 : Int32) then
    some (Sum.inl (x1), σ)
  else
    bdx (F_X9_line N σ)
      (fun r_8 σ_9 =>
        nm (x1 + (1 : Int32)) fun x_12 =>
        IH x_12 σ_9)
      (fun x_11 σ_9 => some (Sum.inr x_11, σ_9))
noncomputable def F_X9_lines_2 (N : Nat) (n : Nat) : Int32 → SS → Option ((Int32 ⊕ XI) × SS) := Nat.rec (fun _ _ => none) (fun _ IH => B_X9_lines_2 N IH) n
set_option maxRecDepth 100000 in
theorem w_X9_lines_2 {p : Program} {l : Launch} {e : Env} {s : State} {m : MethodId} {args : Array Value} {below : List Frame} {meth : Method} {c : Code} {G : GG} {q : Nat → Nat} {N : Nat} {r : Int32} {σ' : SS} (C : cx p s m args meth c cX9_lines 2 RX9 (some .int) G) : ∀ (n : Nat), ∀ (x1 : Int32) (σ : SS) (H : Heap) (locs : List Loc) (ls : Array Slot), F_X9_lines_2 N n x1 σ = some (Sum.inl r, σ') → wx G true q σ H → va_S (fa G) s.heap H locs → lv_has ls 2 [(0, .ref (q 32)), (1, .int x1)] → W p l e rmX9_lines s m args below meth c H locs 0 0 (MQ below (qxi G true q σ' r) args s 0 0 (fa G)) (F0 m 2 ls []) := by
  obtain ⟨hx, hb, hml, hown, hts, -, hlk, hk0, -⟩ := id C
  intro n
  induction n with
  | zero =>
    intro x1 σ H locs ls hF hw hS hl
    cases hF
  | succ n ih =>
    intro x1 σ H locs ls hF hw hS hl
    have hF : B_X9_lines_2 N (F_X9_lines_2 N n) x1 σ = some (Sum.inl r, σ') := hF
    unfold B_X9_lines_2 at hF
    refine lv_aload_n hx hb dX9_lines_2 rfl (lv_at hl 0 rfl) ?_
    refine r_get9 C hw 5 (by decide) rfl (v := .int (gi σ 32 5)) rfl q416 dX9_lines_3 ?_
    refine lv_if_eq (tgt := 19) hx hb dX9_lines_6 (by decide) (fun c_7 => ?_) (fun c_7 => ?_)
    · have hF := it_e hF c_7
      refine lv_iload_n hx hb dX9_lines_19 rfl (lv_at hl 1 rfl) ?_
      exact r_iret C hw hS (so_l hF) dX9_lines_20
    · have hF := if_e hF c_7
      refine lv_aload_n hx hb dX9_lines_9 rfl (lv_at hl 0 rfl) ?_
      rcases bdx_e hF with ⟨r_8, σ_9, h_10, hF⟩ | ⟨x_11, σ_9, h_10, hF⟩
      · refine r_callVv (As := []) (rest := []) (i := 32) C hw hS wi_rd rfl (ci := 9) rfl (met_X9_line l G q  h_10) (cwV 0 hts (lw_V q440 q442 qs5 q66 q443) rfl rfl rfl (by decide +kernel) ⟨Nat.le_of_ble_eq_true rfl, Nat.le_of_ble_eq_true rfl⟩) rfl hl.1 rfl (Nat.le_of_ble_eq_true rfl) ⟨Nat.zero_le _, Nat.zero_le _⟩ dX9_lines_10 (fun H locs hw hS => ?_)
        obtain ⟨x_12, ex_12, hF⟩ := nm_e2 hF
        refine lv_iinc (v := x_12) (lv' := [(1, .int x_12), (0, .ref (q 32))]) hx hb dX9_lines_13 hl (k := 1) rfl (by rw [ex_12]; rfl) (by decide) rfl (fun ls hl => ?_)
        refine lv_goto (tgt := 2) hx hb dX9_lines_16 (by decide) ?_
        exact ih _ _ _ _ _ hF hw hS (lv_sub hl [1, 0] rfl)
      · cases hF
set_option maxRecDepth 100000 in
theorem x_X9_lines_2 {p : Program} {l : Launch} {e : Env} {s : State} {m : MethodId} {args : Array Value} {below : List Frame} {meth : Method} {c : Code} {G : GG} {q : Nat → Nat} {N : Nat} {x : XI} {σ' : SS} (C : cx p s m args meth c cX9_lines 2 RX9 (some .int) G) (hout : ∀ z ∈ c.exceptionTable.toList, False) : ∀ (n : Nat), ∀ (x1 : Int32) (σ : SS) (H : Heap) (locs : List Loc) (ls : Array Slot), F_X9_lines_2 N n x1 σ = some (Sum.inr x, σ') → wx G true q σ H → va_S (fa G) s.heap H locs → lv_has ls 2 [(0, .ref (q 32)), (1, .int x1)] → W p l e rmX9_linesx s m args below meth c H locs 0 0 (vx_MQ below (fun _ _ _ _ => False) (qxx G true q σ' x) args s 1 8 (fa G)) (F0 m 2 ls []) := by
  obtain ⟨hx, hb, hml, hown, hts, -, hlk, hk0, -⟩ := id C
  intro n
  induction n with
  | zero =>
    intro x1 σ H locs ls hF hw hS hl
    cases hF
  | succ n ih =>
    intro x1 σ H locs ls hF hw hS hl
    have hF : B_X9_lines_2 N (F_X9_lines_2 N n) x1 σ = some (Sum.inr x, σ') := hF
    unfold B_X9_lines_2 at hF
    refine lv_aload_n hx hb dX9_lines_2 rfl (lv_at hl 0 rfl) ?_
    refine r_get9 C hw 5 (by decide) rfl (v := .int (gi σ 32 5)) rfl q416 dX9_lines_3 ?_
    refine lv_if_eq (tgt := 19) hx hb dX9_lines_6 (by decide) (fun c_13 => ?_) (fun c_13 => ?_)
    · have hF := it_e hF c_13
      refine lv_iload_n hx hb dX9_lines_19 rfl (lv_at hl 1 rfl) ?_
      cases hF
    · have hF := if_e hF c_13
      refine lv_aload_n hx hb dX9_lines_9 rfl (lv_at hl 0 rfl) ?_
      rcases bdx_e hF with ⟨r_14, σ_15, h_16, hF⟩ | ⟨x_17, σ_15, h_16, hF⟩
      · refine r_callVv (As := []) (rest := []) (i := 32) C hw hS wi_rd rfl (ci := 9) rfl (met_X9_line l G q  h_16) (cwV 0 hts (lw_V q440 q442 qs5 q66 q443) rfl rfl rfl (by decide +kernel) ⟨Nat.le_of_ble_eq_true rfl, Nat.le_of_ble_eq_true rfl⟩) rfl hl.1 rfl (Nat.le_of_ble_eq_true rfl) ⟨Nat.zero_le _, Nat.zero_le _⟩ dX9_lines_10 (fun H locs hw hS => ?_)
        obtain ⟨x_18, ex_18, hF⟩ := nm_e2 hF
        refine lv_iinc (v := x_18) (lv' := [(1, .int x_18), (0, .ref (q 32))]) hx hb dX9_lines_13 hl (k := 1) rfl (by rw [ex_18]; rfl) (by decide) rfl (fun ls hl => ?_)
        refine lv_goto (tgt := 2) hx hb dX9_lines_16 (by decide) ?_
        exact ih _ _ _ _ _ hF hw hS (lv_sub hl [1, 0] rfl)
      · refine r_callVx (As := []) (rest := []) (i := 32) C hw hS wi_rd rfl (ci := 9) rfl (mex_X9_line l G q  h_16) (cwV 0 hts (lw_V q440 q442 qs5 q66 q443) rfl rfl rfl (by decide +kernel) ⟨Nat.le_of_ble_eq_true rfl, Nat.le_of_ble_eq_true rfl⟩) rfl hl.1 rfl (Nat.le_of_ble_eq_true rfl) ⟨Nat.le_of_ble_eq_true rfl, Nat.le_of_ble_eq_true rfl⟩ dX9_lines_10 (fun H locs q9 ce hw hS h9 hv9 hc9 hft9 => ?_)
        obtain ⟨rfl, rfl⟩ := so_r hF
        exact vx_out (fun z hz => (hout z hz).elim) hlk h9 hv9 hc9 (fun t ht _ => ⟨(), trivial, ⟨rfl, by subst ht; exact hw, by subst ht; exact hft9⟩, hS.F ht⟩) hS.2.2 (Nat.le_of_ble_eq_true rfl) (Nat.le_of_ble_eq_true rfl)
noncomputable def F_X9_lines (N : Nat)  (σ : SS) : Option ((Int32 ⊕ XI) × SS) :=
  F_X9_lines_2 N N (0 : Int32) σ
set_option maxRecDepth 100000 in
theorem met_X9_lines (l : Launch) (G : GG) (q : Nat → Nat) {N : Nat} {σ σ' : SS} {r : Int32} (hF : F_X9_lines N  σ = some (Sum.inl r, σ')) : Met l yX9_lines (ws_ yX9_lines cX9_lines 2 (some .int)) rmX9_lines (pcx G true q σ [.ref (q 32)]) (qxi G true q σ' r) 0 0 (fa G) := by
  refine met_of (by decide) (Nat.le_of_ble_eq_true rfl) ?_
  intro p e s m below meth c C H locs ls hw hS hl
  obtain ⟨hx, hb, hml, hown, hts, -, hlk, hk0, -⟩ := id C
  have hl : lv_has ls 2 [(0, .ref (q 32))] := hl
  unfold F_X9_lines at hF
  refine lv_iconst (v := (0 : Int32)) hx hb dX9_lines_0 (by decide) ?_
  refine lv_istore_n (lv' := [(1, .int (0 : Int32)), (0, .ref (q 32))]) hx hb dX9_lines_1 rfl hl (by decide) rfl (fun ls hl => ?_)
  exact w_X9_lines_2 C   N _ _ _ _ _ hF hw hS (lv_sub hl [1, 0] rfl)
set_option maxRecDepth 100000 in
theorem mex_X9_lines (l : Launch) (G : GG) (q : Nat → Nat) {N : Nat} {σ σ' : SS} {x : XI} (hF : F_X9_lines N  σ = some (Sum.inr x, σ')) : vx_Met l yX9_lines (ws_ yX9_lines cX9_lines 2 (some .int)) rmX9_linesx (pcx G true q σ [.ref (q 32)]) (fun _ _ _ _ => False) (qxx G true q σ' x) 1 8 (fa G) := by
  refine met_ofX (by decide) (Nat.le_of_ble_eq_true rfl) ?_
  intro p e s m below meth c C hout H locs ls hw hS hl
  obtain ⟨hx, hb, hml, hown, hts, -, hlk, hk0, -⟩ := id C
  have hl : lv_has ls 2 [(0, .ref (q 32))] := hl
  unfold F_X9_lines at hF
  refine lv_iconst (v := (0 : Int32)) hx hb dX9_lines_0 (by decide) ?_
  refine lv_istore_n (lv' := [(1, .int (0 : Int32)), (0, .ref (q 32))]) hx hb dX9_lines_1 rfl hl (by decide) rfl (fun ls hl => ?_)
  exact x_X9_lines_2 C hout   N _ _ _ _ _ hF hw hS (lv_sub hl [1, 0] rfl)
