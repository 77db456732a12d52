/-! lifted: FlyWheels (2) -/
set_option maxRecDepth 100000
abbrev rmX0_startsJudging : Room := { frames := 1, cells := 0, slots := 0, locals := 60 }
noncomputable def F_X0_startsJudging (N : Nat) (x1 : Int32) (σ : SS) : Option (Unit × SS) :=
  nm (si σ 0 14 (-4 : Int32)) fun σ_3 =>
  nm (si σ_3 0 15 x1) fun σ_4 =>
  some ((), σ_4)
set_option maxRecDepth 100000 in
theorem met_X0_startsJudging (l : Launch) (G : GG) (rd : Bool) (q : Nat → Nat) {N : Nat} {x1 : Int32} {σ σ' : SS} {r : Unit} (hF : F_X0_startsJudging N x1 σ = some (r, σ')) : Met l yX0_startsJudging (ws_ yX0_startsJudging cX0_startsJudging 2 none) rmX0_startsJudging (pcx G rd q σ [.ref (q 0), .int x1]) (qxv G rd q σ' r) 0 0 (fa G) := by
  refine met_of (by decide) (Nat.le_of_ble_eq_true rfl) ?_
  intro p e s m below meth c C H locs ls hw hS hl
  obtain ⟨hx, hb, hml, hown, hts, -, -, -, -⟩ := id C
  have hl : lv_has ls 2 [(0, .ref (q 0)), (1, .int x1)] := hl
  unfold F_X0_startsJudging at hF
  refine lv_aload_n hx hb dX0_startsJudging_0 rfl (lv_at hl 0 rfl) ?_
  refine lv_bipush (v := (-4 : Int32)) hx hb dX0_startsJudging_1 (by decide) ?_
  obtain ⟨σ_3, eσ_3, hF⟩ := nm_e2 hF
  refine r_put0 C hw hS 14 (by decide) rfl rfl (tyX0_ok 14 (by decide)) rfl rfl q233 dX0_startsJudging_3 eσ_3 (fun H locs hw hS => ?_)
  refine lv_aload_n hx hb dX0_startsJudging_6 rfl (lv_at hl 0 rfl) ?_
  refine lv_iload_n hx hb dX0_startsJudging_7 rfl (lv_at hl 1 rfl) ?_
  obtain ⟨σ_4, eσ_4, hF⟩ := nm_e2 hF
  refine r_put0 C hw hS 15 (by decide) rfl rfl (tyX0_ok 15 (by decide)) rfl rfl q234 dX0_startsJudging_8 eσ_4 (fun H locs hw hS => ?_)
  exact r_vret C hw hS hF dX0_startsJudging_11
abbrev rmX0_worstAt : Room := { frames := 1, cells := 0, slots := 0, locals := 60 }
noncomputable def B_X0_worstAt_17 (N : Nat) (K5 : Int32 → Int32 → Int32 → Int32 → SS → Option (Int32 × SS)) (IH : Int32 → Int32 → Int32 → Int32 → Int32 → Int32 → SS → Option (Int32 × SS)) (x1 : Int32) (x2 : Int32) (x3 : Int32) (x4 : Int32) (x5 : Int32) (x6 : Int32) (σ : SS) : Option (Int32 × SS) :=
  if x2 ≤ x6 then
    nm (if x3 < x5 then x5 else x3) fun x_13 =>
    nm (x4 + (1 : Int32)) fun x_14 =>
    K5 x1 x2 x_13 x_14 σ
  else
    gd (inR (((41 : Int32) * x4) + x1) 410) <|
    gd (inR (((41 : Int32) * x6) + x1) 410) <|
    if (gi σ 6 (((41 : Int32) * x4) + x1).toNatClampNeg) = (gi σ 6 (((41 : Int32) * x6) + x1).toNatClampNeg) then
      nm (x5 + (1 : Int32)) fun x_20 =>
      nm (x6 + (1 : Int32)) fun x_21 =>
      IH x1 x2 x3 x4 x_20 x_21 σ
    else
      nm (x5 + (0 : Int32)) fun x_18 =>
      nm (x6 + (1 : Int32)) fun x_19 =>
      IH x1 x2 x3 x4 x_18 x_19 σ
noncomputable def F_X0_worstAt_17 (N : Nat) (K5 : Int32 → Int32 → Int32 → Int32 → SS → Option (Int32 × SS)) (n : Nat) : Int32 → Int32 → Int32 → Int32 → Int32 → Int32 → SS → Option (Int32 × SS) := Nat.rec (fun _ _ _ _ _ _ _ => none) (fun _ IH => B_X0_worstAt_17 N K5 IH) n
set_option maxRecDepth 100000 in
theorem w_X0_worstAt_17 {p : Program} {l : Launch} {e : Env} {s : State} {m : MethodId} {args : Array Value} {below : List Frame} {meth : Method} {c : Code} {G : GG} {rd : Bool} {q : Nat → Nat} {N : Nat} {r : Int32} {σ' : SS} (C : cx p s m args meth c cX0_worstAt 7 RX0 (some .int) G) {K5 : Int32 → Int32 → Int32 → Int32 → SS → Option (Int32 × SS)} (HK5 : ∀ (x1 : Int32) (x2 : Int32) (x3 : Int32) (x4 : Int32) (σ : SS) (H : Heap) (locs : List Loc) (ls : Array Slot), K5 x1 x2 x3 x4 σ = some (r, σ') → wx G rd q σ H → va_S (fa G) s.heap H locs → lv_has ls 7 [(0, .ref (q 0)), (1, .int x1), (2, .int x2), (3, .int x3), (4, .int x4)] → W p l e rmX0_worstAt s m args below meth c H locs 0 0 (MQ below (qxi G rd q σ' r) args s 0 0 (fa G)) (F0 m 5 ls [])) : ∀ (n : Nat), ∀ (x1 : Int32) (x2 : Int32) (x3 : Int32) (x4 : Int32) (x5 : Int32) (x6 : Int32) (σ : SS) (H : Heap) (locs : List Loc) (ls : Array Slot), F_X0_worstAt_17 N K5 n x1 x2 x3 x4 x5 x6 σ = some (r, σ') → wx G rd q σ H → va_S (fa G) s.heap H locs → lv_has ls 7 [(0, .ref (q 0)), (1, .int x1), (2, .int x2), (3, .int x3), (4, .int x4), (5, .int x5), (6, .int x6)] → W p l e rmX0_worstAt s m args below meth c H locs 0 0 (MQ below (qxi G rd q σ' r) args s 0 0 (fa G)) (F0 m 17 ls []) := by
  obtain ⟨hx, hb, hml, hown, hts, -, -, -, -⟩ := id C
  intro n
  induction n with
  | zero =>
    intro x1 x2 x3 x4 x5 x6 σ H locs ls hF hw hS hl
    cases hF
  | succ n ih =>
    intro x1 x2 x3 x4 x5 x6 σ H locs ls hF hw hS hl
    have hF : B_X0_worstAt_17 N K5 (F_X0_worstAt_17 N K5 n) x1 x2 x3 x4 x5 x6 σ = some (r, σ') := hF
    unfold B_X0_worstAt_17 at hF
    refine lv_iload hx hb dX0_worstAt_17 (lv_at hl 6 rfl) ?_
    refine lv_iload_n hx hb dX0_worstAt_19 rfl (lv_at hl 2 rfl) ?_
    refine lv_icmp_ge (tgt := 66) hx hb dX0_worstAt_20 (by decide) (fun c_12 => ?_) (fun c_12 => ?_)
    · have hF := it_e hF c_12
      refine lv_iload_n hx hb dX0_worstAt_66 rfl (lv_at hl 3 rfl) ?_
      refine lv_iload hx hb dX0_worstAt_67 (lv_at hl 5 rfl) ?_
      refine r_mmax C hl.1 q674 q581 q75 q582 (Nat.le_of_ble_eq_true rfl) (Nat.le_of_ble_eq_true rfl) ⟨Nat.zero_le _, Nat.zero_le _⟩ dX0_worstAt_69 ?_
      obtain ⟨x_13, ex_13, hF⟩ := nm_e2 hF
      refine r_topi ex_13 ?_
      refine lv_istore_n (lv' := [(3, .int x_13), (0, .ref (q 0)), (1, .int x1), (2, .int x2), (4, .int x4), (5, .int x5), (6, .int x6)]) hx hb dX0_worstAt_72 rfl hl (by decide) rfl (fun ls hl => ?_)
      obtain ⟨x_14, ex_14, hF⟩ := nm_e2 hF
      refine lv_iinc (v := x_14) (lv' := [(4, .int x_14), (3, .int x_13), (0, .ref (q 0)), (1, .int x1), (2, .int x2), (5, .int x5), (6, .int x6)]) hx hb dX0_worstAt_73 hl (k := 4) rfl (by rw [ex_14]; rfl) (by decide) rfl (fun ls hl => ?_)
      refine lv_goto (tgt := 5) hx hb dX0_worstAt_76 (by decide) ?_
      exact HK5 _ _ _ _ _ _ _ _ hF hw hS (lv_sub hl [2, 3, 4, 1, 0] rfl)
    · have hF := if_e hF c_12
      refine lv_iload hx hb dX0_worstAt_23 (lv_at hl 5 rfl) ?_
      refine lv_aload_n hx hb dX0_worstAt_25 rfl (lv_at hl 0 rfl) ?_
      refine r_get0 C hw 20 (by decide) rfl (v := .ref (q 6)) rfl q239 dX0_worstAt_26 ?_
      refine lv_bipush (v := (41 : Int32)) hx hb dX0_worstAt_29 (by decide) ?_
      refine lv_iload hx hb dX0_worstAt_31 (lv_at hl 4 rfl) ?_
      refine lv_imul hx hb dX0_worstAt_33 ?_
      refine lv_iload_n hx hb dX0_worstAt_34 rfl (lv_at hl 1 rfl) ?_
      refine lv_iadd hx hb dX0_worstAt_35 ?_
      obtain ⟨h_15, hF⟩ := gd_e hF
      refine r_iald (i := 6) (n := 410) (g := 6) (st := 0) C hw (wi_lo (Or.inl (by decide))) rfl h_15 dX0_worstAt_36 ?_
      refine lv_aload_n hx hb dX0_worstAt_37 rfl (lv_at hl 0 rfl) ?_
      refine r_get0 C hw 20 (by decide) rfl (v := .ref (q 6)) rfl q239 dX0_worstAt_38 ?_
      refine lv_bipush (v := (41 : Int32)) hx hb dX0_worstAt_41 (by decide) ?_
      refine lv_iload hx hb dX0_worstAt_43 (lv_at hl 6 rfl) ?_
      refine lv_imul hx hb dX0_worstAt_45 ?_
      refine lv_iload_n hx hb dX0_worstAt_46 rfl (lv_at hl 1 rfl) ?_
      refine lv_iadd hx hb dX0_worstAt_47 ?_
      obtain ⟨h_16, hF⟩ := gd_e hF
      refine r_iald (i := 6) (n := 410) (g := 6) (st := 0) C hw (wi_lo (Or.inl (by decide))) rfl h_16 dX0_worstAt_48 ?_
      refine lv_icmp_ne (tgt := 56) hx hb dX0_worstAt_49 (by decide) (fun c_17 => ?_) (fun c_17 => ?_)
      · have hF := if_e hF c_17
        refine lv_iconst (v := (0 : Int32)) hx hb dX0_worstAt_56 (by decide) ?_
        refine lv_iadd hx hb dX0_worstAt_57 ?_
        obtain ⟨x_18, ex_18, hF⟩ := nm_e2 hF
        refine r_topi ex_18 ?_
        refine lv_istore (lv' := [(5, .int x_18), (0, .ref (q 0)), (1, .int x1), (2, .int x2), (3, .int x3), (4, .int x4), (6, .int x6)]) hx hb dX0_worstAt_58 hl (by decide) rfl (fun ls hl => ?_)
        obtain ⟨x_19, ex_19, hF⟩ := nm_e2 hF
        refine lv_iinc (v := x_19) (lv' := [(6, .int x_19), (5, .int x_18), (0, .ref (q 0)), (1, .int x1), (2, .int x2), (3, .int x3), (4, .int x4)]) hx hb dX0_worstAt_60 hl (k := 6) rfl (by rw [ex_19]; rfl) (by decide) rfl (fun ls hl => ?_)
        refine lv_goto (tgt := 17) hx hb dX0_worstAt_63 (by decide) ?_
        exact ih _ _ _ _ _ _ _ _ _ _ hF hw hS (lv_sub hl [2, 3, 4, 5, 6, 1, 0] rfl)
      · have hF := it_e hF c_17
        refine lv_iconst (v := (1 : Int32)) hx hb dX0_worstAt_52 (by decide) ?_
        refine lv_goto (tgt := 57) hx hb dX0_worstAt_53 (by decide) ?_
        refine lv_iadd hx hb dX0_worstAt_57 ?_
        obtain ⟨x_20, ex_20, hF⟩ := nm_e2 hF
        refine r_topi ex_20 ?_
        refine lv_istore (lv' := [(5, .int x_20), (0, .ref (q 0)), (1, .int x1), (2, .int x2), (3, .int x3), (4, .int x4), (6, .int x6)]) hx hb dX0_worstAt_58 hl (by decide) rfl (fun ls hl => ?_)
        obtain ⟨x_21, ex_21, hF⟩ := nm_e2 hF
        refine lv_iinc (v := x_21) (lv' := [(6, .int x_21), (5, .int x_20), (0, .ref (q 0)), (1, .int x1), (2, .int x2), (3, .int x3), (4, .int x4)]) hx hb dX0_worstAt_60 hl (k := 6) rfl (by rw [ex_21]; rfl) (by decide) rfl (fun ls hl => ?_)
        refine lv_goto (tgt := 17) hx hb dX0_worstAt_63 (by decide) ?_
        exact ih _ _ _ _ _ _ _ _ _ _ hF hw hS (lv_sub hl [2, 3, 4, 5, 6, 1, 0] rfl)
noncomputable def B_X0_worstAt_5 (N : Nat) (IH : Int32 → Int32 → Int32 → Int32 → SS → Option (Int32 × SS)) (x1 : Int32) (x2 : Int32) (x3 : Int32) (x4 : Int32) (σ : SS) : Option (Int32 × SS) :=
  if x2 ≤ x4 then
    some (x3, σ)
  else
    F_X0_worstAt_17 N IH N x1 x2 x3 x4 (0 : Int32) (0 : Int32) σ
noncomputable def F_X0_worstAt_5 (N : Nat) (n : Nat) : Int32 → Int32 → Int32 → Int32 → SS → Option (Int32 × SS) := Nat.rec (fun _ _ _ _ _ => none) (fun _ IH => B_X0_worstAt_5 N IH) n
set_option maxRecDepth 100000 in
theorem w_X0_worstAt_5 {p : Program} {l : Launch} {e : Env} {s : State} {m : MethodId} {args : Array Value} {below : List Frame} {meth : Method} {c : Code} {G : GG} {rd : Bool} {q : Nat → Nat} {N : Nat} {r : Int32} {σ' : SS} (C : cx p s m args meth c cX0_worstAt 7 RX0 (some .int) G) : ∀ (n : Nat), ∀ (x1 : Int32) (x2 : Int32) (x3 : Int32) (x4 : Int32) (σ : SS) (H : Heap) (locs : List Loc) (ls : Array Slot), F_X0_worstAt_5 N n x1 x2 x3 x4 σ = some (r, σ') → wx G rd q σ H → va_S (fa G) s.heap H locs → lv_has ls 7 [(0, .ref (q 0)), (1, .int x1), (2, .int x2), (3, .int x3), (4, .int x4)] → W p l e rmX0_worstAt s m args below meth c H locs 0 0 (MQ below (qxi G rd q σ' r) args s 0 0 (fa G)) (F0 m 5 ls []) := by
  obtain ⟨hx, hb, hml, hown, hts, -, -, -, -⟩ := id C
  intro n
  induction n with
  | zero =>
    intro x1 x2 x3 x4 σ H locs ls hF hw hS hl
    cases hF
  | succ n ih =>
    intro x1 x2 x3 x4 σ H locs ls hF hw hS hl
    have hF : B_X0_worstAt_5 N (F_X0_worstAt_5 N n) x1 x2 x3 x4 σ = some (r, σ') := hF
    unfold B_X0_worstAt_5 at hF
    refine lv_iload hx hb dX0_worstAt_5 (lv_at hl 4 rfl) ?_
    refine lv_iload_n hx hb dX0_worstAt_7 rfl (lv_at hl 2 rfl) ?_
    refine lv_icmp_ge (tgt := 79) hx hb dX0_worstAt_8 (by decide) (fun c_22 => ?_) (fun c_22 => ?_)
    · have hF := it_e hF c_22
      refine lv_iload_n hx hb dX0_worstAt_79 rfl (lv_at hl 3 rfl) ?_
      exact r_iret C hw hS hF dX0_worstAt_80
    · have hF := if_e hF c_22
      refine lv_iconst (v := (0 : Int32)) hx hb dX0_worstAt_11 (by decide) ?_
      refine lv_istore (lv' := [(5, .int (0 : Int32)), (0, .ref (q 0)), (1, .int x1), (2, .int x2), (3, .int x3), (4, .int x4)]) hx hb dX0_worstAt_12 hl (by decide) rfl (fun ls hl => ?_)
      refine lv_iconst (v := (0 : Int32)) hx hb dX0_worstAt_14 (by decide) ?_
      refine lv_istore (lv' := [(6, .int (0 : Int32)), (5, .int (0 : Int32)), (0, .ref (q 0)), (1, .int x1), (2, .int x2), (3, .int x3), (4, .int x4)]) hx hb dX0_worstAt_15 hl (by decide) rfl (fun ls hl => ?_)
      exact w_X0_worstAt_17 C  ih N _ _ _ _ _ _ _ _ _ _ hF hw hS (lv_sub hl [2, 3, 4, 5, 6, 1, 0] rfl)
noncomputable def F_X0_worstAt (N : Nat) (x1 : Int32) (x2 : Int32) (σ : SS) : Option (Int32 × SS) :=
  F_X0_worstAt_5 N N x1 x2 (0 : Int32) (0 : Int32) σ
set_option maxRecDepth 100000 in
theorem met_X0_worstAt (l : Launch) (G : GG) (rd : Bool) (q : Nat → Nat) {N : Nat} {x1 : Int32} {x2 : Int32} {σ σ' : SS} {r : Int32} (hF : F_X0_worstAt N x1 x2 σ = some (r, σ')) : Met l yX0_worstAt (ws_ yX0_worstAt cX0_worstAt 7 (some .int)) rmX0_worstAt (pcx G rd q σ [.ref (q 0), .int x1, .int x2]) (qxi G rd q σ' r) 0 0 (fa G) := by
  refine met_of (by decide) (Nat.le_of_ble_eq_true rfl) ?_
  intro p e s m below meth c C H locs ls hw hS hl
  obtain ⟨hx, hb, hml, hown, hts, -, -, -, -⟩ := id C
  have hl : lv_has ls 7 [(0, .ref (q 0)), (1, .int x1), (2, .int x2)] := hl
  unfold F_X0_worstAt at hF
  refine lv_iconst (v := (0 : Int32)) hx hb dX0_worstAt_0 (by decide) ?_
  refine lv_istore_n (lv' := [(3, .int (0 : Int32)), (0, .ref (q 0)), (1, .int x1), (2, .int x2)]) hx hb dX0_worstAt_1 rfl hl (by decide) rfl (fun ls hl => ?_)
  refine lv_iconst (v := (0 : Int32)) hx hb dX0_worstAt_2 (by decide) ?_
  refine lv_istore (lv' := [(4, .int (0 : Int32)), (3, .int (0 : Int32)), (0, .ref (q 0)), (1, .int x1), (2, .int x2)]) hx hb dX0_worstAt_3 hl (by decide) rfl (fun ls hl => ?_)
  exact w_X0_worstAt_5 C   N _ _ _ _ _ _ _ _ hF hw hS (lv_sub hl [2, 3, 4, 1, 0] rfl)
abbrev rmX0_judges : Room := { frames := 1, cells := 0, slots := 0, locals := 60 }
noncomputable def F_X0_judges_17 (N : Nat) (x2 : Int32) (z0 : Int32) (σ : SS) : Option (Unit × SS) :=
  nm (si σ 0 14 z0) fun σ_4 =>
  nm (si σ_4 0 15 (if (gi σ_4 0 15) < x2 then x2 else (gi σ_4 0 15))) fun σ_5 =>
  some ((), σ_5)
set_option maxRecDepth 100000 in
theorem w_X0_judges_17 {p : Program} {l : Launch} {e : Env} {s : State} {m : MethodId} {args : Array Value} {below : List Frame} {meth : Method} {c : Code} {G : GG} {rd : Bool} {q : Nat → Nat} {N : Nat} {r : Unit} {σ' : SS} (C : cx p s m args meth c cX0_judges 3 RX0 none G) : ∀ (x2 : Int32) (z0 : Int32) (σ : SS) (H : Heap) (locs : List Loc) (ls : Array Slot), F_X0_judges_17 N x2 z0 σ = some (r, σ') → wx G rd q σ H → va_S (fa G) s.heap H locs → lv_has ls 3 [(0, .ref (q 0)), (2, .int x2)] → W p l e rmX0_judges s m args below meth c H locs 0 0 (MQ below (qxv G rd q σ' r) args s 0 0 (fa G)) (F0 m 17 ls [.int z0, .ref (q 0)]) := by
  obtain ⟨hx, hb, hml, hown, hts, -, -, -, -⟩ := id C
  intro x2 z0 σ H locs ls hF hw hS hl
  unfold F_X0_judges_17 at hF
  obtain ⟨σ_4, eσ_4, hF⟩ := nm_e2 hF
  refine r_put0 C hw hS 14 (by decide) rfl rfl (tyX0_ok 14 (by decide)) rfl rfl q233 dX0_judges_17 eσ_4 (fun H locs hw hS => ?_)
  refine lv_aload_n hx hb dX0_judges_20 rfl (lv_at hl 0 rfl) ?_
  refine lv_aload_n hx hb dX0_judges_21 rfl (lv_at hl 0 rfl) ?_
  refine r_get0 C hw 15 (by decide) rfl (v := .int (gi σ_4 0 15)) rfl q234 dX0_judges_22 ?_
  refine lv_iload_n hx hb dX0_judges_25 rfl (lv_at hl 1 rfl) ?_
  refine r_mmax C hl.1 q674 q581 q75 q582 (Nat.le_of_ble_eq_true rfl) (Nat.le_of_ble_eq_true rfl) ⟨Nat.zero_le _, Nat.zero_le _⟩ dX0_judges_26 ?_
  obtain ⟨σ_5, eσ_5, hF⟩ := nm_e2 hF
  refine r_put0 C hw hS 15 (by decide) rfl rfl (tyX0_ok 15 (by decide)) rfl rfl q234 dX0_judges_29 eσ_5 (fun H locs hw hS => ?_)
  exact r_vret C hw hS hF dX0_judges_32
noncomputable def F_X0_judges (N : Nat) (x1 : Int32) (x2 : Int32) (σ : SS) : Option (Unit × SS) :=
  if x2 ≤ (gi σ 0 15) then
    F_X0_judges_17 N x2 (gi σ 0 14) σ
  else
    F_X0_judges_17 N x2 x1 σ
set_option maxRecDepth 100000 in
theorem met_X0_judges (l : Launch) (G : GG) (rd : Bool) (q : Nat → Nat) {N : Nat} {x1 : Int32} {x2 : Int32} {σ σ' : SS} {r : Unit} (hF : F_X0_judges N x1 x2 σ = some (r, σ')) : Met l yX0_judges (ws_ yX0_judges cX0_judges 3 none) rmX0_judges (pcx G rd q σ [.ref (q 0), .int x1, .int x2]) (qxv G rd q σ' r) 0 0 (fa G) := by
  refine met_of (by decide) (Nat.le_of_ble_eq_true rfl) ?_
  intro p e s m below meth c C H locs ls hw hS hl
  obtain ⟨hx, hb, hml, hown, hts, -, -, -, -⟩ := id C
  have hl : lv_has ls 3 [(0, .ref (q 0)), (1, .int x1), (2, .int x2)] := hl
  unfold F_X0_judges at hF
  refine lv_aload_n hx hb dX0_judges_0 rfl (lv_at hl 0 rfl) ?_
  refine lv_iload_n hx hb dX0_judges_1 rfl (lv_at hl 2 rfl) ?_
  refine lv_aload_n hx hb dX0_judges_2 rfl (lv_at hl 0 rfl) ?_
  refine r_get0 C hw 15 (by decide) rfl (v := .int (gi σ 0 15)) rfl q234 dX0_judges_3 ?_
  refine lv_icmp_le (tgt := 13) hx hb dX0_judges_6 (by decide) (fun c_6 => ?_) (fun c_6 => ?_)
  · have hF := it_e hF c_6
    refine lv_aload_n hx hb dX0_judges_13 rfl (lv_at hl 0 rfl) ?_
    refine r_get0 C hw 14 (by decide) rfl (v := .int (gi σ 0 14)) rfl q233 dX0_judges_14 ?_
    exact w_X0_judges_17 C   _ _ _ _ _ _ hF hw hS (lv_sub hl [0, 2] rfl)
  · have hF := if_e hF c_6
    refine lv_iload_n hx hb dX0_judges_9 rfl (lv_at hl 1 rfl) ?_
    refine lv_goto (tgt := 17) hx hb dX0_judges_10 (by decide) ?_
    exact w_X0_judges_17 C   _ _ _ _ _ _ hF hw hS (lv_sub hl [0, 2] rfl)
abbrev rmX0_ask : Room := { frames := 12, cells := 0, slots := 0, locals := 311 }
noncomputable def B_X0_ask_32 (N : Nat) (IH : Int32 → Int32 → Int32 → SS → Option (Int32 × SS)) (x2 : Int32) (x3 : Int32) (x4 : Int32) (σ : SS) : Option (Int32 × SS) :=
  if (40 : Int32) < x4 then
    if (gi σ 0 14) = (-4 : Int32) then
      some ((-4 : Int32), σ)
    else
      if x2 = (0 : Int32) then
        some (gi σ 0 14, σ)
      else
        some (-(gi σ 0 15), σ)
  else
    bd (F_X0_worstAt N x4 x3 σ) fun r_28 σ_29 =>
    bd (F_X0_judges N x4 (-r_28) σ_29) fun r_31 σ_32 =>
    nm (x4 + (1 : Int32)) fun x_34 =>
    IH x2 x3 x_34 σ_32
noncomputable def F_X0_ask_32 (N : Nat) (n : Nat) : Int32 → Int32 → Int32 → SS → Option (Int32 × SS) := Nat.rec (fun _ _ _ _ => none) (fun _ IH => B_X0_ask_32 N IH) n
set_option maxRecDepth 100000 in
theorem w_X0_ask_32 {p : Program} {l : Launch} {e : Env} {s : State} {m : MethodId} {args : Array Value} {below : List Frame} {meth : Method} {c : Code} {G : GG} {rd : Bool} {q : Nat → Nat} {N : Nat} {r : Int32} {σ' : SS} (C : cx p s m args meth c cX0_ask 5 RX0 (some .int) G) : ∀ (n : Nat), ∀ (x2 : Int32) (x3 : Int32) (x4 : Int32) (σ : SS) (H : Heap) (locs : List Loc) (ls : Array Slot), F_X0_ask_32 N n x2 x3 x4 σ = some (r, σ') → wx G rd q σ H → va_S (fa G) s.heap H locs → lv_has ls 5 [(0, .ref (q 0)), (2, .int x2), (3, .int x3), (4, .int x4)] → W p l e rmX0_ask s m args below meth c H locs 0 0 (MQ below (qxi G rd q σ' r) args s 0 0 (fa G)) (F0 m 32 ls []) := by
  obtain ⟨hx, hb, hml, hown, hts, -, -, -, -⟩ := id C
  intro n
  induction n with
  | zero =>
    intro x2 x3 x4 σ H locs ls hF hw hS hl
    cases hF
  | succ n ih =>
    intro x2 x3 x4 σ H locs ls hF hw hS hl
    have hF : B_X0_ask_32 N (F_X0_ask_32 N n) x2 x3 x4 σ = some (r, σ') := hF
    unfold B_X0_ask_32 at hF
    refine lv_iload hx hb dX0_ask_32 (lv_at hl 3 rfl) ?_
    refine lv_bipush (v := (40 : Int32)) hx hb dX0_ask_34 (by decide) ?_
    refine lv_icmp_gt (tgt := 59) hx hb dX0_ask_36 (by decide) (fun c_25 => ?_) (fun c_25 => ?_)
    · have hF := it_e hF c_25
      refine lv_aload_n hx hb dX0_ask_59 rfl (lv_at hl 0 rfl) ?_
      refine r_get0 C hw 14 (by decide) rfl (v := .int (gi σ 0 14)) rfl q233 dX0_ask_60 ?_
      refine lv_bipush (v := (-4 : Int32)) hx hb dX0_ask_63 (by decide) ?_
      refine lv_icmp_ne (tgt := 73) hx hb dX0_ask_65 (by decide) (fun c_26 => ?_) (fun c_26 => ?_)
      · have hF := if_e hF c_26
        refine lv_iload_n hx hb dX0_ask_73 rfl (lv_at hl 1 rfl) ?_
        refine lv_if_ne (tgt := 84) hx hb dX0_ask_74 (by decide) (fun c_27 => ?_) (fun c_27 => ?_)
        · have hF := if_e hF c_27
          refine lv_aload_n hx hb dX0_ask_84 rfl (lv_at hl 0 rfl) ?_
          refine r_get0 C hw 15 (by decide) rfl (v := .int (gi σ 0 15)) rfl q234 dX0_ask_85 ?_
          refine lv_ineg hx hb dX0_ask_88 ?_
          exact r_iret C hw hS hF dX0_ask_89
        · have hF := it_e hF c_27
          refine lv_aload_n hx hb dX0_ask_77 rfl (lv_at hl 0 rfl) ?_
          refine r_get0 C hw 14 (by decide) rfl (v := .int (gi σ 0 14)) rfl q233 dX0_ask_78 ?_
          refine lv_goto (tgt := 89) hx hb dX0_ask_81 (by decide) ?_
          exact r_iret C hw hS hF dX0_ask_89
      · have hF := it_e hF c_26
        refine lv_bipush (v := (-4 : Int32)) hx hb dX0_ask_68 (by decide) ?_
        refine lv_goto (tgt := 89) hx hb dX0_ask_70 (by decide) ?_
        exact r_iret C hw hS hF dX0_ask_89
    · have hF := if_e hF c_25
      refine lv_aload_n hx hb dX0_ask_39 rfl (lv_at hl 0 rfl) ?_
      refine lv_iload hx hb dX0_ask_40 (lv_at hl 3 rfl) ?_
      refine lv_aload_n hx hb dX0_ask_42 rfl (lv_at hl 0 rfl) ?_
      refine lv_iload hx hb dX0_ask_43 (lv_at hl 3 rfl) ?_
      refine lv_iload_n hx hb dX0_ask_45 rfl (lv_at hl 2 rfl) ?_
      obtain ⟨r_28, σ_29, h_30, hF⟩ := bd_e hF
      refine r_callVi (As := [.int x4, .int x3]) (rest := [.int x4, .ref (q 0)]) (i := 0) C hw hS (wi_lo (Or.inl (by decide))) rfl (ci := 0) rfl (met_X0_worstAt l G rd q  h_30) (cwV 2 hts (lw_V q807 q809 qs29 q57 q810) rfl rfl rfl (by decide +kernel) ⟨Nat.le_of_ble_eq_true rfl, Nat.le_of_ble_eq_true rfl⟩) rfl hl.1 rfl (Nat.le_of_ble_eq_true rfl) ⟨Nat.le_refl _, Nat.le_refl _⟩ dX0_ask_46 (fun H locs hw hS => ?_)
      refine lv_ineg hx hb dX0_ask_49 ?_
      obtain ⟨r_31, σ_32, h_33, hF⟩ := bd_e hF
      refine r_callVv (As := [.int x4, .int (-r_28)]) (rest := []) (i := 0) C hw hS (wi_lo (Or.inl (by decide))) rfl (ci := 0) rfl (met_X0_judges l G rd q  h_33) (cwV 2 hts (lw_V q720 q722 qs22 q57 q723) rfl rfl rfl (by decide +kernel) ⟨Nat.le_of_ble_eq_true rfl, Nat.le_of_ble_eq_true rfl⟩) rfl hl.1 rfl (Nat.le_of_ble_eq_true rfl) ⟨Nat.le_refl _, Nat.le_refl _⟩ dX0_ask_50 (fun H locs hw hS => ?_)
      obtain ⟨x_34, ex_34, hF⟩ := nm_e2 hF
      refine lv_iinc (v := x_34) (lv' := [(4, .int x_34), (0, .ref (q 0)), (2, .int x2), (3, .int x3)]) hx hb dX0_ask_53 hl (k := 3) rfl (by rw [ex_34]; rfl) (by decide) rfl (fun ls hl => ?_)
      refine lv_goto (tgt := 32) hx hb dX0_ask_56 (by decide) ?_
      exact ih _ _ _ _ _ _ _ hF hw hS (lv_sub hl [1, 2, 3, 0] rfl)
noncomputable def F_X0_ask (N : Nat) (x1 : Int32) (x2 : Int32) (σ : SS) : Option (Int32 × SS) :=
  bd (F_X0_isWheel N x1 σ) fun r_35 σ_36 =>
  if r_35 = (0 : Int32) then
    some ((-1 : Int32), σ_36)
  else
    bd (F_X0_isPart N x2 σ_36) fun r_39 σ_40 =>
    if r_39 = (0 : Int32) then
      some ((-1 : Int32), σ_40)
    else
      bd (F_X0_findLosses N x1 σ_40) fun r_43 σ_44 =>
      bd (F_X0_startsJudging N (-r_43) σ_44) fun r_46 σ_47 =>
      F_X0_ask_32 N N x2 r_43 (0 : Int32) σ_47
set_option maxRecDepth 100000 in
theorem met_X0_ask (l : Launch) (G : GG) (rd : Bool) (q : Nat → Nat) {N : Nat} {x1 : Int32} {x2 : Int32} {σ σ' : SS} {r : Int32} (hF : F_X0_ask N x1 x2 σ = some (r, σ')) : Met l yX0_ask (ws_ yX0_ask cX0_ask 5 (some .int)) rmX0_ask (pcx G rd q σ [.ref (q 0), .int x1, .int x2]) (qxi G rd q σ' r) 0 0 (fa G) := by
  refine met_of (by decide) (Nat.le_of_ble_eq_true rfl) ?_
  intro p e s m below meth c C H locs ls hw hS hl
  obtain ⟨hx, hb, hml, hown, hts, -, -, -, -⟩ := id C
  have hl : lv_has ls 5 [(0, .ref (q 0)), (1, .int x1), (2, .int x2)] := hl
  unfold F_X0_ask at hF
  refine lv_aload_n hx hb dX0_ask_0 rfl (lv_at hl 0 rfl) ?_
  refine lv_iload_n hx hb dX0_ask_1 rfl (lv_at hl 1 rfl) ?_
  obtain ⟨r_35, σ_36, h_37, hF⟩ := bd_e hF
  refine r_callVi (As := [.int x1]) (rest := []) (i := 0) C hw hS (wi_lo (Or.inl (by decide))) rfl (ci := 0) rfl (met_X0_isWheel l G rd q  h_37) (cwV 1 hts (lw_V q552 q554 qs10 q57 q555) rfl rfl rfl (by decide +kernel) ⟨Nat.le_of_ble_eq_true rfl, Nat.le_of_ble_eq_true rfl⟩) rfl hl.1 rfl (Nat.le_of_ble_eq_true rfl) ⟨Nat.le_refl _, Nat.le_refl _⟩ dX0_ask_2 (fun H locs hw hS => ?_)
  refine lv_if_eq (tgt := 15) hx hb dX0_ask_5 (by decide) (fun c_38 => ?_) (fun c_38 => ?_)
  · have hF := it_e hF c_38
    refine lv_iconst (v := (-1 : Int32)) hx hb dX0_ask_15 (by decide) ?_
    exact r_iret C hw hS hF dX0_ask_16
  · have hF := if_e hF c_38
    refine lv_iload_n hx hb dX0_ask_8 rfl (lv_at hl 2 rfl) ?_
    obtain ⟨r_39, σ_40, h_41, hF⟩ := bd_e hF
    refine r_callSi (As := [.int x2]) (rest := []) C hw hS (met_X0_isPart l G rd q  h_41) (cwS 1 hts (lw_S q709 q710 q57 q711) rfl rfl rfl (by decide +kernel) ⟨Nat.le_of_ble_eq_true rfl, Nat.le_of_ble_eq_true rfl⟩) rfl hl.1 rfl (Nat.le_of_ble_eq_true rfl) ⟨Nat.le_refl _, Nat.le_refl _⟩ dX0_ask_9 (fun H locs hw hS => ?_)
    refine lv_if_ne (tgt := 17) hx hb dX0_ask_12 (by decide) (fun c_42 => ?_) (fun c_42 => ?_)
    · have hF := if_e hF c_42
      refine lv_aload_n hx hb dX0_ask_17 rfl (lv_at hl 0 rfl) ?_
      refine lv_iload_n hx hb dX0_ask_18 rfl (lv_at hl 1 rfl) ?_
      obtain ⟨r_43, σ_44, h_45, hF⟩ := bd_e hF
      refine r_callVi (As := [.int x1]) (rest := []) (i := 0) C hw hS (wi_lo (Or.inl (by decide))) rfl (ci := 0) rfl (met_X0_findLosses l G rd q  h_45) (cwV 1 hts (lw_V q803 q805 qs28 q57 q806) rfl rfl rfl (by decide +kernel) ⟨Nat.le_of_ble_eq_true rfl, Nat.le_of_ble_eq_true rfl⟩) rfl hl.1 rfl (Nat.le_of_ble_eq_true rfl) ⟨Nat.le_refl _, Nat.le_refl _⟩ dX0_ask_19 (fun H locs hw hS => ?_)
      refine lv_istore_n (lv' := [(3, .int r_43), (0, .ref (q 0)), (1, .int x1), (2, .int x2)]) hx hb dX0_ask_22 rfl hl (by decide) rfl (fun ls hl => ?_)
      refine lv_aload_n hx hb dX0_ask_23 rfl (lv_at hl 1 rfl) ?_
      refine lv_iload_n hx hb dX0_ask_24 rfl (lv_at hl 0 rfl) ?_
      refine lv_ineg hx hb dX0_ask_25 ?_
      obtain ⟨r_46, σ_47, h_48, hF⟩ := bd_e hF
      refine r_callVv (As := [.int (-r_43)]) (rest := []) (i := 0) C hw hS (wi_lo (Or.inl (by decide))) rfl (ci := 0) rfl (met_X0_startsJudging l G rd q  h_48) (cwV 1 hts (lw_V q712 q714 qs20 q57 q715) rfl rfl rfl (by decide +kernel) ⟨Nat.le_of_ble_eq_true rfl, Nat.le_of_ble_eq_true rfl⟩) rfl hl.1 rfl (Nat.le_of_ble_eq_true rfl) ⟨Nat.le_refl _, Nat.le_refl _⟩ dX0_ask_26 (fun H locs hw hS => ?_)
      refine lv_iconst (v := (0 : Int32)) hx hb dX0_ask_29 (by decide) ?_
      refine lv_istore (lv' := [(4, .int (0 : Int32)), (3, .int r_43), (0, .ref (q 0)), (1, .int x1), (2, .int x2)]) hx hb dX0_ask_30 hl (by decide) rfl (fun ls hl => ?_)
      exact w_X0_ask_32 C   N _ _ _ _ _ _ _ hF hw hS (lv_sub hl [2, 4, 1, 0] rfl)
    · have hF := it_e hF c_42
      refine lv_iconst (v := (-1 : Int32)) hx hb dX0_ask_15 (by decide) ?_
      exact r_iret C hw hS hF dX0_ask_16
abbrev rmX0_has : Room := { frames := 1, cells := 0, slots := 0, locals := 60 }
noncomputable def F_X0_has (N : Nat) (x0 : Int32) (x1 : Int32) (σ : SS) : Option (Int32 × SS) :=
  if ((x0 >>> (x1 &&& 31)) &&& (1 : Int32)) = (1 : Int32) then
    some ((1 : Int32), σ)
  else
    some ((0 : Int32), σ)
set_option maxRecDepth 100000 in
theorem met_X0_has (l : Launch) (G : GG) (rd : Bool) (q : Nat → Nat) {N : Nat} {x0 : Int32} {x1 : Int32} {σ σ' : SS} {r : Int32} (hF : F_X0_has N x0 x1 σ = some (r, σ')) : Met l yX0_has (ws_ yX0_has cX0_has 2 (some .boolean)) rmX0_has (pcx G rd q σ [.int x0, .int x1]) (qxi G rd q σ' r) 0 0 (fa G) := by
  refine met_of (by decide) (Nat.le_of_ble_eq_true rfl) ?_
  intro p e s m below meth c C H locs ls hw hS hl
  obtain ⟨hx, hb, hml, hown, hts, -, -, -, -⟩ := id C
  have hl : lv_has ls 2 [(0, .int x0), (1, .int x1)] := hl
  unfold F_X0_has at hF
  refine lv_iload_n hx hb dX0_has_0 rfl (lv_at hl 0 rfl) ?_
  refine lv_iload_n hx hb dX0_has_1 rfl (lv_at hl 1 rfl) ?_
  refine lv_ishr hx hb dX0_has_2 ?_
  refine lv_iconst (v := (1 : Int32)) hx hb dX0_has_3 (by decide) ?_
  refine lv_iand hx hb dX0_has_4 ?_
  refine lv_iconst (v := (1 : Int32)) hx hb dX0_has_5 (by decide) ?_
  refine lv_icmp_ne (tgt := 13) hx hb dX0_has_6 (by decide) (fun c_2 => ?_) (fun c_2 => ?_)
  · have hF := if_e hF c_2
    refine lv_iconst (v := (0 : Int32)) hx hb dX0_has_13 (by decide) ?_
    exact r_zret C hw hS hF rfl dX0_has_14
  · have hF := it_e hF c_2
    refine lv_iconst (v := (1 : Int32)) hx hb dX0_has_9 (by decide) ?_
    refine lv_goto (tgt := 14) hx hb dX0_has_10 (by decide) ?_
    exact r_zret C hw hS hF rfl dX0_has_14
abbrev rmX0_back : Room := { frames := 3, cells := 0, slots := 0, locals := 103 }
noncomputable def F_X0_back (N : Nat) (x1 : Int32) (σ : SS) : Option (Int32 × SS) :=
  bd (F_X0_in N x1.toInt64 (0 : Int64) (1 : Int64) σ) fun r_14 σ_15 =>
  if r_14 = (0 : Int32) then
    some ((-1 : Int32), σ_15)
  else
    bd (F_X0_has N (gi σ_15 0 4) x1 σ_15) fun r_18 σ_19 =>
    if r_18 = (0 : Int32) then
      some ((-2 : Int32), σ_19)
    else
      gd (inR x1 2) <|
      nm (2 + x1.toNatClampNeg) fun w_23 =>
      bd (F_X5_as N 0 w_23 σ_19) fun r_24 σ_25 =>
      some (gi σ_25 (iS 0) 36, σ_25)
set_option maxRecDepth 100000 in
theorem met_X0_back (l : Launch) (G : GG) (rd : Bool) (q : Nat → Nat) {N : Nat} {x1 : Int32} {σ σ' : SS} {r : Int32} (hF : F_X0_back N x1 σ = some (r, σ')) : Met l yX0_back (ws_ yX0_back cX0_back 2 (some .int)) rmX0_back (pcx G rd q σ [.ref (q 0), .int x1]) (qxi G rd q σ' r) 0 0 (fa G) := by
  refine met_of (by decide) (Nat.le_of_ble_eq_true rfl) ?_
  intro p e s m below meth c C H locs ls hw hS hl
  obtain ⟨hx, hb, hml, hown, hts, -, -, -, -⟩ := id C
  have hl : lv_has ls 2 [(0, .ref (q 0)), (1, .int x1)] := hl
  unfold F_X0_back at hF
  refine lv_iload_n hx hb dX0_back_0 rfl (lv_at hl 1 rfl) ?_
  refine lv_i2l hx hb dX0_back_1 rfl ?_
  refine lv_lconst (v := (0 : Int64)) hx hb dX0_back_2 (by decide) ?_
  refine lv_lconst (v := (1 : Int64)) hx hb dX0_back_3 (by decide) ?_
  obtain ⟨r_14, σ_15, h_16, hF⟩ := bd_e hF
  refine r_callSi (As := [.long x1.toInt64, .long (0 : Int64), .long (1 : Int64)]) (rest := []) C hw hS (met_X0_in l G rd q  h_16) (cwS 3 hts (lw_S q294 q295 q57 q296) rfl rfl rfl (by decide +kernel) ⟨Nat.le_of_ble_eq_true rfl, Nat.le_of_ble_eq_true rfl⟩) rfl hl.1 rfl (Nat.le_of_ble_eq_true rfl) ⟨Nat.le_refl _, Nat.le_refl _⟩ dX0_back_4 (fun H locs hw hS => ?_)
  refine lv_if_ne (tgt := 12) hx hb dX0_back_7 (by decide) (fun c_17 => ?_) (fun c_17 => ?_)
  · have hF := if_e hF c_17
    refine lv_aload_n hx hb dX0_back_12 rfl (lv_at hl 0 rfl) ?_
    refine r_get0 C hw 4 (by decide) rfl (v := .int (gi σ_15 0 4)) rfl q222 dX0_back_13 ?_
    refine lv_iload_n hx hb dX0_back_16 rfl (lv_at hl 1 rfl) ?_
    obtain ⟨r_18, σ_19, h_20, hF⟩ := bd_e hF
    refine r_callSi (As := [.int (gi σ_15 0 4), .int x1]) (rest := []) C hw hS (met_X0_has l G rd q  h_20) (cwS 2 hts (lw_S q763 q764 q57 q765) rfl rfl rfl (by decide +kernel) ⟨Nat.le_of_ble_eq_true rfl, Nat.le_of_ble_eq_true rfl⟩) rfl hl.1 rfl (Nat.le_of_ble_eq_true rfl) ⟨Nat.le_refl _, Nat.le_refl _⟩ dX0_back_17 (fun H locs hw hS => ?_)
    refine lv_if_ne (tgt := 26) hx hb dX0_back_20 (by decide) (fun c_21 => ?_) (fun c_21 => ?_)
    · have hF := if_e hF c_21
      refine lv_aload_n hx hb dX0_back_26 rfl (lv_at hl 0 rfl) ?_
      refine r_get0 C hw 1 (by decide) rfl (v := .ref (q (iS 0))) rfl q219 dX0_back_27 ?_
      refine lv_aload_n hx hb dX0_back_30 rfl (lv_at hl 0 rfl) ?_
      refine r_get0 C hw 3 (by decide) rfl (v := .ref (q 3)) rfl q221 dX0_back_31 ?_
      refine lv_iload_n hx hb dX0_back_34 rfl (lv_at hl 1 rfl) ?_
      obtain ⟨h_22, hF⟩ := gd_e hF
      obtain ⟨w_23, ew_23, hF⟩ := nm_e2 hF
      have hw_23 : okS rd w_23 := ok_I ew_23 (inR_lt h_22)
      refine r_aald (i := 3) (t := 6) (n := 2) (g := 60) (st := 10) C hw (wi_lo (Or.inl (by decide))) rfl rfl h_22 (ha_I ew_23) dX0_back_35 ?_
      obtain ⟨r_24, σ_25, h_26, hF⟩ := bd_e hF
      refine r_callVv (As := [.ref (q (iS w_23))]) (rest := []) (i := iS 0) C hw hS (wi_S (okS_of (by decide))) (tm_S _ _) (ci := 5) rfl (met_X5_as l G rd q (okS_of (by decide)) hw_23 h_26) (cwV 1 hts (lw_V q521 q522 q523 q62 q524) rfl rfl rfl (by decide +kernel) ⟨Nat.le_of_ble_eq_true rfl, Nat.le_of_ble_eq_true rfl⟩) rfl hl.1 rfl (Nat.le_of_ble_eq_true rfl) ⟨Nat.le_refl _, Nat.le_refl _⟩ dX0_back_36 (fun H locs hw hS => ?_)
      refine lv_aload_n hx hb dX0_back_39 rfl (lv_at hl 0 rfl) ?_
      refine r_get0 C hw 1 (by decide) rfl (v := .ref (q (iS 0))) rfl q219 dX0_back_40 ?_
      refine r_getSN C hw (okS_of (by decide)) 6 (by decide) rfl (v := .int (gi σ_25 (iS 0) 36)) rfl 18 rfl dX0_back_43 ?_
      exact r_iret C hw hS hF dX0_back_46
    · have hF := it_e hF c_21
      refine lv_bipush (v := (-2 : Int32)) hx hb dX0_back_23 (by decide) ?_
      exact r_iret C hw hS hF dX0_back_25
  · have hF := it_e hF c_17
    refine lv_iconst (v := (-1 : Int32)) hx hb dX0_back_10 (by decide) ?_
    exact r_iret C hw hS hF dX0_back_11
abbrev rmX0_bears : Room := { frames := 10, cells := 0, slots := 0, locals := 265 }
noncomputable def B_X0_bears_20 (N : Nat) (IH : Int32 → Int32 → Int32 → SS → Option (Int32 × SS)) (x1 : Int32) (x2 : Int32) (x3 : Int32) (σ : SS) : Option (Int32 × SS) :=
  if x3 < (0 : Int32) then
    some ((-4 : Int32), σ)
  else
    bd (F_X5_as N 1 0 σ) fun r_22 σ_23 =>
    gd (inR x1 4) <|
    nm (x1.toNatClampNeg) fun w_26 =>
    nm (si σ_23 (iS 1) (8 + w_26) x3) fun σ_27 =>
    bd (F_X0_ticksGo N 1 x2 σ_27) fun r_28 σ_29 =>
    if (gi σ_29 0 8) = (0 : Int32) then
      some (x3, σ_29)
    else
      nm (x3 + (-1 : Int32)) fun x_32 =>
      IH x1 x2 x_32 σ_29
noncomputable def F_X0_bears_20 (N : Nat) (n : Nat) : Int32 → Int32 → Int32 → SS → Option (Int32 × SS) := Nat.rec (fun _ _ _ _ => none) (fun _ IH => B_X0_bears_20 N IH) n
set_option maxRecDepth 100000 in
theorem w_X0_bears_20 {p : Program} {l : Launch} {e : Env} {s : State} {m : MethodId} {args : Array Value} {below : List Frame} {meth : Method} {c : Code} {G : GG} {rd : Bool} {q : Nat → Nat} {N : Nat} {r : Int32} {σ' : SS} (C : cx p s m args meth c cX0_bears 4 RX0 (some .int) G) : ∀ (n : Nat), ∀ (x1 : Int32) (x2 : Int32) (x3 : Int32) (σ : SS) (H : Heap) (locs : List Loc) (ls : Array Slot), F_X0_bears_20 N n x1 x2 x3 σ = some (r, σ') → wx G rd q σ H → va_S (fa G) s.heap H locs → lv_has ls 4 [(0, .ref (q 0)), (1, .int x1), (2, .int x2), (3, .int x3)] → W p l e rmX0_bears s m args below meth c H locs 0 0 (MQ below (qxi G rd q σ' r) args s 0 0 (fa G)) (F0 m 20 ls []) := by
  obtain ⟨hx, hb, hml, hown, hts, -, -, -, -⟩ := id C
  intro n
  induction n with
  | zero =>
    intro x1 x2 x3 σ H locs ls hF hw hS hl
    cases hF
  | succ n ih =>
    intro x1 x2 x3 σ H locs ls hF hw hS hl
    have hF : B_X0_bears_20 N (F_X0_bears_20 N n) x1 x2 x3 σ = some (r, σ') := hF
    unfold B_X0_bears_20 at hF
    refine lv_iload_n hx hb dX0_bears_20 rfl (lv_at hl 3 rfl) ?_
    refine lv_if_lt (tgt := 72) hx hb dX0_bears_21 (by decide) (fun c_21 => ?_) (fun c_21 => ?_)
    · have hF := it_e hF c_21
      refine lv_bipush (v := (-4 : Int32)) hx hb dX0_bears_72 (by decide) ?_
      exact r_iret C hw hS hF dX0_bears_74
    · have hF := if_e hF c_21
      refine lv_aload_n hx hb dX0_bears_24 rfl (lv_at hl 0 rfl) ?_
      refine r_get0 C hw 2 (by decide) rfl (v := .ref (q (iS 1))) rfl q220 dX0_bears_25 ?_
      refine lv_aload_n hx hb dX0_bears_28 rfl (lv_at hl 0 rfl) ?_
      refine r_get0 C hw 1 (by decide) rfl (v := .ref (q (iS 0))) rfl q219 dX0_bears_29 ?_
      obtain ⟨r_22, σ_23, h_24, hF⟩ := bd_e hF
      refine r_callVv (As := [.ref (q (iS 0))]) (rest := []) (i := iS 1) C hw hS (wi_S (okS_of (by decide))) (tm_S _ _) (ci := 5) rfl (met_X5_as l G rd q (okS_of (by decide)) (okS_of (by decide)) h_24) (cwV 1 hts (lw_V q521 q522 q523 q62 q524) rfl rfl rfl (by decide +kernel) ⟨Nat.le_of_ble_eq_true rfl, Nat.le_of_ble_eq_true rfl⟩) rfl hl.1 rfl (Nat.le_of_ble_eq_true rfl) ⟨Nat.le_refl _, Nat.le_refl _⟩ dX0_bears_32 (fun H locs hw hS => ?_)
      refine lv_aload_n hx hb dX0_bears_35 rfl (lv_at hl 0 rfl) ?_
      refine r_get0 C hw 2 (by decide) rfl (v := .ref (q (iS 1))) rfl q220 dX0_bears_36 ?_
      refine r_getSN C hw (okS_of (by decide)) 3 (by decide) rfl (v := .ref (q (iWA 1))) rfl 13 rfl dX0_bears_39 ?_
      refine lv_iload_n hx hb dX0_bears_42 rfl (lv_at hl 1 rfl) ?_
      obtain ⟨h_25, hF⟩ := gd_e hF
      obtain ⟨w_26, ew_26, hF⟩ := nm_e2 hF
      have hw_26 : w_26 < 4 := lt_of ew_26 (inR_lt h_25)
      refine r_aald (i := iWA 1) (t := 5) (n := 4) (g := (43 + 10 * 1)) (st := 1) C hw (wi_WA (okS_of (by decide))) (tm_WA _ _) rfl h_25 (ha_W ew_26) dX0_bears_43 ?_
      refine lv_iload_n hx hb dX0_bears_44 rfl (lv_at hl 3 rfl) ?_
      obtain ⟨σ_27, eσ_27, hF⟩ := nm_e2 hF
      refine r_putWN C hw hS (okS_of (by decide)) hw_26 2 (by decide) rfl rfl (tyX6_ok 2 (by decide)) rfl rfl 5 rfl dX0_bears_45 eσ_27 (fun H locs hw hS => ?_)
      refine lv_aload_n hx hb dX0_bears_48 rfl (lv_at hl 0 rfl) ?_
      refine lv_aload_n hx hb dX0_bears_49 rfl (lv_at hl 0 rfl) ?_
      refine r_get0 C hw 2 (by decide) rfl (v := .ref (q (iS 1))) rfl q220 dX0_bears_50 ?_
      refine lv_iload_n hx hb dX0_bears_53 rfl (lv_at hl 2 rfl) ?_
      obtain ⟨r_28, σ_29, h_30, hF⟩ := bd_e hF
      refine r_callVv (As := [.ref (q (iS 1)), .int x2]) (rest := []) (i := 0) C hw hS (wi_lo (Or.inl (by decide))) rfl (ci := 0) rfl (met_X0_ticksGo l G rd q (okS_of (by decide)) h_30) (cwV 2 hts (lw_V q658 q660 qs16 q57 q661) rfl rfl rfl (by decide +kernel) ⟨Nat.le_of_ble_eq_true rfl, Nat.le_of_ble_eq_true rfl⟩) rfl hl.1 rfl (Nat.le_of_ble_eq_true rfl) ⟨Nat.le_refl _, Nat.le_refl _⟩ dX0_bears_54 (fun H locs hw hS => ?_)
      refine lv_aload_n hx hb dX0_bears_57 rfl (lv_at hl 0 rfl) ?_
      refine r_get0 C hw 8 (by decide) rfl (v := .int (gi σ_29 0 8)) rfl q226 dX0_bears_58 ?_
      refine lv_if_ne (tgt := 66) hx hb dX0_bears_61 (by decide) (fun c_31 => ?_) (fun c_31 => ?_)
      · have hF := if_e hF c_31
        obtain ⟨x_32, ex_32, hF⟩ := nm_e2 hF
        refine lv_iinc (v := x_32) (lv' := [(3, .int x_32), (0, .ref (q 0)), (1, .int x1), (2, .int x2)]) hx hb dX0_bears_66 hl (k := 3) rfl (by rw [ex_32]; rfl) (by decide) rfl (fun ls hl => ?_)
        refine lv_goto (tgt := 20) hx hb dX0_bears_69 (by decide) ?_
        exact ih _ _ _ _ _ _ _ hF hw hS (lv_sub hl [1, 2, 3, 0] rfl)
      · have hF := it_e hF c_31
        refine lv_iload_n hx hb dX0_bears_64 rfl (lv_at hl 3 rfl) ?_
        exact r_iret C hw hS hF dX0_bears_65
noncomputable def F_X0_bears (N : Nat) (x1 : Int32) (x2 : Int32) (σ : SS) : Option (Int32 × SS) :=
  bd (F_X0_isWheel N x1 σ) fun r_33 σ_34 =>
  if r_33 = (0 : Int32) then
    some ((-1 : Int32), σ_34)
  else
    bd (F_X0_isFar N x2 σ_34) fun r_37 σ_38 =>
    if r_37 = (0 : Int32) then
      some ((-1 : Int32), σ_38)
    else
      F_X0_bears_20 N N x1 x2 (9 : Int32) σ_38
set_option maxRecDepth 100000 in
theorem met_X0_bears (l : Launch) (G : GG) (rd : Bool) (q : Nat → Nat) {N : Nat} {x1 : Int32} {x2 : Int32} {σ σ' : SS} {r : Int32} (hF : F_X0_bears N x1 x2 σ = some (r, σ')) : Met l yX0_bears (ws_ yX0_bears cX0_bears 4 (some .int)) rmX0_bears (pcx G rd q σ [.ref (q 0), .int x1, .int x2]) (qxi G rd q σ' r) 0 0 (fa G) := by
  refine met_of (by decide) (Nat.le_of_ble_eq_true rfl) ?_
  intro p e s m below meth c C H locs ls hw hS hl
  obtain ⟨hx, hb, hml, hown, hts, -, -, -, -⟩ := id C
  have hl : lv_has ls 4 [(0, .ref (q 0)), (1, .int x1), (2, .int x2)] := hl
  unfold F_X0_bears at hF
  refine lv_aload_n hx hb dX0_bears_0 rfl (lv_at hl 0 rfl) ?_
  refine lv_iload_n hx hb dX0_bears_1 rfl (lv_at hl 1 rfl) ?_
  obtain ⟨r_33, σ_34, h_35, hF⟩ := bd_e hF
  refine r_callVi (As := [.int x1]) (rest := []) (i := 0) C hw hS (wi_lo (Or.inl (by decide))) rfl (ci := 0) rfl (met_X0_isWheel l G rd q  h_35) (cwV 1 hts (lw_V q552 q554 qs10 q57 q555) rfl rfl rfl (by decide +kernel) ⟨Nat.le_of_ble_eq_true rfl, Nat.le_of_ble_eq_true rfl⟩) rfl hl.1 rfl (Nat.le_of_ble_eq_true rfl) ⟨Nat.le_refl _, Nat.le_refl _⟩ dX0_bears_2 (fun H locs hw hS => ?_)
  refine lv_if_eq (tgt := 15) hx hb dX0_bears_5 (by decide) (fun c_36 => ?_) (fun c_36 => ?_)
  · have hF := it_e hF c_36
    refine lv_iconst (v := (-1 : Int32)) hx hb dX0_bears_15 (by decide) ?_
    exact r_iret C hw hS hF dX0_bears_16
  · have hF := if_e hF c_36
    refine lv_iload_n hx hb dX0_bears_8 rfl (lv_at hl 2 rfl) ?_
    obtain ⟨r_37, σ_38, h_39, hF⟩ := bd_e hF
    refine r_callSi (As := [.int x2]) (rest := []) C hw hS (met_X0_isFar l G rd q  h_39) (cwS 1 hts (lw_S q679 q680 q57 q681) rfl rfl rfl (by decide +kernel) ⟨Nat.le_of_ble_eq_true rfl, Nat.le_of_ble_eq_true rfl⟩) rfl hl.1 rfl (Nat.le_of_ble_eq_true rfl) ⟨Nat.le_refl _, Nat.le_refl _⟩ dX0_bears_9 (fun H locs hw hS => ?_)
    refine lv_if_ne (tgt := 17) hx hb dX0_bears_12 (by decide) (fun c_40 => ?_) (fun c_40 => ?_)
    · have hF := if_e hF c_40
      refine lv_bipush (v := (9 : Int32)) hx hb dX0_bears_17 (by decide) ?_
      refine lv_istore_n (lv' := [(3, .int (9 : Int32)), (0, .ref (q 0)), (1, .int x1), (2, .int x2)]) hx hb dX0_bears_19 rfl hl (by decide) rfl (fun ls hl => ?_)
      exact w_X0_bears_20 C   N _ _ _ _ _ _ _ hF hw hS (lv_sub hl [1, 2, 3, 0] rfl)
    · have hF := it_e hF c_40
      refine lv_iconst (v := (-1 : Int32)) hx hb dX0_bears_15 (by decide) ?_
      exact r_iret C hw hS hF dX0_bears_16
abbrev rmX0_cut : Room := { frames := 2, cells := 0, slots := 0, locals := 85 }
noncomputable def F_X0_cut (N : Nat) (x1 : Int32) (σ : SS) : Option (Int32 × SS) :=
  bd (F_X0_in N x1.toInt64 (0 : Int64) ((gi σ (iS 0) 16).toInt64) σ) fun r_7 σ_8 =>
  if r_7 = (0 : Int32) then
    some ((-1 : Int32), σ_8)
  else
    nm (gi σ_8 (iS 0) 16) fun x_11 =>
    nm (si σ_8 (iS 0) 16 x1) fun σ_12 =>
    some (x_11, σ_12)
set_option maxRecDepth 100000 in
theorem met_X0_cut (l : Launch) (G : GG) (rd : Bool) (q : Nat → Nat) {N : Nat} {x1 : Int32} {σ σ' : SS} {r : Int32} (hF : F_X0_cut N x1 σ = some (r, σ')) : Met l yX0_cut (ws_ yX0_cut cX0_cut 3 (some .int)) rmX0_cut (pcx G rd q σ [.ref (q 0), .int x1]) (qxi G rd q σ' r) 0 0 (fa G) := by
  refine met_of (by decide) (Nat.le_of_ble_eq_true rfl) ?_
  intro p e s m below meth c C H locs ls hw hS hl
  obtain ⟨hx, hb, hml, hown, hts, -, -, -, -⟩ := id C
  have hl : lv_has ls 3 [(0, .ref (q 0)), (1, .int x1)] := hl
  unfold F_X0_cut at hF
  refine lv_iload_n hx hb dX0_cut_0 rfl (lv_at hl 1 rfl) ?_
  refine lv_i2l hx hb dX0_cut_1 rfl ?_
  refine lv_lconst (v := (0 : Int64)) hx hb dX0_cut_2 (by decide) ?_
  refine lv_aload_n hx hb dX0_cut_3 rfl (lv_at hl 0 rfl) ?_
  refine r_get0 C hw 1 (by decide) rfl (v := .ref (q (iS 0))) rfl q219 dX0_cut_4 ?_
  refine r_getSN C hw (okS_of (by decide)) 2 (by decide) rfl (v := .int (gi σ (iS 0) 16)) rfl 11 rfl dX0_cut_7 ?_
  refine lv_i2l hx hb dX0_cut_10 rfl ?_
  obtain ⟨r_7, σ_8, h_9, hF⟩ := bd_e hF
  refine r_callSi (As := [.long x1.toInt64, .long (0 : Int64), .long ((gi σ (iS 0) 16).toInt64)]) (rest := []) C hw hS (met_X0_in l G rd q  h_9) (cwS 3 hts (lw_S q294 q295 q57 q296) rfl rfl rfl (by decide +kernel) ⟨Nat.le_of_ble_eq_true rfl, Nat.le_of_ble_eq_true rfl⟩) rfl hl.1 rfl (Nat.le_of_ble_eq_true rfl) ⟨Nat.le_refl _, Nat.le_refl _⟩ dX0_cut_11 (fun H locs hw hS => ?_)
  refine lv_if_ne (tgt := 19) hx hb dX0_cut_14 (by decide) (fun c_10 => ?_) (fun c_10 => ?_)
  · have hF := if_e hF c_10
    refine lv_aload_n hx hb dX0_cut_19 rfl (lv_at hl 0 rfl) ?_
    refine r_get0 C hw 1 (by decide) rfl (v := .ref (q (iS 0))) rfl q219 dX0_cut_20 ?_
    refine r_getSN C hw (okS_of (by decide)) 2 (by decide) rfl (v := .int (gi σ_8 (iS 0) 16)) rfl 11 rfl dX0_cut_23 ?_
    obtain ⟨x_11, ex_11, hF⟩ := nm_e2 hF
    refine r_topi ex_11 ?_
    refine lv_istore_n (lv' := [(2, .int x_11), (0, .ref (q 0)), (1, .int x1)]) hx hb dX0_cut_26 rfl hl (by decide) rfl (fun ls hl => ?_)
    refine lv_aload_n hx hb dX0_cut_27 rfl (lv_at hl 1 rfl) ?_
    refine r_get0 C hw 1 (by decide) rfl (v := .ref (q (iS 0))) rfl q219 dX0_cut_28 ?_
    refine lv_iload_n hx hb dX0_cut_31 rfl (lv_at hl 2 rfl) ?_
    obtain ⟨σ_12, eσ_12, hF⟩ := nm_e2 hF
    refine r_putSN C hw hS (okS_of (by decide)) 2 (by decide) rfl rfl (tyX5_ok 2 (by decide)) rfl rfl 11 rfl dX0_cut_32 eσ_12 (fun H locs hw hS => ?_)
    refine lv_iload_n hx hb dX0_cut_35 rfl (lv_at hl 0 rfl) ?_
    exact r_iret C hw hS hF dX0_cut_36
  · have hF := it_e hF c_10
    refine lv_iconst (v := (-1 : Int32)) hx hb dX0_cut_17 (by decide) ?_
    exact r_iret C hw hS hF dX0_cut_18
abbrev rmX0_doneByTried : Room := { frames := 10, cells := 0, slots := 0, locals := 265 }
noncomputable def F_X0_doneByTried (N : Nat) (x1 : Int32) (σ : SS) : Option (Int32 × SS) :=
  bd (F_X0_ticksGo N 1 x1 σ) fun r_4 σ_5 =>
  some (gi σ_5 0 7, σ_5)
set_option maxRecDepth 100000 in
theorem met_X0_doneByTried (l : Launch) (G : GG) (rd : Bool) (q : Nat → Nat) {N : Nat} {x1 : Int32} {σ σ' : SS} {r : Int32} (hF : F_X0_doneByTried N x1 σ = some (r, σ')) : Met l yX0_doneByTried (ws_ yX0_doneByTried cX0_doneByTried 2 (some .int)) rmX0_doneByTried (pcx G rd q σ [.ref (q 0), .int x1]) (qxi G rd q σ' r) 0 0 (fa G) := by
  refine met_of (by decide) (Nat.le_of_ble_eq_true rfl) ?_
  intro p e s m below meth c C H locs ls hw hS hl
  obtain ⟨hx, hb, hml, hown, hts, -, -, -, -⟩ := id C
  have hl : lv_has ls 2 [(0, .ref (q 0)), (1, .int x1)] := hl
  unfold F_X0_doneByTried at hF
  refine lv_aload_n hx hb dX0_doneByTried_0 rfl (lv_at hl 0 rfl) ?_
  refine lv_aload_n hx hb dX0_doneByTried_1 rfl (lv_at hl 0 rfl) ?_
  refine r_get0 C hw 2 (by decide) rfl (v := .ref (q (iS 1))) rfl q220 dX0_doneByTried_2 ?_
  refine lv_iload_n hx hb dX0_doneByTried_5 rfl (lv_at hl 1 rfl) ?_
  obtain ⟨r_4, σ_5, h_6, hF⟩ := bd_e hF
  refine r_callVv (As := [.ref (q (iS 1)), .int x1]) (rest := []) (i := 0) C hw hS (wi_lo (Or.inl (by decide))) rfl (ci := 0) rfl (met_X0_ticksGo l G rd q (okS_of (by decide)) h_6) (cwV 2 hts (lw_V q658 q660 qs16 q57 q661) rfl rfl rfl (by decide +kernel) ⟨Nat.le_of_ble_eq_true rfl, Nat.le_of_ble_eq_true rfl⟩) rfl hl.1 rfl (Nat.le_of_ble_eq_true rfl) ⟨Nat.le_refl _, Nat.le_refl _⟩ dX0_doneByTried_6 (fun H locs hw hS => ?_)
  refine lv_aload_n hx hb dX0_doneByTried_9 rfl (lv_at hl 0 rfl) ?_
  refine r_get0 C hw 7 (by decide) rfl (v := .int (gi σ_5 0 7)) rfl q225 dX0_doneByTried_10 ?_
  exact r_iret C hw hS hF dX0_doneByTried_13
abbrev rmX0_drift : Room := { frames := 8, cells := 0, slots := 0, locals := 219 }
noncomputable def B_X0_drift_55 (N : Nat) (IH : Int32 → Int32 → Int32 → Int32 → SS → Option (Int32 × SS)) (x2 : Int32) (x3 : Int32) (x4 : Int32) (x5 : Int32) (σ : SS) : Option (Int32 × SS) :=
  if x2 ≤ x5 then
    if x3 = (0 : Int32) then
      some (gi σ 0 7, σ)
    else
      bd (F_X5_all N 1 σ) fun r_28 σ_29 =>
      some (r_28, σ_29)
  else
    nm ((x4 * (1103515245 : Int32)) + (12345 : Int32)) fun x_31 =>
    bd (F_X0_tickGoesBy N 1 ((((x_31.toUInt32 >>> ((16 : Int32).toUInt32 &&& Int32.toUInt32 31)).toInt32) &&& (32767 : Int32)) - (((x_31.toUInt32 >>> ((16 : Int32).toUInt32 &&& Int32.toUInt32 31)).toInt32) &&& (32767 : Int32)) / (204 : Int32) * (204 : Int32)) (0 : Int32) σ) fun r_32 σ_33 =>
    nm (x5 + (1 : Int32)) fun x_35 =>
    IH x2 x3 x_31 x_35 σ_33
noncomputable def F_X0_drift_55 (N : Nat) (n : Nat) : Int32 → Int32 → Int32 → Int32 → SS → Option (Int32 × SS) := Nat.rec (fun _ _ _ _ _ => none) (fun _ IH => B_X0_drift_55 N IH) n
set_option maxRecDepth 100000 in
theorem w_X0_drift_55 {p : Program} {l : Launch} {e : Env} {s : State} {m : MethodId} {args : Array Value} {below : List Frame} {meth : Method} {c : Code} {G : GG} {rd : Bool} {q : Nat → Nat} {N : Nat} {r : Int32} {σ' : SS} (C : cx p s m args meth c cX0_drift 6 RX0 (some .int) G) : ∀ (n : Nat), ∀ (x2 : Int32) (x3 : Int32) (x4 : Int32) (x5 : Int32) (σ : SS) (H : Heap) (locs : List Loc) (ls : Array Slot), F_X0_drift_55 N n x2 x3 x4 x5 σ = some (r, σ') → wx G rd q σ H → va_S (fa G) s.heap H locs → lv_has ls 6 [(0, .ref (q 0)), (2, .int x2), (3, .int x3), (4, .int x4), (5, .int x5)] → W p l e rmX0_drift s m args below meth c H locs 0 0 (MQ below (qxi G rd q σ' r) args s 0 0 (fa G)) (F0 m 55 ls []) := by
  obtain ⟨hx, hb, hml, hown, hts, -, -, -, -⟩ := id C
  intro n
  induction n with
  | zero =>
    intro x2 x3 x4 x5 σ H locs ls hF hw hS hl
    cases hF
  | succ n ih =>
    intro x2 x3 x4 x5 σ H locs ls hF hw hS hl
    have hF : B_X0_drift_55 N (F_X0_drift_55 N n) x2 x3 x4 x5 σ = some (r, σ') := hF
    unfold B_X0_drift_55 at hF
    refine lv_iload hx hb dX0_drift_55 (lv_at hl 4 rfl) ?_
    refine lv_iload_n hx hb dX0_drift_57 rfl (lv_at hl 1 rfl) ?_
    refine lv_icmp_ge (tgt := 101) hx hb dX0_drift_58 (by decide) (fun c_26 => ?_) (fun c_26 => ?_)
    · have hF := it_e hF c_26
      refine lv_iload_n hx hb dX0_drift_101 rfl (lv_at hl 2 rfl) ?_
      refine lv_if_ne (tgt := 112) hx hb dX0_drift_102 (by decide) (fun c_27 => ?_) (fun c_27 => ?_)
      · have hF := if_e hF c_27
        refine lv_aload_n hx hb dX0_drift_112 rfl (lv_at hl 0 rfl) ?_
        refine r_get0 C hw 2 (by decide) rfl (v := .ref (q (iS 1))) rfl q220 dX0_drift_113 ?_
        obtain ⟨r_28, σ_29, h_30, hF⟩ := bd_e hF
        refine r_callVi (As := []) (rest := []) (i := iS 1) C hw hS (wi_S (okS_of (by decide))) (tm_S _ _) (ci := 5) rfl (met_X5_all l G rd q (okS_of (by decide)) h_30) (cwV 0 hts (lw_V q684 q685 q686 q62 q687) rfl rfl rfl (by decide +kernel) ⟨Nat.le_of_ble_eq_true rfl, Nat.le_of_ble_eq_true rfl⟩) rfl hl.1 rfl (Nat.le_of_ble_eq_true rfl) ⟨Nat.le_refl _, Nat.le_refl _⟩ dX0_drift_116 (fun H locs hw hS => ?_)
        exact r_iret C hw hS hF dX0_drift_119
      · have hF := it_e hF c_27
        refine lv_aload_n hx hb dX0_drift_105 rfl (lv_at hl 0 rfl) ?_
        refine r_get0 C hw 7 (by decide) rfl (v := .int (gi σ 0 7)) rfl q225 dX0_drift_106 ?_
        refine lv_goto (tgt := 119) hx hb dX0_drift_109 (by decide) ?_
        exact r_iret C hw hS hF dX0_drift_119
    · have hF := if_e hF c_26
      refine lv_iload hx hb dX0_drift_61 (lv_at hl 3 rfl) ?_
      refine lv_ldcw (v := (1103515245 : Int32)) hx hb hown (hts _ q815) dX0_drift_63 ?_
      refine lv_imul hx hb dX0_drift_66 ?_
      refine lv_sipush (v := (12345 : Int32)) hx hb dX0_drift_67 (by decide) ?_
      refine lv_iadd hx hb dX0_drift_70 ?_
      obtain ⟨x_31, ex_31, hF⟩ := nm_e2 hF
      refine r_topi ex_31 ?_
      refine lv_istore (lv' := [(4, .int x_31), (0, .ref (q 0)), (2, .int x2), (3, .int x3), (5, .int x5)]) hx hb dX0_drift_71 hl (by decide) rfl (fun ls hl => ?_)
      refine lv_aload_n hx hb dX0_drift_73 rfl (lv_at hl 1 rfl) ?_
      refine lv_aload_n hx hb dX0_drift_74 rfl (lv_at hl 1 rfl) ?_
      refine r_get0 C hw 2 (by decide) rfl (v := .ref (q (iS 1))) rfl q220 dX0_drift_75 ?_
      refine lv_iload hx hb dX0_drift_78 (lv_at hl 0 rfl) ?_
      refine lv_bipush (v := (16 : Int32)) hx hb dX0_drift_80 (by decide) ?_
      refine lv_iushr hx hb dX0_drift_82 rfl ?_
      refine lv_sipush (v := (32767 : Int32)) hx hb dX0_drift_83 (by decide) ?_
      refine lv_iand hx hb dX0_drift_86 ?_
      refine lv_sipush (v := (204 : Int32)) hx hb dX0_drift_87 (by decide) ?_
      refine lv_irem hx hb dX0_drift_90 (by decide) ?_
      refine lv_iconst (v := (0 : Int32)) hx hb dX0_drift_91 (by decide) ?_
      obtain ⟨r_32, σ_33, h_34, hF⟩ := bd_e hF
      refine r_callVv (As := [.ref (q (iS 1)), .int ((((x_31.toUInt32 >>> ((16 : Int32).toUInt32 &&& Int32.toUInt32 31)).toInt32) &&& (32767 : Int32)) - (((x_31.toUInt32 >>> ((16 : Int32).toUInt32 &&& Int32.toUInt32 31)).toInt32) &&& (32767 : Int32)) / (204 : Int32) * (204 : Int32)), .int (0 : Int32)]) (rest := []) (i := 0) C hw hS (wi_lo (Or.inl (by decide))) rfl (ci := 0) rfl (met_X0_tickGoesBy l G rd q (okS_of (by decide)) h_34) (cwV 3 hts (lw_V q670 q672 qs19 q57 q673) rfl rfl rfl (by decide +kernel) ⟨Nat.le_of_ble_eq_true rfl, Nat.le_of_ble_eq_true rfl⟩) rfl hl.1 rfl (Nat.le_of_ble_eq_true rfl) ⟨Nat.le_refl _, Nat.le_refl _⟩ dX0_drift_92 (fun H locs hw hS => ?_)
      obtain ⟨x_35, ex_35, hF⟩ := nm_e2 hF
      refine lv_iinc (v := x_35) (lv' := [(5, .int x_35), (4, .int x_31), (0, .ref (q 0)), (2, .int x2), (3, .int x3)]) hx hb dX0_drift_95 hl (k := 4) rfl (by rw [ex_35]; rfl) (by decide) rfl (fun ls hl => ?_)
      refine lv_goto (tgt := 55) hx hb dX0_drift_98 (by decide) ?_
      exact ih _ _ _ _ _ _ _ _ hF hw hS (lv_sub hl [2, 3, 4, 1, 0] rfl)
noncomputable def F_X0_drift (N : Nat) (x1 : Int32) (x2 : Int32) (x3 : Int32) (σ : SS) : Option (Int32 × SS) :=
  bd (F_X0_in N x2.toInt64 (1 : Int64) (200 : Int64) σ) fun r_36 σ_37 =>
  if r_36 = (0 : Int32) then
    some ((-1 : Int32), σ_37)
  else
    bd (F_X0_isPart N x3 σ_37) fun r_40 σ_41 =>
    if r_40 = (0 : Int32) then
      some ((-1 : Int32), σ_41)
    else
      if (gi σ_41 (iS 0) 16) = (0 : Int32) then
        some ((-2 : Int32), σ_41)
      else
        bd (F_X5_as N 1 0 σ_41) fun r_45 σ_46 =>
        bd (F_X0_startsCounting N σ_46) fun r_48 σ_49 =>
        F_X0_drift_55 N N x2 x3 x1 (0 : Int32) σ_49
set_option maxRecDepth 100000 in
theorem met_X0_drift (l : Launch) (G : GG) (rd : Bool) (q : Nat → Nat) {N : Nat} {x1 : Int32} {x2 : Int32} {x3 : Int32} {σ σ' : SS} {r : Int32} (hF : F_X0_drift N x1 x2 x3 σ = some (r, σ')) : Met l yX0_drift (ws_ yX0_drift cX0_drift 6 (some .int)) rmX0_drift (pcx G rd q σ [.ref (q 0), .int x1, .int x2, .int x3]) (qxi G rd q σ' r) 0 0 (fa G) := by
  refine met_of (by decide) (Nat.le_of_ble_eq_true rfl) ?_
  intro p e s m below meth c C H locs ls hw hS hl
  obtain ⟨hx, hb, hml, hown, hts, -, -, -, -⟩ := id C
  have hl : lv_has ls 6 [(0, .ref (q 0)), (1, .int x1), (2, .int x2), (3, .int x3)] := hl
  unfold F_X0_drift at hF
  refine lv_iload_n hx hb dX0_drift_0 rfl (lv_at hl 2 rfl) ?_
  refine lv_i2l hx hb dX0_drift_1 rfl ?_
  refine lv_lconst (v := (1 : Int64)) hx hb dX0_drift_2 (by decide) ?_
  refine lv_ldc2 (v := (200 : Int64)) hx hb hown (hts _ q682) dX0_drift_3 ?_
  obtain ⟨r_36, σ_37, h_38, hF⟩ := bd_e hF
  refine r_callSi (As := [.long x2.toInt64, .long (1 : Int64), .long (200 : Int64)]) (rest := []) C hw hS (met_X0_in l G rd q  h_38) (cwS 3 hts (lw_S q294 q295 q57 q296) rfl rfl rfl (by decide +kernel) ⟨Nat.le_of_ble_eq_true rfl, Nat.le_of_ble_eq_true rfl⟩) rfl hl.1 rfl (Nat.le_of_ble_eq_true rfl) ⟨Nat.le_refl _, Nat.le_refl _⟩ dX0_drift_6 (fun H locs hw hS => ?_)
  refine lv_if_eq (tgt := 19) hx hb dX0_drift_9 (by decide) (fun c_39 => ?_) (fun c_39 => ?_)
  · have hF := it_e hF c_39
    refine lv_iconst (v := (-1 : Int32)) hx hb dX0_drift_19 (by decide) ?_
    exact r_iret C hw hS hF dX0_drift_20
  · have hF := if_e hF c_39
    refine lv_iload_n hx hb dX0_drift_12 rfl (lv_at hl 3 rfl) ?_
    obtain ⟨r_40, σ_41, h_42, hF⟩ := bd_e hF
    refine r_callSi (As := [.int x3]) (rest := []) C hw hS (met_X0_isPart l G rd q  h_42) (cwS 1 hts (lw_S q709 q710 q57 q711) rfl rfl rfl (by decide +kernel) ⟨Nat.le_of_ble_eq_true rfl, Nat.le_of_ble_eq_true rfl⟩) rfl hl.1 rfl (Nat.le_of_ble_eq_true rfl) ⟨Nat.le_refl _, Nat.le_refl _⟩ dX0_drift_13 (fun H locs hw hS => ?_)
    refine lv_if_ne (tgt := 21) hx hb dX0_drift_16 (by decide) (fun c_43 => ?_) (fun c_43 => ?_)
    · have hF := if_e hF c_43
      refine lv_aload_n hx hb dX0_drift_21 rfl (lv_at hl 0 rfl) ?_
      refine r_get0 C hw 1 (by decide) rfl (v := .ref (q (iS 0))) rfl q219 dX0_drift_22 ?_
      refine r_getSN C hw (okS_of (by decide)) 2 (by decide) rfl (v := .int (gi σ_41 (iS 0) 16)) rfl 11 rfl dX0_drift_25 ?_
      refine lv_if_ne (tgt := 34) hx hb dX0_drift_28 (by decide) (fun c_44 => ?_) (fun c_44 => ?_)
      · have hF := if_e hF c_44
        refine lv_aload_n hx hb dX0_drift_34 rfl (lv_at hl 0 rfl) ?_
        refine r_get0 C hw 2 (by decide) rfl (v := .ref (q (iS 1))) rfl q220 dX0_drift_35 ?_
        refine lv_aload_n hx hb dX0_drift_38 rfl (lv_at hl 0 rfl) ?_
        refine r_get0 C hw 1 (by decide) rfl (v := .ref (q (iS 0))) rfl q219 dX0_drift_39 ?_
        obtain ⟨r_45, σ_46, h_47, hF⟩ := bd_e hF
        refine r_callVv (As := [.ref (q (iS 0))]) (rest := []) (i := iS 1) C hw hS (wi_S (okS_of (by decide))) (tm_S _ _) (ci := 5) rfl (met_X5_as l G rd q (okS_of (by decide)) (okS_of (by decide)) h_47) (cwV 1 hts (lw_V q521 q522 q523 q62 q524) rfl rfl rfl (by decide +kernel) ⟨Nat.le_of_ble_eq_true rfl, Nat.le_of_ble_eq_true rfl⟩) rfl hl.1 rfl (Nat.le_of_ble_eq_true rfl) ⟨Nat.le_refl _, Nat.le_refl _⟩ dX0_drift_42 (fun H locs hw hS => ?_)
        refine lv_aload_n hx hb dX0_drift_45 rfl (lv_at hl 0 rfl) ?_
        obtain ⟨r_48, σ_49, h_50, hF⟩ := bd_e hF
        refine r_callVv (As := []) (rest := []) (i := 0) C hw hS (wi_lo (Or.inl (by decide))) rfl (ci := 0) rfl (met_X0_startsCounting l G rd q  h_50) (cwV 0 hts (lw_V q662 q664 qs17 q57 q665) rfl rfl rfl (by decide +kernel) ⟨Nat.le_of_ble_eq_true rfl, Nat.le_of_ble_eq_true rfl⟩) rfl hl.1 rfl (Nat.le_of_ble_eq_true rfl) ⟨Nat.le_refl _, Nat.le_refl _⟩ dX0_drift_46 (fun H locs hw hS => ?_)
        refine lv_iload_n hx hb dX0_drift_49 rfl (lv_at hl 1 rfl) ?_
        refine lv_istore (lv' := [(4, .int x1), (0, .ref (q 0)), (1, .int x1), (2, .int x2), (3, .int x3)]) hx hb dX0_drift_50 hl (by decide) rfl (fun ls hl => ?_)
        refine lv_iconst (v := (0 : Int32)) hx hb dX0_drift_52 (by decide) ?_
        refine lv_istore (lv' := [(5, .int (0 : Int32)), (4, .int x1), (0, .ref (q 0)), (1, .int x1), (2, .int x2), (3, .int x3)]) hx hb dX0_drift_53 hl (by decide) rfl (fun ls hl => ?_)
        exact w_X0_drift_55 C   N _ _ _ _ _ _ _ _ hF hw hS (lv_sub hl [2, 4, 5, 1, 0] rfl)
      · have hF := it_e hF c_44
        refine lv_bipush (v := (-2 : Int32)) hx hb dX0_drift_31 (by decide) ?_
        exact r_iret C hw hS hF dX0_drift_33
    · have hF := it_e hF c_43
      refine lv_iconst (v := (-1 : Int32)) hx hb dX0_drift_19 (by decide) ?_
      exact r_iret C hw hS hF dX0_drift_20
abbrev rmX0_drop : Room := { frames := 2, cells := 0, slots := 0, locals := 85 }
noncomputable def F_X0_drop (N : Nat) (x1 : Int32) (σ : SS) : Option (Int32 × SS) :=
  bd (F_X0_in N x1.toInt64 (0 : Int64) ((gi σ (iS 0) 33).toInt64) σ) fun r_7 σ_8 =>
  if r_7 = (0 : Int32) then
    some ((-1 : Int32), σ_8)
  else
    nm (gi σ_8 (iS 0) 33) fun x_11 =>
    nm (si σ_8 (iS 0) 33 x1) fun σ_12 =>
    some (x_11, σ_12)
set_option maxRecDepth 100000 in
theorem met_X0_drop (l : Launch) (G : GG) (rd : Bool) (q : Nat → Nat) {N : Nat} {x1 : Int32} {σ σ' : SS} {r : Int32} (hF : F_X0_drop N x1 σ = some (r, σ')) : Met l yX0_drop (ws_ yX0_drop cX0_drop 3 (some .int)) rmX0_drop (pcx G rd q σ [.ref (q 0), .int x1]) (qxi G rd q σ' r) 0 0 (fa G) := by
  refine met_of (by decide) (Nat.le_of_ble_eq_true rfl) ?_
  intro p e s m below meth c C H locs ls hw hS hl
  obtain ⟨hx, hb, hml, hown, hts, -, -, -, -⟩ := id C
  have hl : lv_has ls 3 [(0, .ref (q 0)), (1, .int x1)] := hl
  unfold F_X0_drop at hF
  refine lv_iload_n hx hb dX0_drop_0 rfl (lv_at hl 1 rfl) ?_
  refine lv_i2l hx hb dX0_drop_1 rfl ?_
  refine lv_lconst (v := (0 : Int64)) hx hb dX0_drop_2 (by decide) ?_
  refine lv_aload_n hx hb dX0_drop_3 rfl (lv_at hl 0 rfl) ?_
  refine r_get0 C hw 1 (by decide) rfl (v := .ref (q (iS 0))) rfl q219 dX0_drop_4 ?_
  refine r_getSN C hw (okS_of (by decide)) 4 (by decide) rfl (v := .int (gi σ (iS 0) 33)) rfl 15 rfl dX0_drop_7 ?_
  refine lv_i2l hx hb dX0_drop_10 rfl ?_
  obtain ⟨r_7, σ_8, h_9, hF⟩ := bd_e hF
  refine r_callSi (As := [.long x1.toInt64, .long (0 : Int64), .long ((gi σ (iS 0) 33).toInt64)]) (rest := []) C hw hS (met_X0_in l G rd q  h_9) (cwS 3 hts (lw_S q294 q295 q57 q296) rfl rfl rfl (by decide +kernel) ⟨Nat.le_of_ble_eq_true rfl, Nat.le_of_ble_eq_true rfl⟩) rfl hl.1 rfl (Nat.le_of_ble_eq_true rfl) ⟨Nat.le_refl _, Nat.le_refl _⟩ dX0_drop_11 (fun H locs hw hS => ?_)
  refine lv_if_ne (tgt := 19) hx hb dX0_drop_14 (by decide) (fun c_10 => ?_) (fun c_10 => ?_)
  · have hF := if_e hF c_10
    refine lv_aload_n hx hb dX0_drop_19 rfl (lv_at hl 0 rfl) ?_
    refine r_get0 C hw 1 (by decide) rfl (v := .ref (q (iS 0))) rfl q219 dX0_drop_20 ?_
    refine r_getSN C hw (okS_of (by decide)) 4 (by decide) rfl (v := .int (gi σ_8 (iS 0) 33)) rfl 15 rfl dX0_drop_23 ?_
    obtain ⟨x_11, ex_11, hF⟩ := nm_e2 hF
    refine r_topi ex_11 ?_
    refine lv_istore_n (lv' := [(2, .int x_11), (0, .ref (q 0)), (1, .int x1)]) hx hb dX0_drop_26 rfl hl (by decide) rfl (fun ls hl => ?_)
    refine lv_aload_n hx hb dX0_drop_27 rfl (lv_at hl 1 rfl) ?_
    refine r_get0 C hw 1 (by decide) rfl (v := .ref (q (iS 0))) rfl q219 dX0_drop_28 ?_
    refine lv_iload_n hx hb dX0_drop_31 rfl (lv_at hl 2 rfl) ?_
    obtain ⟨σ_12, eσ_12, hF⟩ := nm_e2 hF
    refine r_putSN C hw hS (okS_of (by decide)) 4 (by decide) rfl rfl (tyX5_ok 4 (by decide)) rfl rfl 15 rfl dX0_drop_32 eσ_12 (fun H locs hw hS => ?_)
    refine lv_iload_n hx hb dX0_drop_35 rfl (lv_at hl 0 rfl) ?_
    exact r_iret C hw hS hF dX0_drop_36
  · have hF := it_e hF c_10
    refine lv_iconst (v := (-1 : Int32)) hx hb dX0_drop_17 (by decide) ?_
    exact r_iret C hw hS hF dX0_drop_18
abbrev rmX0_end : Room := { frames := 2, cells := 0, slots := 0, locals := 85 }
noncomputable def F_X0_end (N : Nat) (x1 : Int32) (σ : SS) : Option (Int32 × SS) :=
  bd (F_X0_in N x1.toInt64 (0 : Int64) ((gi σ 0 12).toInt64) σ) fun r_7 σ_8 =>
  if r_7 = (0 : Int32) then
    some ((-1 : Int32), σ_8)
  else
    nm (gi σ_8 0 12) fun x_11 =>
    nm (si σ_8 0 12 x1) fun σ_12 =>
    some (x_11, σ_12)
set_option maxRecDepth 100000 in
theorem met_X0_end (l : Launch) (G : GG) (rd : Bool) (q : Nat → Nat) {N : Nat} {x1 : Int32} {σ σ' : SS} {r : Int32} (hF : F_X0_end N x1 σ = some (r, σ')) : Met l yX0_end (ws_ yX0_end cX0_end 3 (some .int)) rmX0_end (pcx G rd q σ [.ref (q 0), .int x1]) (qxi G rd q σ' r) 0 0 (fa G) := by
  refine met_of (by decide) (Nat.le_of_ble_eq_true rfl) ?_
  intro p e s m below meth c C H locs ls hw hS hl
  obtain ⟨hx, hb, hml, hown, hts, -, -, -, -⟩ := id C
  have hl : lv_has ls 3 [(0, .ref (q 0)), (1, .int x1)] := hl
  unfold F_X0_end at hF
  refine lv_iload_n hx hb dX0_end_0 rfl (lv_at hl 1 rfl) ?_
  refine lv_i2l hx hb dX0_end_1 rfl ?_
  refine lv_lconst (v := (0 : Int64)) hx hb dX0_end_2 (by decide) ?_
  refine lv_aload_n hx hb dX0_end_3 rfl (lv_at hl 0 rfl) ?_
  refine r_get0 C hw 12 (by decide) rfl (v := .int (gi σ 0 12)) rfl q231 dX0_end_4 ?_
  refine lv_i2l hx hb dX0_end_7 rfl ?_
  obtain ⟨r_7, σ_8, h_9, hF⟩ := bd_e hF
  refine r_callSi (As := [.long x1.toInt64, .long (0 : Int64), .long ((gi σ 0 12).toInt64)]) (rest := []) C hw hS (met_X0_in l G rd q  h_9) (cwS 3 hts (lw_S q294 q295 q57 q296) rfl rfl rfl (by decide +kernel) ⟨Nat.le_of_ble_eq_true rfl, Nat.le_of_ble_eq_true rfl⟩) rfl hl.1 rfl (Nat.le_of_ble_eq_true rfl) ⟨Nat.le_refl _, Nat.le_refl _⟩ dX0_end_8 (fun H locs hw hS => ?_)
  refine lv_if_ne (tgt := 16) hx hb dX0_end_11 (by decide) (fun c_10 => ?_) (fun c_10 => ?_)
  · have hF := if_e hF c_10
    refine lv_aload_n hx hb dX0_end_16 rfl (lv_at hl 0 rfl) ?_
    refine r_get0 C hw 12 (by decide) rfl (v := .int (gi σ_8 0 12)) rfl q231 dX0_end_17 ?_
    obtain ⟨x_11, ex_11, hF⟩ := nm_e2 hF
    refine r_topi ex_11 ?_
    refine lv_istore_n (lv' := [(2, .int x_11), (0, .ref (q 0)), (1, .int x1)]) hx hb dX0_end_20 rfl hl (by decide) rfl (fun ls hl => ?_)
    refine lv_aload_n hx hb dX0_end_21 rfl (lv_at hl 1 rfl) ?_
    refine lv_iload_n hx hb dX0_end_22 rfl (lv_at hl 2 rfl) ?_
    obtain ⟨σ_12, eσ_12, hF⟩ := nm_e2 hF
    refine r_put0 C hw hS 12 (by decide) rfl rfl (tyX0_ok 12 (by decide)) rfl rfl q231 dX0_end_23 eσ_12 (fun H locs hw hS => ?_)
    refine lv_iload_n hx hb dX0_end_26 rfl (lv_at hl 0 rfl) ?_
    exact r_iret C hw hS hF dX0_end_27
  · have hF := it_e hF c_10
    refine lv_iconst (v := (-1 : Int32)) hx hb dX0_end_14 (by decide) ?_
    exact r_iret C hw hS hF dX0_end_15
abbrev rmX0_fault : Room := { frames := 1, cells := 0, slots := 0, locals := 60 }
noncomputable def F_X0_fault (N : Nat)  (σ : SS) : Option (Int32 × SS) :=
  some (gi σ 0 13, σ)
set_option maxRecDepth 100000 in
theorem met_X0_fault (l : Launch) (G : GG) (rd : Bool) (q : Nat → Nat) {N : Nat} {σ σ' : SS} {r : Int32} (hF : F_X0_fault N  σ = some (r, σ')) : Met l yX0_fault (ws_ yX0_fault cX0_fault 1 (some .int)) rmX0_fault (pcx G rd q σ [.ref (q 0)]) (qxi G rd q σ' r) 0 0 (fa G) := by
  refine met_of (by decide) (Nat.le_of_ble_eq_true rfl) ?_
  intro p e s m below meth c C H locs ls hw hS hl
  obtain ⟨hx, hb, hml, hown, hts, -, -, -, -⟩ := id C
  have hl : lv_has ls 1 [(0, .ref (q 0))] := hl
  unfold F_X0_fault at hF
  refine lv_aload_n hx hb dX0_fault_0 rfl (lv_at hl 0 rfl) ?_
  refine r_get0 C hw 13 (by decide) rfl (v := .int (gi σ 0 13)) rfl q232 dX0_fault_1 ?_
  exact r_iret C hw hS hF dX0_fault_4
abbrev rmX0_feed : Room := { frames := 2, cells := 0, slots := 0, locals := 85 }
noncomputable def F_X0_feed (N : Nat) (x1 : Int32) (σ : SS) : Option (Int32 × SS) :=
  bd (F_X0_in N x1.toInt64 (0 : Int64) (127 : Int64) σ) fun r_9 σ_10 =>
  if r_9 = (0 : Int32) then
    some ((-1 : Int32), σ_10)
  else
    if (gi σ_10 0 12) = (160 : Int32) then
      some ((-3 : Int32), σ_10)
    else
      gd (inR (gi σ_10 0 12) 160) <|
      nm (si σ_10 7 (gi σ_10 0 12).toNatClampNeg (vp_nar .byte x1.toInt8.toInt32)) fun σ_15 =>
      nm (si σ_15 0 12 ((gi σ_15 0 12) + (1 : Int32))) fun σ_16 =>
      some (gi σ_16 0 12, σ_16)
set_option maxRecDepth 100000 in
theorem met_X0_feed (l : Launch) (G : GG) (rd : Bool) (q : Nat → Nat) {N : Nat} {x1 : Int32} {σ σ' : SS} {r : Int32} (hF : F_X0_feed N x1 σ = some (r, σ')) : Met l yX0_feed (ws_ yX0_feed cX0_feed 2 (some .int)) rmX0_feed (pcx G rd q σ [.ref (q 0), .int x1]) (qxi G rd q σ' r) 0 0 (fa G) := by
  refine met_of (by decide) (Nat.le_of_ble_eq_true rfl) ?_
  intro p e s m below meth c C H locs ls hw hS hl
  obtain ⟨hx, hb, hml, hown, hts, -, -, -, -⟩ := id C
  have hl : lv_has ls 2 [(0, .ref (q 0)), (1, .int x1)] := hl
  unfold F_X0_feed at hF
  refine lv_iload_n hx hb dX0_feed_0 rfl (lv_at hl 1 rfl) ?_
  refine lv_i2l hx hb dX0_feed_1 rfl ?_
  refine lv_lconst (v := (0 : Int64)) hx hb dX0_feed_2 (by decide) ?_
  refine lv_ldc2 (v := (127 : Int64)) hx hb hown (hts _ q293) dX0_feed_3 ?_
  obtain ⟨r_9, σ_10, h_11, hF⟩ := bd_e hF
  refine r_callSi (As := [.long x1.toInt64, .long (0 : Int64), .long (127 : Int64)]) (rest := []) C hw hS (met_X0_in l G rd q  h_11) (cwS 3 hts (lw_S q294 q295 q57 q296) rfl rfl rfl (by decide +kernel) ⟨Nat.le_of_ble_eq_true rfl, Nat.le_of_ble_eq_true rfl⟩) rfl hl.1 rfl (Nat.le_of_ble_eq_true rfl) ⟨Nat.le_refl _, Nat.le_refl _⟩ dX0_feed_6 (fun H locs hw hS => ?_)
  refine lv_if_ne (tgt := 14) hx hb dX0_feed_9 (by decide) (fun c_12 => ?_) (fun c_12 => ?_)
  · have hF := if_e hF c_12
    refine lv_aload_n hx hb dX0_feed_14 rfl (lv_at hl 0 rfl) ?_
    refine r_get0 C hw 12 (by decide) rfl (v := .int (gi σ_10 0 12)) rfl q231 dX0_feed_15 ?_
    refine lv_sipush (v := (160 : Int32)) hx hb dX0_feed_18 (by decide) ?_
    refine lv_icmp_ne (tgt := 27) hx hb dX0_feed_21 (by decide) (fun c_13 => ?_) (fun c_13 => ?_)
    · have hF := if_e hF c_13
      refine lv_aload_n hx hb dX0_feed_27 rfl (lv_at hl 0 rfl) ?_
      refine r_get0 C hw 11 (by decide) rfl (v := .ref (q 7)) rfl q230 dX0_feed_28 ?_
      refine lv_aload_n hx hb dX0_feed_31 rfl (lv_at hl 0 rfl) ?_
      refine r_get0 C hw 12 (by decide) rfl (v := .int (gi σ_10 0 12)) rfl q231 dX0_feed_32 ?_
      refine lv_iload_n hx hb dX0_feed_35 rfl (lv_at hl 1 rfl) ?_
      refine lv_i2b hx hb dX0_feed_36 rfl ?_
      obtain ⟨h_14, hF⟩ := gd_e hF
      obtain ⟨σ_15, eσ_15, hF⟩ := nm_e2 hF
      refine r_bast (i := 7) (n := 160) (g := 7) (st := 0) C hw hS (wi_lo (Or.inl (by decide))) rfl (fun _ => ho_lo (by decide)) h_14 dX0_feed_37 eσ_15 (fun H locs hw hS => ?_)
      refine lv_aload_n hx hb dX0_feed_38 rfl (lv_at hl 0 rfl) ?_
      refine lv_dup hx hb dX0_feed_39 rfl ?_
      refine r_get0 C hw 12 (by decide) rfl (v := .int (gi σ_15 0 12)) rfl q231 dX0_feed_40 ?_
      refine lv_iconst (v := (1 : Int32)) hx hb dX0_feed_43 (by decide) ?_
      refine lv_iadd hx hb dX0_feed_44 ?_
      obtain ⟨σ_16, eσ_16, hF⟩ := nm_e2 hF
      refine r_put0 C hw hS 12 (by decide) rfl rfl (tyX0_ok 12 (by decide)) rfl rfl q231 dX0_feed_45 eσ_16 (fun H locs hw hS => ?_)
      refine lv_aload_n hx hb dX0_feed_48 rfl (lv_at hl 0 rfl) ?_
      refine r_get0 C hw 12 (by decide) rfl (v := .int (gi σ_16 0 12)) rfl q231 dX0_feed_49 ?_
      exact r_iret C hw hS hF dX0_feed_52
    · have hF := it_e hF c_13
      refine lv_bipush (v := (-3 : Int32)) hx hb dX0_feed_24 (by decide) ?_
      exact r_iret C hw hS hF dX0_feed_26
  · have hF := it_e hF c_12
    refine lv_iconst (v := (-1 : Int32)) hx hb dX0_feed_12 (by decide) ?_
    exact r_iret C hw hS hF dX0_feed_13
abbrev rmX0_findOdds : Room := { frames := 9, cells := 0, slots := 0, locals := 242 }
noncomputable def F_X0_findOdds_124 (N : Nat) (K17 : Int32 → Int32 → Int32 → SS → Option (Unit × SS)) (x1 : Int32) (x2 : Int32) (x3 : Int32) (y4 : Int64) (t0 : Int64) (t1 : Int64) (σ : SS) : Option (Unit × SS) :=
  nm (sl σ 16 (t1 + t0)) fun σ_29 =>
  nm (sl σ_29 17 ((gl σ_29 17) + (y4 * ((gi σ_29 0 7).toInt64)))) fun σ_30 =>
  nm (x3 + (1 : Int32)) fun x_31 =>
  K17 x1 x2 x_31 σ_30
set_option maxRecDepth 100000 in
theorem w_X0_findOdds_124 {p : Program} {l : Launch} {e : Env} {s : State} {m : MethodId} {args : Array Value} {below : List Frame} {meth : Method} {c : Code} {G : GG} {rd : Bool} {q : Nat → Nat} {N : Nat} {r : Unit} {σ' : SS} (C : cx p s m args meth c cX0_findOdds 7 RX0 none G) {K17 : Int32 → Int32 → Int32 → SS → Option (Unit × SS)} (HK17 : ∀ (x1 : Int32) (x2 : Int32) (x3 : Int32) (σ : SS) (H : Heap) (locs : List Loc) (ls : Array Slot), K17 x1 x2 x3 σ = some (r, σ') → wx G rd q σ H → va_S (fa G) s.heap H locs → lv_has ls 7 [(0, .ref (q 0)), (1, .int x1), (2, .int x2), (3, .int x3)] → W p l e rmX0_findOdds s m args below meth c H locs 0 0 (MQ below (qxv G rd q σ' r) args s 0 0 (fa G)) (F0 m 17 ls [])) : ∀ (x1 : Int32) (x2 : Int32) (x3 : Int32) (y4 : Int64) (t0 : Int64) (t1 : Int64) (σ : SS) (H : Heap) (locs : List Loc) (ls : Array Slot), F_X0_findOdds_124 N K17 x1 x2 x3 y4 t0 t1 σ = some (r, σ') → wx G rd q σ H → va_S (fa G) s.heap H locs → lv_has ls 7 [(0, .ref (q 0)), (1, .int x1), (2, .int x2), (3, .int x3), (4, .long y4)] → W p l e rmX0_findOdds s m args below meth c H locs 0 0 (MQ below (qxv G rd q σ' r) args s 0 0 (fa G)) (F0 m 124 ls [.long t0, .long t1, .ref (q 0)]) := by
  obtain ⟨hx, hb, hml, hown, hts, -, -, -, -⟩ := id C
  intro x1 x2 x3 y4 t0 t1 σ H locs ls hF hw hS hl
  unfold F_X0_findOdds_124 at hF
  refine lv_ladd hx hb dX0_findOdds_124 ?_
  obtain ⟨σ_29, eσ_29, hF⟩ := nm_e2 hF
  refine r_putl0 C hw hS 16 (by decide) rfl rfl (tyX0_ok 16 (by decide)) q235 dX0_findOdds_125 eσ_29 (fun H locs hw hS => ?_)
  refine lv_aload_n hx hb dX0_findOdds_128 rfl (lv_at hl 0 rfl) ?_
  refine lv_dup hx hb dX0_findOdds_129 rfl ?_
  refine r_get0 C hw 17 (by decide) rfl (v := .long (gl σ_29 17)) rfl q236 dX0_findOdds_130 ?_
  refine lv_lload hx hb dX0_findOdds_133 (lv_at hl 4 rfl) ?_
  refine lv_aload_n hx hb dX0_findOdds_135 rfl (lv_at hl 0 rfl) ?_
  refine r_get0 C hw 7 (by decide) rfl (v := .int (gi σ_29 0 7)) rfl q225 dX0_findOdds_136 ?_
  refine lv_i2l hx hb dX0_findOdds_139 rfl ?_
  refine lv_lmul hx hb dX0_findOdds_140 ?_
  refine lv_ladd hx hb dX0_findOdds_141 ?_
  obtain ⟨σ_30, eσ_30, hF⟩ := nm_e2 hF
  refine r_putl0 C hw hS 17 (by decide) rfl rfl (tyX0_ok 17 (by decide)) q236 dX0_findOdds_142 eσ_30 (fun H locs hw hS => ?_)
  obtain ⟨x_31, ex_31, hF⟩ := nm_e2 hF
  refine lv_iinc (v := x_31) (lv' := [(3, .int x_31), (0, .ref (q 0)), (1, .int x1), (2, .int x2), (4, .long y4)]) hx hb dX0_findOdds_145 hl (k := 3) rfl (by rw [ex_31]; rfl) (by decide) rfl (fun ls hl => ?_)
  refine lv_goto (tgt := 17) hx hb dX0_findOdds_148 (by decide) ?_
  exact HK17 _ _ _ _ _ _ _ hF hw hS (lv_sub hl [1, 2, 3, 0] rfl)
noncomputable def F_X0_findOdds_72 (N : Nat) (K17 : Int32 → Int32 → Int32 → SS → Option (Unit × SS)) (K45 : Int32 → Int32 → Int32 → Int64 → Int32 → SS → Option (Unit × SS)) (x1 : Int32) (x2 : Int32) (x3 : Int32) (x6 : Int32) (t0 : Int64) (t1 : Int64) (σ : SS) : Option (Unit × SS) :=
  nm (t1 * t0) fun y_32 =>
  bd (F_X0_has N x3 x6 σ) fun r_33 σ_34 =>
  bd (F_X0_tickGoes N 1 r_33 σ_34) fun r_36 σ_37 =>
  nm (x6 + (1 : Int32)) fun x_39 =>
  K45 x1 x2 x3 y_32 x_39 σ_37
set_option maxRecDepth 100000 in
theorem w_X0_findOdds_72 {p : Program} {l : Launch} {e : Env} {s : State} {m : MethodId} {args : Array Value} {below : List Frame} {meth : Method} {c : Code} {G : GG} {rd : Bool} {q : Nat → Nat} {N : Nat} {r : Unit} {σ' : SS} (C : cx p s m args meth c cX0_findOdds 7 RX0 none G) {K17 : Int32 → Int32 → Int32 → SS → Option (Unit × SS)} (HK17 : ∀ (x1 : Int32) (x2 : Int32) (x3 : Int32) (σ : SS) (H : Heap) (locs : List Loc) (ls : Array Slot), K17 x1 x2 x3 σ = some (r, σ') → wx G rd q σ H → va_S (fa G) s.heap H locs → lv_has ls 7 [(0, .ref (q 0)), (1, .int x1), (2, .int x2), (3, .int x3)] → W p l e rmX0_findOdds s m args below meth c H locs 0 0 (MQ below (qxv G rd q σ' r) args s 0 0 (fa G)) (F0 m 17 ls [])) {K45 : Int32 → Int32 → Int32 → Int64 → Int32 → SS → Option (Unit × SS)} (HK45 : ∀ (x1 : Int32) (x2 : Int32) (x3 : Int32) (y4 : Int64) (x6 : Int32) (σ : SS) (H : Heap) (locs : List Loc) (ls : Array Slot), K45 x1 x2 x3 y4 x6 σ = some (r, σ') → wx G rd q σ H → va_S (fa G) s.heap H locs → lv_has ls 7 [(0, .ref (q 0)), (1, .int x1), (2, .int x2), (3, .int x3), (4, .long y4), (6, .int x6)] → W p l e rmX0_findOdds s m args below meth c H locs 0 0 (MQ below (qxv G rd q σ' r) args s 0 0 (fa G)) (F0 m 45 ls [])) : ∀ (x1 : Int32) (x2 : Int32) (x3 : Int32) (x6 : Int32) (t0 : Int64) (t1 : Int64) (σ : SS) (H : Heap) (locs : List Loc) (ls : Array Slot), F_X0_findOdds_72 N K17 K45 x1 x2 x3 x6 t0 t1 σ = some (r, σ') → wx G rd q σ H → va_S (fa G) s.heap H locs → lv_has ls 7 [(0, .ref (q 0)), (1, .int x1), (2, .int x2), (3, .int x3), (6, .int x6)] → W p l e rmX0_findOdds s m args below meth c H locs 0 0 (MQ below (qxv G rd q σ' r) args s 0 0 (fa G)) (F0 m 72 ls [.long t0, .long t1]) := by
  obtain ⟨hx, hb, hml, hown, hts, -, -, -, -⟩ := id C
  intro x1 x2 x3 x6 t0 t1 σ H locs ls hF hw hS hl
  unfold F_X0_findOdds_72 at hF
  refine lv_lmul hx hb dX0_findOdds_72 ?_
  obtain ⟨y_32, ey_32, hF⟩ := nm_e2 hF
  refine r_topl ey_32 ?_
  refine lv_lstore (lv' := [(4, .long y_32), (0, .ref (q 0)), (1, .int x1), (2, .int x2), (3, .int x3), (6, .int x6)]) hx hb dX0_findOdds_73 hl (by decide) rfl (fun ls hl => ?_)
  refine lv_aload_n hx hb dX0_findOdds_75 rfl (lv_at hl 1 rfl) ?_
  refine lv_aload_n hx hb dX0_findOdds_76 rfl (lv_at hl 1 rfl) ?_
  refine r_get0 C hw 2 (by decide) rfl (v := .ref (q (iS 1))) rfl q220 dX0_findOdds_77 ?_
  refine lv_iload_n hx hb dX0_findOdds_80 rfl (lv_at hl 4 rfl) ?_
  refine lv_iload hx hb dX0_findOdds_81 (lv_at hl 5 rfl) ?_
  obtain ⟨r_33, σ_34, h_35, hF⟩ := bd_e hF
  refine r_callSi (As := [.int x3, .int x6]) (rest := [.ref (q (iS 1)), .ref (q 0)]) C hw hS (met_X0_has l G rd q  h_35) (cwS 2 hts (lw_S q763 q764 q57 q765) rfl rfl rfl (by decide +kernel) ⟨Nat.le_of_ble_eq_true rfl, Nat.le_of_ble_eq_true rfl⟩) rfl hl.1 rfl (Nat.le_of_ble_eq_true rfl) ⟨Nat.le_refl _, Nat.le_refl _⟩ dX0_findOdds_83 (fun H locs hw hS => ?_)
  obtain ⟨r_36, σ_37, h_38, hF⟩ := bd_e hF
  refine r_callVv (As := [.ref (q (iS 1)), .int r_33]) (rest := []) (i := 0) C hw hS (wi_lo (Or.inl (by decide))) rfl (ci := 0) rfl (met_X0_tickGoes l G rd q (okS_of (by decide)) h_38) (cwV 2 hts (lw_V q666 q668 qs18 q57 q669) rfl rfl rfl (by decide +kernel) ⟨Nat.le_of_ble_eq_true rfl, Nat.le_of_ble_eq_true rfl⟩) rfl hl.1 rfl (Nat.le_of_ble_eq_true rfl) ⟨Nat.le_refl _, Nat.le_refl _⟩ dX0_findOdds_86 (fun H locs hw hS => ?_)
  obtain ⟨x_39, ex_39, hF⟩ := nm_e2 hF
  refine lv_iinc (v := x_39) (lv' := [(6, .int x_39), (4, .long y_32), (0, .ref (q 0)), (1, .int x1), (2, .int x2), (3, .int x3)]) hx hb dX0_findOdds_89 hl (k := 5) rfl (by rw [ex_39]; rfl) (by decide) rfl (fun ls hl => ?_)
  refine lv_goto (tgt := 45) hx hb dX0_findOdds_92 (by decide) ?_
  exact HK45 _ _ _ _ _ _ _ _ _ hF hw hS (lv_sub hl [2, 3, 4, 5, 1, 0] rfl)
noncomputable def B_X0_findOdds_45 (N : Nat) (K17 : Int32 → Int32 → Int32 → SS → Option (Unit × SS)) (IH : Int32 → Int32 → Int32 → Int64 → Int32 → SS → Option (Unit × SS)) (x1 : Int32) (x2 : Int32) (x3 : Int32) (y4 : Int64) (x6 : Int32) (σ : SS) : Option (Unit × SS) :=
  if x2 ≤ x6 then
    nm (sl σ 18 ((gl σ 18) + y4)) fun σ_41 =>
    if (gi σ_41 0 8) = (0 : Int32) then
      F_X0_findOdds_124 N K17 x1 x2 x3 y4 y4 (gl σ_41 16) σ_41
    else
      F_X0_findOdds_124 N K17 x1 x2 x3 y4 (0 : Int64) (gl σ_41 16) σ_41
  else
    bd (F_X0_has N x3 x6 σ) fun r_43 σ_44 =>
    if r_43 = (0 : Int32) then
      F_X0_findOdds_72 N K17 IH x1 x2 x3 x6 (((10 : Int32) - x1).toInt64) y4 σ_44
    else
      F_X0_findOdds_72 N K17 IH x1 x2 x3 x6 x1.toInt64 y4 σ_44
noncomputable def F_X0_findOdds_45 (N : Nat) (K17 : Int32 → Int32 → Int32 → SS → Option (Unit × SS)) (n : Nat) : Int32 → Int32 → Int32 → Int64 → Int32 → SS → Option (Unit × SS) := Nat.rec (fun _ _ _ _ _ _ => none) (fun _ IH => B_X0_findOdds_45 N K17 IH) n
set_option maxRecDepth 100000 in
theorem w_X0_findOdds_45 {p : Program} {l : Launch} {e : Env} {s : State} {m : MethodId} {args : Array Value} {below : List Frame} {meth : Method} {c : Code} {G : GG} {rd : Bool} {q : Nat → Nat} {N : Nat} {r : Unit} {σ' : SS} (C : cx p s m args meth c cX0_findOdds 7 RX0 none G) {K17 : Int32 → Int32 → Int32 → SS → Option (Unit × SS)} (HK17 : ∀ (x1 : Int32) (x2 : Int32) (x3 : Int32) (σ : SS) (H : Heap) (locs : List Loc) (ls : Array Slot), K17 x1 x2 x3 σ = some (r, σ') → wx G rd q σ H → va_S (fa G) s.heap H locs → lv_has ls 7 [(0, .ref (q 0)), (1, .int x1), (2, .int x2), (3, .int x3)] → W p l e rmX0_findOdds s m args below meth c H locs 0 0 (MQ below (qxv G rd q σ' r) args s 0 0 (fa G)) (F0 m 17 ls [])) : ∀ (n : Nat), ∀ (x1 : Int32) (x2 : Int32) (x3 : Int32) (y4 : Int64) (x6 : Int32) (σ : SS) (H : Heap) (locs : List Loc) (ls : Array Slot), F_X0_findOdds_45 N K17 n x1 x2 x3 y4 x6 σ = some (r, σ') → wx G rd q σ H → va_S (fa G) s.heap H locs → lv_has ls 7 [(0, .ref (q 0)), (1, .int x1), (2, .int x2), (3, .int x3), (4, .long y4), (6, .int x6)] → W p l e rmX0_findOdds s m args below meth c H locs 0 0 (MQ below (qxv G rd q σ' r) args s 0 0 (fa G)) (F0 m 45 ls []) := by
  obtain ⟨hx, hb, hml, hown, hts, -, -, -, -⟩ := id C
  intro n
  induction n with
  | zero =>
    intro x1 x2 x3 y4 x6 σ H locs ls hF hw hS hl
    cases hF
  | succ n ih =>
    intro x1 x2 x3 y4 x6 σ H locs ls hF hw hS hl
    have hF : B_X0_findOdds_45 N K17 (F_X0_findOdds_45 N K17 n) x1 x2 x3 y4 x6 σ = some (r, σ') := hF
    unfold B_X0_findOdds_45 at hF
    refine lv_iload hx hb dX0_findOdds_45 (lv_at hl 5 rfl) ?_
    refine lv_iload_n hx hb dX0_findOdds_47 rfl (lv_at hl 2 rfl) ?_
    refine lv_icmp_ge (tgt := 95) hx hb dX0_findOdds_48 (by decide) (fun c_40 => ?_) (fun c_40 => ?_)
    · have hF := it_e hF c_40
      refine lv_aload_n hx hb dX0_findOdds_95 rfl (lv_at hl 0 rfl) ?_
      refine lv_dup hx hb dX0_findOdds_96 rfl ?_
      refine r_get0 C hw 18 (by decide) rfl (v := .long (gl σ 18)) rfl q237 dX0_findOdds_97 ?_
      refine lv_lload hx hb dX0_findOdds_100 (lv_at hl 4 rfl) ?_
      refine lv_ladd hx hb dX0_findOdds_102 ?_
      obtain ⟨σ_41, eσ_41, hF⟩ := nm_e2 hF
      refine r_putl0 C hw hS 18 (by decide) rfl rfl (tyX0_ok 18 (by decide)) q237 dX0_findOdds_103 eσ_41 (fun H locs hw hS => ?_)
      refine lv_aload_n hx hb dX0_findOdds_106 rfl (lv_at hl 0 rfl) ?_
      refine lv_dup hx hb dX0_findOdds_107 rfl ?_
      refine r_get0 C hw 16 (by decide) rfl (v := .long (gl σ_41 16)) rfl q235 dX0_findOdds_108 ?_
      refine lv_aload_n hx hb dX0_findOdds_111 rfl (lv_at hl 0 rfl) ?_
      refine r_get0 C hw 8 (by decide) rfl (v := .int (gi σ_41 0 8)) rfl q226 dX0_findOdds_112 ?_
      refine lv_if_ne (tgt := 123) hx hb dX0_findOdds_115 (by decide) (fun c_42 => ?_) (fun c_42 => ?_)
      · have hF := if_e hF c_42
        refine lv_lconst (v := (0 : Int64)) hx hb dX0_findOdds_123 (by decide) ?_
        exact w_X0_findOdds_124 C  HK17 _ _ _ _ _ _ _ _ _ _ hF hw hS (lv_sub hl [0, 1, 2, 3, 4] rfl)
      · have hF := it_e hF c_42
        refine lv_lload hx hb dX0_findOdds_118 (lv_at hl 4 rfl) ?_
        refine lv_goto (tgt := 124) hx hb dX0_findOdds_120 (by decide) ?_
        exact w_X0_findOdds_124 C  HK17 _ _ _ _ _ _ _ _ _ _ hF hw hS (lv_sub hl [0, 1, 2, 3, 4] rfl)
    · have hF := if_e hF c_40
      refine lv_lload hx hb dX0_findOdds_51 (lv_at hl 4 rfl) ?_
      refine lv_iload_n hx hb dX0_findOdds_53 rfl (lv_at hl 3 rfl) ?_
      refine lv_iload hx hb dX0_findOdds_54 (lv_at hl 5 rfl) ?_
      obtain ⟨r_43, σ_44, h_45, hF⟩ := bd_e hF
      refine r_callSi (As := [.int x3, .int x6]) (rest := [.long y4]) C hw hS (met_X0_has l G rd q  h_45) (cwS 2 hts (lw_S q763 q764 q57 q765) rfl rfl rfl (by decide +kernel) ⟨Nat.le_of_ble_eq_true rfl, Nat.le_of_ble_eq_true rfl⟩) rfl hl.1 rfl (Nat.le_of_ble_eq_true rfl) ⟨Nat.le_refl _, Nat.le_refl _⟩ dX0_findOdds_56 (fun H locs hw hS => ?_)
      refine lv_if_eq (tgt := 67) hx hb dX0_findOdds_59 (by decide) (fun c_46 => ?_) (fun c_46 => ?_)
      · have hF := it_e hF c_46
        refine lv_bipush (v := (10 : Int32)) hx hb dX0_findOdds_67 (by decide) ?_
        refine lv_iload_n hx hb dX0_findOdds_69 rfl (lv_at hl 1 rfl) ?_
        refine lv_isub hx hb dX0_findOdds_70 ?_
        refine lv_i2l hx hb dX0_findOdds_71 rfl ?_
        exact w_X0_findOdds_72 C  HK17 ih _ _ _ _ _ _ _ _ _ _ hF hw hS (lv_sub hl [0, 1, 2, 3, 5] rfl)
      · have hF := if_e hF c_46
        refine lv_iload_n hx hb dX0_findOdds_62 rfl (lv_at hl 1 rfl) ?_
        refine lv_i2l hx hb dX0_findOdds_63 rfl ?_
        refine lv_goto (tgt := 72) hx hb dX0_findOdds_64 (by decide) ?_
        exact w_X0_findOdds_72 C  HK17 ih _ _ _ _ _ _ _ _ _ _ hF hw hS (lv_sub hl [0, 1, 2, 3, 5] rfl)
noncomputable def B_X0_findOdds_17 (N : Nat) (IH : Int32 → Int32 → Int32 → SS → Option (Unit × SS)) (x1 : Int32) (x2 : Int32) (x3 : Int32) (σ : SS) : Option (Unit × SS) :=
  if ((1 : Int32) <<< (x2 &&& 31)) ≤ x3 then
    some ((), σ)
  else
    bd (F_X5_as N 1 0 σ) fun r_48 σ_49 =>
    bd (F_X0_startsCounting N σ_49) fun r_51 σ_52 =>
    F_X0_findOdds_45 N IH N x1 x2 x3 (1 : Int64) (0 : Int32) σ_52
noncomputable def F_X0_findOdds_17 (N : Nat) (n : Nat) : Int32 → Int32 → Int32 → SS → Option (Unit × SS) := Nat.rec (fun _ _ _ _ => none) (fun _ IH => B_X0_findOdds_17 N IH) n
set_option maxRecDepth 100000 in
theorem w_X0_findOdds_17 {p : Program} {l : Launch} {e : Env} {s : State} {m : MethodId} {args : Array Value} {below : List Frame} {meth : Method} {c : Code} {G : GG} {rd : Bool} {q : Nat → Nat} {N : Nat} {r : Unit} {σ' : SS} (C : cx p s m args meth c cX0_findOdds 7 RX0 none G) : ∀ (n : Nat), ∀ (x1 : Int32) (x2 : Int32) (x3 : Int32) (σ : SS) (H : Heap) (locs : List Loc) (ls : Array Slot), F_X0_findOdds_17 N n x1 x2 x3 σ = some (r, σ') → wx G rd q σ H → va_S (fa G) s.heap H locs → lv_has ls 7 [(0, .ref (q 0)), (1, .int x1), (2, .int x2), (3, .int x3)] → W p l e rmX0_findOdds s m args below meth c H locs 0 0 (MQ below (qxv G rd q σ' r) args s 0 0 (fa G)) (F0 m 17 ls []) := by
  obtain ⟨hx, hb, hml, hown, hts, -, -, -, -⟩ := id C
  intro n
  induction n with
  | zero =>
    intro x1 x2 x3 σ H locs ls hF hw hS hl
    cases hF
  | succ n ih =>
    intro x1 x2 x3 σ H locs ls hF hw hS hl
    have hF : B_X0_findOdds_17 N (F_X0_findOdds_17 N n) x1 x2 x3 σ = some (r, σ') := hF
    unfold B_X0_findOdds_17 at hF
    refine lv_iload_n hx hb dX0_findOdds_17 rfl (lv_at hl 3 rfl) ?_
    refine lv_iconst (v := (1 : Int32)) hx hb dX0_findOdds_18 (by decide) ?_
    refine lv_iload_n hx hb dX0_findOdds_19 rfl (lv_at hl 2 rfl) ?_
    refine lv_ishl hx hb dX0_findOdds_20 ?_
    refine lv_icmp_ge (tgt := 151) hx hb dX0_findOdds_21 (by decide) (fun c_47 => ?_) (fun c_47 => ?_)
    · have hF := it_e hF c_47
      exact r_vret C hw hS hF dX0_findOdds_151
    · have hF := if_e hF c_47
      refine lv_lconst (v := (1 : Int64)) hx hb dX0_findOdds_24 (by decide) ?_
      refine lv_lstore (lv' := [(4, .long (1 : Int64)), (0, .ref (q 0)), (1, .int x1), (2, .int x2), (3, .int x3)]) hx hb dX0_findOdds_25 hl (by decide) rfl (fun ls hl => ?_)
      refine lv_aload_n hx hb dX0_findOdds_27 rfl (lv_at hl 1 rfl) ?_
      refine r_get0 C hw 2 (by decide) rfl (v := .ref (q (iS 1))) rfl q220 dX0_findOdds_28 ?_
      refine lv_aload_n hx hb dX0_findOdds_31 rfl (lv_at hl 1 rfl) ?_
      refine r_get0 C hw 1 (by decide) rfl (v := .ref (q (iS 0))) rfl q219 dX0_findOdds_32 ?_
      obtain ⟨r_48, σ_49, h_50, hF⟩ := bd_e hF
      refine r_callVv (As := [.ref (q (iS 0))]) (rest := []) (i := iS 1) C hw hS (wi_S (okS_of (by decide))) (tm_S _ _) (ci := 5) rfl (met_X5_as l G rd q (okS_of (by decide)) (okS_of (by decide)) h_50) (cwV 1 hts (lw_V q521 q522 q523 q62 q524) rfl rfl rfl (by decide +kernel) ⟨Nat.le_of_ble_eq_true rfl, Nat.le_of_ble_eq_true rfl⟩) rfl hl.1 rfl (Nat.le_of_ble_eq_true rfl) ⟨Nat.le_refl _, Nat.le_refl _⟩ dX0_findOdds_35 (fun H locs hw hS => ?_)
      refine lv_aload_n hx hb dX0_findOdds_38 rfl (lv_at hl 1 rfl) ?_
      obtain ⟨r_51, σ_52, h_53, hF⟩ := bd_e hF
      refine r_callVv (As := []) (rest := []) (i := 0) C hw hS (wi_lo (Or.inl (by decide))) rfl (ci := 0) rfl (met_X0_startsCounting l G rd q  h_53) (cwV 0 hts (lw_V q662 q664 qs17 q57 q665) rfl rfl rfl (by decide +kernel) ⟨Nat.le_of_ble_eq_true rfl, Nat.le_of_ble_eq_true rfl⟩) rfl hl.1 rfl (Nat.le_of_ble_eq_true rfl) ⟨Nat.le_refl _, Nat.le_refl _⟩ dX0_findOdds_39 (fun H locs hw hS => ?_)
      refine lv_iconst (v := (0 : Int32)) hx hb dX0_findOdds_42 (by decide) ?_
      refine lv_istore (lv' := [(6, .int (0 : Int32)), (4, .long (1 : Int64)), (0, .ref (q 0)), (1, .int x1), (2, .int x2), (3, .int x3)]) hx hb dX0_findOdds_43 hl (by decide) rfl (fun ls hl => ?_)
      exact w_X0_findOdds_45 C  ih N _ _ _ _ _ _ _ _ _ hF hw hS (lv_sub hl [2, 3, 4, 5, 1, 0] rfl)
noncomputable def F_X0_findOdds (N : Nat) (x1 : Int32) (x2 : Int32) (σ : SS) : Option (Unit × SS) :=
  nm (sl σ 16 (0 : Int64)) fun σ_54 =>
  nm (sl σ_54 17 (0 : Int64)) fun σ_55 =>
  nm (sl σ_55 18 (0 : Int64)) fun σ_56 =>
  F_X0_findOdds_17 N N x1 x2 (0 : Int32) σ_56
set_option maxRecDepth 100000 in
theorem met_X0_findOdds (l : Launch) (G : GG) (rd : Bool) (q : Nat → Nat) {N : Nat} {x1 : Int32} {x2 : Int32} {σ σ' : SS} {r : Unit} (hF : F_X0_findOdds N x1 x2 σ = some (r, σ')) : Met l yX0_findOdds (ws_ yX0_findOdds cX0_findOdds 7 none) rmX0_findOdds (pcx G rd q σ [.ref (q 0), .int x1, .int x2]) (qxv G rd q σ' r) 0 0 (fa G) := by
  refine met_of (by decide) (Nat.le_of_ble_eq_true rfl) ?_
  intro p e s m below meth c C H locs ls hw hS hl
  obtain ⟨hx, hb, hml, hown, hts, -, -, -, -⟩ := id C
  have hl : lv_has ls 7 [(0, .ref (q 0)), (1, .int x1), (2, .int x2)] := hl
  unfold F_X0_findOdds at hF
  refine lv_aload_n hx hb dX0_findOdds_0 rfl (lv_at hl 0 rfl) ?_
  refine lv_lconst (v := (0 : Int64)) hx hb dX0_findOdds_1 (by decide) ?_
  obtain ⟨σ_54, eσ_54, hF⟩ := nm_e2 hF
  refine r_putl0 C hw hS 16 (by decide) rfl rfl (tyX0_ok 16 (by decide)) q235 dX0_findOdds_2 eσ_54 (fun H locs hw hS => ?_)
  refine lv_aload_n hx hb dX0_findOdds_5 rfl (lv_at hl 0 rfl) ?_
  refine lv_lconst (v := (0 : Int64)) hx hb dX0_findOdds_6 (by decide) ?_
  obtain ⟨σ_55, eσ_55, hF⟩ := nm_e2 hF
  refine r_putl0 C hw hS 17 (by decide) rfl rfl (tyX0_ok 17 (by decide)) q236 dX0_findOdds_7 eσ_55 (fun H locs hw hS => ?_)
  refine lv_aload_n hx hb dX0_findOdds_10 rfl (lv_at hl 0 rfl) ?_
  refine lv_lconst (v := (0 : Int64)) hx hb dX0_findOdds_11 (by decide) ?_
  obtain ⟨σ_56, eσ_56, hF⟩ := nm_e2 hF
  refine r_putl0 C hw hS 18 (by decide) rfl rfl (tyX0_ok 18 (by decide)) q237 dX0_findOdds_12 eσ_56 (fun H locs hw hS => ?_)
  refine lv_iconst (v := (0 : Int32)) hx hb dX0_findOdds_15 (by decide) ?_
  refine lv_istore_n (lv' := [(3, .int (0 : Int32)), (0, .ref (q 0)), (1, .int x1), (2, .int x2)]) hx hb dX0_findOdds_16 rfl hl (by decide) rfl (fun ls hl => ?_)
  exact w_X0_findOdds_17 C   N _ _ _ _ _ _ _ hF hw hS (lv_sub hl [1, 2, 3, 0] rfl)
abbrev rmX0_forget : Room := { frames := 2, cells := 0, slots := 0, locals := 85 }
noncomputable def F_X0_forget (N : Nat) (x1 : Int32) (σ : SS) : Option (Int32 × SS) :=
  bd (F_X0_in N x1.toInt64 (0 : Int64) ((gi σ 0 6).toInt64) σ) fun r_7 σ_8 =>
  if r_7 = (0 : Int32) then
    some ((-1 : Int32), σ_8)
  else
    nm (gi σ_8 0 6) fun x_11 =>
    nm (si σ_8 0 6 x1) fun σ_12 =>
    some (x_11, σ_12)
set_option maxRecDepth 100000 in
theorem met_X0_forget (l : Launch) (G : GG) (rd : Bool) (q : Nat → Nat) {N : Nat} {x1 : Int32} {σ σ' : SS} {r : Int32} (hF : F_X0_forget N x1 σ = some (r, σ')) : Met l yX0_forget (ws_ yX0_forget cX0_forget 3 (some .int)) rmX0_forget (pcx G rd q σ [.ref (q 0), .int x1]) (qxi G rd q σ' r) 0 0 (fa G) := by
  refine met_of (by decide) (Nat.le_of_ble_eq_true rfl) ?_
  intro p e s m below meth c C H locs ls hw hS hl
  obtain ⟨hx, hb, hml, hown, hts, -, -, -, -⟩ := id C
  have hl : lv_has ls 3 [(0, .ref (q 0)), (1, .int x1)] := hl
  unfold F_X0_forget at hF
  refine lv_iload_n hx hb dX0_forget_0 rfl (lv_at hl 1 rfl) ?_
  refine lv_i2l hx hb dX0_forget_1 rfl ?_
  refine lv_lconst (v := (0 : Int64)) hx hb dX0_forget_2 (by decide) ?_
  refine lv_aload_n hx hb dX0_forget_3 rfl (lv_at hl 0 rfl) ?_
  refine r_get0 C hw 6 (by decide) rfl (v := .int (gi σ 0 6)) rfl q224 dX0_forget_4 ?_
  refine lv_i2l hx hb dX0_forget_7 rfl ?_
  obtain ⟨r_7, σ_8, h_9, hF⟩ := bd_e hF
  refine r_callSi (As := [.long x1.toInt64, .long (0 : Int64), .long ((gi σ 0 6).toInt64)]) (rest := []) C hw hS (met_X0_in l G rd q  h_9) (cwS 3 hts (lw_S q294 q295 q57 q296) rfl rfl rfl (by decide +kernel) ⟨Nat.le_of_ble_eq_true rfl, Nat.le_of_ble_eq_true rfl⟩) rfl hl.1 rfl (Nat.le_of_ble_eq_true rfl) ⟨Nat.le_refl _, Nat.le_refl _⟩ dX0_forget_8 (fun H locs hw hS => ?_)
  refine lv_if_ne (tgt := 16) hx hb dX0_forget_11 (by decide) (fun c_10 => ?_) (fun c_10 => ?_)
  · have hF := if_e hF c_10
    refine lv_aload_n hx hb dX0_forget_16 rfl (lv_at hl 0 rfl) ?_
    refine r_get0 C hw 6 (by decide) rfl (v := .int (gi σ_8 0 6)) rfl q224 dX0_forget_17 ?_
    obtain ⟨x_11, ex_11, hF⟩ := nm_e2 hF
    refine r_topi ex_11 ?_
    refine lv_istore_n (lv' := [(2, .int x_11), (0, .ref (q 0)), (1, .int x1)]) hx hb dX0_forget_20 rfl hl (by decide) rfl (fun ls hl => ?_)
    refine lv_aload_n hx hb dX0_forget_21 rfl (lv_at hl 1 rfl) ?_
    refine lv_iload_n hx hb dX0_forget_22 rfl (lv_at hl 2 rfl) ?_
    obtain ⟨σ_12, eσ_12, hF⟩ := nm_e2 hF
    refine r_put0 C hw hS 6 (by decide) rfl rfl (tyX0_ok 6 (by decide)) rfl rfl q224 dX0_forget_23 eσ_12 (fun H locs hw hS => ?_)
    refine lv_iload_n hx hb dX0_forget_26 rfl (lv_at hl 0 rfl) ?_
    exact r_iret C hw hS hF dX0_forget_27
  · have hF := it_e hF c_10
    refine lv_iconst (v := (-1 : Int32)) hx hb dX0_forget_14 (by decide) ?_
    exact r_iret C hw hS hF dX0_forget_15
abbrev rmX0_isSheet : Room := { frames := 2, cells := 0, slots := 0, locals := 85 }
noncomputable def F_X0_isSheet (N : Nat) (x0 : Int32) (x1 : Int32) (σ : SS) : Option (Int32 × SS) :=
  bd (F_X0_in N x0.toInt64 (0 : Int64) (3 : Int64) σ) fun r_9 σ_10 =>
  if r_9 = (0 : Int32) then
    some ((0 : Int32), σ_10)
  else
    bd (F_X0_in N x1.toInt64 (0 : Int64) (2 : Int64) σ_10) fun r_13 σ_14 =>
    if r_13 = (0 : Int32) then
      some ((0 : Int32), σ_14)
    else
      some ((1 : Int32), σ_14)
set_option maxRecDepth 100000 in
theorem met_X0_isSheet (l : Launch) (G : GG) (rd : Bool) (q : Nat → Nat) {N : Nat} {x0 : Int32} {x1 : Int32} {σ σ' : SS} {r : Int32} (hF : F_X0_isSheet N x0 x1 σ = some (r, σ')) : Met l yX0_isSheet (ws_ yX0_isSheet cX0_isSheet 2 (some .boolean)) rmX0_isSheet (pcx G rd q σ [.int x0, .int x1]) (qxi G rd q σ' r) 0 0 (fa G) := by
  refine met_of (by decide) (Nat.le_of_ble_eq_true rfl) ?_
  intro p e s m below meth c C H locs ls hw hS hl
  obtain ⟨hx, hb, hml, hown, hts, -, -, -, -⟩ := id C
  have hl : lv_has ls 2 [(0, .int x0), (1, .int x1)] := hl
  unfold F_X0_isSheet at hF
  refine lv_iload_n hx hb dX0_isSheet_0 rfl (lv_at hl 0 rfl) ?_
  refine lv_i2l hx hb dX0_isSheet_1 rfl ?_
  refine lv_lconst (v := (0 : Int64)) hx hb dX0_isSheet_2 (by decide) ?_
  refine lv_ldc2 (v := (3 : Int64)) hx hb hown (hts _ q602) dX0_isSheet_3 ?_
  obtain ⟨r_9, σ_10, h_11, hF⟩ := bd_e hF
  refine r_callSi (As := [.long x0.toInt64, .long (0 : Int64), .long (3 : Int64)]) (rest := []) C hw hS (met_X0_in l G rd q  h_11) (cwS 3 hts (lw_S q294 q295 q57 q296) rfl rfl rfl (by decide +kernel) ⟨Nat.le_of_ble_eq_true rfl, Nat.le_of_ble_eq_true rfl⟩) rfl hl.1 rfl (Nat.le_of_ble_eq_true rfl) ⟨Nat.le_refl _, Nat.le_refl _⟩ dX0_isSheet_6 (fun H locs hw hS => ?_)
  refine lv_if_eq (tgt := 28) hx hb dX0_isSheet_9 (by decide) (fun c_12 => ?_) (fun c_12 => ?_)
  · have hF := it_e hF c_12
    refine lv_iconst (v := (0 : Int32)) hx hb dX0_isSheet_28 (by decide) ?_
    exact r_zret C hw hS hF rfl dX0_isSheet_29
  · have hF := if_e hF c_12
    refine lv_iload_n hx hb dX0_isSheet_12 rfl (lv_at hl 1 rfl) ?_
    refine lv_i2l hx hb dX0_isSheet_13 rfl ?_
    refine lv_lconst (v := (0 : Int64)) hx hb dX0_isSheet_14 (by decide) ?_
    refine lv_ldc2 (v := (2 : Int64)) hx hb hown (hts _ q860) dX0_isSheet_15 ?_
    obtain ⟨r_13, σ_14, h_15, hF⟩ := bd_e hF
    refine r_callSi (As := [.long x1.toInt64, .long (0 : Int64), .long (2 : Int64)]) (rest := []) C hw hS (met_X0_in l G rd q  h_15) (cwS 3 hts (lw_S q294 q295 q57 q296) rfl rfl rfl (by decide +kernel) ⟨Nat.le_of_ble_eq_true rfl, Nat.le_of_ble_eq_true rfl⟩) rfl hl.1 rfl (Nat.le_of_ble_eq_true rfl) ⟨Nat.le_refl _, Nat.le_refl _⟩ dX0_isSheet_18 (fun H locs hw hS => ?_)
    refine lv_if_eq (tgt := 28) hx hb dX0_isSheet_21 (by decide) (fun c_16 => ?_) (fun c_16 => ?_)
    · have hF := it_e hF c_16
      refine lv_iconst (v := (0 : Int32)) hx hb dX0_isSheet_28 (by decide) ?_
      exact r_zret C hw hS hF rfl dX0_isSheet_29
    · have hF := if_e hF c_16
      refine lv_iconst (v := (1 : Int32)) hx hb dX0_isSheet_24 (by decide) ?_
      refine lv_goto (tgt := 29) hx hb dX0_isSheet_25 (by decide) ?_
      exact r_zret C hw hS hF rfl dX0_isSheet_29
abbrev rmX0_judged : Room := { frames := 1, cells := 0, slots := 0, locals := 60 }
noncomputable def F_X0_judged (N : Nat) (x1 : Int32) (σ : SS) : Option (Int32 × SS) :=
  if (gi σ 0 14) = (-4 : Int32) then
    some ((-4 : Int32), σ)
  else
    if x1 = (0 : Int32) then
      some (gi σ 0 14, σ)
    else
      some (gi σ 0 15, σ)
set_option maxRecDepth 100000 in
theorem met_X0_judged (l : Launch) (G : GG) (rd : Bool) (q : Nat → Nat) {N : Nat} {x1 : Int32} {σ σ' : SS} {r : Int32} (hF : F_X0_judged N x1 σ = some (r, σ')) : Met l yX0_judged (ws_ yX0_judged cX0_judged 2 (some .int)) rmX0_judged (pcx G rd q σ [.ref (q 0), .int x1]) (qxi G rd q σ' r) 0 0 (fa G) := by
  refine met_of (by decide) (Nat.le_of_ble_eq_true rfl) ?_
  intro p e s m below meth c C H locs ls hw hS hl
  obtain ⟨hx, hb, hml, hown, hts, -, -, -, -⟩ := id C
  have hl : lv_has ls 2 [(0, .ref (q 0)), (1, .int x1)] := hl
  unfold F_X0_judged at hF
  refine lv_aload_n hx hb dX0_judged_0 rfl (lv_at hl 0 rfl) ?_
  refine r_get0 C hw 14 (by decide) rfl (v := .int (gi σ 0 14)) rfl q233 dX0_judged_1 ?_
  refine lv_bipush (v := (-4 : Int32)) hx hb dX0_judged_4 (by decide) ?_
  refine lv_icmp_ne (tgt := 14) hx hb dX0_judged_6 (by decide) (fun c_3 => ?_) (fun c_3 => ?_)
  · have hF := if_e hF c_3
    refine lv_iload_n hx hb dX0_judged_14 rfl (lv_at hl 1 rfl) ?_
    refine lv_if_ne (tgt := 25) hx hb dX0_judged_15 (by decide) (fun c_4 => ?_) (fun c_4 => ?_)
    · have hF := if_e hF c_4
      refine lv_aload_n hx hb dX0_judged_25 rfl (lv_at hl 0 rfl) ?_
      refine r_get0 C hw 15 (by decide) rfl (v := .int (gi σ 0 15)) rfl q234 dX0_judged_26 ?_
      exact r_iret C hw hS hF dX0_judged_29
    · have hF := it_e hF c_4
      refine lv_aload_n hx hb dX0_judged_18 rfl (lv_at hl 0 rfl) ?_
      refine r_get0 C hw 14 (by decide) rfl (v := .int (gi σ 0 14)) rfl q233 dX0_judged_19 ?_
      refine lv_goto (tgt := 29) hx hb dX0_judged_22 (by decide) ?_
      exact r_iret C hw hS hF dX0_judged_29
  · have hF := it_e hF c_3
    refine lv_bipush (v := (-4 : Int32)) hx hb dX0_judged_9 (by decide) ?_
    refine lv_goto (tgt := 29) hx hb dX0_judged_11 (by decide) ?_
    exact r_iret C hw hS hF dX0_judged_29
abbrev rmX0_keep : Room := { frames := 3, cells := 0, slots := 0, locals := 103 }
noncomputable def F_X0_keep (N : Nat) (x1 : Int32) (σ : SS) : Option (Int32 × SS) :=
  bd (F_X0_in N x1.toInt64 (0 : Int64) (1 : Int64) σ) fun r_12 σ_13 =>
  if r_12 = (0 : Int32) then
    some ((-1 : Int32), σ_13)
  else
    nm (((gi σ_13 0 4) >>> (x1 &&& 31)) &&& (1 : Int32)) fun x_16 =>
    gd (inR x1 2) <|
    nm (2 + x1.toNatClampNeg) fun w_18 =>
    bd (F_X5_as N w_18 0 σ_13) fun r_19 σ_20 =>
    nm (si σ_20 0 4 ((gi σ_20 0 4) ||| ((1 : Int32) <<< (x1 &&& 31)))) fun σ_22 =>
    some (x_16, σ_22)
set_option maxRecDepth 100000 in
theorem met_X0_keep (l : Launch) (G : GG) (rd : Bool) (q : Nat → Nat) {N : Nat} {x1 : Int32} {σ σ' : SS} {r : Int32} (hF : F_X0_keep N x1 σ = some (r, σ')) : Met l yX0_keep (ws_ yX0_keep cX0_keep 3 (some .int)) rmX0_keep (pcx G rd q σ [.ref (q 0), .int x1]) (qxi G rd q σ' r) 0 0 (fa G) := by
  refine met_of (by decide) (Nat.le_of_ble_eq_true rfl) ?_
  intro p e s m below meth c C H locs ls hw hS hl
  obtain ⟨hx, hb, hml, hown, hts, -, -, -, -⟩ := id C
  have hl : lv_has ls 3 [(0, .ref (q 0)), (1, .int x1)] := hl
  unfold F_X0_keep at hF
  refine lv_iload_n hx hb dX0_keep_0 rfl (lv_at hl 1 rfl) ?_
  refine lv_i2l hx hb dX0_keep_1 rfl ?_
  refine lv_lconst (v := (0 : Int64)) hx hb dX0_keep_2 (by decide) ?_
  refine lv_lconst (v := (1 : Int64)) hx hb dX0_keep_3 (by decide) ?_
  obtain ⟨r_12, σ_13, h_14, hF⟩ := bd_e hF
  refine r_callSi (As := [.long x1.toInt64, .long (0 : Int64), .long (1 : Int64)]) (rest := []) C hw hS (met_X0_in l G rd q  h_14) (cwS 3 hts (lw_S q294 q295 q57 q296) rfl rfl rfl (by decide +kernel) ⟨Nat.le_of_ble_eq_true rfl, Nat.le_of_ble_eq_true rfl⟩) rfl hl.1 rfl (Nat.le_of_ble_eq_true rfl) ⟨Nat.le_refl _, Nat.le_refl _⟩ dX0_keep_4 (fun H locs hw hS => ?_)
  refine lv_if_ne (tgt := 12) hx hb dX0_keep_7 (by decide) (fun c_15 => ?_) (fun c_15 => ?_)
  · have hF := if_e hF c_15
    refine lv_aload_n hx hb dX0_keep_12 rfl (lv_at hl 0 rfl) ?_
    refine r_get0 C hw 4 (by decide) rfl (v := .int (gi σ_13 0 4)) rfl q222 dX0_keep_13 ?_
    refine lv_iload_n hx hb dX0_keep_16 rfl (lv_at hl 1 rfl) ?_
    refine lv_ishr hx hb dX0_keep_17 ?_
    refine lv_iconst (v := (1 : Int32)) hx hb dX0_keep_18 (by decide) ?_
    refine lv_iand hx hb dX0_keep_19 ?_
    obtain ⟨x_16, ex_16, hF⟩ := nm_e2 hF
    refine r_topi ex_16 ?_
    refine lv_istore_n (lv' := [(2, .int x_16), (0, .ref (q 0)), (1, .int x1)]) hx hb dX0_keep_20 rfl hl (by decide) rfl (fun ls hl => ?_)
    refine lv_aload_n hx hb dX0_keep_21 rfl (lv_at hl 1 rfl) ?_
    refine r_get0 C hw 3 (by decide) rfl (v := .ref (q 3)) rfl q221 dX0_keep_22 ?_
    refine lv_iload_n hx hb dX0_keep_25 rfl (lv_at hl 2 rfl) ?_
    obtain ⟨h_17, hF⟩ := gd_e hF
    obtain ⟨w_18, ew_18, hF⟩ := nm_e2 hF
    have hw_18 : okS rd w_18 := ok_I ew_18 (inR_lt h_17)
    refine r_aald (i := 3) (t := 6) (n := 2) (g := 60) (st := 10) C hw (wi_lo (Or.inl (by decide))) rfl rfl h_17 (ha_I ew_18) dX0_keep_26 ?_
    refine lv_aload_n hx hb dX0_keep_27 rfl (lv_at hl 1 rfl) ?_
    refine r_get0 C hw 1 (by decide) rfl (v := .ref (q (iS 0))) rfl q219 dX0_keep_28 ?_
    obtain ⟨r_19, σ_20, h_21, hF⟩ := bd_e hF
    refine r_callVv (As := [.ref (q (iS 0))]) (rest := []) (i := iS w_18) C hw hS (wi_S hw_18) (tm_S _ _) (ci := 5) rfl (met_X5_as l G rd q hw_18 (okS_of (by decide)) h_21) (cwV 1 hts (lw_V q521 q522 q523 q62 q524) rfl rfl rfl (by decide +kernel) ⟨Nat.le_of_ble_eq_true rfl, Nat.le_of_ble_eq_true rfl⟩) rfl hl.1 rfl (Nat.le_of_ble_eq_true rfl) ⟨Nat.le_refl _, Nat.le_refl _⟩ dX0_keep_31 (fun H locs hw hS => ?_)
    refine lv_aload_n hx hb dX0_keep_34 rfl (lv_at hl 1 rfl) ?_
    refine lv_dup hx hb dX0_keep_35 rfl ?_
    refine r_get0 C hw 4 (by decide) rfl (v := .int (gi σ_20 0 4)) rfl q222 dX0_keep_36 ?_
    refine lv_iconst (v := (1 : Int32)) hx hb dX0_keep_39 (by decide) ?_
    refine lv_iload_n hx hb dX0_keep_40 rfl (lv_at hl 2 rfl) ?_
    refine lv_ishl hx hb dX0_keep_41 ?_
    refine lv_ior hx hb dX0_keep_42 ?_
    obtain ⟨σ_22, eσ_22, hF⟩ := nm_e2 hF
    refine r_put0 C hw hS 4 (by decide) rfl rfl (tyX0_ok 4 (by decide)) rfl rfl q222 dX0_keep_43 eσ_22 (fun H locs hw hS => ?_)
    refine lv_iload_n hx hb dX0_keep_46 rfl (lv_at hl 0 rfl) ?_
    exact r_iret C hw hS hF dX0_keep_47
  · have hF := it_e hF c_15
    refine lv_iconst (v := (-1 : Int32)) hx hb dX0_keep_10 (by decide) ?_
    exact r_iret C hw hS hF dX0_keep_11
abbrev rmX0_kind : Room := { frames := 11, cells := 0, slots := 0, locals := 286 }
noncomputable def B_X0_kind_32 (N : Nat) (IH : Int32 → Int32 → Int32 → Int32 → SS → Option (Int32 × SS)) (x1 : Int32) (x2 : Int32) (x3 : Int32) (x4 : Int32) (σ : SS) : Option (Int32 × SS) :=
  if (4 : Int32) ≤ x4 then
    bd (F_X0_judged N x3 σ) fun r_34 σ_35 =>
    some (r_34, σ_35)
  else
    bd (F_X5_as N 1 0 σ) fun r_37 σ_38 =>
    gd (inR x1 4) <|
    nm (x1.toNatClampNeg) fun w_41 =>
    nm (si σ_38 (iS 1) w_41 x4) fun σ_42 =>
    bd (F_X0_doneByTried N x2 σ_42) fun r_43 σ_44 =>
    bd (F_X0_judges N x4 r_43 σ_44) fun r_46 σ_47 =>
    nm (x4 + (1 : Int32)) fun x_49 =>
    IH x1 x2 x3 x_49 σ_47
noncomputable def F_X0_kind_32 (N : Nat) (n : Nat) : Int32 → Int32 → Int32 → Int32 → SS → Option (Int32 × SS) := Nat.rec (fun _ _ _ _ _ => none) (fun _ IH => B_X0_kind_32 N IH) n
set_option maxRecDepth 100000 in
theorem w_X0_kind_32 {p : Program} {l : Launch} {e : Env} {s : State} {m : MethodId} {args : Array Value} {below : List Frame} {meth : Method} {c : Code} {G : GG} {rd : Bool} {q : Nat → Nat} {N : Nat} {r : Int32} {σ' : SS} (C : cx p s m args meth c cX0_kind 5 RX0 (some .int) G) : ∀ (n : Nat), ∀ (x1 : Int32) (x2 : Int32) (x3 : Int32) (x4 : Int32) (σ : SS) (H : Heap) (locs : List Loc) (ls : Array Slot), F_X0_kind_32 N n x1 x2 x3 x4 σ = some (r, σ') → wx G rd q σ H → va_S (fa G) s.heap H locs → lv_has ls 5 [(0, .ref (q 0)), (1, .int x1), (2, .int x2), (3, .int x3), (4, .int x4)] → W p l e rmX0_kind s m args below meth c H locs 0 0 (MQ below (qxi G rd q σ' r) args s 0 0 (fa G)) (F0 m 32 ls []) := by
  obtain ⟨hx, hb, hml, hown, hts, -, -, -, -⟩ := id C
  intro n
  induction n with
  | zero =>
    intro x1 x2 x3 x4 σ H locs ls hF hw hS hl
    cases hF
  | succ n ih =>
    intro x1 x2 x3 x4 σ H locs ls hF hw hS hl
    have hF : B_X0_kind_32 N (F_X0_kind_32 N n) x1 x2 x3 x4 σ = some (r, σ') := hF
    unfold B_X0_kind_32 at hF
    refine lv_iload hx hb dX0_kind_32 (lv_at hl 4 rfl) ?_
    refine lv_iconst (v := (4 : Int32)) hx hb dX0_kind_34 (by decide) ?_
    refine lv_icmp_ge (tgt := 80) hx hb dX0_kind_35 (by decide) (fun c_33 => ?_) (fun c_33 => ?_)
    · have hF := it_e hF c_33
      refine lv_aload_n hx hb dX0_kind_80 rfl (lv_at hl 0 rfl) ?_
      refine lv_iload_n hx hb dX0_kind_81 rfl (lv_at hl 3 rfl) ?_
      obtain ⟨r_34, σ_35, h_36, hF⟩ := bd_e hF
      refine r_callVi (As := [.int x3]) (rest := []) (i := 0) C hw hS (wi_lo (Or.inl (by decide))) rfl (ci := 0) rfl (met_X0_judged l G rd q  h_36) (cwV 1 hts (lw_V q724 q726 qs23 q57 q727) rfl rfl rfl (by decide +kernel) ⟨Nat.le_of_ble_eq_true rfl, Nat.le_of_ble_eq_true rfl⟩) rfl hl.1 rfl (Nat.le_of_ble_eq_true rfl) ⟨Nat.le_refl _, Nat.le_refl _⟩ dX0_kind_82 (fun H locs hw hS => ?_)
      exact r_iret C hw hS hF dX0_kind_85
    · have hF := if_e hF c_33
      refine lv_aload_n hx hb dX0_kind_38 rfl (lv_at hl 0 rfl) ?_
      refine r_get0 C hw 2 (by decide) rfl (v := .ref (q (iS 1))) rfl q220 dX0_kind_39 ?_
      refine lv_aload_n hx hb dX0_kind_42 rfl (lv_at hl 0 rfl) ?_
      refine r_get0 C hw 1 (by decide) rfl (v := .ref (q (iS 0))) rfl q219 dX0_kind_43 ?_
      obtain ⟨r_37, σ_38, h_39, hF⟩ := bd_e hF
      refine r_callVv (As := [.ref (q (iS 0))]) (rest := []) (i := iS 1) C hw hS (wi_S (okS_of (by decide))) (tm_S _ _) (ci := 5) rfl (met_X5_as l G rd q (okS_of (by decide)) (okS_of (by decide)) h_39) (cwV 1 hts (lw_V q521 q522 q523 q62 q524) rfl rfl rfl (by decide +kernel) ⟨Nat.le_of_ble_eq_true rfl, Nat.le_of_ble_eq_true rfl⟩) rfl hl.1 rfl (Nat.le_of_ble_eq_true rfl) ⟨Nat.le_refl _, Nat.le_refl _⟩ dX0_kind_46 (fun H locs hw hS => ?_)
      refine lv_aload_n hx hb dX0_kind_49 rfl (lv_at hl 0 rfl) ?_
      refine r_get0 C hw 2 (by decide) rfl (v := .ref (q (iS 1))) rfl q220 dX0_kind_50 ?_
      refine r_getSN C hw (okS_of (by decide)) 3 (by decide) rfl (v := .ref (q (iWA 1))) rfl 13 rfl dX0_kind_53 ?_
      refine lv_iload_n hx hb dX0_kind_56 rfl (lv_at hl 1 rfl) ?_
      obtain ⟨h_40, hF⟩ := gd_e hF
      obtain ⟨w_41, ew_41, hF⟩ := nm_e2 hF
      have hw_41 : w_41 < 4 := lt_of ew_41 (inR_lt h_40)
      refine r_aald (i := iWA 1) (t := 5) (n := 4) (g := (43 + 10 * 1)) (st := 1) C hw (wi_WA (okS_of (by decide))) (tm_WA _ _) rfl h_40 (ha_W ew_41) dX0_kind_57 ?_
      refine lv_iload hx hb dX0_kind_58 (lv_at hl 4 rfl) ?_
      obtain ⟨σ_42, eσ_42, hF⟩ := nm_e2 hF
      refine r_putWN C hw hS (okS_of (by decide)) hw_41 0 (by decide) rfl rfl (tyX6_ok 0 (by decide)) rfl rfl 1 rfl dX0_kind_60 eσ_42 (fun H locs hw hS => ?_)
      refine lv_aload_n hx hb dX0_kind_63 rfl (lv_at hl 0 rfl) ?_
      refine lv_iload hx hb dX0_kind_64 (lv_at hl 4 rfl) ?_
      refine lv_aload_n hx hb dX0_kind_66 rfl (lv_at hl 0 rfl) ?_
      refine lv_iload_n hx hb dX0_kind_67 rfl (lv_at hl 2 rfl) ?_
      obtain ⟨r_43, σ_44, h_45, hF⟩ := bd_e hF
      refine r_callVi (As := [.int x2]) (rest := [.int x4, .ref (q 0)]) (i := 0) C hw hS (wi_lo (Or.inl (by decide))) rfl (ci := 0) rfl (met_X0_doneByTried l G rd q  h_45) (cwV 1 hts (lw_V q716 q718 qs21 q57 q719) rfl rfl rfl (by decide +kernel) ⟨Nat.le_of_ble_eq_true rfl, Nat.le_of_ble_eq_true rfl⟩) rfl hl.1 rfl (Nat.le_of_ble_eq_true rfl) ⟨Nat.le_refl _, Nat.le_refl _⟩ dX0_kind_68 (fun H locs hw hS => ?_)
      obtain ⟨r_46, σ_47, h_48, hF⟩ := bd_e hF
      refine r_callVv (As := [.int x4, .int r_43]) (rest := []) (i := 0) C hw hS (wi_lo (Or.inl (by decide))) rfl (ci := 0) rfl (met_X0_judges l G rd q  h_48) (cwV 2 hts (lw_V q720 q722 qs22 q57 q723) rfl rfl rfl (by decide +kernel) ⟨Nat.le_of_ble_eq_true rfl, Nat.le_of_ble_eq_true rfl⟩) rfl hl.1 rfl (Nat.le_of_ble_eq_true rfl) ⟨Nat.le_refl _, Nat.le_refl _⟩ dX0_kind_71 (fun H locs hw hS => ?_)
      obtain ⟨x_49, ex_49, hF⟩ := nm_e2 hF
      refine lv_iinc (v := x_49) (lv' := [(4, .int x_49), (0, .ref (q 0)), (1, .int x1), (2, .int x2), (3, .int x3)]) hx hb dX0_kind_74 hl (k := 4) rfl (by rw [ex_49]; rfl) (by decide) rfl (fun ls hl => ?_)
      refine lv_goto (tgt := 32) hx hb dX0_kind_77 (by decide) ?_
      exact ih _ _ _ _ _ _ _ _ hF hw hS (lv_sub hl [1, 2, 3, 4, 0] rfl)
noncomputable def F_X0_kind (N : Nat) (x1 : Int32) (x2 : Int32) (x3 : Int32) (σ : SS) : Option (Int32 × SS) :=
  bd (F_X0_isWheel N x1 σ) fun r_50 σ_51 =>
  if r_50 = (0 : Int32) then
    some ((-1 : Int32), σ_51)
  else
    bd (F_X0_isFar N x2 σ_51) fun r_54 σ_55 =>
    if r_54 = (0 : Int32) then
      some ((-1 : Int32), σ_55)
    else
      bd (F_X0_isPart N x3 σ_55) fun r_58 σ_59 =>
      if r_58 = (0 : Int32) then
        some ((-1 : Int32), σ_59)
      else
        bd (F_X0_startsJudging N (-1 : Int32) σ_59) fun r_62 σ_63 =>
        F_X0_kind_32 N N x1 x2 x3 (0 : Int32) σ_63
set_option maxRecDepth 100000 in
theorem met_X0_kind (l : Launch) (G : GG) (rd : Bool) (q : Nat → Nat) {N : Nat} {x1 : Int32} {x2 : Int32} {x3 : Int32} {σ σ' : SS} {r : Int32} (hF : F_X0_kind N x1 x2 x3 σ = some (r, σ')) : Met l yX0_kind (ws_ yX0_kind cX0_kind 5 (some .int)) rmX0_kind (pcx G rd q σ [.ref (q 0), .int x1, .int x2, .int x3]) (qxi G rd q σ' r) 0 0 (fa G) := by
  refine met_of (by decide) (Nat.le_of_ble_eq_true rfl) ?_
  intro p e s m below meth c C H locs ls hw hS hl
  obtain ⟨hx, hb, hml, hown, hts, -, -, -, -⟩ := id C
  have hl : lv_has ls 5 [(0, .ref (q 0)), (1, .int x1), (2, .int x2), (3, .int x3)] := hl
  unfold F_X0_kind at hF
  refine lv_aload_n hx hb dX0_kind_0 rfl (lv_at hl 0 rfl) ?_
  refine lv_iload_n hx hb dX0_kind_1 rfl (lv_at hl 1 rfl) ?_
  obtain ⟨r_50, σ_51, h_52, hF⟩ := bd_e hF
  refine r_callVi (As := [.int x1]) (rest := []) (i := 0) C hw hS (wi_lo (Or.inl (by decide))) rfl (ci := 0) rfl (met_X0_isWheel l G rd q  h_52) (cwV 1 hts (lw_V q552 q554 qs10 q57 q555) rfl rfl rfl (by decide +kernel) ⟨Nat.le_of_ble_eq_true rfl, Nat.le_of_ble_eq_true rfl⟩) rfl hl.1 rfl (Nat.le_of_ble_eq_true rfl) ⟨Nat.le_refl _, Nat.le_refl _⟩ dX0_kind_2 (fun H locs hw hS => ?_)
  refine lv_if_eq (tgt := 22) hx hb dX0_kind_5 (by decide) (fun c_53 => ?_) (fun c_53 => ?_)
  · have hF := it_e hF c_53
    refine lv_iconst (v := (-1 : Int32)) hx hb dX0_kind_22 (by decide) ?_
    exact r_iret C hw hS hF dX0_kind_23
  · have hF := if_e hF c_53
    refine lv_iload_n hx hb dX0_kind_8 rfl (lv_at hl 2 rfl) ?_
    obtain ⟨r_54, σ_55, h_56, hF⟩ := bd_e hF
    refine r_callSi (As := [.int x2]) (rest := []) C hw hS (met_X0_isFar l G rd q  h_56) (cwS 1 hts (lw_S q679 q680 q57 q681) rfl rfl rfl (by decide +kernel) ⟨Nat.le_of_ble_eq_true rfl, Nat.le_of_ble_eq_true rfl⟩) rfl hl.1 rfl (Nat.le_of_ble_eq_true rfl) ⟨Nat.le_refl _, Nat.le_refl _⟩ dX0_kind_9 (fun H locs hw hS => ?_)
    refine lv_if_eq (tgt := 22) hx hb dX0_kind_12 (by decide) (fun c_57 => ?_) (fun c_57 => ?_)
    · have hF := it_e hF c_57
      refine lv_iconst (v := (-1 : Int32)) hx hb dX0_kind_22 (by decide) ?_
      exact r_iret C hw hS hF dX0_kind_23
    · have hF := if_e hF c_57
      refine lv_iload_n hx hb dX0_kind_15 rfl (lv_at hl 3 rfl) ?_
      obtain ⟨r_58, σ_59, h_60, hF⟩ := bd_e hF
      refine r_callSi (As := [.int x3]) (rest := []) C hw hS (met_X0_isPart l G rd q  h_60) (cwS 1 hts (lw_S q709 q710 q57 q711) rfl rfl rfl (by decide +kernel) ⟨Nat.le_of_ble_eq_true rfl, Nat.le_of_ble_eq_true rfl⟩) rfl hl.1 rfl (Nat.le_of_ble_eq_true rfl) ⟨Nat.le_refl _, Nat.le_refl _⟩ dX0_kind_16 (fun H locs hw hS => ?_)
      refine lv_if_ne (tgt := 24) hx hb dX0_kind_19 (by decide) (fun c_61 => ?_) (fun c_61 => ?_)
      · have hF := if_e hF c_61
        refine lv_aload_n hx hb dX0_kind_24 rfl (lv_at hl 0 rfl) ?_
        refine lv_iconst (v := (-1 : Int32)) hx hb dX0_kind_25 (by decide) ?_
        obtain ⟨r_62, σ_63, h_64, hF⟩ := bd_e hF
        refine r_callVv (As := [.int (-1 : Int32)]) (rest := []) (i := 0) C hw hS (wi_lo (Or.inl (by decide))) rfl (ci := 0) rfl (met_X0_startsJudging l G rd q  h_64) (cwV 1 hts (lw_V q712 q714 qs20 q57 q715) rfl rfl rfl (by decide +kernel) ⟨Nat.le_of_ble_eq_true rfl, Nat.le_of_ble_eq_true rfl⟩) rfl hl.1 rfl (Nat.le_of_ble_eq_true rfl) ⟨Nat.le_refl _, Nat.le_refl _⟩ dX0_kind_26 (fun H locs hw hS => ?_)
        refine lv_iconst (v := (0 : Int32)) hx hb dX0_kind_29 (by decide) ?_
        refine lv_istore (lv' := [(4, .int (0 : Int32)), (0, .ref (q 0)), (1, .int x1), (2, .int x2), (3, .int x3)]) hx hb dX0_kind_30 hl (by decide) rfl (fun ls hl => ?_)
        exact w_X0_kind_32 C   N _ _ _ _ _ _ _ _ hF hw hS (lv_sub hl [1, 2, 3, 4, 0] rfl)
      · have hF := it_e hF c_61
        refine lv_iconst (v := (-1 : Int32)) hx hb dX0_kind_22 (by decide) ?_
        exact r_iret C hw hS hF dX0_kind_23
abbrev rmX0_kinds : Room := { frames := 10, cells := 0, slots := 0, locals := 265 }
noncomputable def B_X0_kinds_14 (N : Nat) (IH : Int32 → Int32 → Int32 → SS → Option (Int32 × SS)) (x1 : Int32) (x2 : Int32) (x3 : Int32) (σ : SS) : Option (Int32 × SS) :=
  if (4 : Int32) ≤ x3 then
    some (x2, σ)
  else
    bd (F_X5_as N 1 0 σ) fun r_21 σ_22 =>
    gd (inR x1 4) <|
    nm (x1.toNatClampNeg) fun w_25 =>
    nm (si σ_22 (iS 1) w_25 x3) fun σ_26 =>
    bd (F_X0_isSo N σ_26) fun r_27 σ_28 =>
    if r_27 = (0 : Int32) then
      nm (x2 ||| (0 : Int32)) fun x_31 =>
      nm (x3 + (1 : Int32)) fun x_32 =>
      IH x1 x_31 x_32 σ_28
    else
      nm (x2 ||| ((1 : Int32) <<< (x3 &&& 31))) fun x_33 =>
      nm (x3 + (1 : Int32)) fun x_34 =>
      IH x1 x_33 x_34 σ_28
noncomputable def F_X0_kinds_14 (N : Nat) (n : Nat) : Int32 → Int32 → Int32 → SS → Option (Int32 × SS) := Nat.rec (fun _ _ _ _ => none) (fun _ IH => B_X0_kinds_14 N IH) n
set_option maxRecDepth 100000 in
theorem w_X0_kinds_14 {p : Program} {l : Launch} {e : Env} {s : State} {m : MethodId} {args : Array Value} {below : List Frame} {meth : Method} {c : Code} {G : GG} {rd : Bool} {q : Nat → Nat} {N : Nat} {r : Int32} {σ' : SS} (C : cx p s m args meth c cX0_kinds 4 RX0 (some .int) G) : ∀ (n : Nat), ∀ (x1 : Int32) (x2 : Int32) (x3 : Int32) (σ : SS) (H : Heap) (locs : List Loc) (ls : Array Slot), F_X0_kinds_14 N n x1 x2 x3 σ = some (r, σ') → wx G rd q σ H → va_S (fa G) s.heap H locs → lv_has ls 4 [(0, .ref (q 0)), (1, .int x1), (2, .int x2), (3, .int x3)] → W p l e rmX0_kinds s m args below meth c H locs 0 0 (MQ below (qxi G rd q σ' r) args s 0 0 (fa G)) (F0 m 14 ls []) := by
  obtain ⟨hx, hb, hml, hown, hts, -, -, -, -⟩ := id C
  intro n
  induction n with
  | zero =>
    intro x1 x2 x3 σ H locs ls hF hw hS hl
    cases hF
  | succ n ih =>
    intro x1 x2 x3 σ H locs ls hF hw hS hl
    have hF : B_X0_kinds_14 N (F_X0_kinds_14 N n) x1 x2 x3 σ = some (r, σ') := hF
    unfold B_X0_kinds_14 at hF
    refine lv_iload_n hx hb dX0_kinds_14 rfl (lv_at hl 3 rfl) ?_
    refine lv_iconst (v := (4 : Int32)) hx hb dX0_kinds_15 (by decide) ?_
    refine lv_icmp_ge (tgt := 66) hx hb dX0_kinds_16 (by decide) (fun c_20 => ?_) (fun c_20 => ?_)
    · have hF := it_e hF c_20
      refine lv_iload_n hx hb dX0_kinds_66 rfl (lv_at hl 2 rfl) ?_
      exact r_iret C hw hS hF dX0_kinds_67
    · have hF := if_e hF c_20
      refine lv_aload_n hx hb dX0_kinds_19 rfl (lv_at hl 0 rfl) ?_
      refine r_get0 C hw 2 (by decide) rfl (v := .ref (q (iS 1))) rfl q220 dX0_kinds_20 ?_
      refine lv_aload_n hx hb dX0_kinds_23 rfl (lv_at hl 0 rfl) ?_
      refine r_get0 C hw 1 (by decide) rfl (v := .ref (q (iS 0))) rfl q219 dX0_kinds_24 ?_
      obtain ⟨r_21, σ_22, h_23, hF⟩ := bd_e hF
      refine r_callVv (As := [.ref (q (iS 0))]) (rest := []) (i := iS 1) C hw hS (wi_S (okS_of (by decide))) (tm_S _ _) (ci := 5) rfl (met_X5_as l G rd q (okS_of (by decide)) (okS_of (by decide)) h_23) (cwV 1 hts (lw_V q521 q522 q523 q62 q524) rfl rfl rfl (by decide +kernel) ⟨Nat.le_of_ble_eq_true rfl, Nat.le_of_ble_eq_true rfl⟩) rfl hl.1 rfl (Nat.le_of_ble_eq_true rfl) ⟨Nat.le_refl _, Nat.le_refl _⟩ dX0_kinds_27 (fun H locs hw hS => ?_)
      refine lv_aload_n hx hb dX0_kinds_30 rfl (lv_at hl 0 rfl) ?_
      refine r_get0 C hw 2 (by decide) rfl (v := .ref (q (iS 1))) rfl q220 dX0_kinds_31 ?_
      refine r_getSN C hw (okS_of (by decide)) 3 (by decide) rfl (v := .ref (q (iWA 1))) rfl 13 rfl dX0_kinds_34 ?_
      refine lv_iload_n hx hb dX0_kinds_37 rfl (lv_at hl 1 rfl) ?_
      obtain ⟨h_24, hF⟩ := gd_e hF
      obtain ⟨w_25, ew_25, hF⟩ := nm_e2 hF
      have hw_25 : w_25 < 4 := lt_of ew_25 (inR_lt h_24)
      refine r_aald (i := iWA 1) (t := 5) (n := 4) (g := (43 + 10 * 1)) (st := 1) C hw (wi_WA (okS_of (by decide))) (tm_WA _ _) rfl h_24 (ha_W ew_25) dX0_kinds_38 ?_
      refine lv_iload_n hx hb dX0_kinds_39 rfl (lv_at hl 3 rfl) ?_
      obtain ⟨σ_26, eσ_26, hF⟩ := nm_e2 hF
      refine r_putWN C hw hS (okS_of (by decide)) hw_25 0 (by decide) rfl rfl (tyX6_ok 0 (by decide)) rfl rfl 1 rfl dX0_kinds_40 eσ_26 (fun H locs hw hS => ?_)
      refine lv_iload_n hx hb dX0_kinds_43 rfl (lv_at hl 2 rfl) ?_
      refine lv_aload_n hx hb dX0_kinds_44 rfl (lv_at hl 0 rfl) ?_
      obtain ⟨r_27, σ_28, h_29, hF⟩ := bd_e hF
      refine r_callVi (As := []) (rest := [.int x2]) (i := 0) C hw hS (wi_lo (Or.inl (by decide))) rfl (ci := 0) rfl (met_X0_isSo l G rd q  h_29) (cwV 0 hts (lw_V q787 q789 qs26 q57 q790) rfl rfl rfl (by decide +kernel) ⟨Nat.le_of_ble_eq_true rfl, Nat.le_of_ble_eq_true rfl⟩) rfl hl.1 rfl (Nat.le_of_ble_eq_true rfl) ⟨Nat.le_refl _, Nat.le_refl _⟩ dX0_kinds_45 (fun H locs hw hS => ?_)
      refine lv_if_eq (tgt := 57) hx hb dX0_kinds_48 (by decide) (fun c_30 => ?_) (fun c_30 => ?_)
      · have hF := it_e hF c_30
        refine lv_iconst (v := (0 : Int32)) hx hb dX0_kinds_57 (by decide) ?_
        refine lv_ior hx hb dX0_kinds_58 ?_
        obtain ⟨x_31, ex_31, hF⟩ := nm_e2 hF
        refine r_topi ex_31 ?_
        refine lv_istore_n (lv' := [(2, .int x_31), (0, .ref (q 0)), (1, .int x1), (3, .int x3)]) hx hb dX0_kinds_59 rfl hl (by decide) rfl (fun ls hl => ?_)
        obtain ⟨x_32, ex_32, hF⟩ := nm_e2 hF
        refine lv_iinc (v := x_32) (lv' := [(3, .int x_32), (2, .int x_31), (0, .ref (q 0)), (1, .int x1)]) hx hb dX0_kinds_60 hl (k := 3) rfl (by rw [ex_32]; rfl) (by decide) rfl (fun ls hl => ?_)
        refine lv_goto (tgt := 14) hx hb dX0_kinds_63 (by decide) ?_
        exact ih _ _ _ _ _ _ _ hF hw hS (lv_sub hl [2, 3, 1, 0] rfl)
      · have hF := if_e hF c_30
        refine lv_iconst (v := (1 : Int32)) hx hb dX0_kinds_51 (by decide) ?_
        refine lv_iload_n hx hb dX0_kinds_52 rfl (lv_at hl 3 rfl) ?_
        refine lv_ishl hx hb dX0_kinds_53 ?_
        refine lv_goto (tgt := 58) hx hb dX0_kinds_54 (by decide) ?_
        refine lv_ior hx hb dX0_kinds_58 ?_
        obtain ⟨x_33, ex_33, hF⟩ := nm_e2 hF
        refine r_topi ex_33 ?_
        refine lv_istore_n (lv' := [(2, .int x_33), (0, .ref (q 0)), (1, .int x1), (3, .int x3)]) hx hb dX0_kinds_59 rfl hl (by decide) rfl (fun ls hl => ?_)
        obtain ⟨x_34, ex_34, hF⟩ := nm_e2 hF
        refine lv_iinc (v := x_34) (lv' := [(3, .int x_34), (2, .int x_33), (0, .ref (q 0)), (1, .int x1)]) hx hb dX0_kinds_60 hl (k := 3) rfl (by rw [ex_34]; rfl) (by decide) rfl (fun ls hl => ?_)
        refine lv_goto (tgt := 14) hx hb dX0_kinds_63 (by decide) ?_
        exact ih _ _ _ _ _ _ _ hF hw hS (lv_sub hl [2, 3, 1, 0] rfl)
noncomputable def F_X0_kinds (N : Nat) (x1 : Int32) (σ : SS) : Option (Int32 × SS) :=
  bd (F_X0_isWheel N x1 σ) fun r_35 σ_36 =>
  if r_35 = (0 : Int32) then
    some ((-1 : Int32), σ_36)
  else
    F_X0_kinds_14 N N x1 (0 : Int32) (0 : Int32) σ_36
set_option maxRecDepth 100000 in
theorem met_X0_kinds (l : Launch) (G : GG) (rd : Bool) (q : Nat → Nat) {N : Nat} {x1 : Int32} {σ σ' : SS} {r : Int32} (hF : F_X0_kinds N x1 σ = some (r, σ')) : Met l yX0_kinds (ws_ yX0_kinds cX0_kinds 4 (some .int)) rmX0_kinds (pcx G rd q σ [.ref (q 0), .int x1]) (qxi G rd q σ' r) 0 0 (fa G) := by
  refine met_of (by decide) (Nat.le_of_ble_eq_true rfl) ?_
  intro p e s m below meth c C H locs ls hw hS hl
  obtain ⟨hx, hb, hml, hown, hts, -, -, -, -⟩ := id C
  have hl : lv_has ls 4 [(0, .ref (q 0)), (1, .int x1)] := hl
  unfold F_X0_kinds at hF
  refine lv_aload_n hx hb dX0_kinds_0 rfl (lv_at hl 0 rfl) ?_
  refine lv_iload_n hx hb dX0_kinds_1 rfl (lv_at hl 1 rfl) ?_
  obtain ⟨r_35, σ_36, h_37, hF⟩ := bd_e hF
  refine r_callVi (As := [.int x1]) (rest := []) (i := 0) C hw hS (wi_lo (Or.inl (by decide))) rfl (ci := 0) rfl (met_X0_isWheel l G rd q  h_37) (cwV 1 hts (lw_V q552 q554 qs10 q57 q555) rfl rfl rfl (by decide +kernel) ⟨Nat.le_of_ble_eq_true rfl, Nat.le_of_ble_eq_true rfl⟩) rfl hl.1 rfl (Nat.le_of_ble_eq_true rfl) ⟨Nat.le_refl _, Nat.le_refl _⟩ dX0_kinds_2 (fun H locs hw hS => ?_)
  refine lv_if_ne (tgt := 10) hx hb dX0_kinds_5 (by decide) (fun c_38 => ?_) (fun c_38 => ?_)
  · have hF := if_e hF c_38
    refine lv_iconst (v := (0 : Int32)) hx hb dX0_kinds_10 (by decide) ?_
    refine lv_istore_n (lv' := [(2, .int (0 : Int32)), (0, .ref (q 0)), (1, .int x1)]) hx hb dX0_kinds_11 rfl hl (by decide) rfl (fun ls hl => ?_)
    refine lv_iconst (v := (0 : Int32)) hx hb dX0_kinds_12 (by decide) ?_
    refine lv_istore_n (lv' := [(3, .int (0 : Int32)), (2, .int (0 : Int32)), (0, .ref (q 0)), (1, .int x1)]) hx hb dX0_kinds_13 rfl hl (by decide) rfl (fun ls hl => ?_)
    exact w_X0_kinds_14 C   N _ _ _ _ _ _ _ hF hw hS (lv_sub hl [2, 3, 1, 0] rfl)
  · have hF := it_e hF c_38
    refine lv_iconst (v := (-1 : Int32)) hx hb dX0_kinds_8 (by decide) ?_
    exact r_iret C hw hS hF dX0_kinds_9
abbrev rmX0_losses : Room := { frames := 11, cells := 0, slots := 0, locals := 287 }
noncomputable def B_X0_losses_14 (N : Nat) (IH : Int32 → Int32 → Int32 → SS → Option (Int32 × SS)) (x1 : Int32) (x2 : Int32) (x3 : Int32) (σ : SS) : Option (Int32 × SS) :=
  if (9 : Int32) < x3 then
    some (x2, σ)
  else
    bd (F_X0_isLossSo N x1 x3 σ) fun r_15 σ_16 =>
    if r_15 = (0 : Int32) then
      nm (x2 ||| (0 : Int32)) fun x_19 =>
      nm (x3 + (1 : Int32)) fun x_20 =>
      IH x1 x_19 x_20 σ_16
    else
      nm (x2 ||| ((1 : Int32) <<< (x3 &&& 31))) fun x_21 =>
      nm (x3 + (1 : Int32)) fun x_22 =>
      IH x1 x_21 x_22 σ_16
noncomputable def F_X0_losses_14 (N : Nat) (n : Nat) : Int32 → Int32 → Int32 → SS → Option (Int32 × SS) := Nat.rec (fun _ _ _ _ => none) (fun _ IH => B_X0_losses_14 N IH) n
set_option maxRecDepth 100000 in
theorem w_X0_losses_14 {p : Program} {l : Launch} {e : Env} {s : State} {m : MethodId} {args : Array Value} {below : List Frame} {meth : Method} {c : Code} {G : GG} {rd : Bool} {q : Nat → Nat} {N : Nat} {r : Int32} {σ' : SS} (C : cx p s m args meth c cX0_losses 4 RX0 (some .int) G) : ∀ (n : Nat), ∀ (x1 : Int32) (x2 : Int32) (x3 : Int32) (σ : SS) (H : Heap) (locs : List Loc) (ls : Array Slot), F_X0_losses_14 N n x1 x2 x3 σ = some (r, σ') → wx G rd q σ H → va_S (fa G) s.heap H locs → lv_has ls 4 [(0, .ref (q 0)), (1, .int x1), (2, .int x2), (3, .int x3)] → W p l e rmX0_losses s m args below meth c H locs 0 0 (MQ below (qxi G rd q σ' r) args s 0 0 (fa G)) (F0 m 14 ls []) := by
  obtain ⟨hx, hb, hml, hown, hts, -, -, -, -⟩ := id C
  intro n
  induction n with
  | zero =>
    intro x1 x2 x3 σ H locs ls hF hw hS hl
    cases hF
  | succ n ih =>
    intro x1 x2 x3 σ H locs ls hF hw hS hl
    have hF : B_X0_losses_14 N (F_X0_losses_14 N n) x1 x2 x3 σ = some (r, σ') := hF
    unfold B_X0_losses_14 at hF
    refine lv_iload_n hx hb dX0_losses_14 rfl (lv_at hl 3 rfl) ?_
    refine lv_bipush (v := (9 : Int32)) hx hb dX0_losses_15 (by decide) ?_
    refine lv_icmp_gt (tgt := 45) hx hb dX0_losses_17 (by decide) (fun c_14 => ?_) (fun c_14 => ?_)
    · have hF := it_e hF c_14
      refine lv_iload_n hx hb dX0_losses_45 rfl (lv_at hl 2 rfl) ?_
      exact r_iret C hw hS hF dX0_losses_46
    · have hF := if_e hF c_14
      refine lv_iload_n hx hb dX0_losses_20 rfl (lv_at hl 2 rfl) ?_
      refine lv_aload_n hx hb dX0_losses_21 rfl (lv_at hl 0 rfl) ?_
      refine lv_iload_n hx hb dX0_losses_22 rfl (lv_at hl 1 rfl) ?_
      refine lv_iload_n hx hb dX0_losses_23 rfl (lv_at hl 3 rfl) ?_
      obtain ⟨r_15, σ_16, h_17, hF⟩ := bd_e hF
      refine r_callVi (As := [.int x1, .int x3]) (rest := [.int x2]) (i := 0) C hw hS (wi_lo (Or.inl (by decide))) rfl (ci := 0) rfl (met_X0_isLossSo l G rd q  h_17) (cwV 2 hts (lw_V q795 q797 qs27 q57 q798) rfl rfl rfl (by decide +kernel) ⟨Nat.le_of_ble_eq_true rfl, Nat.le_of_ble_eq_true rfl⟩) rfl hl.1 rfl (Nat.le_of_ble_eq_true rfl) ⟨Nat.le_refl _, Nat.le_refl _⟩ dX0_losses_24 (fun H locs hw hS => ?_)
      refine lv_if_eq (tgt := 36) hx hb dX0_losses_27 (by decide) (fun c_18 => ?_) (fun c_18 => ?_)
      · have hF := it_e hF c_18
        refine lv_iconst (v := (0 : Int32)) hx hb dX0_losses_36 (by decide) ?_
        refine lv_ior hx hb dX0_losses_37 ?_
        obtain ⟨x_19, ex_19, hF⟩ := nm_e2 hF
        refine r_topi ex_19 ?_
        refine lv_istore_n (lv' := [(2, .int x_19), (0, .ref (q 0)), (1, .int x1), (3, .int x3)]) hx hb dX0_losses_38 rfl hl (by decide) rfl (fun ls hl => ?_)
        obtain ⟨x_20, ex_20, hF⟩ := nm_e2 hF
        refine lv_iinc (v := x_20) (lv' := [(3, .int x_20), (2, .int x_19), (0, .ref (q 0)), (1, .int x1)]) hx hb dX0_losses_39 hl (k := 3) rfl (by rw [ex_20]; rfl) (by decide) rfl (fun ls hl => ?_)
        refine lv_goto (tgt := 14) hx hb dX0_losses_42 (by decide) ?_
        exact ih _ _ _ _ _ _ _ hF hw hS (lv_sub hl [2, 3, 1, 0] rfl)
      · have hF := if_e hF c_18
        refine lv_iconst (v := (1 : Int32)) hx hb dX0_losses_30 (by decide) ?_
        refine lv_iload_n hx hb dX0_losses_31 rfl (lv_at hl 3 rfl) ?_
        refine lv_ishl hx hb dX0_losses_32 ?_
        refine lv_goto (tgt := 37) hx hb dX0_losses_33 (by decide) ?_
        refine lv_ior hx hb dX0_losses_37 ?_
        obtain ⟨x_21, ex_21, hF⟩ := nm_e2 hF
        refine r_topi ex_21 ?_
        refine lv_istore_n (lv' := [(2, .int x_21), (0, .ref (q 0)), (1, .int x1), (3, .int x3)]) hx hb dX0_losses_38 rfl hl (by decide) rfl (fun ls hl => ?_)
        obtain ⟨x_22, ex_22, hF⟩ := nm_e2 hF
        refine lv_iinc (v := x_22) (lv' := [(3, .int x_22), (2, .int x_21), (0, .ref (q 0)), (1, .int x1)]) hx hb dX0_losses_39 hl (k := 3) rfl (by rw [ex_22]; rfl) (by decide) rfl (fun ls hl => ?_)
        refine lv_goto (tgt := 14) hx hb dX0_losses_42 (by decide) ?_
        exact ih _ _ _ _ _ _ _ hF hw hS (lv_sub hl [2, 3, 1, 0] rfl)
noncomputable def F_X0_losses (N : Nat) (x1 : Int32) (σ : SS) : Option (Int32 × SS) :=
  bd (F_X0_isWheel N x1 σ) fun r_23 σ_24 =>
  if r_23 = (0 : Int32) then
    some ((-1 : Int32), σ_24)
  else
    F_X0_losses_14 N N x1 (0 : Int32) (0 : Int32) σ_24
set_option maxRecDepth 100000 in
theorem met_X0_losses (l : Launch) (G : GG) (rd : Bool) (q : Nat → Nat) {N : Nat} {x1 : Int32} {σ σ' : SS} {r : Int32} (hF : F_X0_losses N x1 σ = some (r, σ')) : Met l yX0_losses (ws_ yX0_losses cX0_losses 4 (some .int)) rmX0_losses (pcx G rd q σ [.ref (q 0), .int x1]) (qxi G rd q σ' r) 0 0 (fa G) := by
  refine met_of (by decide) (Nat.le_of_ble_eq_true rfl) ?_
  intro p e s m below meth c C H locs ls hw hS hl
  obtain ⟨hx, hb, hml, hown, hts, -, -, -, -⟩ := id C
  have hl : lv_has ls 4 [(0, .ref (q 0)), (1, .int x1)] := hl
  unfold F_X0_losses at hF
  refine lv_aload_n hx hb dX0_losses_0 rfl (lv_at hl 0 rfl) ?_
  refine lv_iload_n hx hb dX0_losses_1 rfl (lv_at hl 1 rfl) ?_
  obtain ⟨r_23, σ_24, h_25, hF⟩ := bd_e hF
  refine r_callVi (As := [.int x1]) (rest := []) (i := 0) C hw hS (wi_lo (Or.inl (by decide))) rfl (ci := 0) rfl (met_X0_isWheel l G rd q  h_25) (cwV 1 hts (lw_V q552 q554 qs10 q57 q555) rfl rfl rfl (by decide +kernel) ⟨Nat.le_of_ble_eq_true rfl, Nat.le_of_ble_eq_true rfl⟩) rfl hl.1 rfl (Nat.le_of_ble_eq_true rfl) ⟨Nat.le_refl _, Nat.le_refl _⟩ dX0_losses_2 (fun H locs hw hS => ?_)
  refine lv_if_ne (tgt := 10) hx hb dX0_losses_5 (by decide) (fun c_26 => ?_) (fun c_26 => ?_)
  · have hF := if_e hF c_26
    refine lv_iconst (v := (0 : Int32)) hx hb dX0_losses_10 (by decide) ?_
    refine lv_istore_n (lv' := [(2, .int (0 : Int32)), (0, .ref (q 0)), (1, .int x1)]) hx hb dX0_losses_11 rfl hl (by decide) rfl (fun ls hl => ?_)
    refine lv_iconst (v := (0 : Int32)) hx hb dX0_losses_12 (by decide) ?_
    refine lv_istore_n (lv' := [(3, .int (0 : Int32)), (2, .int (0 : Int32)), (0, .ref (q 0)), (1, .int x1)]) hx hb dX0_losses_13 rfl hl (by decide) rfl (fun ls hl => ?_)
    exact w_X0_losses_14 C   N _ _ _ _ _ _ _ hF hw hS (lv_sub hl [2, 3, 1, 0] rfl)
  · have hF := it_e hF c_26
    refine lv_iconst (v := (-1 : Int32)) hx hb dX0_losses_8 (by decide) ?_
    exact r_iret C hw hS hF dX0_losses_9
