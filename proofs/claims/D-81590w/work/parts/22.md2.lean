/-! lifted: FlyWheelsModel (2) -/
set_option maxRecDepth 100000
abbrev rmX8_numbersAt : Room := { frames := 5, cells := 0, slots := 0, locals := 162 }
noncomputable def B_X8_numbersAt_14 (N : Nat) (IH : Int32 → Int32 → Int32 → Int32 → Int32 → Int32 → SS → Option (Int32 × SS)) (x1 : Int32) (x2 : Int32) (x3 : Int32) (x4 : Int32) (x5 : Int32) (x6 : Int32) (σ : SS) : Option (Int32 × SS) :=
  if x3 ≤ x6 then
    gd (inR x1 234) <|
    nm (si σ 21 x1.toNatClampNeg x4) fun σ_18 =>
    some (x5, σ_18)
  else
    gd (inR x1 234) <|
    nm (si σ 21 x1.toNatClampNeg x6) fun σ_20 =>
    bd (F_X8_isAsSeen N x6 x2 σ_20) fun r_21 σ_22 =>
    if r_21 = (0 : Int32) then
      nm (x5 ||| (0 : Int32)) fun x_25 =>
      nm (x6 + (1 : Int32)) fun x_26 =>
      IH x1 x2 x3 x4 x_25 x_26 σ_22
    else
      nm (x5 ||| ((1 : Int32) <<< (x6 &&& 31))) fun x_27 =>
      nm (x6 + (1 : Int32)) fun x_28 =>
      IH x1 x2 x3 x4 x_27 x_28 σ_22
noncomputable def F_X8_numbersAt_14 (N : Nat) (n : Nat) : Int32 → Int32 → Int32 → Int32 → Int32 → Int32 → SS → Option (Int32 × SS) := Nat.rec (fun _ _ _ _ _ _ _ => none) (fun _ IH => B_X8_numbersAt_14 N IH) n
set_option maxRecDepth 100000 in
theorem w_X8_numbersAt_14 {p : Program} {l : Launch} {e : Env} {s : State} {m : MethodId} {args : Array Value} {below : List Frame} {meth : Method} {c : Code} {G : GG} {rd : Bool} {q : Nat → Nat} {N : Nat} {r : Int32} {σ' : SS} (C : cx p s m args meth c cX8_numbersAt 7 RX8 (some .int) G) : ∀ (n : Nat), ∀ (x1 : Int32) (x2 : Int32) (x3 : Int32) (x4 : Int32) (x5 : Int32) (x6 : Int32) (σ : SS) (H : Heap) (locs : List Loc) (ls : Array Slot), F_X8_numbersAt_14 N n x1 x2 x3 x4 x5 x6 σ = some (r, σ') → wx G rd q σ H → va_S (fa G) s.heap H locs → lv_has ls 7 [(0, .ref (q 1)), (1, .int x1), (2, .int x2), (3, .int x3), (4, .int x4), (5, .int x5), (6, .int x6)] → W p l e rmX8_numbersAt s m args below meth c H locs 0 0 (MQ below (qxi G rd q σ' r) args s 0 0 (fa G)) (F0 m 14 ls []) := by
  obtain ⟨hx, hb, hml, hown, hts, -, -, -, -⟩ := id C
  intro n
  induction n with
  | zero =>
    intro x1 x2 x3 x4 x5 x6 σ H locs ls hF hw hS hl
    cases hF
  | succ n ih =>
    intro x1 x2 x3 x4 x5 x6 σ H locs ls hF hw hS hl
    have hF : B_X8_numbersAt_14 N (F_X8_numbersAt_14 N n) x1 x2 x3 x4 x5 x6 σ = some (r, σ') := hF
    unfold B_X8_numbersAt_14 at hF
    refine lv_iload hx hb dX8_numbersAt_14 (lv_at hl 6 rfl) ?_
    refine lv_iload_n hx hb dX8_numbersAt_16 rfl (lv_at hl 3 rfl) ?_
    refine lv_icmp_ge (tgt := 57) hx hb dX8_numbersAt_17 (by decide) (fun c_16 => ?_) (fun c_16 => ?_)
    · have hF := it_e hF c_16
      refine lv_aload_n hx hb dX8_numbersAt_57 rfl (lv_at hl 0 rfl) ?_
      refine r_get8 C hw 0 (by decide) rfl (v := .ref (q 21)) rfl q955 dX8_numbersAt_58 ?_
      refine lv_iload_n hx hb dX8_numbersAt_61 rfl (lv_at hl 1 rfl) ?_
      refine lv_iload hx hb dX8_numbersAt_62 (lv_at hl 4 rfl) ?_
      obtain ⟨h_17, hF⟩ := gd_e hF
      obtain ⟨σ_18, eσ_18, hF⟩ := nm_e2 hF
      refine r_iast (i := 21) (n := 234) (g := 21) (st := 0) C hw hS (wi_lo (Or.inr ⟨by decide, by decide⟩)) rfl (fun _ => ho_lo (by decide)) h_17 dX8_numbersAt_64 eσ_18 (fun H locs hw hS => ?_)
      refine lv_iload hx hb dX8_numbersAt_65 (lv_at hl 5 rfl) ?_
      exact r_iret C hw hS hF dX8_numbersAt_67
    · have hF := if_e hF c_16
      refine lv_aload_n hx hb dX8_numbersAt_20 rfl (lv_at hl 0 rfl) ?_
      refine r_get8 C hw 0 (by decide) rfl (v := .ref (q 21)) rfl q955 dX8_numbersAt_21 ?_
      refine lv_iload_n hx hb dX8_numbersAt_24 rfl (lv_at hl 1 rfl) ?_
      refine lv_iload hx hb dX8_numbersAt_25 (lv_at hl 6 rfl) ?_
      obtain ⟨h_19, hF⟩ := gd_e hF
      obtain ⟨σ_20, eσ_20, hF⟩ := nm_e2 hF
      refine r_iast (i := 21) (n := 234) (g := 21) (st := 0) C hw hS (wi_lo (Or.inr ⟨by decide, by decide⟩)) rfl (fun _ => ho_lo (by decide)) h_19 dX8_numbersAt_27 eσ_20 (fun H locs hw hS => ?_)
      refine lv_iload hx hb dX8_numbersAt_28 (lv_at hl 5 rfl) ?_
      refine lv_aload_n hx hb dX8_numbersAt_30 rfl (lv_at hl 0 rfl) ?_
      refine lv_iload hx hb dX8_numbersAt_31 (lv_at hl 6 rfl) ?_
      refine lv_iload_n hx hb dX8_numbersAt_33 rfl (lv_at hl 2 rfl) ?_
      obtain ⟨r_21, σ_22, h_23, hF⟩ := bd_e hF
      refine r_callVi (As := [.int x6, .int x2]) (rest := [.int x5]) (i := 1) C hw hS (wi_lo (Or.inl (by decide))) rfl (ci := 8) rfl (met_X8_isAsSeen l G rd q  h_23) (cwV 2 hts (lw_V q1280 q1282 qs54 q65 q1283) rfl rfl rfl (by decide +kernel) ⟨Nat.le_of_ble_eq_true rfl, Nat.le_of_ble_eq_true rfl⟩) rfl hl.1 rfl (Nat.le_of_ble_eq_true rfl) ⟨Nat.le_refl _, Nat.le_refl _⟩ dX8_numbersAt_34 (fun H locs hw hS => ?_)
      refine lv_if_eq (tgt := 47) hx hb dX8_numbersAt_37 (by decide) (fun c_24 => ?_) (fun c_24 => ?_)
      · have hF := it_e hF c_24
        refine lv_iconst (v := (0 : Int32)) hx hb dX8_numbersAt_47 (by decide) ?_
        refine lv_ior hx hb dX8_numbersAt_48 ?_
        obtain ⟨x_25, ex_25, hF⟩ := nm_e2 hF
        refine r_topi ex_25 ?_
        refine lv_istore (lv' := [(5, .int x_25), (0, .ref (q 1)), (1, .int x1), (2, .int x2), (3, .int x3), (4, .int x4), (6, .int x6)]) hx hb dX8_numbersAt_49 hl (by decide) rfl (fun ls hl => ?_)
        obtain ⟨x_26, ex_26, hF⟩ := nm_e2 hF
        refine lv_iinc (v := x_26) (lv' := [(6, .int x_26), (5, .int x_25), (0, .ref (q 1)), (1, .int x1), (2, .int x2), (3, .int x3), (4, .int x4)]) hx hb dX8_numbersAt_51 hl (k := 6) rfl (by rw [ex_26]; rfl) (by decide) rfl (fun ls hl => ?_)
        refine lv_goto (tgt := 14) hx hb dX8_numbersAt_54 (by decide) ?_
        exact ih _ _ _ _ _ _ _ _ _ _ hF hw hS (lv_sub hl [2, 3, 4, 5, 6, 1, 0] rfl)
      · have hF := if_e hF c_24
        refine lv_iconst (v := (1 : Int32)) hx hb dX8_numbersAt_40 (by decide) ?_
        refine lv_iload hx hb dX8_numbersAt_41 (lv_at hl 6 rfl) ?_
        refine lv_ishl hx hb dX8_numbersAt_43 ?_
        refine lv_goto (tgt := 48) hx hb dX8_numbersAt_44 (by decide) ?_
        refine lv_ior hx hb dX8_numbersAt_48 ?_
        obtain ⟨x_27, ex_27, hF⟩ := nm_e2 hF
        refine r_topi ex_27 ?_
        refine lv_istore (lv' := [(5, .int x_27), (0, .ref (q 1)), (1, .int x1), (2, .int x2), (3, .int x3), (4, .int x4), (6, .int x6)]) hx hb dX8_numbersAt_49 hl (by decide) rfl (fun ls hl => ?_)
        obtain ⟨x_28, ex_28, hF⟩ := nm_e2 hF
        refine lv_iinc (v := x_28) (lv' := [(6, .int x_28), (5, .int x_27), (0, .ref (q 1)), (1, .int x1), (2, .int x2), (3, .int x3), (4, .int x4)]) hx hb dX8_numbersAt_51 hl (k := 6) rfl (by rw [ex_28]; rfl) (by decide) rfl (fun ls hl => ?_)
        refine lv_goto (tgt := 14) hx hb dX8_numbersAt_54 (by decide) ?_
        exact ih _ _ _ _ _ _ _ _ _ _ hF hw hS (lv_sub hl [2, 3, 4, 5, 6, 1, 0] rfl)
noncomputable def F_X8_numbersAt (N : Nat) (x1 : Int32) (x2 : Int32) (x3 : Int32) (σ : SS) : Option (Int32 × SS) :=
  gd (inR x1 234) <|
  nm (gi σ 21 x1.toNatClampNeg) fun x_30 =>
  F_X8_numbersAt_14 N N x1 x2 x3 x_30 (0 : Int32) (0 : Int32) σ
set_option maxRecDepth 100000 in
theorem met_X8_numbersAt (l : Launch) (G : GG) (rd : Bool) (q : Nat → Nat) {N : Nat} {x1 : Int32} {x2 : Int32} {x3 : Int32} {σ σ' : SS} {r : Int32} (hF : F_X8_numbersAt N x1 x2 x3 σ = some (r, σ')) : Met l yX8_numbersAt (ws_ yX8_numbersAt cX8_numbersAt 7 (some .int)) rmX8_numbersAt (pcx G rd q σ [.ref (q 1), .int x1, .int x2, .int x3]) (qxi G rd q σ' r) 0 0 (fa G) := by
  refine met_of (by decide) (Nat.le_of_ble_eq_true rfl) ?_
  intro p e s m below meth c C H locs ls hw hS hl
  obtain ⟨hx, hb, hml, hown, hts, -, -, -, -⟩ := id C
  have hl : lv_has ls 7 [(0, .ref (q 1)), (1, .int x1), (2, .int x2), (3, .int x3)] := hl
  unfold F_X8_numbersAt at hF
  refine lv_aload_n hx hb dX8_numbersAt_0 rfl (lv_at hl 0 rfl) ?_
  refine r_get8 C hw 0 (by decide) rfl (v := .ref (q 21)) rfl q955 dX8_numbersAt_1 ?_
  refine lv_iload_n hx hb dX8_numbersAt_4 rfl (lv_at hl 1 rfl) ?_
  obtain ⟨h_29, hF⟩ := gd_e hF
  refine r_iald (i := 21) (n := 234) (g := 21) (st := 0) C hw (wi_lo (Or.inr ⟨by decide, by decide⟩)) rfl h_29 dX8_numbersAt_5 ?_
  obtain ⟨x_30, ex_30, hF⟩ := nm_e2 hF
  refine r_topi ex_30 ?_
  refine lv_istore (lv' := [(4, .int x_30), (0, .ref (q 1)), (1, .int x1), (2, .int x2), (3, .int x3)]) hx hb dX8_numbersAt_6 hl (by decide) rfl (fun ls hl => ?_)
  refine lv_iconst (v := (0 : Int32)) hx hb dX8_numbersAt_8 (by decide) ?_
  refine lv_istore (lv' := [(5, .int (0 : Int32)), (4, .int x_30), (0, .ref (q 1)), (1, .int x1), (2, .int x2), (3, .int x3)]) hx hb dX8_numbersAt_9 hl (by decide) rfl (fun ls hl => ?_)
  refine lv_iconst (v := (0 : Int32)) hx hb dX8_numbersAt_11 (by decide) ?_
  refine lv_istore (lv' := [(6, .int (0 : Int32)), (5, .int (0 : Int32)), (4, .int x_30), (0, .ref (q 1)), (1, .int x1), (2, .int x2), (3, .int x3)]) hx hb dX8_numbersAt_12 hl (by decide) rfl (fun ls hl => ?_)
  exact w_X8_numbersAt_14 C   N _ _ _ _ _ _ _ _ _ _ hF hw hS (lv_sub hl [3, 4, 5, 6, 2, 1, 0] rfl)
abbrev rmX8_worstAt : Room := { frames := 1, cells := 0, slots := 0, locals := 60 }
noncomputable def F_X8_worstAt_88 (N : Nat) (K5 : Int32 → Int32 → Int32 → Int32 → SS → Option (Int32 × SS)) (x1 : Int32) (x2 : Int32) (x3 : Int32) (x4 : Int32) (x5 : Int32) (σ : SS) : Option (Int32 × SS) :=
  if x5 ≤ x3 then
    nm (x4 + (1 : Int32)) fun x_16 =>
    K5 x1 x2 x3 x_16 σ
  else
    nm (x4 + (1 : Int32)) fun x_17 =>
    K5 x1 x2 x5 x_17 σ
set_option maxRecDepth 100000 in
theorem w_X8_worstAt_88 {p : Program} {l : Launch} {e : Env} {s : State} {m : MethodId} {args : Array Value} {below : List Frame} {meth : Method} {c : Code} {G : GG} {rd : Bool} {q : Nat → Nat} {N : Nat} {r : Int32} {σ' : SS} (C : cx p s m args meth c cX8_worstAt 7 RX8 (some .int) G) {K5 : Int32 → Int32 → Int32 → Int32 → SS → Option (Int32 × SS)} (HK5 : ∀ (x1 : Int32) (x2 : Int32) (x3 : Int32) (x4 : Int32) (σ : SS) (H : Heap) (locs : List Loc) (ls : Array Slot), K5 x1 x2 x3 x4 σ = some (r, σ') → wx G rd q σ H → va_S (fa G) s.heap H locs → lv_has ls 7 [(0, .ref (q 1)), (1, .int x1), (2, .int x2), (3, .int x3), (4, .int x4)] → W p l e rmX8_worstAt s m args below meth c H locs 0 0 (MQ below (qxi G rd q σ' r) args s 0 0 (fa G)) (F0 m 5 ls [])) : ∀ (x1 : Int32) (x2 : Int32) (x3 : Int32) (x4 : Int32) (x5 : Int32) (σ : SS) (H : Heap) (locs : List Loc) (ls : Array Slot), F_X8_worstAt_88 N K5 x1 x2 x3 x4 x5 σ = some (r, σ') → wx G rd q σ H → va_S (fa G) s.heap H locs → lv_has ls 7 [(0, .ref (q 1)), (1, .int x1), (2, .int x2), (3, .int x3), (4, .int x4), (5, .int x5)] → W p l e rmX8_worstAt s m args below meth c H locs 0 0 (MQ below (qxi G rd q σ' r) args s 0 0 (fa G)) (F0 m 88 ls []) := by
  obtain ⟨hx, hb, hml, hown, hts, -, -, -, -⟩ := id C
  intro x1 x2 x3 x4 x5 σ H locs ls hF hw hS hl
  unfold F_X8_worstAt_88 at hF
  refine lv_iload hx hb dX8_worstAt_88 (lv_at hl 5 rfl) ?_
  refine lv_iload_n hx hb dX8_worstAt_90 rfl (lv_at hl 3 rfl) ?_
  refine lv_icmp_le (tgt := 99) hx hb dX8_worstAt_91 (by decide) (fun c_15 => ?_) (fun c_15 => ?_)
  · have hF := it_e hF c_15
    refine lv_iload_n hx hb dX8_worstAt_99 rfl (lv_at hl 3 rfl) ?_
    refine lv_istore_n (lv' := [(3, .int x3), (0, .ref (q 1)), (1, .int x1), (2, .int x2), (4, .int x4), (5, .int x5)]) hx hb dX8_worstAt_100 rfl hl (by decide) rfl (fun ls hl => ?_)
    obtain ⟨x_16, ex_16, hF⟩ := nm_e2 hF
    refine lv_iinc (v := x_16) (lv' := [(4, .int x_16), (3, .int x3), (0, .ref (q 1)), (1, .int x1), (2, .int x2), (5, .int x5)]) hx hb dX8_worstAt_101 hl (k := 4) rfl (by rw [ex_16]; rfl) (by decide) rfl (fun ls hl => ?_)
    refine lv_goto (tgt := 5) hx hb dX8_worstAt_104 (by decide) ?_
    exact HK5 _ _ _ _ _ _ _ _ hF hw hS (lv_sub hl [2, 3, 4, 1, 0] rfl)
  · have hF := if_e hF c_15
    refine lv_iload hx hb dX8_worstAt_94 (lv_at hl 5 rfl) ?_
    refine lv_goto (tgt := 100) hx hb dX8_worstAt_96 (by decide) ?_
    refine lv_istore_n (lv' := [(3, .int x5), (0, .ref (q 1)), (1, .int x1), (2, .int x2), (4, .int x4), (5, .int x5)]) hx hb dX8_worstAt_100 rfl hl (by decide) rfl (fun ls hl => ?_)
    obtain ⟨x_17, ex_17, hF⟩ := nm_e2 hF
    refine lv_iinc (v := x_17) (lv' := [(4, .int x_17), (3, .int x5), (0, .ref (q 1)), (1, .int x1), (2, .int x2), (5, .int x5)]) hx hb dX8_worstAt_101 hl (k := 4) rfl (by rw [ex_17]; rfl) (by decide) rfl (fun ls hl => ?_)
    refine lv_goto (tgt := 5) hx hb dX8_worstAt_104 (by decide) ?_
    exact HK5 _ _ _ _ _ _ _ _ hF hw hS (lv_sub hl [2, 3, 4, 1, 0] rfl)
noncomputable def F_X8_worstAt_78 (N : Nat) (K5 : Int32 → Int32 → Int32 → Int32 → SS → Option (Int32 × SS)) (K18 : Int32 → Int32 → Int32 → Int32 → Int32 → Int32 → SS → Option (Int32 × SS)) (x1 : Int32) (x2 : Int32) (x3 : Int32) (x4 : Int32) (x6 : Int32) (z0 : Int32) (σ : SS) : Option (Int32 × SS) :=
  nm (z0 + (0 : Int32)) fun x_18 =>
  nm (x6 + (1 : Int32)) fun x_19 =>
  K18 x1 x2 x3 x4 x_18 x_19 σ
set_option maxRecDepth 100000 in
theorem w_X8_worstAt_78 {p : Program} {l : Launch} {e : Env} {s : State} {m : MethodId} {args : Array Value} {below : List Frame} {meth : Method} {c : Code} {G : GG} {rd : Bool} {q : Nat → Nat} {N : Nat} {r : Int32} {σ' : SS} (C : cx p s m args meth c cX8_worstAt 7 RX8 (some .int) G) {K5 : Int32 → Int32 → Int32 → Int32 → SS → Option (Int32 × SS)} (HK5 : ∀ (x1 : Int32) (x2 : Int32) (x3 : Int32) (x4 : Int32) (σ : SS) (H : Heap) (locs : List Loc) (ls : Array Slot), K5 x1 x2 x3 x4 σ = some (r, σ') → wx G rd q σ H → va_S (fa G) s.heap H locs → lv_has ls 7 [(0, .ref (q 1)), (1, .int x1), (2, .int x2), (3, .int x3), (4, .int x4)] → W p l e rmX8_worstAt s m args below meth c H locs 0 0 (MQ below (qxi G rd q σ' r) args s 0 0 (fa G)) (F0 m 5 ls [])) {K18 : Int32 → Int32 → Int32 → Int32 → Int32 → Int32 → SS → Option (Int32 × SS)} (HK18 : ∀ (x1 : Int32) (x2 : Int32) (x3 : Int32) (x4 : Int32) (x5 : Int32) (x6 : Int32) (σ : SS) (H : Heap) (locs : List Loc) (ls : Array Slot), K18 x1 x2 x3 x4 x5 x6 σ = some (r, σ') → wx G rd q σ H → va_S (fa G) s.heap H locs → lv_has ls 7 [(0, .ref (q 1)), (1, .int x1), (2, .int x2), (3, .int x3), (4, .int x4), (5, .int x5), (6, .int x6)] → W p l e rmX8_worstAt s m args below meth c H locs 0 0 (MQ below (qxi G rd q σ' r) args s 0 0 (fa G)) (F0 m 18 ls [])) : ∀ (x1 : Int32) (x2 : Int32) (x3 : Int32) (x4 : Int32) (x6 : Int32) (z0 : Int32) (σ : SS) (H : Heap) (locs : List Loc) (ls : Array Slot), F_X8_worstAt_78 N K5 K18 x1 x2 x3 x4 x6 z0 σ = some (r, σ') → wx G rd q σ H → va_S (fa G) s.heap H locs → lv_has ls 7 [(0, .ref (q 1)), (1, .int x1), (2, .int x2), (3, .int x3), (4, .int x4), (6, .int x6)] → W p l e rmX8_worstAt s m args below meth c H locs 0 0 (MQ below (qxi G rd q σ' r) args s 0 0 (fa G)) (F0 m 78 ls [.int z0]) := by
  obtain ⟨hx, hb, hml, hown, hts, -, -, -, -⟩ := id C
  intro x1 x2 x3 x4 x6 z0 σ H locs ls hF hw hS hl
  unfold F_X8_worstAt_78 at hF
  refine lv_iconst (v := (0 : Int32)) hx hb dX8_worstAt_78 (by decide) ?_
  refine lv_iadd hx hb dX8_worstAt_79 ?_
  obtain ⟨x_18, ex_18, hF⟩ := nm_e2 hF
  refine r_topi ex_18 ?_
  refine lv_istore (lv' := [(5, .int x_18), (0, .ref (q 1)), (1, .int x1), (2, .int x2), (3, .int x3), (4, .int x4), (6, .int x6)]) hx hb dX8_worstAt_80 hl (by decide) rfl (fun ls hl => ?_)
  obtain ⟨x_19, ex_19, hF⟩ := nm_e2 hF
  refine lv_iinc (v := x_19) (lv' := [(6, .int x_19), (5, .int x_18), (0, .ref (q 1)), (1, .int x1), (2, .int x2), (3, .int x3), (4, .int x4)]) hx hb dX8_worstAt_82 hl (k := 6) rfl (by rw [ex_19]; rfl) (by decide) rfl (fun ls hl => ?_)
  refine lv_goto (tgt := 18) hx hb dX8_worstAt_85 (by decide) ?_
  exact HK18 _ _ _ _ _ _ _ _ _ _ hF hw hS (lv_sub hl [2, 3, 4, 5, 6, 1, 0] rfl)
noncomputable def B_X8_worstAt_18 (N : Nat) (K5 : Int32 → Int32 → Int32 → Int32 → SS → Option (Int32 × SS)) (IH : Int32 → Int32 → Int32 → Int32 → Int32 → Int32 → SS → Option (Int32 × SS)) (x1 : Int32) (x2 : Int32) (x3 : Int32) (x4 : Int32) (x5 : Int32) (x6 : Int32) (σ : SS) : Option (Int32 × SS) :=
  if (9 : Int32) < x6 then
    F_X8_worstAt_88 N K5 x1 x2 x3 x4 x5 σ
  else
    if ((x1 >>> (x4 &&& 31)) &&& (1 : Int32)) = (1 : Int32) then
      if ((x1 >>> (x6 &&& 31)) &&& (1 : Int32)) = (1 : Int32) then
        gd (inR (((41 : Int32) * x4) + x2) 410) <|
        gd (inR (((41 : Int32) * x6) + x2) 410) <|
        if (gi σ 27 (((41 : Int32) * x4) + x2).toNatClampNeg) = (gi σ 27 (((41 : Int32) * x6) + x2).toNatClampNeg) then
          nm (x5 + (1 : Int32)) fun x_26 =>
          nm (x6 + (1 : Int32)) fun x_27 =>
          IH x1 x2 x3 x4 x_26 x_27 σ
        else
          F_X8_worstAt_78 N K5 IH x1 x2 x3 x4 x6 x5 σ
      else
        F_X8_worstAt_78 N K5 IH x1 x2 x3 x4 x6 x5 σ
    else
      F_X8_worstAt_88 N K5 x1 x2 x3 x4 x5 σ
noncomputable def F_X8_worstAt_18 (N : Nat) (K5 : Int32 → Int32 → Int32 → Int32 → SS → Option (Int32 × SS)) (n : Nat) : Int32 → Int32 → Int32 → Int32 → Int32 → Int32 → SS → Option (Int32 × SS) := Nat.rec (fun _ _ _ _ _ _ _ => none) (fun _ IH => B_X8_worstAt_18 N K5 IH) n
set_option maxRecDepth 100000 in
theorem w_X8_worstAt_18 {p : Program} {l : Launch} {e : Env} {s : State} {m : MethodId} {args : Array Value} {below : List Frame} {meth : Method} {c : Code} {G : GG} {rd : Bool} {q : Nat → Nat} {N : Nat} {r : Int32} {σ' : SS} (C : cx p s m args meth c cX8_worstAt 7 RX8 (some .int) G) {K5 : Int32 → Int32 → Int32 → Int32 → SS → Option (Int32 × SS)} (HK5 : ∀ (x1 : Int32) (x2 : Int32) (x3 : Int32) (x4 : Int32) (σ : SS) (H : Heap) (locs : List Loc) (ls : Array Slot), K5 x1 x2 x3 x4 σ = some (r, σ') → wx G rd q σ H → va_S (fa G) s.heap H locs → lv_has ls 7 [(0, .ref (q 1)), (1, .int x1), (2, .int x2), (3, .int x3), (4, .int x4)] → W p l e rmX8_worstAt s m args below meth c H locs 0 0 (MQ below (qxi G rd q σ' r) args s 0 0 (fa G)) (F0 m 5 ls [])) : ∀ (n : Nat), ∀ (x1 : Int32) (x2 : Int32) (x3 : Int32) (x4 : Int32) (x5 : Int32) (x6 : Int32) (σ : SS) (H : Heap) (locs : List Loc) (ls : Array Slot), F_X8_worstAt_18 N K5 n x1 x2 x3 x4 x5 x6 σ = some (r, σ') → wx G rd q σ H → va_S (fa G) s.heap H locs → lv_has ls 7 [(0, .ref (q 1)), (1, .int x1), (2, .int x2), (3, .int x3), (4, .int x4), (5, .int x5), (6, .int x6)] → W p l e rmX8_worstAt s m args below meth c H locs 0 0 (MQ below (qxi G rd q σ' r) args s 0 0 (fa G)) (F0 m 18 ls []) := by
  obtain ⟨hx, hb, hml, hown, hts, -, -, -, -⟩ := id C
  intro n
  induction n with
  | zero =>
    intro x1 x2 x3 x4 x5 x6 σ H locs ls hF hw hS hl
    cases hF
  | succ n ih =>
    intro x1 x2 x3 x4 x5 x6 σ H locs ls hF hw hS hl
    have hF : B_X8_worstAt_18 N K5 (F_X8_worstAt_18 N K5 n) x1 x2 x3 x4 x5 x6 σ = some (r, σ') := hF
    unfold B_X8_worstAt_18 at hF
    refine lv_iload hx hb dX8_worstAt_18 (lv_at hl 6 rfl) ?_
    refine lv_bipush (v := (9 : Int32)) hx hb dX8_worstAt_20 (by decide) ?_
    refine lv_icmp_gt (tgt := 88) hx hb dX8_worstAt_22 (by decide) (fun c_20 => ?_) (fun c_20 => ?_)
    · have hF := it_e hF c_20
      exact w_X8_worstAt_88 C  HK5 _ _ _ _ _ _ _ _ _ hF hw hS (lv_sub hl [0, 1, 2, 3, 4, 5] rfl)
    · have hF := if_e hF c_20
      refine lv_iload_n hx hb dX8_worstAt_25 rfl (lv_at hl 1 rfl) ?_
      refine lv_iload hx hb dX8_worstAt_26 (lv_at hl 4 rfl) ?_
      refine lv_ishr hx hb dX8_worstAt_28 ?_
      refine lv_iconst (v := (1 : Int32)) hx hb dX8_worstAt_29 (by decide) ?_
      refine lv_iand hx hb dX8_worstAt_30 ?_
      refine lv_iconst (v := (1 : Int32)) hx hb dX8_worstAt_31 (by decide) ?_
      refine lv_icmp_ne (tgt := 88) hx hb dX8_worstAt_32 (by decide) (fun c_21 => ?_) (fun c_21 => ?_)
      · have hF := if_e hF c_21
        exact w_X8_worstAt_88 C  HK5 _ _ _ _ _ _ _ _ _ hF hw hS (lv_sub hl [0, 1, 2, 3, 4, 5] rfl)
      · have hF := it_e hF c_21
        refine lv_iload hx hb dX8_worstAt_35 (lv_at hl 5 rfl) ?_
        refine lv_iload_n hx hb dX8_worstAt_37 rfl (lv_at hl 1 rfl) ?_
        refine lv_iload hx hb dX8_worstAt_38 (lv_at hl 6 rfl) ?_
        refine lv_ishr hx hb dX8_worstAt_40 ?_
        refine lv_iconst (v := (1 : Int32)) hx hb dX8_worstAt_41 (by decide) ?_
        refine lv_iand hx hb dX8_worstAt_42 ?_
        refine lv_iconst (v := (1 : Int32)) hx hb dX8_worstAt_43 (by decide) ?_
        refine lv_icmp_ne (tgt := 78) hx hb dX8_worstAt_44 (by decide) (fun c_22 => ?_) (fun c_22 => ?_)
        · have hF := if_e hF c_22
          exact w_X8_worstAt_78 C  HK5 ih _ _ _ _ _ _ _ _ _ _ hF hw hS (lv_sub hl [0, 1, 2, 3, 4, 6] rfl)
        · have hF := it_e hF c_22
          refine lv_aload_n hx hb dX8_worstAt_47 rfl (lv_at hl 0 rfl) ?_
          refine r_get8 C hw 20 (by decide) rfl (v := .ref (q 27)) rfl q975 dX8_worstAt_48 ?_
          refine lv_bipush (v := (41 : Int32)) hx hb dX8_worstAt_51 (by decide) ?_
          refine lv_iload hx hb dX8_worstAt_53 (lv_at hl 4 rfl) ?_
          refine lv_imul hx hb dX8_worstAt_55 ?_
          refine lv_iload_n hx hb dX8_worstAt_56 rfl (lv_at hl 2 rfl) ?_
          refine lv_iadd hx hb dX8_worstAt_57 ?_
          obtain ⟨h_23, hF⟩ := gd_e hF
          refine r_iald (i := 27) (n := 410) (g := 27) (st := 0) C hw (wi_lo (Or.inr ⟨by decide, by decide⟩)) rfl h_23 dX8_worstAt_58 ?_
          refine lv_aload_n hx hb dX8_worstAt_59 rfl (lv_at hl 0 rfl) ?_
          refine r_get8 C hw 20 (by decide) rfl (v := .ref (q 27)) rfl q975 dX8_worstAt_60 ?_
          refine lv_bipush (v := (41 : Int32)) hx hb dX8_worstAt_63 (by decide) ?_
          refine lv_iload hx hb dX8_worstAt_65 (lv_at hl 6 rfl) ?_
          refine lv_imul hx hb dX8_worstAt_67 ?_
          refine lv_iload_n hx hb dX8_worstAt_68 rfl (lv_at hl 2 rfl) ?_
          refine lv_iadd hx hb dX8_worstAt_69 ?_
          obtain ⟨h_24, hF⟩ := gd_e hF
          refine r_iald (i := 27) (n := 410) (g := 27) (st := 0) C hw (wi_lo (Or.inr ⟨by decide, by decide⟩)) rfl h_24 dX8_worstAt_70 ?_
          refine lv_icmp_ne (tgt := 78) hx hb dX8_worstAt_71 (by decide) (fun c_25 => ?_) (fun c_25 => ?_)
          · have hF := if_e hF c_25
            exact w_X8_worstAt_78 C  HK5 ih _ _ _ _ _ _ _ _ _ _ hF hw hS (lv_sub hl [0, 1, 2, 3, 4, 6] rfl)
          · have hF := it_e hF c_25
            refine lv_iconst (v := (1 : Int32)) hx hb dX8_worstAt_74 (by decide) ?_
            refine lv_goto (tgt := 79) hx hb dX8_worstAt_75 (by decide) ?_
            refine lv_iadd hx hb dX8_worstAt_79 ?_
            obtain ⟨x_26, ex_26, hF⟩ := nm_e2 hF
            refine r_topi ex_26 ?_
            refine lv_istore (lv' := [(5, .int x_26), (0, .ref (q 1)), (1, .int x1), (2, .int x2), (3, .int x3), (4, .int x4), (6, .int x6)]) hx hb dX8_worstAt_80 hl (by decide) rfl (fun ls hl => ?_)
            obtain ⟨x_27, ex_27, hF⟩ := nm_e2 hF
            refine lv_iinc (v := x_27) (lv' := [(6, .int x_27), (5, .int x_26), (0, .ref (q 1)), (1, .int x1), (2, .int x2), (3, .int x3), (4, .int x4)]) hx hb dX8_worstAt_82 hl (k := 6) rfl (by rw [ex_27]; rfl) (by decide) rfl (fun ls hl => ?_)
            refine lv_goto (tgt := 18) hx hb dX8_worstAt_85 (by decide) ?_
            exact ih _ _ _ _ _ _ _ _ _ _ hF hw hS (lv_sub hl [2, 3, 4, 5, 6, 1, 0] rfl)
noncomputable def B_X8_worstAt_5 (N : Nat) (IH : Int32 → Int32 → Int32 → Int32 → SS → Option (Int32 × SS)) (x1 : Int32) (x2 : Int32) (x3 : Int32) (x4 : Int32) (σ : SS) : Option (Int32 × SS) :=
  if (9 : Int32) < x4 then
    some (x3, σ)
  else
    F_X8_worstAt_18 N IH N x1 x2 x3 x4 (0 : Int32) (0 : Int32) σ
noncomputable def F_X8_worstAt_5 (N : Nat) (n : Nat) : Int32 → Int32 → Int32 → Int32 → SS → Option (Int32 × SS) := Nat.rec (fun _ _ _ _ _ => none) (fun _ IH => B_X8_worstAt_5 N IH) n
set_option maxRecDepth 100000 in
theorem w_X8_worstAt_5 {p : Program} {l : Launch} {e : Env} {s : State} {m : MethodId} {args : Array Value} {below : List Frame} {meth : Method} {c : Code} {G : GG} {rd : Bool} {q : Nat → Nat} {N : Nat} {r : Int32} {σ' : SS} (C : cx p s m args meth c cX8_worstAt 7 RX8 (some .int) G) : ∀ (n : Nat), ∀ (x1 : Int32) (x2 : Int32) (x3 : Int32) (x4 : Int32) (σ : SS) (H : Heap) (locs : List Loc) (ls : Array Slot), F_X8_worstAt_5 N n x1 x2 x3 x4 σ = some (r, σ') → wx G rd q σ H → va_S (fa G) s.heap H locs → lv_has ls 7 [(0, .ref (q 1)), (1, .int x1), (2, .int x2), (3, .int x3), (4, .int x4)] → W p l e rmX8_worstAt s m args below meth c H locs 0 0 (MQ below (qxi G rd q σ' r) args s 0 0 (fa G)) (F0 m 5 ls []) := by
  obtain ⟨hx, hb, hml, hown, hts, -, -, -, -⟩ := id C
  intro n
  induction n with
  | zero =>
    intro x1 x2 x3 x4 σ H locs ls hF hw hS hl
    cases hF
  | succ n ih =>
    intro x1 x2 x3 x4 σ H locs ls hF hw hS hl
    have hF : B_X8_worstAt_5 N (F_X8_worstAt_5 N n) x1 x2 x3 x4 σ = some (r, σ') := hF
    unfold B_X8_worstAt_5 at hF
    refine lv_iload hx hb dX8_worstAt_5 (lv_at hl 4 rfl) ?_
    refine lv_bipush (v := (9 : Int32)) hx hb dX8_worstAt_7 (by decide) ?_
    refine lv_icmp_gt (tgt := 107) hx hb dX8_worstAt_9 (by decide) (fun c_28 => ?_) (fun c_28 => ?_)
    · have hF := it_e hF c_28
      refine lv_iload_n hx hb dX8_worstAt_107 rfl (lv_at hl 3 rfl) ?_
      exact r_iret C hw hS hF dX8_worstAt_108
    · have hF := if_e hF c_28
      refine lv_iconst (v := (0 : Int32)) hx hb dX8_worstAt_12 (by decide) ?_
      refine lv_istore (lv' := [(5, .int (0 : Int32)), (0, .ref (q 1)), (1, .int x1), (2, .int x2), (3, .int x3), (4, .int x4)]) hx hb dX8_worstAt_13 hl (by decide) rfl (fun ls hl => ?_)
      refine lv_iconst (v := (0 : Int32)) hx hb dX8_worstAt_15 (by decide) ?_
      refine lv_istore (lv' := [(6, .int (0 : Int32)), (5, .int (0 : Int32)), (0, .ref (q 1)), (1, .int x1), (2, .int x2), (3, .int x3), (4, .int x4)]) hx hb dX8_worstAt_16 hl (by decide) rfl (fun ls hl => ?_)
      exact w_X8_worstAt_18 C  ih N _ _ _ _ _ _ _ _ _ _ hF hw hS (lv_sub hl [2, 3, 4, 5, 6, 1, 0] rfl)
noncomputable def F_X8_worstAt (N : Nat) (x1 : Int32) (x2 : Int32) (σ : SS) : Option (Int32 × SS) :=
  F_X8_worstAt_5 N N x1 x2 (0 : Int32) (0 : Int32) σ
set_option maxRecDepth 100000 in
theorem met_X8_worstAt (l : Launch) (G : GG) (rd : Bool) (q : Nat → Nat) {N : Nat} {x1 : Int32} {x2 : Int32} {σ σ' : SS} {r : Int32} (hF : F_X8_worstAt N x1 x2 σ = some (r, σ')) : Met l yX8_worstAt (ws_ yX8_worstAt cX8_worstAt 7 (some .int)) rmX8_worstAt (pcx G rd q σ [.ref (q 1), .int x1, .int x2]) (qxi G rd q σ' r) 0 0 (fa G) := by
  refine met_of (by decide) (Nat.le_of_ble_eq_true rfl) ?_
  intro p e s m below meth c C H locs ls hw hS hl
  obtain ⟨hx, hb, hml, hown, hts, -, -, -, -⟩ := id C
  have hl : lv_has ls 7 [(0, .ref (q 1)), (1, .int x1), (2, .int x2)] := hl
  unfold F_X8_worstAt at hF
  refine lv_iconst (v := (0 : Int32)) hx hb dX8_worstAt_0 (by decide) ?_
  refine lv_istore_n (lv' := [(3, .int (0 : Int32)), (0, .ref (q 1)), (1, .int x1), (2, .int x2)]) hx hb dX8_worstAt_1 rfl hl (by decide) rfl (fun ls hl => ?_)
  refine lv_iconst (v := (0 : Int32)) hx hb dX8_worstAt_2 (by decide) ?_
  refine lv_istore (lv' := [(4, .int (0 : Int32)), (3, .int (0 : Int32)), (0, .ref (q 1)), (1, .int x1), (2, .int x2)]) hx hb dX8_worstAt_3 hl (by decide) rfl (fun ls hl => ?_)
  exact w_X8_worstAt_5 C   N _ _ _ _ _ _ _ _ hF hw hS (lv_sub hl [2, 3, 4, 1, 0] rfl)
abbrev rmX8_ask : Room := { frames := 6, cells := 0, slots := 0, locals := 188 }
noncomputable def F_X8_ask_99 (N : Nat) (K69 : Int32 → Int32 → Int32 → Int32 → Int32 → SS → Option (Int32 × SS)) (x2 : Int32) (x3 : Int32) (x4 : Int32) (x6 : Int32) (x7 : Int32) (z0 : Int32) (σ : SS) : Option (Int32 × SS) :=
  if x4 ≤ x7 then
    nm (x6 + (1 : Int32)) fun x_26 =>
    K69 x2 x3 x4 z0 x_26 σ
  else
    nm (x6 + (1 : Int32)) fun x_27 =>
    K69 x2 x3 x7 z0 x_27 σ
set_option maxRecDepth 100000 in
theorem w_X8_ask_99 {p : Program} {l : Launch} {e : Env} {s : State} {m : MethodId} {args : Array Value} {below : List Frame} {meth : Method} {c : Code} {G : GG} {rd : Bool} {q : Nat → Nat} {N : Nat} {r : Int32} {σ' : SS} (C : cx p s m args meth c cX8_ask 8 RX8 (some .int) G) {K69 : Int32 → Int32 → Int32 → Int32 → Int32 → SS → Option (Int32 × SS)} (HK69 : ∀ (x2 : Int32) (x3 : Int32) (x4 : Int32) (x5 : Int32) (x6 : Int32) (σ : SS) (H : Heap) (locs : List Loc) (ls : Array Slot), K69 x2 x3 x4 x5 x6 σ = some (r, σ') → wx G rd q σ H → va_S (fa G) s.heap H locs → lv_has ls 8 [(0, .ref (q 1)), (2, .int x2), (3, .int x3), (4, .int x4), (5, .int x5), (6, .int x6)] → W p l e rmX8_ask s m args below meth c H locs 0 0 (MQ below (qxi G rd q σ' r) args s 0 0 (fa G)) (F0 m 69 ls [])) : ∀ (x2 : Int32) (x3 : Int32) (x4 : Int32) (x6 : Int32) (x7 : Int32) (z0 : Int32) (σ : SS) (H : Heap) (locs : List Loc) (ls : Array Slot), F_X8_ask_99 N K69 x2 x3 x4 x6 x7 z0 σ = some (r, σ') → wx G rd q σ H → va_S (fa G) s.heap H locs → lv_has ls 8 [(0, .ref (q 1)), (2, .int x2), (3, .int x3), (4, .int x4), (6, .int x6), (7, .int x7)] → W p l e rmX8_ask s m args below meth c H locs 0 0 (MQ below (qxi G rd q σ' r) args s 0 0 (fa G)) (F0 m 99 ls [.int z0]) := by
  obtain ⟨hx, hb, hml, hown, hts, -, -, -, -⟩ := id C
  intro x2 x3 x4 x6 x7 z0 σ H locs ls hF hw hS hl
  unfold F_X8_ask_99 at hF
  refine lv_istore (lv' := [(5, .int z0), (0, .ref (q 1)), (2, .int x2), (3, .int x3), (4, .int x4), (6, .int x6), (7, .int x7)]) hx hb dX8_ask_99 hl (by decide) rfl (fun ls hl => ?_)
  refine lv_iload hx hb dX8_ask_101 (lv_at hl 6 rfl) ?_
  refine lv_iload hx hb dX8_ask_103 (lv_at hl 4 rfl) ?_
  refine lv_icmp_ge (tgt := 113) hx hb dX8_ask_105 (by decide) (fun c_25 => ?_) (fun c_25 => ?_)
  · have hF := it_e hF c_25
    refine lv_iload hx hb dX8_ask_113 (lv_at hl 4 rfl) ?_
    refine lv_istore (lv' := [(4, .int x4), (5, .int z0), (0, .ref (q 1)), (2, .int x2), (3, .int x3), (6, .int x6), (7, .int x7)]) hx hb dX8_ask_115 hl (by decide) rfl (fun ls hl => ?_)
    obtain ⟨x_26, ex_26, hF⟩ := nm_e2 hF
    refine lv_iinc (v := x_26) (lv' := [(6, .int x_26), (4, .int x4), (5, .int z0), (0, .ref (q 1)), (2, .int x2), (3, .int x3), (7, .int x7)]) hx hb dX8_ask_117 hl (k := 5) rfl (by rw [ex_26]; rfl) (by decide) rfl (fun ls hl => ?_)
    refine lv_goto (tgt := 69) hx hb dX8_ask_120 (by decide) ?_
    exact HK69 _ _ _ _ _ _ _ _ _ hF hw hS (lv_sub hl [3, 4, 5, 1, 2, 0] rfl)
  · have hF := if_e hF c_25
    refine lv_iload hx hb dX8_ask_108 (lv_at hl 6 rfl) ?_
    refine lv_goto (tgt := 115) hx hb dX8_ask_110 (by decide) ?_
    refine lv_istore (lv' := [(4, .int x7), (5, .int z0), (0, .ref (q 1)), (2, .int x2), (3, .int x3), (6, .int x6), (7, .int x7)]) hx hb dX8_ask_115 hl (by decide) rfl (fun ls hl => ?_)
    obtain ⟨x_27, ex_27, hF⟩ := nm_e2 hF
    refine lv_iinc (v := x_27) (lv' := [(6, .int x_27), (4, .int x7), (5, .int z0), (0, .ref (q 1)), (2, .int x2), (3, .int x3), (7, .int x7)]) hx hb dX8_ask_117 hl (k := 5) rfl (by rw [ex_27]; rfl) (by decide) rfl (fun ls hl => ?_)
    refine lv_goto (tgt := 69) hx hb dX8_ask_120 (by decide) ?_
    exact HK69 _ _ _ _ _ _ _ _ _ hF hw hS (lv_sub hl [3, 4, 5, 1, 2, 0] rfl)
noncomputable def B_X8_ask_69 (N : Nat) (IH : Int32 → Int32 → Int32 → Int32 → Int32 → SS → Option (Int32 × SS)) (x2 : Int32) (x3 : Int32) (x4 : Int32) (x5 : Int32) (x6 : Int32) (σ : SS) : Option (Int32 × SS) :=
  if (40 : Int32) < x6 then
    if x5 = (-4 : Int32) then
      some (x5, σ)
    else
      if x2 = (0 : Int32) then
        some (x5, σ)
      else
        some (x4, σ)
  else
    bd (F_X8_worstAt N x3 x6 σ) fun r_31 σ_32 =>
    if x4 ≤ r_31 then
      F_X8_ask_99 N IH x2 x3 x4 x6 r_31 x5 σ_32
    else
      F_X8_ask_99 N IH x2 x3 x4 x6 r_31 x6 σ_32
noncomputable def F_X8_ask_69 (N : Nat) (n : Nat) : Int32 → Int32 → Int32 → Int32 → Int32 → SS → Option (Int32 × SS) := Nat.rec (fun _ _ _ _ _ _ => none) (fun _ IH => B_X8_ask_69 N IH) n
set_option maxRecDepth 100000 in
theorem w_X8_ask_69 {p : Program} {l : Launch} {e : Env} {s : State} {m : MethodId} {args : Array Value} {below : List Frame} {meth : Method} {c : Code} {G : GG} {rd : Bool} {q : Nat → Nat} {N : Nat} {r : Int32} {σ' : SS} (C : cx p s m args meth c cX8_ask 8 RX8 (some .int) G) : ∀ (n : Nat), ∀ (x2 : Int32) (x3 : Int32) (x4 : Int32) (x5 : Int32) (x6 : Int32) (σ : SS) (H : Heap) (locs : List Loc) (ls : Array Slot), F_X8_ask_69 N n x2 x3 x4 x5 x6 σ = some (r, σ') → wx G rd q σ H → va_S (fa G) s.heap H locs → lv_has ls 8 [(0, .ref (q 1)), (2, .int x2), (3, .int x3), (4, .int x4), (5, .int x5), (6, .int x6)] → W p l e rmX8_ask s m args below meth c H locs 0 0 (MQ below (qxi G rd q σ' r) args s 0 0 (fa G)) (F0 m 69 ls []) := by
  obtain ⟨hx, hb, hml, hown, hts, -, -, -, -⟩ := id C
  intro n
  induction n with
  | zero =>
    intro x2 x3 x4 x5 x6 σ H locs ls hF hw hS hl
    cases hF
  | succ n ih =>
    intro x2 x3 x4 x5 x6 σ H locs ls hF hw hS hl
    have hF : B_X8_ask_69 N (F_X8_ask_69 N n) x2 x3 x4 x5 x6 σ = some (r, σ') := hF
    unfold B_X8_ask_69 at hF
    refine lv_iload hx hb dX8_ask_69 (lv_at hl 5 rfl) ?_
    refine lv_bipush (v := (40 : Int32)) hx hb dX8_ask_71 (by decide) ?_
    refine lv_icmp_gt (tgt := 123) hx hb dX8_ask_73 (by decide) (fun c_28 => ?_) (fun c_28 => ?_)
    · have hF := it_e hF c_28
      refine lv_iload hx hb dX8_ask_123 (lv_at hl 4 rfl) ?_
      refine lv_bipush (v := (-4 : Int32)) hx hb dX8_ask_125 (by decide) ?_
      refine lv_icmp_eq (tgt := 134) hx hb dX8_ask_127 (by decide) (fun c_29 => ?_) (fun c_29 => ?_)
      · have hF := it_e hF c_29
        refine lv_iload hx hb dX8_ask_134 (lv_at hl 4 rfl) ?_
        refine lv_goto (tgt := 141) hx hb dX8_ask_136 (by decide) ?_
        exact r_iret C hw hS hF dX8_ask_141
      · have hF := if_e hF c_29
        refine lv_iload_n hx hb dX8_ask_130 rfl (lv_at hl 1 rfl) ?_
        refine lv_if_ne (tgt := 139) hx hb dX8_ask_131 (by decide) (fun c_30 => ?_) (fun c_30 => ?_)
        · have hF := if_e hF c_30
          refine lv_iload hx hb dX8_ask_139 (lv_at hl 3 rfl) ?_
          exact r_iret C hw hS hF dX8_ask_141
        · have hF := it_e hF c_30
          refine lv_iload hx hb dX8_ask_134 (lv_at hl 4 rfl) ?_
          refine lv_goto (tgt := 141) hx hb dX8_ask_136 (by decide) ?_
          exact r_iret C hw hS hF dX8_ask_141
    · have hF := if_e hF c_28
      refine lv_aload_n hx hb dX8_ask_76 rfl (lv_at hl 0 rfl) ?_
      refine lv_iload_n hx hb dX8_ask_77 rfl (lv_at hl 2 rfl) ?_
      refine lv_iload hx hb dX8_ask_78 (lv_at hl 5 rfl) ?_
      obtain ⟨r_31, σ_32, h_33, hF⟩ := bd_e hF
      refine r_callVi (As := [.int x3, .int x6]) (rest := []) (i := 1) C hw hS (wi_lo (Or.inl (by decide))) rfl (ci := 8) rfl (met_X8_worstAt l G rd q  h_33) (cwV 2 hts (lw_V q1292 q1294 qs55 q65 q1295) rfl rfl rfl (by decide +kernel) ⟨Nat.le_of_ble_eq_true rfl, Nat.le_of_ble_eq_true rfl⟩) rfl hl.1 rfl (Nat.le_of_ble_eq_true rfl) ⟨Nat.le_refl _, Nat.le_refl _⟩ dX8_ask_80 (fun H locs hw hS => ?_)
      refine lv_istore (lv' := [(7, .int r_31), (0, .ref (q 1)), (2, .int x2), (3, .int x3), (4, .int x4), (5, .int x5), (6, .int x6)]) hx hb dX8_ask_83 hl (by decide) rfl (fun ls hl => ?_)
      refine lv_iload hx hb dX8_ask_85 (lv_at hl 0 rfl) ?_
      refine lv_iload hx hb dX8_ask_87 (lv_at hl 4 rfl) ?_
      refine lv_icmp_ge (tgt := 97) hx hb dX8_ask_89 (by decide) (fun c_34 => ?_) (fun c_34 => ?_)
      · have hF := it_e hF c_34
        refine lv_iload hx hb dX8_ask_97 (lv_at hl 5 rfl) ?_
        exact w_X8_ask_99 C  ih _ _ _ _ _ _ _ _ _ _ hF hw hS (lv_sub hl [1, 2, 3, 4, 6, 0] rfl)
      · have hF := if_e hF c_34
        refine lv_iload hx hb dX8_ask_92 (lv_at hl 6 rfl) ?_
        refine lv_goto (tgt := 99) hx hb dX8_ask_94 (by decide) ?_
        exact w_X8_ask_99 C  ih _ _ _ _ _ _ _ _ _ _ hF hw hS (lv_sub hl [1, 2, 3, 4, 6, 0] rfl)
noncomputable def B_X8_ask_38 (N : Nat) (IH : Int32 → Int32 → Int32 → Int32 → SS → Option (Int32 × SS)) (x2 : Int32) (x3 : Int32) (x4 : Int32) (x5 : Int32) (σ : SS) : Option (Int32 × SS) :=
  if (9 : Int32) < x5 then
    F_X8_ask_69 N N x2 x3 x4 (-4 : Int32) (0 : Int32) σ
  else
    nm (x4 + ((x3 >>> (x5 &&& 31)) &&& (1 : Int32))) fun x_36 =>
    nm (x5 + (1 : Int32)) fun x_37 =>
    IH x2 x3 x_36 x_37 σ
noncomputable def F_X8_ask_38 (N : Nat) (n : Nat) : Int32 → Int32 → Int32 → Int32 → SS → Option (Int32 × SS) := Nat.rec (fun _ _ _ _ _ => none) (fun _ IH => B_X8_ask_38 N IH) n
set_option maxRecDepth 100000 in
theorem w_X8_ask_38 {p : Program} {l : Launch} {e : Env} {s : State} {m : MethodId} {args : Array Value} {below : List Frame} {meth : Method} {c : Code} {G : GG} {rd : Bool} {q : Nat → Nat} {N : Nat} {r : Int32} {σ' : SS} (C : cx p s m args meth c cX8_ask 8 RX8 (some .int) G) : ∀ (n : Nat), ∀ (x2 : Int32) (x3 : Int32) (x4 : Int32) (x5 : Int32) (σ : SS) (H : Heap) (locs : List Loc) (ls : Array Slot), F_X8_ask_38 N n x2 x3 x4 x5 σ = some (r, σ') → wx G rd q σ H → va_S (fa G) s.heap H locs → lv_has ls 8 [(0, .ref (q 1)), (2, .int x2), (3, .int x3), (4, .int x4), (5, .int x5)] → W p l e rmX8_ask s m args below meth c H locs 0 0 (MQ below (qxi G rd q σ' r) args s 0 0 (fa G)) (F0 m 38 ls []) := by
  obtain ⟨hx, hb, hml, hown, hts, -, -, -, -⟩ := id C
  intro n
  induction n with
  | zero =>
    intro x2 x3 x4 x5 σ H locs ls hF hw hS hl
    cases hF
  | succ n ih =>
    intro x2 x3 x4 x5 σ H locs ls hF hw hS hl
    have hF : B_X8_ask_38 N (F_X8_ask_38 N n) x2 x3 x4 x5 σ = some (r, σ') := hF
    unfold B_X8_ask_38 at hF
    refine lv_iload hx hb dX8_ask_38 (lv_at hl 4 rfl) ?_
    refine lv_bipush (v := (9 : Int32)) hx hb dX8_ask_40 (by decide) ?_
    refine lv_icmp_gt (tgt := 62) hx hb dX8_ask_42 (by decide) (fun c_35 => ?_) (fun c_35 => ?_)
    · have hF := it_e hF c_35
      refine lv_bipush (v := (-4 : Int32)) hx hb dX8_ask_62 (by decide) ?_
      refine lv_istore (lv' := [(5, .int (-4 : Int32)), (0, .ref (q 1)), (2, .int x2), (3, .int x3), (4, .int x4)]) hx hb dX8_ask_64 hl (by decide) rfl (fun ls hl => ?_)
      refine lv_iconst (v := (0 : Int32)) hx hb dX8_ask_66 (by decide) ?_
      refine lv_istore (lv' := [(6, .int (0 : Int32)), (5, .int (-4 : Int32)), (0, .ref (q 1)), (2, .int x2), (3, .int x3), (4, .int x4)]) hx hb dX8_ask_67 hl (by decide) rfl (fun ls hl => ?_)
      exact w_X8_ask_69 C   N _ _ _ _ _ _ _ _ _ hF hw hS (lv_sub hl [2, 3, 4, 5, 1, 0] rfl)
    · have hF := if_e hF c_35
      refine lv_iload hx hb dX8_ask_45 (lv_at hl 3 rfl) ?_
      refine lv_iload_n hx hb dX8_ask_47 rfl (lv_at hl 2 rfl) ?_
      refine lv_iload hx hb dX8_ask_48 (lv_at hl 4 rfl) ?_
      refine lv_ishr hx hb dX8_ask_50 ?_
      refine lv_iconst (v := (1 : Int32)) hx hb dX8_ask_51 (by decide) ?_
      refine lv_iand hx hb dX8_ask_52 ?_
      refine lv_iadd hx hb dX8_ask_53 ?_
      obtain ⟨x_36, ex_36, hF⟩ := nm_e2 hF
      refine r_topi ex_36 ?_
      refine lv_istore (lv' := [(4, .int x_36), (0, .ref (q 1)), (2, .int x2), (3, .int x3), (5, .int x5)]) hx hb dX8_ask_54 hl (by decide) rfl (fun ls hl => ?_)
      obtain ⟨x_37, ex_37, hF⟩ := nm_e2 hF
      refine lv_iinc (v := x_37) (lv' := [(5, .int x_37), (4, .int x_36), (0, .ref (q 1)), (2, .int x2), (3, .int x3)]) hx hb dX8_ask_56 hl (k := 4) rfl (by rw [ex_37]; rfl) (by decide) rfl (fun ls hl => ?_)
      refine lv_goto (tgt := 38) hx hb dX8_ask_59 (by decide) ?_
      exact ih _ _ _ _ _ _ _ _ hF hw hS (lv_sub hl [2, 3, 4, 1, 0] rfl)
noncomputable def F_X8_ask (N : Nat) (x1 : Int32) (x2 : Int32) (σ : SS) : Option (Int32 × SS) :=
  bd (F_X8_isWheel N x1 σ) fun r_38 σ_39 =>
  if r_38 = (0 : Int32) then
    some ((-1 : Int32), σ_39)
  else
    bd (F_X8_in N x2.toInt64 (0 : Int64) (1 : Int64) σ_39) fun r_42 σ_43 =>
    if r_42 = (0 : Int32) then
      some ((-1 : Int32), σ_43)
    else
      bd (F_X8_numbersAt N ((8 : Int32) + x1) x1 (10 : Int32) σ_43) fun r_46 σ_47 =>
      F_X8_ask_38 N N x2 r_46 (0 : Int32) (0 : Int32) σ_47
set_option maxRecDepth 100000 in
theorem met_X8_ask (l : Launch) (G : GG) (rd : Bool) (q : Nat → Nat) {N : Nat} {x1 : Int32} {x2 : Int32} {σ σ' : SS} {r : Int32} (hF : F_X8_ask N x1 x2 σ = some (r, σ')) : Met l yX8_ask (ws_ yX8_ask cX8_ask 8 (some .int)) rmX8_ask (pcx G rd q σ [.ref (q 1), .int x1, .int x2]) (qxi G rd q σ' r) 0 0 (fa G) := by
  refine met_of (by decide) (Nat.le_of_ble_eq_true rfl) ?_
  intro p e s m below meth c C H locs ls hw hS hl
  obtain ⟨hx, hb, hml, hown, hts, -, -, -, -⟩ := id C
  have hl : lv_has ls 8 [(0, .ref (q 1)), (1, .int x1), (2, .int x2)] := hl
  unfold F_X8_ask at hF
  refine lv_aload_n hx hb dX8_ask_0 rfl (lv_at hl 0 rfl) ?_
  refine lv_iload_n hx hb dX8_ask_1 rfl (lv_at hl 1 rfl) ?_
  obtain ⟨r_38, σ_39, h_40, hF⟩ := bd_e hF
  refine r_callVi (As := [.int x1]) (rest := []) (i := 1) C hw hS (wi_lo (Or.inl (by decide))) rfl (ci := 8) rfl (met_X8_isWheel l G rd q  h_40) (cwV 1 hts (lw_V q1100 q1102 qs39 q65 q1103) rfl rfl rfl (by decide +kernel) ⟨Nat.le_of_ble_eq_true rfl, Nat.le_of_ble_eq_true rfl⟩) rfl hl.1 rfl (Nat.le_of_ble_eq_true rfl) ⟨Nat.le_refl _, Nat.le_refl _⟩ dX8_ask_2 (fun H locs hw hS => ?_)
  refine lv_if_eq (tgt := 18) hx hb dX8_ask_5 (by decide) (fun c_41 => ?_) (fun c_41 => ?_)
  · have hF := it_e hF c_41
    refine lv_iconst (v := (-1 : Int32)) hx hb dX8_ask_18 (by decide) ?_
    exact r_iret C hw hS hF dX8_ask_19
  · have hF := if_e hF c_41
    refine lv_iload_n hx hb dX8_ask_8 rfl (lv_at hl 2 rfl) ?_
    refine lv_i2l hx hb dX8_ask_9 rfl ?_
    refine lv_lconst (v := (0 : Int64)) hx hb dX8_ask_10 (by decide) ?_
    refine lv_lconst (v := (1 : Int64)) hx hb dX8_ask_11 (by decide) ?_
    obtain ⟨r_42, σ_43, h_44, hF⟩ := bd_e hF
    refine r_callSi (As := [.long x2.toInt64, .long (0 : Int64), .long (1 : Int64)]) (rest := []) C hw hS (met_X8_in l G rd q  h_44) (cwS 3 hts (lw_S q1040 q1041 q65 q1042) rfl rfl rfl (by decide +kernel) ⟨Nat.le_of_ble_eq_true rfl, Nat.le_of_ble_eq_true rfl⟩) rfl hl.1 rfl (Nat.le_of_ble_eq_true rfl) ⟨Nat.le_refl _, Nat.le_refl _⟩ dX8_ask_12 (fun H locs hw hS => ?_)
    refine lv_if_ne (tgt := 20) hx hb dX8_ask_15 (by decide) (fun c_45 => ?_) (fun c_45 => ?_)
    · have hF := if_e hF c_45
      refine lv_aload_n hx hb dX8_ask_20 rfl (lv_at hl 0 rfl) ?_
      refine lv_bipush (v := (8 : Int32)) hx hb dX8_ask_21 (by decide) ?_
      refine lv_iload_n hx hb dX8_ask_23 rfl (lv_at hl 1 rfl) ?_
      refine lv_iadd hx hb dX8_ask_24 ?_
      refine lv_iload_n hx hb dX8_ask_25 rfl (lv_at hl 1 rfl) ?_
      refine lv_bipush (v := (10 : Int32)) hx hb dX8_ask_26 (by decide) ?_
      obtain ⟨r_46, σ_47, h_48, hF⟩ := bd_e hF
      refine r_callVi (As := [.int ((8 : Int32) + x1), .int x1, .int (10 : Int32)]) (rest := []) (i := 1) C hw hS (wi_lo (Or.inl (by decide))) rfl (ci := 8) rfl (met_X8_numbersAt l G rd q  h_48) (cwV 3 hts (lw_V q1276 q1278 qs53 q65 q1279) rfl rfl rfl (by decide +kernel) ⟨Nat.le_of_ble_eq_true rfl, Nat.le_of_ble_eq_true rfl⟩) rfl hl.1 rfl (Nat.le_of_ble_eq_true rfl) ⟨Nat.le_refl _, Nat.le_refl _⟩ dX8_ask_28 (fun H locs hw hS => ?_)
      refine lv_istore_n (lv' := [(3, .int r_46), (0, .ref (q 1)), (1, .int x1), (2, .int x2)]) hx hb dX8_ask_31 rfl hl (by decide) rfl (fun ls hl => ?_)
      refine lv_iconst (v := (0 : Int32)) hx hb dX8_ask_32 (by decide) ?_
      refine lv_istore (lv' := [(4, .int (0 : Int32)), (3, .int r_46), (0, .ref (q 1)), (1, .int x1), (2, .int x2)]) hx hb dX8_ask_33 hl (by decide) rfl (fun ls hl => ?_)
      refine lv_iconst (v := (0 : Int32)) hx hb dX8_ask_35 (by decide) ?_
      refine lv_istore (lv' := [(5, .int (0 : Int32)), (4, .int (0 : Int32)), (3, .int r_46), (0, .ref (q 1)), (1, .int x1), (2, .int x2)]) hx hb dX8_ask_36 hl (by decide) rfl (fun ls hl => ?_)
      exact w_X8_ask_38 C   N _ _ _ _ _ _ _ _ hF hw hS (lv_sub hl [3, 5, 2, 1, 0] rfl)
    · have hF := it_e hF c_45
      refine lv_iconst (v := (-1 : Int32)) hx hb dX8_ask_18 (by decide) ?_
      exact r_iret C hw hS hF dX8_ask_19
abbrev rmX8_back : Room := { frames := 2, cells := 0, slots := 0, locals := 85 }
noncomputable def F_X8_back (N : Nat) (x1 : Int32) (σ : SS) : Option (Int32 × SS) :=
  bd (F_X8_in N x1.toInt64 (0 : Int64) (1 : Int64) σ) fun r_11 σ_12 =>
  if r_11 = (0 : Int32) then
    some ((-1 : Int32), σ_12)
  else
    gd (inR x1 2) <|
    if (gi σ_12 28 x1.toNatClampNeg) = (0 : Int32) then
      some ((-2 : Int32), σ_12)
    else
      bd (F_X8_copies N ((39 : Int32) * (x1 + (1 : Int32))) (0 : Int32) σ_12) fun r_17 σ_18 =>
      gd (inR (36 : Int32) 234) <|
      some (gi σ_18 21 (36 : Int32).toNatClampNeg, σ_18)
set_option maxRecDepth 100000 in
theorem met_X8_back (l : Launch) (G : GG) (rd : Bool) (q : Nat → Nat) {N : Nat} {x1 : Int32} {σ σ' : SS} {r : Int32} (hF : F_X8_back N x1 σ = some (r, σ')) : Met l yX8_back (ws_ yX8_back cX8_back 2 (some .int)) rmX8_back (pcx G rd q σ [.ref (q 1), .int x1]) (qxi G rd q σ' r) 0 0 (fa G) := by
  refine met_of (by decide) (Nat.le_of_ble_eq_true rfl) ?_
  intro p e s m below meth c C H locs ls hw hS hl
  obtain ⟨hx, hb, hml, hown, hts, -, -, -, -⟩ := id C
  have hl : lv_has ls 2 [(0, .ref (q 1)), (1, .int x1)] := hl
  unfold F_X8_back at hF
  refine lv_iload_n hx hb dX8_back_0 rfl (lv_at hl 1 rfl) ?_
  refine lv_i2l hx hb dX8_back_1 rfl ?_
  refine lv_lconst (v := (0 : Int64)) hx hb dX8_back_2 (by decide) ?_
  refine lv_lconst (v := (1 : Int64)) hx hb dX8_back_3 (by decide) ?_
  obtain ⟨r_11, σ_12, h_13, hF⟩ := bd_e hF
  refine r_callSi (As := [.long x1.toInt64, .long (0 : Int64), .long (1 : Int64)]) (rest := []) C hw hS (met_X8_in l G rd q  h_13) (cwS 3 hts (lw_S q1040 q1041 q65 q1042) rfl rfl rfl (by decide +kernel) ⟨Nat.le_of_ble_eq_true rfl, Nat.le_of_ble_eq_true rfl⟩) rfl hl.1 rfl (Nat.le_of_ble_eq_true rfl) ⟨Nat.le_refl _, Nat.le_refl _⟩ dX8_back_4 (fun H locs hw hS => ?_)
  refine lv_if_ne (tgt := 12) hx hb dX8_back_7 (by decide) (fun c_14 => ?_) (fun c_14 => ?_)
  · have hF := if_e hF c_14
    refine lv_aload_n hx hb dX8_back_12 rfl (lv_at hl 0 rfl) ?_
    refine r_get8 C hw 21 (by decide) rfl (v := .ref (q 28)) rfl q976 dX8_back_13 ?_
    refine lv_iload_n hx hb dX8_back_16 rfl (lv_at hl 1 rfl) ?_
    obtain ⟨h_15, hF⟩ := gd_e hF
    refine r_zald (i := 28) (n := 2) (g := 28) (st := 0) C hw (wi_lo (Or.inr ⟨by decide, by decide⟩)) rfl h_15 dX8_back_17 ?_
    refine lv_if_ne (tgt := 24) hx hb dX8_back_18 (by decide) (fun c_16 => ?_) (fun c_16 => ?_)
    · have hF := if_e hF c_16
      refine lv_aload_n hx hb dX8_back_24 rfl (lv_at hl 0 rfl) ?_
      refine lv_bipush (v := (39 : Int32)) hx hb dX8_back_25 (by decide) ?_
      refine lv_iload_n hx hb dX8_back_27 rfl (lv_at hl 1 rfl) ?_
      refine lv_iconst (v := (1 : Int32)) hx hb dX8_back_28 (by decide) ?_
      refine lv_iadd hx hb dX8_back_29 ?_
      refine lv_imul hx hb dX8_back_30 ?_
      refine lv_iconst (v := (0 : Int32)) hx hb dX8_back_31 (by decide) ?_
      obtain ⟨r_17, σ_18, h_19, hF⟩ := bd_e hF
      refine r_callVv (As := [.int ((39 : Int32) * (x1 + (1 : Int32))), .int (0 : Int32)]) (rest := []) (i := 1) C hw hS (wi_lo (Or.inl (by decide))) rfl (ci := 8) rfl (met_X8_copies l G rd q  h_19) (cwV 2 hts (lw_V q1192 q1194 qs48 q65 q1195) rfl rfl rfl (by decide +kernel) ⟨Nat.le_of_ble_eq_true rfl, Nat.le_of_ble_eq_true rfl⟩) rfl hl.1 rfl (Nat.le_of_ble_eq_true rfl) ⟨Nat.le_refl _, Nat.le_refl _⟩ dX8_back_32 (fun H locs hw hS => ?_)
      refine lv_aload_n hx hb dX8_back_35 rfl (lv_at hl 0 rfl) ?_
      refine r_get8 C hw 0 (by decide) rfl (v := .ref (q 21)) rfl q955 dX8_back_36 ?_
      refine lv_bipush (v := (36 : Int32)) hx hb dX8_back_39 (by decide) ?_
      obtain ⟨h_20, hF⟩ := gd_e hF
      refine r_iald (i := 21) (n := 234) (g := 21) (st := 0) C hw (wi_lo (Or.inr ⟨by decide, by decide⟩)) rfl h_20 dX8_back_41 ?_
      exact r_iret C hw hS hF dX8_back_42
    · have hF := it_e hF c_16
      refine lv_bipush (v := (-2 : Int32)) hx hb dX8_back_21 (by decide) ?_
      exact r_iret C hw hS hF dX8_back_23
  · have hF := it_e hF c_14
    refine lv_iconst (v := (-1 : Int32)) hx hb dX8_back_10 (by decide) ?_
    exact r_iret C hw hS hF dX8_back_11
abbrev rmX8_lackThen : Room := { frames := 1, cells := 0, slots := 0, locals := 60 }
noncomputable def F_X8_lackThen (N : Nat)  (σ : SS) : Option (Int32 × SS) :=
  gd (inR (194 : Int32) 234) <|
  gd (inR (38 : Int32) 234) <|
  some ((gi σ 21 (194 : Int32).toNatClampNeg) - (gi σ 21 (38 : Int32).toNatClampNeg), σ)
set_option maxRecDepth 100000 in
theorem met_X8_lackThen (l : Launch) (G : GG) (rd : Bool) (q : Nat → Nat) {N : Nat} {σ σ' : SS} {r : Int32} (hF : F_X8_lackThen N  σ = some (r, σ')) : Met l yX8_lackThen (ws_ yX8_lackThen cX8_lackThen 1 (some .int)) rmX8_lackThen (pcx G rd q σ [.ref (q 1)]) (qxi G rd q σ' r) 0 0 (fa G) := by
  refine met_of (by decide) (Nat.le_of_ble_eq_true rfl) ?_
  intro p e s m below meth c C H locs ls hw hS hl
  obtain ⟨hx, hb, hml, hown, hts, -, -, -, -⟩ := id C
  have hl : lv_has ls 1 [(0, .ref (q 1))] := hl
  unfold F_X8_lackThen at hF
  refine lv_aload_n hx hb dX8_lackThen_0 rfl (lv_at hl 0 rfl) ?_
  refine r_get8 C hw 0 (by decide) rfl (v := .ref (q 21)) rfl q955 dX8_lackThen_1 ?_
  refine lv_sipush (v := (194 : Int32)) hx hb dX8_lackThen_4 (by decide) ?_
  obtain ⟨h_3, hF⟩ := gd_e hF
  refine r_iald (i := 21) (n := 234) (g := 21) (st := 0) C hw (wi_lo (Or.inr ⟨by decide, by decide⟩)) rfl h_3 dX8_lackThen_7 ?_
  refine lv_aload_n hx hb dX8_lackThen_8 rfl (lv_at hl 0 rfl) ?_
  refine r_get8 C hw 0 (by decide) rfl (v := .ref (q 21)) rfl q955 dX8_lackThen_9 ?_
  refine lv_bipush (v := (38 : Int32)) hx hb dX8_lackThen_12 (by decide) ?_
  obtain ⟨h_4, hF⟩ := gd_e hF
  refine r_iald (i := 21) (n := 234) (g := 21) (st := 0) C hw (wi_lo (Or.inr ⟨by decide, by decide⟩)) rfl h_4 dX8_lackThen_14 ?_
  refine lv_isub hx hb dX8_lackThen_15 ?_
  exact r_iret C hw hS hF dX8_lackThen_16
abbrev rmX8_bears : Room := { frames := 5, cells := 0, slots := 0, locals := 158 }
noncomputable def B_X8_bears_28 (N : Nat) (IH : Int32 → Int32 → Int32 → SS → Option (Int32 × SS)) (x1 : Int32) (x2 : Int32) (x3 : Int32) (σ : SS) : Option (Int32 × SS) :=
  if x3 < (0 : Int32) then
    some ((-4 : Int32), σ)
  else
    gd (inR ((203 : Int32) + x1) 234) <|
    nm (si σ 21 ((203 : Int32) + x1).toNatClampNeg x3) fun σ_25 =>
    bd (F_X8_ticksGo N (195 : Int32) x2 σ_25) fun r_26 σ_27 =>
    bd (F_X8_lackThen N σ_27) fun r_29 σ_30 =>
    if r_29 = (0 : Int32) then
      some (x3, σ_30)
    else
      nm (x3 + (-1 : Int32)) fun x_33 =>
      IH x1 x2 x_33 σ_30
noncomputable def F_X8_bears_28 (N : Nat) (n : Nat) : Int32 → Int32 → Int32 → SS → Option (Int32 × SS) := Nat.rec (fun _ _ _ _ => none) (fun _ IH => B_X8_bears_28 N IH) n
set_option maxRecDepth 100000 in
theorem w_X8_bears_28 {p : Program} {l : Launch} {e : Env} {s : State} {m : MethodId} {args : Array Value} {below : List Frame} {meth : Method} {c : Code} {G : GG} {rd : Bool} {q : Nat → Nat} {N : Nat} {r : Int32} {σ' : SS} (C : cx p s m args meth c cX8_bears 4 RX8 (some .int) G) : ∀ (n : Nat), ∀ (x1 : Int32) (x2 : Int32) (x3 : Int32) (σ : SS) (H : Heap) (locs : List Loc) (ls : Array Slot), F_X8_bears_28 N n x1 x2 x3 σ = some (r, σ') → wx G rd q σ H → va_S (fa G) s.heap H locs → lv_has ls 4 [(0, .ref (q 1)), (1, .int x1), (2, .int x2), (3, .int x3)] → W p l e rmX8_bears s m args below meth c H locs 0 0 (MQ below (qxi G rd q σ' r) args s 0 0 (fa G)) (F0 m 28 ls []) := by
  obtain ⟨hx, hb, hml, hown, hts, -, -, -, -⟩ := id C
  intro n
  induction n with
  | zero =>
    intro x1 x2 x3 σ H locs ls hF hw hS hl
    cases hF
  | succ n ih =>
    intro x1 x2 x3 σ H locs ls hF hw hS hl
    have hF : B_X8_bears_28 N (F_X8_bears_28 N n) x1 x2 x3 σ = some (r, σ') := hF
    unfold B_X8_bears_28 at hF
    refine lv_iload_n hx hb dX8_bears_28 rfl (lv_at hl 3 rfl) ?_
    refine lv_if_lt (tgt := 67) hx hb dX8_bears_29 (by decide) (fun c_23 => ?_) (fun c_23 => ?_)
    · have hF := it_e hF c_23
      refine lv_bipush (v := (-4 : Int32)) hx hb dX8_bears_67 (by decide) ?_
      exact r_iret C hw hS hF dX8_bears_69
    · have hF := if_e hF c_23
      refine lv_aload_n hx hb dX8_bears_32 rfl (lv_at hl 0 rfl) ?_
      refine r_get8 C hw 0 (by decide) rfl (v := .ref (q 21)) rfl q955 dX8_bears_33 ?_
      refine lv_sipush (v := (203 : Int32)) hx hb dX8_bears_36 (by decide) ?_
      refine lv_iload_n hx hb dX8_bears_39 rfl (lv_at hl 1 rfl) ?_
      refine lv_iadd hx hb dX8_bears_40 ?_
      refine lv_iload_n hx hb dX8_bears_41 rfl (lv_at hl 3 rfl) ?_
      obtain ⟨h_24, hF⟩ := gd_e hF
      obtain ⟨σ_25, eσ_25, hF⟩ := nm_e2 hF
      refine r_iast (i := 21) (n := 234) (g := 21) (st := 0) C hw hS (wi_lo (Or.inr ⟨by decide, by decide⟩)) rfl (fun _ => ho_lo (by decide)) h_24 dX8_bears_42 eσ_25 (fun H locs hw hS => ?_)
      refine lv_aload_n hx hb dX8_bears_43 rfl (lv_at hl 0 rfl) ?_
      refine lv_sipush (v := (195 : Int32)) hx hb dX8_bears_44 (by decide) ?_
      refine lv_iload_n hx hb dX8_bears_47 rfl (lv_at hl 2 rfl) ?_
      obtain ⟨r_26, σ_27, h_28, hF⟩ := bd_e hF
      refine r_callVi (As := [.int (195 : Int32), .int x2]) (rest := []) (i := 1) C hw hS (wi_lo (Or.inl (by decide))) rfl (ci := 8) rfl (met_X8_ticksGo l G rd q  h_28) (cwV 2 hts (lw_V q1188 q1190 qs47 q65 q1191) rfl rfl rfl (by decide +kernel) ⟨Nat.le_of_ble_eq_true rfl, Nat.le_of_ble_eq_true rfl⟩) rfl hl.1 rfl (Nat.le_of_ble_eq_true rfl) ⟨Nat.le_refl _, Nat.le_refl _⟩ dX8_bears_48 (fun H locs hw hS => ?_)
      refine lv_pop hx hb dX8_bears_51 rfl ?_
      refine lv_aload_n hx hb dX8_bears_52 rfl (lv_at hl 0 rfl) ?_
      obtain ⟨r_29, σ_30, h_31, hF⟩ := bd_e hF
      refine r_callVi (As := []) (rest := []) (i := 1) C hw hS (wi_lo (Or.inl (by decide))) rfl (ci := 8) rfl (met_X8_lackThen l G rd q  h_31) (cwV 0 hts (lw_V q1196 q1198 qs49 q65 q1199) rfl rfl rfl (by decide +kernel) ⟨Nat.le_of_ble_eq_true rfl, Nat.le_of_ble_eq_true rfl⟩) rfl hl.1 rfl (Nat.le_of_ble_eq_true rfl) ⟨Nat.le_refl _, Nat.le_refl _⟩ dX8_bears_53 (fun H locs hw hS => ?_)
      refine lv_if_ne (tgt := 61) hx hb dX8_bears_56 (by decide) (fun c_32 => ?_) (fun c_32 => ?_)
      · have hF := if_e hF c_32
        obtain ⟨x_33, ex_33, hF⟩ := nm_e2 hF
        refine lv_iinc (v := x_33) (lv' := [(3, .int x_33), (0, .ref (q 1)), (1, .int x1), (2, .int x2)]) hx hb dX8_bears_61 hl (k := 3) rfl (by rw [ex_33]; rfl) (by decide) rfl (fun ls hl => ?_)
        refine lv_goto (tgt := 28) hx hb dX8_bears_64 (by decide) ?_
        exact ih _ _ _ _ _ _ _ hF hw hS (lv_sub hl [1, 2, 3, 0] rfl)
      · have hF := it_e hF c_32
        refine lv_iload_n hx hb dX8_bears_59 rfl (lv_at hl 3 rfl) ?_
        exact r_iret C hw hS hF dX8_bears_60
noncomputable def F_X8_bears (N : Nat) (x1 : Int32) (x2 : Int32) (σ : SS) : Option (Int32 × SS) :=
  bd (F_X8_isWheel N x1 σ) fun r_34 σ_35 =>
  if r_34 = (0 : Int32) then
    some ((-1 : Int32), σ_35)
  else
    bd (F_X8_isLong N x2 σ_35) fun r_38 σ_39 =>
    if r_38 = (0 : Int32) then
      some ((-1 : Int32), σ_39)
    else
      bd (F_X8_copies N (0 : Int32) (195 : Int32) σ_39) fun r_42 σ_43 =>
      F_X8_bears_28 N N x1 x2 (9 : Int32) σ_43
set_option maxRecDepth 100000 in
theorem met_X8_bears (l : Launch) (G : GG) (rd : Bool) (q : Nat → Nat) {N : Nat} {x1 : Int32} {x2 : Int32} {σ σ' : SS} {r : Int32} (hF : F_X8_bears N x1 x2 σ = some (r, σ')) : Met l yX8_bears (ws_ yX8_bears cX8_bears 4 (some .int)) rmX8_bears (pcx G rd q σ [.ref (q 1), .int x1, .int x2]) (qxi G rd q σ' r) 0 0 (fa G) := by
  refine met_of (by decide) (Nat.le_of_ble_eq_true rfl) ?_
  intro p e s m below meth c C H locs ls hw hS hl
  obtain ⟨hx, hb, hml, hown, hts, -, -, -, -⟩ := id C
  have hl : lv_has ls 4 [(0, .ref (q 1)), (1, .int x1), (2, .int x2)] := hl
  unfold F_X8_bears at hF
  refine lv_aload_n hx hb dX8_bears_0 rfl (lv_at hl 0 rfl) ?_
  refine lv_iload_n hx hb dX8_bears_1 rfl (lv_at hl 1 rfl) ?_
  obtain ⟨r_34, σ_35, h_36, hF⟩ := bd_e hF
  refine r_callVi (As := [.int x1]) (rest := []) (i := 1) C hw hS (wi_lo (Or.inl (by decide))) rfl (ci := 8) rfl (met_X8_isWheel l G rd q  h_36) (cwV 1 hts (lw_V q1100 q1102 qs39 q65 q1103) rfl rfl rfl (by decide +kernel) ⟨Nat.le_of_ble_eq_true rfl, Nat.le_of_ble_eq_true rfl⟩) rfl hl.1 rfl (Nat.le_of_ble_eq_true rfl) ⟨Nat.le_refl _, Nat.le_refl _⟩ dX8_bears_2 (fun H locs hw hS => ?_)
  refine lv_if_eq (tgt := 15) hx hb dX8_bears_5 (by decide) (fun c_37 => ?_) (fun c_37 => ?_)
  · have hF := it_e hF c_37
    refine lv_iconst (v := (-1 : Int32)) hx hb dX8_bears_15 (by decide) ?_
    exact r_iret C hw hS hF dX8_bears_16
  · have hF := if_e hF c_37
    refine lv_iload_n hx hb dX8_bears_8 rfl (lv_at hl 2 rfl) ?_
    obtain ⟨r_38, σ_39, h_40, hF⟩ := bd_e hF
    refine r_callSi (As := [.int x2]) (rest := []) C hw hS (met_X8_isLong l G rd q  h_40) (cwS 1 hts (lw_S q1183 q1184 q65 q1185) rfl rfl rfl (by decide +kernel) ⟨Nat.le_of_ble_eq_true rfl, Nat.le_of_ble_eq_true rfl⟩) rfl hl.1 rfl (Nat.le_of_ble_eq_true rfl) ⟨Nat.le_refl _, Nat.le_refl _⟩ dX8_bears_9 (fun H locs hw hS => ?_)
    refine lv_if_ne (tgt := 17) hx hb dX8_bears_12 (by decide) (fun c_41 => ?_) (fun c_41 => ?_)
    · have hF := if_e hF c_41
      refine lv_aload_n hx hb dX8_bears_17 rfl (lv_at hl 0 rfl) ?_
      refine lv_iconst (v := (0 : Int32)) hx hb dX8_bears_18 (by decide) ?_
      refine lv_sipush (v := (195 : Int32)) hx hb dX8_bears_19 (by decide) ?_
      obtain ⟨r_42, σ_43, h_44, hF⟩ := bd_e hF
      refine r_callVv (As := [.int (0 : Int32), .int (195 : Int32)]) (rest := []) (i := 1) C hw hS (wi_lo (Or.inl (by decide))) rfl (ci := 8) rfl (met_X8_copies l G rd q  h_44) (cwV 2 hts (lw_V q1192 q1194 qs48 q65 q1195) rfl rfl rfl (by decide +kernel) ⟨Nat.le_of_ble_eq_true rfl, Nat.le_of_ble_eq_true rfl⟩) rfl hl.1 rfl (Nat.le_of_ble_eq_true rfl) ⟨Nat.le_refl _, Nat.le_refl _⟩ dX8_bears_22 (fun H locs hw hS => ?_)
      refine lv_bipush (v := (9 : Int32)) hx hb dX8_bears_25 (by decide) ?_
      refine lv_istore_n (lv' := [(3, .int (9 : Int32)), (0, .ref (q 1)), (1, .int x1), (2, .int x2)]) hx hb dX8_bears_27 rfl hl (by decide) rfl (fun ls hl => ?_)
      exact w_X8_bears_28 C   N _ _ _ _ _ _ _ hF hw hS (lv_sub hl [1, 2, 3, 0] rfl)
    · have hF := it_e hF c_41
      refine lv_iconst (v := (-1 : Int32)) hx hb dX8_bears_15 (by decide) ?_
      exact r_iret C hw hS hF dX8_bears_16
abbrev rmX8_lowest : Room := { frames := 1, cells := 0, slots := 0, locals := 60 }
noncomputable def B_X8_lowest_6 (N : Nat) (IH : Int64 → Int64 → Int32 → Int64 → Int64 → SS → Option (Int64 × SS)) (y0 : Int64) (y2 : Int64) (x4 : Int32) (y5 : Int64) (y7 : Int64) (σ : SS) : Option (Int64 × SS) :=
  if (lg_cmp y7 (0 : Int64)) = (0 : Int32) then
    if x4 = (0 : Int32) then
      gd (¬ y5 = 0) <|
      some (y0 / y5, σ)
    else
      gd (¬ y5 = 0) <|
      some (y2 / y5, σ)
  else
    gd (¬ y7 = 0) <|
    nm (y5 - y5 / y7 * y7) fun y_12 =>
    IH y0 y2 x4 y7 y_12 σ
noncomputable def F_X8_lowest_6 (N : Nat) (n : Nat) : Int64 → Int64 → Int32 → Int64 → Int64 → SS → Option (Int64 × SS) := Nat.rec (fun _ _ _ _ _ _ => none) (fun _ IH => B_X8_lowest_6 N IH) n
set_option maxRecDepth 100000 in
theorem w_X8_lowest_6 {p : Program} {l : Launch} {e : Env} {s : State} {m : MethodId} {args : Array Value} {below : List Frame} {meth : Method} {c : Code} {G : GG} {rd : Bool} {q : Nat → Nat} {N : Nat} {r : Int64} {σ' : SS} (C : cx p s m args meth c cX8_lowest 11 RX8 (some .long) G) : ∀ (n : Nat), ∀ (y0 : Int64) (y2 : Int64) (x4 : Int32) (y5 : Int64) (y7 : Int64) (σ : SS) (H : Heap) (locs : List Loc) (ls : Array Slot), F_X8_lowest_6 N n y0 y2 x4 y5 y7 σ = some (r, σ') → wx G rd q σ H → va_S (fa G) s.heap H locs → lv_has ls 11 [(0, .long y0), (2, .long y2), (4, .int x4), (5, .long y5), (7, .long y7)] → W p l e rmX8_lowest s m args below meth c H locs 0 0 (MQ below (qxl G rd q σ' r) args s 0 0 (fa G)) (F0 m 6 ls []) := by
  obtain ⟨hx, hb, hml, hown, hts, -, -, -, -⟩ := id C
  intro n
  induction n with
  | zero =>
    intro y0 y2 x4 y5 y7 σ H locs ls hF hw hS hl
    cases hF
  | succ n ih =>
    intro y0 y2 x4 y5 y7 σ H locs ls hF hw hS hl
    have hF : B_X8_lowest_6 N (F_X8_lowest_6 N n) y0 y2 x4 y5 y7 σ = some (r, σ') := hF
    unfold B_X8_lowest_6 at hF
    refine lv_lload hx hb dX8_lowest_6 (lv_at hl 4 rfl) ?_
    refine lv_lconst (v := (0 : Int64)) hx hb dX8_lowest_8 (by decide) ?_
    refine W.lcmp hx hb dX8_lowest_9 ?_
    refine lv_if_eq (tgt := 31) hx hb dX8_lowest_10 (by decide) (fun c_7 => ?_) (fun c_7 => ?_)
    · have hF := it_e hF c_7
      refine lv_iload hx hb dX8_lowest_31 (lv_at hl 2 rfl) ?_
      refine lv_if_ne (tgt := 40) hx hb dX8_lowest_33 (by decide) (fun c_8 => ?_) (fun c_8 => ?_)
      · have hF := if_e hF c_8
        refine lv_lload_n hx hb dX8_lowest_40 rfl (lv_at hl 1 rfl) ?_
        refine lv_lload hx hb dX8_lowest_41 (lv_at hl 3 rfl) ?_
        obtain ⟨h_9, hF⟩ := gd_e hF
        refine lv_ldiv hx hb dX8_lowest_43 h_9 ?_
        exact r_lret C hw hS hF dX8_lowest_44
      · have hF := it_e hF c_8
        refine lv_lload_n hx hb dX8_lowest_36 rfl (lv_at hl 0 rfl) ?_
        refine lv_goto (tgt := 41) hx hb dX8_lowest_37 (by decide) ?_
        refine lv_lload hx hb dX8_lowest_41 (lv_at hl 3 rfl) ?_
        obtain ⟨h_10, hF⟩ := gd_e hF
        refine lv_ldiv hx hb dX8_lowest_43 h_10 ?_
        exact r_lret C hw hS hF dX8_lowest_44
    · have hF := if_e hF c_7
      refine lv_lload hx hb dX8_lowest_13 (lv_at hl 3 rfl) ?_
      refine lv_lload hx hb dX8_lowest_15 (lv_at hl 4 rfl) ?_
      obtain ⟨h_11, hF⟩ := gd_e hF
      refine lv_lrem hx hb dX8_lowest_17 h_11 ?_
      obtain ⟨y_12, ey_12, hF⟩ := nm_e2 hF
      refine r_topl ey_12 ?_
      refine lv_lstore (lv' := [(9, .long y_12), (0, .long y0), (2, .long y2), (4, .int x4), (5, .long y5), (7, .long y7)]) hx hb dX8_lowest_18 hl (by decide) rfl (fun ls hl => ?_)
      refine lv_lload hx hb dX8_lowest_20 (lv_at hl 5 rfl) ?_
      refine lv_lstore (lv' := [(5, .long y7), (9, .long y_12), (0, .long y0), (2, .long y2), (4, .int x4), (7, .long y7)]) hx hb dX8_lowest_22 hl (by decide) rfl (fun ls hl => ?_)
      refine lv_lload hx hb dX8_lowest_24 (lv_at hl 1 rfl) ?_
      refine lv_lstore (lv' := [(7, .long y_12), (5, .long y7), (9, .long y_12), (0, .long y0), (2, .long y2), (4, .int x4)]) hx hb dX8_lowest_26 hl (by decide) rfl (fun ls hl => ?_)
      refine lv_goto (tgt := 6) hx hb dX8_lowest_28 (by decide) ?_
      exact ih _ _ _ _ _ _ _ _ _ hF hw hS (lv_sub hl [3, 4, 5, 1, 0] rfl)
noncomputable def F_X8_lowest (N : Nat) (y0 : Int64) (y2 : Int64) (x4 : Int32) (σ : SS) : Option (Int64 × SS) :=
  F_X8_lowest_6 N N y0 y2 x4 y0 y2 σ
set_option maxRecDepth 100000 in
theorem met_X8_lowest (l : Launch) (G : GG) (rd : Bool) (q : Nat → Nat) {N : Nat} {y0 : Int64} {y2 : Int64} {x4 : Int32} {σ σ' : SS} {r : Int64} (hF : F_X8_lowest N y0 y2 x4 σ = some (r, σ')) : Met l yX8_lowest (ws_ yX8_lowest cX8_lowest 11 (some .long)) rmX8_lowest (pcx G rd q σ [.long y0, .long y2, .int x4]) (qxl G rd q σ' r) 0 0 (fa G) := by
  refine met_of (by decide) (Nat.le_of_ble_eq_true rfl) ?_
  intro p e s m below meth c C H locs ls hw hS hl
  obtain ⟨hx, hb, hml, hown, hts, -, -, -, -⟩ := id C
  have hl : lv_has ls 11 [(0, .long y0), (2, .long y2), (4, .int x4)] := hl
  unfold F_X8_lowest at hF
  refine lv_lload_n hx hb dX8_lowest_0 rfl (lv_at hl 0 rfl) ?_
  refine lv_lstore (lv' := [(5, .long y0), (0, .long y0), (2, .long y2), (4, .int x4)]) hx hb dX8_lowest_1 hl (by decide) rfl (fun ls hl => ?_)
  refine lv_lload_n hx hb dX8_lowest_3 rfl (lv_at hl 2 rfl) ?_
  refine lv_lstore (lv' := [(7, .long y2), (5, .long y0), (0, .long y0), (2, .long y2), (4, .int x4)]) hx hb dX8_lowest_4 hl (by decide) rfl (fun ls hl => ?_)
  exact w_X8_lowest_6 C   N _ _ _ _ _ _ _ _ _ hF hw hS (lv_sub hl [2, 3, 4, 1, 0] rfl)
abbrev rmX8_byFails : Room := { frames := 4, cells := 0, slots := 0, locals := 135 }
noncomputable def F_X8_byFails_152 (N : Nat) (K32 : Int32 → Int32 → Int32 → Int32 → Int64 → Int64 → Int32 → SS → Option (Int64 × SS)) (x1 : Int32) (x2 : Int32) (x3 : Int32) (x4 : Int32) (y7 : Int64) (x9 : Int32) (z0 : Int32) (t1 : Int64) (t2 : Int64) (σ : SS) : Option (Int64 × SS) :=
  nm (t2 + (t1 * z0.toInt64)) fun y_28 =>
  nm (x9 + (1 : Int32)) fun x_29 =>
  K32 x1 x2 x3 x4 y_28 y7 x_29 σ
set_option maxRecDepth 100000 in
theorem w_X8_byFails_152 {p : Program} {l : Launch} {e : Env} {s : State} {m : MethodId} {args : Array Value} {below : List Frame} {meth : Method} {c : Code} {G : GG} {rd : Bool} {q : Nat → Nat} {N : Nat} {r : Int64} {σ' : SS} (C : cx p s m args meth c cX8_byFails 14 RX8 (some .long) G) {K32 : Int32 → Int32 → Int32 → Int32 → Int64 → Int64 → Int32 → SS → Option (Int64 × SS)} (HK32 : ∀ (x1 : Int32) (x2 : Int32) (x3 : Int32) (x4 : Int32) (y5 : Int64) (y7 : Int64) (x9 : Int32) (σ : SS) (H : Heap) (locs : List Loc) (ls : Array Slot), K32 x1 x2 x3 x4 y5 y7 x9 σ = some (r, σ') → wx G rd q σ H → va_S (fa G) s.heap H locs → lv_has ls 14 [(0, .ref (q 1)), (1, .int x1), (2, .int x2), (3, .int x3), (4, .int x4), (5, .long y5), (7, .long y7), (9, .int x9)] → W p l e rmX8_byFails s m args below meth c H locs 0 0 (MQ below (qxl G rd q σ' r) args s 0 0 (fa G)) (F0 m 32 ls [])) : ∀ (x1 : Int32) (x2 : Int32) (x3 : Int32) (x4 : Int32) (y7 : Int64) (x9 : Int32) (z0 : Int32) (t1 : Int64) (t2 : Int64) (σ : SS) (H : Heap) (locs : List Loc) (ls : Array Slot), F_X8_byFails_152 N K32 x1 x2 x3 x4 y7 x9 z0 t1 t2 σ = some (r, σ') → wx G rd q σ H → va_S (fa G) s.heap H locs → lv_has ls 14 [(0, .ref (q 1)), (1, .int x1), (2, .int x2), (3, .int x3), (4, .int x4), (7, .long y7), (9, .int x9)] → W p l e rmX8_byFails s m args below meth c H locs 0 0 (MQ below (qxl G rd q σ' r) args s 0 0 (fa G)) (F0 m 152 ls [.int z0, .long t1, .long t2]) := by
  obtain ⟨hx, hb, hml, hown, hts, -, -, -, -⟩ := id C
  intro x1 x2 x3 x4 y7 x9 z0 t1 t2 σ H locs ls hF hw hS hl
  unfold F_X8_byFails_152 at hF
  refine lv_i2l hx hb dX8_byFails_152 rfl ?_
  refine lv_lmul hx hb dX8_byFails_153 ?_
  refine lv_ladd hx hb dX8_byFails_154 ?_
  obtain ⟨y_28, ey_28, hF⟩ := nm_e2 hF
  refine r_topl ey_28 ?_
  refine lv_lstore (lv' := [(5, .long y_28), (0, .ref (q 1)), (1, .int x1), (2, .int x2), (3, .int x3), (4, .int x4), (7, .long y7), (9, .int x9)]) hx hb dX8_byFails_155 hl (by decide) rfl (fun ls hl => ?_)
  obtain ⟨x_29, ex_29, hF⟩ := nm_e2 hF
  refine lv_iinc (v := x_29) (lv' := [(9, .int x_29), (5, .long y_28), (0, .ref (q 1)), (1, .int x1), (2, .int x2), (3, .int x3), (4, .int x4), (7, .long y7)]) hx hb dX8_byFails_157 hl (k := 7) rfl (by rw [ex_29]; rfl) (by decide) rfl (fun ls hl => ?_)
  refine lv_goto (tgt := 32) hx hb dX8_byFails_160 (by decide) ?_
  exact HK32 _ _ _ _ _ _ _ _ _ _ _ hF hw hS (lv_sub hl [2, 3, 4, 5, 6, 1, 7, 0] rfl)
noncomputable def F_X8_byFails_95 (N : Nat) (K32 : Int32 → Int32 → Int32 → Int32 → Int64 → Int64 → Int32 → SS → Option (Int64 × SS)) (K54 : Int32 → Int32 → Int32 → Int32 → Int64 → Int64 → Int32 → Int64 → Int32 → SS → Option (Int64 × SS)) (x1 : Int32) (x2 : Int32) (x3 : Int32) (x4 : Int32) (y5 : Int64) (y7 : Int64) (x9 : Int32) (x12 : Int32) (x13 : Int32) (t0 : Int64) (t1 : Int64) (σ : SS) : Option (Int64 × SS) :=
  nm (t1 * t0) fun y_30 =>
  bd (F_X8_tickOn N (156 : Int32) x13 σ) fun r_31 σ_32 =>
  nm (x12 + (1 : Int32)) fun x_34 =>
  K54 x1 x2 x3 x4 y5 y7 x9 y_30 x_34 σ_32
set_option maxRecDepth 100000 in
theorem w_X8_byFails_95 {p : Program} {l : Launch} {e : Env} {s : State} {m : MethodId} {args : Array Value} {below : List Frame} {meth : Method} {c : Code} {G : GG} {rd : Bool} {q : Nat → Nat} {N : Nat} {r : Int64} {σ' : SS} (C : cx p s m args meth c cX8_byFails 14 RX8 (some .long) G) {K32 : Int32 → Int32 → Int32 → Int32 → Int64 → Int64 → Int32 → SS → Option (Int64 × SS)} (HK32 : ∀ (x1 : Int32) (x2 : Int32) (x3 : Int32) (x4 : Int32) (y5 : Int64) (y7 : Int64) (x9 : Int32) (σ : SS) (H : Heap) (locs : List Loc) (ls : Array Slot), K32 x1 x2 x3 x4 y5 y7 x9 σ = some (r, σ') → wx G rd q σ H → va_S (fa G) s.heap H locs → lv_has ls 14 [(0, .ref (q 1)), (1, .int x1), (2, .int x2), (3, .int x3), (4, .int x4), (5, .long y5), (7, .long y7), (9, .int x9)] → W p l e rmX8_byFails s m args below meth c H locs 0 0 (MQ below (qxl G rd q σ' r) args s 0 0 (fa G)) (F0 m 32 ls [])) {K54 : Int32 → Int32 → Int32 → Int32 → Int64 → Int64 → Int32 → Int64 → Int32 → SS → Option (Int64 × SS)} (HK54 : ∀ (x1 : Int32) (x2 : Int32) (x3 : Int32) (x4 : Int32) (y5 : Int64) (y7 : Int64) (x9 : Int32) (y10 : Int64) (x12 : Int32) (σ : SS) (H : Heap) (locs : List Loc) (ls : Array Slot), K54 x1 x2 x3 x4 y5 y7 x9 y10 x12 σ = some (r, σ') → wx G rd q σ H → va_S (fa G) s.heap H locs → lv_has ls 14 [(0, .ref (q 1)), (1, .int x1), (2, .int x2), (3, .int x3), (4, .int x4), (5, .long y5), (7, .long y7), (9, .int x9), (10, .long y10), (12, .int x12)] → W p l e rmX8_byFails s m args below meth c H locs 0 0 (MQ below (qxl G rd q σ' r) args s 0 0 (fa G)) (F0 m 54 ls [])) : ∀ (x1 : Int32) (x2 : Int32) (x3 : Int32) (x4 : Int32) (y5 : Int64) (y7 : Int64) (x9 : Int32) (x12 : Int32) (x13 : Int32) (t0 : Int64) (t1 : Int64) (σ : SS) (H : Heap) (locs : List Loc) (ls : Array Slot), F_X8_byFails_95 N K32 K54 x1 x2 x3 x4 y5 y7 x9 x12 x13 t0 t1 σ = some (r, σ') → wx G rd q σ H → va_S (fa G) s.heap H locs → lv_has ls 14 [(0, .ref (q 1)), (1, .int x1), (2, .int x2), (3, .int x3), (4, .int x4), (5, .long y5), (7, .long y7), (9, .int x9), (12, .int x12), (13, .int x13)] → W p l e rmX8_byFails s m args below meth c H locs 0 0 (MQ below (qxl G rd q σ' r) args s 0 0 (fa G)) (F0 m 95 ls [.long t0, .long t1]) := by
  obtain ⟨hx, hb, hml, hown, hts, -, -, -, -⟩ := id C
  intro x1 x2 x3 x4 y5 y7 x9 x12 x13 t0 t1 σ H locs ls hF hw hS hl
  unfold F_X8_byFails_95 at hF
  refine lv_lmul hx hb dX8_byFails_95 ?_
  obtain ⟨y_30, ey_30, hF⟩ := nm_e2 hF
  refine r_topl ey_30 ?_
  refine lv_lstore (lv' := [(10, .long y_30), (0, .ref (q 1)), (1, .int x1), (2, .int x2), (3, .int x3), (4, .int x4), (5, .long y5), (7, .long y7), (9, .int x9), (12, .int x12), (13, .int x13)]) hx hb dX8_byFails_96 hl (by decide) rfl (fun ls hl => ?_)
  refine lv_aload_n hx hb dX8_byFails_98 rfl (lv_at hl 1 rfl) ?_
  refine lv_sipush (v := (156 : Int32)) hx hb dX8_byFails_99 (by decide) ?_
  refine lv_iload hx hb dX8_byFails_102 (lv_at hl 10 rfl) ?_
  obtain ⟨r_31, σ_32, h_33, hF⟩ := bd_e hF
  refine r_callVv (As := [.int (156 : Int32), .int x13]) (rest := []) (i := 1) C hw hS (wi_lo (Or.inl (by decide))) rfl (ci := 8) rfl (met_X8_tickOn l G rd q  h_33) (cwV 2 hts (lw_V q1171 q1173 qs45 q65 q1174) rfl rfl rfl (by decide +kernel) ⟨Nat.le_of_ble_eq_true rfl, Nat.le_of_ble_eq_true rfl⟩) rfl hl.1 rfl (Nat.le_of_ble_eq_true rfl) ⟨Nat.le_refl _, Nat.le_refl _⟩ dX8_byFails_104 (fun H locs hw hS => ?_)
  obtain ⟨x_34, ex_34, hF⟩ := nm_e2 hF
  refine lv_iinc (v := x_34) (lv' := [(12, .int x_34), (10, .long y_30), (0, .ref (q 1)), (1, .int x1), (2, .int x2), (3, .int x3), (4, .int x4), (5, .long y5), (7, .long y7), (9, .int x9), (13, .int x13)]) hx hb dX8_byFails_107 hl (k := 9) rfl (by rw [ex_34]; rfl) (by decide) rfl (fun ls hl => ?_)
  refine lv_goto (tgt := 54) hx hb dX8_byFails_110 (by decide) ?_
  exact HK54 _ _ _ _ _ _ _ _ _ _ _ _ _ hF hw hS (lv_sub hl [2, 3, 4, 5, 6, 7, 8, 9, 1, 0] rfl)
noncomputable def F_X8_byFails_76 (N : Nat) (K32 : Int32 → Int32 → Int32 → Int32 → Int64 → Int64 → Int32 → SS → Option (Int64 × SS)) (K54 : Int32 → Int32 → Int32 → Int32 → Int64 → Int64 → Int32 → Int64 → Int32 → SS → Option (Int64 × SS)) (x1 : Int32) (x2 : Int32) (x3 : Int32) (x4 : Int32) (y5 : Int64) (y7 : Int64) (x9 : Int32) (y10 : Int64) (x12 : Int32) (z0 : Int32) (σ : SS) : Option (Int64 × SS) :=
  if z0 = (0 : Int32) then
    F_X8_byFails_95 N K32 K54 x1 x2 x3 x4 y5 y7 x9 x12 z0 (((10 : Int32) - x1).toInt64) y10 σ
  else
    F_X8_byFails_95 N K32 K54 x1 x2 x3 x4 y5 y7 x9 x12 z0 x1.toInt64 y10 σ
set_option maxRecDepth 100000 in
theorem w_X8_byFails_76 {p : Program} {l : Launch} {e : Env} {s : State} {m : MethodId} {args : Array Value} {below : List Frame} {meth : Method} {c : Code} {G : GG} {rd : Bool} {q : Nat → Nat} {N : Nat} {r : Int64} {σ' : SS} (C : cx p s m args meth c cX8_byFails 14 RX8 (some .long) G) {K32 : Int32 → Int32 → Int32 → Int32 → Int64 → Int64 → Int32 → SS → Option (Int64 × SS)} (HK32 : ∀ (x1 : Int32) (x2 : Int32) (x3 : Int32) (x4 : Int32) (y5 : Int64) (y7 : Int64) (x9 : Int32) (σ : SS) (H : Heap) (locs : List Loc) (ls : Array Slot), K32 x1 x2 x3 x4 y5 y7 x9 σ = some (r, σ') → wx G rd q σ H → va_S (fa G) s.heap H locs → lv_has ls 14 [(0, .ref (q 1)), (1, .int x1), (2, .int x2), (3, .int x3), (4, .int x4), (5, .long y5), (7, .long y7), (9, .int x9)] → W p l e rmX8_byFails s m args below meth c H locs 0 0 (MQ below (qxl G rd q σ' r) args s 0 0 (fa G)) (F0 m 32 ls [])) {K54 : Int32 → Int32 → Int32 → Int32 → Int64 → Int64 → Int32 → Int64 → Int32 → SS → Option (Int64 × SS)} (HK54 : ∀ (x1 : Int32) (x2 : Int32) (x3 : Int32) (x4 : Int32) (y5 : Int64) (y7 : Int64) (x9 : Int32) (y10 : Int64) (x12 : Int32) (σ : SS) (H : Heap) (locs : List Loc) (ls : Array Slot), K54 x1 x2 x3 x4 y5 y7 x9 y10 x12 σ = some (r, σ') → wx G rd q σ H → va_S (fa G) s.heap H locs → lv_has ls 14 [(0, .ref (q 1)), (1, .int x1), (2, .int x2), (3, .int x3), (4, .int x4), (5, .long y5), (7, .long y7), (9, .int x9), (10, .long y10), (12, .int x12)] → W p l e rmX8_byFails s m args below meth c H locs 0 0 (MQ below (qxl G rd q σ' r) args s 0 0 (fa G)) (F0 m 54 ls [])) : ∀ (x1 : Int32) (x2 : Int32) (x3 : Int32) (x4 : Int32) (y5 : Int64) (y7 : Int64) (x9 : Int32) (y10 : Int64) (x12 : Int32) (z0 : Int32) (σ : SS) (H : Heap) (locs : List Loc) (ls : Array Slot), F_X8_byFails_76 N K32 K54 x1 x2 x3 x4 y5 y7 x9 y10 x12 z0 σ = some (r, σ') → wx G rd q σ H → va_S (fa G) s.heap H locs → lv_has ls 14 [(0, .ref (q 1)), (1, .int x1), (2, .int x2), (3, .int x3), (4, .int x4), (5, .long y5), (7, .long y7), (9, .int x9), (10, .long y10), (12, .int x12)] → W p l e rmX8_byFails s m args below meth c H locs 0 0 (MQ below (qxl G rd q σ' r) args s 0 0 (fa G)) (F0 m 76 ls [.int z0]) := by
  obtain ⟨hx, hb, hml, hown, hts, -, -, -, -⟩ := id C
  intro x1 x2 x3 x4 y5 y7 x9 y10 x12 z0 σ H locs ls hF hw hS hl
  unfold F_X8_byFails_76 at hF
  refine lv_istore (lv' := [(13, .int z0), (0, .ref (q 1)), (1, .int x1), (2, .int x2), (3, .int x3), (4, .int x4), (5, .long y5), (7, .long y7), (9, .int x9), (10, .long y10), (12, .int x12)]) hx hb dX8_byFails_76 hl (by decide) rfl (fun ls hl => ?_)
  refine lv_lload hx hb dX8_byFails_78 (lv_at hl 9 rfl) ?_
  refine lv_iload hx hb dX8_byFails_80 (lv_at hl 0 rfl) ?_
  refine lv_if_eq (tgt := 90) hx hb dX8_byFails_82 (by decide) (fun c_35 => ?_) (fun c_35 => ?_)
  · have hF := it_e hF c_35
    refine lv_bipush (v := (10 : Int32)) hx hb dX8_byFails_90 (by decide) ?_
    refine lv_iload_n hx hb dX8_byFails_92 rfl (lv_at hl 2 rfl) ?_
    refine lv_isub hx hb dX8_byFails_93 ?_
    refine lv_i2l hx hb dX8_byFails_94 rfl ?_
    exact w_X8_byFails_95 C  HK32 HK54 _ _ _ _ _ _ _ _ _ _ _ _ _ _ _ hF hw hS (lv_sub hl [1, 2, 3, 4, 5, 6, 7, 8, 10, 0] rfl)
  · have hF := if_e hF c_35
    refine lv_iload_n hx hb dX8_byFails_85 rfl (lv_at hl 2 rfl) ?_
    refine lv_i2l hx hb dX8_byFails_86 rfl ?_
    refine lv_goto (tgt := 95) hx hb dX8_byFails_87 (by decide) ?_
    exact w_X8_byFails_95 C  HK32 HK54 _ _ _ _ _ _ _ _ _ _ _ _ _ _ _ hF hw hS (lv_sub hl [1, 2, 3, 4, 5, 6, 7, 8, 10, 0] rfl)
noncomputable def B_X8_byFails_54 (N : Nat) (K32 : Int32 → Int32 → Int32 → Int32 → Int64 → Int64 → Int32 → SS → Option (Int64 × SS)) (IH : Int32 → Int32 → Int32 → Int32 → Int64 → Int64 → Int32 → Int64 → Int32 → SS → Option (Int64 × SS)) (x1 : Int32) (x2 : Int32) (x3 : Int32) (x4 : Int32) (y5 : Int64) (y7 : Int64) (x9 : Int32) (y10 : Int64) (x12 : Int32) (σ : SS) : Option (Int64 × SS) :=
  if x2 ≤ x12 then
    if x3 = (0 : Int32) then
      bd (F_X8_lackThen N σ) fun r_38 σ_39 =>
      if r_38 = (0 : Int32) then
        F_X8_byFails_152 N K32 x1 x2 x3 x4 y7 x9 (1 : Int32) y10 y5 σ_39
      else
        F_X8_byFails_152 N K32 x1 x2 x3 x4 y7 x9 (0 : Int32) y10 y5 σ_39
    else
      gd (inR (193 : Int32) 234) <|
      gd (inR (37 : Int32) 234) <|
      F_X8_byFails_152 N K32 x1 x2 x3 x4 y7 x9 ((gi σ 21 (193 : Int32).toNatClampNeg) - (gi σ 21 (37 : Int32).toNatClampNeg)) y10 y5 σ
  else
    if ((x9 >>> (x12 &&& 31)) &&& (1 : Int32)) = (1 : Int32) then
      F_X8_byFails_76 N K32 IH x1 x2 x3 x4 y5 y7 x9 y10 x12 (1 : Int32) σ
    else
      F_X8_byFails_76 N K32 IH x1 x2 x3 x4 y5 y7 x9 y10 x12 (0 : Int32) σ
noncomputable def F_X8_byFails_54 (N : Nat) (K32 : Int32 → Int32 → Int32 → Int32 → Int64 → Int64 → Int32 → SS → Option (Int64 × SS)) (n : Nat) : Int32 → Int32 → Int32 → Int32 → Int64 → Int64 → Int32 → Int64 → Int32 → SS → Option (Int64 × SS) := Nat.rec (fun _ _ _ _ _ _ _ _ _ _ => none) (fun _ IH => B_X8_byFails_54 N K32 IH) n
set_option maxRecDepth 100000 in
theorem w_X8_byFails_54 {p : Program} {l : Launch} {e : Env} {s : State} {m : MethodId} {args : Array Value} {below : List Frame} {meth : Method} {c : Code} {G : GG} {rd : Bool} {q : Nat → Nat} {N : Nat} {r : Int64} {σ' : SS} (C : cx p s m args meth c cX8_byFails 14 RX8 (some .long) G) {K32 : Int32 → Int32 → Int32 → Int32 → Int64 → Int64 → Int32 → SS → Option (Int64 × SS)} (HK32 : ∀ (x1 : Int32) (x2 : Int32) (x3 : Int32) (x4 : Int32) (y5 : Int64) (y7 : Int64) (x9 : Int32) (σ : SS) (H : Heap) (locs : List Loc) (ls : Array Slot), K32 x1 x2 x3 x4 y5 y7 x9 σ = some (r, σ') → wx G rd q σ H → va_S (fa G) s.heap H locs → lv_has ls 14 [(0, .ref (q 1)), (1, .int x1), (2, .int x2), (3, .int x3), (4, .int x4), (5, .long y5), (7, .long y7), (9, .int x9)] → W p l e rmX8_byFails s m args below meth c H locs 0 0 (MQ below (qxl G rd q σ' r) args s 0 0 (fa G)) (F0 m 32 ls [])) : ∀ (n : Nat), ∀ (x1 : Int32) (x2 : Int32) (x3 : Int32) (x4 : Int32) (y5 : Int64) (y7 : Int64) (x9 : Int32) (y10 : Int64) (x12 : Int32) (σ : SS) (H : Heap) (locs : List Loc) (ls : Array Slot), F_X8_byFails_54 N K32 n x1 x2 x3 x4 y5 y7 x9 y10 x12 σ = some (r, σ') → wx G rd q σ H → va_S (fa G) s.heap H locs → lv_has ls 14 [(0, .ref (q 1)), (1, .int x1), (2, .int x2), (3, .int x3), (4, .int x4), (5, .long y5), (7, .long y7), (9, .int x9), (10, .long y10), (12, .int x12)] → W p l e rmX8_byFails s m args below meth c H locs 0 0 (MQ below (qxl G rd q σ' r) args s 0 0 (fa G)) (F0 m 54 ls []) := by
  obtain ⟨hx, hb, hml, hown, hts, -, -, -, -⟩ := id C
  intro n
  induction n with
  | zero =>
    intro x1 x2 x3 x4 y5 y7 x9 y10 x12 σ H locs ls hF hw hS hl
    cases hF
  | succ n ih =>
    intro x1 x2 x3 x4 y5 y7 x9 y10 x12 σ H locs ls hF hw hS hl
    have hF : B_X8_byFails_54 N K32 (F_X8_byFails_54 N K32 n) x1 x2 x3 x4 y5 y7 x9 y10 x12 σ = some (r, σ') := hF
    unfold B_X8_byFails_54 at hF
    refine lv_iload hx hb dX8_byFails_54 (lv_at hl 9 rfl) ?_
    refine lv_iload_n hx hb dX8_byFails_56 rfl (lv_at hl 2 rfl) ?_
    refine lv_icmp_ge (tgt := 113) hx hb dX8_byFails_57 (by decide) (fun c_36 => ?_) (fun c_36 => ?_)
    · have hF := it_e hF c_36
      refine lv_lload hx hb dX8_byFails_113 (lv_at hl 5 rfl) ?_
      refine lv_lload hx hb dX8_byFails_115 (lv_at hl 8 rfl) ?_
      refine lv_iload_n hx hb dX8_byFails_117 rfl (lv_at hl 3 rfl) ?_
      refine lv_if_eq (tgt := 140) hx hb dX8_byFails_118 (by decide) (fun c_37 => ?_) (fun c_37 => ?_)
      · have hF := it_e hF c_37
        refine lv_aload_n hx hb dX8_byFails_140 rfl (lv_at hl 0 rfl) ?_
        obtain ⟨r_38, σ_39, h_40, hF⟩ := bd_e hF
        refine r_callVi (As := []) (rest := [.long y10, .long y5]) (i := 1) C hw hS (wi_lo (Or.inl (by decide))) rfl (ci := 8) rfl (met_X8_lackThen l G rd q  h_40) (cwV 0 hts (lw_V q1196 q1198 qs49 q65 q1199) rfl rfl rfl (by decide +kernel) ⟨Nat.le_of_ble_eq_true rfl, Nat.le_of_ble_eq_true rfl⟩) rfl hl.1 rfl (Nat.le_of_ble_eq_true rfl) ⟨Nat.le_refl _, Nat.le_refl _⟩ dX8_byFails_141 (fun H locs hw hS => ?_)
        refine lv_if_ne (tgt := 151) hx hb dX8_byFails_144 (by decide) (fun c_41 => ?_) (fun c_41 => ?_)
        · have hF := if_e hF c_41
          refine lv_iconst (v := (0 : Int32)) hx hb dX8_byFails_151 (by decide) ?_
          exact w_X8_byFails_152 C  HK32 _ _ _ _ _ _ _ _ _ _ _ _ _ hF hw hS (lv_sub hl [0, 1, 2, 3, 4, 6, 7] rfl)
        · have hF := it_e hF c_41
          refine lv_iconst (v := (1 : Int32)) hx hb dX8_byFails_147 (by decide) ?_
          refine lv_goto (tgt := 152) hx hb dX8_byFails_148 (by decide) ?_
          exact w_X8_byFails_152 C  HK32 _ _ _ _ _ _ _ _ _ _ _ _ _ hF hw hS (lv_sub hl [0, 1, 2, 3, 4, 6, 7] rfl)
      · have hF := if_e hF c_37
        refine lv_aload_n hx hb dX8_byFails_121 rfl (lv_at hl 0 rfl) ?_
        refine r_get8 C hw 0 (by decide) rfl (v := .ref (q 21)) rfl q955 dX8_byFails_122 ?_
        refine lv_sipush (v := (193 : Int32)) hx hb dX8_byFails_125 (by decide) ?_
        obtain ⟨h_42, hF⟩ := gd_e hF
        refine r_iald (i := 21) (n := 234) (g := 21) (st := 0) C hw (wi_lo (Or.inr ⟨by decide, by decide⟩)) rfl h_42 dX8_byFails_128 ?_
        refine lv_aload_n hx hb dX8_byFails_129 rfl (lv_at hl 0 rfl) ?_
        refine r_get8 C hw 0 (by decide) rfl (v := .ref (q 21)) rfl q955 dX8_byFails_130 ?_
        refine lv_bipush (v := (37 : Int32)) hx hb dX8_byFails_133 (by decide) ?_
        obtain ⟨h_43, hF⟩ := gd_e hF
        refine r_iald (i := 21) (n := 234) (g := 21) (st := 0) C hw (wi_lo (Or.inr ⟨by decide, by decide⟩)) rfl h_43 dX8_byFails_135 ?_
        refine lv_isub hx hb dX8_byFails_136 ?_
        refine lv_goto (tgt := 152) hx hb dX8_byFails_137 (by decide) ?_
        exact w_X8_byFails_152 C  HK32 _ _ _ _ _ _ _ _ _ _ _ _ _ hF hw hS (lv_sub hl [0, 1, 2, 3, 4, 6, 7] rfl)
    · have hF := if_e hF c_36
      refine lv_iload hx hb dX8_byFails_60 (lv_at hl 7 rfl) ?_
      refine lv_iload hx hb dX8_byFails_62 (lv_at hl 9 rfl) ?_
      refine lv_ishr hx hb dX8_byFails_64 ?_
      refine lv_iconst (v := (1 : Int32)) hx hb dX8_byFails_65 (by decide) ?_
      refine lv_iand hx hb dX8_byFails_66 ?_
      refine lv_iconst (v := (1 : Int32)) hx hb dX8_byFails_67 (by decide) ?_
      refine lv_icmp_ne (tgt := 75) hx hb dX8_byFails_68 (by decide) (fun c_44 => ?_) (fun c_44 => ?_)
      · have hF := if_e hF c_44
        refine lv_iconst (v := (0 : Int32)) hx hb dX8_byFails_75 (by decide) ?_
        exact w_X8_byFails_76 C  HK32 ih _ _ _ _ _ _ _ _ _ _ _ _ _ _ hF hw hS (lv_sub hl [0, 1, 2, 3, 4, 5, 6, 7, 8, 9] rfl)
      · have hF := it_e hF c_44
        refine lv_iconst (v := (1 : Int32)) hx hb dX8_byFails_71 (by decide) ?_
        refine lv_goto (tgt := 76) hx hb dX8_byFails_72 (by decide) ?_
        exact w_X8_byFails_76 C  HK32 ih _ _ _ _ _ _ _ _ _ _ _ _ _ _ hF hw hS (lv_sub hl [0, 1, 2, 3, 4, 5, 6, 7, 8, 9] rfl)
noncomputable def B_X8_byFails_32 (N : Nat) (IH : Int32 → Int32 → Int32 → Int32 → Int64 → Int64 → Int32 → SS → Option (Int64 × SS)) (x1 : Int32) (x2 : Int32) (x3 : Int32) (x4 : Int32) (y5 : Int64) (y7 : Int64) (x9 : Int32) (σ : SS) : Option (Int64 × SS) :=
  if ((1 : Int32) <<< (x2 &&& 31)) ≤ x9 then
    bd (F_X8_lowest N y5 y7 x4 σ) fun r_46 σ_47 =>
    some (r_46, σ_47)
  else
    bd (F_X8_copies N (0 : Int32) (156 : Int32) σ) fun r_49 σ_50 =>
    F_X8_byFails_54 N IH N x1 x2 x3 x4 y5 y7 x9 (1 : Int64) (0 : Int32) σ_50
noncomputable def F_X8_byFails_32 (N : Nat) (n : Nat) : Int32 → Int32 → Int32 → Int32 → Int64 → Int64 → Int32 → SS → Option (Int64 × SS) := Nat.rec (fun _ _ _ _ _ _ _ _ => none) (fun _ IH => B_X8_byFails_32 N IH) n
set_option maxRecDepth 100000 in
theorem w_X8_byFails_32 {p : Program} {l : Launch} {e : Env} {s : State} {m : MethodId} {args : Array Value} {below : List Frame} {meth : Method} {c : Code} {G : GG} {rd : Bool} {q : Nat → Nat} {N : Nat} {r : Int64} {σ' : SS} (C : cx p s m args meth c cX8_byFails 14 RX8 (some .long) G) : ∀ (n : Nat), ∀ (x1 : Int32) (x2 : Int32) (x3 : Int32) (x4 : Int32) (y5 : Int64) (y7 : Int64) (x9 : Int32) (σ : SS) (H : Heap) (locs : List Loc) (ls : Array Slot), F_X8_byFails_32 N n x1 x2 x3 x4 y5 y7 x9 σ = some (r, σ') → wx G rd q σ H → va_S (fa G) s.heap H locs → lv_has ls 14 [(0, .ref (q 1)), (1, .int x1), (2, .int x2), (3, .int x3), (4, .int x4), (5, .long y5), (7, .long y7), (9, .int x9)] → W p l e rmX8_byFails s m args below meth c H locs 0 0 (MQ below (qxl G rd q σ' r) args s 0 0 (fa G)) (F0 m 32 ls []) := by
  obtain ⟨hx, hb, hml, hown, hts, -, -, -, -⟩ := id C
  intro n
  induction n with
  | zero =>
    intro x1 x2 x3 x4 y5 y7 x9 σ H locs ls hF hw hS hl
    cases hF
  | succ n ih =>
    intro x1 x2 x3 x4 y5 y7 x9 σ H locs ls hF hw hS hl
    have hF : B_X8_byFails_32 N (F_X8_byFails_32 N n) x1 x2 x3 x4 y5 y7 x9 σ = some (r, σ') := hF
    unfold B_X8_byFails_32 at hF
    refine lv_iload hx hb dX8_byFails_32 (lv_at hl 7 rfl) ?_
    refine lv_iconst (v := (1 : Int32)) hx hb dX8_byFails_34 (by decide) ?_
    refine lv_iload_n hx hb dX8_byFails_35 rfl (lv_at hl 2 rfl) ?_
    refine lv_ishl hx hb dX8_byFails_36 ?_
    refine lv_icmp_ge (tgt := 163) hx hb dX8_byFails_37 (by decide) (fun c_45 => ?_) (fun c_45 => ?_)
    · have hF := it_e hF c_45
      refine lv_lload hx hb dX8_byFails_163 (lv_at hl 5 rfl) ?_
      refine lv_lload hx hb dX8_byFails_165 (lv_at hl 6 rfl) ?_
      refine lv_iload hx hb dX8_byFails_167 (lv_at hl 4 rfl) ?_
      obtain ⟨r_46, σ_47, h_48, hF⟩ := bd_e hF
      refine r_callSl (As := [.long y5, .long y7, .int x4]) (rest := []) C hw hS (met_X8_lowest l G rd q  h_48) (cwS 3 hts (lw_S q1254 q1255 q65 q1256) rfl rfl rfl (by decide +kernel) ⟨Nat.le_of_ble_eq_true rfl, Nat.le_of_ble_eq_true rfl⟩) rfl hl.1 rfl (Nat.le_of_ble_eq_true rfl) ⟨Nat.le_refl _, Nat.le_refl _⟩ dX8_byFails_169 (fun H locs hw hS => ?_)
      exact r_lret C hw hS hF dX8_byFails_172
    · have hF := if_e hF c_45
      refine lv_lconst (v := (1 : Int64)) hx hb dX8_byFails_40 (by decide) ?_
      refine lv_lstore (lv' := [(10, .long (1 : Int64)), (0, .ref (q 1)), (1, .int x1), (2, .int x2), (3, .int x3), (4, .int x4), (5, .long y5), (7, .long y7), (9, .int x9)]) hx hb dX8_byFails_41 hl (by decide) rfl (fun ls hl => ?_)
      refine lv_aload_n hx hb dX8_byFails_43 rfl (lv_at hl 1 rfl) ?_
      refine lv_iconst (v := (0 : Int32)) hx hb dX8_byFails_44 (by decide) ?_
      refine lv_sipush (v := (156 : Int32)) hx hb dX8_byFails_45 (by decide) ?_
      obtain ⟨r_49, σ_50, h_51, hF⟩ := bd_e hF
      refine r_callVv (As := [.int (0 : Int32), .int (156 : Int32)]) (rest := []) (i := 1) C hw hS (wi_lo (Or.inl (by decide))) rfl (ci := 8) rfl (met_X8_copies l G rd q  h_51) (cwV 2 hts (lw_V q1192 q1194 qs48 q65 q1195) rfl rfl rfl (by decide +kernel) ⟨Nat.le_of_ble_eq_true rfl, Nat.le_of_ble_eq_true rfl⟩) rfl hl.1 rfl (Nat.le_of_ble_eq_true rfl) ⟨Nat.le_refl _, Nat.le_refl _⟩ dX8_byFails_48 (fun H locs hw hS => ?_)
      refine lv_iconst (v := (0 : Int32)) hx hb dX8_byFails_51 (by decide) ?_
      refine lv_istore (lv' := [(12, .int (0 : Int32)), (10, .long (1 : Int64)), (0, .ref (q 1)), (1, .int x1), (2, .int x2), (3, .int x3), (4, .int x4), (5, .long y5), (7, .long y7), (9, .int x9)]) hx hb dX8_byFails_52 hl (by decide) rfl (fun ls hl => ?_)
      exact w_X8_byFails_54 C  ih N _ _ _ _ _ _ _ _ _ _ _ _ _ hF hw hS (lv_sub hl [2, 3, 4, 5, 6, 7, 8, 9, 1, 0] rfl)
noncomputable def B_X8_byFails_9 (N : Nat) (IH : Int32 → Int32 → Int32 → Int32 → Int64 → Int64 → Int32 → SS → Option (Int64 × SS)) (x1 : Int32) (x2 : Int32) (x3 : Int32) (x4 : Int32) (y5 : Int64) (y7 : Int64) (x9 : Int32) (σ : SS) : Option (Int64 × SS) :=
  if x2 ≤ x9 then
    F_X8_byFails_32 N N x1 x2 x3 x4 y5 y7 (0 : Int32) σ
  else
    nm (y7 * (10 : Int64)) fun y_53 =>
    nm (x9 + (1 : Int32)) fun x_54 =>
    IH x1 x2 x3 x4 y5 y_53 x_54 σ
noncomputable def F_X8_byFails_9 (N : Nat) (n : Nat) : Int32 → Int32 → Int32 → Int32 → Int64 → Int64 → Int32 → SS → Option (Int64 × SS) := Nat.rec (fun _ _ _ _ _ _ _ _ => none) (fun _ IH => B_X8_byFails_9 N IH) n
set_option maxRecDepth 100000 in
theorem w_X8_byFails_9 {p : Program} {l : Launch} {e : Env} {s : State} {m : MethodId} {args : Array Value} {below : List Frame} {meth : Method} {c : Code} {G : GG} {rd : Bool} {q : Nat → Nat} {N : Nat} {r : Int64} {σ' : SS} (C : cx p s m args meth c cX8_byFails 14 RX8 (some .long) G) : ∀ (n : Nat), ∀ (x1 : Int32) (x2 : Int32) (x3 : Int32) (x4 : Int32) (y5 : Int64) (y7 : Int64) (x9 : Int32) (σ : SS) (H : Heap) (locs : List Loc) (ls : Array Slot), F_X8_byFails_9 N n x1 x2 x3 x4 y5 y7 x9 σ = some (r, σ') → wx G rd q σ H → va_S (fa G) s.heap H locs → lv_has ls 14 [(0, .ref (q 1)), (1, .int x1), (2, .int x2), (3, .int x3), (4, .int x4), (5, .long y5), (7, .long y7), (9, .int x9)] → W p l e rmX8_byFails s m args below meth c H locs 0 0 (MQ below (qxl G rd q σ' r) args s 0 0 (fa G)) (F0 m 9 ls []) := by
  obtain ⟨hx, hb, hml, hown, hts, -, -, -, -⟩ := id C
  intro n
  induction n with
  | zero =>
    intro x1 x2 x3 x4 y5 y7 x9 σ H locs ls hF hw hS hl
    cases hF
  | succ n ih =>
    intro x1 x2 x3 x4 y5 y7 x9 σ H locs ls hF hw hS hl
    have hF : B_X8_byFails_9 N (F_X8_byFails_9 N n) x1 x2 x3 x4 y5 y7 x9 σ = some (r, σ') := hF
    unfold B_X8_byFails_9 at hF
    refine lv_iload hx hb dX8_byFails_9 (lv_at hl 7 rfl) ?_
    refine lv_iload_n hx hb dX8_byFails_11 rfl (lv_at hl 2 rfl) ?_
    refine lv_icmp_ge (tgt := 29) hx hb dX8_byFails_12 (by decide) (fun c_52 => ?_) (fun c_52 => ?_)
    · have hF := it_e hF c_52
      refine lv_iconst (v := (0 : Int32)) hx hb dX8_byFails_29 (by decide) ?_
      refine lv_istore (lv' := [(9, .int (0 : Int32)), (0, .ref (q 1)), (1, .int x1), (2, .int x2), (3, .int x3), (4, .int x4), (5, .long y5), (7, .long y7)]) hx hb dX8_byFails_30 hl (by decide) rfl (fun ls hl => ?_)
      exact w_X8_byFails_32 C   N _ _ _ _ _ _ _ _ _ _ _ hF hw hS (lv_sub hl [1, 2, 3, 4, 5, 6, 7, 0] rfl)
    · have hF := if_e hF c_52
      refine lv_lload hx hb dX8_byFails_15 (lv_at hl 6 rfl) ?_
      refine lv_ldc2 (v := (10 : Int64)) hx hb hown (hts _ q1248) dX8_byFails_17 ?_
      refine lv_lmul hx hb dX8_byFails_20 ?_
      obtain ⟨y_53, ey_53, hF⟩ := nm_e2 hF
      refine r_topl ey_53 ?_
      refine lv_lstore (lv' := [(7, .long y_53), (0, .ref (q 1)), (1, .int x1), (2, .int x2), (3, .int x3), (4, .int x4), (5, .long y5), (9, .int x9)]) hx hb dX8_byFails_21 hl (by decide) rfl (fun ls hl => ?_)
      obtain ⟨x_54, ex_54, hF⟩ := nm_e2 hF
      refine lv_iinc (v := x_54) (lv' := [(9, .int x_54), (7, .long y_53), (0, .ref (q 1)), (1, .int x1), (2, .int x2), (3, .int x3), (4, .int x4), (5, .long y5)]) hx hb dX8_byFails_23 hl (k := 7) rfl (by rw [ex_54]; rfl) (by decide) rfl (fun ls hl => ?_)
      refine lv_goto (tgt := 9) hx hb dX8_byFails_26 (by decide) ?_
      exact ih _ _ _ _ _ _ _ _ _ _ _ hF hw hS (lv_sub hl [2, 3, 4, 5, 6, 7, 1, 0] rfl)
noncomputable def F_X8_byFails (N : Nat) (x1 : Int32) (x2 : Int32) (x3 : Int32) (x4 : Int32) (σ : SS) : Option (Int64 × SS) :=
  F_X8_byFails_9 N N x1 x2 x3 x4 (0 : Int64) (1 : Int64) (0 : Int32) σ
set_option maxRecDepth 100000 in
theorem met_X8_byFails (l : Launch) (G : GG) (rd : Bool) (q : Nat → Nat) {N : Nat} {x1 : Int32} {x2 : Int32} {x3 : Int32} {x4 : Int32} {σ σ' : SS} {r : Int64} (hF : F_X8_byFails N x1 x2 x3 x4 σ = some (r, σ')) : Met l yX8_byFails (ws_ yX8_byFails cX8_byFails 14 (some .long)) rmX8_byFails (pcx G rd q σ [.ref (q 1), .int x1, .int x2, .int x3, .int x4]) (qxl G rd q σ' r) 0 0 (fa G) := by
  refine met_of (by decide) (Nat.le_of_ble_eq_true rfl) ?_
  intro p e s m below meth c C H locs ls hw hS hl
  obtain ⟨hx, hb, hml, hown, hts, -, -, -, -⟩ := id C
  have hl : lv_has ls 14 [(0, .ref (q 1)), (1, .int x1), (2, .int x2), (3, .int x3), (4, .int x4)] := hl
  unfold F_X8_byFails at hF
  refine lv_lconst (v := (0 : Int64)) hx hb dX8_byFails_0 (by decide) ?_
  refine lv_lstore (lv' := [(5, .long (0 : Int64)), (0, .ref (q 1)), (1, .int x1), (2, .int x2), (3, .int x3), (4, .int x4)]) hx hb dX8_byFails_1 hl (by decide) rfl (fun ls hl => ?_)
  refine lv_lconst (v := (1 : Int64)) hx hb dX8_byFails_3 (by decide) ?_
  refine lv_lstore (lv' := [(7, .long (1 : Int64)), (5, .long (0 : Int64)), (0, .ref (q 1)), (1, .int x1), (2, .int x2), (3, .int x3), (4, .int x4)]) hx hb dX8_byFails_4 hl (by decide) rfl (fun ls hl => ?_)
  refine lv_iconst (v := (0 : Int32)) hx hb dX8_byFails_6 (by decide) ?_
  refine lv_istore (lv' := [(9, .int (0 : Int32)), (7, .long (1 : Int64)), (5, .long (0 : Int64)), (0, .ref (q 1)), (1, .int x1), (2, .int x2), (3, .int x3), (4, .int x4)]) hx hb dX8_byFails_7 hl (by decide) rfl (fun ls hl => ?_)
  exact w_X8_byFails_9 C   N _ _ _ _ _ _ _ _ _ _ _ hF hw hS (lv_sub hl [3, 4, 5, 6, 7, 2, 1, 0] rfl)
abbrev rmX8_byteAt : Room := { frames := 1, cells := 0, slots := 0, locals := 60 }
noncomputable def F_X8_byteAt (N : Nat) (x1 : Int32) (σ : SS) : Option (Int32 × SS) :=
  if (gi σ 1 4) ≤ x1 then
    some ((-4 : Int32), σ)
  else
    gd (inR x1 160) <|
    some (gi σ 23 x1.toNatClampNeg, σ)
set_option maxRecDepth 100000 in
theorem met_X8_byteAt (l : Launch) (G : GG) (rd : Bool) (q : Nat → Nat) {N : Nat} {x1 : Int32} {σ σ' : SS} {r : Int32} (hF : F_X8_byteAt N x1 σ = some (r, σ')) : Met l yX8_byteAt (ws_ yX8_byteAt cX8_byteAt 2 (some .int)) rmX8_byteAt (pcx G rd q σ [.ref (q 1), .int x1]) (qxi G rd q σ' r) 0 0 (fa G) := by
  refine met_of (by decide) (Nat.le_of_ble_eq_true rfl) ?_
  intro p e s m below meth c C H locs ls hw hS hl
  obtain ⟨hx, hb, hml, hown, hts, -, -, -, -⟩ := id C
  have hl : lv_has ls 2 [(0, .ref (q 1)), (1, .int x1)] := hl
  unfold F_X8_byteAt at hF
  refine lv_iload_n hx hb dX8_byteAt_0 rfl (lv_at hl 1 rfl) ?_
  refine lv_aload_n hx hb dX8_byteAt_1 rfl (lv_at hl 0 rfl) ?_
  refine r_get8 C hw 4 (by decide) rfl (v := .int (gi σ 1 4)) rfl q959 dX8_byteAt_2 ?_
  refine lv_icmp_ge (tgt := 17) hx hb dX8_byteAt_5 (by decide) (fun c_3 => ?_) (fun c_3 => ?_)
  · have hF := it_e hF c_3
    refine lv_bipush (v := (-4 : Int32)) hx hb dX8_byteAt_17 (by decide) ?_
    exact r_iret C hw hS hF dX8_byteAt_19
  · have hF := if_e hF c_3
    refine lv_aload_n hx hb dX8_byteAt_8 rfl (lv_at hl 0 rfl) ?_
    refine r_get8 C hw 3 (by decide) rfl (v := .ref (q 23)) rfl q958 dX8_byteAt_9 ?_
    refine lv_iload_n hx hb dX8_byteAt_12 rfl (lv_at hl 1 rfl) ?_
    obtain ⟨h_4, hF⟩ := gd_e hF
    refine r_iald (i := 23) (n := 160) (g := 23) (st := 0) C hw (wi_lo (Or.inr ⟨by decide, by decide⟩)) rfl h_4 dX8_byteAt_13 ?_
    refine lv_goto (tgt := 19) hx hb dX8_byteAt_14 (by decide) ?_
    exact r_iret C hw hS hF dX8_byteAt_19
abbrev rmX8_count : Room := { frames := 1, cells := 0, slots := 0, locals := 60 }
noncomputable def F_X8_count_107 (N : Nat) (z0 : Int32) (σ : SS) : Option (Int32 × SS) :=
  gd (inR (1 : Int32) 2) <|
  if (gi σ 28 (1 : Int32).toNatClampNeg) = (0 : Int32) then
    some (z0 + (0 : Int32), σ)
  else
    some (z0 + (1 : Int32), σ)
set_option maxRecDepth 100000 in
theorem w_X8_count_107 {p : Program} {l : Launch} {e : Env} {s : State} {m : MethodId} {args : Array Value} {below : List Frame} {meth : Method} {c : Code} {G : GG} {rd : Bool} {q : Nat → Nat} {N : Nat} {r : Int32} {σ' : SS} (C : cx p s m args meth c cX8_count 5 RX8 (some .int) G) : ∀ (z0 : Int32) (σ : SS) (H : Heap) (locs : List Loc) (ls : Array Slot), F_X8_count_107 N z0 σ = some (r, σ') → wx G rd q σ H → va_S (fa G) s.heap H locs → lv_has ls 5 [(0, .ref (q 1))] → W p l e rmX8_count s m args below meth c H locs 0 0 (MQ below (qxi G rd q σ' r) args s 0 0 (fa G)) (F0 m 107 ls [.int z0]) := by
  obtain ⟨hx, hb, hml, hown, hts, -, -, -, -⟩ := id C
  intro z0 σ H locs ls hF hw hS hl
  unfold F_X8_count_107 at hF
  refine lv_aload_n hx hb dX8_count_107 rfl (lv_at hl 0 rfl) ?_
  refine r_get8 C hw 21 (by decide) rfl (v := .ref (q 28)) rfl q976 dX8_count_108 ?_
  refine lv_iconst (v := (1 : Int32)) hx hb dX8_count_111 (by decide) ?_
  obtain ⟨h_22, hF⟩ := gd_e hF
  refine r_zald (i := 28) (n := 2) (g := 28) (st := 0) C hw (wi_lo (Or.inr ⟨by decide, by decide⟩)) rfl h_22 dX8_count_112 ?_
  refine lv_if_eq (tgt := 120) hx hb dX8_count_113 (by decide) (fun c_23 => ?_) (fun c_23 => ?_)
  · have hF := it_e hF c_23
    refine lv_iconst (v := (0 : Int32)) hx hb dX8_count_120 (by decide) ?_
    refine lv_iadd hx hb dX8_count_121 ?_
    exact r_iret C hw hS hF dX8_count_122
  · have hF := if_e hF c_23
    refine lv_iconst (v := (1 : Int32)) hx hb dX8_count_116 (by decide) ?_
    refine lv_goto (tgt := 121) hx hb dX8_count_117 (by decide) ?_
    refine lv_iadd hx hb dX8_count_121 ?_
    exact r_iret C hw hS hF dX8_count_122
noncomputable def B_X8_count_7 (N : Nat) (IH : Int32 → Int32 → Int32 → Int32 → SS → Option (Int32 × SS)) (x1 : Int32) (x2 : Int32) (x3 : Int32) (x4 : Int32) (σ : SS) : Option (Int32 × SS) :=
  gd (inR (16 : Int32) 234) <|
  if (gi σ 21 (16 : Int32).toNatClampNeg) ≤ x4 then
    if (x1.toInt < 0 ∨ 5 < x1.toInt) then
      some ((-1 : Int32), σ)
    else
      if x1 = (0 : Int32) then
        some (gi σ 1 19, σ)
      else
        if x1 = (1 : Int32) then
          gd (inR (0 : Int32) 2) <|
          if (gi σ 28 (0 : Int32).toNatClampNeg) = (0 : Int32) then
            F_X8_count_107 N (0 : Int32) σ
          else
            F_X8_count_107 N (1 : Int32) σ
        else
          if x1 = (2 : Int32) then
            some (gi σ 1 4, σ)
          else
            if x1 = (3 : Int32) then
              gd (inR (0 : Int32) 4) <|
              if (gi σ 29 (0 : Int32).toNatClampNeg) = (-4 : Int32) then
                some ((-4 : Int32), σ)
              else
                gd (inR (0 : Int32) 4) <|
                some (gi σ 30 (0 : Int32).toNatClampNeg, σ)
            else
              if x1 = (4 : Int32) then
                some (x2, σ)
              else
                if x1 = (5 : Int32) then
                  some (x3, σ)
                else
                  none
  else
    gd (inR ((4 : Int32) + x4) 234) <|
    nm (x2 + (gi σ 21 ((4 : Int32) + x4).toNatClampNeg)) fun x_39 =>
    gd (inR ((8 : Int32) + x4) 234) <|
    nm (x3 + (gi σ 21 ((8 : Int32) + x4).toNatClampNeg)) fun x_41 =>
    nm (x4 + (1 : Int32)) fun x_42 =>
    IH x1 x_39 x_41 x_42 σ
noncomputable def F_X8_count_7 (N : Nat) (n : Nat) : Int32 → Int32 → Int32 → Int32 → SS → Option (Int32 × SS) := Nat.rec (fun _ _ _ _ _ => none) (fun _ IH => B_X8_count_7 N IH) n
set_option maxRecDepth 100000 in
theorem w_X8_count_7 {p : Program} {l : Launch} {e : Env} {s : State} {m : MethodId} {args : Array Value} {below : List Frame} {meth : Method} {c : Code} {G : GG} {rd : Bool} {q : Nat → Nat} {N : Nat} {r : Int32} {σ' : SS} (C : cx p s m args meth c cX8_count 5 RX8 (some .int) G) : ∀ (n : Nat), ∀ (x1 : Int32) (x2 : Int32) (x3 : Int32) (x4 : Int32) (σ : SS) (H : Heap) (locs : List Loc) (ls : Array Slot), F_X8_count_7 N n x1 x2 x3 x4 σ = some (r, σ') → wx G rd q σ H → va_S (fa G) s.heap H locs → lv_has ls 5 [(0, .ref (q 1)), (1, .int x1), (2, .int x2), (3, .int x3), (4, .int x4)] → W p l e rmX8_count s m args below meth c H locs 0 0 (MQ below (qxi G rd q σ' r) args s 0 0 (fa G)) (F0 m 7 ls []) := by
  obtain ⟨hx, hb, hml, hown, hts, -, -, -, -⟩ := id C
  intro n
  induction n with
  | zero =>
    intro x1 x2 x3 x4 σ H locs ls hF hw hS hl
    cases hF
  | succ n ih =>
    intro x1 x2 x3 x4 σ H locs ls hF hw hS hl
    have hF : B_X8_count_7 N (F_X8_count_7 N n) x1 x2 x3 x4 σ = some (r, σ') := hF
    unfold B_X8_count_7 at hF
    refine lv_iload hx hb dX8_count_7 (lv_at hl 4 rfl) ?_
    refine lv_aload_n hx hb dX8_count_9 rfl (lv_at hl 0 rfl) ?_
    refine r_get8 C hw 0 (by decide) rfl (v := .ref (q 21)) rfl q955 dX8_count_10 ?_
    refine lv_bipush (v := (16 : Int32)) hx hb dX8_count_13 (by decide) ?_
    obtain ⟨h_24, hF⟩ := gd_e hF
    refine r_iald (i := 21) (n := 234) (g := 21) (st := 0) C hw (wi_lo (Or.inr ⟨by decide, by decide⟩)) rfl h_24 dX8_count_15 ?_
    refine lv_icmp_ge (tgt := 50) hx hb dX8_count_16 (by decide) (fun c_25 => ?_) (fun c_25 => ?_)
    · have hF := it_e hF c_25
      refine lv_iload_n hx hb dX8_count_50 rfl (lv_at hl 1 rfl) ?_
      by_cases c_26 : (x1.toInt < 0 ∨ 5 < x1.toInt)
      · have hF := it_e hF c_26
        refine lv_tableOut (tgt := 155) hx hb dX8_count_51 c_26 (by decide) ?_
        refine lv_iconst (v := (-1 : Int32)) hx hb dX8_count_155 (by decide) ?_
        exact r_iret C hw hS hF dX8_count_156
      · have hF := if_e hF c_26
        by_cases c_27 : x1 = (0 : Int32)
        · have hF := it_e hF c_27
          refine r_tin (tgt := 88) hx hb dX8_count_51 c_27 (by decide) (by decide) (by rfl) (by decide) ?_
          refine lv_aload_n hx hb dX8_count_88 rfl (lv_at hl 0 rfl) ?_
          refine r_get8 C hw 19 (by decide) rfl (v := .int (gi σ 1 19)) rfl q974 dX8_count_89 ?_
          exact r_iret C hw hS hF dX8_count_92
        · have hF := if_e hF c_27
          by_cases c_28 : x1 = (1 : Int32)
          · have hF := it_e hF c_28
            refine r_tin (tgt := 93) hx hb dX8_count_51 c_28 (by decide) (by decide) (by rfl) (by decide) ?_
            refine lv_aload_n hx hb dX8_count_93 rfl (lv_at hl 0 rfl) ?_
            refine r_get8 C hw 21 (by decide) rfl (v := .ref (q 28)) rfl q976 dX8_count_94 ?_
            refine lv_iconst (v := (0 : Int32)) hx hb dX8_count_97 (by decide) ?_
            obtain ⟨h_29, hF⟩ := gd_e hF
            refine r_zald (i := 28) (n := 2) (g := 28) (st := 0) C hw (wi_lo (Or.inr ⟨by decide, by decide⟩)) rfl h_29 dX8_count_98 ?_
            refine lv_if_eq (tgt := 106) hx hb dX8_count_99 (by decide) (fun c_30 => ?_) (fun c_30 => ?_)
            · have hF := it_e hF c_30
              refine lv_iconst (v := (0 : Int32)) hx hb dX8_count_106 (by decide) ?_
              exact w_X8_count_107 C   _ _ _ _ _ hF hw hS (lv_sub hl [0] rfl)
            · have hF := if_e hF c_30
              refine lv_iconst (v := (1 : Int32)) hx hb dX8_count_102 (by decide) ?_
              refine lv_goto (tgt := 107) hx hb dX8_count_103 (by decide) ?_
              exact w_X8_count_107 C   _ _ _ _ _ hF hw hS (lv_sub hl [0] rfl)
          · have hF := if_e hF c_28
            by_cases c_31 : x1 = (2 : Int32)
            · have hF := it_e hF c_31
              refine r_tin (tgt := 123) hx hb dX8_count_51 c_31 (by decide) (by decide) (by rfl) (by decide) ?_
              refine lv_aload_n hx hb dX8_count_123 rfl (lv_at hl 0 rfl) ?_
              refine r_get8 C hw 4 (by decide) rfl (v := .int (gi σ 1 4)) rfl q959 dX8_count_124 ?_
              exact r_iret C hw hS hF dX8_count_127
            · have hF := if_e hF c_31
              by_cases c_32 : x1 = (3 : Int32)
              · have hF := it_e hF c_32
                refine r_tin (tgt := 128) hx hb dX8_count_51 c_32 (by decide) (by decide) (by rfl) (by decide) ?_
                refine lv_aload_n hx hb dX8_count_128 rfl (lv_at hl 0 rfl) ?_
                refine r_get8 C hw 22 (by decide) rfl (v := .ref (q 29)) rfl q977 dX8_count_129 ?_
                refine lv_iconst (v := (0 : Int32)) hx hb dX8_count_132 (by decide) ?_
                obtain ⟨h_33, hF⟩ := gd_e hF
                refine r_iald (i := 29) (n := 4) (g := 29) (st := 0) C hw (wi_lo (Or.inr ⟨by decide, by decide⟩)) rfl h_33 dX8_count_133 ?_
                refine lv_bipush (v := (-4 : Int32)) hx hb dX8_count_134 (by decide) ?_
                refine lv_icmp_ne (tgt := 144) hx hb dX8_count_136 (by decide) (fun c_34 => ?_) (fun c_34 => ?_)
                · have hF := if_e hF c_34
                  refine lv_aload_n hx hb dX8_count_144 rfl (lv_at hl 0 rfl) ?_
                  refine r_get8 C hw 23 (by decide) rfl (v := .ref (q 30)) rfl q978 dX8_count_145 ?_
                  refine lv_iconst (v := (0 : Int32)) hx hb dX8_count_148 (by decide) ?_
                  obtain ⟨h_35, hF⟩ := gd_e hF
                  refine r_iald (i := 30) (n := 4) (g := 30) (st := 0) C hw (wi_lo (Or.inr ⟨by decide, by decide⟩)) rfl h_35 dX8_count_149 ?_
                  exact r_iret C hw hS hF dX8_count_150
                · have hF := it_e hF c_34
                  refine lv_bipush (v := (-4 : Int32)) hx hb dX8_count_139 (by decide) ?_
                  refine lv_goto (tgt := 150) hx hb dX8_count_141 (by decide) ?_
                  exact r_iret C hw hS hF dX8_count_150
              · have hF := if_e hF c_32
                by_cases c_36 : x1 = (4 : Int32)
                · have hF := it_e hF c_36
                  refine r_tin (tgt := 151) hx hb dX8_count_51 c_36 (by decide) (by decide) (by rfl) (by decide) ?_
                  refine lv_iload_n hx hb dX8_count_151 rfl (lv_at hl 2 rfl) ?_
                  exact r_iret C hw hS hF dX8_count_152
                · have hF := if_e hF c_36
                  by_cases c_37 : x1 = (5 : Int32)
                  · have hF := it_e hF c_37
                    refine r_tin (tgt := 153) hx hb dX8_count_51 c_37 (by decide) (by decide) (by rfl) (by decide) ?_
                    refine lv_iload_n hx hb dX8_count_153 rfl (lv_at hl 3 rfl) ?_
                    exact r_iret C hw hS hF dX8_count_154
                  · have hF := if_e hF c_37
                    cases hF
    · have hF := if_e hF c_25
      refine lv_iload_n hx hb dX8_count_19 rfl (lv_at hl 2 rfl) ?_
      refine lv_aload_n hx hb dX8_count_20 rfl (lv_at hl 0 rfl) ?_
      refine r_get8 C hw 0 (by decide) rfl (v := .ref (q 21)) rfl q955 dX8_count_21 ?_
      refine lv_iconst (v := (4 : Int32)) hx hb dX8_count_24 (by decide) ?_
      refine lv_iload hx hb dX8_count_25 (lv_at hl 4 rfl) ?_
      refine lv_iadd hx hb dX8_count_27 ?_
      obtain ⟨h_38, hF⟩ := gd_e hF
      refine r_iald (i := 21) (n := 234) (g := 21) (st := 0) C hw (wi_lo (Or.inr ⟨by decide, by decide⟩)) rfl h_38 dX8_count_28 ?_
      refine lv_iadd hx hb dX8_count_29 ?_
      obtain ⟨x_39, ex_39, hF⟩ := nm_e2 hF
      refine r_topi ex_39 ?_
      refine lv_istore_n (lv' := [(2, .int x_39), (0, .ref (q 1)), (1, .int x1), (3, .int x3), (4, .int x4)]) hx hb dX8_count_30 rfl hl (by decide) rfl (fun ls hl => ?_)
      refine lv_iload_n hx hb dX8_count_31 rfl (lv_at hl 3 rfl) ?_
      refine lv_aload_n hx hb dX8_count_32 rfl (lv_at hl 1 rfl) ?_
      refine r_get8 C hw 0 (by decide) rfl (v := .ref (q 21)) rfl q955 dX8_count_33 ?_
      refine lv_bipush (v := (8 : Int32)) hx hb dX8_count_36 (by decide) ?_
      refine lv_iload hx hb dX8_count_38 (lv_at hl 4 rfl) ?_
      refine lv_iadd hx hb dX8_count_40 ?_
      obtain ⟨h_40, hF⟩ := gd_e hF
      refine r_iald (i := 21) (n := 234) (g := 21) (st := 0) C hw (wi_lo (Or.inr ⟨by decide, by decide⟩)) rfl h_40 dX8_count_41 ?_
      refine lv_iadd hx hb dX8_count_42 ?_
      obtain ⟨x_41, ex_41, hF⟩ := nm_e2 hF
      refine r_topi ex_41 ?_
      refine lv_istore_n (lv' := [(3, .int x_41), (2, .int x_39), (0, .ref (q 1)), (1, .int x1), (4, .int x4)]) hx hb dX8_count_43 rfl hl (by decide) rfl (fun ls hl => ?_)
      obtain ⟨x_42, ex_42, hF⟩ := nm_e2 hF
      refine lv_iinc (v := x_42) (lv' := [(4, .int x_42), (3, .int x_41), (2, .int x_39), (0, .ref (q 1)), (1, .int x1)]) hx hb dX8_count_44 hl (k := 4) rfl (by rw [ex_42]; rfl) (by decide) rfl (fun ls hl => ?_)
      refine lv_goto (tgt := 7) hx hb dX8_count_47 (by decide) ?_
      exact ih _ _ _ _ _ _ _ _ hF hw hS (lv_sub hl [3, 4, 2, 1, 0] rfl)
noncomputable def F_X8_count (N : Nat) (x1 : Int32) (σ : SS) : Option (Int32 × SS) :=
  F_X8_count_7 N N x1 (0 : Int32) (0 : Int32) (0 : Int32) σ
set_option maxRecDepth 100000 in
theorem met_X8_count (l : Launch) (G : GG) (rd : Bool) (q : Nat → Nat) {N : Nat} {x1 : Int32} {σ σ' : SS} {r : Int32} (hF : F_X8_count N x1 σ = some (r, σ')) : Met l yX8_count (ws_ yX8_count cX8_count 5 (some .int)) rmX8_count (pcx G rd q σ [.ref (q 1), .int x1]) (qxi G rd q σ' r) 0 0 (fa G) := by
  refine met_of (by decide) (Nat.le_of_ble_eq_true rfl) ?_
  intro p e s m below meth c C H locs ls hw hS hl
  obtain ⟨hx, hb, hml, hown, hts, -, -, -, -⟩ := id C
  have hl : lv_has ls 5 [(0, .ref (q 1)), (1, .int x1)] := hl
  unfold F_X8_count at hF
  refine lv_iconst (v := (0 : Int32)) hx hb dX8_count_0 (by decide) ?_
  refine lv_istore_n (lv' := [(2, .int (0 : Int32)), (0, .ref (q 1)), (1, .int x1)]) hx hb dX8_count_1 rfl hl (by decide) rfl (fun ls hl => ?_)
  refine lv_iconst (v := (0 : Int32)) hx hb dX8_count_2 (by decide) ?_
  refine lv_istore_n (lv' := [(3, .int (0 : Int32)), (2, .int (0 : Int32)), (0, .ref (q 1)), (1, .int x1)]) hx hb dX8_count_3 rfl hl (by decide) rfl (fun ls hl => ?_)
  refine lv_iconst (v := (0 : Int32)) hx hb dX8_count_4 (by decide) ?_
  refine lv_istore (lv' := [(4, .int (0 : Int32)), (3, .int (0 : Int32)), (2, .int (0 : Int32)), (0, .ref (q 1)), (1, .int x1)]) hx hb dX8_count_5 hl (by decide) rfl (fun ls hl => ?_)
  exact w_X8_count_7 C   N _ _ _ _ _ _ _ _ hF hw hS (lv_sub hl [3, 4, 2, 1, 0] rfl)
abbrev rmX8_cut : Room := { frames := 2, cells := 0, slots := 0, locals := 85 }
noncomputable def F_X8_cut (N : Nat) (x1 : Int32) (σ : SS) : Option (Int32 × SS) :=
  gd (inR (16 : Int32) 234) <|
  bd (F_X8_in N x1.toInt64 (0 : Int64) ((gi σ 21 (16 : Int32).toNatClampNeg).toInt64) σ) fun r_9 σ_10 =>
  bd (F_X8_puts N r_9 (16 : Int32) x1 (0 : Int32) σ_10) fun r_12 σ_13 =>
  some (r_12, σ_13)
set_option maxRecDepth 100000 in
theorem met_X8_cut (l : Launch) (G : GG) (rd : Bool) (q : Nat → Nat) {N : Nat} {x1 : Int32} {σ σ' : SS} {r : Int32} (hF : F_X8_cut N x1 σ = some (r, σ')) : Met l yX8_cut (ws_ yX8_cut cX8_cut 2 (some .int)) rmX8_cut (pcx G rd q σ [.ref (q 1), .int x1]) (qxi G rd q σ' r) 0 0 (fa G) := by
  refine met_of (by decide) (Nat.le_of_ble_eq_true rfl) ?_
  intro p e s m below meth c C H locs ls hw hS hl
  obtain ⟨hx, hb, hml, hown, hts, -, -, -, -⟩ := id C
  have hl : lv_has ls 2 [(0, .ref (q 1)), (1, .int x1)] := hl
  unfold F_X8_cut at hF
  refine lv_aload_n hx hb dX8_cut_0 rfl (lv_at hl 0 rfl) ?_
  refine lv_iload_n hx hb dX8_cut_1 rfl (lv_at hl 1 rfl) ?_
  refine lv_i2l hx hb dX8_cut_2 rfl ?_
  refine lv_lconst (v := (0 : Int64)) hx hb dX8_cut_3 (by decide) ?_
  refine lv_aload_n hx hb dX8_cut_4 rfl (lv_at hl 0 rfl) ?_
  refine r_get8 C hw 0 (by decide) rfl (v := .ref (q 21)) rfl q955 dX8_cut_5 ?_
  refine lv_bipush (v := (16 : Int32)) hx hb dX8_cut_8 (by decide) ?_
  obtain ⟨h_8, hF⟩ := gd_e hF
  refine r_iald (i := 21) (n := 234) (g := 21) (st := 0) C hw (wi_lo (Or.inr ⟨by decide, by decide⟩)) rfl h_8 dX8_cut_10 ?_
  refine lv_i2l hx hb dX8_cut_11 rfl ?_
  obtain ⟨r_9, σ_10, h_11, hF⟩ := bd_e hF
  refine r_callSi (As := [.long x1.toInt64, .long (0 : Int64), .long ((gi σ 21 (16 : Int32).toNatClampNeg).toInt64)]) (rest := [.ref (q 1)]) C hw hS (met_X8_in l G rd q  h_11) (cwS 3 hts (lw_S q1040 q1041 q65 q1042) rfl rfl rfl (by decide +kernel) ⟨Nat.le_of_ble_eq_true rfl, Nat.le_of_ble_eq_true rfl⟩) rfl hl.1 rfl (Nat.le_of_ble_eq_true rfl) ⟨Nat.le_refl _, Nat.le_refl _⟩ dX8_cut_12 (fun H locs hw hS => ?_)
  refine lv_bipush (v := (16 : Int32)) hx hb dX8_cut_15 (by decide) ?_
  refine lv_iload_n hx hb dX8_cut_17 rfl (lv_at hl 1 rfl) ?_
  refine lv_iconst (v := (0 : Int32)) hx hb dX8_cut_18 (by decide) ?_
  obtain ⟨r_12, σ_13, h_14, hF⟩ := bd_e hF
  refine r_callVi (As := [.int r_9, .int (16 : Int32), .int x1, .int (0 : Int32)]) (rest := []) (i := 1) C hw hS (wi_lo (Or.inl (by decide))) rfl (ci := 8) rfl (met_X8_puts l G rd q  h_14) (cwV 4 hts (lw_V q1125 q1127 qs42 q65 q1128) rfl rfl rfl (by decide +kernel) ⟨Nat.le_of_ble_eq_true rfl, Nat.le_of_ble_eq_true rfl⟩) rfl hl.1 rfl (Nat.le_of_ble_eq_true rfl) ⟨Nat.le_refl _, Nat.le_refl _⟩ dX8_cut_19 (fun H locs hw hS => ?_)
  exact r_iret C hw hS hF dX8_cut_22
abbrev rmX8_swingOn : Room := { frames := 1, cells := 0, slots := 0, locals := 60 }
noncomputable def B_X8_swingOn_12 (N : Nat) (IH : Int32 → Int32 → Int32 → SS → Option (Int32 × SS)) (x1 : Int32) (x2 : Int32) (x3 : Int32) (σ : SS) : Option (Int32 × SS) :=
  gd (inR (x1 + (16 : Int32)) 234) <|
  if (gi σ 21 (x1 + (16 : Int32)).toNatClampNeg) ≤ x3 then
    some (x2, σ)
  else
    gd (inR ((x1 + (12 : Int32)) + x3) 234) <|
    nm (x2 + (gi σ 21 ((x1 + (12 : Int32)) + x3).toNatClampNeg)) fun x_11 =>
    nm (x3 + (1 : Int32)) fun x_12 =>
    IH x1 x_11 x_12 σ
noncomputable def F_X8_swingOn_12 (N : Nat) (n : Nat) : Int32 → Int32 → Int32 → SS → Option (Int32 × SS) := Nat.rec (fun _ _ _ _ => none) (fun _ IH => B_X8_swingOn_12 N IH) n
set_option maxRecDepth 100000 in
theorem w_X8_swingOn_12 {p : Program} {l : Launch} {e : Env} {s : State} {m : MethodId} {args : Array Value} {below : List Frame} {meth : Method} {c : Code} {G : GG} {rd : Bool} {q : Nat → Nat} {N : Nat} {r : Int32} {σ' : SS} (C : cx p s m args meth c cX8_swingOn 4 RX8 (some .int) G) : ∀ (n : Nat), ∀ (x1 : Int32) (x2 : Int32) (x3 : Int32) (σ : SS) (H : Heap) (locs : List Loc) (ls : Array Slot), F_X8_swingOn_12 N n x1 x2 x3 σ = some (r, σ') → wx G rd q σ H → va_S (fa G) s.heap H locs → lv_has ls 4 [(0, .ref (q 1)), (1, .int x1), (2, .int x2), (3, .int x3)] → W p l e rmX8_swingOn s m args below meth c H locs 0 0 (MQ below (qxi G rd q σ' r) args s 0 0 (fa G)) (F0 m 12 ls []) := by
  obtain ⟨hx, hb, hml, hown, hts, -, -, -, -⟩ := id C
  intro n
  induction n with
  | zero =>
    intro x1 x2 x3 σ H locs ls hF hw hS hl
    cases hF
  | succ n ih =>
    intro x1 x2 x3 σ H locs ls hF hw hS hl
    have hF : B_X8_swingOn_12 N (F_X8_swingOn_12 N n) x1 x2 x3 σ = some (r, σ') := hF
    unfold B_X8_swingOn_12 at hF
    refine lv_iload_n hx hb dX8_swingOn_12 rfl (lv_at hl 3 rfl) ?_
    refine lv_aload_n hx hb dX8_swingOn_13 rfl (lv_at hl 0 rfl) ?_
    refine r_get8 C hw 0 (by decide) rfl (v := .ref (q 21)) rfl q955 dX8_swingOn_14 ?_
    refine lv_iload_n hx hb dX8_swingOn_17 rfl (lv_at hl 1 rfl) ?_
    refine lv_bipush (v := (16 : Int32)) hx hb dX8_swingOn_18 (by decide) ?_
    refine lv_iadd hx hb dX8_swingOn_20 ?_
    obtain ⟨h_8, hF⟩ := gd_e hF
    refine r_iald (i := 21) (n := 234) (g := 21) (st := 0) C hw (wi_lo (Or.inr ⟨by decide, by decide⟩)) rfl h_8 dX8_swingOn_21 ?_
    refine lv_icmp_ge (tgt := 45) hx hb dX8_swingOn_22 (by decide) (fun c_9 => ?_) (fun c_9 => ?_)
    · have hF := it_e hF c_9
      refine lv_iload_n hx hb dX8_swingOn_45 rfl (lv_at hl 2 rfl) ?_
      exact r_iret C hw hS hF dX8_swingOn_46
    · have hF := if_e hF c_9
      refine lv_iload_n hx hb dX8_swingOn_25 rfl (lv_at hl 2 rfl) ?_
      refine lv_aload_n hx hb dX8_swingOn_26 rfl (lv_at hl 0 rfl) ?_
      refine r_get8 C hw 0 (by decide) rfl (v := .ref (q 21)) rfl q955 dX8_swingOn_27 ?_
      refine lv_iload_n hx hb dX8_swingOn_30 rfl (lv_at hl 1 rfl) ?_
      refine lv_bipush (v := (12 : Int32)) hx hb dX8_swingOn_31 (by decide) ?_
      refine lv_iadd hx hb dX8_swingOn_33 ?_
      refine lv_iload_n hx hb dX8_swingOn_34 rfl (lv_at hl 3 rfl) ?_
      refine lv_iadd hx hb dX8_swingOn_35 ?_
      obtain ⟨h_10, hF⟩ := gd_e hF
      refine r_iald (i := 21) (n := 234) (g := 21) (st := 0) C hw (wi_lo (Or.inr ⟨by decide, by decide⟩)) rfl h_10 dX8_swingOn_36 ?_
      refine lv_iadd hx hb dX8_swingOn_37 ?_
      obtain ⟨x_11, ex_11, hF⟩ := nm_e2 hF
      refine r_topi ex_11 ?_
      refine lv_istore_n (lv' := [(2, .int x_11), (0, .ref (q 1)), (1, .int x1), (3, .int x3)]) hx hb dX8_swingOn_38 rfl hl (by decide) rfl (fun ls hl => ?_)
      obtain ⟨x_12, ex_12, hF⟩ := nm_e2 hF
      refine lv_iinc (v := x_12) (lv' := [(3, .int x_12), (2, .int x_11), (0, .ref (q 1)), (1, .int x1)]) hx hb dX8_swingOn_39 hl (k := 3) rfl (by rw [ex_12]; rfl) (by decide) rfl (fun ls hl => ?_)
      refine lv_goto (tgt := 12) hx hb dX8_swingOn_42 (by decide) ?_
      exact ih _ _ _ _ _ _ _ hF hw hS (lv_sub hl [2, 3, 1, 0] rfl)
noncomputable def F_X8_swingOn (N : Nat) (x1 : Int32) (σ : SS) : Option (Int32 × SS) :=
  gd (inR (x1 + (35 : Int32)) 234) <|
  nm (gi σ 21 (x1 + (35 : Int32)).toNatClampNeg) fun x_14 =>
  F_X8_swingOn_12 N N x1 x_14 (0 : Int32) σ
set_option maxRecDepth 100000 in
theorem met_X8_swingOn (l : Launch) (G : GG) (rd : Bool) (q : Nat → Nat) {N : Nat} {x1 : Int32} {σ σ' : SS} {r : Int32} (hF : F_X8_swingOn N x1 σ = some (r, σ')) : Met l yX8_swingOn (ws_ yX8_swingOn cX8_swingOn 4 (some .int)) rmX8_swingOn (pcx G rd q σ [.ref (q 1), .int x1]) (qxi G rd q σ' r) 0 0 (fa G) := by
  refine met_of (by decide) (Nat.le_of_ble_eq_true rfl) ?_
  intro p e s m below meth c C H locs ls hw hS hl
  obtain ⟨hx, hb, hml, hown, hts, -, -, -, -⟩ := id C
  have hl : lv_has ls 4 [(0, .ref (q 1)), (1, .int x1)] := hl
  unfold F_X8_swingOn at hF
  refine lv_aload_n hx hb dX8_swingOn_0 rfl (lv_at hl 0 rfl) ?_
  refine r_get8 C hw 0 (by decide) rfl (v := .ref (q 21)) rfl q955 dX8_swingOn_1 ?_
  refine lv_iload_n hx hb dX8_swingOn_4 rfl (lv_at hl 1 rfl) ?_
  refine lv_bipush (v := (35 : Int32)) hx hb dX8_swingOn_5 (by decide) ?_
  refine lv_iadd hx hb dX8_swingOn_7 ?_
  obtain ⟨h_13, hF⟩ := gd_e hF
  refine r_iald (i := 21) (n := 234) (g := 21) (st := 0) C hw (wi_lo (Or.inr ⟨by decide, by decide⟩)) rfl h_13 dX8_swingOn_8 ?_
  obtain ⟨x_14, ex_14, hF⟩ := nm_e2 hF
  refine r_topi ex_14 ?_
  refine lv_istore_n (lv' := [(2, .int x_14), (0, .ref (q 1)), (1, .int x1)]) hx hb dX8_swingOn_9 rfl hl (by decide) rfl (fun ls hl => ?_)
  refine lv_iconst (v := (0 : Int32)) hx hb dX8_swingOn_10 (by decide) ?_
  refine lv_istore_n (lv' := [(3, .int (0 : Int32)), (2, .int x_14), (0, .ref (q 1)), (1, .int x1)]) hx hb dX8_swingOn_11 rfl hl (by decide) rfl (fun ls hl => ?_)
  exact w_X8_swingOn_12 C   N _ _ _ _ _ _ _ hF hw hS (lv_sub hl [2, 3, 1, 0] rfl)
abbrev rmX8_drift : Room := { frames := 3, cells := 0, slots := 0, locals := 112 }
noncomputable def B_X8_drift_51 (N : Nat) (IH : Int32 → Int32 → Int32 → Int32 → SS → Option (Int32 × SS)) (x2 : Int32) (x3 : Int32) (x4 : Int32) (x5 : Int32) (σ : SS) : Option (Int32 × SS) :=
  if x2 ≤ x5 then
    if x3 = (0 : Int32) then
      gd (inR (193 : Int32) 234) <|
      gd (inR (37 : Int32) 234) <|
      some ((gi σ 21 (193 : Int32).toNatClampNeg) - (gi σ 21 (37 : Int32).toNatClampNeg), σ)
    else
      bd (F_X8_swingOn N (156 : Int32) σ) fun r_31 σ_32 =>
      some (r_31, σ_32)
  else
    nm ((x4 * (1103515245 : Int32)) + (12345 : Int32)) fun x_36 =>
    bd (F_X8_actOn N (156 : Int32) (((x_36 >>> ((16 : Int32) &&& 31)) &&& (32767 : Int32)) - ((x_36 >>> ((16 : Int32) &&& 31)) &&& (32767 : Int32)) / (204 : Int32) * (204 : Int32)) (0 : Int32) σ) fun r_37 σ_38 =>
    bd (F_X8_lossesOn N (156 : Int32) σ_38) fun r_40 σ_41 =>
    nm (x5 + (1 : Int32)) fun x_43 =>
    IH x2 x3 x_36 x_43 σ_41
noncomputable def F_X8_drift_51 (N : Nat) (n : Nat) : Int32 → Int32 → Int32 → Int32 → SS → Option (Int32 × SS) := Nat.rec (fun _ _ _ _ _ => none) (fun _ IH => B_X8_drift_51 N IH) n
set_option maxRecDepth 100000 in
theorem w_X8_drift_51 {p : Program} {l : Launch} {e : Env} {s : State} {m : MethodId} {args : Array Value} {below : List Frame} {meth : Method} {c : Code} {G : GG} {rd : Bool} {q : Nat → Nat} {N : Nat} {r : Int32} {σ' : SS} (C : cx p s m args meth c cX8_drift 6 RX8 (some .int) G) : ∀ (n : Nat), ∀ (x2 : Int32) (x3 : Int32) (x4 : Int32) (x5 : Int32) (σ : SS) (H : Heap) (locs : List Loc) (ls : Array Slot), F_X8_drift_51 N n x2 x3 x4 x5 σ = some (r, σ') → wx G rd q σ H → va_S (fa G) s.heap H locs → lv_has ls 6 [(0, .ref (q 1)), (2, .int x2), (3, .int x3), (4, .int x4), (5, .int x5)] → W p l e rmX8_drift s m args below meth c H locs 0 0 (MQ below (qxi G rd q σ' r) args s 0 0 (fa G)) (F0 m 51 ls []) := by
  obtain ⟨hx, hb, hml, hown, hts, -, -, -, -⟩ := id C
  intro n
  induction n with
  | zero =>
    intro x2 x3 x4 x5 σ H locs ls hF hw hS hl
    cases hF
  | succ n ih =>
    intro x2 x3 x4 x5 σ H locs ls hF hw hS hl
    have hF : B_X8_drift_51 N (F_X8_drift_51 N n) x2 x3 x4 x5 σ = some (r, σ') := hF
    unfold B_X8_drift_51 at hF
    refine lv_iload hx hb dX8_drift_51 (lv_at hl 4 rfl) ?_
    refine lv_iload_n hx hb dX8_drift_53 rfl (lv_at hl 1 rfl) ?_
    refine lv_icmp_ge (tgt := 102) hx hb dX8_drift_54 (by decide) (fun c_29 => ?_) (fun c_29 => ?_)
    · have hF := it_e hF c_29
      refine lv_iload_n hx hb dX8_drift_102 rfl (lv_at hl 2 rfl) ?_
      refine lv_if_ne (tgt := 125) hx hb dX8_drift_103 (by decide) (fun c_30 => ?_) (fun c_30 => ?_)
      · have hF := if_e hF c_30
        refine lv_aload_n hx hb dX8_drift_125 rfl (lv_at hl 0 rfl) ?_
        refine lv_sipush (v := (156 : Int32)) hx hb dX8_drift_126 (by decide) ?_
        obtain ⟨r_31, σ_32, h_33, hF⟩ := bd_e hF
        refine r_callVi (As := [.int (156 : Int32)]) (rest := []) (i := 1) C hw hS (wi_lo (Or.inl (by decide))) rfl (ci := 8) rfl (met_X8_swingOn l G rd q  h_33) (cwV 1 hts (lw_V q1200 q1202 qs50 q65 q1203) rfl rfl rfl (by decide +kernel) ⟨Nat.le_of_ble_eq_true rfl, Nat.le_of_ble_eq_true rfl⟩) rfl hl.1 rfl (Nat.le_of_ble_eq_true rfl) ⟨Nat.le_refl _, Nat.le_refl _⟩ dX8_drift_129 (fun H locs hw hS => ?_)
        exact r_iret C hw hS hF dX8_drift_132
      · have hF := it_e hF c_30
        refine lv_aload_n hx hb dX8_drift_106 rfl (lv_at hl 0 rfl) ?_
        refine r_get8 C hw 0 (by decide) rfl (v := .ref (q 21)) rfl q955 dX8_drift_107 ?_
        refine lv_sipush (v := (193 : Int32)) hx hb dX8_drift_110 (by decide) ?_
        obtain ⟨h_34, hF⟩ := gd_e hF
        refine r_iald (i := 21) (n := 234) (g := 21) (st := 0) C hw (wi_lo (Or.inr ⟨by decide, by decide⟩)) rfl h_34 dX8_drift_113 ?_
        refine lv_aload_n hx hb dX8_drift_114 rfl (lv_at hl 0 rfl) ?_
        refine r_get8 C hw 0 (by decide) rfl (v := .ref (q 21)) rfl q955 dX8_drift_115 ?_
        refine lv_bipush (v := (37 : Int32)) hx hb dX8_drift_118 (by decide) ?_
        obtain ⟨h_35, hF⟩ := gd_e hF
        refine r_iald (i := 21) (n := 234) (g := 21) (st := 0) C hw (wi_lo (Or.inr ⟨by decide, by decide⟩)) rfl h_35 dX8_drift_120 ?_
        refine lv_isub hx hb dX8_drift_121 ?_
        refine lv_goto (tgt := 132) hx hb dX8_drift_122 (by decide) ?_
        exact r_iret C hw hS hF dX8_drift_132
    · have hF := if_e hF c_29
      refine lv_iload hx hb dX8_drift_57 (lv_at hl 3 rfl) ?_
      refine lv_ldc (v := (1103515245 : Int32)) hx hb hown (hts _ q1300) dX8_drift_59 ?_
      refine lv_imul hx hb dX8_drift_61 ?_
      refine lv_sipush (v := (12345 : Int32)) hx hb dX8_drift_62 (by decide) ?_
      refine lv_iadd hx hb dX8_drift_65 ?_
      obtain ⟨x_36, ex_36, hF⟩ := nm_e2 hF
      refine r_topi ex_36 ?_
      refine lv_istore (lv' := [(4, .int x_36), (0, .ref (q 1)), (2, .int x2), (3, .int x3), (5, .int x5)]) hx hb dX8_drift_66 hl (by decide) rfl (fun ls hl => ?_)
      refine lv_aload_n hx hb dX8_drift_68 rfl (lv_at hl 1 rfl) ?_
      refine lv_sipush (v := (156 : Int32)) hx hb dX8_drift_69 (by decide) ?_
      refine lv_iload hx hb dX8_drift_72 (lv_at hl 0 rfl) ?_
      refine lv_bipush (v := (16 : Int32)) hx hb dX8_drift_74 (by decide) ?_
      refine lv_ishr hx hb dX8_drift_76 ?_
      refine lv_sipush (v := (32767 : Int32)) hx hb dX8_drift_77 (by decide) ?_
      refine lv_iand hx hb dX8_drift_80 ?_
      refine lv_sipush (v := (204 : Int32)) hx hb dX8_drift_81 (by decide) ?_
      refine lv_irem hx hb dX8_drift_84 (by decide) ?_
      refine lv_iconst (v := (0 : Int32)) hx hb dX8_drift_85 (by decide) ?_
      obtain ⟨r_37, σ_38, h_39, hF⟩ := bd_e hF
      refine r_callVv (As := [.int (156 : Int32), .int (((x_36 >>> ((16 : Int32) &&& 31)) &&& (32767 : Int32)) - ((x_36 >>> ((16 : Int32) &&& 31)) &&& (32767 : Int32)) / (204 : Int32) * (204 : Int32)), .int (0 : Int32)]) (rest := []) (i := 1) C hw hS (wi_lo (Or.inl (by decide))) rfl (ci := 8) rfl (met_X8_actOn l G rd q  h_39) (cwV 3 hts (lw_V q1162 q1164 qs44 q65 q1165) rfl rfl rfl (by decide +kernel) ⟨Nat.le_of_ble_eq_true rfl, Nat.le_of_ble_eq_true rfl⟩) rfl hl.1 rfl (Nat.le_of_ble_eq_true rfl) ⟨Nat.le_refl _, Nat.le_refl _⟩ dX8_drift_86 (fun H locs hw hS => ?_)
      refine lv_aload_n hx hb dX8_drift_89 rfl (lv_at hl 1 rfl) ?_
      refine lv_sipush (v := (156 : Int32)) hx hb dX8_drift_90 (by decide) ?_
      obtain ⟨r_40, σ_41, h_42, hF⟩ := bd_e hF
      refine r_callVv (As := [.int (156 : Int32)]) (rest := []) (i := 1) C hw hS (wi_lo (Or.inl (by decide))) rfl (ci := 8) rfl (met_X8_lossesOn l G rd q  h_42) (cwV 1 hts (lw_V q1175 q1177 qs46 q65 q1178) rfl rfl rfl (by decide +kernel) ⟨Nat.le_of_ble_eq_true rfl, Nat.le_of_ble_eq_true rfl⟩) rfl hl.1 rfl (Nat.le_of_ble_eq_true rfl) ⟨Nat.le_refl _, Nat.le_refl _⟩ dX8_drift_93 (fun H locs hw hS => ?_)
      obtain ⟨x_43, ex_43, hF⟩ := nm_e2 hF
      refine lv_iinc (v := x_43) (lv' := [(5, .int x_43), (4, .int x_36), (0, .ref (q 1)), (2, .int x2), (3, .int x3)]) hx hb dX8_drift_96 hl (k := 4) rfl (by rw [ex_43]; rfl) (by decide) rfl (fun ls hl => ?_)
      refine lv_goto (tgt := 51) hx hb dX8_drift_99 (by decide) ?_
      exact ih _ _ _ _ _ _ _ _ hF hw hS (lv_sub hl [2, 3, 4, 1, 0] rfl)
noncomputable def F_X8_drift (N : Nat) (x1 : Int32) (x2 : Int32) (x3 : Int32) (σ : SS) : Option (Int32 × SS) :=
  bd (F_X8_in N x2.toInt64 (1 : Int64) (200 : Int64) σ) fun r_44 σ_45 =>
  if r_44 = (0 : Int32) then
    some ((-1 : Int32), σ_45)
  else
    bd (F_X8_in N x3.toInt64 (0 : Int64) (1 : Int64) σ_45) fun r_48 σ_49 =>
    if r_48 = (0 : Int32) then
      some ((-1 : Int32), σ_49)
    else
      gd (inR (16 : Int32) 234) <|
      if (gi σ_49 21 (16 : Int32).toNatClampNeg) = (0 : Int32) then
        some ((-2 : Int32), σ_49)
      else
        bd (F_X8_copies N (0 : Int32) (156 : Int32) σ_49) fun r_54 σ_55 =>
        F_X8_drift_51 N N x2 x3 x1 (0 : Int32) σ_55
set_option maxRecDepth 100000 in
theorem met_X8_drift (l : Launch) (G : GG) (rd : Bool) (q : Nat → Nat) {N : Nat} {x1 : Int32} {x2 : Int32} {x3 : Int32} {σ σ' : SS} {r : Int32} (hF : F_X8_drift N x1 x2 x3 σ = some (r, σ')) : Met l yX8_drift (ws_ yX8_drift cX8_drift 6 (some .int)) rmX8_drift (pcx G rd q σ [.ref (q 1), .int x1, .int x2, .int x3]) (qxi G rd q σ' r) 0 0 (fa G) := by
  refine met_of (by decide) (Nat.le_of_ble_eq_true rfl) ?_
  intro p e s m below meth c C H locs ls hw hS hl
  obtain ⟨hx, hb, hml, hown, hts, -, -, -, -⟩ := id C
  have hl : lv_has ls 6 [(0, .ref (q 1)), (1, .int x1), (2, .int x2), (3, .int x3)] := hl
  unfold F_X8_drift at hF
  refine lv_iload_n hx hb dX8_drift_0 rfl (lv_at hl 2 rfl) ?_
  refine lv_i2l hx hb dX8_drift_1 rfl ?_
  refine lv_lconst (v := (1 : Int64)) hx hb dX8_drift_2 (by decide) ?_
  refine lv_ldc2 (v := (200 : Int64)) hx hb hown (hts _ q1186) dX8_drift_3 ?_
  obtain ⟨r_44, σ_45, h_46, hF⟩ := bd_e hF
  refine r_callSi (As := [.long x2.toInt64, .long (1 : Int64), .long (200 : Int64)]) (rest := []) C hw hS (met_X8_in l G rd q  h_46) (cwS 3 hts (lw_S q1040 q1041 q65 q1042) rfl rfl rfl (by decide +kernel) ⟨Nat.le_of_ble_eq_true rfl, Nat.le_of_ble_eq_true rfl⟩) rfl hl.1 rfl (Nat.le_of_ble_eq_true rfl) ⟨Nat.le_refl _, Nat.le_refl _⟩ dX8_drift_6 (fun H locs hw hS => ?_)
  refine lv_if_eq (tgt := 22) hx hb dX8_drift_9 (by decide) (fun c_47 => ?_) (fun c_47 => ?_)
  · have hF := it_e hF c_47
    refine lv_iconst (v := (-1 : Int32)) hx hb dX8_drift_22 (by decide) ?_
    exact r_iret C hw hS hF dX8_drift_23
  · have hF := if_e hF c_47
    refine lv_iload_n hx hb dX8_drift_12 rfl (lv_at hl 3 rfl) ?_
    refine lv_i2l hx hb dX8_drift_13 rfl ?_
    refine lv_lconst (v := (0 : Int64)) hx hb dX8_drift_14 (by decide) ?_
    refine lv_lconst (v := (1 : Int64)) hx hb dX8_drift_15 (by decide) ?_
    obtain ⟨r_48, σ_49, h_50, hF⟩ := bd_e hF
    refine r_callSi (As := [.long x3.toInt64, .long (0 : Int64), .long (1 : Int64)]) (rest := []) C hw hS (met_X8_in l G rd q  h_50) (cwS 3 hts (lw_S q1040 q1041 q65 q1042) rfl rfl rfl (by decide +kernel) ⟨Nat.le_of_ble_eq_true rfl, Nat.le_of_ble_eq_true rfl⟩) rfl hl.1 rfl (Nat.le_of_ble_eq_true rfl) ⟨Nat.le_refl _, Nat.le_refl _⟩ dX8_drift_16 (fun H locs hw hS => ?_)
    refine lv_if_ne (tgt := 24) hx hb dX8_drift_19 (by decide) (fun c_51 => ?_) (fun c_51 => ?_)
    · have hF := if_e hF c_51
      refine lv_aload_n hx hb dX8_drift_24 rfl (lv_at hl 0 rfl) ?_
      refine r_get8 C hw 0 (by decide) rfl (v := .ref (q 21)) rfl q955 dX8_drift_25 ?_
      refine lv_bipush (v := (16 : Int32)) hx hb dX8_drift_28 (by decide) ?_
      obtain ⟨h_52, hF⟩ := gd_e hF
      refine r_iald (i := 21) (n := 234) (g := 21) (st := 0) C hw (wi_lo (Or.inr ⟨by decide, by decide⟩)) rfl h_52 dX8_drift_30 ?_
      refine lv_if_ne (tgt := 37) hx hb dX8_drift_31 (by decide) (fun c_53 => ?_) (fun c_53 => ?_)
      · have hF := if_e hF c_53
        refine lv_aload_n hx hb dX8_drift_37 rfl (lv_at hl 0 rfl) ?_
        refine lv_iconst (v := (0 : Int32)) hx hb dX8_drift_38 (by decide) ?_
        refine lv_sipush (v := (156 : Int32)) hx hb dX8_drift_39 (by decide) ?_
        obtain ⟨r_54, σ_55, h_56, hF⟩ := bd_e hF
        refine r_callVv (As := [.int (0 : Int32), .int (156 : Int32)]) (rest := []) (i := 1) C hw hS (wi_lo (Or.inl (by decide))) rfl (ci := 8) rfl (met_X8_copies l G rd q  h_56) (cwV 2 hts (lw_V q1192 q1194 qs48 q65 q1195) rfl rfl rfl (by decide +kernel) ⟨Nat.le_of_ble_eq_true rfl, Nat.le_of_ble_eq_true rfl⟩) rfl hl.1 rfl (Nat.le_of_ble_eq_true rfl) ⟨Nat.le_refl _, Nat.le_refl _⟩ dX8_drift_42 (fun H locs hw hS => ?_)
        refine lv_iload_n hx hb dX8_drift_45 rfl (lv_at hl 1 rfl) ?_
        refine lv_istore (lv' := [(4, .int x1), (0, .ref (q 1)), (1, .int x1), (2, .int x2), (3, .int x3)]) hx hb dX8_drift_46 hl (by decide) rfl (fun ls hl => ?_)
        refine lv_iconst (v := (0 : Int32)) hx hb dX8_drift_48 (by decide) ?_
        refine lv_istore (lv' := [(5, .int (0 : Int32)), (4, .int x1), (0, .ref (q 1)), (1, .int x1), (2, .int x2), (3, .int x3)]) hx hb dX8_drift_49 hl (by decide) rfl (fun ls hl => ?_)
        exact w_X8_drift_51 C   N _ _ _ _ _ _ _ _ hF hw hS (lv_sub hl [2, 4, 5, 1, 0] rfl)
      · have hF := it_e hF c_53
        refine lv_bipush (v := (-2 : Int32)) hx hb dX8_drift_34 (by decide) ?_
        exact r_iret C hw hS hF dX8_drift_36
    · have hF := it_e hF c_51
      refine lv_iconst (v := (-1 : Int32)) hx hb dX8_drift_22 (by decide) ?_
      exact r_iret C hw hS hF dX8_drift_23
abbrev rmX8_drop : Room := { frames := 2, cells := 0, slots := 0, locals := 85 }
noncomputable def F_X8_drop (N : Nat) (x1 : Int32) (σ : SS) : Option (Int32 × SS) :=
  gd (inR (33 : Int32) 234) <|
  bd (F_X8_in N x1.toInt64 (0 : Int64) ((gi σ 21 (33 : Int32).toNatClampNeg).toInt64) σ) fun r_9 σ_10 =>
  bd (F_X8_puts N r_9 (33 : Int32) x1 (0 : Int32) σ_10) fun r_12 σ_13 =>
  some (r_12, σ_13)
set_option maxRecDepth 100000 in
theorem met_X8_drop (l : Launch) (G : GG) (rd : Bool) (q : Nat → Nat) {N : Nat} {x1 : Int32} {σ σ' : SS} {r : Int32} (hF : F_X8_drop N x1 σ = some (r, σ')) : Met l yX8_drop (ws_ yX8_drop cX8_drop 2 (some .int)) rmX8_drop (pcx G rd q σ [.ref (q 1), .int x1]) (qxi G rd q σ' r) 0 0 (fa G) := by
  refine met_of (by decide) (Nat.le_of_ble_eq_true rfl) ?_
  intro p e s m below meth c C H locs ls hw hS hl
  obtain ⟨hx, hb, hml, hown, hts, -, -, -, -⟩ := id C
  have hl : lv_has ls 2 [(0, .ref (q 1)), (1, .int x1)] := hl
  unfold F_X8_drop at hF
  refine lv_aload_n hx hb dX8_drop_0 rfl (lv_at hl 0 rfl) ?_
  refine lv_iload_n hx hb dX8_drop_1 rfl (lv_at hl 1 rfl) ?_
  refine lv_i2l hx hb dX8_drop_2 rfl ?_
  refine lv_lconst (v := (0 : Int64)) hx hb dX8_drop_3 (by decide) ?_
  refine lv_aload_n hx hb dX8_drop_4 rfl (lv_at hl 0 rfl) ?_
  refine r_get8 C hw 0 (by decide) rfl (v := .ref (q 21)) rfl q955 dX8_drop_5 ?_
  refine lv_bipush (v := (33 : Int32)) hx hb dX8_drop_8 (by decide) ?_
  obtain ⟨h_8, hF⟩ := gd_e hF
  refine r_iald (i := 21) (n := 234) (g := 21) (st := 0) C hw (wi_lo (Or.inr ⟨by decide, by decide⟩)) rfl h_8 dX8_drop_10 ?_
  refine lv_i2l hx hb dX8_drop_11 rfl ?_
  obtain ⟨r_9, σ_10, h_11, hF⟩ := bd_e hF
  refine r_callSi (As := [.long x1.toInt64, .long (0 : Int64), .long ((gi σ 21 (33 : Int32).toNatClampNeg).toInt64)]) (rest := [.ref (q 1)]) C hw hS (met_X8_in l G rd q  h_11) (cwS 3 hts (lw_S q1040 q1041 q65 q1042) rfl rfl rfl (by decide +kernel) ⟨Nat.le_of_ble_eq_true rfl, Nat.le_of_ble_eq_true rfl⟩) rfl hl.1 rfl (Nat.le_of_ble_eq_true rfl) ⟨Nat.le_refl _, Nat.le_refl _⟩ dX8_drop_12 (fun H locs hw hS => ?_)
  refine lv_bipush (v := (33 : Int32)) hx hb dX8_drop_15 (by decide) ?_
  refine lv_iload_n hx hb dX8_drop_17 rfl (lv_at hl 1 rfl) ?_
  refine lv_iconst (v := (0 : Int32)) hx hb dX8_drop_18 (by decide) ?_
  obtain ⟨r_12, σ_13, h_14, hF⟩ := bd_e hF
  refine r_callVi (As := [.int r_9, .int (33 : Int32), .int x1, .int (0 : Int32)]) (rest := []) (i := 1) C hw hS (wi_lo (Or.inl (by decide))) rfl (ci := 8) rfl (met_X8_puts l G rd q  h_14) (cwV 4 hts (lw_V q1125 q1127 qs42 q65 q1128) rfl rfl rfl (by decide +kernel) ⟨Nat.le_of_ble_eq_true rfl, Nat.le_of_ble_eq_true rfl⟩) rfl hl.1 rfl (Nat.le_of_ble_eq_true rfl) ⟨Nat.le_refl _, Nat.le_refl _⟩ dX8_drop_19 (fun H locs hw hS => ?_)
  exact r_iret C hw hS hF dX8_drop_22
abbrev rmX8_end : Room := { frames := 2, cells := 0, slots := 0, locals := 85 }
noncomputable def F_X8_end (N : Nat) (x1 : Int32) (σ : SS) : Option (Int32 × SS) :=
  bd (F_X8_in N x1.toInt64 (0 : Int64) ((gi σ 1 4).toInt64) σ) fun r_7 σ_8 =>
  if r_7 = (0 : Int32) then
    some ((-1 : Int32), σ_8)
  else
    nm (gi σ_8 1 4) fun x_11 =>
    nm (si σ_8 1 4 x1) fun σ_12 =>
    some (x_11, σ_12)
set_option maxRecDepth 100000 in
theorem met_X8_end (l : Launch) (G : GG) (rd : Bool) (q : Nat → Nat) {N : Nat} {x1 : Int32} {σ σ' : SS} {r : Int32} (hF : F_X8_end N x1 σ = some (r, σ')) : Met l yX8_end (ws_ yX8_end cX8_end 3 (some .int)) rmX8_end (pcx G rd q σ [.ref (q 1), .int x1]) (qxi G rd q σ' r) 0 0 (fa G) := by
  refine met_of (by decide) (Nat.le_of_ble_eq_true rfl) ?_
  intro p e s m below meth c C H locs ls hw hS hl
  obtain ⟨hx, hb, hml, hown, hts, -, -, -, -⟩ := id C
  have hl : lv_has ls 3 [(0, .ref (q 1)), (1, .int x1)] := hl
  unfold F_X8_end at hF
  refine lv_iload_n hx hb dX8_end_0 rfl (lv_at hl 1 rfl) ?_
  refine lv_i2l hx hb dX8_end_1 rfl ?_
  refine lv_lconst (v := (0 : Int64)) hx hb dX8_end_2 (by decide) ?_
  refine lv_aload_n hx hb dX8_end_3 rfl (lv_at hl 0 rfl) ?_
  refine r_get8 C hw 4 (by decide) rfl (v := .int (gi σ 1 4)) rfl q959 dX8_end_4 ?_
  refine lv_i2l hx hb dX8_end_7 rfl ?_
  obtain ⟨r_7, σ_8, h_9, hF⟩ := bd_e hF
  refine r_callSi (As := [.long x1.toInt64, .long (0 : Int64), .long ((gi σ 1 4).toInt64)]) (rest := []) C hw hS (met_X8_in l G rd q  h_9) (cwS 3 hts (lw_S q1040 q1041 q65 q1042) rfl rfl rfl (by decide +kernel) ⟨Nat.le_of_ble_eq_true rfl, Nat.le_of_ble_eq_true rfl⟩) rfl hl.1 rfl (Nat.le_of_ble_eq_true rfl) ⟨Nat.le_refl _, Nat.le_refl _⟩ dX8_end_8 (fun H locs hw hS => ?_)
  refine lv_if_ne (tgt := 16) hx hb dX8_end_11 (by decide) (fun c_10 => ?_) (fun c_10 => ?_)
  · have hF := if_e hF c_10
    refine lv_aload_n hx hb dX8_end_16 rfl (lv_at hl 0 rfl) ?_
    refine r_get8 C hw 4 (by decide) rfl (v := .int (gi σ_8 1 4)) rfl q959 dX8_end_17 ?_
    obtain ⟨x_11, ex_11, hF⟩ := nm_e2 hF
    refine r_topi ex_11 ?_
    refine lv_istore_n (lv' := [(2, .int x_11), (0, .ref (q 1)), (1, .int x1)]) hx hb dX8_end_20 rfl hl (by decide) rfl (fun ls hl => ?_)
    refine lv_aload_n hx hb dX8_end_21 rfl (lv_at hl 1 rfl) ?_
    refine lv_iload_n hx hb dX8_end_22 rfl (lv_at hl 2 rfl) ?_
    obtain ⟨σ_12, eσ_12, hF⟩ := nm_e2 hF
    refine r_put8 C hw hS 4 (by decide) rfl rfl (tyX8_ok 4 (by decide)) rfl rfl q959 dX8_end_23 eσ_12 (fun H locs hw hS => ?_)
    refine lv_iload_n hx hb dX8_end_26 rfl (lv_at hl 0 rfl) ?_
    exact r_iret C hw hS hF dX8_end_27
  · have hF := it_e hF c_10
    refine lv_iconst (v := (-1 : Int32)) hx hb dX8_end_14 (by decide) ?_
    exact r_iret C hw hS hF dX8_end_15
abbrev rmX8_fails : Room := { frames := 1, cells := 0, slots := 0, locals := 60 }
noncomputable def F_X8_fails (N : Nat) (x1 : Int32) (σ : SS) : Option (Unit × SS) :=
  if (gi σ 1 6) = (0 : Int32) then
    nm (si σ 1 6 x1) fun σ_5 =>
    nm (si σ_5 1 7 (gi σ_5 1 9)) fun σ_6 =>
    some ((), σ_6)
  else
    some ((), σ)
set_option maxRecDepth 100000 in
theorem met_X8_fails (l : Launch) (G : GG) (rd : Bool) (q : Nat → Nat) {N : Nat} {x1 : Int32} {σ σ' : SS} {r : Unit} (hF : F_X8_fails N x1 σ = some (r, σ')) : Met l yX8_fails (ws_ yX8_fails cX8_fails 2 none) rmX8_fails (pcx G rd q σ [.ref (q 1), .int x1]) (qxv G rd q σ' r) 0 0 (fa G) := by
  refine met_of (by decide) (Nat.le_of_ble_eq_true rfl) ?_
  intro p e s m below meth c C H locs ls hw hS hl
  obtain ⟨hx, hb, hml, hown, hts, -, -, -, -⟩ := id C
  have hl : lv_has ls 2 [(0, .ref (q 1)), (1, .int x1)] := hl
  unfold F_X8_fails at hF
  refine lv_aload_n hx hb dX8_fails_0 rfl (lv_at hl 0 rfl) ?_
  refine r_get8 C hw 6 (by decide) rfl (v := .int (gi σ 1 6)) rfl q961 dX8_fails_1 ?_
  refine lv_if_ne (tgt := 20) hx hb dX8_fails_4 (by decide) (fun c_4 => ?_) (fun c_4 => ?_)
  · have hF := if_e hF c_4
    exact r_vret C hw hS hF dX8_fails_20
  · have hF := it_e hF c_4
    refine lv_aload_n hx hb dX8_fails_7 rfl (lv_at hl 0 rfl) ?_
    refine lv_iload_n hx hb dX8_fails_8 rfl (lv_at hl 1 rfl) ?_
    obtain ⟨σ_5, eσ_5, hF⟩ := nm_e2 hF
    refine r_put8 C hw hS 6 (by decide) rfl rfl (tyX8_ok 6 (by decide)) rfl rfl q961 dX8_fails_9 eσ_5 (fun H locs hw hS => ?_)
    refine lv_aload_n hx hb dX8_fails_12 rfl (lv_at hl 0 rfl) ?_
    refine lv_aload_n hx hb dX8_fails_13 rfl (lv_at hl 0 rfl) ?_
    refine r_get8 C hw 9 (by decide) rfl (v := .int (gi σ_5 1 9)) rfl q964 dX8_fails_14 ?_
    obtain ⟨σ_6, eσ_6, hF⟩ := nm_e2 hF
    refine r_put8 C hw hS 7 (by decide) rfl rfl (tyX8_ok 7 (by decide)) rfl rfl q962 dX8_fails_17 eσ_6 (fun H locs hw hS => ?_)
    exact r_vret C hw hS hF dX8_fails_20
abbrev rmX8_fault : Room := { frames := 1, cells := 0, slots := 0, locals := 60 }
noncomputable def F_X8_fault (N : Nat)  (σ : SS) : Option (Int32 × SS) :=
  some (gi σ 1 5, σ)
set_option maxRecDepth 100000 in
theorem met_X8_fault (l : Launch) (G : GG) (rd : Bool) (q : Nat → Nat) {N : Nat} {σ σ' : SS} {r : Int32} (hF : F_X8_fault N  σ = some (r, σ')) : Met l yX8_fault (ws_ yX8_fault cX8_fault 1 (some .int)) rmX8_fault (pcx G rd q σ [.ref (q 1)]) (qxi G rd q σ' r) 0 0 (fa G) := by
  refine met_of (by decide) (Nat.le_of_ble_eq_true rfl) ?_
  intro p e s m below meth c C H locs ls hw hS hl
  obtain ⟨hx, hb, hml, hown, hts, -, -, -, -⟩ := id C
  have hl : lv_has ls 1 [(0, .ref (q 1))] := hl
  unfold F_X8_fault at hF
  refine lv_aload_n hx hb dX8_fault_0 rfl (lv_at hl 0 rfl) ?_
  refine r_get8 C hw 5 (by decide) rfl (v := .int (gi σ 1 5)) rfl q960 dX8_fault_1 ?_
  exact r_iret C hw hS hF dX8_fault_4
abbrev rmX8_feed : Room := { frames := 2, cells := 0, slots := 0, locals := 85 }
noncomputable def F_X8_feed (N : Nat) (x1 : Int32) (σ : SS) : Option (Int32 × SS) :=
  bd (F_X8_in N x1.toInt64 (0 : Int64) (127 : Int64) σ) fun r_9 σ_10 =>
  if r_9 = (0 : Int32) then
    some ((-1 : Int32), σ_10)
  else
    if (gi σ_10 1 4) = (160 : Int32) then
      some ((-3 : Int32), σ_10)
    else
      gd (inR (gi σ_10 1 4) 160) <|
      nm (si σ_10 23 (gi σ_10 1 4).toNatClampNeg x1) fun σ_15 =>
      nm (si σ_15 1 4 ((gi σ_15 1 4) + (1 : Int32))) fun σ_16 =>
      some (gi σ_16 1 4, σ_16)
set_option maxRecDepth 100000 in
theorem met_X8_feed (l : Launch) (G : GG) (rd : Bool) (q : Nat → Nat) {N : Nat} {x1 : Int32} {σ σ' : SS} {r : Int32} (hF : F_X8_feed N x1 σ = some (r, σ')) : Met l yX8_feed (ws_ yX8_feed cX8_feed 2 (some .int)) rmX8_feed (pcx G rd q σ [.ref (q 1), .int x1]) (qxi G rd q σ' r) 0 0 (fa G) := by
  refine met_of (by decide) (Nat.le_of_ble_eq_true rfl) ?_
  intro p e s m below meth c C H locs ls hw hS hl
  obtain ⟨hx, hb, hml, hown, hts, -, -, -, -⟩ := id C
  have hl : lv_has ls 2 [(0, .ref (q 1)), (1, .int x1)] := hl
  unfold F_X8_feed at hF
  refine lv_iload_n hx hb dX8_feed_0 rfl (lv_at hl 1 rfl) ?_
  refine lv_i2l hx hb dX8_feed_1 rfl ?_
  refine lv_lconst (v := (0 : Int64)) hx hb dX8_feed_2 (by decide) ?_
  refine lv_ldc2 (v := (127 : Int64)) hx hb hown (hts _ q1039) dX8_feed_3 ?_
  obtain ⟨r_9, σ_10, h_11, hF⟩ := bd_e hF
  refine r_callSi (As := [.long x1.toInt64, .long (0 : Int64), .long (127 : Int64)]) (rest := []) C hw hS (met_X8_in l G rd q  h_11) (cwS 3 hts (lw_S q1040 q1041 q65 q1042) rfl rfl rfl (by decide +kernel) ⟨Nat.le_of_ble_eq_true rfl, Nat.le_of_ble_eq_true rfl⟩) rfl hl.1 rfl (Nat.le_of_ble_eq_true rfl) ⟨Nat.le_refl _, Nat.le_refl _⟩ dX8_feed_6 (fun H locs hw hS => ?_)
  refine lv_if_ne (tgt := 14) hx hb dX8_feed_9 (by decide) (fun c_12 => ?_) (fun c_12 => ?_)
  · have hF := if_e hF c_12
    refine lv_aload_n hx hb dX8_feed_14 rfl (lv_at hl 0 rfl) ?_
    refine r_get8 C hw 4 (by decide) rfl (v := .int (gi σ_10 1 4)) rfl q959 dX8_feed_15 ?_
    refine lv_sipush (v := (160 : Int32)) hx hb dX8_feed_18 (by decide) ?_
    refine lv_icmp_ne (tgt := 27) hx hb dX8_feed_21 (by decide) (fun c_13 => ?_) (fun c_13 => ?_)
    · have hF := if_e hF c_13
      refine lv_aload_n hx hb dX8_feed_27 rfl (lv_at hl 0 rfl) ?_
      refine r_get8 C hw 3 (by decide) rfl (v := .ref (q 23)) rfl q958 dX8_feed_28 ?_
      refine lv_aload_n hx hb dX8_feed_31 rfl (lv_at hl 0 rfl) ?_
      refine r_get8 C hw 4 (by decide) rfl (v := .int (gi σ_10 1 4)) rfl q959 dX8_feed_32 ?_
      refine lv_iload_n hx hb dX8_feed_35 rfl (lv_at hl 1 rfl) ?_
      obtain ⟨h_14, hF⟩ := gd_e hF
      obtain ⟨σ_15, eσ_15, hF⟩ := nm_e2 hF
      refine r_iast (i := 23) (n := 160) (g := 23) (st := 0) C hw hS (wi_lo (Or.inr ⟨by decide, by decide⟩)) rfl (fun _ => ho_lo (by decide)) h_14 dX8_feed_36 eσ_15 (fun H locs hw hS => ?_)
      refine lv_aload_n hx hb dX8_feed_37 rfl (lv_at hl 0 rfl) ?_
      refine lv_dup hx hb dX8_feed_38 rfl ?_
      refine r_get8 C hw 4 (by decide) rfl (v := .int (gi σ_15 1 4)) rfl q959 dX8_feed_39 ?_
      refine lv_iconst (v := (1 : Int32)) hx hb dX8_feed_42 (by decide) ?_
      refine lv_iadd hx hb dX8_feed_43 ?_
      obtain ⟨σ_16, eσ_16, hF⟩ := nm_e2 hF
      refine r_put8 C hw hS 4 (by decide) rfl rfl (tyX8_ok 4 (by decide)) rfl rfl q959 dX8_feed_44 eσ_16 (fun H locs hw hS => ?_)
      refine lv_aload_n hx hb dX8_feed_47 rfl (lv_at hl 0 rfl) ?_
      refine r_get8 C hw 4 (by decide) rfl (v := .int (gi σ_16 1 4)) rfl q959 dX8_feed_48 ?_
      exact r_iret C hw hS hF dX8_feed_51
    · have hF := it_e hF c_13
      refine lv_bipush (v := (-3 : Int32)) hx hb dX8_feed_24 (by decide) ?_
      exact r_iret C hw hS hF dX8_feed_26
  · have hF := it_e hF c_12
    refine lv_iconst (v := (-1 : Int32)) hx hb dX8_feed_12 (by decide) ?_
    exact r_iret C hw hS hF dX8_feed_13
abbrev rmX8_forget : Room := { frames := 2, cells := 0, slots := 0, locals := 85 }
noncomputable def F_X8_forget (N : Nat) (x1 : Int32) (σ : SS) : Option (Int32 × SS) :=
  bd (F_X8_in N x1.toInt64 (0 : Int64) ((gi σ 1 19).toInt64) σ) fun r_7 σ_8 =>
  if r_7 = (0 : Int32) then
    some ((-1 : Int32), σ_8)
  else
    nm (gi σ_8 1 19) fun x_11 =>
    nm (si σ_8 1 19 x1) fun σ_12 =>
    some (x_11, σ_12)
set_option maxRecDepth 100000 in
theorem met_X8_forget (l : Launch) (G : GG) (rd : Bool) (q : Nat → Nat) {N : Nat} {x1 : Int32} {σ σ' : SS} {r : Int32} (hF : F_X8_forget N x1 σ = some (r, σ')) : Met l yX8_forget (ws_ yX8_forget cX8_forget 3 (some .int)) rmX8_forget (pcx G rd q σ [.ref (q 1), .int x1]) (qxi G rd q σ' r) 0 0 (fa G) := by
  refine met_of (by decide) (Nat.le_of_ble_eq_true rfl) ?_
  intro p e s m below meth c C H locs ls hw hS hl
  obtain ⟨hx, hb, hml, hown, hts, -, -, -, -⟩ := id C
  have hl : lv_has ls 3 [(0, .ref (q 1)), (1, .int x1)] := hl
  unfold F_X8_forget at hF
  refine lv_iload_n hx hb dX8_forget_0 rfl (lv_at hl 1 rfl) ?_
  refine lv_i2l hx hb dX8_forget_1 rfl ?_
  refine lv_lconst (v := (0 : Int64)) hx hb dX8_forget_2 (by decide) ?_
  refine lv_aload_n hx hb dX8_forget_3 rfl (lv_at hl 0 rfl) ?_
  refine r_get8 C hw 19 (by decide) rfl (v := .int (gi σ 1 19)) rfl q974 dX8_forget_4 ?_
  refine lv_i2l hx hb dX8_forget_7 rfl ?_
  obtain ⟨r_7, σ_8, h_9, hF⟩ := bd_e hF
  refine r_callSi (As := [.long x1.toInt64, .long (0 : Int64), .long ((gi σ 1 19).toInt64)]) (rest := []) C hw hS (met_X8_in l G rd q  h_9) (cwS 3 hts (lw_S q1040 q1041 q65 q1042) rfl rfl rfl (by decide +kernel) ⟨Nat.le_of_ble_eq_true rfl, Nat.le_of_ble_eq_true rfl⟩) rfl hl.1 rfl (Nat.le_of_ble_eq_true rfl) ⟨Nat.le_refl _, Nat.le_refl _⟩ dX8_forget_8 (fun H locs hw hS => ?_)
  refine lv_if_ne (tgt := 16) hx hb dX8_forget_11 (by decide) (fun c_10 => ?_) (fun c_10 => ?_)
  · have hF := if_e hF c_10
    refine lv_aload_n hx hb dX8_forget_16 rfl (lv_at hl 0 rfl) ?_
    refine r_get8 C hw 19 (by decide) rfl (v := .int (gi σ_8 1 19)) rfl q974 dX8_forget_17 ?_
    obtain ⟨x_11, ex_11, hF⟩ := nm_e2 hF
    refine r_topi ex_11 ?_
    refine lv_istore_n (lv' := [(2, .int x_11), (0, .ref (q 1)), (1, .int x1)]) hx hb dX8_forget_20 rfl hl (by decide) rfl (fun ls hl => ?_)
    refine lv_aload_n hx hb dX8_forget_21 rfl (lv_at hl 1 rfl) ?_
    refine lv_iload_n hx hb dX8_forget_22 rfl (lv_at hl 2 rfl) ?_
    obtain ⟨σ_12, eσ_12, hF⟩ := nm_e2 hF
    refine r_put8 C hw hS 19 (by decide) rfl rfl (tyX8_ok 19 (by decide)) rfl rfl q974 dX8_forget_23 eσ_12 (fun H locs hw hS => ?_)
    refine lv_iload_n hx hb dX8_forget_26 rfl (lv_at hl 0 rfl) ?_
    exact r_iret C hw hS hF dX8_forget_27
  · have hF := it_e hF c_10
    refine lv_iconst (v := (-1 : Int32)) hx hb dX8_forget_14 (by decide) ?_
    exact r_iret C hw hS hF dX8_forget_15
abbrev rmX8_keep : Room := { frames := 2, cells := 0, slots := 0, locals := 85 }
noncomputable def F_X8_keep_37 (N : Nat) (x1 : Int32) (z0 : Int32) (σ : SS) : Option (Int32 × SS) :=
  gd (inR x1 2) <|
  nm (si σ 28 x1.toNatClampNeg (vp_nar .boolean (1 : Int32))) fun σ_13 =>
  some (z0, σ_13)
set_option maxRecDepth 100000 in
theorem w_X8_keep_37 {p : Program} {l : Launch} {e : Env} {s : State} {m : MethodId} {args : Array Value} {below : List Frame} {meth : Method} {c : Code} {G : GG} {rd : Bool} {q : Nat → Nat} {N : Nat} {r : Int32} {σ' : SS} (C : cx p s m args meth c cX8_keep 3 RX8 (some .int) G) : ∀ (x1 : Int32) (z0 : Int32) (σ : SS) (H : Heap) (locs : List Loc) (ls : Array Slot), F_X8_keep_37 N x1 z0 σ = some (r, σ') → wx G rd q σ H → va_S (fa G) s.heap H locs → lv_has ls 3 [(0, .ref (q 1)), (1, .int x1)] → W p l e rmX8_keep s m args below meth c H locs 0 0 (MQ below (qxi G rd q σ' r) args s 0 0 (fa G)) (F0 m 37 ls [.int z0]) := by
  obtain ⟨hx, hb, hml, hown, hts, -, -, -, -⟩ := id C
  intro x1 z0 σ H locs ls hF hw hS hl
  unfold F_X8_keep_37 at hF
  refine lv_istore_n (lv' := [(2, .int z0), (0, .ref (q 1)), (1, .int x1)]) hx hb dX8_keep_37 rfl hl (by decide) rfl (fun ls hl => ?_)
  refine lv_aload_n hx hb dX8_keep_38 rfl (lv_at hl 1 rfl) ?_
  refine r_get8 C hw 21 (by decide) rfl (v := .ref (q 28)) rfl q976 dX8_keep_39 ?_
  refine lv_iload_n hx hb dX8_keep_42 rfl (lv_at hl 2 rfl) ?_
  refine lv_iconst (v := (1 : Int32)) hx hb dX8_keep_43 (by decide) ?_
  obtain ⟨h_12, hF⟩ := gd_e hF
  obtain ⟨σ_13, eσ_13, hF⟩ := nm_e2 hF
  refine r_zast (i := 28) (n := 2) (g := 28) (st := 0) C hw hS (wi_lo (Or.inr ⟨by decide, by decide⟩)) rfl (fun _ => ho_lo (by decide)) h_12 dX8_keep_44 eσ_13 (fun H locs hw hS => ?_)
  refine lv_iload_n hx hb dX8_keep_45 rfl (lv_at hl 0 rfl) ?_
  exact r_iret C hw hS hF dX8_keep_46
noncomputable def F_X8_keep (N : Nat) (x1 : Int32) (σ : SS) : Option (Int32 × SS) :=
  bd (F_X8_in N x1.toInt64 (0 : Int64) (1 : Int64) σ) fun r_14 σ_15 =>
  if r_14 = (0 : Int32) then
    some ((-1 : Int32), σ_15)
  else
    bd (F_X8_copies N (0 : Int32) ((39 : Int32) * (x1 + (1 : Int32))) σ_15) fun r_18 σ_19 =>
    gd (inR x1 2) <|
    if (gi σ_19 28 x1.toNatClampNeg) = (0 : Int32) then
      F_X8_keep_37 N x1 (0 : Int32) σ_19
    else
      F_X8_keep_37 N x1 (1 : Int32) σ_19
set_option maxRecDepth 100000 in
theorem met_X8_keep (l : Launch) (G : GG) (rd : Bool) (q : Nat → Nat) {N : Nat} {x1 : Int32} {σ σ' : SS} {r : Int32} (hF : F_X8_keep N x1 σ = some (r, σ')) : Met l yX8_keep (ws_ yX8_keep cX8_keep 3 (some .int)) rmX8_keep (pcx G rd q σ [.ref (q 1), .int x1]) (qxi G rd q σ' r) 0 0 (fa G) := by
  refine met_of (by decide) (Nat.le_of_ble_eq_true rfl) ?_
  intro p e s m below meth c C H locs ls hw hS hl
  obtain ⟨hx, hb, hml, hown, hts, -, -, -, -⟩ := id C
  have hl : lv_has ls 3 [(0, .ref (q 1)), (1, .int x1)] := hl
  unfold F_X8_keep at hF
  refine lv_iload_n hx hb dX8_keep_0 rfl (lv_at hl 1 rfl) ?_
  refine lv_i2l hx hb dX8_keep_1 rfl ?_
  refine lv_lconst (v := (0 : Int64)) hx hb dX8_keep_2 (by decide) ?_
  refine lv_lconst (v := (1 : Int64)) hx hb dX8_keep_3 (by decide) ?_
  obtain ⟨r_14, σ_15, h_16, hF⟩ := bd_e hF
  refine r_callSi (As := [.long x1.toInt64, .long (0 : Int64), .long (1 : Int64)]) (rest := []) C hw hS (met_X8_in l G rd q  h_16) (cwS 3 hts (lw_S q1040 q1041 q65 q1042) rfl rfl rfl (by decide +kernel) ⟨Nat.le_of_ble_eq_true rfl, Nat.le_of_ble_eq_true rfl⟩) rfl hl.1 rfl (Nat.le_of_ble_eq_true rfl) ⟨Nat.le_refl _, Nat.le_refl _⟩ dX8_keep_4 (fun H locs hw hS => ?_)
  refine lv_if_ne (tgt := 12) hx hb dX8_keep_7 (by decide) (fun c_17 => ?_) (fun c_17 => ?_)
  · have hF := if_e hF c_17
    refine lv_aload_n hx hb dX8_keep_12 rfl (lv_at hl 0 rfl) ?_
    refine lv_iconst (v := (0 : Int32)) hx hb dX8_keep_13 (by decide) ?_
    refine lv_bipush (v := (39 : Int32)) hx hb dX8_keep_14 (by decide) ?_
    refine lv_iload_n hx hb dX8_keep_16 rfl (lv_at hl 1 rfl) ?_
    refine lv_iconst (v := (1 : Int32)) hx hb dX8_keep_17 (by decide) ?_
    refine lv_iadd hx hb dX8_keep_18 ?_
    refine lv_imul hx hb dX8_keep_19 ?_
    obtain ⟨r_18, σ_19, h_20, hF⟩ := bd_e hF
    refine r_callVv (As := [.int (0 : Int32), .int ((39 : Int32) * (x1 + (1 : Int32)))]) (rest := []) (i := 1) C hw hS (wi_lo (Or.inl (by decide))) rfl (ci := 8) rfl (met_X8_copies l G rd q  h_20) (cwV 2 hts (lw_V q1192 q1194 qs48 q65 q1195) rfl rfl rfl (by decide +kernel) ⟨Nat.le_of_ble_eq_true rfl, Nat.le_of_ble_eq_true rfl⟩) rfl hl.1 rfl (Nat.le_of_ble_eq_true rfl) ⟨Nat.le_refl _, Nat.le_refl _⟩ dX8_keep_20 (fun H locs hw hS => ?_)
    refine lv_aload_n hx hb dX8_keep_23 rfl (lv_at hl 0 rfl) ?_
    refine r_get8 C hw 21 (by decide) rfl (v := .ref (q 28)) rfl q976 dX8_keep_24 ?_
    refine lv_iload_n hx hb dX8_keep_27 rfl (lv_at hl 1 rfl) ?_
    obtain ⟨h_21, hF⟩ := gd_e hF
    refine r_zald (i := 28) (n := 2) (g := 28) (st := 0) C hw (wi_lo (Or.inr ⟨by decide, by decide⟩)) rfl h_21 dX8_keep_28 ?_
    refine lv_if_eq (tgt := 36) hx hb dX8_keep_29 (by decide) (fun c_22 => ?_) (fun c_22 => ?_)
    · have hF := it_e hF c_22
      refine lv_iconst (v := (0 : Int32)) hx hb dX8_keep_36 (by decide) ?_
      exact w_X8_keep_37 C   _ _ _ _ _ _ hF hw hS (lv_sub hl [0, 1] rfl)
    · have hF := if_e hF c_22
      refine lv_iconst (v := (1 : Int32)) hx hb dX8_keep_32 (by decide) ?_
      refine lv_goto (tgt := 37) hx hb dX8_keep_33 (by decide) ?_
      exact w_X8_keep_37 C   _ _ _ _ _ _ hF hw hS (lv_sub hl [0, 1] rfl)
  · have hF := it_e hF c_17
    refine lv_iconst (v := (-1 : Int32)) hx hb dX8_keep_10 (by decide) ?_
    exact r_iret C hw hS hF dX8_keep_11
abbrev rmX8_mostAt : Room := { frames := 5, cells := 0, slots := 0, locals := 158 }
noncomputable def F_X8_mostAt_60 (N : Nat) (K17 : Int32 → Int32 → Int32 → Int32 → Int32 → Int32 → Int32 → SS → Option (Int32 × SS)) (x1 : Int32) (x3 : Int32) (x4 : Int32) (x5 : Int32) (x6 : Int32) (x8 : Int32) (x9 : Int32) (z0 : Int32) (σ : SS) : Option (Int32 × SS) :=
  if x9 ≤ x6 then
    nm (x8 + (1 : Int32)) fun x_16 =>
    K17 x1 x3 x4 x5 x6 z0 x_16 σ
  else
    nm (x8 + (1 : Int32)) fun x_17 =>
    K17 x1 x3 x4 x5 x9 z0 x_17 σ
set_option maxRecDepth 100000 in
theorem w_X8_mostAt_60 {p : Program} {l : Launch} {e : Env} {s : State} {m : MethodId} {args : Array Value} {below : List Frame} {meth : Method} {c : Code} {G : GG} {rd : Bool} {q : Nat → Nat} {N : Nat} {r : Int32} {σ' : SS} (C : cx p s m args meth c cX8_mostAt 10 RX8 (some .int) G) {K17 : Int32 → Int32 → Int32 → Int32 → Int32 → Int32 → Int32 → SS → Option (Int32 × SS)} (HK17 : ∀ (x1 : Int32) (x3 : Int32) (x4 : Int32) (x5 : Int32) (x6 : Int32) (x7 : Int32) (x8 : Int32) (σ : SS) (H : Heap) (locs : List Loc) (ls : Array Slot), K17 x1 x3 x4 x5 x6 x7 x8 σ = some (r, σ') → wx G rd q σ H → va_S (fa G) s.heap H locs → lv_has ls 10 [(0, .ref (q 1)), (1, .int x1), (3, .int x3), (4, .int x4), (5, .int x5), (6, .int x6), (7, .int x7), (8, .int x8)] → W p l e rmX8_mostAt s m args below meth c H locs 0 0 (MQ below (qxi G rd q σ' r) args s 0 0 (fa G)) (F0 m 17 ls [])) : ∀ (x1 : Int32) (x3 : Int32) (x4 : Int32) (x5 : Int32) (x6 : Int32) (x8 : Int32) (x9 : Int32) (z0 : Int32) (σ : SS) (H : Heap) (locs : List Loc) (ls : Array Slot), F_X8_mostAt_60 N K17 x1 x3 x4 x5 x6 x8 x9 z0 σ = some (r, σ') → wx G rd q σ H → va_S (fa G) s.heap H locs → lv_has ls 10 [(0, .ref (q 1)), (1, .int x1), (3, .int x3), (4, .int x4), (5, .int x5), (6, .int x6), (8, .int x8), (9, .int x9)] → W p l e rmX8_mostAt s m args below meth c H locs 0 0 (MQ below (qxi G rd q σ' r) args s 0 0 (fa G)) (F0 m 60 ls [.int z0]) := by
  obtain ⟨hx, hb, hml, hown, hts, -, -, -, -⟩ := id C
  intro x1 x3 x4 x5 x6 x8 x9 z0 σ H locs ls hF hw hS hl
  unfold F_X8_mostAt_60 at hF
  refine lv_istore (lv' := [(7, .int z0), (0, .ref (q 1)), (1, .int x1), (3, .int x3), (4, .int x4), (5, .int x5), (6, .int x6), (8, .int x8), (9, .int x9)]) hx hb dX8_mostAt_60 hl (by decide) rfl (fun ls hl => ?_)
  refine lv_iload hx hb dX8_mostAt_62 (lv_at hl 8 rfl) ?_
  refine lv_iload hx hb dX8_mostAt_64 (lv_at hl 6 rfl) ?_
  refine lv_icmp_le (tgt := 74) hx hb dX8_mostAt_66 (by decide) (fun c_15 => ?_) (fun c_15 => ?_)
  · have hF := it_e hF c_15
    refine lv_iload hx hb dX8_mostAt_74 (lv_at hl 6 rfl) ?_
    refine lv_istore (lv' := [(6, .int x6), (7, .int z0), (0, .ref (q 1)), (1, .int x1), (3, .int x3), (4, .int x4), (5, .int x5), (8, .int x8), (9, .int x9)]) hx hb dX8_mostAt_76 hl (by decide) rfl (fun ls hl => ?_)
    obtain ⟨x_16, ex_16, hF⟩ := nm_e2 hF
    refine lv_iinc (v := x_16) (lv' := [(8, .int x_16), (6, .int x6), (7, .int z0), (0, .ref (q 1)), (1, .int x1), (3, .int x3), (4, .int x4), (5, .int x5), (9, .int x9)]) hx hb dX8_mostAt_78 hl (k := 7) rfl (by rw [ex_16]; rfl) (by decide) rfl (fun ls hl => ?_)
    refine lv_goto (tgt := 17) hx hb dX8_mostAt_81 (by decide) ?_
    exact HK17 _ _ _ _ _ _ _ _ _ _ _ hF hw hS (lv_sub hl [3, 4, 5, 6, 7, 1, 2, 0] rfl)
  · have hF := if_e hF c_15
    refine lv_iload hx hb dX8_mostAt_69 (lv_at hl 8 rfl) ?_
    refine lv_goto (tgt := 76) hx hb dX8_mostAt_71 (by decide) ?_
    refine lv_istore (lv' := [(6, .int x9), (7, .int z0), (0, .ref (q 1)), (1, .int x1), (3, .int x3), (4, .int x4), (5, .int x5), (8, .int x8), (9, .int x9)]) hx hb dX8_mostAt_76 hl (by decide) rfl (fun ls hl => ?_)
    obtain ⟨x_17, ex_17, hF⟩ := nm_e2 hF
    refine lv_iinc (v := x_17) (lv' := [(8, .int x_17), (6, .int x9), (7, .int z0), (0, .ref (q 1)), (1, .int x1), (3, .int x3), (4, .int x4), (5, .int x5), (9, .int x9)]) hx hb dX8_mostAt_78 hl (k := 7) rfl (by rw [ex_17]; rfl) (by decide) rfl (fun ls hl => ?_)
    refine lv_goto (tgt := 17) hx hb dX8_mostAt_81 (by decide) ?_
    exact HK17 _ _ _ _ _ _ _ _ _ _ _ hF hw hS (lv_sub hl [3, 4, 5, 6, 7, 1, 2, 0] rfl)
noncomputable def B_X8_mostAt_17 (N : Nat) (IH : Int32 → Int32 → Int32 → Int32 → Int32 → Int32 → Int32 → SS → Option (Int32 × SS)) (x1 : Int32) (x3 : Int32) (x4 : Int32) (x5 : Int32) (x6 : Int32) (x7 : Int32) (x8 : Int32) (σ : SS) : Option (Int32 × SS) :=
  if x3 < x8 then
    if x5 = (0 : Int32) then
      some (x7, σ)
    else
      some (x6, σ)
  else
    gd (inR ((195 : Int32) + x1) 234) <|
    nm (si σ 21 ((195 : Int32) + x1).toNatClampNeg x8) fun σ_21 =>
    bd (F_X8_ticksGo N (195 : Int32) x4 σ_21) fun r_22 σ_23 =>
    if r_22 ≤ x6 then
      F_X8_mostAt_60 N IH x1 x3 x4 x5 x6 x8 r_22 x7 σ_23
    else
      F_X8_mostAt_60 N IH x1 x3 x4 x5 x6 x8 r_22 x8 σ_23
noncomputable def F_X8_mostAt_17 (N : Nat) (n : Nat) : Int32 → Int32 → Int32 → Int32 → Int32 → Int32 → Int32 → SS → Option (Int32 × SS) := Nat.rec (fun _ _ _ _ _ _ _ _ => none) (fun _ IH => B_X8_mostAt_17 N IH) n
set_option maxRecDepth 100000 in
theorem w_X8_mostAt_17 {p : Program} {l : Launch} {e : Env} {s : State} {m : MethodId} {args : Array Value} {below : List Frame} {meth : Method} {c : Code} {G : GG} {rd : Bool} {q : Nat → Nat} {N : Nat} {r : Int32} {σ' : SS} (C : cx p s m args meth c cX8_mostAt 10 RX8 (some .int) G) : ∀ (n : Nat), ∀ (x1 : Int32) (x3 : Int32) (x4 : Int32) (x5 : Int32) (x6 : Int32) (x7 : Int32) (x8 : Int32) (σ : SS) (H : Heap) (locs : List Loc) (ls : Array Slot), F_X8_mostAt_17 N n x1 x3 x4 x5 x6 x7 x8 σ = some (r, σ') → wx G rd q σ H → va_S (fa G) s.heap H locs → lv_has ls 10 [(0, .ref (q 1)), (1, .int x1), (3, .int x3), (4, .int x4), (5, .int x5), (6, .int x6), (7, .int x7), (8, .int x8)] → W p l e rmX8_mostAt s m args below meth c H locs 0 0 (MQ below (qxi G rd q σ' r) args s 0 0 (fa G)) (F0 m 17 ls []) := by
  obtain ⟨hx, hb, hml, hown, hts, -, -, -, -⟩ := id C
  intro n
  induction n with
  | zero =>
    intro x1 x3 x4 x5 x6 x7 x8 σ H locs ls hF hw hS hl
    cases hF
  | succ n ih =>
    intro x1 x3 x4 x5 x6 x7 x8 σ H locs ls hF hw hS hl
    have hF : B_X8_mostAt_17 N (F_X8_mostAt_17 N n) x1 x3 x4 x5 x6 x7 x8 σ = some (r, σ') := hF
    unfold B_X8_mostAt_17 at hF
    refine lv_iload hx hb dX8_mostAt_17 (lv_at hl 7 rfl) ?_
    refine lv_iload_n hx hb dX8_mostAt_19 rfl (lv_at hl 2 rfl) ?_
    refine lv_icmp_gt (tgt := 84) hx hb dX8_mostAt_20 (by decide) (fun c_18 => ?_) (fun c_18 => ?_)
    · have hF := it_e hF c_18
      refine lv_iload hx hb dX8_mostAt_84 (lv_at hl 4 rfl) ?_
      refine lv_if_ne (tgt := 94) hx hb dX8_mostAt_86 (by decide) (fun c_19 => ?_) (fun c_19 => ?_)
      · have hF := if_e hF c_19
        refine lv_iload hx hb dX8_mostAt_94 (lv_at hl 5 rfl) ?_
        exact r_iret C hw hS hF dX8_mostAt_96
      · have hF := it_e hF c_19
        refine lv_iload hx hb dX8_mostAt_89 (lv_at hl 6 rfl) ?_
        refine lv_goto (tgt := 96) hx hb dX8_mostAt_91 (by decide) ?_
        exact r_iret C hw hS hF dX8_mostAt_96
    · have hF := if_e hF c_18
      refine lv_aload_n hx hb dX8_mostAt_23 rfl (lv_at hl 0 rfl) ?_
      refine r_get8 C hw 0 (by decide) rfl (v := .ref (q 21)) rfl q955 dX8_mostAt_24 ?_
      refine lv_sipush (v := (195 : Int32)) hx hb dX8_mostAt_27 (by decide) ?_
      refine lv_iload_n hx hb dX8_mostAt_30 rfl (lv_at hl 1 rfl) ?_
      refine lv_iadd hx hb dX8_mostAt_31 ?_
      refine lv_iload hx hb dX8_mostAt_32 (lv_at hl 7 rfl) ?_
      obtain ⟨h_20, hF⟩ := gd_e hF
      obtain ⟨σ_21, eσ_21, hF⟩ := nm_e2 hF
      refine r_iast (i := 21) (n := 234) (g := 21) (st := 0) C hw hS (wi_lo (Or.inr ⟨by decide, by decide⟩)) rfl (fun _ => ho_lo (by decide)) h_20 dX8_mostAt_34 eσ_21 (fun H locs hw hS => ?_)
      refine lv_aload_n hx hb dX8_mostAt_35 rfl (lv_at hl 0 rfl) ?_
      refine lv_sipush (v := (195 : Int32)) hx hb dX8_mostAt_36 (by decide) ?_
      refine lv_iload hx hb dX8_mostAt_39 (lv_at hl 3 rfl) ?_
      obtain ⟨r_22, σ_23, h_24, hF⟩ := bd_e hF
      refine r_callVi (As := [.int (195 : Int32), .int x4]) (rest := []) (i := 1) C hw hS (wi_lo (Or.inl (by decide))) rfl (ci := 8) rfl (met_X8_ticksGo l G rd q  h_24) (cwV 2 hts (lw_V q1188 q1190 qs47 q65 q1191) rfl rfl rfl (by decide +kernel) ⟨Nat.le_of_ble_eq_true rfl, Nat.le_of_ble_eq_true rfl⟩) rfl hl.1 rfl (Nat.le_of_ble_eq_true rfl) ⟨Nat.le_refl _, Nat.le_refl _⟩ dX8_mostAt_41 (fun H locs hw hS => ?_)
      refine lv_istore (lv' := [(9, .int r_22), (0, .ref (q 1)), (1, .int x1), (3, .int x3), (4, .int x4), (5, .int x5), (6, .int x6), (7, .int x7), (8, .int x8)]) hx hb dX8_mostAt_44 hl (by decide) rfl (fun ls hl => ?_)
      refine lv_iload hx hb dX8_mostAt_46 (lv_at hl 0 rfl) ?_
      refine lv_iload hx hb dX8_mostAt_48 (lv_at hl 6 rfl) ?_
      refine lv_icmp_le (tgt := 58) hx hb dX8_mostAt_50 (by decide) (fun c_25 => ?_) (fun c_25 => ?_)
      · have hF := it_e hF c_25
        refine lv_iload hx hb dX8_mostAt_58 (lv_at hl 7 rfl) ?_
        exact w_X8_mostAt_60 C  ih _ _ _ _ _ _ _ _ _ _ _ _ hF hw hS (lv_sub hl [1, 2, 3, 4, 5, 6, 8, 0] rfl)
      · have hF := if_e hF c_25
        refine lv_iload hx hb dX8_mostAt_53 (lv_at hl 8 rfl) ?_
        refine lv_goto (tgt := 60) hx hb dX8_mostAt_55 (by decide) ?_
        exact w_X8_mostAt_60 C  ih _ _ _ _ _ _ _ _ _ _ _ _ hF hw hS (lv_sub hl [1, 2, 3, 4, 5, 6, 8, 0] rfl)
noncomputable def F_X8_mostAt (N : Nat) (x1 : Int32) (x2 : Int32) (x3 : Int32) (x4 : Int32) (x5 : Int32) (σ : SS) : Option (Int32 × SS) :=
  bd (F_X8_copies N (0 : Int32) (195 : Int32) σ) fun r_26 σ_27 =>
  F_X8_mostAt_17 N N x1 x3 x4 x5 (-1 : Int32) x2 x2 σ_27
set_option maxRecDepth 100000 in
theorem met_X8_mostAt (l : Launch) (G : GG) (rd : Bool) (q : Nat → Nat) {N : Nat} {x1 : Int32} {x2 : Int32} {x3 : Int32} {x4 : Int32} {x5 : Int32} {σ σ' : SS} {r : Int32} (hF : F_X8_mostAt N x1 x2 x3 x4 x5 σ = some (r, σ')) : Met l yX8_mostAt (ws_ yX8_mostAt cX8_mostAt 10 (some .int)) rmX8_mostAt (pcx G rd q σ [.ref (q 1), .int x1, .int x2, .int x3, .int x4, .int x5]) (qxi G rd q σ' r) 0 0 (fa G) := by
  refine met_of (by decide) (Nat.le_of_ble_eq_true rfl) ?_
  intro p e s m below meth c C H locs ls hw hS hl
  obtain ⟨hx, hb, hml, hown, hts, -, -, -, -⟩ := id C
  have hl : lv_has ls 10 [(0, .ref (q 1)), (1, .int x1), (2, .int x2), (3, .int x3), (4, .int x4), (5, .int x5)] := hl
  unfold F_X8_mostAt at hF
  refine lv_iconst (v := (-1 : Int32)) hx hb dX8_mostAt_0 (by decide) ?_
  refine lv_istore (lv' := [(6, .int (-1 : Int32)), (0, .ref (q 1)), (1, .int x1), (2, .int x2), (3, .int x3), (4, .int x4), (5, .int x5)]) hx hb dX8_mostAt_1 hl (by decide) rfl (fun ls hl => ?_)
  refine lv_iload_n hx hb dX8_mostAt_3 rfl (lv_at hl 3 rfl) ?_
  refine lv_istore (lv' := [(7, .int x2), (6, .int (-1 : Int32)), (0, .ref (q 1)), (1, .int x1), (2, .int x2), (3, .int x3), (4, .int x4), (5, .int x5)]) hx hb dX8_mostAt_4 hl (by decide) rfl (fun ls hl => ?_)
  refine lv_aload_n hx hb dX8_mostAt_6 rfl (lv_at hl 2 rfl) ?_
  refine lv_iconst (v := (0 : Int32)) hx hb dX8_mostAt_7 (by decide) ?_
  refine lv_sipush (v := (195 : Int32)) hx hb dX8_mostAt_8 (by decide) ?_
  obtain ⟨r_26, σ_27, h_28, hF⟩ := bd_e hF
  refine r_callVv (As := [.int (0 : Int32), .int (195 : Int32)]) (rest := []) (i := 1) C hw hS (wi_lo (Or.inl (by decide))) rfl (ci := 8) rfl (met_X8_copies l G rd q  h_28) (cwV 2 hts (lw_V q1192 q1194 qs48 q65 q1195) rfl rfl rfl (by decide +kernel) ⟨Nat.le_of_ble_eq_true rfl, Nat.le_of_ble_eq_true rfl⟩) rfl hl.1 rfl (Nat.le_of_ble_eq_true rfl) ⟨Nat.le_refl _, Nat.le_refl _⟩ dX8_mostAt_11 (fun H locs hw hS => ?_)
  refine lv_iload_n hx hb dX8_mostAt_14 rfl (lv_at hl 4 rfl) ?_
  refine lv_istore (lv' := [(8, .int x2), (7, .int x2), (6, .int (-1 : Int32)), (0, .ref (q 1)), (1, .int x1), (2, .int x2), (3, .int x3), (4, .int x4), (5, .int x5)]) hx hb dX8_mostAt_15 hl (by decide) rfl (fun ls hl => ?_)
  exact w_X8_mostAt_17 C   N _ _ _ _ _ _ _ _ _ _ _ hF hw hS (lv_sub hl [3, 4, 6, 7, 8, 2, 1, 0] rfl)
