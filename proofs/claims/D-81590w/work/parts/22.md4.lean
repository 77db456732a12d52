/-! lifted: FlyWheelsModel (4) -/
set_option maxRecDepth 100000
abbrev rmX8_readLine : Room := { frames := 5, cells := 0, slots := 0, locals := 151 }
noncomputable def F_X8_readLine_136 (N : Nat)  (σ : SS) : Option (Unit × SS) :=
  bd (F_X8_readsOn N σ) fun r_44 σ_45 =>
  some ((), σ_45)
set_option maxRecDepth 100000 in
theorem w_X8_readLine_136 {p : Program} {l : Launch} {e : Env} {s : State} {m : MethodId} {args : Array Value} {below : List Frame} {meth : Method} {c : Code} {G : GG} {rd : Bool} {q : Nat → Nat} {N : Nat} {r : Unit} {σ' : SS} (C : cx p s m args meth c cX8_readLine 2 RX8 none G) : ∀ (σ : SS) (H : Heap) (locs : List Loc) (ls : Array Slot), F_X8_readLine_136 N  σ = some (r, σ') → wx G rd q σ H → va_S (fa G) s.heap H locs → lv_has ls 2 [(0, .ref (q 1))] → W p l e rmX8_readLine s m args below meth c H locs 0 0 (MQ below (qxv G rd q σ' r) args s 0 0 (fa G)) (F0 m 136 ls []) := by
  obtain ⟨hx, hb, hml, hown, hts, -, -, -, -⟩ := id C
  intro σ H locs ls hF hw hS hl
  unfold F_X8_readLine_136 at hF
  refine lv_aload_n hx hb dX8_readLine_136 rfl (lv_at hl 0 rfl) ?_
  obtain ⟨r_44, σ_45, h_46, hF⟩ := bd_e hF
  refine r_callVv (As := []) (rest := []) (i := 1) C hw hS (wi_lo (Or.inl (by decide))) rfl (ci := 8) rfl (met_X8_readsOn l G rd q  h_46) (cwV 0 hts (lw_V q1051 q1053 qs31 q65 q1054) rfl rfl rfl (by decide +kernel) ⟨Nat.le_of_ble_eq_true rfl, Nat.le_of_ble_eq_true rfl⟩) rfl hl.1 rfl (Nat.le_of_ble_eq_true rfl) ⟨Nat.le_refl _, Nat.le_refl _⟩ dX8_readLine_137 (fun H locs hw hS => ?_)
  exact r_vret C hw hS hF dX8_readLine_140
noncomputable def F_X8_readLine_96 (N : Nat) (x1 : Int32) (z0 : Int32) (σ : SS) : Option (Unit × SS) :=
  gd (z0 = 0 ∨ z0 = 1) <|
  nm (si σ 1 2 z0) fun σ_48 =>
  bd (F_X8_readsOn N σ_48) fun r_49 σ_50 =>
  if (gi σ_50 1 6) ≤ (0 : Int32) then
    bd (F_X8_readMore N x1 σ_50) fun r_53 σ_54 =>
    if (gi σ_54 1 6) = (0 : Int32) then
      if (gi σ_54 1 10) = (3 : Int32) then
        F_X8_readLine_136 N σ_54
      else
        bd (F_X8_fails N (2 : Int32) σ_54) fun r_58 σ_59 =>
        F_X8_readLine_136 N σ_59
    else
      F_X8_readLine_136 N σ_54
  else
    some ((), σ_50)
set_option maxRecDepth 100000 in
theorem w_X8_readLine_96 {p : Program} {l : Launch} {e : Env} {s : State} {m : MethodId} {args : Array Value} {below : List Frame} {meth : Method} {c : Code} {G : GG} {rd : Bool} {q : Nat → Nat} {N : Nat} {r : Unit} {σ' : SS} (C : cx p s m args meth c cX8_readLine 2 RX8 none G) : ∀ (x1 : Int32) (z0 : Int32) (σ : SS) (H : Heap) (locs : List Loc) (ls : Array Slot), F_X8_readLine_96 N x1 z0 σ = some (r, σ') → wx G rd q σ H → va_S (fa G) s.heap H locs → lv_has ls 2 [(0, .ref (q 1)), (1, .int x1)] → W p l e rmX8_readLine s m args below meth c H locs 0 0 (MQ below (qxv G rd q σ' r) args s 0 0 (fa G)) (F0 m 96 ls [.int z0, .ref (q 1)]) := by
  obtain ⟨hx, hb, hml, hown, hts, -, -, -, -⟩ := id C
  intro x1 z0 σ H locs ls hF hw hS hl
  unfold F_X8_readLine_96 at hF
  obtain ⟨h_47, hF⟩ := gd_e hF
  obtain ⟨σ_48, eσ_48, hF⟩ := nm_e2 hF
  refine r_put8 C hw hS 2 (by decide) rfl rfl (tyX8_ok 2 (by decide)) (nar_z h_47) (fit_z h_47) q957 dX8_readLine_96 eσ_48 (fun H locs hw hS => ?_)
  refine lv_aload_n hx hb dX8_readLine_99 rfl (lv_at hl 0 rfl) ?_
  obtain ⟨r_49, σ_50, h_51, hF⟩ := bd_e hF
  refine r_callVv (As := []) (rest := []) (i := 1) C hw hS (wi_lo (Or.inl (by decide))) rfl (ci := 8) rfl (met_X8_readsOn l G rd q  h_51) (cwV 0 hts (lw_V q1051 q1053 qs31 q65 q1054) rfl rfl rfl (by decide +kernel) ⟨Nat.le_of_ble_eq_true rfl, Nat.le_of_ble_eq_true rfl⟩) rfl hl.1 rfl (Nat.le_of_ble_eq_true rfl) ⟨Nat.le_refl _, Nat.le_refl _⟩ dX8_readLine_100 (fun H locs hw hS => ?_)
  refine lv_aload_n hx hb dX8_readLine_103 rfl (lv_at hl 0 rfl) ?_
  refine r_get8 C hw 6 (by decide) rfl (v := .int (gi σ_50 1 6)) rfl q961 dX8_readLine_104 ?_
  refine lv_if_le (tgt := 111) hx hb dX8_readLine_107 (by decide) (fun c_52 => ?_) (fun c_52 => ?_)
  · have hF := it_e hF c_52
    refine lv_aload_n hx hb dX8_readLine_111 rfl (lv_at hl 0 rfl) ?_
    refine lv_iload_n hx hb dX8_readLine_112 rfl (lv_at hl 1 rfl) ?_
    obtain ⟨r_53, σ_54, h_55, hF⟩ := bd_e hF
    refine r_callVv (As := [.int x1]) (rest := []) (i := 1) C hw hS (wi_lo (Or.inl (by decide))) rfl (ci := 8) rfl (met_X8_readMore l G rd q  h_55) (cwV 1 hts (lw_V q1076 q1078 qs36 q65 q1079) rfl rfl rfl (by decide +kernel) ⟨Nat.le_of_ble_eq_true rfl, Nat.le_of_ble_eq_true rfl⟩) rfl hl.1 rfl (Nat.le_of_ble_eq_true rfl) ⟨Nat.le_refl _, Nat.le_refl _⟩ dX8_readLine_113 (fun H locs hw hS => ?_)
    refine lv_aload_n hx hb dX8_readLine_116 rfl (lv_at hl 0 rfl) ?_
    refine r_get8 C hw 6 (by decide) rfl (v := .int (gi σ_54 1 6)) rfl q961 dX8_readLine_117 ?_
    refine lv_if_ne (tgt := 136) hx hb dX8_readLine_120 (by decide) (fun c_56 => ?_) (fun c_56 => ?_)
    · have hF := if_e hF c_56
      exact w_X8_readLine_136 C    _ _ _ _ hF hw hS (lv_sub hl [0] rfl)
    · have hF := it_e hF c_56
      refine lv_aload_n hx hb dX8_readLine_123 rfl (lv_at hl 0 rfl) ?_
      refine r_get8 C hw 10 (by decide) rfl (v := .int (gi σ_54 1 10)) rfl q965 dX8_readLine_124 ?_
      refine lv_iconst (v := (3 : Int32)) hx hb dX8_readLine_127 (by decide) ?_
      refine lv_icmp_eq (tgt := 136) hx hb dX8_readLine_128 (by decide) (fun c_57 => ?_) (fun c_57 => ?_)
      · have hF := it_e hF c_57
        exact w_X8_readLine_136 C    _ _ _ _ hF hw hS (lv_sub hl [0] rfl)
      · have hF := if_e hF c_57
        refine lv_aload_n hx hb dX8_readLine_131 rfl (lv_at hl 0 rfl) ?_
        refine lv_iconst (v := (2 : Int32)) hx hb dX8_readLine_132 (by decide) ?_
        obtain ⟨r_58, σ_59, h_60, hF⟩ := bd_e hF
        refine r_callVv (As := [.int (2 : Int32)]) (rest := []) (i := 1) C hw hS (wi_lo (Or.inl (by decide))) rfl (ci := 8) rfl (met_X8_fails l G rd q  h_60) (cwV 1 hts (lw_V q1063 q1065 qs33 q65 q1066) rfl rfl rfl (by decide +kernel) ⟨Nat.le_of_ble_eq_true rfl, Nat.le_of_ble_eq_true rfl⟩) rfl hl.1 rfl (Nat.le_of_ble_eq_true rfl) ⟨Nat.le_refl _, Nat.le_refl _⟩ dX8_readLine_133 (fun H locs hw hS => ?_)
        exact w_X8_readLine_136 C    _ _ _ _ hF hw hS (lv_sub hl [0] rfl)
  · have hF := if_e hF c_52
    exact r_vret C hw hS hF dX8_readLine_110
noncomputable def F_X8_readLine_91 (N : Nat) (x1 : Int32) (σ : SS) : Option (Unit × SS) :=
  F_X8_readLine_96 N x1 (1 : Int32) σ
set_option maxRecDepth 100000 in
theorem w_X8_readLine_91 {p : Program} {l : Launch} {e : Env} {s : State} {m : MethodId} {args : Array Value} {below : List Frame} {meth : Method} {c : Code} {G : GG} {rd : Bool} {q : Nat → Nat} {N : Nat} {r : Unit} {σ' : SS} (C : cx p s m args meth c cX8_readLine 2 RX8 none G) : ∀ (x1 : Int32) (σ : SS) (H : Heap) (locs : List Loc) (ls : Array Slot), F_X8_readLine_91 N x1 σ = some (r, σ') → wx G rd q σ H → va_S (fa G) s.heap H locs → lv_has ls 2 [(0, .ref (q 1)), (1, .int x1)] → W p l e rmX8_readLine s m args below meth c H locs 0 0 (MQ below (qxv G rd q σ' r) args s 0 0 (fa G)) (F0 m 91 ls [.ref (q 1)]) := by
  obtain ⟨hx, hb, hml, hown, hts, -, -, -, -⟩ := id C
  intro x1 σ H locs ls hF hw hS hl
  unfold F_X8_readLine_91 at hF
  refine lv_iconst (v := (1 : Int32)) hx hb dX8_readLine_91 (by decide) ?_
  refine lv_goto (tgt := 96) hx hb dX8_readLine_92 (by decide) ?_
  exact w_X8_readLine_96 C   _ _ _ _ _ _ hF hw hS (lv_sub hl [0, 1] rfl)
noncomputable def F_X8_readLine_78 (N : Nat) (x1 : Int32) (σ : SS) : Option (Unit × SS) :=
  if (gi σ 1 2) = (0 : Int32) then
    if x1 = (4 : Int32) then
      F_X8_readLine_91 N x1 σ
    else
      F_X8_readLine_96 N x1 (0 : Int32) σ
  else
    F_X8_readLine_91 N x1 σ
set_option maxRecDepth 100000 in
theorem w_X8_readLine_78 {p : Program} {l : Launch} {e : Env} {s : State} {m : MethodId} {args : Array Value} {below : List Frame} {meth : Method} {c : Code} {G : GG} {rd : Bool} {q : Nat → Nat} {N : Nat} {r : Unit} {σ' : SS} (C : cx p s m args meth c cX8_readLine 2 RX8 none G) : ∀ (x1 : Int32) (σ : SS) (H : Heap) (locs : List Loc) (ls : Array Slot), F_X8_readLine_78 N x1 σ = some (r, σ') → wx G rd q σ H → va_S (fa G) s.heap H locs → lv_has ls 2 [(0, .ref (q 1)), (1, .int x1)] → W p l e rmX8_readLine s m args below meth c H locs 0 0 (MQ below (qxv G rd q σ' r) args s 0 0 (fa G)) (F0 m 78 ls []) := by
  obtain ⟨hx, hb, hml, hown, hts, -, -, -, -⟩ := id C
  intro x1 σ H locs ls hF hw hS hl
  unfold F_X8_readLine_78 at hF
  refine lv_aload_n hx hb dX8_readLine_78 rfl (lv_at hl 0 rfl) ?_
  refine lv_aload_n hx hb dX8_readLine_79 rfl (lv_at hl 0 rfl) ?_
  refine r_get8 C hw 2 (by decide) rfl (v := .int (gi σ 1 2)) rfl q957 dX8_readLine_80 ?_
  refine lv_if_ne (tgt := 91) hx hb dX8_readLine_83 (by decide) (fun c_61 => ?_) (fun c_61 => ?_)
  · have hF := if_e hF c_61
    exact w_X8_readLine_91 C   _ _ _ _ _ hF hw hS (lv_sub hl [0, 1] rfl)
  · have hF := it_e hF c_61
    refine lv_iload_n hx hb dX8_readLine_86 rfl (lv_at hl 1 rfl) ?_
    refine lv_iconst (v := (4 : Int32)) hx hb dX8_readLine_87 (by decide) ?_
    refine lv_icmp_ne (tgt := 95) hx hb dX8_readLine_88 (by decide) (fun c_62 => ?_) (fun c_62 => ?_)
    · have hF := if_e hF c_62
      refine lv_iconst (v := (0 : Int32)) hx hb dX8_readLine_95 (by decide) ?_
      exact w_X8_readLine_96 C   _ _ _ _ _ _ hF hw hS (lv_sub hl [0, 1] rfl)
    · have hF := it_e hF c_62
      exact w_X8_readLine_91 C   _ _ _ _ _ hF hw hS (lv_sub hl [0, 1] rfl)
noncomputable def F_X8_readLine_61 (N : Nat) (x1 : Int32) (σ : SS) : Option (Unit × SS) :=
  if x1 = (4 : Int32) then
    if (gi σ 1 2) = (0 : Int32) then
      F_X8_readLine_78 N x1 σ
    else
      bd (F_X8_fails N (4 : Int32) σ) fun r_65 σ_66 =>
      F_X8_readLine_78 N x1 σ_66
  else
    F_X8_readLine_78 N x1 σ
set_option maxRecDepth 100000 in
theorem w_X8_readLine_61 {p : Program} {l : Launch} {e : Env} {s : State} {m : MethodId} {args : Array Value} {below : List Frame} {meth : Method} {c : Code} {G : GG} {rd : Bool} {q : Nat → Nat} {N : Nat} {r : Unit} {σ' : SS} (C : cx p s m args meth c cX8_readLine 2 RX8 none G) : ∀ (x1 : Int32) (σ : SS) (H : Heap) (locs : List Loc) (ls : Array Slot), F_X8_readLine_61 N x1 σ = some (r, σ') → wx G rd q σ H → va_S (fa G) s.heap H locs → lv_has ls 2 [(0, .ref (q 1)), (1, .int x1)] → W p l e rmX8_readLine s m args below meth c H locs 0 0 (MQ below (qxv G rd q σ' r) args s 0 0 (fa G)) (F0 m 61 ls []) := by
  obtain ⟨hx, hb, hml, hown, hts, -, -, -, -⟩ := id C
  intro x1 σ H locs ls hF hw hS hl
  unfold F_X8_readLine_61 at hF
  refine lv_iload_n hx hb dX8_readLine_61 rfl (lv_at hl 1 rfl) ?_
  refine lv_iconst (v := (4 : Int32)) hx hb dX8_readLine_62 (by decide) ?_
  refine lv_icmp_ne (tgt := 78) hx hb dX8_readLine_63 (by decide) (fun c_63 => ?_) (fun c_63 => ?_)
  · have hF := if_e hF c_63
    exact w_X8_readLine_78 C   _ _ _ _ _ hF hw hS (lv_sub hl [0, 1] rfl)
  · have hF := it_e hF c_63
    refine lv_aload_n hx hb dX8_readLine_66 rfl (lv_at hl 0 rfl) ?_
    refine r_get8 C hw 2 (by decide) rfl (v := .int (gi σ 1 2)) rfl q957 dX8_readLine_67 ?_
    refine lv_if_eq (tgt := 78) hx hb dX8_readLine_70 (by decide) (fun c_64 => ?_) (fun c_64 => ?_)
    · have hF := it_e hF c_64
      exact w_X8_readLine_78 C   _ _ _ _ _ hF hw hS (lv_sub hl [0, 1] rfl)
    · have hF := if_e hF c_64
      refine lv_aload_n hx hb dX8_readLine_73 rfl (lv_at hl 0 rfl) ?_
      refine lv_iconst (v := (4 : Int32)) hx hb dX8_readLine_74 (by decide) ?_
      obtain ⟨r_65, σ_66, h_67, hF⟩ := bd_e hF
      refine r_callVv (As := [.int (4 : Int32)]) (rest := []) (i := 1) C hw hS (wi_lo (Or.inl (by decide))) rfl (ci := 8) rfl (met_X8_fails l G rd q  h_67) (cwV 1 hts (lw_V q1063 q1065 qs33 q65 q1066) rfl rfl rfl (by decide +kernel) ⟨Nat.le_of_ble_eq_true rfl, Nat.le_of_ble_eq_true rfl⟩) rfl hl.1 rfl (Nat.le_of_ble_eq_true rfl) ⟨Nat.le_refl _, Nat.le_refl _⟩ dX8_readLine_75 (fun H locs hw hS => ?_)
      exact w_X8_readLine_78 C   _ _ _ _ _ hF hw hS (lv_sub hl [0, 1] rfl)
noncomputable def F_X8_readLine_56 (N : Nat) (x1 : Int32) (σ : SS) : Option (Unit × SS) :=
  bd (F_X8_fails N (5 : Int32) σ) fun r_68 σ_69 =>
  F_X8_readLine_61 N x1 σ_69
set_option maxRecDepth 100000 in
theorem w_X8_readLine_56 {p : Program} {l : Launch} {e : Env} {s : State} {m : MethodId} {args : Array Value} {below : List Frame} {meth : Method} {c : Code} {G : GG} {rd : Bool} {q : Nat → Nat} {N : Nat} {r : Unit} {σ' : SS} (C : cx p s m args meth c cX8_readLine 2 RX8 none G) : ∀ (x1 : Int32) (σ : SS) (H : Heap) (locs : List Loc) (ls : Array Slot), F_X8_readLine_56 N x1 σ = some (r, σ') → wx G rd q σ H → va_S (fa G) s.heap H locs → lv_has ls 2 [(0, .ref (q 1)), (1, .int x1)] → W p l e rmX8_readLine s m args below meth c H locs 0 0 (MQ below (qxv G rd q σ' r) args s 0 0 (fa G)) (F0 m 56 ls []) := by
  obtain ⟨hx, hb, hml, hown, hts, -, -, -, -⟩ := id C
  intro x1 σ H locs ls hF hw hS hl
  unfold F_X8_readLine_56 at hF
  refine lv_aload_n hx hb dX8_readLine_56 rfl (lv_at hl 0 rfl) ?_
  refine lv_iconst (v := (5 : Int32)) hx hb dX8_readLine_57 (by decide) ?_
  obtain ⟨r_68, σ_69, h_70, hF⟩ := bd_e hF
  refine r_callVv (As := [.int (5 : Int32)]) (rest := []) (i := 1) C hw hS (wi_lo (Or.inl (by decide))) rfl (ci := 8) rfl (met_X8_fails l G rd q  h_70) (cwV 1 hts (lw_V q1063 q1065 qs33 q65 q1066) rfl rfl rfl (by decide +kernel) ⟨Nat.le_of_ble_eq_true rfl, Nat.le_of_ble_eq_true rfl⟩) rfl hl.1 rfl (Nat.le_of_ble_eq_true rfl) ⟨Nat.le_refl _, Nat.le_refl _⟩ dX8_readLine_58 (fun H locs hw hS => ?_)
  exact w_X8_readLine_61 C   _ _ _ _ _ hF hw hS (lv_sub hl [0, 1] rfl)
noncomputable def F_X8_readLine_39 (N : Nat) (x1 : Int32) (σ : SS) : Option (Unit × SS) :=
  if x1 < (5 : Int32) then
    F_X8_readLine_61 N x1 σ
  else
    gd (inR (33 : Int32) 39) <|
    if (gi σ 22 (33 : Int32).toNatClampNeg) = (16 : Int32) then
      F_X8_readLine_56 N x1 σ
    else
      F_X8_readLine_61 N x1 σ
set_option maxRecDepth 100000 in
theorem w_X8_readLine_39 {p : Program} {l : Launch} {e : Env} {s : State} {m : MethodId} {args : Array Value} {below : List Frame} {meth : Method} {c : Code} {G : GG} {rd : Bool} {q : Nat → Nat} {N : Nat} {r : Unit} {σ' : SS} (C : cx p s m args meth c cX8_readLine 2 RX8 none G) : ∀ (x1 : Int32) (σ : SS) (H : Heap) (locs : List Loc) (ls : Array Slot), F_X8_readLine_39 N x1 σ = some (r, σ') → wx G rd q σ H → va_S (fa G) s.heap H locs → lv_has ls 2 [(0, .ref (q 1)), (1, .int x1)] → W p l e rmX8_readLine s m args below meth c H locs 0 0 (MQ below (qxv G rd q σ' r) args s 0 0 (fa G)) (F0 m 39 ls []) := by
  obtain ⟨hx, hb, hml, hown, hts, -, -, -, -⟩ := id C
  intro x1 σ H locs ls hF hw hS hl
  unfold F_X8_readLine_39 at hF
  refine lv_iload_n hx hb dX8_readLine_39 rfl (lv_at hl 1 rfl) ?_
  refine lv_iconst (v := (5 : Int32)) hx hb dX8_readLine_40 (by decide) ?_
  refine lv_icmp_lt (tgt := 61) hx hb dX8_readLine_41 (by decide) (fun c_71 => ?_) (fun c_71 => ?_)
  · have hF := it_e hF c_71
    exact w_X8_readLine_61 C   _ _ _ _ _ hF hw hS (lv_sub hl [0, 1] rfl)
  · have hF := if_e hF c_71
    refine lv_aload_n hx hb dX8_readLine_44 rfl (lv_at hl 0 rfl) ?_
    refine r_get8 C hw 1 (by decide) rfl (v := .ref (q 22)) rfl q956 dX8_readLine_45 ?_
    refine lv_bipush (v := (33 : Int32)) hx hb dX8_readLine_48 (by decide) ?_
    obtain ⟨h_72, hF⟩ := gd_e hF
    refine r_iald (i := 22) (n := 39) (g := 22) (st := 0) C hw (wi_lo (Or.inr ⟨by decide, by decide⟩)) rfl h_72 dX8_readLine_50 ?_
    refine lv_bipush (v := (16 : Int32)) hx hb dX8_readLine_51 (by decide) ?_
    refine lv_icmp_ne (tgt := 61) hx hb dX8_readLine_53 (by decide) (fun c_73 => ?_) (fun c_73 => ?_)
    · have hF := if_e hF c_73
      exact w_X8_readLine_61 C   _ _ _ _ _ hF hw hS (lv_sub hl [0, 1] rfl)
    · have hF := it_e hF c_73
      exact w_X8_readLine_56 C   _ _ _ _ _ hF hw hS (lv_sub hl [0, 1] rfl)
noncomputable def F_X8_readLine (N : Nat)  (σ : SS) : Option (Unit × SS) :=
  bd (F_X8_nameHere N σ) fun r_74 σ_75 =>
  bd (F_X8_in N r_74.toInt64 (0 : Int64) (7 : Int64) σ_75) fun r_77 σ_78 =>
  if r_77 = (0 : Int32) then
    bd (F_X8_fails N (2 : Int32) σ_78) fun r_84 σ_85 =>
    some ((), σ_85)
  else
    if (3 : Int32) < r_74 then
      F_X8_readLine_39 N r_74 σ_78
    else
      gd (inR (16 : Int32) 39) <|
      if (gi σ_78 22 (16 : Int32).toNatClampNeg) = (4 : Int32) then
        F_X8_readLine_56 N r_74 σ_78
      else
        F_X8_readLine_39 N r_74 σ_78
set_option maxRecDepth 100000 in
theorem met_X8_readLine (l : Launch) (G : GG) (rd : Bool) (q : Nat → Nat) {N : Nat} {σ σ' : SS} {r : Unit} (hF : F_X8_readLine N  σ = some (r, σ')) : Met l yX8_readLine (ws_ yX8_readLine cX8_readLine 2 none) rmX8_readLine (pcx G rd q σ [.ref (q 1)]) (qxv G rd q σ' r) 0 0 (fa G) := by
  refine met_of (by decide) (Nat.le_of_ble_eq_true rfl) ?_
  intro p e s m below meth c C H locs ls hw hS hl
  obtain ⟨hx, hb, hml, hown, hts, -, -, -, -⟩ := id C
  have hl : lv_has ls 2 [(0, .ref (q 1))] := hl
  unfold F_X8_readLine at hF
  refine lv_aload_n hx hb dX8_readLine_0 rfl (lv_at hl 0 rfl) ?_
  obtain ⟨r_74, σ_75, h_76, hF⟩ := bd_e hF
  refine r_callVi (As := []) (rest := []) (i := 1) C hw hS (wi_lo (Or.inl (by decide))) rfl (ci := 8) rfl (met_X8_nameHere l G rd q  h_76) (cwV 0 hts (lw_V q1071 q1073 qs35 q65 q1074) rfl rfl rfl (by decide +kernel) ⟨Nat.le_of_ble_eq_true rfl, Nat.le_of_ble_eq_true rfl⟩) rfl hl.1 rfl (Nat.le_of_ble_eq_true rfl) ⟨Nat.le_refl _, Nat.le_refl _⟩ dX8_readLine_1 (fun H locs hw hS => ?_)
  refine lv_istore_n (lv' := [(1, .int r_74), (0, .ref (q 1))]) hx hb dX8_readLine_4 rfl hl (by decide) rfl (fun ls hl => ?_)
  refine lv_iload_n hx hb dX8_readLine_5 rfl (lv_at hl 0 rfl) ?_
  refine lv_i2l hx hb dX8_readLine_6 rfl ?_
  refine lv_lconst (v := (0 : Int64)) hx hb dX8_readLine_7 (by decide) ?_
  refine lv_ldc2 (v := (7 : Int64)) hx hb hown (hts _ q1075) dX8_readLine_8 ?_
  obtain ⟨r_77, σ_78, h_79, hF⟩ := bd_e hF
  refine r_callSi (As := [.long r_74.toInt64, .long (0 : Int64), .long (7 : Int64)]) (rest := []) C hw hS (met_X8_in l G rd q  h_79) (cwS 3 hts (lw_S q1040 q1041 q65 q1042) rfl rfl rfl (by decide +kernel) ⟨Nat.le_of_ble_eq_true rfl, Nat.le_of_ble_eq_true rfl⟩) rfl hl.1 rfl (Nat.le_of_ble_eq_true rfl) ⟨Nat.le_refl _, Nat.le_refl _⟩ dX8_readLine_11 (fun H locs hw hS => ?_)
  refine lv_if_ne (tgt := 23) hx hb dX8_readLine_14 (by decide) (fun c_80 => ?_) (fun c_80 => ?_)
  · have hF := if_e hF c_80
    refine lv_iload_n hx hb dX8_readLine_23 rfl (lv_at hl 0 rfl) ?_
    refine lv_iconst (v := (3 : Int32)) hx hb dX8_readLine_24 (by decide) ?_
    refine lv_icmp_gt (tgt := 39) hx hb dX8_readLine_25 (by decide) (fun c_81 => ?_) (fun c_81 => ?_)
    · have hF := it_e hF c_81
      exact w_X8_readLine_39 C   _ _ _ _ _ hF hw hS (lv_sub hl [1, 0] rfl)
    · have hF := if_e hF c_81
      refine lv_aload_n hx hb dX8_readLine_28 rfl (lv_at hl 1 rfl) ?_
      refine r_get8 C hw 1 (by decide) rfl (v := .ref (q 22)) rfl q956 dX8_readLine_29 ?_
      refine lv_bipush (v := (16 : Int32)) hx hb dX8_readLine_32 (by decide) ?_
      obtain ⟨h_82, hF⟩ := gd_e hF
      refine r_iald (i := 22) (n := 39) (g := 22) (st := 0) C hw (wi_lo (Or.inr ⟨by decide, by decide⟩)) rfl h_82 dX8_readLine_34 ?_
      refine lv_iconst (v := (4 : Int32)) hx hb dX8_readLine_35 (by decide) ?_
      refine lv_icmp_eq (tgt := 56) hx hb dX8_readLine_36 (by decide) (fun c_83 => ?_) (fun c_83 => ?_)
      · have hF := it_e hF c_83
        exact w_X8_readLine_56 C   _ _ _ _ _ hF hw hS (lv_sub hl [1, 0] rfl)
      · have hF := if_e hF c_83
        exact w_X8_readLine_39 C   _ _ _ _ _ hF hw hS (lv_sub hl [1, 0] rfl)
  · have hF := it_e hF c_80
    refine lv_aload_n hx hb dX8_readLine_17 rfl (lv_at hl 1 rfl) ?_
    refine lv_iconst (v := (2 : Int32)) hx hb dX8_readLine_18 (by decide) ?_
    obtain ⟨r_84, σ_85, h_86, hF⟩ := bd_e hF
    refine r_callVv (As := [.int (2 : Int32)]) (rest := []) (i := 1) C hw hS (wi_lo (Or.inl (by decide))) rfl (ci := 8) rfl (met_X8_fails l G rd q  h_86) (cwV 1 hts (lw_V q1063 q1065 qs33 q65 q1066) rfl rfl rfl (by decide +kernel) ⟨Nat.le_of_ble_eq_true rfl, Nat.le_of_ble_eq_true rfl⟩) rfl hl.1 rfl (Nat.le_of_ble_eq_true rfl) ⟨Nat.le_refl _, Nat.le_refl _⟩ dX8_readLine_19 (fun H locs hw hS => ?_)
    exact r_vret C hw hS hF dX8_readLine_22
abbrev rmX8_rule : Room := { frames := 2, cells := 0, slots := 0, locals := 81 }
noncomputable def F_X8_rule (N : Nat) (x1 : Int32) (σ : SS) : Option (Int32 × SS) :=
  gd (inR (33 : Int32) 234) <|
  nm (gi σ 21 (33 : Int32).toNatClampNeg) fun x_27 =>
  if (x1.toInt < 0 ∨ 8 < x1.toInt) then
    some ((-1 : Int32), σ)
  else
    if x1 = (0 : Int32) then
      gd (inR (16 : Int32) 234) <|
      some (gi σ 21 (16 : Int32).toNatClampNeg, σ)
    else
      if x1 = (1 : Int32) then
        some (x_27, σ)
      else
        if x1 = (2 : Int32) then
          gd (inR (36 : Int32) 234) <|
          some (gi σ 21 (36 : Int32).toNatClampNeg, σ)
        else
          if x1 = (3 : Int32) then
            gd (inR (37 : Int32) 234) <|
            some (gi σ 21 (37 : Int32).toNatClampNeg, σ)
          else
            if x1 = (4 : Int32) then
              gd (inR (38 : Int32) 234) <|
              some (gi σ 21 (38 : Int32).toNatClampNeg, σ)
            else
              if x1 = (5 : Int32) then
                gd (inR (34 : Int32) 234) <|
                some ((gi σ 21 (34 : Int32).toNatClampNeg) + (5 : Int32), σ)
              else
                if x1 = (6 : Int32) then
                  gd (inR (35 : Int32) 234) <|
                  some (gi σ 21 (35 : Int32).toNatClampNeg, σ)
                else
                  if x1 = (7 : Int32) then
                    bd (F_X8_speedOn N (0 : Int32) σ) fun r_43 σ_44 =>
                    some (r_43, σ_44)
                  else
                    if x1 = (8 : Int32) then
                      if x_27 = (0 : Int32) then
                        some ((-4 : Int32), σ)
                      else
                        gd (inR (36 : Int32) 234) <|
                        gd (¬ x_27 = 0) <|
                        gd (inR ((17 : Int32) + ((gi σ 21 (36 : Int32).toNatClampNeg) - (gi σ 21 (36 : Int32).toNatClampNeg) / x_27 * x_27)) 234) <|
                        some (gi σ 21 ((17 : Int32) + ((gi σ 21 (36 : Int32).toNatClampNeg) - (gi σ 21 (36 : Int32).toNatClampNeg) / x_27 * x_27)).toNatClampNeg, σ)
                    else
                      none
set_option maxRecDepth 100000 in
theorem met_X8_rule (l : Launch) (G : GG) (rd : Bool) (q : Nat → Nat) {N : Nat} {x1 : Int32} {σ σ' : SS} {r : Int32} (hF : F_X8_rule N x1 σ = some (r, σ')) : Met l yX8_rule (ws_ yX8_rule cX8_rule 3 (some .int)) rmX8_rule (pcx G rd q σ [.ref (q 1), .int x1]) (qxi G rd q σ' r) 0 0 (fa G) := by
  refine met_of (by decide) (Nat.le_of_ble_eq_true rfl) ?_
  intro p e s m below meth c C H locs ls hw hS hl
  obtain ⟨hx, hb, hml, hown, hts, -, -, -, -⟩ := id C
  have hl : lv_has ls 3 [(0, .ref (q 1)), (1, .int x1)] := hl
  unfold F_X8_rule at hF
  refine lv_aload_n hx hb dX8_rule_0 rfl (lv_at hl 0 rfl) ?_
  refine r_get8 C hw 0 (by decide) rfl (v := .ref (q 21)) rfl q955 dX8_rule_1 ?_
  refine lv_bipush (v := (33 : Int32)) hx hb dX8_rule_4 (by decide) ?_
  obtain ⟨h_26, hF⟩ := gd_e hF
  refine r_iald (i := 21) (n := 234) (g := 21) (st := 0) C hw (wi_lo (Or.inr ⟨by decide, by decide⟩)) rfl h_26 dX8_rule_6 ?_
  obtain ⟨x_27, ex_27, hF⟩ := nm_e2 hF
  refine r_topi ex_27 ?_
  refine lv_istore_n (lv' := [(2, .int x_27), (0, .ref (q 1)), (1, .int x1)]) hx hb dX8_rule_7 rfl hl (by decide) rfl (fun ls hl => ?_)
  refine lv_iload_n hx hb dX8_rule_8 rfl (lv_at hl 2 rfl) ?_
  by_cases c_28 : (x1.toInt < 0 ∨ 8 < x1.toInt)
  · have hF := it_e hF c_28
    refine lv_tableOut (tgt := 145) hx hb dX8_rule_9 c_28 (by decide) ?_
    refine lv_iconst (v := (-1 : Int32)) hx hb dX8_rule_145 (by decide) ?_
    exact r_iret C hw hS hF dX8_rule_146
  · have hF := if_e hF c_28
    by_cases c_29 : x1 = (0 : Int32)
    · have hF := it_e hF c_29
      refine r_tin (tgt := 60) hx hb dX8_rule_9 c_29 (by decide) (by decide) (by rfl) (by decide) ?_
      refine lv_aload_n hx hb dX8_rule_60 rfl (lv_at hl 1 rfl) ?_
      refine r_get8 C hw 0 (by decide) rfl (v := .ref (q 21)) rfl q955 dX8_rule_61 ?_
      refine lv_bipush (v := (16 : Int32)) hx hb dX8_rule_64 (by decide) ?_
      obtain ⟨h_30, hF⟩ := gd_e hF
      refine r_iald (i := 21) (n := 234) (g := 21) (st := 0) C hw (wi_lo (Or.inr ⟨by decide, by decide⟩)) rfl h_30 dX8_rule_66 ?_
      exact r_iret C hw hS hF dX8_rule_67
    · have hF := if_e hF c_29
      by_cases c_31 : x1 = (1 : Int32)
      · have hF := it_e hF c_31
        refine r_tin (tgt := 68) hx hb dX8_rule_9 c_31 (by decide) (by decide) (by rfl) (by decide) ?_
        refine lv_iload_n hx hb dX8_rule_68 rfl (lv_at hl 0 rfl) ?_
        exact r_iret C hw hS hF dX8_rule_69
      · have hF := if_e hF c_31
        by_cases c_32 : x1 = (2 : Int32)
        · have hF := it_e hF c_32
          refine r_tin (tgt := 70) hx hb dX8_rule_9 c_32 (by decide) (by decide) (by rfl) (by decide) ?_
          refine lv_aload_n hx hb dX8_rule_70 rfl (lv_at hl 1 rfl) ?_
          refine r_get8 C hw 0 (by decide) rfl (v := .ref (q 21)) rfl q955 dX8_rule_71 ?_
          refine lv_bipush (v := (36 : Int32)) hx hb dX8_rule_74 (by decide) ?_
          obtain ⟨h_33, hF⟩ := gd_e hF
          refine r_iald (i := 21) (n := 234) (g := 21) (st := 0) C hw (wi_lo (Or.inr ⟨by decide, by decide⟩)) rfl h_33 dX8_rule_76 ?_
          exact r_iret C hw hS hF dX8_rule_77
        · have hF := if_e hF c_32
          by_cases c_34 : x1 = (3 : Int32)
          · have hF := it_e hF c_34
            refine r_tin (tgt := 78) hx hb dX8_rule_9 c_34 (by decide) (by decide) (by rfl) (by decide) ?_
            refine lv_aload_n hx hb dX8_rule_78 rfl (lv_at hl 1 rfl) ?_
            refine r_get8 C hw 0 (by decide) rfl (v := .ref (q 21)) rfl q955 dX8_rule_79 ?_
            refine lv_bipush (v := (37 : Int32)) hx hb dX8_rule_82 (by decide) ?_
            obtain ⟨h_35, hF⟩ := gd_e hF
            refine r_iald (i := 21) (n := 234) (g := 21) (st := 0) C hw (wi_lo (Or.inr ⟨by decide, by decide⟩)) rfl h_35 dX8_rule_84 ?_
            exact r_iret C hw hS hF dX8_rule_85
          · have hF := if_e hF c_34
            by_cases c_36 : x1 = (4 : Int32)
            · have hF := it_e hF c_36
              refine r_tin (tgt := 86) hx hb dX8_rule_9 c_36 (by decide) (by decide) (by rfl) (by decide) ?_
              refine lv_aload_n hx hb dX8_rule_86 rfl (lv_at hl 1 rfl) ?_
              refine r_get8 C hw 0 (by decide) rfl (v := .ref (q 21)) rfl q955 dX8_rule_87 ?_
              refine lv_bipush (v := (38 : Int32)) hx hb dX8_rule_90 (by decide) ?_
              obtain ⟨h_37, hF⟩ := gd_e hF
              refine r_iald (i := 21) (n := 234) (g := 21) (st := 0) C hw (wi_lo (Or.inr ⟨by decide, by decide⟩)) rfl h_37 dX8_rule_92 ?_
              exact r_iret C hw hS hF dX8_rule_93
            · have hF := if_e hF c_36
              by_cases c_38 : x1 = (5 : Int32)
              · have hF := it_e hF c_38
                refine r_tin (tgt := 94) hx hb dX8_rule_9 c_38 (by decide) (by decide) (by rfl) (by decide) ?_
                refine lv_aload_n hx hb dX8_rule_94 rfl (lv_at hl 1 rfl) ?_
                refine r_get8 C hw 0 (by decide) rfl (v := .ref (q 21)) rfl q955 dX8_rule_95 ?_
                refine lv_bipush (v := (34 : Int32)) hx hb dX8_rule_98 (by decide) ?_
                obtain ⟨h_39, hF⟩ := gd_e hF
                refine r_iald (i := 21) (n := 234) (g := 21) (st := 0) C hw (wi_lo (Or.inr ⟨by decide, by decide⟩)) rfl h_39 dX8_rule_100 ?_
                refine lv_iconst (v := (5 : Int32)) hx hb dX8_rule_101 (by decide) ?_
                refine lv_iadd hx hb dX8_rule_102 ?_
                exact r_iret C hw hS hF dX8_rule_103
              · have hF := if_e hF c_38
                by_cases c_40 : x1 = (6 : Int32)
                · have hF := it_e hF c_40
                  refine r_tin (tgt := 104) hx hb dX8_rule_9 c_40 (by decide) (by decide) (by rfl) (by decide) ?_
                  refine lv_aload_n hx hb dX8_rule_104 rfl (lv_at hl 1 rfl) ?_
                  refine r_get8 C hw 0 (by decide) rfl (v := .ref (q 21)) rfl q955 dX8_rule_105 ?_
                  refine lv_bipush (v := (35 : Int32)) hx hb dX8_rule_108 (by decide) ?_
                  obtain ⟨h_41, hF⟩ := gd_e hF
                  refine r_iald (i := 21) (n := 234) (g := 21) (st := 0) C hw (wi_lo (Or.inr ⟨by decide, by decide⟩)) rfl h_41 dX8_rule_110 ?_
                  exact r_iret C hw hS hF dX8_rule_111
                · have hF := if_e hF c_40
                  by_cases c_42 : x1 = (7 : Int32)
                  · have hF := it_e hF c_42
                    refine r_tin (tgt := 112) hx hb dX8_rule_9 c_42 (by decide) (by decide) (by rfl) (by decide) ?_
                    refine lv_aload_n hx hb dX8_rule_112 rfl (lv_at hl 1 rfl) ?_
                    refine lv_iconst (v := (0 : Int32)) hx hb dX8_rule_113 (by decide) ?_
                    obtain ⟨r_43, σ_44, h_45, hF⟩ := bd_e hF
                    refine r_callVi (As := [.int (0 : Int32)]) (rest := []) (i := 1) C hw hS (wi_lo (Or.inl (by decide))) rfl (ci := 8) rfl (met_X8_speedOn l G rd q  h_45) (cwV 1 hts (lw_V q1092 q1094 qs38 q65 q1095) rfl rfl rfl (by decide +kernel) ⟨Nat.le_of_ble_eq_true rfl, Nat.le_of_ble_eq_true rfl⟩) rfl hl.1 rfl (Nat.le_of_ble_eq_true rfl) ⟨Nat.le_refl _, Nat.le_refl _⟩ dX8_rule_114 (fun H locs hw hS => ?_)
                    exact r_iret C hw hS hF dX8_rule_117
                  · have hF := if_e hF c_42
                    by_cases c_46 : x1 = (8 : Int32)
                    · have hF := it_e hF c_46
                      refine r_tin (tgt := 118) hx hb dX8_rule_9 c_46 (by decide) (by decide) (by rfl) (by decide) ?_
                      refine lv_iload_n hx hb dX8_rule_118 rfl (lv_at hl 0 rfl) ?_
                      refine lv_if_ne (tgt := 127) hx hb dX8_rule_119 (by decide) (fun c_47 => ?_) (fun c_47 => ?_)
                      · have hF := if_e hF c_47
                        refine lv_aload_n hx hb dX8_rule_127 rfl (lv_at hl 1 rfl) ?_
                        refine r_get8 C hw 0 (by decide) rfl (v := .ref (q 21)) rfl q955 dX8_rule_128 ?_
                        refine lv_bipush (v := (17 : Int32)) hx hb dX8_rule_131 (by decide) ?_
                        refine lv_aload_n hx hb dX8_rule_133 rfl (lv_at hl 1 rfl) ?_
                        refine r_get8 C hw 0 (by decide) rfl (v := .ref (q 21)) rfl q955 dX8_rule_134 ?_
                        refine lv_bipush (v := (36 : Int32)) hx hb dX8_rule_137 (by decide) ?_
                        obtain ⟨h_48, hF⟩ := gd_e hF
                        refine r_iald (i := 21) (n := 234) (g := 21) (st := 0) C hw (wi_lo (Or.inr ⟨by decide, by decide⟩)) rfl h_48 dX8_rule_139 ?_
                        refine lv_iload_n hx hb dX8_rule_140 rfl (lv_at hl 0 rfl) ?_
                        obtain ⟨h_49, hF⟩ := gd_e hF
                        refine lv_irem hx hb dX8_rule_141 h_49 ?_
                        refine lv_iadd hx hb dX8_rule_142 ?_
                        obtain ⟨h_50, hF⟩ := gd_e hF
                        refine r_iald (i := 21) (n := 234) (g := 21) (st := 0) C hw (wi_lo (Or.inr ⟨by decide, by decide⟩)) rfl h_50 dX8_rule_143 ?_
                        exact r_iret C hw hS hF dX8_rule_144
                      · have hF := it_e hF c_47
                        refine lv_bipush (v := (-4 : Int32)) hx hb dX8_rule_122 (by decide) ?_
                        refine lv_goto (tgt := 144) hx hb dX8_rule_124 (by decide) ?_
                        exact r_iret C hw hS hF dX8_rule_144
                    · have hF := if_e hF c_46
                      cases hF
abbrev rmX8_runs : Room := { frames := 5, cells := 0, slots := 0, locals := 158 }
noncomputable def F_X8_runs (N : Nat) (x1 : Int32) (x2 : Int32) (σ : SS) : Option (Int32 × SS) :=
  bd (F_X8_isLong N x1 σ) fun r_23 σ_24 =>
  if r_23 = (0 : Int32) then
    some ((-1 : Int32), σ_24)
  else
    bd (F_X8_in N x2.toInt64 (0 : Int64) (4 : Int64) σ_24) fun r_27 σ_28 =>
    if r_27 = (0 : Int32) then
      some ((-1 : Int32), σ_28)
    else
      bd (F_X8_ticksGo N (0 : Int32) x1 σ_28) fun r_31 σ_32 =>
      if (x2.toInt < 0 ∨ 3 < x2.toInt) then
        some (gi σ_32 1 17, σ_32)
      else
        if x2 = (0 : Int32) then
          some (r_31, σ_32)
        else
          if x2 = (1 : Int32) then
            bd (F_X8_lackThen N σ_32) fun r_37 σ_38 =>
            some (r_37, σ_38)
          else
            if x2 = (2 : Int32) then
              some (gi σ_32 1 16, σ_32)
            else
              if x2 = (3 : Int32) then
                bd (F_X8_swingOn N (156 : Int32) σ_32) fun r_42 σ_43 =>
                some (r_42, σ_43)
              else
                none
set_option maxRecDepth 100000 in
theorem met_X8_runs (l : Launch) (G : GG) (rd : Bool) (q : Nat → Nat) {N : Nat} {x1 : Int32} {x2 : Int32} {σ σ' : SS} {r : Int32} (hF : F_X8_runs N x1 x2 σ = some (r, σ')) : Met l yX8_runs (ws_ yX8_runs cX8_runs 4 (some .int)) rmX8_runs (pcx G rd q σ [.ref (q 1), .int x1, .int x2]) (qxi G rd q σ' r) 0 0 (fa G) := by
  refine met_of (by decide) (Nat.le_of_ble_eq_true rfl) ?_
  intro p e s m below meth c C H locs ls hw hS hl
  obtain ⟨hx, hb, hml, hown, hts, -, -, -, -⟩ := id C
  have hl : lv_has ls 4 [(0, .ref (q 1)), (1, .int x1), (2, .int x2)] := hl
  unfold F_X8_runs at hF
  refine lv_iload_n hx hb dX8_runs_0 rfl (lv_at hl 1 rfl) ?_
  obtain ⟨r_23, σ_24, h_25, hF⟩ := bd_e hF
  refine r_callSi (As := [.int x1]) (rest := []) C hw hS (met_X8_isLong l G rd q  h_25) (cwS 1 hts (lw_S q1183 q1184 q65 q1185) rfl rfl rfl (by decide +kernel) ⟨Nat.le_of_ble_eq_true rfl, Nat.le_of_ble_eq_true rfl⟩) rfl hl.1 rfl (Nat.le_of_ble_eq_true rfl) ⟨Nat.le_refl _, Nat.le_refl _⟩ dX8_runs_1 (fun H locs hw hS => ?_)
  refine lv_if_eq (tgt := 19) hx hb dX8_runs_4 (by decide) (fun c_26 => ?_) (fun c_26 => ?_)
  · have hF := it_e hF c_26
    refine lv_iconst (v := (-1 : Int32)) hx hb dX8_runs_19 (by decide) ?_
    exact r_iret C hw hS hF dX8_runs_20
  · have hF := if_e hF c_26
    refine lv_iload_n hx hb dX8_runs_7 rfl (lv_at hl 2 rfl) ?_
    refine lv_i2l hx hb dX8_runs_8 rfl ?_
    refine lv_lconst (v := (0 : Int64)) hx hb dX8_runs_9 (by decide) ?_
    refine lv_ldc2 (v := (4 : Int64)) hx hb hown (hts _ q1187) dX8_runs_10 ?_
    obtain ⟨r_27, σ_28, h_29, hF⟩ := bd_e hF
    refine r_callSi (As := [.long x2.toInt64, .long (0 : Int64), .long (4 : Int64)]) (rest := []) C hw hS (met_X8_in l G rd q  h_29) (cwS 3 hts (lw_S q1040 q1041 q65 q1042) rfl rfl rfl (by decide +kernel) ⟨Nat.le_of_ble_eq_true rfl, Nat.le_of_ble_eq_true rfl⟩) rfl hl.1 rfl (Nat.le_of_ble_eq_true rfl) ⟨Nat.le_refl _, Nat.le_refl _⟩ dX8_runs_13 (fun H locs hw hS => ?_)
    refine lv_if_ne (tgt := 21) hx hb dX8_runs_16 (by decide) (fun c_30 => ?_) (fun c_30 => ?_)
    · have hF := if_e hF c_30
      refine lv_aload_n hx hb dX8_runs_21 rfl (lv_at hl 0 rfl) ?_
      refine lv_iconst (v := (0 : Int32)) hx hb dX8_runs_22 (by decide) ?_
      refine lv_iload_n hx hb dX8_runs_23 rfl (lv_at hl 1 rfl) ?_
      obtain ⟨r_31, σ_32, h_33, hF⟩ := bd_e hF
      refine r_callVi (As := [.int (0 : Int32), .int x1]) (rest := []) (i := 1) C hw hS (wi_lo (Or.inl (by decide))) rfl (ci := 8) rfl (met_X8_ticksGo l G rd q  h_33) (cwV 2 hts (lw_V q1188 q1190 qs47 q65 q1191) rfl rfl rfl (by decide +kernel) ⟨Nat.le_of_ble_eq_true rfl, Nat.le_of_ble_eq_true rfl⟩) rfl hl.1 rfl (Nat.le_of_ble_eq_true rfl) ⟨Nat.le_refl _, Nat.le_refl _⟩ dX8_runs_24 (fun H locs hw hS => ?_)
      refine lv_istore_n (lv' := [(3, .int r_31), (0, .ref (q 1)), (1, .int x1), (2, .int x2)]) hx hb dX8_runs_27 rfl hl (by decide) rfl (fun ls hl => ?_)
      refine lv_iload_n hx hb dX8_runs_28 rfl (lv_at hl 3 rfl) ?_
      by_cases c_34 : (x2.toInt < 0 ∨ 3 < x2.toInt)
      · have hF := it_e hF c_34
        refine lv_tableOut (tgt := 80) hx hb dX8_runs_29 c_34 (by decide) ?_
        refine lv_aload_n hx hb dX8_runs_80 rfl (lv_at hl 1 rfl) ?_
        refine r_get8 C hw 17 (by decide) rfl (v := .int (gi σ_32 1 17)) rfl q972 dX8_runs_81 ?_
        exact r_iret C hw hS hF dX8_runs_84
      · have hF := if_e hF c_34
        by_cases c_35 : x2 = (0 : Int32)
        · have hF := it_e hF c_35
          refine r_tin (tgt := 60) hx hb dX8_runs_29 c_35 (by decide) (by decide) (by rfl) (by decide) ?_
          refine lv_iload_n hx hb dX8_runs_60 rfl (lv_at hl 0 rfl) ?_
          exact r_iret C hw hS hF dX8_runs_61
        · have hF := if_e hF c_35
          by_cases c_36 : x2 = (1 : Int32)
          · have hF := it_e hF c_36
            refine r_tin (tgt := 62) hx hb dX8_runs_29 c_36 (by decide) (by decide) (by rfl) (by decide) ?_
            refine lv_aload_n hx hb dX8_runs_62 rfl (lv_at hl 1 rfl) ?_
            obtain ⟨r_37, σ_38, h_39, hF⟩ := bd_e hF
            refine r_callVi (As := []) (rest := []) (i := 1) C hw hS (wi_lo (Or.inl (by decide))) rfl (ci := 8) rfl (met_X8_lackThen l G rd q  h_39) (cwV 0 hts (lw_V q1196 q1198 qs49 q65 q1199) rfl rfl rfl (by decide +kernel) ⟨Nat.le_of_ble_eq_true rfl, Nat.le_of_ble_eq_true rfl⟩) rfl hl.1 rfl (Nat.le_of_ble_eq_true rfl) ⟨Nat.le_refl _, Nat.le_refl _⟩ dX8_runs_63 (fun H locs hw hS => ?_)
            exact r_iret C hw hS hF dX8_runs_66
          · have hF := if_e hF c_36
            by_cases c_40 : x2 = (2 : Int32)
            · have hF := it_e hF c_40
              refine r_tin (tgt := 67) hx hb dX8_runs_29 c_40 (by decide) (by decide) (by rfl) (by decide) ?_
              refine lv_aload_n hx hb dX8_runs_67 rfl (lv_at hl 1 rfl) ?_
              refine r_get8 C hw 16 (by decide) rfl (v := .int (gi σ_32 1 16)) rfl q971 dX8_runs_68 ?_
              exact r_iret C hw hS hF dX8_runs_71
            · have hF := if_e hF c_40
              by_cases c_41 : x2 = (3 : Int32)
              · have hF := it_e hF c_41
                refine r_tin (tgt := 72) hx hb dX8_runs_29 c_41 (by decide) (by decide) (by rfl) (by decide) ?_
                refine lv_aload_n hx hb dX8_runs_72 rfl (lv_at hl 1 rfl) ?_
                refine lv_sipush (v := (156 : Int32)) hx hb dX8_runs_73 (by decide) ?_
                obtain ⟨r_42, σ_43, h_44, hF⟩ := bd_e hF
                refine r_callVi (As := [.int (156 : Int32)]) (rest := []) (i := 1) C hw hS (wi_lo (Or.inl (by decide))) rfl (ci := 8) rfl (met_X8_swingOn l G rd q  h_44) (cwV 1 hts (lw_V q1200 q1202 qs50 q65 q1203) rfl rfl rfl (by decide +kernel) ⟨Nat.le_of_ble_eq_true rfl, Nat.le_of_ble_eq_true rfl⟩) rfl hl.1 rfl (Nat.le_of_ble_eq_true rfl) ⟨Nat.le_refl _, Nat.le_refl _⟩ dX8_runs_76 (fun H locs hw hS => ?_)
                exact r_iret C hw hS hF dX8_runs_79
              · have hF := if_e hF c_41
                cases hF
    · have hF := it_e hF c_30
      refine lv_iconst (v := (-1 : Int32)) hx hb dX8_runs_19 (by decide) ?_
      exact r_iret C hw hS hF dX8_runs_20
abbrev rmX8_see : Room := { frames := 3, cells := 0, slots := 0, locals := 106 }
noncomputable def F_X8_see (N : Nat) (x1 : Int32) (x2 : Int32) (x3 : Int32) (σ : SS) : Option (Int32 × SS) :=
  bd (F_X8_in N x1.toInt64 (0 : Int64) (40 : Int64) σ) fun r_21 σ_22 =>
  if r_21 = (0 : Int32) then
    some ((-1 : Int32), σ_22)
  else
    bd (F_X8_isWheel N x2 σ_22) fun r_25 σ_26 =>
    if r_25 = (0 : Int32) then
      some ((-1 : Int32), σ_26)
    else
      bd (F_X8_in N x3.toInt64 (0 : Int64) (9999999 : Int64) σ_26) fun r_29 σ_30 =>
      if r_29 = (0 : Int32) then
        some ((-1 : Int32), σ_30)
      else
        if (gi σ_30 1 19) = (6 : Int32) then
          some ((-3 : Int32), σ_30)
        else
          gd (inR ((3 : Int32) * (gi σ_30 1 19)) 18) <|
          nm (si σ_30 26 ((3 : Int32) * (gi σ_30 1 19)).toNatClampNeg x1) fun σ_35 =>
          gd (inR (((3 : Int32) * (gi σ_35 1 19)) + (1 : Int32)) 18) <|
          nm (si σ_35 26 (((3 : Int32) * (gi σ_35 1 19)) + (1 : Int32)).toNatClampNeg x2) fun σ_37 =>
          gd (inR (((3 : Int32) * (gi σ_37 1 19)) + (2 : Int32)) 18) <|
          nm (si σ_37 26 (((3 : Int32) * (gi σ_37 1 19)) + (2 : Int32)).toNatClampNeg x3) fun σ_39 =>
          nm (si σ_39 1 19 ((gi σ_39 1 19) + (1 : Int32))) fun σ_40 =>
          some (gi σ_40 1 19, σ_40)
set_option maxRecDepth 100000 in
theorem met_X8_see (l : Launch) (G : GG) (rd : Bool) (q : Nat → Nat) {N : Nat} {x1 : Int32} {x2 : Int32} {x3 : Int32} {σ σ' : SS} {r : Int32} (hF : F_X8_see N x1 x2 x3 σ = some (r, σ')) : Met l yX8_see (ws_ yX8_see cX8_see 4 (some .int)) rmX8_see (pcx G rd q σ [.ref (q 1), .int x1, .int x2, .int x3]) (qxi G rd q σ' r) 0 0 (fa G) := by
  refine met_of (by decide) (Nat.le_of_ble_eq_true rfl) ?_
  intro p e s m below meth c C H locs ls hw hS hl
  obtain ⟨hx, hb, hml, hown, hts, -, -, -, -⟩ := id C
  have hl : lv_has ls 4 [(0, .ref (q 1)), (1, .int x1), (2, .int x2), (3, .int x3)] := hl
  unfold F_X8_see at hF
  refine lv_iload_n hx hb dX8_see_0 rfl (lv_at hl 1 rfl) ?_
  refine lv_i2l hx hb dX8_see_1 rfl ?_
  refine lv_lconst (v := (0 : Int64)) hx hb dX8_see_2 (by decide) ?_
  refine lv_ldc2 (v := (40 : Int64)) hx hb hown (hts _ q1266) dX8_see_3 ?_
  obtain ⟨r_21, σ_22, h_23, hF⟩ := bd_e hF
  refine r_callSi (As := [.long x1.toInt64, .long (0 : Int64), .long (40 : Int64)]) (rest := []) C hw hS (met_X8_in l G rd q  h_23) (cwS 3 hts (lw_S q1040 q1041 q65 q1042) rfl rfl rfl (by decide +kernel) ⟨Nat.le_of_ble_eq_true rfl, Nat.le_of_ble_eq_true rfl⟩) rfl hl.1 rfl (Nat.le_of_ble_eq_true rfl) ⟨Nat.le_refl _, Nat.le_refl _⟩ dX8_see_6 (fun H locs hw hS => ?_)
  refine lv_if_eq (tgt := 32) hx hb dX8_see_9 (by decide) (fun c_24 => ?_) (fun c_24 => ?_)
  · have hF := it_e hF c_24
    refine lv_iconst (v := (-1 : Int32)) hx hb dX8_see_32 (by decide) ?_
    exact r_iret C hw hS hF dX8_see_33
  · have hF := if_e hF c_24
    refine lv_aload_n hx hb dX8_see_12 rfl (lv_at hl 0 rfl) ?_
    refine lv_iload_n hx hb dX8_see_13 rfl (lv_at hl 2 rfl) ?_
    obtain ⟨r_25, σ_26, h_27, hF⟩ := bd_e hF
    refine r_callVi (As := [.int x2]) (rest := []) (i := 1) C hw hS (wi_lo (Or.inl (by decide))) rfl (ci := 8) rfl (met_X8_isWheel l G rd q  h_27) (cwV 1 hts (lw_V q1100 q1102 qs39 q65 q1103) rfl rfl rfl (by decide +kernel) ⟨Nat.le_of_ble_eq_true rfl, Nat.le_of_ble_eq_true rfl⟩) rfl hl.1 rfl (Nat.le_of_ble_eq_true rfl) ⟨Nat.le_refl _, Nat.le_refl _⟩ dX8_see_14 (fun H locs hw hS => ?_)
    refine lv_if_eq (tgt := 32) hx hb dX8_see_17 (by decide) (fun c_28 => ?_) (fun c_28 => ?_)
    · have hF := it_e hF c_28
      refine lv_iconst (v := (-1 : Int32)) hx hb dX8_see_32 (by decide) ?_
      exact r_iret C hw hS hF dX8_see_33
    · have hF := if_e hF c_28
      refine lv_iload_n hx hb dX8_see_20 rfl (lv_at hl 3 rfl) ?_
      refine lv_i2l hx hb dX8_see_21 rfl ?_
      refine lv_lconst (v := (0 : Int64)) hx hb dX8_see_22 (by decide) ?_
      refine lv_ldc2 (v := (9999999 : Int64)) hx hb hown (hts _ q1267) dX8_see_23 ?_
      obtain ⟨r_29, σ_30, h_31, hF⟩ := bd_e hF
      refine r_callSi (As := [.long x3.toInt64, .long (0 : Int64), .long (9999999 : Int64)]) (rest := []) C hw hS (met_X8_in l G rd q  h_31) (cwS 3 hts (lw_S q1040 q1041 q65 q1042) rfl rfl rfl (by decide +kernel) ⟨Nat.le_of_ble_eq_true rfl, Nat.le_of_ble_eq_true rfl⟩) rfl hl.1 rfl (Nat.le_of_ble_eq_true rfl) ⟨Nat.le_refl _, Nat.le_refl _⟩ dX8_see_26 (fun H locs hw hS => ?_)
      refine lv_if_ne (tgt := 34) hx hb dX8_see_29 (by decide) (fun c_32 => ?_) (fun c_32 => ?_)
      · have hF := if_e hF c_32
        refine lv_aload_n hx hb dX8_see_34 rfl (lv_at hl 0 rfl) ?_
        refine r_get8 C hw 19 (by decide) rfl (v := .int (gi σ_30 1 19)) rfl q974 dX8_see_35 ?_
        refine lv_bipush (v := (6 : Int32)) hx hb dX8_see_38 (by decide) ?_
        refine lv_icmp_ne (tgt := 46) hx hb dX8_see_40 (by decide) (fun c_33 => ?_) (fun c_33 => ?_)
        · have hF := if_e hF c_33
          refine lv_aload_n hx hb dX8_see_46 rfl (lv_at hl 0 rfl) ?_
          refine r_get8 C hw 18 (by decide) rfl (v := .ref (q 26)) rfl q973 dX8_see_47 ?_
          refine lv_iconst (v := (3 : Int32)) hx hb dX8_see_50 (by decide) ?_
          refine lv_aload_n hx hb dX8_see_51 rfl (lv_at hl 0 rfl) ?_
          refine r_get8 C hw 19 (by decide) rfl (v := .int (gi σ_30 1 19)) rfl q974 dX8_see_52 ?_
          refine lv_imul hx hb dX8_see_55 ?_
          refine lv_iload_n hx hb dX8_see_56 rfl (lv_at hl 1 rfl) ?_
          obtain ⟨h_34, hF⟩ := gd_e hF
          obtain ⟨σ_35, eσ_35, hF⟩ := nm_e2 hF
          refine r_iast (i := 26) (n := 18) (g := 26) (st := 0) C hw hS (wi_lo (Or.inr ⟨by decide, by decide⟩)) rfl (fun _ => ho_lo (by decide)) h_34 dX8_see_57 eσ_35 (fun H locs hw hS => ?_)
          refine lv_aload_n hx hb dX8_see_58 rfl (lv_at hl 0 rfl) ?_
          refine r_get8 C hw 18 (by decide) rfl (v := .ref (q 26)) rfl q973 dX8_see_59 ?_
          refine lv_iconst (v := (3 : Int32)) hx hb dX8_see_62 (by decide) ?_
          refine lv_aload_n hx hb dX8_see_63 rfl (lv_at hl 0 rfl) ?_
          refine r_get8 C hw 19 (by decide) rfl (v := .int (gi σ_35 1 19)) rfl q974 dX8_see_64 ?_
          refine lv_imul hx hb dX8_see_67 ?_
          refine lv_iconst (v := (1 : Int32)) hx hb dX8_see_68 (by decide) ?_
          refine lv_iadd hx hb dX8_see_69 ?_
          refine lv_iload_n hx hb dX8_see_70 rfl (lv_at hl 2 rfl) ?_
          obtain ⟨h_36, hF⟩ := gd_e hF
          obtain ⟨σ_37, eσ_37, hF⟩ := nm_e2 hF
          refine r_iast (i := 26) (n := 18) (g := 26) (st := 0) C hw hS (wi_lo (Or.inr ⟨by decide, by decide⟩)) rfl (fun _ => ho_lo (by decide)) h_36 dX8_see_71 eσ_37 (fun H locs hw hS => ?_)
          refine lv_aload_n hx hb dX8_see_72 rfl (lv_at hl 0 rfl) ?_
          refine r_get8 C hw 18 (by decide) rfl (v := .ref (q 26)) rfl q973 dX8_see_73 ?_
          refine lv_iconst (v := (3 : Int32)) hx hb dX8_see_76 (by decide) ?_
          refine lv_aload_n hx hb dX8_see_77 rfl (lv_at hl 0 rfl) ?_
          refine r_get8 C hw 19 (by decide) rfl (v := .int (gi σ_37 1 19)) rfl q974 dX8_see_78 ?_
          refine lv_imul hx hb dX8_see_81 ?_
          refine lv_iconst (v := (2 : Int32)) hx hb dX8_see_82 (by decide) ?_
          refine lv_iadd hx hb dX8_see_83 ?_
          refine lv_iload_n hx hb dX8_see_84 rfl (lv_at hl 3 rfl) ?_
          obtain ⟨h_38, hF⟩ := gd_e hF
          obtain ⟨σ_39, eσ_39, hF⟩ := nm_e2 hF
          refine r_iast (i := 26) (n := 18) (g := 26) (st := 0) C hw hS (wi_lo (Or.inr ⟨by decide, by decide⟩)) rfl (fun _ => ho_lo (by decide)) h_38 dX8_see_85 eσ_39 (fun H locs hw hS => ?_)
          refine lv_aload_n hx hb dX8_see_86 rfl (lv_at hl 0 rfl) ?_
          refine lv_dup hx hb dX8_see_87 rfl ?_
          refine r_get8 C hw 19 (by decide) rfl (v := .int (gi σ_39 1 19)) rfl q974 dX8_see_88 ?_
          refine lv_iconst (v := (1 : Int32)) hx hb dX8_see_91 (by decide) ?_
          refine lv_iadd hx hb dX8_see_92 ?_
          obtain ⟨σ_40, eσ_40, hF⟩ := nm_e2 hF
          refine r_put8 C hw hS 19 (by decide) rfl rfl (tyX8_ok 19 (by decide)) rfl rfl q974 dX8_see_93 eσ_40 (fun H locs hw hS => ?_)
          refine lv_aload_n hx hb dX8_see_96 rfl (lv_at hl 0 rfl) ?_
          refine r_get8 C hw 19 (by decide) rfl (v := .int (gi σ_40 1 19)) rfl q974 dX8_see_97 ?_
          exact r_iret C hw hS hF dX8_see_100
        · have hF := it_e hF c_33
          refine lv_bipush (v := (-3 : Int32)) hx hb dX8_see_43 (by decide) ?_
          exact r_iret C hw hS hF dX8_see_45
      · have hF := it_e hF c_32
        refine lv_iconst (v := (-1 : Int32)) hx hb dX8_see_32 (by decide) ?_
        exact r_iret C hw hS hF dX8_see_33
abbrev rmX8_set : Room := { frames := 3, cells := 0, slots := 0, locals := 106 }
noncomputable def F_X8_set_26 (N : Nat) (x1 : Int32) (x2 : Int32) (z0 : Int32) (σ : SS) : Option (Int32 × SS) :=
  bd (F_X8_puts N z0 ((17 : Int32) + x1) x2 (0 : Int32) σ) fun r_12 σ_13 =>
  some (r_12, σ_13)
set_option maxRecDepth 100000 in
theorem w_X8_set_26 {p : Program} {l : Launch} {e : Env} {s : State} {m : MethodId} {args : Array Value} {below : List Frame} {meth : Method} {c : Code} {G : GG} {rd : Bool} {q : Nat → Nat} {N : Nat} {r : Int32} {σ' : SS} (C : cx p s m args meth c cX8_set 3 RX8 (some .int) G) : ∀ (x1 : Int32) (x2 : Int32) (z0 : Int32) (σ : SS) (H : Heap) (locs : List Loc) (ls : Array Slot), F_X8_set_26 N x1 x2 z0 σ = some (r, σ') → wx G rd q σ H → va_S (fa G) s.heap H locs → lv_has ls 3 [(1, .int x1), (2, .int x2)] → W p l e rmX8_set s m args below meth c H locs 0 0 (MQ below (qxi G rd q σ' r) args s 0 0 (fa G)) (F0 m 26 ls [.int z0, .ref (q 1)]) := by
  obtain ⟨hx, hb, hml, hown, hts, -, -, -, -⟩ := id C
  intro x1 x2 z0 σ H locs ls hF hw hS hl
  unfold F_X8_set_26 at hF
  refine lv_bipush (v := (17 : Int32)) hx hb dX8_set_26 (by decide) ?_
  refine lv_iload_n hx hb dX8_set_28 rfl (lv_at hl 0 rfl) ?_
  refine lv_iadd hx hb dX8_set_29 ?_
  refine lv_iload_n hx hb dX8_set_30 rfl (lv_at hl 1 rfl) ?_
  refine lv_iconst (v := (0 : Int32)) hx hb dX8_set_31 (by decide) ?_
  obtain ⟨r_12, σ_13, h_14, hF⟩ := bd_e hF
  refine r_callVi (As := [.int z0, .int ((17 : Int32) + x1), .int x2, .int (0 : Int32)]) (rest := []) (i := 1) C hw hS (wi_lo (Or.inl (by decide))) rfl (ci := 8) rfl (met_X8_puts l G rd q  h_14) (cwV 4 hts (lw_V q1125 q1127 qs42 q65 q1128) rfl rfl rfl (by decide +kernel) ⟨Nat.le_of_ble_eq_true rfl, Nat.le_of_ble_eq_true rfl⟩) rfl hl.1 rfl (Nat.le_of_ble_eq_true rfl) ⟨Nat.le_refl _, Nat.le_refl _⟩ dX8_set_32 (fun H locs hw hS => ?_)
  exact r_iret C hw hS hF dX8_set_35
noncomputable def F_X8_set_25 (N : Nat) (x1 : Int32) (x2 : Int32) (σ : SS) : Option (Int32 × SS) :=
  F_X8_set_26 N x1 x2 (0 : Int32) σ
set_option maxRecDepth 100000 in
theorem w_X8_set_25 {p : Program} {l : Launch} {e : Env} {s : State} {m : MethodId} {args : Array Value} {below : List Frame} {meth : Method} {c : Code} {G : GG} {rd : Bool} {q : Nat → Nat} {N : Nat} {r : Int32} {σ' : SS} (C : cx p s m args meth c cX8_set 3 RX8 (some .int) G) : ∀ (x1 : Int32) (x2 : Int32) (σ : SS) (H : Heap) (locs : List Loc) (ls : Array Slot), F_X8_set_25 N x1 x2 σ = some (r, σ') → wx G rd q σ H → va_S (fa G) s.heap H locs → lv_has ls 3 [(1, .int x1), (2, .int x2)] → W p l e rmX8_set s m args below meth c H locs 0 0 (MQ below (qxi G rd q σ' r) args s 0 0 (fa G)) (F0 m 25 ls [.ref (q 1)]) := by
  obtain ⟨hx, hb, hml, hown, hts, -, -, -, -⟩ := id C
  intro x1 x2 σ H locs ls hF hw hS hl
  unfold F_X8_set_25 at hF
  refine lv_iconst (v := (0 : Int32)) hx hb dX8_set_25 (by decide) ?_
  exact w_X8_set_26 C   _ _ _ _ _ _ _ hF hw hS (lv_sub hl [0, 1] rfl)
noncomputable def F_X8_set (N : Nat) (x1 : Int32) (x2 : Int32) (σ : SS) : Option (Int32 × SS) :=
  bd (F_X8_isAct N x1 σ) fun r_15 σ_16 =>
  if r_15 = (0 : Int32) then
    F_X8_set_25 N x1 x2 σ_16
  else
    bd (F_X8_in N x2.toInt64 (0 : Int64) (203 : Int64) σ_16) fun r_19 σ_20 =>
    if r_19 = (0 : Int32) then
      F_X8_set_25 N x1 x2 σ_20
    else
      F_X8_set_26 N x1 x2 (1 : Int32) σ_20
set_option maxRecDepth 100000 in
theorem met_X8_set (l : Launch) (G : GG) (rd : Bool) (q : Nat → Nat) {N : Nat} {x1 : Int32} {x2 : Int32} {σ σ' : SS} {r : Int32} (hF : F_X8_set N x1 x2 σ = some (r, σ')) : Met l yX8_set (ws_ yX8_set cX8_set 3 (some .int)) rmX8_set (pcx G rd q σ [.ref (q 1), .int x1, .int x2]) (qxi G rd q σ' r) 0 0 (fa G) := by
  refine met_of (by decide) (Nat.le_of_ble_eq_true rfl) ?_
  intro p e s m below meth c C H locs ls hw hS hl
  obtain ⟨hx, hb, hml, hown, hts, -, -, -, -⟩ := id C
  have hl : lv_has ls 3 [(0, .ref (q 1)), (1, .int x1), (2, .int x2)] := hl
  unfold F_X8_set at hF
  refine lv_aload_n hx hb dX8_set_0 rfl (lv_at hl 0 rfl) ?_
  refine lv_aload_n hx hb dX8_set_1 rfl (lv_at hl 0 rfl) ?_
  refine lv_iload_n hx hb dX8_set_2 rfl (lv_at hl 1 rfl) ?_
  obtain ⟨r_15, σ_16, h_17, hF⟩ := bd_e hF
  refine r_callVi (As := [.int x1]) (rest := [.ref (q 1)]) (i := 1) C hw hS (wi_lo (Or.inl (by decide))) rfl (ci := 8) rfl (met_X8_isAct l G rd q  h_17) (cwV 1 hts (lw_V q1113 q1115 qs41 q65 q1116) rfl rfl rfl (by decide +kernel) ⟨Nat.le_of_ble_eq_true rfl, Nat.le_of_ble_eq_true rfl⟩) rfl hl.1 rfl (Nat.le_of_ble_eq_true rfl) ⟨Nat.le_refl _, Nat.le_refl _⟩ dX8_set_3 (fun H locs hw hS => ?_)
  refine lv_if_eq (tgt := 25) hx hb dX8_set_6 (by decide) (fun c_18 => ?_) (fun c_18 => ?_)
  · have hF := it_e hF c_18
    exact w_X8_set_25 C   _ _ _ _ _ _ hF hw hS (lv_sub hl [1, 2] rfl)
  · have hF := if_e hF c_18
    refine lv_iload_n hx hb dX8_set_9 rfl (lv_at hl 2 rfl) ?_
    refine lv_i2l hx hb dX8_set_10 rfl ?_
    refine lv_lconst (v := (0 : Int64)) hx hb dX8_set_11 (by decide) ?_
    refine lv_ldc2 (v := (203 : Int64)) hx hb hown (hts _ q1145) dX8_set_12 ?_
    obtain ⟨r_19, σ_20, h_21, hF⟩ := bd_e hF
    refine r_callSi (As := [.long x2.toInt64, .long (0 : Int64), .long (203 : Int64)]) (rest := [.ref (q 1)]) C hw hS (met_X8_in l G rd q  h_21) (cwS 3 hts (lw_S q1040 q1041 q65 q1042) rfl rfl rfl (by decide +kernel) ⟨Nat.le_of_ble_eq_true rfl, Nat.le_of_ble_eq_true rfl⟩) rfl hl.1 rfl (Nat.le_of_ble_eq_true rfl) ⟨Nat.le_refl _, Nat.le_refl _⟩ dX8_set_15 (fun H locs hw hS => ?_)
    refine lv_if_eq (tgt := 25) hx hb dX8_set_18 (by decide) (fun c_22 => ?_) (fun c_22 => ?_)
    · have hF := it_e hF c_22
      exact w_X8_set_25 C   _ _ _ _ _ _ hF hw hS (lv_sub hl [1, 2] rfl)
    · have hF := if_e hF c_22
      refine lv_iconst (v := (1 : Int32)) hx hb dX8_set_21 (by decide) ?_
      refine lv_goto (tgt := 26) hx hb dX8_set_22 (by decide) ?_
      exact w_X8_set_26 C   _ _ _ _ _ _ _ hF hw hS (lv_sub hl [1, 2] rfl)
abbrev rmX8_shaft : Room := { frames := 2, cells := 0, slots := 0, locals := 85 }
noncomputable def F_X8_shaft (N : Nat) (x1 : Int32) (σ : SS) : Option (Int32 × SS) :=
  bd (F_X8_in N x1.toInt64 (1 : Int64) (20 : Int64) σ) fun r_7 σ_8 =>
  bd (F_X8_puts N r_7 (34 : Int32) x1 (5 : Int32) σ_8) fun r_10 σ_11 =>
  some (r_10, σ_11)
set_option maxRecDepth 100000 in
theorem met_X8_shaft (l : Launch) (G : GG) (rd : Bool) (q : Nat → Nat) {N : Nat} {x1 : Int32} {σ σ' : SS} {r : Int32} (hF : F_X8_shaft N x1 σ = some (r, σ')) : Met l yX8_shaft (ws_ yX8_shaft cX8_shaft 2 (some .int)) rmX8_shaft (pcx G rd q σ [.ref (q 1), .int x1]) (qxi G rd q σ' r) 0 0 (fa G) := by
  refine met_of (by decide) (Nat.le_of_ble_eq_true rfl) ?_
  intro p e s m below meth c C H locs ls hw hS hl
  obtain ⟨hx, hb, hml, hown, hts, -, -, -, -⟩ := id C
  have hl : lv_has ls 2 [(0, .ref (q 1)), (1, .int x1)] := hl
  unfold F_X8_shaft at hF
  refine lv_aload_n hx hb dX8_shaft_0 rfl (lv_at hl 0 rfl) ?_
  refine lv_iload_n hx hb dX8_shaft_1 rfl (lv_at hl 1 rfl) ?_
  refine lv_i2l hx hb dX8_shaft_2 rfl ?_
  refine lv_lconst (v := (1 : Int64)) hx hb dX8_shaft_3 (by decide) ?_
  refine lv_ldc2 (v := (20 : Int64)) hx hb hown (hts _ q1122) dX8_shaft_4 ?_
  obtain ⟨r_7, σ_8, h_9, hF⟩ := bd_e hF
  refine r_callSi (As := [.long x1.toInt64, .long (1 : Int64), .long (20 : Int64)]) (rest := [.ref (q 1)]) C hw hS (met_X8_in l G rd q  h_9) (cwS 3 hts (lw_S q1040 q1041 q65 q1042) rfl rfl rfl (by decide +kernel) ⟨Nat.le_of_ble_eq_true rfl, Nat.le_of_ble_eq_true rfl⟩) rfl hl.1 rfl (Nat.le_of_ble_eq_true rfl) ⟨Nat.le_refl _, Nat.le_refl _⟩ dX8_shaft_7 (fun H locs hw hS => ?_)
  refine lv_bipush (v := (34 : Int32)) hx hb dX8_shaft_10 (by decide) ?_
  refine lv_iload_n hx hb dX8_shaft_12 rfl (lv_at hl 1 rfl) ?_
  refine lv_iconst (v := (5 : Int32)) hx hb dX8_shaft_13 (by decide) ?_
  obtain ⟨r_10, σ_11, h_12, hF⟩ := bd_e hF
  refine r_callVi (As := [.int r_7, .int (34 : Int32), .int x1, .int (5 : Int32)]) (rest := []) (i := 1) C hw hS (wi_lo (Or.inl (by decide))) rfl (ci := 8) rfl (met_X8_puts l G rd q  h_12) (cwV 4 hts (lw_V q1125 q1127 qs42 q65 q1128) rfl rfl rfl (by decide +kernel) ⟨Nat.le_of_ble_eq_true rfl, Nat.le_of_ble_eq_true rfl⟩) rfl hl.1 rfl (Nat.le_of_ble_eq_true rfl) ⟨Nat.le_refl _, Nat.le_refl _⟩ dX8_shaft_14 (fun H locs hw hS => ?_)
  exact r_iret C hw hS hF dX8_shaft_17
abbrev rmX8_sheet : Room := { frames := 2, cells := 0, slots := 0, locals := 85 }
noncomputable def B_X8_sheet_56 (N : Nat) (IH : Int32 → Int32 → SS → Option (Int32 × SS)) (x1 : Int32) (x4 : Int32) (σ : SS) : Option (Int32 × SS) :=
  if (40 : Int32) ≤ x4 then
    some ((1 : Int32), σ)
  else
    gd (inR (((40 : Int32) * x1) + x4) 160) <|
    nm (si σ 31 (((40 : Int32) * x1) + x4).toNatClampNeg (0 : Int32)) fun σ_21 =>
    nm (x4 + (1 : Int32)) fun x_22 =>
    IH x1 x_22 σ_21
noncomputable def F_X8_sheet_56 (N : Nat) (n : Nat) : Int32 → Int32 → SS → Option (Int32 × SS) := Nat.rec (fun _ _ _ => none) (fun _ IH => B_X8_sheet_56 N IH) n
set_option maxRecDepth 100000 in
theorem w_X8_sheet_56 {p : Program} {l : Launch} {e : Env} {s : State} {m : MethodId} {args : Array Value} {below : List Frame} {meth : Method} {c : Code} {G : GG} {rd : Bool} {q : Nat → Nat} {N : Nat} {r : Int32} {σ' : SS} (C : cx p s m args meth c cX8_sheet 5 RX8 (some .int) G) : ∀ (n : Nat), ∀ (x1 : Int32) (x4 : Int32) (σ : SS) (H : Heap) (locs : List Loc) (ls : Array Slot), F_X8_sheet_56 N n x1 x4 σ = some (r, σ') → wx G rd q σ H → va_S (fa G) s.heap H locs → lv_has ls 5 [(0, .ref (q 1)), (1, .int x1), (4, .int x4)] → W p l e rmX8_sheet s m args below meth c H locs 0 0 (MQ below (qxi G rd q σ' r) args s 0 0 (fa G)) (F0 m 56 ls []) := by
  obtain ⟨hx, hb, hml, hown, hts, -, -, -, -⟩ := id C
  intro n
  induction n with
  | zero =>
    intro x1 x4 σ H locs ls hF hw hS hl
    cases hF
  | succ n ih =>
    intro x1 x4 σ H locs ls hF hw hS hl
    have hF : B_X8_sheet_56 N (F_X8_sheet_56 N n) x1 x4 σ = some (r, σ') := hF
    unfold B_X8_sheet_56 at hF
    refine lv_iload hx hb dX8_sheet_56 (lv_at hl 2 rfl) ?_
    refine lv_bipush (v := (40 : Int32)) hx hb dX8_sheet_58 (by decide) ?_
    refine lv_icmp_ge (tgt := 82) hx hb dX8_sheet_60 (by decide) (fun c_19 => ?_) (fun c_19 => ?_)
    · have hF := it_e hF c_19
      refine lv_iconst (v := (1 : Int32)) hx hb dX8_sheet_82 (by decide) ?_
      exact r_iret C hw hS hF dX8_sheet_83
    · have hF := if_e hF c_19
      refine lv_aload_n hx hb dX8_sheet_63 rfl (lv_at hl 0 rfl) ?_
      refine r_get8 C hw 24 (by decide) rfl (v := .ref (q 31)) rfl q979 dX8_sheet_64 ?_
      refine lv_bipush (v := (40 : Int32)) hx hb dX8_sheet_67 (by decide) ?_
      refine lv_iload_n hx hb dX8_sheet_69 rfl (lv_at hl 1 rfl) ?_
      refine lv_imul hx hb dX8_sheet_70 ?_
      refine lv_iload hx hb dX8_sheet_71 (lv_at hl 2 rfl) ?_
      refine lv_iadd hx hb dX8_sheet_73 ?_
      refine lv_iconst (v := (0 : Int32)) hx hb dX8_sheet_74 (by decide) ?_
      obtain ⟨h_20, hF⟩ := gd_e hF
      obtain ⟨σ_21, eσ_21, hF⟩ := nm_e2 hF
      refine r_iast (i := 31) (n := 160) (g := 31) (st := 0) C hw hS (wi_lo (Or.inr ⟨by decide, by decide⟩)) rfl (fun _ => ho_lo (by decide)) h_20 dX8_sheet_75 eσ_21 (fun H locs hw hS => ?_)
      obtain ⟨x_22, ex_22, hF⟩ := nm_e2 hF
      refine lv_iinc (v := x_22) (lv' := [(4, .int x_22), (0, .ref (q 1)), (1, .int x1)]) hx hb dX8_sheet_76 hl (k := 2) rfl (by rw [ex_22]; rfl) (by decide) rfl (fun ls hl => ?_)
      refine lv_goto (tgt := 56) hx hb dX8_sheet_79 (by decide) ?_
      exact ih _ _ _ _ _ _ hF hw hS (lv_sub hl [1, 2, 0] rfl)
noncomputable def F_X8_sheet (N : Nat) (x1 : Int32) (x2 : Int32) (x3 : Int32) (σ : SS) : Option (Int32 × SS) :=
  bd (F_X8_in N x1.toInt64 (0 : Int64) (3 : Int64) σ) fun r_23 σ_24 =>
  if r_23 = (0 : Int32) then
    some ((-1 : Int32), σ_24)
  else
    bd (F_X8_in N x2.toInt64 (0 : Int64) (2 : Int64) σ_24) fun r_27 σ_28 =>
    if r_27 = (0 : Int32) then
      some ((-1 : Int32), σ_28)
    else
      if x3 ≤ (40 : Int32) then
        if (0 : Int32) ≤ x3 then
          gd (inR x1 4) <|
          nm (si σ_28 29 x1.toNatClampNeg x2) fun σ_34 =>
          gd (inR x1 4) <|
          nm (si σ_34 30 x1.toNatClampNeg x3) fun σ_36 =>
          F_X8_sheet_56 N N x1 (0 : Int32) σ_36
        else
          some ((-14 : Int32), σ_28)
      else
        some ((-1 : Int32), σ_28)
set_option maxRecDepth 100000 in
theorem met_X8_sheet (l : Launch) (G : GG) (rd : Bool) (q : Nat → Nat) {N : Nat} {x1 : Int32} {x2 : Int32} {x3 : Int32} {σ σ' : SS} {r : Int32} (hF : F_X8_sheet N x1 x2 x3 σ = some (r, σ')) : Met l yX8_sheet (ws_ yX8_sheet cX8_sheet 5 (some .int)) rmX8_sheet (pcx G rd q σ [.ref (q 1), .int x1, .int x2, .int x3]) (qxi G rd q σ' r) 0 0 (fa G) := by
  refine met_of (by decide) (Nat.le_of_ble_eq_true rfl) ?_
  intro p e s m below meth c C H locs ls hw hS hl
  obtain ⟨hx, hb, hml, hown, hts, -, -, -, -⟩ := id C
  have hl : lv_has ls 5 [(0, .ref (q 1)), (1, .int x1), (2, .int x2), (3, .int x3)] := hl
  unfold F_X8_sheet at hF
  refine lv_iload_n hx hb dX8_sheet_0 rfl (lv_at hl 1 rfl) ?_
  refine lv_i2l hx hb dX8_sheet_1 rfl ?_
  refine lv_lconst (v := (0 : Int64)) hx hb dX8_sheet_2 (by decide) ?_
  refine lv_ldc2 (v := (3 : Int64)) hx hb hown (hts _ q1121) dX8_sheet_3 ?_
  obtain ⟨r_23, σ_24, h_25, hF⟩ := bd_e hF
  refine r_callSi (As := [.long x1.toInt64, .long (0 : Int64), .long (3 : Int64)]) (rest := []) C hw hS (met_X8_in l G rd q  h_25) (cwS 3 hts (lw_S q1040 q1041 q65 q1042) rfl rfl rfl (by decide +kernel) ⟨Nat.le_of_ble_eq_true rfl, Nat.le_of_ble_eq_true rfl⟩) rfl hl.1 rfl (Nat.le_of_ble_eq_true rfl) ⟨Nat.le_refl _, Nat.le_refl _⟩ dX8_sheet_6 (fun H locs hw hS => ?_)
  refine lv_if_eq (tgt := 30) hx hb dX8_sheet_9 (by decide) (fun c_26 => ?_) (fun c_26 => ?_)
  · have hF := it_e hF c_26
    refine lv_iconst (v := (-1 : Int32)) hx hb dX8_sheet_30 (by decide) ?_
    exact r_iret C hw hS hF dX8_sheet_31
  · have hF := if_e hF c_26
    refine lv_iload_n hx hb dX8_sheet_12 rfl (lv_at hl 2 rfl) ?_
    refine lv_i2l hx hb dX8_sheet_13 rfl ?_
    refine lv_lconst (v := (0 : Int64)) hx hb dX8_sheet_14 (by decide) ?_
    refine lv_ldc2 (v := (2 : Int64)) hx hb hown (hts _ q1313) dX8_sheet_15 ?_
    obtain ⟨r_27, σ_28, h_29, hF⟩ := bd_e hF
    refine r_callSi (As := [.long x2.toInt64, .long (0 : Int64), .long (2 : Int64)]) (rest := []) C hw hS (met_X8_in l G rd q  h_29) (cwS 3 hts (lw_S q1040 q1041 q65 q1042) rfl rfl rfl (by decide +kernel) ⟨Nat.le_of_ble_eq_true rfl, Nat.le_of_ble_eq_true rfl⟩) rfl hl.1 rfl (Nat.le_of_ble_eq_true rfl) ⟨Nat.le_refl _, Nat.le_refl _⟩ dX8_sheet_18 (fun H locs hw hS => ?_)
    refine lv_if_eq (tgt := 30) hx hb dX8_sheet_21 (by decide) (fun c_30 => ?_) (fun c_30 => ?_)
    · have hF := it_e hF c_30
      refine lv_iconst (v := (-1 : Int32)) hx hb dX8_sheet_30 (by decide) ?_
      exact r_iret C hw hS hF dX8_sheet_31
    · have hF := if_e hF c_30
      refine lv_iload_n hx hb dX8_sheet_24 rfl (lv_at hl 3 rfl) ?_
      refine lv_bipush (v := (40 : Int32)) hx hb dX8_sheet_25 (by decide) ?_
      refine lv_icmp_le (tgt := 32) hx hb dX8_sheet_27 (by decide) (fun c_31 => ?_) (fun c_31 => ?_)
      · have hF := it_e hF c_31
        refine lv_iload_n hx hb dX8_sheet_32 rfl (lv_at hl 3 rfl) ?_
        refine lv_if_ge (tgt := 39) hx hb dX8_sheet_33 (by decide) (fun c_32 => ?_) (fun c_32 => ?_)
        · have hF := it_e hF c_32
          refine lv_aload_n hx hb dX8_sheet_39 rfl (lv_at hl 0 rfl) ?_
          refine r_get8 C hw 22 (by decide) rfl (v := .ref (q 29)) rfl q977 dX8_sheet_40 ?_
          refine lv_iload_n hx hb dX8_sheet_43 rfl (lv_at hl 1 rfl) ?_
          refine lv_iload_n hx hb dX8_sheet_44 rfl (lv_at hl 2 rfl) ?_
          obtain ⟨h_33, hF⟩ := gd_e hF
          obtain ⟨σ_34, eσ_34, hF⟩ := nm_e2 hF
          refine r_iast (i := 29) (n := 4) (g := 29) (st := 0) C hw hS (wi_lo (Or.inr ⟨by decide, by decide⟩)) rfl (fun _ => ho_lo (by decide)) h_33 dX8_sheet_45 eσ_34 (fun H locs hw hS => ?_)
          refine lv_aload_n hx hb dX8_sheet_46 rfl (lv_at hl 0 rfl) ?_
          refine r_get8 C hw 23 (by decide) rfl (v := .ref (q 30)) rfl q978 dX8_sheet_47 ?_
          refine lv_iload_n hx hb dX8_sheet_50 rfl (lv_at hl 1 rfl) ?_
          refine lv_iload_n hx hb dX8_sheet_51 rfl (lv_at hl 3 rfl) ?_
          obtain ⟨h_35, hF⟩ := gd_e hF
          obtain ⟨σ_36, eσ_36, hF⟩ := nm_e2 hF
          refine r_iast (i := 30) (n := 4) (g := 30) (st := 0) C hw hS (wi_lo (Or.inr ⟨by decide, by decide⟩)) rfl (fun _ => ho_lo (by decide)) h_35 dX8_sheet_52 eσ_36 (fun H locs hw hS => ?_)
          refine lv_iconst (v := (0 : Int32)) hx hb dX8_sheet_53 (by decide) ?_
          refine lv_istore (lv' := [(4, .int (0 : Int32)), (0, .ref (q 1)), (1, .int x1), (2, .int x2), (3, .int x3)]) hx hb dX8_sheet_54 hl (by decide) rfl (fun ls hl => ?_)
          exact w_X8_sheet_56 C   N _ _ _ _ _ _ hF hw hS (lv_sub hl [1, 2, 0] rfl)
        · have hF := if_e hF c_32
          refine lv_bipush (v := (-14 : Int32)) hx hb dX8_sheet_36 (by decide) ?_
          exact r_iret C hw hS hF dX8_sheet_38
      · have hF := if_e hF c_31
        refine lv_iconst (v := (-1 : Int32)) hx hb dX8_sheet_30 (by decide) ?_
        exact r_iret C hw hS hF dX8_sheet_31
abbrev rmX8_swap : Room := { frames := 5, cells := 0, slots := 0, locals := 158 }
noncomputable def F_X8_swap_142 (N : Nat) (K33 : Int32 → Int32 → Int32 → Int32 → Int32 → SS → Option (Int32 × SS)) (K51 : Int32 → Int32 → Int32 → Int32 → Int32 → Int32 → SS → Option (Int32 × SS)) (x1 : Int32) (x2 : Int32) (x3 : Int32) (x5 : Int32) (x6 : Int32) (x7 : Int32) (z0 : Int32) (σ : SS) : Option (Int32 × SS) :=
  if x7 ≤ x3 then
    nm (x6 + (1 : Int32)) fun x_37 =>
    K51 x1 x2 x3 z0 x5 x_37 σ
  else
    nm (x6 + (1 : Int32)) fun x_38 =>
    K51 x1 x2 x7 z0 x5 x_38 σ
set_option maxRecDepth 100000 in
theorem w_X8_swap_142 {p : Program} {l : Launch} {e : Env} {s : State} {m : MethodId} {args : Array Value} {below : List Frame} {meth : Method} {c : Code} {G : GG} {rd : Bool} {q : Nat → Nat} {N : Nat} {r : Int32} {σ' : SS} (C : cx p s m args meth c cX8_swap 8 RX8 (some .int) G) {K33 : Int32 → Int32 → Int32 → Int32 → Int32 → SS → Option (Int32 × SS)} (HK33 : ∀ (x1 : Int32) (x2 : Int32) (x3 : Int32) (x4 : Int32) (x5 : Int32) (σ : SS) (H : Heap) (locs : List Loc) (ls : Array Slot), K33 x1 x2 x3 x4 x5 σ = some (r, σ') → wx G rd q σ H → va_S (fa G) s.heap H locs → lv_has ls 8 [(0, .ref (q 1)), (1, .int x1), (2, .int x2), (3, .int x3), (4, .int x4), (5, .int x5)] → W p l e rmX8_swap s m args below meth c H locs 0 0 (MQ below (qxi G rd q σ' r) args s 0 0 (fa G)) (F0 m 33 ls [])) {K51 : Int32 → Int32 → Int32 → Int32 → Int32 → Int32 → SS → Option (Int32 × SS)} (HK51 : ∀ (x1 : Int32) (x2 : Int32) (x3 : Int32) (x4 : Int32) (x5 : Int32) (x6 : Int32) (σ : SS) (H : Heap) (locs : List Loc) (ls : Array Slot), K51 x1 x2 x3 x4 x5 x6 σ = some (r, σ') → wx G rd q σ H → va_S (fa G) s.heap H locs → lv_has ls 8 [(0, .ref (q 1)), (1, .int x1), (2, .int x2), (3, .int x3), (4, .int x4), (5, .int x5), (6, .int x6)] → W p l e rmX8_swap s m args below meth c H locs 0 0 (MQ below (qxi G rd q σ' r) args s 0 0 (fa G)) (F0 m 51 ls [])) : ∀ (x1 : Int32) (x2 : Int32) (x3 : Int32) (x5 : Int32) (x6 : Int32) (x7 : Int32) (z0 : Int32) (σ : SS) (H : Heap) (locs : List Loc) (ls : Array Slot), F_X8_swap_142 N K33 K51 x1 x2 x3 x5 x6 x7 z0 σ = some (r, σ') → wx G rd q σ H → va_S (fa G) s.heap H locs → lv_has ls 8 [(0, .ref (q 1)), (1, .int x1), (2, .int x2), (3, .int x3), (5, .int x5), (6, .int x6), (7, .int x7)] → W p l e rmX8_swap s m args below meth c H locs 0 0 (MQ below (qxi G rd q σ' r) args s 0 0 (fa G)) (F0 m 142 ls [.int z0]) := by
  obtain ⟨hx, hb, hml, hown, hts, -, -, -, -⟩ := id C
  intro x1 x2 x3 x5 x6 x7 z0 σ H locs ls hF hw hS hl
  unfold F_X8_swap_142 at hF
  refine lv_istore (lv' := [(4, .int z0), (0, .ref (q 1)), (1, .int x1), (2, .int x2), (3, .int x3), (5, .int x5), (6, .int x6), (7, .int x7)]) hx hb dX8_swap_142 hl (by decide) rfl (fun ls hl => ?_)
  refine lv_iload hx hb dX8_swap_144 (lv_at hl 7 rfl) ?_
  refine lv_iload_n hx hb dX8_swap_146 rfl (lv_at hl 4 rfl) ?_
  refine lv_icmp_le (tgt := 155) hx hb dX8_swap_147 (by decide) (fun c_36 => ?_) (fun c_36 => ?_)
  · have hF := it_e hF c_36
    refine lv_iload_n hx hb dX8_swap_155 rfl (lv_at hl 4 rfl) ?_
    refine lv_istore_n (lv' := [(3, .int x3), (4, .int z0), (0, .ref (q 1)), (1, .int x1), (2, .int x2), (5, .int x5), (6, .int x6), (7, .int x7)]) hx hb dX8_swap_156 rfl hl (by decide) rfl (fun ls hl => ?_)
    obtain ⟨x_37, ex_37, hF⟩ := nm_e2 hF
    refine lv_iinc (v := x_37) (lv' := [(6, .int x_37), (3, .int x3), (4, .int z0), (0, .ref (q 1)), (1, .int x1), (2, .int x2), (5, .int x5), (7, .int x7)]) hx hb dX8_swap_157 hl (k := 6) rfl (by rw [ex_37]; rfl) (by decide) rfl (fun ls hl => ?_)
    refine lv_goto (tgt := 51) hx hb dX8_swap_160 (by decide) ?_
    exact HK51 _ _ _ _ _ _ _ _ _ _ hF hw hS (lv_sub hl [3, 4, 5, 1, 2, 6, 0] rfl)
  · have hF := if_e hF c_36
    refine lv_iload hx hb dX8_swap_150 (lv_at hl 7 rfl) ?_
    refine lv_goto (tgt := 156) hx hb dX8_swap_152 (by decide) ?_
    refine lv_istore_n (lv' := [(3, .int x7), (4, .int z0), (0, .ref (q 1)), (1, .int x1), (2, .int x2), (5, .int x5), (6, .int x6), (7, .int x7)]) hx hb dX8_swap_156 rfl hl (by decide) rfl (fun ls hl => ?_)
    obtain ⟨x_38, ex_38, hF⟩ := nm_e2 hF
    refine lv_iinc (v := x_38) (lv' := [(6, .int x_38), (3, .int x7), (4, .int z0), (0, .ref (q 1)), (1, .int x1), (2, .int x2), (5, .int x5), (7, .int x7)]) hx hb dX8_swap_157 hl (k := 6) rfl (by rw [ex_38]; rfl) (by decide) rfl (fun ls hl => ?_)
    refine lv_goto (tgt := 51) hx hb dX8_swap_160 (by decide) ?_
    exact HK51 _ _ _ _ _ _ _ _ _ _ hF hw hS (lv_sub hl [3, 4, 5, 1, 2, 6, 0] rfl)
noncomputable def B_X8_swap_51 (N : Nat) (K33 : Int32 → Int32 → Int32 → Int32 → Int32 → SS → Option (Int32 × SS)) (IH : Int32 → Int32 → Int32 → Int32 → Int32 → Int32 → SS → Option (Int32 × SS)) (x1 : Int32) (x2 : Int32) (x3 : Int32) (x4 : Int32) (x5 : Int32) (x6 : Int32) (σ : SS) : Option (Int32 × SS) :=
  gd (inR (33 : Int32) 234) <|
  if (gi σ 21 (33 : Int32).toNatClampNeg) ≤ x6 then
    nm (x5 + (1 : Int32)) fun x_41 =>
    K33 x1 x2 x3 x4 x_41 σ
  else
    bd (F_X8_copies N (0 : Int32) (195 : Int32) σ) fun r_42 σ_43 =>
    gd (inR ((17 : Int32) + x6) 234) <|
    gd (inR ((212 : Int32) + x5) 234) <|
    nm (si σ_43 21 ((212 : Int32) + x5).toNatClampNeg (gi σ_43 21 ((17 : Int32) + x6).toNatClampNeg)) fun σ_47 =>
    gd (inR ((17 : Int32) + x5) 234) <|
    gd (inR ((212 : Int32) + x6) 234) <|
    nm (si σ_47 21 ((212 : Int32) + x6).toNatClampNeg (gi σ_47 21 ((17 : Int32) + x5).toNatClampNeg)) fun σ_50 =>
    bd (F_X8_ticksGo N (195 : Int32) x1 σ_50) fun r_51 σ_52 =>
    if r_51 ≤ x3 then
      F_X8_swap_142 N K33 IH x1 x2 x3 x5 x6 r_51 x4 σ_52
    else
      F_X8_swap_142 N K33 IH x1 x2 x3 x5 x6 r_51 (((100 : Int32) * x5) + x6) σ_52
noncomputable def F_X8_swap_51 (N : Nat) (K33 : Int32 → Int32 → Int32 → Int32 → Int32 → SS → Option (Int32 × SS)) (n : Nat) : Int32 → Int32 → Int32 → Int32 → Int32 → Int32 → SS → Option (Int32 × SS) := Nat.rec (fun _ _ _ _ _ _ _ => none) (fun _ IH => B_X8_swap_51 N K33 IH) n
set_option maxRecDepth 100000 in
theorem w_X8_swap_51 {p : Program} {l : Launch} {e : Env} {s : State} {m : MethodId} {args : Array Value} {below : List Frame} {meth : Method} {c : Code} {G : GG} {rd : Bool} {q : Nat → Nat} {N : Nat} {r : Int32} {σ' : SS} (C : cx p s m args meth c cX8_swap 8 RX8 (some .int) G) {K33 : Int32 → Int32 → Int32 → Int32 → Int32 → SS → Option (Int32 × SS)} (HK33 : ∀ (x1 : Int32) (x2 : Int32) (x3 : Int32) (x4 : Int32) (x5 : Int32) (σ : SS) (H : Heap) (locs : List Loc) (ls : Array Slot), K33 x1 x2 x3 x4 x5 σ = some (r, σ') → wx G rd q σ H → va_S (fa G) s.heap H locs → lv_has ls 8 [(0, .ref (q 1)), (1, .int x1), (2, .int x2), (3, .int x3), (4, .int x4), (5, .int x5)] → W p l e rmX8_swap s m args below meth c H locs 0 0 (MQ below (qxi G rd q σ' r) args s 0 0 (fa G)) (F0 m 33 ls [])) : ∀ (n : Nat), ∀ (x1 : Int32) (x2 : Int32) (x3 : Int32) (x4 : Int32) (x5 : Int32) (x6 : Int32) (σ : SS) (H : Heap) (locs : List Loc) (ls : Array Slot), F_X8_swap_51 N K33 n x1 x2 x3 x4 x5 x6 σ = some (r, σ') → wx G rd q σ H → va_S (fa G) s.heap H locs → lv_has ls 8 [(0, .ref (q 1)), (1, .int x1), (2, .int x2), (3, .int x3), (4, .int x4), (5, .int x5), (6, .int x6)] → W p l e rmX8_swap s m args below meth c H locs 0 0 (MQ below (qxi G rd q σ' r) args s 0 0 (fa G)) (F0 m 51 ls []) := by
  obtain ⟨hx, hb, hml, hown, hts, -, -, -, -⟩ := id C
  intro n
  induction n with
  | zero =>
    intro x1 x2 x3 x4 x5 x6 σ H locs ls hF hw hS hl
    cases hF
  | succ n ih =>
    intro x1 x2 x3 x4 x5 x6 σ H locs ls hF hw hS hl
    have hF : B_X8_swap_51 N K33 (F_X8_swap_51 N K33 n) x1 x2 x3 x4 x5 x6 σ = some (r, σ') := hF
    unfold B_X8_swap_51 at hF
    refine lv_iload hx hb dX8_swap_51 (lv_at hl 6 rfl) ?_
    refine lv_aload_n hx hb dX8_swap_53 rfl (lv_at hl 0 rfl) ?_
    refine r_get8 C hw 0 (by decide) rfl (v := .ref (q 21)) rfl q955 dX8_swap_54 ?_
    refine lv_bipush (v := (33 : Int32)) hx hb dX8_swap_57 (by decide) ?_
    obtain ⟨h_39, hF⟩ := gd_e hF
    refine r_iald (i := 21) (n := 234) (g := 21) (st := 0) C hw (wi_lo (Or.inr ⟨by decide, by decide⟩)) rfl h_39 dX8_swap_59 ?_
    refine lv_icmp_ge (tgt := 163) hx hb dX8_swap_60 (by decide) (fun c_40 => ?_) (fun c_40 => ?_)
    · have hF := it_e hF c_40
      obtain ⟨x_41, ex_41, hF⟩ := nm_e2 hF
      refine lv_iinc (v := x_41) (lv' := [(5, .int x_41), (0, .ref (q 1)), (1, .int x1), (2, .int x2), (3, .int x3), (4, .int x4), (6, .int x6)]) hx hb dX8_swap_163 hl (k := 5) rfl (by rw [ex_41]; rfl) (by decide) rfl (fun ls hl => ?_)
      refine lv_goto (tgt := 33) hx hb dX8_swap_166 (by decide) ?_
      exact HK33 _ _ _ _ _ _ _ _ _ hF hw hS (lv_sub hl [1, 2, 3, 4, 5, 0] rfl)
    · have hF := if_e hF c_40
      refine lv_aload_n hx hb dX8_swap_63 rfl (lv_at hl 0 rfl) ?_
      refine lv_iconst (v := (0 : Int32)) hx hb dX8_swap_64 (by decide) ?_
      refine lv_sipush (v := (195 : Int32)) hx hb dX8_swap_65 (by decide) ?_
      obtain ⟨r_42, σ_43, h_44, hF⟩ := bd_e hF
      refine r_callVv (As := [.int (0 : Int32), .int (195 : Int32)]) (rest := []) (i := 1) C hw hS (wi_lo (Or.inl (by decide))) rfl (ci := 8) rfl (met_X8_copies l G rd q  h_44) (cwV 2 hts (lw_V q1192 q1194 qs48 q65 q1195) rfl rfl rfl (by decide +kernel) ⟨Nat.le_of_ble_eq_true rfl, Nat.le_of_ble_eq_true rfl⟩) rfl hl.1 rfl (Nat.le_of_ble_eq_true rfl) ⟨Nat.le_refl _, Nat.le_refl _⟩ dX8_swap_68 (fun H locs hw hS => ?_)
      refine lv_aload_n hx hb dX8_swap_71 rfl (lv_at hl 0 rfl) ?_
      refine r_get8 C hw 0 (by decide) rfl (v := .ref (q 21)) rfl q955 dX8_swap_72 ?_
      refine lv_sipush (v := (212 : Int32)) hx hb dX8_swap_75 (by decide) ?_
      refine lv_iload hx hb dX8_swap_78 (lv_at hl 5 rfl) ?_
      refine lv_iadd hx hb dX8_swap_80 ?_
      refine lv_aload_n hx hb dX8_swap_81 rfl (lv_at hl 0 rfl) ?_
      refine r_get8 C hw 0 (by decide) rfl (v := .ref (q 21)) rfl q955 dX8_swap_82 ?_
      refine lv_bipush (v := (17 : Int32)) hx hb dX8_swap_85 (by decide) ?_
      refine lv_iload hx hb dX8_swap_87 (lv_at hl 6 rfl) ?_
      refine lv_iadd hx hb dX8_swap_89 ?_
      obtain ⟨h_45, hF⟩ := gd_e hF
      refine r_iald (i := 21) (n := 234) (g := 21) (st := 0) C hw (wi_lo (Or.inr ⟨by decide, by decide⟩)) rfl h_45 dX8_swap_90 ?_
      obtain ⟨h_46, hF⟩ := gd_e hF
      obtain ⟨σ_47, eσ_47, hF⟩ := nm_e2 hF
      refine r_iast (i := 21) (n := 234) (g := 21) (st := 0) C hw hS (wi_lo (Or.inr ⟨by decide, by decide⟩)) rfl (fun _ => ho_lo (by decide)) h_46 dX8_swap_91 eσ_47 (fun H locs hw hS => ?_)
      refine lv_aload_n hx hb dX8_swap_92 rfl (lv_at hl 0 rfl) ?_
      refine r_get8 C hw 0 (by decide) rfl (v := .ref (q 21)) rfl q955 dX8_swap_93 ?_
      refine lv_sipush (v := (212 : Int32)) hx hb dX8_swap_96 (by decide) ?_
      refine lv_iload hx hb dX8_swap_99 (lv_at hl 6 rfl) ?_
      refine lv_iadd hx hb dX8_swap_101 ?_
      refine lv_aload_n hx hb dX8_swap_102 rfl (lv_at hl 0 rfl) ?_
      refine r_get8 C hw 0 (by decide) rfl (v := .ref (q 21)) rfl q955 dX8_swap_103 ?_
      refine lv_bipush (v := (17 : Int32)) hx hb dX8_swap_106 (by decide) ?_
      refine lv_iload hx hb dX8_swap_108 (lv_at hl 5 rfl) ?_
      refine lv_iadd hx hb dX8_swap_110 ?_
      obtain ⟨h_48, hF⟩ := gd_e hF
      refine r_iald (i := 21) (n := 234) (g := 21) (st := 0) C hw (wi_lo (Or.inr ⟨by decide, by decide⟩)) rfl h_48 dX8_swap_111 ?_
      obtain ⟨h_49, hF⟩ := gd_e hF
      obtain ⟨σ_50, eσ_50, hF⟩ := nm_e2 hF
      refine r_iast (i := 21) (n := 234) (g := 21) (st := 0) C hw hS (wi_lo (Or.inr ⟨by decide, by decide⟩)) rfl (fun _ => ho_lo (by decide)) h_49 dX8_swap_112 eσ_50 (fun H locs hw hS => ?_)
      refine lv_aload_n hx hb dX8_swap_113 rfl (lv_at hl 0 rfl) ?_
      refine lv_sipush (v := (195 : Int32)) hx hb dX8_swap_114 (by decide) ?_
      refine lv_iload_n hx hb dX8_swap_117 rfl (lv_at hl 1 rfl) ?_
      obtain ⟨r_51, σ_52, h_53, hF⟩ := bd_e hF
      refine r_callVi (As := [.int (195 : Int32), .int x1]) (rest := []) (i := 1) C hw hS (wi_lo (Or.inl (by decide))) rfl (ci := 8) rfl (met_X8_ticksGo l G rd q  h_53) (cwV 2 hts (lw_V q1188 q1190 qs47 q65 q1191) rfl rfl rfl (by decide +kernel) ⟨Nat.le_of_ble_eq_true rfl, Nat.le_of_ble_eq_true rfl⟩) rfl hl.1 rfl (Nat.le_of_ble_eq_true rfl) ⟨Nat.le_refl _, Nat.le_refl _⟩ dX8_swap_118 (fun H locs hw hS => ?_)
      refine lv_istore (lv' := [(7, .int r_51), (0, .ref (q 1)), (1, .int x1), (2, .int x2), (3, .int x3), (4, .int x4), (5, .int x5), (6, .int x6)]) hx hb dX8_swap_121 hl (by decide) rfl (fun ls hl => ?_)
      refine lv_iload hx hb dX8_swap_123 (lv_at hl 0 rfl) ?_
      refine lv_iload_n hx hb dX8_swap_125 rfl (lv_at hl 4 rfl) ?_
      refine lv_icmp_le (tgt := 140) hx hb dX8_swap_126 (by decide) (fun c_54 => ?_) (fun c_54 => ?_)
      · have hF := it_e hF c_54
        refine lv_iload hx hb dX8_swap_140 (lv_at hl 5 rfl) ?_
        exact w_X8_swap_142 C  HK33 ih _ _ _ _ _ _ _ _ _ _ _ hF hw hS (lv_sub hl [1, 2, 3, 4, 6, 7, 0] rfl)
      · have hF := if_e hF c_54
        refine lv_bipush (v := (100 : Int32)) hx hb dX8_swap_129 (by decide) ?_
        refine lv_iload hx hb dX8_swap_131 (lv_at hl 6 rfl) ?_
        refine lv_imul hx hb dX8_swap_133 ?_
        refine lv_iload hx hb dX8_swap_134 (lv_at hl 7 rfl) ?_
        refine lv_iadd hx hb dX8_swap_136 ?_
        refine lv_goto (tgt := 142) hx hb dX8_swap_137 (by decide) ?_
        exact w_X8_swap_142 C  HK33 ih _ _ _ _ _ _ _ _ _ _ _ hF hw hS (lv_sub hl [1, 2, 3, 4, 6, 7, 0] rfl)
noncomputable def B_X8_swap_33 (N : Nat) (IH : Int32 → Int32 → Int32 → Int32 → Int32 → SS → Option (Int32 × SS)) (x1 : Int32) (x2 : Int32) (x3 : Int32) (x4 : Int32) (x5 : Int32) (σ : SS) : Option (Int32 × SS) :=
  gd (inR (33 : Int32) 234) <|
  if (gi σ 21 (33 : Int32).toNatClampNeg) ≤ x5 then
    if x4 = (-4 : Int32) then
      some (x4, σ)
    else
      if x2 = (0 : Int32) then
        some (x4, σ)
      else
        some (x3, σ)
  else
    nm (x5 + (1 : Int32)) fun x_59 =>
    F_X8_swap_51 N IH N x1 x2 x3 x4 x5 x_59 σ
noncomputable def F_X8_swap_33 (N : Nat) (n : Nat) : Int32 → Int32 → Int32 → Int32 → Int32 → SS → Option (Int32 × SS) := Nat.rec (fun _ _ _ _ _ _ => none) (fun _ IH => B_X8_swap_33 N IH) n
set_option maxRecDepth 100000 in
theorem w_X8_swap_33 {p : Program} {l : Launch} {e : Env} {s : State} {m : MethodId} {args : Array Value} {below : List Frame} {meth : Method} {c : Code} {G : GG} {rd : Bool} {q : Nat → Nat} {N : Nat} {r : Int32} {σ' : SS} (C : cx p s m args meth c cX8_swap 8 RX8 (some .int) G) : ∀ (n : Nat), ∀ (x1 : Int32) (x2 : Int32) (x3 : Int32) (x4 : Int32) (x5 : Int32) (σ : SS) (H : Heap) (locs : List Loc) (ls : Array Slot), F_X8_swap_33 N n x1 x2 x3 x4 x5 σ = some (r, σ') → wx G rd q σ H → va_S (fa G) s.heap H locs → lv_has ls 8 [(0, .ref (q 1)), (1, .int x1), (2, .int x2), (3, .int x3), (4, .int x4), (5, .int x5)] → W p l e rmX8_swap s m args below meth c H locs 0 0 (MQ below (qxi G rd q σ' r) args s 0 0 (fa G)) (F0 m 33 ls []) := by
  obtain ⟨hx, hb, hml, hown, hts, -, -, -, -⟩ := id C
  intro n
  induction n with
  | zero =>
    intro x1 x2 x3 x4 x5 σ H locs ls hF hw hS hl
    cases hF
  | succ n ih =>
    intro x1 x2 x3 x4 x5 σ H locs ls hF hw hS hl
    have hF : B_X8_swap_33 N (F_X8_swap_33 N n) x1 x2 x3 x4 x5 σ = some (r, σ') := hF
    unfold B_X8_swap_33 at hF
    refine lv_iload hx hb dX8_swap_33 (lv_at hl 5 rfl) ?_
    refine lv_aload_n hx hb dX8_swap_35 rfl (lv_at hl 0 rfl) ?_
    refine r_get8 C hw 0 (by decide) rfl (v := .ref (q 21)) rfl q955 dX8_swap_36 ?_
    refine lv_bipush (v := (33 : Int32)) hx hb dX8_swap_39 (by decide) ?_
    obtain ⟨h_55, hF⟩ := gd_e hF
    refine r_iald (i := 21) (n := 234) (g := 21) (st := 0) C hw (wi_lo (Or.inr ⟨by decide, by decide⟩)) rfl h_55 dX8_swap_41 ?_
    refine lv_icmp_ge (tgt := 169) hx hb dX8_swap_42 (by decide) (fun c_56 => ?_) (fun c_56 => ?_)
    · have hF := it_e hF c_56
      refine lv_iload hx hb dX8_swap_169 (lv_at hl 4 rfl) ?_
      refine lv_bipush (v := (-4 : Int32)) hx hb dX8_swap_171 (by decide) ?_
      refine lv_icmp_eq (tgt := 180) hx hb dX8_swap_173 (by decide) (fun c_57 => ?_) (fun c_57 => ?_)
      · have hF := it_e hF c_57
        refine lv_iload hx hb dX8_swap_180 (lv_at hl 4 rfl) ?_
        refine lv_goto (tgt := 186) hx hb dX8_swap_182 (by decide) ?_
        exact r_iret C hw hS hF dX8_swap_186
      · have hF := if_e hF c_57
        refine lv_iload_n hx hb dX8_swap_176 rfl (lv_at hl 2 rfl) ?_
        refine lv_if_ne (tgt := 185) hx hb dX8_swap_177 (by decide) (fun c_58 => ?_) (fun c_58 => ?_)
        · have hF := if_e hF c_58
          refine lv_iload_n hx hb dX8_swap_185 rfl (lv_at hl 3 rfl) ?_
          exact r_iret C hw hS hF dX8_swap_186
        · have hF := it_e hF c_58
          refine lv_iload hx hb dX8_swap_180 (lv_at hl 4 rfl) ?_
          refine lv_goto (tgt := 186) hx hb dX8_swap_182 (by decide) ?_
          exact r_iret C hw hS hF dX8_swap_186
    · have hF := if_e hF c_56
      refine lv_iload hx hb dX8_swap_45 (lv_at hl 5 rfl) ?_
      refine lv_iconst (v := (1 : Int32)) hx hb dX8_swap_47 (by decide) ?_
      refine lv_iadd hx hb dX8_swap_48 ?_
      obtain ⟨x_59, ex_59, hF⟩ := nm_e2 hF
      refine r_topi ex_59 ?_
      refine lv_istore (lv' := [(6, .int x_59), (0, .ref (q 1)), (1, .int x1), (2, .int x2), (3, .int x3), (4, .int x4), (5, .int x5)]) hx hb dX8_swap_49 hl (by decide) rfl (fun ls hl => ?_)
      exact w_X8_swap_51 C  ih N _ _ _ _ _ _ _ _ _ _ hF hw hS (lv_sub hl [1, 2, 3, 4, 5, 6, 0] rfl)
noncomputable def F_X8_swap (N : Nat) (x1 : Int32) (x2 : Int32) (σ : SS) : Option (Int32 × SS) :=
  bd (F_X8_isLong N x1 σ) fun r_60 σ_61 =>
  if r_60 = (0 : Int32) then
    some ((-1 : Int32), σ_61)
  else
    bd (F_X8_in N x2.toInt64 (0 : Int64) (1 : Int64) σ_61) fun r_64 σ_65 =>
    if r_64 = (0 : Int32) then
      some ((-1 : Int32), σ_65)
    else
      bd (F_X8_ticksGo N (0 : Int32) x1 σ_65) fun r_68 σ_69 =>
      F_X8_swap_33 N N x1 x2 r_68 (-4 : Int32) (0 : Int32) σ_69
set_option maxRecDepth 100000 in
theorem met_X8_swap (l : Launch) (G : GG) (rd : Bool) (q : Nat → Nat) {N : Nat} {x1 : Int32} {x2 : Int32} {σ σ' : SS} {r : Int32} (hF : F_X8_swap N x1 x2 σ = some (r, σ')) : Met l yX8_swap (ws_ yX8_swap cX8_swap 8 (some .int)) rmX8_swap (pcx G rd q σ [.ref (q 1), .int x1, .int x2]) (qxi G rd q σ' r) 0 0 (fa G) := by
  refine met_of (by decide) (Nat.le_of_ble_eq_true rfl) ?_
  intro p e s m below meth c C H locs ls hw hS hl
  obtain ⟨hx, hb, hml, hown, hts, -, -, -, -⟩ := id C
  have hl : lv_has ls 8 [(0, .ref (q 1)), (1, .int x1), (2, .int x2)] := hl
  unfold F_X8_swap at hF
  refine lv_iload_n hx hb dX8_swap_0 rfl (lv_at hl 1 rfl) ?_
  obtain ⟨r_60, σ_61, h_62, hF⟩ := bd_e hF
  refine r_callSi (As := [.int x1]) (rest := []) C hw hS (met_X8_isLong l G rd q  h_62) (cwS 1 hts (lw_S q1183 q1184 q65 q1185) rfl rfl rfl (by decide +kernel) ⟨Nat.le_of_ble_eq_true rfl, Nat.le_of_ble_eq_true rfl⟩) rfl hl.1 rfl (Nat.le_of_ble_eq_true rfl) ⟨Nat.le_refl _, Nat.le_refl _⟩ dX8_swap_1 (fun H locs hw hS => ?_)
  refine lv_if_eq (tgt := 17) hx hb dX8_swap_4 (by decide) (fun c_63 => ?_) (fun c_63 => ?_)
  · have hF := it_e hF c_63
    refine lv_iconst (v := (-1 : Int32)) hx hb dX8_swap_17 (by decide) ?_
    exact r_iret C hw hS hF dX8_swap_18
  · have hF := if_e hF c_63
    refine lv_iload_n hx hb dX8_swap_7 rfl (lv_at hl 2 rfl) ?_
    refine lv_i2l hx hb dX8_swap_8 rfl ?_
    refine lv_lconst (v := (0 : Int64)) hx hb dX8_swap_9 (by decide) ?_
    refine lv_lconst (v := (1 : Int64)) hx hb dX8_swap_10 (by decide) ?_
    obtain ⟨r_64, σ_65, h_66, hF⟩ := bd_e hF
    refine r_callSi (As := [.long x2.toInt64, .long (0 : Int64), .long (1 : Int64)]) (rest := []) C hw hS (met_X8_in l G rd q  h_66) (cwS 3 hts (lw_S q1040 q1041 q65 q1042) rfl rfl rfl (by decide +kernel) ⟨Nat.le_of_ble_eq_true rfl, Nat.le_of_ble_eq_true rfl⟩) rfl hl.1 rfl (Nat.le_of_ble_eq_true rfl) ⟨Nat.le_refl _, Nat.le_refl _⟩ dX8_swap_11 (fun H locs hw hS => ?_)
    refine lv_if_ne (tgt := 19) hx hb dX8_swap_14 (by decide) (fun c_67 => ?_) (fun c_67 => ?_)
    · have hF := if_e hF c_67
      refine lv_aload_n hx hb dX8_swap_19 rfl (lv_at hl 0 rfl) ?_
      refine lv_iconst (v := (0 : Int32)) hx hb dX8_swap_20 (by decide) ?_
      refine lv_iload_n hx hb dX8_swap_21 rfl (lv_at hl 1 rfl) ?_
      obtain ⟨r_68, σ_69, h_70, hF⟩ := bd_e hF
      refine r_callVi (As := [.int (0 : Int32), .int x1]) (rest := []) (i := 1) C hw hS (wi_lo (Or.inl (by decide))) rfl (ci := 8) rfl (met_X8_ticksGo l G rd q  h_70) (cwV 2 hts (lw_V q1188 q1190 qs47 q65 q1191) rfl rfl rfl (by decide +kernel) ⟨Nat.le_of_ble_eq_true rfl, Nat.le_of_ble_eq_true rfl⟩) rfl hl.1 rfl (Nat.le_of_ble_eq_true rfl) ⟨Nat.le_refl _, Nat.le_refl _⟩ dX8_swap_22 (fun H locs hw hS => ?_)
      refine lv_istore_n (lv' := [(3, .int r_68), (0, .ref (q 1)), (1, .int x1), (2, .int x2)]) hx hb dX8_swap_25 rfl hl (by decide) rfl (fun ls hl => ?_)
      refine lv_bipush (v := (-4 : Int32)) hx hb dX8_swap_26 (by decide) ?_
      refine lv_istore (lv' := [(4, .int (-4 : Int32)), (3, .int r_68), (0, .ref (q 1)), (1, .int x1), (2, .int x2)]) hx hb dX8_swap_28 hl (by decide) rfl (fun ls hl => ?_)
      refine lv_iconst (v := (0 : Int32)) hx hb dX8_swap_30 (by decide) ?_
      refine lv_istore (lv' := [(5, .int (0 : Int32)), (4, .int (-4 : Int32)), (3, .int r_68), (0, .ref (q 1)), (1, .int x1), (2, .int x2)]) hx hb dX8_swap_31 hl (by decide) rfl (fun ls hl => ?_)
      exact w_X8_swap_33 C   N _ _ _ _ _ _ _ _ _ hF hw hS (lv_sub hl [3, 4, 5, 2, 1, 0] rfl)
    · have hF := it_e hF c_67
      refine lv_iconst (v := (-1 : Int32)) hx hb dX8_swap_17 (by decide) ?_
      exact r_iret C hw hS hF dX8_swap_18
abbrev rmX8_text : Room := { frames := 6, cells := 0, slots := 0, locals := 172 }
noncomputable def B_X8_text_96 (N : Nat) (IH : Int32 → Int32 → SS → Option (Int32 × SS)) (x1 : Int32) (x2 : Int32) (σ : SS) : Option (Int32 × SS) :=
  if (39 : Int32) ≤ x2 then
    nm (si σ 1 19 (0 : Int32)) fun σ_31 =>
    gd (inR (0 : Int32) 2) <|
    nm (si σ_31 28 (0 : Int32).toNatClampNeg (vp_nar .boolean (0 : Int32))) fun σ_33 =>
    gd (inR (1 : Int32) 2) <|
    nm (si σ_33 28 (1 : Int32).toNatClampNeg (vp_nar .boolean (0 : Int32))) fun σ_35 =>
    some (x1, σ_35)
  else
    gd (inR x2 39) <|
    gd (inR x2 234) <|
    nm (si σ 21 x2.toNatClampNeg (gi σ 22 x2.toNatClampNeg)) fun σ_38 =>
    nm (x2 + (1 : Int32)) fun x_39 =>
    IH x1 x_39 σ_38
noncomputable def F_X8_text_96 (N : Nat) (n : Nat) : Int32 → Int32 → SS → Option (Int32 × SS) := Nat.rec (fun _ _ _ => none) (fun _ IH => B_X8_text_96 N IH) n
set_option maxRecDepth 100000 in
theorem w_X8_text_96 {p : Program} {l : Launch} {e : Env} {s : State} {m : MethodId} {args : Array Value} {below : List Frame} {meth : Method} {c : Code} {G : GG} {rd : Bool} {q : Nat → Nat} {N : Nat} {r : Int32} {σ' : SS} (C : cx p s m args meth c cX8_text 3 RX8 (some .int) G) : ∀ (n : Nat), ∀ (x1 : Int32) (x2 : Int32) (σ : SS) (H : Heap) (locs : List Loc) (ls : Array Slot), F_X8_text_96 N n x1 x2 σ = some (r, σ') → wx G rd q σ H → va_S (fa G) s.heap H locs → lv_has ls 3 [(0, .ref (q 1)), (1, .int x1), (2, .int x2)] → W p l e rmX8_text s m args below meth c H locs 0 0 (MQ below (qxi G rd q σ' r) args s 0 0 (fa G)) (F0 m 96 ls []) := by
  obtain ⟨hx, hb, hml, hown, hts, -, -, -, -⟩ := id C
  intro n
  induction n with
  | zero =>
    intro x1 x2 σ H locs ls hF hw hS hl
    cases hF
  | succ n ih =>
    intro x1 x2 σ H locs ls hF hw hS hl
    have hF : B_X8_text_96 N (F_X8_text_96 N n) x1 x2 σ = some (r, σ') := hF
    unfold B_X8_text_96 at hF
    refine lv_iload_n hx hb dX8_text_96 rfl (lv_at hl 2 rfl) ?_
    refine lv_bipush (v := (39 : Int32)) hx hb dX8_text_97 (by decide) ?_
    refine lv_icmp_ge (tgt := 120) hx hb dX8_text_99 (by decide) (fun c_30 => ?_) (fun c_30 => ?_)
    · have hF := it_e hF c_30
      refine lv_aload_n hx hb dX8_text_120 rfl (lv_at hl 0 rfl) ?_
      refine lv_iconst (v := (0 : Int32)) hx hb dX8_text_121 (by decide) ?_
      obtain ⟨σ_31, eσ_31, hF⟩ := nm_e2 hF
      refine r_put8 C hw hS 19 (by decide) rfl rfl (tyX8_ok 19 (by decide)) rfl rfl q974 dX8_text_122 eσ_31 (fun H locs hw hS => ?_)
      refine lv_aload_n hx hb dX8_text_125 rfl (lv_at hl 0 rfl) ?_
      refine r_get8 C hw 21 (by decide) rfl (v := .ref (q 28)) rfl q976 dX8_text_126 ?_
      refine lv_iconst (v := (0 : Int32)) hx hb dX8_text_129 (by decide) ?_
      refine lv_iconst (v := (0 : Int32)) hx hb dX8_text_130 (by decide) ?_
      obtain ⟨h_32, hF⟩ := gd_e hF
      obtain ⟨σ_33, eσ_33, hF⟩ := nm_e2 hF
      refine r_zast (i := 28) (n := 2) (g := 28) (st := 0) C hw hS (wi_lo (Or.inr ⟨by decide, by decide⟩)) rfl (fun _ => ho_lo (by decide)) h_32 dX8_text_131 eσ_33 (fun H locs hw hS => ?_)
      refine lv_aload_n hx hb dX8_text_132 rfl (lv_at hl 0 rfl) ?_
      refine r_get8 C hw 21 (by decide) rfl (v := .ref (q 28)) rfl q976 dX8_text_133 ?_
      refine lv_iconst (v := (1 : Int32)) hx hb dX8_text_136 (by decide) ?_
      refine lv_iconst (v := (0 : Int32)) hx hb dX8_text_137 (by decide) ?_
      obtain ⟨h_34, hF⟩ := gd_e hF
      obtain ⟨σ_35, eσ_35, hF⟩ := nm_e2 hF
      refine r_zast (i := 28) (n := 2) (g := 28) (st := 0) C hw hS (wi_lo (Or.inr ⟨by decide, by decide⟩)) rfl (fun _ => ho_lo (by decide)) h_34 dX8_text_138 eσ_35 (fun H locs hw hS => ?_)
      refine lv_iload_n hx hb dX8_text_139 rfl (lv_at hl 1 rfl) ?_
      exact r_iret C hw hS hF dX8_text_140
    · have hF := if_e hF c_30
      refine lv_aload_n hx hb dX8_text_102 rfl (lv_at hl 0 rfl) ?_
      refine r_get8 C hw 0 (by decide) rfl (v := .ref (q 21)) rfl q955 dX8_text_103 ?_
      refine lv_iload_n hx hb dX8_text_106 rfl (lv_at hl 2 rfl) ?_
      refine lv_aload_n hx hb dX8_text_107 rfl (lv_at hl 0 rfl) ?_
      refine r_get8 C hw 1 (by decide) rfl (v := .ref (q 22)) rfl q956 dX8_text_108 ?_
      refine lv_iload_n hx hb dX8_text_111 rfl (lv_at hl 2 rfl) ?_
      obtain ⟨h_36, hF⟩ := gd_e hF
      refine r_iald (i := 22) (n := 39) (g := 22) (st := 0) C hw (wi_lo (Or.inr ⟨by decide, by decide⟩)) rfl h_36 dX8_text_112 ?_
      obtain ⟨h_37, hF⟩ := gd_e hF
      obtain ⟨σ_38, eσ_38, hF⟩ := nm_e2 hF
      refine r_iast (i := 21) (n := 234) (g := 21) (st := 0) C hw hS (wi_lo (Or.inr ⟨by decide, by decide⟩)) rfl (fun _ => ho_lo (by decide)) h_37 dX8_text_113 eσ_38 (fun H locs hw hS => ?_)
      obtain ⟨x_39, ex_39, hF⟩ := nm_e2 hF
      refine lv_iinc (v := x_39) (lv' := [(2, .int x_39), (0, .ref (q 1)), (1, .int x1)]) hx hb dX8_text_114 hl (k := 2) rfl (by rw [ex_39]; rfl) (by decide) rfl (fun ls hl => ?_)
      refine lv_goto (tgt := 96) hx hb dX8_text_117 (by decide) ?_
      exact ih _ _ _ _ _ _ hF hw hS (lv_sub hl [1, 2, 0] rfl)
noncomputable def F_X8_text_66 (N : Nat) (x1 : Int32) (σ : SS) : Option (Int32 × SS) :=
  nm (si σ 1 4 (0 : Int32)) fun σ_40 =>
  nm (si σ_40 1 5 (gi σ_40 1 6)) fun σ_41 =>
  if (gi σ_41 1 6) ≤ (0 : Int32) then
    F_X8_text_96 N N x1 (0 : Int32) σ_41
  else
    some ((-10 : Int32) - (gi σ_41 1 7), σ_41)
set_option maxRecDepth 100000 in
theorem w_X8_text_66 {p : Program} {l : Launch} {e : Env} {s : State} {m : MethodId} {args : Array Value} {below : List Frame} {meth : Method} {c : Code} {G : GG} {rd : Bool} {q : Nat → Nat} {N : Nat} {r : Int32} {σ' : SS} (C : cx p s m args meth c cX8_text 3 RX8 (some .int) G) : ∀ (x1 : Int32) (σ : SS) (H : Heap) (locs : List Loc) (ls : Array Slot), F_X8_text_66 N x1 σ = some (r, σ') → wx G rd q σ H → va_S (fa G) s.heap H locs → lv_has ls 3 [(0, .ref (q 1)), (1, .int x1)] → W p l e rmX8_text s m args below meth c H locs 0 0 (MQ below (qxi G rd q σ' r) args s 0 0 (fa G)) (F0 m 66 ls []) := by
  obtain ⟨hx, hb, hml, hown, hts, -, -, -, -⟩ := id C
  intro x1 σ H locs ls hF hw hS hl
  unfold F_X8_text_66 at hF
  refine lv_aload_n hx hb dX8_text_66 rfl (lv_at hl 0 rfl) ?_
  refine lv_iconst (v := (0 : Int32)) hx hb dX8_text_67 (by decide) ?_
  obtain ⟨σ_40, eσ_40, hF⟩ := nm_e2 hF
  refine r_put8 C hw hS 4 (by decide) rfl rfl (tyX8_ok 4 (by decide)) rfl rfl q959 dX8_text_68 eσ_40 (fun H locs hw hS => ?_)
  refine lv_aload_n hx hb dX8_text_71 rfl (lv_at hl 0 rfl) ?_
  refine lv_aload_n hx hb dX8_text_72 rfl (lv_at hl 0 rfl) ?_
  refine r_get8 C hw 6 (by decide) rfl (v := .int (gi σ_40 1 6)) rfl q961 dX8_text_73 ?_
  obtain ⟨σ_41, eσ_41, hF⟩ := nm_e2 hF
  refine r_put8 C hw hS 5 (by decide) rfl rfl (tyX8_ok 5 (by decide)) rfl rfl q960 dX8_text_76 eσ_41 (fun H locs hw hS => ?_)
  refine lv_aload_n hx hb dX8_text_79 rfl (lv_at hl 0 rfl) ?_
  refine r_get8 C hw 6 (by decide) rfl (v := .int (gi σ_41 1 6)) rfl q961 dX8_text_80 ?_
  refine lv_if_le (tgt := 94) hx hb dX8_text_83 (by decide) (fun c_42 => ?_) (fun c_42 => ?_)
  · have hF := it_e hF c_42
    refine lv_iconst (v := (0 : Int32)) hx hb dX8_text_94 (by decide) ?_
    refine lv_istore_n (lv' := [(2, .int (0 : Int32)), (0, .ref (q 1)), (1, .int x1)]) hx hb dX8_text_95 rfl hl (by decide) rfl (fun ls hl => ?_)
    exact w_X8_text_96 C   N _ _ _ _ _ _ hF hw hS (lv_sub hl [1, 2, 0] rfl)
  · have hF := if_e hF c_42
    refine lv_bipush (v := (-10 : Int32)) hx hb dX8_text_86 (by decide) ?_
    refine lv_aload_n hx hb dX8_text_88 rfl (lv_at hl 0 rfl) ?_
    refine r_get8 C hw 7 (by decide) rfl (v := .int (gi σ_41 1 7)) rfl q962 dX8_text_89 ?_
    refine lv_isub hx hb dX8_text_92 ?_
    exact r_iret C hw hS hF dX8_text_93
noncomputable def B_X8_text_42 (N : Nat) (IH : Int32 → SS → Option (Int32 × SS)) (x1 : Int32) (σ : SS) : Option (Int32 × SS) :=
  if (gi σ 1 6) = (0 : Int32) then
    if (gi σ 1 10) = (0 : Int32) then
      F_X8_text_66 N x1 σ
    else
      bd (F_X8_readLine N σ) fun r_45 σ_46 =>
      nm (x1 + (1 : Int32)) fun x_48 =>
      IH x_48 σ_46
  else
    F_X8_text_66 N x1 σ
noncomputable def F_X8_text_42 (N : Nat) (n : Nat) : Int32 → SS → Option (Int32 × SS) := Nat.rec (fun _ _ => none) (fun _ IH => B_X8_text_42 N IH) n
set_option maxRecDepth 100000 in
theorem w_X8_text_42 {p : Program} {l : Launch} {e : Env} {s : State} {m : MethodId} {args : Array Value} {below : List Frame} {meth : Method} {c : Code} {G : GG} {rd : Bool} {q : Nat → Nat} {N : Nat} {r : Int32} {σ' : SS} (C : cx p s m args meth c cX8_text 3 RX8 (some .int) G) : ∀ (n : Nat), ∀ (x1 : Int32) (σ : SS) (H : Heap) (locs : List Loc) (ls : Array Slot), F_X8_text_42 N n x1 σ = some (r, σ') → wx G rd q σ H → va_S (fa G) s.heap H locs → lv_has ls 3 [(0, .ref (q 1)), (1, .int x1)] → W p l e rmX8_text s m args below meth c H locs 0 0 (MQ below (qxi G rd q σ' r) args s 0 0 (fa G)) (F0 m 42 ls []) := by
  obtain ⟨hx, hb, hml, hown, hts, -, -, -, -⟩ := id C
  intro n
  induction n with
  | zero =>
    intro x1 σ H locs ls hF hw hS hl
    cases hF
  | succ n ih =>
    intro x1 σ H locs ls hF hw hS hl
    have hF : B_X8_text_42 N (F_X8_text_42 N n) x1 σ = some (r, σ') := hF
    unfold B_X8_text_42 at hF
    refine lv_aload_n hx hb dX8_text_42 rfl (lv_at hl 0 rfl) ?_
    refine r_get8 C hw 6 (by decide) rfl (v := .int (gi σ 1 6)) rfl q961 dX8_text_43 ?_
    refine lv_if_ne (tgt := 66) hx hb dX8_text_46 (by decide) (fun c_43 => ?_) (fun c_43 => ?_)
    · have hF := if_e hF c_43
      exact w_X8_text_66 C   _ _ _ _ _ hF hw hS (lv_sub hl [0, 1] rfl)
    · have hF := it_e hF c_43
      refine lv_aload_n hx hb dX8_text_49 rfl (lv_at hl 0 rfl) ?_
      refine r_get8 C hw 10 (by decide) rfl (v := .int (gi σ 1 10)) rfl q965 dX8_text_50 ?_
      refine lv_if_eq (tgt := 66) hx hb dX8_text_53 (by decide) (fun c_44 => ?_) (fun c_44 => ?_)
      · have hF := it_e hF c_44
        exact w_X8_text_66 C   _ _ _ _ _ hF hw hS (lv_sub hl [0, 1] rfl)
      · have hF := if_e hF c_44
        refine lv_aload_n hx hb dX8_text_56 rfl (lv_at hl 0 rfl) ?_
        obtain ⟨r_45, σ_46, h_47, hF⟩ := bd_e hF
        refine r_callVv (As := []) (rest := []) (i := 1) C hw hS (wi_lo (Or.inl (by decide))) rfl (ci := 8) rfl (met_X8_readLine l G rd q  h_47) (cwV 0 hts (lw_V q1067 q1069 qs34 q65 q1070) rfl rfl rfl (by decide +kernel) ⟨Nat.le_of_ble_eq_true rfl, Nat.le_of_ble_eq_true rfl⟩) rfl hl.1 rfl (Nat.le_of_ble_eq_true rfl) ⟨Nat.le_refl _, Nat.le_refl _⟩ dX8_text_57 (fun H locs hw hS => ?_)
        obtain ⟨x_48, ex_48, hF⟩ := nm_e2 hF
        refine lv_iinc (v := x_48) (lv' := [(1, .int x_48), (0, .ref (q 1))]) hx hb dX8_text_60 hl (k := 1) rfl (by rw [ex_48]; rfl) (by decide) rfl (fun ls hl => ?_)
        refine lv_goto (tgt := 42) hx hb dX8_text_63 (by decide) ?_
        exact ih _ _ _ _ _ hF hw hS (lv_sub hl [1, 0] rfl)
noncomputable def B_X8_text_19 (N : Nat) (IH : Int32 → Int32 → SS → Option (Int32 × SS)) (x1 : Int32) (x2 : Int32) (σ : SS) : Option (Int32 × SS) :=
  if (39 : Int32) ≤ x2 then
    bd (F_X8_readsOn N σ) fun r_50 σ_51 =>
    F_X8_text_42 N N x1 σ_51
  else
    gd (inR x2 39) <|
    nm (si σ 22 x2.toNatClampNeg (0 : Int32)) fun σ_54 =>
    nm (x2 + (1 : Int32)) fun x_55 =>
    IH x1 x_55 σ_54
noncomputable def F_X8_text_19 (N : Nat) (n : Nat) : Int32 → Int32 → SS → Option (Int32 × SS) := Nat.rec (fun _ _ _ => none) (fun _ IH => B_X8_text_19 N IH) n
set_option maxRecDepth 100000 in
theorem w_X8_text_19 {p : Program} {l : Launch} {e : Env} {s : State} {m : MethodId} {args : Array Value} {below : List Frame} {meth : Method} {c : Code} {G : GG} {rd : Bool} {q : Nat → Nat} {N : Nat} {r : Int32} {σ' : SS} (C : cx p s m args meth c cX8_text 3 RX8 (some .int) G) : ∀ (n : Nat), ∀ (x1 : Int32) (x2 : Int32) (σ : SS) (H : Heap) (locs : List Loc) (ls : Array Slot), F_X8_text_19 N n x1 x2 σ = some (r, σ') → wx G rd q σ H → va_S (fa G) s.heap H locs → lv_has ls 3 [(0, .ref (q 1)), (1, .int x1), (2, .int x2)] → W p l e rmX8_text s m args below meth c H locs 0 0 (MQ below (qxi G rd q σ' r) args s 0 0 (fa G)) (F0 m 19 ls []) := by
  obtain ⟨hx, hb, hml, hown, hts, -, -, -, -⟩ := id C
  intro n
  induction n with
  | zero =>
    intro x1 x2 σ H locs ls hF hw hS hl
    cases hF
  | succ n ih =>
    intro x1 x2 σ H locs ls hF hw hS hl
    have hF : B_X8_text_19 N (F_X8_text_19 N n) x1 x2 σ = some (r, σ') := hF
    unfold B_X8_text_19 at hF
    refine lv_iload_n hx hb dX8_text_19 rfl (lv_at hl 2 rfl) ?_
    refine lv_bipush (v := (39 : Int32)) hx hb dX8_text_20 (by decide) ?_
    refine lv_icmp_ge (tgt := 38) hx hb dX8_text_22 (by decide) (fun c_49 => ?_) (fun c_49 => ?_)
    · have hF := it_e hF c_49
      refine lv_aload_n hx hb dX8_text_38 rfl (lv_at hl 0 rfl) ?_
      obtain ⟨r_50, σ_51, h_52, hF⟩ := bd_e hF
      refine r_callVv (As := []) (rest := []) (i := 1) C hw hS (wi_lo (Or.inl (by decide))) rfl (ci := 8) rfl (met_X8_readsOn l G rd q  h_52) (cwV 0 hts (lw_V q1051 q1053 qs31 q65 q1054) rfl rfl rfl (by decide +kernel) ⟨Nat.le_of_ble_eq_true rfl, Nat.le_of_ble_eq_true rfl⟩) rfl hl.1 rfl (Nat.le_of_ble_eq_true rfl) ⟨Nat.le_refl _, Nat.le_refl _⟩ dX8_text_39 (fun H locs hw hS => ?_)
      exact w_X8_text_42 C   N _ _ _ _ _ hF hw hS (lv_sub hl [0, 1] rfl)
    · have hF := if_e hF c_49
      refine lv_aload_n hx hb dX8_text_25 rfl (lv_at hl 0 rfl) ?_
      refine r_get8 C hw 1 (by decide) rfl (v := .ref (q 22)) rfl q956 dX8_text_26 ?_
      refine lv_iload_n hx hb dX8_text_29 rfl (lv_at hl 2 rfl) ?_
      refine lv_iconst (v := (0 : Int32)) hx hb dX8_text_30 (by decide) ?_
      obtain ⟨h_53, hF⟩ := gd_e hF
      obtain ⟨σ_54, eσ_54, hF⟩ := nm_e2 hF
      refine r_iast (i := 22) (n := 39) (g := 22) (st := 0) C hw hS (wi_lo (Or.inr ⟨by decide, by decide⟩)) rfl (fun _ => ho_lo (by decide)) h_53 dX8_text_31 eσ_54 (fun H locs hw hS => ?_)
      obtain ⟨x_55, ex_55, hF⟩ := nm_e2 hF
      refine lv_iinc (v := x_55) (lv' := [(2, .int x_55), (0, .ref (q 1)), (1, .int x1)]) hx hb dX8_text_32 hl (k := 2) rfl (by rw [ex_55]; rfl) (by decide) rfl (fun ls hl => ?_)
      refine lv_goto (tgt := 19) hx hb dX8_text_35 (by decide) ?_
      exact ih _ _ _ _ _ _ hF hw hS (lv_sub hl [1, 2, 0] rfl)
noncomputable def F_X8_text (N : Nat)  (σ : SS) : Option (Int32 × SS) :=
  nm (si σ 1 6 (0 : Int32)) fun σ_56 =>
  nm (si σ_56 1 8 (0 : Int32)) fun σ_57 =>
  nm (si σ_57 1 2 (0 : Int32)) fun σ_58 =>
  F_X8_text_19 N N (0 : Int32) (0 : Int32) σ_58
set_option maxRecDepth 100000 in
theorem met_X8_text (l : Launch) (G : GG) (rd : Bool) (q : Nat → Nat) {N : Nat} {σ σ' : SS} {r : Int32} (hF : F_X8_text N  σ = some (r, σ')) : Met l yX8_text (ws_ yX8_text cX8_text 3 (some .int)) rmX8_text (pcx G rd q σ [.ref (q 1)]) (qxi G rd q σ' r) 0 0 (fa G) := by
  refine met_of (by decide) (Nat.le_of_ble_eq_true rfl) ?_
  intro p e s m below meth c C H locs ls hw hS hl
  obtain ⟨hx, hb, hml, hown, hts, -, -, -, -⟩ := id C
  have hl : lv_has ls 3 [(0, .ref (q 1))] := hl
  unfold F_X8_text at hF
  refine lv_aload_n hx hb dX8_text_0 rfl (lv_at hl 0 rfl) ?_
  refine lv_iconst (v := (0 : Int32)) hx hb dX8_text_1 (by decide) ?_
  obtain ⟨σ_56, eσ_56, hF⟩ := nm_e2 hF
  refine r_put8 C hw hS 6 (by decide) rfl rfl (tyX8_ok 6 (by decide)) rfl rfl q961 dX8_text_2 eσ_56 (fun H locs hw hS => ?_)
  refine lv_aload_n hx hb dX8_text_5 rfl (lv_at hl 0 rfl) ?_
  refine lv_iconst (v := (0 : Int32)) hx hb dX8_text_6 (by decide) ?_
  obtain ⟨σ_57, eσ_57, hF⟩ := nm_e2 hF
  refine r_put8 C hw hS 8 (by decide) rfl rfl (tyX8_ok 8 (by decide)) rfl rfl q963 dX8_text_7 eσ_57 (fun H locs hw hS => ?_)
  refine lv_aload_n hx hb dX8_text_10 rfl (lv_at hl 0 rfl) ?_
  refine lv_iconst (v := (0 : Int32)) hx hb dX8_text_11 (by decide) ?_
  obtain ⟨σ_58, eσ_58, hF⟩ := nm_e2 hF
  refine r_put8 C hw hS 2 (by decide) rfl rfl (tyX8_ok 2 (by decide)) rfl rfl q957 dX8_text_12 eσ_58 (fun H locs hw hS => ?_)
  refine lv_iconst (v := (0 : Int32)) hx hb dX8_text_15 (by decide) ?_
  refine lv_istore_n (lv' := [(1, .int (0 : Int32)), (0, .ref (q 1))]) hx hb dX8_text_16 rfl hl (by decide) rfl (fun ls hl => ?_)
  refine lv_iconst (v := (0 : Int32)) hx hb dX8_text_17 (by decide) ?_
  refine lv_istore_n (lv' := [(2, .int (0 : Int32)), (1, .int (0 : Int32)), (0, .ref (q 1))]) hx hb dX8_text_18 rfl hl (by decide) rfl (fun ls hl => ?_)
  exact w_X8_text_19 C   N _ _ _ _ _ _ hF hw hS (lv_sub hl [2, 1, 0] rfl)
abbrev rmX8_ticks : Room := { frames := 4, cells := 0, slots := 0, locals := 135 }
noncomputable def B_X8_ticks_42 (N : Nat) (IH : Int32 → Int32 → Int32 → SS → Option (Int32 × SS)) (x1 : Int32) (x2 : Int32) (x3 : Int32) (σ : SS) : Option (Int32 × SS) :=
  if x1 ≤ x3 then
    gd (inR (37 : Int32) 234) <|
    some ((gi σ 21 (37 : Int32).toNatClampNeg) - x2, σ)
  else
    bd (F_X8_tickOn N (0 : Int32) (0 : Int32) σ) fun r_17 σ_18 =>
    nm (x3 + (1 : Int32)) fun x_20 =>
    IH x1 x2 x_20 σ_18
noncomputable def F_X8_ticks_42 (N : Nat) (n : Nat) : Int32 → Int32 → Int32 → SS → Option (Int32 × SS) := Nat.rec (fun _ _ _ _ => none) (fun _ IH => B_X8_ticks_42 N IH) n
set_option maxRecDepth 100000 in
theorem w_X8_ticks_42 {p : Program} {l : Launch} {e : Env} {s : State} {m : MethodId} {args : Array Value} {below : List Frame} {meth : Method} {c : Code} {G : GG} {rd : Bool} {q : Nat → Nat} {N : Nat} {r : Int32} {σ' : SS} (C : cx p s m args meth c cX8_ticks 4 RX8 (some .int) G) : ∀ (n : Nat), ∀ (x1 : Int32) (x2 : Int32) (x3 : Int32) (σ : SS) (H : Heap) (locs : List Loc) (ls : Array Slot), F_X8_ticks_42 N n x1 x2 x3 σ = some (r, σ') → wx G rd q σ H → va_S (fa G) s.heap H locs → lv_has ls 4 [(0, .ref (q 1)), (1, .int x1), (2, .int x2), (3, .int x3)] → W p l e rmX8_ticks s m args below meth c H locs 0 0 (MQ below (qxi G rd q σ' r) args s 0 0 (fa G)) (F0 m 42 ls []) := by
  obtain ⟨hx, hb, hml, hown, hts, -, -, -, -⟩ := id C
  intro n
  induction n with
  | zero =>
    intro x1 x2 x3 σ H locs ls hF hw hS hl
    cases hF
  | succ n ih =>
    intro x1 x2 x3 σ H locs ls hF hw hS hl
    have hF : B_X8_ticks_42 N (F_X8_ticks_42 N n) x1 x2 x3 σ = some (r, σ') := hF
    unfold B_X8_ticks_42 at hF
    refine lv_iload_n hx hb dX8_ticks_42 rfl (lv_at hl 3 rfl) ?_
    refine lv_iload_n hx hb dX8_ticks_43 rfl (lv_at hl 1 rfl) ?_
    refine lv_icmp_ge (tgt := 59) hx hb dX8_ticks_44 (by decide) (fun c_15 => ?_) (fun c_15 => ?_)
    · have hF := it_e hF c_15
      refine lv_aload_n hx hb dX8_ticks_59 rfl (lv_at hl 0 rfl) ?_
      refine r_get8 C hw 0 (by decide) rfl (v := .ref (q 21)) rfl q955 dX8_ticks_60 ?_
      refine lv_bipush (v := (37 : Int32)) hx hb dX8_ticks_63 (by decide) ?_
      obtain ⟨h_16, hF⟩ := gd_e hF
      refine r_iald (i := 21) (n := 234) (g := 21) (st := 0) C hw (wi_lo (Or.inr ⟨by decide, by decide⟩)) rfl h_16 dX8_ticks_65 ?_
      refine lv_iload_n hx hb dX8_ticks_66 rfl (lv_at hl 2 rfl) ?_
      refine lv_isub hx hb dX8_ticks_67 ?_
      exact r_iret C hw hS hF dX8_ticks_68
    · have hF := if_e hF c_15
      refine lv_aload_n hx hb dX8_ticks_47 rfl (lv_at hl 0 rfl) ?_
      refine lv_iconst (v := (0 : Int32)) hx hb dX8_ticks_48 (by decide) ?_
      refine lv_iconst (v := (0 : Int32)) hx hb dX8_ticks_49 (by decide) ?_
      obtain ⟨r_17, σ_18, h_19, hF⟩ := bd_e hF
      refine r_callVv (As := [.int (0 : Int32), .int (0 : Int32)]) (rest := []) (i := 1) C hw hS (wi_lo (Or.inl (by decide))) rfl (ci := 8) rfl (met_X8_tickOn l G rd q  h_19) (cwV 2 hts (lw_V q1171 q1173 qs45 q65 q1174) rfl rfl rfl (by decide +kernel) ⟨Nat.le_of_ble_eq_true rfl, Nat.le_of_ble_eq_true rfl⟩) rfl hl.1 rfl (Nat.le_of_ble_eq_true rfl) ⟨Nat.le_refl _, Nat.le_refl _⟩ dX8_ticks_50 (fun H locs hw hS => ?_)
      obtain ⟨x_20, ex_20, hF⟩ := nm_e2 hF
      refine lv_iinc (v := x_20) (lv' := [(3, .int x_20), (0, .ref (q 1)), (1, .int x1), (2, .int x2)]) hx hb dX8_ticks_53 hl (k := 3) rfl (by rw [ex_20]; rfl) (by decide) rfl (fun ls hl => ?_)
      refine lv_goto (tgt := 42) hx hb dX8_ticks_56 (by decide) ?_
      exact ih _ _ _ _ _ _ _ hF hw hS (lv_sub hl [1, 2, 3, 0] rfl)
noncomputable def F_X8_ticks (N : Nat) (x1 : Int32) (σ : SS) : Option (Int32 × SS) :=
  bd (F_X8_in N x1.toInt64 (0 : Int64) (100 : Int64) σ) fun r_21 σ_22 =>
  if r_21 = (0 : Int32) then
    some ((-1 : Int32), σ_22)
  else
    gd (inR (36 : Int32) 234) <|
    if ((gi σ_22 21 (36 : Int32).toNatClampNeg) + x1) ≤ (9999 : Int32) then
      gd (inR (37 : Int32) 234) <|
      nm (gi σ_22 21 (37 : Int32).toNatClampNeg) fun x_28 =>
      F_X8_ticks_42 N N x1 x_28 (0 : Int32) σ_22
    else
      some ((-3 : Int32), σ_22)
set_option maxRecDepth 100000 in
theorem met_X8_ticks (l : Launch) (G : GG) (rd : Bool) (q : Nat → Nat) {N : Nat} {x1 : Int32} {σ σ' : SS} {r : Int32} (hF : F_X8_ticks N x1 σ = some (r, σ')) : Met l yX8_ticks (ws_ yX8_ticks cX8_ticks 4 (some .int)) rmX8_ticks (pcx G rd q σ [.ref (q 1), .int x1]) (qxi G rd q σ' r) 0 0 (fa G) := by
  refine met_of (by decide) (Nat.le_of_ble_eq_true rfl) ?_
  intro p e s m below meth c C H locs ls hw hS hl
  obtain ⟨hx, hb, hml, hown, hts, -, -, -, -⟩ := id C
  have hl : lv_has ls 4 [(0, .ref (q 1)), (1, .int x1)] := hl
  unfold F_X8_ticks at hF
  refine lv_iload_n hx hb dX8_ticks_0 rfl (lv_at hl 1 rfl) ?_
  refine lv_i2l hx hb dX8_ticks_1 rfl ?_
  refine lv_lconst (v := (0 : Int64)) hx hb dX8_ticks_2 (by decide) ?_
  refine lv_ldc2 (v := (100 : Int64)) hx hb hown (hts _ q1170) dX8_ticks_3 ?_
  obtain ⟨r_21, σ_22, h_23, hF⟩ := bd_e hF
  refine r_callSi (As := [.long x1.toInt64, .long (0 : Int64), .long (100 : Int64)]) (rest := []) C hw hS (met_X8_in l G rd q  h_23) (cwS 3 hts (lw_S q1040 q1041 q65 q1042) rfl rfl rfl (by decide +kernel) ⟨Nat.le_of_ble_eq_true rfl, Nat.le_of_ble_eq_true rfl⟩) rfl hl.1 rfl (Nat.le_of_ble_eq_true rfl) ⟨Nat.le_refl _, Nat.le_refl _⟩ dX8_ticks_6 (fun H locs hw hS => ?_)
  refine lv_if_ne (tgt := 14) hx hb dX8_ticks_9 (by decide) (fun c_24 => ?_) (fun c_24 => ?_)
  · have hF := if_e hF c_24
    refine lv_aload_n hx hb dX8_ticks_14 rfl (lv_at hl 0 rfl) ?_
    refine r_get8 C hw 0 (by decide) rfl (v := .ref (q 21)) rfl q955 dX8_ticks_15 ?_
    refine lv_bipush (v := (36 : Int32)) hx hb dX8_ticks_18 (by decide) ?_
    obtain ⟨h_25, hF⟩ := gd_e hF
    refine r_iald (i := 21) (n := 234) (g := 21) (st := 0) C hw (wi_lo (Or.inr ⟨by decide, by decide⟩)) rfl h_25 dX8_ticks_20 ?_
    refine lv_iload_n hx hb dX8_ticks_21 rfl (lv_at hl 1 rfl) ?_
    refine lv_iadd hx hb dX8_ticks_22 ?_
    refine lv_sipush (v := (9999 : Int32)) hx hb dX8_ticks_23 (by decide) ?_
    refine lv_icmp_le (tgt := 32) hx hb dX8_ticks_26 (by decide) (fun c_26 => ?_) (fun c_26 => ?_)
    · have hF := it_e hF c_26
      refine lv_aload_n hx hb dX8_ticks_32 rfl (lv_at hl 0 rfl) ?_
      refine r_get8 C hw 0 (by decide) rfl (v := .ref (q 21)) rfl q955 dX8_ticks_33 ?_
      refine lv_bipush (v := (37 : Int32)) hx hb dX8_ticks_36 (by decide) ?_
      obtain ⟨h_27, hF⟩ := gd_e hF
      refine r_iald (i := 21) (n := 234) (g := 21) (st := 0) C hw (wi_lo (Or.inr ⟨by decide, by decide⟩)) rfl h_27 dX8_ticks_38 ?_
      obtain ⟨x_28, ex_28, hF⟩ := nm_e2 hF
      refine r_topi ex_28 ?_
      refine lv_istore_n (lv' := [(2, .int x_28), (0, .ref (q 1)), (1, .int x1)]) hx hb dX8_ticks_39 rfl hl (by decide) rfl (fun ls hl => ?_)
      refine lv_iconst (v := (0 : Int32)) hx hb dX8_ticks_40 (by decide) ?_
      refine lv_istore_n (lv' := [(3, .int (0 : Int32)), (2, .int x_28), (0, .ref (q 1)), (1, .int x1)]) hx hb dX8_ticks_41 rfl hl (by decide) rfl (fun ls hl => ?_)
      exact w_X8_ticks_42 C   N _ _ _ _ _ _ _ hF hw hS (lv_sub hl [2, 3, 1, 0] rfl)
    · have hF := if_e hF c_26
      refine lv_bipush (v := (-3 : Int32)) hx hb dX8_ticks_29 (by decide) ?_
      exact r_iret C hw hS hF dX8_ticks_31
  · have hF := it_e hF c_24
    refine lv_iconst (v := (-1 : Int32)) hx hb dX8_ticks_12 (by decide) ?_
    exact r_iret C hw hS hF dX8_ticks_13
abbrev rmX8_torn : Room := { frames := 1, cells := 0, slots := 0, locals := 60 }
noncomputable def F_X8_torn (N : Nat)  (σ : SS) : Option (Int32 × SS) :=
  some (gi σ 1 25, σ)
set_option maxRecDepth 100000 in
theorem met_X8_torn (l : Launch) (G : GG) (rd : Bool) (q : Nat → Nat) {N : Nat} {σ σ' : SS} {r : Int32} (hF : F_X8_torn N  σ = some (r, σ')) : Met l yX8_torn (ws_ yX8_torn cX8_torn 1 (some .int)) rmX8_torn (pcx G rd q σ [.ref (q 1)]) (qxi G rd q σ' r) 0 0 (fa G) := by
  refine met_of (by decide) (Nat.le_of_ble_eq_true rfl) ?_
  intro p e s m below meth c C H locs ls hw hS hl
  obtain ⟨hx, hb, hml, hown, hts, -, -, -, -⟩ := id C
  have hl : lv_has ls 1 [(0, .ref (q 1))] := hl
  unfold F_X8_torn at hF
  refine lv_aload_n hx hb dX8_torn_0 rfl (lv_at hl 0 rfl) ?_
  refine r_get8 C hw 25 (by decide) rfl (v := .int (gi σ 1 25)) rfl q980 dX8_torn_1 ?_
  exact r_iret C hw hS hF dX8_torn_4
abbrev rmX8_turn : Room := { frames := 3, cells := 0, slots := 0, locals := 112 }
noncomputable def F_X8_turn_36 (N : Nat) (x1 : Int32) (σ : SS) : Option (Int32 × SS) :=
  bd (F_X8_actOn N (0 : Int32) x1 (0 : Int32) σ) fun r_14 σ_15 =>
  gd (inR (35 : Int32) 234) <|
  some (gi σ_15 21 (35 : Int32).toNatClampNeg, σ_15)
set_option maxRecDepth 100000 in
theorem w_X8_turn_36 {p : Program} {l : Launch} {e : Env} {s : State} {m : MethodId} {args : Array Value} {below : List Frame} {meth : Method} {c : Code} {G : GG} {rd : Bool} {q : Nat → Nat} {N : Nat} {r : Int32} {σ' : SS} (C : cx p s m args meth c cX8_turn 2 RX8 (some .int) G) : ∀ (x1 : Int32) (σ : SS) (H : Heap) (locs : List Loc) (ls : Array Slot), F_X8_turn_36 N x1 σ = some (r, σ') → wx G rd q σ H → va_S (fa G) s.heap H locs → lv_has ls 2 [(0, .ref (q 1)), (1, .int x1)] → W p l e rmX8_turn s m args below meth c H locs 0 0 (MQ below (qxi G rd q σ' r) args s 0 0 (fa G)) (F0 m 36 ls []) := by
  obtain ⟨hx, hb, hml, hown, hts, -, -, -, -⟩ := id C
  intro x1 σ H locs ls hF hw hS hl
  unfold F_X8_turn_36 at hF
  refine lv_aload_n hx hb dX8_turn_36 rfl (lv_at hl 0 rfl) ?_
  refine lv_iconst (v := (0 : Int32)) hx hb dX8_turn_37 (by decide) ?_
  refine lv_iload_n hx hb dX8_turn_38 rfl (lv_at hl 1 rfl) ?_
  refine lv_iconst (v := (0 : Int32)) hx hb dX8_turn_39 (by decide) ?_
  obtain ⟨r_14, σ_15, h_16, hF⟩ := bd_e hF
  refine r_callVv (As := [.int (0 : Int32), .int x1, .int (0 : Int32)]) (rest := []) (i := 1) C hw hS (wi_lo (Or.inl (by decide))) rfl (ci := 8) rfl (met_X8_actOn l G rd q  h_16) (cwV 3 hts (lw_V q1162 q1164 qs44 q65 q1165) rfl rfl rfl (by decide +kernel) ⟨Nat.le_of_ble_eq_true rfl, Nat.le_of_ble_eq_true rfl⟩) rfl hl.1 rfl (Nat.le_of_ble_eq_true rfl) ⟨Nat.le_refl _, Nat.le_refl _⟩ dX8_turn_40 (fun H locs hw hS => ?_)
  refine lv_aload_n hx hb dX8_turn_43 rfl (lv_at hl 0 rfl) ?_
  refine r_get8 C hw 0 (by decide) rfl (v := .ref (q 21)) rfl q955 dX8_turn_44 ?_
  refine lv_bipush (v := (35 : Int32)) hx hb dX8_turn_47 (by decide) ?_
  obtain ⟨h_17, hF⟩ := gd_e hF
  refine r_iald (i := 21) (n := 234) (g := 21) (st := 0) C hw (wi_lo (Or.inr ⟨by decide, by decide⟩)) rfl h_17 dX8_turn_49 ?_
  exact r_iret C hw hS hF dX8_turn_50
noncomputable def F_X8_turn (N : Nat) (x1 : Int32) (σ : SS) : Option (Int32 × SS) :=
  bd (F_X8_in N x1.toInt64 (0 : Int64) (203 : Int64) σ) fun r_18 σ_19 =>
  if r_18 = (0 : Int32) then
    some ((-1 : Int32), σ_19)
  else
    if x1 < (200 : Int32) then
      F_X8_turn_36 N x1 σ_19
    else
      bd (F_X8_isWheel N (x1 - (200 : Int32)) σ_19) fun r_23 σ_24 =>
      if r_23 = (0 : Int32) then
        some ((-2 : Int32), σ_24)
      else
        F_X8_turn_36 N x1 σ_24
set_option maxRecDepth 100000 in
theorem met_X8_turn (l : Launch) (G : GG) (rd : Bool) (q : Nat → Nat) {N : Nat} {x1 : Int32} {σ σ' : SS} {r : Int32} (hF : F_X8_turn N x1 σ = some (r, σ')) : Met l yX8_turn (ws_ yX8_turn cX8_turn 2 (some .int)) rmX8_turn (pcx G rd q σ [.ref (q 1), .int x1]) (qxi G rd q σ' r) 0 0 (fa G) := by
  refine met_of (by decide) (Nat.le_of_ble_eq_true rfl) ?_
  intro p e s m below meth c C H locs ls hw hS hl
  obtain ⟨hx, hb, hml, hown, hts, -, -, -, -⟩ := id C
  have hl : lv_has ls 2 [(0, .ref (q 1)), (1, .int x1)] := hl
  unfold F_X8_turn at hF
  refine lv_iload_n hx hb dX8_turn_0 rfl (lv_at hl 1 rfl) ?_
  refine lv_i2l hx hb dX8_turn_1 rfl ?_
  refine lv_lconst (v := (0 : Int64)) hx hb dX8_turn_2 (by decide) ?_
  refine lv_ldc2 (v := (203 : Int64)) hx hb hown (hts _ q1145) dX8_turn_3 ?_
  obtain ⟨r_18, σ_19, h_20, hF⟩ := bd_e hF
  refine r_callSi (As := [.long x1.toInt64, .long (0 : Int64), .long (203 : Int64)]) (rest := []) C hw hS (met_X8_in l G rd q  h_20) (cwS 3 hts (lw_S q1040 q1041 q65 q1042) rfl rfl rfl (by decide +kernel) ⟨Nat.le_of_ble_eq_true rfl, Nat.le_of_ble_eq_true rfl⟩) rfl hl.1 rfl (Nat.le_of_ble_eq_true rfl) ⟨Nat.le_refl _, Nat.le_refl _⟩ dX8_turn_6 (fun H locs hw hS => ?_)
  refine lv_if_ne (tgt := 14) hx hb dX8_turn_9 (by decide) (fun c_21 => ?_) (fun c_21 => ?_)
  · have hF := if_e hF c_21
    refine lv_iload_n hx hb dX8_turn_14 rfl (lv_at hl 1 rfl) ?_
    refine lv_sipush (v := (200 : Int32)) hx hb dX8_turn_15 (by decide) ?_
    refine lv_icmp_lt (tgt := 36) hx hb dX8_turn_18 (by decide) (fun c_22 => ?_) (fun c_22 => ?_)
    · have hF := it_e hF c_22
      exact w_X8_turn_36 C   _ _ _ _ _ hF hw hS (lv_sub hl [0, 1] rfl)
    · have hF := if_e hF c_22
      refine lv_aload_n hx hb dX8_turn_21 rfl (lv_at hl 0 rfl) ?_
      refine lv_iload_n hx hb dX8_turn_22 rfl (lv_at hl 1 rfl) ?_
      refine lv_sipush (v := (200 : Int32)) hx hb dX8_turn_23 (by decide) ?_
      refine lv_isub hx hb dX8_turn_26 ?_
      obtain ⟨r_23, σ_24, h_25, hF⟩ := bd_e hF
      refine r_callVi (As := [.int (x1 - (200 : Int32))]) (rest := []) (i := 1) C hw hS (wi_lo (Or.inl (by decide))) rfl (ci := 8) rfl (met_X8_isWheel l G rd q  h_25) (cwV 1 hts (lw_V q1100 q1102 qs39 q65 q1103) rfl rfl rfl (by decide +kernel) ⟨Nat.le_of_ble_eq_true rfl, Nat.le_of_ble_eq_true rfl⟩) rfl hl.1 rfl (Nat.le_of_ble_eq_true rfl) ⟨Nat.le_refl _, Nat.le_refl _⟩ dX8_turn_27 (fun H locs hw hS => ?_)
      refine lv_if_ne (tgt := 36) hx hb dX8_turn_30 (by decide) (fun c_26 => ?_) (fun c_26 => ?_)
      · have hF := if_e hF c_26
        exact w_X8_turn_36 C   _ _ _ _ _ hF hw hS (lv_sub hl [0, 1] rfl)
      · have hF := it_e hF c_26
        refine lv_bipush (v := (-2 : Int32)) hx hb dX8_turn_33 (by decide) ?_
        exact r_iret C hw hS hF dX8_turn_35
  · have hF := it_e hF c_21
    refine lv_iconst (v := (-1 : Int32)) hx hb dX8_turn_12 (by decide) ?_
    exact r_iret C hw hS hF dX8_turn_13
abbrev rmX8_wheel : Room := { frames := 3, cells := 0, slots := 0, locals := 106 }
noncomputable def F_X8_wheel (N : Nat) (x1 : Int32) (x2 : Int32) (σ : SS) : Option (Int32 × SS) :=
  bd (F_X8_isWheel N x1 σ) fun r_18 σ_19 =>
  if r_18 = (0 : Int32) then
    some ((-1 : Int32), σ_19)
  else
    bd (F_X8_in N x2.toInt64 (0 : Int64) (5 : Int64) σ_19) fun r_22 σ_23 =>
    if r_22 = (0 : Int32) then
      some ((-1 : Int32), σ_23)
    else
      if (4 : Int32) ≤ x2 then
        if x2 = (4 : Int32) then
          gd (inR ((12 : Int32) + x1) 234) <|
          gd (inR ((4 : Int32) + x1) 234) <|
          gd (¬ (gi σ_23 21 ((4 : Int32) + x1).toNatClampNeg) = 0) <|
          some ((gi σ_23 21 ((12 : Int32) + x1).toNatClampNeg) / (gi σ_23 21 ((4 : Int32) + x1).toNatClampNeg), σ_23)
        else
          bd (F_X8_joinedOn N (0 : Int32) x1 σ_23) fun r_28 σ_29 =>
          some (r_28, σ_29)
      else
        gd (inR (((4 : Int32) * x2) + x1) 234) <|
        some (gi σ_23 21 (((4 : Int32) * x2) + x1).toNatClampNeg, σ_23)
set_option maxRecDepth 100000 in
theorem met_X8_wheel (l : Launch) (G : GG) (rd : Bool) (q : Nat → Nat) {N : Nat} {x1 : Int32} {x2 : Int32} {σ σ' : SS} {r : Int32} (hF : F_X8_wheel N x1 x2 σ = some (r, σ')) : Met l yX8_wheel (ws_ yX8_wheel cX8_wheel 3 (some .int)) rmX8_wheel (pcx G rd q σ [.ref (q 1), .int x1, .int x2]) (qxi G rd q σ' r) 0 0 (fa G) := by
  refine met_of (by decide) (Nat.le_of_ble_eq_true rfl) ?_
  intro p e s m below meth c C H locs ls hw hS hl
  obtain ⟨hx, hb, hml, hown, hts, -, -, -, -⟩ := id C
  have hl : lv_has ls 3 [(0, .ref (q 1)), (1, .int x1), (2, .int x2)] := hl
  unfold F_X8_wheel at hF
  refine lv_aload_n hx hb dX8_wheel_0 rfl (lv_at hl 0 rfl) ?_
  refine lv_iload_n hx hb dX8_wheel_1 rfl (lv_at hl 1 rfl) ?_
  obtain ⟨r_18, σ_19, h_20, hF⟩ := bd_e hF
  refine r_callVi (As := [.int x1]) (rest := []) (i := 1) C hw hS (wi_lo (Or.inl (by decide))) rfl (ci := 8) rfl (met_X8_isWheel l G rd q  h_20) (cwV 1 hts (lw_V q1100 q1102 qs39 q65 q1103) rfl rfl rfl (by decide +kernel) ⟨Nat.le_of_ble_eq_true rfl, Nat.le_of_ble_eq_true rfl⟩) rfl hl.1 rfl (Nat.le_of_ble_eq_true rfl) ⟨Nat.le_refl _, Nat.le_refl _⟩ dX8_wheel_2 (fun H locs hw hS => ?_)
  refine lv_if_eq (tgt := 20) hx hb dX8_wheel_5 (by decide) (fun c_21 => ?_) (fun c_21 => ?_)
  · have hF := it_e hF c_21
    refine lv_iconst (v := (-1 : Int32)) hx hb dX8_wheel_20 (by decide) ?_
    exact r_iret C hw hS hF dX8_wheel_21
  · have hF := if_e hF c_21
    refine lv_iload_n hx hb dX8_wheel_8 rfl (lv_at hl 2 rfl) ?_
    refine lv_i2l hx hb dX8_wheel_9 rfl ?_
    refine lv_lconst (v := (0 : Int64)) hx hb dX8_wheel_10 (by decide) ?_
    refine lv_ldc2 (v := (5 : Int64)) hx hb hown (hts _ q1104) dX8_wheel_11 ?_
    obtain ⟨r_22, σ_23, h_24, hF⟩ := bd_e hF
    refine r_callSi (As := [.long x2.toInt64, .long (0 : Int64), .long (5 : Int64)]) (rest := []) C hw hS (met_X8_in l G rd q  h_24) (cwS 3 hts (lw_S q1040 q1041 q65 q1042) rfl rfl rfl (by decide +kernel) ⟨Nat.le_of_ble_eq_true rfl, Nat.le_of_ble_eq_true rfl⟩) rfl hl.1 rfl (Nat.le_of_ble_eq_true rfl) ⟨Nat.le_refl _, Nat.le_refl _⟩ dX8_wheel_14 (fun H locs hw hS => ?_)
    refine lv_if_ne (tgt := 22) hx hb dX8_wheel_17 (by decide) (fun c_25 => ?_) (fun c_25 => ?_)
    · have hF := if_e hF c_25
      refine lv_iload_n hx hb dX8_wheel_22 rfl (lv_at hl 2 rfl) ?_
      refine lv_iconst (v := (4 : Int32)) hx hb dX8_wheel_23 (by decide) ?_
      refine lv_icmp_ge (tgt := 40) hx hb dX8_wheel_24 (by decide) (fun c_26 => ?_) (fun c_26 => ?_)
      · have hF := it_e hF c_26
        refine lv_iload_n hx hb dX8_wheel_40 rfl (lv_at hl 2 rfl) ?_
        refine lv_iconst (v := (4 : Int32)) hx hb dX8_wheel_41 (by decide) ?_
        refine lv_icmp_ne (tgt := 66) hx hb dX8_wheel_42 (by decide) (fun c_27 => ?_) (fun c_27 => ?_)
        · have hF := if_e hF c_27
          refine lv_aload_n hx hb dX8_wheel_66 rfl (lv_at hl 0 rfl) ?_
          refine lv_iconst (v := (0 : Int32)) hx hb dX8_wheel_67 (by decide) ?_
          refine lv_iload_n hx hb dX8_wheel_68 rfl (lv_at hl 1 rfl) ?_
          obtain ⟨r_28, σ_29, h_30, hF⟩ := bd_e hF
          refine r_callVi (As := [.int (0 : Int32), .int x1]) (rest := []) (i := 1) C hw hS (wi_lo (Or.inl (by decide))) rfl (ci := 8) rfl (met_X8_joinedOn l G rd q  h_30) (cwV 2 hts (lw_V q1105 q1107 qs40 q65 q1108) rfl rfl rfl (by decide +kernel) ⟨Nat.le_of_ble_eq_true rfl, Nat.le_of_ble_eq_true rfl⟩) rfl hl.1 rfl (Nat.le_of_ble_eq_true rfl) ⟨Nat.le_refl _, Nat.le_refl _⟩ dX8_wheel_69 (fun H locs hw hS => ?_)
          exact r_iret C hw hS hF dX8_wheel_72
        · have hF := it_e hF c_27
          refine lv_aload_n hx hb dX8_wheel_45 rfl (lv_at hl 0 rfl) ?_
          refine r_get8 C hw 0 (by decide) rfl (v := .ref (q 21)) rfl q955 dX8_wheel_46 ?_
          refine lv_bipush (v := (12 : Int32)) hx hb dX8_wheel_49 (by decide) ?_
          refine lv_iload_n hx hb dX8_wheel_51 rfl (lv_at hl 1 rfl) ?_
          refine lv_iadd hx hb dX8_wheel_52 ?_
          obtain ⟨h_31, hF⟩ := gd_e hF
          refine r_iald (i := 21) (n := 234) (g := 21) (st := 0) C hw (wi_lo (Or.inr ⟨by decide, by decide⟩)) rfl h_31 dX8_wheel_53 ?_
          refine lv_aload_n hx hb dX8_wheel_54 rfl (lv_at hl 0 rfl) ?_
          refine r_get8 C hw 0 (by decide) rfl (v := .ref (q 21)) rfl q955 dX8_wheel_55 ?_
          refine lv_iconst (v := (4 : Int32)) hx hb dX8_wheel_58 (by decide) ?_
          refine lv_iload_n hx hb dX8_wheel_59 rfl (lv_at hl 1 rfl) ?_
          refine lv_iadd hx hb dX8_wheel_60 ?_
          obtain ⟨h_32, hF⟩ := gd_e hF
          refine r_iald (i := 21) (n := 234) (g := 21) (st := 0) C hw (wi_lo (Or.inr ⟨by decide, by decide⟩)) rfl h_32 dX8_wheel_61 ?_
          obtain ⟨h_33, hF⟩ := gd_e hF
          refine lv_idiv hx hb dX8_wheel_62 h_33 ?_
          refine lv_goto (tgt := 72) hx hb dX8_wheel_63 (by decide) ?_
          exact r_iret C hw hS hF dX8_wheel_72
      · have hF := if_e hF c_26
        refine lv_aload_n hx hb dX8_wheel_27 rfl (lv_at hl 0 rfl) ?_
        refine r_get8 C hw 0 (by decide) rfl (v := .ref (q 21)) rfl q955 dX8_wheel_28 ?_
        refine lv_iconst (v := (4 : Int32)) hx hb dX8_wheel_31 (by decide) ?_
        refine lv_iload_n hx hb dX8_wheel_32 rfl (lv_at hl 2 rfl) ?_
        refine lv_imul hx hb dX8_wheel_33 ?_
        refine lv_iload_n hx hb dX8_wheel_34 rfl (lv_at hl 1 rfl) ?_
        refine lv_iadd hx hb dX8_wheel_35 ?_
        obtain ⟨h_34, hF⟩ := gd_e hF
        refine r_iald (i := 21) (n := 234) (g := 21) (st := 0) C hw (wi_lo (Or.inr ⟨by decide, by decide⟩)) rfl h_34 dX8_wheel_36 ?_
        refine lv_goto (tgt := 72) hx hb dX8_wheel_37 (by decide) ?_
        exact r_iret C hw hS hF dX8_wheel_72
    · have hF := it_e hF c_25
      refine lv_iconst (v := (-1 : Int32)) hx hb dX8_wheel_20 (by decide) ?_
      exact r_iret C hw hS hF dX8_wheel_21
abbrev rmX8_when : Room := { frames := 4, cells := 0, slots := 0, locals := 135 }
noncomputable def B_X8_when_20 (N : Nat) (IH : Int32 → Int32 → SS → Option (Int32 × SS)) (x1 : Int32) (x2 : Int32) (σ : SS) : Option (Int32 × SS) :=
  if (200 : Int32) < x2 then
    some ((-4 : Int32), σ)
  else
    gd (inR ((168 : Int32) + x1) 234) <|
    if (gi σ 21 ((168 : Int32) + x1).toNatClampNeg) = (0 : Int32) then
      some (x2, σ)
    else
      bd (F_X8_tickOn N (156 : Int32) (0 : Int32) σ) fun r_18 σ_19 =>
      nm (x2 + (1 : Int32)) fun x_21 =>
      IH x1 x_21 σ_19
noncomputable def F_X8_when_20 (N : Nat) (n : Nat) : Int32 → Int32 → SS → Option (Int32 × SS) := Nat.rec (fun _ _ _ => none) (fun _ IH => B_X8_when_20 N IH) n
set_option maxRecDepth 100000 in
theorem w_X8_when_20 {p : Program} {l : Launch} {e : Env} {s : State} {m : MethodId} {args : Array Value} {below : List Frame} {meth : Method} {c : Code} {G : GG} {rd : Bool} {q : Nat → Nat} {N : Nat} {r : Int32} {σ' : SS} (C : cx p s m args meth c cX8_when 3 RX8 (some .int) G) : ∀ (n : Nat), ∀ (x1 : Int32) (x2 : Int32) (σ : SS) (H : Heap) (locs : List Loc) (ls : Array Slot), F_X8_when_20 N n x1 x2 σ = some (r, σ') → wx G rd q σ H → va_S (fa G) s.heap H locs → lv_has ls 3 [(0, .ref (q 1)), (1, .int x1), (2, .int x2)] → W p l e rmX8_when s m args below meth c H locs 0 0 (MQ below (qxi G rd q σ' r) args s 0 0 (fa G)) (F0 m 20 ls []) := by
  obtain ⟨hx, hb, hml, hown, hts, -, -, -, -⟩ := id C
  intro n
  induction n with
  | zero =>
    intro x1 x2 σ H locs ls hF hw hS hl
    cases hF
  | succ n ih =>
    intro x1 x2 σ H locs ls hF hw hS hl
    have hF : B_X8_when_20 N (F_X8_when_20 N n) x1 x2 σ = some (r, σ') := hF
    unfold B_X8_when_20 at hF
    refine lv_iload_n hx hb dX8_when_20 rfl (lv_at hl 2 rfl) ?_
    refine lv_sipush (v := (200 : Int32)) hx hb dX8_when_21 (by decide) ?_
    refine lv_icmp_gt (tgt := 56) hx hb dX8_when_24 (by decide) (fun c_15 => ?_) (fun c_15 => ?_)
    · have hF := it_e hF c_15
      refine lv_bipush (v := (-4 : Int32)) hx hb dX8_when_56 (by decide) ?_
      exact r_iret C hw hS hF dX8_when_58
    · have hF := if_e hF c_15
      refine lv_aload_n hx hb dX8_when_27 rfl (lv_at hl 0 rfl) ?_
      refine r_get8 C hw 0 (by decide) rfl (v := .ref (q 21)) rfl q955 dX8_when_28 ?_
      refine lv_sipush (v := (168 : Int32)) hx hb dX8_when_31 (by decide) ?_
      refine lv_iload_n hx hb dX8_when_34 rfl (lv_at hl 1 rfl) ?_
      refine lv_iadd hx hb dX8_when_35 ?_
      obtain ⟨h_16, hF⟩ := gd_e hF
      refine r_iald (i := 21) (n := 234) (g := 21) (st := 0) C hw (wi_lo (Or.inr ⟨by decide, by decide⟩)) rfl h_16 dX8_when_36 ?_
      refine lv_if_ne (tgt := 42) hx hb dX8_when_37 (by decide) (fun c_17 => ?_) (fun c_17 => ?_)
      · have hF := if_e hF c_17
        refine lv_aload_n hx hb dX8_when_42 rfl (lv_at hl 0 rfl) ?_
        refine lv_sipush (v := (156 : Int32)) hx hb dX8_when_43 (by decide) ?_
        refine lv_iconst (v := (0 : Int32)) hx hb dX8_when_46 (by decide) ?_
        obtain ⟨r_18, σ_19, h_20, hF⟩ := bd_e hF
        refine r_callVv (As := [.int (156 : Int32), .int (0 : Int32)]) (rest := []) (i := 1) C hw hS (wi_lo (Or.inl (by decide))) rfl (ci := 8) rfl (met_X8_tickOn l G rd q  h_20) (cwV 2 hts (lw_V q1171 q1173 qs45 q65 q1174) rfl rfl rfl (by decide +kernel) ⟨Nat.le_of_ble_eq_true rfl, Nat.le_of_ble_eq_true rfl⟩) rfl hl.1 rfl (Nat.le_of_ble_eq_true rfl) ⟨Nat.le_refl _, Nat.le_refl _⟩ dX8_when_47 (fun H locs hw hS => ?_)
        obtain ⟨x_21, ex_21, hF⟩ := nm_e2 hF
        refine lv_iinc (v := x_21) (lv' := [(2, .int x_21), (0, .ref (q 1)), (1, .int x1)]) hx hb dX8_when_50 hl (k := 2) rfl (by rw [ex_21]; rfl) (by decide) rfl (fun ls hl => ?_)
        refine lv_goto (tgt := 20) hx hb dX8_when_53 (by decide) ?_
        exact ih _ _ _ _ _ _ hF hw hS (lv_sub hl [1, 2, 0] rfl)
      · have hF := it_e hF c_17
        refine lv_iload_n hx hb dX8_when_40 rfl (lv_at hl 2 rfl) ?_
        exact r_iret C hw hS hF dX8_when_41
noncomputable def F_X8_when (N : Nat) (x1 : Int32) (σ : SS) : Option (Int32 × SS) :=
  bd (F_X8_isWheel N x1 σ) fun r_22 σ_23 =>
  if r_22 = (0 : Int32) then
    some ((-1 : Int32), σ_23)
  else
    bd (F_X8_copies N (0 : Int32) (156 : Int32) σ_23) fun r_26 σ_27 =>
    F_X8_when_20 N N x1 (0 : Int32) σ_27
set_option maxRecDepth 100000 in
theorem met_X8_when (l : Launch) (G : GG) (rd : Bool) (q : Nat → Nat) {N : Nat} {x1 : Int32} {σ σ' : SS} {r : Int32} (hF : F_X8_when N x1 σ = some (r, σ')) : Met l yX8_when (ws_ yX8_when cX8_when 3 (some .int)) rmX8_when (pcx G rd q σ [.ref (q 1), .int x1]) (qxi G rd q σ' r) 0 0 (fa G) := by
  refine met_of (by decide) (Nat.le_of_ble_eq_true rfl) ?_
  intro p e s m below meth c C H locs ls hw hS hl
  obtain ⟨hx, hb, hml, hown, hts, -, -, -, -⟩ := id C
  have hl : lv_has ls 3 [(0, .ref (q 1)), (1, .int x1)] := hl
  unfold F_X8_when at hF
  refine lv_aload_n hx hb dX8_when_0 rfl (lv_at hl 0 rfl) ?_
  refine lv_iload_n hx hb dX8_when_1 rfl (lv_at hl 1 rfl) ?_
  obtain ⟨r_22, σ_23, h_24, hF⟩ := bd_e hF
  refine r_callVi (As := [.int x1]) (rest := []) (i := 1) C hw hS (wi_lo (Or.inl (by decide))) rfl (ci := 8) rfl (met_X8_isWheel l G rd q  h_24) (cwV 1 hts (lw_V q1100 q1102 qs39 q65 q1103) rfl rfl rfl (by decide +kernel) ⟨Nat.le_of_ble_eq_true rfl, Nat.le_of_ble_eq_true rfl⟩) rfl hl.1 rfl (Nat.le_of_ble_eq_true rfl) ⟨Nat.le_refl _, Nat.le_refl _⟩ dX8_when_2 (fun H locs hw hS => ?_)
  refine lv_if_ne (tgt := 10) hx hb dX8_when_5 (by decide) (fun c_25 => ?_) (fun c_25 => ?_)
  · have hF := if_e hF c_25
    refine lv_aload_n hx hb dX8_when_10 rfl (lv_at hl 0 rfl) ?_
    refine lv_iconst (v := (0 : Int32)) hx hb dX8_when_11 (by decide) ?_
    refine lv_sipush (v := (156 : Int32)) hx hb dX8_when_12 (by decide) ?_
    obtain ⟨r_26, σ_27, h_28, hF⟩ := bd_e hF
    refine r_callVv (As := [.int (0 : Int32), .int (156 : Int32)]) (rest := []) (i := 1) C hw hS (wi_lo (Or.inl (by decide))) rfl (ci := 8) rfl (met_X8_copies l G rd q  h_28) (cwV 2 hts (lw_V q1192 q1194 qs48 q65 q1195) rfl rfl rfl (by decide +kernel) ⟨Nat.le_of_ble_eq_true rfl, Nat.le_of_ble_eq_true rfl⟩) rfl hl.1 rfl (Nat.le_of_ble_eq_true rfl) ⟨Nat.le_refl _, Nat.le_refl _⟩ dX8_when_15 (fun H locs hw hS => ?_)
    refine lv_iconst (v := (0 : Int32)) hx hb dX8_when_18 (by decide) ?_
    refine lv_istore_n (lv' := [(2, .int (0 : Int32)), (0, .ref (q 1)), (1, .int x1)]) hx hb dX8_when_19 rfl hl (by decide) rfl (fun ls hl => ?_)
    exact w_X8_when_20 C   N _ _ _ _ _ _ hF hw hS (lv_sub hl [1, 2, 0] rfl)
  · have hF := it_e hF c_25
    refine lv_iconst (v := (-1 : Int32)) hx hb dX8_when_8 (by decide) ?_
    exact r_iret C hw hS hF dX8_when_9
