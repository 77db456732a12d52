/-! A FAULT: its constructor, through Exception and Throwable -/
set_option maxRecDepth 100000
/-- a constructor's end over a list of cells that does not grow -/
abbrev qcw (G : GG) (ws : va_W) (sz : Nat) (w1 : va_W) : Array Value → State → Outcome → State → Prop := va_Qv (fun (_ : Unit) => True) (fun _ t => va_P G.1 clT w1 t.heap ∧ va_D (va_A ws sz) w1) (va_A ws sz)
theorem zU_v {G : GG} {s : State} (h : kx G s) (ho : ox G s.heap) : ∃ w : Value, va_Z Bundle.tN "UNASSIGNED_STACK" Bundle.steD w (fa G) s s.heap ∧ narrow (tyX10 1) w = w ∧ fits (tyX10 1) w = true := by
  rcases (h.zU ho).1 with hz | ⟨t, hz⟩
  · exact ⟨_, hz, rfl, rfl⟩
  · exact ⟨_, hz, rfl, rfl⟩
theorem zN_v {G : GG} {s : State} (h : kx G s) (ho : ox G s.heap) : ∃ w : Value, va_Z Bundle.tN "SUPPRESSED_SENTINEL" Bundle.listD w (fa G) s s.heap ∧ narrow (tyX10 2) w = w ∧ fits (tyX10 2) w = true := by
  rcases (h.zN ho).1 with hz | ⟨t, hz⟩
  · exact ⟨_, hz, rfl, rfl⟩
  · exact ⟨_, hz, rfl, rfl⟩
abbrev rmJ0_init_2 : Room := { frames := 2, cells := 0, slots := 0, locals := 60 }
theorem met_J0_init_2 (l : Launch) (G : GG) (h0 sz : Nat) : Met l yJ0_init_2 (ws_ yJ0_init_2 cJ0_init_2 5 none) rmJ0_init_2 (pcl G [(h0, .inr (10, [.null, .null, .null, .null, .null, .int 0, .int 0, .int 0]))] sz [.ref h0, .null, .null, .int 0, .int 0]) (qcw G [(h0, .inr (10, [.null, .null, .null, .null, .null, .int 0, .int 0, .int 0]))] sz [(h0, .inr (10, [.null, .null, .null, .null, .null, .int 0, .int 0, .int 0]))]) 0 0 (va_A [(h0, .inr (10, [.null, .null, .null, .null, .null, .int 0, .int 0, .int 0]))] sz) := by
  refine met_ofC (by decide) rfl (Nat.le_of_ble_eq_true rfl) (fun U h => ⟨h.1, h.2.1⟩) ?_
  intro p e s m below meth c C hin hv ls hl
  obtain ⟨hk0, hox, hsz, hP, hD0⟩ := hv
  obtain ⟨hx, hb, hml, hown, hts, hr, hlk, -, -⟩ := id C
  have hl : lv_has ls 5 [(0, .ref h0), (1, .null), (2, .null), (3, .int 0), (4, .int 0)] := hl
  subst hsz
  have hAf := af_of hox.1 hD0
  have hD := hD0.self (sz := s.heap.size)
  generalize hAe : va_A [(h0, .inr (10, [.null, .null, .null, .null, .null, .int 0, .int 0, .int 0]))] s.heap.size = A at hD hAf ⊢
  have hA : ∀ q : Nat, s.heap.size ≤ q → A q := fun q h => by rw [← hAe]; exact Or.inr h
  have hS : va_S A s.heap s.heap [] := va_S.rf
  refine lv_aload_n hx hb dJ0_init_2_0 rfl (lv_at hl 0 rfl) ?_
  refine n_obj C q349 q89 q90 hl.1 (Nat.le_of_ble_eq_true rfl) (Nat.le_of_ble_eq_true rfl) dJ0_init_2_1 ?_
  refine lv_aload_n hx hb dJ0_init_2_4 rfl (lv_at hl 0 rfl) ?_
  refine lv_aload_n hx hb dJ0_init_2_5 rfl (lv_at hl 0 rfl) ?_
  refine n_put (ci := 10) C hP hD hS in_X10 tyX10 tyX10_ok nmX10 rfl 0 rfl 0 (by decide) q395 rfl rfl rfl (Nat.le_of_ble_eq_true rfl) dJ0_init_2_6 (fun H locs hP hD hS => ?_)
  have hP : va_P G.1 clT [(h0, .inr (10, [.ref h0, .null, .null, .null, .null, .int 0, .int 0, .int 0]))] H := hP
  have hD : va_D A [(h0, .inr (10, [.ref h0, .null, .null, .null, .null, .int 0, .int 0, .int 0]))] := hD
  obtain ⟨w1, hz1, hn1, hf1⟩ := zU_v hk0 hox
  have hSa : va_S (fa G) s.heap H locs := ⟨hS.1, fun q h1 h2 => hS.2.1 q h1 (fun z => h2 (hAf q z)), fun z hz => hAf _ (hS.2.2 z hz)⟩
  refine lv_aload_n hx hb dJ0_init_2_9 rfl (lv_at hl 0 rfl) ?_
  refine va_gets hx hb hz1 hSa hown (hts _ q350) (fun _ h => h) dJ0_init_2_10 ?_
  refine n_put (ci := 10) C hP hD hS in_X10 tyX10 tyX10_ok nmX10 rfl 0 rfl 1 (by decide) q396 rfl hn1 hf1 (Nat.le_of_ble_eq_true rfl) dJ0_init_2_13 (fun H locs hP hD hS => ?_)
  have hP : va_P G.1 clT [(h0, .inr (10, [.ref h0, w1, .null, .null, .null, .int 0, .int 0, .int 0]))] H := hP
  have hD : va_D A [(h0, .inr (10, [.ref h0, w1, .null, .null, .null, .int 0, .int 0, .int 0]))] := hD
  obtain ⟨w2, hz2, hn2, hf2⟩ := zN_v hk0 hox
  have hSa : va_S (fa G) s.heap H locs := ⟨hS.1, fun q h1 h2 => hS.2.1 q h1 (fun z => h2 (hAf q z)), fun z hz => hAf _ (hS.2.2 z hz)⟩
  refine lv_aload_n hx hb dJ0_init_2_16 rfl (lv_at hl 0 rfl) ?_
  refine va_gets hx hb hz2 hSa hown (hts _ q352) (fun _ h => h) dJ0_init_2_17 ?_
  refine n_put (ci := 10) C hP hD hS in_X10 tyX10 tyX10_ok nmX10 rfl 0 rfl 2 (by decide) q397 rfl hn2 hf2 (Nat.le_of_ble_eq_true rfl) dJ0_init_2_20 (fun H locs hP hD hS => ?_)
  have hP : va_P G.1 clT [(h0, .inr (10, [.ref h0, w1, w2, .null, .null, .int 0, .int 0, .int 0]))] H := hP
  have hD : va_D A [(h0, .inr (10, [.ref h0, w1, w2, .null, .null, .int 0, .int 0, .int 0]))] := hD
  refine lv_iload hx hb dJ0_init_2_23 (lv_at hl 4 rfl) ?_
  refine lv_if_eq (tgt := 36) hx hb dJ0_init_2_25 (by decide) (fun _ => ?_) (fun c9 => absurd rfl c9)
  refine lv_aload_n hx hb dJ0_init_2_36 rfl (lv_at hl 0 rfl) ?_
  refine lv_null hx hb dJ0_init_2_37 ?_
  refine n_put (ci := 10) C hP hD hS in_X10 tyX10 tyX10_ok nmX10 rfl 0 rfl 1 (by decide) q396 rfl rfl rfl (Nat.le_of_ble_eq_true rfl) dJ0_init_2_38 (fun H locs hP hD hS => ?_)
  have hP : va_P G.1 clT [(h0, .inr (10, [.ref h0, .null, w2, .null, .null, .int 0, .int 0, .int 0]))] H := hP
  have hD : va_D A [(h0, .inr (10, [.ref h0, .null, w2, .null, .null, .int 0, .int 0, .int 0]))] := hD
  refine lv_aload_n hx hb dJ0_init_2_41 rfl (lv_at hl 0 rfl) ?_
  refine lv_aload_nN hx hb dJ0_init_2_42 rfl (lv_at hl 1 rfl) ?_
  refine n_put (ci := 10) C hP hD hS in_X10 tyX10 tyX10_ok nmX10 rfl 0 rfl 3 (by decide) q394 rfl rfl rfl (Nat.le_of_ble_eq_true rfl) dJ0_init_2_43 (fun H locs hP hD hS => ?_)
  have hP : va_P G.1 clT [(h0, .inr (10, [.ref h0, .null, w2, .null, .null, .int 0, .int 0, .int 0]))] H := hP
  have hD : va_D A [(h0, .inr (10, [.ref h0, .null, w2, .null, .null, .int 0, .int 0, .int 0]))] := hD
  refine lv_aload_n hx hb dJ0_init_2_46 rfl (lv_at hl 0 rfl) ?_
  refine lv_aload_nN hx hb dJ0_init_2_47 rfl (lv_at hl 2 rfl) ?_
  refine n_put (ci := 10) C hP hD hS in_X10 tyX10 tyX10_ok nmX10 rfl 0 rfl 0 (by decide) q395 rfl rfl rfl (Nat.le_of_ble_eq_true rfl) dJ0_init_2_48 (fun H locs hP hD hS => ?_)
  have hP : va_P G.1 clT [(h0, .inr (10, [.null, .null, w2, .null, .null, .int 0, .int 0, .int 0]))] H := hP
  have hD : va_D A [(h0, .inr (10, [.null, .null, w2, .null, .null, .int 0, .int 0, .int 0]))] := hD
  refine lv_iload_n hx hb dJ0_init_2_51 rfl (lv_at hl 3 rfl) ?_
  refine lv_if_ne (tgt := 60) hx hb dJ0_init_2_52 (by decide) (fun c9 => absurd rfl c9) (fun _ => ?_)
  refine lv_aload_n hx hb dJ0_init_2_55 rfl (lv_at hl 0 rfl) ?_
  refine lv_null hx hb dJ0_init_2_56 ?_
  refine n_put (ci := 10) C hP hD hS in_X10 tyX10 tyX10_ok nmX10 rfl 0 rfl 2 (by decide) q397 rfl rfl rfl (Nat.le_of_ble_eq_true rfl) dJ0_init_2_57 (fun H locs hP hD hS => ?_)
  have hP : va_P G.1 clT [(h0, .inr (10, [.null, .null, .null, .null, .null, .int 0, .int 0, .int 0]))] H := hP
  have hD : va_D A [(h0, .inr (10, [.null, .null, .null, .null, .null, .int 0, .int 0, .int 0]))] := hD
  exact W.vret hx hb hr (fun t ht hW => ⟨⟨(), rfl, trivial, by rw [ht]; exact hP, by rw [hAe]; exact hD⟩, by rw [hAe]; exact hS.F ht⟩) hS.2.2 dJ0_init_2_60 hlk
abbrev rmJ1_init : Room := { frames := 3, cells := 0, slots := 0, locals := 90 }
theorem met_J1_init (l : Launch) (G : GG) (h0 sz : Nat) : Met l yJ1_init (ws_ yJ1_init cJ1_init 5 none) rmJ1_init (pcl G [(h0, .inr (10, [.null, .null, .null, .null, .null, .int 0, .int 0, .int 0]))] sz [.ref h0, .null, .null, .int 0, .int 0]) (qcw G [(h0, .inr (10, [.null, .null, .null, .null, .null, .int 0, .int 0, .int 0]))] sz [(h0, .inr (10, [.null, .null, .null, .null, .null, .int 0, .int 0, .int 0]))]) 0 0 (va_A [(h0, .inr (10, [.null, .null, .null, .null, .null, .int 0, .int 0, .int 0]))] sz) := by
  refine met_ofC (by decide) rfl (Nat.le_of_ble_eq_true rfl) (fun U h => ⟨h.1, h.2.1⟩) ?_
  intro p e s m below meth c C hin hv ls hl
  obtain ⟨hk0, hox, hsz, hP, hD0⟩ := hv
  obtain ⟨hx, hb, hml, hown, hts, hr, hlk, -, -⟩ := id C
  have hl : lv_has ls 5 [(0, .ref h0), (1, .null), (2, .null), (3, .int 0), (4, .int 0)] := hl
  subst hsz
  have hAf := af_of hox.1 hD0
  have hD := hD0.self (sz := s.heap.size)
  generalize hAe : va_A [(h0, .inr (10, [.null, .null, .null, .null, .null, .int 0, .int 0, .int 0]))] s.heap.size = A at hD hAf ⊢
  have hA : ∀ q : Nat, s.heap.size ≤ q → A q := fun q h => by rw [← hAe]; exact Or.inr h
  have hS : va_S A s.heap s.heap [] := va_S.rf
  refine lv_aload_n hx hb dJ1_init_0 rfl (lv_at hl 0 rfl) ?_
  refine lv_aload_nN hx hb dJ1_init_1 rfl (lv_at hl 1 rfl) ?_
  refine lv_aload_nN hx hb dJ1_init_2 rfl (lv_at hl 2 rfl) ?_
  refine lv_iload_n hx hb dJ1_init_3 rfl (lv_at hl 3 rfl) ?_
  refine lv_iload hx hb dJ1_init_4 (lv_at hl 4 rfl) ?_
  refine va_callv (va_runI (As := [.null, .null, .int 0, .int 0]) (rest := []) ⟨hx, hb, hml, hown, hts⟩ (met_J0_init_2 l G h0 s.heap.size) (cwI 4 hts (lw_meth q388) rfl rfl rfl (hts _ q67) (hts _ q386) (hts _ q387) rfl (by decide +kernel) ⟨Nat.le_of_ble_eq_true rfl, Nat.le_of_ble_eq_true rfl⟩) ⟨pcl.blind, fun U hU hW => ⟨rfl, hk0.warm hW, by rw [hU]; exact hox, by rw [hU], by rw [hU]; exact hP, hD0⟩⟩ rfl rfl hl.1 rfl (lv_room (Nat.le_of_ble_eq_true rfl)) dJ1_init_6 ⟨Nat.le_refl _, Nat.le_refl _⟩) hS (fun q _ h => by rw [hAe] at h; exact h) (fun q h => by rw [hAe] at h; exact h) (fun u t H locs ht hvm hw1 hB hz1 hk1 hS => ?_)
  obtain ⟨hP, hD⟩ := hB
  rw [hAe] at hD
  subst ht
  exact W.vret hx hb hr (fun t ht hW => ⟨⟨(), rfl, trivial, by rw [ht]; exact hP, by rw [hAe]; exact hD⟩, by rw [hAe]; exact hS.F ht⟩) hS.2.2 dJ1_init_9 hlk
abbrev rmX10_init : Room := { frames := 4, cells := 0, slots := 0, locals := 120 }
theorem met_X10_init (l : Launch) (G : GG) (h0 sz : Nat) (x1 x2 : Int32) : Met l yX10_init (ws_ yX10_init cX10_init 3 none) rmX10_init (pcl G [(h0, .inr (10, [.null, .null, .null, .null, .null, .int 0, .int 0, .int 0]))] sz [.ref h0, .int x1, .int x2]) (qcw G [(h0, .inr (10, [.null, .null, .null, .null, .null, .int 0, .int 0, .int 0]))] sz [(h0, .inr (10, [.null, .null, .null, .null, .null, .int 0, .int x1, .int x2]))]) 0 0 (va_A [(h0, .inr (10, [.null, .null, .null, .null, .null, .int 0, .int 0, .int 0]))] sz) := by
  refine met_ofC (by decide) rfl (Nat.le_of_ble_eq_true rfl) (fun U h => ⟨h.1, h.2.1⟩) ?_
  intro p e s m below meth c C hin hv ls hl
  obtain ⟨hk0, hox, hsz, hP, hD0⟩ := hv
  obtain ⟨hx, hb, hml, hown, hts, hr, hlk, -, -⟩ := id C
  have hl : lv_has ls 3 [(0, .ref h0), (1, .int x1), (2, .int x2)] := hl
  subst hsz
  have hAf := af_of hox.1 hD0
  have hD := hD0.self (sz := s.heap.size)
  generalize hAe : va_A [(h0, .inr (10, [.null, .null, .null, .null, .null, .int 0, .int 0, .int 0]))] s.heap.size = A at hD hAf ⊢
  have hA : ∀ q : Nat, s.heap.size ≤ q → A q := fun q h => by rw [← hAe]; exact Or.inr h
  have hS : va_S A s.heap s.heap [] := va_S.rf
  refine lv_aload_n hx hb dX10_init_0 rfl (lv_at hl 0 rfl) ?_
  refine lv_null hx hb dX10_init_1 ?_
  refine lv_null hx hb dX10_init_2 ?_
  refine lv_iconst (v := (0 : Int32)) hx hb dX10_init_3 (by decide) ?_
  refine lv_iconst (v := (0 : Int32)) hx hb dX10_init_4 (by decide) ?_
  refine va_callv (va_runI (As := [.null, .null, .int 0, .int 0]) (rest := []) ⟨hx, hb, hml, hown, hts⟩ (met_J1_init l G h0 s.heap.size) (cwI 4 hts (lw_meth q385) rfl rfl rfl (hts _ q68) (hts _ q383) (hts _ q384) rfl (by decide +kernel) ⟨Nat.le_of_ble_eq_true rfl, Nat.le_of_ble_eq_true rfl⟩) ⟨pcl.blind, fun U hU hW => ⟨rfl, hk0.warm hW, by rw [hU]; exact hox, by rw [hU], by rw [hU]; exact hP, hD0⟩⟩ rfl rfl hl.1 rfl (lv_room (Nat.le_of_ble_eq_true rfl)) dX10_init_5 ⟨Nat.le_refl _, Nat.le_refl _⟩) hS (fun q _ h => by rw [hAe] at h; exact h) (fun q h => by rw [hAe] at h; exact h) (fun u t H locs ht hvm hw1 hB hz1 hk1 hS => ?_)
  obtain ⟨hP, hD⟩ := hB
  rw [hAe] at hD
  subst ht
  generalize t.heap = H at hP hS ⊢
  have hP : va_P G.1 clT [(h0, .inr (10, [.null, .null, .null, .null, .null, .int 0, .int 0, .int 0]))] H := hP
  have hD : va_D A [(h0, .inr (10, [.null, .null, .null, .null, .null, .int 0, .int 0, .int 0]))] := hD
  refine lv_aload_n hx hb dX10_init_8 rfl (lv_at hl 0 rfl) ?_
  refine lv_iload_n hx hb dX10_init_9 rfl (lv_at hl 1 rfl) ?_
  refine n_putF (ci := 10) C hP hD hS in_X10 tyX10 tyX10_ok nmX10 rfl 0 rfl 6 (by decide) q389 rfl hin rfl rfl rfl (Nat.le_of_ble_eq_true rfl) dX10_init_10 (fun H locs hP hD hS => ?_)
  have hP : va_P G.1 clT [(h0, .inr (10, [.null, .null, .null, .null, .null, .int 0, .int x1, .int 0]))] H := hP
  have hD : va_D A [(h0, .inr (10, [.null, .null, .null, .null, .null, .int 0, .int x1, .int 0]))] := hD
  refine lv_aload_n hx hb dX10_init_13 rfl (lv_at hl 0 rfl) ?_
  refine lv_iload_n hx hb dX10_init_14 rfl (lv_at hl 2 rfl) ?_
  refine n_putF (ci := 10) C hP hD hS in_X10 tyX10 tyX10_ok nmX10 rfl 0 rfl 7 (by decide) q391 rfl hin rfl rfl rfl (Nat.le_of_ble_eq_true rfl) dX10_init_15 (fun H locs hP hD hS => ?_)
  have hP : va_P G.1 clT [(h0, .inr (10, [.null, .null, .null, .null, .null, .int 0, .int x1, .int x2]))] H := hP
  have hD : va_D A [(h0, .inr (10, [.null, .null, .null, .null, .null, .int 0, .int x1, .int x2]))] := hD
  exact W.vret hx hb hr (fun t ht hW => ⟨⟨(), rfl, trivial, by rw [ht]; exact hP, by rw [hAe]; exact hD⟩, by rw [hAe]; exact hS.F ht⟩) hS.2.2 dX10_init_18 hlk
