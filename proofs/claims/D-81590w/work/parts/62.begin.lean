/-! THE LAW's beginning: the two objects made; then its loop -/
set_option maxRecDepth 100000
theorem whole_of {p : Program} {e : Env} {s : State} {m : MethodId} {below : List Frame} {meth : Method} {c : Code} (l : Launch) (hflags : l.flags = flags0) {b L : Nat} {xs : Nat → Int32} (hL : L ≤ 320) (C0 : lw_At p s m meth c b L xs) {Inv : Nat → SS → Prop} {N : Nat} (T : StepsL Inv N) (hI : Inv 0 σ00) : W p l e room_1 s m #[Value.ref b] below meth c s.heap [] 0 0 (lw_Z below #[Value.ref b] s) (entryFrame m ([Value.ref b] : List Value).toArray 4) := by
  have hst : l.stackTraces = false := by
    unfold Launch.stackTraces
    rw [hflags]
    decide +kernel
  obtain ⟨G, hk, hG1, hG2⟩ := kx_start C0
  obtain ⟨hx, hb, hr, hml, hown, hts, hX, hbl, hlocks, hgv, hmod⟩ := C0
  have hox : ox G s.heap := ⟨Nat.le_of_eq hG1, fun a _ => by rw [hG2]⟩
  have C : cx p s m #[Value.ref b] meth c code 4 R_law ret G := ⟨hx, hb, hml, hown, fun w h => hts w (lw_all_tbl h), hr, hlocks, hk, hox⟩
  have hl := lv_entry ([.ref b]) (n := 4) (Nat.le_of_ble_eq_true rfl)
  rw [lg_entry_eq]
  have hl : lv_has _ 4 [(0, .ref b)] := hl
  have hA : ∀ z : Nat, s.heap.size ≤ z → fa G z := fun z h => by show G.2.2.1 ≤ z; rw [hG1]; exact h
  have hS : va_S (fa G) s.heap s.heap [] := va_S.rf
  have hP : va_P G.1 clT [] s.heap := fun k q h => by cases h
  have hD : va_D (fa G) [] := ⟨(fun i j p q h => by cases h), (fun k q h => by cases h)⟩
  refine n_new (R := room_1) (A := fa G) (ci := 0) (fs := [.null, .null, .null, .null, .int 0, .null, .int 0, .int 0, .int 0, .int 0, .int 0, .null, .int 0, .int 0, .int 0, .int 0, .long 0, .long 0, .long 0, .null, .null, .null, .int 0]) C hP hD hS hA in_X0 tyX0 tyX0_ok rfl q83 q84 q57 (fun j hj => by rcases (show j = 0 ∨ j = 1 ∨ j = 2 ∨ j = 3 ∨ j = 4 ∨ j = 5 ∨ j = 6 ∨ j = 7 ∨ j = 8 ∨ j = 9 ∨ j = 10 ∨ j = 11 ∨ j = 12 ∨ j = 13 ∨ j = 14 ∨ j = 15 ∨ j = 16 ∨ j = 17 ∨ j = 18 ∨ j = 19 ∨ j = 20 ∨ j = 21 ∨ j = 22 by omega) with rfl | rfl | rfl | rfl | rfl | rfl | rfl | rfl | rfl | rfl | rfl | rfl | rfl | rfl | rfl | rfl | rfl | rfl | rfl | rfl | rfl | rfl | rfl <;> rfl) (Nat.le_of_ble_eq_true rfl) (Nat.le_of_ble_eq_true rfl) dL_law_0 (fun h0 H hP hD hS => ?_)
  have hFc := af_of (ws := [(h0, .inr (0, [.null, .null, .null, .null, .int 0, .null, .int 0, .int 0, .int 0, .int 0, .int 0, .null, .int 0, .int 0, .int 0, .int 0, .long 0, .long 0, .long 0, .null, .null, .null, .int 0]))]) (hox.on hS).1 hD
  refine lv_dup hx hb dL_law_3 rfl ?_
  refine va_callv (va_runI (As := []) (rest := [.ref h0]) ⟨hx, hb, hml, hown, C.2.2.2.2.1⟩ (met_X0_init l G h0 H.size) (cwI 0 C.2.2.2.2.1 (lw_meth q87) rfl rfl rfl (hts _ (lw_all_tbl q57)) (hts _ (lw_all_tbl q85)) (hts _ (lw_all_tbl q86)) rfl (by decide +kernel) ⟨Nat.le_of_ble_eq_true rfl, Nat.le_of_ble_eq_true rfl⟩) ⟨pcl.blind, fun U hU hW => ⟨rfl, hk.warm hW, by rw [hU]; exact hox.on hS, by rw [hU], by rw [hU]; exact hP, hD⟩⟩ rfl rfl hl.1 rfl (lv_room (Nat.le_of_ble_eq_true rfl)) dL_law_4 ⟨Nat.le_of_ble_eq_true rfl, Nat.le_of_ble_eq_true rfl⟩) hS (fun z _ h => hFc z h) hFc (fun a t H1 locs ht hvm hw1 hB hz1 hk1 hS => ?_)
  obtain ⟨hP1, hD1⟩ := hB
  subst ht
  have hP : va_P G.1 clT (wlX0_init G h0 a) t.heap := hP1
  have hD : va_D (fa G) (wlX0_init G h0 a) := hD1.weaken (fun _ _ _ h => hFc _ h)
  generalize t.heap = H at hP hS ⊢
  refine lv_astore_n (lv' := [(1, .ref h0), (0, .ref b)]) hx hb dL_law_7 rfl hl (by decide) rfl (fun ls hl => ?_)
  refine n_new (R := room_1) (A := fa G) (ci := 8) (fs := [.null, .null, .int 0, .null, .int 0, .int 0, .int 0, .int 0, .int 0, .int 0, .int 0, .int 0, .null, .null, .int 0, .int 0, .int 0, .int 0, .null, .int 0, .null, .null, .null, .null, .null, .int 0]) C hP hD hS hA in_X8 tyX8 tyX8_ok rfl q949 q950 q65 (fun j hj => by rcases (show j = 0 ∨ j = 1 ∨ j = 2 ∨ j = 3 ∨ j = 4 ∨ j = 5 ∨ j = 6 ∨ j = 7 ∨ j = 8 ∨ j = 9 ∨ j = 10 ∨ j = 11 ∨ j = 12 ∨ j = 13 ∨ j = 14 ∨ j = 15 ∨ j = 16 ∨ j = 17 ∨ j = 18 ∨ j = 19 ∨ j = 20 ∨ j = 21 ∨ j = 22 ∨ j = 23 ∨ j = 24 ∨ j = 25 by omega) with rfl | rfl | rfl | rfl | rfl | rfl | rfl | rfl | rfl | rfl | rfl | rfl | rfl | rfl | rfl | rfl | rfl | rfl | rfl | rfl | rfl | rfl | rfl | rfl | rfl | rfl <;> rfl) (Nat.le_of_ble_eq_true rfl) (Nat.le_of_ble_eq_true rfl) dL_law_8 (fun h1 H hP hD hS => ?_)
  have hFc := af_of (ws := [(h1, .inr (8, [.null, .null, .int 0, .null, .int 0, .int 0, .int 0, .int 0, .int 0, .int 0, .int 0, .int 0, .null, .null, .int 0, .int 0, .int 0, .int 0, .null, .int 0, .null, .null, .null, .null, .null, .int 0]))]) (hox.on hS).1 (pd_last hD)
  refine lv_dup hx hb dL_law_11 rfl ?_
  refine va_callv (va_runI (As := []) (rest := [.ref h1]) ⟨hx, hb, hml, hown, C.2.2.2.2.1⟩ (met_X8_init l G h1 H.size) (cwI 0 C.2.2.2.2.1 (lw_meth q953) rfl rfl rfl (hts _ (lw_all_tbl q65)) (hts _ (lw_all_tbl q951)) (hts _ (lw_all_tbl q952)) rfl (by decide +kernel) ⟨Nat.le_of_ble_eq_true rfl, Nat.le_of_ble_eq_true rfl⟩) ⟨pcl.blind, fun U hU hW => ⟨rfl, hk.warm hW, by rw [hU]; exact hox.on hS, by rw [hU], by rw [hU]; exact pw_last hP, pd_last hD⟩⟩ rfl rfl hl.1 rfl (lv_room (Nat.le_of_ble_eq_true rfl)) dL_law_12 ⟨Nat.le_of_ble_eq_true rfl, Nat.le_of_ble_eq_true rfl⟩) hS (fun z _ h => hFc z h) hFc (fun d t H1 locs ht hvm hw1 hB hz1 hk1 hS => ?_)
  obtain ⟨hP1, hD1⟩ := hB
  subst ht
  have hJ := join1 hP hD hk1 hFc hP1 hD1
  have hw : wx G false (q00 h0 a h1 d) σ00 t.heap := wx_00 hJ.1 hJ.2
  generalize t.heap = H at hw hS ⊢
  refine lv_astore_n (lv' := [(2, .ref h1), (1, .ref h0), (0, .ref b)]) hx hb dL_law_15 rfl hl (by decide) rfl (fun ls hl => ?_)
  refine lv_iconst (v := (0 : Int32)) hx hb dL_law_16 (by decide) ?_
  refine lv_istore_n (lv' := [(3, .int 0), (2, .ref h1), (1, .ref h0), (0, .ref b)]) hx hb dL_law_17 rfl hl (by decide) rfl (fun ls hl => ?_)
  refine W.widen (k := 60 + 20 * 0) (n := 3000 + 1000 * 0) (Nat.le_of_ble_eq_true rfl) (Nat.le_of_ble_eq_true rfl) ?_
  exact w_loop hst hL hX hbl hG1 C T 64 0 rfl (q00 h0 a h1 d) σ00 H locs ls hI hw hS (lv_sub hl [3, 2, 1, 0] rfl)
