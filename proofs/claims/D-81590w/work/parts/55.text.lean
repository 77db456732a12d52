/-! lifted by hand: FlyWheels.text -/
set_option maxRecDepth 100000
noncomputable def F_X0_text (N : Nat) (σ : SS) : Option (Int32 × SS) :=
  nm (gi σ 0 12) fun x =>
  nm (si σ 0 12 (0 : Int32)) fun σ1 =>
  nm (si σ1 0 13 (0 : Int32)) fun σ2 =>
  bdx (F_X9_next N (rdz σ2 x))
    (fun _ σ3 => bdx (F_X9_lines N σ3)
      (fun r σ4 => bd (F_X5_as N 0 4 σ4) fun _ σ5 => nm (si σ5 0 6 (0 : Int32)) fun σ6 => nm (si σ6 0 4 (0 : Int32)) fun σ7 => some (r, σ7))
      (fun y σ4 => if y.1 = 5 then some ((-10 : Int32) - y.2.2, si σ4 0 13 y.2.1) else none))
    (fun y σ3 => if y.1 = 5 then some ((-10 : Int32) - y.2.2, si σ3 0 13 y.2.1) else none)
abbrev rmX0_text : Room := { frames := 14, cells := 10, slots := 71, locals := 700 }
/-- the world's cells and a Fault's -/
theorem wx_ft {G : GG} {rd : Bool} {q : Nat → Nat} {σ : SS} {x : XI} {q9 : Addr} {H : Heap} (hw : wx G rd q σ H) (h5 : x.1 = 5) (hft : ftx G rd q σ x q9 H) : ∃ fs : List Value, fs[6]? = some (.int x.2.1) ∧ fs[7]? = some (.int x.2.2) ∧ va_P G.1 clT (wc G.2.1 rd q σ ++ [(q9, .inr (10, fs))]) H ∧ va_D (fa G) (wc G.2.1 rd q σ ++ [(q9, .inr (10, fs))]) := by
  obtain ⟨h1, h2, v0, v1, v2, v3, v4, v5, h3⟩ := hft h5
  refine ⟨_, rfl, rfl, hw.1.app h3, hw.2.app ⟨fun i j p r hi hj _ => ?_, fun k r hk => ?_⟩ (fun i j p r hi hj e => ?_)⟩
  · cases i with
    | zero => cases j with
      | zero => rfl
      | succ j => cases hj
    | succ i => cases hi
  · cases k with
    | zero =>
      have h4 : q9 = r.1 := congrArg Prod.fst (Option.some.inj hk)
      rw [← h4]
      exact h1
    | succ k => cases hk
  · obtain ⟨i2, -, hi2, rfl⟩ := wc_idx hi
    cases j with
    | zero =>
      have h4 : q9 = r.1 := congrArg Prod.fst (Option.some.inj hj)
      exact h2 i2 hi2 (e.trans h4.symm)
    | succ j => cases hj
section RTX
variable {p : Program} {l : Launch} {e : Env} {R : Room} {s : State} {m : MethodId} {args : Array Value} {below : List Frame} {meth : Method} {c : Code} {H : Heap} {locs : List Loc} {cells slots : Nat} {Q : State → Prop}
variable {cc : ByteArray} {pc nL : Nat} {ls : Array Slot} {rest : List Value} {own : String} {ret : Option FieldType} {G : GG} {rd : Bool} {q : Nat → Nat} {σ σ1 : SS}
theorem n_getFN (C : cx p s m args meth c cc nL own ret G) {w : va_W} {q9 : Nat} {fs : List Value} (hP : va_P G.1 clT (w ++ [(q9, .inr (10, fs))]) H) (k : Nat) (hk : k < 8) {v : Value} (hv : fs[k]? = some v) {index : Nat} {host : String} (n : Nat) (hn : nestF[n]? = some (own, index, (TX10 k).1, (TX10 k).2.1, (TX10 k).2.2.1, host)) (hdg : decode cc pc = .ok (.getfield index, 3))
    (kk : W p l e R s m args below meth c H locs cells slots Q (F0 m (pc + 3) ls (v :: rest))) : W p l e R s m args below meth c H locs cells slots Q (F0 m pc ls (.ref q9 :: rest)) := by
  obtain ⟨hx, hb, -, hown, hts, -, -, hk0, -⟩ := C
  exact va_getN hx hb hts in_X10 hown hk0.1 hP w.length at_mid rfl k hk (va_Nw.use rfl (hk0.2.1 _ (List.mem_of_getElem? hn))) (fun _ h => h) hv hdg kk
/-- a write to FlyWheels, further cells beside the world -/
theorem r_put0E (C : cx p s m args meth c cc nL own ret G) {X : va_W} (hP : va_P G.1 clT (wc G.2.1 rd q σ ++ X) H) (hD : va_D (fa G) (wc G.2.1 rd q σ ++ X)) (hS : va_S (fa G) s.heap H locs) (f : Nat) (hf : f < 23) (hr : f0[f]? = some (0, 0, f)) {index : Nat} {v : Int32} (hfin : (TX0 f).2.2.2 = false) {ty : FieldType} (hd : parseFieldDescriptor (TX0 f).2.2.1 = some ty) (hnr : narrow ty (.int v) = .int v) (hfit : fits ty (.int v) = true) (hlink : (Cond.fieldLink own index (TX0 f).1 (TX0 f).2.1 (TX0 f).2.2.1) ∈ lw_all) (hdg : decode cc pc = .ok (.putfield index, 3))
    (kk : ∀ (H1 : Heap) (locs1 : List Loc), va_P G.1 clT (wc G.2.1 rd q (si σ 0 f v) ++ X) H1 → va_D (fa G) (wc G.2.1 rd q (si σ 0 f v) ++ X) → va_S (fa G) s.heap H1 locs1 → W p l e R s m args below meth c H1 locs1 cells slots Q (F0 m (pc + 3) ls rest)) : W p l e R s m args below meth c H locs cells slots Q (F0 m pc ls (.int v :: .ref (q 0) :: rest)) := by
  obtain ⟨hx, hb, -, hown, hts, -, -, hk0, -⟩ := C
  have hi : 0 ∈ wi rd σ.2.2 := wi_lo (Or.inl (by omega))
  obtain ⟨kp, hkp, h1⟩ := wc_at (dA := G.2.1) (q := q) hi
  have ht : tm σ.2.2 0 = .inl (0, f0) := rfl
  rw [ht] at h1
  have hl : f < (f0.map (sv q σ)).length := by rw [List.length_map]; exact (List.getElem?_eq_some_iff.mp hr).1
  have hset := wc_set (dA := G.2.1) (rd := rd) (q := q) (σ := σ) (σ' := si σ 0 f v) (i := 0) (k := kp) (e := .inr (0, (f0.map (sv q σ)).set f (.int v))) rfl hkp (by rw [ht]; exact congrArg (fun z => (Sum.inr (0, z) : va_E)) (fs_set hr (unq_e (unq0 f hf)))) (fun j hj hne => ev_si (ho_lo (by omega) j hj hne))
  have hkl := (List.getElem?_eq_some_iff.mp h1).1
  exact va_put (ci := 0) hx hb hts in_X0 tyX0 tyX0_ok nmX0 hown hk0.1 hP hD hS kp (by rw [List.getElem?_append_left hkl]; exact h1) rfl f hf (hts _ hlink) (fun _ h => h) hfin hd hnr hfit hl hdg (fun H1 locs1 a1 a2 a3 => by
    rw [List.set_append_left _ _ hkl] at a1 a2
    exact kk H1 locs1 (by rw [← hset]; exact a1) (by rw [← hset]; exact a2) a3)
end RTX
/-- the handler -/
theorem w_text_53 {p : Program} {l : Launch} {e : Env} {s : State} {m : MethodId} {args : Array Value} {below : List Frame} {meth : Method} {c : Code} {H : Heap} {locs : List Loc} {ls : Array Slot} {G : GG} {q u : Nat → Nat} {σ σ' : SS} {x : XI} {q9 : Addr} {r x1 : Int32} {lv : List (Nat × Value)} (C : cx p s m args meth c cX0_text 4 RX0 (some .int) G) (hw : wx G true (qm q u) σ H) (hS : va_S (fa G) s.heap H locs) (hft : ftx G true (qm q u) σ x q9 H) (hF : (if x.1 = 5 then some ((-10 : Int32) - x.2.2, si σ 0 13 x.2.1) else none) = some (r, σ')) (hl : lv_has ls 4 lv) (h0 : lv_has ls 4 [(0, .ref (q 0)), (1, .int x1)]) :
    W p l e rmX0_text s m args below meth c H locs 10 71 (MQ below (qxi G false q σ' r) args s 10 71 (fa G)) (F0 m 53 ls [.ref q9]) := by
  obtain ⟨hx, hb, hml, hown, hts, hr, hlk, hk0, hox⟩ := id C
  by_cases h5 : x.1 = 5
  · have hF := it_e hF h5
    obtain ⟨rfl, rfl⟩ := so_e hF
    obtain ⟨fs, f6, f7, hP, hD⟩ := wx_ft hw h5 hft
    refine lv_astore_n (lv' := [(2, .ref q9), (0, .ref (q 0)), (1, .int x1)]) hx hb dX0_text_53 rfl h0 (by decide) rfl (fun ls hl => ?_)
    refine lv_aload_n hx hb dX0_text_54 rfl (lv_at hl 1 rfl) ?_
    refine lv_aload_n hx hb dX0_text_55 rfl (lv_at hl 0 rfl) ?_
    refine n_getFN C hP 6 (by decide) f6 25 rfl dX0_text_56 ?_
    refine r_put0E (q := qm q u) C hP hD hS 13 (by decide) rfl rfl (tyX0_ok 13 (by decide)) rfl rfl q232 dX0_text_59 (fun H locs hP hD hS => ?_)
    refine lv_bipush (v := (-10 : Int32)) hx hb dX0_text_62 (by decide) ?_
    refine lv_aload_n hx hb dX0_text_64 rfl (lv_at hl 0 rfl) ?_
    refine n_getFN C hP 7 (by decide) f7 26 rfl dX0_text_65 ?_
    refine lv_isub hx hb dX0_text_68 ?_
    exact r_iret C (wx_drop (wx_left hP hD)) hS rfl dX0_text_69
  · have hF := if_e hF h5
    cases hF
theorem met_X0_text (l : Launch) (G : GG) (q : Nat → Nat) {N : Nat} {σ σ' : SS} {r : Int32} (hF : F_X0_text N σ = some (r, σ')) : Met l yX0_text (wsW_ yX0_text cX0_text 4 (some .int) [(15, 52, 53, 195)]) rmX0_text (pcx G false q σ [.ref (q 0)]) (qxi G false q σ' r) 10 71 (fa G) := by
  refine met_ofW (by decide) (Nat.le_of_ble_eq_true rfl) ?_
  intro p e s m below meth c C htab H locs ls hw hS hl
  obtain ⟨hx, hb, hml, hown, hts, hr, hlk, hk0, hox⟩ := id C
  have hl : lv_has ls 4 [(0, .ref (q 0))] := hl
  have hA : ∀ z : Nat, s.heap.size ≤ z → fa G z := fun z h => Nat.le_trans hox.1 h
  unfold F_X0_text at hF
  refine lv_aload_n hx hb dX0_text_0 rfl (lv_at hl 0 rfl) ?_
  refine r_get0 C hw 12 (by decide) rfl (v := .int (gi σ 0 12)) rfl q231 dX0_text_1 ?_
  obtain ⟨x1, ex1, hF⟩ := nm_e2 hF
  refine r_topi ex1 ?_
  refine lv_istore_n (lv' := [(1, .int x1), (0, .ref (q 0))]) hx hb dX0_text_4 rfl hl (by decide) rfl (fun ls hl => ?_)
  refine lv_aload_n hx hb dX0_text_5 rfl (lv_at hl 1 rfl) ?_
  refine lv_iconst (v := (0 : Int32)) hx hb dX0_text_6 (by decide) ?_
  obtain ⟨σ1, e1, hF⟩ := nm_e2 hF
  refine r_put0 C hw hS 12 (by decide) rfl rfl (tyX0_ok 12 (by decide)) rfl rfl q231 dX0_text_7 e1 (fun H locs hw hS => ?_)
  refine lv_aload_n hx hb dX0_text_10 rfl (lv_at hl 1 rfl) ?_
  refine lv_iconst (v := (0 : Int32)) hx hb dX0_text_11 (by decide) ?_
  obtain ⟨σ2, e2, hF⟩ := nm_e2 hF
  refine r_put0 C hw hS 13 (by decide) rfl rfl (tyX0_ok 13 (by decide)) rfl rfl q232 dX0_text_12 e2 (fun H locs hw hS => ?_)
  refine n_new (A := fa G) (ci := 9) (fs := [.int 0, .null, .int 0, .int 0, .int 0, .int 0, .int 0, .null]) C hw.1 hw.2 hS hA in_X9 tyX9 tyX9_ok rfl q306 q307 q66 (fun j hj => by rcases (show j = 0 ∨ j = 1 ∨ j = 2 ∨ j = 3 ∨ j = 4 ∨ j = 5 ∨ j = 6 ∨ j = 7 by omega) with rfl | rfl | rfl | rfl | rfl | rfl | rfl | rfl <;> rfl) (Nat.le_of_ble_eq_true rfl) (Nat.le_of_ble_eq_true rfl) dX0_text_15 (fun a H hP hD hS => ?_)
  refine lv_dup hx hb dX0_text_18 rfl ?_
  refine lv_aload_n hx hb dX0_text_19 rfl (lv_at hl 1 rfl) ?_
  refine lv_iload_n hx hb dX0_text_20 rfl (lv_at hl 0 rfl) ?_
  have hpre : ∀ U : State, U.heap = H → s.WarmedH U.vm → pcr G q σ2 a [.ref a, .ref (q 0), .int x1] ([Value.ref a, .ref (q 0), .int x1] : List Value).toArray U := fun U hU hW => ⟨rfl, hk0.warm hW, by rw [hU]; exact hox.on hS, by rw [hU]; exact hP, hD⟩
  have hcast : ∀ {q9 : Addr} {ce : Cell} {H : Heap} {locs : List Loc} {cells slots : Nat} {Q : State → Prop} {pc : Nat} {ls : Array Slot} {rest : List Value} , (15 ≤ pc ∧ pc < 52) → H[q9]? = some ce → ce.vm = .none → s.vm.findClass "FlyWheels$Fault" = some ce.cls → W p l e rmX0_text s m ([Value.ref (q 0)] : List Value).toArray below meth c H locs cells slots Q (F0 m 53 ls [.ref q9]) → vx_W p l e rmX0_text s m ([Value.ref (q 0)] : List Value).toArray below meth c H locs cells slots Q (F0 m pc ls rest) q9 := fun {q9 ce H locs cells slots Q pc ls rest} hpc h9 hv9 hc9 k =>
    vx_catch (name := "FlyWheels$Fault") (E := "FlyWheels$Fault") hown [] ⟨15, 52, 53, 195⟩ [] htab (fun z hz => absurd hz List.not_mem_nil) (by unfold covers; simp [hpc]) (by decide) (hts _ q305) (hk0.castw q328 _) h9 hv9 hc9 k
  rcases bdx_e hF with ⟨r1, σ3, h3, hF⟩ | ⟨y, σ3, h3, hF⟩
  · refine va_callv (va_runI (As := [.ref (q 0), .int x1]) (rest := [.ref a]) ⟨hx, hb, hml, hown, hts⟩ (met_X9_init l G q a h3) (cwI 2 hts (lw_meth q310) rfl rfl rfl (hts _ q66) (hts _ q308) (hts _ q309) rfl (by decide +kernel) ⟨Nat.le_of_ble_eq_true rfl, Nat.le_of_ble_eq_true rfl⟩) ⟨pcr.blind, hpre⟩ rfl rfl hl.1 rfl (lv_room (Nat.le_of_ble_eq_true rfl)) dX0_text_21 ⟨Nat.le_of_ble_eq_true rfl, Nat.le_of_ble_eq_true rfl⟩) hS (fun _ _ h => h) (fun _ h => h) (fun u t H1 locs ht hvm eu hB hz1 hk1 hS => ?_)
    subst ht
    have hw : wx G true (qm q u) σ3 t.heap := hB
    generalize t.heap = H at hw hS ⊢
    refine lv_astore_n (lv' := [(2, .ref (qm q u 32)), (1, .int x1), (0, .ref (q 0))]) hx hb dX0_text_24 rfl hl (by decide) (by rw [← eu]; rfl) (fun ls hl => ?_)
    refine lv_aload_n hx hb dX0_text_25 rfl (lv_at hl 0 rfl) ?_
    rcases bdx_e hF with ⟨r2, σ4, h4, hF⟩ | ⟨y, σ4, h4, hF⟩
    · refine r_callVi (R := rmX0_text) (cells := 9) (slots := 63) (As := []) (rest := []) (i := 32) C hw hS wi_rd rfl (ci := 9) rfl (met_X9_lines l G (qm q u) h4) (cwV 0 hts (lw_V q436 q437 q438 q66 q439) rfl rfl rfl (by decide +kernel) ⟨Nat.le_of_ble_eq_true rfl, Nat.le_of_ble_eq_true rfl⟩) rfl hl.1 rfl (Nat.le_of_ble_eq_true rfl) ⟨Nat.le_of_ble_eq_true rfl, Nat.le_of_ble_eq_true rfl⟩ dX0_text_26 (fun H locs hw hS => ?_)
      refine lv_istore_n (lv' := [(3, .int r2), (2, .ref (qm q u 32)), (1, .int x1), (0, .ref (qm q u 0))]) hx hb dX0_text_29 rfl hl (by decide) rfl (fun ls hl => ?_)
      refine lv_aload_n hx hb dX0_text_30 rfl (lv_at hl 3 rfl) ?_
      refine r_get0 C hw 1 (by decide) rfl (v := .ref (qm q u (iS 0))) rfl q219 dX0_text_31 ?_
      refine lv_aload_n hx hb dX0_text_34 rfl (lv_at hl 1 rfl) ?_
      refine r_get9N C hw 1 (by decide) rfl (v := .ref (qm q u (iS 4))) rfl 27 rfl dX0_text_35 ?_
      obtain ⟨r3, σ5, h5, hF⟩ := bd_e hF
      refine r_callVv (R := rmX0_text) (cells := 9) (slots := 63) (As := [.ref (qm q u (iS 4))]) (rest := []) (i := iS 0) C hw hS (wi_S (okS_of (by decide))) (tm_S _ _) (ci := 5) rfl (met_X5_as l G true (qm q u) (okS_of (by decide)) okS_4 h5) (cwV 1 hts (lw_V q521 q522 q523 q62 q524) rfl rfl rfl (by decide +kernel) ⟨Nat.le_of_ble_eq_true rfl, Nat.le_of_ble_eq_true rfl⟩) rfl hl.1 rfl (Nat.le_of_ble_eq_true rfl) ⟨Nat.le_of_ble_eq_true rfl, Nat.le_of_ble_eq_true rfl⟩ dX0_text_38 (fun H locs hw hS => ?_)
      refine lv_aload_n hx hb dX0_text_41 rfl (lv_at hl 3 rfl) ?_
      refine lv_iconst (v := (0 : Int32)) hx hb dX0_text_42 (by decide) ?_
      obtain ⟨σ6, e6, hF⟩ := nm_e2 hF
      refine r_put0 C hw hS 6 (by decide) rfl rfl (tyX0_ok 6 (by decide)) rfl rfl q224 dX0_text_43 e6 (fun H locs hw hS => ?_)
      refine lv_aload_n hx hb dX0_text_46 rfl (lv_at hl 3 rfl) ?_
      refine lv_iconst (v := (0 : Int32)) hx hb dX0_text_47 (by decide) ?_
      obtain ⟨σ7, e7, hF⟩ := nm_e2 hF
      refine r_put0 C hw hS 4 (by decide) rfl rfl (tyX0_ok 4 (by decide)) rfl rfl q222 dX0_text_48 e7 (fun H locs hw hS => ?_)
      refine lv_iload_n hx hb dX0_text_51 rfl (lv_at hl 0 rfl) ?_
      refine W.widen (k := 10) (n := 71) (Nat.le_of_ble_eq_true rfl) (Nat.le_of_ble_eq_true rfl) ?_
      exact r_iret C (wx_drop hw) hS hF dX0_text_52
    · refine r_callVx (R := rmX0_text) (cells := 9) (slots := 63) (As := []) (rest := []) (i := 32) C hw hS wi_rd rfl (ci := 9) rfl (mex_X9_lines l G (qm q u) h4) (cwV 0 hts (lw_V q436 q437 q438 q66 q439) rfl rfl rfl (by decide +kernel) ⟨Nat.le_of_ble_eq_true rfl, Nat.le_of_ble_eq_true rfl⟩) rfl hl.1 rfl (Nat.le_of_ble_eq_true rfl) ⟨Nat.le_of_ble_eq_true rfl, Nat.le_of_ble_eq_true rfl⟩ dX0_text_26 (fun H locs q9 ce hw hS h9 hv9 hc9 hft9 => ?_)
      by_cases h5 : y.1 = 5
      · have hc9 : s.vm.findClass "FlyWheels$Fault" = some ce.cls := by rw [h5] at hc9; exact hc9
        exact hcast (by decide) h9 hv9 hc9 (w_text_53 C hw hS hft9 hF hl (lv_sub hl [2, 1] rfl))
      · have hF := if_e hF h5
        cases hF
  · have hr := vx_runI (meth := meth) (below := below) (e := e) (p := p) (l := l) (R := rmX0_text) (cells := 1) (slots := 8) (locs := locs) (H := H) (As := [.ref (q 0), .int x1]) (rest := [.ref a]) (g := F0 m 21 ls [.int x1, .ref (q 0), .ref a, .ref a]) ⟨hx, hb, hml, hown, hts⟩ (mex_X9_init l G q a h3) (cwI 2 hts (lw_meth q310) rfl rfl rfl (hts _ q66) (hts _ q308) (hts _ q309) rfl (by decide +kernel) ⟨Nat.le_of_ble_eq_true rfl, Nat.le_of_ble_eq_true rfl⟩) ⟨pcr.blind, hpre⟩ rfl rfl hl.1 rfl (lv_room (Nat.le_of_ble_eq_true rfl)) dX0_text_21 ⟨Nat.le_of_ble_eq_true rfl, Nat.le_of_ble_eq_true rfl⟩
    intro T hT X
    rcases hr T hT X with ⟨v, st₀, t, T', L, h0, X', hL, e1, e2, hf, -⟩ | ⟨q9, st₀, t, T', L, E, ce, h0, X', hL, e1, e2, hXC, hce, hv9, hcl, stt⟩
    · exact hf.elim
    · obtain ⟨u, eu, ⟨rfl, hw1, hft⟩, hz, hk⟩ := hXC
      rw [h0] at hz hk
      rw [← e1] at hz hk hce hw1 hft
      have hS1 : va_S (fa G) s.heap T'.heap (locs ++ L) := ⟨Nat.le_trans hS.1 hz, fun a h1 h2 => by rw [hk a (Nat.lt_of_lt_of_le h1 hS.1) h2]; exact hS.2.1 a h1 h2, fun z hz => by
        rcases List.mem_append.mp hz with h | h
        · exact hS.2.2 z h
        · exact hL z h⟩
      by_cases h5 : y.1 = 5
      · have hc9 : s.vm.findClass "FlyWheels$Fault" = some ce.cls := by rw [h5] at hcl; exact hcl
        have hgo := hcast (rest := [.ref a]) (pc := 21) (by decide) hce hv9 hc9 (W.widen (cells := 9) (slots := 63) (Nat.le_of_ble_eq_true rfl) (Nat.le_of_ble_eq_true rfl) (w_text_53 C hw1 hS1 hft hF hl (lv_sub hl [1, 0] rfl)))
        obtain ⟨t2, a1, b1⟩ := hgo T' rfl X'
        exact ⟨t2, stt.trans a1, b1⟩
      · have hF := if_e hF h5
        cases hF
