/-! THE READER: need, name, rows -/
set_option maxRecDepth 100000
theorem pw_left {D : va_G} {cl : List vw_C} {w1 w2 : va_W} {H : Heap} (h : va_P D cl (w1 ++ w2) H) : va_P D cl w1 H := fun k x hk => h k x (by rw [List.getElem?_append_left (List.getElem?_eq_some_iff.mp hk).1]; exact hk)
theorem pw_last {D : va_G} {cl : List vw_C} {w1 w2 : va_W} {H : Heap} (h : va_P D cl (w1 ++ w2) H) : va_P D cl w2 H := fun k x hk => h (w1.length + k) x (by rw [List.getElem?_append_right (Nat.le_add_right _ _), Nat.add_sub_cancel_left]; exact hk)
theorem pd_left {A : Nat → Prop} {w1 w2 : va_W} (h : va_D A (w1 ++ w2)) : va_D A w1 := ⟨fun i j p q hi hj e => h.1 i j p q (by rw [List.getElem?_append_left (List.getElem?_eq_some_iff.mp hi).1]; exact hi) (by rw [List.getElem?_append_left (List.getElem?_eq_some_iff.mp hj).1]; exact hj) e, fun k q hk => h.2 k q (by rw [List.getElem?_append_left (List.getElem?_eq_some_iff.mp hk).1]; exact hk)⟩
theorem pd_last {A : Nat → Prop} {w1 w2 : va_W} (h : va_D A (w1 ++ w2)) : va_D A w2 := ⟨fun i j p q hi hj e => by
  have := h.1 (w1.length + i) (w1.length + j) p q (by rw [List.getElem?_append_right (Nat.le_add_right _ _), Nat.add_sub_cancel_left]; exact hi) (by rw [List.getElem?_append_right (Nat.le_add_right _ _), Nat.add_sub_cancel_left]; exact hj) e
  omega, fun k q hk => h.2 (w1.length + k) q (by rw [List.getElem?_append_right (Nat.le_add_right _ _), Nat.add_sub_cancel_left]; exact hk)⟩
/-- a list's cell is not one of the other list -/
theorem pd_ne {A : Nat → Prop} {w1 w2 : va_W} (h : va_D A (w1 ++ w2)) {i j : Nat} {p q : Nat × va_E} (hi : w1[i]? = some p) (hj : w2[j]? = some q) : p.1 ≠ q.1 := fun e => by
  have h1 := (List.getElem?_eq_some_iff.mp hi).1
  have := h.1 i (w1.length + j) p q (by rw [List.getElem?_append_left h1]; exact hi) (by rw [List.getElem?_append_right (Nat.le_add_right _ _), Nat.add_sub_cancel_left]; exact hj) e
  omega
theorem wx_left {G : GG} {rd : Bool} {q : Nat → Nat} {σ : SS} {H : Heap} {w2 : va_W} (hP : va_P G.1 clT (wc G.2.1 rd q σ ++ w2) H) (hD : va_D (fa G) (wc G.2.1 rd q σ ++ w2)) : wx G rd q σ H := ⟨pw_left hP, pd_left hD⟩
/-- need -/
noncomputable def F_X9_need (N : Nat) (x1 : Int32) (x2 : Int32) (σ : SS) : Option ((Unit ⊕ XI) × SS) := if x1 = (0 : Int32) then some (Sum.inr (5, x2, gi σ 32 4), σ) else some (Sum.inl (), σ)
abbrev rmX9_need : Room := { frames := 5, cells := 0, slots := 0, locals := 200 }
abbrev rmX9_needx : Room := { frames := 5, cells := 1, slots := 8, locals := 200 }
theorem met_X9_need (l : Launch) (G : GG) (q : Nat → Nat) {N : Nat} {x1 : Int32} {x2 : Int32} {σ σ' : SS} {r : Unit} (hF : F_X9_need N x1 x2 σ = some (Sum.inl r, σ')) : Met l yX9_need (ws_ yX9_need cX9_need 3 none) rmX9_need (pcx G true q σ [.ref (q 32), .int x1, .int x2]) (qxv G true q σ' r) 0 0 (fa G) := by
  refine met_of (by decide) (Nat.le_of_ble_eq_true rfl) ?_
  intro p e s m below meth c C H locs ls hw hS hl
  obtain ⟨hx, hb, hml, hown, hts, -, hlk, hk0, -⟩ := id C
  have hl : lv_has ls 3 [(0, .ref (q 32)), (1, .int x1), (2, .int x2)] := hl
  unfold F_X9_need at hF
  refine lv_iload_n hx hb dX9_need_0 rfl (lv_at hl 1 rfl) ?_
  refine lv_if_ne (tgt := 17) hx hb dX9_need_1 (by decide) (fun c9 => ?_) (fun c9 => ?_)
  · have hF := if_e hF c9
    exact r_vret C hw hS (so_l hF) dX9_need_17
  · have c9 : x1 = 0 := c9
    have hF := it_e hF c9
    cases hF
theorem mex_X9_need (l : Launch) (G : GG) (q : Nat → Nat) {N : Nat} {x1 : Int32} {x2 : Int32} {σ σ' : SS} {x : XI} (hF : F_X9_need N x1 x2 σ = some (Sum.inr x, σ')) : vx_Met l yX9_need (ws_ yX9_need cX9_need 3 none) rmX9_needx (pcx G true q σ [.ref (q 32), .int x1, .int x2]) (fun _ _ _ _ => False) (qxx G true q σ' x) 1 8 (fa G) := by
  refine met_ofX (by decide) (Nat.le_of_ble_eq_true rfl) ?_
  intro p e s m below meth c C hout H locs ls hw hS hl
  obtain ⟨hx, hb, hml, hown, hts, -, hlk, hk0, hox⟩ := id C
  have hl : lv_has ls 3 [(0, .ref (q 32)), (1, .int x1), (2, .int x2)] := hl
  unfold F_X9_need at hF
  refine lv_iload_n hx hb dX9_need_0 rfl (lv_at hl 1 rfl) ?_
  refine lv_if_ne (tgt := 17) hx hb dX9_need_1 (by decide) (fun c9 => ?_) (fun c9 => ?_)
  · have hF := if_e hF c9
    cases hF
  · have c9 : x1 = 0 := c9
    have hF := it_e hF c9
    obtain ⟨rfl, rfl⟩ := so_r hF
    refine n_new (A := fa G) (ci := 10) (fs := [.null, .null, .null, .null, .null, .int 0, .int 0, .int 0]) C hw.1 hw.2 hS (fun q h => Nat.le_trans hox.1 h) in_X10 tyX10 tyX10_ok rfl q326 q327 q69 (fun j hj => by rcases (show j = 0 ∨ j = 1 ∨ j = 2 ∨ j = 3 ∨ j = 4 ∨ j = 5 ∨ j = 6 ∨ j = 7 by omega) with rfl | rfl | rfl | rfl | rfl | rfl | rfl | rfl <;> rfl) (Nat.le_of_ble_eq_true rfl) (Nat.le_of_ble_eq_true rfl) dX9_need_4 (fun a H1 hP hD hS => ?_)
    have hw1 : wx G true q σ H1 := wx_left hP hD
    have hox1 : ox G H1 := hox.on hS
    have hPa := pw_last hP
    have hDa := pd_last hD
    refine lv_dup hx hb dX9_need_7 rfl ?_
    refine lv_iload_n hx hb dX9_need_8 rfl (lv_at hl 2 rfl) ?_
    refine lv_aload_n hx hb dX9_need_9 rfl (lv_at hl 0 rfl) ?_
    refine r_get9 C hw1 4 (by decide) rfl (v := .int (gi σ 32 4)) rfl q415 dX9_need_10 ?_
    refine va_callv (va_runI (As := [.int x2, .int (gi σ 32 4)]) (rest := [.ref a]) ⟨hx, hb, hml, hown, hts⟩ (met_X10_init l G a H1.size x2 (gi σ 32 4)) (cwI 2 hts (lw_meth q382) rfl rfl rfl (hts _ q69) (hts _ q380) (hts _ q381) rfl (by decide +kernel) ⟨Nat.le_of_ble_eq_true rfl, Nat.le_of_ble_eq_true rfl⟩) ⟨pcl.blind, fun U hU hW => ⟨rfl, hk0.warm hW, by rw [hU]; exact hox1, by rw [hU], by rw [hU]; exact hPa, hDa⟩⟩ rfl rfl hl.1 rfl (lv_room (Nat.le_of_ble_eq_true rfl)) dX9_need_13 ⟨Nat.le_refl _, Nat.le_refl _⟩) hS (fun z _ h => af_of hox1.1 hDa z h) (fun z h => af_of hox1.1 hDa z h) (fun u t H2 locs ht hvm _ hB hz1 hk1 hS => ?_)
    obtain ⟨hP2, hD2⟩ := hB
    subst ht
    have hw2 : wx G true q σ t.heap := ⟨hw1.1.kept (fun k y hy => hk1 y.1 (hw1.1 k y hy).lt (fun h => by
      rcases h with ⟨k2, e2, h2⟩ | h2
      · cases k2 with
        | zero =>
          have h3 : a = y.1 := congrArg Prod.fst (Option.some.inj h2)
          exact pd_ne hD hy (j := 0) rfl h3.symm
        | succ k2 => cases h2
      · exact absurd (hw1.1 k y hy).lt (Nat.not_lt.mpr h2))), hw1.2⟩
    obtain ⟨qc, h1c, ce, h9, g2, hv9, -⟩ := id (hP2 0 _ rfl)
    have hc9 : s.vm.findClass "FlyWheels$Fault" = some ce.cls := by rw [g2]; exact (hk0.1.1 10 _ rfl).2.1
    refine vx_athrow hx hb dX9_need_16 ?_
    exact vx_out (fun z hz => (hout z hz).elim) hlk h9 hv9 hc9 (fun t2 ht2 _ => ⟨(), trivial, ⟨rfl, by rw [ht2]; exact hw2, fun _ => ⟨hDa.2 0 _ rfl, fun i hi e => by
      obtain ⟨kk, -, h1⟩ := wc_at (dA := G.2.1) (q := q) hi
      exact pd_ne hD h1 (j := 0) rfl e, .null, .null, .null, .null, .null, .int 0, by rw [ht2]; exact hP2⟩⟩, hS.F ht2⟩) hS.2.2 (Nat.le_of_ble_eq_true rfl) (Nat.le_of_ble_eq_true rfl)
theorem okS_4 : okS true 4 := Or.inr ⟨rfl, rfl⟩
/-- which constant a name is -/
def nmS (k : Int32) : Nat := if k = 0 then 0 else if k = 1 then 1 else if k = 2 then 2 else if k = 3 then 3 else if k = 4 then 4 else if k = 5 then 5 else if k = 7 then 6 else 7
theorem nmS_lt (k : Int32) : nmS k < 8 := by
  unfold nmS
  repeat' split
  all_goals omega
theorem strs.warm {G : GG} {s U : State} {ad : Nat → Nat} (hW : s.WarmedH U.vm) (h : strs G s ad) : strs G U ad := fun j hj => ⟨(h j hj).1.moved hW.alike, vk_R.warm hW (h j hj).2⟩
abbrev pcn (G : GG) (q : Nat → Nat) (σ : SS) (ad : Nat → Nat) (av : List Value) : Array Value → State → Prop := va_Pc av (fun U => kx G U ∧ ox G U.heap ∧ wx G true q σ U.heap ∧ strs G U ad)
theorem pcn.blind {G : GG} {q : Nat → Nat} {σ : SS} {ad : Nat → Nat} {av : List Value} : FrameBlind (pcn G q σ ad av) := fun x U g mk h => ⟨h.1, h.2.1.blind g mk x, h.2.2.1, h.2.2.2.1, fun j hj => ⟨isS.moved (u := U) (U := U.calling g mk x) (Vm.Alike.refl U.vm) (h.2.2.2.2 j hj).1, vk_R.same (u := U) (U := U.calling g mk x) rfl (h.2.2.2.2 j hj).2⟩⟩
abbrev qcn (G : GG) (q : Nat → Nat) (σ : SS) (a : Nat) : Array Value → State → Outcome → State → Prop := va_Qq (fun (r' : Option Nat) (_ : Unit) => r' = some a) (fun _ t => wx G true q σ t.heap) (fa G)
abbrev rmX9_name : Room := { frames := 1, cells := 0, slots := 0, locals := 60 }
theorem met_X9_name (l : Launch) (G : GG) (q : Nat → Nat) {x1 : Int32} {σ : SS} {ad : Nat → Nat} : Met l yX9_name (ws_ yX9_name cX9_name 2 (some (.object "java/lang/String"))) rmX9_name (pcn G q σ ad [.ref (q 32), .int x1]) (qcn G q σ (ad (nmS x1))) 0 0 (fa G) := by
  refine met_ofS (by decide) (Nat.le_of_ble_eq_true rfl) (fun U h => ⟨h.1, h.2.1⟩) ?_
  intro p e s m below meth c C hv ls hl
  obtain ⟨hk0, hox, hw, hs⟩ := hv
  obtain ⟨hx, hb, hml, hown, hts, hr, hlk, -, -⟩ := id C
  have hl : lv_has ls 2 [(0, .ref (q 32)), (1, .int x1)] := hl
  have hS : va_S (fa G) s.heap s.heap [] := va_S.rf
  have key : ∀ j : Nat, j < 8 → nmS x1 = j → ∀ pc : Nat, decode cX9_name pc = .ok (.ldc (44 + 2 * j), 2) → decode cX9_name (pc + 2) = .ok (.areturn, 1) → W p l e rmX9_name s m ([Value.ref (q 32), Value.int x1] : List Value).toArray below meth c s.heap [] 0 0 (MQ below (qcn G q σ (ad (nmS x1))) ([Value.ref (q 32), Value.int x1] : List Value).toArray s 0 0 (fa G)) (F0 m pc ls []) := by
    intro j hj ej pc h1 h2
    refine va_ldcS hx hb hown (hs j hj).2 h1 ?_
    refine W.aret hx hb hr (Or.inl ⟨_, rfl⟩) (Or.inr ⟨_, rfl⟩) (fun t ht _ => ⟨⟨some (ad j), (), rfl, by rw [ej], show wx G true q σ t.heap by rw [ht]; exact hw⟩, hS.F ht⟩) hS.2.2 h2 hlk
  refine lv_iload_n hx hb dX9_name_0 rfl (lv_at hl 1 rfl) ?_
  by_cases c0 : x1.toInt < 0 ∨ 7 < x1.toInt
  · refine lv_tableOut (tgt := 69) hx hb dX9_name_1 c0 (by decide) ?_
    have n0 : ∀ k : Int32, ¬ (k.toInt < 0 ∨ 7 < k.toInt) → ¬ x1 = k := fun k hk e => hk (e ▸ c0)
    exact key 7 (by decide) (by unfold nmS; rw [if_neg (n0 0 (by decide)), if_neg (n0 1 (by decide)), if_neg (n0 2 (by decide)), if_neg (n0 3 (by decide)), if_neg (n0 4 (by decide)), if_neg (n0 5 (by decide)), if_neg (n0 7 (by decide))]) 69 dX9_name_69 dX9_name_71
  · have h8 : x1 = 0 ∨ x1 = 1 ∨ x1 = 2 ∨ x1 = 3 ∨ x1 = 4 ∨ x1 = 5 ∨ x1 = 6 ∨ x1 = 7 := by
      have e : ∀ k : Int32, x1.toInt = k.toInt → x1 = k := fun k h => Int32.toInt_inj.mp h
      rcases (show x1.toInt = (0 : Int32).toInt ∨ x1.toInt = (1 : Int32).toInt ∨ x1.toInt = (2 : Int32).toInt ∨ x1.toInt = (3 : Int32).toInt ∨ x1.toInt = (4 : Int32).toInt ∨ x1.toInt = (5 : Int32).toInt ∨ x1.toInt = (6 : Int32).toInt ∨ x1.toInt = (7 : Int32).toInt from by
        simp only [show (0 : Int32).toInt = 0 from by decide, show (1 : Int32).toInt = 1 from by decide, show (2 : Int32).toInt = 2 from by decide, show (3 : Int32).toInt = 3 from by decide, show (4 : Int32).toInt = 4 from by decide, show (5 : Int32).toInt = 5 from by decide, show (6 : Int32).toInt = 6 from by decide, show (7 : Int32).toInt = 7 from by decide]
        omega) with h | h | h | h | h | h | h | h
      · exact Or.inl (e _ h)
      · exact Or.inr (Or.inl (e _ h))
      · exact Or.inr (Or.inr (Or.inl (e _ h)))
      · exact Or.inr (Or.inr (Or.inr (Or.inl (e _ h))))
      · exact Or.inr (Or.inr (Or.inr (Or.inr (Or.inl (e _ h)))))
      · exact Or.inr (Or.inr (Or.inr (Or.inr (Or.inr (Or.inl (e _ h))))))
      · exact Or.inr (Or.inr (Or.inr (Or.inr (Or.inr (Or.inr (Or.inl (e _ h)))))))
      · exact Or.inr (Or.inr (Or.inr (Or.inr (Or.inr (Or.inr (Or.inr (e _ h)))))))
    rcases h8 with h | h | h | h | h | h | h | h
    · exact r_tin (tgt := 48) hx hb dX9_name_1 h (by decide) (by decide) (by rfl) (by decide) (key 0 (by decide) (by rw [h]; decide) 48 dX9_name_48 dX9_name_50)
    · exact r_tin (tgt := 51) hx hb dX9_name_1 h (by decide) (by decide) (by rfl) (by decide) (key 1 (by decide) (by rw [h]; decide) 51 dX9_name_51 dX9_name_53)
    · exact r_tin (tgt := 54) hx hb dX9_name_1 h (by decide) (by decide) (by rfl) (by decide) (key 2 (by decide) (by rw [h]; decide) 54 dX9_name_54 dX9_name_56)
    · exact r_tin (tgt := 57) hx hb dX9_name_1 h (by decide) (by decide) (by rfl) (by decide) (key 3 (by decide) (by rw [h]; decide) 57 dX9_name_57 dX9_name_59)
    · exact r_tin (tgt := 60) hx hb dX9_name_1 h (by decide) (by decide) (by rfl) (by decide) (key 4 (by decide) (by rw [h]; decide) 60 dX9_name_60 dX9_name_62)
    · exact r_tin (tgt := 63) hx hb dX9_name_1 h (by decide) (by decide) (by rfl) (by decide) (key 5 (by decide) (by rw [h]; decide) 63 dX9_name_63 dX9_name_65)
    · exact r_tin (tgt := 69) hx hb dX9_name_1 h (by decide) (by decide) (by rfl) (by decide) (key 7 (by decide) (by rw [h]; decide) 69 dX9_name_69 dX9_name_71)
    · exact r_tin (tgt := 66) hx hb dX9_name_1 h (by decide) (by decide) (by rfl) (by decide) (key 6 (by decide) (by rw [h]; decide) 66 dX9_name_66 dX9_name_68)
section RRD
variable {p : Program} {l : Launch} {e : Env} {R : Room} {s : State} {m : MethodId} {args : Array Value} {below : List Frame} {meth : Method} {c : Code} {H : Heap} {locs : List Loc} {cells slots : Nat} {Q : State → Prop}
variable {cc : ByteArray} {pc nL : Nat} {ls : Array Slot} {rest : List Value} {own : String} {ret : Option FieldType} {G : GG} {rd : Bool} {q : Nat → Nat} {σ σ1 : SS}
theorem r_name (C : cx p s m args meth c cc nL RX9 ret G) (hw : wx G true q σ H) (hS : va_S (fa G) s.heap H locs) {ad : Nat → Nat} (hs : strs G s ad) {x1 : Int32} (hsz : ls.size = nL) (hrm : (rest.map fun v => v.category).sum ≤ 8) (hf : 2 ≤ R.frames) (hlo : 81 ≤ R.locals) (hdg : decode cc pc = .ok (.invokevirtual 60, 3))
    (kk : ∀ (H1 : Heap) (locs1 : List Loc), wx G true q σ H1 → va_S (fa G) s.heap H1 locs1 → W p l e R s m args below meth c H1 locs1 cells slots Q (F0 m (pc + 3) ls (.ref (ad (nmS x1)) :: rest))) (hcs : cells ≤ R.cells ∧ slots ≤ R.slots := by exact ⟨Nat.zero_le _, Nat.zero_le _⟩) : W p l e R s m args below meth c H locs cells slots Q (F0 m pc ls (.int x1 :: .ref (q 32) :: rest)) := by
  obtain ⟨hx, hb, hml, hown, hts, -, -, hk0, hox⟩ := C
  obtain ⟨kp, -, h1⟩ := wc_at (dA := G.2.1) (q := q) (i := 32) (wi_rd (d := σ.2.2))
  exact va_callq (va_runV (As := [.int x1]) (rest := rest) ⟨hx, hb, hml, hown, hts⟩ (met_X9_name l G q (x1 := x1) (σ := σ) (ad := ad)) (cwV 1 hts (lw_V q448 q450 qs7 q66 q451) rfl rfl rfl (by decide +kernel) ⟨hf, hlo⟩) ⟨pcn.blind, va_recv (ci := 9) hk0.1 hw.1 rfl h1, fun U hU hW => ⟨rfl, hk0.warm hW, by rw [hU]; exact hox.on hS, by rw [hU]; exact hw, hs.warm hW⟩⟩ rfl rfl hsz rfl (lv_room hrm) hdg hcs) hS (fun _ _ h => h) (fun _ h => h) (fun r' _ t H1 locs1 e1 _ e2 hw1 _ _ hS1 => by
    subst e2; subst e1
    exact kk _ _ hw1 hS1)
/-- a static call, of a nest mate's private method -/
theorem r_callSiN (C : cx p s m args meth c cc nL own ret G) (hw : wx G rd q σ H) (hS : va_S (fa G) s.heap H locs) {y : MethodName} {ws : List Cond} {rm : Room} {As : List Value} {r : Int32} (hM : Met l y ws rm (pcx G rd q σ As) (qxi G rd q σ1 r) 0 0 (fa G)) {index n maxL : Nat} {bytes : ByteArray} {ret' : Option FieldType} {host : String} (cw : va_CN R s args own index y host bytes maxL ret' ws rm 0 0 n ∧ (Cond.static y).before args s = true ∧ True) (hn : As.length = n) (hsz : ls.size = nL) {st : List Value} (hst : st = As.reverse ++ rest) (hrm : (rest.map fun v => v.category).sum ≤ 8) (hcs : cells ≤ R.cells ∧ slots ≤ R.slots) (hdg : decode cc pc = .ok (.invokestatic index, 3))
    (kk : ∀ (H1 : Heap) (locs1 : List Loc), wx G rd q σ1 H1 → va_S (fa G) s.heap H1 locs1 → W p l e R s m args below meth c H1 locs1 cells slots Q (F0 m (pc + 3) ls (.int r :: rest))) : W p l e R s m args below meth c H locs cells slots Q (F0 m pc ls st) := by
  obtain ⟨hx, hb, hml, hown, hts, -, -, hk0, hox⟩ := C
  exact va_calli (va_runSN (As := As) (rest := rest) ⟨hx, hb, hml, hown, hts⟩ hM cw ⟨pcx.blind, pre_of hk0 hox hw hS _⟩ rfl hn hsz hst (lv_room hrm) hdg hcs) hS (fun _ _ h => h) (fun _ h => h) (fun r' _ t H1 locs1 e1 _ e2 hw1 _ _ hS1 => by
    subst e2; subst e1
    exact kk _ _ hw1 hS1)
end RRD
