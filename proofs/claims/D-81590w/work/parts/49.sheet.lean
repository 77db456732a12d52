/-! lifted by hand: FlyWheels.sheet -/
set_option maxRecDepth 100000
theorem le40 {n : Int32} (h : n ≤ 40) : n.toNatClampNeg ≤ 40 := by
  have h1 := Int32.le_iff_toInt_le.mp h
  have h2 : (40 : Int32).toInt = 40 := by decide
  rw [h2] at h1
  show n.toInt.toNat ≤ 40
  omega
theorem num_mod (n : Int32) : (toString n == notModelled) = false := by
  rw [beq_eq_false_iff_ne]
  intro h
  have h1 := int32_print n
  have h3 : 12 ≤ notModelled.toList.length := by decide
  rw [← h] at h3
  omega
theorem num_bytes (n : Int32) : (stringBytes (stringToUtf16 (toString n))).size ≤ 44 := by
  have h1 := stringBytes_size_le (stringToUtf16 (toString n))
  have h2 := utf16_size_le (toString n)
  have h3 := int32_print n
  omega
section RSH
variable {p : Program} {l : Launch} {e : Env} {R : Room} {s : State} {m : MethodId} {args : Array Value} {below : List Frame} {meth : Method} {c : Code} {H : Heap} {locs : List Loc} {cells slots : Nat} {Q : State → Prop}
variable {pc : Nat} {ls : Array Slot} {ret : Option FieldType} {G : GG} {rd : Bool} {q : Nat → Nat} {σ : SS}
theorem r_sheet (C : cx p s m args meth c cX0_sheet 5 RX0 ret G) (hw : wx G rd q σ H) (hS : va_S (fa G) s.heap H locs) {j : Nat} (hj : j < 4) {n : Int32} (h0 : ¬ n < 0) (hn : n ≤ 40) {kd : Nat} (hkd : kd = 1 ∨ kd = 2 ∨ kd = 3) {atype : ArrayType} {ty : FieldType} (hty : newarray.typeOf atype = ty) (ht : (tysA G.2.1)[shId kd]? = some (G.2.1 (shId kd), ty)) (hcl : Cond.arrayClass (newarray.typeOf atype) ∈ lw_all) (ha : ∀ (cA : ClassId) (N : Nat), vp_cell cA (N, .inl (fun _ => 0)) = arrV cA N (fun _ => defaultValue ty)) (hby : componentBytes ty ≤ 4) (hR : cells + 1 ≤ R.cells) (hR2 : slots + 40 ≤ R.slots) (hdg : decode cX0_sheet pc = .ok (.newarray atype, 2))
    (hgo : ∀ (H : Heap) (locs : List Loc) (cells slots : Nat) (st : List Value), W p l e R s m args below meth c H locs cells slots Q (F0 m 46 ls st) → W p l e R s m args below meth c H locs cells slots Q (F0 m (pc + 2) ls st))
    (kk : ∀ (a : Nat) (H1 : Heap) (locs1 : List Loc), wx G rd (qup q (17 + j) a) (shs σ j kd n.toNatClampNeg) H1 → va_S (fa G) s.heap H1 locs1 → W p l e R s m args below meth c H1 locs1 (cells + 1) (slots + n.toNatClampNeg) Q (F0 m 49 ls [])) : W p l e R s m args below meth c H locs cells slots Q (F0 m pc ls [.int n, .ref (q (13 + j))]) := by
  obtain ⟨hx, hb, hml, hown, hts, -, -, hk0, hox⟩ := id C
  have hA : ∀ q : Nat, s.heap.size ≤ q → fa G q := fun q h => Nat.le_trans hox.1 h
  have hN := le40 hn
  obtain ⟨kp, hkp, h1⟩ := wc_at (dA := G.2.1) (rd := rd) (σ := σ) (q := q) (i := 13 + j) (wi_lo (Or.inl (by omega)))
  rw [tm_so hj] at h1
  refine n_newa (A := fa G) (t := shId kd) (N := n.toNatClampNeg) C hw.1 hw.2 hS hA hty ht hcl (fun cA => ha cA _) h0 rfl (Nat.le_trans (Nat.mul_le_mul hN hby) (by decide)) hR (by omega) hdg (fun a H1 hP hD hS => ?_)
  refine hgo _ _ _ _ _ ?_
  have hl := (List.getElem?_eq_some_iff.mp h1).1
  have he : (wc G.2.1 rd q σ ++ ([(a, .inl (G.2.1 (shId kd), n.toNatClampNeg, .inl (fun _ => 0)))] : va_W))[kp]? = some (q (13 + j), ev G.2.1 q σ (shO (σ.2.2 j) j)) := by rw [List.getElem?_append_left hl]; exact h1
  exact va_putN hx hb hts in_X7 tyX7 tyX7_ok nmX7 hown hk0.1 hP hD hS kp he rfl 0 (by decide) (va_Nw.use rfl (hk0.2.1 _ (List.mem_of_getElem? (i := 23) rfl))) (fun _ h => h) rfl (tyX7_ok 0 (by decide)) rfl rfl (Nat.le_refl 1) dX0_sheet_46 (fun H2 locs2 hP2 _ hS2 => kk a H2 locs2 (wx_sheet hw hj hkd hkp hP2 hD) hS2)
end RSH
theorem qup_self (q : Nat → Nat) (i : Nat) : qup q i (q i) = q := funext fun x => by
  unfold qup
  by_cases h : x = i
  · rw [if_pos h, h]
  · rw [if_neg h]
abbrev qxs (G : GG) (rd : Bool) (q : Nat → Nat) (i : Nat) (σ : SS) (r : Int32) : Array Value → State → Outcome → State → Prop := va_Qi (fun (r' : Int32) (_ : Nat) => r' = r) (fun a t => wx G rd (qup q i a) σ t.heap) (fa G)
theorem r_isret {p : Program} {l : Launch} {e : Env} {R : Room} {s : State} {m : MethodId} {args : Array Value} {below : List Frame} {meth : Method} {c : Code} {H : Heap} {locs : List Loc} {cells slots : Nat} {cc : ByteArray} {pc nL : Nat} {ls : Array Slot} {own : String} {G : GG} {rd : Bool} {q : Nat → Nat} {σ : SS} {a i : Nat} (C : cx p s m args meth c cc nL own (some .int) G) (hw : wx G rd (qup q i a) σ H) (hS : va_S (fa G) s.heap H locs) {v r : Int32} {σ' : SS} (hF : some (v, σ) = some (r, σ')) (hdg : decode cc pc = .ok (.ireturn, 1)) : W p l e R s m args below meth c H locs cells slots (MQ below (qxs G rd q i σ' r) args s cells slots (fa G)) (F0 m pc ls [.int v]) := by
  obtain ⟨rfl, rfl⟩ := so_e hF
  obtain ⟨hx, hb, -, hown, hts, hr, hlk, -⟩ := C
  exact W.iret hx hb hr (fun t ht hW => ⟨⟨v, a, rfl, rfl, by subst ht; exact hw⟩, hS.F ht⟩) hS.2.2 hdg hlk
noncomputable def F_X0_sheet (N : Nat) (x1 : Int32) (x2 : Int32) (x3 : Int32) (σ : SS) : Option (Int32 × SS) :=
  bd (F_X0_isSheet N x1 x2 σ) fun r σ1 =>
  if r = (0 : Int32) then
    some ((-1 : Int32), σ1)
  else
    if x3 ≤ (40 : Int32) then
      gd (inR x1 4) <|
      if x3 < 0 then
        some ((-14 : Int32), σ1)
      else
        some ((1 : Int32), shs σ1 x1.toNatClampNeg (if x2 = 0 then 1 else if x2 = 1 then 2 else 3) x3.toNatClampNeg)
    else
      some ((-1 : Int32), σ1)
abbrev rmX0_sheet : Room := { frames := 9, cells := 3, slots := 60, locals := 10300 }
theorem met_X0_sheet (l : Launch) (G : GG) (rd : Bool) (q : Nat → Nat) {N : Nat} (hst : l.stackTraces = false) {x1 : Int32} {x2 : Int32} {x3 : Int32} {σ σ' : SS} {r : Int32} (hF : F_X0_sheet N x1 x2 x3 σ = some (r, σ')) : Met l yX0_sheet (wsW_ yX0_sheet cX0_sheet 5 (some .int) [(16, 50, 51, 334)]) rmX0_sheet (pcx G rd q σ [.ref (q 0), .int x1, .int x2, .int x3]) (qxs G rd q (17 + x1.toNatClampNeg) σ' r) 3 60 (fa G) := by
  refine met_ofW (by decide) (Nat.le_of_ble_eq_true rfl) ?_
  intro p e s m below meth c C htab H locs ls hw hS hl
  obtain ⟨hx, hb, hml, hown, hts, -, hlk, hk0, -⟩ := id C
  have hl : lv_has ls 5 [(0, .ref (q 0)), (1, .int x1), (2, .int x2), (3, .int x3)] := hl
  unfold F_X0_sheet at hF
  have hq : ∀ (i : Nat) (σ0 : SS) (H0 : Heap), wx G rd q σ0 H0 → wx G rd (qup q i (q i)) σ0 H0 := fun i σ0 H0 h => by rw [qup_self]; exact h
  refine lv_iload_n hx hb dX0_sheet_0 rfl (lv_at hl 1 rfl) ?_
  refine lv_iload_n hx hb dX0_sheet_1 rfl (lv_at hl 2 rfl) ?_
  obtain ⟨r_1, σ_1, h_1, hF⟩ := bd_e hF
  refine r_callSi (As := [.int x1, .int x2]) (rest := []) C hw hS (met_X0_isSheet l G rd q h_1) (cwS 2 hts (lw_S q857 q858 q57 q859) rfl rfl rfl (by decide +kernel) ⟨Nat.le_of_ble_eq_true rfl, Nat.le_of_ble_eq_true rfl⟩) rfl hl.1 rfl (Nat.le_of_ble_eq_true rfl) ⟨Nat.zero_le _, Nat.zero_le _⟩ dX0_sheet_2 (fun H locs hw hS => ?_)
  refine lv_if_eq (tgt := 14) hx hb dX0_sheet_5 (by decide) (fun c_1 => ?_) (fun c_1 => ?_)
  · have hF := it_e hF c_1
    refine lv_iconst (v := (-1 : Int32)) hx hb dX0_sheet_14 (by decide) ?_
    refine W.widen (k := 3) (n := 60) (Nat.le_of_ble_eq_true rfl) (Nat.le_of_ble_eq_true rfl) ?_
    exact r_isret C (hq _ _ _ hw) hS hF dX0_sheet_15
  · have hF := if_e hF c_1
    refine lv_iload_n hx hb dX0_sheet_8 rfl (lv_at hl 3 rfl) ?_
    refine lv_bipush (v := (40 : Int32)) hx hb dX0_sheet_9 (by decide) ?_
    refine lv_icmp_le (tgt := 16) hx hb dX0_sheet_11 (by decide) (fun c_2 => ?_) (fun c_2 => ?_)
    · have hF := it_e hF c_2
      obtain ⟨h_3, hF⟩ := gd_e hF
      obtain ⟨j, ej⟩ : ∃ j, j = x1.toNatClampNeg := ⟨_, rfl⟩
      have hj : j < 4 := lt_of ej (inR_lt h_3)
      refine lv_aload_n hx hb dX0_sheet_16 rfl (lv_at hl 0 rfl) ?_
      refine r_get0 C hw 21 (by decide) rfl (v := .ref (q 8)) rfl q240 dX0_sheet_17 ?_
      refine lv_iload_n hx hb dX0_sheet_20 rfl (lv_at hl 1 rfl) ?_
      refine r_aald (i := 8) (t := 7) (n := 4) (g := 13) (st := 1) C hw (wi_lo (Or.inl (by decide))) rfl rfl h_3 (ha_H ej) dX0_sheet_21 ?_
      rw [← ej] at hF ⊢
      refine lv_iload_n hx hb dX0_sheet_22 rfl (lv_at hl 2 rfl) ?_
      refine lv_if_ne (tgt := 32) hx hb dX0_sheet_23 (by decide) (fun c_4 => ?_) (fun c_4 => ?_)
      · refine lv_iload_n hx hb dX0_sheet_32 rfl (lv_at hl 2 rfl) ?_
        refine lv_iconst (v := (1 : Int32)) hx hb dX0_sheet_33 (by decide) ?_
        refine lv_icmp_ne (tgt := 43) hx hb dX0_sheet_34 (by decide) (fun c_6 => ?_) (fun c_6 => ?_)
        · refine lv_iload_n hx hb dX0_sheet_43 rfl (lv_at hl 3 rfl) ?_
          by_cases c_5 : x3 < 0
          · have hF := it_e hF c_5
            refine vx_newarrayZ hx hb c_5 dX0_sheet_44 (fun tx etx => ?_)
            subst etx
            refine r_vm (names := nmR) (nb := 44) C hst hw hS hl.1 (by decide +kernel) (by decide +kernel) (by decide) (by decide) okw_S ot_S (num_mod x3) (num_bytes x3) (by decide) (Nat.le_of_ble_eq_true rfl) (Nat.le_of_ble_eq_true rfl) (by decide) (Nat.le_of_ble_eq_true rfl) (Nat.le_of_ble_eq_true rfl) (fun H q9 ce hw hS h9 hv9 hc9 => ?_)
            refine vx_catch (name := "java/lang/NegativeArraySizeException") (E := "java/lang/NegativeArraySizeException") hown [] ⟨16, 50, 51, 334⟩ [] htab (fun z hz => absurd hz List.not_mem_nil) (by decide) (by decide) (hts _ q828) (hk0.castw q848 _) h9 hv9 hc9 ?_
            refine lv_astore (lv' := [(4, .ref q9), (0, .ref (q 0)), (1, .int x1), (2, .int x2), (3, .int x3)]) hx hb dX0_sheet_51 hl (by decide) rfl (fun ls hl => ?_)
            refine lv_bipush (v := (-14 : Int32)) hx hb dX0_sheet_53 (by decide) ?_
            refine W.widen (k := 3) (n := 60) (Nat.le_of_ble_eq_true rfl) (Nat.le_of_ble_eq_true rfl) ?_
            exact r_isret C (hq _ _ _ hw) hS hF dX0_sheet_55
          · have hF := if_e hF c_5
            rw [if_neg c_4, if_neg c_6] at hF
            refine r_sheet (ls := ls) C hw hS hj c_5 c_2 (kd := 3) (by omega) (atype := .int) (ty := .int) rfl rfl q216 (fun _ _ => rfl) (by decide) (Nat.le_of_ble_eq_true rfl) (Nat.le_of_ble_eq_true rfl) dX0_sheet_44 (fun _ _ _ _ _ h => h) (fun a H locs hw hS => ?_)
            refine lv_iconst (v := (1 : Int32)) hx hb dX0_sheet_49 (by decide) ?_
            refine W.widen (k := 3) (n := 60) (Nat.le_of_ble_eq_true rfl) (by have := le40 c_2; show 0 + x3.toNatClampNeg ≤ 60; omega) ?_
            exact r_isret C hw hS hF dX0_sheet_50
        · refine lv_iload_n hx hb dX0_sheet_37 rfl (lv_at hl 3 rfl) ?_
          by_cases c_5 : x3 < 0
          · have hF := it_e hF c_5
            refine vx_newarrayZ hx hb c_5 dX0_sheet_38 (fun tx etx => ?_)
            subst etx
            refine r_vm (names := nmR) (nb := 44) C hst hw hS hl.1 (by decide +kernel) (by decide +kernel) (by decide) (by decide) okw_S ot_S (num_mod x3) (num_bytes x3) (by decide) (Nat.le_of_ble_eq_true rfl) (Nat.le_of_ble_eq_true rfl) (by decide) (Nat.le_of_ble_eq_true rfl) (Nat.le_of_ble_eq_true rfl) (fun H q9 ce hw hS h9 hv9 hc9 => ?_)
            refine vx_catch (name := "java/lang/NegativeArraySizeException") (E := "java/lang/NegativeArraySizeException") hown [] ⟨16, 50, 51, 334⟩ [] htab (fun z hz => absurd hz List.not_mem_nil) (by decide) (by decide) (hts _ q828) (hk0.castw q848 _) h9 hv9 hc9 ?_
            refine lv_astore (lv' := [(4, .ref q9), (0, .ref (q 0)), (1, .int x1), (2, .int x2), (3, .int x3)]) hx hb dX0_sheet_51 hl (by decide) rfl (fun ls hl => ?_)
            refine lv_bipush (v := (-14 : Int32)) hx hb dX0_sheet_53 (by decide) ?_
            refine W.widen (k := 3) (n := 60) (Nat.le_of_ble_eq_true rfl) (Nat.le_of_ble_eq_true rfl) ?_
            exact r_isret C (hq _ _ _ hw) hS hF dX0_sheet_55
          · have hF := if_e hF c_5
            rw [if_neg c_4, if_pos c_6] at hF
            refine r_sheet (ls := ls) C hw hS hj c_5 c_2 (kd := 2) (by omega) (atype := .short) (ty := .short) rfl rfl q203 (fun _ _ => rfl) (by decide) (Nat.le_of_ble_eq_true rfl) (Nat.le_of_ble_eq_true rfl) dX0_sheet_38 (fun _ _ _ _ _ h => lv_goto (tgt := 46) hx hb dX0_sheet_40 (by decide) h) (fun a H locs hw hS => ?_)
            refine lv_iconst (v := (1 : Int32)) hx hb dX0_sheet_49 (by decide) ?_
            refine W.widen (k := 3) (n := 60) (Nat.le_of_ble_eq_true rfl) (by have := le40 c_2; show 0 + x3.toNatClampNeg ≤ 60; omega) ?_
            exact r_isret C hw hS hF dX0_sheet_50
      · have c_4 : x2 = 0 := c_4
        refine lv_iload_n hx hb dX0_sheet_26 rfl (lv_at hl 3 rfl) ?_
        by_cases c_5 : x3 < 0
        · have hF := it_e hF c_5
          refine vx_newarrayZ hx hb c_5 dX0_sheet_27 (fun tx etx => ?_)
          subst etx
          refine r_vm (names := nmR) (nb := 44) C hst hw hS hl.1 (by decide +kernel) (by decide +kernel) (by decide) (by decide) okw_S ot_S (num_mod x3) (num_bytes x3) (by decide) (Nat.le_of_ble_eq_true rfl) (Nat.le_of_ble_eq_true rfl) (by decide) (Nat.le_of_ble_eq_true rfl) (Nat.le_of_ble_eq_true rfl) (fun H q9 ce hw hS h9 hv9 hc9 => ?_)
          refine vx_catch (name := "java/lang/NegativeArraySizeException") (E := "java/lang/NegativeArraySizeException") hown [] ⟨16, 50, 51, 334⟩ [] htab (fun z hz => absurd hz List.not_mem_nil) (by decide) (by decide) (hts _ q828) (hk0.castw q848 _) h9 hv9 hc9 ?_
          refine lv_astore (lv' := [(4, .ref q9), (0, .ref (q 0)), (1, .int x1), (2, .int x2), (3, .int x3)]) hx hb dX0_sheet_51 hl (by decide) rfl (fun ls hl => ?_)
          refine lv_bipush (v := (-14 : Int32)) hx hb dX0_sheet_53 (by decide) ?_
          refine W.widen (k := 3) (n := 60) (Nat.le_of_ble_eq_true rfl) (Nat.le_of_ble_eq_true rfl) ?_
          exact r_isret C (hq _ _ _ hw) hS hF dX0_sheet_55
        · have hF := if_e hF c_5
          rw [if_pos c_4] at hF
          refine r_sheet (ls := ls) C hw hS hj c_5 c_2 (kd := 1) (by omega) (atype := .byte) (ty := .byte) rfl rfl q217 (fun _ _ => rfl) (by decide) (Nat.le_of_ble_eq_true rfl) (Nat.le_of_ble_eq_true rfl) dX0_sheet_27 (fun _ _ _ _ _ h => lv_goto (tgt := 46) hx hb dX0_sheet_29 (by decide) h) (fun a H locs hw hS => ?_)
          refine lv_iconst (v := (1 : Int32)) hx hb dX0_sheet_49 (by decide) ?_
          refine W.widen (k := 3) (n := 60) (Nat.le_of_ble_eq_true rfl) (by have := le40 c_2; show 0 + x3.toNatClampNeg ≤ 60; omega) ?_
          exact r_isret C hw hS hF dX0_sheet_50
    · have hF := if_e hF c_2
      refine lv_iconst (v := (-1 : Int32)) hx hb dX0_sheet_14 (by decide) ?_
      refine W.widen (k := 3) (n := 60) (Nat.le_of_ble_eq_true rfl) (Nat.le_of_ble_eq_true rfl) ?_
      exact r_isret C (hq _ _ _ hw) hS hF dX0_sheet_15
