/-! STRING CONSTANTS of the reader, the JDK's String.length and charAt over them -/
set_option maxRecDepth 100000
def lenSl : List Nat := [5, 4, 4, 4, 5, 5, 4, 4]
def bytSl : List (List Int32) := [[112, 108, 97, 105, 110], [115, 108, 105, 112], [116, 97, 107, 101], [115, 111, 102, 116], [115, 104, 97, 102, 116], [100, 114, 105, 118, 101], [106, 111, 105, 110], [108, 111, 97, 100]]
def txS (j : Nat) : String := ["plain", "slip", "take", "soft", "shaft", "drive", "join", "load"].getD j ""
def lenS (j : Nat) : Nat := lenSl.getD j 0
def bytS (j i : Nat) : Int32 := (bytSl.getD j []).getD i 0
abbrev tmSt (j : Nat) : Term := .string "FlyWheels$Reader" (44 + 2 * j)
abbrev flN : List Cond := flatC (Jvm.Cond.and given_1 narrow_1)
theorem st_ex : ∀ i, i < 8 → Cond.exactly (tmSt i) "java/lang/String" ∈ flN := by decide +kernel
theorem st_co : ∀ i, i < 8 → Cond.eq (.field (tmSt i) "java/lang/String" "coder" "B") (.int 0) ∈ flN := by decide +kernel
theorem st_ar : ∀ i, i < 8 → Cond.arrayOf (.field (tmSt i) "java/lang/String" "value" "[B") .byte ∈ flN := by decide +kernel
theorem st_le : ∀ i, i < 8 → Cond.eq (.length (.field (tmSt i) "java/lang/String" "value" "[B")) (.int (Int32.ofNat (lenSl.getD i 0))) ∈ flN := by decide +kernel
theorem st_el : ∀ i, i < 8 → ∀ j, j < lenSl.getD i 0 → Cond.eq (.elem (.field (tmSt i) "java/lang/String" "value" "[B") (.int (Int32.ofNat j))) (.int ((bytSl.getD i []).getD j 0)) ∈ flN := by decide +kernel
theorem st_ne : ∀ i, i < 8 → ∀ j, j < 8 → i ≠ j → Cond.not (Cond.eq (tmSt i) (tmSt j)) ∈ flN ∨ Cond.not (Cond.eq (tmSt j) (tmSt i)) ∈ flN := by decide +kernel
theorem st_len : ∀ i, i < 8 → lenSl.getD i 0 < 2 ^ 31 ∧ lenSl.getD i 0 ≤ 5 := by decide +kernel
theorem st_rf : ∀ i, i < 8 → Cond.stringRef "FlyWheels$Reader" (44 + 2 * i) (txS i) ∈ lw_tbl := by decide +kernel
/-- a constant: the String, its bytes -/
def isS (G : GG) (U : State) (j a : Nat) : Prop := ∃ v : Nat, va_O "java/lang/String" a (fa G) U G.2.2.2 ∧ va_OF "java/lang/String" "coder" "B" (.int 0) a (fa G) U G.2.2.2 ∧ va_OF "java/lang/String" "value" "[B" (.ref v) a (fa G) U G.2.2.2 ∧ va_T .byte v (lenS j) (fun i => .int (bytS j i)) (fa G) U G.2.2.2
theorem isS.moved {G : GG} {u U : State} {j a : Nat} (hvm : u.vm.Alike U.vm) (h : isS G u j a) : isS G U j a := by
  obtain ⟨v, h1, h2, h3, h4⟩ := h
  exact ⟨v, h1.moved hvm, h2.moved hvm, h3.moved hvm, h4.moved hvm⟩
/-- where the constants lie, as a state's tables have them -/
def strs (G : GG) (U : State) (ad : Nat → Nat) : Prop := ∀ j, j < 8 → isS G U j (ad j) ∧ vk_R "FlyWheels$Reader" (44 + 2 * j) (txS j) (ad j) U
theorem kx.strs {G : GG} {s : State} (h : kx G s) : ∃ ad, strs G s ad := by
  obtain ⟨-, -, -, s0, b, g1, g2, -, g4, g5, g6⟩ := h
  have hf := flat_of_before _ g2
  obtain ⟨adK, adV, ⟨hv, -⟩, he⟩ := vk_Sof (N := 8) (tm := tmSt) (len := lenSl) (byt := bytSl) (A := fa G) (fun i hi => (st_len i hi).1) (fun i hi => hf _ (st_ex i hi)) (fun i hi => hf _ (st_co i hi)) (fun i hi => hf _ (st_ar i hi)) (fun i hi => hf _ (st_le i hi)) (fun i hi j hj => hf _ (st_el i hi j hj)) (fun i j hi hj hne => (st_ne i hi j hj hne).imp (hf _) (hf _)) (fun a ha => by unfold fa; omega)
  refine ⟨adK, fun j hj => ⟨isS.moved g6.alike ⟨adV j, ?_⟩, vk_R.warm g6 (vk_R.of (g1 _ (st_rf j hj)) (he j hj))⟩⟩
  rw [← g4]
  exact hv j hj
theorem vk_one {own tx : String} {k a b : Nat} {U : State} (h1 : vk_R own k tx a U) (h2 : vk_R own k tx b U) : a = b := by
  have h := h1.2.symm.trans h2.2
  cases h
  rfl
theorem kx.compact {G : GG} {s : State} (h : kx G s) (ho : ox G s.heap) : va_Z "java/lang/String" "COMPACT_STRINGS" "Z" (.int 1) (fa G) s s.heap := by
  obtain ⟨-, -, -, s0, b, g1, g2, -, g4, g5, g6⟩ := h
  have hz : va_Z "java/lang/String" "COMPACT_STRINGS" "Z" (.int 1) (fa G) s0 s0.heap := va_Zof (g1 _ q469) (g1 _ (lw_all_tbl q70)) (va_eqi (flat_of_before _ g2 _ (by decide +kernel))) (fun a ha => by unfold fa; omega)
  exact (hz.kept (fun a ha hn => by rw [ho.2 a (by omega), g4])).moved g6.alike
theorem kx.siobe {G : GG} {s : State} (h : kx G s) (ho : ox G s.heap) : va_Zq "jdk/internal/util/Preconditions" "SIOOBE_FORMATTER" "Ljava/util/function/BiFunction;" (fa G) s s.heap := by
  obtain ⟨-, -, -, s0, b, g1, g2, -, g4, g5, g6⟩ := h
  have hz : va_Zq "jdk/internal/util/Preconditions" "SIOOBE_FORMATTER" "Ljava/util/function/BiFunction;" (fa G) s0 s0.heap := va_Zqof (g1 _ q485) (g1 _ (lw_all_tbl q72)) (flat_of_before _ g2 _ (by decide +kernel)) (fun a ha => by unfold fa; omega)
  exact (hz.kept (fun a ha hn => by rw [ho.2 a (by omega), g4])).moved g6.alike
/-- contracts that leave the heap as it is; X: what more is known of the tables -/
abbrev pcs (G : GG) (Hc : Heap) (j a : Nat) (av : List Value) : Array Value → State → Prop := va_Pc av (fun U => kx G U ∧ ox G U.heap ∧ U.heap = Hc ∧ isS G U j a)
theorem pcs.blind {G : GG} {Hc : Heap} {j a : Nat} {av : List Value} : FrameBlind (pcs G Hc j a av) := fun x U g mk h => ⟨h.1, h.2.1.blind g mk x, h.2.2.1, h.2.2.2.1, isS.moved (u := U) (U := U.calling g mk x) (Vm.Alike.refl U.vm) h.2.2.2.2⟩
abbrev qcs (Hc : Heap) (r : Int32) : Array Value → State → Outcome → State → Prop := va_Qi (fun (r' : Int32) (_ : Unit) => r' = r) (fun _ t => t.heap = Hc) (fun _ => False)
abbrev qcv (Hc : Heap) : Array Value → State → Outcome → State → Prop := va_Qv (fun (_ : Unit) => True) (fun _ t => t.heap = Hc) (fun _ => False)
theorem met_ofS {l : Launch} {y : MethodName} {cc : ByteArray} {nL : Nat} {ret : Option FieldType} {rm : Room} {G : GG} {Pc : State → Prop} {av : List Value} {Qc : Array Value → State → Outcome → State → Prop} {mc ms : Nat} {free : Nat → Prop} (hy : plainName y.cls = true)
    (hle : (lg_sl av).length ≤ nL) (hkx : ∀ U, Pc U → kx G U ∧ ox G U.heap)
    (body : ∀ p e s m below meth c, cx p s m av.toArray meth c cc nL y.cls ret G → Pc s → ∀ (ls : Array Slot), lv_has ls nL (lv_args 0 av) → W p l e rm s m av.toArray below meth c s.heap [] 0 0 (MQ below Qc av.toArray s mc ms free) (F0 m 0 ls [])) :
    Met l y (ws_ y cc nL ret) rm (va_Pc av Pc) Qc mc ms free := by
  refine Met.ofW (cc := cc) (maxL := nL) (ret := ret) hy rfl ?_
  intro p e s m args below meth c s₁ B hml hv
  obtain ⟨rfl, hk⟩ := hv
  have hts := atoms_spec (ws := ws_ y cc nL ret) B.pre
  have hts : ∀ w ∈ lw_all, w.before _ s = true := fun w h => hts w (List.mem_cons_of_mem _ h)
  have hl := lv_entry av (n := nL) hle
  rw [lg_entry_eq]
  exact body p e s m below meth c ⟨B.exec, B.bytes, hml, findClass_of_methodNamed B.named, hts, B.returns, B.notSynchronized, hkx s hk⟩ hk _ hl
section RST
variable {p : Program} {l : Launch} {e : Env} {R : Room} {s : State} {m : MethodId} {args : Array Value} {below : List Frame} {meth : Method} {c : Code} {H : Heap} {locs : List Loc} {cells slots : Nat} {Q : State → Prop}
variable {cc : ByteArray} {pc nL : Nat} {ls : Array Slot} {rest : List Value} {own : String} {ret : Option FieldType} {G : GG} {A : Nat → Prop}
/-- a call on a constant -/
theorem s_callV (C : cx p s m args meth c cc nL own ret G) (hox : ox G H) (hS : va_S A s.heap H locs) {j a : Nat} (hs : isS G s j a) {y : MethodName} {ws : List Cond} {rm : Room} {As : List Value} {r : Int32} (hM : Met l y ws rm (pcs G H j a (.ref a :: As)) (qcs H r) 0 0 (fun _ => False)) {index n maxL : Nat} {bytes : ByteArray} {ret' : Option FieldType} (cw : CallW R s args own "java/lang/String" index y bytes maxL ret' ws rm 0 0 n) (hn : As.length = n) (hsz : ls.size = nL) {st : List Value} (hst : st = As.reverse ++ .ref a :: rest) (hrm : (rest.map fun v => v.category).sum ≤ 8) (hcs : cells ≤ R.cells ∧ slots ≤ R.slots) (hdg : decode cc pc = .ok (.invokevirtual index, 3))
    (kk : ∀ locs1, va_S A s.heap H locs1 → W p l e R s m args below meth c H locs1 cells slots Q (F0 m (pc + 3) ls (.int r :: rest))) : W p l e R s m args below meth c H locs cells slots Q (F0 m pc ls st) := by
  obtain ⟨hx, hb, hml, hown, hts, -, -, hk0, -⟩ := C
  obtain ⟨v, ⟨cell, g1, g2, g3, g4⟩, -⟩ := hs.imp fun v h => h
  have hcell : H[a]? = some cell := by
    have h1 : ¬ G.2.2.1 ≤ a := g4
    rw [hox.2 a (by omega)]
    exact g1
  exact va_calli (va_runV (As := As) (rest := rest) ⟨hx, hb, hml, hown, hts⟩ hM cw ⟨pcs.blind, ⟨cell, hcell, g2, g3⟩, fun U hU hW => ⟨rfl, hk0.warm hW, by rw [hU]; exact hox, hU, hs.moved hW.alike⟩⟩ rfl hn hsz hst (lv_room hrm) hdg hcs) hS (fun _ _ h => h.elim) (fun _ h => h.elim) (fun r' _ t H1 locs1 e1 _ e2 e3 _ _ hS1 => by
    have e4 : H1 = H := e1.symm.trans e3
    subst e4; subst e2
    exact kk locs1 hS1)
theorem s_callS (C : cx p s m args meth c cc nL own ret G) (hox : ox G H) (hS : va_S A s.heap H locs) {Pc : State → Prop} {y : MethodName} {ws : List Cond} {rm : Room} {As : List Value} {r : Int32} (hbl : FrameBlind (va_Pc As Pc)) (hpc : ∀ U : State, U.heap = H → s.WarmedH U.vm → Pc U) (hM : Met l y ws rm (va_Pc As Pc) (qcs H r) 0 0 (fun _ => False)) {index n maxL : Nat} {bytes : ByteArray} {ret' : Option FieldType} (cw : CallB R s args own index y bytes maxL ret' ws rm 0 0 n ∧ (Cond.static y).before args s = true) (hn : As.length = n) (hsz : ls.size = nL) {st : List Value} (hst : st = As.reverse ++ rest) (hrm : (rest.map fun v => v.category).sum ≤ 8) (hcs : cells ≤ R.cells ∧ slots ≤ R.slots) (hdg : decode cc pc = .ok (.invokestatic index, 3))
    (kk : ∀ locs1, va_S A s.heap H locs1 → W p l e R s m args below meth c H locs1 cells slots Q (F0 m (pc + 3) ls (.int r :: rest))) : W p l e R s m args below meth c H locs cells slots Q (F0 m pc ls st) := by
  obtain ⟨hx, hb, hml, hown, hts, -, -, hk0, -⟩ := C
  exact va_calli (va_runS (As := As) (rest := rest) ⟨hx, hb, hml, hown, hts⟩ hM cw ⟨hbl, fun U hU hW => ⟨rfl, hpc U hU hW⟩⟩ rfl hn hsz hst (lv_room hrm) hdg hcs) hS (fun _ _ h => h.elim) (fun _ h => h.elim) (fun r' _ t H1 locs1 e1 _ e2 e3 _ _ hS1 => by
    have e4 : H1 = H := e1.symm.trans e3
    subst e4; subst e2
    exact kk locs1 hS1)
theorem s_callSv (C : cx p s m args meth c cc nL own ret G) (hox : ox G H) (hS : va_S A s.heap H locs) {Pc : State → Prop} {y : MethodName} {ws : List Cond} {rm : Room} {As : List Value} (hbl : FrameBlind (va_Pc As Pc)) (hpc : ∀ U : State, U.heap = H → s.WarmedH U.vm → Pc U) (hM : Met l y ws rm (va_Pc As Pc) (qcv H) 0 0 (fun _ => False)) {index n maxL : Nat} {bytes : ByteArray} {ret' : Option FieldType} (cw : CallB R s args own index y bytes maxL ret' ws rm 0 0 n ∧ (Cond.static y).before args s = true) (hn : As.length = n) (hsz : ls.size = nL) {st : List Value} (hst : st = As.reverse ++ rest) (hrm : (rest.map fun v => v.category).sum ≤ 8) (hcs : cells ≤ R.cells ∧ slots ≤ R.slots) (hdg : decode cc pc = .ok (.invokestatic index, 3))
    (kk : ∀ locs1, va_S A s.heap H locs1 → W p l e R s m args below meth c H locs1 cells slots Q (F0 m (pc + 3) ls rest)) : W p l e R s m args below meth c H locs cells slots Q (F0 m pc ls st) := by
  obtain ⟨hx, hb, hml, hown, hts, -, -, hk0, -⟩ := C
  exact va_callv (va_runS (As := As) (rest := rest) ⟨hx, hb, hml, hown, hts⟩ hM cw ⟨hbl, fun U hU hW => ⟨rfl, hpc U hU hW⟩⟩ rfl hn hsz hst (lv_room hrm) hdg hcs) hS (fun _ _ h => h.elim) (fun _ h => h.elim) (fun _ t H1 locs1 e1 _ _ e3 _ _ hS1 => by
    have e4 : H1 = H := e1.symm.trans e3
    subst e4
    exact kk locs1 hS1)
theorem s_zret {ty : FieldType} {v : Int32} (C : cx p s m args meth c cc nL own (some ty) G) (hS : va_S (fun _ => False) s.heap s.heap locs) (hn : narrow ty (.int v) = .int v) {Hc : Heap} (hH : s.heap = Hc) (hdg : decode cc pc = .ok (.ireturn, 1)) : W p l e R s m args below meth c s.heap locs cells slots (MQ below (qcs Hc v) args s cells slots (fun _ => False)) (F0 m pc ls [.int v]) := by
  obtain ⟨hx, hb, -, hown, hts, hr, hlk, -⟩ := C
  exact W.zret hx hb hr hn (fun t ht hW => ⟨⟨v, (), rfl, rfl, ht.trans hH⟩, hS.F ht⟩) hS.2.2 hdg hlk
end RST
abbrev rmJ2_coder : Room := { frames := 1, cells := 0, slots := 0, locals := 60 }
theorem met_J2_coder (l : Launch) (G : GG) (Hc : Heap) (j a : Nat) : Met l yJ2_coder (ws_ yJ2_coder cJ2_coder 1 (some .byte)) rmJ2_coder (pcs G Hc j a [.ref a]) (qcs Hc 0) 0 0 (fun _ => False) := by
  refine met_ofS (by decide) (Nat.le_of_ble_eq_true rfl) (fun U h => ⟨h.1, h.2.1⟩) ?_
  intro p e s m below meth c C hv ls hl
  obtain ⟨hk0, hox, hH, hs⟩ := hv
  obtain ⟨hx, hb, hml, hown, hts, hr, hlk, -, -⟩ := id C
  have hl : lv_has ls 1 [(0, .ref a)] := hl
  have hS : va_S (fun _ => False) s.heap s.heap [] := va_S.rf
  have hS' : va_S (fa G) s.heap s.heap [] := va_S.rf
  have hkp : ∀ a : Nat, a < G.2.2.2.size → ¬ fa G a → s.heap[a]? = G.2.2.2[a]? := fun a _ h => hox.2 a (Nat.not_le.mp h)
  obtain ⟨v, h1, h2, h3, h4⟩ := hs
  refine va_gets hx hb (hk0.compact hox) hS' hown (hts _ q468) (fun _ h => h) dJ2_coder_0 ?_
  refine lv_if_eq (tgt := 13) hx hb dJ2_coder_3 (by decide) (fun c9 => absurd c9 (by decide)) (fun _ => ?_)
  refine lv_aload_n hx hb dJ2_coder_6 rfl (lv_at hl 0 rfl) ?_
  refine vk_getf hx hb (h2.kept hkp) hS' hown (hts _ q1337) (fun _ h => h) dJ2_coder_7 ?_
  refine lv_goto (tgt := 14) hx hb dJ2_coder_10 (by decide) ?_
  exact s_zret C hS rfl hH dJ2_coder_14
abbrev rmJ2_isLatin1 : Room := { frames := 1, cells := 0, slots := 0, locals := 60 }
theorem met_J2_isLatin1 (l : Launch) (G : GG) (Hc : Heap) (j a : Nat) : Met l yJ2_isLatin1 (ws_ yJ2_isLatin1 cJ2_isLatin1 1 (some .boolean)) rmJ2_isLatin1 (pcs G Hc j a [.ref a]) (qcs Hc 1) 0 0 (fun _ => False) := by
  refine met_ofS (by decide) (Nat.le_of_ble_eq_true rfl) (fun U h => ⟨h.1, h.2.1⟩) ?_
  intro p e s m below meth c C hv ls hl
  obtain ⟨hk0, hox, hH, hs⟩ := hv
  obtain ⟨hx, hb, hml, hown, hts, hr, hlk, -, -⟩ := id C
  have hl : lv_has ls 1 [(0, .ref a)] := hl
  have hS : va_S (fun _ => False) s.heap s.heap [] := va_S.rf
  have hS' : va_S (fa G) s.heap s.heap [] := va_S.rf
  have hkp : ∀ a : Nat, a < G.2.2.2.size → ¬ fa G a → s.heap[a]? = G.2.2.2[a]? := fun a _ h => hox.2 a (Nat.not_le.mp h)
  obtain ⟨v, h1, h2, h3, h4⟩ := hs
  refine va_gets hx hb (hk0.compact hox) hS' hown (hts _ q468) (fun _ h => h) dJ2_isLatin1_0 ?_
  refine lv_if_eq (tgt := 17) hx hb dJ2_isLatin1_3 (by decide) (fun c9 => absurd c9 (by decide)) (fun _ => ?_)
  refine lv_aload_n hx hb dJ2_isLatin1_6 rfl (lv_at hl 0 rfl) ?_
  refine vk_getf hx hb (h2.kept hkp) hS' hown (hts _ q1337) (fun _ h => h) dJ2_isLatin1_7 ?_
  refine lv_if_ne (tgt := 17) hx hb dJ2_isLatin1_10 (by decide) (fun c9 => absurd rfl c9) (fun _ => ?_)
  refine lv_iconst (v := (1 : Int32)) hx hb dJ2_isLatin1_13 (by decide) ?_
  refine lv_goto (tgt := 18) hx hb dJ2_isLatin1_14 (by decide) ?_
  exact s_zret C hS rfl hH dJ2_isLatin1_18
abbrev rmJ2_length : Room := { frames := 2, cells := 0, slots := 0, locals := 100 }
theorem met_J2_length (l : Launch) (G : GG) (Hc : Heap) (j a : Nat) : Met l yJ2_length (ws_ yJ2_length cJ2_length 1 (some .int)) rmJ2_length (pcs G Hc j a [.ref a]) (qcs Hc (Int32.ofNat (lenS j))) 0 0 (fun _ => False) := by
  refine met_ofS (by decide) (Nat.le_of_ble_eq_true rfl) (fun U h => ⟨h.1, h.2.1⟩) ?_
  intro p e s m below meth c C hv ls hl
  obtain ⟨hk0, hox, hH, hs⟩ := hv
  obtain ⟨hx, hb, hml, hown, hts, hr, hlk, -, -⟩ := id C
  have hl : lv_has ls 1 [(0, .ref a)] := hl
  have hS : va_S (fun _ => False) s.heap s.heap [] := va_S.rf
  have hS' : va_S (fa G) s.heap s.heap [] := va_S.rf
  have hkp : ∀ a : Nat, a < G.2.2.2.size → ¬ fa G a → s.heap[a]? = G.2.2.2[a]? := fun a _ h => hox.2 a (Nat.not_le.mp h)
  obtain ⟨v, h1, h2, h3, h4⟩ := id hs
  refine lv_aload_n hx hb dJ2_length_0 rfl (lv_at hl 0 rfl) ?_
  refine vk_getf hx hb (h3.kept hkp) hS' hown (hts _ q1336) (fun _ h => h) dJ2_length_1 ?_
  refine va_tlen hx hb (h4.kept hkp) hS' rfl dJ2_length_4 ?_
  refine lv_aload_n hx hb dJ2_length_5 rfl (lv_at hl 0 rfl) ?_
  refine s_callV (As := []) (rest := [.int (Int32.ofNat (lenS j))]) C hox hS hs (met_J2_coder l G s.heap j a) (cwV 0 hts (lw_V q464 q465 q466 q70 q467) rfl rfl rfl (by decide +kernel) ⟨Nat.le_of_ble_eq_true rfl, Nat.le_of_ble_eq_true rfl⟩) rfl hl.1 rfl (Nat.le_of_ble_eq_true rfl) ⟨Nat.zero_le _, Nat.zero_le _⟩ dJ2_length_6 (fun locs hS => ?_)
  refine lv_ishr hx hb dJ2_length_9 ?_
  rw [sb_shr0]
  exact s_zret C hS rfl hH dJ2_length_10
abbrev rmJ4_checkIndex : Room := { frames := 1, cells := 0, slots := 0, locals := 60 }
abbrev pcp (G : GG) (Hc : Heap) (av : List Value) : Array Value → State → Prop := va_Pc av (fun U => kx G U ∧ ox G U.heap ∧ U.heap = Hc ∧ True)
theorem pcp.blind {G : GG} {Hc : Heap} {av : List Value} : FrameBlind (pcp G Hc av) := fun x U g mk h => ⟨h.1, h.2.1.blind g mk x, h.2.2.1, h.2.2.2.1, trivial⟩
theorem met_J4_checkIndex (l : Launch) (G : GG) (Hc : Heap) {i n : Int32} {w : Value} (hw : w.category = 1) (h0 : ¬ i < 0) (hn : i < n) : Met l yJ4_checkIndex (ws_ yJ4_checkIndex cJ4_checkIndex 3 (some .int)) rmJ4_checkIndex (pcp G Hc [.int i, .int n, w]) (qcs Hc i) 0 0 (fun _ => False) := by
  refine met_ofS (by decide) (by cases w <;> first | exact Nat.le_of_ble_eq_true rfl | exact absurd (show (2 : Nat) = 1 from hw) (by decide)) (fun U h => ⟨h.1, h.2.1⟩) ?_
  intro p e s m below meth c C hv ls hl
  obtain ⟨hk0, hox, hH, hs⟩ := hv
  obtain ⟨hx, hb, hml, hown, hts, hr, hlk, -, -⟩ := id C
  have hl : lv_has ls 3 [(0, .int i), (1, .int n), (2, w)] := hl
  have hS : va_S (fun _ => False) s.heap s.heap [] := va_S.rf
  refine lv_iload_n hx hb dJ4_checkIndex_0 rfl (lv_at hl 0 rfl) ?_
  refine lv_if_lt (tgt := 9) hx hb dJ4_checkIndex_1 (by decide) (fun c9 => absurd c9 h0) (fun _ => ?_)
  refine lv_iload_n hx hb dJ4_checkIndex_4 rfl (lv_at hl 0 rfl) ?_
  refine lv_iload_n hx hb dJ4_checkIndex_5 rfl (lv_at hl 1 rfl) ?_
  refine lv_icmp_lt (tgt := 16) hx hb dJ4_checkIndex_6 (by decide) (fun _ => ?_) (fun c9 => absurd hn c9)
  refine lv_iload_n hx hb dJ4_checkIndex_16 rfl (lv_at hl 0 rfl) ?_
  exact s_zret C hS rfl hH dJ4_checkIndex_17
abbrev rmJ2_checkIndex : Room := { frames := 2, cells := 0, slots := 0, locals := 100 }
theorem met_J2_checkIndex (l : Launch) (G : GG) (Hc : Heap) {i n : Int32} (h0 : ¬ i < 0) (hn : i < n) : Met l yJ2_checkIndex (ws_ yJ2_checkIndex cJ2_checkIndex 2 none) rmJ2_checkIndex (pcp G Hc [.int i, .int n]) (qcv Hc) 0 0 (fun _ => False) := by
  refine met_ofS (by decide) (Nat.le_of_ble_eq_true rfl) (fun U h => ⟨h.1, h.2.1⟩) ?_
  intro p e s m below meth c C hv ls hl
  obtain ⟨hk0, hox, hH, hs⟩ := hv
  obtain ⟨hx, hb, hml, hown, hts, hr, hlk, -, -⟩ := id C
  have hl : lv_has ls 2 [(0, .int i), (1, .int n)] := hl
  have hS : va_S (fun _ => False) s.heap s.heap [] := va_S.rf
  have hS' : va_S (fa G) s.heap s.heap [] := va_S.rf
  have hkp : ∀ a : Nat, a < G.2.2.2.size → ¬ fa G a → s.heap[a]? = G.2.2.2[a]? := fun a _ h => hox.2 a (Nat.not_le.mp h)
  have key : ∀ w : Value, w.category = 1 → va_Z "jdk/internal/util/Preconditions" "SIOOBE_FORMATTER" "Ljava/util/function/BiFunction;" w (fa G) s s.heap → W p l e rmJ2_checkIndex s m ([Value.int i, Value.int n] : List Value).toArray below meth c s.heap [] 0 0 (MQ below (qcv Hc) ([Value.int i, Value.int n] : List Value).toArray s 0 0 (fun _ => False)) (F0 m 2 ls [.int n, .int i]) := by
    intro w hw hz
    refine va_gets hx hb hz hS' hown (hts _ q484) (fun _ h => h) dJ2_checkIndex_2 ?_
    refine s_callS (As := [.int i, .int n, w]) (rest := []) C hox hS pcp.blind (fun U hU hW => ⟨hk0.warm hW, by rw [hU]; exact hox, hU, trivial⟩) (met_J4_checkIndex l G s.heap hw h0 hn) (va_cwS 3 hts (lw_S q486 q487 q72 q488) rfl rfl rfl (by decide +kernel) ⟨Nat.le_of_ble_eq_true rfl, Nat.le_of_ble_eq_true rfl⟩) rfl hl.1 rfl (Nat.le_of_ble_eq_true rfl) ⟨Nat.zero_le _, Nat.zero_le _⟩ dJ2_checkIndex_5 (fun locs hS => ?_)
    refine lv_pop hx hb dJ2_checkIndex_8 rfl ?_
    exact W.vret hx hb hr (fun t ht hW => ⟨⟨(), rfl, trivial, ht.trans hH⟩, hS.F ht⟩) hS.2.2 dJ2_checkIndex_9 hlk
  refine lv_iload_n hx hb dJ2_checkIndex_0 rfl (lv_at hl 0 rfl) ?_
  refine lv_iload_n hx hb dJ2_checkIndex_1 rfl (lv_at hl 1 rfl) ?_
  rcases hk0.siobe hox with hz | ⟨t, hz⟩
  · exact key _ rfl hz
  · exact key _ rfl hz
abbrev rmJ3_charAt : Room := { frames := 3, cells := 0, slots := 0, locals := 140 }
/-- the char at a place of a constant -/
def chS (j i : Nat) : Int32 := ((bytS j i &&& 255).toUInt32 % 65536).toInt32
abbrev pct (G : GG) (Hc : Heap) (j v : Nat) (av : List Value) : Array Value → State → Prop := va_Pc av (fun U => kx G U ∧ ox G U.heap ∧ U.heap = Hc ∧ va_T .byte v (lenS j) (fun i => .int (bytS j i)) (fa G) U G.2.2.2)
theorem pct.blind {G : GG} {Hc : Heap} {j v : Nat} {av : List Value} : FrameBlind (pct G Hc j v av) := fun x U g mk h => ⟨h.1, h.2.1.blind g mk x, h.2.2.1, h.2.2.2.1, va_T.moved (u := U) (U := U.calling g mk x) (Vm.Alike.refl U.vm) h.2.2.2.2⟩
theorem lenS_5 {j : Nat} : lenS j ≤ 5 := by
  by_cases h : j < 8
  · exact (st_len j h).2
  · have : lenS j = 0 := by
      unfold lenS
      rw [List.getD_eq_getElem?_getD, List.getElem?_eq_none (by simp [lenSl]; omega)]
      rfl
    omega
theorem met_J3_charAt (l : Launch) (G : GG) (Hc : Heap) {j v : Nat} {i : Int32} (hi : inR i (lenS j)) : Met l yJ3_charAt (ws_ yJ3_charAt cJ3_charAt 2 (some .char)) rmJ3_charAt (pct G Hc j v [.ref v, .int i]) (qcs Hc (chS j i.toNatClampNeg)) 0 0 (fun _ => False) := by
  refine met_ofS (by decide) (Nat.le_of_ble_eq_true rfl) (fun U h => ⟨h.1, h.2.1⟩) ?_
  intro p e s m below meth c C hv ls hl
  obtain ⟨hk0, hox, hH, hs⟩ := hv
  obtain ⟨hx, hb, hml, hown, hts, hr, hlk, -, -⟩ := id C
  have hl : lv_has ls 2 [(0, .ref v), (1, .int i)] := hl
  have hS : va_S (fun _ => False) s.heap s.heap [] := va_S.rf
  have hS' : va_S (fa G) s.heap s.heap [] := va_S.rf
  have hkp : ∀ a : Nat, a < G.2.2.2.size → ¬ fa G a → s.heap[a]? = G.2.2.2[a]? := fun a _ h => hox.2 a (Nat.not_le.mp h)
  have h0 : ¬ i < 0 := fun h => hi (Or.inl h)
  have hlt := inR_lt hi
  have h5 := lenS_5 (j := j)
  have hn : i < Int32.ofNat (lenS j) := by
    obtain ⟨k, hk, rfl⟩ := nI_of h0
    rw [nI_clamp hk] at hlt
    exact nI_lt hlt (by omega)
  refine lv_iload_n hx hb dJ3_charAt_0 rfl (lv_at hl 1 rfl) ?_
  refine lv_aload_n hx hb dJ3_charAt_1 rfl (lv_at hl 0 rfl) ?_
  refine va_tlen hx hb (hs.kept hkp) hS' rfl dJ3_charAt_2 ?_
  refine s_callSv (As := [.int i, .int (Int32.ofNat (lenS j))]) (rest := []) C hox hS pcp.blind (fun U hU hW => ⟨hk0.warm hW, by rw [hU]; exact hox, hU, trivial⟩) (met_J2_checkIndex l G s.heap h0 hn) (va_cwS 2 hts (lw_S q481 q482 q70 q483) rfl rfl rfl (by decide +kernel) ⟨Nat.le_of_ble_eq_true rfl, Nat.le_of_ble_eq_true rfl⟩) rfl hl.1 rfl (Nat.le_of_ble_eq_true rfl) ⟨Nat.zero_le _, Nat.zero_le _⟩ dJ3_charAt_3 (fun locs hS => ?_)
  refine lv_aload_n hx hb dJ3_charAt_6 rfl (lv_at hl 0 rfl) ?_
  refine lv_iload_n hx hb dJ3_charAt_7 rfl (lv_at hl 1 rfl) ?_
  have hSa : va_S (fa G) s.heap s.heap locs := ⟨Nat.le_refl _, fun _ _ _ => rfl, fun z hz => (hS.2.2 z hz).elim⟩
  refine va_tb hx hb (hs.kept hkp) hSa hi rfl dJ3_charAt_8 ?_
  refine lv_sipush (v := (255 : Int32)) hx hb dJ3_charAt_9 (by decide) ?_
  refine lv_iand hx hb dJ3_charAt_12 ?_
  refine lv_i2c hx hb dJ3_charAt_13 rfl ?_
  exact s_zret (v := chS j i.toNatClampNeg) C hS (pk_nc _) hH dJ3_charAt_14
abbrev rmJ2_charAt : Room := { frames := 4, cells := 0, slots := 0, locals := 180 }
theorem met_J2_charAt (l : Launch) (G : GG) (Hc : Heap) {j a : Nat} {i : Int32} (hi : inR i (lenS j)) : Met l yJ2_charAt (ws_ yJ2_charAt cJ2_charAt 2 (some .char)) rmJ2_charAt (pcs G Hc j a [.ref a, .int i]) (qcs Hc (chS j i.toNatClampNeg)) 0 0 (fun _ => False) := by
  refine met_ofS (by decide) (Nat.le_of_ble_eq_true rfl) (fun U h => ⟨h.1, h.2.1⟩) ?_
  intro p e s m below meth c C hv ls hl
  obtain ⟨hk0, hox, hH, hs⟩ := hv
  obtain ⟨hx, hb, hml, hown, hts, hr, hlk, -, -⟩ := id C
  have hl : lv_has ls 2 [(0, .ref a), (1, .int i)] := hl
  have hS : va_S (fun _ => False) s.heap s.heap [] := va_S.rf
  have hS' : va_S (fa G) s.heap s.heap [] := va_S.rf
  have hkp : ∀ a : Nat, a < G.2.2.2.size → ¬ fa G a → s.heap[a]? = G.2.2.2[a]? := fun a _ h => hox.2 a (Nat.not_le.mp h)
  obtain ⟨v, h1, h2, h3, h4⟩ := id hs
  refine lv_aload_n hx hb dJ2_charAt_0 rfl (lv_at hl 0 rfl) ?_
  refine s_callV (As := []) (rest := []) C hox hS hs (met_J2_isLatin1 l G s.heap j a) (cwV 0 hts (lw_V q474 q475 q476 q70 q477) rfl rfl rfl (by decide +kernel) ⟨Nat.le_of_ble_eq_true rfl, Nat.le_of_ble_eq_true rfl⟩) rfl hl.1 rfl (Nat.le_of_ble_eq_true rfl) ⟨Nat.zero_le _, Nat.zero_le _⟩ dJ2_charAt_1 (fun locs hS => ?_)
  refine lv_if_eq (tgt := 16) hx hb dJ2_charAt_4 (by decide) (fun c9 => absurd c9 (by decide)) (fun _ => ?_)
  refine lv_aload_n hx hb dJ2_charAt_7 rfl (lv_at hl 0 rfl) ?_
  have hSa : va_S (fa G) s.heap s.heap locs := ⟨Nat.le_refl _, fun _ _ _ => rfl, fun z hz => (hS.2.2 z hz).elim⟩
  refine vk_getf hx hb (h3.kept hkp) hSa hown (hts _ q1336) (fun _ h => h) dJ2_charAt_8 ?_
  refine lv_iload_n hx hb dJ2_charAt_11 rfl (lv_at hl 1 rfl) ?_
  refine s_callS (As := [.ref v, .int i]) (rest := []) C hox hS (pct.blind (G := G) (Hc := s.heap) (j := j) (v := v)) (fun U hU hW => ⟨hk0.warm hW, by rw [hU]; exact hox, hU, h4.moved hW.alike⟩) (met_J3_charAt l G s.heap hi) (va_cwS 2 hts (lw_S q478 q479 q71 q480) rfl rfl rfl (by decide +kernel) ⟨Nat.le_of_ble_eq_true rfl, Nat.le_of_ble_eq_true rfl⟩) rfl hl.1 rfl (Nat.le_of_ble_eq_true rfl) ⟨Nat.zero_le _, Nat.zero_le _⟩ dJ2_charAt_12 (fun locs hS => ?_)
  exact s_zret C hS (pk_nc _) hH dJ2_charAt_15
