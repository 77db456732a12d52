/-! A checkcast that fails: the machine's ClassCastException, its text bounded -/
set_option maxRecDepth 100000
theorem fc_spec {vm : Vm} {n : String} {cA : ClassId} (h : vm.findClass n = some cA) : ∃ k : Class, vm.classes[cA]? = some k ∧ k.name = n ∧ k.hidden = none ∧ k.loader = none := by
  unfold Vm.findClass at h
  rw [Array.findIdx?_eq_some_iff_getElem] at h
  obtain ⟨hlt, h1, -⟩ := h
  refine ⟨vm.classes[cA], Array.getElem?_eq_getElem hlt, ?_⟩
  simp only [Bool.and_eq_true, beq_iff_eq, Option.isNone_iff_eq_none] at h1
  exact ⟨h1.1.1.1, h1.1.1.2, h1.2⟩
theorem home_len {vm : Vm} {k : Class} (hm : (vm.modules.all fun m => m.loader.isSome || m.name == "java.base" || !(castPackages_1.any fun p => m.packages.contains p)) = true) (hl : k.loader = none) (hp : packageOf k.name = "") : (vm.home k).toList.length ≤ 41 := by
  unfold Vm.home
  rw [hl]
  have h7 : vm.loaderName none = "'bootstrap'" := rfl
  rw [h7]
  cases hmo : vm.moduleOf k with
  | none =>
    show ("unnamed module" ++ " of loader " ++ "'bootstrap'").toList.length ≤ 41
    decide
  | some md =>
    have hn : md.name = "java.base" := by
      unfold Vm.moduleOf at hmo
      split at hmo
      · have := List.find?_some hmo
        simpa using this
      · have h3 := List.find?_some hmo
        have h4 := List.mem_of_find?_eq_some hmo
        rw [hl, hp] at h3
        simp only [Bool.and_eq_true, beq_iff_eq] at h3
        have h5 := List.all_eq_true.mp hm md h4
        have h6 : (castPackages_1.any fun p => md.packages.contains p) = true := by
          unfold castPackages_1
          simp only [List.any_cons, h3.2, Bool.true_or]
        rw [h3.1, h6] at h5
        simpa using h5
    show ("module " ++ md.name ++ " of loader " ++ "'bootstrap'").toList.length ≤ 41
    rw [hn]
    decide
theorem app_len (a b : String) : (a ++ b).toList.length = a.toList.length + b.toList.length := by rw [String.toList_append, List.length_append]
theorem cast_len {vm : Vm} {a b : Class} (hm : (vm.modules.all fun m => m.loader.isSome || m.name == "java.base" || !(castPackages_1.any fun p => m.packages.contains p)) = true) (ha : a.loader = none) (hb : b.loader = none) (pa : packageOf a.name = "") (pb : packageOf b.name = "") (sa : a.shown.toList.length ≤ 2) (sb : b.shown.toList.length ≤ 2) : (Op.checkcast.message vm a b).toList.length ≤ 160 := by
  have h1 := home_len hm ha pa
  have h2 := home_len hm hb pb
  have hh : (vm.homes a b).toList.length ≤ 110 := by
    unfold Vm.homes
    split
    · show (toString a.shown ++ toString " and " ++ toString b.shown ++ toString " are in " ++ toString (vm.home a)).toList.length ≤ 110
      have e1 : (toString " and ").toList.length = 5 := by decide
      have e2 : (toString " are in ").toList.length = 8 := by decide
      have e3 : (toString a.shown).toList.length = a.shown.toList.length := rfl
      have e4 : (toString b.shown).toList.length = b.shown.toList.length := rfl
      have e5 : (toString (vm.home a)).toList.length = (vm.home a).toList.length := rfl
      simp only [app_len]
      omega
    · show (toString a.shown ++ toString " is in " ++ toString (vm.home a) ++ toString "; " ++ toString b.shown ++ toString " is in " ++ toString (vm.home b)).toList.length ≤ 110
      have e1 : (toString " is in ").toList.length = 7 := by decide
      have e2 : (toString "; ").toList.length = 2 := by decide
      have e3 : (toString a.shown).toList.length = a.shown.toList.length := rfl
      have e4 : (toString b.shown).toList.length = b.shown.toList.length := rfl
      have e5 : (toString (vm.home a)).toList.length = (vm.home a).toList.length := rfl
      have e6 : (toString (vm.home b)).toList.length = (vm.home b).toList.length := rfl
      simp only [app_len]
      omega
  show (toString "class " ++ toString a.shown ++ toString " cannot be cast to class " ++ toString b.shown ++ toString " (" ++ toString (vm.homes a b) ++ toString ")").toList.length ≤ 160
  have e1 : (toString "class ").toList.length = 6 := by decide
  have e2 : (toString " cannot be cast to class ").toList.length = 25 := by decide
  have e3 : (toString a.shown).toList.length = a.shown.toList.length := rfl
  have e4 : (toString b.shown).toList.length = b.shown.toList.length := rfl
  have e5 : (toString " (").toList.length = 2 := by decide
  have e6 : (toString ")").toList.length = 1 := by decide
  have e7 : (toString (vm.homes a b)).toList.length = (vm.homes a b).toList.length := rfl
  simp only [app_len]
  omega
theorem cast_mod {vm : Vm} {a b : Class} : (Op.checkcast.message vm a b == notModelled) = false := by
  rw [beq_eq_false_iff_ne]
  intro h
  have h2 := congrArg String.toList h
  have h3 : (Op.checkcast.message vm a b).toList = 'c' :: ("lass ".toList ++ (toString a.shown).toList ++ (toString " cannot be cast to class ").toList ++ (toString b.shown).toList ++ (toString " (").toList ++ (toString (vm.homes a b)).toList ++ (toString ")").toList) := by
    show (toString "class " ++ toString a.shown ++ toString " cannot be cast to class " ++ toString b.shown ++ toString " (" ++ toString (vm.homes a b) ++ toString ")").toList = _
    simp only [String.toList_append]
    rfl
  rw [h3] at h2
  have h4 : notModelled.toList = '\u0000' :: " a message that is not modelled".toList := by decide
  rw [h4] at h2
  simp at h2
theorem cast_bytes {s : String} (h : s.toList.length ≤ 160) : (stringBytes (stringToUtf16 s)).size ≤ 640 := by
  have h1 := stringBytes_size_le (stringToUtf16 s)
  have h2 := utf16_size_le s
  omega
section RK
variable {p : Program} {l : Launch} {e : Env} {R : Room} {s : State} {m : MethodId} {args : Array Value} {below : List Frame} {meth : Method} {c : Code} {H : Heap} {locs : List Loc} {cells slots : Nat} {Q : State → Prop}
variable {cc : ByteArray} {pc nL : Nat} {ls : Array Slot} {rest : List Value} {own : String} {ret : Option FieldType} {G : GG} {rd : Bool} {q : Nat → Nat} {σ σ1 : SS}
theorem r_castNo (C : cx p s m args meth c cc nL own ret G) {D : va_G} {cl : List vw_C} {ws : va_W} (hP : va_P D cl ws H) (q0 : Nat) {a : Nat} {cA cB : ClassId} {x : vp_A} (ha : ws[q0]? = some (a, .inl (cA, x))) {Cn nm : String} {index : Nat} (hnm : s.vm.findClass Cn = some cA) (hnm2 : s.vm.findClass nm = some cB) (hlink : Cond.classLink own index nm ∈ lw_all) (hnc : Cond.not (.castable Cn nm) ∈ flatC (Jvm.Cond.and given_1 narrow_1))
    (p1 : packageOf Cn = "") (p2 : packageOf nm = "") (s1 : (dotted Cn).toList.length ≤ 2) (s2 : (dotted nm).toList.length ≤ 2) (hdg : decode cc pc = .ok (.checkcast index, 3))
    (k : ∀ text : String, (text == notModelled) = false → (stringBytes (stringToUtf16 text)).size ≤ 640 → vx_Note p l e R s m args below meth c H locs cells slots Q (F0 m pc ls (.ref a :: rest)) "java/lang/ClassCastException" text) : W p l e R s m args below meth c H locs cells slots Q (F0 m pc ls (.ref a :: rest)) := by
  obtain ⟨hx, hb, hml, hown, hts, -, hlk, hk0, hox⟩ := C
  have hvm0 : (vp_cell cA x).vm = .none := by
    obtain ⟨n, f | f | f | f | f⟩ := x <;> rfl
  have hcl0 : (vp_cell cA x).cls = cA := by
    obtain ⟨n, f | f | f | f | f⟩ := x <;> rfl
  obtain ⟨c0, t0, f1, f2, f3⟩ := hk0.nc hnc
  cases f1.symm.trans hnm
  cases f2.symm.trans hnm2
  obtain ⟨-, -, -, st, bb, -, -, gm, -, -, g6⟩ := hk0
  intro T hT X
  have hpl : e.platform.magicAccessors = ({} : Platform).magicAccessors := by rw [X.admits.platform]
  obtain ⟨c', hc', hcl⟩ := Cond.classLink_spec hown (hts _ hlink) e.platform hpl
  cases hnm2.symm.trans hc'
  obtain ⟨dk, _, _, kt, hd, _, _, _, _, hkt, _, hopen⟩ := hcl.here
  have hcl₀ := X.warmed.classLinks hcl
  have hW' : s.WarmedH (T.vm.noted m.cls index (.cls cB)) := X.warmed.noted hd hopen (State.rightAt_cls hcl)
  have X1 := X.noted hW'
  have hf1 : (T.vm.noted m.cls index (.cls cB)).findClass Cn = some cA := by rw [hW'.alike.findClass]; exact hnm
  have hf2 : (T.vm.noted m.cls index (.cls cB)).findClass nm = some cB := by rw [hW'.alike.findClass]; exact hnm2
  obtain ⟨ks, hks, n1, hh1, l1⟩ := fc_spec hf1
  obtain ⟨kt', hkt', n2, hh2, l2⟩ := fc_spec hf2
  have hmod : ((T.vm.noted m.cls index (.cls cB)).modules.all fun m => m.loader.isSome || m.name == "java.base" || !(castPackages_1.any fun p => m.packages.contains p)) = true := by
    have e1 : (T.vm.noted m.cls index (.cls cB)).modules = st.vm.modules := by have h9 := congrArg Vm.modules (State.WarmedH.trans g6 hW').alike.1; exact h9
    rw [e1]
    exact gm
  have sh1 : ks.shown.toList.length ≤ 2 := by
    unfold Class.shown
    rw [hh1, n1]
    exact s1
  have sh2 : kt'.shown.toList.length ≤ 2 := by
    unfold Class.shown
    rw [hh2, n2]
    exact s2
  have hlen := cast_len hmod l1 l2 (by rw [n1]; exact p1) (by rw [n2]; exact p2) sh1 sh2
  obtain ⟨t, stt, hq⟩ := k (Op.checkcast.message (T.vm.noted m.cls index (.cls cB)) ks kt') cast_mod (cast_bytes hlen) (T.setVm (T.vm.noted m.cls index (.cls cB))) hT X1
  refine ⟨t, ?_, hq⟩
  have hdg' : decode c.code pc = .ok (.checkcast index, 3) := by rw [hb]; exact hdg
  jvm_step X.here [hx, hdg', Op.checkcast.wp_cold (e := e) (s := T) (f := F0 m pc ls (.ref a :: rest)) X.here.top rfl (resolveClass_links e.toSetting hcl₀) hcl₀.ready,
    Op.checkcast.wp_ready (e := e) (s := T.setVm (T.vm.noted m.cls index (.cls cB))) (f := F0 m pc ls (.ref a :: rest)) X.here.top hcl₀.ready rfl]
  refine ⟨vp_cell cA x, by rw [hT]; exact hP q0 _ ha, (fun k h => by rw [hvm0] at h; cases h), ks, by rw [hcl0]; exact hks, kt', hkt', ?_⟩
  have hno : ¬ ((T.vm.noted m.cls index (.cls cB)).assignable (vp_cell cA x).cls cB = true) := by
    rw [hcl0, hW'.alike.assignable, f3]
    exact fun h => by cases h
  rw [if_neg hno]
  exact stt
end RK
