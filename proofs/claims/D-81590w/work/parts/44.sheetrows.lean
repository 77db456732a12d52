/-! SHEETS: casts, loads and stores that may throw, a new array -/
set_option maxRecDepth 100000
def nmT (t : Nat) : String := if t = 1 then "[B" else if t = 2 then "[S" else "[I"
theorem shId_3 (k : Nat) : shId k = 0 ∨ shId k = 1 ∨ shId k = 2 := by
  unfold shId
  by_cases h1 : k = 1
  · rw [if_pos h1]; exact Or.inr (Or.inl rfl)
  · rw [if_neg h1]
    by_cases h2 : k = 2
    · rw [if_pos h2]; exact Or.inr (Or.inr rfl)
    · rw [if_neg h2]; exact Or.inl rfl
theorem nc_T : ∀ a, a < 3 → ∀ b, b < 3 → a ≠ b → Cond.not (.castable (nmT a) (nmT b)) ∈ flatC (Jvm.Cond.and given_1 narrow_1) := by decide +kernel
theorem fcT {G : GG} {s : State} (hk : kx G s) {t : Nat} (ht : t < 3) : s.vm.findClass (nmT t) = some (G.2.1 t) := by
  rcases (show t = 0 ∨ t = 1 ∨ t = 2 by omega) with rfl | rfl | rfl
  · exact fc_int hk
  · exact fc_byte hk
  · exact fc_short hk
theorem pkT : ∀ t, t < 3 → packageOf (nmT t) = "" ∧ (dotted (nmT t)).toList.length ≤ 2 := by decide +kernel
section RT
variable {p : Program} {l : Launch} {e : Env} {R : Room} {s : State} {m : MethodId} {args : Array Value} {below : List Frame} {meth : Method} {c : Code} {H : Heap} {locs : List Loc} {cells slots : Nat} {Q : State → Prop}
variable {cc : ByteArray} {pc nL : Nat} {ls : Array Slot} {rest : List Value} {own : String} {ret : Option FieldType} {G : GG} {rd : Bool} {q : Nat → Nat} {σ σ1 : SS}
theorem r_instT (C : cx p s m args meth c cc nL own ret G) (hw : wx G rd q σ H) {j : Nat} (hj : j < 4) (hd : (σ.2.2 j).1 ≠ 0) (t : Nat) (ht : t < 3) {index : Nat} (hlink : Cond.classLink own index (nmT t) ∈ lw_all) (hdg : decode cc pc = .ok (.instanceof index, 3))
    (k1 : shId (σ.2.2 j).1 = t → W p l e R s m args below meth c H locs cells slots Q (F0 m (pc + 3) ls (.int 1 :: rest)))
    (k0 : ¬ shId (σ.2.2 j).1 = t → W p l e R s m args below meth c H locs cells slots Q (F0 m (pc + 3) ls (.int 0 :: rest))) : W p l e R s m args below meth c H locs cells slots Q (F0 m pc ls (.ref (q (17 + j)) :: rest)) := by
  have hk0 : kx G s := C.2.2.2.2.2.2.2.1
  obtain ⟨kp, -, h1⟩ := sh_at hw hj hd
  have h3 : shId (σ.2.2 j).1 < 3 := by rcases shId_3 (σ.2.2 j).1 with h | h | h <;> omega
  by_cases he : shId (σ.2.2 j).1 = t
  · exact n_instA C hw.1 kp h1 (by rw [he]; exact fcT hk0 ht) hlink hdg (k1 he)
  · exact n_instNo C hw.1 kp h1 (fcT hk0 h3) hlink (nc_T _ h3 _ ht he) hdg (k0 he)
theorem r_castT (C : cx p s m args meth c cc nL own ret G) (hw : wx G rd q σ H) {j : Nat} (hj : j < 4) (hd : (σ.2.2 j).1 ≠ 0) (t : Nat) (ht : t < 3) {index : Nat} (hlink : Cond.classLink own index (nmT t) ∈ lw_all) (hdg : decode cc pc = .ok (.checkcast index, 3))
    (k1 : shId (σ.2.2 j).1 = t → W p l e R s m args below meth c H locs cells slots Q (F0 m (pc + 3) ls (.ref (q (17 + j)) :: rest)))
    (k0 : ¬ shId (σ.2.2 j).1 = t → ∀ text : String, (text == notModelled) = false → (stringBytes (stringToUtf16 text)).size ≤ 640 → vx_Note p l e R s m args below meth c H locs cells slots Q (F0 m pc ls (.ref (q (17 + j)) :: rest)) "java/lang/ClassCastException" text) : W p l e R s m args below meth c H locs cells slots Q (F0 m pc ls (.ref (q (17 + j)) :: rest)) := by
  have hk0 : kx G s := C.2.2.2.2.2.2.2.1
  obtain ⟨kp, -, h1⟩ := sh_at hw hj hd
  have h3 : shId (σ.2.2 j).1 < 3 := by rcases shId_3 (σ.2.2 j).1 with h | h | h <;> omega
  by_cases he : shId (σ.2.2 j).1 = t
  · exact n_castA C hw.1 kp h1 (by rw [he]; exact fcT hk0 ht) hlink hdg (k1 he)
  · exact r_castNo C hw.1 kp h1 (fcT hk0 h3) (fcT hk0 ht) hlink (nc_T _ h3 _ ht he) (pkT _ h3).1 (pkT _ ht).1 (pkT _ h3).2 (pkT _ ht).2 hdg (k0 he)
theorem r_lenT (C : cx p s m args meth c cc nL own ret G) (hw : wx G rd q σ H) {j : Nat} (hj : j < 4) (hd : (σ.2.2 j).1 ≠ 0) (hdg : decode cc pc = .ok (.arraylength, 1))
    (k1 : W p l e R s m args below meth c H locs cells slots Q (F0 m (pc + 1) ls (.int (Int32.ofNat (σ.2.2 j).2) :: rest))) : W p l e R s m args below meth c H locs cells slots Q (F0 m pc ls (.ref (q (17 + j)) :: rest)) := by
  obtain ⟨hx, hb, hml, hown, hts, -, -, hk0, -⟩ := C
  obtain ⟨kp, -, h1⟩ := sh_at hw hj hd
  exact va_alen (v := Int32.ofNat (σ.2.2 j).2) hx hb hk0.1 hw.1 kp (shId (σ.2.2 j).1) h1 (shId_at _) rfl hdg k1
/-- an index out of range: the machine's note -/
theorem idx_note {T : Prop} {i : Int32} {n : Nat} (hn : n < 2 ^ 31) {E : String} (k : ∀ tx : String, (tx == notModelled) = false → (stringBytes (stringToUtf16 tx)).size ≤ 212 → vx_Note p l e R s m args below meth c H locs cells slots Q (F0 m pc ls rest) E tx) : ∀ tx : String, tx = (toString "Index " ++ toString i ++ toString " out of bounds for length " ++ toString n : String) → vx_Note p l e R s m args below meth c H locs cells slots Q (F0 m pc ls rest) E tx := by
  intro tx e1
  subst e1
  exact k _ (index_text_modelled i n) (index_text_bytes i hn)
theorem r_aldT (C : cx p s m args meth c cc nL own ret G) (hw : wx G rd q σ H) {j : Nat} (hj : j < 4) (hd : (σ.2.2 j).1 ≠ 0) (hn : (σ.2.2 j).2 < 2 ^ 31) (t : Nat) (ht : shId (σ.2.2 j).1 = t) {i : Int32} {op : Instr} (hop : op = (if t = 1 then .baload else if t = 2 then .saload else .iaload)) (hdg : decode cc pc = .ok (op, 1))
    (k1 : inR i (σ.2.2 j).2 → W p l e R s m args below meth c H locs cells slots Q (F0 m (pc + 1) ls (.int (gi σ (17 + j) i.toNatClampNeg) :: rest)))
    (k0 : ¬ inR i (σ.2.2 j).2 → ∀ tx : String, (tx == notModelled) = false → (stringBytes (stringToUtf16 tx)).size ≤ 212 → vx_Note p l e R s m args below meth c H locs cells slots Q (F0 m pc ls rest) "java/lang/ArrayIndexOutOfBoundsException" tx) : W p l e R s m args below meth c H locs cells slots Q (F0 m pc ls (.int i :: .ref (q (17 + j)) :: rest)) := by
  obtain ⟨hx, hb, hml, hown, hts, -, -, hk0, -⟩ := C
  obtain ⟨kp, -, h1⟩ := sh_at hw hj hd
  rw [ht] at h1
  subst hop
  by_cases hi : inR i (σ.2.2 j).2
  · rcases (show t = 0 ∨ t = 1 ∨ t = 2 by rcases shId_3 (σ.2.2 j).1 with h | h | h <;> omega) with rfl | rfl | rfl
    · exact va_iald hx hb hk0.1 hw.1 kp 0 h1 rfl hi hdg (k1 hi)
    · exact va_bald hx hb hk0.1 hw.1 kp 1 h1 rfl hi hdg (k1 hi)
    · exact va_sald hx hb hk0.1 hw.1 kp 2 h1 rfl hi hdg (k1 hi)
  · rcases (show t = 0 ∨ t = 1 ∨ t = 2 by rcases shId_3 (σ.2.2 j).1 with h | h | h <;> omega) with rfl | rfl | rfl
    · exact vx_ialdZ hx hb hk0.1 hw.1 kp 0 h1 rfl hi hdg (idx_note (T := True) hn (k0 hi))
    · exact vx_baldZ hx hb hk0.1 hw.1 kp 1 h1 rfl hi hdg (idx_note (T := True) hn (k0 hi))
    · exact vx_saldZ hx hb hk0.1 hw.1 kp 2 h1 rfl hi hdg (idx_note (T := True) hn (k0 hi))
theorem ev_upd2 {dA : Nat → ClassId} {t n g st x : Nat} {v : Int32} : ev dA q (si σ g x v) (.inr (2, t, n, g, st)) = .inl (dA t, n, .inl (upd (fun j => σ.1 g j) x v)) := by
  have h : (fun j => (si σ g x v).1 g j) = upd (fun j => σ.1 g j) x v := by
    funext j
    simp [si, upd]
  show (Sum.inl (dA t, n, .inl (fun j => (si σ g x v).1 g j)) : va_E) = _
  rw [h]
def narT (t : Nat) (v : Int32) : Int32 := if t = 1 then vp_nar .byte v else if t = 2 then vp_nar .short v else v
theorem r_astT (C : cx p s m args meth c cc nL own ret G) (hw : wx G rd q σ H) (hS : va_S (fa G) s.heap H locs) {j : Nat} (hj : j < 4) (hd : (σ.2.2 j).1 ≠ 0) (hn : (σ.2.2 j).2 < 2 ^ 31) (t : Nat) (ht : shId (σ.2.2 j).1 = t) {i v : Int32} {op : Instr} (hop : op = (if t = 1 then .bastore else if t = 2 then .sastore else .iastore)) (hdg : decode cc pc = .ok (op, 1))
    (k1 : inR i (σ.2.2 j).2 → ∀ (H1 : Heap) (locs1 : List Loc), wx G rd q (si σ (17 + j) i.toNatClampNeg (narT t v)) H1 → va_S (fa G) s.heap H1 locs1 → W p l e R s m args below meth c H1 locs1 cells slots Q (F0 m (pc + 1) ls rest))
    (k0 : ¬ inR i (σ.2.2 j).2 → ∀ tx : String, (tx == notModelled) = false → (stringBytes (stringToUtf16 tx)).size ≤ 212 → vx_Note p l e R s m args below meth c H locs cells slots Q (F0 m pc ls rest) "java/lang/ArrayIndexOutOfBoundsException" tx) : W p l e R s m args below meth c H locs cells slots Q (F0 m pc ls (.int v :: .int i :: .ref (q (17 + j)) :: rest)) := by
  obtain ⟨hx, hb, hml, hown, hts, -, -, hk0, -⟩ := C
  obtain ⟨kp, hkp, h1⟩ := sh_at hw hj hd
  rw [ht] at h1
  subst hop
  have htm : tm σ.2.2 (17 + j) = .inr (2, t, (σ.2.2 j).2, 17 + j, 0) := by rw [tm_st hj, ← ht]; rfl
  by_cases hi : inR i (σ.2.2 j).2
  · have hset := fun (v' : Int32) => wc_set (dA := G.2.1) (rd := rd) (q := q) (σ := σ) (σ' := si σ (17 + j) i.toNatClampNeg v') (i := 17 + j) (k := kp) (e := .inl (G.2.1 t, (σ.2.2 j).2, .inl (upd (fun x => σ.1 (17 + j) x) i.toNatClampNeg v'))) rfl hkp (by rw [htm]; exact ev_upd2) (fun y hy hne => ev_si (ho_lo (by omega) y hy hne))
    rcases (show t = 0 ∨ t = 1 ∨ t = 2 by rcases shId_3 (σ.2.2 j).1 with h | h | h <;> omega) with rfl | rfl | rfl
    · exact va_iast hx hb hk0.1 hw.1 hw.2 hS kp 0 h1 rfl hi hdg (fun H1 locs1 a1 a2 a3 => k1 hi H1 locs1 ⟨by rw [← hset]; exact a1, by rw [← hset]; exact a2⟩ a3)
    · exact va_bast hx hb hk0.1 hw.1 hw.2 hS kp 1 h1 rfl hi hdg (fun H1 locs1 a1 a2 a3 => k1 hi H1 locs1 ⟨by rw [← hset]; exact a1, by rw [← hset]; exact a2⟩ a3)
    · exact va_sast hx hb hk0.1 hw.1 hw.2 hS kp 2 h1 rfl hi hdg (fun H1 locs1 a1 a2 a3 => k1 hi H1 locs1 ⟨by rw [← hset]; exact a1, by rw [← hset]; exact a2⟩ a3)
  · rcases (show t = 0 ∨ t = 1 ∨ t = 2 by rcases shId_3 (σ.2.2 j).1 with h | h | h <;> omega) with rfl | rfl | rfl
    · exact vx_iastZ hx hb hk0.1 hw.1 kp 0 h1 rfl hi hdg (idx_note (T := True) hn (k0 hi))
    · exact vx_bastZ hx hb hk0.1 hw.1 kp 1 h1 rfl hi hdg (idx_note (T := True) hn (k0 hi))
    · exact vx_sastZ hx hb hk0.1 hw.1 kp 2 h1 rfl hi hdg (idx_note (T := True) hn (k0 hi))
end RT
/-- a new array on a sheet -/
def shs (σ : SS) (j kd n : Nat) : SS := (fun g i => if g = 17 + j then 0 else σ.1 g i, σ.2.1, fun x => if x = j then (kd, n) else σ.2.2 x)
def qup (q : Nat → Nat) (i a : Nat) : Nat → Nat := fun x => if x = i then a else q x
