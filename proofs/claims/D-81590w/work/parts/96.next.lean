/-! THE PLAIN LAW: the text: one token on -/
set_option maxRecDepth 100000
theorem si_self {s : SS} {g i : Nat} {x : Int32} (h : gi s g i = x) : si s g i x = s := by
  refine Prod.ext (funext fun a => funext fun b => ?_) rfl
  show (if a = g ∧ b = i then x else s.1 a b) = s.1 a b
  by_cases c : a = g ∧ b = i
  · rw [if_pos c, c.1, c.2]; exact h.symm
  · rw [if_neg c]
theorem si_si {s : SS} {g i : Nat} {x y : Int32} : si (si s g i x) g i y = si s g i y := by
  refine Prod.ext (funext fun a => funext fun b => ?_) rfl
  show (if a = g ∧ b = i then y else if a = g ∧ b = i then x else s.1 a b) = (if a = g ∧ b = i then y else s.1 a b)
  by_cases c : a = g ∧ b = i
  · rw [if_pos c, if_pos c]
  · rw [if_neg c, if_neg c, if_neg c]
theorem si_cm {s : SS} {g i g' i' : Nat} {x y : Int32} (h : g ≠ g' ∨ i ≠ i') : si (si s g i x) g' i' y = si (si s g' i' y) g i x := by
  refine Prod.ext (funext fun a => funext fun b => ?_) rfl
  show (if a = g' ∧ b = i' then y else if a = g ∧ b = i then x else s.1 a b) = (if a = g ∧ b = i then x else if a = g' ∧ b = i' then y else s.1 a b)
  by_cases c1 : a = g' ∧ b = i'
  · rw [if_pos c1, if_neg (by omega), if_pos c1]
  · rw [if_neg c1]
    by_cases c2 : a = g ∧ b = i
    · rw [if_pos c2, if_pos c2]
    · rw [if_neg c2, if_neg c2, if_neg c1]
/-- the text: its letters, its length -/
def Tx (cs : Nat → Nat) (tp : Nat) : Prop := tp ≤ 160 ∧ ∀ i, i < tp → cs i ≤ 127
def CI (cs : Nat → Nat) (tp : Nat) (s : SS) (a : Nat) : Prop := gi s 32 0 = nI tp ∧ (∀ i, i < tp → gi s 7 i = nI (cs i)) ∧ gi s 32 3 = nI a
def MI (cs : Nat → Nat) (tp : Nat) (z : SS) (a : Nat) : Prop := gi z 1 4 = nI tp ∧ (∀ i, i < tp → gi z 23 i = nI (cs i)) ∧ gi z 1 8 = nI a
theorem CI.at {cs : Nat → Nat} {tp a b : Nat} {s : SS} (h : CI cs tp s a) : CI cs tp (si s 32 3 (nI b)) b := ⟨(gi_sn (by omega)).trans h.1, fun i hi => (gi_sn (by omega)).trans (h.2.1 i hi), gi_se⟩
theorem CI.put {cs : Nat → Nat} {tp a i : Nat} {x : Int32} {s : SS} (h : CI cs tp s a) (h0 : i ≠ 0) (h3 : i ≠ 3) : CI cs tp (si s 32 i x) a := ⟨(gi_sn (by omega)).trans h.1, fun j hj => (gi_sn (by omega)).trans (h.2.1 j hj), (gi_sn (by omega)).trans h.2.2⟩
theorem MI.at {cs : Nat → Nat} {tp a b : Nat} {s : SS} (h : MI cs tp s a) : MI cs tp (si s 1 8 (nI b)) b := ⟨(gi_sn (by omega)).trans h.1, fun i hi => (gi_sn (by omega)).trans (h.2.1 i hi), gi_se⟩
theorem MI.put {cs : Nat → Nat} {tp a i : Nat} {x : Int32} {s : SS} (h : MI cs tp s a) (h0 : i ≠ 4) (h3 : i ≠ 8) : MI cs tp (si s 1 i x) a := ⟨(gi_sn (by omega)).trans h.1, fun j hj => (gi_sn (by omega)).trans (h.2.1 j hj), (gi_sn (by omega)).trans h.2.2⟩
def inB (cs : Nat → Nat) (tp lo hi a : Nat) : Bool := decide (a < tp ∧ lo ≤ cs a ∧ cs a ≤ hi)
theorem c_isIn {N tp lo hi a : Nat} {cs : Nat → Nat} {s : SS} (hT : Tx cs tp) (h : CI cs tp s a) (ha : a ≤ tp) (hlo : lo ≤ 127) (hhi : hi ≤ 127) : F_X9_isIn N (nI lo) (nI hi) s = some (b2i (inB cs tp lo hi a), s) := by
  obtain ⟨h1, h2, h3⟩ := h
  obtain ⟨t1, t2⟩ := hT
  unfold F_X9_isIn inB
  rw [h1, h3]
  by_cases c : a < tp
  · have hc := t2 a c
    have ka : (nI a).toNatClampNeg = a := nI_clamp (by omega)
    rw [if_neg (nI_ge c (by omega))]
    simp only [ka, gd_t (inR_nI (show a < 160 by omega) (by omega)), h2 a c]
    by_cases c1 : cs a < lo
    · rw [if_pos (nI_lt c1 (by omega)), decide_eq_false (by omega)]; rfl
    · rw [if_neg (nI_nlt (by omega) (by omega))]
      by_cases c2 : hi < cs a
      · rw [if_pos (nI_lt c2 (by omega)), decide_eq_false (by omega)]; rfl
      · rw [if_neg (nI_nlt (by omega) (by omega)), decide_eq_true (by omega)]; rfl
  · rw [if_pos (nI_le (by omega) (by omega)), decide_eq_false (by omega)]; rfl
def byV (cs : Nat → Nat) (tp a : Nat) : Int32 := if a < tp then nI (cs a) else -4
theorem m_byteAt {N tp a : Nat} {cs : Nat → Nat} {z : SS} (hT : Tx cs tp) (h1 : gi z 1 4 = nI tp) (h2 : ∀ i, i < tp → gi z 23 i = nI (cs i)) (ha : a < 2 ^ 20) : F_X8_byteAt N (nI a) z = some (byV cs tp a, z) := by
  obtain ⟨t1, t2⟩ := hT
  unfold F_X8_byteAt byV
  rw [h1]
  by_cases c : a < tp
  · rw [if_neg (nI_ge c (by omega)), if_pos c, gd_t (inR_nI (by omega) (by omega)), nI_clamp (by omega), h2 a c]
  · rw [if_pos (nI_le (by omega) (by omega)), if_neg c]
theorem m_byIn {N tp lo hi a : Nat} {cs : Nat → Nat} {z : SS} {L H : Int64} (hT : Tx cs tp) (hL : L.toInt = (lo : Int)) (hH : H.toInt = (hi : Int)) : F_X8_in N (byV cs tp a).toInt64 L H z = some (b2i (inB cs tp lo hi a), z) := by
  rw [m_in_e, in_e, hL, hH, Int32.toInt_toInt64]
  unfold byV inB
  by_cases c : a < tp
  · have hc := hT.2 a c
    rw [if_pos c, nI_toInt (by omega)]
    by_cases c1 : lo ≤ cs a ∧ cs a ≤ hi
    · rw [if_pos (by omega), decide_eq_true ⟨c, c1⟩]; rfl
    · rw [if_neg (by omega), decide_eq_false (fun h => c1 h.2)]; rfl
  · rw [if_neg c, if_neg (by rw [show (-4 : Int32).toInt = -4 by decide]; omega), decide_eq_false (fun h => c h.1)]; rfl
theorem let_both {N tp : Nat} {cs : Nat → Nat} (hT : Tx cs tp) : ∀ (d a : Nat), tp - a = d → a ≤ tp → ∃ q, a ≤ q ∧ q ≤ tp ∧ (inB cs tp 97 122 a = true → a < q) ∧ (∀ m s, d < m → CI cs tp s a → F_X9_next_67 N m s = some (Sum.inl (), si s 32 3 (nI q))) ∧ (∀ m z, d < m → MI cs tp z a → F_X8_readsOn_84 N m z = some ((), si (si z 1 8 (nI q)) 1 10 1)) := by
  intro d
  induction d with
  | zero =>
    intro a hd ha
    have e : a = tp := by omega
    have hb : inB cs tp 97 122 a = false := decide_eq_false (by omega)
    refine ⟨a, Nat.le_refl _, ha, fun h => by rw [hb] at h; exact absurd h (by decide), fun m s hm hs => ?_, fun m z hm hz => ?_⟩
    · obtain ⟨m', rfl⟩ : ∃ m', m = m' + 1 := ⟨m - 1, by omega⟩
      show B_X9_next_67 N (F_X9_next_67 N m') s = _
      unfold B_X9_next_67
      rw [show F_X9_isIn N 97 122 s = _ from c_isIn (lo := 97) (hi := 122) hT hs ha (by omega) (by omega), hb, bd_s, if_pos (show b2i false = 0 from rfl), si_self hs.2.2]
    · obtain ⟨m', rfl⟩ : ∃ m', m = m' + 1 := ⟨m - 1, by omega⟩
      show B_X8_readsOn_84 N (F_X8_readsOn_84 N m') z = _
      unfold B_X8_readsOn_84
      rw [hz.2.2, m_byteAt hT hz.1 hz.2.1 (by have := hT.1; omega), bd_s, m_byIn (lo := 97) (hi := 122) hT (by decide) (by decide), hb, bd_s, if_pos (show b2i false = 0 from rfl), si_self hz.2.2]
      rfl
  | succ d ih =>
    intro a hd ha
    cases hb : inB cs tp 97 122 a with
    | false =>
      refine ⟨a, Nat.le_refl _, ha, fun h => absurd h (by decide), fun m s hm hs => ?_, fun m z hm hz => ?_⟩
      · obtain ⟨m', rfl⟩ : ∃ m', m = m' + 1 := ⟨m - 1, by omega⟩
        show B_X9_next_67 N (F_X9_next_67 N m') s = _
        unfold B_X9_next_67
        rw [show F_X9_isIn N 97 122 s = _ from c_isIn (lo := 97) (hi := 122) hT hs ha (by omega) (by omega), hb, bd_s, if_pos (show b2i false = 0 from rfl), si_self hs.2.2]
      · obtain ⟨m', rfl⟩ : ∃ m', m = m' + 1 := ⟨m - 1, by omega⟩
        show B_X8_readsOn_84 N (F_X8_readsOn_84 N m') z = _
        unfold B_X8_readsOn_84
        rw [hz.2.2, m_byteAt hT hz.1 hz.2.1 (by have := hT.1; omega), bd_s, m_byIn (lo := 97) (hi := 122) hT (by decide) (by decide), hb, bd_s, if_pos (show b2i false = 0 from rfl), si_self hz.2.2]
        rfl
    | true =>
      have hlt : a < tp := by omega
      obtain ⟨q, q1, q2, -, q4, q5⟩ := ih (a + 1) (by omega) hlt
      refine ⟨q, by omega, q2, fun _ => by omega, fun m s hm hs => ?_, fun m z hm hz => ?_⟩
      · obtain ⟨m', rfl⟩ : ∃ m', m = m' + 1 := ⟨m - 1, by omega⟩
        show B_X9_next_67 N (F_X9_next_67 N m') s = _
        unfold B_X9_next_67
        rw [show F_X9_isIn N 97 122 s = _ from c_isIn (lo := 97) (hi := 122) hT hs ha (by omega) (by omega), hb, bd_s, if_neg (show ¬ b2i true = 0 by decide), nm_s, hs.2.2, show nI a + 1 = nI (a + 1) from nI_1 a, q4 m' _ (by omega) hs.at, si_si]
      · obtain ⟨m', rfl⟩ : ∃ m', m = m' + 1 := ⟨m - 1, by omega⟩
        show B_X8_readsOn_84 N (F_X8_readsOn_84 N m') z = _
        unfold B_X8_readsOn_84
        rw [hz.2.2, m_byteAt hT hz.1 hz.2.1 (by have := hT.1; omega), bd_s, m_byIn (lo := 97) (hi := 122) hT (by decide) (by decide), hb, bd_s, if_neg (show ¬ b2i true = 0 by decide), nm_s, hz.2.2, show nI a + 1 = nI (a + 1) from nI_1 a, q5 m' _ (by omega) hz.at, si_si]
/-- what comes of a number: its end (and too long a one fails) -/
theorem c_202 {N f : Nat} {s : SS} (h4 : gi s 32 4 = nI f) : F_X9_next_202 N 0 s = some (Sum.inr (5, nI 1, nI f), s) ∧ F_X9_next_202 N 1 s = some (Sum.inl (), s) := by
  refine ⟨?_, rfl⟩
  unfold F_X9_next_202 F_X9_need
  rw [if_pos rfl, h4]
  rfl
theorem num_both {N tp f : Nat} {cs : Nat → Nat} (hT : Tx cs tp) : ∀ (d a : Nat) (v : Int32), tp - a = d → a ≤ tp → f ≤ a → ∃ q v', a ≤ q ∧ q ≤ tp ∧ (inB cs tp 48 57 a = true → a < q) ∧ (∀ m s, d < m → CI cs tp s a → gi s 32 4 = nI f → gi s 32 6 = v → F_X9_next_112 N m s = some (if 3 ≤ q - f then Sum.inr (5, nI 1, nI f) else Sum.inl (), si (si s 32 6 v') 32 3 (nI q))) ∧ (∀ m z, d < m → MI cs tp z a → gi z 1 9 = nI f → gi z 1 11 = v → gi z 1 6 = 0 → F_X8_readsOn_140 N m z = some ((), if 3 ≤ q - f then si (si (si (si (si z 1 11 v') 1 8 (nI q)) 1 10 2) 1 6 1) 1 7 (nI f) else si (si (si z 1 11 v') 1 8 (nI q)) 1 10 2)) := by
  have hend : ∀ (a : Nat) (v : Int32), a ≤ tp → f ≤ a → inB cs tp 48 57 a = false → (∀ m s, 0 < m → CI cs tp s a → gi s 32 4 = nI f → gi s 32 6 = v → F_X9_next_112 N m s = some (if 3 ≤ a - f then Sum.inr (5, nI 1, nI f) else Sum.inl (), si (si s 32 6 v) 32 3 (nI a))) ∧ (∀ m z, 0 < m → MI cs tp z a → gi z 1 9 = nI f → gi z 1 11 = v → gi z 1 6 = 0 → F_X8_readsOn_140 N m z = some ((), if 3 ≤ a - f then si (si (si (si (si z 1 11 v) 1 8 (nI a)) 1 10 2) 1 6 1) 1 7 (nI f) else si (si (si z 1 11 v) 1 8 (nI a)) 1 10 2)) := by
    intro a v ha hf hb
    have t1 := hT.1
    have esub : nI a - nI f = nI (a - f) := nI_sub hf
    refine ⟨fun m s hm hs h4 h6 => ?_, fun m z hm hz h9 h11 h60 => ?_⟩
    · obtain ⟨m', rfl⟩ : ∃ m', m = m' + 1 := ⟨m - 1, by omega⟩
      show B_X9_next_112 N (F_X9_next_112 N m') s = _
      unfold B_X9_next_112
      rw [show F_X9_isIn N 48 57 s = _ from c_isIn (lo := 48) (hi := 57) hT hs ha (by omega) (by omega), hb, bd_s, if_pos (show b2i false = 0 from rfl), hs.2.2, h4, esub, si_self h6, si_self hs.2.2]
      by_cases c : 3 ≤ a - f
      · have c' : (3 : Int32) ≤ nI (a - f) := nI_le (a := 3) c (by omega)
        rw [if_pos c', if_pos c, (c_202 h4).1]
      · have c' : ¬ (3 : Int32) ≤ nI (a - f) := nI_ge (b := 3) (by omega) (by omega)
        rw [if_neg c', if_neg c, (c_202 h4).2]
    · obtain ⟨m', rfl⟩ : ∃ m', m = m' + 1 := ⟨m - 1, by omega⟩
      show B_X8_readsOn_140 N (F_X8_readsOn_140 N m') z = _
      unfold B_X8_readsOn_140
      have e8 : gi (si z 1 10 2) 1 8 = nI a := (gi_sn (by omega)).trans hz.2.2
      have e9 : gi (si z 1 10 2) 1 9 = nI f := (gi_sn (by omega)).trans h9
      rw [hz.2.2, m_byteAt hT hz.1 hz.2.1 (by omega), bd_s, m_byIn (lo := 48) (hi := 57) hT (by decide) (by decide), hb, bd_s, if_pos (show b2i false = 0 from rfl), nm_s, e8, e9, esub, si_self h11, si_self hz.2.2]
      by_cases c : 3 ≤ a - f
      · have c' : ¬ nI (a - f) ≤ (2 : Int32) := nI_ge (a := 2) (by omega) (by omega)
        have e6 : gi (si z 1 10 2) 1 6 = 0 := (gi_sn (by omega)).trans h60
        rw [if_neg c', if_pos c]
        unfold F_X8_fails
        rw [if_pos e6, nm_s, nm_s, bd_s, gi_sn (by omega), e9]
      · have c' : nI (a - f) ≤ (2 : Int32) := nI_le (b := 2) (by omega) (by omega)
        rw [if_pos c', if_neg c]
  intro d
  induction d with
  | zero =>
    intro a v hd ha hf
    have hb : inB cs tp 48 57 a = false := decide_eq_false (by omega)
    obtain ⟨e1, e2⟩ := hend a v ha hf hb
    exact ⟨a, v, Nat.le_refl _, ha, fun h => by rw [hb] at h; exact absurd h (by decide), e1, e2⟩
  | succ d ih =>
    intro a v hd ha hf
    cases hb : inB cs tp 48 57 a with
    | false =>
      obtain ⟨e1, e2⟩ := hend a v ha hf hb
      exact ⟨a, v, Nat.le_refl _, ha, fun h => absurd h (by decide), fun m s hm => e1 m s (by omega), fun m z hm => e2 m z (by omega)⟩
    | true =>
      have hlt : a < tp := by omega
      have t1 := hT.1
      have esub : nI a - nI f = nI (a - f) := nI_sub hf
      obtain ⟨q, v', q1, q2, -, q4, q5⟩ := ih (a + 1) (if 2 ≤ a - f then v else (((10 : Int32) * v) + nI (cs a)) - 48) (by omega) hlt (by omega)
      refine ⟨q, v', by omega, q2, fun _ => by omega, fun m s hm hs h4 h6 => ?_, fun m z hm hz h9 h11 h60 => ?_⟩
      · obtain ⟨m', rfl⟩ : ∃ m', m = m' + 1 := ⟨m - 1, by omega⟩
        show B_X9_next_112 N (F_X9_next_112 N m') s = _
        unfold B_X9_next_112
        have ka : (nI a).toNatClampNeg = a := nI_clamp (by omega)
        have e167 : ∀ x, x = (if 2 ≤ a - f then v else (((10 : Int32) * v) + nI (cs a)) - 48) → F_X9_next_167 N (F_X9_next_112 N m') x s = some (if 3 ≤ q - f then Sum.inr (5, nI 1, nI f) else Sum.inl (), si (si s 32 6 v') 32 3 (nI q)) := fun x hx => by
          unfold F_X9_next_167
          have e3 : gi (si s 32 6 x) 32 3 = nI a := (gi_sn (by omega)).trans hs.2.2
          rw [nm_s, nm_s, e3, show nI a + 1 = nI (a + 1) from nI_1 a, q4 m' _ (by omega) (hs.put (by omega) (by omega)).at ((gi_sn (by omega)).trans ((gi_sn (by omega)).trans h4)) ((gi_sn (by omega)).trans (gi_se.trans hx)), si_cm (g := 32) (i := 3) (g' := 32) (i' := 6) (by omega), si_si, si_si]
        rw [show F_X9_isIn N 48 57 s = _ from c_isIn (lo := 48) (hi := 57) hT hs ha (by omega) (by omega), hb, bd_s, if_neg (show ¬ b2i true = 0 by decide), hs.2.2, h4, esub]
        by_cases c : 2 ≤ a - f
        · have c' : (2 : Int32) ≤ nI (a - f) := nI_le (a := 2) c (by omega)
          rw [if_pos c', h6]
          exact e167 v (by rw [if_pos c])
        · have c' : ¬ (2 : Int32) ≤ nI (a - f) := nI_ge (b := 2) (by omega) (by omega)
          rw [if_neg c', gd_t (inR_nI (by omega) (by omega)), ka, h6, hs.2.1 a hlt]
          exact e167 _ (by rw [if_neg c])
      · obtain ⟨m', rfl⟩ : ∃ m', m = m' + 1 := ⟨m - 1, by omega⟩
        show B_X8_readsOn_140 N (F_X8_readsOn_140 N m') z = _
        unfold B_X8_readsOn_140
        have e201 : ∀ x, x = (if 2 ≤ a - f then v else (((10 : Int32) * v) + nI (cs a)) - 48) → F_X8_readsOn_201 N (F_X8_readsOn_140 N m') x z = some ((), if 3 ≤ q - f then si (si (si (si (si z 1 11 v') 1 8 (nI q)) 1 10 2) 1 6 1) 1 7 (nI f) else si (si (si z 1 11 v') 1 8 (nI q)) 1 10 2) := fun x hx => by
          unfold F_X8_readsOn_201
          have e3 : gi (si z 1 11 x) 1 8 = nI a := (gi_sn (by omega)).trans hz.2.2
          rw [nm_s, nm_s, e3, show nI a + 1 = nI (a + 1) from nI_1 a, q5 m' _ (by omega) (hz.put (by omega) (by omega)).at ((gi_sn (by omega)).trans ((gi_sn (by omega)).trans h9)) ((gi_sn (by omega)).trans (gi_se.trans hx)) ((gi_sn (by omega)).trans ((gi_sn (by omega)).trans h60)), si_cm (s := si z 1 11 x) (g := 1) (i := 8) (g' := 1) (i' := 11) (by omega), si_si, si_si]
        rw [hz.2.2, m_byteAt hT hz.1 hz.2.1 (by omega), bd_s, m_byIn (lo := 48) (hi := 57) hT (by decide) (by decide), hb, bd_s, if_neg (show ¬ b2i true = 0 by decide), hz.2.2, h9, esub]
        by_cases c : 2 ≤ a - f
        · have c' : (2 : Int32) ≤ nI (a - f) := nI_le (a := 2) c (by omega)
          rw [if_pos c', h11]
          exact e201 v (by rw [if_pos c])
        · have c' : ¬ (2 : Int32) ≤ nI (a - f) := nI_ge (b := 2) (by omega) (by omega)
          have eb : byV cs tp a = nI (cs a) := if_pos hlt
          rw [if_neg c', m_byteAt hT hz.1 hz.2.1 (by omega), bd_s, h11, eb]
          exact e201 _ (by rw [if_neg c])
theorem spc_both {N tp : Nat} {cs : Nat → Nat} (hT : Tx cs tp) : ∀ (d a : Nat), tp - a = d → a ≤ tp → ∃ q, a ≤ q ∧ q ≤ tp ∧ inB cs tp 32 32 q = false ∧ (∀ m s, d < m → CI cs tp s a → ∃ K, F_X9_next_0 N m s = B_X9_next_0 N K (si s 32 3 (nI q))) ∧ (∀ m z, d < m → MI cs tp z a → ∃ K, F_X8_readsOn_8 N m z = B_X8_readsOn_8 N K (si z 1 8 (nI q))) := by
  intro d
  induction d with
  | zero =>
    intro a hd ha
    have hb : inB cs tp 32 32 a = false := decide_eq_false (by omega)
    refine ⟨a, Nat.le_refl _, ha, hb, fun m s hm hs => ?_, fun m z hm hz => ?_⟩
    · obtain ⟨m', rfl⟩ : ∃ m', m = m' + 1 := ⟨m - 1, by omega⟩
      exact ⟨F_X9_next_0 N m', by rw [si_self hs.2.2]; rfl⟩
    · obtain ⟨m', rfl⟩ : ∃ m', m = m' + 1 := ⟨m - 1, by omega⟩
      exact ⟨F_X8_readsOn_8 N m', by rw [si_self hz.2.2]; rfl⟩
  | succ d ih =>
    intro a hd ha
    cases hb : inB cs tp 32 32 a with
    | false =>
      refine ⟨a, Nat.le_refl _, ha, hb, fun m s hm hs => ?_, fun m z hm hz => ?_⟩
      · obtain ⟨m', rfl⟩ : ∃ m', m = m' + 1 := ⟨m - 1, by omega⟩
        exact ⟨F_X9_next_0 N m', by rw [si_self hs.2.2]; rfl⟩
      · obtain ⟨m', rfl⟩ : ∃ m', m = m' + 1 := ⟨m - 1, by omega⟩
        exact ⟨F_X8_readsOn_8 N m', by rw [si_self hz.2.2]; rfl⟩
    | true =>
      have hlt : a < tp := by omega
      have t1 := hT.1
      have hcs : cs a = 32 := by
        have h := of_decide_eq_true (show decide (a < tp ∧ 32 ≤ cs a ∧ cs a ≤ 32) = true from hb)
        omega
      obtain ⟨q, q1, q2, q3, q4, q5⟩ := ih (a + 1) (by omega) hlt
      refine ⟨q, by omega, q2, q3, fun m s hm hs => ?_, fun m z hm hz => ?_⟩
      · obtain ⟨m', rfl⟩ : ∃ m', m = m' + 1 := ⟨m - 1, by omega⟩
        obtain ⟨K, eK⟩ := q4 m' (si s 32 3 (nI (a + 1))) (by omega) hs.at
        refine ⟨K, ?_⟩
        rw [si_si] at eK
        refine Eq.trans ?_ eK
        show B_X9_next_0 N (F_X9_next_0 N m') s = _
        unfold B_X9_next_0
        rw [show F_X9_isIn N 32 32 s = _ from c_isIn (lo := 32) (hi := 32) hT hs ha (by omega) (by omega), hb, bd_s, if_neg (show ¬ b2i true = 0 by decide), nm_s, hs.2.2, show nI a + 1 = nI (a + 1) from nI_1 a]
      · obtain ⟨m', rfl⟩ : ∃ m', m = m' + 1 := ⟨m - 1, by omega⟩
        obtain ⟨K, eK⟩ := q5 m' (si z 1 8 (nI (a + 1))) (by omega) hz.at
        refine ⟨K, ?_⟩
        rw [si_si] at eK
        refine Eq.trans ?_ eK
        show B_X8_readsOn_8 N (F_X8_readsOn_8 N m') z = _
        unfold B_X8_readsOn_8
        have eb : byV cs tp a = 32 := by
          unfold byV
          rw [if_pos hlt, hcs]
          rfl
        rw [hz.2.2, m_byteAt hT hz.1 hz.2.1 (by omega), bd_s, eb, if_pos rfl, nm_s, hz.2.2, show nI a + 1 = nI (a + 1) from nI_1 a]
/-- a token: behind it, from, its sort, its number -/
abbrev Tk : Type := Nat × Nat × Nat × Int32
def CT (s : SS) (k : Tk) : Prop := gi s 32 3 = nI k.1 ∧ gi s 32 4 = nI k.2.1 ∧ gi s 32 5 = nI k.2.2.1 ∧ (k.2.2.1 = 2 → gi s 32 6 = k.2.2.2)
def MT (z : SS) (k : Tk) : Prop := gi z 1 8 = nI k.1 ∧ gi z 1 9 = nI k.2.1 ∧ gi z 1 10 = nI k.2.2.1 ∧ (k.2.2.1 = 2 → gi z 1 11 = k.2.2.2) ∧ gi z 1 6 = 0
def TW (tp : Nat) (k : Tk) : Prop := k.2.1 ≤ k.1 ∧ k.1 ≤ tp ∧ k.2.2.1 ≤ 3
def FrC (s s' : SS) : Prop := (∀ g i, (g ≠ 32 ∨ i = 0 ∨ i = 2) → gi s' g i = gi s g i) ∧ s'.2 = s.2
def FrM (z z' : SS) : Prop := (∀ g i, (g ≠ 1 ∨ i < 6 ∨ 12 ≤ i) → gi z' g i = gi z g i) ∧ z'.2 = z.2
def outU {α : Type} (o : (Nat × Nat) ⊕ α) : Unit ⊕ XI := match o with
  | .inl e => .inr (5, nI e.1, nI e.2)
  | .inr _ => .inl ()
theorem next_both {N tp a : Nat} {cs : Nat → Nat} (hN1 : 1000 ≤ N) (hT : Tx cs tp) (ha : a ≤ tp) : ∃ o : (Nat × Nat) ⊕ Tk, (∀ s, CI cs tp s a → ∃ s', F_X9_next N s = some (outU o, s') ∧ FrC s s' ∧ (∀ k, o = .inr k → CT s' k)) ∧ (∀ z, MI cs tp z a → gi z 1 6 = 0 → ∃ z', F_X8_readsOn N z = some ((), z') ∧ FrM z z' ∧ (∀ k, o = .inr k → MT z' k) ∧ (∀ e, o = .inl e → gi z' 1 6 = nI e.1 ∧ gi z' 1 7 = nI e.2)) ∧ (∀ k, o = .inr k → TW tp k ∧ (k.2.2.1 = 0 ∨ a < k.1) ∧ a ≤ k.1) ∧ (∀ e, o = .inl e → 0 < e.1 ∧ e.1 < 10) := by
  have t1 := hT.1
  obtain ⟨f, f1, f2, f3, f4, f5⟩ := spc_both (N := N) hT (tp - a) a rfl ha
  have hcs32 : f < tp → ¬ cs f = 32 := fun h e => by
    have h2 : inB cs tp 32 32 f = true := decide_eq_true ⟨h, by omega, by omega⟩
    rw [f3] at h2
    exact absurd h2 (by decide)
  -- the component's beginning
  have hC : ∀ s, CI cs tp s a → ∃ K, F_X9_next N s = B_X9_next_0 N K (si s 32 3 (nI f)) := fun s hs => f4 N s (by omega) hs
  have hCI : ∀ s, CI cs tp s a → CI cs tp (si (si s 32 3 (nI f)) 32 4 (nI f)) f := fun s hs => hs.at.put (by omega) (by omega)
  have hC2 : ∀ s K, CI cs tp s a → B_X9_next_0 N K (si s 32 3 (nI f)) = (nm (si (si s 32 3 (nI f)) 32 4 (nI f)) fun σ_87 =>
    if (gi σ_87 32 3) = (gi σ_87 32 0) then
      nm (si σ_87 32 5 (0 : Int32)) fun σ_109 =>
      some (Sum.inl (), σ_109)
    else
      bd (F_X9_isIn N (97 : Int32) (122 : Int32) σ_87) fun r_89 σ_90 =>
      if r_89 = (0 : Int32) then
        bd (F_X9_isIn N (48 : Int32) (57 : Int32) σ_90) fun r_93 σ_94 =>
        if r_93 = (0 : Int32) then
          nm (si σ_94 32 5 (3 : Int32)) fun σ_97 =>
          bd (F_X9_isIn N (59 : Int32) (59 : Int32) σ_97) fun r_98 σ_99 =>
          bdx (F_X9_need N r_98 (1 : Int32) σ_99)
            (fun r_101 σ_102 =>
              nm (si σ_102 32 3 ((gi σ_102 32 3) + (1 : Int32))) fun σ_105 =>
              some (Sum.inl (), σ_105))
            (fun x_104 σ_102 => some (Sum.inr x_104, σ_102))
        else
          nm (si σ_94 32 5 (2 : Int32)) fun σ_106 =>
          nm (si σ_106 32 6 (0 : Int32)) fun σ_107 =>
          F_X9_next_112 N N σ_107
      else
        nm (si σ_90 32 5 (1 : Int32)) fun σ_108 =>
        F_X9_next_67 N N σ_108) := fun s K hs => by
    unfold B_X9_next_0
    rw [show F_X9_isIn N 32 32 (si s 32 3 (nI f)) = _ from c_isIn (lo := 32) (hi := 32) hT hs.at f2 (by omega) (by omega), f3, bd_s, if_pos (show b2i false = 0 from rfl), gi_se]
  have fr0 : ∀ s, FrC s (si (si s 32 3 (nI f)) 32 4 (nI f)) := fun s => ⟨fun g i h => (gi_sn (by omega)).trans (gi_sn (by omega)), rfl⟩
  have frp : ∀ s s' i x, FrC s s' → i ≠ 0 → i ≠ 2 → FrC s (si s' 32 i x) := fun s s' i x h h0 h2 => ⟨fun g j hg => (gi_sn (by omega)).trans (h.1 g j hg), h.2⟩
  -- the model's beginning
  have hM : ∀ z, MI cs tp z a → gi z 1 6 = 0 → ∃ K, F_X8_readsOn N z = B_X8_readsOn_8 N K (si z 1 8 (nI f)) := fun z hz h6 => by
    unfold F_X8_readsOn
    rw [h6, if_pos (by decide)]
    exact f5 N z (by omega) hz
  have hMI : ∀ z, MI cs tp z a → MI cs tp (si (si (si z 1 8 (nI f)) 1 9 (nI f)) 1 11 0) f := fun z hz => ((hz.at).put (by omega) (by omega)).put (by omega) (by omega)
  have hby : byV cs tp f ≠ 32 := fun e => by
    unfold byV at e
    by_cases c : f < tp
    · rw [if_pos c] at e
      exact hcs32 c ((nI_eq (b := 32) (by have := hT.2 f c; omega) (by omega)).mp e)
    · rw [if_neg c] at e
      exact absurd e (by decide)
  have hM2 : ∀ z K, MI cs tp z a → B_X8_readsOn_8 N K (si z 1 8 (nI f)) = (nm (si (si (si z 1 8 (nI f)) 1 9 (nI f)) 1 11 (0 : Int32)) fun σ_90 =>
    if byV cs tp f = (-4 : Int32) then
      nm (si σ_90 1 10 (0 : Int32)) fun σ_106 =>
      some ((), σ_106)
    else
      bd (F_X8_in N (byV cs tp f).toInt64 (97 : Int64) (122 : Int64) σ_90) fun r_92 σ_93 =>
      if r_92 = (0 : Int32) then
        bd (F_X8_in N (byV cs tp f).toInt64 (48 : Int64) (57 : Int64) σ_93) fun r_96 σ_97 =>
        if r_96 = (0 : Int32) then
          nm (si σ_97 1 10 (3 : Int32)) fun σ_100 =>
          nm (si σ_100 1 8 ((gi σ_100 1 8) + (1 : Int32))) fun σ_101 =>
          if (byV cs tp f) = (59 : Int32) then
            some ((), σ_101)
          else
            bd (F_X8_fails N (1 : Int32) σ_101) fun r_103 σ_104 =>
            some ((), σ_104)
        else
          F_X8_readsOn_140 N N σ_97
      else
        F_X8_readsOn_84 N N σ_93) := fun z K hz => by
    unfold B_X8_readsOn_8
    have e8 : gi (si z 1 8 (nI f)) 1 8 = nI f := gi_se
    have e9 : gi (si (si z 1 8 (nI f)) 1 9 (nI f)) 1 8 = nI f := (gi_sn (by omega)).trans gi_se
    have h9 := hz.at (b := f)
    have h9' := h9.put (x := nI f) (i := 9) (by omega) (by omega)
    rw [e8, m_byteAt hT h9.1 h9.2.1 (by omega), bd_s, if_neg hby, nm_s, e8, e9, m_byteAt hT h9'.1 h9'.2.1 (by omega), bd_s]
  have fm0 : ∀ z, FrM z (si (si (si z 1 8 (nI f)) 1 9 (nI f)) 1 11 0) := fun z => ⟨fun g i h => (gi_sn (by omega)).trans ((gi_sn (by omega)).trans (gi_sn (by omega))), rfl⟩
  have fmp : ∀ z z' i x, FrM z z' → 6 ≤ i → i < 12 → FrM z (si z' 1 i x) := fun z z' i x h h0 h2 => ⟨fun g j hg => (gi_sn (by omega)).trans (h.1 g j hg), h.2⟩
  have g60 : ∀ z, gi z 1 6 = 0 → gi (si (si (si z 1 8 (nI f)) 1 9 (nI f)) 1 11 0) 1 6 = 0 := fun z h => (gi_sn (by omega)).trans ((gi_sn (by omega)).trans ((gi_sn (by omega)).trans h))
  have g9 : ∀ z, gi (si (si (si z 1 8 (nI f)) 1 9 (nI f)) 1 11 0) 1 9 = nI f := fun z => (gi_sn (by omega)).trans gi_se
  have g8 : ∀ z, gi (si (si (si z 1 8 (nI f)) 1 9 (nI f)) 1 11 0) 1 8 = nI f := fun z => (gi_sn (by omega)).trans ((gi_sn (by omega)).trans gi_se)
  have g11 : ∀ z, gi (si (si (si z 1 8 (nI f)) 1 9 (nI f)) 1 11 0) 1 11 = 0 := fun z => gi_se
  have k4 : ∀ s, gi (si (si s 32 3 (nI f)) 32 4 (nI f)) 32 4 = nI f := fun s => gi_se
  have k3 : ∀ s, gi (si (si s 32 3 (nI f)) 32 4 (nI f)) 32 3 = nI f := fun s => (gi_sn (by omega)).trans gi_se
  by_cases c0 : f = tp
  · -- its end
    have hb4 : byV cs tp f = -4 := if_neg (by omega)
    refine ⟨.inr (f, f, 0, 0), fun s hs => ?_, fun z hz h6 => ?_, fun k hk => ?_, fun e he => by cases he⟩
    · obtain ⟨K, eK⟩ := hC s hs
      refine ⟨si (si (si s 32 3 (nI f)) 32 4 (nI f)) 32 5 0, ?_, frp _ _ _ _ (fr0 s) (by omega) (by omega), fun k hk => ?_⟩
      · rw [eK, hC2 s K hs, nm_s, k3, (hCI s hs).1, c0, if_pos rfl]
        rfl
      · cases hk
        exact ⟨(gi_sn (by omega)).trans (k3 s), (gi_sn (by omega)).trans (k4 s), gi_se, fun h => absurd h (show ¬ (0 : Nat) = 2 by decide)⟩
    · obtain ⟨K, eK⟩ := hM z hz h6
      refine ⟨si (si (si (si z 1 8 (nI f)) 1 9 (nI f)) 1 11 0) 1 10 0, ?_, fmp _ _ _ _ (fm0 z) (by omega) (by omega), fun k hk => ?_, fun e he => by cases he⟩
      · rw [eK, hM2 z K hz, nm_s, if_pos hb4]
        rfl
      · cases hk
        exact ⟨(gi_sn (by omega)).trans (g8 z), (gi_sn (by omega)).trans (g9 z), gi_se, fun h => absurd h (show ¬ (0 : Nat) = 2 by decide), (gi_sn (by omega)).trans (g60 z h6)⟩
    · cases hk
      exact ⟨⟨Nat.le_refl _, f2, by show 0 ≤ 3; omega⟩, Or.inl rfl, f1⟩
  · have hlt : f < tp := by omega
    have n0 : ¬ nI f = nI tp := nI_eqL (by omega) (by omega) c0
    have hb4 : ¬ byV cs tp f = -4 := by
      unfold byV
      rw [if_pos hlt]
      exact nI_ne4 (by have := hT.2 f hlt; omega)
    cases hl : inB cs tp 97 122 f with
    | true =>
      obtain ⟨q, q1, q2, q3, q4, q5⟩ := let_both (N := N) hT (tp - f) f rfl f2
      have q3 := q3 hl
      refine ⟨.inr (q, f, 1, 0), fun s hs => ?_, fun z hz h6 => ?_, fun k hk => ?_, fun e he => by cases he⟩
      · obtain ⟨K, eK⟩ := hC s hs
        refine ⟨si (si (si (si s 32 3 (nI f)) 32 4 (nI f)) 32 5 1) 32 3 (nI q), ?_, frp _ _ _ _ (frp _ _ _ _ (fr0 s) (by omega) (by omega)) (by omega) (by omega), fun k hk => ?_⟩
        · rw [eK, hC2 s K hs, nm_s, k3, (hCI s hs).1, if_neg n0, show F_X9_isIn N 97 122 (si (si s 32 3 (nI f)) 32 4 (nI f)) = _ from c_isIn (lo := 97) (hi := 122) hT (hCI s hs) f2 (by omega) (by omega), hl, bd_s, if_neg (show ¬ b2i true = 0 by decide), nm_s, q4 N _ (by omega) ((hCI s hs).put (by omega) (by omega))]
          rfl
        · cases hk
          exact ⟨gi_se, (gi_sn (by omega)).trans ((gi_sn (by omega)).trans (k4 s)), (gi_sn (by omega)).trans gi_se, fun h => absurd h (show ¬ (1 : Nat) = 2 by decide)⟩
      · obtain ⟨K, eK⟩ := hM z hz h6
        refine ⟨si (si (si (si (si z 1 8 (nI f)) 1 9 (nI f)) 1 11 0) 1 8 (nI q)) 1 10 1, ?_, fmp _ _ _ _ (fmp _ _ _ _ (fm0 z) (by omega) (by omega)) (by omega) (by omega), fun k hk => ?_, fun e he => by cases he⟩
        · rw [eK, hM2 z K hz, nm_s, if_neg hb4, m_byIn (lo := 97) (hi := 122) hT (by decide) (by decide), hl, bd_s, if_neg (show ¬ b2i true = 0 by decide), q5 N _ (by omega) (hMI z hz)]
        · cases hk
          exact ⟨(gi_sn (by omega)).trans gi_se, (gi_sn (by omega)).trans ((gi_sn (by omega)).trans (g9 z)), gi_se, fun h => absurd h (show ¬ (1 : Nat) = 2 by decide), (gi_sn (by omega)).trans ((gi_sn (by omega)).trans (g60 z h6))⟩
      · cases hk
        exact ⟨⟨by show f ≤ q; omega, q2, by show 1 ≤ 3; omega⟩, Or.inr (by show a < q; omega), by show a ≤ q; omega⟩
    | false =>
      cases hd : inB cs tp 48 57 f with
      | true =>
        obtain ⟨q, v', q1, q2, q3, q4, q5⟩ := num_both (N := N) (f := f) hT (tp - f) f 0 rfl f2 (Nat.le_refl _)
        have q3 := q3 hd
        have eC : ∀ s, CI cs tp s a → F_X9_next N s = some (if 3 ≤ q - f then Sum.inr (5, nI 1, nI f) else Sum.inl (), si (si (si (si (si (si s 32 3 (nI f)) 32 4 (nI f)) 32 5 2) 32 6 0) 32 6 v') 32 3 (nI q)) := fun s hs => by
          obtain ⟨K, eK⟩ := hC s hs
          rw [eK, hC2 s K hs, nm_s, k3, (hCI s hs).1, if_neg n0, show F_X9_isIn N 97 122 (si (si s 32 3 (nI f)) 32 4 (nI f)) = _ from c_isIn (lo := 97) (hi := 122) hT (hCI s hs) f2 (by omega) (by omega), hl, bd_s, if_pos (show b2i false = 0 from rfl), show F_X9_isIn N 48 57 (si (si s 32 3 (nI f)) 32 4 (nI f)) = _ from c_isIn (lo := 48) (hi := 57) hT (hCI s hs) f2 (by omega) (by omega), hd, bd_s, if_neg (show ¬ b2i true = 0 by decide), nm_s, nm_s, q4 N _ (by omega) (((hCI s hs).put (by omega) (by omega)).put (by omega) (by omega)) ((gi_sn (by omega)).trans ((gi_sn (by omega)).trans (k4 s))) gi_se]
        have frs : ∀ s, FrC s (si (si (si (si (si (si s 32 3 (nI f)) 32 4 (nI f)) 32 5 2) 32 6 0) 32 6 v') 32 3 (nI q)) := fun s => frp _ _ _ _ (frp _ _ _ _ (frp _ _ _ _ (frp _ _ _ _ (fr0 s) (by omega) (by omega)) (by omega) (by omega)) (by omega) (by omega)) (by omega) (by omega)
        have eM : ∀ z, MI cs tp z a → gi z 1 6 = 0 → F_X8_readsOn N z = some ((), if 3 ≤ q - f then si (si (si (si (si (si (si (si z 1 8 (nI f)) 1 9 (nI f)) 1 11 0) 1 11 v') 1 8 (nI q)) 1 10 2) 1 6 1) 1 7 (nI f) else si (si (si (si (si (si z 1 8 (nI f)) 1 9 (nI f)) 1 11 0) 1 11 v') 1 8 (nI q)) 1 10 2) := fun z hz h6 => by
          obtain ⟨K, eK⟩ := hM z hz h6
          rw [eK, hM2 z K hz, nm_s, if_neg hb4, m_byIn (lo := 97) (hi := 122) hT (by decide) (by decide), hl, bd_s, if_pos (show b2i false = 0 from rfl), m_byIn (lo := 48) (hi := 57) hT (by decide) (by decide), hd, bd_s, if_neg (show ¬ b2i true = 0 by decide), q5 N _ (by omega) (hMI z hz) (g9 z) (g11 z) (g60 z h6)]
        have fms : ∀ z, FrM z (si (si (si (si (si (si z 1 8 (nI f)) 1 9 (nI f)) 1 11 0) 1 11 v') 1 8 (nI q)) 1 10 2) := fun z => fmp _ _ _ _ (fmp _ _ _ _ (fmp _ _ _ _ (fm0 z) (by omega) (by omega)) (by omega) (by omega)) (by omega) (by omega)
        by_cases c3 : 3 ≤ q - f
        · refine ⟨.inl (1, f), fun s hs => ?_, fun z hz h6 => ?_, fun k hk => (by cases hk), fun e he => by cases he; exact ⟨by show 0 < 1; omega, by show 1 < 10; omega⟩⟩
          · refine ⟨_, ?_, frs s, fun k hk => (by cases hk)⟩
            rw [eC s hs, if_pos c3]
            rfl
          · refine ⟨_, by rw [eM z hz h6, if_pos c3], fmp _ _ _ _ (fmp _ _ _ _ (fms z) (by omega) (by omega)) (by omega) (by omega), fun k hk => (by cases hk), fun e he => by cases he; exact ⟨(gi_sn (by omega)).trans gi_se, gi_se⟩⟩
        · refine ⟨.inr (q, f, 2, v'), fun s hs => ?_, fun z hz h6 => ?_, fun k hk => ?_, fun e he => by cases he⟩
          · refine ⟨_, ?_, frs s, fun k hk => ?_⟩
            · rw [eC s hs, if_neg c3]
              rfl
            · cases hk
              exact ⟨gi_se, (gi_sn (by omega)).trans ((gi_sn (by omega)).trans ((gi_sn (by omega)).trans ((gi_sn (by omega)).trans (k4 s)))), (gi_sn (by omega)).trans ((gi_sn (by omega)).trans ((gi_sn (by omega)).trans gi_se)), fun _ => (gi_sn (by omega)).trans gi_se⟩
          · refine ⟨_, by rw [eM z hz h6, if_neg c3], fms z, fun k hk => ?_, fun e he => by cases he⟩
            cases hk
            exact ⟨(gi_sn (by omega)).trans gi_se, (gi_sn (by omega)).trans ((gi_sn (by omega)).trans ((gi_sn (by omega)).trans (g9 z))), gi_se, fun _ => (gi_sn (by omega)).trans ((gi_sn (by omega)).trans gi_se), (gi_sn (by omega)).trans ((gi_sn (by omega)).trans ((gi_sn (by omega)).trans (g60 z h6)))⟩
          · cases hk
            exact ⟨⟨by show f ≤ q; omega, q2, by show 2 ≤ 3; omega⟩, Or.inr (by show a < q; omega), by show a ≤ q; omega⟩
      | false =>
        have eby : byV cs tp f = nI (cs f) := if_pos hlt
        have hcf := hT.2 f hlt
        have pC : ∀ s, CI cs tp s a → F_X9_next N s = bdx (F_X9_need N (b2i (inB cs tp 59 59 f)) 1 (si (si (si s 32 3 (nI f)) 32 4 (nI f)) 32 5 3)) (fun r_101 σ_102 => nm (si σ_102 32 3 ((gi σ_102 32 3) + (1 : Int32))) fun σ_105 => some (Sum.inl (), σ_105)) (fun x_104 σ_102 => some (Sum.inr x_104, σ_102)) := fun s hs => by
          obtain ⟨K, eK⟩ := hC s hs
          rw [eK, hC2 s K hs, nm_s, k3, (hCI s hs).1, if_neg n0, show F_X9_isIn N 97 122 (si (si s 32 3 (nI f)) 32 4 (nI f)) = _ from c_isIn (lo := 97) (hi := 122) hT (hCI s hs) f2 (by omega) (by omega), hl, bd_s, if_pos (show b2i false = 0 from rfl), show F_X9_isIn N 48 57 (si (si s 32 3 (nI f)) 32 4 (nI f)) = _ from c_isIn (lo := 48) (hi := 57) hT (hCI s hs) f2 (by omega) (by omega), hd, bd_s, if_pos (show b2i false = 0 from rfl), nm_s, show F_X9_isIn N 59 59 (si (si (si s 32 3 (nI f)) 32 4 (nI f)) 32 5 3) = _ from c_isIn (lo := 59) (hi := 59) hT ((hCI s hs).put (by omega) (by omega)) f2 (by omega) (by omega), bd_s]
        have frs : ∀ s, FrC s (si (si (si s 32 3 (nI f)) 32 4 (nI f)) 32 5 3) := fun s => frp _ _ _ _ (fr0 s) (by omega) (by omega)
        have pM : ∀ z, MI cs tp z a → gi z 1 6 = 0 → F_X8_readsOn N z = (if nI (cs f) = (59 : Int32) then some ((), si (si (si (si (si z 1 8 (nI f)) 1 9 (nI f)) 1 11 0) 1 10 3) 1 8 (nI (f + 1))) else bd (F_X8_fails N (1 : Int32) (si (si (si (si (si z 1 8 (nI f)) 1 9 (nI f)) 1 11 0) 1 10 3) 1 8 (nI (f + 1)))) fun _ σ_104 => some ((), σ_104)) := fun z hz h6 => by
          obtain ⟨K, eK⟩ := hM z hz h6
          have e8 : gi (si (si (si (si z 1 8 (nI f)) 1 9 (nI f)) 1 11 0) 1 10 3) 1 8 = nI f := (gi_sn (by omega)).trans (g8 z)
          rw [eK, hM2 z K hz, nm_s, if_neg hb4, m_byIn (lo := 97) (hi := 122) hT (by decide) (by decide), hl, bd_s, if_pos (show b2i false = 0 from rfl), m_byIn (lo := 48) (hi := 57) hT (by decide) (by decide), hd, bd_s, if_pos (show b2i false = 0 from rfl), nm_s, nm_s, e8, show nI f + 1 = nI (f + 1) from nI_1 f, eby]
        have fms : ∀ z, FrM z (si (si (si (si (si z 1 8 (nI f)) 1 9 (nI f)) 1 11 0) 1 10 3) 1 8 (nI (f + 1))) := fun z => fmp _ _ _ _ (fmp _ _ _ _ (fm0 z) (by omega) (by omega)) (by omega) (by omega)
        by_cases c9 : cs f = 59
        · have hb9 : inB cs tp 59 59 f = true := decide_eq_true ⟨hlt, by omega, by omega⟩
          have n59 : nI (cs f) = (59 : Int32) := by rw [c9]; rfl
          refine ⟨.inr (f + 1, f, 3, 0), fun s hs => ?_, fun z hz h6 => ?_, fun k hk => ?_, fun e he => by cases he⟩
          · refine ⟨si (si (si (si s 32 3 (nI f)) 32 4 (nI f)) 32 5 3) 32 3 (nI (f + 1)), ?_, frp _ _ _ _ (frs s) (by omega) (by omega), fun k hk => ?_⟩
            · have e3 : gi (si (si (si s 32 3 (nI f)) 32 4 (nI f)) 32 5 3) 32 3 = nI f := (gi_sn (by omega)).trans (k3 s)
              rw [pC s hs, hb9]
              unfold F_X9_need
              rw [if_neg (show ¬ b2i true = 0 by decide), bdx_l, nm_s, e3, show nI f + 1 = nI (f + 1) from nI_1 f]
              rfl
            · cases hk
              exact ⟨gi_se, (gi_sn (by omega)).trans ((gi_sn (by omega)).trans (k4 s)), (gi_sn (by omega)).trans gi_se, fun h => absurd h (show ¬ (3 : Nat) = 2 by decide)⟩
          · refine ⟨_, by rw [pM z hz h6, if_pos n59], fms z, fun k hk => ?_, fun e he => by cases he⟩
            cases hk
            exact ⟨gi_se, (gi_sn (by omega)).trans ((gi_sn (by omega)).trans (g9 z)), (gi_sn (by omega)).trans gi_se, fun h => absurd h (show ¬ (3 : Nat) = 2 by decide), (gi_sn (by omega)).trans ((gi_sn (by omega)).trans (g60 z h6))⟩
          · cases hk
            exact ⟨⟨by show f ≤ f + 1; omega, by show f + 1 ≤ tp; omega, by show 3 ≤ 3; omega⟩, Or.inr (by show a < f + 1; omega), by show a ≤ f + 1; omega⟩
        · have hb9 : inB cs tp 59 59 f = false := decide_eq_false (by omega)
          have n59 : ¬ nI (cs f) = (59 : Int32) := nI_eqL (b := 59) (by omega) (by omega) c9
          refine ⟨.inl (1, f), fun s hs => ?_, fun z hz h6 => ?_, fun k hk => (by cases hk), fun e he => by cases he; exact ⟨by show 0 < 1; omega, by show 1 < 10; omega⟩⟩
          · refine ⟨_, ?_, frs s, fun k hk => (by cases hk)⟩
            have e4 : gi (si (si (si s 32 3 (nI f)) 32 4 (nI f)) 32 5 3) 32 4 = nI f := (gi_sn (by omega)).trans (k4 s)
            rw [pC s hs, hb9]
            unfold F_X9_need
            rw [if_pos (show b2i false = 0 from rfl), bdx_r, e4]
            rfl
          · have e6 : gi (si (si (si (si (si z 1 8 (nI f)) 1 9 (nI f)) 1 11 0) 1 10 3) 1 8 (nI (f + 1))) 1 6 = 0 := (gi_sn (by omega)).trans ((gi_sn (by omega)).trans (g60 z h6))
            have e9 : gi (si (si (si (si (si z 1 8 (nI f)) 1 9 (nI f)) 1 11 0) 1 10 3) 1 8 (nI (f + 1))) 1 9 = nI f := (gi_sn (by omega)).trans ((gi_sn (by omega)).trans (g9 z))
            refine ⟨si (si (si (si (si (si (si z 1 8 (nI f)) 1 9 (nI f)) 1 11 0) 1 10 3) 1 8 (nI (f + 1))) 1 6 1) 1 7 (nI f), ?_, fmp _ _ _ _ (fmp _ _ _ _ (fms z) (by omega) (by omega)) (by omega) (by omega), fun k hk => (by cases hk), fun e he => by cases he; exact ⟨(gi_sn (by omega)).trans gi_se, gi_se⟩⟩
            rw [pM z hz h6, if_neg n59]
            unfold F_X8_fails
            rw [if_pos e6, nm_s, nm_s, bd_s, gi_sn (by omega), e9]
