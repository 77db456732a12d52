/-! THE PLAIN LAW: the text: numbers; what a line tells -/
set_option maxRecDepth 100000
theorem CI.nx {cs : Nat → Nat} {tp a : Nat} {s s' : SS} {k : Tk} (h : CI cs tp s a) (fr : FrC s s') (ct : CT s' k) : CI cs tp s' k.1 := ⟨(fr.1 32 0 (by omega)).trans h.1, fun i hi => (fr.1 7 i (by omega)).trans (h.2.1 i hi), ct.1⟩
theorem MI.nx {cs : Nat → Nat} {tp a : Nat} {s s' : SS} {k : Tk} (h : MI cs tp s a) (fr : FrM s s') (ct : MT s' k) : MI cs tp s' k.1 := ⟨(fr.1 1 4 (by omega)).trans h.1, fun i hi => (fr.1 23 i (by omega)).trans (h.2.1 i hi), ct.1⟩
theorem FrC.rf (s : SS) : FrC s s := ⟨fun _ _ _ => rfl, rfl⟩
theorem FrM.rf (s : SS) : FrM s s := ⟨fun _ _ _ => rfl, rfl⟩
theorem FrC.tr {s s1 s2 : SS} (h : FrC s s1) (h2 : FrC s1 s2) : FrC s s2 := ⟨fun g i e => (h2.1 g i e).trans (h.1 g i e), h2.2.trans h.2⟩
theorem FrM.tr {s s1 s2 : SS} (h : FrM s s1) (h2 : FrM s1 s2) : FrM s s2 := ⟨fun g i e => (h2.1 g i e).trans (h.1 g i e), h2.2.trans h.2⟩
theorem m_brk {N c : Nat} {z : SS} (h : gi z 1 6 = nI c) (h0 : 0 < c) (h1 : c < 10) : F_X8_readsOn N z = some ((), z) := by
  unfold F_X8_readsOn
  rw [h, if_neg (nI_nle h0 (by omega))]
theorem m_numBrk {N c : Nat} {x1 x2 : Int32} {z : SS} (h : gi z 1 6 = nI c) (h0 : 0 < c) (h1 : c < 10) : F_X8_number N x1 x2 z = some (x1, z) := by
  have hc : ¬ (nI c : Int32) = 0 := nI_ne0 h0 (by omega)
  unfold F_X8_number F_X8_number_20 F_X8_number_47 F_X8_number_62
  rw [h, if_neg hc, if_neg hc, if_neg hc, m_brk h h0 h1, bd_s]
theorem m_fails {N f : Nat} {c : Int32} {z : SS} (h6 : gi z 1 6 = 0) (h9 : gi z 1 9 = nI f) : F_X8_fails N c z = some ((), si (si z 1 6 c) 1 7 (nI f)) := by
  unfold F_X8_fails
  rw [if_pos h6, nm_s, nm_s, gi_sn (by omega), h9]
theorem m_failsNo {N c : Nat} {x : Int32} {z : SS} (h : gi z 1 6 = nI c) (h0 : 0 < c) (h1 : c < 10) : F_X8_fails N x z = some ((), z) := by
  have hc : ¬ (nI c : Int32) = 0 := nI_ne0 h0 (by omega)
  unfold F_X8_fails
  rw [h, if_neg hc]
theorem FrM.fl {z : SS} {x y : Int32} : FrM z (si (si z 1 6 x) 1 7 y) := ⟨fun g i h => (gi_sn (by omega)).trans (gi_sn (by omega)), rfl⟩
def outI (o : (Nat × Nat) ⊕ (Int32 × Tk)) : Int32 ⊕ XI := match o with
  | .inl e => .inr (5, nI e.1, nI e.2)
  | .inr v => .inl v.1
theorem val_in {N lo hi : Nat} {v : Int32} {s : SS} (hlo : lo ≤ 1000) (hhi : hi ≤ 1000) : F_X0_in N v.toInt64 (nI lo).toInt64 (nI hi).toInt64 s = some (if (lo : Int) ≤ v.toInt ∧ v.toInt ≤ hi then 1 else 0, s) := by
  rw [in_e, Int32.toInt_toInt64, Int32.toInt_toInt64, Int32.toInt_toInt64, nI_toInt (by omega), nI_toInt (by omega)]
theorem c_need1 {N : Nat} {x : Int32} {s : SS} : F_X9_need N 1 x s = some (Sum.inl (), s) := rfl
theorem c_need0 {N f : Nat} {x : Int32} {s : SS} (h : gi s 32 4 = nI f) : F_X9_need N 0 x s = some (Sum.inr (5, x, nI f), s) := by
  unfold F_X9_need
  rw [if_pos rfl, h]
theorem taken_both {N tp lo hi : Nat} {cs : Nat → Nat} {k : Tk} (hN1 : 1000 ≤ N) (hT : Tx cs tp) (hW : TW tp k) (hlo : lo ≤ 1000) (hhi : hi ≤ 1000) : ∃ o : (Nat × Nat) ⊕ (Int32 × Tk), (∀ s, CI cs tp s k.1 → CT s k → ∃ s', F_X9_taken N (nI lo) (nI hi) s = some (outI o, s') ∧ FrC s s' ∧ ∀ v k', o = .inr (v, k') → CT s' k') ∧ (∀ z, MI cs tp z k.1 → MT z k → ∃ r z', F_X8_number N (nI lo) (nI hi) z = some (r, z') ∧ FrM z z' ∧ (∀ v k', o = .inr (v, k') → r = v ∧ MT z' k') ∧ (∀ e, o = .inl e → gi z' 1 6 = nI e.1 ∧ gi z' 1 7 = nI e.2)) ∧ (∀ v k', o = .inr (v, k') → TW tp k' ∧ k.1 ≤ k'.1 ∧ k.2.2.1 = 2 ∧ ∃ n, lo ≤ n ∧ n ≤ hi ∧ v = nI n) ∧ (∀ e, o = .inl e → 0 < e.1 ∧ e.1 < 10) := by
  have w1 := hW.1
  have w2 := hW.2.1
  have w3 := hW.2.2
  have t1 := hT.1
  by_cases h2 : k.2.2.1 = 2
  · by_cases h3 : (lo : Int) ≤ k.2.2.2.toInt ∧ k.2.2.2.toInt ≤ hi
    · obtain ⟨o, o1, o2, o3, o4⟩ := next_both (N := N) hN1 hT w2
      have eC : ∀ s, CT s k → F_X9_taken N (nI lo) (nI hi) s = bdx (F_X9_next N s) (fun r_30 σ_31 => some (Sum.inl (k.2.2.2), σ_31)) (fun x_33 σ_31 => some (Sum.inr x_33, σ_31)) := fun s hk => by
        unfold F_X9_taken F_X9_taken_14
        rw [hk.2.2.1, if_pos (show nI k.2.2.1 = 2 by rw [h2]; rfl), c_need1, bdx_l, hk.2.2.2 h2, val_in hlo hhi, if_pos h3, bd_s, c_need1, bdx_l, nm_s, hk.2.2.2 h2]
      have eM : ∀ z, MT z k → F_X8_number N (nI lo) (nI hi) z = bd (F_X8_readsOn N z) (fun _ s => some (k.2.2.2, s)) := fun z hk => by
        unfold F_X8_number F_X8_number_20 F_X8_number_47 F_X8_number_62
        rw [hk.2.2.2.2, if_pos rfl, hk.2.2.1, if_pos (show nI k.2.2.1 = 2 by rw [h2]; rfl), if_pos rfl, hk.2.2.2.1 h2, m_in_e, val_in hlo hhi, if_pos h3, bd_s, if_neg e10, hk.2.2.2.2, if_pos rfl, hk.2.2.2.1 h2]
      cases o with
      | inl e =>
        refine ⟨.inl e, fun s hs hk => ?_, fun z hz hk => ?_, fun v k' hh => (by cases hh), fun e' he => (by cases he; exact o4 e rfl)⟩
        · obtain ⟨s', a1, a2, -⟩ := o1 s hs
          refine ⟨s', ?_, a2, fun v k' hh => (by cases hh)⟩
          rw [eC s hk, a1]
          rfl
        · obtain ⟨z', a1, a2, -, a4⟩ := o2 z hz hk.2.2.2.2
          refine ⟨k.2.2.2, z', ?_, a2, fun v k' hh => (by cases hh), fun e' he => (by cases he; exact a4 e rfl)⟩
          rw [eM z hk, a1, bd_s]
      | inr k1 =>
        refine ⟨.inr (k.2.2.2, k1), fun s hs hk => ?_, fun z hz hk => ?_, fun v k' hh => ?_, fun e' he => (by cases he)⟩
        · obtain ⟨s', a1, a2, a3⟩ := o1 s hs
          refine ⟨s', ?_, a2, fun v k' hh => (by cases hh; exact a3 k1 rfl)⟩
          rw [eC s hk, a1]
          rfl
        · obtain ⟨z', a1, a2, a3, -⟩ := o2 z hz hk.2.2.2.2
          refine ⟨k.2.2.2, z', ?_, a2, fun v k' hh => (by cases hh; exact ⟨rfl, a3 k1 rfl⟩), fun e' he => (by cases he)⟩
          rw [eM z hk, a1, bd_s]
        · cases hh
          obtain ⟨b1, -, b3⟩ := o3 k1 rfl
          refine ⟨b1, b3, h2, k.2.2.2.toInt.toNat, by omega, by omega, Int32.toInt_inj.mp ?_⟩
          rw [nI_toInt (by omega)]
          omega
    · refine ⟨.inl (3, k.2.1), fun s hs hk => ?_, fun z hz hk => ?_, fun v k' hh => (by cases hh), fun e' he => (by cases he; exact ⟨by show 0 < 3; omega, by show 3 < 10; omega⟩)⟩
      · refine ⟨s, ?_, FrC.rf s, fun v k' hh => (by cases hh)⟩
        unfold F_X9_taken F_X9_taken_14
        rw [hk.2.2.1, if_pos (show nI k.2.2.1 = 2 by rw [h2]; rfl), c_need1, bdx_l, hk.2.2.2 h2, val_in hlo hhi, if_neg h3, bd_s, c_need0 hk.2.1, bdx_r]
        rfl
      · refine ⟨nI lo, si (si z 1 6 3) 1 7 (nI k.2.1), ?_, FrM.fl, fun v k' hh => (by cases hh), fun e' he => (by cases he; exact ⟨(gi_sn (by omega)).trans gi_se, gi_se⟩)⟩
        have e6 : gi (si (si z 1 6 3) 1 7 (nI k.2.1)) 1 6 = nI 3 := (gi_sn (by omega)).trans gi_se
        have n3 : ¬ nI 3 = 0 := by decide
        unfold F_X8_number F_X8_number_20
        rw [hk.2.2.2.2, if_pos rfl, hk.2.2.1, if_pos (show nI k.2.2.1 = 2 by rw [h2]; rfl), if_pos rfl, hk.2.2.2.1 h2, m_in_e, val_in hlo hhi, if_neg h3, bd_s, if_pos rfl, m_fails hk.2.2.2.2 hk.2.1, bd_s]
        unfold F_X8_number_47 F_X8_number_62
        rw [e6, if_neg n3, m_brk e6 (by omega) (by omega), bd_s]
  · refine ⟨.inl (2, k.2.1), fun s hs hk => ?_, fun z hz hk => ?_, fun v k' hh => (by cases hh), fun e' he => (by cases he; exact ⟨by show 0 < 2; omega, by show 2 < 10; omega⟩)⟩
    · refine ⟨s, ?_, FrC.rf s, fun v k' hh => (by cases hh)⟩
      unfold F_X9_taken F_X9_taken_14
      rw [hk.2.2.1, if_neg (show ¬ nI k.2.2.1 = 2 from nI_eqL (b := 2) (by omega) (by omega) h2), c_need0 hk.2.1, bdx_r]
      rfl
    · refine ⟨nI lo, si (si z 1 6 2) 1 7 (nI k.2.1), ?_, FrM.fl, fun v k' hh => (by cases hh), fun e' he => (by cases he; exact ⟨(gi_sn (by omega)).trans gi_se, gi_se⟩)⟩
      have e6 : gi (si (si z 1 6 2) 1 7 (nI k.2.1)) 1 6 = nI 2 := (gi_sn (by omega)).trans gi_se
      have n2 : ¬ nI 2 = 0 := by decide
      unfold F_X8_number
      rw [hk.2.2.2.2, if_pos rfl, hk.2.2.1, if_neg (show ¬ nI k.2.2.1 = 2 from nI_eqL (b := 2) (by omega) (by omega) h2), m_fails hk.2.2.2.2 hk.2.1, bd_s]
      unfold F_X8_number_20 F_X8_number_47 F_X8_number_62
      rw [e6, if_neg n2, if_neg n2, m_brk e6 (by omega) (by omega), bd_s]
-- the pages that are made
def CP (s : SS) (P : Pg) (na : Nat) : Prop := (∀ i, dm i = true → gi s (iS 4) i = P i) ∧ (∀ i, i < na → gi s (iAA 4) i = P (17 + i)) ∧ AF 4 s
def MP (z : SS) (P : Pg) (na : Nat) : Prop := (∀ i, dq i = true → i ≠ 34 → gi z 22 i = P i) ∧ gi z 22 34 = P 34 - 5 ∧ ∀ i, i < na → gi z 22 (17 + i) = P (17 + i)
def PO (P : Pg) (nw na : Nat) : Prop := ∃ M, Fx P nw na M ∧ (∀ i, (12 ≤ i ∧ i < 16) ∨ (35 ≤ i ∧ i < 39) → P i = 0) ∧ P 39 = -4 ∧ P 40 = -4
def FrP (s s' : SS) : Prop := (∀ g i, (g ≠ 32 ∨ i = 0 ∨ i = 2) → g ≠ 80 → g ≠ 82 → gi s' g i = gi s g i) ∧ s'.2 = s.2
def FrQ (z z' : SS) : Prop := (∀ g i, (g ≠ 1 ∨ i < 6 ∨ 12 ≤ i) → g ≠ 22 → gi z' g i = gi z g i) ∧ z'.2 = z.2
theorem FrC.p {s s' : SS} (h : FrC s s') : FrP s s' := ⟨fun g i e _ _ => h.1 g i e, h.2⟩
theorem FrM.q {s s' : SS} (h : FrM s s') : FrQ s s' := ⟨fun g i e _ => h.1 g i e, h.2⟩
theorem FrP.tr {s s1 s2 : SS} (h : FrP s s1) (h2 : FrP s1 s2) : FrP s s2 := ⟨fun g i e e1 e2 => (h2.1 g i e e1 e2).trans (h.1 g i e e1 e2), h2.2.trans h.2⟩
theorem FrQ.tr {s s1 s2 : SS} (h : FrQ s s1) (h2 : FrQ s1 s2) : FrQ s s2 := ⟨fun g i e e1 => (h2.1 g i e e1).trans (h.1 g i e e1), h2.2.trans h.2⟩
theorem FrP.s80 {s : SS} {i : Nat} {x : Int32} : FrP s (si s (iS 4) i x) := ⟨fun g j _ h _ => gi_sn (by unfold iS; omega), rfl⟩
theorem FrP.s82 {s : SS} {i : Nat} {x : Int32} : FrP s (si s (iAA 4) i x) := ⟨fun g j _ _ h => gi_sn (by unfold iAA; omega), rfl⟩
theorem FrQ.s22 {s : SS} {i : Nat} {x : Int32} : FrQ s (si s 22 i x) := ⟨fun g j _ h => gi_sn (by omega), rfl⟩
theorem CP.fr {s s' : SS} {P : Pg} {na : Nat} (h : CP s P na) (f : FrC s s') : CP s' P na := ⟨fun i hi => (f.1 _ _ (by unfold iS; omega)).trans (h.1 i hi), fun i hi => (f.1 _ _ (by unfold iAA; omega)).trans (h.2.1 i hi), h.2.2.same fun i _ => f.1 _ _ (by unfold iAA; omega)⟩
theorem MP.fr {s s' : SS} {P : Pg} {na : Nat} (h : MP s P na) (f : FrM s s') : MP s' P na := ⟨fun i hi h34 => (f.1 _ _ (by omega)).trans (h.1 i hi h34), (f.1 _ _ (by omega)).trans h.2.1, fun i hi => (f.1 _ _ (by omega)).trans (h.2.2 i hi)⟩
theorem CT.o {s : SS} {k : Tk} {g i : Nat} {x : Int32} (h : CT s k) (hg : g ≠ 32) : CT (si s g i x) k := ⟨(gi_sn (by omega)).trans h.1, (gi_sn (by omega)).trans h.2.1, (gi_sn (by omega)).trans h.2.2.1, fun e => (gi_sn (by omega)).trans (h.2.2.2 e)⟩
theorem MT.o {s : SS} {k : Tk} {g i : Nat} {x : Int32} (h : MT s k) (hg : g ≠ 1) : MT (si s g i x) k := ⟨(gi_sn (by omega)).trans h.1, (gi_sn (by omega)).trans h.2.1, (gi_sn (by omega)).trans h.2.2.1, fun e => (gi_sn (by omega)).trans (h.2.2.2.1 e), (gi_sn (by omega)).trans h.2.2.2.2⟩
theorem MI.o {cs : Nat → Nat} {tp a : Nat} {s : SS} {g i : Nat} {x : Int32} (h : MI cs tp s a) (hg : g ≠ 1) (h2 : g ≠ 23) : MI cs tp (si s g i x) a := ⟨(gi_sn (by omega)).trans h.1, fun j hj => (gi_sn (by omega)).trans (h.2.1 j hj), (gi_sn (by omega)).trans h.2.2⟩
theorem CI.o {cs : Nat → Nat} {tp a : Nat} {s : SS} {g i : Nat} {x : Int32} (h : CI cs tp s a) (hg : g ≠ 32) (h2 : g ≠ 7) : CI cs tp (si s g i x) a := ⟨(gi_sn (by omega)).trans h.1, fun j hj => (gi_sn (by omega)).trans (h.2.1 j hj), (gi_sn (by omega)).trans h.2.2⟩
abbrev put5 (nw kd : Nat) (m l : Int32) : List (Nat × Int32) := [(nw, nI kd), (4 + nw, m), (8 + nw, l), (12 + nw, 0), (16, nI (nw + 1))]
theorem put5_e {P : Pg} {nw kd : Nat} {m l : Int32} : wP P (put5 nw kd m l) = pu (pu (pu (pu (pu P nw (nI kd)) (4 + nw) m) (8 + nw) l) (12 + nw) 0) 16 (nI (nw + 1)) := rfl
theorem put5_4 {P : Pg} {nw kd : Nat} {m l : Int32} (h : P (12 + nw) = 0) (hw : nw < 4) : wP P (put5 nw kd m l) = pu (pu (pu (pu P nw (nI kd)) (4 + nw) m) (8 + nw) l) 16 (nI (nw + 1)) := by
  rw [put5_e]
  have e : pu (pu (pu (pu P nw (nI kd)) (4 + nw) m) (8 + nw) l) (12 + nw) 0 = pu (pu (pu P nw (nI kd)) (4 + nw) m) (8 + nw) l := by
    have e2 : pu (pu (pu P nw (nI kd)) (4 + nw) m) (8 + nw) l (12 + nw) = 0 := by rw [pu_ne (by omega), pu_ne (by omega), pu_ne (by omega), h]
    have e3 := pu_self (pu (pu (pu P nw (nI kd)) (4 + nw) m) (8 + nw) l) (12 + nw)
    rw [e2] at e3
    exact e3
  rw [e]
theorem put5_n {P : Pg} {nw kd i : Nat} {m l : Int32} (a1 : i ≠ nw) (a2 : i ≠ 4 + nw) (a3 : i ≠ 8 + nw) (a4 : i ≠ 12 + nw) (a5 : i ≠ 16) : wP P (put5 nw kd m l) i = P i := by
  rw [put5_e, pu_ne a5, pu_ne a4, pu_ne a3, pu_ne a2, pu_ne a1]
theorem PO.put {P : Pg} {nw na kd m l : Nat} (h : PO P nw na) (hlt : nw < 4) (hk : kd < 4) (hm1 : 1 ≤ m) (hm2 : m ≤ 20) (hl : l ≤ 9) : PO (wP P (put5 nw kd (nI m) (nI l))) (nw + 1) na := by
  obtain ⟨M, ⟨h1, h2, h3, h4, h5, h6, h7⟩, g1, g2, g3⟩ := h
  have v0 : wP P (put5 nw kd (nI m) (nI l)) nw = nI kd := by rw [put5_e, pu_ne (by omega), pu_ne (by omega), pu_ne (by omega), pu_ne (by omega), pu_eq]
  have v4 : wP P (put5 nw kd (nI m) (nI l)) (4 + nw) = nI m := by rw [put5_e, pu_ne (by omega), pu_ne (by omega), pu_ne (by omega), pu_eq]
  have v8 : wP P (put5 nw kd (nI m) (nI l)) (8 + nw) = nI l := by rw [put5_e, pu_ne (by omega), pu_ne (by omega), pu_eq]
  have v12 : wP P (put5 nw kd (nI m) (nI l)) (12 + nw) = 0 := by rw [put5_e, pu_ne (by omega), pu_eq]
  have v16 : wP P (put5 nw kd (nI m) (nI l)) 16 = nI (nw + 1) := by rw [put5_e, pu_eq]
  refine ⟨M, ⟨by omega, v16, h3, by rw [put5_n (by omega) (by omega) (by omega) (by omega) (by omega)]; exact h4, ⟨h5.1, h5.2.1, by rw [put5_n (by omega) (by omega) (by omega) (by omega) (by omega)]; exact h5.2.2⟩, fun u hu => ?_, fun j hj => by rw [put5_n (by omega) (by omega) (by omega) (by omega) (by omega)]; exact h7 j hj⟩, fun i hi => ?_, by rw [put5_n (by omega) (by omega) (by omega) (by omega) (by omega)]; exact g2, by rw [put5_n (by omega) (by omega) (by omega) (by omega) (by omega)]; exact g3⟩
  · by_cases e : u = nw
    · rw [e, v0, v4, v8]
      exact ⟨⟨kd, hk, rfl⟩, ⟨m, hm1, hm2, rfl⟩, l, hl, rfl⟩
    · rw [put5_n (by omega) (by omega) (by omega) (by omega) (by omega), put5_n (by omega) (by omega) (by omega) (by omega) (by omega), put5_n (by omega) (by omega) (by omega) (by omega) (by omega)]
      exact h6 u (by omega)
  · by_cases e : i = 12 + nw
    · rw [e, v12]
    · rw [put5_n (by omega) (by omega) (by omega) e (by omega)]
      exact g1 i hi
theorem si_pu {s : SS} {P : Pg} {g i j : Nat} {x : Int32} (h : gi s g i = P i) : gi (si s g j x) g i = pu P j x i := by
  by_cases e : i = j
  · rw [e, gi_se, pu_eq]
  · rw [gi_sn (Or.inr e), pu_ne e]; exact h
theorem q16 : inR (16 : Int32) 39 := by decide
theorem q33 : inR (33 : Int32) 39 := by decide
theorem q34 : inR (34 : Int32) 39 := by decide
abbrev St : Type := Tk × Pg × Nat × Nat
/-- what told gives: both halves -/
def ToldB (N tp x : Nat) (cs : Nat → Nat) (k : Tk) (P : Pg) (nw na : Nat) (o : (Nat × Nat) ⊕ St) : Prop := (∀ s, CI cs tp s k.1 → CT s k → CP s P na → ∃ s', F_X9_told N (nI x) s = some (outU o, s') ∧ FrP s s' ∧ ∀ k' P' nw' na', o = .inr (k', P', nw', na') → CT s' k' ∧ CP s' P' na') ∧ (∀ z, MI cs tp z k.1 → MT z k → MP z P na → ∃ z', F_X8_readMore N (nI x) z = some ((), z') ∧ FrQ z z' ∧ (∀ k' P' nw' na', o = .inr (k', P', nw', na') → MT z' k' ∧ MP z' P' na') ∧ (∀ e, o = .inl e → gi z' 1 6 = nI e.1 ∧ gi z' 1 7 = nI e.2)) ∧ (∀ k' P' nw' na', o = .inr (k', P', nw', na') → TW tp k' ∧ k.1 ≤ k'.1 ∧ k.2.2.1 = 2 ∧ PO P' nw' na') ∧ (∀ e, o = .inl e → 0 < e.1 ∧ e.1 < 10)
theorem told_shaft {N tp : Nat} {cs : Nat → Nat} {k : Tk} {P : Pg} {nw na : Nat} (hN1 : 1000 ≤ N) (hT : Tx cs tp) (hW : TW tp k) (hP : PO P nw na) : ∃ o, ToldB N tp 4 cs k P nw na o := by
  obtain ⟨o, o1, o2, o3, o4⟩ := taken_both (N := N) (lo := 1) (hi := 20) hN1 hT hW (by omega) (by omega)
  have eC : ∀ s, F_X9_told N (nI 4) s = bdx (F_X9_taken N (nI 1) (nI 20) s) (fun r_55 σ_56 => nm (si σ_56 (iS 4) 34 r_55) fun σ_59 => some (Sum.inl (), σ_59)) (fun x_58 σ_56 => some (Sum.inr x_58, σ_56)) := fun s => rfl
  have eM : ∀ z, F_X8_readMore N (nI 4) z = bd (F_X8_number N (nI 1) (nI 20) z) (fun r s => some ((), si s 22 34 (r - 5))) := fun z => by
    unfold F_X8_readMore
    rw [if_pos (by decide), if_pos (by decide)]
    show bd (F_X8_number N (nI 1) (nI 20) z) (fun r_49 σ_50 => gd (inR (34 : Int32) 39) <| nm (si σ_50 22 (34 : Int32).toNatClampNeg (r_49 - (5 : Int32))) fun σ_53 => some ((), σ_53)) = _
    simp only [gd_t q34, lc34, nm]
  cases o with
  | inl e =>
    refine ⟨.inl e, fun s hs hk hp => ?_, fun z hz hk hp => ?_, fun k' P' nw' na' hh => (by cases hh), fun e' he => (by cases he; exact o4 e rfl)⟩
    · obtain ⟨s', a1, a2, -⟩ := o1 s hs hk
      refine ⟨s', ?_, a2.p, fun k' P' nw' na' hh => (by cases hh)⟩
      rw [eC, a1]
      rfl
    · obtain ⟨r, z', a1, a2, -, a4⟩ := o2 z hz hk
      refine ⟨si z' 22 34 (r - 5), ?_, a2.q.tr FrQ.s22, fun k' P' nw' na' hh => (by cases hh), fun e' he => ?_⟩
      · rw [eM, a1, bd_s]
      · cases he
        obtain ⟨b1, b2⟩ := a4 e rfl
        exact ⟨(gi_sn (by omega)).trans b1, (gi_sn (by omega)).trans b2⟩
  | inr vk =>
    obtain ⟨v, k1⟩ := vk
    obtain ⟨c1, c2, c3, n, n1, n2, en⟩ := o3 v k1 rfl
    refine ⟨.inr (k1, pu P 34 v, nw, na), fun s hs hk hp => ?_, fun z hz hk hp => ?_, fun k' P' nw' na' hh => ?_, fun e' he => (by cases he)⟩
    · obtain ⟨s', a1, a2, a3⟩ := o1 s hs hk
      refine ⟨si s' (iS 4) 34 v, ?_, a2.p.tr FrP.s80, fun k' P' nw' na' hh => ?_⟩
      · rw [eC, a1]
        rfl
      · cases hh
        have hp' := hp.fr a2
        refine ⟨(a3 v k1 rfl).o (by unfold iS; omega), fun i hi => si_pu (hp'.1 i hi), fun i hi => ?_, hp'.2.2.same fun i _ => gi_sn (by unfold iS iAA; omega)⟩
        obtain ⟨M, hF, -⟩ := hP
        rw [gi_sn (by unfold iS iAA; omega), pu_ne (by have := hF.2.2.1; omega)]
        exact hp'.2.1 i hi
    · obtain ⟨r, z', a1, a2, a3, -⟩ := o2 z hz hk
      obtain ⟨rfl, a5⟩ := a3 v k1 rfl
      refine ⟨si z' 22 34 (r - 5), ?_, a2.q.tr FrQ.s22, fun k' P' nw' na' hh => ?_, fun e' he => (by cases he)⟩
      · rw [eM, a1, bd_s]
      · cases hh
        have hp' := hp.fr a2
        obtain ⟨M, hF, -⟩ := hP
        refine ⟨a5.o (by omega), fun i hi h34 => ?_, ?_, fun i hi => ?_⟩
        · rw [gi_sn (Or.inr h34), pu_ne h34]; exact hp'.1 i hi h34
        · rw [gi_se, pu_eq]
        · rw [gi_sn (by have := hF.2.2.1; omega), pu_ne (by have := hF.2.2.1; omega)]; exact hp'.2.2 i hi
    · cases hh
      obtain ⟨M, ⟨h1, h2, h3, h4, h5, h6, h7⟩, g1, g2, g3⟩ := hP
      refine ⟨c1, c2, c3, n, ⟨h1, by rw [pu_ne (by omega)]; exact h2, h3, by rw [pu_ne (by omega)]; exact h4, ⟨n1, n2, by rw [pu_eq]; exact en⟩, fun u hu => ?_, fun j hj => by rw [pu_ne (by omega)]; exact h7 j hj⟩, fun i hi => by rw [pu_ne (by omega)]; exact g1 i hi, by rw [pu_ne (by omega)]; exact g2, by rw [pu_ne (by omega)]; exact g3⟩
      rw [pu_ne (by omega), pu_ne (by omega), pu_ne (by omega)]
      exact h6 u hu
theorem told_act {N tp x : Nat} {cs : Nat → Nat} {k : Tk} {P : Pg} {nw na : Nat} (hN1 : 1000 ≤ N) (hT : Tx cs tp) (hW : TW tp k) (hP : PO P nw na) (hx : x = 5 ∨ x = 6 ∨ x = 7) (hna : na < 16) : ∃ o, ToldB N tp x cs k P nw na o := by
  obtain ⟨hi, hhi, hhx⟩ : ∃ hi, hi = (if x = 7 then 3 else 99) ∧ 100 * (x - 5) + hi ≤ 203 := ⟨if x = 7 then 3 else 99, rfl, by rcases hx with rfl | rfl | rfl <;> decide⟩
  obtain ⟨o, o1, o2, o3, o4⟩ := taken_both (N := N) (lo := 0) (hi := hi) hN1 hT hW (by omega) (by omega)
  have e5 : (100 : Int32) * (nI x - 5) = nI (100 * (x - 5)) := by rcases hx with rfl | rfl | rfl <;> decide
  have eC : ∀ s, CP s P na → F_X9_told N (nI x) s = F_X9_told_88 N (nI hi) (nI 0) (nI (100 * (x - 5))) (nI na) s := fun s hp => by
    have e33 : gi s (iS 4) 33 = nI na := (hp.1 33 rfl).trans (by obtain ⟨M, hF, -⟩ := hP; exact hF.2.2.2.1)
    unfold F_X9_told
    rw [e33, e5]
    rcases hx with rfl | rfl | rfl
    · subst hhi; rfl
    · subst hhi; rfl
    · subst hhi; rfl
  have eM : ∀ z, MP z P na → F_X8_readMore N (nI x) z = F_X8_readMore_125 N (nI hi) (nI 0) (nI (100 * (x - 5))) (nI (17 + na)) z := fun z hp => by
    have e33 : gi z 22 33 = nI na := (hp.1 33 rfl (by omega)).trans (by obtain ⟨M, hF, -⟩ := hP; exact hF.2.2.2.1)
    have e17 : (17 : Int32) + nI na = nI (17 + na) := nI_add 17 na
    unfold F_X8_readMore
    simp only [gd_t q33, lc33, nm, e33, e17, e5]
    rcases hx with rfl | rfl | rfl
    · subst hhi; rfl
    · subst hhi; rfl
    · subst hhi; rfl
  have kA : (nI (17 + na)).toNatClampNeg = 17 + na := nI_clamp (by omega)
  have eM2 : ∀ z, F_X8_readMore_125 N (nI hi) (nI 0) (nI (100 * (x - 5))) (nI (17 + na)) z = bd (F_X8_number N (nI 0) (nI hi) z) (fun r s => some ((), si (si s 22 (17 + na) (nI (100 * (x - 5)) + r)) 22 33 (gi (si s 22 (17 + na) (nI (100 * (x - 5)) + r)) 22 33 + 1))) := fun z => by
    unfold F_X8_readMore_125
    simp only [gd_t q33, lc33, nm, kA, gd_t (inR_nI (show 17 + na < 39 by omega) (by omega))]
  cases o with
  | inl e =>
    refine ⟨.inl e, fun s hs hk hp => ?_, fun z hz hk hp => ?_, fun k' P' nw' na' hh => (by cases hh), fun e' he => (by cases he; exact o4 e rfl)⟩
    · obtain ⟨s', a1, a2, -⟩ := o1 s hs hk
      refine ⟨s', ?_, a2.p, fun k' P' nw' na' hh => (by cases hh)⟩
      rw [eC s hp]
      unfold F_X9_told_88
      rw [a1]
      rfl
    · obtain ⟨r, z', a1, a2, -, a4⟩ := o2 z hz hk
      refine ⟨_, by rw [eM z hp, eM2, a1, bd_s], (a2.q.tr FrQ.s22).tr FrQ.s22, fun k' P' nw' na' hh => (by cases hh), fun e' he => ?_⟩
      cases he
      obtain ⟨b1, b2⟩ := a4 e rfl
      exact ⟨(gi_sn (by omega)).trans ((gi_sn (by omega)).trans b1), (gi_sn (by omega)).trans ((gi_sn (by omega)).trans b2)⟩
  | inr vk =>
    obtain ⟨v, k1⟩ := vk
    obtain ⟨c1, c2, c3, n, n1, n2, en⟩ := o3 v k1 rfl
    have ea : nI (100 * (x - 5)) + v = nI (100 * (x - 5) + n) := by rw [en, nI_add]
    have hle : 100 * (x - 5) + n ≤ 203 := by omega
    refine ⟨.inr (k1, pu (pu P (17 + na) (nI (100 * (x - 5) + n))) 33 (nI (na + 1)), nw, na + 1), fun s hs hk hp => ?_, fun z hz hk hp => ?_, fun k' P' nw' na' hh => ?_, fun e' he => (by cases he)⟩
    · obtain ⟨s', a1, a2, a3⟩ := o1 s hs hk
      have hp' := hp.fr a2
      have e33 : gi (si s' (iAA 4) na (nI (100 * (x - 5) + n))) (iS 4) 33 = nI na := (gi_sn (by unfold iS iAA; omega)).trans ((hp'.1 33 rfl).trans (by obtain ⟨M, hF, -⟩ := hP; exact hF.2.2.2.1))
      refine ⟨si (si s' (iAA 4) na (nI (100 * (x - 5) + n))) (iS 4) 33 (nI (na + 1)), ?_, (a2.p.tr FrP.s82).tr FrP.s80, fun k' P' nw' na' hh => ?_⟩
      · rw [eC s hp]
        unfold F_X9_told_88
        rw [a1]
        show (gd (inR (nI na) 16) <| nm (si s' (iAA 4) (nI na).toNatClampNeg (vp_nar .short ((nI (100 * (x - 5)) + v).toInt16.toInt32))) fun σ_32 => nm (si σ_32 (iS 4) 33 ((gi σ_32 (iS 4) 33) + (1 : Int32))) fun σ_33 => some (Sum.inl (), σ_33)) = _
        rw [gd_t (inR_nI hna (by omega)), nI_clamp (by omega), ea, short_nar _ (by omega), nm_s, nm_s, e33, show nI na + 1 = nI (na + 1) from nI_1 na]
        rfl
      · cases hh
        refine ⟨((a3 v k1 rfl).o (by unfold iAA; omega)).o (by unfold iS; omega), fun i hi => ?_, fun i hi => ?_, fun i hi => ?_⟩
        · have hi2 := dm_e hi
          by_cases e : i = 33
          · rw [e, gi_se, pu_eq]
          · rw [gi_sn (Or.inr e), gi_sn (by unfold iS iAA; omega), pu_ne e, pu_ne (by omega)]
            exact hp'.1 i hi
        · rw [gi_sn (by unfold iS iAA; omega), pu_ne (by omega)]
          by_cases e : i = na
          · rw [e, gi_se, pu_eq]
          · rw [gi_sn (Or.inr e), pu_ne (by omega)]
            exact hp'.2.1 i (by omega)
        · rw [gi_sn (by unfold iS iAA; omega)]
          by_cases e : i = na
          · rw [e, gi_se]; exact ⟨_, hle, rfl⟩
          · rw [gi_sn (Or.inr e)]
            exact hp'.2.2 i hi
    · obtain ⟨r, z', a1, a2, a3, -⟩ := o2 z hz hk
      obtain ⟨rfl, a5⟩ := a3 v k1 rfl
      have hp' := hp.fr a2
      have e33 : gi (si z' 22 (17 + na) (nI (100 * (x - 5) + n))) 22 33 = nI na := (gi_sn (by omega)).trans ((hp'.1 33 rfl (by omega)).trans (by obtain ⟨M, hF, -⟩ := hP; exact hF.2.2.2.1))
      refine ⟨si (si z' 22 (17 + na) (nI (100 * (x - 5) + n))) 22 33 (nI (na + 1)), ?_, (a2.q.tr FrQ.s22).tr FrQ.s22, fun k' P' nw' na' hh => ?_, fun e' he => (by cases he)⟩
      · rw [eM z hp, eM2, a1, bd_s, ea, e33, show nI na + 1 = nI (na + 1) from nI_1 na]
      · cases hh
        refine ⟨(a5.o (by omega)).o (by omega), fun i hi h34 => ?_, ?_, fun i hi => ?_⟩
        · have hj2 : i < 17 ∨ (33 ≤ i ∧ i < 39) := by
            unfold dq at hi
            simpa using hi
          by_cases e : i = 33
          · rw [e, gi_se, pu_eq]
          · rw [gi_sn (Or.inr e), gi_sn (by omega), pu_ne e, pu_ne (by omega)]
            exact hp'.1 i hi h34
        · rw [gi_sn (by omega), gi_sn (by omega), pu_ne (by omega), pu_ne (by omega)]; exact hp'.2.1
        · rw [gi_sn (by omega), pu_ne (by omega)]
          by_cases e : i = na
          · rw [e, gi_se, pu_eq]
          · rw [gi_sn (by omega), pu_ne (by omega)]
            exact hp'.2.2 i (by omega)
    · cases hh
      obtain ⟨M, hF, g1, g2, g3⟩ := hP
      refine ⟨c1, c2, c3, M, Fx_add hF hna hle, fun i hi => ?_, ?_, ?_⟩
      · rw [pu_ne (by omega), pu_ne (by omega)]; exact g1 i hi
      · rw [pu_ne (by omega), pu_ne (by omega)]; exact g2
      · rw [pu_ne (by omega), pu_ne (by omega)]; exact g3
theorem told_wheel {N tp x : Nat} {cs : Nat → Nat} {k : Tk} {P : Pg} {nw na : Nat} (hN1 : 1000 ≤ N) (hT : Tx cs tp) (hW : TW tp k) (hP : PO P nw na) (hx : x < 4) (hnw : nw < 4) : ∃ o, ToldB N tp x cs k P nw na o := by
  obtain ⟨o, o1, o2, o3, o4⟩ := taken_both (N := N) (lo := 1) (hi := 20) hN1 hT hW (by omega) (by omega)
  have c4 : ¬ nI x = (4 : Int32) := nI_eqL (b := 4) (by omega) (by omega) (by omega)
  have c4' : ¬ (4 : Int32) ≤ nI x := nI_ge (b := 4) hx (by omega)
  have c3 : ¬ (3 : Int32) < nI x := nI_nlt (a := 3) (by omega) (by omega)
  have eC : ∀ s, F_X9_told N (nI x) s = bdx (F_X9_taken N (nI 1) (nI 20) s) (fun r_44 σ_45 => bdx (F_X9_taken N (nI 0) (nI 9) σ_45) (fun r_48 σ_49 => bd (F_X5_puts N 4 (nI x) r_44 r_48 σ_49) fun r_52 σ_53 => some (Sum.inl (), σ_53)) (fun x_51 σ_49 => some (Sum.inr x_51, σ_49))) (fun x_47 σ_45 => some (Sum.inr x_47, σ_45)) := fun s => by
    unfold F_X9_told
    rw [if_neg c4, if_neg c4']
    rfl
  have h4w : ∀ P', (P' = P) → P' 16 = nI nw := fun P' e => by rw [e]; obtain ⟨M, hF, -⟩ := hP; exact hF.2.1
  have kw : (nI nw).toNatClampNeg = nw := nI_clamp (by omega)
  have k4 : (nI (4 + nw)).toNatClampNeg = 4 + nw := nI_clamp (by omega)
  have k8 : (nI (8 + nw)).toNatClampNeg = 8 + nw := nI_clamp (by omega)
  have i4 : (4 : Int32) + nI nw = nI (4 + nw) := nI_add 4 nw
  have i8 : (8 : Int32) + nI nw = nI (8 + nw) := nI_add 8 nw
  have eM : ∀ z, MP z P na → F_X8_readMore N (nI x) z = bd (F_X8_number N (nI 1) (nI 20) (si z 22 nw (nI x))) (fun r s => bd (F_X8_number N (nI 0) (nI 9) (si s 22 (4 + nw) r)) (fun r2 s2 => some ((), si (si s2 22 (8 + nw) r2) 22 16 (gi (si s2 22 (8 + nw) r2) 22 16 + 1)))) := fun z hp => by
    have e16 : gi z 22 16 = nI nw := (hp.1 16 rfl (by omega)).trans (h4w P rfl)
    unfold F_X8_readMore
    rw [if_neg c3]
    simp only [gd_t q16, lc16, nm, e16, i4, i8, kw, k4, k8, gd_t (inR_nI (show nw < 39 by omega) (by omega)), gd_t (inR_nI (show 4 + nw < 39 by omega) (by omega)), gd_t (inR_nI (show 8 + nw < 39 by omega) (by omega))]
    rfl
  cases o with
  | inl e =>
    refine ⟨.inl e, fun s hs hk hp => ?_, fun z hz hk hp => ?_, fun k' P' nw' na' hh => (by cases hh), fun e' he => (by cases he; exact o4 e rfl)⟩
    · obtain ⟨s', a1, a2, -⟩ := o1 s hs hk
      refine ⟨s', ?_, a2.p, fun k' P' nw' na' hh => (by cases hh)⟩
      rw [eC, a1]
      rfl
    · obtain ⟨r, z', a1, a2, -, a4⟩ := o2 (si z 22 nw (nI x)) (hz.o (by omega) (by omega)) (hk.o (by omega))
      obtain ⟨b1, b2⟩ := a4 e rfl
      have b1' : gi (si z' 22 (4 + nw) r) 1 6 = nI e.1 := (gi_sn (by omega)).trans b1
      refine ⟨_, by rw [eM z hp, a1, bd_s, m_numBrk b1' (o4 e rfl).1 (o4 e rfl).2, bd_s], ((((FrQ.s22).tr a2.q).tr FrQ.s22).tr FrQ.s22).tr FrQ.s22, fun k' P' nw' na' hh => (by cases hh), fun e' he => ?_⟩
      cases he
      exact ⟨(gi_sn (by omega)).trans ((gi_sn (by omega)).trans b1'), (gi_sn (by omega)).trans ((gi_sn (by omega)).trans ((gi_sn (by omega)).trans b2))⟩
  | inr vk =>
    obtain ⟨v, k1⟩ := vk
    obtain ⟨c1, c2, c5, n, n1, n2, en⟩ := o3 v k1 rfl
    obtain ⟨o', p1, p2, p3, p4⟩ := taken_both (N := N) (lo := 0) (hi := 9) hN1 hT c1 (by omega) (by omega)
    cases o' with
    | inl e =>
      refine ⟨.inl e, fun s hs hk hp => ?_, fun z hz hk hp => ?_, fun k' P' nw' na' hh => (by cases hh), fun e' he => (by cases he; exact p4 e rfl)⟩
      · obtain ⟨s', a1, a2, a3⟩ := o1 s hs hk
        have ct := a3 v k1 rfl
        obtain ⟨s2, b1, b2, -⟩ := p1 s' (hs.nx a2 ct) ct
        refine ⟨s2, ?_, (a2.tr b2).p, fun k' P' nw' na' hh => (by cases hh)⟩
        rw [eC, a1]
        show bdx (F_X9_taken N (nI 0) (nI 9) s') _ _ = _
        rw [b1]
        rfl
      · obtain ⟨r, z', a1, a2, a3, -⟩ := o2 (si z 22 nw (nI x)) (hz.o (by omega) (by omega)) (hk.o (by omega))
        obtain ⟨rfl, mt⟩ := a3 v k1 rfl
        obtain ⟨r2, z2, b1, b2, -, b4⟩ := p2 (si z' 22 (4 + nw) r) (((hz.o (g := 22) (by omega) (by omega)).nx a2 mt).o (by omega) (by omega)) (mt.o (by omega))
        obtain ⟨d1, d2⟩ := b4 e rfl
        refine ⟨_, by rw [eM z hp, a1, bd_s, b1, bd_s], (((((FrQ.s22).tr a2.q).tr FrQ.s22).tr b2.q).tr FrQ.s22).tr FrQ.s22, fun k' P' nw' na' hh => (by cases hh), fun e' he => ?_⟩
        cases he
        exact ⟨(gi_sn (by omega)).trans ((gi_sn (by omega)).trans d1), (gi_sn (by omega)).trans ((gi_sn (by omega)).trans d2)⟩
    | inr vk2 =>
      obtain ⟨v2, k2⟩ := vk2
      obtain ⟨d1, d2, d3, n', n1', n2', en'⟩ := p3 v2 k2 rfl
      have h12 : P (12 + nw) = 0 := by
        obtain ⟨M, hF, g1, -⟩ := hP
        exact g1 _ (by omega)
      refine ⟨.inr (k2, wP P (put5 nw x v v2), nw + 1, na), fun s hs hk hp => ?_, fun z hz hk hp => ?_, fun k' P' nw' na' hh => ?_, fun e' he => (by cases he)⟩
      · obtain ⟨s', a1, a2, a3⟩ := o1 s hs hk
        have ct := a3 v k1 rfl
        obtain ⟨s2, b1, b2, b3⟩ := p1 s' (hs.nx a2 ct) ct
        have hp2 := hp.fr (a2.tr b2)
        have e16 : gi s2 (iS 4) 16 = nI nw := (hp2.1 16 rfl).trans (h4w P rfl)
        have eg : gi (si (si (si (si s2 (iS 4) nw (nI x)) (iS 4) (4 + nw) v) (iS 4) (8 + nw) v2) (iS 4) (12 + nw) 0) (iS 4) 16 = nI nw := by
          rw [gi_sn (by omega), gi_sn (by omega), gi_sn (by omega), gi_sn (by omega)]
          exact e16
        refine ⟨wS (iS 4) s2 (put5 nw x v v2), ?_, ?_, fun k' P' nw' na' hh => ?_⟩
        · rw [eC, a1]
          show bdx (F_X9_taken N (nI 0) (nI 9) s') _ _ = _
          rw [b1]
          show bd (F_X5_puts N 4 (nI x) v v2 s2) (fun r_52 σ_53 => some (Sum.inl (), σ_53)) = _
          unfold F_X5_puts
          rw [e16]
          simp only [gd_t (inR_nI hnw (show 4 < 2 ^ 31 by omega)), kw, nm, eg, show nI nw + 1 = nI (nw + 1) from nI_1 nw]
          rfl
        · exact (a2.tr b2).p.tr ⟨fun g i _ h _ => wS_ne (by unfold iS; omega) _ _, Prod.ext rfl (wS_22 _ _)⟩
        · cases hh
          refine ⟨?_, fun i hi => wS_eq _ s2 P (hp2.1 i hi), fun i hi => ?_, hp2.2.2.same fun i _ => wS_ne (by unfold iS iAA; omega) _ _⟩
          · have ct2 := b3 v2 k2 rfl
            exact ⟨(wS_ne (by unfold iS; omega) _ _).trans ct2.1, (wS_ne (by unfold iS; omega) _ _).trans ct2.2.1, (wS_ne (by unfold iS; omega) _ _).trans ct2.2.2.1, fun e => (wS_ne (by unfold iS; omega) _ _).trans (ct2.2.2.2 e)⟩
          · rw [wS_ne (by unfold iS iAA; omega) _ _, put5_n (by omega) (by omega) (by omega) (by omega) (by omega)]
            exact hp2.2.1 i hi
      · obtain ⟨r, z', a1, a2, a3, -⟩ := o2 (si z 22 nw (nI x)) (hz.o (by omega) (by omega)) (hk.o (by omega))
        obtain ⟨rfl, mt⟩ := a3 v k1 rfl
        obtain ⟨r2, z2, b1, b2, b3, -⟩ := p2 (si z' 22 (4 + nw) r) (((hz.o (g := 22) (by omega) (by omega)).nx a2 mt).o (by omega) (by omega)) (mt.o (by omega))
        obtain ⟨rfl, mt2⟩ := b3 v2 k2 rfl
        have f22 : ∀ i, gi z2 22 i = gi (si z' 22 (4 + nw) r) 22 i := fun i => b2.1 _ _ (by omega)
        have f22' : ∀ i, gi z' 22 i = gi (si z 22 nw (nI x)) 22 i := fun i => a2.1 _ _ (by omega)
        have e16 : gi (si z2 22 (8 + nw) r2) 22 16 = nI nw := by
          rw [gi_sn (by omega), f22, gi_sn (by omega), f22', gi_sn (by omega)]
          exact (hp.1 16 rfl (by omega)).trans (h4w P rfl)
        refine ⟨_, by rw [eM z hp, a1, bd_s, b1, bd_s, e16, show nI nw + 1 = nI (nw + 1) from nI_1 nw], (((((FrQ.s22).tr a2.q).tr FrQ.s22).tr b2.q).tr FrQ.s22).tr FrQ.s22, fun k' P' nw' na' hh => ?_, fun e' he => (by cases he)⟩
        cases hh
        have hall : ∀ (Q : Pg) i, gi z 22 i = Q i → gi (si (si z2 22 (8 + nw) r2) 22 16 (nI (nw + 1))) 22 i = pu (pu (pu (pu Q nw (nI x)) (4 + nw) r) (8 + nw) r2) 16 (nI (nw + 1)) i := fun Q i h => si_pu (si_pu ((f22 i).trans (si_pu ((f22' i).trans (si_pu h)))))
        rw [put5_4 h12 hnw]
        refine ⟨(mt2.o (by omega)).o (by omega), fun i hi h34 => hall P i (hp.1 i hi h34), ?_, fun i hi => hall P (17 + i) (hp.2.2 i hi)⟩
        rw [gi_sn (by omega), gi_sn (by omega), f22, gi_sn (by omega), f22', gi_sn (by omega), pu_ne (by omega), pu_ne (by omega), pu_ne (by omega), pu_ne (by omega)]
        exact hp.2.1
      · cases hh
        refine ⟨d1, by omega, c5, ?_⟩
        rw [en, en']
        exact hP.put hnw hx n1 n2 n2'
