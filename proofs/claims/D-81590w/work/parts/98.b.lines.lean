/-! THE PLAIN LAW: the text: a line, lines -/
set_option maxRecDepth 100000
def FrL (s s' : SS) : Prop := (∀ g i, (g ≠ 32 ∨ i = 0) → g ≠ 80 → g ≠ 82 → gi s' g i = gi s g i) ∧ s'.2 = s.2
def FrN (z z' : SS) : Prop := (∀ g i, (g ≠ 1 ∨ (i < 6 ∧ i ≠ 2) ∨ 12 ≤ i) → g ≠ 22 → gi z' g i = gi z g i) ∧ z'.2 = z.2
theorem FrP.l {s s' : SS} (h : FrP s s') : FrL s s' := ⟨fun g i e e1 e2 => h.1 g i (by omega) e1 e2, h.2⟩
theorem FrQ.n {s s' : SS} (h : FrQ s s') : FrN s s' := ⟨fun g i e e1 => h.1 g i (by omega) e1, h.2⟩
theorem FrL.rf (s : SS) : FrL s s := ⟨fun _ _ _ _ _ => rfl, rfl⟩
theorem FrN.rf (s : SS) : FrN s s := ⟨fun _ _ _ _ => rfl, rfl⟩
theorem FrL.tr {s s1 s2 : SS} (h : FrL s s1) (h2 : FrL s1 s2) : FrL s s2 := ⟨fun g i e e1 e2 => (h2.1 g i e e1 e2).trans (h.1 g i e e1 e2), h2.2.trans h.2⟩
theorem FrN.tr {s s1 s2 : SS} (h : FrN s s1) (h2 : FrN s1 s2) : FrN s s2 := ⟨fun g i e e1 => (h2.1 g i e e1).trans (h.1 g i e e1), h2.2.trans h.2⟩
theorem FrL.s2 {s : SS} {x : Int32} : FrL s (si s 32 2 x) := ⟨fun g i h _ _ => gi_sn (by omega), rfl⟩
theorem FrN.s2 {s : SS} {x : Int32} : FrN s (si s 1 2 x) := ⟨fun g i h _ => gi_sn (by omega), rfl⟩
abbrev St2 : Type := Tk × Pg × Nat × Nat × Bool
/-- all that stands in a state of the reader, of the model's -/
def CA (cs : Nat → Nat) (tp : Nat) (s : SS) (S : St2) : Prop := CI cs tp s S.1.1 ∧ CT s S.1 ∧ CP s S.2.1 S.2.2.2.1 ∧ gi s 32 2 = b2i S.2.2.2.2
def MA (cs : Nat → Nat) (tp : Nat) (z : SS) (S : St2) : Prop := MI cs tp z S.1.1 ∧ MT z S.1 ∧ MP z S.2.1 S.2.2.2.1 ∧ gi z 1 2 = b2i S.2.2.2.2 ∧ Rl z
def WA (tp : Nat) (S : St2) : Prop := TW tp S.1 ∧ PO S.2.1 S.2.2.1 S.2.2.2.1
theorem CI.fr {cs : Nat → Nat} {tp a b : Nat} {s s' : SS} (h : CI cs tp s a) (f : FrL s s') (e : gi s' 32 3 = nI b) : CI cs tp s' b := ⟨(f.1 _ _ (by omega) (by omega) (by omega)).trans h.1, fun i hi => (f.1 _ _ (by omega) (by omega) (by omega)).trans (h.2.1 i hi), e⟩
theorem MI.fr {cs : Nat → Nat} {tp a b : Nat} {s s' : SS} (h : MI cs tp s a) (f : FrN s s') (e : gi s' 1 8 = nI b) : MI cs tp s' b := ⟨(f.1 _ _ (by omega) (by omega)).trans h.1, fun i hi => (f.1 _ _ (by omega) (by omega)).trans (h.2.1 i hi), e⟩
theorem Rl.fr {s s' : SS} (h : Rl s) (f : FrN s s') : Rl s' := h.same (fun i => f.1 _ _ (by omega) (by omega)) (fun i => f.1 _ _ (by omega) (by omega))
theorem b2i_or : ∀ a b : Bool, b2i a ||| b2i b = b2i (a || b) := by decide
theorem told_both {N tp x : Nat} {cs : Nat → Nat} {k : Tk} {P : Pg} {nw na : Nat} (hN1 : 1000 ≤ N) (hT : Tx cs tp) (hW : TW tp k) (hP : PO P nw na) (hx : x < 8) (h4 : x < 4 → nw < 4) (h5 : 5 ≤ x → na < 16) : ∃ o, ToldB N tp x cs k P nw na o := by
  by_cases c : x < 4
  · exact told_wheel hN1 hT hW hP c (h4 c)
  · by_cases c2 : x = 4
    · subst c2; exact told_shaft hN1 hT hW hP
    · exact told_act hN1 hT hW hP (by omega) (h5 (by omega))
theorem m_136 {N c : Nat} {z : SS} (h : gi z 1 6 = nI c) (h0 : 0 < c) (h1 : c < 10) : F_X8_readLine_136 N z = some ((), z) := by
  unfold F_X8_readLine_136
  rw [m_brk h h0 h1, bd_s]
/-- a line behind its name -/
theorem body_both {N tp x : Nat} {cs : Nat → Nat} {S : St2} (hN1 : 1000 ≤ N) (hT : Tx cs tp) (hW : WA tp S) (hx : x < 8) (h4 : x < 4 → S.2.2.1 < 4) (h5 : 5 ≤ x → S.2.2.2.1 < 16) : ∃ o : (Nat × Nat) ⊕ St2, (∀ s, CA cs tp s S → ∃ s', F_X9_line_128 N (nI x) (b2i (decide (x = 4))) (b2i S.2.2.2.2) s = some (outU o, s') ∧ FrL s s' ∧ ∀ S', o = .inr S' → CA cs tp s' S') ∧ (∀ z, MA cs tp z S → ∃ z', F_X8_readLine_96 N (nI x) (b2i (S.2.2.2.2 || decide (x = 4))) z = some ((), z') ∧ FrN z z' ∧ (∀ S', o = .inr S' → MA cs tp z' S') ∧ (∀ e, o = .inl e → gi z' 1 6 = nI e.1 ∧ gi z' 1 7 = nI e.2)) ∧ (∀ S', o = .inr S' → WA tp S' ∧ S.1.1 < S'.1.1) ∧ (∀ e, o = .inl e → 0 < e.1 ∧ e.1 < 10) := by
  obtain ⟨k, P, nw, na, hs⟩ := S
  obtain ⟨hW, hP⟩ := hW
  obtain ⟨o1, a1, a2, a3, a4⟩ := next_both (N := N) hN1 hT hW.2.1
  have e10 : ∀ b : Bool, b2i b = 0 ∨ b2i b = 1 := b2i_01
  have hC0 : ∀ s, CA cs tp s (k, P, nw, na, hs) → F_X9_line_128 N (nI x) (b2i (decide (x = 4))) (b2i hs) s = bdx (F_X9_next N (si s 32 2 (b2i (hs || decide (x = 4))))) (fun r_68 σ_69 => bdx (F_X9_told N (nI x) σ_69) (fun r_72 σ_73 => if (gi σ_73 32 5) = (3 : Int32) then F_X9_line_155 N (1 : Int32) σ_73 else F_X9_line_155 N (0 : Int32) σ_73) (fun x_75 σ_73 => some (Sum.inr x_75, σ_73))) (fun x_71 σ_69 => some (Sum.inr x_71, σ_69)) := fun s hs' => by
    unfold F_X9_line_128
    rw [b2i_or, gd_t (e10 _), nm_s]
  have hM0 : ∀ z, F_X8_readLine_96 N (nI x) (b2i (hs || decide (x = 4))) z = bd (F_X8_readsOn N (si z 1 2 (b2i (hs || decide (x = 4))))) fun r_49 σ_50 => if (gi σ_50 1 6) ≤ (0 : Int32) then bd (F_X8_readMore N (nI x) σ_50) fun r_53 σ_54 => if (gi σ_54 1 6) = (0 : Int32) then if (gi σ_54 1 10) = (3 : Int32) then F_X8_readLine_136 N σ_54 else bd (F_X8_fails N (2 : Int32) σ_54) fun r_58 σ_59 => F_X8_readLine_136 N σ_59 else F_X8_readLine_136 N σ_54 else some ((), σ_50) := fun z => by
    unfold F_X8_readLine_96
    rw [gd_t (e10 _), nm_s]
  have hCI : ∀ s, CA cs tp s (k, P, nw, na, hs) → CI cs tp (si s 32 2 (b2i (hs || decide (x = 4)))) k.1 := fun s h => h.1.put (by omega) (by omega)
  have hMI : ∀ z, MA cs tp z (k, P, nw, na, hs) → MI cs tp (si z 1 2 (b2i (hs || decide (x = 4)))) k.1 := fun z h => h.1.put (by omega) (by omega)
  have hM6 : ∀ z, MA cs tp z (k, P, nw, na, hs) → gi (si z 1 2 (b2i (hs || decide (x = 4)))) 1 6 = 0 := fun z h => (gi_sn (by omega)).trans h.2.1.2.2.2.2
  cases o1 with
  | inl e =>
    refine ⟨.inl e, fun s h => ?_, fun z h => ?_, fun S' hh => (by cases hh), fun e' he => (by cases he; exact a4 e rfl)⟩
    · obtain ⟨s', b1, b2, -⟩ := a1 _ (hCI s h)
      refine ⟨s', ?_, FrL.s2.tr b2.p.l, fun S' hh => (by cases hh)⟩
      rw [hC0 s h, b1]
      rfl
    · obtain ⟨z', b1, b2, -, b4⟩ := a2 _ (hMI z h) (hM6 z h)
      obtain ⟨d1, d2⟩ := b4 e rfl
      refine ⟨z', ?_, FrN.s2.tr b2.q.n, fun S' hh => (by cases hh), fun e' he => (by cases he; exact ⟨d1, d2⟩)⟩
      rw [hM0, b1, bd_s, d1, if_neg (nI_nle (a4 e rfl).1 (by have := (a4 e rfl).2; omega))]
  | inr k1 =>
    obtain ⟨t1, t2, t3⟩ := a3 k1 rfl
    obtain ⟨o2, c1, c2, c3, c4⟩ := told_both (N := N) (x := x) hN1 hT t1 hP hx h4 h5
    have hCk : ∀ s, CA cs tp s (k, P, nw, na, hs) → ∃ s1, F_X9_next N (si s 32 2 (b2i (hs || decide (x = 4)))) = some (Sum.inl (), s1) ∧ FrL s s1 ∧ CI cs tp s1 k1.1 ∧ CT s1 k1 ∧ CP s1 P na ∧ gi s1 32 2 = b2i (hs || decide (x = 4)) := fun s h => by
      obtain ⟨s1, b1, b2, b3⟩ := a1 _ (hCI s h)
      have ct := b3 k1 rfl
      have hp : CP (si s 32 2 (b2i (hs || decide (x = 4)))) P na := ⟨fun i hi => (gi_sn (by unfold iS; omega)).trans (h.2.2.1.1 i hi), fun i hi => (gi_sn (by unfold iAA; omega)).trans (h.2.2.1.2.1 i hi), h.2.2.1.2.2.same fun i _ => gi_sn (by unfold iAA; omega)⟩
      exact ⟨s1, b1, FrL.s2.tr b2.p.l, (hCI s h).nx b2 ct, ct, hp.fr b2, (b2.1 32 2 (by omega)).trans gi_se⟩
    have hMk : ∀ z, MA cs tp z (k, P, nw, na, hs) → ∃ z1, F_X8_readsOn N (si z 1 2 (b2i (hs || decide (x = 4)))) = some ((), z1) ∧ FrN z z1 ∧ MI cs tp z1 k1.1 ∧ MT z1 k1 ∧ MP z1 P na ∧ gi z1 1 2 = b2i (hs || decide (x = 4)) := fun z h => by
      obtain ⟨z1, b1, b2, b3, -⟩ := a2 _ (hMI z h) (hM6 z h)
      have mt := b3 k1 rfl
      have hp : MP (si z 1 2 (b2i (hs || decide (x = 4)))) P na := ⟨fun i hi h34 => (gi_sn (by omega)).trans (h.2.2.1.1 i hi h34), (gi_sn (by omega)).trans h.2.2.1.2.1, fun i hi => (gi_sn (by omega)).trans (h.2.2.1.2.2 i hi)⟩
      exact ⟨z1, b1, FrN.s2.tr b2.q.n, (hMI z h).nx b2 mt, mt, hp.fr b2, (b2.1 1 2 (by omega)).trans gi_se⟩
    have hM1 : ∀ z, MA cs tp z (k, P, nw, na, hs) → ∀ z1, F_X8_readsOn N (si z 1 2 (b2i (hs || decide (x = 4)))) = some ((), z1) → MT z1 k1 → F_X8_readLine_96 N (nI x) (b2i (hs || decide (x = 4))) z = bd (F_X8_readMore N (nI x) z1) fun r_53 σ_54 => if (gi σ_54 1 6) = (0 : Int32) then if (gi σ_54 1 10) = (3 : Int32) then F_X8_readLine_136 N σ_54 else bd (F_X8_fails N (2 : Int32) σ_54) fun r_58 σ_59 => F_X8_readLine_136 N σ_59 else F_X8_readLine_136 N σ_54 := fun z h z1 b1 mt => by
      rw [hM0, b1, bd_s, mt.2.2.2.2, if_pos (by decide)]
    cases o2 with
    | inl e =>
      refine ⟨.inl e, fun s h => ?_, fun z h => ?_, fun S' hh => (by cases hh), fun e' he => (by cases he; exact c4 e rfl)⟩
      · obtain ⟨s1, b1, b2, b3, b4, b5, b6⟩ := hCk s h
        obtain ⟨s2, d1, d2, -⟩ := c1 s1 b3 b4 b5
        refine ⟨s2, ?_, b2.tr d2.l, fun S' hh => (by cases hh)⟩
        rw [hC0 s h, b1, bdx_l, d1]
        rfl
      · obtain ⟨z1, b1, b2, b3, b4, b5, b6⟩ := hMk z h
        obtain ⟨z2, d1, d2, -, d4⟩ := c2 z1 b3 b4 b5
        obtain ⟨f1, f2⟩ := d4 e rfl
        obtain ⟨f3, f4⟩ := c4 e rfl
        refine ⟨z2, ?_, b2.tr d2.n, fun S' hh => (by cases hh), fun e' he => (by cases he; exact ⟨f1, f2⟩)⟩
        rw [hM1 z h z1 b1 b4, d1, bd_s, f1, if_neg (nI_ne0 f3 (by omega)), m_136 f1 f3 f4]
    | inr S2 =>
      obtain ⟨k2, P2, nw2, na2⟩ := S2
      obtain ⟨u1, u2, u3, u4⟩ := c3 k2 P2 nw2 na2 rfl
      have hCk2 : ∀ s, CA cs tp s (k, P, nw, na, hs) → ∃ s2, FrL s s2 ∧ CI cs tp s2 k2.1 ∧ CT s2 k2 ∧ CP s2 P2 na2 ∧ gi s2 32 2 = b2i (hs || decide (x = 4)) ∧ F_X9_line_128 N (nI x) (b2i (decide (x = 4))) (b2i hs) s = (if (gi s2 32 5) = (3 : Int32) then F_X9_line_155 N (1 : Int32) s2 else F_X9_line_155 N (0 : Int32) s2) := fun s h => by
        obtain ⟨s1, b1, b2, b3, b4, b5, b6⟩ := hCk s h
        obtain ⟨s2, d1, d2, d3⟩ := c1 s1 b3 b4 b5
        obtain ⟨f1, f2⟩ := d3 _ _ _ _ rfl
        refine ⟨s2, b2.tr d2.l, b3.fr d2.l f1.1, f1, f2, (d2.1 32 2 (by omega) (by omega) (by omega)).trans b6, ?_⟩
        rw [hC0 s h, b1, bdx_l, d1]
        rfl
      have hMk2 : ∀ z, MA cs tp z (k, P, nw, na, hs) → ∃ z2, FrN z z2 ∧ MI cs tp z2 k2.1 ∧ MT z2 k2 ∧ MP z2 P2 na2 ∧ gi z2 1 2 = b2i (hs || decide (x = 4)) ∧ F_X8_readLine_96 N (nI x) (b2i (hs || decide (x = 4))) z = (if (gi z2 1 10) = (3 : Int32) then F_X8_readLine_136 N z2 else bd (F_X8_fails N (2 : Int32) z2) fun r_58 σ_59 => F_X8_readLine_136 N σ_59) := fun z h => by
        obtain ⟨z1, b1, b2, b3, b4, b5, b6⟩ := hMk z h
        obtain ⟨z2, d1, d2, d3, -⟩ := c2 z1 b3 b4 b5
        obtain ⟨f1, f2⟩ := d3 _ _ _ _ rfl
        refine ⟨z2, b2.tr d2.n, b3.fr d2.n f1.1, f1, f2, (d2.1 1 2 (by omega) (by omega)).trans b6, ?_⟩
        rw [hM1 z h z1 b1 b4, d1, bd_s, f1.2.2.2.2, if_pos rfl]
      have w3 := u1.2.2
      have tt := hT.1
      have w1 := u1.1
      have w2 := u1.2.1
      by_cases c9 : k2.2.2.1 = 3
      · have n3 : nI k2.2.2.1 = (3 : Int32) := by rw [c9]; rfl
        obtain ⟨o3, p1, p2, p3, p4⟩ := next_both (N := N) hN1 hT w2
        have q155 : ∀ s, F_X9_line_155 N 1 s = bdx (F_X9_next N s) (fun r_54 σ_55 => some (Sum.inl (), σ_55)) (fun x_57 σ_55 => some (Sum.inr x_57, σ_55)) := fun s => rfl
        cases o3 with
        | inl e =>
          refine ⟨.inl e, fun s h => ?_, fun z h => ?_, fun S' hh => (by cases hh), fun e' he => (by cases he; exact p4 e rfl)⟩
          · obtain ⟨s2, b1, b2, b3, b4, b5, b6⟩ := hCk2 s h
            obtain ⟨s3, d1, d2, -⟩ := p1 s2 b2
            refine ⟨s3, ?_, b1.tr d2.p.l, fun S' hh => (by cases hh)⟩
            rw [b6, b3.2.2.1, if_pos n3, q155, d1]
            rfl
          · obtain ⟨z2, b1, b2, b3, b4, b5, b6⟩ := hMk2 z h
            obtain ⟨z3, d1, d2, -, d4⟩ := p2 z2 b2 b3.2.2.2.2
            refine ⟨z3, ?_, b1.tr d2.q.n, fun S' hh => (by cases hh), fun e' he => (by cases he; exact d4 e rfl)⟩
            rw [b6, b3.2.2.1, if_pos n3]
            unfold F_X8_readLine_136
            rw [d1, bd_s]
        | inr k3 =>
          obtain ⟨v1, v2, v3⟩ := p3 k3 rfl
          refine ⟨.inr (k3, P2, nw2, na2, hs || decide (x = 4)), fun s h => ?_, fun z h => ?_, fun S' hh => ?_, fun e' he => (by cases he)⟩
          · obtain ⟨s2, b1, b2, b3, b4, b5, b6⟩ := hCk2 s h
            obtain ⟨s3, d1, d2, d3⟩ := p1 s2 b2
            refine ⟨s3, ?_, b1.tr d2.p.l, fun S' hh => ?_⟩
            · rw [b6, b3.2.2.1, if_pos n3, q155, d1]
              rfl
            · cases hh
              exact ⟨b2.nx d2 (d3 k3 rfl), d3 k3 rfl, b4.fr d2, (d2.1 32 2 (by omega)).trans b5⟩
          · obtain ⟨z2, b1, b2, b3, b4, b5, b6⟩ := hMk2 z h
            obtain ⟨z3, d1, d2, d3, -⟩ := p2 z2 b2 b3.2.2.2.2
            refine ⟨z3, ?_, b1.tr d2.q.n, fun S' hh => ?_, fun e' he => (by cases he)⟩
            · rw [b6, b3.2.2.1, if_pos n3]
              unfold F_X8_readLine_136
              rw [d1, bd_s]
            · cases hh
              exact ⟨b2.nx d2 (d3 k3 rfl), d3 k3 rfl, b4.fr d2, (d2.1 1 2 (by omega)).trans b5, h.2.2.2.2.fr (b1.tr d2.q.n)⟩
          · cases hh
            refine ⟨⟨v1, u4⟩, ?_⟩
            show k.1 < k3.1
            have t2' : k1.2.2.1 = 0 ∨ k.1 < k1.1 := t2
            omega
      · have n3 : ¬ nI k2.2.2.1 = (3 : Int32) := nI_eqL (b := 3) (by omega) (by omega) c9
        refine ⟨.inl (2, k2.2.1), fun s h => ?_, fun z h => ?_, fun S' hh => (by cases hh), fun e' he => (by cases he; exact ⟨by show 0 < 2; omega, by show 2 < 10; omega⟩)⟩
        · obtain ⟨s2, b1, b2, b3, b4, b5, b6⟩ := hCk2 s h
          refine ⟨s2, ?_, b1, fun S' hh => (by cases hh)⟩
          rw [b6, b3.2.2.1, if_neg n3]
          unfold F_X9_line_155
          rw [c_need0 b3.2.1, bdx_r]
          rfl
        · obtain ⟨z2, b1, b2, b3, b4, b5, b6⟩ := hMk2 z h
          have e6 : gi (si (si z2 1 6 2) 1 7 (nI k2.2.1)) 1 6 = nI 2 := (gi_sn (by omega)).trans gi_se
          refine ⟨si (si z2 1 6 2) 1 7 (nI k2.2.1), ?_, b1.tr FrM.fl.q.n, fun S' hh => (by cases hh), fun e' he => (by cases he; exact ⟨e6, gi_se⟩)⟩
          rw [b6, b3.2.2.1, if_neg n3, m_fails b3.2.2.2.2 b3.2.1, bd_s, m_136 e6 (by omega) (by omega)]
/-- a broken model goes through a line's rest unharmed -/
theorem m_61brk {N x c : Nat} {hs : Bool} {z : SS} (h : gi z 1 6 = nI c) (h0 : 0 < c) (h1 : c < 10) (h2 : gi z 1 2 = b2i hs) : ∃ z', F_X8_readLine_61 N (nI x) z = some ((), z') ∧ FrN z z' ∧ gi z' 1 6 = nI c ∧ gi z' 1 7 = gi z 1 7 := by
  have e96 : ∀ b : Bool, F_X8_readLine_96 N (nI x) (b2i b) z = some ((), si z 1 2 (b2i b)) := fun b => by
    have e6 : gi (si z 1 2 (b2i b)) 1 6 = nI c := (gi_sn (by omega)).trans h
    unfold F_X8_readLine_96
    rw [gd_t (b2i_01 b), nm_s, m_brk e6 h0 h1, bd_s, e6, if_neg (nI_nle h0 (by omega))]
  have hfin : ∀ b : Bool, ∃ z', some ((), si z 1 2 (b2i b)) = some ((), z') ∧ FrN z z' ∧ gi z' 1 6 = nI c ∧ gi z' 1 7 = gi z 1 7 := fun b => ⟨_, rfl, FrN.s2, (gi_sn (by omega)).trans h, gi_sn (by omega)⟩
  have e78 : ∃ b : Bool, F_X8_readLine_78 N (nI x) z = F_X8_readLine_96 N (nI x) (b2i b) z := by
    unfold F_X8_readLine_78 F_X8_readLine_91
    rw [h2]
    cases hs with
    | true => exact ⟨true, if_neg (by decide)⟩
    | false =>
      rw [if_pos (show b2i false = 0 from rfl)]
      by_cases c4 : nI x = 4
      · rw [if_pos c4]; exact ⟨true, rfl⟩
      · rw [if_neg c4]; exact ⟨false, rfl⟩
  have e61 : F_X8_readLine_61 N (nI x) z = F_X8_readLine_78 N (nI x) z := by
    unfold F_X8_readLine_61
    rw [m_failsNo h h0 h1, bd_s]
    by_cases c4 : nI x = 4
    · rw [if_pos c4]
      by_cases c5 : gi z 1 2 = 0
      · rw [if_pos c5]
      · rw [if_neg c5]
    · rw [if_neg c4]
  obtain ⟨b, eb⟩ := e78
  rw [e61, eb, e96 b]
  exact hfin b
theorem line_both {N tp : Nat} {cs : Nat → Nat} {S : St2} (hN1 : 1000 ≤ N) (hT : Tx cs tp) (hW : WA tp S) : ∃ o : (Nat × Nat) ⊕ St2, (∀ s, CA cs tp s S → ∃ s', F_X9_line N s = some (outU o, s') ∧ FrL s s' ∧ ∀ S', o = .inr S' → CA cs tp s' S') ∧ (∀ z, MA cs tp z S → ∃ z', F_X8_readLine N z = some ((), z') ∧ FrN z z' ∧ (∀ S', o = .inr S' → MA cs tp z' S') ∧ (∀ e, o = .inl e → gi z' 1 6 = nI e.1 ∧ gi z' 1 7 = nI e.2)) ∧ (∀ S', o = .inr S' → WA tp S' ∧ S.1.1 < S'.1.1) ∧ (∀ e, o = .inl e → 0 < e.1 ∧ e.1 < 10) := by
  have hxle := (fstB_le (cs := cs) (k := S.1) 8 0).2
  have hC : ∀ s, CA cs tp s S → F_X9_line N s = F_X9_line_22 N (nI (fstB cs S.1 8 0)) s := fun s h => c_line2 hN1 hT hW.1 h.1 h.2.1 N 8 0 rfl (by omega)
  have hM : ∀ z, MA cs tp z S → F_X8_nameHere N z = some (if fstB cs S.1 8 0 = 8 then -4 else nI (fstB cs S.1 8 0), z) := fun z h => m_name2 hN1 hT hW.1 h.1 h.2.1 h.2.2.2.2 N 8 0 rfl (by omega)
  generalize fstB cs S.1 8 0 = x at hxle hC hM
  obtain ⟨M, hF, -⟩ := id hW.2
  have hnw := hF.1
  have hna := hF.2.2.1
  have c16 : ∀ s, CA cs tp s S → gi s (iS 4) 16 = nI S.2.2.1 := fun s h => (h.2.2.1.1 16 rfl).trans hF.2.1
  have c33 : ∀ s, CA cs tp s S → gi s (iS 4) 33 = nI S.2.2.2.1 := fun s h => (h.2.2.1.1 33 rfl).trans hF.2.2.2.1
  have m16 : ∀ z, MA cs tp z S → gi z 22 16 = nI S.2.2.1 := fun s h => (h.2.2.1.1 16 rfl (by omega)).trans hF.2.1
  have m33 : ∀ z, MA cs tp z S → gi z 22 33 = nI S.2.2.2.1 := fun s h => (h.2.2.1.1 33 rfl (by omega)).trans hF.2.2.2.1
  by_cases x8 : x = 8
  · subst x8
    refine ⟨.inl (2, S.1.2.1), fun s h => ?_, fun z h => ?_, fun S' hh => (by cases hh), fun e' he => (by cases he; exact ⟨by show 0 < 2; omega, by show 2 < 10; omega⟩)⟩
    · refine ⟨s, ?_, FrL.rf s, fun S' hh => (by cases hh)⟩
      rw [hC s h]
      unfold F_X9_line_22 F_X9_line_34
      rw [if_pos (by decide), c_need0 h.2.1.2.1, bdx_r]
      rfl
    · refine ⟨si (si z 1 6 2) 1 7 (nI S.1.2.1), ?_, FrM.fl.q.n, fun S' hh => (by cases hh), fun e' he => (by cases he; exact ⟨(gi_sn (by omega)).trans gi_se, gi_se⟩)⟩
      unfold F_X8_readLine
      rw [hM z h, if_pos rfl, bd_s, m_in_e, in_e, if_neg (by decide), bd_s, if_pos rfl, m_fails h.2.1.2.2.2.2 h.2.1.2.1, bd_s]
  · have hx : x < 8 := by omega
    have cC : ∀ s, CA cs tp s S → F_X9_line N s = (if (4 : Int32) ≤ nI x then F_X9_line_55 N (nI x) s else if (4 : Int32) ≤ nI S.2.2.1 then F_X9_line_60 N (nI x) (0 : Int32) s else F_X9_line_55 N (nI x) s) := fun s h => by
      rw [hC s h]
      unfold F_X9_line_22 F_X9_line_34
      rw [if_neg (show ¬ (7 : Int32) < nI x from nI_nlt (a := 7) (by omega) (by omega)), c_need1, bdx_l, c16 s h]
    have mM : ∀ z, MA cs tp z S → F_X8_readLine N z = (if (3 : Int32) < nI x then F_X8_readLine_39 N (nI x) z else if nI S.2.2.1 = (4 : Int32) then F_X8_readLine_56 N (nI x) z else F_X8_readLine_39 N (nI x) z) := fun z h => by
      unfold F_X8_readLine
      have hin : F_X0_in N (nI x).toInt64 0 7 z = some (1, z) := in_1 (a := 0) (b := 8) (by decide) (by decide) (by decide) ⟨x, Nat.zero_le _, hx, rfl⟩
      rw [hM z h, if_neg x8, bd_s, m_in_e, hin, bd_s, if_neg e10]
      simp only [gd_t q16, lc16, m16 z h]
    have e5 : ∀ z, MA cs tp z S → F_X8_readLine_56 N (nI x) z = F_X8_readLine_61 N (nI x) (si (si z 1 6 5) 1 7 (nI S.1.2.1)) := fun z h => by
      unfold F_X8_readLine_56
      rw [m_fails h.2.1.2.2.2.2 h.2.1.2.1, bd_s]
    -- a failing line of the model
    have mf : ∀ (c : Nat) z, MA cs tp z S → 0 < c → c < 10 → ∃ z', F_X8_readLine_61 N (nI x) (si (si z 1 6 (nI c)) 1 7 (nI S.1.2.1)) = some ((), z') ∧ FrN z z' ∧ gi z' 1 6 = nI c ∧ gi z' 1 7 = nI S.1.2.1 := fun c z h h0 h1 => by
      have e6 : gi (si (si z 1 6 (nI c)) 1 7 (nI S.1.2.1)) 1 6 = nI c := (gi_sn (by omega)).trans gi_se
      have e2 : gi (si (si z 1 6 (nI c)) 1 7 (nI S.1.2.1)) 1 2 = b2i S.2.2.2.2 := (gi_sn (by omega)).trans ((gi_sn (by omega)).trans h.2.2.2.1)
      obtain ⟨z', b1, b2, b3, b4⟩ := m_61brk (N := N) (x := x) e6 h0 h1 e2
      exact ⟨z', b1, FrM.fl.q.n.tr b2, b3, b4.trans gi_se⟩
    by_cases f5 : (x < 4 ∧ S.2.2.1 = 4) ∨ (5 ≤ x ∧ S.2.2.2.1 = 16)
    · refine ⟨.inl (5, S.1.2.1), fun s h => ?_, fun z h => ?_, fun S' hh => (by cases hh), fun e' he => (by cases he; exact ⟨by show 0 < 5; omega, by show 5 < 10; omega⟩)⟩
      · refine ⟨s, ?_, FrL.rf s, fun S' hh => (by cases hh)⟩
        rw [cC s h]
        rcases f5 with ⟨g1, g2⟩ | ⟨g1, g2⟩
        · rw [if_neg (show ¬ (4 : Int32) ≤ nI x from nI_ge (b := 4) g1 (by omega)), if_pos (show (4 : Int32) ≤ nI S.2.2.1 from nI_le (a := 4) (by omega) (by omega))]
          unfold F_X9_line_60
          rw [c_need0 h.2.1.2.1, bdx_r]
          rfl
        · rw [if_pos (show (4 : Int32) ≤ nI x from nI_le (a := 4) (by omega) (by omega))]
          unfold F_X9_line_55 F_X9_line_60
          rw [c_need1, bdx_l, if_neg (show ¬ nI x < (5 : Int32) from nI_nlt (b := 5) (by omega) (by omega)), c33 s h, if_pos (show (16 : Int32) ≤ nI S.2.2.2.1 from nI_le (a := 16) (by omega) (by omega))]
          unfold F_X9_line_87
          rw [c_need0 h.2.1.2.1, bdx_r]
          rfl
      · obtain ⟨z', b1, b2, b3, b4⟩ := mf 5 z h (by omega) (by omega)
        refine ⟨z', ?_, b2, fun S' hh => (by cases hh), fun e' he => (by cases he; exact ⟨b3, b4⟩)⟩
        rw [mM z h]
        rcases f5 with ⟨g1, g2⟩ | ⟨g1, g2⟩
        · rw [if_neg (show ¬ (3 : Int32) < nI x from nI_nlt (a := 3) (by omega) (by omega)), if_pos (show nI S.2.2.1 = (4 : Int32) by rw [g2]; rfl), e5 z h]
          exact b1
        · rw [if_pos (show (3 : Int32) < nI x from nI_lt (a := 3) (by omega) (by omega))]
          unfold F_X8_readLine_39
          rw [if_neg (show ¬ nI x < (5 : Int32) from nI_nlt (b := 5) (by omega) (by omega))]
          simp only [gd_t q33, lc33, m33 z h]
          rw [if_pos (show nI S.2.2.2.1 = (16 : Int32) by rw [g2]; rfl), e5 z h]
          exact b1
    · have cC2 : ∀ s, CA cs tp s S → F_X9_line N s = (if nI x = (4 : Int32) then if b2i S.2.2.2.2 = 0 then F_X9_line_104 N (nI x) s else F_X9_line_109 N (nI x) (0 : Int32) s else F_X9_line_104 N (nI x) s) := fun s h => by
        have e87 : F_X9_line_82 N (nI x) s = (if nI x = (4 : Int32) then if b2i S.2.2.2.2 = 0 then F_X9_line_104 N (nI x) s else F_X9_line_109 N (nI x) (0 : Int32) s else F_X9_line_104 N (nI x) s) := by
          unfold F_X9_line_82 F_X9_line_87
          rw [c_need1, bdx_l, h.2.2.2]
        have e55 : F_X9_line_55 N (nI x) s = F_X9_line_82 N (nI x) s := by
          unfold F_X9_line_55 F_X9_line_60
          rw [c_need1, bdx_l]
          by_cases g5 : x < 5
          · rw [if_pos (show nI x < (5 : Int32) from nI_lt (b := 5) g5 (by omega))]
          · rw [if_neg (show ¬ nI x < (5 : Int32) from nI_nlt (b := 5) (by omega) (by omega)), c33 s h, if_neg (show ¬ (16 : Int32) ≤ nI S.2.2.2.1 from nI_ge (b := 16) (by omega) (by omega))]
        rw [cC s h, ← e87, ← e55]
        by_cases g4 : x < 4
        · rw [if_neg (show ¬ (4 : Int32) ≤ nI x from nI_ge (b := 4) g4 (by omega)), if_neg (show ¬ (4 : Int32) ≤ nI S.2.2.1 from nI_ge (b := 4) (by omega) (by omega))]
        · rw [if_pos (show (4 : Int32) ≤ nI x from nI_le (a := 4) (by omega) (by omega))]
      have mM2 : ∀ z, MA cs tp z S → F_X8_readLine N z = F_X8_readLine_61 N (nI x) z := fun z h => by
        have e39 : F_X8_readLine_39 N (nI x) z = F_X8_readLine_61 N (nI x) z := by
          unfold F_X8_readLine_39
          by_cases g5 : x < 5
          · rw [if_pos (show nI x < (5 : Int32) from nI_lt (b := 5) g5 (by omega))]
          · rw [if_neg (show ¬ nI x < (5 : Int32) from nI_nlt (b := 5) (by omega) (by omega))]
            simp only [gd_t q33, lc33, m33 z h]
            rw [if_neg (show ¬ nI S.2.2.2.1 = (16 : Int32) from nI_eqL (b := 16) (by omega) (by omega) (by omega))]
        rw [mM z h, e39]
        by_cases g4 : x < 4
        · rw [if_neg (show ¬ (3 : Int32) < nI x from nI_nlt (a := 3) (by omega) (by omega)), if_neg (show ¬ nI S.2.2.1 = (4 : Int32) from nI_eqL (b := 4) (by omega) (by omega) (by omega))]
        · rw [if_pos (show (3 : Int32) < nI x from nI_lt (a := 3) (by omega) (by omega))]
      by_cases f4 : x = 4 ∧ S.2.2.2.2 = true
      · obtain ⟨g1, g2⟩ := f4
        have n4 : nI x = (4 : Int32) := by rw [g1]; rfl
        refine ⟨.inl (4, S.1.2.1), fun s h => ?_, fun z h => ?_, fun S' hh => (by cases hh), fun e' he => (by cases he; exact ⟨by show 0 < 4; omega, by show 4 < 10; omega⟩)⟩
        · refine ⟨s, ?_, FrL.rf s, fun S' hh => (by cases hh)⟩
          rw [cC2 s h, if_pos n4, g2, if_neg (show ¬ b2i true = 0 by decide)]
          unfold F_X9_line_109
          rw [c_need0 h.2.1.2.1, bdx_r]
          rfl
        · have e6 : gi (si (si z 1 6 (nI 4)) 1 7 (nI S.1.2.1)) 1 6 = nI 4 := (gi_sn (by omega)).trans gi_se
          obtain ⟨z', b1, b2, b3, b4⟩ := mf 4 z h (by omega) (by omega)
          refine ⟨z', ?_, b2, fun S' hh => (by cases hh), fun e' he => (by cases he; exact ⟨b3, b4⟩)⟩
          have e2 : gi (si (si z 1 6 (nI 4)) 1 7 (nI S.1.2.1)) 1 2 = b2i true := (gi_sn (by omega)).trans ((gi_sn (by omega)).trans (h.2.2.2.1.trans (by rw [g2])))
          have b1' := b1
          unfold F_X8_readLine_61 at b1'
          rw [if_pos n4, e2, if_neg (show ¬ b2i true = 0 by decide), m_failsNo e6 (by omega) (by omega), bd_s] at b1'
          rw [mM2 z h]
          unfold F_X8_readLine_61
          rw [if_pos n4, h.2.2.2.1, g2, if_neg (show ¬ b2i true = 0 by decide), m_fails h.2.1.2.2.2.2 h.2.1.2.1, bd_s]
          exact b1'
      · obtain ⟨o, o1, o2, o3, o4⟩ := body_both (N := N) (x := x) hN1 hT hW hx (by omega) (by omega)
        refine ⟨o, fun s h => ?_, fun z h => ?_, o3, o4⟩
        · obtain ⟨s', b1, b2, b3⟩ := o1 s h
          refine ⟨s', ?_, b2, b3⟩
          have e104 : F_X9_line_104 N (nI x) s = F_X9_line_128 N (nI x) (b2i (decide (x = 4))) (b2i S.2.2.2.2) s := by
            unfold F_X9_line_104 F_X9_line_109
            rw [c_need1, bdx_l, h.2.2.2]
            by_cases g4 : x = 4
            · rw [if_pos (show nI x = (4 : Int32) by rw [g4]; rfl), decide_eq_true g4]; rfl
            · rw [if_neg (show ¬ nI x = (4 : Int32) from nI_eqL (b := 4) (by omega) (by omega) g4), decide_eq_false g4]; rfl
          rw [cC2 s h, ← b1, ← e104]
          by_cases g4 : x = 4
          · have hf : S.2.2.2.2 = false := by
              cases hb : S.2.2.2.2 with
              | false => rfl
              | true => exact absurd ⟨g4, hb⟩ f4
            rw [if_pos (show nI x = (4 : Int32) by rw [g4]; rfl), hf, if_pos (show b2i false = 0 from rfl)]
          · rw [if_neg (show ¬ nI x = (4 : Int32) from nI_eqL (b := 4) (by omega) (by omega) g4)]
        · obtain ⟨z', b1, b2, b3, b4⟩ := o2 z h
          refine ⟨z', ?_, b2, b3, b4⟩
          rw [mM2 z h, ← b1]
          unfold F_X8_readLine_61 F_X8_readLine_78 F_X8_readLine_91
          rw [h.2.2.2.1]
          by_cases g4 : x = 4
          · have hf : S.2.2.2.2 = false := by
              cases hb : S.2.2.2.2 with
              | false => rfl
              | true => exact absurd ⟨g4, hb⟩ f4
            have n4 : nI x = (4 : Int32) := by rw [g4]; rfl
            rw [hf, if_pos n4, if_pos (show b2i false = 0 from rfl), if_pos (show b2i false = 0 from rfl), if_pos n4, decide_eq_true g4]
            rfl
          · have n4 : ¬ nI x = (4 : Int32) := nI_eqL (b := 4) (by omega) (by omega) g4
            rw [if_neg n4, if_neg n4, decide_eq_false g4, Bool.or_false]
            cases hb : S.2.2.2.2 with
            | false => rw [if_pos (show b2i false = 0 from rfl)]; rfl
            | true => rw [if_neg (show ¬ b2i true = 0 by decide)]; rfl
/-- what comes of all lines: failed, or so many and a page -/
abbrev Ot : Type := (Nat × Nat) ⊕ (Nat × Pg × Nat × Nat)
def outN (cnt : Int32) (o : Ot) : Int32 ⊕ XI := match o with
  | .inl e => .inr (5, nI e.1, nI e.2)
  | .inr p => .inl (cnt + nI p.1)
theorem lines_both {N tp : Nat} {cs : Nat → Nat} (hN1 : 1000 ≤ N) (hT : Tx cs tp) : ∀ (d : Nat) (S : St2), tp - S.1.1 ≤ d → WA tp S → ∃ o : Ot, (∀ m cnt s, d < m → CA cs tp s S → ∃ s', F_X9_lines_2 N m cnt s = some (outN cnt o, s') ∧ FrL s s' ∧ ∀ n P' nw' na', o = .inr (n, P', nw', na') → CP s' P' na') ∧ (∀ m cnt z, d + 1 < m → MA cs tp z S → ∃ z' cnt', F_X8_text_42 N m cnt z = F_X8_text_66 N cnt' z' ∧ FrN z z' ∧ (∀ n P' nw' na', o = .inr (n, P', nw', na') → MP z' P' na' ∧ gi z' 1 6 = 0 ∧ cnt' = cnt + nI n) ∧ (∀ e, o = .inl e → gi z' 1 6 = nI e.1 ∧ gi z' 1 7 = nI e.2)) ∧ (∀ n P' nw' na', o = .inr (n, P', nw', na') → PO P' nw' na') ∧ (∀ e, o = .inl e → 0 < e.1 ∧ e.1 < 10) := by
  have tt := hT.1
  intro d
  induction d with
  | zero =>
    intro S hd hW
    -- nothing is left: a token is the end, or a line fails
    have w2 := hW.1.2.1
    have w3 := hW.1.2.2
    by_cases c0 : S.1.2.2.1 = 0
    · have n0 : nI S.1.2.2.1 = (0 : Int32) := by rw [c0]; rfl
      refine ⟨.inr (0, S.2.1, S.2.2.1, S.2.2.2.1), fun m cnt s hm h => ?_, fun m cnt z hm h => ?_, fun n P' nw' na' hh => (by cases hh; exact hW.2), fun e he => (by cases he)⟩
      · obtain ⟨m', rfl⟩ : ∃ m', m = m' + 1 := ⟨m - 1, by omega⟩
        refine ⟨s, ?_, FrL.rf s, fun n P' nw' na' hh => (by cases hh; exact h.2.2.1)⟩
        show B_X9_lines_2 N (F_X9_lines_2 N m') cnt s = some (Sum.inl (cnt + 0), s)
        unfold B_X9_lines_2
        rw [h.2.1.2.2.1, if_pos n0, Int32.add_zero]
      · obtain ⟨m', rfl⟩ : ∃ m', m = m' + 1 := ⟨m - 1, by omega⟩
        refine ⟨z, cnt, ?_, FrN.rf z, fun n P' nw' na' hh => (by cases hh; exact ⟨h.2.2.1, h.2.1.2.2.2.2, (Int32.add_zero _).symm⟩), fun e he => (by cases he)⟩
        show B_X8_text_42 N (F_X8_text_42 N m') cnt z = _
        unfold B_X8_text_42
        rw [h.2.1.2.2.2.2, if_pos rfl, h.2.1.2.2.1, if_pos n0]
    · have n0 : ¬ nI S.1.2.2.1 = (0 : Int32) := nI_ne0 (by omega) (by omega)
      obtain ⟨o, o1, o2, o3, o4⟩ := line_both (N := N) hN1 hT hW
      cases o with
      | inr S' =>
        obtain ⟨v1, v2⟩ := o3 S' rfl
        have := v1.1.2.1
        omega
      | inl e =>
        refine ⟨.inl e, fun m cnt s hm h => ?_, fun m cnt z hm h => ?_, fun n P' nw' na' hh => (by cases hh), fun e' he => (by cases he; exact o4 e rfl)⟩
        · obtain ⟨m', rfl⟩ : ∃ m', m = m' + 1 := ⟨m - 1, by omega⟩
          obtain ⟨s', b1, b2, -⟩ := o1 s h
          refine ⟨s', ?_, b2, fun n P' nw' na' hh => (by cases hh)⟩
          show B_X9_lines_2 N (F_X9_lines_2 N m') cnt s = _
          unfold B_X9_lines_2
          rw [h.2.1.2.2.1, if_neg n0, b1]
          rfl
        · obtain ⟨m', rfl⟩ : ∃ m', m = m' + 2 := ⟨m - 2, by omega⟩
          obtain ⟨z', b1, b2, -, b4⟩ := o2 z h
          obtain ⟨d1, d2⟩ := b4 e rfl
          refine ⟨z', cnt + 1, ?_, b2, fun n P' nw' na' hh => (by cases hh), fun e' he => (by cases he; exact ⟨d1, d2⟩)⟩
          show B_X8_text_42 N (F_X8_text_42 N (m' + 1)) cnt z = _
          unfold B_X8_text_42
          rw [h.2.1.2.2.2.2, if_pos rfl, h.2.1.2.2.1, if_neg n0, b1, bd_s, nm_s]
          show B_X8_text_42 N (F_X8_text_42 N m') (cnt + 1) z' = _
          unfold B_X8_text_42
          rw [d1, if_neg (nI_ne0 (o4 e rfl).1 (by have := (o4 e rfl).2; omega))]
  | succ d ih =>
    intro S hd hW
    have w2 := hW.1.2.1
    have w3 := hW.1.2.2
    by_cases c0 : S.1.2.2.1 = 0
    · have n0 : nI S.1.2.2.1 = (0 : Int32) := by rw [c0]; rfl
      refine ⟨.inr (0, S.2.1, S.2.2.1, S.2.2.2.1), fun m cnt s hm h => ?_, fun m cnt z hm h => ?_, fun n P' nw' na' hh => (by cases hh; exact hW.2), fun e he => (by cases he)⟩
      · obtain ⟨m', rfl⟩ : ∃ m', m = m' + 1 := ⟨m - 1, by omega⟩
        refine ⟨s, ?_, FrL.rf s, fun n P' nw' na' hh => (by cases hh; exact h.2.2.1)⟩
        show B_X9_lines_2 N (F_X9_lines_2 N m') cnt s = some (Sum.inl (cnt + 0), s)
        unfold B_X9_lines_2
        rw [h.2.1.2.2.1, if_pos n0, Int32.add_zero]
      · obtain ⟨m', rfl⟩ : ∃ m', m = m' + 1 := ⟨m - 1, by omega⟩
        refine ⟨z, cnt, ?_, FrN.rf z, fun n P' nw' na' hh => (by cases hh; exact ⟨h.2.2.1, h.2.1.2.2.2.2, (Int32.add_zero _).symm⟩), fun e he => (by cases he)⟩
        show B_X8_text_42 N (F_X8_text_42 N m') cnt z = _
        unfold B_X8_text_42
        rw [h.2.1.2.2.2.2, if_pos rfl, h.2.1.2.2.1, if_pos n0]
    · have n0 : ¬ nI S.1.2.2.1 = (0 : Int32) := nI_ne0 (by omega) (by omega)
      obtain ⟨o, o1, o2, o3, o4⟩ := line_both (N := N) hN1 hT hW
      cases o with
      | inl e =>
        refine ⟨.inl e, fun m cnt s hm h => ?_, fun m cnt z hm h => ?_, fun n P' nw' na' hh => (by cases hh), fun e' he => (by cases he; exact o4 e rfl)⟩
        · obtain ⟨m', rfl⟩ : ∃ m', m = m' + 1 := ⟨m - 1, by omega⟩
          obtain ⟨s', b1, b2, -⟩ := o1 s h
          refine ⟨s', ?_, b2, fun n P' nw' na' hh => (by cases hh)⟩
          show B_X9_lines_2 N (F_X9_lines_2 N m') cnt s = _
          unfold B_X9_lines_2
          rw [h.2.1.2.2.1, if_neg n0, b1]
          rfl
        · obtain ⟨m', rfl⟩ : ∃ m', m = m' + 2 := ⟨m - 2, by omega⟩
          obtain ⟨z', b1, b2, -, b4⟩ := o2 z h
          obtain ⟨d1, d2⟩ := b4 e rfl
          refine ⟨z', cnt + 1, ?_, b2, fun n P' nw' na' hh => (by cases hh), fun e' he => (by cases he; exact ⟨d1, d2⟩)⟩
          show B_X8_text_42 N (F_X8_text_42 N (m' + 1)) cnt z = _
          unfold B_X8_text_42
          rw [h.2.1.2.2.2.2, if_pos rfl, h.2.1.2.2.1, if_neg n0, b1, bd_s, nm_s]
          show B_X8_text_42 N (F_X8_text_42 N m') (cnt + 1) z' = _
          unfold B_X8_text_42
          rw [d1, if_neg (nI_ne0 (o4 e rfl).1 (by have := (o4 e rfl).2; omega))]
      | inr S' =>
        obtain ⟨v1, v2⟩ := o3 S' rfl
        obtain ⟨o', p1, p2, p3, p4⟩ := ih S' (by omega) v1
        have ec : ∀ cnt : Int32, ∀ n : Nat, cnt + 1 + nI n = cnt + nI (n + 1) := fun cnt n => by
          rw [Int32.add_assoc, Int32.add_comm 1 (nI n), show nI n + 1 = nI (n + 1) from nI_1 n]
        refine ⟨match o' with | .inl e => .inl e | .inr p => .inr (p.1 + 1, p.2), fun m cnt s hm h => ?_, fun m cnt z hm h => ?_, fun n P' nw' na' hh => ?_, fun e' he => ?_⟩
        · obtain ⟨m', rfl⟩ : ∃ m', m = m' + 1 := ⟨m - 1, by omega⟩
          obtain ⟨s1, b1, b2, b3⟩ := o1 s h
          obtain ⟨s2, d1, d2, d3⟩ := p1 m' (cnt + 1) s1 (by omega) (b3 S' rfl)
          refine ⟨s2, ?_, b2.tr d2, fun n P' nw' na' hh => ?_⟩
          · show B_X9_lines_2 N (F_X9_lines_2 N m') cnt s = _
            unfold B_X9_lines_2
            rw [h.2.1.2.2.1, if_neg n0, b1]
            show F_X9_lines_2 N m' (cnt + 1) s1 = _
            rw [d1]
            cases o' with
            | inl e => rfl
            | inr p =>
              show some (Sum.inl (cnt + 1 + nI p.1), s2) = some (Sum.inl (cnt + nI (p.1 + 1)), s2)
              rw [ec]
          · cases o' with
            | inl e => cases hh
            | inr p => obtain ⟨q1, q2, q3, q4⟩ := p; cases hh; exact d3 _ _ _ _ rfl
        · obtain ⟨m', rfl⟩ : ∃ m', m = m' + 1 := ⟨m - 1, by omega⟩
          obtain ⟨z1, b1, b2, b3, -⟩ := o2 z h
          obtain ⟨z2, cnt', d1, d2, d3, d4⟩ := p2 m' (cnt + 1) z1 (by omega) (b3 S' rfl)
          refine ⟨z2, cnt', ?_, b2.tr d2, fun n P' nw' na' hh => ?_, fun e' he => ?_⟩
          · show B_X8_text_42 N (F_X8_text_42 N m') cnt z = _
            unfold B_X8_text_42
            rw [h.2.1.2.2.2.2, if_pos rfl, h.2.1.2.2.1, if_neg n0, b1, bd_s, nm_s]
            exact d1
          · cases o' with
            | inl e => cases hh
            | inr p =>
              obtain ⟨q1, q2, q3, q4⟩ := p
              cases hh
              obtain ⟨f1, f2, f3⟩ := d3 _ _ _ _ rfl
              exact ⟨f1, f2, f3.trans (ec cnt _)⟩
          · cases o' with
            | inl e => cases he; exact d4 _ rfl
            | inr p => cases he
        · cases o' with
          | inl e => cases hh
          | inr p => obtain ⟨q1, q2, q3, q4⟩ := p; cases hh; exact p3 _ _ _ _ rfl
        · cases o' with
          | inl e => cases he; exact p4 _ rfl
          | inr p => cases he
