/-! THE PURE LAW: one dies, one lives a month, a month passes -/
theorem upF_eq {f : Nat → Nat → Nat} {p w v : Nat} : upF f p w v p w = v := if_pos ⟨rfl, rfl⟩
theorem upF_ne {f : Nat → Nat → Nat} {p w v p' w' : Nat} (h : p' ≠ p ∨ w' ≠ w) : upF f p w v p' w' = f p' w' := if_neg (by omega)
/-- a number within its bound is put -/
theorem RowC.up {L P mo : Nat} {f : Nat → Nat → Nat} (h : RowC L P mo f) {p w v : Nat} (hp : p < P) (hv : (w = 0 → v < L) ∧ (w = 1 → v ≤ 9999) ∧ (w = 2 → v ≤ 9999) ∧ (w = 3 → v ≤ 4) ∧ (w = 4 → v ≤ 9) ∧ (w = 5 → v ≤ mo) ∧ (w = 6 → v ≤ 3)) : RowC L P mo (upF f p w v) := by
  refine ⟨fun p' hp' => ?_, fun p' w' h1 h2 h3 => by rw [upF_ne (by omega)]; exact h.2 p' w' h1 h2 h3⟩
  obtain ⟨a0, a1, a2, a3, a4, a5, a6⟩ := h.1 p' hp'
  have e : ∀ w' : Nat, upF f p w v p' w' = if p' = p ∧ w' = w then v else f p' w' := fun w' => rfl
  rw [e, e, e, e, e, e, e]
  refine ⟨?_, ?_, ?_, ?_, ?_, ?_, ?_⟩
  · split
    · exact hv.1 (by omega)
    · exact a0
  · split
    · exact hv.2.1 (by omega)
    · exact a1
  · split
    · exact hv.2.2.1 (by omega)
    · exact a2
  · split
    · exact hv.2.2.2.1 (by omega)
    · exact a3
  · split
    · exact hv.2.2.2.2.1 (by omega)
    · exact a4
  · split
    · exact hv.2.2.2.2.2.1 (by omega)
    · exact a5
  · split
    · exact hv.2.2.2.2.2.2 (by omega)
    · exact a6
theorem RowC.mono {L P mo mo' : Nat} {f : Nat → Nat → Nat} (h : RowC L P mo f) (hm : mo ≤ mo') : RowC L P mo' f := ⟨fun p hp => by have := h.1 p hp; omega, h.2⟩
theorem cut_E {k top : Nat} (hk : k < 2147483648) (ht : top < 2147483648) : M_cut (nI k).toInt64 0 (nI top) = some (nI (min k top)) := by
  have h0 : ((0 : Int32).toInt64).toInt = 0 := by decide
  have h1 : ((nI top).toInt64).toInt = (top : Int) := by rw [Int32.toInt_toInt64, nI_toInt' ht]
  have h2 : ((nI k).toInt64).toInt = (k : Int) := by rw [Int32.toInt_toInt64, nI_toInt' hk]
  unfold M_cut
  rw [if_pos (cmp_ge.mpr (by rw [h0, h2]; omega))]
  by_cases c : k ≤ top
  · rw [if_pos (cmp_le.mpr (by rw [h1, h2]; omega))]
    refine congrArg some (Int32.toInt_inj.mp ?_)
    rw [nI_toInt' (by omega), Int64.toInt_toInt32, h2, Int.bmod_eq_of_le (by omega) (by omega)]
    omega
  · rw [if_neg (fun q => c (by have := cmp_le.mp q; rw [h1, h2] at this; omega))]
    congr 2
    omega
theorem min_E {k top : Nat} (hk : k < 2147483648) (ht : top < 2147483648) : (if nI k < nI top then nI k else nI top) = nI (min k top) := by
  by_cases c : k < top
  · rw [if_pos ((nI_lt' hk ht).mpr c), Nat.min_eq_left (by omega)]
  · rw [if_neg (fun q => c ((nI_lt' hk ht).mp q)), Nat.min_eq_right (by omega)]
section PASS
variable {B S : Nat} {wk : Nat → Nat} {cStep : Nat → Nat → Int32} {isW b m d : Nat} {f : Nat → Nat → Nat} {row cA : Nat → Int32}
theorem dies2 (h : RWS B S wk cStep isW (b + 1) m d f row cA) (hB : B < 2147483648) (hS : S ≤ 30) (hm : m ≤ 9999) {p w sD : Nat} (hp : p < 6) (hw : w < 8) : ∃ row' cA' : Nat → Int32, X_dies row (nI p) (nI w) = some row' ∧ M_die (nI isW) (nI sD) cA (nI p) (nI w) = some (nI (sD + 1), cA') ∧ RWS B S wk cStep isW b m d (upF f p 6 3) row' cA' ∧ Fr0 cA cA' := by
  obtain ⟨r1, c1, x1, m1, h1, f1⟩ := put2 (w := 6) (v := 3) h hp (by omega)
  obtain ⟨r2, c2, x2, m2, h2, f2⟩ := write2 (p := p) (w := w) h1 hB hS hm (by omega) hw
  refine ⟨r2, c2, ?_, ?_, h2, f1.tr f2⟩
  · unfold X_dies
    simp only [litI]
    rw [x1, bd1_some, x2, bd1_some]
  · unfold M_die
    simp only [litI]
    rw [m1, bd1_some, m2, bd1_some, lt_def, nI_add]
end PASS
section LIVES
variable {B S : Nat} {wk : Nat → Nat} {cStep : Nat → Nat → Int32} {isW b m d : Nat} {f : Nat → Nat → Nat} {row cA : Nat → Int32}
variable {q : Nat → Nat} {cN cFor cRoad cFear cTx cNames nm tr : Nat → Int32} {va : Nat → Int64} {cText : Nat → Option Nat} {E : Nat → Option (Nat → Option EvS)} {zN φ : Nat}
theorem lives2 (h : RWS B S wk cStep isW (b + 1) m d f row cA) (hB : B < 2147483648) (hS : S ≤ 30) (hE : EnvR q cN cFor cRoad cFear cA) (hC : RowC (q 0) (q 1) (m + 1) f) (hm : m + 1 ≤ 9999) (hd : d < 30469) (hφ : 400 < φ) (hT : TR E zN (q 2) cText cTx) {p sD : Nat} (hp : p < q 1) (hOut : f p 5 ≤ m) (h1 : f p 6 = 1) : ∃ (r d' : Nat) (f' : Nat → Nat → Nat) (row' cA' v nm' : Nat → Int32) (va' : Nat → Int64) (tr' : Nat → Int32), r ≤ 1 ∧ X_lives φ cNames cN row cFor cFear cText E zN (nI p) = some (nI (1 - r), v, row') ∧ M_live φ (nI isW) (nI sD) cA cTx nm va tr (nI p) = some (nI (sD + r), cA', nm', va', tr') ∧ RWS B S wk cStep isW b m d' f' row' cA' ∧ Fr0 cA cA' ∧ RowC (q 0) (q 1) (m + 1) f' ∧ d' < 30469 ∧ ∀ p' w : Nat, p' ≠ p → f' p' w = f p' w := by
  have p3 := hE.1.P.2.2
  obtain ⟨r, hr, hall⟩ := hungers2 hE h.1.x h.1.m hC (by omega) hm hφ hT hp
  obtain ⟨v, nm1, va1, tr1, x1, m1⟩ := hall cNames nm va tr
  obtain ⟨a0, a1, a2, a3, a4, a5, a6⟩ := hC.1 p hp
  obtain ⟨row1, cA1, x2, m2, h2, f2⟩ := put2 (w := 4) (v := min (f p 4 + r) 9) h (show p < 6 by omega) (by omega)
  have hC2 : RowC (q 0) (q 1) (m + 1) (upF f p 4 (min (f p 4 + r) 9)) := hC.up hp ⟨by omega, by omega, by omega, by omega, by omega, by omega, by omega⟩
  have hE2 := hE.fr f2
  have hp6 : p < 6 := by omega
  have x3 := X_at_R h2.1 (p := p) (w := 4) hp6 (by omega)
  have m3 := M_get_R h2.1 (p := p) (w := 4) hp6 (by omega)
  rw [upF_eq] at x3 m3
  have x4 := X_at_R h.1 (p := p) (w := 4) hp6 (by omega)
  have m4 := M_get_R h.1 (p := p) (w := 4) hp6 (by omega)
  have m6 := M_get_R h.1 (p := p) (w := 6) hp6 (by omega)
  rw [h1] at m6
  have hM0 : ∀ K, M_live φ (nI isW) (nI sD) cA cTx nm va tr (nI p) = K → True := fun _ _ => trivial
  have hMl : M_live φ (nI isW) (nI sD) cA cTx nm va tr (nI p) = (if nI (min (f p 4 + r) 9) = nI 9 then (bd2 (M_die (nI isW) (nI sD) cA1 (nI p) (nI 3)) fun c33 c34 =>
    some (c33, c34, nm1, va1, tr1)) else (bd4 (M_findsOf φ cA1 cTx nm1 va1 tr1 (nI p)) fun r18 c19 c20 c21 =>
    bd2 (M_drawn cA1 (nI 10)) fun r23 c24 =>
    if r18 ≤ r23 then (bd1 (M_get c24 (nI p) (nI 5)) fun r26 =>
    bd1 (M_put c24 (nI p) (nI 5) (r26 + nI 1)) fun c28 =>
    some (nI sD, c28, c19, c20, c21)) else (bd2 (M_die (nI isW) (nI sD) c24 (nI p) (nI 4)) fun c30 c31 =>
    some (c30, c31, c19, c20, c21)))) := by
    unfold M_live
    simp only [litI]
    rw [m6, bd1_some, if_neg (by rw [nI_eq' (by omega) (by omega)]; omega), bd1_some, if_pos rfl, m4, bd1_some, m1, bd4_some, nI_add]
    rw [show nI 0 = (0 : Int32) from rfl, cut_E (by omega) (by omega), bd1_some, m2, bd1_some, m3, bd1_some]
  have hXl : X_lives φ cNames cN row cFor cFear cText E zN (nI p) = (bd2 (if nI (min (f p 4 + r) 9) = nI 9 then (bd1 (X_dies row1 (nI p) (nI 3)) fun c30 =>
    some (v, c30)) else (bd2 (X_draw row1) fun r17 c18 =>
    bd2 (X_findsOf φ v cN c18 cFor cFear cText E zN (nI p)) fun r20 c21 =>
    if r20 ≤ r17 then (bd1 (X_at c18 (nI p) (nI 5)) fun r23 =>
    lt ((if (r23 + nI 1) < nI 9999 then (r23 + nI 1) else nI 9999) : Int32) fun v25 =>
    bd1 (X_sets c18 (nI p) (nI 5) v25) fun c26 =>
    some (c21, c26)) else (bd1 (X_dies c18 (nI p) (nI 4)) fun c28 =>
    some (c21, c28))) : Option ((Nat → Int32) × (Nat → Int32))) fun c11 c12 =>
    bd1 (X_at c12 (nI p) (nI 6)) fun r15 =>
    if r15 = nI 3 then (some (nI 0, c11, c12)) else (some (nI 1, c11, c12))) := by
    unfold X_lives
    simp only [litI]
    rw [x4, bd1_some, x1, bd2_some, lt_def, nI_add, min_E (by omega) (by omega), x2, bd1_some, x3, bd1_some]
  clear hM0
  rw [hXl, hMl]
  by_cases e9 : min (f p 4 + r) 9 = 9
  · obtain ⟨row3, cA3, x5, m5, h5, f5⟩ := dies2 (p := p) (w := 3) (sD := sD) h2 hB hS (by omega) hp6 (by omega)
    have x6 := X_at_R h5.1 (p := p) (w := 6) hp6 (by omega)
    rw [upF_eq] at x6
    refine ⟨1, d, _, row3, cA3, v, nm1, va1, tr1, Nat.le_refl _, ?_, ?_, h5, f2.tr f5, hC2.up hp ⟨by omega, by omega, by omega, by omega, by omega, by omega, by omega⟩, hd, fun p' w hp' => ?_⟩
    · rw [if_pos (by rw [e9]), x5, bd1_some, bd2_some, x6, bd1_some, if_pos rfl]
    · rw [if_pos (by rw [e9]), m5, bd2_some]
    · rw [upF_ne (Or.inl hp'), upF_ne (Or.inl hp')]
  · have e9' : ¬ nI (min (f p 4 + r) 9) = nI 9 := by rw [nI_eq' (by omega) (by omega)]; exact e9
    obtain ⟨row3, cA3, x5, m5, h5, f5⟩ := draw2 h2 hd
    obtain ⟨r2, hr2, hall2⟩ := findsOf2 (row := row3) (cA := cA1) hE2 h5.1.x h2.1.m hC2 (by omega) hm hφ hT hp
    obtain ⟨v2, nm2, va2, tr2, x6, m6⟩ := hall2 v nm1 va1 tr1
    rw [if_neg e9', if_neg e9', x5, bd2_some, x6, bd2_some, m6, bd4_some, show nI 10 = (10 : Int32) from rfl, m5, bd2_some]
    by_cases e7 : r2 ≤ d % 10
    · have x7 := X_at_R h5.1 (p := p) (w := 5) hp6 (by omega)
      have m7 := M_get_R h5.1 (p := p) (w := 5) hp6 (by omega)
      rw [upF_ne (Or.inr (by omega))] at x7 m7
      obtain ⟨row4, cA4, x8, m8, h8, f8⟩ := put2 (w := 5) (v := f p 5 + 1) h5 hp6 (by omega)
      have x9 := X_at_R h8.1 (p := p) (w := 6) hp6 (by omega)
      rw [upF_ne (Or.inr (by omega)), upF_ne (Or.inr (by omega)), h1] at x9
      refine ⟨0, _, _, row4, cA4, v2, nm2, va2, tr2, Nat.zero_le _, ?_, ?_, h8.less (Nat.le_succ _), (f2.tr f5).tr f8, hC2.up hp ⟨by omega, by omega, by omega, by omega, by omega, by omega, by omega⟩, Nat.mod_lt _ (by omega), fun p' w hp' => ?_⟩
      · rw [if_pos ((nI_le' (by omega) (by omega)).mpr e7), x7, bd1_some, nI_add, lt_def, min_E (by omega) (by omega), Nat.min_eq_left (by omega), x8, bd1_some, bd2_some, x9, bd1_some, if_neg (by rw [nI_eq' (by omega) (by omega)]; omega)]
      · rw [if_pos ((nI_le' (by omega) (by omega)).mpr e7), m7, bd1_some, nI_add, m8, bd1_some]
        rfl
      · rw [upF_ne (Or.inl hp'), upF_ne (Or.inl hp')]
    · obtain ⟨row4, cA4, x8, m8, h8, f8⟩ := dies2 (p := p) (w := 4) (sD := sD) h5 hB hS (by omega) hp6 (by omega)
      have x9 := X_at_R h8.1 (p := p) (w := 6) hp6 (by omega)
      rw [upF_eq] at x9
      refine ⟨1, _, _, row4, cA4, v2, nm2, va2, tr2, Nat.le_refl _, ?_, ?_, h8, (f2.tr f5).tr f8, hC2.up hp ⟨by omega, by omega, by omega, by omega, by omega, by omega, by omega⟩, Nat.mod_lt _ (by omega), fun p' w hp' => ?_⟩
      · rw [if_neg (by rw [nI_le' (by omega) (by omega)]; exact e7), x8, bd1_some, bd2_some, x9, bd1_some, if_pos rfl]
      · rw [if_neg (by rw [nI_le' (by omega) (by omega)]; exact e7), m8, bd2_some]
      · rw [upF_ne (Or.inl hp'), upF_ne (Or.inl hp')]
theorem passes_L (hB : B < 2147483648) (hS : S ≤ 30) (hm : m + 1 ≤ 9999) (hφ : 400 < φ) (hT : TR E zN (q 2) cText cTx) : ∀ (j p fu1 fu2 died sD d : Nat) (f : Nat → Nat → Nat) (row cA cNames nm : Nat → Int32) (va : Nat → Int64) (tr : Nat → Int32), p + j = q 1 → j < fu1 → j < fu2 → RWS B S wk cStep isW (b + j) m d f row cA → EnvR q cN cFor cRoad cFear cA → RowC (q 0) (q 1) (m + 1) f → (∀ p' : Nat, p ≤ p' → p' < q 1 → f p' 5 ≤ m) → d < 30469 → ∃ (r d' : Nat) (f' : Nat → Nat → Nat) (row' cA' v nm' : Nat → Int32) (va' : Nat → Int64) (tr' : Nat → Int32), r ≤ j ∧ X_passes_L4 φ cN cFor cFear cText E zN fu1 (nI died) (nI p) cNames row = some (nI (died + r), v, row') ∧ M_goOn_L2 φ (nI isW) cTx fu2 (nI p) (nI sD) cA nm va tr = some (nI (sD + r), cA', nm', va', tr') ∧ RWS B S wk cStep isW b m d' f' row' cA' ∧ Fr0 cA cA' ∧ RowC (q 0) (q 1) (m + 1) f' ∧ d' < 30469 := by
  intro j
  induction j with
  | zero =>
    intro p fu1 fu2 died sD d f row cA cNames nm va tr hp h1 h2 h hE hC hOut hd
    obtain ⟨fu1, rfl⟩ : ∃ x, fu1 = x + 1 := ⟨fu1 - 1, by omega⟩
    obtain ⟨fu2, rfl⟩ : ∃ x, fu2 = x + 1 := ⟨fu2 - 1, by omega⟩
    obtain ⟨p1, p2, p3⟩ := hE.1.P
    refine ⟨0, d, f, row, cA, cNames, nm, va, tr, Nat.le_refl _, ?_, ?_, h, Fr0.rf, hC, hd⟩
    · rw [X_passes_L4, show (1 : Int32) = nI 1 from rfl, rd_I (by omega) (by omega), p1, ob_some, if_pos ((nI_le' (by omega) (by omega)).mpr (by omega))]
      rfl
    · rw [M_goOn_L2, show (1 : Int32) = nI 1 from rfl, rd_I (by omega) (by omega), p2, ob_some, if_pos ((nI_le' (by omega) (by omega)).mpr (by omega))]
      rfl
  | succ j ih =>
    intro p fu1 fu2 died sD d f row cA cNames nm va tr hp h1 h2 h hE hC hOut hd
    obtain ⟨fu1, rfl⟩ : ∃ x, fu1 = x + 1 := ⟨fu1 - 1, by omega⟩
    obtain ⟨fu2, rfl⟩ : ∃ x, fu2 = x + 1 := ⟨fu2 - 1, by omega⟩
    obtain ⟨p1, p2, p3⟩ := hE.1.P
    have hp6 : p < 6 := by omega
    have hpq : p < q 1 := by omega
    have x6 := X_at_R h.1 (p := p) (w := 6) hp6 (by omega)
    have m6 := M_get_R h.1 (p := p) (w := 6) hp6 (by omega)
    obtain ⟨a0, a1, a2, a3, a4, a5, a6⟩ := hC.1 p hpq
    have hng : ¬ nI (q 1) ≤ nI p := by rw [nI_le' (by omega) (by omega)]; omega
    have hX : X_passes_L4 φ cN cFor cFear cText E zN (fu1 + 1) (nI died) (nI p) cNames row = (if nI (f p 6) = nI 3 then X_passes_L4 φ cN cFor cFear cText E zN fu1 (nI died) (nI (p + 1)) cNames row else (if nI (f p 6) = nI 1 then (bd3 (X_lives φ cNames cN row cFor cFear cText E zN (nI p)) fun r21 c22 c23 =>
        if r21 = nI 0 then X_passes_L4 φ cN cFor cFear cText E zN fu1 (nI (died + 1)) (nI (p + 1)) c22 c23 else X_passes_L4 φ cN cFor cFear cText E zN fu1 (nI died) (nI (p + 1)) c22 c23) else (bd1 (X_at row (nI p) (nI 1)) fun r28 =>
        bd2 (X_earnsOf φ cNames cN row cFor cFear cText E zN (nI p)) fun r30 c31 =>
        lt ((if (r28 + r30) < nI 9999 then (r28 + r30) else nI 9999) : Int32) fun v33 =>
        bd1 (X_sets row (nI p) (nI 1) v33) fun c34 =>
        X_passes_L4 φ cN cFor cFear cText E zN fu1 (nI died) (nI (p + 1)) c31 c34))) := by
      rw [X_passes_L4]
      simp only [litI, nI_add, lt_def]
      rw [rd_I (by omega) (by omega), p1, ob_some, if_neg hng, x6, bd1_some, bd1_some]
    have hM : M_goOn_L2 φ (nI isW) cTx (fu2 + 1) (nI p) (nI sD) cA nm va tr = (bd5 (M_live φ (nI isW) (nI sD) cA cTx nm va tr (nI p)) fun c21 c22 c23 c24 c25 => M_goOn_L2 φ (nI isW) cTx fu2 (nI (p + 1)) c21 c22 c23 c24 c25) := by
      rw [M_goOn_L2]
      simp only [litI, nI_add, lt_def]
      rw [rd_I (by omega) (by omega), p2, ob_some, if_neg hng]
    rw [hX, hM]
    by_cases e3 : f p 6 = 3
    · -- dead
      obtain ⟨r, d', f', row', cA', v, nm', va', tr', g1, g2, g3, g4, g5, g6, g7⟩ := ih (p + 1) fu1 fu2 died sD d f row cA cNames nm va tr (by omega) (by omega) (by omega) (h.less (by omega)) hE hC (fun p' h1 h2 => hOut p' (by omega) h2) hd
      refine ⟨r, d', f', row', cA', v, nm', va', tr', by omega, ?_, ?_, g4, g5, g6, g7⟩
      · rw [if_pos (by rw [e3]), g2]
      · have : M_live φ (nI isW) (nI sD) cA cTx nm va tr (nI p) = some (nI sD, cA, nm, va, tr) := by
          unfold M_live
          simp only [litI]
          rw [m6, bd1_some, if_pos (by rw [e3])]
        rw [this, bd5_some, g3]
    · have e3' : ¬ nI (f p 6) = nI 3 := by rw [nI_eq' (by omega) (by omega)]; exact e3
      by_cases e1 : f p 6 = 1
      · -- an outlaw
        obtain ⟨r0, d1, f1, row1, cA1, v1, nm1, va1, tr1, k1, k2, k3, k4, k5, k6, k7, k8⟩ := lives2 (cNames := cNames) (nm := nm) (va := va) (tr := tr) (sD := sD) (b := b + j) h hB hS hE hC hm hd hφ hT hpq (hOut p (Nat.le_refl _) hpq) e1
        obtain ⟨r, d', f', row', cA', v, nm', va', tr', g1, g2, g3, g4, g5, g6, g7⟩ := ih (p + 1) fu1 fu2 (died + r0) (sD + r0) d1 f1 row1 cA1 v1 nm1 va1 tr1 (by omega) (by omega) (by omega) k4 (hE.fr k5) k6 (fun p' h1 h2 => by rw [k8 p' 5 (by omega)]; exact hOut p' (by omega) h2) k7
        refine ⟨r0 + r, d', f', row', cA', v, nm', va', tr', by omega, ?_, ?_, g4, k5.tr g5, g6, g7⟩
        · rw [if_neg e3', if_pos (by rw [e1]), k2, bd3_some]
          have hr : r0 = 0 ∨ r0 = 1 := by omega
          rcases hr with rfl | rfl
          · rw [if_neg (by rw [nI_eq' (by omega) (by omega)]; omega)]
            rw [Nat.add_zero] at g2
            rw [g2, Nat.zero_add]
          · rw [if_pos rfl, g2, Nat.add_assoc]
        · rw [k3, bd5_some, g3, Nat.add_assoc]
      · -- another
        have e1' : ¬ nI (f p 6) = nI 1 := by rw [nI_eq' (by omega) (by omega)]; exact e1
        have x1 := X_at_R h.1 (p := p) (w := 1) hp6 (by omega)
        have m1 := M_get_R h.1 (p := p) (w := 1) hp6 (by omega)
        obtain ⟨r0, hr0, hall⟩ := earns2 hE h.1.x h.1.m hC (by omega) hm hφ hT hpq
        obtain ⟨v1, nm1, va1, tr1, k1, k2⟩ := hall cNames nm va tr
        obtain ⟨row1, cA1, k3, k4, k5, k6⟩ := put2 (w := 1) (v := min (f p 1 + r0) 9999) h hp6 (by omega)
        obtain ⟨r, d', f', row', cA', v, nm', va', tr', g1, g2, g3, g4, g5, g6, g7⟩ := ih (p + 1) fu1 fu2 died sD d _ row1 cA1 v1 nm1 va1 tr1 (by omega) (by omega) (by omega) (k5.less (by omega)) (hE.fr k6) (hC.up hpq ⟨by omega, by omega, by omega, by omega, by omega, by omega, by omega⟩) (fun p' h1 h2 => by rw [upF_ne (Or.inl (by omega))]; exact hOut p' (by omega) h2) hd
        refine ⟨r, d', f', row', cA', v, nm', va', tr', by omega, ?_, ?_, g4, k6.tr g5, g6, g7⟩
        · rw [if_neg e3', if_neg e1', x1, bd1_some, k1, bd2_some, nI_add, lt_def, min_E (by omega) (by omega), k3, bd1_some, g2]
        · have : M_live φ (nI isW) (nI sD) cA cTx nm va tr (nI p) = some (nI sD, cA1, nm1, va1, tr1) := by
            unfold M_live
            simp only [litI]
            rw [m6, bd1_some, if_neg e3', bd1_some, if_neg e1', m1, bd1_some, k2, bd4_some, nI_add, show nI 0 = (0 : Int32) from rfl, cut_E (by omega) (by omega), bd1_some, k4, bd1_some]
          rw [this, bd5_some, g3]
/-- a month passes -/
theorem passes2 (hB : B < 2147483648) (hS : S ≤ 30) (hm : m + 1 ≤ 9999) (hφ : 400 < φ) (hT : TR E zN (q 2) cText cTx) {sD : Nat} (h : RWS B S wk cStep isW (b + 6) m d f row cA) (hE : EnvR q cN cFor cRoad cFear cA) (hC : RowC (q 0) (q 1) m f) (hd : d < 30469) : ∃ (r d' : Nat) (f' : Nat → Nat → Nat) (row' cA' v nm' : Nat → Int32) (va' : Nat → Int64) (tr' : Nat → Int32), r ≤ 6 ∧ X_passes φ cNames cN row cFor cFear cText E zN = some (nI r, v, row') ∧ M_goOn φ (nI isW) (nI sD) cA cTx nm va tr = some (nI (sD + r), cA', nm', va', tr') ∧ RWS B S wk cStep isW b (m + 1) d' f' row' cA' ∧ Fr0 cA cA' ∧ RowC (q 0) (q 1) (m + 1) f' ∧ d' < 30469 := by
  have p3 := hE.1.P.2.2
  obtain ⟨r, d', f', row', cA', v, nm', va', tr', g1, g2, g3, g4, g5, g6, g7⟩ := passes_L (b := b) hB hS hm hφ hT (q 1) 0 φ φ 0 sD d f row cA cNames nm va tr (by omega) (by omega) (by omega) (h.less (by omega)) hE (hC.mono (by omega)) (fun p' _ h2 => (hC.1 p' h2).2.2.2.2.2.1) hd
  obtain ⟨k1, k2⟩ := month2 g4 (m + 1)
  refine ⟨r, d', f', _, _, v, nm', va', tr', by omega, ?_, ?_, k1, g5.tr k2, g6, g7⟩
  · unfold X_passes
    simp only [litI]
    rw [g2, bd3_some, rd_I (by omega) (by omega), g4.1.1.1, ob_some, nI_add, lt_def, wr_I (by omega) (by omega), ob_some, Nat.zero_add]
  · unfold M_goOn
    simp only [litI]
    rw [g3, bd5_some, rd_I (by omega) (by omega), g4.1.1.2, ob_some, nI_add, lt_def, wr_I (by omega) (by omega), ob_some]
end LIVES
