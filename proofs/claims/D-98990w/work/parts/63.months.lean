/-! THE PURE LAW: pardons, months, reigns, undoing -/
theorem MV.trans {B1 B2 : Nat} {q q1 q2 : Nat → Nat} {cA cA1 cA2 cN1 cN2 row1 row2 : Nat → Int32} {cS1 cS2 : Nat → Nat → Int32} (h1 : MV B1 q cA q1 cN1 row1 cS1 cA1) (h2 : MV B2 q1 cA1 q2 cN2 row2 cS2 cA2) : MV B2 q cA q2 cN2 row2 cS2 cA2 :=
  ⟨h2.1, h2.2.1, fun j hj => (h2.2.2.1 j hj).trans (h1.2.2.1 j hj), fun j a1 a2 => (h2.2.2.2.1 j a1 a2).trans (h1.2.2.2.1 j a1 a2), fun p w a1 a2 a3 => (h2.2.2.2.2 p w a1 a2 a3).trans (h1.2.2.2.2 p w a1 a2 a3)⟩
theorem MV.more {B1 B2 : Nat} {q q1 : Nat → Nat} {cA cA1 cN1 row1 : Nat → Int32} {cS1 : Nat → Nat → Int32} (h1 : MV B1 q cA q1 cN1 row1 cS1 cA1) (hB : B1 ≤ B2) : MV B2 q cA q1 cN1 row1 cS1 cA1 := by
  obtain ⟨⟨m, d, f, wk, mk, dk, pk, fk, t, hR, hSt, hT, hC, hm, hd⟩, h2, h3, h4, h5⟩ := h1
  exact ⟨⟨m, d, f, wk, mk, dk, pk, fk, t, ⟨hR.1, hR.2.more hB⟩, hSt, hT, hC, hm, hd⟩, h2, h3, h4, h5⟩
section MONTHS
variable {B : Nat} {cStep : Nat → Nat → Int32} {m d : Nat} {f : Nat → Nat → Nat} {row cA : Nat → Int32}
variable {q : Nat → Nat} {cN cFor cRoad cFear cTx : Nat → Int32} {cText : Nat → Option Nat} {E : Nat → Option (Nat → Option EvS)} {zN φ : Nat}
theorem op_pardon (hφ : 9000 < φ) (hB : B + 240 < 2147483648) (hE : EnvR q cN cFor cRoad cFear cA) (h : RM B 0 q m d f row cStep cA) (hT : TR E zN (q 2) cText cTx) (x y : Int32) (cNames nm : Nat → Int32) (va : Nat → Int64) (tr : Nat → Int32) : ∃ (r : Int32) (q' : Nat → Nat) (cN' row' : Nat → Int32) (cStep' : Nat → Nat → Int32) (cA' v nm' : Nat → Int32) (va' : Nat → Int64) (tr' : Nat → Int32), X_pardon φ cNames cN row cFor cFear cStep cText E zN x y = some (r, v, cN', row', cStep') ∧ M_pardon φ 1 cA cTx nm va tr x y = some (r, cA', nm', va', tr') ∧ MV (B + 240) q cA q' cN' row' cStep' cA' ∧ (r = -1 ∨ ∃ n : Nat, n ≤ 9999 ∧ r = nI n) := by
  have h9 := h
  obtain ⟨wk0, mk0, dk0, pk0, fk0, t0, hR0, -, -, hC0, hm, hd⟩ := h9
  obtain ⟨z, hz, hz1, hall⟩ := canPardon2 (φ := φ) hE hR0.1.x hR0.1.m hm hm hC0 (by omega) hT x y
  obtain ⟨v1, nm1, va1, tr1, k1, k2⟩ := hall cNames nm va tr
  unfold X_pardon M_pardon
  rw [k1, bd2_some, k2, bd4_some]
  have hz2 : z = 0 ∨ z = 1 := by omega
  rcases hz2 with rfl | rfl
  · rw [if_pos (show nI 0 = 0 from rfl), if_pos (show nI 0 = 0 from rfl)]
    exact ⟨-1, q, cN, row, cStep, cA, v1, nm1, va1, tr1, rfl, rfl, MV.same hE h (by omega), Or.inl rfl⟩
  · obtain ⟨p, k, rfl, rfl, hp, hk, hp6, hk6, -⟩ := hz1 rfl
    obtain ⟨S', cN', cStep', cA1, g1, g2, g3, g4, g5⟩ := keepM hφ hE.1 h
    obtain ⟨wk, mk, dk, pk, fk, t, hR, hSt, hTo, hC, -, -⟩ := g3
    have hE1 := keep_env hE g4 g5
    -- the price is asked anew
    obtain ⟨z2, hz2, hz3, hall2⟩ := canPay2 (φ := φ) hE1 hR0.1.x hR.1.m hm hm hC (by omega) hT hp hk
    have hz4 : z2 = 1 := by
      obtain ⟨v2, nm2, va2, tr2, e1, -⟩ := hall2 cNames nm va tr
      obtain ⟨z5, hz5, hz6, hall5⟩ := canPay2 (φ := φ) hE hR0.1.x hR0.1.m hm hm hC0 (by omega) hT hp hk
      obtain ⟨v3, nm3, va3, tr3, e3, e4⟩ := hall5 cNames nm va tr
      have hN : ∀ j : Nat, j ≠ 4 → cN' j = cN j ∨ 10 ≤ j := fun j hj => by
        by_cases h10 : 10 ≤ j
        · exact Or.inr h10
        · refine Or.inl ?_
          by_cases j3 : j = 3
          · subst j3
            rw [← g4.1 3 (by omega), g5 3 (by omega) (by omega), hE.1.1 3 (by omega)]
          · rw [(g4.2.1 j (by omega) j3).1, (hE.1.2.1 j (by omega) j3).1]
            unfold upN
            rw [if_neg hj]
      have e6 : nI z5 = nI 1 := by
        have e5 := k2.symm.trans e4
        have e7 := congrArg Prod.fst (Option.some.inj e5)
        exact e7.symm
      rw [nI_eq' (by omega) (by omega)] at e6
      obtain ⟨-, -, a, r, ha, hpr, hle⟩ := hz6 e6
      by_cases e9 : z2 = 1
      · exact e9
      · exfalso
        have e8 : z2 = 0 := by omega
        subst e8
        -- x's canPay reads of the header what is as before
        have hcp : X_canPay φ cNames cN' row cFor cFear cText E zN (nI p) (nI k) = X_canPay φ cNames cN row cFor cFear cText E zN (nI p) (nI k) := by
          have r1 : rd cN' 10 1 = rd cN 10 1 := by rw [show (1 : Int32) = nI 1 from rfl, rd_I (by omega) (by omega), rd_I (by omega) (by omega), (hN 1 (by omega)).resolve_right (by omega)]
          have r3 : rd cN' 10 3 = rd cN 10 3 := by rw [show (3 : Int32) = nI 3 from rfl, rd_I (by omega) (by omega), rd_I (by omega) (by omega), (hN 3 (by omega)).resolve_right (by omega)]
          have hcr : ∀ (x2 x3 : Int32) (fu : Nat) (a b : Int32), X_crowdIn_L6 φ x2 x3 cN' row fu a b = X_crowdIn_L6 φ x2 x3 cN row fu a b := by
            intro x2 x3 fu
            induction fu with
            | zero => intro a b; rfl
            | succ fu ih =>
              intro a b
              rw [X_crowdIn_L6, X_crowdIn_L6, r1]
              simp only [ih]
          have hc2 : ∀ x2 x3 : Int32, X_crowdIn φ cN' row x2 x3 = X_crowdIn φ cN row x2 x3 := fun x2 x3 => by
            unfold X_crowdIn
            rw [hcr]
          unfold X_canPay X_rules X_priceBy X_namesOf
          rw [r3]
          simp only [hc2]
        rw [hcp, e3] at e1
        have e10 := congrArg Prod.fst (Option.some.inj e1)
        have e10 : nI z5 = nI 0 := e10
        rw [e6] at e10
        exact absurd e10 (by decide)
    obtain ⟨-, -, a, r, ha, hpr, hle⟩ := hz3 hz4
    obtain ⟨f', row', cA', v2, nm2, va2, tr2, j1, j2, j3, j4, j5⟩ := buys2 (q := upN q 4 S') (b := 239) hR (by omega) g4.S.2.2 g4.P.2.2 hm hC hp hk ha hpr hle v1 nm1 va1 tr1
    refine ⟨nI r, _, cN', row', cStep', cA', v2, nm2, va2, tr2, ?_, ?_, MV.done g5 g4 hSt hTo j4 j3 j5 hm hd, Or.inr ⟨r, by have := (hC.1 k hk).2.1; omega, rfl⟩⟩
    · rw [if_neg (show ¬ nI 1 = 0 by decide), g1, bd2_some, j1, bd3_some]
    · rw [if_neg (show ¬ nI 1 = 0 by decide), g2, bd1_some, show (1 : Int32) = nI 1 from rfl, j2, bd5_some]
theorem ne_I {a b : Nat} (h : a ≠ b) (ha : a < 2147483648) (hb : b < 2147483648) : ¬ nI a = nI b := fun e => h ((nI_eq' ha hb).mp e)
theorem nle_I {a b : Nat} (h : b < a) (ha : a < 2147483648) : ¬ nI a ≤ nI b := fun e => by
  have := (nI_le' ha (by omega)).mp e
  omega
theorem l9999 : (9999 : Int32) = nI 9999 := litI 9999
/-- a month of both -/
theorem month1 (hφ : 9000 < φ) (hB : B + 240 < 2147483648) (hE : EnvR q cN cFor cRoad cFear cA) (h : RM B 0 q m d f row cStep cA) (hT : TR E zN (q 2) cText cTx) (hm1 : m + 1 ≤ 9999) (sD : Nat) (cNames nm : Nat → Int32) (va : Nat → Int64) (tr : Nat → Int32) : ∃ (r S' d' : Nat) (f' : Nat → Nat → Nat) (cN' row' : Nat → Int32) (cStep' : Nat → Nat → Int32) (cA1 cA' v nm' : Nat → Int32) (va' : Nat → Int64) (tr' : Nat → Int32), r ≤ 6 ∧ S_keeps φ cN row cStep = some (cN', cStep') ∧ X_passes φ cNames cN' row cFor cFear cText E zN = some (nI r, v, row') ∧ M_keep φ cA = some cA1 ∧ M_goOn φ (nI 1) (nI sD) cA1 cTx nm va tr = some (nI (sD + r), cA', nm', va', tr') ∧ RM (B + 240) 0 (upN q 4 S') (m + 1) d' f' row' cStep' cA' ∧ MV (B + 240) q cA (upN q 4 S') cN' row' cStep' cA' := by
  obtain ⟨S', cN', cStep', cA1, k1, k2, k3, k4, k5⟩ := keepM hφ hE.1 h
  obtain ⟨wk, mk, dk, pk, fk, t, hR, hSt, hTo, hC, hm, hd⟩ := k3
  obtain ⟨r, d', f', row', cA', v, nm', va', tr', j1, j2, j3, j4, j5, j6, j7⟩ := passes2 (q := upN q 4 S') (φ := φ) (cNames := cNames) (nm := nm) (va := va) (tr := tr) (b := 234) hB k4.S.2.2 hm1 (by omega) hT (sD := sD) hR (keep_env hE k4 k5) hC hd
  exact ⟨r, S', d', f', cN', row', cStep', cA1, cA', v, nm', va', tr', j1, k1, j2, k2, j3, RM.close (q := upN q 4 S') hSt hTo k4.S.2.2 k4.P.2.2 j5 j4 j6 hm1 j7, MV.done k5 k4 hSt hTo j5 j4 j6 hm1 j7⟩
theorem RM.R {b : Nat} (h : RM B b q m d f row cStep cA) : RowR m d f row cA ∧ m ≤ 9999 := by
  obtain ⟨wk, mk, dk, pk, fk, t, hR, hSt, hTo, hC, hm, hd⟩ := h
  exact ⟨hR.1, hm⟩
theorem month_L (hφ : 9000 < φ) {n : Nat} (hn : n ≤ 1000000) : ∀ (j k fu1 fu2 B a sD m d : Nat) (f : Nat → Nat → Nat) (q : Nat → Nat) (cN row : Nat → Int32) (cStep : Nat → Nat → Int32) (cA cNames nm : Nat → Int32) (va : Nat → Int64) (tr : Nat → Int32), k + j = n → j < fu1 → j < fu2 → B + 240 * j < 2147483648 → TR E zN (q 2) cText cTx → EnvR q cN cFor cRoad cFear cA → RM B 0 q m d f row cStep cA → m + j ≤ 9999 → ∃ (r : Nat) (q' : Nat → Nat) (cN' row' : Nat → Int32) (cStep' : Nat → Nat → Int32) (cA' v nm' : Nat → Int32) (va' : Nat → Int64) (tr' : Nat → Int32), r ≤ 6 * j ∧ X_month_L33 φ (nI n) cFor cFear cText E zN fu1 (nI a) (nI k) cNames cN row cStep = some (nI (a + r), v, cN', row', cStep') ∧ M_arePassed_L7 φ (nI n) (nI 1) cTx fu2 (nI k) (nI sD) cA nm va tr = some (1, nI (sD + r), cA', nm', va', tr') ∧ MV (B + 240 * j) q cA q' cN' row' cStep' cA' := by
  intro j
  induction j with
  | zero =>
    intro k fu1 fu2 B a sD m d f q cN row cStep cA cNames nm va tr hk h1 h2 hB hT hE h hm
    obtain ⟨fu1, rfl⟩ : ∃ x, fu1 = x + 1 := ⟨fu1 - 1, by omega⟩
    obtain ⟨fu2, rfl⟩ : ∃ x, fu2 = x + 1 := ⟨fu2 - 1, by omega⟩
    refine ⟨0, q, cN, row, cStep, cA, cNames, nm, va, tr, by omega, ?_, ?_, MV.same hE h (by omega)⟩
    · rw [X_month_L33, if_pos ((nI_le' (by omega) (by omega)).mpr (by omega))]
      rfl
    · rw [M_arePassed_L7, if_pos ((nI_le' (by omega) (by omega)).mpr (by omega))]
      rfl
  | succ j ih =>
    intro k fu1 fu2 B a sD m d f q cN row cStep cA cNames nm va tr hk h1 h2 hB hT hE h hm
    obtain ⟨fu1, rfl⟩ : ∃ x, fu1 = x + 1 := ⟨fu1 - 1, by omega⟩
    obtain ⟨fu2, rfl⟩ : ∃ x, fu2 = x + 1 := ⟨fu2 - 1, by omega⟩
    obtain ⟨r, S', d', f', cN', row', cStep', cA1, cA', v, nm', va', tr', g1, g2, g3, g4, g5, g6, g7⟩ := month1 hφ (by omega) hE h hT (by omega) sD cNames nm va tr
    obtain ⟨r2, q2, cN2, row2, cStep2, cA2, v2, nm2, va2, tr2, i1, i2, i3, i4⟩ := ih (k + 1) fu1 fu2 (B + 240) (a + r) (sD + r) (m + 1) d' f' (upN q 4 S') cN' row' cStep' cA' v nm' va' tr' (by omega) (by omega) (by omega) (by omega) hT (g7.env hE) g6 (by omega)
    refine ⟨r + r2, q2, cN2, row2, cStep2, cA2, v2, nm2, va2, tr2, by omega, ?_, ?_, ?_⟩
    · rw [X_month_L33, if_neg (by rw [nI_le' (by omega) (by omega)]; omega), g2, bd2_some, g3, bd3_some, lt_def, lt_def, show (1 : Int32) = nI 1 from rfl, nI_add, nI_add, i2, Nat.add_assoc]
    · rw [M_arePassed_L7, if_neg (by rw [nI_le' (by omega) (by omega)]; omega), show (10 : Int32) = nI 10 from rfl, rd_I (by omega) (by omega), (h.R).1.1.2, ob_some, l9999, if_neg (ne_I (a := m) (b := 9999) (by omega) (by omega) (by omega)), g4, bd1_some, g5, bd5_some, lt_def, show (1 : Int32) = nI 1 from rfl, nI_add]
      rw [show (1 : Int32) = nI 1 from rfl] at i3
      rw [i3, Nat.add_assoc]
    · exact (g7.trans i4).more (by omega)
theorem op_month (hφ : 9000 < φ) (hB : B + 14400 < 2147483648) (hE : EnvR q cN cFor cRoad cFear cA) (h : RM B 0 q m d f row cStep cA) (hT : TR E zN (q 2) cText cTx) (x sD : Int32) (cNames nm : Nat → Int32) (va : Nat → Int64) (tr : Nat → Int32) : ∃ (r sD' : Int32) (q' : Nat → Nat) (cN' row' : Nat → Int32) (cStep' : Nat → Nat → Int32) (cA' v nm' : Nat → Int32) (va' : Nat → Int64) (tr' : Nat → Int32), X_month φ cNames cN row cFor cFear cStep cText E zN x = some (r, v, cN', row', cStep') ∧ M_month φ 1 sD cA cTx nm va tr x = some (r, sD', cA', nm', va', tr') ∧ MV (B + 14400) q cA q' cN' row' cStep' cA' ∧ (r = -1 ∨ ∃ n : Nat, n ≤ 360 ∧ r = nI n) := by
  obtain ⟨hR, hm⟩ := h.R
  unfold X_month M_month M_arePassed
  rw [X_in_eq, bd1_some, M_isIn_eq, bd1_some]
  rcases inR_cases x 1 60 (by omega) (by omega) with ⟨n, n1, n2, rfl, e⟩ | e
  · rw [show (1 : Int32) = nI 1 from rfl, show (60 : Int32) = nI 60 from rfl, e, if_neg (show ¬ (1 : Int32) = 0 by decide), if_neg (show ¬ (1 : Int32) = 0 by decide), show (0 : Int32) = nI 0 from rfl, show (10 : Int32) = nI 10 from rfl, rd_I (by omega) (by omega), rd_I (by omega) (by omega), hR.1.1, hR.1.2, ob_some, ob_some, nI_add, show (9999 : Int32) = nI 9999 from rfl]
    by_cases hl : m + n ≤ 9999
    · rw [if_pos ((nI_le' (by omega) (by omega)).mpr hl), if_neg (by rw [nI_lt' (by omega) (by omega)]; omega)]
      obtain ⟨r, q', cN', row', cStep', cA', v, nm', va', tr', i1, i2, i3, i4⟩ := month_L (n := n) (cRoad := cRoad) (cFear := cFear) (cFor := cFor) hφ (by omega) n 0 φ φ B 0 0 m d f q cN row cStep cA cNames nm va tr (by omega) (by omega) (by omega) (by omega) hT hE h hl
      refine ⟨nI (0 + r), nI (0 + r), q', cN', row', cStep', cA', v, nm', va', tr', ?_, ?_, i4.more (by omega), Or.inr ⟨0 + r, by omega, rfl⟩⟩
      · rw [i2, bd5_some]
      · rw [i3]
        rfl
    · rw [if_neg (by rw [nI_le' (by omega) (by omega)]; exact hl), if_pos ((nI_lt' (by omega) (by omega)).mpr (by omega))]
      exact ⟨-1, sD, q, cN, row, cStep, cA, cNames, nm, va, tr, rfl, rfl, MV.same hE h (by omega), Or.inl rfl⟩
  · rw [show (1 : Int32) = nI 1 from rfl, show (60 : Int32) = nI 60 from rfl, e, if_pos rfl, if_pos rfl]
    exact ⟨-1, sD, q, cN, row, cStep, cA, cNames, nm, va, tr, rfl, rfl, MV.same hE h (by omega), Or.inl rfl⟩
theorem passesAll_L (hφ : 9000 < φ) {n : Nat} (hn : n ≤ 1000000) : ∀ (j k fu1 fu2 B sD m d : Nat) (f : Nat → Nat → Nat) (q : Nat → Nat) (cN row : Nat → Int32) (cStep : Nat → Nat → Int32) (cA cNames nm : Nat → Int32) (va : Nat → Int64) (tr : Nat → Int32), k + j = n → j < fu1 → j < fu2 → B + 240 * j < 2147483648 → TR E zN (q 2) cText cTx → EnvR q cN cFor cRoad cFear cA → RM B 0 q m d f row cStep cA → ∃ (z sD' : Nat) (q' : Nat → Nat) (cN' row' : Nat → Int32) (cStep' : Nat → Nat → Int32) (cA' v nm' : Nat → Int32) (va' : Nat → Int64) (tr' : Nat → Int32), z ≤ 1 ∧ X_passesAll_L2 φ (nI n) cFor cFear cText E zN fu1 (nI k) cNames cN row cStep = some (nI z, v, cN', row', cStep') ∧ M_arePassed_L7 φ (nI n) (nI 1) cTx fu2 (nI k) (nI sD) cA nm va tr = some (nI z, nI sD', cA', nm', va', tr') ∧ MV (B + 240 * j) q cA q' cN' row' cStep' cA' := by
  intro j
  induction j with
  | zero =>
    intro k fu1 fu2 B sD m d f q cN row cStep cA cNames nm va tr hk h1 h2 hB hT hE h
    obtain ⟨fu1, rfl⟩ : ∃ x, fu1 = x + 1 := ⟨fu1 - 1, by omega⟩
    obtain ⟨fu2, rfl⟩ : ∃ x, fu2 = x + 1 := ⟨fu2 - 1, by omega⟩
    refine ⟨1, sD, q, cN, row, cStep, cA, cNames, nm, va, tr, by omega, ?_, ?_, MV.same hE h (by omega)⟩
    · rw [X_passesAll_L2, if_pos ((nI_le' (by omega) (by omega)).mpr (by omega))]
      rfl
    · rw [M_arePassed_L7, if_pos ((nI_le' (by omega) (by omega)).mpr (by omega))]
      rfl
  | succ j ih =>
    intro k fu1 fu2 B sD m d f q cN row cStep cA cNames nm va tr hk h1 h2 hB hT hE h
    obtain ⟨fu1, rfl⟩ : ∃ x, fu1 = x + 1 := ⟨fu1 - 1, by omega⟩
    obtain ⟨fu2, rfl⟩ : ∃ x, fu2 = x + 1 := ⟨fu2 - 1, by omega⟩
    have hR := h.R
    have hin : inV 1 1 60 = 1 := by decide
    have hle : ¬ nI n ≤ nI k := by rw [nI_le' (by omega) (by omega)]; omega
    rw [X_passesAll_L2, if_neg hle, X_month, X_in_eq, bd1_some, hin, if_neg (show ¬ (1 : Int32) = 0 by decide), show (0 : Int32) = nI 0 from rfl, rd_I (by omega) (by omega), hR.1.1.1, ob_some, show (1 : Int32) = nI 1 from rfl, nI_add]
    rw [M_arePassed_L7, if_neg hle, show (10 : Int32) = nI 10 from rfl, rd_I (by omega) (by omega), hR.1.1.2, ob_some, l9999]
    have hm := hR.2
    by_cases e : m = 9999
    · rw [if_pos (show nI m = nI 9999 by rw [e]), if_neg (nle_I (a := m + 1) (b := 9999) (by omega) (by omega)), bd5_some, if_pos rfl]
      exact ⟨0, sD, q, cN, row, cStep, cA, cNames, nm, va, tr, by omega, rfl, rfl, MV.same hE h (by omega)⟩
    · rw [if_neg (ne_I (a := m) (b := 9999) e (by omega) (by omega)), if_pos (show nI (m + 1) ≤ nI 9999 from (nI_le' (by omega) (by omega)).mpr (by omega))]
      obtain ⟨r, S', d', f', cN', row', cStep', cA1, cA', v, nm', va', tr', g1, g2, g3, g4, g5, g6, g7⟩ := month1 hφ (by omega) hE h hT (by omega) sD cNames nm va tr
      obtain ⟨z, sD2, q2, cN2, row2, cStep2, cA2, v2, nm2, va2, tr2, i1, i2, i3, i4⟩ := ih (k + 1) fu1 fu2 (B + 240) (sD + r) (m + 1) d' f' (upN q 4 S') cN' row' cStep' cA' v nm' va' tr' (by omega) (by omega) (by omega) (by omega) hT (g7.env hE) g6
      have hmo : X_month_L33 φ (nI 1) cFor cFear cText E zN φ (nI 0) (nI 0) cNames cN row cStep = some (nI (0 + r), v, cN', row', cStep') := by
        obtain ⟨fu, hfu⟩ : ∃ y, φ = y + 1 + 1 := ⟨φ - 2, by omega⟩
        have h2 : ∀ (nn : Nat) , nn = fu + 1 + 1 → X_month_L33 φ (nI 1) cFor cFear cText E zN nn (nI 0) (nI 0) cNames cN row cStep = some (nI (0 + r), v, cN', row', cStep') := by
          intro nn e
          subst e
          rw [X_month_L33, if_neg (by rw [nI_le' (by omega) (by omega)]; omega), g2, bd2_some, g3, bd3_some, lt_def, lt_def, nI_add, show (1 : Int32) = nI 1 from rfl, nI_add, X_month_L33, if_pos ((nI_le' (by omega) (by omega)).mpr (by omega))]
        exact h2 φ hfu
      refine ⟨z, sD2, q2, cN2, row2, cStep2, cA2, v2, nm2, va2, tr2, i1, ?_, ?_, (g7.trans i4).more (by omega)⟩
      · rw [hmo, bd5_some, bd5_some, if_neg (show ¬ nI (0 + r) = -nI 1 from fun q => (nI_neg1' (by omega)).mp q), lt_def, nI_add]
        exact i2
      · rw [g4, bd1_some, g5, bd5_some, lt_def, show (1 : Int32) = nI 1 from rfl, nI_add]
        exact i3
theorem op_reigns (hφ : 9000 < φ) (hB : B + 240 < 2147483648) (hE : EnvR q cN cFor cRoad cFear cA) (h : RM B 0 q m d f row cStep cA) (hT : TR E zN (q 2) cText cTx) (x y sD : Int32) (cNames nm : Nat → Int32) (va : Nat → Int64) (tr : Nat → Int32) : ∃ (r sD' : Int32) (q' : Nat → Nat) (cN' row' : Nat → Int32) (cStep' : Nat → Nat → Int32) (cA' v nm' : Nat → Int32) (va' : Nat → Int64) (tr' : Nat → Int32), X_reigns φ cNames cN row cFor cRoad cFear cStep cText E zN x y = some (r, v, cN', row', cStep') ∧ M_reigns φ 1 sD cA cTx nm va tr x y = some (r, sD', cA', nm', va', tr') ∧ MV (B + 240) q cA q' cN' row' cStep' cA' ∧ (r = -1 ∨ ∃ n : Nat, n ≤ 9999 ∧ r = nI n) := by
  obtain ⟨p1, p2, p3⟩ := hE.1.P
  obtain ⟨sD, rfl⟩ := nI_any sD
  unfold X_reigns M_reigns
  rw [X_in_eq, bd1_some, M_isIn_eq, bd1_some, X_in_eq, bd1_some, M_isIn_eq, bd1_some]
  rcases inR_cases x 0 9999 (by omega) (by omega) with ⟨n, n1, n2, rfl, e⟩ | e
  · rw [show (0 : Int32) = nI 0 from rfl, l9999, show inV (nI n) (nI 0) (nI 9999) = nI 1 from e]
    rcases inR_cases y 1 40 (by omega) (by omega) with ⟨k, k1, k2, rfl, e'⟩ | e'
    · rw [show (1 : Int32) = nI 1 from rfl, show (40 : Int32) = nI 40 from rfl, show inV (nI k) (nI 1) (nI 40) = nI 1 from e', if_neg n10, if_neg n10, if_neg n10, if_neg n10, rd_I (by omega) (by omega), rd_I (by omega) (by omega), p1, p2, ob_some, ob_some]
      by_cases hP : q 1 = 0
      · rw [if_pos (by rw [hP]), if_pos (by rw [hP])]
        exact ⟨-1, nI sD, q, cN, row, cStep, cA, cNames, nm, va, tr, rfl, rfl, MV.same hE h (by omega), Or.inl rfl⟩
      · rw [if_neg (by rw [nI_eq' (by omega) (by omega)]; exact hP), if_neg (by rw [nI_eq' (by omega) (by omega)]; exact hP)]
        obtain ⟨S', cN', cStep', cA1, g1, g2, g3, g4, g5⟩ := keepM hφ hE.1 h
        obtain ⟨wk, mk, dk, pk, fk, t, hR, hSt, hTo, hC, hm, hd⟩ := g3
        obtain ⟨s1, s2⟩ := seed2 hR (n * 2 + 149)
        obtain ⟨sD', m', d', f', row', cA', v, nm', va', tr', j1, j2, j3, j4, j5, j6, j7⟩ := reigns_L (q := upN q 4 S') (cFor := cFor) (cRoad := cRoad) (cFear := cFear) (cTx := cTx) (cText := cText) (E := E) (zN := zN) (φ := φ) (n := k) hB g4.S.2.2 (by omega) hT (by show 0 < q 1; omega) k2 k 0 φ φ sD m (n * 2 + 149) f _ _ cNames nm va tr (by omega) (by omega) (by omega) (s1.less (by omega)) ((keep_env hE g4 g5).fr s2) hm hC (by omega)
        refine ⟨nI m', nI sD', upN q 4 S', cN', row', cStep', cA', v, nm', va', tr', ?_, ?_, MV.done g5 g4 hSt hTo (s2.tr j4) j3 j5 j6 j7, Or.inr ⟨m', j6, rfl⟩⟩
        · rw [g1, bd2_some, lt_def, show (2 : Int32) = nI 2 from rfl, show (149 : Int32) = nI 149 from rfl, nI_mul, nI_add, wr_I (by omega) (by omega), ob_some, j1, bd2_some, rd_I (by omega) (by omega), j3.1.1.1, ob_some]
        · rw [g2, bd1_some, lt_def, show (2 : Int32) = nI 2 from rfl, show (149 : Int32) = nI 149 from rfl, show (11 : Int32) = nI 11 from rfl, nI_mul, nI_add, wr_I (by omega) (by omega), ob_some, j2, bd5_some, show (10 : Int32) = nI 10 from rfl, rd_I (by omega) (by omega), j3.1.1.2, ob_some]
    · rw [show (1 : Int32) = nI 1 from rfl, show (40 : Int32) = nI 40 from rfl, show inV y (nI 1) (nI 40) = nI 0 from e', if_neg n10, if_neg n10, if_pos rfl, if_pos rfl]
      exact ⟨-1, nI sD, q, cN, row, cStep, cA, cNames, nm, va, tr, rfl, rfl, MV.same hE h (by omega), Or.inl rfl⟩
  · rw [show (0 : Int32) = nI 0 from rfl, l9999, show inV x (nI 0) (nI 9999) = nI 0 from e, if_pos rfl, if_pos rfl]
    exact ⟨-1, nI sD, q, cN, row, cStep, cA, cNames, nm, va, tr, rfl, rfl, MV.same hE h (by omega), Or.inl rfl⟩
end MONTHS
