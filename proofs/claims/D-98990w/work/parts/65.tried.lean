/-! THE PURE LAW: foretelling, what is to pay (on a row that is tried) -/
section TRIED
variable {q : Nat → Nat} {cN cFor cRoad cFear cTx : Nat → Int32} {cText : Nat → Option Nat} {E : Nat → Option (Nat → Option EvS)} {zN φ : Nat}
theorem setA_L (cA : Nat → Int32) : ∀ (j k fu : Nat) (c : Nat → Int32), k + j = 80 → j < fu → (∀ y : Nat, 10 ≤ y → y < k → c y = cA y) → ∃ c' : Nat → Int32, M_setAside_L3 φ cA fu (nI k) c = some c' ∧ ∀ y : Nat, 10 ≤ y → y < 80 → c' y = cA y := by
  intro j
  induction j with
  | zero =>
    intro k fu c hk hf ha
    obtain ⟨fu, rfl⟩ : ∃ x, fu = x + 1 := ⟨fu - 1, by omega⟩
    refine ⟨c, ?_, fun y h1 h2 => ha y h1 (by omega)⟩
    rw [M_setAside_L3]
    simp only [litI]
    rw [if_pos ((nI_le' (by omega) (by omega)).mpr (by omega))]
  | succ j ih =>
    intro k fu c hk hf ha
    obtain ⟨fu, rfl⟩ : ∃ x, fu = x + 1 := ⟨fu - 1, by omega⟩
    obtain ⟨c', g1, g2⟩ := ih (k + 1) fu (upd c k (cA k)) (by omega) (by omega) (fun y h1 h2 => by
      by_cases e : y = k
      · subst e; exact upd_eq
      · rw [upd_ne e]; exact ha y h1 (by omega))
    refine ⟨c', ?_, g2⟩
    rw [M_setAside_L3]
    simp only [litI]
    rw [if_neg (nle_I (by omega) (by omega)), rd_I (by omega) (by omega), ob_some, wr_I (by omega) (by omega), ob_some, lt_def, nI_add]
    exact g1
theorem putB_L (cAs cA : Nat → Int32) : ∀ (j k fu : Nat) (c : Nat → Int32), k + j = 80 → j < fu → 10 ≤ k → (∀ y : Nat, c y = if 10 ≤ y ∧ y < k then cAs y else cA y) → ∃ c' : Nat → Int32, M_putBack_L3 φ cAs fu (nI k) c = some c' ∧ ∀ y : Nat, c' y = if 10 ≤ y ∧ y < 80 then cAs y else cA y := by
  intro j
  induction j with
  | zero =>
    intro k fu c hk hf h10 ha
    obtain ⟨fu, rfl⟩ : ∃ x, fu = x + 1 := ⟨fu - 1, by omega⟩
    have hk8 : k = 80 := by omega
    subst hk8
    refine ⟨c, ?_, ha⟩
    rw [M_putBack_L3]
    simp only [litI]
    rw [if_pos ((nI_le' (by omega) (by omega)).mpr (by omega))]
  | succ j ih =>
    intro k fu c hk hf h10 ha
    obtain ⟨fu, rfl⟩ : ∃ x, fu = x + 1 := ⟨fu - 1, by omega⟩
    obtain ⟨c', g1, g2⟩ := ih (k + 1) fu (upd c k (cAs k)) (by omega) (by omega) (by omega) (fun y => by
      by_cases e : y = k
      · subst e; rw [upd_eq, if_pos (by omega)]
      · rw [upd_ne e, ha y]
        by_cases e2 : 10 ≤ y ∧ y < k
        · rw [if_pos e2, if_pos (by omega)]
        · rw [if_neg e2, if_neg (by omega)])
    refine ⟨c', ?_, g2⟩
    rw [M_putBack_L3]
    simp only [litI]
    rw [if_neg (nle_I (by omega) (by omega)), rd_I (by omega) (by omega), ob_some, wr_I (by omega) (by omega), ob_some, lt_def, nI_add]
    exact g1
theorem setAside_E (hφ : 400 < φ) (s : Int32) (cA cAs : Nat → Int32) : ∃ c' : Nat → Int32, M_setAside φ s cA cAs = some (nI 0, c') ∧ ∀ y : Nat, 10 ≤ y → y < 80 → c' y = cA y := by
  obtain ⟨c', g1, g2⟩ := setA_L (φ := φ) cA 70 10 φ cAs (by omega) (by omega) (fun y h1 h2 => absurd h1 (by omega))
  refine ⟨c', ?_, g2⟩
  unfold M_setAside
  rw [show (10 : Int32) = nI 10 from rfl, g1, bd1_some]
  rfl
theorem putBack_E (hφ : 400 < φ) (s : Int32) {cA cAs c : Nat → Int32} (h1 : ∀ y : Nat, 10 ≤ y → y < 80 → cAs y = cA y) (h2 : ∀ y : Nat, y < 10 ∨ 80 ≤ y → c y = cA y) : M_putBack φ s c cAs = some (nI 1, cA) := by
  obtain ⟨c', g1, g2⟩ := putB_L (φ := φ) cAs c 70 10 φ c (by omega) (by omega) (by omega) (fun y => by rw [if_neg (by omega)])
  unfold M_putBack
  have e : c' = cA := funext fun y => by
    rw [g2 y]
    by_cases h : 10 ≤ y ∧ y < 80
    · rw [if_pos h]; exact h1 y h.1 h.2
    · rw [if_neg h]; exact h2 y (by omega)
  rw [show (10 : Int32) = nI 10 from rfl, g1, bd1_some, e]
  rfl
/-- a row that is tried, beside an array cA0 -/
def TRY (cA0 : Nat → Int32) (q : Nat → Nat) (m d : Nat) (f : Nat → Nat → Nat) (row c : Nat → Int32) : Prop := RWS 0 0 (fun _ => 0) (fun _ => cA0) 0 0 m d f row c ∧ Fr0 cA0 c ∧ RowC (q 0) (q 1) m f ∧ m ≤ 9999 ∧ d < 30469
theorem TRY.back {cA0 : Nat → Int32} {m d : Nat} {f : Nat → Nat → Nat} {row c : Nat → Int32} (h : TRY cA0 q m d f row c) : ∀ y : Nat, y < 10 ∨ 80 ≤ y → c y = cA0 y := by
  obtain ⟨⟨-, hB⟩, hF, -⟩ := h
  intro y hy
  rcases hB with ⟨-, n, -, -, e⟩ | ⟨h0, -⟩
  · by_cases h1 : 1522 ≤ y
    · exact e y (Or.inr h1)
    · rcases hy with hy | hy
      · exact hF.1 y hy
      · exact hF.2.1 y hy (by omega)
  · exact absurd h0 (by omega)
theorem TRY.start {B : Nat} {cStep : Nat → Nat → Int32} {m d : Nat} {f : Nat → Nat → Nat} {row cA : Nat → Int32} (h : RM B 0 q m d f row cStep cA) : TRY cA q m d f row cA := by
  obtain ⟨wk, mk, dk, pk, fk, t, hR, hSt, hTo, hC, hm, hd⟩ := h
  refine ⟨⟨hR.1, Or.inl ⟨rfl, ?_⟩⟩, Fr0.rf, hC, hm, hd⟩
  rcases hR.2 with ⟨h0, -⟩ | ⟨-, W, bk, b1, -⟩
  · exact absurd h0 (by omega)
  · exact ⟨min W 30, by omega, b1.1, fun _ _ => rfl⟩
theorem TRY.pass {cA0 : Nat → Int32} {m d : Nat} {f : Nat → Nat → Nat} {row c : Nat → Int32} (hφ : 400 < φ) (hE : EnvR q cN cFor cRoad cFear cA0) (hT : TR E zN (q 2) cText cTx) (h : TRY cA0 q m d f row c) (hm : m + 1 ≤ 9999) (sD : Nat) (cNames nm : Nat → Int32) (va : Nat → Int64) (tr : Nat → Int32) : ∃ (r d' : Nat) (f' : Nat → Nat → Nat) (row' c' v nm' : Nat → Int32) (va' : Nat → Int64) (tr' : Nat → Int32), X_passes φ cNames cN row cFor cFear cText E zN = some (nI r, v, row') ∧ M_goOn φ (nI 0) (nI sD) c cTx nm va tr = some (nI (sD + r), c', nm', va', tr') ∧ TRY cA0 q (m + 1) d' f' row' c' := by
  obtain ⟨hR, hF, hC, -, hd⟩ := h
  have hR6 : RWS 0 0 (fun _ => 0) (fun _ => cA0) 0 (0 + 6) m d f row c := by
    refine ⟨hR.1, ?_⟩
    rcases hR.2 with h0 | ⟨h0, -⟩
    · exact Or.inl h0
    · exact absurd h0 (by omega)
  obtain ⟨r, d', f', row', cA', v, nm', va', tr', j1, j2, j3, j4, j5, j6, j7⟩ := passes2 (φ := φ) (cNames := cNames) (nm := nm) (va := va) (tr := tr) (b := 0) (by omega) (by omega) hm hφ hT (sD := sD) hR6 (hE.fr hF) hC hd
  exact ⟨r, d', f', row', cA', v, nm', va', tr', j2, j3, j4, hF.tr j5, j6, hm, j7⟩
theorem foretM_idle {x2 x3 : Int32} {n : Nat} (hn : n ≤ 60) : ∀ (j k fu : Nat) (s : Int32) (c nm : Nat → Int32) (va : Nat → Int64) (tr : Nat → Int32), k + j = n → j < fu → c 10 = nI 9999 → M_foretold_L27 φ (nI n) x2 x3 (nI 0) cTx fu (nI k) s c nm va tr = some (s, c, nm, va, tr) := by
  intro j
  induction j with
  | zero =>
    intro k fu s c nm va tr hk hf h10
    obtain ⟨fu, rfl⟩ : ∃ x, fu = x + 1 := ⟨fu - 1, by omega⟩
    rw [M_foretold_L27, if_pos ((nI_le' (by omega) (by omega)).mpr (by omega))]
  | succ j ih =>
    intro k fu s c nm va tr hk hf h10
    obtain ⟨fu, rfl⟩ : ∃ x, fu = x + 1 := ⟨fu - 1, by omega⟩
    rw [M_foretold_L27, if_neg (nle_I (by omega) (by omega)), show (10 : Int32) = nI 10 from rfl, rd_I (by omega) (by omega), h10, ob_some, l9999, if_pos ((nI_le' (by omega) (by omega)).mpr (Nat.le_refl _)), lt_def, show (1 : Int32) = nI 1 from rfl, nI_add]
    exact ih (k + 1) fu s c nm va tr (by omega) (by omega) h10
theorem foret_L (hφ : 400 < φ) {cA0 : Nat → Int32} (hE : EnvR q cN cFor cRoad cFear cA0) (hT : TR E zN (q 2) cText cTx) {x2 x3 : Int32} {n : Nat} (hn : n ≤ 60) : ∀ (j k fu1 fu2 : Nat) (v6 : Int32) (sD m d : Nat) (f : Nat → Nat → Nat) (row c cNames nm : Nat → Int32) (va : Nat → Int64) (tr : Nat → Int32), k + j = n → j < fu1 → j < fu2 → TRY cA0 q m d f row c → ∃ (sD' m' d' : Nat) (f' : Nat → Nat → Nat) (row' c' v nm' : Nat → Int32) (va' : Nat → Int64) (tr' : Nat → Int32), X_foretold_L40 φ (nI n) x2 x3 cN cFor cFear cText E zN fu1 v6 (nI k) cNames row = some (v, row') ∧ M_foretold_L27 φ (nI n) x2 x3 (nI 0) cTx fu2 (nI k) (nI sD) c nm va tr = some (nI sD', c', nm', va', tr') ∧ TRY cA0 q m' d' f' row' c' := by
  intro j
  induction j with
  | zero =>
    intro k fu1 fu2 v6 sD m d f row c cNames nm va tr hk h1 h2 h
    obtain ⟨fu1, rfl⟩ : ∃ x, fu1 = x + 1 := ⟨fu1 - 1, by omega⟩
    obtain ⟨fu2, rfl⟩ : ∃ x, fu2 = x + 1 := ⟨fu2 - 1, by omega⟩
    refine ⟨sD, m, d, f, row, c, cNames, nm, va, tr, ?_, ?_, h⟩
    · rw [X_foretold_L40, if_pos ((nI_le' (by omega) (by omega)).mpr (by omega))]
    · rw [M_foretold_L27, if_pos ((nI_le' (by omega) (by omega)).mpr (by omega))]
  | succ j ih =>
    intro k fu1 fu2 v6 sD m d f row c cNames nm va tr hk h1 h2 h
    obtain ⟨fu1, rfl⟩ : ∃ x, fu1 = x + 1 := ⟨fu1 - 1, by omega⟩
    obtain ⟨fu2', rfl⟩ : ∃ x, fu2 = x + 1 := ⟨fu2 - 1, by omega⟩
    have e1 := h.1.1.1.1
    have e2 := h.1.1.1.2
    have hm := h.2.2.2.1
    by_cases e : m = 9999
    · subst e
      refine ⟨sD, 9999, d, f, row, c, cNames, nm, va, tr, ?_, foretM_idle hn (j + 1) k (fu2' + 1) _ _ _ _ _ hk h2 e2, h⟩
      rw [X_foretold_L40, if_neg (nle_I (by omega) (by omega)), show (0 : Int32) = nI 0 from rfl, rd_I (by omega) (by omega), e1, ob_some, l9999, if_pos ((nI_le' (by omega) (by omega)).mpr (Nat.le_refl _))]
    · obtain ⟨r, d', f', row', c', v, nm', va', tr', j1, j2, j3⟩ := h.pass hφ hE hT (by omega) sD cNames nm va tr
      obtain ⟨sD2, m2, d2, f2, row2, c2, v2, nm2, va2, tr2, i1, i2, i3⟩ := ih (k + 1) fu1 fu2' (v6 + nI r) (sD + r) (m + 1) d' f' row' c' v nm' va' tr' (by omega) (by omega) (by omega) j3
      refine ⟨sD2, m2, d2, f2, row2, c2, v2, nm2, va2, tr2, ?_, ?_, i3⟩
      · rw [X_foretold_L40, if_neg (nle_I (by omega) (by omega)), show (0 : Int32) = nI 0 from rfl, rd_I (by omega) (by omega), e1, ob_some, l9999, if_neg (nle_I (a := 9999) (b := m) (by omega) (by omega)), j1, bd3_some, lt_def, lt_def, show (1 : Int32) = nI 1 from rfl, nI_add]
        exact i1
      · rw [M_foretold_L27, if_neg (nle_I (by omega) (by omega)), show (10 : Int32) = nI 10 from rfl, rd_I (by omega) (by omega), e2, ob_some, l9999, if_neg (nle_I (a := 9999) (b := m) (by omega) (by omega)), j2, bd5_some, lt_def, show (1 : Int32) = nI 1 from rfl, nI_add]
        exact i2
theorem op_foretold {B : Nat} {cStep : Nat → Nat → Int32} {m d : Nat} {f : Nat → Nat → Nat} {row cA : Nat → Int32} (hφ : 400 < φ) (hE : EnvR q cN cFor cRoad cFear cA) (h : RM B 0 q m d f row cStep cA) (hT : TR E zN (q 2) cText cTx) (x y z sD : Int32) (cTried cAs cNames nm : Nat → Int32) (va : Nat → Int64) (tr : Nat → Int32) : ∃ (r sD' : Int32) (tried' cAs' v nm' : Nat → Int32) (va' : Nat → Int64) (tr' : Nat → Int32), X_foretold φ cNames cN row cTried cFor cFear cText E zN x y z = some (r, v, tried') ∧ M_foretold φ 1 sD cA cTx nm va tr cAs x y z = some (r, 1, sD', cA, nm', va', tr', cAs') ∧ (r = -1 ∨ ∃ n : Nat, n ≤ 9999 ∧ r = nI n) := by
  unfold X_foretold M_foretold
  rw [X_in_eq, bd1_some, M_isIn_eq, bd1_some]
  rcases inR_cases x 1 60 (by omega) (by omega) with ⟨n, n1, n2, rfl, e⟩ | e
  · rw [show (1 : Int32) = nI 1 from rfl, show (60 : Int32) = nI 60 from rfl, show inV (nI n) (nI 1) (nI 60) = nI 1 from e, show (0 : Int32) = nI 0 from rfl, if_neg n10, if_neg n10]
    rcases person_c hE.1 y with ⟨p, hp, rfl, g1, g2⟩ | ⟨g1, g2⟩
    · obtain ⟨sD, rfl⟩ := nI_any sD
      obtain ⟨c6, k1, k2⟩ := setAside_E hφ (nI 1) cA cAs
      obtain ⟨sD2, m2, d2, f2, row2, c2, v2, nm2, va2, tr2, i1, i2, i3⟩ := foret_L (φ := φ) (x2 := nI p) (x3 := z) hφ hE hT (n := n) n2 n 0 φ φ (nI 0) sD m d f row cA cNames nm va tr (by omega) (by omega) (by omega) (TRY.start h)
      have p3 := hE.1.P.2.2
      have e5 := putBack_E hφ (nI 0) k2 i3.back
      have x1 := X_at_R i3.1.1 (p := p) (w := 6) (by omega) (by omega)
      have y1 := M_get_R i3.1.1 (p := p) (w := 6) (by omega) (by omega)
      have x2 := X_at_R i3.1.1 (p := p) (w := 1) (by omega) (by omega)
      have y2 := M_get_R i3.1.1 (p := p) (w := 1) (by omega) (by omega)
      have b := i3.2.2.1.1 p hp
      rw [g1, g2, bd1_some, bd1_some, if_neg n10, if_neg n10, lt_def, i1, bd2_some, k1, bd2_some, i2, bd5_some]
      by_cases ez : z = nI 0
      · rw [if_pos ez, if_pos ez, show (6 : Int32) = nI 6 from rfl, x1, bd1_some, y1, bd1_some, e5, bd2_some]
        exact ⟨_, _, _, _, _, _, _, _, rfl, rfl, Or.inr ⟨_, by omega, rfl⟩⟩
      · rw [if_neg ez, if_neg ez, x2, bd1_some, y2, bd1_some, e5, bd2_some]
        exact ⟨_, _, _, _, _, _, _, _, rfl, rfl, Or.inr ⟨_, by omega, rfl⟩⟩
    · rw [g1, g2, bd1_some, bd1_some, if_pos rfl, if_pos rfl]
      exact ⟨_, _, _, _, _, _, _, _, rfl, rfl, Or.inl rfl⟩
  · rw [show (1 : Int32) = nI 1 from rfl, show (60 : Int32) = nI 60 from rfl, show inV x (nI 1) (nI 60) = 0 from e, if_pos rfl, if_pos rfl]
    exact ⟨_, _, _, _, _, _, _, _, rfl, rfl, Or.inl rfl⟩
theorem toPay_L (hφ : 400 < φ) {cA0 c6 : Nat → Int32} (hE : EnvR q cN cFor cRoad cFear cA0) (hT : TR E zN (q 2) cText cTx) (hB : ∀ y : Nat, 10 ≤ y → y < 80 → c6 y = cA0 y) {p p2 : Nat} (hp : p < q 1) (hp2 : p2 < q 1) : ∀ (j k fu1 fu2 : Nat) (sD m d : Nat) (f : Nat → Nat → Nat) (row c cNames nm : Nat → Int32) (va : Nat → Int64) (tr : Nat → Int32), k + j = 61 → j < fu1 → j + 1 < fu2 → TRY cA0 q m d f row c → ∃ (r sD' : Int32) (row' v nm' : Nat → Int32) (va' : Nat → Int64) (tr' : Nat → Int32), X_toPay_L34 φ (nI p) (nI p2) cN cFor cFear cText E zN fu1 (nI k) cNames row = some (r, v, row') ∧ M_toPay_L27 φ (nI p) (nI p2) (nI 0) cTx c6 fu2 (-1) (nI k) (nI sD) c nm va tr = some (r, nI 1, sD', cA0, nm', va', tr', c6) ∧ (r = -1 ∨ ∃ n : Nat, n ≤ 60 ∧ r = nI n) := by
  intro j
  induction j with
  | zero =>
    intro k fu1 fu2 sD m d f row c cNames nm va tr hk h1 h2 h
    obtain ⟨fu1, rfl⟩ : ∃ x, fu1 = x + 1 := ⟨fu1 - 1, by omega⟩
    obtain ⟨fu2, rfl⟩ : ∃ x, fu2 = x + 1 := ⟨fu2 - 1, by omega⟩
    have hgt : (60 : Int32) < nI k := (nI_lt' (a := 60) (b := k) (by omega) (by omega)).mpr (by omega)
    refine ⟨-1, nI sD, row, cNames, nm, va, tr, ?_, ?_, Or.inl rfl⟩
    · rw [X_toPay_L34, if_pos hgt]
    · rw [M_toPay_L27, if_pos hgt, putBack_E hφ (nI 0) hB h.back, bd2_some]
  | succ j ih =>
    intro k fu1 fu2 sD m d f row c cNames nm va tr hk h1 h2 h
    obtain ⟨fu1, rfl⟩ : ∃ x, fu1 = x + 1 := ⟨fu1 - 1, by omega⟩
    obtain ⟨fu2, rfl⟩ : ∃ x, fu2 = x + 1 + 1 := ⟨fu2 - 2, by omega⟩
    have e1 := h.1.1.1.1
    have e2 := h.1.1.1.2
    have hm := h.2.2.2.1
    have hnl : ¬ (60 : Int32) < nI k := fun e => by
      have := (nI_lt' (a := 60) (b := k) (by omega) (by omega)).mp e
      omega
    obtain ⟨z, hz, -, hall⟩ := canPay2 (φ := φ) (hE.fr h.2.1) h.1.1.x h.1.1.m hm hm h.2.2.1 hφ hT hp hp2
    obtain ⟨v1, nm1, va1, tr1, a1, a2⟩ := hall cNames nm va tr
    rw [X_toPay_L34, if_neg hnl, a1, bd2_some, M_toPay_L27, if_neg hnl, if_pos rfl, a2, bd4_some, show (0 : Int32) = nI 0 from rfl, rd_I (by omega) (by omega), e1, show (10 : Int32) = nI 10 from rfl, rd_I (by omega) (by omega), e2, l9999, show (1 : Int32) = nI 1 from rfl]
    simp only [ob_some]
    have hz2 : z = 0 ∨ z = 1 := by omega
    rcases hz2 with rfl | rfl
    · rw [if_pos rfl, if_pos rfl, bd1_some]
      by_cases e : m = 9999
      · subst e
        rw [if_pos rfl, if_pos rfl, putBack_E hφ (nI 0) hB h.back, bd2_some]
        exact ⟨_, _, _, _, _, _, _, rfl, rfl, Or.inl rfl⟩
      · rw [if_neg (ne_I (a := m) (b := 9999) e (by omega) (by omega)), if_neg (ne_I (a := m) (b := 9999) e (by omega) (by omega))]
        obtain ⟨r, d', f', row', c', v, nm', va', tr', j1, j2, j3⟩ := h.pass hφ hE hT (by omega) sD v1 nm1 va1 tr1
        rw [j1, bd3_some, j2, bd5_some, lt_def, lt_def, nI_add]
        exact ih (k + 1) fu1 (fu2 + 1) (sD + r) (m + 1) d' f' row' c' v nm' va' tr' (by omega) (by omega) (by omega) j3
    · rw [if_neg n10, if_neg n10, bd1_some]
      by_cases e : m = 9999
      · subst e
        rw [if_pos rfl, putBack_E hφ (nI 0) hB h.back, bd2_some]
        exact ⟨_, _, _, _, _, _, _, rfl, rfl, Or.inr ⟨k, by omega, rfl⟩⟩
      · rw [if_neg (ne_I (a := m) (b := 9999) e (by omega) (by omega))]
        obtain ⟨r, d', f', row', c', v, nm', va', tr', j1, j2, j3⟩ := h.pass hφ hE hT (by omega) sD v1 nm1 va1 tr1
        rw [j2, bd5_some, lt_def, nI_add, M_toPay_L27, putBack_E hφ (nI 0) hB j3.back, bd2_some]
        refine ⟨nI k, nI (sD + r), row, v1, nm', va', tr', rfl, ?_, Or.inr ⟨k, by omega, rfl⟩⟩
        by_cases e6 : (60 : Int32) < nI (k + 1)
        · rw [if_pos e6]
        · rw [if_neg e6, if_neg (fun q => (nI_neg1' (by omega)).mp q)]
theorem op_toPay {B : Nat} {cStep : Nat → Nat → Int32} {m d : Nat} {f : Nat → Nat → Nat} {row cA : Nat → Int32} (hφ : 400 < φ) (hE : EnvR q cN cFor cRoad cFear cA) (h : RM B 0 q m d f row cStep cA) (hT : TR E zN (q 2) cText cTx) (x y sD : Int32) (cTried cAs cNames nm : Nat → Int32) (va : Nat → Int64) (tr : Nat → Int32) : ∃ (r sD' : Int32) (tried' cAs' v nm' : Nat → Int32) (va' : Nat → Int64) (tr' : Nat → Int32), X_toPay φ cNames cN row cTried cFor cFear cText E zN x y = some (r, v, tried') ∧ M_toPay φ 1 sD cA cTx nm va tr cAs x y = some (r, 1, sD', cA, nm', va', tr', cAs') ∧ (r = -1 ∨ ∃ n : Nat, n ≤ 60 ∧ r = nI n) := by
  unfold X_toPay M_toPay
  rcases person_c hE.1 x with ⟨p, hp, rfl, g1, g2⟩ | ⟨g1, g2⟩
  · rcases person_c hE.1 y with ⟨p2, hp2, rfl, g3, g4⟩ | ⟨g3, g4⟩
    · obtain ⟨sD, rfl⟩ := nI_any sD
      obtain ⟨c6, k1, k2⟩ := setAside_E hφ (nI 1) cA cAs
      obtain ⟨r, sD', row', v, nm', va', tr', i1, i2, i3⟩ := toPay_L hφ hE hT k2 hp hp2 61 0 φ φ sD m d f row cA cNames nm va tr (by omega) (by omega) (by omega) (TRY.start h)
      refine ⟨r, sD', row', c6, v, nm', va', tr', ?_, ?_, i3⟩
      · rw [g1, g3, bd1_some, bd1_some, if_neg (show ¬ nI 1 = 0 from n10), if_neg (show ¬ nI 1 = 0 from n10), lt_def]
        exact i1
      · rw [g2, g4, bd1_some, bd1_some, if_neg (show ¬ nI 1 = 0 from n10), if_neg (show ¬ nI 1 = 0 from n10), show (1 : Int32) = nI 1 from rfl, k1, bd2_some]
        exact i2
    · rw [g1, g3, g2, g4, bd1_some, bd1_some, bd1_some, bd1_some, if_neg (show ¬ nI 1 = 0 from n10), if_neg (show ¬ nI 1 = 0 from n10), if_pos (show nI 0 = 0 from rfl), if_pos (show nI 0 = 0 from rfl)]
      exact ⟨_, _, _, _, _, _, _, _, rfl, rfl, Or.inl rfl⟩
  · rw [g1, g2, bd1_some, bd1_some, if_pos (show nI 0 = 0 from rfl), if_pos (show nI 0 = 0 from rfl)]
    exact ⟨_, _, _, _, _, _, _, _, rfl, rfl, Or.inl rfl⟩
end TRIED
