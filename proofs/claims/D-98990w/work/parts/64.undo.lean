/-! THE PURE LAW: undoing, foretelling, what is to pay -/
section UNDO
variable {B : Nat} {cStep : Nat → Nat → Int32} {m d : Nat} {f : Nat → Nat → Nat} {row cA : Nat → Int32}
variable {q : Nat → Nat} {cN cFor cRoad cFear cTx : Nat → Int32} {cText : Nat → Option Nat} {E : Nat → Option (Nat → Option EvS)} {zN φ : Nat}
theorem begin_E {c : Nat → Int32} {p : Nat} (hφ : 400 < φ) (hp : p < 6) : ∃ c' : Nat → Int32, M_begin φ c (nI p) = some c' ∧ (∀ j : Nat, j < 14 + 11 * p ∨ 14 + 11 * p + 7 ≤ j → c' j = c j) ∧ ∀ w : Nat, w < 7 → c' (14 + 11 * p + w) = if w < 3 then c (14 + 11 * p + 8 + w) else nI 0 := by
  have hL2 : ∀ (j k fu : Nat) (c1 : Nat → Int32), k + j = 3 → j < fu → (∀ y : Nat, y < 14 + 11 * p ∨ 14 + 11 * p + k ≤ y → c1 y = c y) → (∀ w : Nat, w < k → c1 (14 + 11 * p + w) = c (14 + 11 * p + 8 + w)) → ∃ c2 : Nat → Int32, M_begin_L2 φ (nI p) fu (nI k) c1 = some c2 ∧ (∀ y : Nat, y < 14 + 11 * p ∨ 14 + 11 * p + 3 ≤ y → c2 y = c y) ∧ ∀ w : Nat, w < 3 → c2 (14 + 11 * p + w) = c (14 + 11 * p + 8 + w) := by
    intro j
    induction j with
    | zero =>
      intro k fu c1 hk hf a1 a2
      obtain ⟨fu, rfl⟩ : ∃ x, fu = x + 1 := ⟨fu - 1, by omega⟩
      refine ⟨c1, ?_, fun y hy => a1 y (by omega), fun w hw => a2 w (by omega)⟩
      rw [M_begin_L2]
      simp only [litI]
      rw [if_pos ((nI_le' (by omega) (by omega)).mpr (by omega))]
    | succ j ih =>
      intro k fu c1 hk hf a1 a2
      obtain ⟨fu, rfl⟩ : ∃ x, fu = x + 1 := ⟨fu - 1, by omega⟩
      obtain ⟨c2, g1, g2, g3⟩ := ih (k + 1) fu (upd c1 (14 + 11 * p + k) (c (14 + 11 * p + 8 + k))) (by omega) (by omega) (fun y hy => by rw [upd_ne (by omega)]; exact a1 y (by omega)) (fun w hw => by
        by_cases e : w = k
        · subst e; exact upd_eq
        · rw [upd_ne (by omega)]; exact a2 w (by omega))
      refine ⟨c2, ?_, g2, g3⟩
      rw [M_begin_L2]
      simp only [litI]
      rw [if_neg (by rw [nI_le' (by omega) (by omega)]; omega), nI_add, M_get_T hp (by omega), bd1_some, a1 _ (by omega), show 14 + 11 * p + (8 + k) = 14 + 11 * p + 8 + k by omega, M_put_E hp (by omega), bd1_some, lt_def, nI_add]
      exact g1
  have hL30 : ∀ (j k fu : Nat) (c1 : Nat → Int32), k + j = 7 → j < fu → 3 ≤ k → (∀ y : Nat, y < 14 + 11 * p ∨ 14 + 11 * p + k ≤ y → c1 y = c y) → (∀ w : Nat, w < k → c1 (14 + 11 * p + w) = if w < 3 then c (14 + 11 * p + 8 + w) else nI 0) → ∃ c2 : Nat → Int32, M_begin_L30 φ (nI p) fu (nI k) c1 = some c2 ∧ (∀ y : Nat, y < 14 + 11 * p ∨ 14 + 11 * p + 7 ≤ y → c2 y = c y) ∧ ∀ w : Nat, w < 7 → c2 (14 + 11 * p + w) = if w < 3 then c (14 + 11 * p + 8 + w) else nI 0 := by
    intro j
    induction j with
    | zero =>
      intro k fu c1 hk hf h3 a1 a2
      obtain ⟨fu, rfl⟩ : ∃ x, fu = x + 1 := ⟨fu - 1, by omega⟩
      refine ⟨c1, ?_, fun y hy => a1 y (by omega), fun w hw => a2 w (by omega)⟩
      rw [M_begin_L30]
      simp only [litI]
      rw [if_pos ((nI_lt' (by omega) (by omega)).mpr (by omega))]
    | succ j ih =>
      intro k fu c1 hk hf h3 a1 a2
      obtain ⟨fu, rfl⟩ : ∃ x, fu = x + 1 := ⟨fu - 1, by omega⟩
      obtain ⟨c2, g1, g2, g3⟩ := ih (k + 1) fu (upd c1 (14 + 11 * p + k) (nI 0)) (by omega) (by omega) (by omega) (fun y hy => by rw [upd_ne (by omega)]; exact a1 y (by omega)) (fun w hw => by
        by_cases e : w = k
        · subst e
          rw [upd_eq, if_neg (by omega)]
        · rw [upd_ne (by omega)]; exact a2 w (by omega))
      refine ⟨c2, ?_, g2, g3⟩
      rw [M_begin_L30]
      simp only [litI]
      rw [if_neg (by rw [nI_lt' (by omega) (by omega)]; omega), M_put_E hp (by omega), bd1_some, lt_def, nI_add]
      exact g1
  obtain ⟨c1, g1, g2, g3⟩ := hL2 3 0 φ c (by omega) (by omega) (fun _ _ => rfl) (fun w hw => absurd hw (by omega))
  obtain ⟨c2, k1, k2, k3⟩ := hL30 4 3 φ c1 (by omega) (by omega) (by omega) (fun y hy => g2 y hy) (fun w hw => by rw [if_pos hw]; exact g3 w hw)
  refine ⟨c2, ?_, k2, k3⟩
  unfold M_begin
  rw [show (0 : Int32) = nI 0 from rfl, g1, bd1_some, show (3 : Int32) = nI 3 from rfl, k1, bd1_some]
theorem undo96_L {x p : Nat} (hx : 142 ≤ x) (hx2 : x ≤ 1476) (hp : p < 6) {P : Nat} (hpP : p < P) (hP : P < 2147483648) (cA : Nat → Int32) (hxP : cA x = nI P) : ∀ (j k fu : Nat) (c : Nat → Int32), k + j = 7 → j < fu → (∀ y : Nat, y < 14 + 11 * p ∨ 14 + 11 * p + k ≤ y → c y = cA y) → (∀ i : Nat, i < k → c (14 + 11 * p + i) = cA (x + 4 + 7 * p + i)) → ∃ c' : Nat → Int32, M_undo_L96 φ (nI x) (nI p) fu (nI k) c = some c' ∧ (∀ y : Nat, y < 14 + 11 * p ∨ 14 + 11 * p + 7 ≤ y → c' y = cA y) ∧ ∀ i : Nat, i < 7 → c' (14 + 11 * p + i) = cA (x + 4 + 7 * p + i) := by
  intro j
  induction j with
  | zero =>
    intro k fu c hk hf ha hb
    obtain ⟨fu, rfl⟩ : ∃ x, fu = x + 1 := ⟨fu - 1, by omega⟩
    refine ⟨c, ?_, fun y hy => ha y (by omega), fun i hi => hb i (by omega)⟩
    rw [M_undo_L96]
    simp only [litI]
    rw [if_pos ((nI_le' (by omega) (by omega)).mpr (by omega))]
  | succ j ih =>
    intro k fu c hk hf ha hb
    obtain ⟨fu, rfl⟩ : ∃ x, fu = x + 1 := ⟨fu - 1, by omega⟩
    obtain ⟨c', g1, g2, g3⟩ := ih (k + 1) fu (upd c (14 + 11 * p + k) (cA (x + 4 + 7 * p + k))) (by omega) (by omega) (fun y hy => by rw [upd_ne (by omega)]; exact ha y (by omega)) (fun i hi => by
      by_cases e : i = k
      · subst e; exact upd_eq
      · rw [upd_ne (by omega)]; exact hb i (by omega))
    refine ⟨c', ?_, g2, g3⟩
    rw [M_undo_L96]
    simp only [litI]
    rw [if_neg (nle_I (by omega) (by omega)), rd_I (by omega) (by omega), ha x (by omega), hxP, ob_some, if_neg (nle_I hpP hP), nI_mul, nI_add, nI_add, nI_add, rd_I (by omega) (by omega), ob_some, ha _ (by omega), M_put_E hp (by omega), bd1_some, lt_def, nI_add]
    exact g1
theorem undo69_L {x P pk : Nat} (hφ : 400 < φ) (hx : 142 ≤ x) (hx2 : x ≤ 1476) (hP : P ≤ 6) (hpk : pk ≤ P) (cA : Nat → Int32) (h1 : cA 1 = nI P) (hxP : cA x = nI pk) : ∀ (j k fu : Nat) (c : Nat → Int32), k + j = P → j < fu → (∀ y : Nat, y < 14 ∨ 80 ≤ y → c y = cA y) → (∀ p w : Nat, p < 6 → 7 ≤ w → w < 11 → c (14 + 11 * p + w) = cA (14 + 11 * p + w)) → (∀ p w : Nat, k ≤ p → p < 6 → w < 7 → c (14 + 11 * p + w) = cA (14 + 11 * p + w)) → (∀ p w : Nat, p < k → w < 7 → c (14 + 11 * p + w) = if p < pk then cA (x + 4 + 7 * p + w) else if w < 3 then cA (14 + 11 * p + 8 + w) else nI 0) → ∃ c' : Nat → Int32, M_undo_L69 φ (nI x) fu (nI k) c = some c' ∧ (∀ y : Nat, y < 14 ∨ 80 ≤ y → c' y = cA y) ∧ (∀ p w : Nat, p < 6 → 7 ≤ w → w < 11 → c' (14 + 11 * p + w) = cA (14 + 11 * p + w)) ∧ (∀ p w : Nat, P ≤ p → p < 6 → w < 7 → c' (14 + 11 * p + w) = cA (14 + 11 * p + w)) ∧ ∀ p w : Nat, p < P → w < 7 → c' (14 + 11 * p + w) = if p < pk then cA (x + 4 + 7 * p + w) else if w < 3 then cA (14 + 11 * p + 8 + w) else nI 0 := by
  intro j
  induction j with
  | zero =>
    intro k fu c hk hf a1 a2 a3 a4
    obtain ⟨fu, rfl⟩ : ∃ x, fu = x + 1 := ⟨fu - 1, by omega⟩
    have hkP : k = P := by omega
    subst hkP
    refine ⟨c, ?_, a1, a2, a3, a4⟩
    rw [M_undo_L69]
    simp only [litI]
    rw [rd_I (by omega) (by omega), a1 1 (by omega), h1, ob_some, if_pos ((nI_le' (by omega) (by omega)).mpr (by omega))]
  | succ j ih =>
    intro k fu c hk hf a1 a2 a3 a4
    obtain ⟨fu, rfl⟩ : ∃ x, fu = x + 1 := ⟨fu - 1, by omega⟩
    have hx0 : c x = nI pk := (a1 x (by omega)).trans hxP
    have key : ∃ c2 : Nat → Int32, (bd1 (bd1 (if nI k < nI pk then (some c) else (bd1 (M_begin φ c (nI k)) fun c43 => some c43) : Option (Nat → Int32)) fun c26 => M_undo_L96 φ (nI x) (nI k) φ (nI 0) c26) fun c31 => lt (nI k + nI 1) fun v37 => M_undo_L69 φ (nI x) fu v37 c31) = M_undo_L69 φ (nI x) fu (nI (k + 1)) c2 ∧ (∀ y : Nat, y < 14 + 11 * k ∨ 14 + 11 * k + 7 ≤ y → c2 y = c y) ∧ ∀ w : Nat, w < 7 → c2 (14 + 11 * k + w) = if k < pk then cA (x + 4 + 7 * k + w) else if w < 3 then cA (14 + 11 * k + 8 + w) else nI 0 := by
      by_cases e : k < pk
      · obtain ⟨c2, g1, g2, g3⟩ := undo96_L (φ := φ) hx hx2 (show k < 6 by omega) e (by omega) c hx0 7 0 φ c (by omega) (by omega) (fun _ _ => rfl) (fun i hi => absurd hi (by omega))
        refine ⟨c2, ?_, g2, fun w hw => ?_⟩
        · rw [if_pos ((nI_lt' (by omega) (by omega)).mpr e), bd1_some, g1, bd1_some, lt_def, nI_add]
        · rw [if_pos e, g3 w hw]
          exact a1 _ (by omega)
      · obtain ⟨c2, g1, g2, g3⟩ := begin_E (φ := φ) (c := c) (p := k) hφ (by omega)
        obtain ⟨fu', hfu⟩ : ∃ y, φ = y + 1 := ⟨φ - 1, by omega⟩
        refine ⟨c2, ?_, g2, fun w hw => ?_⟩
        · have h96 : ∀ nn : Nat, nn = fu' + 1 → M_undo_L96 φ (nI x) (nI k) nn (nI 0) c2 = some c2 := by
            intro nn e2
            subst e2
            rw [M_undo_L96]
            simp only [litI]
            rw [if_neg (nle_I (by omega) (by omega)), rd_I (by omega) (by omega), g2 x (by omega), hx0, ob_some, if_pos ((nI_le' (by omega) (by omega)).mpr (by omega))]
          rw [if_neg (fun q => e ((nI_lt' (by omega) (by omega)).mp q)), g1, bd1_some, bd1_some, h96 φ hfu, bd1_some, lt_def, nI_add]
        · rw [if_neg e, g3 w hw]
          by_cases e3 : w < 3
          · rw [if_pos e3, if_pos e3]
            have := a2 k (8 + w) (by omega) (by omega) (by omega)
            rw [Nat.add_assoc, this]
          · rw [if_neg e3, if_neg e3]
    obtain ⟨c2, e1, e2, e3⟩ := key
    obtain ⟨c', g1, g2, g3, g4, g5⟩ := ih (k + 1) fu c2 (by omega) (by omega) (fun y hy => by rw [e2 y (by omega)]; exact a1 y hy) (fun p w w1 w2 w3 => by rw [e2 _ (by omega)]; exact a2 p w w1 w2 w3) (fun p w w1 w2 w3 => by rw [e2 _ (by omega)]; exact a3 p w (by omega) w2 w3) (fun p w w1 w2 => by
      by_cases e4 : p = k
      · subst e4; exact e3 w w2
      · rw [e2 _ (by omega)]; exact a4 p w (by omega) w2)
    refine ⟨c', ?_, g2, g3, g4, g5⟩
    rw [M_undo_L69]
    simp only [litI]
    rw [rd_I (by omega) (by omega), a1 1 (by omega), h1, ob_some, if_neg (nle_I (by omega) (by omega)), rd_I (by omega) (by omega), hx0, ob_some]
    rw [← g1, ← e1]
    by_cases e : nI k < nI pk
    · rw [if_pos e, bd1_some, bd1_some]
    · rw [if_neg e]
      cases M_begin φ c (nI k) <;> rfl
theorem undo37_L {x : Nat} (hx : 142 ≤ x) (hx2 : x ≤ 1476) (cA : Nat → Int32) : ∀ (j k fu : Nat) (c : Nat → Int32), k + j = 3 → j < fu → (∀ y : Nat, y < 10 ∨ 10 + k ≤ y → c y = cA y) → (∀ i : Nat, i < k → c (10 + i) = cA (x + 1 + i)) → ∃ c' : Nat → Int32, M_undo_L37 φ (nI x) fu (nI k) c = some c' ∧ (∀ y : Nat, y < 10 ∨ 13 ≤ y → c' y = cA y) ∧ ∀ i : Nat, i < 3 → c' (10 + i) = cA (x + 1 + i) := by
  intro j
  induction j with
  | zero =>
    intro k fu c hk hf ha hb
    obtain ⟨fu, rfl⟩ : ∃ x, fu = x + 1 := ⟨fu - 1, by omega⟩
    refine ⟨c, ?_, fun y hy => ha y (by omega), fun i hi => hb i (by omega)⟩
    rw [M_undo_L37]
    simp only [litI]
    rw [if_pos ((nI_le' (by omega) (by omega)).mpr (by omega))]
  | succ j ih =>
    intro k fu c hk hf ha hb
    obtain ⟨fu, rfl⟩ : ∃ x, fu = x + 1 := ⟨fu - 1, by omega⟩
    obtain ⟨c', g1, g2, g3⟩ := ih (k + 1) fu (upd c (10 + k) (cA (x + 1 + k))) (by omega) (by omega) (fun y hy => by rw [upd_ne (by omega)]; exact ha y (by omega)) (fun i hi => by
      by_cases e : i = k
      · subst e; exact upd_eq
      · rw [upd_ne (by omega)]; exact hb i (by omega))
    refine ⟨c', ?_, g2, g3⟩
    rw [M_undo_L37]
    simp only [litI]
    rw [if_neg (nle_I (by omega) (by omega)), nI_add, nI_add, rd_I (by omega) (by omega), ob_some, ha _ (by omega), nI_add, wr_I (by omega) (by omega), ob_some, lt_def, nI_add]
    exact g1
theorem op_undo (hφ : 9000 < φ) (hE : EnvR q cN cFor cRoad cFear cA) (h : RM B 0 q m d f row cStep cA) : ∃ (r : Int32) (q' : Nat → Nat) (cN' row' : Nat → Int32) (cA' : Nat → Int32), X_undo cN row cStep = some (r, cN', row') ∧ M_undo φ cA = some (r, cA') ∧ MV B q cA q' cN' row' cStep cA' ∧ (r = -1 ∨ ∃ n : Nat, n ≤ 30 ∧ r = nI n) := by
  obtain ⟨s1, s2, s3⟩ := hE.1.S
  obtain ⟨p1, p2, p3⟩ := hE.1.P
  unfold X_undo M_undo
  rw [show (4 : Int32) = nI 4 from rfl, rd_I (by omega) (by omega), rd_I (by omega) (by omega), s1, s2]
  simp only [ob_some]
  rw [show (0 : Int32) = nI 0 from rfl]
  by_cases hS : q 4 = 0
  · rw [if_pos (show nI (q 4) = nI 0 by rw [hS]), if_pos (show nI (q 4) = nI 0 by rw [hS])]
    exact ⟨-1, q, cN, row, cA, rfl, rfl, MV.same hE h (Nat.le_refl _), Or.inl rfl⟩
  · rw [if_neg (show ¬ nI (q 4) = nI 0 from ne_I hS (by omega) (by omega)), if_neg (show ¬ nI (q 4) = nI 0 from ne_I hS (by omega) (by omega)), lt_def, lt_def]
    obtain ⟨wk, mk, dk, pk, fk, t, hR, hSt, hTo, hC, hm, hd⟩ := h
    obtain ⟨S, hq⟩ : ∃ S, q 4 = S + 1 := ⟨q 4 - 1, by omega⟩
    obtain ⟨t1, ⟨t2, t3, t4, t5⟩, t6, t7⟩ := hSt.2 S (by omega)
    obtain ⟨hX, hX1, hmk, hdk, hCk, hpk⟩ := t1
    rw [show (1 : Int32) = nI 1 from rfl, hq, nI_sub (by omega), Nat.add_sub_cancel, wr_I (by omega) (by omega), wr_I (by omega) (by omega), ob_some, ob_some, rd_I (by omega) (by omega), rd_I (by omega) (by omega), upd_eq, upd_eq, ob_some, ob_some, inb_I (by omega) (by omega), lt_def, lt_def, ob_some, nI_clamp' (by omega), show (142 : Int32) = nI 142 from rfl, show (46 : Int32) = nI 46 from rfl, nI_mul, nI_add]
    have hu : ∀ y : Nat, y ≠ 4 → upd cA 4 (nI S) y = cA y := fun y hy => upd_ne hy
    obtain ⟨c1, g1, g2, g3⟩ := undo37_L (φ := φ) (x := 142 + 46 * S) (by omega) (by omega) (upd cA 4 (nI S)) 3 0 φ _ (by omega) (by omega) (fun _ _ => rfl) (fun i hi => absurd hi (by omega))
    have k1 : c1 1 = nI (q 1) := by rw [g2 1 (by omega), hu 1 (by omega)]; exact p2
    have kx : c1 (142 + 46 * S) = nI (pk S) := by rw [g2 _ (by omega), hu _ (by omega)]; exact t2
    obtain ⟨c2, j1, j2, j3, j4, j5⟩ := undo69_L (φ := φ) (x := 142 + 46 * S) (P := q 1) (pk := pk S) (by omega) (by omega) (by omega) p3 hpk c1 k1 kx (q 1) 0 φ c1 (by omega) (by omega) (fun _ _ => rfl) (fun _ _ _ _ _ => rfl) (fun _ _ _ _ _ => rfl) (fun p w hp => absurd hp (by omega))
    have hlo : ∀ y : Nat, y < 10 → y ≠ 4 → c2 y = cA y := fun y a1 a2 => by rw [j2 y (by omega), g2 y (by omega), hu y a2]
    have hhi : ∀ y : Nat, 80 ≤ y → c2 y = cA y := fun y a1 => by rw [j2 y (by omega), g2 y (by omega), hu y (by omega)]
    have h4 : c2 4 = nI S := by rw [j2 4 (by omega), g2 4 (by omega), upd_eq]
    have hto : ∀ p w : Nat, p < 6 → 7 ≤ w → w < 11 → c2 (14 + 11 * p + w) = cA (14 + 11 * p + w) := fun p w a1 a2 a3 => by rw [j3 p w a1 a2 a3, g2 _ (by omega), hu _ (by omega)]
    refine ⟨nI S, upN q 4 S, upd cN 4 (nI S), cStep S, c2, rfl, ?_, ⟨⟨mk S, dk S, fk S, wk, mk, dk, pk, fk, t, ⟨⟨⟨hX.1, ?_⟩, ⟨hX1, ?_⟩, fun p w hp hw => ⟨hX.2 p w hp hw, ?_⟩⟩, Or.inr ⟨rfl, ?_⟩⟩, ?_, ?_, hCk, hmk, hdk⟩, ?_, fun j hj => if_neg hj, fun j a1 a2 => hhi j a1, hto⟩, Or.inr ⟨S, by omega, rfl⟩⟩
    · rw [g1, bd1_some, j1, bd1_some, rd_I (by omega) (by omega), h4, ob_some]
    · rw [j2 10 (by omega), show 10 = 10 + 0 from rfl, g3 0 (by omega), hu _ (by omega)]; exact t3
    · rw [j2 11 (by omega), show 11 = 10 + 1 from rfl, g3 1 (by omega), hu _ (by omega)]; exact t4
    · by_cases e : p < q 1
      · rw [j5 p w e hw]
        by_cases e1 : p < pk S
        · rw [if_pos e1, g2 _ (by omega), hu _ (by omega)]
          exact t6 p w e1 hw
        · rw [if_neg e1, t7 p w (by omega) e hw]
          by_cases e3 : w < 3
          · rw [if_pos e3, if_pos e3, g2 _ (by omega), hu _ (by omega)]
            exact hTo p w e e3
          · rw [if_neg e3, if_neg e3]
      · rw [j4 p w (by omega) hp hw, g2 _ (by omega), hu _ (by omega), hR.1.m.2 p w hp hw, hC.2 p w (by omega) hp hw, hCk.2 p w (by omega) hp hw]
    · rcases hR.2 with ⟨h0, -⟩ | ⟨-, W, bk, b1, b2, b3, b4, b5, b6, b7, b8⟩
      · exact absurd h0 (by omega)
      · show BookR B (upN q 4 S 4) wk cStep 0 (cStep S) c2
        rw [show upN q 4 S 4 = S from if_pos rfl]
        refine ⟨wk S, bk, b2 S (by omega), fun k hk => b2 k (by omega), ?_, ?_, fun k hk => ⟨?_, ?_⟩, b6, fun j a1 a2 => ?_, fun k j a1 a2 a3 => ?_⟩
        · rw [j2 12 (by omega), show 12 = 10 + 2 from rfl, g3 2 (by omega), hu _ (by omega)]; exact t5
        · have := (b5 S (by omega)).1; omega
        · exact (hSt.1 k S (by omega) (by omega)).1
        · have := (hSt.1 k S (by omega) (by omega)).2; omega
        · rw [hhi _ (by omega)]; exact b8 S j (by omega) a1 a2
        · rw [hhi _ (by omega)]; exact b8 k j (by omega) a2 a3
    · show StepsR (q 0) (q 1) (upN q 4 S 4) wk mk dk pk fk t cStep c2
      rw [show upN q 4 S 4 = S from if_pos rfl]
      have := hSt.fr (cA' := c2) (by omega) p3 (fun j a1 a2 => hhi j (by omega))
      exact ⟨fun k k' a1 a2 => this.1 k k' a1 (by omega), fun k hk => this.2 k (by omega)⟩
    · exact hTo.fr p3 hto
    · refine ⟨fun k hk => ?_, fun k hk h3 => ?_, ?_⟩
      · by_cases e : k = 4
        · subst e
          rw [h4, upd_eq]
        · rw [hlo k hk e, upd_ne e]; exact hE.1.1 k hk
      · by_cases e : k = 4
        · subst e
          exact ⟨by rw [upd_eq]; rfl, by show S ≤ 30; omega⟩
        · rw [upd_ne e, show upN q 4 S k = q k from if_neg e]
          exact hE.1.2.1 k hk h3
      · rw [upd_ne (by omega)]
        exact hE.1.2.2
end UNDO
