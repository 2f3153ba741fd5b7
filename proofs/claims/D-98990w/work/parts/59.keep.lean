/-! THE PURE LAW: the kept steps -/
def StepsR (L P S : Nat) (wk mk dk pk : Nat → Nat) (fk : Nat → Nat → Nat → Nat) (t : Nat → Nat → Nat) (cStep : Nat → Nat → Int32) (cA : Nat → Int32) : Prop := (∀ k k' : Nat, k ≤ k' → k' < S → wk k ≤ wk k' ∧ wk k' ≤ wk k + 240 * (k' - k)) ∧ ∀ k : Nat, k < S → (RowX (mk k) (fk k) (cStep k) ∧ cStep k 1 = nI (dk k) ∧ mk k ≤ 9999 ∧ dk k < 30469 ∧ RowC L P (mk k) (fk k) ∧ pk k ≤ P) ∧ (cA (142 + 46 * k) = nI (pk k) ∧ cA (142 + 46 * k + 1) = nI (mk k) ∧ cA (142 + 46 * k + 2) = nI (dk k) ∧ cA (142 + 46 * k + 3) = nI (wk k)) ∧ (∀ p w : Nat, p < pk k → w < 7 → cA (142 + 46 * k + 4 + 7 * p + w) = nI (fk k p w)) ∧ ∀ p w : Nat, pk k ≤ p → p < P → w < 7 → fk k p w = if w < 3 then t p w else 0
def ToldR (P : Nat) (t : Nat → Nat → Nat) (cA : Nat → Int32) : Prop := ∀ p w : Nat, p < P → w < 3 → cA (14 + 11 * p + 8 + w) = nI (t p w)
theorem StepsR.fr {L P S : Nat} {wk mk dk pk : Nat → Nat} {fk : Nat → Nat → Nat → Nat} {t : Nat → Nat → Nat} {cStep : Nat → Nat → Int32} {cA cA' : Nat → Int32} (h : StepsR L P S wk mk dk pk fk t cStep cA) (hS : S ≤ 30) (hP : P ≤ 6) (hf : ∀ j : Nat, 142 ≤ j → j < 1522 → cA' j = cA j) : StepsR L P S wk mk dk pk fk t cStep cA' := by
  refine ⟨h.1, fun k hk => ?_⟩
  obtain ⟨h1, ⟨e1, e2, e3, e4⟩, h3, h4⟩ := h.2 k hk
  refine ⟨h1, ⟨?_, ?_, ?_, ?_⟩, fun p w hp hw => ?_, h4⟩
  · rw [hf _ (by omega) (by omega)]; exact e1
  · rw [hf _ (by omega) (by omega)]; exact e2
  · rw [hf _ (by omega) (by omega)]; exact e3
  · rw [hf _ (by omega) (by omega)]; exact e4
  · have := h1.2.2.2.2.2
    rw [hf _ (by omega) (by omega)]; exact h3 p w hp hw
theorem ToldR.fr {P : Nat} {t : Nat → Nat → Nat} {cA cA' : Nat → Int32} (h : ToldR P t cA) (hP : P ≤ 6) (hf : ∀ p w : Nat, p < 6 → 7 ≤ w → w < 11 → cA' (14 + 11 * p + w) = cA (14 + 11 * p + w)) : ToldR P t cA' := fun p w hp hw => by
  have := hf p (8 + w) (by omega) (by omega) (by omega)
  rw [show 14 + 11 * p + 8 + w = 14 + 11 * p + (8 + w) by omega, this, ← Nat.add_assoc]
  exact h p w hp hw
/-- what moves: row, steps, book; b entries more may be written -/
def RM (B b : Nat) (q : Nat → Nat) (m d : Nat) (f : Nat → Nat → Nat) (row : Nat → Int32) (cStep : Nat → Nat → Int32) (cA : Nat → Int32) : Prop := ∃ (wk mk dk pk : Nat → Nat) (fk : Nat → Nat → Nat → Nat) (t : Nat → Nat → Nat), RWS B (q 4) wk cStep 1 b m d f row cA ∧ StepsR (q 0) (q 1) (q 4) wk mk dk pk fk t cStep cA ∧ ToldR (q 1) t cA ∧ RowC (q 0) (q 1) m f ∧ m ≤ 9999 ∧ d < 30469
section KEEP
variable {q : Nat → Nat} {cN cA row : Nat → Int32} {cStep : Nat → Nat → Int32} {φ B b m d : Nat} {f : Nat → Nat → Nat}
theorem shiftX_L (cStep : Nat → Nat → Int32) : ∀ (j k fu : Nat) (c : Nat → Nat → Int32), k + j = 30 → j < fu → 1 ≤ k → (∀ i : Nat, k ≤ i → c i = cStep i) → (∀ i : Nat, i + 1 < k → c i = cStep (i + 1)) → ∃ c' : Nat → Nat → Int32, S_keeps_L13 φ fu (nI k) c = some c' ∧ ∀ i : Nat, i < 29 → c' i = cStep (i + 1) := by
  intro j
  induction j with
  | zero =>
    intro k fu c hk hfu h1 ha hb
    obtain ⟨fu, rfl⟩ : ∃ x, fu = x + 1 := ⟨fu - 1, by omega⟩
    refine ⟨c, ?_, fun i hi => hb i (by omega)⟩
    rw [S_keeps_L13]
    simp only [litI]
    rw [if_pos ((nI_le' (by omega) (by omega)).mpr (by omega))]
  | succ j ih =>
    intro k fu c hk hfu h1 ha hb
    obtain ⟨fu, rfl⟩ : ∃ x, fu = x + 1 := ⟨fu - 1, by omega⟩
    obtain ⟨c', h2, h3⟩ := ih (k + 1) fu (va_up c (k - 1) (c k)) (by omega) (by omega) (by omega) (fun i hi => by rw [va_up_ne _ _ (by omega)]; exact ha i (by omega)) (fun i hi => by
      by_cases e : i = k - 1
      · subst e
        rw [va_up_self, ha k (Nat.le_refl _)]
        congr 1
        omega
      · rw [va_up_ne _ _ e]
        exact hb i (by omega))
    refine ⟨c', ?_, h3⟩
    rw [S_keeps_L13]
    simp only [litI]
    rw [if_neg (by rw [nI_le' (by omega) (by omega)]; omega), inb_I (by omega) (by omega), lt_def, nI_sub (by omega), inb_I (by omega) (by omega), lt_def, nI_clamp' (by omega), nI_clamp' (by omega), lt_def, nI_add]
    exact h2
theorem shiftM_L (cA : Nat → Int32) : ∀ (j i fu : Nat) (c : Nat → Int32), i + j = 1334 → j < fu → (∀ x : Nat, x < 142 ∨ 142 + i ≤ x → c x = cA x) → (∀ x : Nat, x < i → c (142 + x) = cA (188 + x)) → ∃ c' : Nat → Int32, M_keep_L13 φ fu (nI i) c = some c' ∧ (∀ x : Nat, x < 142 ∨ 1476 ≤ x → c' x = cA x) ∧ ∀ x : Nat, x < 1334 → c' (142 + x) = cA (188 + x) := by
  intro j
  induction j with
  | zero =>
    intro i fu c hi hfu ha hb
    obtain ⟨fu, rfl⟩ : ∃ x, fu = x + 1 := ⟨fu - 1, by omega⟩
    refine ⟨c, ?_, fun x hx => ha x (by omega), fun x hx => hb x (by omega)⟩
    rw [M_keep_L13]
    simp only [litI]
    rw [if_pos ((nI_le' (by omega) (by omega)).mpr (by omega))]
  | succ j ih =>
    intro i fu c hi hfu ha hb
    obtain ⟨fu, rfl⟩ : ∃ x, fu = x + 1 := ⟨fu - 1, by omega⟩
    obtain ⟨c', h2, h3, h4⟩ := ih (i + 1) fu (upd c (142 + i) (cA (188 + i))) (by omega) (by omega) (fun x hx => by rw [upd_ne (by omega)]; exact ha x (by omega)) (fun x hx => by
      by_cases e : x = i
      · rw [e, upd_eq]
      · rw [upd_ne (by omega)]; exact hb x (by omega))
    refine ⟨c', ?_, h3, h4⟩
    rw [M_keep_L13]
    simp only [litI]
    rw [if_neg (by rw [nI_le' (by omega) (by omega)]; omega), nI_add, rd_I (by omega) (by omega), ob_some, nI_add, wr_I (by omega) (by omega), ob_some, lt_def, nI_add, ha (188 + i) (by omega)]
    exact h2
theorem push84_L {x : Nat} (hx : 142 ≤ x) (hx2 : x ≤ 1476) (cA : Nat → Int32) : ∀ (j k fu : Nat) (c : Nat → Int32), k + j = 3 → j < fu → (∀ y : Nat, y < x ∨ x + 1 + k ≤ y ∨ y = x → c y = cA y) → (∀ i : Nat, i < k → c (x + 1 + i) = cA (10 + i)) → ∃ c' : Nat → Int32, M_keep_L84 φ (nI x) fu (nI k) c = some c' ∧ (∀ y : Nat, y < x ∨ x + 4 ≤ y ∨ y = x → c' y = cA y) ∧ ∀ i : Nat, i < 3 → c' (x + 1 + i) = cA (10 + i) := by
  intro j
  induction j with
  | zero =>
    intro k fu c hk hfu ha hb
    obtain ⟨fu, rfl⟩ : ∃ x, fu = x + 1 := ⟨fu - 1, by omega⟩
    refine ⟨c, ?_, fun y hy => ha y (by omega), fun i hi => hb i (by omega)⟩
    rw [M_keep_L84]
    simp only [litI]
    rw [if_pos ((nI_le' (by omega) (by omega)).mpr (by omega))]
  | succ j ih =>
    intro k fu c hk hfu ha hb
    obtain ⟨fu, rfl⟩ : ∃ x, fu = x + 1 := ⟨fu - 1, by omega⟩
    obtain ⟨c', h2, h3, h4⟩ := ih (k + 1) fu (upd c (x + 1 + k) (cA (10 + k))) (by omega) (by omega) (fun y hy => by rw [upd_ne (by omega)]; exact ha y (by omega)) (fun i hi => by
      by_cases e : i = k
      · rw [e, upd_eq]
      · rw [upd_ne (by omega)]; exact hb i (by omega))
    refine ⟨c', ?_, h3, h4⟩
    rw [M_keep_L84]
    simp only [litI]
    rw [if_neg (by rw [nI_le' (by omega) (by omega)]; omega), nI_add, rd_I (by omega) (by omega), ob_some, nI_add, nI_add, wr_I (by omega) (by omega), ob_some, lt_def, nI_add, ha (10 + k) (by omega)]
    exact h2
theorem push124_L {x p : Nat} (hx : 142 ≤ x) (hx2 : x ≤ 1476) (hp : p < 6) (cA : Nat → Int32) : ∀ (j k fu : Nat) (c : Nat → Int32), k + j = 7 → j < fu → (∀ y : Nat, y < x + 4 + 7 * p ∨ x + 4 + 7 * p + k ≤ y → c y = cA y) → (∀ i : Nat, i < k → c (x + 4 + 7 * p + i) = cA (14 + 11 * p + i)) → ∃ c' : Nat → Int32, M_keep_L124 φ (nI x) (nI p) fu (nI k) c = some c' ∧ (∀ y : Nat, y < x + 4 + 7 * p ∨ x + 4 + 7 * p + 7 ≤ y → c' y = cA y) ∧ ∀ i : Nat, i < 7 → c' (x + 4 + 7 * p + i) = cA (14 + 11 * p + i) := by
  intro j
  induction j with
  | zero =>
    intro k fu c hk hfu ha hb
    obtain ⟨fu, rfl⟩ : ∃ x, fu = x + 1 := ⟨fu - 1, by omega⟩
    refine ⟨c, ?_, fun y hy => ha y (by omega), fun i hi => hb i (by omega)⟩
    rw [M_keep_L124]
    simp only [litI]
    rw [if_pos ((nI_le' (by omega) (by omega)).mpr (by omega))]
  | succ j ih =>
    intro k fu c hk hfu ha hb
    obtain ⟨fu, rfl⟩ : ∃ x, fu = x + 1 := ⟨fu - 1, by omega⟩
    obtain ⟨c', h2, h3, h4⟩ := ih (k + 1) fu (upd c (x + 4 + 7 * p + k) (cA (14 + 11 * p + k))) (by omega) (by omega) (fun y hy => by rw [upd_ne (by omega)]; exact ha y (by omega)) (fun i hi => by
      by_cases e : i = k
      · rw [e, upd_eq]
      · rw [upd_ne (by omega)]; exact hb i (by omega))
    refine ⟨c', ?_, h3, h4⟩
    rw [M_keep_L124]
    simp only [litI]
    rw [if_neg (by rw [nI_le' (by omega) (by omega)]; omega), M_get_T hp (by omega), bd1_some, nI_mul, nI_add, nI_add, nI_add, wr_I (by omega) (by omega), ob_some, lt_def, nI_add, ha (14 + 11 * p + k) (by omega)]
    exact h2
theorem push116_L {x : Nat} (hx : 142 ≤ x) (hx2 : x ≤ 1476) (hφ : 400 < φ) (cA : Nat → Int32) : ∀ (j p fu : Nat) (c : Nat → Int32), p + j = 6 → j < fu → (∀ y : Nat, y < x + 4 ∨ x + 4 + 7 * p ≤ y → c y = cA y) → (∀ p' i : Nat, p' < p → i < 7 → c (x + 4 + 7 * p' + i) = cA (14 + 11 * p' + i)) → ∃ c' : Nat → Int32, M_keep_L116 φ (nI x) fu (nI p) c = some c' ∧ (∀ y : Nat, y < x + 4 ∨ x + 46 ≤ y → c' y = cA y) ∧ ∀ p' i : Nat, p' < 6 → i < 7 → c' (x + 4 + 7 * p' + i) = cA (14 + 11 * p' + i) := by
  intro j
  induction j with
  | zero =>
    intro p fu c hp hfu ha hb
    obtain ⟨fu, rfl⟩ : ∃ x, fu = x + 1 := ⟨fu - 1, by omega⟩
    refine ⟨c, ?_, fun y hy => ha y (by omega), fun p' i hp' hi => hb p' i (by omega) hi⟩
    rw [M_keep_L116]
    simp only [litI]
    rw [if_pos ((nI_le' (by omega) (by omega)).mpr (by omega))]
  | succ j ih =>
    intro p fu c hp hfu ha hb
    obtain ⟨fu, rfl⟩ : ∃ x, fu = x + 1 := ⟨fu - 1, by omega⟩
    obtain ⟨c1, g1, g2, g3⟩ := push124_L (φ := φ) hx hx2 (show p < 6 by omega) c 7 0 φ c (by omega) (by omega) (fun y _ => rfl) (fun i hi => absurd hi (Nat.not_lt_zero i))
    obtain ⟨c', h2, h3, h4⟩ := ih (p + 1) fu c1 (by omega) (by omega) (fun y hy => by rw [g2 y (by omega)]; exact ha y (by omega)) (fun p' i hp' hi => by
      by_cases e : p' = p
      · subst e
        rw [g3 i hi]; exact ha _ (by omega)
      · rw [g2 _ (by omega)]; exact hb p' i (by omega) hi)
    refine ⟨c', ?_, h3, h4⟩
    rw [M_keep_L116]
    simp only [litI]
    rw [if_neg (by rw [nI_le' (by omega) (by omega)]; omega), g1, bd1_some, lt_def, nI_add]
    exact h2
/-- one step more, there being room -/
theorem push2 {S : Nat} (hφ : 9000 < φ) (hS : S < 30) (hq : q 4 = S) (hN4 : cN 4 = nI S) (hA4 : cA 4 = nI S) (hA1 : cA 1 = nI (q 1)) (hP : q 1 ≤ 6) (h : RM B b q m d f row cStep cA) : ∃ cA' : Nat → Int32, ((rd cN 10 (nI 4)).bind fun v6 =>
inb v6 30 (
lt (va_up cStep (v6 : Int32).toNatClampNeg row) fun c8 =>
(rd cN 10 (nI 4)).bind fun v9 =>
lt ((v9 + nI 1) : Int32) fun v10 =>
(wr cN 10 (nI 4) v10).bind fun c11 =>
some (c11, c8))) = some (upd cN 4 (nI (S + 1)), va_up cStep S row) ∧ ((rd cA 8762 (nI 4)).bind fun v5 =>
lt ((nI 142 + (nI 46 * v5)) : Int32) fun v6 =>
(rd cA 8762 (nI 1)).bind fun v7 =>
(wr cA 8762 v6 v7).bind fun c8 =>
bd1 (M_keep_L84 φ v6 φ (nI 0) c8) fun c11 =>
bd1 (M_keep_L116 φ v6 φ (nI 0) c11) fun c19 =>
(rd c19 8762 (nI 4)).bind fun v25 =>
lt ((v25 + nI 1) : Int32) fun v26 =>
(wr c19 8762 (nI 4) v26).bind fun c27 =>
some c27) = some cA' ∧ RM (B + 240) 240 (upN q 4 (S + 1)) m d f row (va_up cStep S row) cA' ∧ (∀ j : Nat, j < 142 → j ≠ 4 → cA' j = cA j) ∧ cA' 4 = nI (S + 1) := by
  obtain ⟨wk, mk, dk, pk, fk, t, hR, hSt, hT, hC, hm, hd⟩ := h
  subst hq
  obtain ⟨c1, g1, g2, g3⟩ := push84_L (φ := φ) (x := 142 + 46 * q 4) (by omega) (by omega) (upd cA (142 + 46 * q 4) (nI (q 1))) 3 0 φ _ (by omega) (by omega) (fun y _ => rfl) (fun i hi => absurd hi (Nat.not_lt_zero i))
  obtain ⟨c2, k1, k2, k3⟩ := push116_L (φ := φ) (x := 142 + 46 * q 4) (by omega) (by omega) (by omega) c1 6 0 φ c1 (by omega) (by omega) (fun y _ => rfl) (fun p' i hp' => absurd hp' (Nat.not_lt_zero p'))
  have hlo : ∀ j : Nat, j < 142 + 46 * q 4 ∨ 142 + 46 * q 4 + 46 ≤ j → c2 j = cA j := fun j hj => by
    rw [k2 j (by omega), g2 j (by omega), upd_ne (by omega)]
  refine ⟨upd c2 4 (nI (q 4 + 1)), ?_, ?_, ?_, fun j h1 h2 => by rw [upd_ne h2, hlo j (by omega)], upd_eq⟩
  · rw [rd_I (by omega) (by omega), hN4, ob_some, inb_I (by omega) (by omega), lt_def, nI_clamp' (by omega), ob_some, lt_def, nI_add, wr_I (by omega) (by omega), ob_some]
  · rw [rd_I (by omega) (by omega), hA4, ob_some, lt_def, nI_mul, nI_add, rd_I (by omega) (by omega), hA1, ob_some, wr_I (by omega) (by omega), ob_some, g1, bd1_some, k1, bd1_some, rd_I (by omega) (by omega), hlo 4 (by omega), hA4, ob_some, lt_def, nI_add, wr_I (by omega) (by omega), ob_some]
  · have hq0 : upN q 4 (q 4 + 1) 0 = q 0 := rfl
    have hq1 : upN q 4 (q 4 + 1) 1 = q 1 := rfl
    have hq4 : upN q 4 (q 4 + 1) 4 = q 4 + 1 := rfl
    obtain ⟨hRR, hB0⟩ := hR
    obtain ⟨-, W, bk, h1, h2, h3, h4, h5, h6, h7, h8⟩ := hB0.resolve_left (fun z => by omega)
    have hA' : ∀ j : Nat, j ≠ 4 → (j < 142 + 46 * q 4 ∨ 142 + 46 * q 4 + 46 ≤ j) → upd c2 4 (nI (q 4 + 1)) j = cA j := fun j h1 h2 => by rw [upd_ne h1, hlo j h2]
    have hblk : ∀ i : Nat, i < 46 → upd c2 4 (nI (q 4 + 1)) (142 + 46 * q 4 + i) = c2 (142 + 46 * q 4 + i) := fun i hi => upd_ne (by omega)
    refine ⟨upN wk (q 4) W, upN mk (q 4) m, upN dk (q 4) d, upN pk (q 4) (q 1), va_up fk (q 4) f, t, ⟨⟨⟨hRR.1.1, ?_⟩, ⟨hRR.2.1.1, ?_⟩, fun p w hp hw => ⟨(hRR.2.2 p w hp hw).1, ?_⟩⟩, Or.inr ⟨rfl, W, bk, h1, fun k hk => ?_, ?_, ?_, fun k hk => ?_, h6, fun j a1 a2 => ?_, fun k j a1 a2 a3 => ?_⟩⟩, ⟨fun k k' a1 a2 => ?_, fun k hk => ?_⟩, fun p w a1 a2 => ?_, ?_, hm, hd⟩
    · rw [hA' 10 (by omega) (by omega)]; exact hRR.1.2
    · rw [hA' 11 (by omega) (by omega)]; exact hRR.2.1.2
    · rw [hA' _ (by omega) (by omega)]; exact (hRR.2.2 p w hp hw).2
    · rw [hq4] at hk
      by_cases e : k = q 4
      · subst e
        rw [va_up_self]
        unfold upN
        rw [if_pos rfl]
        exact h1
      · rw [va_up_ne _ _ e]
        unfold upN
        rw [if_neg e]
        exact h2 k (by omega)
    · rw [hA' 12 (by omega) (by omega)]; exact h3
    · omega
    · rw [hq4] at hk ⊢
      unfold upN
      by_cases e : k = q 4
      · subst e
        rw [if_pos rfl]
        omega
      · rw [if_neg e]
        have := h5 k (by omega)
        omega
    · rw [hA' _ (by omega) (by omega)]; exact h7 j a1 a2
    · rw [hq4] at a1
      unfold upN at a2 a3
      rw [hA' _ (by omega) (by omega)]
      by_cases e : k = q 4
      · rw [if_pos e] at a2 a3
        exact h7 j a2 a3
      · rw [if_neg e] at a2 a3
        exact h8 k j (by omega) a2 a3
    · rw [hq4] at a2
      unfold upN
      by_cases e : k' = q 4
      · rw [if_pos e]
        by_cases e2 : k = q 4
        · rw [if_pos e2]; omega
        · rw [if_neg e2]
          have := h5 k (by omega)
          omega
      · rw [if_neg e, if_neg (by omega)]
        exact hSt.1 k k' a1 (by omega)
    · rw [hq4] at hk
      rw [hq0, hq1]
      unfold upN
      by_cases e : k = q 4
      · subst e
        rw [if_pos rfl, if_pos rfl, if_pos rfl, if_pos rfl, va_up_self, va_up_self]
        have b0 : c2 (142 + 46 * q 4) = nI (q 1) := by rw [k2 _ (by omega), g2 _ (by omega), upd_eq]
        have b1 : c2 (142 + 46 * q 4 + 1) = nI m := by rw [k2 _ (by omega), g3 0 (by omega), upd_ne (by omega)]; exact hRR.1.2
        have b2 : c2 (142 + 46 * q 4 + 2) = nI d := by rw [k2 _ (by omega), show 142 + 46 * q 4 + 2 = 142 + 46 * q 4 + 1 + 1 by omega, g3 1 (by omega), upd_ne (by omega)]; exact hRR.2.1.2
        have b3 : c2 (142 + 46 * q 4 + 3) = nI W := by rw [k2 _ (by omega), show 142 + 46 * q 4 + 3 = 142 + 46 * q 4 + 1 + 2 by omega, g3 2 (by omega), upd_ne (by omega)]; exact h3
        refine ⟨⟨hRR.x, hRR.2.1.1, hm, hd, hC, Nat.le_refl _⟩, ⟨?_, ?_, ?_, ?_⟩, fun p w a1 a2 => ?_, fun p w a1 a2 => by omega⟩
        · rw [upd_ne (by omega)]; exact b0
        · rw [upd_ne (by omega)]; exact b1
        · rw [upd_ne (by omega)]; exact b2
        · rw [upd_ne (by omega)]; exact b3
        · rw [upd_ne (by omega), k3 p w (by omega) a2, g2 _ (by omega), upd_ne (by omega)]
          exact (hRR.2.2 p w (by omega) a2).2
      · rw [if_neg e, if_neg e, if_neg e, if_neg e, va_up_ne _ _ e, va_up_ne _ _ e]
        obtain ⟨s1, ⟨s2, s3, s4, s5⟩, s6, s7⟩ := hSt.2 k (by omega)
        have := s1.2.2.2.2.2
        refine ⟨s1, ⟨?_, ?_, ?_, ?_⟩, fun p w a1 a2 => ?_, s7⟩
        · rw [hA' _ (by omega) (by omega)]; exact s2
        · rw [hA' _ (by omega) (by omega)]; exact s3
        · rw [hA' _ (by omega) (by omega)]; exact s4
        · rw [hA' _ (by omega) (by omega)]; exact s5
        · rw [hA' _ (by omega) (by omega)]; exact s6 p w a1 a2
    · rw [hq1] at a1
      rw [hA' _ (by omega) (by omega)]; exact hT p w a1 a2
    · exact hC
/-- a step is kept -/
theorem keepM (hφ : 9000 < φ) (hH : RH q cN cA) (h : RM B b q m d f row cStep cA) : ∃ (S' : Nat) (cN' : Nat → Int32) (cStep' : Nat → Nat → Int32) (cA' : Nat → Int32), S_keeps φ cN row cStep = some (cN', cStep') ∧ M_keep φ cA = some cA' ∧ RM (B + 240) 240 (upN q 4 S') m d f row cStep' cA' ∧ RH (upN q 4 S') cN' cA' ∧ ∀ j : Nat, j < 142 → j ≠ 4 → cA' j = cA j := by
  obtain ⟨s1, s2, s3⟩ := hH.S
  obtain ⟨p1, p2, p3⟩ := hH.P
  have hRH : ∀ (S' : Nat) (cA' : Nat → Int32), S' ≤ 30 → (∀ j : Nat, j < 142 → j ≠ 4 → cA' j = cA j) → cA' 4 = nI S' → RH (upN q 4 S') (upd cN 4 (nI S')) cA' := by
    intro S' cA' hS' hf h4
    refine ⟨fun k hk => ?_, fun k hk h3 => ?_, ?_⟩
    · by_cases e : k = 4
      · subst e; rw [h4, upd_eq]
      · rw [upd_ne e, hf k (by omega) e]; exact hH.1 k hk
    · unfold upN
      by_cases e : k = 4
      · subst e; rw [upd_eq, if_pos rfl]; exact ⟨rfl, hS'⟩
      · rw [upd_ne e, if_neg e]; exact hH.2.1 k hk h3
    · rw [upd_ne (by omega)]; exact hH.2.2
  by_cases e : q 4 = 30
  · -- the first goes
    obtain ⟨c1, x1, x2⟩ := shiftX_L (φ := φ) cStep 29 1 φ cStep (by omega) (by omega) (by omega) (fun i _ => rfl) (fun i hi => by omega)
    obtain ⟨c2, y1, y2, y3⟩ := shiftM_L (φ := φ) cA 1334 0 φ cA (by omega) (by omega) (fun x _ => rfl) (fun x hx => absurd hx (Nat.not_lt_zero x))
    obtain ⟨wk, mk, dk, pk, fk, t, hR, hSt, hT, hC, hm, hd⟩ := h
    rw [e] at hR hSt
    obtain ⟨hRR, hB0⟩ := hR
    obtain ⟨-, W, bk, h1, h2, h3, h4, h5, h6, h7, h8⟩ := hB0.resolve_left (fun z => by omega)
    have hu : ∀ j : Nat, j ≠ 4 → (j < 142 ∨ 1476 ≤ j) → upd c2 4 (nI 29) j = cA j := fun j a1 a2 => by rw [upd_ne a1, y2 j a2]
    have hsh : ∀ x : Nat, x < 1334 → upd c2 4 (nI 29) (142 + x) = cA (188 + x) := fun x hx => by rw [upd_ne (by omega), y3 x hx]
    have hRM : RM B b (upN q 4 29) m d f row c1 (upd c2 4 (nI 29)) := by
      have hq0 : upN q 4 29 0 = q 0 := rfl
      have hq1 : upN q 4 29 1 = q 1 := rfl
      have hq4 : upN q 4 29 4 = 29 := rfl
      refine ⟨fun k => wk (k + 1), fun k => mk (k + 1), fun k => dk (k + 1), fun k => pk (k + 1), fun k => fk (k + 1), t, ⟨⟨⟨hRR.1.1, ?_⟩, ⟨hRR.2.1.1, ?_⟩, fun p w hp hw => ⟨(hRR.2.2 p w hp hw).1, ?_⟩⟩, Or.inr ⟨rfl, W, bk, h1, fun k hk => ?_, ?_, h4, fun k hk => ?_, h6, fun j a1 a2 => ?_, fun k j a1 a2 a3 => ?_⟩⟩, ⟨fun k k' a1 a2 => ?_, fun k hk => ?_⟩, fun p w a1 a2 => ?_, hC, hm, hd⟩
      · rw [hu 10 (by omega) (by omega)]; exact hRR.1.2
      · rw [hu 11 (by omega) (by omega)]; exact hRR.2.1.2
      · rw [hu _ (by omega) (by omega)]; exact (hRR.2.2 p w hp hw).2
      · rw [hq4] at hk
        rw [x2 k hk]; exact h2 (k + 1) (by omega)
      · rw [hu 12 (by omega) (by omega)]; exact h3
      · rw [hq4] at hk ⊢
        have := h5 (k + 1) (by omega)
        dsimp only
        omega
      · rw [hu _ (by omega) (by omega)]; exact h7 j a1 a2
      · rw [hq4] at a1
        rw [hu _ (by omega) (by omega)]; exact h8 (k + 1) j (by omega) a2 a3
      · rw [hq4] at a2
        have := hSt.1 (k + 1) (k' + 1) (by omega) (by omega)
        dsimp only
        omega
      · rw [hq4] at hk
        obtain ⟨s1, ⟨s2, s3, s4, s5⟩, s6, s7⟩ := hSt.2 (k + 1) (by omega)
        have := s1.2.2.2.2.2
        rw [x2 k hk]
        dsimp only
        refine ⟨s1, ⟨?_, ?_, ?_, ?_⟩, fun p w a1 a2 => ?_, s7⟩
        · rw [hsh _ (by omega), ← s2]; congr 1; omega
        · rw [Nat.add_assoc 142, hsh _ (by omega), ← s3]; congr 1; omega
        · rw [Nat.add_assoc 142, hsh _ (by omega), ← s4]; congr 1; omega
        · rw [Nat.add_assoc 142, hsh _ (by omega), ← s5]; congr 1; omega
        · rw [show 142 + 46 * k + 4 + 7 * p + w = 142 + (46 * k + 4 + 7 * p + w) by omega, hsh _ (by omega), ← s6 p w a1 a2]; congr 1; omega
      · rw [hq1] at a1
        rw [hu _ (by omega) (by omega)]; exact hT p w a1 a2
    obtain ⟨cA', k1, k2, k3, k4, k5⟩ := push2 (q := upN q 4 29) (S := 29) (cN := upd cN 4 (nI 29)) hφ (by omega) rfl upd_eq upd_eq (by rw [hu 1 (by omega) (by omega)]; exact p2) p3 hRM
    have hqq : upN (upN q 4 29) 4 (29 + 1) = upN q 4 30 := by
      funext j
      unfold upN
      split <;> rfl
    have hNN : upd (upd cN 4 (nI 29)) 4 (nI (29 + 1)) = upd cN 4 (nI 30) := by
      funext j
      unfold upd
      split <;> rfl
    rw [hqq] at k3
    rw [hNN] at k1
    refine ⟨30, _, _, cA', ?_, ?_, k3, hRH 30 cA' (Nat.le_refl _) (fun j a1 a2 => by rw [k4 j a1 a2, hu j a2 (by omega)]) k5, fun j a1 a2 => by rw [k4 j a1 a2, hu j a2 (by omega)]⟩
    · unfold S_keeps
      simp only [litI]
      rw [rd_I (by omega) (by omega), s1, ob_some, if_pos (by rw [e]), x1, bd1_some, ob_some, lt_def, e, show nI 30 - nI 1 = nI 29 from rfl, wr_I (by omega) (by omega), ob_some, bd2_some]
      exact k1
    · unfold M_keep
      simp only [litI]
      rw [rd_I (by omega) (by omega), s2, ob_some, if_pos (by rw [e]), y1, bd1_some, rd_I (by omega) (by omega), y2 4 (by omega), s2, ob_some, lt_def, e, show nI 30 - nI 1 = nI 29 from rfl, wr_I (by omega) (by omega), ob_some, bd1_some]
      exact k2
  · obtain ⟨cA', k1, k2, k3, k4, k5⟩ := push2 (S := q 4) hφ (by omega) rfl s1 s2 p2 p3 h
    refine ⟨q 4 + 1, _, _, cA', ?_, ?_, k3, hRH _ cA' (by omega) k4 k5, k4⟩
    · unfold S_keeps
      simp only [litI]
      rw [rd_I (by omega) (by omega), s1, ob_some, if_neg (by rw [nI_eq' (by omega) (by omega)]; exact e), bd2_some]
      exact k1
    · unfold M_keep
      simp only [litI]
      rw [rd_I (by omega) (by omega), s2, ob_some, if_neg (by rw [nI_eq' (by omega) (by omega)]; exact e), bd1_some]
      exact k2
end KEEP
