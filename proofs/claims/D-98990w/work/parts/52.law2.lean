/-! THE PURE LAW: the book is written; how many are in a land; the names -/
def upN (f : Nat → Nat) (k v : Nat) : Nat → Nat := fun j => if j = k then v else f j
theorem BookV.cong {W : Nat} {bk bk' : Nat → Nat} {row : Nat → Int32} (h : BookV W bk row) (e : ∀ j : Nat, j < W → bk' j = bk j) : BookV W bk' row := by
  refine ⟨h.1, fun i hi => ?_⟩
  rw [e _ (by omega)]
  exact h.2 i hi
section WRT
variable {B S : Nat} {wk : Nat → Nat} {cStep : Nat → Nat → Int32} {isW b m d : Nat} {f : Nat → Nat → Nat} {row cA : Nat → Int32}
/-- x's row with one entry more -/
noncomputable def rowW (row : Nat → Int32) (n m p w : Nat) : Nat → Int32 :=
  upd (upd (upd (upd (if n = 30 then upd (va_cpy row row 48 45 87) 44 (nI 29) else row) (45 + 3 * (if n = 30 then 29 else n)) (nI m)) (45 + 3 * (if n = 30 then 29 else n) + 1) (nI p)) (45 + 3 * (if n = 30 then 29 else n) + 2) (nI w)) 44 (nI ((if n = 30 then 29 else n) + 1))
theorem X_writes_T {k p w : Nat} {c2 : Nat → Int32} (h44 : c2 44 = nI k) (hk : k ≤ 29) (h0 : c2 0 = nI m) : ((rd c2 135 44).bind fun v5 =>
lt ((45 + (3 * v5)) : Int32) fun v6 =>
(rd c2 135 0).bind fun v7 =>
(wr c2 135 v6 v7).bind fun c8 =>
(wr c8 135 (v6 + 1) (nI p)).bind fun c9 =>
(wr c9 135 (v6 + 2) (nI w)).bind fun c10 =>
(rd c10 135 44).bind fun v11 =>
lt ((v11 + 1) : Int32) fun v12 =>
(wr c10 135 44 v12).bind fun c13 =>
some c13) = some (upd (upd (upd (upd c2 (45 + 3 * k) (nI m)) (45 + 3 * k + 1) (nI p)) (45 + 3 * k + 2) (nI w)) 44 (nI (k + 1))) := by
  simp only [litI]
  rw [rd_I (by omega) (by omega), h44]
  simp only [ob_some, lt_def]
  rw [nI_mul, nI_add, rd_I (by omega) (by omega), h0]
  simp only [ob_some]
  rw [wr_I (by omega) (by omega)]
  simp only [ob_some]
  rw [nI_add, wr_I (by omega) (by omega)]
  simp only [ob_some]
  rw [nI_add, wr_I (by omega) (by omega)]
  simp only [ob_some]
  rw [rd_I (by omega) (by omega), upd_ne (by omega), upd_ne (by omega), upd_ne (by omega), h44]
  simp only [ob_some]
  rw [nI_add, wr_I (by omega) (by omega)]
  simp only [ob_some]
theorem X_writes_E {n p w : Nat} (h44 : row 44 = nI n) (hn : n ≤ 30) (h0 : row 0 = nI m) : X_writes row (nI p) (nI w) = some (rowW row n m p w) := by
  unfold X_writes rowW
  by_cases e : n = 30
  · rw [if_pos e, if_pos e]
    have hc : acp row 135 row 135 48 45 87 = some (va_cpy row row 48 45 87) := by
      unfold acp
      rw [if_neg (by decide)]
      rfl
    have h48 : va_cpy row row 48 45 87 44 = nI 30 := by
      unfold va_cpy
      rw [if_neg (by omega), h44, e]
    have h40 : va_cpy row row 48 45 87 0 = nI m := by
      unfold va_cpy
      rw [if_neg (by omega)]; exact h0
    rw [hc, show (44 : Int32) = nI 44 from rfl, rd_I (by omega) (by omega), h44, e]
    simp only [ob_some]
    rw [if_pos (show nI 30 = 30 from rfl), rd_I (by omega) (by omega), h48]
    simp only [ob_some, lt_def]
    rw [show nI 30 - 1 = nI 29 from rfl, wr_I (by omega) (by omega)]
    simp only [ob_some, bd1_some]
    exact X_writes_T upd_eq (Nat.le_refl _) (by rw [upd_ne (by omega)]; exact h40)
  · rw [if_neg e, if_neg e, show (44 : Int32) = nI 44 from rfl, rd_I (by omega) (by omega), h44]
    simp only [ob_some]
    rw [if_neg (show ¬ nI n = 30 from fun q => e ((nI_eq' (b := 30) (by omega) (by omega)).mp q))]
    simp only [bd1_some]
    exact X_writes_T h44 (by omega) h0
theorem rowW_lo {n p w j : Nat} (hj : j < 44) : rowW row n m p w j = row j := by
  unfold rowW
  rw [upd_ne (by omega), upd_ne (by omega), upd_ne (by omega), upd_ne (by omega)]
  by_cases e : n = 30
  · rw [if_pos e, upd_ne (by omega)]
    unfold va_cpy
    rw [if_neg (by omega)]
  · rw [if_neg e]
theorem rowW_44 {n p w : Nat} (hn : n ≤ 30) : rowW row n m p w 44 = nI (min (n + 1) 30) := by
  unfold rowW
  rw [upd_eq]
  congr 1
  split <;> omega
theorem rowW_new {n p w : Nat} (hn : n ≤ 30) : rowW row n m p w (45 + 3 * (min (n + 1) 30 - 1)) = nI m ∧ rowW row n m p w (46 + 3 * (min (n + 1) 30 - 1)) = nI p ∧ rowW row n m p w (47 + 3 * (min (n + 1) 30 - 1)) = nI w := by
  have e : (if n = 30 then 29 else n) = min (n + 1) 30 - 1 := by split <;> omega
  unfold rowW
  rw [e]
  refine ⟨?_, ?_, ?_⟩
  · rw [upd_ne (by omega), upd_ne (by omega), upd_ne (by omega), upd_eq]
  · rw [upd_ne (by omega), upd_ne (by omega), upd_at (by omega)]
  · rw [upd_ne (by omega), upd_at (by omega)]
theorem rowW_old {n p w j : Nat} (hn : n ≤ 30) (hj : j < 3 * (min (n + 1) 30 - 1)) : rowW row n m p w (45 + j) = row (45 + j + (if n = 30 then 3 else 0)) := by
  have e : (if n = 30 then 29 else n) = min (n + 1) 30 - 1 := by split <;> omega
  unfold rowW
  rw [e, upd_ne (by omega), upd_ne (by omega), upd_ne (by omega), upd_ne (by omega)]
  by_cases q : n = 30
  · rw [if_pos q, if_pos q, upd_ne (by omega)]
    unfold va_cpy
    rw [if_pos (by omega)]
    congr 1
    omega
  · rw [if_neg q, if_neg q]
    rfl
theorem pack_lt {p w : Nat} (hm : m ≤ 9999) (hp : p < 8) (hw : w < 8) : (m * 8 + p) * 8 + w < 640000 := by omega
theorem BookV.write {W p w : Nat} {bk : Nat → Nat} (h : BookV W bk row) (hm : m ≤ 9999) (hp : p < 8) (hw : w < 8) : BookV (W + 1) (upN bk W ((m * 8 + p) * 8 + w)) (rowW row (min W 30) m p w) := by
  have e9 : min (min W 30 + 1) 30 = min (W + 1) 30 := by omega
  refine ⟨by rw [rowW_44 (by omega), e9], fun i hi => ?_⟩
  by_cases q : i = min (W + 1) 30 - 1
  · obtain ⟨h1, h2, h3⟩ := rowW_new (row := row) (m := m) (n := min W 30) (p := p) (w := w) (by omega)
    rw [e9, ← q] at h1 h2 h3
    rw [h1, h2, h3]
    have hb : upN bk W ((m * 8 + p) * 8 + w) (W + 1 - min (W + 1) 30 + i) = (m * 8 + p) * 8 + w := by
      unfold upN
      rw [if_pos (by omega)]
    rw [hb]
    exact ⟨by congr 1; omega, by congr 1; omega, by congr 1; omega⟩
  · have hb : upN bk W ((m * 8 + p) * 8 + w) (W + 1 - min (W + 1) 30 + i) = bk (W + 1 - min (W + 1) 30 + i) := by
      unfold upN
      rw [if_neg (by omega)]
    rw [hb]
    have h1 := rowW_old (row := row) (m := m) (n := min W 30) (p := p) (w := w) (j := 3 * i) (by omega) (by omega)
    have h2 := rowW_old (row := row) (m := m) (n := min W 30) (p := p) (w := w) (j := 3 * i + 1) (by omega) (by omega)
    have h3 := rowW_old (row := row) (m := m) (n := min W 30) (p := p) (w := w) (j := 3 * i + 2) (by omega) (by omega)
    rw [show 46 + 3 * i = 45 + (3 * i + 1) by omega, show 47 + 3 * i = 45 + (3 * i + 2) by omega, h1, h2, h3]
    by_cases e : min W 30 = 30
    · rw [if_pos e]
      have h4 := h.2 (i + 1) (by omega)
      rw [show 45 + 3 * i + 3 = 45 + 3 * (i + 1) by omega, show 45 + (3 * i + 1) + 3 = 46 + 3 * (i + 1) by omega, show 45 + (3 * i + 2) + 3 = 47 + 3 * (i + 1) by omega, show W + 1 - min (W + 1) 30 + i = W - min W 30 + (i + 1) by omega]
      exact h4
    · rw [if_neg e]
      have h4 := h.2 i (by omega)
      rw [show 45 + 3 * i + 0 = 45 + 3 * i by omega, show 45 + (3 * i + 1) + 0 = 46 + 3 * i by omega, show 45 + (3 * i + 2) + 0 = 47 + 3 * i by omega, show W + 1 - min (W + 1) 30 + i = W - min W 30 + i by omega]
      exact h4
/-- what befalls is written down -/
theorem write2 (h : RWS B S wk cStep isW (b + 1) m d f row cA) (hB : B < 2147483648) (hS : S ≤ 30) (hm : m ≤ 9999) {p w : Nat} (hp : p < 8) (hw : w < 8) : ∃ row' cA' : Nat → Int32, X_writes row (nI p) (nI w) = some row' ∧ M_write (nI isW) cA (nI p) (nI w) = some cA' ∧ RWS B S wk cStep isW b m d f row' cA' ∧ Fr0 cA cA' := by
  obtain ⟨hR, h0, n, hn, e44, e2⟩ | ⟨hR, h0, W, bk, h1, h2, h3, h4, h5, h6, h7, h8⟩ : (RowR m d f row cA ∧ isW = 0 ∧ ∃ n : Nat, n ≤ 30 ∧ row 44 = nI n ∧ ∀ j : Nat, j = 12 ∨ 1522 ≤ j → cA j = cStep 0 j) ∨ (RowR m d f row cA ∧ isW = 1 ∧ BookR B S wk cStep (b + 1) row cA) := by
    rcases h.2 with h2 | h2
    · exact Or.inl ⟨h.1, h2⟩
    · exact Or.inr ⟨h.1, h2⟩
  · subst h0
    refine ⟨_, _, X_writes_E e44 hn hR.1.1, by unfold M_write; rw [if_pos (show nI 0 = 0 from rfl)], ⟨⟨⟨?_, hR.1.2⟩, ⟨?_, hR.2.1.2⟩, fun p' w' hp' hw' => ⟨?_, (hR.2.2 p' w' hp' hw').2⟩⟩, Or.inl ⟨rfl, _, Nat.min_le_right _ _, rowW_44 hn, e2⟩⟩, Fr0.rf⟩
    · rw [rowW_lo (by omega)]; exact hR.1.1
    · rw [rowW_lo (by omega)]; exact hR.2.1.1
    · rw [rowW_lo (by omega)]; exact (hR.2.2 p' w' hp' hw').1
  · subst h0
    have hM : M_write (nI 1) cA (nI p) (nI w) = some (upd (upd cA (1522 + W % 7240) (nI ((m * 8 + p) * 8 + w))) 12 (nI (W + 1))) := by
      unfold M_write
      rw [if_neg (show ¬ nI 1 = 0 by decide), show (12 : Int32) = nI 12 from rfl, show (10 : Int32) = nI 10 from rfl, rd_I (by omega) (by omega), h3]
      simp only [ob_some]
      rw [rd_I (by omega) (by omega), hR.1.2]
      simp only [ob_some, lt_def]
      rw [show (8 : Int32) = nI 8 from rfl, show (7240 : Int32) = nI 7240 from rfl, show (1522 : Int32) = nI 1522 from rfl, nI_mod (by omega) (by omega)]
      simp only [nI_mul, nI_add]
      rw [wr_I (by omega) (by omega)]
      simp only [ob_some]
      rw [rd_I (by omega) (by omega), upd_ne (by omega), h3]
      simp only [ob_some]
      rw [show nI W + 1 = nI (W + 1) from nI_add _ 1, wr_I (by omega) (by omega)]
      rfl
    refine ⟨_, _, X_writes_E h1.1 (by omega) hR.1.1, hM, ⟨⟨⟨?_, ?_⟩, ⟨?_, ?_⟩, fun p' w' hp' hw' => ⟨?_, ?_⟩⟩, Or.inr ⟨rfl, W + 1, upN bk W ((m * 8 + p) * 8 + w), h1.write hm hp hw, fun k hk => (h2 k hk).cong (fun j hj => ?_), upd_eq, by omega, fun k hk => ⟨?_, ?_⟩, fun j => ?_, fun j hj1 hj2 => ?_, fun k j hk hj1 hj2 => ?_⟩⟩, ⟨fun j hj => ?_, fun j hj1 hj2 => ?_, fun p' w' a1 a2 a3 => ?_⟩⟩
    · rw [rowW_lo (by omega)]; exact hR.1.1
    · rw [upd_ne (by omega), upd_ne (by omega)]; exact hR.1.2
    · rw [rowW_lo (by omega)]; exact hR.2.1.1
    · rw [upd_ne (by omega), upd_ne (by omega)]; exact hR.2.1.2
    · rw [rowW_lo (by omega)]; exact (hR.2.2 p' w' hp' hw').1
    · rw [upd_ne (by omega), upd_ne (by omega)]; exact (hR.2.2 p' w' hp' hw').2
    · have := (h5 k hk).1
      unfold upN
      rw [if_neg (by omega)]
    · have := (h5 k hk).1; omega
    · have := (h5 k hk).2; omega
    · unfold upN
      split
      · exact pack_lt hm hp hw
      · exact h6 j
    · rw [upd_ne (by omega)]
      unfold upN
      by_cases e : j = W
      · subst e
        rw [if_pos rfl, upd_eq]
      · rw [if_neg e, upd_ne (by omega)]
        exact h7 j (by omega) (by omega)
    · have a1 := h5 k hk
      rw [upd_ne (by omega)]
      unfold upN
      rw [if_neg (by omega), upd_ne (by omega)]
      exact h8 k j hk hj1 hj2
    · rw [upd_ne (by omega), upd_ne (by omega)]
    · rw [upd_ne (by omega), upd_ne (by omega)]
    · rw [upd_ne (by omega), upd_ne (by omega)]
end WRT
/-- how many others are in a land -/
theorem crowd_L {P p l φ m : Nat} {f : Nat → Nat → Nat} {row cA cN : Nat → Int32} (hX : RowX m f row) (hM : RowM m f cA) (hP : P ≤ 6) (hN : cN 1 = nI P) (hA : cA 1 = nI P) (hp : p < 6) (hl : l < 2147483648) (hf : ∀ q : Nat, q < 6 → f q 6 < 2147483648 ∧ f q 0 < 2147483648) : ∀ (j q c fu : Nat), q + j = P → j < fu → c + j ≤ 6 → ∃ r : Nat, r ≤ c + j ∧ X_crowdIn_L6 φ (nI p) (nI l) cN row fu (nI c) (nI q) = some (nI r) ∧ M_crowdOf_L5 φ (nI p) (nI l) cA fu (nI c) (nI q) = some (nI r) := by
  intro j
  induction j with
  | zero =>
    intro q c fu hq hfu hc
    obtain ⟨fu, rfl⟩ : ∃ k, fu = k + 1 := ⟨fu - 1, by omega⟩
    refine ⟨c, by omega, ?_, ?_⟩
    · simp (maxSteps := 1000000) (disch := omega) only [litI, nI_add, nI_mul, nI_sub, nI_addneg, nI_eq_t, nI_eq_f, nI_le_t, nI_le_f, nI_lt_t, nI_lt_f, nI_neg_f, rd_I, wr_I, wrL_I, wrZ_I, inb_I, rdq_I, bd1_some, bd2_some, bd3_some, bd4_some, bd5_some, lt_def, jn_def, ob_some, zk_0, zk_1, nz_I, ↓reduceIte, X_crowdIn_L6, hN]
    · simp (maxSteps := 1000000) (disch := omega) only [litI, nI_add, nI_mul, nI_sub, nI_addneg, nI_eq_t, nI_eq_f, nI_le_t, nI_le_f, nI_lt_t, nI_lt_f, nI_neg_f, rd_I, wr_I, wrL_I, wrZ_I, inb_I, rdq_I, bd1_some, bd2_some, bd3_some, bd4_some, bd5_some, lt_def, jn_def, ob_some, zk_0, zk_1, nz_I, ↓reduceIte, M_crowdOf_L5, hA]
  | succ j ih =>
    intro q c fu hq hfu hc
    obtain ⟨fu, rfl⟩ : ∃ k, fu = k + 1 := ⟨fu - 1, by omega⟩
    obtain ⟨r0, h0, x0, m0⟩ := ih (q + 1) c fu (by omega) (by omega) (by omega)
    obtain ⟨r1, h1, x1, m1⟩ := ih (q + 1) (c + 1) fu (by omega) (by omega) (by omega)
    have a6 := X_at_X hX (p := q) (w := 6) (by omega) (by omega)
    have b6 := M_get_M hM (p := q) (w := 6) (by omega) (by omega)
    have a0 := X_at_X hX (p := q) (w := 0) (by omega) (by omega)
    have b0 := M_get_M hM (p := q) (w := 0) (by omega) (by omega)
    obtain ⟨g6, g0⟩ := hf q (by omega)
    by_cases e1 : q = p
    · refine ⟨r0, by omega, ?_, ?_⟩
      · simp (maxSteps := 1000000) (disch := omega) only [litI, nI_add, nI_mul, nI_sub, nI_addneg, nI_eq_t, nI_eq_f, nI_le_t, nI_le_f, nI_lt_t, nI_lt_f, nI_neg_f, rd_I, wr_I, wrL_I, wrZ_I, inb_I, rdq_I, bd1_some, bd2_some, bd3_some, bd4_some, bd5_some, lt_def, jn_def, ob_some, zk_0, zk_1, nz_I, ↓reduceIte, X_crowdIn_L6, hN, Nat.add_zero, x0]
      · simp (maxSteps := 1000000) (disch := omega) only [litI, nI_add, nI_mul, nI_sub, nI_addneg, nI_eq_t, nI_eq_f, nI_le_t, nI_le_f, nI_lt_t, nI_lt_f, nI_neg_f, rd_I, wr_I, wrL_I, wrZ_I, inb_I, rdq_I, bd1_some, bd2_some, bd3_some, bd4_some, bd5_some, lt_def, jn_def, ob_some, zk_0, zk_1, nz_I, ↓reduceIte, M_crowdOf_L5, hA, Nat.add_zero, m0]
    · by_cases e2 : f q 6 = 3
      · refine ⟨r0, by omega, ?_, ?_⟩
        · simp (maxSteps := 1000000) (disch := omega) only [litI, nI_add, nI_mul, nI_sub, nI_addneg, nI_eq_t, nI_eq_f, nI_le_t, nI_le_f, nI_lt_t, nI_lt_f, nI_neg_f, rd_I, wr_I, wrL_I, wrZ_I, inb_I, rdq_I, bd1_some, bd2_some, bd3_some, bd4_some, bd5_some, lt_def, jn_def, ob_some, zk_0, zk_1, nz_I, ↓reduceIte, X_crowdIn_L6, hN, a6, Nat.add_zero, x0]
        · simp (maxSteps := 1000000) (disch := omega) only [litI, nI_add, nI_mul, nI_sub, nI_addneg, nI_eq_t, nI_eq_f, nI_le_t, nI_le_f, nI_lt_t, nI_lt_f, nI_neg_f, rd_I, wr_I, wrL_I, wrZ_I, inb_I, rdq_I, bd1_some, bd2_some, bd3_some, bd4_some, bd5_some, lt_def, jn_def, ob_some, zk_0, zk_1, nz_I, ↓reduceIte, M_crowdOf_L5, hA, b6, Nat.add_zero, m0]
      · by_cases e3 : f q 0 = l
        · refine ⟨r1, by omega, ?_, ?_⟩
          · simp (maxSteps := 1000000) (disch := omega) only [litI, nI_add, nI_mul, nI_sub, nI_addneg, nI_eq_t, nI_eq_f, nI_le_t, nI_le_f, nI_lt_t, nI_lt_f, nI_neg_f, rd_I, wr_I, wrL_I, wrZ_I, inb_I, rdq_I, bd1_some, bd2_some, bd3_some, bd4_some, bd5_some, lt_def, jn_def, ob_some, zk_0, zk_1, nz_I, ↓reduceIte, X_crowdIn_L6, hN, a6, a0, x1]
          · simp (maxSteps := 1000000) (disch := omega) only [litI, nI_add, nI_mul, nI_sub, nI_addneg, nI_eq_t, nI_eq_f, nI_le_t, nI_le_f, nI_lt_t, nI_lt_f, nI_neg_f, rd_I, wr_I, wrL_I, wrZ_I, inb_I, rdq_I, bd1_some, bd2_some, bd3_some, bd4_some, bd5_some, lt_def, jn_def, ob_some, zk_0, zk_1, nz_I, ↓reduceIte, M_crowdOf_L5, hA, b6, b0, m1]
        · refine ⟨r0, by omega, ?_, ?_⟩
          · simp (maxSteps := 1000000) (disch := omega) only [litI, nI_add, nI_mul, nI_sub, nI_addneg, nI_eq_t, nI_eq_f, nI_le_t, nI_le_f, nI_lt_t, nI_lt_f, nI_neg_f, rd_I, wr_I, wrL_I, wrZ_I, inb_I, rdq_I, bd1_some, bd2_some, bd3_some, bd4_some, bd5_some, lt_def, jn_def, ob_some, zk_0, zk_1, nz_I, ↓reduceIte, X_crowdIn_L6, hN, a6, a0, Nat.add_zero, x0]
          · simp (maxSteps := 1000000) (disch := omega) only [litI, nI_add, nI_mul, nI_sub, nI_addneg, nI_eq_t, nI_eq_f, nI_le_t, nI_le_f, nI_lt_t, nI_lt_f, nI_neg_f, rd_I, wr_I, wrL_I, wrZ_I, inb_I, rdq_I, bd1_some, bd2_some, bd3_some, bd4_some, bd5_some, lt_def, jn_def, ob_some, zk_0, zk_1, nz_I, ↓reduceIte, M_crowdOf_L5, hA, b6, b0, Nat.add_zero, m0]
