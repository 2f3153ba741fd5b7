/-! THE PURE LAW: what is done, in a row -/
section DO1
variable {B S : Nat} {wk : Nat → Nat} {cStep : Nat → Nat → Int32} {isW b m d mo : Nat} {f : Nat → Nat → Nat} {row cA : Nat → Int32}
theorem setsX (h : RowX m f row) {p w v : Nat} (hp : p < 6) (hw : w < 7) : RowX m (upF f p w v) (upd row (2 + 7 * p + w) (nI v)) := by
  refine ⟨by rw [upd_ne (by omega)]; exact h.1, fun p' w' hp' hw' => ?_⟩
  by_cases e : p' = p ∧ w' = w
  · obtain ⟨rfl, rfl⟩ := e
    rw [upF_eq, upd_eq]
  · rw [upF_ne (by omega), upd_ne (by omega)]
    exact h.2 p' w' hp' hw'
theorem putM (h : RowM m f cA) {p w v : Nat} (hp : p < 6) (hw : w < 7) : RowM m (upF f p w v) (upd cA (14 + 11 * p + w) (nI v)) := by
  refine ⟨by rw [upd_ne (by omega)]; exact h.1, fun p' w' hp' hw' => ?_⟩
  by_cases e : p' = p ∧ w' = w
  · obtain ⟨rfl, rfl⟩ := e
    rw [upF_eq, upd_eq]
  · rw [upF_ne (by omega), upd_ne (by omega)]
    exact h.2 p' w' hp' hw'
/-- the two sides put in their own order -/
theorem RWS.two {f' : Nat → Nat → Nat} {row' cA' : Nat → Int32} (h : RWS B S wk cStep isW b m d f row cA) (hx : RowX m f' row') (hm : RowM m f' cA') (h1 : row' 1 = row 1) (h44 : ∀ j : Nat, 44 ≤ j → row' j = row j) (hlo : ∀ j : Nat, j < 14 → cA' j = cA j) (hhi : ∀ j : Nat, 80 ≤ j → cA' j = cA j) (hf : ∀ p w : Nat, p < 6 → 7 ≤ w → w < 11 → cA' (14 + 11 * p + w) = cA (14 + 11 * p + w)) : RWS B S wk cStep isW b m d f' row' cA' ∧ Fr0 cA cA' :=
  ⟨⟨⟨⟨hx.1, hm.1⟩, ⟨h1.trans h.1.2.1.1, (hlo 11 (by omega)).trans h.1.2.1.2⟩, fun p w hp hw => ⟨hx.2 p w hp hw, hm.2 p w hp hw⟩⟩, h.2.frame h44 (fun j hj => by
    rcases hj with rfl | hj
    · exact hlo 12 (by omega)
    · exact hhi j (by omega))⟩, ⟨fun j hj => hlo j (by omega), fun j a1 _ => hhi j a1, hf⟩⟩
theorem call59 {φ p : Nat} (hφ : 400 < φ) (hp : p < 6) (c : Nat → Int32) : M_callNow_L59 φ (nI p) φ (nI 1) c = some (upd (upd (upd (upd (upd c (14 + 11 * p + 1) (nI 0)) (14 + 11 * p + 2) (nI 0)) (14 + 11 * p + 3) (nI 0)) (14 + 11 * p + 4) (nI 0)) (14 + 11 * p + 5) (nI 0)) := by
  have hst : ∀ (fu k : Nat) (c : Nat → Int32), k ≤ 5 → M_callNow_L59 φ (nI p) (fu + 1) (nI k) c = M_callNow_L59 φ (nI p) fu (nI (k + 1)) (upd c (14 + 11 * p + k) (nI 0)) := by
    intro fu k c hk
    rw [M_callNow_L59]
    simp only [litI]
    rw [if_neg (by rw [nI_lt' (by omega) (by omega)]; omega), M_put_E hp (by omega), bd1_some, lt_def, nI_add]
  obtain ⟨fu, rfl⟩ : ∃ x, φ = x + 6 := ⟨φ - 6, by omega⟩
  have hen : ∀ c : Nat → Int32, M_callNow_L59 (fu + 6) (nI p) (fu + 1) (nI 6) c = some c := by
    intro c
    rw [M_callNow_L59]
    simp only [litI]
    rw [if_pos ((nI_lt' (by omega) (by omega)).mpr (by omega))]
  generalize hφ9 : fu + 6 = φ9 at hst hen ⊢
  rw [show φ9 = fu + 1 + 1 + 1 + 1 + 1 + 1 by omega] 
  rw [show fu + 1 + 1 + 1 + 1 + 1 + 1 = φ9 by omega]
  conv => lhs; rw [show φ9 = φ9 from rfl]
  have e : M_callNow_L59 φ9 (nI p) (fu + 1 + 1 + 1 + 1 + 1 + 1) (nI 1) c = some (upd (upd (upd (upd (upd c (14 + 11 * p + 1) (nI 0)) (14 + 11 * p + 2) (nI 0)) (14 + 11 * p + 3) (nI 0)) (14 + 11 * p + 4) (nI 0)) (14 + 11 * p + 5) (nI 0)) := by
    rw [hst _ 1 _ (by omega), hst _ 2 _ (by omega), hst _ 3 _ (by omega), hst _ 4 _ (by omega), hst _ 5 _ (by omega)]
    exact hen _
  rw [show fu + 1 + 1 + 1 + 1 + 1 + 1 = φ9 by omega] at e
  exact e
theorem calls2 {L P φ : Nat} (hφ : 400 < φ) (h : RWS B S wk cStep isW (b + 1) m d f row cA) (hB : B < 2147483648) (hS : S ≤ 30) (hm : m ≤ 9999) (hC : RowC L P mo f) (hL : L ≤ 8) (hP : P ≤ 6) {p l : Nat} (hp : p < P) (hl : l < L) : ∃ (r : Nat) (f' : Nat → Nat → Nat) (row' cA' : Nat → Int32), r ≤ 4 ∧ X_calls row (nI p) (nI l) = some (nI r, row') ∧ M_callNow φ (nI isW) cA (nI p) (nI l) = some cA' ∧ f' p 3 = r ∧ RWS B S wk cStep isW b m d f' row' cA' ∧ Fr0 cA cA' ∧ RowC L P mo f' := by
  obtain ⟨a0, a1, a2, a3, a4, a5, a6⟩ := hC.1 p hp
  have hp6 : p < 6 := by omega
  have x0 := X_at_R h.1 (p := p) (w := 0) hp6 (by omega)
  have m0 := M_get_R h.1 (p := p) (w := 0) hp6 (by omega)
  have x3 := X_at_R h.1 (p := p) (w := 3) hp6 (by omega)
  have m3 := M_get_R h.1 (p := p) (w := 3) hp6 (by omega)
  unfold X_calls M_callNow
  simp only [litI]
  rw [x0, bd1_some, m0, bd1_some]
  by_cases e : f p 0 = l
  · -- at its own court
    rw [if_pos (show nI (f p 0) = nI l by rw [e]), if_pos (show nI (f p 0) = nI l by rw [e])]
    obtain ⟨row1, cA1, x4, m4, h4, f4⟩ := put2 (w := 3) (v := 0) h hp6 (by omega)
    obtain ⟨row2, cA2, x5, m5, h5, f5⟩ := write2 (p := p) (w := 0) h4 hB hS hm (by omega) (by omega)
    refine ⟨0, _, row2, cA2, by omega, ?_, ?_, upF_eq, h5, f4.tr f5, hC.up hp ⟨by omega, by omega, by omega, by omega, by omega, by omega, by omega⟩⟩
    · rw [bd1_some, nI_mod (by omega) (by omega), x4, bd1_some, if_pos rfl, x5, bd1_some, bd1_some, if_neg (by decide)]
    · rw [m4, bd1_some, m5, bd1_some]
  · have e' : ¬ nI (f p 0) = nI l := by rw [nI_eq' (by omega) (by omega)]; exact e
    rw [if_neg e', if_neg e', x3, bd1_some, bd1_some, m3, bd1_some, nI_add, nI_mod (by omega) (by omega)]
    by_cases e5 : f p 3 = 4
    · -- called five times: an outlaw
      rw [e5]
      have hr : RowX m (upF (upF (upF (upF (upF (upF f p 3 0) p 6 1) p 5 0) p 4 0) p 1 0) p 2 0) (upd (upd (upd (upd (upd (upd row (2 + 7 * p + 3) (nI 0)) (2 + 7 * p + 6) (nI 1)) (2 + 7 * p + 5) (nI 0)) (2 + 7 * p + 4) (nI 0)) (2 + 7 * p + 1) (nI 0)) (2 + 7 * p + 2) (nI 0)) := setsX (setsX (setsX (setsX (setsX (setsX h.1.x hp6 (by omega)) hp6 (by omega)) hp6 (by omega)) hp6 (by omega)) hp6 (by omega)) hp6 (by omega)
      have hc0 : RowM m (upF (upF (upF (upF (upF (upF (upF f p 3 5) p 6 1) p 1 0) p 2 0) p 3 0) p 4 0) p 5 0) (upd (upd (upd (upd (upd (upd (upd cA (14 + 11 * p + 3) (nI 5)) (14 + 11 * p + 6) (nI 1)) (14 + 11 * p + 1) (nI 0)) (14 + 11 * p + 2) (nI 0)) (14 + 11 * p + 3) (nI 0)) (14 + 11 * p + 4) (nI 0)) (14 + 11 * p + 5) (nI 0)) := putM (putM (putM (putM (putM (putM (putM h.1.m hp6 (by omega)) hp6 (by omega)) hp6 (by omega)) hp6 (by omega)) hp6 (by omega)) hp6 (by omega)) hp6 (by omega)
      have hff : upF (upF (upF (upF (upF (upF (upF f p 3 5) p 6 1) p 1 0) p 2 0) p 3 0) p 4 0) p 5 0 = upF (upF (upF (upF (upF (upF f p 3 0) p 6 1) p 5 0) p 4 0) p 1 0) p 2 0 := by
        funext p' w'
        unfold upF
        by_cases q1 : p' = p
        · subst q1
          have hw : w' = 1 ∨ w' = 2 ∨ w' = 3 ∨ w' = 4 ∨ w' = 5 ∨ w' = 6 ∨ (w' ≠ 1 ∧ w' ≠ 2 ∧ w' ≠ 3 ∧ w' ≠ 4 ∧ w' ≠ 5 ∧ w' ≠ 6) := by omega
          rcases hw with rfl | rfl | rfl | rfl | rfl | rfl | ⟨g1, g2, g3, g4, g5, g6⟩
          all_goals simp [*]
        · simp [q1]
      rw [hff] at hc0
      obtain ⟨h6, f6⟩ := h.two hr hc0 (by rw [upd_ne (by omega), upd_ne (by omega), upd_ne (by omega), upd_ne (by omega), upd_ne (by omega), upd_ne (by omega)]) (fun j hj => by rw [upd_ne (by omega), upd_ne (by omega), upd_ne (by omega), upd_ne (by omega), upd_ne (by omega), upd_ne (by omega)]) (fun j hj => by rw [upd_ne (by omega), upd_ne (by omega), upd_ne (by omega), upd_ne (by omega), upd_ne (by omega), upd_ne (by omega), upd_ne (by omega)]) (fun j hj => by rw [upd_ne (by omega), upd_ne (by omega), upd_ne (by omega), upd_ne (by omega), upd_ne (by omega), upd_ne (by omega), upd_ne (by omega)]) (fun p' w' g1 g2 g3 => by rw [upd_ne (by omega), upd_ne (by omega), upd_ne (by omega), upd_ne (by omega), upd_ne (by omega), upd_ne (by omega), upd_ne (by omega)])
      obtain ⟨row2, cA2, x7, m7, h7, f7⟩ := write2 (p := p) (w := 1) h6 hB hS hm (by omega) (by omega)
      refine ⟨0, _, row2, cA2, by omega, ?_, ?_, ?_, h7, f6.tr f7, ?_⟩
      · rw [X_sets_E hp6 (by omega), bd1_some, if_neg (show ¬ nI (4 + 1) = nI 0 by decide), bd1_some, if_pos (show nI 5 ≤ nI (4 + 1) by decide), X_sets_E hp6 (by omega), bd1_some, X_sets_E hp6 (by omega), bd1_some, X_sets_E hp6 (by omega), bd1_some, X_sets_E hp6 (by omega), bd1_some, X_sets_E hp6 (by omega), bd1_some]
        have x7' := x7
        rw [x7', bd1_some]
      · rw [M_put_E hp6 (by omega), bd1_some, M_get_T hp6 (by omega), bd1_some, upd_eq, if_pos (show nI 5 ≤ nI (4 + 1) by decide), M_put_E hp6 (by omega), bd1_some, call59 hφ hp6, bd1_some]
        have m7' := m7
        rw [m7', bd1_some]
      · rw [upF_ne (by omega), upF_ne (by omega), upF_ne (by omega), upF_ne (by omega), upF_ne (by omega), upF_eq]
      · refine RowC.up (RowC.up (RowC.up (RowC.up (RowC.up (RowC.up hC hp ?_) hp ?_) hp ?_) hp ?_) hp ?_) hp ?_ <;> exact ⟨by omega, by omega, by omega, by omega, by omega, by omega, by omega⟩
    · obtain ⟨row1, cA1, x4, m4, h4, f4⟩ := put2 (w := 3) (v := f p 3 + 1) h hp6 (by omega)
      have m9 := M_get_R h4.1 (p := p) (w := 3) hp6 (by omega)
      rw [upF_eq] at m9
      refine ⟨f p 3 + 1, _, row1, cA1, by omega, ?_, ?_, upF_eq, h4.less (by omega), f4, hC.up hp ⟨by omega, by omega, by omega, by omega, by omega, by omega, by omega⟩⟩
      · rw [Nat.mod_eq_of_lt (by omega), x4, bd1_some, if_neg (by rw [nI_eq' (by omega) (by omega)]; omega), bd1_some, if_neg (by rw [nI_le' (by omega) (by omega)]; omega)]
      · rw [m4, bd1_some, m9, bd1_some, if_neg (by rw [nI_le' (by omega) (by omega)]; omega)]
theorem frees2 {L P : Nat} (h : RWS B S wk cStep isW b m d f row cA) (hC : RowC L P mo f) (hP : P ≤ 6) {p : Nat} (hp : p < P) : ∃ (f' : Nat → Nat → Nat) (row' cA' : Nat → Int32), X_frees row (nI p) = some row' ∧ M_pardonNow cA (nI p) = some cA' ∧ RWS B S wk cStep isW b m d f' row' cA' ∧ Fr0 cA cA' ∧ RowC L P mo f' := by
  have hp6 : p < 6 := by omega
  obtain ⟨row1, cA1, x1, m1, h1, f1⟩ := put2 (w := 6) (v := 2) h hp6 (by omega)
  obtain ⟨row2, cA2, x2, m2, h2, f2⟩ := put2 (w := 5) (v := 0) h1 hp6 (by omega)
  obtain ⟨row3, cA3, x3, m3, h3, f3⟩ := put2 (w := 4) (v := 0) h2 hp6 (by omega)
  refine ⟨_, row3, cA3, ?_, ?_, h3, (f1.tr f2).tr f3, ?_⟩
  · unfold X_frees
    simp only [litI]
    rw [x1, bd1_some, x2, bd1_some, x3, bd1_some]
  · unfold M_pardonNow
    simp only [litI]
    rw [m1, bd1_some, m2, bd1_some, m3, bd1_some]
  · refine RowC.up (RowC.up (RowC.up hC hp ?_) hp ?_) hp ?_ <;> exact ⟨by omega, by omega, by omega, by omega, by omega, by omega, by omega⟩
end DO1
section DO2
variable {B S : Nat} {wk : Nat → Nat} {cStep : Nat → Nat → Int32} {isW b m d mo : Nat} {f : Nat → Nat → Nat} {row cA : Nat → Int32}
variable {q : Nat → Nat} {cN cFor cRoad cFear cTx : Nat → Int32} {cText : Nat → Option Nat} {E : Nat → Option (Nat → Option EvS)} {zN φ : Nat}
theorem isKilled2 (h : RWS B S wk cStep isW (b + 1) m d f row cA) (hB : B < 2147483648) (hS : S ≤ 30) (hH : RH q cN cA) (hm : m ≤ 9999) (hC : RowC (q 0) (q 1) mo f) {p k sD : Nat} (hp : p < q 1) (hk : k < q 1) (hpk : p ≠ k) : ∃ (f' : Nat → Nat → Nat) (row' cA' : Nat → Int32), X_isKilled cN row (nI p) (nI k) = some row' ∧ M_killNow (nI isW) (nI sD) cA (nI p) (nI k) = some (nI (sD + 1), cA') ∧ RWS B S wk cStep isW b m d f' row' cA' ∧ Fr0 cA cA' ∧ RowC (q 0) (q 1) mo f' := by
  have p3 := hH.P.2.2
  obtain ⟨row1, cA1, x1, m1, h1, f1⟩ := dies2 (p := p) (w := 5) (sD := sD) h hB hS hm (by omega) (by omega)
  have hC1 : RowC (q 0) (q 1) mo (upF f p 6 3) := hC.up hp ⟨by omega, by omega, by omega, by omega, by omega, by omega, by omega⟩
  have w1 := (wolf_p (hH.fr f1.1) h1.1.x h1.1.m hC1 hk).1
  have m6 := M_get_R h1.1 (p := k) (w := 6) (by omega) (by omega)
  have hb := (hC.1 k hk).2.2.2.2.2.2
  rw [upF_ne (by omega)] at w1 m6
  unfold X_isKilled M_killNow
  simp only [litI]
  rw [x1, bd1_some, w1, bd1_some, m1, bd2_some, m6, bd1_some]
  by_cases e : f k 6 = 1
  · obtain ⟨f', row', cA', g1, g2, g3, g4, g5⟩ := frees2 h1 hC1 p3 hk
    refine ⟨f', row', cA', ?_, ?_, g3, f1.tr g4, g5⟩
    · rw [if_pos e, if_neg n10, g1, bd1_some]
    · rw [if_pos (by rw [e]), g2, bd1_some]
  · refine ⟨_, row1, cA1, ?_, ?_, h1, f1, hC1⟩
    · rw [if_neg e, if_pos rfl]
    · rw [if_neg (by rw [nI_eq' (by omega) (by omega)]; exact e)]
theorem isFed2 (h : RWS B S wk cStep isW (b + 1) m d f row cA) (hB : B < 2147483648) (hS : S ≤ 30) (hE : EnvR q cN cFor cRoad cFear cA) (hm : m ≤ 9999) (hmo : mo ≤ 9999) (hC : RowC (q 0) (q 1) mo f) (hd : d < 30469) (hφ : 400 < φ) (hT : TR E zN (q 2) cText cTx) {p k : Nat} (hp : p < q 1) (hk : k < q 1) (cNames nm : Nat → Int32) (va : Nat → Int64) (tr : Nat → Int32) : ∃ (r d' : Nat) (f' : Nat → Nat → Nat) (row' cA' v nm' : Nat → Int32) (va' : Nat → Int64) (tr' : Nat → Int32), r ≤ 4 ∧ X_isFed φ cNames cN row cFor cFear cText E zN (nI p) (nI k) = some (nI r, v, row') ∧ M_feedNow φ (nI isW) cA cTx nm va tr (nI p) (nI k) = some (cA', nm', va', tr') ∧ f' k 3 = r ∧ RWS B S wk cStep isW b m d' f' row' cA' ∧ Fr0 cA cA' ∧ RowC (q 0) (q 1) mo f' ∧ d' < 30469 := by
  have p3 := hE.1.P.2.2
  obtain ⟨row1, cA1, x1, m1, h1, f1⟩ := put2 (w := 4) (v := 0) h (show p < 6 by omega) (by omega)
  obtain ⟨row2, cA2, x2, m2, h2, f2⟩ := write2 (p := p) (w := 2) h1 hB hS hm (by omega) (by omega)
  have hC2 : RowC (q 0) (q 1) mo (upF f p 4 0) := hC.up hp ⟨by omega, by omega, by omega, by omega, by omega, by omega, by omega⟩
  have hE2 := hE.fr (f1.tr f2)
  have w1 := (wolf_p hE2.1 h2.1.x h2.1.m hC2 hk).1
  have m6 := M_get_R h2.1 (p := k) (w := 6) (by omega) (by omega)
  obtain ⟨a0, a1, a2, a3, a4, a5, a6⟩ := hC.1 k hk
  rw [upF_ne (by omega)] at w1 m6
  unfold X_isFed M_feedNow
  simp only [litI]
  rw [x1, bd1_some, x2, bd1_some, w1, bd1_some, m1, bd1_some, m2, bd1_some, m6, bd1_some]
  have x3 := X_at_R h2.1 (p := k) (w := 3) (by omega) (by omega)
  rw [upF_ne (by omega)] at x3
  by_cases e : f k 6 = 1
  · refine ⟨f k 3, d, _, row2, cA2, cNames, nm, va, tr, a3, ?_, ?_, by rw [upF_ne (by omega)], h2, f1.tr f2, hC2, hd⟩
    · rw [if_pos e, if_neg n10, x3, bd1_some]
    · rw [if_pos (by rw [e])]
  · have e' : ¬ nI (f k 6) = nI 1 := by rw [nI_eq' (by omega) (by omega)]; exact e
    obtain ⟨row3, cA3, x4, m4, h4, f4⟩ := draw2 h2 hd
    obtain ⟨r2, hr2, hall⟩ := findsOf2 (row := row3) (cA := cA2) hE2 h4.1.x h2.1.m hC2 hm hmo hφ hT hp
    obtain ⟨v2, nm2, va2, tr2, x5, m5⟩ := hall cNames nm va tr
    rw [if_neg e, if_pos rfl, x4, bd2_some, x5, bd2_some, if_neg e', m5, bd4_some, show nI 10 = (10 : Int32) from rfl, m4, bd2_some]
    have x7 := X_at_R h4.1 (p := k) (w := 3) (by omega) (by omega)
    have m7 := M_get_R h4.1 (p := k) (w := 3) (by omega) (by omega)
    rw [upF_ne (by omega)] at x7 m7
    by_cases e7 : r2 ≤ d % 10
    · refine ⟨f k 3, _, _, row3, cA3, v2, nm2, va2, tr2, a3, ?_, ?_, by rw [upF_ne (by omega)], h4, (f1.tr f2).tr f4, hC2, Nat.mod_lt _ (by omega)⟩
      · rw [if_pos ((nI_le' (by omega) (by omega)).mpr e7), x7, bd1_some]
      · rw [if_pos ((nI_le' (by omega) (by omega)).mpr e7)]
    · obtain ⟨row4, cA4, x8, m8, h8, f8⟩ := put2 (p := k) (w := 3) (v := min (f k 3 + 1) 4) h4 (by omega) (by omega)
      have x9 := X_at_R h8.1 (p := k) (w := 3) (by omega) (by omega)
      rw [upF_eq] at x9
      refine ⟨min (f k 3 + 1) 4, _, _, row4, cA4, v2, nm2, va2, tr2, by omega, ?_, ?_, upF_eq, h8, ((f1.tr f2).tr f4).tr f8, hC2.up hk ⟨by omega, by omega, by omega, by omega, by omega, by omega, by omega⟩, Nat.mod_lt _ (by omega)⟩
      · rw [if_neg (by rw [nI_le' (by omega) (by omega)]; exact e7), x7, bd1_some, nI_add, lt_def, min_E (by omega) (by omega), x8, bd1_some, x9, bd1_some]
      · rw [if_neg (by rw [nI_le' (by omega) (by omega)]; exact e7), m7, bd1_some, nI_add, show nI 0 = (0 : Int32) from rfl, cut_E (by omega) (by omega), bd1_some, m8, bd1_some]
/-- the price that is asked, whatever lies in the names' places -/
def PriceIs (E : Nat → Option (Nat → Option EvS)) (φ : Nat) (cN row cFor cFear cA cTx : Nat → Int32) (a p r : Nat) : Prop := ∀ (cNames nm : Nat → Int32) (va : Nat → Int64) (tr : Nat → Int32), ∃ (v nm' : Nat → Int32) (va' : Nat → Int64) (tr' : Nat → Int32), X_priceBy φ cNames cN row cFor cFear E a (nI p) = some (nI r, v) ∧ M_priceOf φ cA cTx nm va tr (cA 3) (nI p) = some (nI r, nm', va', tr')
theorem canPay2 (hE : EnvR q cN cFor cRoad cFear cA) (hX : RowX m f row) (hM : RowM m f cA) (hm : m ≤ 9999) (hmo : mo ≤ 9999) (hC : RowC (q 0) (q 1) mo f) (hφ : 400 < φ) (hT : TR E zN (q 2) cText cTx) {p k : Nat} (hp : p < q 1) (hk : k < q 1) : ∃ z : Nat, z ≤ 1 ∧ (z = 1 → f p 6 = 1 ∧ f k 6 ≠ 3 ∧ ∃ a r : Nat, X_rules cN cText zN = some a ∧ PriceIs E φ cN row cFor cFear cA cTx a p r ∧ r ≤ f k 1) ∧ ∀ (cNames nm : Nat → Int32) (va : Nat → Int64) (tr : Nat → Int32), ∃ (v nm' : Nat → Int32) (va' : Nat → Int64) (tr' : Nat → Int32), X_canPay φ cNames cN row cFor cFear cText E zN (nI p) (nI k) = some (nI z, v) ∧ M_canPardon φ cA cTx nm va tr (nI p) (nI k) = some (nI z, nm', va', tr') := by
  have p3 := hE.1.P.2.2
  obtain ⟨b0, b1, b2, b3, b4, b5, b6⟩ := hC.1 p hp
  obtain ⟨a0, a1, a2, a3, a4, a5, a6⟩ := hC.1 k hk
  have x6 := X_at_X hX (p := p) (w := 6) (by omega) (by omega)
  have y6 := X_at_X hX (p := k) (w := 6) (by omega) (by omega)
  have y1 := X_at_X hX (p := k) (w := 1) (by omega) (by omega)
  have w1 := (wolf_p hE.1 hX hM hC hp).2
  have w2 := (alive_p hE.1 hX hM hC hk).2
  have m1 := M_get_M hM (p := k) (w := 1) (by omega) (by omega)
  by_cases e1 : f p 6 = 1
  · by_cases e2 : f k 6 = 3
    · refine ⟨0, by omega, fun z => by omega, fun cNames nm va tr => ⟨cNames, nm, va, tr, ?_, ?_⟩⟩
      · unfold X_canPay
        simp only [litI]
        rw [x6, bd1_some, if_pos (by rw [e1]), y6, bd1_some, if_pos (by rw [e2])]
      · unfold M_canPardon
        simp only [litI]
        rw [w1, bd1_some, if_pos e1, if_neg n10, w2, bd1_some, if_pos e2, if_pos rfl]
    · have e2' : ¬ nI (f k 6) = nI 3 := by rw [nI_eq' (by omega) (by omega)]; exact e2
      obtain ⟨a, g1, g2⟩ := rules2 hE.1 hT
      obtain ⟨r, hr, hall⟩ := price2 hE hX hM hC hm hmo hφ g2 hp
      by_cases e3 : f k 1 < r
      · refine ⟨0, by omega, fun z => by omega, fun cNames nm va tr => ?_⟩
        obtain ⟨v, nm', va', tr', k1, k2⟩ := hall cNames nm va tr
        refine ⟨v, nm', va', tr', ?_, ?_⟩
        · unfold X_canPay
          simp only [litI]
          rw [x6, bd1_some, if_pos (by rw [e1]), y6, bd1_some, if_neg e2', y1, bd1_some, g1, bd1_some, k1, bd2_some, if_pos ((nI_lt' (by omega) (by omega)).mpr e3)]
        · unfold M_canPardon
          simp only [litI]
          rw [w1, bd1_some, if_pos e1, if_neg n10, w2, bd1_some, if_neg e2, if_neg n10, m1, bd1_some, rd_I (by omega) (by omega), ob_some, k2, bd4_some, if_pos ((nI_lt' (by omega) (by omega)).mpr e3)]
      · refine ⟨1, by omega, fun _ => ⟨e1, e2, a, r, g1, hall, by omega⟩, fun cNames nm va tr => ?_⟩
        obtain ⟨v, nm', va', tr', k1, k2⟩ := hall cNames nm va tr
        refine ⟨v, nm', va', tr', ?_, ?_⟩
        · unfold X_canPay
          simp only [litI]
          rw [x6, bd1_some, if_pos (by rw [e1]), y6, bd1_some, if_neg e2', y1, bd1_some, g1, bd1_some, k1, bd2_some, if_neg (by rw [nI_lt' (by omega) (by omega)]; exact e3)]
        · unfold M_canPardon
          simp only [litI]
          rw [w1, bd1_some, if_pos e1, if_neg n10, w2, bd1_some, if_neg e2, if_neg n10, m1, bd1_some, rd_I (by omega) (by omega), ob_some, k2, bd4_some, if_neg (by rw [nI_lt' (by omega) (by omega)]; exact e3)]
  · have e1' : ¬ nI (f p 6) = nI 1 := by rw [nI_eq' (by omega) (by omega)]; exact e1
    refine ⟨0, by omega, fun z => by omega, fun cNames nm va tr => ⟨cNames, nm, va, tr, ?_, ?_⟩⟩
    · unfold X_canPay
      simp only [litI]
      rw [x6, bd1_some, if_neg e1']
    · unfold M_canPardon
      simp only [litI]
      rw [w1, bd1_some, if_neg e1, if_pos rfl]
theorem canPardon2 (hE : EnvR q cN cFor cRoad cFear cA) (hX : RowX m f row) (hM : RowM m f cA) (hm : m ≤ 9999) (hmo : mo ≤ 9999) (hC : RowC (q 0) (q 1) mo f) (hφ : 400 < φ) (hT : TR E zN (q 2) cText cTx) (x y : Int32) : ∃ z : Nat, z ≤ 1 ∧ (z = 1 → ∃ p k : Nat, x = nI p ∧ y = nI k ∧ p < q 1 ∧ k < q 1 ∧ f p 6 = 1 ∧ f k 6 ≠ 3 ∧ ∃ a r : Nat, X_rules cN cText zN = some a ∧ PriceIs E φ cN row cFor cFear cA cTx a p r ∧ r ≤ f k 1) ∧ ∀ (cNames nm : Nat → Int32) (va : Nat → Int64) (tr : Nat → Int32), ∃ (v nm' : Nat → Int32) (va' : Nat → Int64) (tr' : Nat → Int32), X_canPardon φ cNames cN row cFor cFear cText E zN x y = some (nI z, v) ∧ M_canPardon φ cA cTx nm va tr x y = some (nI z, nm', va', tr') := by
  rcases person_c hE.1 x with ⟨p, hp, rfl, x1, m1⟩ | ⟨x1, m1⟩
  · rcases person_c hE.1 y with ⟨k, hk, rfl, x2, m2⟩ | ⟨x2, m2⟩
    · obtain ⟨z, hz, h1, h2⟩ := canPay2 hE hX hM hm hmo hC hφ hT hp hk
      refine ⟨z, hz, fun e => ⟨p, k, rfl, rfl, hp, hk, h1 e⟩, fun cNames nm va tr => ?_⟩
      obtain ⟨v, nm', va', tr', k1, k2⟩ := h2 cNames nm va tr
      refine ⟨v, nm', va', tr', ?_, k2⟩
      unfold X_canPardon
      simp only [litI]
      rw [x1, bd1_some, if_neg n10, x2, bd1_some, if_neg n10, k1, bd2_some]
      have hz2 : z = 0 ∨ z = 1 := by omega
      rcases hz2 with rfl | rfl
      · rw [if_pos rfl]
      · rw [if_neg n10]
    · refine ⟨0, by omega, fun z => by omega, fun cNames nm va tr => ?_⟩
      have w1 := (wolf_p hE.1 hX hM hC hp).2
      refine ⟨cNames, nm, va, tr, ?_, ?_⟩
      · unfold X_canPardon
        simp only [litI]
        rw [x1, bd1_some, if_neg n10, x2, bd1_some, if_pos rfl]
      · unfold M_canPardon
        simp only [litI]
        rw [w1, bd1_some]
        by_cases e : f p 6 = 1
        · have ha : M_isAlive cA y = some (nI 0) := by
            unfold M_isAlive
            simp only [litI]
            rw [m2, bd1_some, if_pos rfl]
          rw [if_pos e, if_neg n10, ha, bd1_some, if_pos rfl]
        · rw [if_neg e, if_pos rfl]
  · refine ⟨0, by omega, fun z => by omega, fun cNames nm va tr => ⟨cNames, nm, va, tr, ?_, ?_⟩⟩
    · unfold X_canPardon
      simp only [litI]
      rw [x1, bd1_some, if_pos rfl]
    · have hw : M_isOutlaw cA x = some (nI 0) := by
        unfold M_isOutlaw
        simp only [litI]
        rw [m1, bd1_some, if_pos rfl]
      unfold M_canPardon
      simp only [litI]
      rw [hw, bd1_some, if_pos rfl]
theorem buys2 (h : RWS B S wk cStep isW (b + 1) m d f row cA) (hB : B < 2147483648) (hS : S ≤ 30) (hP : q 1 ≤ 6) (hm : m ≤ 9999) (hC : RowC (q 0) (q 1) mo f) {p k a r : Nat} (hp : p < q 1) (hk : k < q 1) (hr : X_rules cN cText zN = some a) (hpr : PriceIs E φ cN row cFor cFear cA cTx a p r) (hle : r ≤ f k 1) (cNames nm : Nat → Int32) (va : Nat → Int64) (tr : Nat → Int32) : ∃ (f' : Nat → Nat → Nat) (row' cA' v nm' : Nat → Int32) (va' : Nat → Int64) (tr' : Nat → Int32), X_buys φ cNames cN row cFor cFear cText E zN (nI p) (nI k) = some (nI r, v, row') ∧ M_payNow φ (nI isW) cA cTx nm va tr (nI p) (nI k) = some (nI r, cA', nm', va', tr') ∧ RWS B S wk cStep isW b m d f' row' cA' ∧ Fr0 cA cA' ∧ RowC (q 0) (q 1) mo f' := by
  obtain ⟨v, nm', va', tr', k1, k2⟩ := hpr cNames nm va tr
  obtain ⟨a0, a1, a2, a3, a4, a5, a6⟩ := hC.1 k hk
  have x1 := X_at_R h.1 (p := k) (w := 1) (by omega) (by omega)
  have m1 := M_get_R h.1 (p := k) (w := 1) (by omega) (by omega)
  obtain ⟨row1, cA1, x2, m2, h2, f2⟩ := put2 (p := k) (w := 1) (v := f k 1 - r) h (by omega) (by omega)
  have hC2 : RowC (q 0) (q 1) mo (upF f k 1 (f k 1 - r)) := hC.up hk ⟨by omega, by omega, by omega, by omega, by omega, by omega, by omega⟩
  obtain ⟨f', row2, cA2, x3, m3, h3, f3, hC3⟩ := frees2 h2 hC2 hP hp
  obtain ⟨row4, cA4, x4, m4, h4, f4⟩ := write2 (p := p) (w := 6) h3 hB hS hm (by omega) (by omega)
  refine ⟨f', row4, cA4, v, nm', va', tr', ?_, ?_, h4, (f2.tr f3).tr f4, hC3⟩
  · unfold X_buys
    simp only [litI]
    rw [hr, bd1_some, k1, bd2_some, x1, bd1_some, nI_sub hle, x2, bd1_some, x3, bd1_some, x4, bd1_some]
  · unfold M_payNow
    simp only [litI]
    rw [rd_I (by omega) (by omega), ob_some, k2, bd4_some, m1, bd1_some, nI_sub hle, m2, bd1_some, m3, bd1_some, m4, bd1_some]
end DO2
