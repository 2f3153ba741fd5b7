/-! THE PURE LAW: what a row holds on either side; its primitive steps -/
/-- a person's numbers changed -/
def upF (f : Nat → Nat → Nat) (p w v : Nat) : Nat → Nat → Nat := fun p' w' => if p' = p ∧ w' = w then v else f p' w'
/-- month m, draw d, persons f: x's row, m's array -/
def RowR (m d : Nat) (f : Nat → Nat → Nat) (row cA : Nat → Int32) : Prop := (row 0 = nI m ∧ cA 10 = nI m) ∧ (row 1 = nI d ∧ cA 11 = nI d) ∧ ∀ p w : Nat, p < 6 → w < 7 → row (2 + 7 * p + w) = nI (f p w) ∧ cA (14 + 11 * p + w) = nI (f p w)
/-- .. of the row alone, of the array alone, without the draw -/
def RowX (m : Nat) (f : Nat → Nat → Nat) (row : Nat → Int32) : Prop := row 0 = nI m ∧ ∀ p w : Nat, p < 6 → w < 7 → row (2 + 7 * p + w) = nI (f p w)
def RowM (m : Nat) (f : Nat → Nat → Nat) (cA : Nat → Int32) : Prop := cA 10 = nI m ∧ ∀ p w : Nat, p < 6 → w < 7 → cA (14 + 11 * p + w) = nI (f p w)
theorem RowR.x {m d : Nat} {f : Nat → Nat → Nat} {row cA : Nat → Int32} (h : RowR m d f row cA) : RowX m f row := ⟨h.1.1, fun p w hp hw => (h.2.2 p w hp hw).1⟩
theorem RowR.m {m d : Nat} {f : Nat → Nat → Nat} {row cA : Nat → Int32} (h : RowR m d f row cA) : RowM m f cA := ⟨h.1.2, fun p w hp hw => (h.2.2 p w hp hw).2⟩
/-- their bounds, of L lands, P persons -/
def RowC (L P mo : Nat) (f : Nat → Nat → Nat) : Prop :=  (∀ p : Nat, p < P → f p 0 < L ∧ f p 1 ≤ 9999 ∧ f p 2 ≤ 9999 ∧ f p 3 ≤ 4 ∧ f p 4 ≤ 9 ∧ f p 5 ≤ mo ∧ f p 6 ≤ 3) ∧ ∀ p w : Nat, P ≤ p → p < 6 → w < 7 → f p w = 0
/-- the last entries of a book of W entries bk, on x's row -/
def BookV (W : Nat) (bk : Nat → Nat) (row : Nat → Int32) : Prop := row 44 = nI (min W 30) ∧ ∀ i : Nat, i < min W 30 → row (45 + 3 * i) = nI (bk (W - min W 30 + i) / 64) ∧ row (46 + 3 * i) = nI (bk (W - min W 30 + i) / 8 % 8) ∧ row (47 + 3 * i) = nI (bk (W - min W 30 + i) % 8)
/-- the books: now's of W entries; the kept steps' of wk k; on m's ring all that may be shown; b more may be written -/
def BookR (B S : Nat) (wk : Nat → Nat) (cStep : Nat → Nat → Int32) (b : Nat) (row cA : Nat → Int32) : Prop := ∃ (W : Nat) (bk : Nat → Nat), BookV W bk row ∧ (∀ k : Nat, k < S → BookV (wk k) bk (cStep k)) ∧ cA 12 = nI W ∧ W + b ≤ B ∧ (∀ k : Nat, k < S → wk k ≤ W ∧ W + b ≤ wk k + 240 * (S - k)) ∧ (∀ j : Nat, bk j < 640000) ∧ (∀ j : Nat, j < W → W - 30 ≤ j → cA (1522 + j % 7240) = nI (bk j)) ∧ ∀ k j : Nat, k < S → j < wk k → wk k - 30 ≤ j → cA (1522 + j % 7240) = nI (bk j)
/-- with the book (isW = 1) or on a row that is tried (isW = 0) -/
def BK (B S : Nat) (wk : Nat → Nat) (cStep : Nat → Nat → Int32) (isW : Nat) (b : Nat) (row cA : Nat → Int32) : Prop := (isW = 0 ∧ ∃ n : Nat, n ≤ 30 ∧ row 44 = nI n ∧ ∀ j : Nat, j = 12 ∨ 1522 ≤ j → cA j = cStep 0 j) ∨ (isW = 1 ∧ BookR B S wk cStep b row cA)
/-- what a step in a row leaves of m's array: all but month, draw, written, the persons' seven numbers, the ring -/
def Fr0 (cA cA' : Nat → Int32) : Prop := (∀ j : Nat, j < 10 → cA' j = cA j) ∧ (∀ j : Nat, 80 ≤ j → j < 1522 → cA' j = cA j) ∧ ∀ p w : Nat, p < 6 → 7 ≤ w → w < 11 → cA' (14 + 11 * p + w) = cA (14 + 11 * p + w)
theorem Fr0.rf {cA : Nat → Int32} : Fr0 cA cA := ⟨fun _ _ => rfl, fun _ _ _ => rfl, fun _ _ _ _ _ => rfl⟩
theorem Fr0.tr {a b c : Nat → Int32} (h1 : Fr0 a b) (h2 : Fr0 b c) : Fr0 a c := ⟨fun j h => (h2.1 j h).trans (h1.1 j h), fun j h h' => (h2.2.1 j h h').trans (h1.2.1 j h h'), fun p w h h' h'' => (h2.2.2 p w h h' h'').trans (h1.2.2 p w h h' h'')⟩
/-- a row's state -/
def RWS (B S : Nat) (wk : Nat → Nat) (cStep : Nat → Nat → Int32) (isW b m d : Nat) (f : Nat → Nat → Nat) (row cA : Nat → Int32) : Prop := RowR m d f row cA ∧ BK B S wk cStep isW b row cA
section ROWS
variable {B S : Nat} {wk : Nat → Nat} {cStep : Nat → Nat → Int32} {isW b m d : Nat} {f : Nat → Nat → Nat} {row cA : Nat → Int32}
theorem X_at_X (h : RowX m f row) {p w : Nat} (hp : p < 6) (hw : w < 7) : X_at row (nI p) (nI w) = some (nI (f p w)) := by
  unfold X_at
  rw [show (2 : Int32) = nI 2 from rfl, show (7 : Int32) = nI 7 from rfl, nI_mul, nI_add, nI_add, rd_I (by omega) (by omega)]
  show some (row (2 + 7 * p + w)) = _
  rw [h.2 p w hp hw]
theorem X_at_R (h : RowR m d f row cA) {p w : Nat} (hp : p < 6) (hw : w < 7) : X_at row (nI p) (nI w) = some (nI (f p w)) := X_at_X h.x hp hw
theorem M_get_M (h : RowM m f cA) {p w : Nat} (hp : p < 6) (hw : w < 7) : M_get cA (nI p) (nI w) = some (nI (f p w)) := by
  unfold M_get
  rw [show (14 : Int32) = nI 14 from rfl, show (11 : Int32) = nI 11 from rfl, nI_mul, nI_add, nI_add, rd_I (by omega) (by omega)]
  show some (cA (14 + 11 * p + w)) = _
  rw [h.2 p w hp hw]
theorem M_get_R (h : RowR m d f row cA) {p w : Nat} (hp : p < 6) (hw : w < 7) : M_get cA (nI p) (nI w) = some (nI (f p w)) := M_get_M h.m hp hw
theorem M_get_T {p w : Nat} (hp : p < 6) (hw : w < 11) : M_get cA (nI p) (nI w) = some (cA (14 + 11 * p + w)) := by
  unfold M_get
  rw [show (14 : Int32) = nI 14 from rfl, show (11 : Int32) = nI 11 from rfl, nI_mul, nI_add, nI_add, rd_I (by omega) (by omega)]
  rfl
theorem X_sets_E {p w : Nat} {v : Int32} (hp : p < 6) (hw : w < 7) : X_sets row (nI p) (nI w) v = some (upd row (2 + 7 * p + w) v) := by
  unfold X_sets
  rw [show (2 : Int32) = nI 2 from rfl, show (7 : Int32) = nI 7 from rfl, nI_mul, nI_add, nI_add, wr_I (by omega) (by omega)]
  rfl
theorem M_put_E {p w : Nat} {v : Int32} (hp : p < 6) (hw : w < 11) : M_put cA (nI p) (nI w) v = some (upd cA (14 + 11 * p + w) v) := by
  unfold M_put
  rw [show (14 : Int32) = nI 14 from rfl, show (11 : Int32) = nI 11 from rfl, nI_mul, nI_add, nI_add, wr_I (by omega) (by omega)]
  rfl
theorem BookV.frame {W : Nat} {bk : Nat → Nat} {row' : Nat → Int32} (h : BookV W bk row) (hr : ∀ j : Nat, 44 ≤ j → row' j = row j) : BookV W bk row' := by
  refine ⟨by rw [hr _ (Nat.le_refl _)]; exact h.1, fun i hi => ?_⟩
  rw [hr _ (by omega), hr _ (by omega), hr _ (by omega)]
  exact h.2 i hi
theorem BK.frame {row' cA' : Nat → Int32} (h : BK B S wk cStep isW b row cA) (hr : ∀ j : Nat, 44 ≤ j → row' j = row j) (hA : ∀ j : Nat, j = 12 ∨ 1522 ≤ j → cA' j = cA j) : BK B S wk cStep isW b row' cA' := by
  rcases h with ⟨h0, n, hn, e, e2⟩ | ⟨h0, W, bk, h1, h2, h3, h4, h5, h6, h7, h8⟩
  · exact Or.inl ⟨h0, n, hn, by rw [hr _ (Nat.le_refl _)]; exact e, fun j hj => (hA j hj).trans (e2 j hj)⟩
  · refine Or.inr ⟨h0, W, bk, h1.frame hr, h2, by rw [hA _ (Or.inl rfl)]; exact h3, h4, h5, h6, fun j a1 a2 => ?_, fun k j a1 a2 a3 => ?_⟩
    · rw [hA _ (Or.inr (Nat.le_add_right _ _))]; exact h7 j a1 a2
    · rw [hA _ (Or.inr (Nat.le_add_right _ _))]; exact h8 k j a1 a2 a3
theorem BK.less {b' : Nat} (h : BK B S wk cStep isW b row cA) (hb : b' ≤ b) : BK B S wk cStep isW b' row cA := by
  rcases h with h | ⟨h0, W, bk, h1, h2, h3, h4, h5, h6, h7, h8⟩
  · exact Or.inl h
  · exact Or.inr ⟨h0, W, bk, h1, h2, h3, by omega, fun k hk => ⟨(h5 k hk).1, by have := (h5 k hk).2; omega⟩, h6, h7, h8⟩
theorem BK.more {B' : Nat} (h : BK B S wk cStep isW b row cA) (hB : B ≤ B') : BK B' S wk cStep isW b row cA := by
  rcases h with h | ⟨h0, W, bk, h1, h2, h3, h4, h5, h6, h7, h8⟩
  · exact Or.inl h
  · exact Or.inr ⟨h0, W, bk, h1, h2, h3, by omega, h5, h6, h7, h8⟩
theorem RWS.less {b' : Nat} (h : RWS B S wk cStep isW b m d f row cA) (hb : b' ≤ b) : RWS B S wk cStep isW b' m d f row cA := ⟨h.1, h.2.less hb⟩
/-- a person's number is put -/
theorem put2 (h : RWS B S wk cStep isW b m d f row cA) {p w v : Nat} (hp : p < 6) (hw : w < 7) : ∃ row' cA' : Nat → Int32, X_sets row (nI p) (nI w) (nI v) = some row' ∧ M_put cA (nI p) (nI w) (nI v) = some cA' ∧ RWS B S wk cStep isW b m d (upF f p w v) row' cA' ∧ Fr0 cA cA' := by
  refine ⟨_, _, X_sets_E hp hw, M_put_E hp (by omega), ⟨⟨⟨?_, ?_⟩, ⟨?_, ?_⟩, fun p' w' hp' hw' => ?_⟩, h.2.frame (fun j hj => upd_ne (by omega)) (fun j hj => upd_ne (by omega))⟩, ⟨fun j hj => upd_ne (by omega), fun j h1 h2 => upd_ne (by omega), fun p' w' h1 h2 h3 => upd_ne (by omega)⟩⟩
  · rw [upd_ne (by omega)]; exact h.1.1.1
  · rw [upd_ne (by omega)]; exact h.1.1.2
  · rw [upd_ne (by omega)]; exact h.1.2.1.1
  · rw [upd_ne (by omega)]; exact h.1.2.1.2
  · by_cases e : p' = p ∧ w' = w
    · obtain ⟨rfl, rfl⟩ := e
      unfold upF
      rw [if_pos ⟨rfl, rfl⟩, upd_eq, upd_eq]
      exact ⟨rfl, rfl⟩
    · unfold upF
      rw [if_neg e, upd_ne (by omega), upd_ne (by omega)]
      exact h.1.2.2 p' w' hp' hw'
/-- the draw goes on -/
theorem draws2 (h : RWS B S wk cStep isW b m d f row cA) (hd : d < 30469) : ∃ row' cA' : Nat → Int32, X_draws row = some row' ∧ M_anew cA = some cA' ∧ RWS B S wk cStep isW b m ((d * 379 + 257) % 30469) f row' cA' ∧ Fr0 cA cA' := by
  have e1 : row 1 = nI d := h.1.2.1.1
  have e2 : cA 11 = nI d := h.1.2.1.2
  have hx : X_draws row = some (upd row 1 (nI ((d * 379 + 257) % 30469))) := by
    unfold X_draws
    rw [show (1 : Int32) = nI 1 from rfl, rd_I (by omega) (by omega)]
    simp only [ob_some, lt_def]
    rw [wr_I (by omega) (by omega)]
    simp only [ob_some]
    rw [e1, show (379 : Int32) = nI 379 from rfl, show (257 : Int32) = nI 257 from rfl, show (30469 : Int32) = nI 30469 from rfl, nI_mul, nI_add, nI_mod (by omega) (by omega)]
  have hl : ∀ k : Nat, k < 30469 → ((((nI k).toInt64 * 379) + 257) - (((nI k).toInt64 * 379) + 257) / 30469 * 30469 : Int64).toInt32 = nI ((k * 379 + 257) % 30469) := by
    intro k hk
    refine Int32.toInt_inj.mp ?_
    rw [nI_toInt' (by omega)]
    have a1 : ((nI k).toInt64 * 379 + 257 : Int64).toInt = (k : Int) * 379 + 257 := by
      rw [Int64.toInt_add, Int64.toInt_mul, Int32.toInt_toInt64, nI_toInt' (by omega)]
      rw [show (379 : Int64).toInt = 379 by decide, show (257 : Int64).toInt = 257 by decide]
      rw [Int.bmod_eq_of_le (n := (k : Int) * 379) (by omega) (by omega), Int.bmod_eq_of_le (by omega) (by omega)]
    generalize (nI k).toInt64 * 379 + 257 = y at a1 ⊢
    have a2 : (y / 30469).toInt = ((k : Int) * 379 + 257) / 30469 := by
      rw [Int64.toInt_div_of_ne_right _ _ (by decide), a1, show (30469 : Int64).toInt = 30469 by decide, Int.tdiv_eq_ediv_of_nonneg (by omega)]
    have a3 : (y / 30469 * 30469).toInt = ((k : Int) * 379 + 257) / 30469 * 30469 := by
      rw [Int64.toInt_mul, a2, show (30469 : Int64).toInt = 30469 by decide, Int.bmod_eq_of_le (by omega) (by omega)]
    have a4 : (y - y / 30469 * 30469).toInt = ((k : Int) * 379 + 257) - ((k : Int) * 379 + 257) / 30469 * 30469 := by
      rw [Int64.toInt_sub, a1, a3, Int.bmod_eq_of_le (by omega) (by omega)]
    rw [Int64.toInt_toInt32, a4, Int.bmod_eq_of_le (by omega) (by omega)]
    omega
  have hm : M_anew cA = some (upd cA 11 (nI ((d * 379 + 257) % 30469))) := by
    unfold M_anew
    rw [show (11 : Int32) = nI 11 from rfl, rd_I (by omega) (by omega)]
    simp only [ob_some, lt_def]
    rw [wr_I (by omega) (by omega)]
    simp only [ob_some]
    rw [e2, hl d hd]
  refine ⟨_, _, hx, hm, ⟨⟨⟨?_, ?_⟩, ⟨upd_eq, upd_eq⟩, fun p' w' hp' hw' => ?_⟩, h.2.frame (fun j hj => upd_ne (by omega)) (fun j hj => upd_ne (by omega))⟩, ⟨fun j hj => upd_ne (by omega), fun j h1 h2 => upd_ne (by omega), fun p' w' h1 h2 h3 => upd_ne (by omega)⟩⟩
  · rw [upd_ne (by omega)]; exact h.1.1.1
  · rw [upd_ne (by omega)]; exact h.1.1.2
  · rw [upd_ne (by omega), upd_ne (by omega)]
    exact h.1.2.2 p' w' hp' hw'
theorem draw2 (h : RWS B S wk cStep isW b m d f row cA) (hd : d < 30469) : ∃ row' cA' : Nat → Int32, X_draw row = some (nI (d % 10), row') ∧ M_drawn cA 10 = some (nI (d % 10), cA') ∧ RWS B S wk cStep isW b m ((d * 379 + 257) % 30469) f row' cA' ∧ Fr0 cA cA' := by
  obtain ⟨row', cA', h1, h2, h3, h4⟩ := draws2 h hd
  refine ⟨row', cA', ?_, ?_, h3, h4⟩
  · unfold X_draw
    rw [show (1 : Int32) = nI 1 from rfl, rd_I (by omega) (by omega)]
    simp only [ob_some, lt_def]
    rw [h1]
    simp only [bd1_some]
    rw [h.1.2.1.1, show (10 : Int32) = nI 10 from rfl, nI_mod (by omega) (by omega)]
  · unfold M_drawn
    rw [show (11 : Int32) = nI 11 from rfl, rd_I (by omega) (by omega)]
    simp only [ob_some, lt_def]
    rw [show (10 : Int32) = nI 10 from rfl, nz_I (by omega) (by omega), h2]
    simp only [bd1_some]
    rw [h.1.2.1.2, nI_mod (by omega) (by omega)]
/-- the draw is set -/
theorem seed2 (h : RWS B S wk cStep isW b m d f row cA) (d' : Nat) : RWS B S wk cStep isW b m d' f (upd row 1 (nI d')) (upd cA 11 (nI d')) ∧ Fr0 cA (upd cA 11 (nI d')) := by
  refine ⟨⟨⟨⟨?_, ?_⟩, ⟨upd_eq, upd_eq⟩, fun p' w' hp' hw' => ?_⟩, h.2.frame (fun j hj => upd_ne (by omega)) (fun j hj => upd_ne (by omega))⟩, ⟨fun j hj => upd_ne (by omega), fun j h1 h2 => upd_ne (by omega), fun p' w' h1 h2 h3 => upd_ne (by omega)⟩⟩
  · rw [upd_ne (by omega)]; exact h.1.1.1
  · rw [upd_ne (by omega)]; exact h.1.1.2
  · rw [upd_ne (by omega), upd_ne (by omega)]
    exact h.1.2.2 p' w' hp' hw'
/-- the month goes on -/
theorem month2 (h : RWS B S wk cStep isW b m d f row cA) (m' : Nat) : RWS B S wk cStep isW b m' d f (upd row 0 (nI m')) (upd cA 10 (nI m')) ∧ Fr0 cA (upd cA 10 (nI m')) := by
  refine ⟨⟨⟨⟨upd_eq, upd_eq⟩, ⟨?_, ?_⟩, fun p' w' hp' hw' => ?_⟩, h.2.frame (fun j hj => upd_ne (by omega)) (fun j hj => upd_ne (by omega))⟩, ⟨fun j hj => upd_ne (by omega), fun j h1 h2 => upd_ne (by omega), fun p' w' h1 h2 h3 => upd_ne (by omega)⟩⟩
  · rw [upd_ne (by omega)]; exact h.1.2.1.1
  · rw [upd_ne (by omega)]; exact h.1.2.1.2
  · rw [upd_ne (by omega), upd_ne (by omega)]
    exact h.1.2.2 p' w' hp' hw'
end ROWS
