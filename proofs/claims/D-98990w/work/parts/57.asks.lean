/-! THE PURE LAW: the header, the world of statics; the names; what one hungers, finds, costs, earns -/
def bndQ (k : Nat) : Nat := ([8, 6, 4, 0, 30, 5, 8, 8, 8, 255] : List Nat).getD k 0
def RH (q : Nat → Nat) (cN cA : Nat → Int32) : Prop := (∀ k : Nat, k < 10 → cA k = cN k) ∧ (∀ k : Nat, k < 10 → k ≠ 3 → cN k = nI (q k) ∧ q k ≤ bndQ k) ∧ (cN 3 = -1 ∨ ∃ t : Nat, t < q 2 ∧ cN 3 = nI t)
def EnvR (q : Nat → Nat) (cN cFor cRoad cFear cA : Nat → Int32) : Prop := RH q cN cA ∧ LandR (q 0) cFor cRoad cA ∧ FearR (q 1) cFear cA
def TR (E : Nat → Option (Nat → Option EvS)) (zN T : Nat) (cText : Nat → Option Nat) (cTx : Nat → Int32) : Prop := (∃ e0 : Nat → Option EvS, E zN = some e0 ∧ ∀ k : Nat, k < 4 → e0 k = none) ∧ ∀ t : Nat, t < T → ∃ (a : Nat) (e : Nat → Option EvS), cText t = some a ∧ E a = some e ∧ TextOK cTx t e
theorem RH.fr {q : Nat → Nat} {cN cA cA' : Nat → Int32} (h : RH q cN cA) (hf : ∀ j : Nat, j < 10 → cA' j = cA j) : RH q cN cA' := ⟨fun k hk => (hf k hk).trans (h.1 k hk), h.2⟩
theorem LandR.fr {L : Nat} {cFor cRoad cA cA' : Nat → Int32} (h : LandR L cFor cRoad cA) (hL : L ≤ 8) (hf : ∀ j : Nat, 80 ≤ j → j < 96 → cA' j = cA j) : LandR L cFor cRoad cA' := fun l hl => ⟨(hf _ (by omega) (by omega)).trans (h l hl).1, (h l hl).2.1, (hf _ (by omega) (by omega)).trans (h l hl).2.2.1, (h l hl).2.2.2⟩
theorem FearR.fr {P : Nat} {cFear cA cA' : Nat → Int32} (h : FearR P cFear cA) (hf : ∀ p : Nat, p < 6 → cA' (14 + 11 * p + 7) = cA (14 + 11 * p + 7)) : FearR P cFear cA' := fun p hp => ⟨(hf p hp).trans (h p hp).1, (h p hp).2⟩
theorem RH.L {q : Nat → Nat} {cN cA : Nat → Int32} (h : RH q cN cA) : cN 0 = nI (q 0) ∧ cA 0 = nI (q 0) ∧ q 0 ≤ 8 := ⟨(h.2.1 0 (by omega) (by omega)).1, (h.1 0 (by omega)).trans (h.2.1 0 (by omega) (by omega)).1, (h.2.1 0 (by omega) (by omega)).2⟩
theorem RH.P {q : Nat → Nat} {cN cA : Nat → Int32} (h : RH q cN cA) : cN 1 = nI (q 1) ∧ cA 1 = nI (q 1) ∧ q 1 ≤ 6 := ⟨(h.2.1 1 (by omega) (by omega)).1, (h.1 1 (by omega)).trans (h.2.1 1 (by omega) (by omega)).1, (h.2.1 1 (by omega) (by omega)).2⟩
theorem RH.T {q : Nat → Nat} {cN cA : Nat → Int32} (h : RH q cN cA) : cN 2 = nI (q 2) ∧ cA 2 = nI (q 2) ∧ q 2 ≤ 4 := ⟨(h.2.1 2 (by omega) (by omega)).1, (h.1 2 (by omega)).trans (h.2.1 2 (by omega) (by omega)).1, (h.2.1 2 (by omega) (by omega)).2⟩
theorem RH.S {q : Nat → Nat} {cN cA : Nat → Int32} (h : RH q cN cA) : cN 4 = nI (q 4) ∧ cA 4 = nI (q 4) ∧ q 4 ≤ 30 := ⟨(h.2.1 4 (by omega) (by omega)).1, (h.1 4 (by omega)).trans (h.2.1 4 (by omega) (by omega)).1, (h.2.1 4 (by omega) (by omega)).2⟩
theorem EnvR.fr {q : Nat → Nat} {cN cFor cRoad cFear cA cA' : Nat → Int32} (h : EnvR q cN cFor cRoad cFear cA) (hf : Fr0 cA cA') : EnvR q cN cFor cRoad cFear cA' := ⟨h.1.fr hf.1, h.2.1.fr h.1.L.2.2 (fun j h1 h2 => hf.2.1 j h1 (by omega)), h.2.2.fr (fun p hp => hf.2.2 p 7 hp (by omega) (by omega))⟩
/-- the text that rules -/
theorem rules2 {q : Nat → Nat} {cN cA cTx : Nat → Int32} {cText : Nat → Option Nat} {E : Nat → Option (Nat → Option EvS)} {zN : Nat} (h : RH q cN cA) (ht : TR E zN (q 2) cText cTx) : ∃ a : Nat, X_rules cN cText zN = some a ∧ LawAt E cTx (cA 3) a := by
  rw [h.1 3 (by omega)]
  unfold X_rules
  rw [show (3 : Int32) = nI 3 from rfl, rd_I (by omega) (by omega), ob_some]
  rcases h.2.2 with e | ⟨t, ht2, e⟩
  · obtain ⟨e0, h1, h2⟩ := ht.1
    exact ⟨zN, by rw [if_pos e], e0, h1, Or.inl ⟨e, h2⟩⟩
  · obtain ⟨a, e1, h1, h2, h3⟩ := ht.2 t ht2
    have hT := h.T.2.2
    refine ⟨a, ?_, e1, h2, Or.inr ⟨t, by omega, e, h3⟩⟩
    rw [if_neg (by rw [e, nI_neg1' (by omega)]; exact not_false), e, ob_some, rdq_I (by omega) (by omega), h1]
    rfl
theorem acp_I {f f2 : Nat → Int32} {n0 n1 a b c : Nat} (h1 : a + c ≤ n0) (h2 : b + c ≤ n1) (h0 : n0 < 2147483648) (h3 : n1 < 2147483648) : acp f n0 f2 n1 (nI a) (nI b) (nI c) = some (va_cpy f f2 a b c) := by
  unfold acp
  rw [nI_clamp' (by omega), nI_clamp' (by omega), nI_clamp' (by omega), if_neg]
  intro q
  rcases q with q | q
  · rcases q with q | q | q
    · exact nI_pos (by omega) q
    · exact nI_pos (by omega) q
    · exact nI_pos (by omega) q
  · omega
/-- ten names -/
def nmC (b a : Nat → Int32) : Nat → Int32 := upd (upd (upd (upd (upd (upd (upd (upd (upd (upd b 0 (a 0)) 1 (a 1)) 2 (a 2)) 3 (a 3)) 4 (a 4)) 5 (a 5)) 6 (a 6)) 7 (a 7)) 8 (a 8)) 9 (a 9)
theorem nmC_at {b a : Nat → Int32} {k : Nat} (hk : k < 10) : nmC b a k = a k := by
  have h : k = 0 ∨ k = 1 ∨ k = 2 ∨ k = 3 ∨ k = 4 ∨ k = 5 ∨ k = 6 ∨ k = 7 ∨ k = 8 ∨ k = 9 := by omega
  rcases h with rfl | rfl | rfl | rfl | rfl | rfl | rfl | rfl | rfl | rfl <;> simp [nmC, upd]
section ASKS
variable {q : Nat → Nat} {cN cFor cRoad cFear cA cTx row : Nat → Int32} {cText : Nat → Option Nat} {E : Nat → Option (Nat → Option EvS)} {zN m mo φ : Nat} {f : Nat → Nat → Nat}
theorem crowd2 (hE : EnvR q cN cFor cRoad cFear cA) (hX : RowX m f row) (hM : RowM m f cA) (hC : RowC (q 0) (q 1) mo f) (hmo : mo ≤ 9999) (hφ : 400 < φ) {p l : Nat} (hp : p < q 1) (hl : l < q 0) : ∃ r : Nat, r ≤ 6 ∧ X_crowdIn φ cN row (nI p) (nI l) = some (nI r) ∧ M_crowdOf φ cA (nI p) (nI l) = some (nI r) := by
  obtain ⟨p1, p2, p3⟩ := hE.1.P
  obtain ⟨l1, l2, l3⟩ := hE.1.L
  obtain ⟨r, hr, h1, h2⟩ := crowd_L (φ := φ) hX hM p3 p1 p2 (show p < 6 by omega) (show l < 2147483648 by omega) (fun k hk => by
    by_cases q9 : k < q 1
    · have := hC.1 k q9
      omega
    · rw [hC.2 k 6 (by omega) hk (by omega), hC.2 k 0 (by omega) hk (by omega)]
      omega) (q 1) 0 0 φ (by omega) (by omega) (by omega)
  refine ⟨r, by omega, ?_, ?_⟩
  · unfold X_crowdIn
    rw [show (0 : Int32) = nI 0 from rfl, h1]; rfl
  · unfold M_crowdOf
    rw [show (0 : Int32) = nI 0 from rfl, h2]; rfl
/-- the names as x has them -/
noncomputable def nameV (cFear cFor : Nat → Int32) (m : Nat) (f : Nat → Nat → Nat) (p l c : Nat) : Nat → Int32 := fun k => ([nI m, nI p, cFear p, nI l, cFor l, nI (f p 4), nI (f p 5), nI (f p 1), nI (f p 2), nI c] : List Int32).getD k 0
theorem names2 (hE : EnvR q cN cFor cRoad cFear cA) (hX : RowX m f row) (hM : RowM m f cA) (hC : RowC (q 0) (q 1) mo f) (hm : m ≤ 9999) (hmo : mo ≤ 9999) (hφ : 400 < φ) {p l : Nat} (hp : p < q 1) (hl : l < q 0) : ∃ v0 : Nat → Int32, NameOK v0 ∧ v0 4 = cFor l ∧ v0 6 = nI (f p 5) ∧ ∀ cNames nm : Nat → Int32, ∃ v nm' : Nat → Int32, X_namesOf φ cNames cN row cFor cFear (nI p) (nI l) = some v ∧ M_nameIn φ cA nm (nI p) (nI l) = some nm' ∧ NmA (q 1) cA nm' v ∧ ∀ k : Nat, k < 16 → v k = v0 k := by
  obtain ⟨c, hc6, hc1, hc2⟩ := crowd2 hE hX hM hC hmo hφ hp hl
  obtain ⟨p1, p2, p3⟩ := hE.1.P
  obtain ⟨l1, l2, l3⟩ := hE.1.L
  have hx : ∀ w : Nat, w < 7 → X_at row (nI p) (nI w) = some (nI (f p w)) := fun w hw => X_at_X hX (by omega) hw
  have hm9 : ∀ w : Nat, w < 7 → M_get cA (nI p) (nI w) = some (nI (f p w)) := fun w hw => M_get_M hM (by omega) hw
  have hf7 : M_get cA (nI p) (nI 7) = some (cFear p) := by rw [M_get_T (by omega) (by omega), (hE.2.2 p (by omega)).1]
  have x1 : ∀ cNames : Nat → Int32, X_namesOf φ cNames cN row cFor cFear (nI p) (nI l) = some (va_cpy cFear (nmC cNames (nameV cFear cFor m f p l c)) 0 10 6) := by
    intro cNames
    unfold X_namesOf
    simp only [litI]
    rw [rd_I (by omega) (by omega), hX.1, ob_some, wr_I (by omega) (by omega), ob_some, wr_I (by omega) (by omega), ob_some, rd_I (by omega) (by omega), ob_some, wr_I (by omega) (by omega), ob_some, wr_I (by omega) (by omega), ob_some, rd_I (by omega) (by omega), ob_some, wr_I (by omega) (by omega), ob_some]
    rw [hx 4 (by omega), bd1_some, wr_I (by omega) (by omega), ob_some, hx 5 (by omega), bd1_some, wr_I (by omega) (by omega), ob_some, hx 1 (by omega), bd1_some, wr_I (by omega) (by omega), ob_some, hx 2 (by omega), bd1_some, wr_I (by omega) (by omega), ob_some, hc1, bd1_some, wr_I (by omega) (by omega), ob_some, acp_I (by omega) (by omega) (by omega) (by omega), ob_some]
    rfl
  have m1 : ∀ nm : Nat → Int32, M_nameIn φ cA nm (nI p) (nI l) = some (nmC nm (nameV cFear cFor m f p l c)) := by
    intro nm
    unfold M_nameIn
    simp only [litI]
    rw [rd_I (by omega) (by omega), hM.1, ob_some, wr_I (by omega) (by omega), ob_some, wr_I (by omega) (by omega), ob_some, hf7, bd1_some, wr_I (by omega) (by omega), ob_some, wr_I (by omega) (by omega), ob_some, nI_add, rd_I (by omega) (by omega), (hE.2.1 l hl).1, ob_some, wr_I (by omega) (by omega), ob_some]
    rw [hm9 4 (by omega), bd1_some, wr_I (by omega) (by omega), ob_some, hm9 5 (by omega), bd1_some, wr_I (by omega) (by omega), ob_some, hm9 1 (by omega), bd1_some, wr_I (by omega) (by omega), ob_some, hm9 2 (by omega), bd1_some, wr_I (by omega) (by omega), ob_some, hc2, bd1_some, wr_I (by omega) (by omega), ob_some]
    rfl
  have hlo : ∀ (cNames : Nat → Int32) (k : Nat), k < 10 → va_cpy cFear (nmC cNames (nameV cFear cFor m f p l c)) 0 10 6 k = nameV cFear cFor m f p l c k := fun cNames k hk => by
    unfold va_cpy
    rw [if_neg (by omega), nmC_at hk]
  have hhi : ∀ (cNames : Nat → Int32) (j : Nat), j < 6 → va_cpy cFear (nmC cNames (nameV cFear cFor m f p l c)) 0 10 6 (10 + j) = cFear j := fun cNames j hj => by
    unfold va_cpy
    rw [if_pos (by omega)]
    congr 1
    omega
  obtain ⟨b0, b1, b2, b3, b4, b5, b6⟩ := hC.1 p hp
  have hok : NameOK (va_cpy cFear (nmC (fun _ => 0) (nameV cFear cFor m f p l c)) 0 10 6) := fun k hk => by
    by_cases h10 : k < 10
    · rw [hlo _ k h10]
      obtain ⟨n2, hn2, e2⟩ := (hE.2.2 p (by omega)).2.1
      obtain ⟨n4, hn4, e4⟩ := (hE.2.1 l hl).2.1
      have h : k = 0 ∨ k = 1 ∨ k = 2 ∨ k = 3 ∨ k = 4 ∨ k = 5 ∨ k = 6 ∨ k = 7 ∨ k = 8 ∨ k = 9 := by omega
      rcases h with rfl | rfl | rfl | rfl | rfl | rfl | rfl | rfl | rfl | rfl
      · exact ⟨m, hm, rfl⟩
      · exact ⟨p, by omega, rfl⟩
      · exact ⟨n2, by omega, e2⟩
      · exact ⟨l, by omega, rfl⟩
      · exact ⟨n4, by omega, e4⟩
      · exact ⟨_, by omega, rfl⟩
      · exact ⟨_, by omega, rfl⟩
      · exact ⟨_, by omega, rfl⟩
      · exact ⟨_, by omega, rfl⟩
      · exact ⟨c, by omega, rfl⟩
    · obtain ⟨j, rfl⟩ : ∃ j, k = 10 + j := ⟨k - 10, by omega⟩
      rw [hhi _ j (by omega)]
      obtain ⟨n2, hn2, e2⟩ := (hE.2.2 j (by omega)).2.1
      exact ⟨n2, by omega, e2⟩
  have hag : ∀ (cNames : Nat → Int32) (k : Nat), k < 16 → va_cpy cFear (nmC cNames (nameV cFear cFor m f p l c)) 0 10 6 k = va_cpy cFear (nmC (fun _ => 0) (nameV cFear cFor m f p l c)) 0 10 6 k := fun cNames k hk => by
    by_cases h10 : k < 10
    · rw [hlo _ k h10, hlo _ k h10]
    · obtain ⟨j, rfl⟩ : ∃ j, k = 10 + j := ⟨k - 10, by omega⟩
      rw [hhi _ j (by omega), hhi _ j (by omega)]
  refine ⟨_, hok, ?_, ?_, fun cNames nm => ⟨_, _, x1 cNames, m1 nm, ⟨p3, p2, fun k hk => ?_, fun j hj => ?_, fun k hk => ?_⟩, hag cNames⟩⟩
  · rw [hlo _ 4 (by omega)]; rfl
  · rw [hlo _ 6 (by omega)]; rfl
  · rw [hlo _ k hk, nmC_at hk]
  · rw [hhi _ j hj]
    exact ⟨(hE.2.2 j hj).1, (hE.2.2 j hj).2.2⟩
  · rw [hag cNames k hk]; exact hok k hk
theorem hungers2 (hE : EnvR q cN cFor cRoad cFear cA) (hX : RowX m f row) (hM : RowM m f cA) (hC : RowC (q 0) (q 1) mo f) (hm : m ≤ 9999) (hmo : mo ≤ 9999) (hφ : 400 < φ) (hT : TR E zN (q 2) cText cTx) {p : Nat} (hp : p < q 1) : ∃ r : Nat, r ≤ 9 ∧ ∀ (cNames nm : Nat → Int32) (va : Nat → Int64) (tr : Nat → Int32), ∃ (v nm' : Nat → Int32) (va' : Nat → Int64) (tr' : Nat → Int32), X_hungersOf φ cNames cN row cFor cFear cText E zN (nI p) = some (nI r, v) ∧ M_hungersOf φ cA cTx nm va tr (nI p) = some (nI r, nm', va', tr') := by
  obtain ⟨v0, hv0, -, -, hall⟩ := names2 hE hX hM hC hm hmo hφ hp (hC.1 p hp).1
  obtain ⟨a, h4, h5⟩ := rules2 hE.1 hT
  obtain ⟨r, hr, hlaw⟩ := law2 (P := q 1) hφ h5 hv0 (j := 0) (wo := 1) (top := 9) (by omega) (by omega) (by omega)
  have p3 := hE.1.P.2.2
  refine ⟨r, hr, fun cNames nm va tr => ?_⟩
  obtain ⟨v, nm', h1, h2, h3, hag⟩ := hall cNames nm
  obtain ⟨va', tr', h6, h7⟩ := hlaw cA nm' tr v va hag h3
  refine ⟨v, nm', va', tr', ?_, ?_⟩
  · unfold X_hungersOf
    simp only [litI]
    rw [X_at_X hX (by omega) (by omega), bd1_some, h1, bd1_some, h4, bd1_some, h6, bd1_some]
  · unfold M_hungersOf
    simp only [litI]
    rw [M_get_M hM (by omega) (by omega), bd1_some, h2, bd1_some, rd_I (by omega) (by omega), ob_some, h7, bd3_some]
theorem earns2 (hE : EnvR q cN cFor cRoad cFear cA) (hX : RowX m f row) (hM : RowM m f cA) (hC : RowC (q 0) (q 1) mo f) (hm : m ≤ 9999) (hmo : mo ≤ 9999) (hφ : 400 < φ) (hT : TR E zN (q 2) cText cTx) {p : Nat} (hp : p < q 1) : ∃ r : Nat, r ≤ 99 ∧ ∀ (cNames nm : Nat → Int32) (va : Nat → Int64) (tr : Nat → Int32), ∃ (v nm' : Nat → Int32) (va' : Nat → Int64) (tr' : Nat → Int32), X_earnsOf φ cNames cN row cFor cFear cText E zN (nI p) = some (nI r, v) ∧ M_earnsOf φ cA cTx nm va tr (nI p) = some (nI r, nm', va', tr') := by
  obtain ⟨v0, hv0, -, -, hall⟩ := names2 hE hX hM hC hm hmo hφ hp (hC.1 p hp).1
  obtain ⟨a, h4, h5⟩ := rules2 hE.1 hT
  obtain ⟨r, hr, hlaw⟩ := law2 (P := q 1) hφ h5 hv0 (j := 3) (wo := 10) (top := 99) (by omega) (by omega) (by omega)
  have p3 := hE.1.P.2.2
  refine ⟨r, hr, fun cNames nm va tr => ?_⟩
  obtain ⟨v, nm', h1, h2, h3, hag⟩ := hall cNames nm
  obtain ⟨va', tr', h6, h7⟩ := hlaw cA nm' tr v va hag h3
  refine ⟨v, nm', va', tr', ?_, ?_⟩
  · unfold X_earnsOf
    simp only [litI]
    rw [X_at_X hX (by omega) (by omega), bd1_some, h1, bd1_some, h4, bd1_some, h6, bd1_some]
  · unfold M_earnsOf
    simp only [litI]
    rw [M_get_M hM (by omega) (by omega), bd1_some, h2, bd1_some, rd_I (by omega) (by omega), ob_some, h7, bd3_some]
theorem findsIn2 (hE : EnvR q cN cFor cRoad cFear cA) (hX : RowX m f row) (hM : RowM m f cA) (hC : RowC (q 0) (q 1) mo f) (hm : m ≤ 9999) (hmo : mo ≤ 9999) (hφ : 400 < φ) (hT : TR E zN (q 2) cText cTx) {p l : Nat} (hp : p < q 1) (hl : l < q 0) : ∃ r : Nat, r ≤ 10 ∧ ∀ (cNames nm : Nat → Int32) (va : Nat → Int64) (tr : Nat → Int32), ∃ (v nm' : Nat → Int32) (va' : Nat → Int64) (tr' : Nat → Int32), X_findsIn φ cNames cN row cFor cFear cText E zN (nI p) (nI l) = some (nI r, v) ∧ M_findsIn φ cA cTx nm va tr (nI p) (nI l) = some (nI r, nm', va', tr') := by
  obtain ⟨v0, hv0, h34, -, hall⟩ := names2 hE hX hM hC hm hmo hφ hp hl
  obtain ⟨a, h4, h5⟩ := rules2 hE.1 hT
  obtain ⟨fo, hfo, efo⟩ := (hE.2.1 l hl).2.1
  obtain ⟨r, hr, hlaw⟩ := law2 (P := q 1) hφ h5 hv0 (j := 1) (wo := 5 - fo / 2) (top := 10) (by omega) (by omega) (by omega)
  have l3 := hE.1.L.2.2
  refine ⟨r, hr, fun cNames nm va tr => ?_⟩
  obtain ⟨v, nm', h1, h2, h3, hag⟩ := hall cNames nm
  obtain ⟨va', tr', h6, h7⟩ := hlaw cA nm' tr v va hag h3
  refine ⟨v, nm', va', tr', ?_, ?_⟩
  · unfold X_findsIn
    simp only [litI]
    rw [h1, bd1_some, h4, bd1_some, rd_I (by omega) (by omega), ob_some, hag 4 (by omega), h34, efo, nI_div (by omega) (by omega), nI_sub (by omega), h6, bd1_some]
  · unfold M_findsIn
    simp only [litI]
    rw [h2, bd1_some, rd_I (by omega) (by omega), ob_some, nI_add, rd_I (by omega) (by omega), ob_some, (hE.2.1 l hl).1, efo, nI_div (by omega) (by omega), nI_sub (by omega), h7, bd3_some]
theorem findsOf2 (hE : EnvR q cN cFor cRoad cFear cA) (hX : RowX m f row) (hM : RowM m f cA) (hC : RowC (q 0) (q 1) mo f) (hm : m ≤ 9999) (hmo : mo ≤ 9999) (hφ : 400 < φ) (hT : TR E zN (q 2) cText cTx) {p : Nat} (hp : p < q 1) : ∃ r : Nat, r ≤ 10 ∧ ∀ (cNames nm : Nat → Int32) (va : Nat → Int64) (tr : Nat → Int32), ∃ (v nm' : Nat → Int32) (va' : Nat → Int64) (tr' : Nat → Int32), X_findsOf φ cNames cN row cFor cFear cText E zN (nI p) = some (nI r, v) ∧ M_findsOf φ cA cTx nm va tr (nI p) = some (nI r, nm', va', tr') := by
  obtain ⟨r, hr, hall⟩ := findsIn2 hE hX hM hC hm hmo hφ hT hp (hC.1 p hp).1
  have p3 := hE.1.P.2.2
  refine ⟨r, hr, fun cNames nm va tr => ?_⟩
  obtain ⟨v, nm', va', tr', h1, h2⟩ := hall cNames nm va tr
  refine ⟨v, nm', va', tr', ?_, ?_⟩
  · unfold X_findsOf
    simp only [litI]
    rw [X_at_X hX (by omega) (by omega), bd1_some, h1, bd2_some]
  · unfold M_findsOf
    simp only [litI]
    rw [M_get_M hM (by omega) (by omega), bd1_some, h2, bd4_some]
theorem price2 (hE : EnvR q cN cFor cRoad cFear cA) (hX : RowX m f row) (hM : RowM m f cA) (hC : RowC (q 0) (q 1) mo f) (hm : m ≤ 9999) (hmo : mo ≤ 9999) (hφ : 400 < φ) {τ : Int32} {a : Nat} (hL : LawAt E cTx τ a) {p : Nat} (hp : p < q 1) : ∃ r : Nat, r ≤ 9999 ∧ ∀ (cNames nm : Nat → Int32) (va : Nat → Int64) (tr : Nat → Int32), ∃ (v nm' : Nat → Int32) (va' : Nat → Int64) (tr' : Nat → Int32), X_priceBy φ cNames cN row cFor cFear E a (nI p) = some (nI r, v) ∧ M_priceOf φ cA cTx nm va tr τ (nI p) = some (nI r, nm', va', tr') := by
  obtain ⟨v0, hv0, -, h36, hall⟩ := names2 hE hX hM hC hm hmo hφ hp (hC.1 p hp).1
  obtain ⟨b0, b1, b2, b3, b4, b5, b6⟩ := hC.1 p hp
  obtain ⟨r, hr, hlaw⟩ := law2 (P := q 1) hφ hL hv0 (j := 2) (wo := 100 + 20 * f p 5) (top := 9999) (by omega) (by omega) (by omega)
  have p3 := hE.1.P.2.2
  refine ⟨r, hr, fun cNames nm va tr => ?_⟩
  obtain ⟨v, nm', h1, h2, h3, hag⟩ := hall cNames nm
  obtain ⟨va', tr', h6, h7⟩ := hlaw cA nm' tr v va hag h3
  refine ⟨v, nm', va', tr', ?_, ?_⟩
  · unfold X_priceBy
    simp only [litI]
    rw [X_at_X hX (by omega) (by omega), bd1_some, h1, bd1_some, rd_I (by omega) (by omega), ob_some, hag 6 (by omega), h36, nI_mul, nI_add, h6, bd1_some]
  · unfold M_priceOf
    simp only [litI]
    rw [M_get_M hM (by omega) (by omega), bd1_some, h2, bd1_some, M_get_M hM (by omega) (by omega), bd1_some, nI_mul, nI_add, h7, bd3_some]
end ASKS
