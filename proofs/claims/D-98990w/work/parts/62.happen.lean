/-! THE PURE LAW: what happens; the doings by hand, the months -/
theorem nI_any (x : Int32) : ∃ n : Nat, x = nI n := ⟨x.toBitVec.toNat, by
  refine Int32.toBitVec_inj.1 ?_
  show x.toBitVec = BitVec.ofNat 32 x.toBitVec.toNat
  rw [BitVec.ofNat_toNat]
  simp⟩
theorem RM.close {B b m d : Nat} {q : Nat → Nat} {f : Nat → Nat → Nat} {row cA cA' : Nat → Int32} {cStep : Nat → Nat → Int32} {wk mk dk pk : Nat → Nat} {fk : Nat → Nat → Nat → Nat} {t : Nat → Nat → Nat} (hSt : StepsR (q 0) (q 1) (q 4) wk mk dk pk fk t cStep cA) (hT : ToldR (q 1) t cA) (h4 : q 4 ≤ 30) (h1 : q 1 ≤ 6) (hF : Fr0 cA cA') (hR : RWS B (q 4) wk cStep 1 b m d f row cA') (hC : RowC (q 0) (q 1) m f) (hm : m ≤ 9999) (hd : d < 30469) : RM B 0 q m d f row cStep cA' :=
  ⟨wk, mk, dk, pk, fk, t, hR.less (Nat.zero_le _), hSt.fr h4 h1 (fun j a1 a2 => hF.2.1 j (by omega) a2), hT.fr h1 hF.2.2, hC, hm, hd⟩
/-- a move from one state to another: what is left as it was -/
def MV (B : Nat) (q : Nat → Nat) (cA : Nat → Int32) (q' : Nat → Nat) (cN' row' : Nat → Int32) (cStep' : Nat → Nat → Int32) (cA' : Nat → Int32) : Prop := (∃ (m d : Nat) (f : Nat → Nat → Nat), RM B 0 q' m d f row' cStep' cA') ∧ RH q' cN' cA' ∧ (∀ j : Nat, j ≠ 4 → q' j = q j) ∧ (∀ j : Nat, 80 ≤ j → j < 142 → cA' j = cA j) ∧ ∀ p w : Nat, p < 6 → 7 ≤ w → w < 11 → cA' (14 + 11 * p + w) = cA (14 + 11 * p + w)
theorem MV.env {B : Nat} {q q' : Nat → Nat} {cN cN' row' cFor cRoad cFear cA cA' : Nat → Int32} {cStep' : Nat → Nat → Int32} (h : MV B q cA q' cN' row' cStep' cA') (hE : EnvR q cN cFor cRoad cFear cA) : EnvR q' cN' cFor cRoad cFear cA' := by
  obtain ⟨-, h2, h3, h4, h5⟩ := h
  refine ⟨h2, ?_, ?_⟩
  · rw [h3 0 (by omega)]
    exact hE.2.1.fr hE.1.L.2.2 (fun j a1 a2 => h4 j a1 (by omega))
  · rw [h3 1 (by omega)]
    exact hE.2.2.fr (fun p hp => h5 p 7 hp (by omega) (by omega))
theorem keep_env {q : Nat → Nat} {S' : Nat} {cN cN' cFor cRoad cFear cA cA' : Nat → Int32} (hE : EnvR q cN cFor cRoad cFear cA) (hH : RH (upN q 4 S') cN' cA') (hf : ∀ j : Nat, j < 142 → j ≠ 4 → cA' j = cA j) : EnvR (upN q 4 S') cN' cFor cRoad cFear cA' :=
  ⟨hH, hE.2.1.fr hE.1.L.2.2 (fun j a1 a2 => hf j (by omega) (by omega)), hE.2.2.fr (fun p hp => hf _ (by omega) (by omega))⟩
noncomputable def X_hapB (φ : Nat) (cNames : Nat → Int32) (cN : Nat → Int32) (cRow : Nat → Int32) (cFor : Nat → Int32) (cRoad : Nat → Int32) (cFear : Nat → Int32) (cText : Nat → Option Nat) (E : Nat → Option (Nat → Option ((Nat → Int32) → Int64))) (zN : Nat) (x1 v3 v6 v9 v10 : Int32) : Option ((Nat → Int32) × (Nat → Int32)) :=
if v10.toInt < 0 then ((rd cRow 135 0).bind fun v11 =>
if 9999 ≤ v11 then (some (cNames, cRow)) else (bd3 (X_passes φ cNames cN cRow cFor cFear cText E zN) fun r12 c13 c14 =>
some (c13, c14))) else if 5 < v10.toInt then ((rd cRow 135 0).bind fun v11 =>
if 9999 ≤ v11 then (some (cNames, cRow)) else (bd3 (X_passes φ cNames cN cRow cFor cFear cText E zN) fun r12 c13 c14 =>
some (c13, c14))) else if v10 = 0 then (bd1 (X_canCall cN cRow v3 v6) fun r21 =>
if r21 = 0 then (some (cNames, cRow)) else (bd2 (X_calls cRow v3 v6) fun r23 c24 =>
some (cNames, c24))) else if v10 = 1 then (bd1 (X_canCall cN cRow v3 v6) fun r26 =>
if r26 = 0 then (some (cNames, cRow)) else (bd2 (X_calls cRow v3 v6) fun r28 c29 =>
some (cNames, c29))) else if v10 = 2 then (bd1 (X_canMove cN cRow cRoad v3 v6) fun r31 =>
if r31 = 0 then (some (cNames, cRow)) else (bd1 (X_sets cRow v3 0 v6) fun c33 =>
some (cNames, c33))) else if v10 = 3 then (bd1 (X_doMeet cN cRow v3 v9) fun r35 =>
if r35 = 0 then (some (cNames, cRow)) else (bd3 (X_isFed φ cNames cN cRow cFor cFear cText E zN v3 v9) fun r37 c38 c39 =>
some (c38, c39))) else if v10 = 4 then (if (x1 - x1 / 4 * 4) = 0 then (bd1 (X_doMeet cN cRow v3 v9) fun r41 =>
if r41 = 0 then (some (cNames, cRow)) else (bd1 (X_isKilled cN cRow v3 v9) fun c43 =>
some (cNames, c43))) else (some (cNames, cRow))) else if v10 = 5 then (bd2 (X_canPardon φ cNames cN cRow cFor cFear cText E zN v3 v9) fun r45 c46 =>
if r45 = 0 then (some (c46, cRow)) else (bd3 (X_buys φ c46 cN cRow cFor cFear cText E zN v3 v9) fun r48 c49 c50 =>
some (c49, c50))) else none
noncomputable def M_hapB (φ : Nat) (sIsW : Int32) (sDied : Int32) (cA : Nat → Int32) (cTx : Nat → Int32) (cNm : Nat → Int32) (cVa : Nat → Int64) (cTr : Nat → Int32) (x1 v3 v6 v9 v10 : Int32) : Option (Int32 × (Nat → Int32) × (Nat → Int32) × (Nat → Int64) × (Nat → Int32)) :=
if v10.toInt < 2 then (bd1 (M_canCall cA v3 v6) fun r11 =>
if r11 = 0 then (some (sDied, cA, cNm, cVa, cTr)) else (bd1 (M_callNow φ sIsW cA v3 v6) fun c13 =>
some (sDied, c13, cNm, cVa, cTr))) else if 6 < v10.toInt then (bd1 (M_canCall cA v3 v6) fun r11 =>
if r11 = 0 then (some (sDied, cA, cNm, cVa, cTr)) else (bd1 (M_callNow φ sIsW cA v3 v6) fun c13 =>
some (sDied, c13, cNm, cVa, cTr))) else if v10 = 2 then (bd1 (M_canMove cA v3 v6) fun r19 =>
if r19 = 0 then (some (sDied, cA, cNm, cVa, cTr)) else (bd1 (M_put cA v3 0 v6) fun c21 =>
some (sDied, c21, cNm, cVa, cTr))) else if v10 = 3 then (bd1 (M_areBeside cA v3 v9) fun r23 =>
if r23 = 0 then (some (sDied, cA, cNm, cVa, cTr)) else (bd4 (M_feedNow φ sIsW cA cTx cNm cVa cTr v3 v9) fun c25 c26 c27 c28 =>
some (sDied, c25, c26, c27, c28))) else if v10 = 4 then (if (x1 - x1 / 4 * 4) = 0 then (bd1 (M_areBeside cA v3 v9) fun r30 =>
if r30 = 0 then (some (sDied, cA, cNm, cVa, cTr)) else (bd2 (M_killNow sIsW sDied cA v3 v9) fun c32 c33 =>
some (c32, c33, cNm, cVa, cTr))) else (some (sDied, cA, cNm, cVa, cTr))) else if v10 = 5 then (bd4 (M_canPardon φ cA cTx cNm cVa cTr v3 v9) fun r35 c36 c37 c38 =>
if r35 = 0 then (some (sDied, cA, c36, c37, c38)) else (bd5 (M_payNow φ sIsW cA cTx c36 c37 c38 v3 v9) fun r40 c41 c42 c43 c44 =>
some (sDied, c41, c42, c43, c44))) else if v10 = 6 then ((rd cA 8762 10).bind fun v46 =>
if 9999 ≤ v46 then (some (sDied, cA, cNm, cVa, cTr)) else (bd5 (M_goOn φ sIsW sDied cA cTx cNm cVa cTr) fun c47 c48 c49 c50 c51 =>
some (c47, c48, c49, c50, c51))) else none
theorem X_hap_E {cN row cFor cRoad cFear cNames : Nat → Int32} {cText : Nat → Option Nat} {E : Nat → Option (Nat → Option EvS)} {zN φ x P L : Nat} (p1 : cN 1 = nI P) (l1 : cN 0 = nI L) (hP : 0 < P) (hP6 : P ≤ 6) (hL : 0 < L) (hL8 : L ≤ 8) (hx : x < 2147483648) : X_happens φ cNames cN row cFor cRoad cFear cText E zN (nI x) = X_hapB φ cNames cN row cFor cRoad cFear cText E zN (nI x) (nI (x % P)) (nI (x / 7 % L)) (nI (x / 5 % P)) (nI (x % 7)) := by
  have hd7 : x / 7 ≤ x := Nat.div_le_self _ _
  have hd5 : x / 5 ≤ x := Nat.div_le_self _ _
  have r1 : rd cN 10 1 = some (nI P) := by rw [show (1 : Int32) = nI 1 from rfl, rd_I (by omega) (by omega), p1]
  have r0 : rd cN 10 0 = some (nI L) := by rw [show (0 : Int32) = nI 0 from rfl, rd_I (by omega) (by omega), l1]
  unfold X_happens
  rw [r1, ob_some, nz_I hP (by omega), lt_def, r0, ob_some, nz_I hL (by omega), lt_def, ob_some, nz_I hP (by omega), lt_def, lt_def]
  rw [show (7 : Int32) = nI 7 from rfl, show (5 : Int32) = nI 5 from rfl, nI_mod (a := x) (b := P) hx (by omega), nI_mod (a := x) (b := 7) hx (by omega), nI_div (a := x) (b := 7) hx (by omega), nI_div (a := x) (b := 5) hx (by omega), nI_mod (a := x / 7) (b := L) (by omega) (by omega), nI_mod (a := x / 5) (b := P) (by omega) (by omega)]
  rfl
theorem M_hap_E {cA cTx nm tr : Nat → Int32} {va : Nat → Int64} {iw sD : Int32} {φ x P L : Nat} (p1 : cA 1 = nI P) (l1 : cA 0 = nI L) (hP : 0 < P) (hP6 : P ≤ 6) (hL : 0 < L) (hL8 : L ≤ 8) (hx : x < 2147483648) : M_happens φ iw sD cA cTx nm va tr (nI x) = M_hapB φ iw sD cA cTx nm va tr (nI x) (nI (x % P)) (nI (x / 7 % L)) (nI (x / 5 % P)) (nI (x % 7)) := by
  have hd7 : x / 7 ≤ x := Nat.div_le_self _ _
  have hd5 : x / 5 ≤ x := Nat.div_le_self _ _
  have r1 : rd cA 8762 1 = some (nI P) := by rw [show (1 : Int32) = nI 1 from rfl, rd_I (by omega) (by omega), p1]
  have r0 : rd cA 8762 0 = some (nI L) := by rw [show (0 : Int32) = nI 0 from rfl, rd_I (by omega) (by omega), l1]
  unfold M_happens
  rw [r1, ob_some, nz_I hP (by omega), lt_def, r0, ob_some, nz_I hL (by omega), lt_def, ob_some, nz_I hP (by omega), lt_def, lt_def]
  rw [show (7 : Int32) = nI 7 from rfl, show (5 : Int32) = nI 5 from rfl, nI_mod (a := x) (b := P) hx (by omega), nI_mod (a := x) (b := 7) hx (by omega), nI_div (a := x) (b := 7) hx (by omega), nI_div (a := x) (b := 5) hx (by omega), nI_mod (a := x / 7) (b := L) (by omega) (by omega), nI_mod (a := x / 5) (b := P) (by omega) (by omega)]
  rfl
section HAP
variable {B S : Nat} {wk : Nat → Nat} {cStep : Nat → Nat → Int32} {b m d : Nat} {f : Nat → Nat → Nat} {row cA : Nat → Int32}
variable {q : Nat → Nat} {cN cFor cRoad cFear cTx : Nat → Int32} {cText : Nat → Option Nat} {E : Nat → Option (Nat → Option EvS)} {zN φ : Nat}
theorem happens2 (h : RWS B S wk cStep 1 (b + 6) m d f row cA) (hB : B < 2147483648) (hS : S ≤ 30) (hE : EnvR q cN cFor cRoad cFear cA) (hm : m ≤ 9999) (hC : RowC (q 0) (q 1) m f) (hd : d < 30469) (hφ : 400 < φ) (hT : TR E zN (q 2) cText cTx) (hP0 : 0 < q 1) {x sD : Nat} (hx : x < 2147483648) (cNames nm : Nat → Int32) (va : Nat → Int64) (tr : Nat → Int32) : ∃ (sD' m' d' : Nat) (f' : Nat → Nat → Nat) (row' cA' v nm' : Nat → Int32) (va' : Nat → Int64) (tr' : Nat → Int32), X_happens φ cNames cN row cFor cRoad cFear cText E zN (nI x) = some (v, row') ∧ M_happens φ (nI 1) (nI sD) cA cTx nm va tr (nI x) = some (nI sD', cA', nm', va', tr') ∧ RWS B S wk cStep 1 b m' d' f' row' cA' ∧ Fr0 cA cA' ∧ RowC (q 0) (q 1) m' f' ∧ m' ≤ 9999 ∧ d' < 30469 := by
  obtain ⟨p1, p2, p3⟩ := hE.1.P
  obtain ⟨l1, l2, l3⟩ := hE.1.L
  have hL0 : 0 < q 0 := by have := (hC.1 0 hP0).1; omega
  have hpp : x % q 1 < q 1 := Nat.mod_lt _ hP0
  have hll : x / 7 % q 0 < q 0 := Nat.mod_lt _ hL0
  have hkk : x / 5 % q 1 < q 1 := Nat.mod_lt _ hP0
  have hd7 : x / 7 ≤ x := Nat.div_le_self _ _
  have hd5 : x / 5 ≤ x := Nat.div_le_self _ _
  rw [X_hap_E p1 l1 hP0 p3 hL0 l3 hx, M_hap_E p2 l2 hP0 p3 hL0 l3 hx]
  unfold X_hapB M_hapB
  simp only [litI]
  rw [nI_toInt' (show x % 7 < 2147483648 by omega), nI_mod hx (by omega)]
  have hcall : ∃ (sD' m' d' : Nat) (f' : Nat → Nat → Nat) (row' cA' v nm' : Nat → Int32) (va' : Nat → Int64) (tr' : Nat → Int32), (bd1 (X_canCall cN row (nI (x % q 1)) (nI (x / 7 % q 0))) fun r21 => if r21 = nI 0 then (some (cNames, row)) else (bd2 (X_calls row (nI (x % q 1)) (nI (x / 7 % q 0))) fun r23 c24 => some (cNames, c24))) = some (v, row') ∧ (bd1 (M_canCall cA (nI (x % q 1)) (nI (x / 7 % q 0))) fun r11 => if r11 = nI 0 then (some (nI sD, cA, nm, va, tr)) else (bd1 (M_callNow φ (nI 1) cA (nI (x % q 1)) (nI (x / 7 % q 0))) fun c13 => some (nI sD, c13, nm, va, tr))) = some (nI sD', cA', nm', va', tr') ∧ RWS B S wk cStep 1 b m' d' f' row' cA' ∧ Fr0 cA cA' ∧ RowC (q 0) (q 1) m' f' ∧ m' ≤ 9999 ∧ d' < 30469 := by
    rcases canCall_c hE.1 h.1.x h.1.m hC (nI (x % q 1)) (nI (x / 7 % q 0)) with ⟨p, l, g1, g2, e1, e2, -, -, g3, g4⟩ | ⟨g3, g4⟩
    · obtain ⟨r, f', row', cA', k1, k2, k3, k4, k5, k6, k7⟩ := calls2 (b := b + 5) hφ h hB hS hm hC l3 p3 hpp hll
      refine ⟨sD, m, d, f', row', cA', cNames, nm, va, tr, ?_, ?_, k5.less (by omega), k6, k7, hm, hd⟩
      · rw [g3, bd1_some, if_neg n10, k2, bd2_some]
      · rw [g4, bd1_some, if_neg n10, k3, bd1_some]
    · refine ⟨sD, m, d, f, row, cA, cNames, nm, va, tr, ?_, ?_, h.less (by omega), Fr0.rf, hC, hm, hd⟩
      · rw [g3, bd1_some, if_pos rfl]
      · rw [g4, bd1_some, if_pos rfl]
  have hc7 : x % 7 = 0 ∨ x % 7 = 1 ∨ x % 7 = 2 ∨ x % 7 = 3 ∨ x % 7 = 4 ∨ x % 7 = 5 ∨ x % 7 = 6 := by omega
  rcases hc7 with e | e | e | e | e | e | e
  · rw [if_neg (by omega), if_neg (by omega), if_pos (by rw [e]), if_pos (by omega)]
    exact hcall
  · rw [if_neg (by omega), if_neg (by omega), if_neg (by rw [e]; decide), if_pos (by rw [e]), if_pos (by omega)]
    exact hcall
  · rw [if_neg (by omega), if_neg (by omega), if_neg (by rw [e]; decide), if_neg (by rw [e]; decide), if_pos (by rw [e]), if_neg (by omega), if_neg (by omega), if_pos (by rw [e])]
    rcases canMove_c hE h.1.x h.1.m hC (nI (x % q 1)) (nI (x / 7 % q 0)) with ⟨p, l, g1, g2, e1, e2, g3, g4⟩ | ⟨g3, g4⟩
    · obtain ⟨row1, cA1, x1, m1, h1, f1⟩ := put2 (p := x % q 1) (w := 0) (v := x / 7 % q 0) h (by omega) (by omega)
      refine ⟨sD, m, d, _, row1, cA1, cNames, nm, va, tr, ?_, ?_, h1.less (by omega), f1, hC.up hpp ⟨by omega, by omega, by omega, by omega, by omega, by omega, by omega⟩, hm, hd⟩
      · rw [g3, bd1_some, if_neg n10, x1, bd1_some]
      · rw [g4, bd1_some, if_neg n10, m1, bd1_some]
    · refine ⟨sD, m, d, f, row, cA, cNames, nm, va, tr, ?_, ?_, h.less (by omega), Fr0.rf, hC, hm, hd⟩
      · rw [g3, bd1_some, if_pos rfl]
      · rw [g4, bd1_some, if_pos rfl]
  · rw [if_neg (by omega), if_neg (by omega), if_neg (by rw [e]; decide), if_neg (by rw [e]; decide), if_neg (by rw [e]; decide), if_pos (by rw [e]), if_neg (by omega), if_neg (by omega), if_neg (by rw [e]; decide), if_pos (by rw [e])]
    rcases doMeet_c hE.1 h.1.x h.1.m hC (nI (x % q 1)) (nI (x / 5 % q 1)) with ⟨p, k, g1, g2, e1, e2, -, -, -, g3, g4⟩ | ⟨g3, g4⟩
    · obtain ⟨r, d', f', row', cA', v, nm', va', tr', k1, k2, k3, k4, k5, k6, k7, k8⟩ := isFed2 (b := b + 5) h hB hS hE hm hm hC hd hφ hT hpp hkk cNames nm va tr
      refine ⟨sD, m, d', f', row', cA', v, nm', va', tr', ?_, ?_, k5.less (by omega), k6, k7, hm, k8⟩
      · rw [g3, bd1_some, if_neg n10, k2, bd3_some]
      · rw [g4, bd1_some, if_neg n10, k3, bd4_some]
    · refine ⟨sD, m, d, f, row, cA, cNames, nm, va, tr, ?_, ?_, h.less (by omega), Fr0.rf, hC, hm, hd⟩
      · rw [g3, bd1_some, if_pos rfl]
      · rw [g4, bd1_some, if_pos rfl]
  · rw [if_neg (by omega), if_neg (by omega), if_neg (by rw [e]; decide), if_neg (by rw [e]; decide), if_neg (by rw [e]; decide), if_neg (by rw [e]; decide), if_pos (by rw [e])]
    by_cases e4 : nI (x % 4) = nI 0
    · rw [if_pos e4, if_neg (by omega), if_neg (by omega), if_neg (by rw [e]; decide), if_neg (by rw [e]; decide), if_pos (by rw [e]), if_pos e4]
      rcases doMeet_c hE.1 h.1.x h.1.m hC (nI (x % q 1)) (nI (x / 5 % q 1)) with ⟨p, k, g1, g2, e1, e2, hne, -, -, g3, g4⟩ | ⟨g3, g4⟩
      · rw [nI_eq' (by omega) (by omega)] at e1 e2
        subst e1
        subst e2
        obtain ⟨f', row', cA', k1, k2, k3, k4, k5⟩ := isKilled2 (b := b + 5) (sD := sD) h hB hS hE.1 hm hC hpp hkk hne
        refine ⟨sD + 1, m, d, f', row', cA', cNames, nm, va, tr, ?_, ?_, k3.less (by omega), k4, k5, hm, hd⟩
        · rw [g3, bd1_some, if_neg n10, k1, bd1_some]
        · rw [g4, bd1_some, if_neg n10, k2, bd2_some]
      · refine ⟨sD, m, d, f, row, cA, cNames, nm, va, tr, ?_, ?_, h.less (by omega), Fr0.rf, hC, hm, hd⟩
        · rw [g3, bd1_some, if_pos rfl]
        · rw [g4, bd1_some, if_pos rfl]
    · rw [if_neg e4, if_neg (by omega), if_neg (by omega), if_neg (by rw [e]; decide), if_neg (by rw [e]; decide), if_pos (by rw [e]), if_neg e4]
      exact ⟨sD, m, d, f, row, cA, cNames, nm, va, tr, rfl, rfl, h.less (by omega), Fr0.rf, hC, hm, hd⟩
  · rw [if_neg (by omega), if_neg (by omega), if_neg (by rw [e]; decide), if_neg (by rw [e]; decide), if_neg (by rw [e]; decide), if_neg (by rw [e]; decide), if_neg (by rw [e]; decide), if_pos (by rw [e]), if_neg (by omega), if_neg (by omega), if_neg (by rw [e]; decide), if_neg (by rw [e]; decide), if_neg (by rw [e]; decide), if_pos (by rw [e])]
    obtain ⟨z, hz, hz1, hall⟩ := canPardon2 hE h.1.x h.1.m hm hm hC hφ hT (nI (x % q 1)) (nI (x / 5 % q 1))
    obtain ⟨v, nm1, va1, tr1, k1, k2⟩ := hall cNames nm va tr
    rw [k1, bd2_some, k2, bd4_some]
    have hz2 : z = 0 ∨ z = 1 := by omega
    rcases hz2 with rfl | rfl
    · rw [if_pos rfl, if_pos rfl]
      exact ⟨sD, m, d, f, row, cA, v, nm1, va1, tr1, rfl, rfl, h.less (by omega), Fr0.rf, hC, hm, hd⟩
    · obtain ⟨p, k, e1, e2, hp, hk, -, -, a, r, g1, g2, g3⟩ := hz1 rfl
      rw [nI_eq' (by omega) (by omega)] at e1 e2
      subst e1
      subst e2
      obtain ⟨f', row', cA', v2, nm2, va2, tr2, j1, j2, j3, j4, j5⟩ := buys2 (b := b + 5) h hB hS p3 hm hC hp hk g1 g2 g3 v nm1 va1 tr1
      refine ⟨sD, m, d, f', row', cA', v2, nm2, va2, tr2, ?_, ?_, j3.less (by omega), j4, j5, hm, hd⟩
      · rw [if_neg n10, j1, bd3_some]
      · rw [if_neg n10, j2, bd5_some]
  · rw [if_neg (by omega), if_pos (by omega), if_neg (by omega), if_neg (by omega), if_neg (by rw [e]; decide), if_neg (by rw [e]; decide), if_neg (by rw [e]; decide), if_neg (by rw [e]; decide), if_pos (by rw [e])]
    rw [rd_I (by omega) (by omega), rd_I (by omega) (by omega), h.1.1.1, h.1.1.2, ob_some, ob_some]
    by_cases e9 : 9999 ≤ m
    · rw [if_pos ((nI_le' (by omega) (by omega)).mpr e9), if_pos ((nI_le' (by omega) (by omega)).mpr e9)]
      exact ⟨sD, m, d, f, row, cA, cNames, nm, va, tr, rfl, rfl, h.less (by omega), Fr0.rf, hC, hm, hd⟩
    · rw [if_neg (by rw [nI_le' (by omega) (by omega)]; exact e9), if_neg (by rw [nI_le' (by omega) (by omega)]; exact e9)]
      obtain ⟨r, d', f', row', cA', v, nm', va', tr', g0, g1, g2, g3, g4, g5, g6⟩ := passes2 (cNames := cNames) (nm := nm) (va := va) (tr := tr) (sD := sD) hB hS (by omega) hφ hT h hE hC hd
      refine ⟨sD + r, m + 1, d', f', row', cA', v, nm', va', tr', ?_, ?_, g3, g4, g5, by omega, g6⟩
      · rw [g1, bd3_some]
      · rw [g2, bd5_some]
theorem reigns_L (hB : B < 2147483648) (hS : S ≤ 30) (hφ : 400 < φ) (hT : TR E zN (q 2) cText cTx) (hP0 : 0 < q 1) {n : Nat} (hn : n ≤ 40) : ∀ (j k fu1 fu2 sD m d : Nat) (f : Nat → Nat → Nat) (row cA cNames nm : Nat → Int32) (va : Nat → Int64) (tr : Nat → Int32), k + j = n → j < fu1 → j < fu2 → RWS B S wk cStep 1 (6 * j) m d f row cA → EnvR q cN cFor cRoad cFear cA → m ≤ 9999 → RowC (q 0) (q 1) m f → d < 30469 → ∃ (sD' m' d' : Nat) (f' : Nat → Nat → Nat) (row' cA' v nm' : Nat → Int32) (va' : Nat → Int64) (tr' : Nat → Int32), X_reigns_L60 φ (nI n) cN cFor cRoad cFear cText E zN fu1 (nI k) cNames row = some (v, row') ∧ M_reigns_L52 φ (nI n) (nI 1) cTx fu2 (nI k) (nI sD) cA nm va tr = some (nI sD', cA', nm', va', tr') ∧ RWS B S wk cStep 1 0 m' d' f' row' cA' ∧ Fr0 cA cA' ∧ RowC (q 0) (q 1) m' f' ∧ m' ≤ 9999 ∧ d' < 30469 := by
  intro j
  induction j with
  | zero =>
    intro k fu1 fu2 sD m d f row cA cNames nm va tr hk h1 h2 h hE hm hC hd
    obtain ⟨fu1, rfl⟩ : ∃ x, fu1 = x + 1 := ⟨fu1 - 1, by omega⟩
    obtain ⟨fu2, rfl⟩ : ∃ x, fu2 = x + 1 := ⟨fu2 - 1, by omega⟩
    refine ⟨sD, m, d, f, row, cA, cNames, nm, va, tr, ?_, ?_, h, Fr0.rf, hC, hm, hd⟩
    · rw [X_reigns_L60, if_pos ((nI_le' (by omega) (by omega)).mpr (by omega))]
    · rw [M_reigns_L52, if_pos ((nI_le' (by omega) (by omega)).mpr (by omega))]
  | succ j ih =>
    intro k fu1 fu2 sD m d f row cA cNames nm va tr hk h1 h2 h hE hm hC hd
    obtain ⟨fu1, rfl⟩ : ∃ x, fu1 = x + 1 := ⟨fu1 - 1, by omega⟩
    obtain ⟨fu2, rfl⟩ : ∃ x, fu2 = x + 1 := ⟨fu2 - 1, by omega⟩
    obtain ⟨row1, cA1, x1, m1, g1, g2⟩ := draws2 h hd
    obtain ⟨sD1, m2, d2, f2, row2, cA2, v, nm1, va1, tr1, x2, y2, k3, k4, k5, k6, k7⟩ := happens2 (b := 6 * j) (x := d) (sD := sD) g1 hB hS (hE.fr g2) hm hC (Nat.mod_lt _ (by omega)) hφ hT hP0 (by omega) cNames nm va tr
    obtain ⟨sD', m', d', f', row', cA', v', nm', va', tr', j1, j2, j3, j4, j5, j6, j7⟩ := ih (k + 1) fu1 fu2 sD1 m2 d2 f2 row2 cA2 v nm1 va1 tr1 (by omega) (by omega) (by omega) k3 ((hE.fr g2).fr k4) k6 k5 k7
    refine ⟨sD', m', d', f', row', cA', v', nm', va', tr', ?_, ?_, j3, (g2.tr k4).tr j4, j5, j6, j7⟩
    · rw [X_reigns_L60, if_neg (by rw [nI_le' (by omega) (by omega)]; omega), show (1 : Int32) = nI 1 from rfl, rd_I (by omega) (by omega), h.1.2.1.1, ob_some, x1, bd1_some, x2, bd2_some, lt_def, nI_add]
      exact j1
    · rw [M_reigns_L52, if_neg (by rw [nI_le' (by omega) (by omega)]; omega), show (11 : Int32) = nI 11 from rfl, rd_I (by omega) (by omega), h.1.2.1.2, ob_some, m1, bd1_some, y2, bd5_some, lt_def, show (1 : Int32) = nI 1 from rfl, nI_add]
      exact j2
end HAP
section OPS
variable {B : Nat} {cStep : Nat → Nat → Int32} {m d : Nat} {f : Nat → Nat → Nat} {row cA : Nat → Int32}
variable {q : Nat → Nat} {cN cFor cRoad cFear cTx : Nat → Int32} {cText : Nat → Option Nat} {E : Nat → Option (Nat → Option EvS)} {zN φ : Nat}
theorem MV.same (hE : EnvR q cN cFor cRoad cFear cA) (h : RM B 0 q m d f row cStep cA) {B' : Nat} (hB : B ≤ B') : MV B' q cA q cN row cStep cA := by
  obtain ⟨wk, mk, dk, pk, fk, t, hR, hSt, hT, hC, hm, hd⟩ := h
  exact ⟨⟨m, d, f, wk, mk, dk, pk, fk, t, ⟨hR.1, hR.2.more hB⟩, hSt, hT, hC, hm, hd⟩, hE.1, fun _ _ => rfl, fun _ _ _ => rfl, fun _ _ _ _ _ => rfl⟩
/-- behind a kept step and a doing in the row -/
theorem MV.done {S' b m' d' B' : Nat} {f' : Nat → Nat → Nat} {cN' row' cA1 cA' : Nat → Int32} {cStep' : Nat → Nat → Int32} {wk mk dk pk : Nat → Nat} {fk : Nat → Nat → Nat → Nat} {t : Nat → Nat → Nat} (hf : ∀ j : Nat, j < 142 → j ≠ 4 → cA1 j = cA j) (hH : RH (upN q 4 S') cN' cA1) (hSt : StepsR (q 0) (q 1) S' wk mk dk pk fk t cStep' cA1) (hT : ToldR (q 1) t cA1) (hF : Fr0 cA1 cA') (hR : RWS B' S' wk cStep' 1 b m' d' f' row' cA') (hC : RowC (q 0) (q 1) m' f') (hm : m' ≤ 9999) (hd : d' < 30469) : MV B' q cA (upN q 4 S') cN' row' cStep' cA' := by
  have h4 : S' ≤ 30 := hH.S.2.2
  have h1 : q 1 ≤ 6 := hH.P.2.2
  refine ⟨⟨m', d', f', RM.close (q := upN q 4 S') hSt hT h4 h1 hF hR hC hm hd⟩, hH.fr hF.1, fun j hj => if_neg hj, fun j a1 a2 => ?_, fun p w a1 a2 a3 => ?_⟩
  · rw [hF.2.1 j a1 (by omega), hf j a2 (by omega)]
  · rw [hF.2.2 p w a1 a2 a3, hf _ (by omega) (by omega)]
theorem op_call (hφ : 9000 < φ) (hB : B + 240 < 2147483648) (hE : EnvR q cN cFor cRoad cFear cA) (h : RM B 0 q m d f row cStep cA) (x y : Int32) : ∃ (r : Int32) (q' : Nat → Nat) (cN' row' : Nat → Int32) (cStep' : Nat → Nat → Int32) (cA' : Nat → Int32), X_call φ cN row cStep x y = some (r, cN', row', cStep') ∧ M_call φ 1 cA x y = some (r, cA') ∧ MV (B + 240) q cA q' cN' row' cStep' cA' ∧ (r = -1 ∨ ∃ n : Nat, n ≤ 4 ∧ r = nI n) := by
  have h9 := h
  obtain ⟨wk0, mk0, dk0, pk0, fk0, t0, hR0, -, -, hC0, hm, hd⟩ := h9
  unfold X_call M_call
  rcases canCall_c hE.1 hR0.1.x hR0.1.m hC0 x y with ⟨p, l, g1, g2, rfl, rfl, -, -, g3, g4⟩ | ⟨g3, g4⟩
  · obtain ⟨S', cN', cStep', cA1, k1, k2, k3, k4, k5⟩ := keepM hφ hE.1 h
    obtain ⟨wk, mk, dk, pk, fk, t, hR, hSt, hT, hC, -, -⟩ := k3
    obtain ⟨r, f', row', cA', j1, j2, j3, j4, j5, j6, j7⟩ := calls2 (b := 239) (φ := φ) (by omega) hR (by omega) k4.S.2.2 hm hC hE.1.L.2.2 hE.1.P.2.2 g1 g2
    have m3 := M_get_R j5.1 (p := p) (w := 3) (by have := hE.1.P.2.2; omega) (by omega)
    refine ⟨nI r, _, cN', row', cStep', cA', ?_, ?_, MV.done k5 k4 hSt hT j6 j5 j7 hm hd, Or.inr ⟨r, j1, rfl⟩⟩
    · rw [g3, bd1_some, if_neg (show ¬ nI 1 = 0 by decide), k1, bd2_some, j2, bd2_some]
    · rw [g4, bd1_some, if_neg (show ¬ nI 1 = 0 by decide), k2, bd1_some, show (1 : Int32) = nI 1 from rfl, j3, bd1_some, show (3 : Int32) = nI 3 from rfl, m3, bd1_some, j4]
  · refine ⟨-1, q, cN, row, cStep, cA, ?_, ?_, MV.same hE h (by omega), Or.inl rfl⟩
    · rw [g3, bd1_some, if_pos (show nI 0 = 0 from rfl)]
    · rw [g4, bd1_some, if_pos (show nI 0 = 0 from rfl)]
theorem op_move (hφ : 9000 < φ) (hB : B + 240 < 2147483648) (hE : EnvR q cN cFor cRoad cFear cA) (h : RM B 0 q m d f row cStep cA) (x y : Int32) : ∃ (r : Int32) (q' : Nat → Nat) (cN' row' : Nat → Int32) (cStep' : Nat → Nat → Int32) (cA' : Nat → Int32), X_move φ cN row cRoad cStep x y = some (r, cN', row', cStep') ∧ M_move φ cA x y = some (r, cA') ∧ MV (B + 240) q cA q' cN' row' cStep' cA' ∧ (r = 0 ∨ r = 1) := by
  have h9 := h
  obtain ⟨wk0, mk0, dk0, pk0, fk0, t0, hR0, -, -, hC0, hm, hd⟩ := h9
  unfold X_move M_move
  rcases canMove_c hE hR0.1.x hR0.1.m hC0 x y with ⟨p, l, g1, g2, rfl, rfl, g3, g4⟩ | ⟨g3, g4⟩
  · obtain ⟨S', cN', cStep', cA1, k1, k2, k3, k4, k5⟩ := keepM hφ hE.1 h
    obtain ⟨wk, mk, dk, pk, fk, t, hR, hSt, hT, hC, -, -⟩ := k3
    have p3 := hE.1.P.2.2
    obtain ⟨row', cA', x1, m1, h1, f1⟩ := put2 (p := p) (w := 0) (v := l) hR (by omega) (by omega)
    refine ⟨1, _, cN', row', cStep', cA', ?_, ?_, MV.done k5 k4 hSt hT f1 h1 (hC.up g1 ⟨fun _ => g2, by omega, by omega, by omega, by omega, by omega, by omega⟩) hm hd, Or.inr rfl⟩
    · rw [g3, bd1_some, if_neg (show ¬ nI 1 = 0 by decide), k1, bd2_some, show (0 : Int32) = nI 0 from rfl, x1, bd1_some]
    · rw [g4, bd1_some, if_neg (show ¬ nI 1 = 0 by decide), k2, bd1_some, show (0 : Int32) = nI 0 from rfl, m1, bd1_some]
  · refine ⟨0, q, cN, row, cStep, cA, ?_, ?_, MV.same hE h (by omega), Or.inl rfl⟩
    · rw [g3, bd1_some, if_pos (show nI 0 = 0 from rfl)]
    · rw [g4, bd1_some, if_pos (show nI 0 = 0 from rfl)]
theorem op_kill (hφ : 9000 < φ) (hB : B + 240 < 2147483648) (hE : EnvR q cN cFor cRoad cFear cA) (h : RM B 0 q m d f row cStep cA) (x y sD : Int32) : ∃ (r sD' : Int32) (q' : Nat → Nat) (cN' row' : Nat → Int32) (cStep' : Nat → Nat → Int32) (cA' : Nat → Int32), X_kill φ cN row cStep x y = some (r, cN', row', cStep') ∧ M_kill φ 1 sD cA x y = some (r, sD', cA') ∧ MV (B + 240) q cA q' cN' row' cStep' cA' ∧ (r = 0 ∨ r = 1) := by
  obtain ⟨sD, rfl⟩ := nI_any sD
  have h9 := h
  obtain ⟨wk0, mk0, dk0, pk0, fk0, t0, hR0, -, -, hC0, hm, hd⟩ := h9
  unfold X_kill M_kill
  rcases doMeet_c hE.1 hR0.1.x hR0.1.m hC0 x y with ⟨p, k, g1, g2, rfl, rfl, hne, -, -, g3, g4⟩ | ⟨g3, g4⟩
  · obtain ⟨S', cN', cStep', cA1, k1, k2, k3, k4, k5⟩ := keepM hφ hE.1 h
    obtain ⟨wk, mk, dk, pk, fk, t, hR, hSt, hT, hC, -, -⟩ := k3
    obtain ⟨f', row', cA', j1, j2, j3, j4, j5⟩ := isKilled2 (q := upN q 4 S') (b := 239) (sD := sD) hR (by omega) k4.S.2.2 k4 hm hC g1 g2 hne
    refine ⟨1, nI (sD + 1), _, cN', row', cStep', cA', ?_, ?_, MV.done k5 k4 hSt hT j4 j3 j5 hm hd, Or.inr rfl⟩
    · rw [g3, bd1_some, if_neg (show ¬ nI 1 = 0 by decide), k1, bd2_some, j1, bd1_some]
    · rw [g4, bd1_some, if_neg (show ¬ nI 1 = 0 by decide), k2, bd1_some, show (1 : Int32) = nI 1 from rfl, j2, bd2_some]
  · refine ⟨0, nI sD, q, cN, row, cStep, cA, ?_, ?_, MV.same hE h (by omega), Or.inl rfl⟩
    · rw [g3, bd1_some, if_pos (show nI 0 = 0 from rfl)]
    · rw [g4, bd1_some, if_pos (show nI 0 = 0 from rfl)]
theorem op_feeds (hφ : 9000 < φ) (hB : B + 240 < 2147483648) (hE : EnvR q cN cFor cRoad cFear cA) (h : RM B 0 q m d f row cStep cA) (hT : TR E zN (q 2) cText cTx) (x y : Int32) (cNames nm : Nat → Int32) (va : Nat → Int64) (tr : Nat → Int32) : ∃ (r : Int32) (q' : Nat → Nat) (cN' row' : Nat → Int32) (cStep' : Nat → Nat → Int32) (cA' v nm' : Nat → Int32) (va' : Nat → Int64) (tr' : Nat → Int32), X_feeds φ cNames cN row cFor cFear cStep cText E zN x y = some (r, v, cN', row', cStep') ∧ M_feeds φ 1 cA cTx nm va tr x y = some (r, cA', nm', va', tr') ∧ MV (B + 240) q cA q' cN' row' cStep' cA' ∧ (r = -1 ∨ ∃ n : Nat, n ≤ 4 ∧ r = nI n) := by
  have h9 := h
  obtain ⟨wk0, mk0, dk0, pk0, fk0, t0, hR0, -, -, hC0, hm, hd⟩ := h9
  unfold X_feeds M_feeds
  rcases doMeet_c hE.1 hR0.1.x hR0.1.m hC0 x y with ⟨p, k, g1, g2, rfl, rfl, hne, -, -, g3, g4⟩ | ⟨g3, g4⟩
  · obtain ⟨S', cN', cStep', cA1, k1, k2, k3, k4, k5⟩ := keepM hφ hE.1 h
    obtain ⟨wk, mk, dk, pk, fk, t, hR, hSt, hTo, hC, -, -⟩ := k3
    obtain ⟨r, d', f', row', cA', v, nm', va', tr', j1, j2, j3, j4, j5, j6, j7, j8⟩ := isFed2 (q := upN q 4 S') (b := 239) (φ := φ) hR (by omega) k4.S.2.2 (keep_env hE k4 k5) hm hm hC hd (by omega) hT g1 g2 cNames nm va tr
    have m3 := M_get_R j5.1 (p := k) (w := 3) (by have := hE.1.P.2.2; omega) (by omega)
    refine ⟨nI r, _, cN', row', cStep', cA', v, nm', va', tr', ?_, ?_, MV.done k5 k4 hSt hTo j6 j5 j7 hm j8, Or.inr ⟨r, j1, rfl⟩⟩
    · rw [g3, bd1_some, if_neg (show ¬ nI 1 = 0 by decide), k1, bd2_some, j2, bd3_some]
    · rw [g4, bd1_some, if_neg (show ¬ nI 1 = 0 by decide), k2, bd1_some, show (1 : Int32) = nI 1 from rfl, j3, bd4_some, show (3 : Int32) = nI 3 from rfl, m3, bd1_some, j4]
  · refine ⟨-1, q, cN, row, cStep, cA, cNames, nm, va, tr, ?_, ?_, MV.same hE h (by omega), Or.inl rfl⟩
    · rw [g3, bd1_some, if_pos (show nI 0 = 0 from rfl)]
    · rw [g4, bd1_some, if_pos (show nI 0 = 0 from rfl)]
end OPS
