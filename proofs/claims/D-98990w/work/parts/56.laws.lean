/-! THE PURE LAW: names, laws; what one hungers, finds, costs, earns -/
/-- lands and fears on either side -/
def LandR (L : Nat) (cFor cRoad cA : Nat → Int32) : Prop := ∀ l : Nat, l < L → cA (80 + l) = cFor l ∧ (∃ n : Nat, n ≤ 9 ∧ cFor l = nI n) ∧ cA (88 + l) = cRoad l ∧ ∃ n : Nat, n < 2 ^ L ∧ cRoad l = nI n
def FearR (P : Nat) (cFear cA : Nat → Int32) : Prop := ∀ p : Nat, p < 6 → cA (14 + 11 * p + 7) = cFear p ∧ (∃ n : Nat, n ≤ 9 ∧ cFear p = nI n) ∧ (P ≤ p → cFear p = 0)
/-- one text of m: clauses, sorts, the codes of its laws -/
def TextOK (cTx : Nat → Int32) (t : Nat) (e : Nat → Option EvS) : Prop := ∃ (n : Nat) (so : Nat → Nat), n ≤ 24 ∧ cTx (729 * t) = nI n ∧ (∀ k : Nat, k < n → so k ≤ 12 ∧ cTx (729 * t + 1 + 5 * k) = nI (so k)) ∧ ∀ j : Nat, j < 4 → (e j = none ∧ ∀ k : Nat, k < n → so k ≠ j) ∨ ∃ (k lo hi : Nat) (ev : EvS) (code : CodeL), e j = some ev ∧ k < n ∧ so k = j ∧ (∀ k' : Nat, k' < k → so k' ≠ j) ∧ cTx (729 * t + 1 + 5 * k + 1) = nI lo ∧ cTx (729 * t + 1 + 5 * k + 2) = nI hi ∧ lo + code.length = hi ∧ hi ≤ 303 ∧ CodeAt cTx (729 * t + 121) lo code ∧ Comp code ev
/-- the law that m's number τ asks, x's text a -/
def LawAt (E : Nat → Option (Nat → Option EvS)) (cTx : Nat → Int32) (τ : Int32) (a : Nat) : Prop := ∃ e : Nat → Option EvS, E a = some e ∧ ((τ = -1 ∧ ∀ j : Nat, j < 4 → e j = none) ∨ ∃ t : Nat, t < 4 ∧ τ = nI t ∧ TextOK cTx t e)
theorem held_E (x : Int64) {top : Nat} (ht : top < 2147483648) : ∃ r : Nat, r ≤ top ∧ X_held x 0 (nI top) = some (nI r) ∧ M_cut x 0 (nI top) = some (nI r) := by
  have h0 : ((0 : Int32).toInt64).toInt = 0 := by decide
  have h1 : ((nI top).toInt64).toInt = (top : Int) := by rw [Int32.toInt_toInt64, nI_toInt' ht]
  unfold X_held M_cut
  simp only [lt_def]
  by_cases a : x.toInt < 0
  · refine ⟨0, Nat.zero_le _, ?_, ?_⟩
    · have e1 : (if x < (nI top).toInt64 then x else (nI top).toInt64) = x := if_pos (by rw [Int64.lt_iff_toInt_lt, h1]; omega)
      rw [e1, if_pos (by rw [Int64.lt_iff_toInt_lt, h0]; exact a)]
      rfl
    · rw [if_neg (fun q => by have := cmp_ge.mp q; rw [h0] at this; omega)]
      rfl
  · by_cases b : x.toInt ≤ top
    · refine ⟨x.toInt.toNat, by omega, ?_, ?_⟩
      · have e1 : (if x < (nI top).toInt64 then x else (nI top).toInt64) = x := by
          by_cases q : x < (nI top).toInt64
          · rw [if_pos q]
          · rw [if_neg q]
            rw [Int64.lt_iff_toInt_lt, h1] at q
            exact Int64.toInt_inj.mp (by rw [h1]; omega)
        rw [e1, if_neg (by rw [Int64.lt_iff_toInt_lt, h0]; exact a)]
        refine congrArg some (Int32.toInt_inj.mp ?_)
        rw [nI_toInt' (by omega), Int64.toInt_toInt32, Int.bmod_eq_of_le (by omega) (by omega)]
        omega
      · rw [if_pos (cmp_ge.mpr (by rw [h0]; omega)), if_pos (cmp_le.mpr (by rw [h1]; omega))]
        refine congrArg some (Int32.toInt_inj.mp ?_)
        rw [nI_toInt' (by omega), Int64.toInt_toInt32, Int.bmod_eq_of_le (by omega) (by omega)]
        omega
    · refine ⟨top, Nat.le_refl _, ?_, ?_⟩
      · have e1 : (if x < (nI top).toInt64 then x else (nI top).toInt64) = (nI top).toInt64 := if_neg (by rw [Int64.lt_iff_toInt_lt, h1]; omega)
        rw [e1, if_neg (by rw [Int64.lt_iff_toInt_lt, h0, h1]; omega)]
        refine congrArg some (Int32.toInt_inj.mp ?_)
        rw [nI_toInt' (by omega), Int64.toInt_toInt32, h1, Int.bmod_eq_of_le (by omega) (by omega)]
      · rw [if_pos (cmp_ge.mpr (by rw [h0]; omega)), if_neg (fun q => b (by have := cmp_le.mp q; rw [h1] at this; exact this))]
/-- m seeks the clause of a sort -/
theorem says_none {φ : Nat} {cA cTx nm tr : Nat → Int32} {va : Nat → Int64} {t n j : Nat} {so : Nat → Nat} {wo top : Int32} (ht : t < 4) (hn : n ≤ 24) (h0 : cTx (729 * t) = nI n) (hs : ∀ k : Nat, k < n → so k ≤ 12 ∧ cTx (729 * t + 1 + 5 * k) = nI (so k)) (hj : j < 4) : ∀ (d k fu : Nat), k + d = n → d < fu → (∀ k' : Nat, k ≤ k' → k' < n → so k' ≠ j) → M_says_L3 φ (nI t) (nI j) wo top cA cTx nm va tr fu (nI k) = (bd1 (M_cut wo.toInt64 0 top) fun r => some (r, va, tr)) := by
  intro d
  induction d with
  | zero =>
    intro k fu hk hfu hne
    obtain ⟨fu, rfl⟩ : ∃ x, fu = x + 1 := ⟨fu - 1, by omega⟩
    rw [M_says_L3, if_neg (show ¬ nI t < 0 from nI_pos (by omega)), show (729 : Int32) * nI t = nI (729 * t) from nI_mul 729 t, rd_I (by omega) (by omega), h0, ob_some, if_pos ((nI_le' (by omega) (by omega)).mpr (by omega))]
  | succ d ih =>
    intro k fu hk hfu hne
    obtain ⟨fu, rfl⟩ : ∃ x, fu = x + 1 := ⟨fu - 1, by omega⟩
    obtain ⟨h12, hks⟩ := hs k (by omega)
    have hsj := hne k (Nat.le_refl _) (by omega)
    rw [M_says_L3, if_neg (show ¬ nI t < 0 from nI_pos (by omega)), show (729 : Int32) * nI t = nI (729 * t) from nI_mul 729 t, rd_I (by omega) (by omega), h0, ob_some, if_neg (fun q => by have := (nI_le' (by omega) (by omega)).mp q; omega)]
    rw [show (5 : Int32) * nI k = nI (5 * k) from nI_mul 5 k, show nI (729 * t) + 1 = nI (729 * t + 1) from nI_add _ 1, nI_add, rd_I (by omega) (by omega), hks, ob_some, if_neg (fun q => hsj ((nI_eq' (by omega) (by omega)).mp q)), lt_def, show nI k + 1 = nI (k + 1) from nI_add k 1]
    exact ih (k + 1) fu (by omega) (by omega) (fun k' h1 h2 => hne k' (by omega) h2)
theorem says_some {φ : Nat} {cA cTx nm tr : Nat → Int32} {va : Nat → Int64} {t n j k0 : Nat} {so : Nat → Nat} {wo top : Int32} (ht : t < 4) (hn : n ≤ 24) (h0 : cTx (729 * t) = nI n) (hs : ∀ k : Nat, k < n → so k ≤ 12 ∧ cTx (729 * t + 1 + 5 * k) = nI (so k)) (hj : j < 4) (hk0 : k0 < n) (hso : so k0 = j) (hne : ∀ k' : Nat, k' < k0 → so k' ≠ j) : ∀ (d k fu : Nat), k + d = k0 → d < fu → M_says_L3 φ (nI t) (nI j) wo top cA cTx nm va tr fu (nI k) = (bd3 (M_summedUp φ cA cTx nm va tr (nI t) (nI k0)) fun r14 c15 c16 => bd1 (M_cut r14 0 top) fun r18 => some (r18, c15, c16)) := by
  intro d
  induction d with
  | zero =>
    intro k fu hk hfu
    obtain ⟨fu, rfl⟩ : ∃ x, fu = x + 1 := ⟨fu - 1, by omega⟩
    have e : k = k0 := by omega
    subst e
    rw [M_says_L3, if_neg (show ¬ nI t < 0 from nI_pos (by omega)), show (729 : Int32) * nI t = nI (729 * t) from nI_mul 729 t, rd_I (by omega) (by omega), h0, ob_some, if_neg (fun q => by have := (nI_le' (by omega) (by omega)).mp q; omega)]
    rw [show (5 : Int32) * nI k = nI (5 * k) from nI_mul 5 k, show nI (729 * t) + 1 = nI (729 * t + 1) from nI_add _ 1, nI_add, rd_I (by omega) (by omega), (hs k hk0).2, ob_some, if_pos (by rw [hso])]
  | succ d ih =>
    intro k fu hk hfu
    obtain ⟨fu, rfl⟩ : ∃ x, fu = x + 1 := ⟨fu - 1, by omega⟩
    obtain ⟨h12, hks⟩ := hs k (by omega)
    have hsj := hne k (by omega)
    rw [M_says_L3, if_neg (show ¬ nI t < 0 from nI_pos (by omega)), show (729 : Int32) * nI t = nI (729 * t) from nI_mul 729 t, rd_I (by omega) (by omega), h0, ob_some, if_neg (fun q => by have := (nI_le' (by omega) (by omega)).mp q; omega)]
    rw [show (5 : Int32) * nI k = nI (5 * k) from nI_mul 5 k, show nI (729 * t) + 1 = nI (729 * t + 1) from nI_add _ 1, nI_add, rd_I (by omega) (by omega), hks, ob_some, if_neg (fun q => hsj ((nI_eq' (by omega) (by omega)).mp q)), lt_def, show nI k + 1 = nI (k + 1) from nI_add k 1]
    exact ih (k + 1) fu (by omega) (by omega)
theorem stepC_cong {v v0 : Nat → Int32} (h : ∀ k : Nat, k < 16 → v k = v0 k) (c : Nat × Int32) (st : StC) : stepC v c st = stepC v0 c st := by
  unfold stepC
  have h1 : ∀ n : Int32, (if n < 0 ∨ 10 ≤ n.toNatClampNeg then none else some ((v n.toNatClampNeg).toInt64 :: st.1, st.2)) = (if n < 0 ∨ 10 ≤ n.toNatClampNeg then none else some ((v0 n.toNatClampNeg).toInt64 :: st.1, st.2)) := by
    intro n
    by_cases q : n < 0 ∨ 10 ≤ n.toNatClampNeg
    · rw [if_pos q, if_pos q]
    · rw [if_neg q, if_neg q, h _ (by omega)]
  have h2 : ∀ x : Int64, (if lg_cmp x 0 < 0 then (0 : Int64) else if lg_cmp x 6 < 0 then (v ((10 : Int32) + x.toInt32).toNatClampNeg).toInt64 else 0) = (if lg_cmp x 0 < 0 then (0 : Int64) else if lg_cmp x 6 < 0 then (v0 ((10 : Int32) + x.toInt32).toNatClampNeg).toInt64 else 0) := by
    intro x
    by_cases a : lg_cmp x 0 < 0
    · rw [if_pos a, if_pos a]
    · rw [if_neg a, if_neg a]
      by_cases b : lg_cmp x 6 < 0
      · rw [if_pos b, if_pos b]
        rw [cmp_lt, l0] at a
        rw [cmp_lt, show (6 : Int64).toInt = 6 by decide] at b
        obtain ⟨p, hp, ex2⟩ : ∃ p : Nat, p < 6 ∧ x.toInt32 = nI p := by
          refine ⟨x.toInt.toNat, by omega, Int32.toInt_inj.mp ?_⟩
          rw [nI_toInt' (by omega), Int64.toInt_toInt32, Int.bmod_eq_of_le (by omega) (by omega)]
          omega
        rw [ex2, show (10 : Int32) + nI p = nI (10 + p) from nI_add 10 p, nI_clamp' (by omega), h _ (by omega)]
      · rw [if_neg b, if_neg b]
  rw [h1]
  simp only [h2]
theorem runC_cong {v v0 : Nat → Int32} (h : ∀ k : Nat, k < 16 → v k = v0 k) : ∀ (code : CodeL) (st : StC), runC v code st = runC v0 code st := by
  intro code
  induction code with
  | nil => intro st; rfl
  | cons c cs ih =>
    intro st
    rw [runC, runC, stepC_cong h]
    have e : runC v cs = runC v0 cs := funext ih
    rw [e]
theorem Comp.eq {code : CodeL} {ev : EvS} (hc : Comp code ev) {v v0 : Nat → Int32} (h0 : NameOK v0) (h : ∀ k : Nat, k < 16 → v k = v0 k) : ev v = ev v0 := by
  have hv : NameOK v := fun k hk => by rw [h k hk]; exact h0 k hk
  have h1 := (hc v hv).2 [] []
  rw [runC_cong h, (hc v0 h0).2 [] []] at h1
  have h2 := congrArg Prod.fst (Option.some.inj h1)
  exact (List.cons.inj h2).1.symm
theorem law2 {φ P : Nat} (hφ : 400 < φ) {E : Nat → Option (Nat → Option EvS)} {cTx v0 : Nat → Int32} {τ : Int32} {a j wo top : Nat} (hL : LawAt E cTx τ a) (hN0 : NameOK v0) (hj : j < 4) (hw : wo < 2147483648) (ht : top < 2147483648) : ∃ r : Nat, r ≤ top ∧ ∀ (cA nm tr v : Nat → Int32) (va : Nat → Int64), (∀ k : Nat, k < 16 → v k = v0 k) → NmA P cA nm v → ∃ (va' : Nat → Int64) (tr' : Nat → Int32), X_law v E a (nI j) (nI wo) (nI top) = some (nI r) ∧ M_says φ cA cTx nm va tr τ (nI j) (nI wo) (nI top) = some (nI r, va', tr') := by
  obtain ⟨e, hE, hcase⟩ := hL
  have hX0 : ∀ v : Nat → Int32, e j = none → X_law v E a (nI j) (nI wo) (nI top) = X_held (nI wo).toInt64 0 (nI top) := fun v h9 => by
    unfold X_law
    rw [hE, ob_some, inb_I hj (by omega), nI_clamp' (by omega), h9]
  have hX1 : ∀ (v : Nat → Int32) (ev : EvS), e j = some ev → X_law v E a (nI j) (nI wo) (nI top) = X_held (ev v) 0 (nI top) := fun v ev h9 => by
    unfold X_law
    rw [hE, ob_some, inb_I hj (by omega), nI_clamp' (by omega), h9]
  rcases hcase with ⟨rfl, hnone⟩ | ⟨t, ht4, rfl, n, so, hn, h0, hs, hlaw⟩
  · obtain ⟨r, hr, h1, h2⟩ := held_E (nI wo).toInt64 ht
    refine ⟨r, hr, fun cA nm tr v va _ _ => ⟨va, tr, ?_, ?_⟩⟩
    · rw [hX0 v (hnone j hj)]; exact h1
    · unfold M_says
      obtain ⟨f, rfl⟩ : ∃ x, φ = x + 1 := ⟨φ - 1, by omega⟩
      rw [M_says_L3, if_pos (show (-1 : Int32) < 0 by decide), h2]
      rfl
  · rcases hlaw j hj with ⟨e1, e2⟩ | ⟨k, lo, hi, ev, code, e1, e2, e3, e4, e5, e6, e7, e8, e9, e10⟩
    · obtain ⟨r, hr, h1, h2⟩ := held_E (nI wo).toInt64 ht
      refine ⟨r, hr, fun cA nm tr v va _ _ => ⟨va, tr, ?_, ?_⟩⟩
      · rw [hX0 v e1]; exact h1
      · unfold M_says
        rw [show (0 : Int32) = nI 0 from rfl, says_none ht4 hn h0 hs hj n 0 φ (by omega) (by omega) (fun k' _ h => e2 k' h)]
        rw [h2]
        rfl
    · obtain ⟨r, hr, h1, h2⟩ := held_E (ev v0) ht
      refine ⟨r, hr, fun cA nm tr v va hvv hN => ?_⟩
      rw [← e10.eq hN0 hvv] at h1 h2
      obtain ⟨hbd, hrun⟩ := e10 v hN.2.2.2.2
      obtain ⟨c7', c8', g1, g2, g3⟩ := run_L (φ := φ) (by omega) hN (x1 := 729 * t + 1 + 5 * k) (base := 729 * t + 121) (hi := hi) (by omega) e6 (by omega) code lo φ [] [] [ev v] [] va tr e9 e7 (hrun [] []) trivial trivial (fun x h => nomatch h) (fun x h => nomatch h) (by show 0 + 0 + _ ≤ _; omega) (by omega)
      refine ⟨c7', c8', ?_, ?_⟩
      · rw [hX1 v ev e1]; exact h1
      · unfold M_says
        rw [show (0 : Int32) = nI 0 from rfl, says_some ht4 hn h0 hs hj e2 e3 e4 k 0 φ (by omega) (by omega)]
        have hsum : M_summedUp φ cA cTx nm va tr (nI t) (nI k) = some (ev v, c7', c8') := by
          unfold M_summedUp
          simp only [lt_def]
          rw [show (729 : Int32) * nI t = nI (729 * t) from nI_mul 729 t, show (5 : Int32) * nI k = nI (5 * k) from nI_mul 5 k, show nI (729 * t) + 1 = nI (729 * t + 1) from nI_add _ 1, nI_add, show nI (729 * t) + 121 = nI (729 * t + 121) from nI_add _ 121, show nI (729 * t + 1 + 5 * k) + 1 = nI (729 * t + 1 + 5 * k + 1) from nI_add _ 1, rd_I (by omega) (by omega), e5, ob_some]
          have g1 : M_summedUp_L38 φ (nI (729 * t + 1 + 5 * k)) (nI (729 * t + 121)) cA cTx nm φ 0 0 (nI lo) va tr = some (c7', c8') := g1
          rw [g1, bd2_some, show (0 : Int32) = nI 0 from rfl, rd_I (by omega) (by omega), ob_some]
          have g4 : c7' 0 = ev v := g2.1
          rw [g4]
        rw [hsum, bd3_some, h2]
        rfl
