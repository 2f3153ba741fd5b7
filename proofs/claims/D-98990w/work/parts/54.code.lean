/-! THE PURE LAW: the code of a sum, run on lists; m's summedUp runs it -/
abbrev CodeL : Type := List (Nat × Int32)
abbrev StC : Type := List Int64 × List Int32
noncomputable def twoC (o : Nat) (x y : Int64) : Int64 := if o = 6 then clampT (x + y) else if o = 7 then clampT (x - y) else if o = 8 then clampT (x * y) else if lg_cmp y 0 = 0 then 0 else clampT (x / y)
noncomputable def askC (o : Nat) (x y : Int64) : Int32 := if o = 10 then (if 0 ≤ lg_cmp x y then 0 else 1) else if o = 11 then (if 0 < lg_cmp x y then 0 else 1) else if o = 12 then (if lg_cmp x y ≤ 0 then 0 else 1) else if o = 13 then (if lg_cmp x y < 0 then 0 else 1) else if o = 14 then (if lg_cmp x y = 0 then 1 else 0) else (if lg_cmp x y = 0 then 0 else 1)
noncomputable def stepC (v : Nat → Int32) (c : Nat × Int32) (st : StC) : Option StC :=
  if c.1 = 0 then (if c.2 < 0 ∨ 10000 ≤ c.2.toNatClampNeg then none else some (c.2.toInt64 :: st.1, st.2))
  else if c.1 = 1 then (if c.2 < 0 ∨ 10 ≤ c.2.toNatClampNeg then none else some ((v c.2.toNatClampNeg).toInt64 :: st.1, st.2))
  else if c.1 = 2 then (match st.1 with | x :: s => some (onesT 65 0 (if 0 < x then x else -x) :: s, st.2) | _ => none)
  else if c.1 = 3 then (match st.1 with | x :: s => some ((if lg_cmp x 0 < 0 then 0 else if lg_cmp x 6 < 0 then (v ((10 : Int32) + x.toInt32).toNatClampNeg).toInt64 else 0) :: s, st.2) | _ => none)
  else if c.1 = 4 then (match st.1, st.2 with | y :: x :: s, t :: b => some ((if t = 0 then y else x) :: s, b) | _, _ => none)
  else if c.1 = 5 then (match st.1 with | x :: s => some (-x :: s, st.2) | _ => none)
  else if c.1 < 10 then (match st.1 with | y :: x :: s => some (twoC c.1 x y :: s, st.2) | _ => none)
  else if c.1 < 16 then (match st.1 with | y :: x :: s => some (s, askC c.1 x y :: st.2) | _ => none)
  else if c.1 = 20 then (match st.2 with | t :: b => some (st.1, (if t = 0 then 1 else 0) :: b) | _ => none)
  else if c.1 = 21 then (match st.2 with | t2 :: t1 :: b => some (st.1, (if t1 = 0 then 0 else if t2 = 0 then 0 else 1) :: b) | _ => none)
  else if c.1 = 22 then (match st.2 with | t2 :: t1 :: b => some (st.1, (if t1 = 0 then (if t2 = 0 then 0 else 1) else 1) :: b) | _ => none)
  else none
noncomputable def runC (v : Nat → Int32) : CodeL → StC → Option StC
  | [], st => some st
  | c :: cs, st => (stepC v c st).bind (runC v cs)
theorem runC_app (v : Nat → Int32) : ∀ (a b : CodeL) (st : StC), runC v (a ++ b) st = (runC v a st).bind (runC v b) := by
  intro a
  induction a with
  | nil => intro b st; rfl
  | cons c cs ih =>
    intro b st
    show (stepC v c st).bind (runC v (cs ++ b)) = ((stepC v c st).bind (runC v cs)).bind (runC v b)
    cases stepC v c st with
    | none => rfl
    | some s2 => exact ih b s2
/-- the names as they may be -/
def NameOK (v : Nat → Int32) : Prop := ∀ k : Nat, k < 16 → ∃ n : Nat, n ≤ 9999 ∧ v k = nI n
/-- a code says what a tree answers -/
def Comp (code : CodeL) (ev : EvS) : Prop := ∀ v : Nat → Int32, NameOK v → (-1000000 ≤ (ev v).toInt ∧ (ev v).toInt ≤ 1000000) ∧ ∀ (s : List Int64) (b : List Int32), runC v code (s, b) = some (ev v :: s, b)
def CompA (code : CodeL) (ev : EvA) : Prop := ∀ v : Nat → Int32, NameOK v → (ev v = 0 ∨ ev v = 1) ∧ ∀ (s : List Int64) (b : List Int32), runC v code (s, b) = some (s, ev v :: b)
/-- the code as it lies in m's texts: from step lo on, two numbers a step -/
def CodeAt (cTx : Nat → Int32) (base lo : Nat) (code : CodeL) : Prop := ∀ (i : Nat) (c : Nat × Int32), code[i]? = some c → c.1 ≤ 22 ∧ cTx (base + 2 * (lo + i)) = nI c.1 ∧ cTx (base + 2 * (lo + i) + 1) = c.2
/-- a stack in an array -/
def StkR {α : Type} (c : Nat → α) : List α → Prop
  | [] => True
  | x :: s => c s.length = x ∧ StkR c s
theorem StkR.cong {α : Type} {c c' : Nat → α} : ∀ {s : List α}, StkR c s → (∀ j : Nat, j < s.length → c' j = c j) → StkR c' s
  | [], _, _ => trivial
  | x :: s, h, e => ⟨(e _ (Nat.lt_succ_self _)).trans h.1, StkR.cong h.2 (fun j hj => e j (Nat.lt_succ_of_lt hj))⟩
theorem updL_eq {a : Nat → Int64} {k : Nat} {v : Int64} : vp_updL a k v k = v := by unfold vp_updL; rw [if_pos rfl]
theorem updL_ne {a : Nat → Int64} {k j : Nat} {v : Int64} (h : j ≠ k) : vp_updL a k v j = a j := by unfold vp_updL; rw [if_neg h]
theorem StkR.push {a : Nat → Int64} {s : List Int64} {x : Int64} (h : StkR a s) : StkR (vp_updL a s.length x) (x :: s) := ⟨updL_eq, h.cong (fun j hj => updL_ne (by omega))⟩
theorem StkR.push2 {a : Nat → Int32} {s : List Int32} {x : Int32} (h : StkR a s) : StkR (upd a s.length x) (x :: s) := ⟨upd_eq, h.cong (fun j hj => upd_ne (by omega))⟩
theorem nar_bool {x : Int32} (h : x = 0 ∨ x = 1) : vp_nar .boolean x = x := by
  rcases h with rfl | rfl <;> rfl
def B01 (b : List Int32) : Prop := ∀ x ∈ b, x = 0 ∨ x = 1
theorem clip_E (x : Int64) : M_clip x = some (clampT x) := by
  have h1 : (1000000 : Int64).toInt = 1000000 := by decide
  have h2 : (-1000000 : Int64).toInt = -1000000 := by decide
  unfold M_clip clampT
  by_cases a : x.toInt ≤ 1000000
  · rw [if_pos (cmp_le.mpr (by rw [h1]; exact a))]
    have e : (if x < 1000000 then x else 1000000) = x := by
      by_cases q : x < 1000000
      · rw [if_pos q]
      · rw [if_neg q]
        rw [Int64.lt_iff_toInt_lt, h1] at q
        exact Int64.toInt_inj.mp (by rw [h1]; omega)
    rw [e]
    by_cases c : -1000000 ≤ x.toInt
    · rw [if_pos (cmp_ge.mpr (by rw [h2]; exact c)), if_neg (fun q => by rw [Int64.lt_iff_toInt_lt, h2] at q; omega)]
    · rw [if_neg (fun q => c (by have := cmp_ge.mp q; rw [h2] at this; exact this)), if_pos (by rw [Int64.lt_iff_toInt_lt, h2]; omega)]
  · rw [if_neg (fun q => a (by have := cmp_le.mp q; rw [h1] at this; exact this))]
    have e : (if x < 1000000 then x else 1000000) = 1000000 := if_neg (fun q => by rw [Int64.lt_iff_toInt_lt, h1] at q; omega)
    rw [e, if_neg (fun q => by rw [Int64.lt_iff_toInt_lt, h1, h2] at q; omega)]
theorem clampT_bd (x : Int64) : -1000000 ≤ (clampT x).toInt ∧ (clampT x).toInt ≤ 1000000 := by
  have h1 : (1000000 : Int64).toInt = 1000000 := by decide
  have h2 : (-1000000 : Int64).toInt = -1000000 := by decide
  unfold clampT
  by_cases q : x < 1000000
  · rw [if_pos q]
    rw [Int64.lt_iff_toInt_lt, h1] at q
    by_cases c : x < -1000000
    · rw [if_pos c, h2]; omega
    · rw [if_neg c]
      rw [Int64.lt_iff_toInt_lt, h2] at c
      omega
  · rw [if_neg q, if_neg (by decide), h1]; omega
theorem two_E {o : Nat} (x y : Int64) (h6 : 6 ≤ o) (h9 : o ≤ 9) : M_two (nI o) x y = some (twoC o x y) := by
  have hd : (if lg_cmp y 0 = 0 then some 0 else nzL y (bd1 (M_clip (x / y)) fun r2 => some r2)) = some (if lg_cmp y 0 = 0 then 0 else clampT (x / y)) := by
    by_cases q : lg_cmp y 0 = 0
    · rw [if_pos q, if_pos q]
    · rw [if_neg q, if_neg q, clip_E]
      unfold nzL
      rw [if_neg (fun z => q (by rw [z]; exact cmp_of_eq rfl))]
      rfl
  have ho : o = 6 ∨ o = 7 ∨ o = 8 ∨ o = 9 := by omega
  unfold M_two twoC
  rw [hd, nI_toInt' (by omega)]
  rcases ho with rfl | rfl | rfl | rfl
  · rw [if_neg (by omega), if_neg (by omega), if_pos (show nI 6 = 6 from rfl), if_pos rfl, clip_E]; rfl
  · rw [if_neg (by omega), if_neg (by omega), if_neg (show ¬ nI 7 = 6 by decide), if_pos (show nI 7 = 7 from rfl), if_neg (show ¬ 7 = 6 by decide), if_pos rfl, clip_E]; rfl
  · rw [if_neg (by omega), if_neg (by omega), if_neg (show ¬ nI 8 = 6 by decide), if_neg (show ¬ nI 8 = 7 by decide), if_pos (show nI 8 = 8 from rfl), if_neg (show ¬ 8 = 6 by decide), if_neg (show ¬ 8 = 7 by decide), if_pos rfl, clip_E]; rfl
  · rw [if_neg (by omega), if_pos (by omega), if_neg (show ¬ 9 = 6 by decide), if_neg (show ¬ 9 = 7 by decide), if_neg (show ¬ 9 = 8 by decide)]
theorem if01 (c : Prop) [Decidable c] : ((if c then (0 : Int32) else 1) = 0 ∨ (if c then (0 : Int32) else 1) = 1) ∧ ((if c then (1 : Int32) else 0) = 0 ∨ (if c then (1 : Int32) else 0) = 1) ∧ (if c then some (0 : Int32) else some 1) = some (if c then 0 else 1) ∧ (if c then some (1 : Int32) else some 0) = some (if c then 1 else 0) := by
  by_cases h : c <;> simp [h]
theorem ask_E {o : Nat} (x y : Int64) (h6 : 10 ≤ o) (h9 : o ≤ 15) : M_isAsked (nI o) x y = some (askC o x y) ∧ (askC o x y = 0 ∨ askC o x y = 1) := by
  have ho : o = 10 ∨ o = 11 ∨ o = 12 ∨ o = 13 ∨ o = 14 ∨ o = 15 := by omega
  unfold M_isAsked askC
  rcases ho with rfl | rfl | rfl | rfl | rfl | rfl
  · simp (disch := omega) only [show (10 : Int32) = nI 10 from rfl, nI_eq_t, nI_eq_f, ↓reduceIte, (if01 _).2.2.1, (if01 _).2.2.2, true_and]
    exact (if01 _).1
  · simp (disch := omega) only [show (10 : Int32) = nI 10 from rfl, show (11 : Int32) = nI 11 from rfl, nI_eq_t, nI_eq_f, ↓reduceIte, Nat.reduceEqDiff, (if01 _).2.2.1, (if01 _).2.2.2, true_and]
    exact (if01 _).1
  · simp (disch := omega) only [show (10 : Int32) = nI 10 from rfl, show (11 : Int32) = nI 11 from rfl, show (12 : Int32) = nI 12 from rfl, nI_eq_t, nI_eq_f, ↓reduceIte, Nat.reduceEqDiff, (if01 _).2.2.1, (if01 _).2.2.2, true_and]
    exact (if01 _).1
  · simp (disch := omega) only [show (10 : Int32) = nI 10 from rfl, show (11 : Int32) = nI 11 from rfl, show (12 : Int32) = nI 12 from rfl, show (13 : Int32) = nI 13 from rfl, nI_eq_t, nI_eq_f, ↓reduceIte, Nat.reduceEqDiff, (if01 _).2.2.1, (if01 _).2.2.2, true_and]
    exact (if01 _).1
  · simp (disch := omega) only [show (10 : Int32) = nI 10 from rfl, show (11 : Int32) = nI 11 from rfl, show (12 : Int32) = nI 12 from rfl, show (13 : Int32) = nI 13 from rfl, show (14 : Int32) = nI 14 from rfl, nI_eq_t, nI_eq_f, ↓reduceIte, Nat.reduceEqDiff, (if01 _).2.2.1, (if01 _).2.2.2, true_and]
    exact (if01 _).2.1
  · simp (disch := omega) only [show (10 : Int32) = nI 10 from rfl, show (11 : Int32) = nI 11 from rfl, show (12 : Int32) = nI 12 from rfl, show (13 : Int32) = nI 13 from rfl, show (14 : Int32) = nI 14 from rfl, nI_eq_t, nI_eq_f, ↓reduceIte, Nat.reduceEqDiff, (if01 _).2.2.1, (if01 _).2.2.2, true_and]
    exact (if01 _).1
/-- the ones of one -/
theorem ones_E {φ : Nat} (hφ : 41 < φ) (x : Int64) (hx : -1000000 ≤ x.toInt ∧ x.toInt ≤ 1000000) : ∃ r : Nat, r ≤ 20 ∧ onesT 65 0 (if 0 < x then x else -x) = lN r ∧ (if 0 ≤ lg_cmp x 0 then M_bits φ x else M_bits φ (-x)) = some (nI r) := by
  have hn : (-x).toInt = -x.toInt := by
    rw [Int64.toInt_neg]
    exact Int.bmod_eq_of_le (by omega) (by omega)
  obtain ⟨n, hn2, e1, e2⟩ : ∃ n : Nat, n ≤ 1000000 ∧ (if 0 < x then x else -x) = lN n ∧ (if 0 ≤ lg_cmp x 0 then M_bits φ x else M_bits φ (-x)) = M_bits φ (lN n) := by
    by_cases q : 0 ≤ x.toInt
    · refine ⟨x.toInt.toNat, by omega, ?_, ?_⟩
      · by_cases c : 0 < x
        · rw [if_pos c]
          exact Int64.toInt_inj.mp (by rw [lN_toInt (by omega)]; omega)
        · rw [if_neg c]
          rw [Int64.lt_iff_toInt_lt, l0] at c
          exact Int64.toInt_inj.mp (by rw [lN_toInt (by omega), hn]; omega)
      · rw [if_pos (cmp_ge.mpr (by rw [l0]; exact q))]
        congr 1
        exact Int64.toInt_inj.mp (by rw [lN_toInt (by omega)]; omega)
    · refine ⟨(-x.toInt).toNat, by omega, ?_, ?_⟩
      · rw [if_neg (fun c => by rw [Int64.lt_iff_toInt_lt, l0] at c; omega)]
        exact Int64.toInt_inj.mp (by rw [lN_toInt (by omega), hn]; omega)
      · rw [if_neg (fun c => q (by have := cmp_ge.mp c; rw [l0] at this; exact this))]
        congr 1
        exact Int64.toInt_inj.mp (by rw [lN_toInt (by omega), hn]; omega)
  have h20 : n < 2 ^ 20 := by omega
  refine ⟨pcN 20 n, pcN_le 20 n, ?_, ?_⟩
  · have h65 : pcN 65 n = pcN 20 n := by
      have hup : ∀ j : Nat, pcN (20 + j) n = pcN 20 n := by
        intro j
        induction j with
        | zero => rfl
        | succ j ih =>
          rw [show 20 + (j + 1) = (20 + j) + 1 by omega, pcN_up, ih]
          exact Nat.lt_of_lt_of_le h20 (Nat.pow_le_pow_right (by omega) (by omega))
      exact hup 45
    rw [e1]
    have := onesT_pc 65 0 n (by omega) (by omega)
    rw [Nat.zero_add, h65] at this
    exact this
  · rw [e2, M_bits_E h20 (by omega) hφ]
theorem toInt64_lN {n : Nat} (h : n < 2147483648) : (nI n).toInt64 = lN n := nI_l (by omega)
