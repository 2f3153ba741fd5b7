/-! what the trees answer, as total functions; which cells a tree is -/
def evPlain (n : Int32) : EvS := fun _ => n.toInt64
def evName (i : Int32) : EvS := fun v => (v i.toNatClampNeg).toInt64
def evMinus (e : EvS) : EvS := fun v => -(e v)
def onesT : Nat → Int64 → Int64 → Int64
  | 0, n, _ => n
  | k + 1, n, x => if lg_cmp x 0 ≤ 0 then n else onesT k (n + (x - x / 2 * 2)) (x / 2)
def evOnes (e : EvS) : EvS := fun v => onesT 65 0 (if 0 < e v then e v else -(e v))
def evFears (e : EvS) : EvS := fun v => if lg_cmp (e v) 0 < 0 then 0 else if lg_cmp (e v) 6 < 0 then (v ((10 : Int32) + (e v).toInt32).toNatClampNeg).toInt64 else 0
def evIf (b : EvA) (e1 e2 : EvS) : EvS := fun v => if b v = 0 then e2 v else e1 v
def clampT (x : Int64) : Int64 := if (if x < 1000000 then x else 1000000) < (-1000000) then (-1000000) else (if x < 1000000 then x else 1000000)
def opT (s : Int32) (a b : Int64) : Int64 := if s = 43 then a + b else if s = 45 then a - b else if s = 42 then a * b else if lg_cmp b 0 = 0 then 0 else a / b
def chainT (es : Nat → EvS) (sg : Nat → Int32) (v : Nat → Int32) : Nat → Int64 → Int64
  | 0, a => a
  | k + 1, a => clampT (opT (sg k) (chainT es sg v k a) (es k v))
def evChain (e : EvS) (n : Nat) (es : Nat → EvS) (sg : Nat → Int32) : EvS := fun v => chainT es sg v n (e v)
def evCompared (s : Int32) (e1 e2 : EvS) : EvA := fun v =>
  if s = 35 then (if lg_cmp (e1 v - e2 v) 0 = 0 then 0 else 1) else if s = 60 then (if 0 ≤ lg_cmp (e1 v - e2 v) 0 then 0 else 1) else if s = 61 then (if lg_cmp (e1 v - e2 v) 0 = 0 then 1 else 0) else if s = 62 then (if lg_cmp (e1 v - e2 v) 0 ≤ 0 then 0 else 1) else if s = 303 then (if 0 < lg_cmp (e1 v - e2 v) 0 then 0 else 1) else (if lg_cmp (e1 v - e2 v) 0 < 0 then 0 else 1)
def evNot (b : EvA) : EvA := fun v => if b v = 0 then 1 else 0
def allT (bs : Nat → EvA) (v : Nat → Int32) : Nat → Int32
  | 0 => 0
  | k + 1 => if bs k v = 0 then allT bs v k + 0 else allT bs v k + 1
def evAll (f : Int32) (n : Nat) (bs : Nat → EvA) : EvA := fun v => if f = 0 then (if allT bs v n ≤ 0 then 0 else 1) else (if allT bs v n = nI n then 1 else 0)
theorem half_lt {x : Int64} (h : ¬ lg_cmp x 0 ≤ 0) : 0 < x.toInt ∧ (x / 2).toInt = x.toInt / 2 := by
  have h1 : x > 0 := by
    unfold lg_cmp at h
    by_cases q : x > 0
    · exact q
    · rw [if_neg q] at h
      split at h <;> exact absurd (by decide) h
  have h2 : 0 < x.toInt := by simpa using Int64.lt_iff_toInt_lt.mp h1
  refine ⟨h2, ?_⟩
  rw [Int64.toInt_div_of_ne_right _ _ (by decide)]
  show x.toInt.tdiv 2 = _
  exact Int.tdiv_eq_ediv_of_nonneg (by omega)
theorem V13_L (φ : Nat) : ∀ (k f : Nat) (n x : Int64), k < f → x.toInt < 2 ^ k → V13_of_L17 φ f n x = some (onesT (k + 1) n x) := by
  intro k
  induction k with
  | zero =>
    intro f n x hf hx
    obtain ⟨f', rfl⟩ : ∃ f', f = f' + 1 := ⟨f - 1, by omega⟩
    rw [V13_of_L17, onesT]
    have : lg_cmp x 0 ≤ 0 := by
      by_cases q : lg_cmp x 0 ≤ 0
      · exact q
      · have := (half_lt q).1
        simp at hx
        omega
    rw [if_pos this, if_pos this]
  | succ k ih =>
    intro f n x hf hx
    obtain ⟨f', rfl⟩ : ∃ f', f = f' + 1 := ⟨f - 1, by omega⟩
    rw [V13_of_L17, onesT]
    by_cases q : lg_cmp x 0 ≤ 0
    · rw [if_pos q, if_pos q]
    · rw [if_neg q, if_neg q]
      show V13_of_L17 φ f' (n + (x - x / 2 * 2)) (x / 2) = _
      exact ih f' _ _ (by omega) (by rw [(half_lt q).2]; rw [Int.pow_succ] at hx; omega)
theorem V13_eq (φ : Nat) (hφ : 65 ≤ φ) (v : Nat → Int32) (e : EvS) : V13_of φ v e = some (evOnes e v) := by
  simp only [V13_of, lt, bd1, evOnes]
  rw [V13_L φ 64 φ 0 _ (by omega) (by have := Int64.toInt_lt (if 0 < e v then e v else -(e v)); omega)]
  rfl
theorem V14_eq (v : Nat → Int32) (e : EvS) : V14_of v e = some (evFears e v) := by
  simp only [V14_of, lt, evFears]
  by_cases h1 : lg_cmp (e v) 0 < 0
  · rw [if_pos h1, if_pos h1]
  · rw [if_neg h1, if_neg h1]
    by_cases h2 : lg_cmp (e v) 6 < 0
    · rw [if_pos h2, if_pos h2]
      have a0 : 0 ≤ (e v).toInt := by
        have q : ¬ (e v < 0) := by
          intro q
          apply h1
          unfold lg_cmp
          rw [if_neg (by grind), if_neg (by grind)]
          decide
        have := Int64.not_lt.mp q
        simpa using Int64.le_iff_toInt_le.mp this
      have a6 : (e v).toInt < 6 := by
        have q : e v < 6 := by
          unfold lg_cmp at h2
          by_cases q1 : e v > 6
          · rw [if_pos q1] at h2; exact absurd h2 (by decide)
          · rw [if_neg q1] at h2
            by_cases q2 : e v = 6
            · rw [if_pos q2] at h2; exact absurd h2 (by decide)
            · grind
        simpa using Int64.lt_iff_toInt_lt.mp q
      have a7 : (e v).toInt32.toInt = (e v).toInt := by
        rw [Int64.toInt_toInt32]
        exact Int.bmod_eq_of_le (by omega) (by omega)
      have a8 : ((10 : Int32) + (e v).toInt32).toInt = 10 + (e v).toInt := by
        rw [Int32.toInt_add, a7]
        exact Int.bmod_eq_of_le (by show -(2 : Int) ^ 31 ≤ 10 + _; omega) (by show (10 : Int) + _ < _; omega)
      have a9 : vp_in ((10 : Int32) + (e v).toInt32) 16 := vp_in_iff.mpr ⟨by omega, by omega⟩
      unfold rd
      rw [if_neg a9]
      rfl
    · rw [if_neg h2, if_neg h2]
theorem V11_eq (v : Nat → Int32) (b : EvA) (e1 e2 : EvS) : V11_of v b e1 e2 = some (evIf b e1 e2 v) := by
  simp only [V11_of, lt, evIf]
  by_cases h : b v = 0
  · rw [if_pos h, if_pos h]
  · rw [if_neg h, if_neg h]
theorem V8_eq (v : Nat → Int32) (b : EvA) : V8_is v b = some (evNot b v) := by
  simp only [V8_is, lt, evNot]
  by_cases h : b v = 0
  · rw [if_pos h, if_pos h]
  · rw [if_neg h, if_neg h]
theorem V9_eq (v : Nat → Int32) (s : Int32) (e1 e2 : EvS) : V9_is v s e1 e2 = some (evCompared s e1 e2 v) := by
  simp only [V9_is, lt, evCompared]
  repeat' split
  all_goals rfl
theorem inb_in {β : Type} {i : Int32} {n : Nat} {K : Option β} (h : vp_in i n) : inb i n K = K := if_neg h
theorem V10_L (φ : Nat) (v : Nat → Int32) (n : Nat) (bs : Nat → EvA) (hn : n < 2 ^ 31) : ∀ (d f k : Nat), n - k = d → k ≤ n → d < f → V10_is_L4 φ v n bs f (allT bs v k) (nI k) = some (allT bs v n) := by
  intro d
  induction d with
  | zero =>
    intro f k hd hk hf
    obtain ⟨f', rfl⟩ : ∃ f', f = f' + 1 := ⟨f - 1, by omega⟩
    have : k = n := by omega
    subst this
    rw [V10_is_L4, if_pos (nI_le (Nat.le_refl _) hn)]
  | succ d ih =>
    intro f k hd hk hf
    obtain ⟨f', rfl⟩ : ∃ f', f = f' + 1 := ⟨f - 1, by omega⟩
    rw [V10_is_L4, if_neg (nI_ge (by omega) hn), inb_in (vp_in_nI (by omega) hn)]
    have hc : (nI k).toNatClampNeg = k := nI_clamp (by omega)
    have h2 := ih f' (k + 1) (by omega) (by omega) (by omega)
    rw [allT] at h2
    simp only [lt, hc, nI_1]
    by_cases q : bs k v = 0
    · rw [if_pos q] at h2 ⊢
      exact h2
    · rw [if_neg q] at h2 ⊢
      exact h2
theorem V10_eq (φ : Nat) (v : Nat → Int32) (f : Int32) (n : Nat) (bs : Nat → EvA) (hn : n < 2 ^ 31) (hφ : n < φ) : V10_is φ v f n bs = some (evAll f n bs v) := by
  unfold V10_is bd1
  have h := V10_L φ v n bs hn n φ 0 (by omega) (Nat.zero_le _) hφ
  rw [show V10_is_L4 φ v n bs φ 0 0 = some (allT bs v n) from h]
  simp only [Option.bind, evAll]
  repeat' split
  all_goals rfl
theorem V6_L (φ : Nat) (v : Nat → Int32) (n : Nat) (es : Nat → EvS) (sg : Nat → Int32) (a : Int64) (hn : n < 2 ^ 31) : ∀ (d f k : Nat), n - k = d → k ≤ n → d < f → V6_of_L14 φ v n es n sg f (chainT es sg v k a) (nI k) = some (chainT es sg v n a) := by
  intro d
  induction d with
  | zero =>
    intro f k hd hk hf
    obtain ⟨f', rfl⟩ : ∃ f', f = f' + 1 := ⟨f - 1, by omega⟩
    have : k = n := by omega
    subst this
    rw [V6_of_L14, if_pos (nI_le (Nat.le_refl _) hn)]
  | succ d ih =>
    intro f k hd hk hf
    obtain ⟨f', rfl⟩ : ∃ f', f = f' + 1 := ⟨f - 1, by omega⟩
    rw [V6_of_L14, if_neg (nI_ge (by omega) hn), inb_in (vp_in_nI (by omega) hn)]
    have hc : (nI k).toNatClampNeg = k := nI_clamp (by omega)
    have h2 := ih f' (k + 1) (by omega) (by omega) (by omega)
    rw [chainT] at h2
    simp only [lt, hc, nI_1, inb_in (vp_in_nI (show k < n by omega) hn)]
    have e : (if sg k = 43 then some (chainT es sg v k a + es k v) else if sg k = 45 then some (chainT es sg v k a - es k v) else if sg k = 42 then some (chainT es sg v k a * es k v) else if lg_cmp (es k v) 0 = 0 then some 0 else nzL (es k v) (some (chainT es sg v k a / es k v))) = some (opT (sg k) (chainT es sg v k a) (es k v)) := by
      unfold opT
      by_cases q1 : sg k = 43
      · rw [if_pos q1, if_pos q1]
      · rw [if_neg q1, if_neg q1]
        by_cases q2 : sg k = 45
        · rw [if_pos q2, if_pos q2]
        · rw [if_neg q2, if_neg q2]
          by_cases q3 : sg k = 42
          · rw [if_pos q3, if_pos q3]
          · rw [if_neg q3, if_neg q3]
            by_cases q4 : lg_cmp (es k v) 0 = 0
            · rw [if_pos q4, if_pos q4]
            · rw [if_neg q4, if_neg q4]
              unfold nzL
              rw [if_neg (fun z => q4 (by rw [z]; decide))]
    rw [e]
    exact h2
theorem V6_eq (φ : Nat) (v : Nat → Int32) (e : EvS) (n : Nat) (es : Nat → EvS) (sg : Nat → Int32) (hn : n < 2 ^ 31) (hφ : n < φ) : V6_of φ v e n es n sg = some (evChain e n es sg v) := by
  simp only [V6_of, lt, bd1]
  have h := V6_L φ v n es sg (e v) hn n φ 0 (by omega) (Nat.zero_le _) hφ
  rw [show V6_of_L14 φ v n es n sg φ (e v) 0 = some (chainT es sg v n (e v)) from h]
  rfl
/-- the trees of depth d at most among the cells w: Sums, Askeds -/
def rP (g : gG) (z : Nat → Nat) (w : va_W) : Nat → (Nat → EvS → Prop) × (Nat → EvA → Prop)
  | 0 => (fun _ _ => False, fun _ _ => False)
  | d + 1 => (fun r ev =>
      (∃ (k : Nat) (n : Int32), w[k]? = some (r, .inr (7, [.int n])) ∧ ev = evPlain n) ∨
      (∃ (k : Nat) (i : Int32), w[k]? = some (r, .inr (12, [.int i])) ∧ vp_in i 16 ∧ ev = evName i) ∨
      (∃ (k c : Nat) (e : EvS), w[k]? = some (r, .inr (15, [.ref c])) ∧ (rP g z w d).1 c e ∧ ev = evMinus e) ∨
      (∃ (k c : Nat) (e : EvS), w[k]? = some (r, .inr (13, [.ref c])) ∧ (rP g z w d).1 c e ∧ ev = evOnes e) ∨
      (∃ (k c : Nat) (e : EvS), w[k]? = some (r, .inr (14, [.ref c])) ∧ (rP g z w d).1 c e ∧ ev = evFears e) ∨
      (∃ (k c0 c1 c2 : Nat) (b : EvA) (e1 e2 : EvS), w[k]? = some (r, .inr (11, [.ref c0, .ref c1, .ref c2])) ∧ (rP g z w d).2 c0 b ∧ (rP g z w d).1 c1 e1 ∧ (rP g z w d).1 c2 e2 ∧ ev = evIf b e1 e2) ∨
      (∃ (k c la ln : Nat) (e : EvS) (n : Nat) (es : Nat → EvS) (sg : Nat → Int32) (f1 f2 : Nat → Option Nat), w[k]? = some (r, .inr (6, [.ref c, .ref la, .ref ln])) ∧ (rP g z w d).1 c e ∧ ListOK g w la n f1 ∧ ListOK g w ln n f2 ∧ (∀ i : Nat, i < n → ∃ y : Nat, f1 i = some y ∧ (rP g z w d).1 y (es i)) ∧ (∀ i : Nat, i < n → ∃ y : Nat, f2 i = some y ∧ BoxOK z y (sg i)) ∧ ev = evChain e n es sg),
    fun r ev =>
      (∃ (k c1 c2 : Nat) (s : Int32) (e1 e2 : EvS), w[k]? = some (r, .inr (9, [.int s, .ref c1, .ref c2])) ∧ (rP g z w d).1 c1 e1 ∧ (rP g z w d).1 c2 e2 ∧ ev = evCompared s e1 e2) ∨
      (∃ (k c : Nat) (b : EvA), w[k]? = some (r, .inr (8, [.ref c])) ∧ (rP g z w d).2 c b ∧ ev = evNot b) ∨
      (∃ (k la : Nat) (f : Int32) (n : Nat) (bs : Nat → EvA) (f1 : Nat → Option Nat), w[k]? = some (r, .inr (10, [.int f, .ref la])) ∧ ListOK g w la n f1 ∧ (∀ i : Nat, i < n → ∃ y : Nat, f1 i = some y ∧ (rP g z w d).2 y (bs i)) ∧ ev = evAll f n bs))
