/-! THE PURE LAW: comparisons of longs; the ones of a number, counted in two ways -/
theorem cmp_of_lt {a b : Int64} (h : a.toInt < b.toInt) : lg_cmp a b = -1 := by
  unfold lg_cmp
  rw [if_neg (fun q => by have := Int64.lt_iff_toInt_lt.mp q; omega), if_neg (fun q => by rw [q] at h; omega)]
theorem cmp_of_gt {a b : Int64} (h : b.toInt < a.toInt) : lg_cmp a b = 1 := by
  unfold lg_cmp
  rw [if_pos (Int64.lt_iff_toInt_lt.mpr h)]
theorem cmp_of_eq {a b : Int64} (h : a.toInt = b.toInt) : lg_cmp a b = 0 := by
  have h2 := Int64.toInt_inj.mp h
  subst h2
  unfold lg_cmp
  rw [if_neg (fun q => by have := Int64.lt_iff_toInt_lt.mp q; omega), if_pos rfl]
theorem cmp_3 (a b : Int64) : (a.toInt < b.toInt ∧ lg_cmp a b = -1) ∨ (a.toInt = b.toInt ∧ lg_cmp a b = 0) ∨ (b.toInt < a.toInt ∧ lg_cmp a b = 1) := by
  rcases Int.lt_trichotomy a.toInt b.toInt with h | h | h
  · exact Or.inl ⟨h, cmp_of_lt h⟩
  · exact Or.inr (Or.inl ⟨h, cmp_of_eq h⟩)
  · exact Or.inr (Or.inr ⟨h, cmp_of_gt h⟩)
theorem cmp_le {a b : Int64} : lg_cmp a b ≤ 0 ↔ a.toInt ≤ b.toInt := by
  rcases cmp_3 a b with ⟨h, e⟩ | ⟨h, e⟩ | ⟨h, e⟩ <;> rw [e]
  · exact ⟨fun _ => by omega, fun _ => by decide⟩
  · exact ⟨fun _ => by omega, fun _ => by decide⟩
  · exact ⟨fun q => absurd q (by decide), fun _ => by omega⟩
theorem cmp_ge {a b : Int64} : 0 ≤ lg_cmp a b ↔ b.toInt ≤ a.toInt := by
  rcases cmp_3 a b with ⟨h, e⟩ | ⟨h, e⟩ | ⟨h, e⟩ <;> rw [e]
  · exact ⟨fun q => absurd q (by decide), fun _ => by omega⟩
  · exact ⟨fun _ => by omega, fun _ => by decide⟩
  · exact ⟨fun _ => by omega, fun _ => by decide⟩
theorem cmp_lt {a b : Int64} : lg_cmp a b < 0 ↔ a.toInt < b.toInt := by
  rcases cmp_3 a b with ⟨h, e⟩ | ⟨h, e⟩ | ⟨h, e⟩ <;> rw [e]
  · exact ⟨fun _ => by omega, fun _ => by decide⟩
  · exact ⟨fun q => absurd q (by decide), fun _ => by omega⟩
  · exact ⟨fun q => absurd q (by decide), fun _ => by omega⟩
theorem cmp_gt {a b : Int64} : 0 < lg_cmp a b ↔ b.toInt < a.toInt := by
  rcases cmp_3 a b with ⟨h, e⟩ | ⟨h, e⟩ | ⟨h, e⟩ <;> rw [e]
  · exact ⟨fun q => absurd q (by decide), fun _ => by omega⟩
  · exact ⟨fun q => absurd q (by decide), fun _ => by omega⟩
  · exact ⟨fun _ => by omega, fun _ => by decide⟩
theorem cmp_eq {a b : Int64} : lg_cmp a b = 0 ↔ a.toInt = b.toInt := by
  rcases cmp_3 a b with ⟨h, e⟩ | ⟨h, e⟩ | ⟨h, e⟩ <;> rw [e]
  · exact ⟨fun q => absurd q (by decide), fun _ => by omega⟩
  · exact ⟨fun _ => by omega, fun _ => by decide⟩
  · exact ⟨fun q => absurd q (by decide), fun _ => by omega⟩
theorem l0 : (0 : Int64).toInt = 0 := by decide
/-- the ones of a number, by halves -/
def pcN : Nat → Nat → Nat
  | 0, _ => 0
  | k + 1, n => if n = 0 then 0 else n % 2 + pcN k (n / 2)
theorem pcN_0 (k : Nat) : pcN k 0 = 0 := by cases k <;> rfl
theorem pcN_le (k : Nat) : ∀ n : Nat, pcN k n ≤ k := by
  induction k with
  | zero => intro n; exact Nat.le_refl _
  | succ k ih =>
    intro n
    unfold pcN
    split
    · omega
    · have := ih (n / 2); omega
theorem pcN_up {k : Nat} : ∀ {n : Nat}, n < 2 ^ k → pcN (k + 1) n = pcN k n := by
  induction k with
  | zero =>
    intro n h
    have : n = 0 := by simpa using h
    subst this
    rfl
  | succ k ih =>
    intro n h
    rw [pcN]
    conv => rhs; rw [pcN]
    split
    · rfl
    · rw [ih (by rw [Nat.pow_succ] at h; omega)]
theorem lN_half {n : Nat} (h : n < 2 ^ 30) : lN n / 2 = lN (n / 2) ∧ (lN n - lN n / 2 * 2) = lN (n % 2) := by
  have a1 : (lN n).toInt = n := lN_toInt (by omega)
  have a2 : (lN n / 2).toInt = (n / 2 : Nat) := by
    rw [Int64.toInt_div_of_ne_right _ _ (by decide), a1, show (2 : Int64).toInt = 2 by decide, Int.tdiv_eq_ediv_of_nonneg (by omega)]
    omega
  refine ⟨Int64.toInt_inj.mp (by rw [a2, lN_toInt (by omega)]), Int64.toInt_inj.mp ?_⟩
  rw [lN_toInt (by omega), Int64.toInt_sub, a1, Int64.toInt_mul, a2, show (2 : Int64).toInt = 2 by decide, Int.bmod_eq_of_le (n := ((n / 2 : Nat) : Int) * 2) (by omega) (by omega), Int.bmod_eq_of_le (by omega) (by omega)]
  omega
theorem onesT_pc : ∀ (k c n : Nat), n < 2 ^ 30 → c + k < 2 ^ 20 → onesT k (lN c) (lN n) = lN (c + pcN k n) := by
  intro k
  induction k with
  | zero => intro c n _ _; rfl
  | succ k ih =>
    intro c n hn hc
    rw [onesT, pcN]
    have e : lg_cmp (lN n) 0 ≤ 0 ↔ n = 0 := by
      rw [cmp_le, lN_toInt (by omega), l0]
      omega
    by_cases q : n = 0
    · rw [if_pos (e.mpr q), if_pos q]
      rfl
    · rw [if_neg (fun h => q (e.mp h)), if_neg q, (lN_half hn).2, (lN_half hn).1, lN_add, ih _ _ (by omega) (by omega)]
      congr 1
      omega
/-- .. and by taking the lowest away -/
theorem and_half (a b : Nat) : (a &&& b) / 2 = a / 2 &&& b / 2 := by
  apply Nat.eq_of_testBit_eq
  intro i
  rw [Nat.testBit_and, ← Nat.testBit_add_one, ← Nat.testBit_add_one, ← Nat.testBit_add_one, Nat.testBit_and]
theorem and_odd (a b : Nat) : (a &&& b) % 2 = if a % 2 = 1 ∧ b % 2 = 1 then 1 else 0 := by
  have h : (a &&& b).testBit 0 = (a.testBit 0 && b.testBit 0) := Nat.testBit_and a b 0
  simp only [Nat.testBit_zero] at h
  rw [Bool.eq_iff_iff] at h
  simp only [decide_eq_true_eq, Bool.and_eq_true] at h
  by_cases q : a % 2 = 1 ∧ b % 2 = 1
  · rw [if_pos q]; exact h.mpr q
  · rw [if_neg q]
    have h3 := mt h.mp q
    omega
theorem low_pc : ∀ (k n : Nat), 0 < n → n < 2 ^ k → (n &&& (n - 1)) < n ∧ pcN k n = 1 + pcN k (n &&& (n - 1)) := by
  intro k
  induction k with
  | zero => intro n h0 h; simp at h; omega
  | succ k ih =>
    intro n h0 h
    rw [Nat.pow_succ] at h
    have h1 := and_half n (n - 1)
    have h2 := and_odd n (n - 1)
    by_cases q : n % 2 = 1
    · rw [if_neg (by omega)] at h2
      rw [show (n - 1) / 2 = n / 2 by omega, Nat.and_self] at h1
      have h3 : n &&& (n - 1) = n - 1 := by omega
      rw [h3]
      refine ⟨by omega, ?_⟩
      rw [pcN, pcN, if_neg (by omega), q]
      by_cases q2 : n - 1 = 0
      · rw [if_pos q2, show n / 2 = 0 by omega, pcN_0]
      · rw [if_neg q2, show (n - 1) % 2 = 0 by omega, show (n - 1) / 2 = n / 2 by omega]
        omega
    · rw [if_neg (by omega)] at h2
      have h4 := ih (n / 2) (by omega) (by omega)
      rw [show (n - 1) / 2 = n / 2 - 1 by omega] at h1
      refine ⟨by omega, ?_⟩
      rw [pcN, if_neg (by omega), show n % 2 = 0 by omega, h4.2]
      rw [pcN]
      by_cases q2 : n &&& (n - 1) = 0
      · rw [if_pos q2, show n / 2 &&& (n / 2 - 1) = 0 by omega, pcN_0]
      · rw [if_neg q2, h2, h1]
        omega
theorem lN_low {n : Nat} (h0 : 0 < n) : (lN n &&& (lN n - 1)) = lN (n &&& (n - 1)) := by
  rw [show lN n - 1 = lN (n - 1) from lN_sub (a := n) (b := 1) h0]
  refine Int64.toBitVec_inj.1 ?_
  rw [Int64.toBitVec_and]
  show BitVec.ofNat 64 n &&& BitVec.ofNat 64 (n - 1) = BitVec.ofNat 64 (n &&& (n - 1))
  rw [BitVec.ofNat_and]
theorem bits_L (φ : Nat) (k : Nat) : ∀ (j fu c n : Nat), n ≤ j → n < 2 ^ k → k ≤ 30 → pcN k n < fu → c + pcN k n < 2 ^ 20 → M_bits_L4 φ fu (nI c) (lN n) = some (nI (c + pcN k n)) := by
  intro j
  induction j with
  | zero =>
    intro fu c n hj hn hk hfu hc
    obtain ⟨fu, rfl⟩ : ∃ x, fu = x + 1 := ⟨fu - 1, by omega⟩
    have : n = 0 := by omega
    subst this
    rw [M_bits_L4, if_pos (cmp_of_eq (by rw [lN_toInt (by omega), l0]; rfl)), pcN_0]
    rfl
  | succ j ih =>
    intro fu c n hj hn hk hfu hc
    obtain ⟨fu, rfl⟩ : ∃ x, fu = x + 1 := ⟨fu - 1, by omega⟩
    have hb : (2 : Nat) ^ k ≤ 2 ^ 30 := Nat.pow_le_pow_right (by omega) hk
    by_cases q : n = 0
    · subst q
      rw [M_bits_L4, if_pos (cmp_of_eq (by rw [lN_toInt (by omega), l0]; rfl)), pcN_0]
      rfl
    · obtain ⟨h1, h2⟩ := low_pc k n (by omega) hn
      rw [M_bits_L4, if_neg (fun h => by rw [cmp_eq, lN_toInt (by omega), l0] at h; omega)]
      simp only [lt_def]
      rw [lN_low (by omega), show nI c + 1 = nI (c + 1) from nI_add c 1, ih fu (c + 1) _ (by omega) (by omega) hk (by omega) (by omega)]
      congr 2
      omega
theorem M_bits_E {φ k n : Nat} (hn : n < 2 ^ k) (hk : k ≤ 30) (hφ : 41 < φ) : M_bits φ (lN n) = some (nI (pcN k n)) := by
  have h1 := pcN_le k n
  unfold M_bits
  rw [show (0 : Int32) = nI 0 from rfl, bits_L φ k n φ 0 n (Nat.le_refl _) hn hk (by omega) (by omega), Nat.zero_add]
  rfl
