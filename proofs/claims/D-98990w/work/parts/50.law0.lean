/-! THE PURE LAW, base: numbers; reads and writes at numbers -/
theorem litI (n : Nat) : (OfNat.ofNat n : Int32) = nI (OfNat.ofNat n) := (Eq.refl _).trans (Eq.refl _)
theorem nI_sub {a b : Nat} (h : b ≤ a) : nI a - nI b = nI (a - b) := by
  have h2 : nI a = nI (a - b) + nI b := by rw [nI_add, Nat.sub_add_cancel h]
  rw [h2, Int32.add_sub_cancel]
theorem nI_mul (a b : Nat) : nI a * nI b = nI (a * b) := (Int32.ofNat_mul a b).symm
theorem nI_neg1 : (-1 : Int32) = Int32.ofInt (-1) := rfl
theorem nI_toInt' {a : Nat} (h : a < 2147483648) : (nI a).toInt = (a : Int) := nI_toInt (by omega)
theorem nI_clamp' {a : Nat} (h : a < 2147483648) : (nI a).toNatClampNeg = a := nI_clamp (by omega)
theorem nI_div {a b : Nat} (ha : a < 2147483648) (hb : b < 2147483648) : nI a / nI b = nI (a / b) := by
  have h1 : a / b ≤ a := Nat.div_le_self a b
  refine Int32.toInt_inj.mp ?_
  rw [Int32.toInt_div_of_ne_right _ _ (fun h => by
    have := congrArg Int32.toInt h
    rw [nI_toInt' hb] at this
    rw [show (-1 : Int32).toInt = -1 by decide] at this
    omega), nI_toInt' ha, nI_toInt' hb, nI_toInt' (by omega)]
  rw [Int.tdiv_eq_ediv_of_nonneg (by omega)]
  exact (Int.natCast_ediv a b).symm ▸ rfl
theorem nI_mod {a b : Nat} (ha : a < 2147483648) (hb : b < 2147483648) : nI a - nI a / nI b * nI b = nI (a % b) := by
  rw [nI_div ha hb, nI_mul, nI_sub (Nat.div_mul_le_self a b)]
  congr 1
  have := Nat.div_add_mod a b
  rw [Nat.mul_comm] at this
  omega
theorem nI_eq' {a b : Nat} (ha : a < 2147483648) (hb : b < 2147483648) : nI a = nI b ↔ a = b := nI_eq (by omega) (by omega)
theorem nI_le' {a b : Nat} (ha : a < 2147483648) (hb : b < 2147483648) : nI a ≤ nI b ↔ a ≤ b := nI_leI (by omega) (by omega)
theorem nI_lt' {a b : Nat} (ha : a < 2147483648) (hb : b < 2147483648) : nI a < nI b ↔ a < b := nI_ltI (by omega) (by omega)
theorem neg_toInt {k : Nat} (h : k < 2147483648) : (-(nI k)).toInt = -(k : Int) := by
  rw [Int32.toInt_neg, nI_toInt' h]
  exact Int.bmod_eq_of_le (by omega) (by omega)
theorem nI_ne_neg {a k : Nat} (ha : a < 2147483648) (h0 : 0 < k) (hk : k < 2147483648) : nI a = -(nI k) ↔ False := by
  refine ⟨fun h => ?_, False.elim⟩
  have := congrArg Int32.toInt h
  rw [nI_toInt' ha, neg_toInt hk] at this
  omega
theorem nI_neg1' {a : Nat} (ha : a < 2147483648) : nI a = (-1 : Int32) ↔ False := nI_ne_neg (k := 1) ha (by omega) (by omega)
theorem rd_I {α : Type} {a : Nat → α} {n k : Nat} (h : k < n) (hn : n < 2147483648) : rd a n (nI k) = some (a k) := by
  unfold rd
  rw [if_neg (nI_in h (by omega)), nI_clamp' (by omega)]
theorem wr_I {a : Nat → Int32} {n k : Nat} {v : Int32} (h : k < n) (hn : n < 2147483648) : wr a n (nI k) v = some (upd a k v) := by
  unfold wr
  rw [if_neg (nI_in h (by omega)), nI_clamp' (by omega)]
theorem wrL_I {a : Nat → Int64} {n k : Nat} {v : Int64} (h : k < n) (hn : n < 2147483648) : wrL a n (nI k) v = some (vp_updL a k v) := by
  unfold wrL
  rw [if_neg (nI_in h (by omega)), nI_clamp' (by omega)]
theorem wrZ_I {a : Nat → Int32} {n k : Nat} {v : Int32} (h : k < n) (hn : n < 2147483648) : wrZ a n (nI k) v = some (upd a k (vp_nar .boolean v)) := by
  unfold wrZ
  rw [if_neg (nI_in h (by omega)), nI_clamp' (by omega)]
theorem wrB_I {a : Nat → Int32} {n k : Nat} {v : Int32} (h : k < n) (hn : n < 2147483648) : wrB a n (nI k) v = some (upd a k (vp_nar .byte v)) := by
  unfold wrB
  rw [if_neg (nI_in h (by omega)), nI_clamp' (by omega)]
theorem rdq_I {a : Nat → Option Nat} {n k : Nat} (h : k < n) (hn : n < 2147483648) : rdq a n (nI k) = a k := by
  unfold rdq
  rw [if_neg (nI_in h (by omega)), nI_clamp' (by omega)]
theorem inb_I {β : Type} {n k : Nat} {K : Option β} (h : k < n) (hn : n < 2147483648) : inb (nI k) n K = K := by
  unfold inb
  rw [if_neg (nI_in h (by omega))]
theorem upd_eq {a : Nat → Int32} {k : Nat} {v : Int32} : upd a k v k = v := by unfold upd; rw [if_pos rfl]
theorem upd_ne {a : Nat → Int32} {k j : Nat} {v : Int32} (h : j ≠ k) : upd a k v j = a j := by unfold upd; rw [if_neg h]
theorem upd_at {a : Nat → Int32} {k j : Nat} {v : Int32} (h : j = k) : upd a k v j = v := by unfold upd; rw [if_pos h]
theorem zk_1 {β : Type} {K : Option β} : zk (nI 1) K = K := (Eq.refl _).trans (Eq.refl _)
theorem zk_0 {β : Type} {K : Option β} : zk (nI 0) K = K := (Eq.refl _).trans (Eq.refl _)
theorem nz_I {β : Type} {k : Nat} {K : Option β} (h0 : 0 < k) (h : k < 2147483648) : nz (nI k) K = K := by
  unfold nz
  rw [if_neg (nI_ne0 h0 (by omega))]
theorem ob_some {α β : Type} {a : α} {f : α → Option β} : (some a).bind f = f a := (Eq.refl _).trans (Eq.refl _)
theorem bd1_some {α γ : Type} {a : α} {K : α → Option γ} : bd1 (some a) K = K a := (Eq.refl _).trans (Eq.refl _)
theorem bd2_some {α β γ : Type} {a : α} {b : β} {K : α → β → Option γ} : bd2 (some (a, b)) K = K a b := (Eq.refl _).trans (Eq.refl _)
theorem bd3_some {α β δ γ : Type} {a : α} {b : β} {c : δ} {K : α → β → δ → Option γ} : bd3 (some (a, b, c)) K = K a b c := (Eq.refl _).trans (Eq.refl _)
theorem bd4_some {α β δ ε γ : Type} {a : α} {b : β} {c : δ} {d : ε} {K : α → β → δ → ε → Option γ} : bd4 (some (a, b, c, d)) K = K a b c d := (Eq.refl _).trans (Eq.refl _)
theorem bd5_some {α β δ ε ζ γ : Type} {a : α} {b : β} {c : δ} {d : ε} {e : ζ} {K : α → β → δ → ε → ζ → Option γ} : bd5 (some (a, b, c, d, e)) K = K a b c d e := (Eq.refl _).trans (Eq.refl _)
theorem lt_def {α β : Type} {e : α} {K : α → β} : lt e K = K e := (Eq.refl _).trans (Eq.refl _)
theorem jn_def {σ β : Type} {K : σ} {B : σ → β} : jn K B = B K := (Eq.refl _).trans (Eq.refl _)
/-- in, isIn: the two ask alike -/
def inV (x lo hi : Int32) : Int32 := if x < lo then 0 else if hi < x then 0 else 1
theorem X_in_eq (x lo hi : Int32) : X_in x lo hi = some (inV x lo hi) := by
  unfold X_in inV
  repeat' split
  all_goals rfl
theorem M_isIn_eq (x lo hi : Int32) : M_isIn x lo hi = some (inV x lo hi) := by
  unfold M_isIn inV
  repeat' split
  all_goals rfl
theorem inV_cases (x lo hi : Int32) : inV x lo hi = 0 ∨ inV x lo hi = 1 := by
  unfold inV
  repeat' split
  all_goals simp
/-- within 0 .. n - 1 or not -/
theorem in0_cases (x : Int32) (n : Nat) (hn : n < 2147483648) : (∃ k : Nat, k < n ∧ x = nI k ∧ inV x 0 (nI n - 1) = 1) ∨ inV x 0 (nI n - 1) = 0 := by
  unfold inV
  by_cases h0 : x < 0
  · exact Or.inr (if_pos h0)
  · rw [if_neg h0]
    obtain ⟨j, hj, rfl⟩ := nI_of h0
    by_cases h : j < n
    · refine Or.inl ⟨j, h, rfl, ?_⟩
      rw [show nI n - 1 = nI (n - 1) from nI_sub (b := 1) (by omega), if_neg (by rw [nI_lt' (by omega) (by omega)]; omega)]
    · refine Or.inr ?_
      by_cases hz : n = 0
      · subst hz
        rw [if_pos]
        rw [Int32.lt_iff_toInt_lt, nI_toInt' (by omega)]
        rw [show (nI 0 - 1).toInt = -1 by decide]
        omega
      · rw [show nI n - 1 = nI (n - 1) from nI_sub (b := 1) (by omega), if_pos (by rw [nI_lt' (by omega) (by omega)]; omega)]
/-- within two bounds or not -/
theorem inR_cases (x : Int32) (lo hi : Nat) (hlo : lo ≤ hi) (hhi : hi < 2147483648) : (∃ k : Nat, lo ≤ k ∧ k ≤ hi ∧ x = nI k ∧ inV x (nI lo) (nI hi) = 1) ∨ inV x (nI lo) (nI hi) = 0 := by
  unfold inV
  by_cases h0 : x < nI lo
  · exact Or.inr (if_pos h0)
  · rw [if_neg h0]
    have h1 : ¬ x < 0 := by
      intro h1
      rw [Int32.lt_iff_toInt_lt] at h0 h1
      rw [nI_toInt' (by omega)] at h0
      have : (0 : Int32).toInt = 0 := by decide
      omega
    obtain ⟨j, hj, rfl⟩ := nI_of h1
    rw [nI_lt' (by omega) (by omega)] at h0
    by_cases h : hi < j
    · exact Or.inr (if_pos (by rw [nI_lt' (by omega) (by omega)]; omega))
    · exact Or.inl ⟨j, by omega, by omega, rfl, by rw [if_neg (by rw [nI_lt' (by omega) (by omega)]; omega)]⟩
/-- within -1 .. n - 1 -/
theorem inN_cases (x : Int32) (n : Nat) (hn : n < 2147483648) : (x = -1 ∧ inV x (-1) (nI n - 1) = 1) ∨ (∃ k : Nat, k < n ∧ x = nI k ∧ inV x (-1) (nI n - 1) = 1) ∨ inV x (-1) (nI n - 1) = 0 := by
  have hm : (nI n - 1).toInt = (n : Int) - 1 := by
    by_cases hz : n = 0
    · subst hz; decide
    · rw [show nI n - 1 = nI (n - 1) from nI_sub (b := 1) (by omega), nI_toInt' (by omega)]
      omega
  have h9 : (-1 : Int32).toInt = -1 := by decide
  unfold inV
  by_cases h0 : x < -1
  · exact Or.inr (Or.inr (if_pos h0))
  · rw [if_neg h0]
    rw [Int32.lt_iff_toInt_lt, h9] at h0
    by_cases h1 : nI n - 1 < x
    · exact Or.inr (Or.inr (if_pos h1))
    · rw [if_neg h1]
      rw [Int32.lt_iff_toInt_lt, hm] at h1
      by_cases h2 : x = -1
      · exact Or.inl ⟨h2, rfl⟩
      · have h3 : ¬ x < 0 := by
          intro h3
          rw [Int32.lt_iff_toInt_lt] at h3
          have h4 : (0 : Int32).toInt = 0 := by decide
          exact h2 (Int32.toInt_inj.mp (by omega))
        obtain ⟨j, hj, rfl⟩ := nI_of h3
        rw [nI_toInt' (by omega)] at h1
        exact Or.inr (Or.inl ⟨j, by omega, rfl, rfl⟩)
/-- a bit -/
theorem X_isIn_eq (x k : Int32) : X_isIn x k = some (if ((x >>> (k &&& 31)) &&& 1) = 1 then 1 else 0) := by
  unfold X_isIn
  split <;> rfl
theorem M_isWith_eq (x k : Int32) : M_isWith x k = some (if ((x >>> (k &&& 31)) &&& 1) = 1 then 1 else 0) := by
  unfold M_isWith
  split <;> rfl
theorem nI_le_t {a b : Nat} (h : a ≤ b) (hb : b < 2147483648) : (nI a ≤ nI b) = True := eq_true ((nI_le' (by omega) hb).mpr h)
theorem nI_le_f {a b : Nat} (h : b < a) (ha : a < 2147483648) : (nI a ≤ nI b) = False := eq_false (fun q => by have := (nI_le' ha (by omega)).mp q; omega)
theorem nI_lt_t {a b : Nat} (h : a < b) (hb : b < 2147483648) : (nI a < nI b) = True := eq_true ((nI_lt' (by omega) hb).mpr h)
theorem nI_lt_f {a b : Nat} (h : b ≤ a) (ha : a < 2147483648) : (nI a < nI b) = False := eq_false (fun q => by have := (nI_lt' ha (by omega)).mp q; omega)
theorem nI_eq_t {a b : Nat} (h : a = b) : (nI a = nI b) = True := eq_true (by rw [h])
theorem nI_eq_f {a b : Nat} (h : a ≠ b) (ha : a < 2147483648) (hb : b < 2147483648) : (nI a = nI b) = False := eq_false (fun q => h ((nI_eq' ha hb).mp q))
theorem nI_neg_f {a k : Nat} (ha : a < 2147483648) (h0 : 0 < k) (hk : k < 2147483648) : (nI a = -(nI k)) = False := eq_false (fun q => (nI_ne_neg ha h0 hk).mp q)
theorem nI_addneg {a b : Nat} (h : b ≤ a) : nI a + -(nI b) = nI (a - b) := by rw [← Int32.sub_eq_add_neg, nI_sub h]
theorem wrL_lit {a : Nat → Int64} {n k : Nat} {v : Int64} (h : k < n) (hn : n < 2147483648) : wrL a n (nI k) v = some (vp_updL a k v) := wrL_I h hn
