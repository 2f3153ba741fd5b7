/-! THE PURE LAW: who can do what -/
theorem n10 : ¬ nI 1 = nI 0 := by decide
section CAN
variable {q : Nat → Nat} {cN cFor cRoad cFear cA row : Nat → Int32} {m mo : Nat} {f : Nat → Nat → Nat}
theorem person_c (hH : RH q cN cA) (x : Int32) : (∃ p : Nat, p < q 1 ∧ x = nI p ∧ X_isPerson cN x = some (nI 1) ∧ M_isPerson cA x = some (nI 1)) ∨ (X_isPerson cN x = some (nI 0) ∧ M_isPerson cA x = some (nI 0)) := by
  obtain ⟨p1, p2, p3⟩ := hH.P
  have hx : X_isPerson cN x = zk (inV x 0 (nI (q 1) - 1)) (some (inV x 0 (nI (q 1) - 1))) := by
    unfold X_isPerson
    rw [show rd cN 10 1 = some (nI (q 1)) by rw [show (1 : Int32) = nI 1 from rfl, rd_I (by omega) (by omega), p1], ob_some, X_in_eq, bd1_some]
  have hm : M_isPerson cA x = zk (inV x 0 (nI (q 1) - 1)) (some (inV x 0 (nI (q 1) - 1))) := by
    unfold M_isPerson
    rw [show rd cA 8762 1 = some (nI (q 1)) by rw [show (1 : Int32) = nI 1 from rfl, rd_I (by omega) (by omega), p2], ob_some, M_isIn_eq, bd1_some]
  rw [hx, hm]
  rcases in0_cases x (q 1) (by omega) with ⟨k, h1, h2, h3⟩ | h3
  · exact Or.inl ⟨k, h1, h2, by rw [h3]; rfl, by rw [h3]; rfl⟩
  · exact Or.inr ⟨by rw [h3]; rfl, by rw [h3]; rfl⟩
theorem person_p (hH : RH q cN cA) {p : Nat} (hp : p < q 1) : X_isPerson cN (nI p) = some (nI 1) ∧ M_isPerson cA (nI p) = some (nI 1) := by
  obtain ⟨p1, p2, p3⟩ := hH.P
  rcases person_c hH (nI p) with ⟨k, h1, h2, h3, h4⟩ | ⟨h3, h4⟩
  · exact ⟨h3, h4⟩
  · exfalso
    have hx : X_isPerson cN (nI p) = zk (inV (nI p) 0 (nI (q 1) - 1)) (some (inV (nI p) 0 (nI (q 1) - 1))) := by
      unfold X_isPerson
      rw [show rd cN 10 1 = some (nI (q 1)) by rw [show (1 : Int32) = nI 1 from rfl, rd_I (by omega) (by omega), p1], ob_some, X_in_eq, bd1_some]
    have hi : inV (nI p) 0 (nI (q 1) - 1) = 1 := by
      unfold inV
      rw [if_neg (nI_pos (by omega)), show nI (q 1) - 1 = nI (q 1 - 1) from nI_sub (b := 1) (by omega), if_neg (by rw [nI_lt' (by omega) (by omega)]; omega)]
    rw [hx, hi] at h3
    exact absurd (Option.some.inj h3) (by decide)
theorem land_c (hH : RH q cN cA) (x : Int32) : (∃ l : Nat, l < q 0 ∧ x = nI l ∧ X_isLand cN x = some (nI 1) ∧ M_isLand cA x = some (nI 1)) ∨ (X_isLand cN x = some (nI 0) ∧ M_isLand cA x = some (nI 0)) := by
  obtain ⟨p1, p2, p3⟩ := hH.L
  have hx : X_isLand cN x = zk (inV x 0 (nI (q 0) - 1)) (some (inV x 0 (nI (q 0) - 1))) := by
    unfold X_isLand
    rw [show rd cN 10 0 = some (nI (q 0)) by rw [show (0 : Int32) = nI 0 from rfl, rd_I (by omega) (by omega), p1], ob_some, X_in_eq, bd1_some]
  have hm : M_isLand cA x = zk (inV x 0 (nI (q 0) - 1)) (some (inV x 0 (nI (q 0) - 1))) := by
    unfold M_isLand
    rw [show rd cA 8762 0 = some (nI (q 0)) by rw [show (0 : Int32) = nI 0 from rfl, rd_I (by omega) (by omega), p2], ob_some, M_isIn_eq, bd1_some]
  rw [hx, hm]
  rcases in0_cases x (q 0) (by omega) with ⟨k, h1, h2, h3⟩ | h3
  · exact Or.inl ⟨k, h1, h2, by rw [h3]; rfl, by rw [h3]; rfl⟩
  · exact Or.inr ⟨by rw [h3]; rfl, by rw [h3]; rfl⟩
theorem alive_p (hH : RH q cN cA) (hX : RowX m f row) (hM : RowM m f cA) (hC : RowC (q 0) (q 1) mo f) {p : Nat} (hp : p < q 1) : X_isAlive cN row (nI p) = some (nI (if f p 6 = 3 then 0 else 1)) ∧ M_isAlive cA (nI p) = some (nI (if f p 6 = 3 then 0 else 1)) := by
  obtain ⟨p1, p2, p3⟩ := hH.P
  obtain ⟨h3, h4⟩ := person_p hH hp
  have hb := (hC.1 p hp).2.2.2.2.2.2
  unfold X_isAlive M_isAlive
  simp only [litI]
  rw [h3, h4, bd1_some, bd1_some, if_neg n10, if_neg n10, X_at_X hX (by omega) (by omega), M_get_M hM (by omega) (by omega), bd1_some]
  by_cases e : f p 6 = 3
  · rw [if_pos (show nI (f p 6) = nI 3 by rw [e]), if_pos e]
    exact ⟨rfl, rfl⟩
  · have e' : ¬ nI (f p 6) = nI 3 := by rw [nI_eq' (by omega) (by omega)]; exact e
    rw [if_neg e', if_neg e]
    exact ⟨rfl, rfl⟩
theorem wolf_p (hH : RH q cN cA) (hX : RowX m f row) (hM : RowM m f cA) (hC : RowC (q 0) (q 1) mo f) {p : Nat} (hp : p < q 1) : X_isWolf cN row (nI p) = some (nI (if f p 6 = 1 then 1 else 0)) ∧ M_isOutlaw cA (nI p) = some (nI (if f p 6 = 1 then 1 else 0)) := by
  obtain ⟨p1, p2, p3⟩ := hH.P
  obtain ⟨h3, h4⟩ := person_p hH hp
  have hb := (hC.1 p hp).2.2.2.2.2.2
  unfold X_isWolf M_isOutlaw
  simp only [litI]
  rw [h3, h4, bd1_some, bd1_some, if_neg n10, if_neg n10, X_at_X hX (by omega) (by omega), M_get_M hM (by omega) (by omega), bd1_some]
  by_cases e : f p 6 = 1
  · rw [if_pos (show nI (f p 6) = nI 1 by rw [e]), if_pos e]
    exact ⟨rfl, rfl⟩
  · have e' : ¬ nI (f p 6) = nI 1 := by rw [nI_eq' (by omega) (by omega)]; exact e
    rw [if_neg e', if_neg e]
    exact ⟨rfl, rfl⟩
theorem alive_c (hH : RH q cN cA) (hX : RowX m f row) (hM : RowM m f cA) (hC : RowC (q 0) (q 1) mo f) (x : Int32) : (∃ p : Nat, p < q 1 ∧ x = nI p ∧ f p 6 ≠ 3 ∧ X_isAlive cN row x = some (nI 1) ∧ M_isAlive cA x = some (nI 1)) ∨ (X_isAlive cN row x = some (nI 0) ∧ M_isAlive cA x = some (nI 0)) := by
  rcases person_c hH x with ⟨p, h1, rfl, h3, h4⟩ | ⟨h3, h4⟩
  · obtain ⟨a1, a2⟩ := alive_p hH hX hM hC h1
    by_cases e : f p 6 = 3
    · rw [if_pos e] at a1 a2
      exact Or.inr ⟨a1, a2⟩
    · rw [if_neg e] at a1 a2
      exact Or.inl ⟨p, h1, rfl, e, a1, a2⟩
  · refine Or.inr ⟨?_, ?_⟩
    · unfold X_isAlive
      simp only [litI]
      rw [h3, bd1_some, if_pos rfl]
    · unfold M_isAlive
      simp only [litI]
      rw [h4, bd1_some, if_pos rfl]
theorem wolf_c (hH : RH q cN cA) (hX : RowX m f row) (hM : RowM m f cA) (hC : RowC (q 0) (q 1) mo f) (x : Int32) : (∃ p : Nat, p < q 1 ∧ x = nI p ∧ f p 6 = 1 ∧ X_isWolf cN row x = some (nI 1) ∧ M_isOutlaw cA x = some (nI 1)) ∨ (X_isWolf cN row x = some (nI 0) ∧ M_isOutlaw cA x = some (nI 0)) := by
  rcases person_c hH x with ⟨p, h1, rfl, h3, h4⟩ | ⟨h3, h4⟩
  · obtain ⟨a1, a2⟩ := wolf_p hH hX hM hC h1
    by_cases e : f p 6 = 1
    · rw [if_pos e] at a1 a2
      exact Or.inl ⟨p, h1, rfl, e, a1, a2⟩
    · rw [if_neg e] at a1 a2
      exact Or.inr ⟨a1, a2⟩
  · refine Or.inr ⟨?_, ?_⟩
    · unfold X_isWolf
      simp only [litI]
      rw [h3, bd1_some, if_pos rfl]
    · unfold M_isOutlaw
      simp only [litI]
      rw [h4, bd1_some, if_pos rfl]
theorem canCall_c (hH : RH q cN cA) (hX : RowX m f row) (hM : RowM m f cA) (hC : RowC (q 0) (q 1) mo f) (x y : Int32) : (∃ p l : Nat, p < q 1 ∧ l < q 0 ∧ x = nI p ∧ y = nI l ∧ f p 6 ≠ 3 ∧ f p 6 ≠ 1 ∧ X_canCall cN row x y = some (nI 1) ∧ M_canCall cA x y = some (nI 1)) ∨ (X_canCall cN row x y = some (nI 0) ∧ M_canCall cA x y = some (nI 0)) := by
  unfold X_canCall M_canCall
  simp only [litI]
  rcases alive_c hH hX hM hC x with ⟨p, h1, rfl, h2, h3, h4⟩ | ⟨h3, h4⟩
  · obtain ⟨w1, w2⟩ := wolf_p hH hX hM hC h1
    obtain ⟨p1, p2, p3⟩ := hH.P
    have hb := (hC.1 p h1).2.2.2.2.2.2
    rw [h3, h4, bd1_some, bd1_some, if_neg n10, if_neg n10, w1, bd1_some, M_get_M hM (by omega) (by omega), bd1_some]
    by_cases e : f p 6 = 1
    · rw [if_pos e, if_neg n10, if_pos (by rw [e])]
      exact Or.inr ⟨rfl, rfl⟩
    · rw [if_neg e, if_pos rfl, if_neg (by rw [nI_eq' (by omega) (by omega)]; exact e)]
      rcases land_c hH y with ⟨l, g1, rfl, g3, g4⟩ | ⟨g3, g4⟩
      · rw [g3, g4, bd1_some, if_neg n10]
        exact Or.inl ⟨p, l, h1, g1, rfl, rfl, h2, e, rfl, rfl⟩
      · rw [g3, g4, bd1_some, if_pos rfl]
        exact Or.inr ⟨rfl, rfl⟩
  · rw [h3, h4, bd1_some, bd1_some, if_pos rfl, if_pos rfl]
    exact Or.inr ⟨rfl, rfl⟩
theorem bit01 (x k : Int32) : (if ((x >>> (k &&& 31)) &&& 1) = 1 then (1 : Int32) else 0) = nI 0 ∨ (if ((x >>> (k &&& 31)) &&& 1) = 1 then (1 : Int32) else 0) = nI 1 := by
  split
  · exact Or.inr rfl
  · exact Or.inl rfl
theorem canMove_c (hE : EnvR q cN cFor cRoad cFear cA) (hX : RowX m f row) (hM : RowM m f cA) (hC : RowC (q 0) (q 1) mo f) (x y : Int32) : (∃ p l : Nat, p < q 1 ∧ l < q 0 ∧ x = nI p ∧ y = nI l ∧ X_canMove cN row cRoad x y = some (nI 1) ∧ M_canMove cA x y = some (nI 1)) ∨ (X_canMove cN row cRoad x y = some (nI 0) ∧ M_canMove cA x y = some (nI 0)) := by
  have hH := hE.1
  unfold X_canMove M_canMove
  simp only [litI]
  rcases alive_c hH hX hM hC x with ⟨p, h1, rfl, h2, h3, h4⟩ | ⟨h3, h4⟩
  · obtain ⟨p1, p2, p3⟩ := hH.P
    obtain ⟨l1, l2, l3⟩ := hH.L
    have hb := (hC.1 p h1).1
    rw [h3, h4, bd1_some, bd1_some, if_neg n10, if_neg n10]
    rcases land_c hH y with ⟨l, g1, rfl, g3, g4⟩ | ⟨g3, g4⟩
    · rw [g3, g4, bd1_some, bd1_some, if_neg n10, if_neg n10, X_at_X hX (by omega) (by omega), bd1_some, M_get_M hM (by omega) (by omega), bd1_some, nI_add, rd_I (by omega) (by omega), ob_some, (hE.2.1 _ hb).2.2.1]
      have hr : X_isRoad cRoad (nI (f p 0)) (nI l) = some (if ((cRoad (f p 0) >>> (nI l &&& 31)) &&& 1) = 1 then (1 : Int32) else 0) := by
        unfold X_isRoad
        rw [rd_I (by omega) (by omega), ob_some, X_isIn_eq, bd1_some]
        split <;> rfl
      rw [hr, M_isWith_eq, bd1_some]
      rcases bit01 (cRoad (f p 0)) (nI l) with e | e
      · rw [e, if_pos rfl]
        exact Or.inr ⟨rfl, rfl⟩
      · rw [e, if_neg n10]
        exact Or.inl ⟨p, l, h1, g1, rfl, rfl, rfl, rfl⟩
    · rw [g3, g4, bd1_some, bd1_some, if_pos rfl, if_pos rfl]
      exact Or.inr ⟨rfl, rfl⟩
  · rw [h3, h4, bd1_some, bd1_some, if_pos rfl, if_pos rfl]
    exact Or.inr ⟨rfl, rfl⟩
theorem doMeet_c (hH : RH q cN cA) (hX : RowX m f row) (hM : RowM m f cA) (hC : RowC (q 0) (q 1) mo f) (x y : Int32) : (∃ p k : Nat, p < q 1 ∧ k < q 1 ∧ x = nI p ∧ y = nI k ∧ p ≠ k ∧ f p 6 = 1 ∧ f k 6 ≠ 3 ∧ X_doMeet cN row x y = some (nI 1) ∧ M_areBeside cA x y = some (nI 1)) ∨ (X_doMeet cN row x y = some (nI 0) ∧ M_areBeside cA x y = some (nI 0)) := by
  obtain ⟨p1, p2, p3⟩ := hH.P
  obtain ⟨l1, l2, l3⟩ := hH.L
  unfold X_doMeet M_areBeside
  simp only [litI]
  rcases wolf_c hH hX hM hC x with ⟨p, h1, rfl, h2, h3, h4⟩ | ⟨h3, h4⟩
  · rw [h3, h4, bd1_some, bd1_some, if_neg n10, if_neg n10]
    rcases alive_c hH hX hM hC y with ⟨k, g1, rfl, g2, g3, g4⟩ | ⟨g3, g4⟩
    · have b1 := (hC.1 p h1).1
      have b2 := (hC.1 k g1).1
      rw [g3, g4, bd1_some, bd1_some, if_neg n10, if_neg n10]
      by_cases e : p = k
      · rw [if_pos (by rw [e]), if_pos (by rw [e])]
        exact Or.inr ⟨rfl, rfl⟩
      · have e' : ¬ nI p = nI k := by rw [nI_eq' (by omega) (by omega)]; exact e
        rw [if_neg e', if_neg e', X_at_X hX (by omega) (by omega), bd1_some, X_at_X hX (by omega) (by omega), bd1_some, M_get_M hM (by omega) (by omega), bd1_some, M_get_M hM (by omega) (by omega), bd1_some]
        by_cases e2 : nI (f p 0) = nI (f k 0)
        · rw [if_pos e2]
          exact Or.inl ⟨p, k, h1, g1, rfl, rfl, e, h2, g2, rfl, rfl⟩
        · rw [if_neg e2]
          exact Or.inr ⟨rfl, rfl⟩
    · rw [g3, g4, bd1_some, bd1_some, if_pos rfl, if_pos rfl]
      exact Or.inr ⟨rfl, rfl⟩
  · rw [h3, h4, bd1_some, bd1_some, if_pos rfl, if_pos rfl]
    exact Or.inr ⟨rfl, rfl⟩
end CAN
