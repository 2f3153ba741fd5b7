/-! THE PURE LAW: m's summedUp runs the code -/
def Bd (s : List Int64) : Prop := ∀ x ∈ s, -1000000 ≤ x.toInt ∧ x.toInt ≤ 1000000
/-- what m's arrays have of the names v -/
def NmA (P : Nat) (cA cNm v : Nat → Int32) : Prop := P ≤ 6 ∧ cA 1 = nI P ∧ (∀ k : Nat, k < 10 → cNm k = v k) ∧ (∀ p : Nat, p < 6 → cA (14 + 11 * p + 7) = v (10 + p) ∧ (P ≤ p → v (10 + p) = 0)) ∧ NameOK v
theorem NameOK.l {v : Nat → Int32} (h : NameOK v) {k : Nat} (hk : k < 16) : -1000000 ≤ ((v k).toInt64).toInt ∧ ((v k).toInt64).toInt ≤ 1000000 := by
  obtain ⟨n, hn, e⟩ := h k hk
  rw [e, Int32.toInt_toInt64, nI_toInt' (by omega)]
  omega
theorem fear_E {P : Nat} {cA cNm v : Nat → Int32} (h : NmA P cA cNm v) (x : Int64) : M_fearOf cA x = some (if lg_cmp x 0 < 0 then 0 else if lg_cmp x 6 < 0 then (v ((10 : Int32) + x.toInt32).toNatClampNeg).toInt64 else 0) ∧ -1000000 ≤ (if lg_cmp x 0 < 0 then 0 else if lg_cmp x 6 < 0 then (v ((10 : Int32) + x.toInt32).toNatClampNeg).toInt64 else 0).toInt ∧ (if lg_cmp x 0 < 0 then 0 else if lg_cmp x 6 < 0 then (v ((10 : Int32) + x.toInt32).toNatClampNeg).toInt64 else 0).toInt ≤ 1000000 := by
  obtain ⟨hP, h1, -, hf, hv⟩ := h
  have h6 : (6 : Int64).toInt = 6 := by decide
  unfold M_fearOf
  by_cases a : lg_cmp x 0 < 0
  · rw [if_pos a, if_pos a]
    exact ⟨rfl, by decide⟩
  · rw [if_neg a, if_neg a]
    rw [cmp_lt, l0] at a
    rw [show (1 : Int32) = nI 1 from rfl, rd_I (by omega) (by omega), h1, ob_some]
    have hPl : (nI P).toInt64.toInt = (P : Int) := by rw [Int32.toInt_toInt64, nI_toInt' (by omega)]
    by_cases c : x.toInt < 6
    · rw [if_pos (cmp_lt.mpr (by rw [h6]; exact c))]
      obtain ⟨p, hp, ex, ex2⟩ : ∃ p : Nat, p < 6 ∧ x.toInt = p ∧ x.toInt32 = nI p := by
        refine ⟨x.toInt.toNat, by omega, by omega, Int32.toInt_inj.mp ?_⟩
        rw [nI_toInt' (by omega), Int64.toInt_toInt32]
        rw [Int.bmod_eq_of_le (by omega) (by omega)]
        omega
      rw [ex2, show (10 : Int32) + nI p = nI (10 + p) from nI_add 10 p, nI_clamp' (by omega)]
      refine ⟨?_, hv.l (by omega)⟩
      by_cases d : P ≤ p
      · rw [if_pos (cmp_ge.mpr (by rw [hPl]; omega)), (hf p hp).2 d]
        rfl
      · rw [if_neg (fun q => d (by have := cmp_ge.mp q; rw [hPl] at this; omega)), show (7 : Int32) = nI 7 from rfl, M_get_T hp (by omega), (hf p hp).1]
        rfl
    · rw [if_pos (cmp_ge.mpr (by rw [hPl]; omega)), if_neg (fun q => c (by have := cmp_lt.mp q; rw [h6] at this; exact this))]
      exact ⟨rfl, by decide⟩
theorem CodeAt.tail {cTx : Nat → Int32} {base lo : Nat} {c : Nat × Int32} {cs : CodeL} (h : CodeAt cTx base lo (c :: cs)) : CodeAt cTx base (lo + 1) cs := fun i x hx => by
  have := h (i + 1) x hx
  rw [show lo + 1 + i = lo + (i + 1) by omega]
  exact this
theorem twoC_bd (o : Nat) (x y : Int64) : -1000000 ≤ (twoC o x y).toInt ∧ (twoC o x y).toInt ≤ 1000000 := by
  unfold twoC
  by_cases h1 : o = 6
  · rw [if_pos h1]; exact clampT_bd _
  · rw [if_neg h1]
    by_cases h2 : o = 7
    · rw [if_pos h2]; exact clampT_bd _
    · rw [if_neg h2]
      by_cases h3 : o = 8
      · rw [if_pos h3]; exact clampT_bd _
      · rw [if_neg h3]
        by_cases h4 : lg_cmp y 0 = 0
        · rw [if_pos h4, l0]; omega
        · rw [if_neg h4]; exact clampT_bd _
set_option maxHeartbeats 8000000 in
theorem run_L {φ P : Nat} (hφ : 41 < φ) {cA cTx cNm v : Nat → Int32} (hNm : NmA P cA cNm v) {x1 base hi : Nat} (hx1 : x1 + 2 < 2916) (hhi : cTx (x1 + 2) = nI hi) (hb9 : base + 2 * hi + 1 < 2916) : ∀ (code : CodeL) (lo fu : Nat) (s : List Int64) (b : List Int32) (s' : List Int64) (b' : List Int32) (c7 : Nat → Int64) (c8 : Nat → Int32), CodeAt cTx base lo code → lo + code.length = hi → runC v code (s, b) = some (s', b') → StkR c7 s → StkR c8 b → B01 b → Bd s → s.length + b.length + code.length ≤ 320 → code.length < fu → ∃ (c7' : Nat → Int64) (c8' : Nat → Int32), M_summedUp_L38 φ (nI x1) (nI base) cA cTx cNm fu (nI s.length) (nI b.length) (nI lo) c7 c8 = some (c7', c8') ∧ StkR c7' s' ∧ StkR c8' b' := by
  intro code
  induction code with
  | nil =>
    intro lo fu s b s' b' c7 c8 hC hlo hr h7 h8 hB hD hln hfu
    obtain ⟨fu, rfl⟩ : ∃ x, fu = x + 1 := ⟨fu - 1, by omega⟩
    have e : lo = hi := by simpa using hlo
    have hr2 : (s, b) = (s', b') := Option.some.inj hr
    cases hr2
    refine ⟨c7, c8, ?_, h7, h8⟩
    rw [M_summedUp_L38, show (2 : Int32) = nI 2 from rfl, nI_add, rd_I (by omega) (by omega), hhi, ob_some, if_pos ((nI_le' (by omega) (by omega)).mpr (by omega))]
  | cons c cs ih =>
    intro lo fu s b s' b' c7 c8 hC hlo hr0 h7 h8 hB hD hln hfu
    obtain ⟨fu, rfl⟩ : ∃ x, fu = x + 1 := ⟨fu - 1, by omega⟩
    obtain ⟨⟨s1, b1⟩, hst, hr⟩ := Option.bind_eq_some_iff.mp hr0
    clear hr0
    obtain ⟨ho, e18, e19⟩ := hC 0 c rfl
    rw [Nat.add_zero] at e18 e19
    have hC2 := hC.tail
    replace hln : s.length + b.length + (cs.length + 1) ≤ 320 := hln
    replace hlo : lo + (cs.length + 1) = hi := hlo
    replace hfu : cs.length + 1 < fu + 1 := hfu
    have hlo2 : lo + 1 + cs.length = hi := by omega
    have hIH := fun s1 b1 c7 c8 => ih (lo + 1) fu s1 b1 s' b' c7 c8 hC2 hlo2
    obtain ⟨o, n⟩ := c
    replace ho : o ≤ 22 := ho
    replace e18 : cTx (base + 2 * lo) = nI o := e18
    replace e19 : cTx (base + 2 * lo + 1) = n := e19
    clear ih hC hC2
    have hr1 : rd cTx 2916 (nI x1 + 2) = some (nI hi) := by rw [show (2 : Int32) = nI 2 from rfl, nI_add, rd_I (by omega) (by omega), hhi]
    have hcd : ¬ nI hi ≤ nI lo := fun q => by have := (nI_le' (by omega) (by omega)).mp q; omega
    have hr18 : rd cTx 2916 (nI base + 2 * nI lo) = some (nI o) := by rw [show (2 : Int32) = nI 2 from rfl, nI_mul, nI_add, rd_I (by omega) (by omega), e18]
    have hr19 : rd cTx 2916 (nI base + 2 * nI lo + 1) = some n := by rw [show (2 : Int32) = nI 2 from rfl, nI_mul, nI_add, show (1 : Int32) = nI 1 from rfl, nI_add, rd_I (by omega) (by omega), e19]
    unfold stepC at hst
    dsimp only at hst
    by_cases o0 : o = 0
    · subst o0
      rw [if_pos rfl] at hst
      split at hst
      · cases hst
      · next hn =>
        obtain ⟨h91, h92⟩ := Prod.mk.inj (Option.some.inj hst)
        subst h91
        subst h92
        clear hst
        obtain ⟨j, hj, rfl⟩ : ∃ j : Nat, j < 10000 ∧ n = nI j := by
          obtain ⟨j, hj, rfl⟩ := nI_of (x := n) (fun q => hn (Or.inl q))
          exact ⟨j, by rw [nI_clamp hj] at hn; omega, rfl⟩
        obtain ⟨c7', c8', h1, h2, h3⟩ := hIH _ _ (vp_updL c7 s.length (nI j).toInt64) c8 hr h7.push h8 hB (fun x hx => by
          rcases List.mem_cons.mp hx with rfl | hx
          · rw [Int32.toInt_toInt64, nI_toInt' (by omega)]; omega
          · exact hD x hx) (by rw [List.length_cons]; omega) (by omega)
        refine ⟨c7', c8', ?_, h2, h3⟩
        simp only [List.length_cons] at h1
        rw [M_summedUp_L38, hr1, ob_some, if_neg hcd, hr18, ob_some, hr19, ob_some]
        simp (maxSteps := 1000000) (disch := omega) only [litI, nI_add, nI_mul, nI_sub, nI_addneg, nI_eq_t, nI_eq_f, nI_le_t, nI_le_f, nI_lt_t, nI_lt_f, nI_neg_f, rd_I, wr_I, wrL_I, wrZ_I, inb_I, rdq_I, bd1_some, bd2_some, bd3_some, bd4_some, bd5_some, lt_def, jn_def, ob_some, zk_0, zk_1, nz_I, ↓reduceIte, Nat.add_zero, h1]
    · rw [if_neg o0] at hst
      by_cases o1 : o = 1
      · subst o1
        rw [if_pos rfl] at hst
        split at hst
        · cases hst
        · next hn =>
          obtain ⟨h91, h92⟩ := Prod.mk.inj (Option.some.inj hst)
          subst h91
          subst h92
          clear hst
          obtain ⟨j, hj, rfl⟩ : ∃ j : Nat, j < 10 ∧ n = nI j := by
            obtain ⟨j, hj, rfl⟩ := nI_of (x := n) (fun q => hn (Or.inl q))
            exact ⟨j, by rw [nI_clamp hj] at hn; omega, rfl⟩
          rw [nI_clamp' (by omega)] at hr
          obtain ⟨c7', c8', h1, h2, h3⟩ := hIH _ _ (vp_updL c7 s.length (v j).toInt64) c8 hr h7.push h8 hB (fun x hx => by
            rcases List.mem_cons.mp hx with rfl | hx
            · exact hNm.2.2.2.2.l (by omega)
            · exact hD x hx) (by rw [List.length_cons]; omega) (by omega)
          refine ⟨c7', c8', ?_, h2, h3⟩
          simp only [List.length_cons] at h1
          have hnm := hNm.2.2.1 j hj
          rw [M_summedUp_L38, hr1, ob_some, if_neg hcd, hr18, ob_some, hr19, ob_some]
          simp (maxSteps := 1000000) (disch := omega) only [litI, nI_add, nI_mul, nI_sub, nI_addneg, nI_eq_t, nI_eq_f, nI_le_t, nI_le_f, nI_lt_t, nI_lt_f, nI_neg_f, rd_I, wr_I, wrL_I, wrZ_I, inb_I, rdq_I, bd1_some, bd2_some, bd3_some, bd4_some, bd5_some, lt_def, jn_def, ob_some, zk_0, zk_1, nz_I, ↓reduceIte, Nat.add_zero, hnm, h1]
      · rw [if_neg o1] at hst
        by_cases o2 : o = 2
        · subst o2
          rw [if_pos rfl] at hst
          cases s with
          | nil => cases hst
          | cons x s =>
            obtain ⟨h91, h92⟩ := Prod.mk.inj (Option.some.inj hst)
            subst h91
            subst h92
            clear hst
            obtain ⟨r, hr20, er, em⟩ := ones_E hφ x (hD x List.mem_cons_self)
            rw [er] at hr
            obtain ⟨c7', c8', h1, h2, h3⟩ := hIH _ _ (vp_updL c7 s.length (lN r)) c8 hr h7.2.push h8 hB (fun y hy => by
              rcases List.mem_cons.mp hy with rfl | hy
              · rw [lN_toInt (by omega)]; omega
              · exact hD y (List.mem_cons_of_mem _ hy)) (by rw [List.length_cons] at hln ⊢; omega) (by omega)
            refine ⟨c7', c8', ?_, h2, h3⟩
            have hx9 : c7 s.length = x := h7.1
            have hp9 : M_prefixed φ cA (nI 2) x = some (lN r) := by
              unfold M_prefixed
              rw [if_neg (by decide), if_pos (show nI 2 = 2 from rfl)]
              split
              · next q => rw [if_pos q] at em; rw [em]; exact congrArg some (toInt64_lN (by omega))
              · next q => rw [if_neg q] at em; rw [em]; exact congrArg some (toInt64_lN (by omega))
            simp only [List.length_cons] at h1 hln ⊢
            rw [M_summedUp_L38, hr1, ob_some, if_neg hcd, hr18, ob_some, hr19, ob_some]
            simp (maxSteps := 1000000) (disch := omega) only [litI, nI_add, nI_mul, nI_sub, nI_addneg, nI_eq_t, nI_eq_f, nI_le_t, nI_le_f, nI_lt_t, nI_lt_f, nI_neg_f, rd_I, wr_I, wrL_I, wrZ_I, inb_I, rdq_I, bd1_some, bd2_some, bd3_some, bd4_some, bd5_some, lt_def, jn_def, ob_some, zk_0, zk_1, nz_I, ↓reduceIte, Nat.add_zero, Nat.add_sub_cancel, hx9, hp9, h1]
        · rw [if_neg o2] at hst
          by_cases o3 : o = 3
          · subst o3
            rw [if_pos rfl] at hst
            cases s with
            | nil => cases hst
            | cons x s =>
              obtain ⟨h91, h92⟩ := Prod.mk.inj (Option.some.inj hst)
              subst h91
              subst h92
              clear hst
              obtain ⟨ef, ef2⟩ := fear_E hNm x
              generalize (if lg_cmp x 0 < 0 then 0 else if lg_cmp x 6 < 0 then (v ((10 : Int32) + x.toInt32).toNatClampNeg).toInt64 else 0) = y at hr ef ef2
              obtain ⟨c7', c8', h1, h2, h3⟩ := hIH _ _ (vp_updL c7 s.length y) c8 hr h7.2.push h8 hB (fun y hy => by
                rcases List.mem_cons.mp hy with rfl | hy
                · exact ef2
                · exact hD y (List.mem_cons_of_mem _ hy)) (by rw [List.length_cons] at hln ⊢; omega) (by omega)
              refine ⟨c7', c8', ?_, h2, h3⟩
              have hx9 : c7 s.length = x := h7.1
              have hp9 : M_prefixed φ cA (nI 3) x = some y := by
                unfold M_prefixed
                rw [if_neg (by decide), if_neg (by decide), ef]
                rfl
              simp only [List.length_cons] at h1 hln ⊢
              rw [M_summedUp_L38, hr1, ob_some, if_neg hcd, hr18, ob_some, hr19, ob_some]
              simp (maxSteps := 1000000) (disch := omega) only [litI, nI_add, nI_mul, nI_sub, nI_addneg, nI_eq_t, nI_eq_f, nI_le_t, nI_le_f, nI_lt_t, nI_lt_f, nI_neg_f, rd_I, wr_I, wrL_I, wrZ_I, inb_I, rdq_I, bd1_some, bd2_some, bd3_some, bd4_some, bd5_some, lt_def, jn_def, ob_some, zk_0, zk_1, nz_I, ↓reduceIte, Nat.add_zero, Nat.add_sub_cancel, hx9, hp9, h1]
          · rw [if_neg o3] at hst
            by_cases o4 : o = 4
            · subst o4
              rw [if_pos rfl] at hst
              cases s with
              | nil => cases hst
              | cons y s =>
                cases s with
                | nil => cases hst
                | cons x s =>
                  cases b with
                  | nil => cases hst
                  | cons t b =>
                    obtain ⟨h91, h92⟩ := Prod.mk.inj (Option.some.inj hst)
                    subst h91
                    subst h92
                    clear hst
                    have hx9 : c7 s.length = x := h7.2.1
                    have hy9 : c7 (s.length + 1) = y := h7.1
                    have ht9 : c8 b.length = t := h8.1
                    simp only [List.length_cons] at hln ⊢
                    by_cases q : t = 0
                    · rw [if_pos q] at hr
                      obtain ⟨c7', c8', h1, h2, h3⟩ := hIH _ _ (vp_updL c7 s.length y) c8 hr h7.2.2.push h8.2 (fun z hz => hB z (List.mem_cons_of_mem _ hz)) (fun z hz => by
                        rcases List.mem_cons.mp hz with rfl | hz
                        · exact hD _ List.mem_cons_self
                        · exact hD z (List.mem_cons_of_mem _ (List.mem_cons_of_mem _ hz))) (by rw [List.length_cons]; omega) (by omega)
                      refine ⟨c7', c8', ?_, h2, h3⟩
                      simp only [List.length_cons] at h1
                      have q2 : t = nI 0 := q
                      rw [M_summedUp_L38, hr1, ob_some, if_neg hcd, hr18, ob_some, hr19, ob_some]
                      simp (maxSteps := 1000000) (disch := omega) only [litI, nI_add, nI_mul, nI_sub, nI_addneg, nI_eq_t, nI_eq_f, nI_le_t, nI_le_f, nI_lt_t, nI_lt_f, nI_neg_f, rd_I, wr_I, wrL_I, wrZ_I, inb_I, rdq_I, bd1_some, bd2_some, bd3_some, bd4_some, bd5_some, lt_def, jn_def, ob_some, zk_0, zk_1, nz_I, ↓reduceIte, Nat.add_zero, Nat.add_sub_cancel, hx9, hy9, ht9, q2, h1]
                    · rw [if_neg q] at hr
                      obtain ⟨c7', c8', h1, h2, h3⟩ := hIH _ _ c7 c8 hr h7.2 h8.2 (fun z hz => hB z (List.mem_cons_of_mem _ hz)) (fun z hz => hD z (List.mem_cons_of_mem _ hz)) (by rw [List.length_cons]; omega) (by omega)
                      refine ⟨c7', c8', ?_, h2, h3⟩
                      simp only [List.length_cons] at h1
                      have q2 : (t = nI 0) = False := eq_false q
                      rw [M_summedUp_L38, hr1, ob_some, if_neg hcd, hr18, ob_some, hr19, ob_some]
                      simp (maxSteps := 1000000) (disch := omega) only [litI, nI_add, nI_mul, nI_sub, nI_addneg, nI_eq_t, nI_eq_f, nI_le_t, nI_le_f, nI_lt_t, nI_lt_f, nI_neg_f, rd_I, wr_I, wrL_I, wrZ_I, inb_I, rdq_I, bd1_some, bd2_some, bd3_some, bd4_some, bd5_some, lt_def, jn_def, ob_some, zk_0, zk_1, nz_I, ↓reduceIte, Nat.add_zero, Nat.add_sub_cancel, hx9, hy9, ht9, q2, h1]
            · rw [if_neg o4] at hst
              by_cases o5 : o = 5
              · subst o5
                rw [if_pos rfl] at hst
                cases s with
                | nil => cases hst
                | cons x s =>
                  obtain ⟨h91, h92⟩ := Prod.mk.inj (Option.some.inj hst)
                  subst h91
                  subst h92
                  clear hst
                  have hxb := hD x List.mem_cons_self
                  obtain ⟨c7', c8', h1, h2, h3⟩ := hIH _ _ (vp_updL c7 s.length (-x)) c8 hr h7.2.push h8 hB (fun y hy => by
                    rcases List.mem_cons.mp hy with rfl | hy
                    · rw [Int64.toInt_neg, Int.bmod_eq_of_le (by omega) (by omega)]; omega
                    · exact hD y (List.mem_cons_of_mem _ hy)) (by rw [List.length_cons] at hln ⊢; omega) (by omega)
                  refine ⟨c7', c8', ?_, h2, h3⟩
                  have hx9 : c7 s.length = x := h7.1
                  have hp9 : M_prefixed φ cA (nI 5) x = some (-x) := by
                    unfold M_prefixed
                    rw [if_pos (show nI 5 = 5 from rfl)]
                  simp only [List.length_cons] at h1 hln ⊢
                  rw [M_summedUp_L38, hr1, ob_some, if_neg hcd, hr18, ob_some, hr19, ob_some]
                  simp (maxSteps := 1000000) (disch := omega) only [litI, nI_add, nI_mul, nI_sub, nI_addneg, nI_eq_t, nI_eq_f, nI_le_t, nI_le_f, nI_lt_t, nI_lt_f, nI_neg_f, rd_I, wr_I, wrL_I, wrZ_I, inb_I, rdq_I, bd1_some, bd2_some, bd3_some, bd4_some, bd5_some, lt_def, jn_def, ob_some, zk_0, zk_1, nz_I, ↓reduceIte, Nat.add_zero, Nat.add_sub_cancel, hx9, hp9, h1]
              · rw [if_neg o5] at hst
                by_cases o6 : o < 10
                · rw [if_pos o6] at hst
                  cases s with
                  | nil => cases hst
                  | cons y s =>
                    cases s with
                    | nil => cases hst
                    | cons x s =>
                      obtain ⟨h91, h92⟩ := Prod.mk.inj (Option.some.inj hst)
                      subst h91
                      subst h92
                      clear hst
                      have hx9 : c7 s.length = x := h7.2.1
                      have hy9 : c7 (s.length + 1) = y := h7.1
                      have ht9 := two_E (o := o) x y (by omega) (by omega)
                      simp only [List.length_cons] at hln ⊢
                      obtain ⟨c7', c8', h1, h2, h3⟩ := hIH _ _ (vp_updL c7 s.length (twoC o x y)) c8 hr h7.2.2.push h8 hB (fun z hz => by
                        rcases List.mem_cons.mp hz with rfl | hz
                        · exact twoC_bd _ _ _
                        · exact hD z (List.mem_cons_of_mem _ (List.mem_cons_of_mem _ hz))) (by rw [List.length_cons]; omega) (by omega)
                      refine ⟨c7', c8', ?_, h2, h3⟩
                      simp only [List.length_cons] at h1
                      rw [M_summedUp_L38, hr1, ob_some, if_neg hcd, hr18, ob_some, hr19, ob_some]
                      simp (maxSteps := 1000000) (disch := omega) only [litI, nI_add, nI_mul, nI_sub, nI_addneg, nI_eq_t, nI_eq_f, nI_le_t, nI_le_f, nI_lt_t, nI_lt_f, nI_neg_f, rd_I, wr_I, wrL_I, wrZ_I, inb_I, rdq_I, bd1_some, bd2_some, bd3_some, bd4_some, bd5_some, lt_def, jn_def, ob_some, zk_0, zk_1, nz_I, ↓reduceIte, Nat.add_zero, Nat.add_sub_cancel, hx9, hy9, ht9, h1]
                · rw [if_neg o6] at hst
                  by_cases o7 : o < 16
                  · rw [if_pos o7] at hst
                    cases s with
                    | nil => cases hst
                    | cons y s =>
                      cases s with
                      | nil => cases hst
                      | cons x s =>
                        obtain ⟨h91, h92⟩ := Prod.mk.inj (Option.some.inj hst)
                        subst h91
                        subst h92
                        clear hst
                        have hx9 : c7 s.length = x := h7.2.1
                        have hy9 : c7 (s.length + 1) = y := h7.1
                        obtain ⟨ht9, ht8⟩ := ask_E (o := o) x y (by omega) (by omega)
                        have hn9 := nar_bool ht8
                        simp only [List.length_cons] at hln ⊢
                        obtain ⟨c7', c8', h1, h2, h3⟩ := hIH _ _ c7 (upd c8 b.length (askC o x y)) hr h7.2.2 h8.push2 (fun z hz => by
                          rcases List.mem_cons.mp hz with rfl | hz
                          · exact ht8
                          · exact hB z hz) (fun z hz => hD z (List.mem_cons_of_mem _ (List.mem_cons_of_mem _ hz))) (by rw [List.length_cons]; omega) (by omega)
                        refine ⟨c7', c8', ?_, h2, h3⟩
                        simp only [List.length_cons] at h1
                        rw [M_summedUp_L38, hr1, ob_some, if_neg hcd, hr18, ob_some, hr19, ob_some]
                        simp (maxSteps := 1000000) (disch := omega) only [litI, nI_add, nI_mul, nI_sub, nI_addneg, nI_eq_t, nI_eq_f, nI_le_t, nI_le_f, nI_lt_t, nI_lt_f, nI_neg_f, rd_I, wr_I, wrL_I, wrZ_I, inb_I, rdq_I, bd1_some, bd2_some, bd3_some, bd4_some, bd5_some, lt_def, jn_def, ob_some, zk_0, zk_1, nz_I, ↓reduceIte, Nat.add_zero, show s.length + 1 + 1 - 2 = s.length by omega, hx9, hy9, ht9, hn9, h1]
                  · rw [if_neg o7] at hst
                    by_cases o20 : o = 20
                    · subst o20
                      rw [if_pos rfl] at hst
                      cases b with
                      | nil => cases hst
                      | cons t b =>
                        obtain ⟨h91, h92⟩ := Prod.mk.inj (Option.some.inj hst)
                        subst h91
                        subst h92
                        clear hst
                        have ht9 : c8 b.length = t := h8.1
                        simp only [List.length_cons] at hln ⊢
                        by_cases q : t = 0
                        · rw [if_pos q] at hr
                          obtain ⟨c7', c8', h1, h2, h3⟩ := hIH _ _ c7 (upd c8 b.length 1) hr h7 h8.2.push2 (fun z hz => by
                            rcases List.mem_cons.mp hz with rfl | hz
                            · exact Or.inr rfl
                            · exact hB z (List.mem_cons_of_mem _ hz)) hD (by rw [List.length_cons]; omega) (by omega)
                          refine ⟨c7', c8', ?_, h2, h3⟩
                          have q2 : t = nI 0 := q
                          have hn9 : vp_nar .boolean (nI 1) = nI 1 := rfl
                          simp only [List.length_cons, litI] at h1
                          rw [M_summedUp_L38, hr1, ob_some, if_neg hcd, hr18, ob_some, hr19, ob_some]
                          simp (maxSteps := 1000000) (disch := omega) only [litI, nI_add, nI_mul, nI_sub, nI_addneg, nI_eq_t, nI_eq_f, nI_le_t, nI_le_f, nI_lt_t, nI_lt_f, nI_neg_f, rd_I, wr_I, wrL_I, wrZ_I, inb_I, rdq_I, bd1_some, bd2_some, bd3_some, bd4_some, bd5_some, lt_def, jn_def, ob_some, zk_0, zk_1, nz_I, ↓reduceIte, Nat.add_zero, Nat.add_sub_cancel, ht9, q2, hn9, h1]
                        · rw [if_neg q] at hr
                          obtain ⟨c7', c8', h1, h2, h3⟩ := hIH _ _ c7 (upd c8 b.length 0) hr h7 h8.2.push2 (fun z hz => by
                            rcases List.mem_cons.mp hz with rfl | hz
                            · exact Or.inl rfl
                            · exact hB z (List.mem_cons_of_mem _ hz)) hD (by rw [List.length_cons]; omega) (by omega)
                          refine ⟨c7', c8', ?_, h2, h3⟩
                          have q2 : (t = nI 0) = False := eq_false q
                          have hn9 : vp_nar .boolean (nI 0) = nI 0 := rfl
                          simp only [List.length_cons, litI] at h1
                          rw [M_summedUp_L38, hr1, ob_some, if_neg hcd, hr18, ob_some, hr19, ob_some]
                          simp (maxSteps := 1000000) (disch := omega) only [litI, nI_add, nI_mul, nI_sub, nI_addneg, nI_eq_t, nI_eq_f, nI_le_t, nI_le_f, nI_lt_t, nI_lt_f, nI_neg_f, rd_I, wr_I, wrL_I, wrZ_I, inb_I, rdq_I, bd1_some, bd2_some, bd3_some, bd4_some, bd5_some, lt_def, jn_def, ob_some, zk_0, zk_1, nz_I, ↓reduceIte, Nat.add_zero, Nat.add_sub_cancel, ht9, q2, hn9, h1]
                    · rw [if_neg o20] at hst
                      obtain ⟨r, t2, t1, b0, rfl, e9, hj, hr01⟩ : ∃ (r t2 t1 : Int32) (b0 : List Int32), b = t2 :: t1 :: b0 ∧ (s1, b1) = (s, r :: b0) ∧ M_joined (nI o) t1 t2 = some r ∧ (r = 0 ∨ r = 1) := by
                        by_cases o21 : o = 21
                        · subst o21
                          rw [if_pos rfl] at hst
                          cases b with
                          | nil => cases hst
                          | cons t2 b =>
                            cases b with
                            | nil => cases hst
                            | cons t1 b0 =>
                              refine ⟨_, t2, t1, b0, rfl, (Option.some.inj hst).symm, ?_, ?_⟩
                              · unfold M_joined
                                rw [if_pos (show nI 21 = 21 from rfl)]
                                repeat' split
                                all_goals rfl
                              · repeat' split
                                all_goals simp
                        · rw [if_neg o21] at hst
                          by_cases o22 : o = 22
                          · subst o22
                            rw [if_pos rfl] at hst
                            cases b with
                            | nil => cases hst
                            | cons t2 b =>
                              cases b with
                              | nil => cases hst
                              | cons t1 b0 =>
                                refine ⟨_, t2, t1, b0, rfl, (Option.some.inj hst).symm, ?_, ?_⟩
                                · unfold M_joined
                                  rw [if_neg (by decide)]
                                  repeat' split
                                  all_goals rfl
                                · repeat' split
                                  all_goals simp
                          · rw [if_neg o22] at hst
                            cases hst
                      cases e9
                      have ht2 : c8 (b0.length + 1) = t2 := h8.1
                      have ht1 : c8 b0.length = t1 := h8.2.1
                      have hn9 := nar_bool hr01
                      have o21 : 20 < o := by
                        rcases Nat.lt_or_ge 20 o with h | h
                        · exact h
                        · exfalso
                          rw [if_neg (by omega), if_neg (by omega)] at hst
                          cases hst
                      simp only [List.length_cons] at hln ⊢
                      obtain ⟨c7', c8', h1, h2, h3⟩ := hIH _ _ c7 (upd c8 b0.length r) hr h7 h8.2.2.push2 (fun z hz => by
                        rcases List.mem_cons.mp hz with rfl | hz
                        · exact hr01
                        · exact hB z (List.mem_cons_of_mem _ (List.mem_cons_of_mem _ hz))) hD (by rw [List.length_cons]; omega) (by omega)
                      refine ⟨c7', c8', ?_, h2, h3⟩
                      simp only [List.length_cons] at h1
                      rw [M_summedUp_L38, hr1, ob_some, if_neg hcd, hr18, ob_some, hr19, ob_some]
                      simp (maxSteps := 1000000) (disch := omega) only [litI, nI_add, nI_mul, nI_sub, nI_addneg, nI_eq_t, nI_eq_f, nI_le_t, nI_le_f, nI_lt_t, nI_lt_f, nI_neg_f, rd_I, wr_I, wrL_I, wrZ_I, inb_I, rdq_I, bd1_some, bd2_some, bd3_some, bd4_some, bd5_some, lt_def, jn_def, ob_some, zk_0, zk_1, nz_I, ↓reduceIte, Nat.add_zero, Nat.add_sub_cancel, ht1, ht2, hj, hn9, h1]
