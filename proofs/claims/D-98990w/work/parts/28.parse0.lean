/-! want, opens, number, behind, numbers -/
theorem met_want {l : Launch} (hl0 : l.stackTraces = false) {g : gG} {z : Nat → Nat} {r0 ta : Nat} {cT : Nat → Int32} {sz : Int32} {φ : Nat} {t : TS} {s9 : Int32} : CP l yX3_want (ws_ yX3_want cX3_want 2 none) (12) (400) g z r0 ta cT sz [.int s9] t (pWant (tkNext φ cT sz) s9 t) (fun new rv _ => new = [] ∧ rv = none) := by
  intro r t' k n0 hf
  refine CY.of RX3 rfl plain_X3 (Nat.le_of_ble_eq_true rfl) (fun p e s m below meth cd A ls X hP hD hS hl => ?_)
  have hx := X.1.1
  have hb := X.1.2.1
  have hown := X.1.2.2.2.2.2.1
  have hts := X.1.2.2.2.2.2.2.1
  have hl : lv_has ls 2 [(0, .ref r0), (1, .int s9)] := hl
  have hP : va_P g.1 vwCl (tkw g r0 ta cT sz t ++ []) s.heap := by rw [List.append_nil]; exact hP
  have hD : va_D A (tkw g r0 ta cT sz t ++ []) := by rw [List.append_nil]; exact hD
  unfold pWant at hf
  refine lv_aload_n hx hb dX3_want_0 rfl (lv_at hl 0 rfl) ?_
  refine gT_sort X.1 hP dX3_want_1 ?_
  refine lv_iload_n hx hb dX3_want_4 rfl (lv_at hl 1 rfl) ?_
  refine lv_icmp_eq (tgt := 14) hx hb dX3_want_5 (by decide) (fun q => ?_) (fun q => ?_)
  · rw [if_pos q] at hf
    refine lv_aload_n hx hb dX3_want_14 rfl (lv_at hl 0 rfl) ?_
    obtain ⟨t1, hn_t1, hf⟩ := bs hf
    refine yNx (rest := []) X hn_t1 ⟨by first | omega | (dsimp only; omega), by first | omega | (dsimp only; omega)⟩ ⟨by first | omega | (dsimp only; omega), by first | omega | (dsimp only; omega)⟩ hP hD hS hl.1 (Nat.le_of_ble_eq_true rfl) dX3_want_15 (fun H locs hP hD hS => ?_)
    cases hf
    exact yRv X ⟨(), [], rfl, rfl, rfl, rfl⟩ hP hD hS ⟨by first | omega | (dsimp only; omega), by first | omega | (dsimp only; omega)⟩ dX3_want_18
  · rw [if_neg q] at hf
    refine lv_aload_n hx hb dX3_want_8 rfl (lv_at hl 0 rfl) ?_
    refine lv_iconst (v := 1) hx hb dX3_want_9 (by decide) ?_
    exact yErr hl0 X hf ⟨by first | omega | (dsimp only; omega), by first | omega | (dsimp only; omega)⟩ ⟨by first | omega | (dsimp only; omega), by first | omega | (dsimp only; omega)⟩ ⟨by first | omega | (dsimp only; omega), by first | omega | (dsimp only; omega)⟩ hP hD hS hl.1 dX3_want_10 dX3_want_13
theorem met_opens {l : Launch} (hl0 : l.stackTraces = false) {g : gG} {z : Nat → Nat} {r0 ta : Nat} {cT : Nat → Int32} {sz : Int32} {φ : Nat} {t : TS} : CP l yX3_opens (ws_ yX3_opens cX3_opens 1 none) (12) (400) g z r0 ta cT sz [] t (pOpens (tkNext φ cT sz) t) (fun new rv _ => new = [] ∧ rv = none) := by
  intro r t' k n0 hf
  refine CY.of RX3 rfl plain_X3 (Nat.le_of_ble_eq_true rfl) (fun p e s m below meth cd A ls X hP hD hS hl => ?_)
  have hx := X.1.1
  have hb := X.1.2.1
  have hown := X.1.2.2.2.2.2.1
  have hts := X.1.2.2.2.2.2.2.1
  have hl : lv_has ls 1 [(0, .ref r0)] := hl
  have hP : va_P g.1 vwCl (tkw g r0 ta cT sz t ++ []) s.heap := by rw [List.append_nil]; exact hP
  have hD : va_D A (tkw g r0 ta cT sz t ++ []) := by rw [List.append_nil]; exact hD
  unfold pOpens at hf
  refine lv_aload_n hx hb dX3_opens_0 rfl (lv_at hl 0 rfl) ?_
  refine gT_open X.1 hP dX3_opens_1 ?_
  refine lv_bipush (v := 8) hx hb dX3_opens_4 (by decide) ?_
  refine lv_icmp_ne (tgt := 15) hx hb dX3_opens_6 (by decide) (fun q => ?_) (fun q => ?_)
  · rw [if_neg q] at hf
    refine lv_aload_n hx hb dX3_opens_15 rfl (lv_at hl 0 rfl) ?_
    refine lv_dup hx hb dX3_opens_16 rfl ?_
    refine gT_open X.1 hP dX3_opens_17 ?_
    refine lv_iconst (v := 1) hx hb dX3_opens_20 (by decide) ?_
    refine lv_iadd hx hb dX3_opens_21 ?_
    refine pT_open X.1 hP hD hS dX3_opens_22 (fun H locs hP hD hS => ?_)
    have hP : va_P g.1 vwCl (tkw g r0 ta cT sz (incO t) ++ []) H := hP
    have hD : va_D A (tkw g r0 ta cT sz (incO t) ++ []) := hD
    refine lv_aload_n hx hb dX3_opens_25 rfl (lv_at hl 0 rfl) ?_
    obtain ⟨t1, hn_t1, hf⟩ := bs hf
    refine yNx (rest := []) X hn_t1 ⟨by first | omega | (dsimp only; omega), by first | omega | (dsimp only; omega)⟩ ⟨by first | omega | (dsimp only; omega), by first | omega | (dsimp only; omega)⟩ hP hD hS hl.1 (Nat.le_of_ble_eq_true rfl) dX3_opens_26 (fun H locs hP hD hS => ?_)
    cases hf
    exact yRv X ⟨(), [], rfl, rfl, rfl, rfl⟩ hP hD hS ⟨by first | omega | (dsimp only; omega), by first | omega | (dsimp only; omega)⟩ dX3_opens_29
  · rw [if_pos q] at hf
    refine lv_aload_n hx hb dX3_opens_9 rfl (lv_at hl 0 rfl) ?_
    refine lv_iconst (v := 3) hx hb dX3_opens_10 (by decide) ?_
    exact yErr hl0 X hf ⟨by first | omega | (dsimp only; omega), by first | omega | (dsimp only; omega)⟩ ⟨by first | omega | (dsimp only; omega), by first | omega | (dsimp only; omega)⟩ ⟨by first | omega | (dsimp only; omega), by first | omega | (dsimp only; omega)⟩ hP hD hS hl.1 dX3_opens_11 dX3_opens_14
theorem met_number {l : Launch} (hl0 : l.stackTraces = false) {g : gG} {z : Nat → Nat} {r0 ta : Nat} {cT : Nat → Int32} {sz : Int32} {φ : Nat} {t : TS} {lo hi : Int32} : CP l yX3_number (ws_ yX3_number cX3_number 4 (some .int)) (12) (400) g z r0 ta cT sz [.int lo, .int hi] t (pNumber (tkNext φ cT sz) lo hi t) (fun new rv a => new = [] ∧ rv = some (.int a)) := by
  intro r t' k n0 hf
  refine CY.of RX3 rfl plain_X3 (Nat.le_of_ble_eq_true rfl) (fun p e s m below meth cd A ls X hP hD hS hl => ?_)
  have hx := X.1.1
  have hb := X.1.2.1
  have hown := X.1.2.2.2.2.2.1
  have hts := X.1.2.2.2.2.2.2.1
  have hl : lv_has ls 4 [(0, .ref r0), (1, .int lo), (2, .int hi)] := hl
  have hP : va_P g.1 vwCl (tkw g r0 ta cT sz t ++ []) s.heap := by rw [List.append_nil]; exact hP
  have hD : va_D A (tkw g r0 ta cT sz t ++ []) := by rw [List.append_nil]; exact hD
  unfold pNumber at hf
  refine lv_aload_n hx hb dX3_number_0 rfl (lv_at hl 0 rfl) ?_
  refine gT_sort X.1 hP dX3_number_1 ?_
  refine lv_sipush (v := 300) hx hb dX3_number_4 (by decide) ?_
  refine lv_icmp_eq (tgt := 16) hx hb dX3_number_7 (by decide) (fun q => ?_) (fun q => ?_)
  · rw [if_pos q] at hf
    refine lv_aload_n hx hb dX3_number_16 rfl (lv_at hl 0 rfl) ?_
    refine gT_number X.1 hP dX3_number_17 ?_
    refine lv_iload_n hx hb dX3_number_20 rfl (lv_at hl 1 rfl) ?_
    refine lv_icmp_lt (tgt := 32) hx hb dX3_number_21 (by decide) (fun q2 => ?_) (fun q2 => ?_)
    · rw [if_pos q2] at hf
      refine lv_aload_n hx hb dX3_number_32 rfl (lv_at hl 0 rfl) ?_
      refine lv_iconst (v := 2) hx hb dX3_number_33 (by decide) ?_
      exact yErr hl0 X hf ⟨by first | omega | (dsimp only; omega), by first | omega | (dsimp only; omega)⟩ ⟨by first | omega | (dsimp only; omega), by first | omega | (dsimp only; omega)⟩ ⟨by first | omega | (dsimp only; omega), by first | omega | (dsimp only; omega)⟩ hP hD hS hl.1 dX3_number_34 dX3_number_37
    · rw [if_neg q2] at hf
      refine lv_aload_n hx hb dX3_number_24 rfl (lv_at hl 0 rfl) ?_
      refine gT_number X.1 hP dX3_number_25 ?_
      refine lv_iload_n hx hb dX3_number_28 rfl (lv_at hl 2 rfl) ?_
      refine lv_icmp_le (tgt := 38) hx hb dX3_number_29 (by decide) (fun q3 => ?_) (fun q3 => ?_)
      · rw [if_pos q3] at hf
        refine lv_aload_n hx hb dX3_number_38 rfl (lv_at hl 0 rfl) ?_
        refine gT_number X.1 hP dX3_number_39 ?_
        refine lv_istore_n (lv' := [(3, .int t.2.2.2.1), (0, .ref r0), (1, .int lo), (2, .int hi)]) hx hb dX3_number_42 rfl hl (by decide) rfl (fun ls hl => ?_)
        refine lv_aload_n hx hb dX3_number_43 rfl (lv_at hl 1 rfl) ?_
        obtain ⟨t1, hn_t1, hf⟩ := bs hf
        refine yNx (rest := []) X hn_t1 ⟨by first | omega | (dsimp only; omega), by first | omega | (dsimp only; omega)⟩ ⟨by first | omega | (dsimp only; omega), by first | omega | (dsimp only; omega)⟩ hP hD hS hl.1 (Nat.le_of_ble_eq_true rfl) dX3_number_44 (fun H locs hP hD hS => ?_)
        refine lv_iload_n hx hb dX3_number_47 rfl (lv_at hl 0 rfl) ?_
        cases hf
        exact yRi X ⟨_, [], rfl, rfl, rfl, rfl⟩ hP hD hS ⟨by first | omega | (dsimp only; omega), by first | omega | (dsimp only; omega)⟩ dX3_number_48
      · rw [if_neg q3] at hf
        refine lv_aload_n hx hb dX3_number_32 rfl (lv_at hl 0 rfl) ?_
        refine lv_iconst (v := 2) hx hb dX3_number_33 (by decide) ?_
        exact yErr hl0 X hf ⟨by first | omega | (dsimp only; omega), by first | omega | (dsimp only; omega)⟩ ⟨by first | omega | (dsimp only; omega), by first | omega | (dsimp only; omega)⟩ ⟨by first | omega | (dsimp only; omega), by first | omega | (dsimp only; omega)⟩ hP hD hS hl.1 dX3_number_34 dX3_number_37
  · rw [if_neg q] at hf
    refine lv_aload_n hx hb dX3_number_10 rfl (lv_at hl 0 rfl) ?_
    refine lv_iconst (v := 1) hx hb dX3_number_11 (by decide) ?_
    exact yErr hl0 X hf ⟨by first | omega | (dsimp only; omega), by first | omega | (dsimp only; omega)⟩ ⟨by first | omega | (dsimp only; omega), by first | omega | (dsimp only; omega)⟩ ⟨by first | omega | (dsimp only; omega), by first | omega | (dsimp only; omega)⟩ hP hD hS hl.1 dX3_number_12 dX3_number_15
theorem gw_X3_X3_want : GoodIn lw_all (wsV RX3 116 RX3 yX3_want (ws_ yX3_want cX3_want 2 none)) := lw_V q737 q739 qs19 q149 q740
theorem dy_X3_want : Dy yX3_want RX3 1 := by decide +kernel
theorem gw_X3_X3_number : GoodIn lw_all (wsV RX3 120 RX3 yX3_number (ws_ yX3_number cX3_number 4 (some .int))) := lw_V q582 q584 qs10 q149 q585
theorem dy_X3_number : Dy yX3_number RX3 2 := by decide +kernel
theorem met_behind {l : Launch} (hl0 : l.stackTraces = false) {g : gG} {z : Nat → Nat} {r0 ta : Nat} {cT : Nat → Int32} {sz : Int32} {φ : Nat} {t : TS} {w9 hi : Int32} : CP l yX3_behind (ws_ yX3_behind cX3_behind 3 (some .int)) (13) (430) g z r0 ta cT sz [.int w9, .int hi] t (pBehind (tkNext φ cT sz) w9 hi t) (fun new rv a => new = [] ∧ rv = some (.int a)) := by
  intro r t' k n0 hf
  refine CY.of RX3 rfl plain_X3 (Nat.le_of_ble_eq_true rfl) (fun p e s m below meth cd A ls X hP hD hS hl => ?_)
  have hx := X.1.1
  have hb := X.1.2.1
  have hown := X.1.2.2.2.2.2.1
  have hts := X.1.2.2.2.2.2.2.1
  have hl : lv_has ls 3 [(0, .ref r0), (1, .int w9), (2, .int hi)] := hl
  have hP : va_P g.1 vwCl (tkw g r0 ta cT sz t ++ []) s.heap := by rw [List.append_nil]; exact hP
  have hD : va_D A (tkw g r0 ta cT sz t ++ []) := by rw [List.append_nil]; exact hD
  unfold pBehind at hf
  refine lv_aload_n hx hb dX3_behind_0 rfl (lv_at hl 0 rfl) ?_
  refine lv_iload_n hx hb dX3_behind_1 rfl (lv_at hl 1 rfl) ?_
  refine yP (rest := []) X hf (met_want hl0) gw_X3_X3_want dy_X3_want ⟨by first | omega | (dsimp only; omega), by first | omega | (dsimp only; omega)⟩ ⟨by first | omega | (dsimp only; omega), by first | omega | (dsimp only; omega)⟩ ⟨by first | omega | (dsimp only; omega), by first | omega | (dsimp only; omega)⟩ hP hD hS rfl hl.1 rfl (Nat.le_of_ble_eq_true rfl) dX3_behind_2 (fun a1 t1 k1 n1 j1 i1 new1 rv H locs hf ek1 en1 hrep1 hP hD hS => ?_)
  obtain ⟨rfl, rfl⟩ := hrep1
  refine lv_aload_n hx hb dX3_behind_5 rfl (lv_at hl 0 rfl) ?_
  refine lv_iconst (v := 0) hx hb dX3_behind_6 (by decide) ?_
  refine lv_iload_n hx hb dX3_behind_7 rfl (lv_at hl 2 rfl) ?_
  rw [← pB_ok (pNumber (tkNext φ cT sz) 0 hi t1)] at hf
  refine yP (rest := []) X hf (met_number hl0) gw_X3_X3_number dy_X3_number ⟨by first | omega | (dsimp only; omega), by first | omega | (dsimp only; omega)⟩ ⟨by first | omega | (dsimp only; omega), by first | omega | (dsimp only; omega)⟩ ⟨by first | omega | (dsimp only; omega), by first | omega | (dsimp only; omega)⟩ hP hD hS rfl hl.1 rfl (Nat.le_of_ble_eq_true rfl) dX3_behind_8 (fun a2 t2 k2 n2 j2 i2 new2 rv H locs hf ek2 en2 hrep2 hP hD hS => ?_)
  obtain ⟨rfl, rfl⟩ := hrep2
  cases hf
  exact yRi X ⟨_, [], rfl, rfl, rfl, rfl⟩ hP hD hS ⟨by first | omega | (dsimp only; omega), by first | omega | (dsimp only; omega)⟩ dX3_behind_11
theorem gw_X3_X3_behind : GoodIn lw_all (wsV RX3 122 RX3 yX3_behind (ws_ yX3_behind cX3_behind 3 (some .int))) := lw_V q862 q864 qs23 q149 q865
theorem dy_X3_behind : Dy yX3_behind RX3 2 := by decide +kernel
theorem tsw_out {k : Int32} (h0 : ¬ k = 205) (h1 : ¬ k = 206) (h2 : ¬ k = 207) (h3 : ¬ k = 208) (h4 : ¬ k = 209) (h5 : ¬ k = 210) (h6 : ¬ k = 211) : k.toInt < 205 ∨ 211 < k.toInt := by
  have e : ∀ v : Int32, ¬ k = v → ¬ k.toInt = v.toInt := fun v h q => h (Int32.toInt_inj.mp q)
  have a0 := e _ h0
  have a1 := e _ h1
  have a2 := e _ h2
  have a3 := e _ h3
  have a4 := e _ h4
  have a5 := e _ h5
  have a6 := e _ h6
  rw [show (205 : Int32).toInt = 205 from rfl] at a0
  rw [show (206 : Int32).toInt = 206 from rfl] at a1
  rw [show (207 : Int32).toInt = 207 from rfl] at a2
  rw [show (208 : Int32).toInt = 208 from rfl] at a3
  rw [show (209 : Int32).toInt = 209 from rfl] at a4
  rw [show (210 : Int32).toInt = 210 from rfl] at a5
  rw [show (211 : Int32).toInt = 211 from rfl] at a6
  omega
theorem met_numbers {l : Launch} (hl0 : l.stackTraces = false) {g : gG} {z : Nat → Nat} {r0 ta : Nat} {cT : Nat → Int32} {sz : Int32} {φ : Nat} {t : TS} : CP l yX3_numbers (ws_ yX3_numbers cX3_numbers 2 (some (.array .int))) (14) (460) g z r0 ta cT sz [] t (pNumbers (tkNext φ cT sz) t) (fun new rv a => ∃ q : Nat, rv = some (.ref q) ∧ new = [(q, .inl (g.2 0, 4, .inl a))]) := by
  intro r t' k n0 hf
  refine CY.of RX3 rfl plain_X3 (Nat.le_of_ble_eq_true rfl) (fun p e s m below meth cd A ls X hP hD hS hl => ?_)
  have hx := X.1.1
  have hb := X.1.2.1
  have hown := X.1.2.2.2.2.2.1
  have hts := X.1.2.2.2.2.2.2.1
  have hl : lv_has ls 2 [(0, .ref r0)] := hl
  have hP : va_P g.1 vwCl (tkw g r0 ta cT sz t ++ []) s.heap := by rw [List.append_nil]; exact hP
  have hD : va_D A (tkw g r0 ta cT sz t ++ []) := by rw [List.append_nil]; exact hD
  unfold pNumbers at hf
  obtain ⟨k0, m0, hf, ek0, en0⟩ := pCs hf
  refine lv_iconst (v := 4) hx hb dX3_numbers_0 (by decide) ?_
  refine va_newa (atype := .int) (N' := 4) (a0 := (4, .inl (fun _ => 0))) hx hb (hts _ q243) rfl X.1.2.2.2.2.2.2.2.2 hP hD hS X.1.2.2.2.2.2.2.2.1 (fun _ => rfl) (by decide) (by decide) (by decide) (by dsimp only; omega) (by dsimp only; omega) dX3_numbers_1 (fun q cA H hK9 hP hD hS => ?_)
  have ecA := k_int hK9
  subst ecA
  have hP : va_P g.1 vwCl (tkw g r0 ta cT sz t ++ [(q, .inl (g.2 0, 4, .inl (fun _ => 0)))]) H := hP
  have hD : va_D A (tkw g r0 ta cT sz t ++ [(q, .inl (g.2 0, 4, .inl (fun _ => 0)))]) := hD
  refine lv_astore_n (lv' := [(1, .ref q), (0, .ref r0)]) hx hb dX3_numbers_3 rfl hl (by decide) rfl (fun ls hl => ?_)
  refine lv_aload_n hx hb dX3_numbers_4 rfl (lv_at hl 0 rfl) ?_
  refine lv_iconst (v := 0) hx hb dX3_numbers_5 (by decide) ?_
  have hend : ∀ (v : Int32) (t1 : TS) (kk nn k2 n2 : Nat) (H : Heap) (locs : List Loc), pMore (tkNext φ cT sz) (upd (fun _ => 0) 0 v) t1 = some (r, t', k2, n2) → 0 + 1 + kk + k2 = k → 0 + 4 + nn + n2 = n0 → va_P g.1 vwCl (tkw g r0 ta cT sz t1 ++ [(q, .inl (g.2 0, 4, .inl (fun _ => 0)))]) H → va_D A (tkw g r0 ta cT sz t1 ++ [(q, .inl (g.2 0, 4, .inl (fun _ => 0)))]) → va_S A s.heap H locs → W p l e ({ frames := 14, cells := k, slots := n0, locals := 460 } : Room) s m ([.ref r0] : List Value).toArray below meth cd H locs (0 + 1 + kk) (0 + 4 + nn) (vx_MQ below (QYr g (fun rv w' => ∃ a new, r = .inr a ∧ w' = tkw g r0 ta cT sz t' ++ new ∧ (fun new rv a => ∃ q : Nat, rv = some (.ref q) ∧ new = [(q, .inl (g.2 0, 4, .inl a))]) new rv a) A) (XYr g (pxT g r0 ta cT sz r t') A) ([.ref r0] : List Value).toArray s k n0 A) (F0 m 72 ls [.int v, .int 0, .ref q]) := by
    intro v t1 kk nn k2 n2 H locs hf ek en hP hD hS
    refine va_iast hx hb X.1.2.2.2.2.2.2.2.2 hP hD hS 2 0 rfl rfl (by unfold vp_in; decide) dX3_numbers_72 (fun H locs hP hD hS => ?_)
    have hP : va_P g.1 vwCl (tkw g r0 ta cT sz t1 ++ [(q, .inl (g.2 0, 4, .inl (upd (fun _ => 0) 0 v)))]) H := hP
    have hD : va_D A (tkw g r0 ta cT sz t1 ++ [(q, .inl (g.2 0, 4, .inl (upd (fun _ => 0) 0 v)))]) := hD
    refine lv_aload_n hx hb dX3_numbers_73 rfl (lv_at hl 1 rfl) ?_
    refine gT_kind X.1 hP dX3_numbers_74 ?_
    unfold pMore at hf
    by_cases qa : t1.2.2.2.2.2 = 205 ∨ t1.2.2.2.2.2 = 208
    · rw [if_pos qa] at hf
      rcases qa with q5 | q5
      · refine lv_tableIn (off := 43) (tgt := 120) hx hb dX3_numbers_77 (by rw [q5]; decide) (by rw [q5]; decide) (by rw [q5]; rfl) (by decide) ?_
        refine lv_aload_n hx hb dX3_numbers_120 rfl (lv_at hl 0 rfl) ?_
        refine lv_iconst (v := 1) hx hb dX3_numbers_121 (by decide) ?_
        refine lv_aload_n hx hb dX3_numbers_122 rfl (lv_at hl 1 rfl) ?_
        refine lv_sipush (v := 213) hx hb dX3_numbers_123 (by decide) ?_
        refine lv_bipush (v := 7) hx hb dX3_numbers_126 (by decide) ?_
        refine yP (rest := [.int 1, .ref q]) X hf (met_behind hl0) gw_X3_X3_behind dy_X3_behind ⟨by first | omega | (dsimp only; omega), by first | omega | (dsimp only; omega)⟩ ⟨by first | omega | (dsimp only; omega), by first | omega | (dsimp only; omega)⟩ ⟨by first | omega | (dsimp only; omega), by first | omega | (dsimp only; omega)⟩ hP hD hS rfl hl.1 rfl (Nat.le_of_ble_eq_true rfl) dX3_numbers_128 (fun a5 t5 k5 n5 j5 i5 new5 rv H locs hf ek5 en5 hrep5 hP hD hS => ?_)
        obtain ⟨rfl, rfl⟩ := hrep5
        refine va_iast hx hb X.1.2.2.2.2.2.2.2.2 hP hD hS 2 0 rfl rfl (by unfold vp_in; decide) dX3_numbers_131 (fun H locs hP hD hS => ?_)
        have hP : va_P g.1 vwCl (tkw g r0 ta cT sz t5 ++ [(q, .inl (g.2 0, 4, .inl (upd (upd (fun _ => 0) 0 v) 1 a5)))]) H := hP
        have hD : va_D A (tkw g r0 ta cT sz t5 ++ [(q, .inl (g.2 0, 4, .inl (upd (upd (fun _ => 0) 0 v) 1 a5)))]) := hD
        refine lv_goto (tgt := 205) hx hb dX3_numbers_132 (by decide) ?_
        refine lv_aload_n hx hb dX3_numbers_205 rfl (lv_at hl 0 rfl) ?_
        cases hf
        exact yRa X ⟨_, [(q, .inl (g.2 0, 4, .inl (upd (upd (fun _ => 0) 0 v) 1 a5)))], rfl, rfl, q, rfl, rfl⟩ hP hD hS ⟨by first | omega | (dsimp only; omega), by first | omega | (dsimp only; omega)⟩ dX3_numbers_206
      · refine lv_tableIn (off := 43) (tgt := 120) hx hb dX3_numbers_77 (by rw [q5]; decide) (by rw [q5]; decide) (by rw [q5]; rfl) (by decide) ?_
        refine lv_aload_n hx hb dX3_numbers_120 rfl (lv_at hl 0 rfl) ?_
        refine lv_iconst (v := 1) hx hb dX3_numbers_121 (by decide) ?_
        refine lv_aload_n hx hb dX3_numbers_122 rfl (lv_at hl 1 rfl) ?_
        refine lv_sipush (v := 213) hx hb dX3_numbers_123 (by decide) ?_
        refine lv_bipush (v := 7) hx hb dX3_numbers_126 (by decide) ?_
        refine yP (rest := [.int 1, .ref q]) X hf (met_behind hl0) gw_X3_X3_behind dy_X3_behind ⟨by first | omega | (dsimp only; omega), by first | omega | (dsimp only; omega)⟩ ⟨by first | omega | (dsimp only; omega), by first | omega | (dsimp only; omega)⟩ ⟨by first | omega | (dsimp only; omega), by first | omega | (dsimp only; omega)⟩ hP hD hS rfl hl.1 rfl (Nat.le_of_ble_eq_true rfl) dX3_numbers_128 (fun a5 t5 k5 n5 j5 i5 new5 rv H locs hf ek5 en5 hrep5 hP hD hS => ?_)
        obtain ⟨rfl, rfl⟩ := hrep5
        refine va_iast hx hb X.1.2.2.2.2.2.2.2.2 hP hD hS 2 0 rfl rfl (by unfold vp_in; decide) dX3_numbers_131 (fun H locs hP hD hS => ?_)
        have hP : va_P g.1 vwCl (tkw g r0 ta cT sz t5 ++ [(q, .inl (g.2 0, 4, .inl (upd (upd (fun _ => 0) 0 v) 1 a5)))]) H := hP
        have hD : va_D A (tkw g r0 ta cT sz t5 ++ [(q, .inl (g.2 0, 4, .inl (upd (upd (fun _ => 0) 0 v) 1 a5)))]) := hD
        refine lv_goto (tgt := 205) hx hb dX3_numbers_132 (by decide) ?_
        refine lv_aload_n hx hb dX3_numbers_205 rfl (lv_at hl 0 rfl) ?_
        cases hf
        exact yRa X ⟨_, [(q, .inl (g.2 0, 4, .inl (upd (upd (fun _ => 0) 0 v) 1 a5)))], rfl, rfl, q, rfl, rfl⟩ hP hD hS ⟨by first | omega | (dsimp only; omega), by first | omega | (dsimp only; omega)⟩ dX3_numbers_206
    · rw [if_neg qa] at hf
      by_cases q5 : t1.2.2.2.2.2 = 206
      · rw [if_pos q5] at hf
        refine lv_tableIn (off := 58) (tgt := 135) hx hb dX3_numbers_77 (by rw [q5]; decide) (by rw [q5]; decide) (by rw [q5]; rfl) (by decide) ?_
        refine lv_aload_n hx hb dX3_numbers_135 rfl (lv_at hl 0 rfl) ?_
        refine lv_iconst (v := 1) hx hb dX3_numbers_136 (by decide) ?_
        refine lv_aload_n hx hb dX3_numbers_137 rfl (lv_at hl 1 rfl) ?_
        refine lv_sipush (v := 216) hx hb dX3_numbers_138 (by decide) ?_
        refine lv_bipush (v := 9) hx hb dX3_numbers_141 (by decide) ?_
        refine yP (rest := [.int 1, .ref q]) X hf (met_behind hl0) gw_X3_X3_behind dy_X3_behind ⟨by first | omega | (dsimp only; omega), by first | omega | (dsimp only; omega)⟩ ⟨by first | omega | (dsimp only; omega), by first | omega | (dsimp only; omega)⟩ ⟨by first | omega | (dsimp only; omega), by first | omega | (dsimp only; omega)⟩ hP hD hS rfl hl.1 rfl (Nat.le_of_ble_eq_true rfl) dX3_numbers_143 (fun a5 t5 k5 n5 j5 i5 new5 rv H locs hf ek5 en5 hrep5 hP hD hS => ?_)
        obtain ⟨rfl, rfl⟩ := hrep5
        refine va_iast hx hb X.1.2.2.2.2.2.2.2.2 hP hD hS 2 0 rfl rfl (by unfold vp_in; decide) dX3_numbers_146 (fun H locs hP hD hS => ?_)
        have hP : va_P g.1 vwCl (tkw g r0 ta cT sz t5 ++ [(q, .inl (g.2 0, 4, .inl (upd (upd (fun _ => 0) 0 v) 1 a5)))]) H := hP
        have hD : va_D A (tkw g r0 ta cT sz t5 ++ [(q, .inl (g.2 0, 4, .inl (upd (upd (fun _ => 0) 0 v) 1 a5)))]) := hD
        refine lv_aload_n hx hb dX3_numbers_147 rfl (lv_at hl 0 rfl) ?_
        refine lv_iconst (v := 2) hx hb dX3_numbers_148 (by decide) ?_
        refine lv_aload_n hx hb dX3_numbers_149 rfl (lv_at hl 1 rfl) ?_
        refine lv_sipush (v := 217) hx hb dX3_numbers_150 (by decide) ?_
        refine lv_sipush (v := 9999) hx hb dX3_numbers_153 (by decide) ?_
        refine yP (rest := [.int 2, .ref q]) X hf (met_behind hl0) gw_X3_X3_behind dy_X3_behind ⟨by first | omega | (dsimp only; omega), by first | omega | (dsimp only; omega)⟩ ⟨by first | omega | (dsimp only; omega), by first | omega | (dsimp only; omega)⟩ ⟨by first | omega | (dsimp only; omega), by first | omega | (dsimp only; omega)⟩ hP hD hS rfl hl.1 rfl (Nat.le_of_ble_eq_true rfl) dX3_numbers_156 (fun a6 t6 k6 n6 j6 i6 new6 rv H locs hf ek6 en6 hrep6 hP hD hS => ?_)
        obtain ⟨rfl, rfl⟩ := hrep6
        refine va_iast hx hb X.1.2.2.2.2.2.2.2.2 hP hD hS 2 0 rfl rfl (by unfold vp_in; decide) dX3_numbers_159 (fun H locs hP hD hS => ?_)
        have hP : va_P g.1 vwCl (tkw g r0 ta cT sz t6 ++ [(q, .inl (g.2 0, 4, .inl (upd (upd (upd (fun _ => 0) 0 v) 1 a5) 2 a6)))]) H := hP
        have hD : va_D A (tkw g r0 ta cT sz t6 ++ [(q, .inl (g.2 0, 4, .inl (upd (upd (upd (fun _ => 0) 0 v) 1 a5) 2 a6)))]) := hD
        refine lv_aload_n hx hb dX3_numbers_160 rfl (lv_at hl 0 rfl) ?_
        refine lv_iconst (v := 3) hx hb dX3_numbers_161 (by decide) ?_
        refine lv_aload_n hx hb dX3_numbers_162 rfl (lv_at hl 1 rfl) ?_
        refine lv_sipush (v := 218) hx hb dX3_numbers_163 (by decide) ?_
        refine lv_sipush (v := 9999) hx hb dX3_numbers_166 (by decide) ?_
        refine yP (rest := [.int 3, .ref q]) X hf (met_behind hl0) gw_X3_X3_behind dy_X3_behind ⟨by first | omega | (dsimp only; omega), by first | omega | (dsimp only; omega)⟩ ⟨by first | omega | (dsimp only; omega), by first | omega | (dsimp only; omega)⟩ ⟨by first | omega | (dsimp only; omega), by first | omega | (dsimp only; omega)⟩ hP hD hS rfl hl.1 rfl (Nat.le_of_ble_eq_true rfl) dX3_numbers_169 (fun a7 t7 k7 n7 j7 i7 new7 rv H locs hf ek7 en7 hrep7 hP hD hS => ?_)
        obtain ⟨rfl, rfl⟩ := hrep7
        refine va_iast hx hb X.1.2.2.2.2.2.2.2.2 hP hD hS 2 0 rfl rfl (by unfold vp_in; decide) dX3_numbers_172 (fun H locs hP hD hS => ?_)
        have hP : va_P g.1 vwCl (tkw g r0 ta cT sz t7 ++ [(q, .inl (g.2 0, 4, .inl (upd (upd (upd (upd (fun _ => 0) 0 v) 1 a5) 2 a6) 3 a7)))]) H := hP
        have hD : va_D A (tkw g r0 ta cT sz t7 ++ [(q, .inl (g.2 0, 4, .inl (upd (upd (upd (upd (fun _ => 0) 0 v) 1 a5) 2 a6) 3 a7)))]) := hD
        refine lv_goto (tgt := 205) hx hb dX3_numbers_173 (by decide) ?_
        refine lv_aload_n hx hb dX3_numbers_205 rfl (lv_at hl 0 rfl) ?_
        cases hf
        exact yRa X ⟨_, [(q, .inl (g.2 0, 4, .inl (upd (upd (upd (upd (fun _ => 0) 0 v) 1 a5) 2 a6) 3 a7)))], rfl, rfl, q, rfl, rfl⟩ hP hD hS ⟨by first | omega | (dsimp only; omega), by first | omega | (dsimp only; omega)⟩ dX3_numbers_206
      · rw [if_neg q5] at hf
        have q206 := q5
        clear q5
        by_cases q5 : t1.2.2.2.2.2 = 207
        · rw [if_pos q5] at hf
          refine lv_tableIn (off := 99) (tgt := 176) hx hb dX3_numbers_77 (by rw [q5]; decide) (by rw [q5]; decide) (by rw [q5]; rfl) (by decide) ?_
          refine lv_aload_n hx hb dX3_numbers_176 rfl (lv_at hl 0 rfl) ?_
          refine lv_iconst (v := 1) hx hb dX3_numbers_177 (by decide) ?_
          refine lv_aload_n hx hb dX3_numbers_178 rfl (lv_at hl 1 rfl) ?_
          refine lv_sipush (v := 214) hx hb dX3_numbers_179 (by decide) ?_
          refine lv_bipush (v := 7) hx hb dX3_numbers_182 (by decide) ?_
          refine yP (rest := [.int 1, .ref q]) X hf (met_behind hl0) gw_X3_X3_behind dy_X3_behind ⟨by first | omega | (dsimp only; omega), by first | omega | (dsimp only; omega)⟩ ⟨by first | omega | (dsimp only; omega), by first | omega | (dsimp only; omega)⟩ ⟨by first | omega | (dsimp only; omega), by first | omega | (dsimp only; omega)⟩ hP hD hS rfl hl.1 rfl (Nat.le_of_ble_eq_true rfl) dX3_numbers_184 (fun a5 t5 k5 n5 j5 i5 new5 rv H locs hf ek5 en5 hrep5 hP hD hS => ?_)
          obtain ⟨rfl, rfl⟩ := hrep5
          refine va_iast hx hb X.1.2.2.2.2.2.2.2.2 hP hD hS 2 0 rfl rfl (by unfold vp_in; decide) dX3_numbers_187 (fun H locs hP hD hS => ?_)
          have hP : va_P g.1 vwCl (tkw g r0 ta cT sz t5 ++ [(q, .inl (g.2 0, 4, .inl (upd (upd (fun _ => 0) 0 v) 1 a5)))]) H := hP
          have hD : va_D A (tkw g r0 ta cT sz t5 ++ [(q, .inl (g.2 0, 4, .inl (upd (upd (fun _ => 0) 0 v) 1 a5)))]) := hD
          refine lv_goto (tgt := 205) hx hb dX3_numbers_188 (by decide) ?_
          refine lv_aload_n hx hb dX3_numbers_205 rfl (lv_at hl 0 rfl) ?_
          cases hf
          exact yRa X ⟨_, [(q, .inl (g.2 0, 4, .inl (upd (upd (fun _ => 0) 0 v) 1 a5)))], rfl, rfl, q, rfl, rfl⟩ hP hD hS ⟨by first | omega | (dsimp only; omega), by first | omega | (dsimp only; omega)⟩ dX3_numbers_206
        · rw [if_neg q5] at hf
          have q207 := q5
          clear q5
          by_cases qb : t1.2.2.2.2.2 = 209 ∨ t1.2.2.2.2.2 = 210 ∨ t1.2.2.2.2.2 = 211
          · rw [if_pos qb] at hf
            rcases qb with q5 | q5 | q5
            · refine lv_tableIn (off := 114) (tgt := 191) hx hb dX3_numbers_77 (by rw [q5]; decide) (by rw [q5]; decide) (by rw [q5]; rfl) (by decide) ?_
              refine lv_aload_n hx hb dX3_numbers_191 rfl (lv_at hl 0 rfl) ?_
              refine lv_iconst (v := 1) hx hb dX3_numbers_192 (by decide) ?_
              refine lv_aload_n hx hb dX3_numbers_193 rfl (lv_at hl 1 rfl) ?_
              refine lv_sipush (v := 215) hx hb dX3_numbers_194 (by decide) ?_
              refine lv_iconst (v := 5) hx hb dX3_numbers_197 (by decide) ?_
              refine yP (rest := [.int 1, .ref q]) X hf (met_behind hl0) gw_X3_X3_behind dy_X3_behind ⟨by first | omega | (dsimp only; omega), by first | omega | (dsimp only; omega)⟩ ⟨by first | omega | (dsimp only; omega), by first | omega | (dsimp only; omega)⟩ ⟨by first | omega | (dsimp only; omega), by first | omega | (dsimp only; omega)⟩ hP hD hS rfl hl.1 rfl (Nat.le_of_ble_eq_true rfl) dX3_numbers_198 (fun a5 t5 k5 n5 j5 i5 new5 rv H locs hf ek5 en5 hrep5 hP hD hS => ?_)
              obtain ⟨rfl, rfl⟩ := hrep5
              refine va_iast hx hb X.1.2.2.2.2.2.2.2.2 hP hD hS 2 0 rfl rfl (by unfold vp_in; decide) dX3_numbers_201 (fun H locs hP hD hS => ?_)
              have hP : va_P g.1 vwCl (tkw g r0 ta cT sz t5 ++ [(q, .inl (g.2 0, 4, .inl (upd (upd (fun _ => 0) 0 v) 1 a5)))]) H := hP
              have hD : va_D A (tkw g r0 ta cT sz t5 ++ [(q, .inl (g.2 0, 4, .inl (upd (upd (fun _ => 0) 0 v) 1 a5)))]) := hD
              refine lv_goto (tgt := 205) hx hb dX3_numbers_202 (by decide) ?_
              refine lv_aload_n hx hb dX3_numbers_205 rfl (lv_at hl 0 rfl) ?_
              cases hf
              exact yRa X ⟨_, [(q, .inl (g.2 0, 4, .inl (upd (upd (fun _ => 0) 0 v) 1 a5)))], rfl, rfl, q, rfl, rfl⟩ hP hD hS ⟨by first | omega | (dsimp only; omega), by first | omega | (dsimp only; omega)⟩ dX3_numbers_206
            · refine lv_tableIn (off := 114) (tgt := 191) hx hb dX3_numbers_77 (by rw [q5]; decide) (by rw [q5]; decide) (by rw [q5]; rfl) (by decide) ?_
              refine lv_aload_n hx hb dX3_numbers_191 rfl (lv_at hl 0 rfl) ?_
              refine lv_iconst (v := 1) hx hb dX3_numbers_192 (by decide) ?_
              refine lv_aload_n hx hb dX3_numbers_193 rfl (lv_at hl 1 rfl) ?_
              refine lv_sipush (v := 215) hx hb dX3_numbers_194 (by decide) ?_
              refine lv_iconst (v := 5) hx hb dX3_numbers_197 (by decide) ?_
              refine yP (rest := [.int 1, .ref q]) X hf (met_behind hl0) gw_X3_X3_behind dy_X3_behind ⟨by first | omega | (dsimp only; omega), by first | omega | (dsimp only; omega)⟩ ⟨by first | omega | (dsimp only; omega), by first | omega | (dsimp only; omega)⟩ ⟨by first | omega | (dsimp only; omega), by first | omega | (dsimp only; omega)⟩ hP hD hS rfl hl.1 rfl (Nat.le_of_ble_eq_true rfl) dX3_numbers_198 (fun a5 t5 k5 n5 j5 i5 new5 rv H locs hf ek5 en5 hrep5 hP hD hS => ?_)
              obtain ⟨rfl, rfl⟩ := hrep5
              refine va_iast hx hb X.1.2.2.2.2.2.2.2.2 hP hD hS 2 0 rfl rfl (by unfold vp_in; decide) dX3_numbers_201 (fun H locs hP hD hS => ?_)
              have hP : va_P g.1 vwCl (tkw g r0 ta cT sz t5 ++ [(q, .inl (g.2 0, 4, .inl (upd (upd (fun _ => 0) 0 v) 1 a5)))]) H := hP
              have hD : va_D A (tkw g r0 ta cT sz t5 ++ [(q, .inl (g.2 0, 4, .inl (upd (upd (fun _ => 0) 0 v) 1 a5)))]) := hD
              refine lv_goto (tgt := 205) hx hb dX3_numbers_202 (by decide) ?_
              refine lv_aload_n hx hb dX3_numbers_205 rfl (lv_at hl 0 rfl) ?_
              cases hf
              exact yRa X ⟨_, [(q, .inl (g.2 0, 4, .inl (upd (upd (fun _ => 0) 0 v) 1 a5)))], rfl, rfl, q, rfl, rfl⟩ hP hD hS ⟨by first | omega | (dsimp only; omega), by first | omega | (dsimp only; omega)⟩ dX3_numbers_206
            · refine lv_tableIn (off := 114) (tgt := 191) hx hb dX3_numbers_77 (by rw [q5]; decide) (by rw [q5]; decide) (by rw [q5]; rfl) (by decide) ?_
              refine lv_aload_n hx hb dX3_numbers_191 rfl (lv_at hl 0 rfl) ?_
              refine lv_iconst (v := 1) hx hb dX3_numbers_192 (by decide) ?_
              refine lv_aload_n hx hb dX3_numbers_193 rfl (lv_at hl 1 rfl) ?_
              refine lv_sipush (v := 215) hx hb dX3_numbers_194 (by decide) ?_
              refine lv_iconst (v := 5) hx hb dX3_numbers_197 (by decide) ?_
              refine yP (rest := [.int 1, .ref q]) X hf (met_behind hl0) gw_X3_X3_behind dy_X3_behind ⟨by first | omega | (dsimp only; omega), by first | omega | (dsimp only; omega)⟩ ⟨by first | omega | (dsimp only; omega), by first | omega | (dsimp only; omega)⟩ ⟨by first | omega | (dsimp only; omega), by first | omega | (dsimp only; omega)⟩ hP hD hS rfl hl.1 rfl (Nat.le_of_ble_eq_true rfl) dX3_numbers_198 (fun a5 t5 k5 n5 j5 i5 new5 rv H locs hf ek5 en5 hrep5 hP hD hS => ?_)
              obtain ⟨rfl, rfl⟩ := hrep5
              refine va_iast hx hb X.1.2.2.2.2.2.2.2.2 hP hD hS 2 0 rfl rfl (by unfold vp_in; decide) dX3_numbers_201 (fun H locs hP hD hS => ?_)
              have hP : va_P g.1 vwCl (tkw g r0 ta cT sz t5 ++ [(q, .inl (g.2 0, 4, .inl (upd (upd (fun _ => 0) 0 v) 1 a5)))]) H := hP
              have hD : va_D A (tkw g r0 ta cT sz t5 ++ [(q, .inl (g.2 0, 4, .inl (upd (upd (fun _ => 0) 0 v) 1 a5)))]) := hD
              refine lv_goto (tgt := 205) hx hb dX3_numbers_202 (by decide) ?_
              refine lv_aload_n hx hb dX3_numbers_205 rfl (lv_at hl 0 rfl) ?_
              cases hf
              exact yRa X ⟨_, [(q, .inl (g.2 0, 4, .inl (upd (upd (fun _ => 0) 0 v) 1 a5)))], rfl, rfl, q, rfl, rfl⟩ hP hD hS ⟨by first | omega | (dsimp only; omega), by first | omega | (dsimp only; omega)⟩ dX3_numbers_206
          · rw [if_neg qb] at hf
            unfold pOk at hf
            refine lv_tableOut (tgt := 205) hx hb dX3_numbers_77 (tsw_out (fun h => qa (Or.inl h)) q206 q207 (fun h => qa (Or.inr h)) (fun h => qb (Or.inl h)) (fun h => qb (Or.inr (Or.inl h))) (fun h => qb (Or.inr (Or.inr h)))) (by decide) ?_
            refine lv_aload_n hx hb dX3_numbers_205 rfl (lv_at hl 0 rfl) ?_
            cases hf
            exact yRa X ⟨_, [(q, .inl (g.2 0, 4, .inl (upd (fun _ => 0) 0 v)))], rfl, rfl, q, rfl, rfl⟩ hP hD hS ⟨by first | omega | (dsimp only; omega), by first | omega | (dsimp only; omega)⟩ dX3_numbers_206
  refine lv_aload_n hx hb dX3_numbers_6 rfl (lv_at hl 1 rfl) ?_
  refine gT_kind X.1 hP dX3_numbers_7 ?_
  unfold pFirst at hf
  refine lv_sipush (v := 212) hx hb dX3_numbers_10 (by decide) ?_
  refine lv_icmp_ne (tgt := 26) hx hb dX3_numbers_13 (by decide) (fun q5 => ?_) (fun q5 => ?_)
  · rw [if_neg q5] at hf
    refine lv_aload_n hx hb dX3_numbers_26 rfl (lv_at hl 1 rfl) ?_
    refine lv_iconst (v := 0) hx hb dX3_numbers_27 (by decide) ?_
    refine lv_aload_n hx hb dX3_numbers_28 rfl (lv_at hl 1 rfl) ?_
    refine gT_kind X.1 hP dX3_numbers_29 ?_
    refine lv_sipush (v := 204) hx hb dX3_numbers_32 (by decide) ?_
    refine lv_icmp_ne (tgt := 43) hx hb dX3_numbers_35 (by decide) (fun q6 => ?_) (fun q6 => ?_)
    · rw [if_neg q6] at hf
      refine lv_aload_n hx hb dX3_numbers_43 rfl (lv_at hl 1 rfl) ?_
      refine gT_kind X.1 hP dX3_numbers_44 ?_
      refine lv_sipush (v := 205) hx hb dX3_numbers_47 (by decide) ?_
      refine lv_icmp_eq (tgt := 63) hx hb dX3_numbers_50 (by decide) (fun q7 => ?_) (fun q7 => ?_)
      · rw [if_pos q7] at hf
        refine lv_bipush (v := 7) hx hb dX3_numbers_63 (by decide) ?_
        refine lv_goto (tgt := 69) hx hb dX3_numbers_65 (by decide) ?_
        refine yP (rest := [.int 0, .ref q]) X hf (met_number hl0) gw_X3_X3_number dy_X3_number ⟨by first | omega | (dsimp only; omega), by first | omega | (dsimp only; omega)⟩ ⟨by first | omega | (dsimp only; omega), by first | omega | (dsimp only; omega)⟩ ⟨by first | omega | (dsimp only; omega), by first | omega | (dsimp only; omega)⟩ hP hD hS rfl hl.1 rfl (Nat.le_of_ble_eq_true rfl) dX3_numbers_69 (fun a5 t5 k5 n5 j5 i5 new5 rv H locs hf ek5 en5 hrep5 hP hD hS => ?_)
        obtain ⟨rfl, rfl⟩ := hrep5
        exact hend _ _ _ _ _ _ _ _ hf (by omega) (by omega) hP hD hS
      · rw [if_neg q7] at hf
        refine lv_aload_n hx hb dX3_numbers_53 rfl (lv_at hl 1 rfl) ?_
        refine gT_kind X.1 hP dX3_numbers_54 ?_
        refine lv_sipush (v := 206) hx hb dX3_numbers_57 (by decide) ?_
        refine lv_icmp_ne (tgt := 68) hx hb dX3_numbers_60 (by decide) (fun q8 => ?_) (fun q8 => ?_)
        · rw [if_neg q8] at hf
          refine lv_iconst (v := 5) hx hb dX3_numbers_68 (by decide) ?_
          refine yP (rest := [.int 0, .ref q]) X hf (met_number hl0) gw_X3_X3_number dy_X3_number ⟨by first | omega | (dsimp only; omega), by first | omega | (dsimp only; omega)⟩ ⟨by first | omega | (dsimp only; omega), by first | omega | (dsimp only; omega)⟩ ⟨by first | omega | (dsimp only; omega), by first | omega | (dsimp only; omega)⟩ hP hD hS rfl hl.1 rfl (Nat.le_of_ble_eq_true rfl) dX3_numbers_69 (fun a5 t5 k5 n5 j5 i5 new5 rv H locs hf ek5 en5 hrep5 hP hD hS => ?_)
          obtain ⟨rfl, rfl⟩ := hrep5
          exact hend _ _ _ _ _ _ _ _ hf (by omega) (by omega) hP hD hS
        · rw [if_pos q8] at hf
          refine lv_bipush (v := 7) hx hb dX3_numbers_63 (by decide) ?_
          refine lv_goto (tgt := 69) hx hb dX3_numbers_65 (by decide) ?_
          refine yP (rest := [.int 0, .ref q]) X hf (met_number hl0) gw_X3_X3_number dy_X3_number ⟨by first | omega | (dsimp only; omega), by first | omega | (dsimp only; omega)⟩ ⟨by first | omega | (dsimp only; omega), by first | omega | (dsimp only; omega)⟩ ⟨by first | omega | (dsimp only; omega), by first | omega | (dsimp only; omega)⟩ hP hD hS rfl hl.1 rfl (Nat.le_of_ble_eq_true rfl) dX3_numbers_69 (fun a5 t5 k5 n5 j5 i5 new5 rv H locs hf ek5 en5 hrep5 hP hD hS => ?_)
          obtain ⟨rfl, rfl⟩ := hrep5
          exact hend _ _ _ _ _ _ _ _ hf (by omega) (by omega) hP hD hS
    · rw [if_pos q6] at hf
      refine lv_bipush (v := 9) hx hb dX3_numbers_38 (by decide) ?_
      refine lv_goto (tgt := 69) hx hb dX3_numbers_40 (by decide) ?_
      refine yP (rest := [.int 0, .ref q]) X hf (met_number hl0) gw_X3_X3_number dy_X3_number ⟨by first | omega | (dsimp only; omega), by first | omega | (dsimp only; omega)⟩ ⟨by first | omega | (dsimp only; omega), by first | omega | (dsimp only; omega)⟩ ⟨by first | omega | (dsimp only; omega), by first | omega | (dsimp only; omega)⟩ hP hD hS rfl hl.1 rfl (Nat.le_of_ble_eq_true rfl) dX3_numbers_69 (fun a5 t5 k5 n5 j5 i5 new5 rv H locs hf ek5 en5 hrep5 hP hD hS => ?_)
      obtain ⟨rfl, rfl⟩ := hrep5
      exact hend _ _ _ _ _ _ _ _ hf (by omega) (by omega) hP hD hS
  · rw [if_pos q5] at hf
    refine lv_aload_n hx hb dX3_numbers_16 rfl (lv_at hl 1 rfl) ?_
    refine lv_iconst (v := 1) hx hb dX3_numbers_17 (by decide) ?_
    refine lv_bipush (v := 60) hx hb dX3_numbers_18 (by decide) ?_
    refine yP (rest := [.int 0, .ref q]) X hf (met_number hl0) gw_X3_X3_number dy_X3_number ⟨by first | omega | (dsimp only; omega), by first | omega | (dsimp only; omega)⟩ ⟨by first | omega | (dsimp only; omega), by first | omega | (dsimp only; omega)⟩ ⟨by first | omega | (dsimp only; omega), by first | omega | (dsimp only; omega)⟩ hP hD hS rfl hl.1 rfl (Nat.le_of_ble_eq_true rfl) dX3_numbers_20 (fun a5 t5 k5 n5 j5 i5 new5 rv H locs hf ek5 en5 hrep5 hP hD hS => ?_)
    obtain ⟨rfl, rfl⟩ := hrep5
    refine lv_goto (tgt := 72) hx hb dX3_numbers_23 (by decide) ?_
    exact hend _ _ _ _ _ _ _ _ hf (by omega) (by omega) hP hD hS
