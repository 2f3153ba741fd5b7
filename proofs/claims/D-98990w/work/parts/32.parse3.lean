/-! ask, choice, one -/
theorem gw_X3_X3_sum : GoodIn lw_all (wsV RX3 93 RX3 yX3_sum (ws_ yX3_sum cX3_sum 3 (some (.object "WolfsHead$Sum")))) := lw_V q566 q568 qs7 q149 q569
theorem dy_X3_sum : Dy yX3_sum RX3 0 := by decide +kernel
theorem dyi_X9_init : Dy yX9_init RX9 3 ∧ yX9_init.name = "<init>" := ⟨by decide +kernel, rfl⟩
theorem gw_X3_X3_opens : GoodIn lw_all (wsV RX3 146 RX3 yX3_opens (ws_ yX3_opens cX3_opens 1 none)) := lw_V q601 q603 qs12 q149 q604
theorem dy_X3_opens : Dy yX3_opens RX3 0 := by decide +kernel
theorem dyi_X8_init : Dy yX8_init RX8 1 ∧ yX8_init.name = "<init>" := ⟨by decide +kernel, rfl⟩
theorem met_ask1 {l : Launch} (hl0 : l.stackTraces = false) {g : gG} {z : Nat → Nat} {r0 ta : Nat} {cT : Nat → Int32} {sz : Int32} {φ : Nat} {t : TS} {ask : TS → Rs EvA} {sum : TS → Rs EvS} {F1 L1 D F2 L2 D2 : Nat} (hF : 12 ≤ F1) (hL : 600 ≤ L1) (hle : F2 ≤ F1 ∧ L2 ≤ L1 ∧ D2 ≤ D) (hask : ∀ t : TS, CP l yX3_ask (ws_ yX3_ask cX3_ask 3 (some (.object "WolfsHead$Asked"))) F2 L2 g z r0 ta cT sz [] t (ask t) (repA g z D2)) (hsum : ∀ t : TS, CP l yX3_sum (ws_ yX3_sum cX3_sum 3 (some (.object "WolfsHead$Sum"))) F1 L1 g z r0 ta cT sz [] t (sum t) (repS g z D)) : CP l yX3_ask (ws_ yX3_ask cX3_ask 3 (some (.object "WolfsHead$Asked"))) (F1 + 1) (L1 + 40) g z r0 ta cT sz [] t (pAsk1 (tkNext φ cT sz) ask sum t) (repA g z (D + 1)) := by
  intro r t' k n0 hf
  refine CY.of RX3 rfl plain_X3 (Nat.le_of_ble_eq_true rfl) (fun p e s m below meth cd A ls X hP hD hS hl => ?_)
  have hx := X.1.1
  have hb := X.1.2.1
  have hown := X.1.2.2.2.2.2.1
  have hts := X.1.2.2.2.2.2.2.1
  have hl : lv_has ls 3 [(0, .ref r0)] := hl
  have hP : va_P g.1 vwCl (tkw g r0 ta cT sz t ++ []) s.heap := by rw [List.append_nil]; exact hP
  have hD : va_D A (tkw g r0 ta cT sz t ++ []) := by rw [List.append_nil]; exact hD
  unfold pAsk1 at hf
  refine lv_aload_n hx hb dX3_ask_0 rfl (lv_at hl 0 rfl) ?_
  refine gT_sort X.1 hP dX3_ask_1 ?_
  refine lv_sipush (v := 227) hx hb dX3_ask_4 (by decide) ?_
  refine lv_icmp_ne (tgt := 38) hx hb dX3_ask_7 (by decide) (fun q => ?_) (fun q => ?_)
  · rw [if_neg q] at hf
    refine lv_aload_n hx hb dX3_ask_38 rfl (lv_at hl 0 rfl) ?_
    refine yP (rest := []) X hf (hsum _) gw_X3_X3_sum dy_X3_sum ⟨by first | omega | (dsimp only; omega), by first | omega | (dsimp only; omega)⟩ ⟨by first | omega | (dsimp only; omega), by first | omega | (dsimp only; omega)⟩ ⟨by first | omega | (dsimp only; omega), by first | omega | (dsimp only; omega)⟩ hP hD hS rfl hl.1 rfl (Nat.le_of_ble_eq_true rfl) dX3_ask_39 (fun a1 t1 k1 n1 j1 i1 new1 rv H locs hf ek1 en1 hrep1 hP hD hS => ?_)
    obtain ⟨q1, rfl, hq1⟩ := hrep1
    refine lv_astore_n (lv' := [(1, .ref q1), (0, .ref r0)]) hx hb dX3_ask_42 rfl hl (by decide) rfl (fun ls hl => ?_)
    refine lv_aload_n hx hb dX3_ask_43 rfl (lv_at hl 1 rfl) ?_
    refine gT_sort X.1 hP dX3_ask_44 ?_
    refine lv_istore_n (lv' := [(2, .int t1.2.2.1), (1, .ref q1), (0, .ref r0)]) hx hb dX3_ask_47 rfl hl (by decide) rfl (fun ls hl => ?_)
    by_cases hq : isCmp t1.2.2.1
    · rw [if_pos hq] at hf
      have hbody : W p l e ({ frames := F1 + 1, cells := k, slots := n0, locals := L1 + 40 } : Room) s m ([.ref r0] : List Value).toArray below meth cd H locs (0 + k1) (0 + n1) (vx_MQ below (QYr g (fun rv w' => ∃ a new, r = .inr a ∧ w' = tkw g r0 ta cT sz t' ++ new ∧ (repA g z (D + 1)) new rv a) A) (XYr g (pxT g r0 ta cT sz r t') A) ([.ref r0] : List Value).toArray s k n0 A) (F0 m 92 ls []) := by
        refine lv_aload_n hx hb dX3_ask_92 rfl (lv_at hl 2 rfl) ?_
        obtain ⟨t2, hn_t2, hf⟩ := bs hf
        refine yNx (rest := []) X hn_t2 ⟨by first | omega | (dsimp only; omega), by first | omega | (dsimp only; omega)⟩ ⟨by first | omega | (dsimp only; omega), by first | omega | (dsimp only; omega)⟩ hP hD hS hl.1 (Nat.le_of_ble_eq_true rfl) dX3_ask_93 (fun H locs hP hD hS => ?_)
        obtain ⟨k5, m5, hf, ek5, en5⟩ := pCs hf
        refine rNew X.1 in_X9 tyX9 tyX9_ok q629 q630 q166 hP hD hS (ci := 9) rfl [.int 0, .null, .null] (by decide) (by first | omega | (dsimp only; omega)) (by first | omega | (dsimp only; omega)) dX3_ask_96 (fun o9 H hP hD hS => ?_)
        have hP : va_P g.1 vwCl (tkw g r0 ta cT sz t2 ++ (new1 ++ [(o9, .inr (9, [.int 0, .null, .null]))])) H := by have h := hP; rw [List.append_nil, List.append_assoc] at h; exact h
        have hD : va_D A (tkw g r0 ta cT sz t2 ++ (new1 ++ [(o9, .inr (9, [.int 0, .null, .null]))])) := by have h := hD; rw [List.append_nil, List.append_assoc] at h; exact h
        refine lv_dup hx hb dX3_ask_99 rfl ?_
        refine lv_iload_n hx hb dX3_ask_100 rfl (lv_at hl 0 rfl) ?_
        refine lv_aload_n hx hb dX3_ask_101 rfl (lv_at hl 1 rfl) ?_
        refine lv_aload_n hx hb dX3_ask_102 rfl (lv_at hl 2 rfl) ?_
        refine yP (rest := [.ref q1, .int t1.2.2.1, .ref o9, .ref o9]) X hf (hsum _) gw_X3_X3_sum dy_X3_sum ⟨by first | omega | (dsimp only; omega), by first | omega | (dsimp only; omega)⟩ ⟨by first | omega | (dsimp only; omega), by first | omega | (dsimp only; omega)⟩ ⟨by first | omega | (dsimp only; omega), by first | omega | (dsimp only; omega)⟩ hP hD hS rfl hl.1 rfl (Nat.le_of_ble_eq_true rfl) dX3_ask_103 (fun a3 t3 k3 n3 j3 i3 new3 rv H locs hf ek3 en3 hrep3 hP hD hS => ?_)
        obtain ⟨q3, rfl, hq3⟩ := hrep3
        unfold pOk at hf
        cases hf
        rw [← List.append_assoc new3 new1] at hP hD
        obtain ⟨hP, hD⟩ := w_perm hP hD (pm5 (o9, .inr (9, [.int 0, .null, .null])) (tkw g r0 ta cT sz t') (new3 ++ new1))
        refine cIN (rest := [.ref o9]) X.1 X.2.1.1 21 (met_X9_init (g := g)) (lw_meth q633) q166 rfl q632 dyi_X9_init ⟨⟨rfl, rfl⟩, by dsimp only; omega, by dsimp only; omega⟩ ⟨by first | omega | (dsimp only; omega), by first | omega | (dsimp only; omega)⟩ hP hD hS rfl hl.1 rfl (Nat.le_of_ble_eq_true rfl) dX3_ask_106 (fun H locs hP hD hS => ?_)
        obtain ⟨hP, hD⟩ := w_perm hP hD (pm8 _ (tkw g r0 ta cT sz t') _)
        exact yRr X ⟨_, _, rfl, rfl, o9, rfl, Or.inl ⟨0, q1, q3, t1.2.2.1, a1, a3, rfl, (rP_up g z (fun x hx => by simp [hx]) (by omega)).1 _ _ hq1, (rP_up g z (fun x hx => by simp [hx]) (by omega)).1 _ _ hq3, rfl⟩⟩ hP hD hS ⟨by first | omega | (dsimp only; omega), by first | omega | (dsimp only; omega)⟩ dX3_ask_109
      refine lv_iload_n hx hb dX3_ask_48 rfl (lv_at hl 0 rfl) ?_
      refine lv_bipush (v := 60) hx hb dX3_ask_49 (by decide) ?_
      refine lv_icmp_eq (tgt := 92) hx hb dX3_ask_51 (by decide) (fun _ => hbody) (fun c0 => ?_)
      refine lv_iload_n hx hb dX3_ask_54 rfl (lv_at hl 0 rfl) ?_
      refine lv_bipush (v := 62) hx hb dX3_ask_55 (by decide) ?_
      refine lv_icmp_eq (tgt := 92) hx hb dX3_ask_57 (by decide) (fun _ => hbody) (fun c1 => ?_)
      refine lv_iload_n hx hb dX3_ask_60 rfl (lv_at hl 0 rfl) ?_
      refine lv_bipush (v := 61) hx hb dX3_ask_61 (by decide) ?_
      refine lv_icmp_eq (tgt := 92) hx hb dX3_ask_63 (by decide) (fun _ => hbody) (fun c2 => ?_)
      refine lv_iload_n hx hb dX3_ask_66 rfl (lv_at hl 0 rfl) ?_
      refine lv_bipush (v := 35) hx hb dX3_ask_67 (by decide) ?_
      refine lv_icmp_eq (tgt := 92) hx hb dX3_ask_69 (by decide) (fun _ => hbody) (fun c3 => ?_)
      refine lv_iload_n hx hb dX3_ask_72 rfl (lv_at hl 0 rfl) ?_
      refine lv_sipush (v := 303) hx hb dX3_ask_73 (by decide) ?_
      refine lv_icmp_eq (tgt := 92) hx hb dX3_ask_76 (by decide) (fun _ => hbody) (fun c4 => ?_)
      refine lv_iload_n hx hb dX3_ask_79 rfl (lv_at hl 0 rfl) ?_
      refine lv_sipush (v := 304) hx hb dX3_ask_80 (by decide) ?_
      refine lv_icmp_eq (tgt := 92) hx hb dX3_ask_83 (by decide) (fun _ => hbody) (fun c5 => absurd hq (fun h => by rcases h with h | h | h | h | h | h; exact c0 h; exact c1 h; exact c2 h; exact c3 h; exact c4 h; exact c5 h))
    · rw [if_neg hq] at hf
      refine lv_iload_n hx hb dX3_ask_48 rfl (lv_at hl 0 rfl) ?_
      refine lv_bipush (v := 60) hx hb dX3_ask_49 (by decide) ?_
      refine lv_icmp_eq (tgt := 92) hx hb dX3_ask_51 (by decide) (fun h => absurd (Or.inl h) hq) (fun _ => ?_)
      refine lv_iload_n hx hb dX3_ask_54 rfl (lv_at hl 0 rfl) ?_
      refine lv_bipush (v := 62) hx hb dX3_ask_55 (by decide) ?_
      refine lv_icmp_eq (tgt := 92) hx hb dX3_ask_57 (by decide) (fun h => absurd (Or.inr (Or.inl h)) hq) (fun _ => ?_)
      refine lv_iload_n hx hb dX3_ask_60 rfl (lv_at hl 0 rfl) ?_
      refine lv_bipush (v := 61) hx hb dX3_ask_61 (by decide) ?_
      refine lv_icmp_eq (tgt := 92) hx hb dX3_ask_63 (by decide) (fun h => absurd (Or.inr (Or.inr (Or.inl h))) hq) (fun _ => ?_)
      refine lv_iload_n hx hb dX3_ask_66 rfl (lv_at hl 0 rfl) ?_
      refine lv_bipush (v := 35) hx hb dX3_ask_67 (by decide) ?_
      refine lv_icmp_eq (tgt := 92) hx hb dX3_ask_69 (by decide) (fun h => absurd (Or.inr (Or.inr (Or.inr (Or.inl h)))) hq) (fun _ => ?_)
      refine lv_iload_n hx hb dX3_ask_72 rfl (lv_at hl 0 rfl) ?_
      refine lv_sipush (v := 303) hx hb dX3_ask_73 (by decide) ?_
      refine lv_icmp_eq (tgt := 92) hx hb dX3_ask_76 (by decide) (fun h => absurd (Or.inr (Or.inr (Or.inr (Or.inr (Or.inl h))))) hq) (fun _ => ?_)
      refine lv_iload_n hx hb dX3_ask_79 rfl (lv_at hl 0 rfl) ?_
      refine lv_sipush (v := 304) hx hb dX3_ask_80 (by decide) ?_
      refine lv_icmp_eq (tgt := 92) hx hb dX3_ask_83 (by decide) (fun h => absurd (Or.inr (Or.inr (Or.inr (Or.inr (Or.inr (h)))))) hq) (fun _ => ?_)
      refine lv_aload_n hx hb dX3_ask_86 rfl (lv_at hl 2 rfl) ?_
      refine lv_iconst (v := 1) hx hb dX3_ask_87 (by decide) ?_
      exact yErr hl0 X hf ⟨by first | omega | (dsimp only; omega), by first | omega | (dsimp only; omega)⟩ ⟨by first | omega | (dsimp only; omega), by first | omega | (dsimp only; omega)⟩ ⟨by first | omega | (dsimp only; omega), by first | omega | (dsimp only; omega)⟩ hP hD hS hl.1 dX3_ask_88 dX3_ask_91
  · rw [if_pos q] at hf
    refine lv_aload_n hx hb dX3_ask_10 rfl (lv_at hl 0 rfl) ?_
    refine yP (rest := []) X hf (met_opens hl0) gw_X3_X3_opens dy_X3_opens ⟨by first | omega | (dsimp only; omega), by first | omega | (dsimp only; omega)⟩ ⟨by first | omega | (dsimp only; omega), by first | omega | (dsimp only; omega)⟩ ⟨by first | omega | (dsimp only; omega), by first | omega | (dsimp only; omega)⟩ hP hD hS rfl hl.1 rfl (Nat.le_of_ble_eq_true rfl) dX3_ask_11 (fun a1 t1 k1 n1 j1 i1 new1 rv H locs hf ek1 en1 hrep1 hP hD hS => ?_)
    obtain ⟨rfl, rfl⟩ := hrep1
    obtain ⟨k5, m5, hf, ek5, en5⟩ := pCs hf
    refine rNew X.1 in_X8 tyX8 tyX8_ok q619 q620 q165 hP hD hS (ci := 8) rfl [.null] (by decide) (by first | omega | (dsimp only; omega)) (by first | omega | (dsimp only; omega)) dX3_ask_14 (fun o9 H hP hD hS => ?_)
    have hP : va_P g.1 vwCl (tkw g r0 ta cT sz t1 ++ [(o9, .inr (8, [.null]))]) H := hP
    have hD : va_D A (tkw g r0 ta cT sz t1 ++ [(o9, .inr (8, [.null]))]) := hD
    refine lv_dup hx hb dX3_ask_17 rfl ?_
    refine lv_aload_n hx hb dX3_ask_18 rfl (lv_at hl 0 rfl) ?_
    refine yP (rest := [.ref o9, .ref o9]) X hf (hask _) gw_X3_X3_ask dy_X3_ask ⟨by first | omega | (dsimp only; omega), by first | omega | (dsimp only; omega)⟩ ⟨by first | omega | (dsimp only; omega), by first | omega | (dsimp only; omega)⟩ ⟨by first | omega | (dsimp only; omega), by first | omega | (dsimp only; omega)⟩ hP hD hS rfl hl.1 rfl (Nat.le_of_ble_eq_true rfl) dX3_ask_19 (fun a2 t2 k2 n2 j2 i2 new2 rv H locs hf ek2 en2 hrep2 hP hD hS => ?_)
    obtain ⟨q2, rfl, hq2⟩ := hrep2
    unfold pOk at hf
    cases hf
    obtain ⟨hP, hD⟩ := w_perm hP hD (pm5 (o9, .inr (8, [.null])) (tkw g r0 ta cT sz t2) new2)
    refine cIN (rest := [.ref o9]) X.1 X.2.1.1 20 (met_X8_init (g := g)) (lw_meth q623) q165 rfl q622 dyi_X8_init ⟨⟨rfl, rfl⟩, by dsimp only; omega, by dsimp only; omega⟩ ⟨by first | omega | (dsimp only; omega), by first | omega | (dsimp only; omega)⟩ hP hD hS rfl hl.1 rfl (Nat.le_of_ble_eq_true rfl) dX3_ask_22 (fun H locs hP hD hS => ?_)
    obtain ⟨hP, hD⟩ := w_perm hP hD (pm8 _ (tkw g r0 ta cT sz t2) _)
    refine lv_astore_n (lv' := [(1, .ref o9), (0, .ref r0)]) hx hb dX3_ask_25 rfl hl (by decide) rfl (fun ls hl => ?_)
    refine lv_aload_n hx hb dX3_ask_26 rfl (lv_at hl 1 rfl) ?_
    refine lv_dup hx hb dX3_ask_27 rfl ?_
    refine gT_open X.1 hP dX3_ask_28 ?_
    refine lv_iconst (v := 1) hx hb dX3_ask_31 (by decide) ?_
    refine lv_isub hx hb dX3_ask_32 ?_
    refine pT_open X.1 hP hD hS dX3_ask_33 (fun H locs hP hD hS => ?_)
    refine lv_aload_n hx hb dX3_ask_36 rfl (lv_at hl 0 rfl) ?_
    exact yRr X ⟨_, (o9, .inr (8, [.ref q2])) :: new2, rfl, rfl, o9, rfl, Or.inr (Or.inl ⟨0, q2, a2, rfl, (rP_up g z (fun x hx => by simp [hx]) (by omega)).2 _ _ hq2, rfl⟩)⟩ hP hD hS ⟨by first | omega | (dsimp only; omega), by first | omega | (dsimp only; omega)⟩ dX3_ask_37
theorem gw_X3_X3_either : GoodIn lw_all (wsV RX3 180 RX3 yX3_either (ws_ yX3_either cX3_either 2 (some (.object "WolfsHead$Asked")))) := lw_V q605 q607 qs13 q149 q608
theorem dy_X3_either : Dy yX3_either RX3 0 := by decide +kernel
theorem dyi_X11_init : Dy yX11_init RX11 3 ∧ yX11_init.name = "<init>" := ⟨by decide +kernel, rfl⟩
theorem met_choice {l : Launch} (hl0 : l.stackTraces = false) {g : gG} {z : Nat → Nat} {r0 ta : Nat} {cT : Nat → Int32} {sz : Int32} {φ : Nat} {t : TS} {either : TS → Rs EvA} {sum : TS → Rs EvS} {F1 L1 D F2 L2 D2 : Nat} (hF : 13 ≤ F1) (hL : 600 ≤ L1) (hle : F2 ≤ F1 ∧ L2 ≤ L1 ∧ D2 ≤ D) (heit : ∀ t : TS, CP l yX3_either (ws_ yX3_either cX3_either 2 (some (.object "WolfsHead$Asked"))) F1 L1 g z r0 ta cT sz [] t (either t) (repA g z D)) (hsum : ∀ t : TS, CP l yX3_sum (ws_ yX3_sum cX3_sum 3 (some (.object "WolfsHead$Sum"))) F2 L2 g z r0 ta cT sz [] t (sum t) (repS g z D2)) : CP l yX3_choice (ws_ yX3_choice cX3_choice 4 (some (.object "WolfsHead$Sum"))) (F1 + 1) (L1 + 40) g z r0 ta cT sz [] t (pChoice (tkNext φ cT sz) either sum t) (repS g z (D + 1)) := by
  intro r t' k n0 hf
  refine CY.of RX3 rfl plain_X3 (Nat.le_of_ble_eq_true rfl) (fun p e s m below meth cd A ls X hP hD hS hl => ?_)
  have hx := X.1.1
  have hb := X.1.2.1
  have hown := X.1.2.2.2.2.2.1
  have hts := X.1.2.2.2.2.2.2.1
  have hl : lv_has ls 4 [(0, .ref r0)] := hl
  have hP : va_P g.1 vwCl (tkw g r0 ta cT sz t ++ []) s.heap := by rw [List.append_nil]; exact hP
  have hD : va_D A (tkw g r0 ta cT sz t ++ []) := by rw [List.append_nil]; exact hD
  unfold pChoice at hf
  refine lv_aload_n hx hb dX3_choice_0 rfl (lv_at hl 0 rfl) ?_
  refine yP (rest := []) X hf (met_opens hl0) gw_X3_X3_opens dy_X3_opens ⟨by first | omega | (dsimp only; omega), by first | omega | (dsimp only; omega)⟩ ⟨by first | omega | (dsimp only; omega), by first | omega | (dsimp only; omega)⟩ ⟨by first | omega | (dsimp only; omega), by first | omega | (dsimp only; omega)⟩ hP hD hS rfl hl.1 rfl (Nat.le_of_ble_eq_true rfl) dX3_choice_1 (fun a1 t1 k1 n1 j1 i1 new1 rv H locs hf ek1 en1 hrep1 hP hD hS => ?_)
  obtain ⟨rfl, rfl⟩ := hrep1
  refine lv_aload_n hx hb dX3_choice_4 rfl (lv_at hl 0 rfl) ?_
  refine yP (rest := []) X hf (heit _) gw_X3_X3_either dy_X3_either ⟨by first | omega | (dsimp only; omega), by first | omega | (dsimp only; omega)⟩ ⟨by first | omega | (dsimp only; omega), by first | omega | (dsimp only; omega)⟩ ⟨by first | omega | (dsimp only; omega), by first | omega | (dsimp only; omega)⟩ hP hD hS rfl hl.1 rfl (Nat.le_of_ble_eq_true rfl) dX3_choice_5 (fun a2 t2 k2 n2 j2 i2 new2 rv H locs hf ek2 en2 hrep2 hP hD hS => ?_)
  obtain ⟨q2, rfl, hq2⟩ := hrep2
  refine lv_astore_n (lv' := [(1, .ref q2), (0, .ref r0)]) hx hb dX3_choice_8 rfl hl (by decide) rfl (fun ls hl => ?_)
  refine lv_aload_n hx hb dX3_choice_9 rfl (lv_at hl 1 rfl) ?_
  refine lv_sipush (v := 222) hx hb dX3_choice_10 (by decide) ?_
  refine yP (rest := []) X hf (met_want hl0) gw_X3_X3_want dy_X3_want ⟨by first | omega | (dsimp only; omega), by first | omega | (dsimp only; omega)⟩ ⟨by first | omega | (dsimp only; omega), by first | omega | (dsimp only; omega)⟩ ⟨by first | omega | (dsimp only; omega), by first | omega | (dsimp only; omega)⟩ hP hD hS rfl hl.1 rfl (Nat.le_of_ble_eq_true rfl) dX3_choice_13 (fun a3 t3 k3 n3 j3 i3 new3 rv H locs hf ek3 en3 hrep3 hP hD hS => ?_)
  obtain ⟨rfl, rfl⟩ := hrep3
  refine lv_aload_n hx hb dX3_choice_16 rfl (lv_at hl 1 rfl) ?_
  refine yP (rest := []) X hf (hsum _) gw_X3_X3_sum dy_X3_sum ⟨by first | omega | (dsimp only; omega), by first | omega | (dsimp only; omega)⟩ ⟨by first | omega | (dsimp only; omega), by first | omega | (dsimp only; omega)⟩ ⟨by first | omega | (dsimp only; omega), by first | omega | (dsimp only; omega)⟩ hP hD hS rfl hl.1 rfl (Nat.le_of_ble_eq_true rfl) dX3_choice_17 (fun a4 t4 k4 n4 j4 i4 new4 rv H locs hf ek4 en4 hrep4 hP hD hS => ?_)
  obtain ⟨q4, rfl, hq4⟩ := hrep4
  refine lv_astore_n (lv' := [(2, .ref q4), (1, .ref q2), (0, .ref r0)]) hx hb dX3_choice_20 rfl hl (by decide) rfl (fun ls hl => ?_)
  refine lv_aload_n hx hb dX3_choice_21 rfl (lv_at hl 2 rfl) ?_
  refine lv_sipush (v := 223) hx hb dX3_choice_22 (by decide) ?_
  refine yP (rest := []) X hf (met_want hl0) gw_X3_X3_want dy_X3_want ⟨by first | omega | (dsimp only; omega), by first | omega | (dsimp only; omega)⟩ ⟨by first | omega | (dsimp only; omega), by first | omega | (dsimp only; omega)⟩ ⟨by first | omega | (dsimp only; omega), by first | omega | (dsimp only; omega)⟩ hP hD hS rfl hl.1 rfl (Nat.le_of_ble_eq_true rfl) dX3_choice_25 (fun a5 t5 k5 n5 j5 i5 new5 rv H locs hf ek5 en5 hrep5 hP hD hS => ?_)
  obtain ⟨rfl, rfl⟩ := hrep5
  refine lv_aload_n hx hb dX3_choice_28 rfl (lv_at hl 2 rfl) ?_
  refine yP (rest := []) X hf (hsum _) gw_X3_X3_sum dy_X3_sum ⟨by first | omega | (dsimp only; omega), by first | omega | (dsimp only; omega)⟩ ⟨by first | omega | (dsimp only; omega), by first | omega | (dsimp only; omega)⟩ ⟨by first | omega | (dsimp only; omega), by first | omega | (dsimp only; omega)⟩ hP hD hS rfl hl.1 rfl (Nat.le_of_ble_eq_true rfl) dX3_choice_29 (fun a6 t6 k6 n6 j6 i6 new6 rv H locs hf ek6 en6 hrep6 hP hD hS => ?_)
  obtain ⟨q6, rfl, hq6⟩ := hrep6
  refine lv_astore_n (lv' := [(3, .ref q6), (2, .ref q4), (1, .ref q2), (0, .ref r0)]) hx hb dX3_choice_32 rfl hl (by decide) rfl (fun ls hl => ?_)
  refine lv_aload_n hx hb dX3_choice_33 rfl (lv_at hl 3 rfl) ?_
  refine lv_sipush (v := 224) hx hb dX3_choice_34 (by decide) ?_
  refine yP (rest := []) X hf (met_want hl0) gw_X3_X3_want dy_X3_want ⟨by first | omega | (dsimp only; omega), by first | omega | (dsimp only; omega)⟩ ⟨by first | omega | (dsimp only; omega), by first | omega | (dsimp only; omega)⟩ ⟨by first | omega | (dsimp only; omega), by first | omega | (dsimp only; omega)⟩ hP hD hS rfl hl.1 rfl (Nat.le_of_ble_eq_true rfl) dX3_choice_37 (fun a7 t7 k7 n7 j7 i7 new7 rv H locs hf ek7 en7 hrep7 hP hD hS => ?_)
  obtain ⟨rfl, rfl⟩ := hrep7
  obtain ⟨k8, m8, hf, ek8, en8⟩ := pCs hf
  unfold pOk at hf
  cases hf
  refine lv_aload_n hx hb dX3_choice_40 rfl (lv_at hl 3 rfl) ?_
  refine lv_dup hx hb dX3_choice_41 rfl ?_
  refine gT_open X.1 hP dX3_choice_42 ?_
  refine lv_iconst (v := 1) hx hb dX3_choice_45 (by decide) ?_
  refine lv_isub hx hb dX3_choice_46 ?_
  refine pT_open X.1 hP hD hS dX3_choice_47 (fun H locs hP hD hS => ?_)
  have hP : va_P g.1 vwCl (tkw g r0 ta cT sz (decO t7) ++ (new6 ++ (new4 ++ (new2 ++ [])))) H := hP
  have hD : va_D A (tkw g r0 ta cT sz (decO t7) ++ (new6 ++ (new4 ++ (new2 ++ [])))) := hD
  refine rNew X.1 in_X11 tyX11 tyX11_ok q741 q742 q171 hP hD hS (ci := 11) rfl [.null, .null, .null] (by decide) (by first | omega | (dsimp only; omega)) (by first | omega | (dsimp only; omega)) dX3_choice_50 (fun o9 H hP hD hS => ?_)
  obtain ⟨hP, hD⟩ := w_perm hP hD (pm7 _ (tkw g r0 ta cT sz (decO t7)) _)
  refine lv_dup hx hb dX3_choice_53 rfl ?_
  refine lv_aload_n hx hb dX3_choice_54 rfl (lv_at hl 2 rfl) ?_
  refine lv_aload_n hx hb dX3_choice_55 rfl (lv_at hl 1 rfl) ?_
  refine lv_aload_n hx hb dX3_choice_56 rfl (lv_at hl 0 rfl) ?_
  refine cIN (rest := [.ref o9]) X.1 X.2.1.1 23 (met_X11_init (g := g)) (lw_meth q745) q171 rfl q744 dyi_X11_init ⟨⟨rfl, rfl⟩, by dsimp only; omega, by dsimp only; omega⟩ ⟨by first | omega | (dsimp only; omega), by first | omega | (dsimp only; omega)⟩ hP hD hS rfl hl.1 rfl (Nat.le_of_ble_eq_true rfl) dX3_choice_57 (fun H locs hP hD hS => ?_)
  obtain ⟨hP, hD⟩ := w_perm hP hD (pm8 _ (tkw g r0 ta cT sz (decO t7)) _)
  exact yRr X ⟨_, _, rfl, rfl, o9, rfl, Or.inr (Or.inr (Or.inr (Or.inr (Or.inr (Or.inl ⟨0, q2, q4, q6, a2, a4, a6, rfl, (rP_up g z (fun x hx => by simp [hx]) (by omega)).2 _ _ hq2, (rP_up g z (fun x hx => by simp [hx]) (by omega)).1 _ _ hq4, (rP_up g z (fun x hx => by simp [hx]) (by omega)).1 _ _ hq6, rfl⟩)))))⟩ hP hD hS ⟨by first | omega | (dsimp only; omega), by first | omega | (dsimp only; omega)⟩ dX3_choice_60
theorem gw_X3_X3_nameNow : GoodIn lw_all (wsV RX3 195 RX3 yX3_nameNow (ws_ yX3_nameNow cX3_nameNow 2 (some .int))) := lw_V q757 q759 qs20 q149 q760
theorem dy_X3_nameNow : Dy yX3_nameNow RX3 0 := by decide +kernel
theorem dyi_X15_init : Dy yX15_init RX15 1 ∧ yX15_init.name = "<init>" := ⟨by decide +kernel, rfl⟩
theorem dyi_X14_init : Dy yX14_init RX14 1 ∧ yX14_init.name = "<init>" := ⟨by decide +kernel, rfl⟩
theorem dyi_X13_init : Dy yX13_init RX13 1 ∧ yX13_init.name = "<init>" := ⟨by decide +kernel, rfl⟩
theorem gw_X3_X3_mayName : GoodIn lw_all (wsV RX3 198 RX3 yX3_mayName (ws_ yX3_mayName cX3_mayName 2 (some .boolean))) := lw_V q763 q765 qs21 q149 q766
theorem dy_X3_mayName : Dy yX3_mayName RX3 1 := by decide +kernel
theorem dyi_X12_init : Dy yX12_init RX12 1 ∧ yX12_init.name = "<init>" := ⟨by decide +kernel, rfl⟩
theorem gw_X3_X3_choice : GoodIn lw_all (wsV RX3 192 RX3 yX3_choice (ws_ yX3_choice cX3_choice 4 (some (.object "WolfsHead$Sum")))) := lw_V q597 q599 qs11 q149 q600
theorem dy_X3_choice : Dy yX3_choice RX3 0 := by decide +kernel
theorem dyi_X7_init : Dy yX7_init RX7 1 ∧ yX7_init.name = "<init>" := ⟨by decide +kernel, rfl⟩
theorem met_one1 {l : Launch} (hl0 : l.stackTraces = false) {g : gG} {z : Nat → Nat} {r0 ta : Nat} {cT : Nat → Int32} {sz : Int32} {φ : Nat} {t : TS} {one sum choice : TS → Rs EvS} {F1 L1 D F2 L2 D2 F3 L3 D3 : Nat} (hF : 13 ≤ F1) (hL : 600 ≤ L1) (hle : F2 ≤ F1 ∧ L2 ≤ L1 ∧ D2 ≤ D) (hle3 : F3 ≤ F1 ∧ L3 ≤ L1 ∧ D3 ≤ D) (hone : ∀ t : TS, CP l yX3_one (ws_ yX3_one cX3_one 5 (some (.object "WolfsHead$Sum"))) F2 L2 g z r0 ta cT sz [] t (one t) (repS g z D2)) (hsum : ∀ t : TS, CP l yX3_sum (ws_ yX3_sum cX3_sum 3 (some (.object "WolfsHead$Sum"))) F3 L3 g z r0 ta cT sz [] t (sum t) (repS g z D3)) (hcho : ∀ t : TS, CP l yX3_choice (ws_ yX3_choice cX3_choice 4 (some (.object "WolfsHead$Sum"))) F1 L1 g z r0 ta cT sz [] t (choice t) (repS g z (D + 1))) : CP l yX3_one (ws_ yX3_one cX3_one 5 (some (.object "WolfsHead$Sum"))) (F1 + 1) (L1 + 40) g z r0 ta cT sz [] t (pOne1 (tkNext φ cT sz) φ one sum choice t) (repS g z (D + 1)) := by
  intro r t' k n0 hf
  refine CY.of RX3 rfl plain_X3 (Nat.le_of_ble_eq_true rfl) (fun p e s m below meth cd A ls X hP hD hS hl => ?_)
  have hx := X.1.1
  have hb := X.1.2.1
  have hown := X.1.2.2.2.2.2.1
  have hts := X.1.2.2.2.2.2.2.1
  have hl : lv_has ls 5 [(0, .ref r0)] := hl
  have hP : va_P g.1 vwCl (tkw g r0 ta cT sz t ++ []) s.heap := by rw [List.append_nil]; exact hP
  have hD : va_D A (tkw g r0 ta cT sz t ++ []) := by rw [List.append_nil]; exact hD
  unfold pOne1 at hf
  refine lv_aload_n hx hb dX3_one_0 rfl (lv_at hl 0 rfl) ?_
  refine gT_sort X.1 hP dX3_one_1 ?_
  refine lv_sipush (v := 300) hx hb dX3_one_4 (by decide) ?_
  refine lv_icmp_ne (tgt := 26) hx hb dX3_one_7 (by decide) (fun q => ?_) (fun q => ?_)
  · rw [if_neg q] at hf
    refine lv_aload_n hx hb dX3_one_26 rfl (lv_at hl 0 rfl) ?_
    refine gT_sort X.1 hP dX3_one_27 ?_
    refine lv_sipush (v := 221) hx hb dX3_one_30 (by decide) ?_
    refine lv_icmp_ne (tgt := 41) hx hb dX3_one_33 (by decide) (fun q => ?_) (fun q => ?_)
    · rw [if_neg q] at hf
      obtain ⟨nm, hnm, hf⟩ := bs hf
      refine lv_aload_n hx hb dX3_one_41 rfl (lv_at hl 0 rfl) ?_
      refine zV0 (rest := []) (As := []) (wf := []) X.1 X.2.1 (met_T_nameNow (g := g) hnm) gw_X3_X3_nameNow dy_X3_nameNow ⟨⟨rfl, rfl⟩, by dsimp only; omega, by dsimp only; omega⟩ ⟨by first | omega | (dsimp only; omega), by first | omega | (dsimp only; omega)⟩ hP hD hS (rcv (q0 := 0) (ci := 3) X.1 hP rfl rfl) rfl hl.1 rfl (Nat.le_of_ble_eq_true rfl) dX3_one_42 (fun H locs hP hD hS => ?_)
      have hP : va_P g.1 vwCl (tkw g r0 ta cT sz t ++ []) H := hP
      have hD : va_D A (tkw g r0 ta cT sz t ++ []) := hD
      refine lv_istore_n (lv' := [(1, .int nm), (0, .ref r0)]) hx hb dX3_one_45 rfl hl (by decide) rfl (fun ls hl => ?_)
      refine lv_iload_n hx hb dX3_one_46 rfl (lv_at hl 0 rfl) ?_
      refine lv_iconst (v := (-1)) hx hb dX3_one_47 (by decide) ?_
      refine lv_icmp_eq (tgt := 78) hx hb dX3_one_48 (by decide) (fun qn => ?_) (fun qn => ?_)
      · rw [if_pos qn] at hf
        refine lv_aload_n hx hb dX3_one_78 rfl (lv_at hl 1 rfl) ?_
        refine gT_sort X.1 hP dX3_one_79 ?_
        refine lv_bipush (v := 40) hx hb dX3_one_82 (by decide) ?_
        refine lv_icmp_ne (tgt := 105) hx hb dX3_one_84 (by decide) (fun q => ?_) (fun q => ?_)
        · rw [if_neg q] at hf
          by_cases hq : t.2.2.1 = 45 ∨ t.2.2.1 = 219 ∨ t.2.2.1 = 220
          · rw [if_pos hq] at hf
            have hbody : W p l e ({ frames := F1 + 1, cells := k, slots := n0, locals := L1 + 40 } : Room) s m ([.ref r0] : List Value).toArray below meth cd H locs (0) (0) (vx_MQ below (QYr g (fun rv w' => ∃ a new, r = .inr a ∧ w' = tkw g r0 ta cT sz t' ++ new ∧ (repS g z (D + 1)) new rv a) A) (XYr g (pxT g r0 ta cT sz r t') A) ([.ref r0] : List Value).toArray s k n0 A) (F0 m 134 ls []) := by
              refine lv_aload_n hx hb dX3_one_134 rfl (lv_at hl 1 rfl) ?_
              refine gT_sort X.1 hP dX3_one_135 ?_
              refine lv_istore_n (lv' := [(3, .int t.2.2.1), (1, .int nm), (0, .ref r0)]) hx hb dX3_one_138 rfl hl (by decide) rfl (fun ls hl => ?_)
              refine lv_aload_n hx hb dX3_one_139 rfl (lv_at hl 2 rfl) ?_
              refine yP (rest := []) X hf (met_opens hl0) gw_X3_X3_opens dy_X3_opens ⟨by first | omega | (dsimp only; omega), by first | omega | (dsimp only; omega)⟩ ⟨by first | omega | (dsimp only; omega), by first | omega | (dsimp only; omega)⟩ ⟨by first | omega | (dsimp only; omega), by first | omega | (dsimp only; omega)⟩ hP hD hS rfl hl.1 rfl (Nat.le_of_ble_eq_true rfl) dX3_one_140 (fun a1 t1 k1 n1 j1 i1 new1 rv H locs hf ek1 en1 hrep1 hP hD hS => ?_)
              obtain ⟨rfl, rfl⟩ := hrep1
              refine lv_aload_n hx hb dX3_one_143 rfl (lv_at hl 2 rfl) ?_
              refine yP (rest := []) X hf (hone _) gw_X3_X3_one dy_X3_one ⟨by first | omega | (dsimp only; omega), by first | omega | (dsimp only; omega)⟩ ⟨by first | omega | (dsimp only; omega), by first | omega | (dsimp only; omega)⟩ ⟨by first | omega | (dsimp only; omega), by first | omega | (dsimp only; omega)⟩ hP hD hS rfl hl.1 rfl (Nat.le_of_ble_eq_true rfl) dX3_one_144 (fun a2 t2 k2 n2 j2 i2 new2 rv H locs hf ek2 en2 hrep2 hP hD hS => ?_)
              obtain ⟨q2, rfl, hq2⟩ := hrep2
              obtain ⟨k5, m5, hf, ek5, en5⟩ := pCs hf
              unfold pOk sgE at hf
              refine lv_astore (lv' := [(4, .ref q2), (3, .int t.2.2.1), (1, .int nm), (0, .ref r0)]) hx hb dX3_one_147 hl (by decide) rfl (fun ls hl => ?_)
              refine lv_iload_n hx hb dX3_one_149 rfl (lv_at hl 1 rfl) ?_
              refine lv_sipush (v := 219) hx hb dX3_one_150 (by decide) ?_
              refine lv_icmp_ne (tgt := 168) hx hb dX3_one_153 (by decide) (fun q1 => ?_) (fun q1 => ?_)
              · rw [if_neg q1] at hf
                refine lv_iload_n hx hb dX3_one_168 rfl (lv_at hl 1 rfl) ?_
                refine lv_sipush (v := 220) hx hb dX3_one_169 (by decide) ?_
                refine lv_icmp_ne (tgt := 187) hx hb dX3_one_172 (by decide) (fun q3 => ?_) (fun q3 => ?_)
                · rw [if_neg q3] at hf
                  refine rNew X.1 in_X15 tyX15 tyX15_ok q797 q798 q175 hP hD hS (ci := 15) rfl [.null] (by decide) (by first | omega | (dsimp only; omega)) (by first | omega | (dsimp only; omega)) dX3_one_187 (fun o9 H hP hD hS => ?_)
                  obtain ⟨hP, hD⟩ := w_perm hP hD (pm7 _ (tkw g r0 ta cT sz t2) _)
                  refine lv_dup hx hb dX3_one_190 rfl ?_
                  refine lv_aload hx hb dX3_one_191 (lv_at hl 0 rfl) ?_
                  refine cIN (rest := [.ref o9]) X.1 X.2.1.1 27 (met_X15_init (g := g)) (lw_meth q801) q175 rfl q800 dyi_X15_init ⟨⟨rfl, rfl⟩, by dsimp only; omega, by dsimp only; omega⟩ ⟨by first | omega | (dsimp only; omega), by first | omega | (dsimp only; omega)⟩ hP hD hS rfl hl.1 rfl (Nat.le_of_ble_eq_true rfl) dX3_one_193 (fun H locs hP hD hS => ?_)
                  obtain ⟨hP, hD⟩ := w_perm hP hD (pm8 _ (tkw g r0 ta cT sz t2) _)
                  refine lv_astore_n (lv' := [(2, .ref o9), (4, .ref q2), (3, .int t.2.2.1), (1, .int nm), (0, .ref r0)]) hx hb dX3_one_196 rfl hl (by decide) rfl (fun ls hl => ?_)
                  refine lv_goto (tgt := 206) hx hb dX3_one_197 (by decide) ?_
                  refine lv_aload_n hx hb dX3_one_206 rfl (lv_at hl 4 rfl) ?_
                  refine lv_dup hx hb dX3_one_207 rfl ?_
                  refine gT_open X.1 hP dX3_one_208 ?_
                  refine lv_iconst (v := 1) hx hb dX3_one_211 (by decide) ?_
                  refine lv_isub hx hb dX3_one_212 ?_
                  refine pT_open X.1 hP hD hS dX3_one_213 (fun H locs hP hD hS => ?_)
                  refine lv_aload_n hx hb dX3_one_216 rfl (lv_at hl 0 rfl) ?_
                  cases hf
                  exact yRr X ⟨_, (o9, .inr (15, [.ref q2])) :: (new2 ++ []), rfl, rfl, o9, rfl, Or.inr (Or.inr (Or.inl ⟨0, q2, a2, rfl, (rP_up g z (fun x hx => by simp [hx]) (by omega)).1 _ _ hq2, rfl⟩))⟩ hP hD hS ⟨by first | omega | (dsimp only; omega), by first | omega | (dsimp only; omega)⟩ dX3_one_217
                · rw [if_pos q3] at hf
                  refine rNew X.1 in_X14 tyX14 tyX14_ok q787 q788 q174 hP hD hS (ci := 14) rfl [.null] (by decide) (by first | omega | (dsimp only; omega)) (by first | omega | (dsimp only; omega)) dX3_one_175 (fun o9 H hP hD hS => ?_)
                  obtain ⟨hP, hD⟩ := w_perm hP hD (pm7 _ (tkw g r0 ta cT sz t2) _)
                  refine lv_dup hx hb dX3_one_178 rfl ?_
                  refine lv_aload hx hb dX3_one_179 (lv_at hl 0 rfl) ?_
                  refine cIN (rest := [.ref o9]) X.1 X.2.1.1 26 (met_X14_init (g := g)) (lw_meth q791) q174 rfl q790 dyi_X14_init ⟨⟨rfl, rfl⟩, by dsimp only; omega, by dsimp only; omega⟩ ⟨by first | omega | (dsimp only; omega), by first | omega | (dsimp only; omega)⟩ hP hD hS rfl hl.1 rfl (Nat.le_of_ble_eq_true rfl) dX3_one_181 (fun H locs hP hD hS => ?_)
                  obtain ⟨hP, hD⟩ := w_perm hP hD (pm8 _ (tkw g r0 ta cT sz t2) _)
                  refine lv_goto (tgt := 196) hx hb dX3_one_184 (by decide) ?_
                  refine lv_astore_n (lv' := [(2, .ref o9), (4, .ref q2), (3, .int t.2.2.1), (1, .int nm), (0, .ref r0)]) hx hb dX3_one_196 rfl hl (by decide) rfl (fun ls hl => ?_)
                  refine lv_goto (tgt := 206) hx hb dX3_one_197 (by decide) ?_
                  refine lv_aload_n hx hb dX3_one_206 rfl (lv_at hl 4 rfl) ?_
                  refine lv_dup hx hb dX3_one_207 rfl ?_
                  refine gT_open X.1 hP dX3_one_208 ?_
                  refine lv_iconst (v := 1) hx hb dX3_one_211 (by decide) ?_
                  refine lv_isub hx hb dX3_one_212 ?_
                  refine pT_open X.1 hP hD hS dX3_one_213 (fun H locs hP hD hS => ?_)
                  refine lv_aload_n hx hb dX3_one_216 rfl (lv_at hl 0 rfl) ?_
                  cases hf
                  exact yRr X ⟨_, (o9, .inr (14, [.ref q2])) :: (new2 ++ []), rfl, rfl, o9, rfl, Or.inr (Or.inr (Or.inr (Or.inr (Or.inl ⟨0, q2, a2, rfl, (rP_up g z (fun x hx => by simp [hx]) (by omega)).1 _ _ hq2, rfl⟩))))⟩ hP hD hS ⟨by first | omega | (dsimp only; omega), by first | omega | (dsimp only; omega)⟩ dX3_one_217
              · rw [if_pos q1] at hf
                refine rNew X.1 in_X13 tyX13 tyX13_ok q777 q778 q173 hP hD hS (ci := 13) rfl [.null] (by decide) (by first | omega | (dsimp only; omega)) (by first | omega | (dsimp only; omega)) dX3_one_156 (fun o9 H hP hD hS => ?_)
                obtain ⟨hP, hD⟩ := w_perm hP hD (pm7 _ (tkw g r0 ta cT sz t2) _)
                refine lv_dup hx hb dX3_one_159 rfl ?_
                refine lv_aload hx hb dX3_one_160 (lv_at hl 0 rfl) ?_
                refine cIN (rest := [.ref o9]) X.1 X.2.1.1 25 (met_X13_init (g := g)) (lw_meth q781) q173 rfl q780 dyi_X13_init ⟨⟨rfl, rfl⟩, by dsimp only; omega, by dsimp only; omega⟩ ⟨by first | omega | (dsimp only; omega), by first | omega | (dsimp only; omega)⟩ hP hD hS rfl hl.1 rfl (Nat.le_of_ble_eq_true rfl) dX3_one_162 (fun H locs hP hD hS => ?_)
                obtain ⟨hP, hD⟩ := w_perm hP hD (pm8 _ (tkw g r0 ta cT sz t2) _)
                refine lv_goto (tgt := 196) hx hb dX3_one_165 (by decide) ?_
                refine lv_astore_n (lv' := [(2, .ref o9), (4, .ref q2), (3, .int t.2.2.1), (1, .int nm), (0, .ref r0)]) hx hb dX3_one_196 rfl hl (by decide) rfl (fun ls hl => ?_)
                refine lv_goto (tgt := 206) hx hb dX3_one_197 (by decide) ?_
                refine lv_aload_n hx hb dX3_one_206 rfl (lv_at hl 4 rfl) ?_
                refine lv_dup hx hb dX3_one_207 rfl ?_
                refine gT_open X.1 hP dX3_one_208 ?_
                refine lv_iconst (v := 1) hx hb dX3_one_211 (by decide) ?_
                refine lv_isub hx hb dX3_one_212 ?_
                refine pT_open X.1 hP hD hS dX3_one_213 (fun H locs hP hD hS => ?_)
                refine lv_aload_n hx hb dX3_one_216 rfl (lv_at hl 0 rfl) ?_
                cases hf
                exact yRr X ⟨_, (o9, .inr (13, [.ref q2])) :: (new2 ++ []), rfl, rfl, o9, rfl, Or.inr (Or.inr (Or.inr (Or.inl ⟨0, q2, a2, rfl, (rP_up g z (fun x hx => by simp [hx]) (by omega)).1 _ _ hq2, rfl⟩)))⟩ hP hD hS ⟨by first | omega | (dsimp only; omega), by first | omega | (dsimp only; omega)⟩ dX3_one_217
            refine lv_aload_n hx hb dX3_one_105 rfl (lv_at hl 1 rfl) ?_
            refine gT_sort X.1 hP dX3_one_106 ?_
            refine lv_bipush (v := 45) hx hb dX3_one_109 (by decide) ?_
            refine lv_icmp_eq (tgt := 134) hx hb dX3_one_111 (by decide) (fun _ => hbody) (fun c0 => ?_)
            refine lv_aload_n hx hb dX3_one_114 rfl (lv_at hl 1 rfl) ?_
            refine gT_sort X.1 hP dX3_one_115 ?_
            refine lv_sipush (v := 219) hx hb dX3_one_118 (by decide) ?_
            refine lv_icmp_eq (tgt := 134) hx hb dX3_one_121 (by decide) (fun _ => hbody) (fun c1 => ?_)
            refine lv_aload_n hx hb dX3_one_124 rfl (lv_at hl 1 rfl) ?_
            refine gT_sort X.1 hP dX3_one_125 ?_
            refine lv_sipush (v := 220) hx hb dX3_one_128 (by decide) ?_
            refine lv_icmp_ne (tgt := 200) hx hb dX3_one_131 (by decide) (fun c2 => absurd hq (fun h => by rcases h with h | h | h; exact c0 h; exact c1 h; exact c2 h)) (fun _ => hbody)
          · rw [if_neg hq] at hf
            refine lv_aload_n hx hb dX3_one_105 rfl (lv_at hl 1 rfl) ?_
            refine gT_sort X.1 hP dX3_one_106 ?_
            refine lv_bipush (v := 45) hx hb dX3_one_109 (by decide) ?_
            refine lv_icmp_eq (tgt := 134) hx hb dX3_one_111 (by decide) (fun h => absurd (Or.inl h) hq) (fun _ => ?_)
            refine lv_aload_n hx hb dX3_one_114 rfl (lv_at hl 1 rfl) ?_
            refine gT_sort X.1 hP dX3_one_115 ?_
            refine lv_sipush (v := 219) hx hb dX3_one_118 (by decide) ?_
            refine lv_icmp_eq (tgt := 134) hx hb dX3_one_121 (by decide) (fun h => absurd (Or.inr (Or.inl h)) hq) (fun _ => ?_)
            refine lv_aload_n hx hb dX3_one_124 rfl (lv_at hl 1 rfl) ?_
            refine gT_sort X.1 hP dX3_one_125 ?_
            refine lv_sipush (v := 220) hx hb dX3_one_128 (by decide) ?_
            refine lv_icmp_ne (tgt := 200) hx hb dX3_one_131 (by decide) (fun _ => ?_) (fun h => absurd (Or.inr (Or.inr h)) hq)
            refine lv_aload_n hx hb dX3_one_200 rfl (lv_at hl 1 rfl) ?_
            refine lv_iconst (v := 1) hx hb dX3_one_201 (by decide) ?_
            exact yErr hl0 X hf ⟨by first | omega | (dsimp only; omega), by first | omega | (dsimp only; omega)⟩ ⟨by first | omega | (dsimp only; omega), by first | omega | (dsimp only; omega)⟩ ⟨by first | omega | (dsimp only; omega), by first | omega | (dsimp only; omega)⟩ hP hD hS hl.1 dX3_one_202 dX3_one_205
        · rw [if_pos q] at hf
          refine lv_aload_n hx hb dX3_one_87 rfl (lv_at hl 1 rfl) ?_
          refine yP (rest := []) X hf (met_opens hl0) gw_X3_X3_opens dy_X3_opens ⟨by first | omega | (dsimp only; omega), by first | omega | (dsimp only; omega)⟩ ⟨by first | omega | (dsimp only; omega), by first | omega | (dsimp only; omega)⟩ ⟨by first | omega | (dsimp only; omega), by first | omega | (dsimp only; omega)⟩ hP hD hS rfl hl.1 rfl (Nat.le_of_ble_eq_true rfl) dX3_one_88 (fun a1 t1 k1 n1 j1 i1 new1 rv H locs hf ek1 en1 hrep1 hP hD hS => ?_)
          obtain ⟨rfl, rfl⟩ := hrep1
          refine lv_aload_n hx hb dX3_one_91 rfl (lv_at hl 1 rfl) ?_
          refine yP (rest := []) X hf (hsum _) gw_X3_X3_sum dy_X3_sum ⟨by first | omega | (dsimp only; omega), by first | omega | (dsimp only; omega)⟩ ⟨by first | omega | (dsimp only; omega), by first | omega | (dsimp only; omega)⟩ ⟨by first | omega | (dsimp only; omega), by first | omega | (dsimp only; omega)⟩ hP hD hS rfl hl.1 rfl (Nat.le_of_ble_eq_true rfl) dX3_one_92 (fun a2 t2 k2 n2 j2 i2 new2 rv H locs hf ek2 en2 hrep2 hP hD hS => ?_)
          obtain ⟨q2, rfl, hq2⟩ := hrep2
          refine lv_astore_n (lv' := [(2, .ref q2), (1, .int nm), (0, .ref r0)]) hx hb dX3_one_95 rfl hl (by decide) rfl (fun ls hl => ?_)
          refine lv_aload_n hx hb dX3_one_96 rfl (lv_at hl 2 rfl) ?_
          refine lv_bipush (v := 41) hx hb dX3_one_97 (by decide) ?_
          refine yP (rest := []) X hf (met_want hl0) gw_X3_X3_want dy_X3_want ⟨by first | omega | (dsimp only; omega), by first | omega | (dsimp only; omega)⟩ ⟨by first | omega | (dsimp only; omega), by first | omega | (dsimp only; omega)⟩ ⟨by first | omega | (dsimp only; omega), by first | omega | (dsimp only; omega)⟩ hP hD hS rfl hl.1 rfl (Nat.le_of_ble_eq_true rfl) dX3_one_99 (fun a3 t3 k3 n3 j3 i3 new3 rv H locs hf ek3 en3 hrep3 hP hD hS => ?_)
          obtain ⟨rfl, rfl⟩ := hrep3
          unfold pOk at hf
          cases hf
          refine lv_goto (tgt := 206) hx hb dX3_one_102 (by decide) ?_
          refine lv_aload_n hx hb dX3_one_206 rfl (lv_at hl 2 rfl) ?_
          refine lv_dup hx hb dX3_one_207 rfl ?_
          refine gT_open X.1 hP dX3_one_208 ?_
          refine lv_iconst (v := 1) hx hb dX3_one_211 (by decide) ?_
          refine lv_isub hx hb dX3_one_212 ?_
          refine pT_open X.1 hP hD hS dX3_one_213 (fun H locs hP hD hS => ?_)
          refine lv_aload_n hx hb dX3_one_216 rfl (lv_at hl 0 rfl) ?_
          exact yRr X ⟨_, new2 ++ [], rfl, rfl, q2, rfl, (rP_up g z (fun x hx => by simp [hx]) (by omega)).1 _ _ hq2⟩ hP hD hS ⟨by first | omega | (dsimp only; omega), by first | omega | (dsimp only; omega)⟩ dX3_one_217
      · rw [if_neg qn] at hf
        obtain ⟨mm, hmm, hf⟩ := bs hf
        refine lv_aload_n hx hb dX3_one_51 rfl (lv_at hl 1 rfl) ?_
        refine lv_iload_n hx hb dX3_one_52 rfl (lv_at hl 0 rfl) ?_
        refine zV0 (rest := []) (As := [.int nm]) (wf := []) X.1 X.2.1 (met_T_mayName (g := g) hmm) gw_X3_X3_mayName dy_X3_mayName ⟨⟨rfl, rfl⟩, by dsimp only; omega, by dsimp only; omega⟩ ⟨by first | omega | (dsimp only; omega), by first | omega | (dsimp only; omega)⟩ hP hD hS (rcv (q0 := 0) (ci := 3) X.1 hP rfl rfl) rfl hl.1 rfl (Nat.le_of_ble_eq_true rfl) dX3_one_53 (fun H locs hP hD hS => ?_)
        have hP : va_P g.1 vwCl (tkw g r0 ta cT sz t ++ []) H := hP
        have hD : va_D A (tkw g r0 ta cT sz t ++ []) := hD
        refine lv_if_ne (tgt := 65) hx hb dX3_one_56 (by decide) (fun q => ?_) (fun q => ?_)
        · rw [if_neg q] at hf
          refine lv_aload_n hx hb dX3_one_65 rfl (lv_at hl 1 rfl) ?_
          obtain ⟨t1, hn_t1, hf⟩ := bs hf
          refine yNx (rest := []) X hn_t1 ⟨by first | omega | (dsimp only; omega), by first | omega | (dsimp only; omega)⟩ ⟨by first | omega | (dsimp only; omega), by first | omega | (dsimp only; omega)⟩ hP hD hS hl.1 (Nat.le_of_ble_eq_true rfl) dX3_one_66 (fun H locs hP hD hS => ?_)
          obtain ⟨b16, hf⟩ := inbs hf
          obtain ⟨k5, m5, hf, ek5, en5⟩ := pCs hf
          unfold pOk at hf
          cases hf
          refine rNew X.1 in_X12 tyX12 tyX12_ok q767 q768 q172 hP hD hS (ci := 12) rfl [.int 0] (by decide) (by first | omega | (dsimp only; omega)) (by first | omega | (dsimp only; omega)) dX3_one_69 (fun o9 H hP hD hS => ?_)
          obtain ⟨hP, hD⟩ := w_perm hP hD (pm7 _ (tkw g r0 ta cT sz t') _)
          refine lv_dup hx hb dX3_one_72 rfl ?_
          refine lv_iload_n hx hb dX3_one_73 rfl (lv_at hl 0 rfl) ?_
          refine cIN (rest := [.ref o9]) X.1 X.2.1.1 24 (met_X12_init (g := g)) (lw_meth q771) q172 rfl q770 dyi_X12_init ⟨⟨rfl, rfl⟩, by dsimp only; omega, by dsimp only; omega⟩ ⟨by first | omega | (dsimp only; omega), by first | omega | (dsimp only; omega)⟩ hP hD hS rfl hl.1 rfl (Nat.le_of_ble_eq_true rfl) dX3_one_74 (fun H locs hP hD hS => ?_)
          obtain ⟨hP, hD⟩ := w_perm hP hD (pm8 _ (tkw g r0 ta cT sz t') _)
          exact yRr X ⟨_, _, rfl, rfl, o9, rfl, Or.inr (Or.inl ⟨0, nm, rfl, b16, rfl⟩)⟩ hP hD hS ⟨by first | omega | (dsimp only; omega), by first | omega | (dsimp only; omega)⟩ dX3_one_77
        · rw [if_pos q] at hf
          refine lv_aload_n hx hb dX3_one_59 rfl (lv_at hl 1 rfl) ?_
          refine lv_iconst (v := 5) hx hb dX3_one_60 (by decide) ?_
          exact yErr hl0 X hf ⟨by first | omega | (dsimp only; omega), by first | omega | (dsimp only; omega)⟩ ⟨by first | omega | (dsimp only; omega), by first | omega | (dsimp only; omega)⟩ ⟨by first | omega | (dsimp only; omega), by first | omega | (dsimp only; omega)⟩ hP hD hS hl.1 dX3_one_61 dX3_one_64
    · rw [if_pos q] at hf
      refine lv_aload_n hx hb dX3_one_36 rfl (lv_at hl 0 rfl) ?_
      rw [← pB_ok (choice t)] at hf
      refine yP (rest := []) X hf (hcho _) gw_X3_X3_choice dy_X3_choice ⟨by first | omega | (dsimp only; omega), by first | omega | (dsimp only; omega)⟩ ⟨by first | omega | (dsimp only; omega), by first | omega | (dsimp only; omega)⟩ ⟨by first | omega | (dsimp only; omega), by first | omega | (dsimp only; omega)⟩ hP hD hS rfl hl.1 rfl (Nat.le_of_ble_eq_true rfl) dX3_one_37 (fun a1 t1 k1 n1 j1 i1 new1 rv H locs hf ek1 en1 hrep1 hP hD hS => ?_)
      obtain ⟨q1, rfl, hq1⟩ := hrep1
      unfold pOk at hf
      cases hf
      exact yRr X ⟨_, new1 ++ [], rfl, rfl, q1, rfl, (rP_up g z (fun x hx => by simp [hx]) (by omega)).1 _ _ hq1⟩ hP hD hS ⟨by first | omega | (dsimp only; omega), by first | omega | (dsimp only; omega)⟩ dX3_one_40
  · rw [if_pos q] at hf
    obtain ⟨k5, m5, hf, ek5, en5⟩ := pCs hf
    refine rNew X.1 in_X7 tyX7 tyX7_ok q580 q581 q164 hP hD hS (ci := 7) rfl [.int 0] (by decide) (by first | omega | (dsimp only; omega)) (by first | omega | (dsimp only; omega)) dX3_one_10 (fun o9 H hP hD hS => ?_)
    have hP : va_P g.1 vwCl (tkw g r0 ta cT sz t ++ [(o9, .inr (7, [.int 0]))]) H := hP
    have hD : va_D A (tkw g r0 ta cT sz t ++ [(o9, .inr (7, [.int 0]))]) := hD
    refine lv_dup hx hb dX3_one_13 rfl ?_
    refine lv_aload_n hx hb dX3_one_14 rfl (lv_at hl 0 rfl) ?_
    refine lv_iconst (v := 0) hx hb dX3_one_15 (by decide) ?_
    refine lv_sipush (v := 9999) hx hb dX3_one_16 (by decide) ?_
    refine yP (rest := [.ref o9, .ref o9]) X hf (met_number hl0) gw_X3_X3_number dy_X3_number ⟨by first | omega | (dsimp only; omega), by first | omega | (dsimp only; omega)⟩ ⟨by first | omega | (dsimp only; omega), by first | omega | (dsimp only; omega)⟩ ⟨by first | omega | (dsimp only; omega), by first | omega | (dsimp only; omega)⟩ hP hD hS rfl hl.1 rfl (Nat.le_of_ble_eq_true rfl) dX3_one_19 (fun a1 t1 k1 n1 j1 i1 new1 rv H locs hf ek1 en1 hrep1 hP hD hS => ?_)
    obtain ⟨rfl, rfl⟩ := hrep1
    unfold pOk at hf
    cases hf
    obtain ⟨hP, hD⟩ := w_perm hP hD (pm5 (o9, .inr (7, [.int 0])) (tkw g r0 ta cT sz t') [])
    refine cIN (rest := [.ref o9]) X.1 X.2.1.1 19 (met_X7_init (g := g)) (lw_meth q588) q164 rfl q587 dyi_X7_init ⟨⟨rfl, rfl⟩, by dsimp only; omega, by dsimp only; omega⟩ ⟨by first | omega | (dsimp only; omega), by first | omega | (dsimp only; omega)⟩ hP hD hS rfl hl.1 rfl (Nat.le_of_ble_eq_true rfl) dX3_one_22 (fun H locs hP hD hS => ?_)
    obtain ⟨hP, hD⟩ := w_perm hP hD (pm8 _ (tkw g r0 ta cT sz t') _)
    exact yRr X ⟨_, _, rfl, rfl, o9, rfl, Or.inl ⟨0, a1, rfl, rfl⟩⟩ hP hD hS ⟨by first | omega | (dsimp only; omega), by first | omega | (dsimp only; omega)⟩ dX3_one_25
/-- the knot: by the depth of signs that open -/
theorem met_OA {l : Launch} (hl0 : l.stackTraces = false) {g : gG} {z : Nat → Nat} {r0 ta : Nat} {cT : Nat → Int32} {sz : Int32} {φ : Nat} : ∀ d : Nat, (∀ t : TS, CP l yX3_one (ws_ yX3_one cX3_one 5 (some (.object "WolfsHead$Sum"))) (7 * d + 13) (280 * d + 600) g z r0 ta cT sz [] t ((pOA (tkNext φ cT sz) φ d).1 t) (repS g z (6 * d))) ∧ ∀ t : TS, CP l yX3_ask (ws_ yX3_ask cX3_ask 3 (some (.object "WolfsHead$Asked"))) (7 * d + 13 + 3) (280 * d + 600 + 120) g z r0 ta cT sz [] t ((pOA (tkNext φ cT sz) φ d).2 t) (repA g z (6 * d + 3)) := by
  intro d
  induction d with
  | zero => exact ⟨fun t r t' k n0 hf => nn9 hf, fun t r t' k n0 hf => nn9 hf⟩
  | succ d ih =>
    have hsum0 : ∀ t : TS, CP l yX3_sum (ws_ yX3_sum cX3_sum 3 (some (.object "WolfsHead$Sum"))) (7 * d + 13 + 1 + 1) (280 * d + 600 + 40 + 40) g z r0 ta cT sz [] t (pSum (tkNext φ cT sz) (pOA (tkNext φ cT sz) φ d).1 t) (repS g z (6 * d + 1 + 1)) := fun t => met_sum hl0 (by omega) (by omega) (fun t => met_product hl0 (by omega) (by omega) ih.1)
    have heit0 : ∀ t : TS, CP l yX3_either (ws_ yX3_either cX3_either 2 (some (.object "WolfsHead$Asked"))) (7 * d + 13 + 3 + 1 + 1) (280 * d + 600 + 120 + 40 + 40) g z r0 ta cT sz [] t (pEither (tkNext φ cT sz) (pOA (tkNext φ cT sz) φ d).2 t) (repA g z (6 * d + 3 + 1 + 1)) := fun t => met_either hl0 (by omega) (by omega) (fun t => met_both hl0 (by omega) (by omega) ih.2)
    have hcho0 : ∀ t : TS, CP l yX3_choice (ws_ yX3_choice cX3_choice 4 (some (.object "WolfsHead$Sum"))) (7 * d + 13 + 3 + 1 + 1 + 1) (280 * d + 600 + 120 + 40 + 40 + 40) g z r0 ta cT sz [] t (pChoice (tkNext φ cT sz) (pEither (tkNext φ cT sz) (pOA (tkNext φ cT sz) φ d).2) (pSum (tkNext φ cT sz) (pOA (tkNext φ cT sz) φ d).1) t) (repS g z (6 * d + 3 + 1 + 1 + 1)) := fun t => met_choice hl0 (by omega) (by omega) ⟨by omega, by omega, by omega⟩ heit0 hsum0
    have hone1 : ∀ t : TS, CP l yX3_one (ws_ yX3_one cX3_one 5 (some (.object "WolfsHead$Sum"))) (7 * (d + 1) + 13) (280 * (d + 1) + 600) g z r0 ta cT sz [] t ((pOA (tkNext φ cT sz) φ (d + 1)).1 t) (repS g z (6 * (d + 1))) := by
      intro t
      have h := met_one1 hl0 (φ := φ) (t := t) (one := (pOA (tkNext φ cT sz) φ d).1) (F1 := 7 * d + 13 + 3 + 1 + 1 + 1) (L1 := 280 * d + 600 + 120 + 40 + 40 + 40) (D := 6 * d + 3 + 1 + 1) (by omega) (by omega) ⟨by omega, by omega, by omega⟩ ⟨by omega, by omega, by omega⟩ ih.1 hsum0 hcho0
      rw [show 7 * (d + 1) + 13 = 7 * d + 13 + 3 + 1 + 1 + 1 + 1 by omega, show 280 * (d + 1) + 600 = 280 * d + 600 + 120 + 40 + 40 + 40 + 40 by omega, show 6 * (d + 1) = 6 * d + 3 + 1 + 1 + 1 by omega]
      exact h
    refine ⟨hone1, fun t => ?_⟩
    exact met_ask1 hl0 (F1 := 7 * (d + 1) + 13 + 1 + 1) (L1 := 280 * (d + 1) + 600 + 40 + 40) (D := 6 * (d + 1) + 1 + 1) (by omega) (by omega) ⟨by omega, by omega, by omega⟩ ih.2 (fun t => met_sum hl0 (by omega) (by omega) (fun t => met_product hl0 (by omega) (by omega) hone1))
