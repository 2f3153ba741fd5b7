/-! WolfsHead: walks, printed by gen/genx.py -/
set_option maxHeartbeats 4000000 in
theorem met_X_heads {l : Launch} {g : gG} {h hn hi : Nat} {ad : Nat → Nat} {ra : Nat → Nat → Nat} {z : Nat → Nat} {sTaped : Int32} {sFault : Int32} {sFaultA : Int32} {sWays : Int32} {sMay : Int32} {sMust : Int32} {cTape : Nat → Int32} {cNames : Nat → Int32} {cHead : Nat → Int32} {cSure : Nat → Nat → Int32} {cN : Nat → Int32} {cRow : Nat → Int32} {cTried : Nat → Int32} {cFor : Nat → Int32} {cRoad : Nat → Int32} {cFear : Nat → Int32} {cCall : Nat → Int32} {cUnl : Nat → Int32} {cPaid : Nat → Nat → Int32} {cStep : Nat → Nat → Int32} {cGain : Nat → Nat → Int32} {cText : Nat → Option Nat} {iN : Nat → Int32} {iRow : Nat → Int32} {iFor : Nat → Int32} {iRoad : Nat → Int32} {iFear : Nat → Int32} {iCall : Nat → Int32} {iUnl : Nat → Int32} {iPaid : Nat → Nat → Int32} {iStep : Nat → Nat → Int32} {iGain : Nat → Nat → Int32} {iText : Nat → Option Nat} {tp : va_W} {x1 : Int32} {r : Int32} {ncHead : Nat → Int32} {φ : Nat} (hf : X_heads φ cHead cN cUnl x1 = some (r, ncHead)) : CX l yX0_heads (ws_ yX0_heads cX0_heads 3 (some .int)) ({ frames := 12, cells := 0, slots := 0, locals := 296 } : Room) g z [.ref h, .int x1] (xW g h hn hi ad ra sTaped sFault sFaultA sWays sMay sMust cTape cNames cHead cSure cN cRow cTried cFor cRoad cFear cCall cUnl cPaid cStep cGain cText iN iRow iFor iRoad iFear iCall iUnl iPaid iStep iGain iText tp) (some (.int r)) (xW g h hn hi ad ra sTaped sFault sFaultA sWays sMay sMust cTape cNames ncHead cSure cN cRow cTried cFor cRoad cFear cCall cUnl cPaid cStep cGain cText iN iRow iFor iRoad iFear iCall iUnl iPaid iStep iGain iText tp) 0 0 := by
  refine CX.of RX0 rfl plain_X0 (Nat.le_of_ble_eq_true rfl) (fun p e s m below meth c A ls X hF hP hD hS hl => ?_)
  have hx := X.1
  have hb := X.2.1
  have hown := X.2.2.2.2.2.1
  have hts := X.2.2.2.2.2.2.1
  have hl : lv_has ls 3 [(0, .ref h), (1, .int x1)] := hl
  unfold X_heads at hf
  refine lv_iload_n hx hb dX0_heads_0 rfl (lv_at hl 1 rfl) ?_
  refine lv_iconst (v := (-1)) hx hb dX0_heads_1 (by decide) ?_
  refine lv_aload_n hx hb dX0_heads_2 rfl (lv_at hl 0 rfl) ?_
  refine gX_X0_this_now X hP dX0_heads_3 ?_
  refine gX_X0_now_n X hF hP dX0_heads_6 ?_
  refine lv_bipush (v := 6) hx hb dX0_heads_9 (by decide) ?_
  obtain ⟨v1, ev1, bv1, hf⟩ := rds hf
  refine lX_cN X hP ev1 bv1 dX0_heads_11 ?_
  refine lv_iconst (v := 1) hx hb dX0_heads_12 (by decide) ?_
  refine lv_isub hx hb dX0_heads_13 ?_
  obtain ⟨r2, k3, hf⟩ := bd1s hf
  refine cSi (rest := []) X (met_X_in (g := g) k3) gs_X0_X0_in dy_X0_in ⟨⟨rfl, rfl⟩, Nat.le_of_ble_eq_true rfl, Nat.le_of_ble_eq_true rfl⟩ hP hD hS hl.1 rfl rfl ⟨Nat.zero_le _, Nat.zero_le _⟩ (Nat.le_of_ble_eq_true rfl) dX0_heads_14 (fun H locs hP hD hS => ?_)
  refine bq_ne (tgt := 23) hx hb hf dX0_heads_17 (by decide) (fun hf => ?_) (fun hf => ?_)
  · refine lv_iconst (v := 0) hx hb dX0_heads_23 (by decide) ?_
    refine lv_istore_n (lv' := [(2, .int 0), (0, .ref h), (1, .int x1)]) hx hb dX0_heads_24 rfl hl (by decide) rfl (fun ls hl => ?_)
    obtain ⟨v6, c7, k12, hf⟩ := bd2s hf
    have hE9 : ∀ (H : Heap) (locs : List Loc) (ls : Array Slot), va_P g.1 vwCl (xW g h hn hi ad ra sTaped sFault sFaultA sWays sMay sMust cTape cNames c7 cSure cN cRow cTried cFor cRoad cFear cCall cUnl cPaid cStep cGain cText iN iRow iFor iRoad iFear iCall iUnl iPaid iStep iGain iText tp) H → va_D A (xW g h hn hi ad ra sTaped sFault sFaultA sWays sMay sMust cTape cNames c7 cSure cN cRow cTried cFor cRoad cFear cCall cUnl cPaid cStep cGain cText iN iRow iFor iRoad iFear iCall iUnl iPaid iStep iGain iText tp) → va_S A s.heap H locs → lv_has ls 3 [(0, .ref h), (1, .int x1), (2, .int v6)] → W p l e ({ frames := 12, cells := 0, slots := 0, locals := 296 } : Room) s m ([.ref h, .int x1] : List Value).toArray below meth c H locs 0 0 (MQ below (QQ g (some (.int r)) (xW g h hn hi ad ra sTaped sFault sFaultA sWays sMay sMust cTape cNames ncHead cSure cN cRow cTried cFor cRoad cFear cCall cUnl cPaid cStep cGain cText iN iRow iFor iRoad iFear iCall iUnl iPaid iStep iGain iText tp) A) ([.ref h, .int x1] : List Value).toArray s 0 0 A) (F0 m 40 ls []) := by
      intro H locs ls hP hD hS hl
      refine lv_iload_n hx hb dX0_heads_40 rfl (lv_at hl 1 rfl) ?_
      refine lv_iconst (v := (-1)) hx hb dX0_heads_41 (by decide) ?_
      refine bc_ne (tgt := 49) hx hb hf dX0_heads_42 (by decide) (fun hf => ?_) (fun hf => ?_)
      · refine lv_aload_n hx hb dX0_heads_49 rfl (lv_at hl 0 rfl) ?_
        refine gX_X0_this_head X hP dX0_heads_50 ?_
        refine lv_iload_n hx hb dX0_heads_53 rfl (lv_at hl 1 rfl) ?_
        obtain ⟨v13, ev13, bv13, hf⟩ := rds hf
        refine lX_cHead X hP ev13 bv13 dX0_heads_54 ?_
        cases hf
        exact rI X hP hD hS dX0_heads_55
      · refine lv_iload_n hx hb dX0_heads_45 rfl (lv_at hl 2 rfl) ?_
        refine lv_goto (tgt := 55) hx hb dX0_heads_46 (by decide) ?_
        cases hf
        exact rI X hP hD hS dX0_heads_55
    have hL10 : ∀ (n8 : Nat) (v4 : Int32) (c5 : Nat → Int32), X_heads_L25 φ x1 cN cUnl n8 v4 c5 = some (v6, c7) → ∀ (H : Heap) (locs : List Loc) (ls : Array Slot), va_P g.1 vwCl (xW g h hn hi ad ra sTaped sFault sFaultA sWays sMay sMust cTape cNames c5 cSure cN cRow cTried cFor cRoad cFear cCall cUnl cPaid cStep cGain cText iN iRow iFor iRoad iFear iCall iUnl iPaid iStep iGain iText tp) H → va_D A (xW g h hn hi ad ra sTaped sFault sFaultA sWays sMay sMust cTape cNames c5 cSure cN cRow cTried cFor cRoad cFear cCall cUnl cPaid cStep cGain cText iN iRow iFor iRoad iFear iCall iUnl iPaid iStep iGain iText tp) → va_S A s.heap H locs → lv_has ls 3 [(0, .ref h), (1, .int x1), (2, .int v4)] → W p l e ({ frames := 12, cells := 0, slots := 0, locals := 296 } : Room) s m ([.ref h, .int x1] : List Value).toArray below meth c H locs 0 0 (MQ below (QQ g (some (.int r)) (xW g h hn hi ad ra sTaped sFault sFaultA sWays sMay sMust cTape cNames ncHead cSure cN cRow cTried cFor cRoad cFear cCall cUnl cPaid cStep cGain cText iN iRow iFor iRoad iFear iCall iUnl iPaid iStep iGain iText tp) A) ([.ref h, .int x1] : List Value).toArray s 0 0 A) (F0 m 25 ls []) := by
      intro n8
      induction n8 with
      | zero =>
        intro v4 c5 hf
        exact nn hf
      | succ n8 ih11 =>
        intro v4 c5 hf H locs ls hP hD hS hl
        rw [X_heads_L25] at hf
        refine lv_aload_n hx hb dX0_heads_25 rfl (lv_at hl 0 rfl) ?_
        refine lv_iconst (v := 0) hx hb dX0_heads_26 (by decide) ?_
        refine lv_iload_n hx hb dX0_heads_27 rfl (lv_at hl 2 rfl) ?_
        obtain ⟨r14, c15, k16, hf⟩ := bd2s hf
        refine xVi (rest := []) X hF (met_X_areOf 10 k16) gw_X0_X0_areOf dy_X0_areOf ⟨⟨rfl, rfl⟩, Nat.le_of_ble_eq_true rfl, Nat.le_of_ble_eq_true rfl⟩ hP hD hS hl.1 rcX rfl rfl ⟨Nat.zero_le _, Nat.zero_le _⟩ (Nat.le_of_ble_eq_true rfl) dX0_heads_28 (fun H locs hP hD hS => ?_)
        refine bq_ne (tgt := 40) hx hb hf dX0_heads_31 (by decide) (fun hf => ?_) (fun hf => ?_)
        · cases hf
          exact hE9 _ _ _ hP hD hS (lv_sub hl [0, 1, 2] rfl)
        · obtain ⟨v17, ev17, hf⟩ := lts hf
          refine lv_iinc (v := v17) (lv' := [(2, .int v17), (0, .ref h), (1, .int x1)]) hx hb dX0_heads_34 hl (k := 2) rfl (by rw [ev17]; rfl) (by decide) rfl (fun ls hl => ?_)
          refine lv_goto (tgt := 25) hx hb dX0_heads_37 (by decide) ?_
          exact ih11 _ _ hf _ _ _ hP hD hS (lv_sub hl [1, 2, 0] rfl)
    exact hL10 _ _ _ k12 _ _ _ hP hD hS (lv_sub hl [1, 2, 0] rfl)
  · refine lv_bipush (v := (-2)) hx hb dX0_heads_20 (by decide) ?_
    cases hf
    exact rI X hP hD hS dX0_heads_22
set_option maxHeartbeats 4000000 in
theorem met_X_has {l : Launch} {g : gG} {h hn hi : Nat} {ad : Nat → Nat} {ra : Nat → Nat → Nat} {z : Nat → Nat} {sTaped : Int32} {sFault : Int32} {sFaultA : Int32} {sWays : Int32} {sMay : Int32} {sMust : Int32} {cTape : Nat → Int32} {cNames : Nat → Int32} {cHead : Nat → Int32} {cSure : Nat → Nat → Int32} {cN : Nat → Int32} {cRow : Nat → Int32} {cTried : Nat → Int32} {cFor : Nat → Int32} {cRoad : Nat → Int32} {cFear : Nat → Int32} {cCall : Nat → Int32} {cUnl : Nat → Int32} {cPaid : Nat → Nat → Int32} {cStep : Nat → Nat → Int32} {cGain : Nat → Nat → Int32} {cText : Nat → Option Nat} {iN : Nat → Int32} {iRow : Nat → Int32} {iFor : Nat → Int32} {iRoad : Nat → Int32} {iFear : Nat → Int32} {iCall : Nat → Int32} {iUnl : Nat → Int32} {iPaid : Nat → Nat → Int32} {iStep : Nat → Nat → Int32} {iGain : Nat → Nat → Int32} {iText : Nat → Option Nat} {tp : va_W} {x1 : Int32} {x2 : Int32} {x3 : Int32} {x4 : Int32} {r : Int32} {ncGain : Nat → Nat → Int32} (hf : X_has cGain x1 x2 x3 x4 = some (r, ncGain)) : CX l yX0_has (ws_ yX0_has cX0_has 5 (some .boolean)) ({ frames := 1, cells := 0, slots := 0, locals := 22 } : Room) g z [.ref h, .int x1, .int x2, .int x3, .int x4] (xW g h hn hi ad ra sTaped sFault sFaultA sWays sMay sMust cTape cNames cHead cSure cN cRow cTried cFor cRoad cFear cCall cUnl cPaid cStep cGain cText iN iRow iFor iRoad iFear iCall iUnl iPaid iStep iGain iText tp) (some (.int r)) (xW g h hn hi ad ra sTaped sFault sFaultA sWays sMay sMust cTape cNames cHead cSure cN cRow cTried cFor cRoad cFear cCall cUnl cPaid cStep ncGain cText iN iRow iFor iRoad iFear iCall iUnl iPaid iStep iGain iText tp) 0 0 := by
  refine CX.of RX0 rfl plain_X0 (Nat.le_of_ble_eq_true rfl) (fun p e s m below meth c A ls X hF hP hD hS hl => ?_)
  have hx := X.1
  have hb := X.2.1
  have hown := X.2.2.2.2.2.1
  have hts := X.2.2.2.2.2.2.1
  have hl : lv_has ls 5 [(0, .ref h), (1, .int x1), (2, .int x2), (3, .int x3), (4, .int x4)] := hl
  unfold X_has at hf
  refine lv_iload_n hx hb dX0_has_0 rfl (lv_at hl 2 rfl) ?_
  refine lv_iconst (v := 0) hx hb dX0_has_1 (by decide) ?_
  refine lv_iconst (v := 1) hx hb dX0_has_2 (by decide) ?_
  obtain ⟨r1, k2, hf⟩ := bd1s hf
  refine cSi (rest := []) X (met_X_in (g := g) k2) gs_X0_X0_in dy_X0_in ⟨⟨rfl, rfl⟩, Nat.le_of_ble_eq_true rfl, Nat.le_of_ble_eq_true rfl⟩ hP hD hS hl.1 rfl rfl ⟨Nat.zero_le _, Nat.zero_le _⟩ (Nat.le_of_ble_eq_true rfl) dX0_has_3 (fun H locs hP hD hS => ?_)
  refine bq_eq (tgt := 29) hx hb hf dX0_has_6 (by decide) (fun hf => ?_) (fun hf => ?_)
  · refine lv_iconst (v := 0) hx hb dX0_has_29 (by decide) ?_
    cases hf
    exact rZ X rfl hP hD hS dX0_has_30
  · refine lv_iload_n hx hb dX0_has_9 rfl (lv_at hl 3 rfl) ?_
    refine lv_iconst (v := 0) hx hb dX0_has_10 (by decide) ?_
    refine lv_iconst (v := 1) hx hb dX0_has_11 (by decide) ?_
    obtain ⟨r3, k4, hf⟩ := bd1s hf
    refine cSi (rest := []) X (met_X_in (g := g) k4) gs_X0_X0_in dy_X0_in ⟨⟨rfl, rfl⟩, Nat.le_of_ble_eq_true rfl, Nat.le_of_ble_eq_true rfl⟩ hP hD hS hl.1 rfl rfl ⟨Nat.zero_le _, Nat.zero_le _⟩ (Nat.le_of_ble_eq_true rfl) dX0_has_12 (fun H locs hP hD hS => ?_)
    refine bq_eq (tgt := 29) hx hb hf dX0_has_15 (by decide) (fun hf => ?_) (fun hf => ?_)
    · refine lv_iconst (v := 0) hx hb dX0_has_29 (by decide) ?_
      cases hf
      exact rZ X rfl hP hD hS dX0_has_30
    · refine lv_iload hx hb dX0_has_18 (lv_at hl 4 rfl) ?_
      refine lv_iconst (v := 0) hx hb dX0_has_20 (by decide) ?_
      refine lv_bipush (v := 99) hx hb dX0_has_21 (by decide) ?_
      obtain ⟨r5, k6, hf⟩ := bd1s hf
      refine cSi (rest := []) X (met_X_in (g := g) k6) gs_X0_X0_in dy_X0_in ⟨⟨rfl, rfl⟩, Nat.le_of_ble_eq_true rfl, Nat.le_of_ble_eq_true rfl⟩ hP hD hS hl.1 rfl rfl ⟨Nat.zero_le _, Nat.zero_le _⟩ (Nat.le_of_ble_eq_true rfl) dX0_has_23 (fun H locs hP hD hS => ?_)
      refine bq_ne (tgt := 31) hx hb hf dX0_has_26 (by decide) (fun hf => ?_) (fun hf => ?_)
      · refine lv_aload_n hx hb dX0_has_31 rfl (lv_at hl 0 rfl) ?_
        refine gX_X0_this_now X hP dX0_has_32 ?_
        refine gX_X0_now_gain X hF hP dX0_has_35 ?_
        refine lv_iload_n hx hb dX0_has_38 rfl (lv_at hl 1 rfl) ?_
        obtain ⟨v7, k8, hf⟩ := bd1s hf
        have hj9 : ∀ (H : Heap) (locs : List Loc) (ls : Array Slot), va_P g.1 vwCl (xW g h hn hi ad ra sTaped sFault sFaultA sWays sMay sMust cTape cNames cHead cSure cN cRow cTried cFor cRoad cFear cCall cUnl cPaid cStep cGain cText iN iRow iFor iRoad iFear iCall iUnl iPaid iStep iGain iText tp) H → va_D A (xW g h hn hi ad ra sTaped sFault sFaultA sWays sMay sMust cTape cNames cHead cSure cN cRow cTried cFor cRoad cFear cCall cUnl cPaid cStep cGain cText iN iRow iFor iRoad iFear iCall iUnl iPaid iStep iGain iText tp) → va_S A s.heap H locs → lv_has ls 5 [(2, .int x2), (3, .int x3), (4, .int x4)] → W p l e ({ frames := 1, cells := 0, slots := 0, locals := 22 } : Room) s m ([.ref h, .int x1, .int x2, .int x3, .int x4] : List Value).toArray below meth c H locs 0 0 (MQ below (QQ g (some (.int r)) (xW g h hn hi ad ra sTaped sFault sFaultA sWays sMay sMust cTape cNames cHead cSure cN cRow cTried cFor cRoad cFear cCall cUnl cPaid cStep ncGain cText iN iRow iFor iRoad iFear iCall iUnl iPaid iStep iGain iText tp) A) ([.ref h, .int x1, .int x2, .int x3, .int x4] : List Value).toArray s 0 0 A) (F0 m 47 ls [.int v7, .ref (ad 14)]) := by
          intro H locs ls hP hD hS hl
          obtain ⟨b10, hf⟩ := inbs hf
          refine aX_cGain X hP b10 dX0_has_47 ?_
          refine lv_iconst (v := 2) hx hb dX0_has_48 (by decide) ?_
          refine lv_iload_n hx hb dX0_has_49 rfl (lv_at hl 1 rfl) ?_
          refine lv_imul hx hb dX0_has_50 ?_
          refine lv_iload_n hx hb dX0_has_51 rfl (lv_at hl 0 rfl) ?_
          refine lv_iadd hx hb dX0_has_52 ?_
          refine lv_iload hx hb dX0_has_53 (lv_at hl 2 rfl) ?_
          obtain ⟨f12, ef12, bf12, hf⟩ := wrs hf
          obtain ⟨c11, ec11, hf⟩ := lts hf
          refine s2X_cGain X hP hD hS ef12 ec11 b10 bf12 dX0_has_55 (fun H locs hP hD hS => ?_)
          refine lv_iconst (v := 1) hx hb dX0_has_56 (by decide) ?_
          cases hf
          exact rZ X rfl hP hD hS dX0_has_57
        replace hf := k8
        clear k8
        refine bq_eq (tgt := 46) hx hb hf dX0_has_39 (by decide) (fun hf => ?_) (fun hf => ?_)
        · refine lv_iconst (v := 0) hx hb dX0_has_46 (by decide) ?_
          cases hf
          exact hj9 _ _ _ hP hD hS (lv_sub hl [2, 3, 4] rfl)
        · refine lv_iconst (v := 1) hx hb dX0_has_42 (by decide) ?_
          refine lv_goto (tgt := 47) hx hb dX0_has_43 (by decide) ?_
          cases hf
          exact hj9 _ _ _ hP hD hS (lv_sub hl [2, 3, 4] rfl)
      · refine lv_iconst (v := 0) hx hb dX0_has_29 (by decide) ?_
        cases hf
        exact rZ X rfl hP hD hS dX0_has_30
set_option maxHeartbeats 4000000 in
theorem met_X_rests {l : Launch} {g : gG} {h hn hi : Nat} {ad : Nat → Nat} {ra : Nat → Nat → Nat} {z : Nat → Nat} {sTaped : Int32} {sFault : Int32} {sFaultA : Int32} {sWays : Int32} {sMay : Int32} {sMust : Int32} {cTape : Nat → Int32} {cNames : Nat → Int32} {cHead : Nat → Int32} {cSure : Nat → Nat → Int32} {cN : Nat → Int32} {cRow : Nat → Int32} {cTried : Nat → Int32} {cFor : Nat → Int32} {cRoad : Nat → Int32} {cFear : Nat → Int32} {cCall : Nat → Int32} {cUnl : Nat → Int32} {cPaid : Nat → Nat → Int32} {cStep : Nat → Nat → Int32} {cGain : Nat → Nat → Int32} {cText : Nat → Option Nat} {iN : Nat → Int32} {iRow : Nat → Int32} {iFor : Nat → Int32} {iRoad : Nat → Int32} {iFear : Nat → Int32} {iCall : Nat → Int32} {iUnl : Nat → Int32} {iPaid : Nat → Nat → Int32} {iStep : Nat → Nat → Int32} {iGain : Nat → Nat → Int32} {iText : Nat → Option Nat} {tp : va_W} {r : Int32} {φ : Nat} (hf : X_rests φ cGain = some r) : CX l yX0_rests (ws_ yX0_rests cX0_rests 3 (some .int)) ({ frames := 0, cells := 0, slots := 0, locals := 0 } : Room) g z [.ref h] (xW g h hn hi ad ra sTaped sFault sFaultA sWays sMay sMust cTape cNames cHead cSure cN cRow cTried cFor cRoad cFear cCall cUnl cPaid cStep cGain cText iN iRow iFor iRoad iFear iCall iUnl iPaid iStep iGain iText tp) (some (.int r)) (xW g h hn hi ad ra sTaped sFault sFaultA sWays sMay sMust cTape cNames cHead cSure cN cRow cTried cFor cRoad cFear cCall cUnl cPaid cStep cGain cText iN iRow iFor iRoad iFear iCall iUnl iPaid iStep iGain iText tp) 0 0 := by
  refine CX.of RX0 rfl plain_X0 (Nat.le_of_ble_eq_true rfl) (fun p e s m below meth c A ls X hF hP hD hS hl => ?_)
  have hx := X.1
  have hb := X.2.1
  have hown := X.2.2.2.2.2.1
  have hts := X.2.2.2.2.2.2.1
  have hl : lv_has ls 3 [(0, .ref h)] := hl
  unfold X_rests at hf
  refine lv_iconst (v := 0) hx hb dX0_rests_0 (by decide) ?_
  refine lv_istore_n (lv' := [(1, .int 0), (0, .ref h)]) hx hb dX0_rests_1 rfl hl (by decide) rfl (fun ls hl => ?_)
  refine lv_iconst (v := 0) hx hb dX0_rests_2 (by decide) ?_
  refine lv_istore_n (lv' := [(2, .int 0), (1, .int 0), (0, .ref h)]) hx hb dX0_rests_3 rfl hl (by decide) rfl (fun ls hl => ?_)
  obtain ⟨v3, k8, hf⟩ := bd1s hf
  have hE5 : ∀ (H : Heap) (locs : List Loc) (ls : Array Slot), va_P g.1 vwCl (xW g h hn hi ad ra sTaped sFault sFaultA sWays sMay sMust cTape cNames cHead cSure cN cRow cTried cFor cRoad cFear cCall cUnl cPaid cStep cGain cText iN iRow iFor iRoad iFear iCall iUnl iPaid iStep iGain iText tp) H → va_D A (xW g h hn hi ad ra sTaped sFault sFaultA sWays sMay sMust cTape cNames cHead cSure cN cRow cTried cFor cRoad cFear cCall cUnl cPaid cStep cGain cText iN iRow iFor iRoad iFear iCall iUnl iPaid iStep iGain iText tp) → va_S A s.heap H locs → lv_has ls 3 [(1, .int v3)] → W p l e ({ frames := 0, cells := 0, slots := 0, locals := 0 } : Room) s m ([.ref h] : List Value).toArray below meth c H locs 0 0 (MQ below (QQ g (some (.int r)) (xW g h hn hi ad ra sTaped sFault sFaultA sWays sMay sMust cTape cNames cHead cSure cN cRow cTried cFor cRoad cFear cCall cUnl cPaid cStep cGain cText iN iRow iFor iRoad iFear iCall iUnl iPaid iStep iGain iText tp) A) ([.ref h] : List Value).toArray s 0 0 A) (F0 m 79 ls []) := by
    intro H locs ls hP hD hS hl
    refine lv_iload_n hx hb dX0_rests_79 rfl (lv_at hl 0 rfl) ?_
    cases hf
    exact rI X hP hD hS dX0_rests_80
  have hL6 : ∀ (n4 : Nat) (v1 : Int32) (v2 : Int32), X_rests_L4 φ cGain n4 v1 v2 = some v3 → ∀ (H : Heap) (locs : List Loc) (ls : Array Slot), va_P g.1 vwCl (xW g h hn hi ad ra sTaped sFault sFaultA sWays sMay sMust cTape cNames cHead cSure cN cRow cTried cFor cRoad cFear cCall cUnl cPaid cStep cGain cText iN iRow iFor iRoad iFear iCall iUnl iPaid iStep iGain iText tp) H → va_D A (xW g h hn hi ad ra sTaped sFault sFaultA sWays sMay sMust cTape cNames cHead cSure cN cRow cTried cFor cRoad cFear cCall cUnl cPaid cStep cGain cText iN iRow iFor iRoad iFear iCall iUnl iPaid iStep iGain iText tp) → va_S A s.heap H locs → lv_has ls 3 [(0, .ref h), (1, .int v1), (2, .int v2)] → W p l e ({ frames := 0, cells := 0, slots := 0, locals := 0 } : Room) s m ([.ref h] : List Value).toArray below meth c H locs 0 0 (MQ below (QQ g (some (.int r)) (xW g h hn hi ad ra sTaped sFault sFaultA sWays sMay sMust cTape cNames cHead cSure cN cRow cTried cFor cRoad cFear cCall cUnl cPaid cStep cGain cText iN iRow iFor iRoad iFear iCall iUnl iPaid iStep iGain iText tp) A) ([.ref h] : List Value).toArray s 0 0 A) (F0 m 4 ls []) := by
    intro n4
    induction n4 with
    | zero =>
      intro v1 v2 hf
      exact nn hf
    | succ n4 ih7 =>
      intro v1 v2 hf H locs ls hP hD hS hl
      rw [X_rests_L4] at hf
      refine lv_iload_n hx hb dX0_rests_4 rfl (lv_at hl 2 rfl) ?_
      refine lv_iconst (v := 4) hx hb dX0_rests_5 (by decide) ?_
      refine bc_ge (tgt := 79) hx hb hf dX0_rests_6 (by decide) (fun hf => ?_) (fun hf => ?_)
      · cases hf
        exact hE5 _ _ _ hP hD hS (lv_sub hl [1] rfl)
      · refine lv_iload_n hx hb dX0_rests_9 rfl (lv_at hl 1 rfl) ?_
        refine lv_aload_n hx hb dX0_rests_10 rfl (lv_at hl 0 rfl) ?_
        refine gX_X0_this_now X hP dX0_rests_11 ?_
        refine gX_X0_now_gain X hF hP dX0_rests_14 ?_
        refine lv_iconst (v := 0) hx hb dX0_rests_17 (by decide) ?_
        obtain ⟨b9, hf⟩ := inbs hf
        refine aX_cGain X hP b9 dX0_rests_18 ?_
        refine lv_iload_n hx hb dX0_rests_19 rfl (lv_at hl 2 rfl) ?_
        refine lv_iconst (v := 1) hx hb dX0_rests_20 (by decide) ?_
        refine lv_ixor hx hb dX0_rests_21 ?_
        obtain ⟨v10, ev10, bv10, hf⟩ := rds hf
        refine l2X_cGain X hP ev10 b9 bv10 dX0_rests_22 ?_
        refine lv_aload_n hx hb dX0_rests_23 rfl (lv_at hl 0 rfl) ?_
        refine gX_X0_this_now X hP dX0_rests_24 ?_
        refine gX_X0_now_gain X hF hP dX0_rests_27 ?_
        refine lv_iconst (v := 0) hx hb dX0_rests_30 (by decide) ?_
        obtain ⟨b11, hf⟩ := inbs hf
        refine aX_cGain X hP b11 dX0_rests_31 ?_
        refine lv_iload_n hx hb dX0_rests_32 rfl (lv_at hl 2 rfl) ?_
        obtain ⟨v12, ev12, bv12, hf⟩ := rds hf
        refine l2X_cGain X hP ev12 b11 bv12 dX0_rests_33 ?_
        refine bc_gt (tgt := 70) hx hb hf dX0_rests_34 (by decide) (fun hf => ?_) (fun hf => ?_)
        · refine lv_iconst (v := 0) hx hb dX0_rests_70 (by decide) ?_
          refine lv_ior hx hb dX0_rests_71 ?_
          obtain ⟨v13, ev13, hf⟩ := lts hf
          refine tpi ev13 ?_
          refine lv_istore_n (lv' := [(1, .int v13), (0, .ref h), (2, .int v2)]) hx hb dX0_rests_72 rfl hl (by decide) rfl (fun ls hl => ?_)
          obtain ⟨v14, ev14, hf⟩ := lts hf
          refine lv_iinc (v := v14) (lv' := [(2, .int v14), (1, .int v13), (0, .ref h)]) hx hb dX0_rests_73 hl (k := 2) rfl (by rw [ev14]; rfl) (by decide) rfl (fun ls hl => ?_)
          refine lv_goto (tgt := 4) hx hb dX0_rests_76 (by decide) ?_
          exact ih7 _ _ hf _ _ _ hP hD hS (lv_sub hl [2, 1, 0] rfl)
        · refine lv_aload_n hx hb dX0_rests_37 rfl (lv_at hl 0 rfl) ?_
          refine gX_X0_this_now X hP dX0_rests_38 ?_
          refine gX_X0_now_gain X hF hP dX0_rests_41 ?_
          refine lv_iconst (v := 1) hx hb dX0_rests_44 (by decide) ?_
          obtain ⟨b15, hf⟩ := inbs hf
          refine aX_cGain X hP b15 dX0_rests_45 ?_
          refine lv_iload_n hx hb dX0_rests_46 rfl (lv_at hl 2 rfl) ?_
          refine lv_iconst (v := 2) hx hb dX0_rests_47 (by decide) ?_
          refine lv_ixor hx hb dX0_rests_48 ?_
          obtain ⟨v16, ev16, bv16, hf⟩ := rds hf
          refine l2X_cGain X hP ev16 b15 bv16 dX0_rests_49 ?_
          refine lv_aload_n hx hb dX0_rests_50 rfl (lv_at hl 0 rfl) ?_
          refine gX_X0_this_now X hP dX0_rests_51 ?_
          refine gX_X0_now_gain X hF hP dX0_rests_54 ?_
          refine lv_iconst (v := 1) hx hb dX0_rests_57 (by decide) ?_
          obtain ⟨b17, hf⟩ := inbs hf
          refine aX_cGain X hP b17 dX0_rests_58 ?_
          refine lv_iload_n hx hb dX0_rests_59 rfl (lv_at hl 2 rfl) ?_
          obtain ⟨v18, ev18, bv18, hf⟩ := rds hf
          refine l2X_cGain X hP ev18 b17 bv18 dX0_rests_60 ?_
          refine bc_gt (tgt := 70) hx hb hf dX0_rests_61 (by decide) (fun hf => ?_) (fun hf => ?_)
          · refine lv_iconst (v := 0) hx hb dX0_rests_70 (by decide) ?_
            refine lv_ior hx hb dX0_rests_71 ?_
            obtain ⟨v19, ev19, hf⟩ := lts hf
            refine tpi ev19 ?_
            refine lv_istore_n (lv' := [(1, .int v19), (0, .ref h), (2, .int v2)]) hx hb dX0_rests_72 rfl hl (by decide) rfl (fun ls hl => ?_)
            obtain ⟨v20, ev20, hf⟩ := lts hf
            refine lv_iinc (v := v20) (lv' := [(2, .int v20), (1, .int v19), (0, .ref h)]) hx hb dX0_rests_73 hl (k := 2) rfl (by rw [ev20]; rfl) (by decide) rfl (fun ls hl => ?_)
            refine lv_goto (tgt := 4) hx hb dX0_rests_76 (by decide) ?_
            exact ih7 _ _ hf _ _ _ hP hD hS (lv_sub hl [2, 1, 0] rfl)
          · refine lv_iconst (v := 1) hx hb dX0_rests_64 (by decide) ?_
            refine lv_iload_n hx hb dX0_rests_65 rfl (lv_at hl 2 rfl) ?_
            refine lv_ishl hx hb dX0_rests_66 ?_
            refine lv_goto (tgt := 71) hx hb dX0_rests_67 (by decide) ?_
            refine lv_ior hx hb dX0_rests_71 ?_
            obtain ⟨v21, ev21, hf⟩ := lts hf
            refine tpi ev21 ?_
            refine lv_istore_n (lv' := [(1, .int v21), (0, .ref h), (2, .int v2)]) hx hb dX0_rests_72 rfl hl (by decide) rfl (fun ls hl => ?_)
            obtain ⟨v22, ev22, hf⟩ := lts hf
            refine lv_iinc (v := v22) (lv' := [(2, .int v22), (1, .int v21), (0, .ref h)]) hx hb dX0_rests_73 hl (k := 2) rfl (by rw [ev22]; rfl) (by decide) rfl (fun ls hl => ?_)
            refine lv_goto (tgt := 4) hx hb dX0_rests_76 (by decide) ?_
            exact ih7 _ _ hf _ _ _ hP hD hS (lv_sub hl [2, 1, 0] rfl)
  exact hL6 _ _ _ k8 _ _ _ hP hD hS (lv_sub hl [2, 1, 0] rfl)
set_option maxHeartbeats 4000000 in
theorem met_X_mixed {l : Launch} {g : gG} {h hn hi : Nat} {ad : Nat → Nat} {ra : Nat → Nat → Nat} {z : Nat → Nat} {sTaped : Int32} {sFault : Int32} {sFaultA : Int32} {sWays : Int32} {sMay : Int32} {sMust : Int32} {cTape : Nat → Int32} {cNames : Nat → Int32} {cHead : Nat → Int32} {cSure : Nat → Nat → Int32} {cN : Nat → Int32} {cRow : Nat → Int32} {cTried : Nat → Int32} {cFor : Nat → Int32} {cRoad : Nat → Int32} {cFear : Nat → Int32} {cCall : Nat → Int32} {cUnl : Nat → Int32} {cPaid : Nat → Nat → Int32} {cStep : Nat → Nat → Int32} {cGain : Nat → Nat → Int32} {cText : Nat → Option Nat} {iN : Nat → Int32} {iRow : Nat → Int32} {iFor : Nat → Int32} {iRoad : Nat → Int32} {iFear : Nat → Int32} {iCall : Nat → Int32} {iUnl : Nat → Int32} {iPaid : Nat → Nat → Int32} {iStep : Nat → Nat → Int32} {iGain : Nat → Nat → Int32} {iText : Nat → Option Nat} {tp : va_W} {x1 : Int32} {r : Int32} (hf : X_mixed cGain x1 = some r) : CX l yX0_mixed (ws_ yX0_mixed cX0_mixed 5 (some .int)) ({ frames := 41, cells := 0, slots := 0, locals := 861 } : Room) g z [.ref h, .int x1] (xW g h hn hi ad ra sTaped sFault sFaultA sWays sMay sMust cTape cNames cHead cSure cN cRow cTried cFor cRoad cFear cCall cUnl cPaid cStep cGain cText iN iRow iFor iRoad iFear iCall iUnl iPaid iStep iGain iText tp) (some (.int r)) (xW g h hn hi ad ra sTaped sFault sFaultA sWays sMay sMust cTape cNames cHead cSure cN cRow cTried cFor cRoad cFear cCall cUnl cPaid cStep cGain cText iN iRow iFor iRoad iFear iCall iUnl iPaid iStep iGain iText tp) 0 0 := by
  refine CX.of RX0 rfl plain_X0 (Nat.le_of_ble_eq_true rfl) (fun p e s m below meth c A ls X hF hP hD hS hl => ?_)
  have hx := X.1
  have hb := X.2.1
  have hown := X.2.2.2.2.2.1
  have hts := X.2.2.2.2.2.2.1
  have hl : lv_has ls 5 [(0, .ref h), (1, .int x1)] := hl
  unfold X_mixed at hf
  refine lv_aload_n hx hb dX0_mixed_0 rfl (lv_at hl 0 rfl) ?_
  refine gX_X0_this_now X hP dX0_mixed_1 ?_
  refine gX_X0_now_gain X hF hP dX0_mixed_4 ?_
  refine lv_iconst (v := 1) hx hb dX0_mixed_7 (by decide) ?_
  obtain ⟨b1, hf⟩ := inbs hf
  refine aX_cGain X hP b1 dX0_mixed_8 ?_
  refine lv_astore_n (lv' := [(2, .ref (ra 3 (1 : Int32).toNatClampNeg)), (0, .ref h), (1, .int x1)]) hx hb dX0_mixed_9 rfl hl (by decide) rfl (fun ls hl => ?_)
  refine lv_aload_n hx hb dX0_mixed_10 rfl (lv_at hl 0 rfl) ?_
  refine lv_iconst (v := 3) hx hb dX0_mixed_11 (by decide) ?_
  obtain ⟨v2, ev2, bv2, hf⟩ := rds hf
  refine l2X_cGain X hP ev2 b1 bv2 dX0_mixed_12 ?_
  refine lv_aload_n hx hb dX0_mixed_13 rfl (lv_at hl 0 rfl) ?_
  refine lv_iconst (v := 1) hx hb dX0_mixed_14 (by decide) ?_
  obtain ⟨v3, ev3, bv3, hf⟩ := rds hf
  refine l2X_cGain X hP ev3 b1 bv3 dX0_mixed_15 ?_
  refine lv_isub hx hb dX0_mixed_16 ?_
  obtain ⟨v4, ev4, hf⟩ := lts hf
  refine tpi ev4 ?_
  refine lv_istore_n (lv' := [(3, .int v4), (2, .ref (ra 3 (1 : Int32).toNatClampNeg)), (0, .ref h), (1, .int x1)]) hx hb dX0_mixed_17 rfl hl (by decide) rfl (fun ls hl => ?_)
  refine lv_aload_n hx hb dX0_mixed_18 rfl (lv_at hl 1 rfl) ?_
  refine lv_iconst (v := 0) hx hb dX0_mixed_19 (by decide) ?_
  obtain ⟨v5, ev5, bv5, hf⟩ := rds hf
  refine l2X_cGain X hP ev5 b1 bv5 dX0_mixed_20 ?_
  refine lv_aload_n hx hb dX0_mixed_21 rfl (lv_at hl 1 rfl) ?_
  refine lv_iconst (v := 2) hx hb dX0_mixed_22 (by decide) ?_
  obtain ⟨v6, ev6, bv6, hf⟩ := rds hf
  refine l2X_cGain X hP ev6 b1 bv6 dX0_mixed_23 ?_
  refine lv_isub hx hb dX0_mixed_24 ?_
  refine lv_iload_n hx hb dX0_mixed_25 rfl (lv_at hl 0 rfl) ?_
  refine lv_iadd hx hb dX0_mixed_26 ?_
  obtain ⟨v7, ev7, hf⟩ := lts hf
  refine tpi ev7 ?_
  refine lv_istore (lv' := [(4, .int v7), (3, .int v4), (2, .ref (ra 3 (1 : Int32).toNatClampNeg)), (0, .ref h), (1, .int x1)]) hx hb dX0_mixed_27 hl (by decide) rfl (fun ls hl => ?_)
  refine lv_iload hx hb dX0_mixed_29 (lv_at hl 0 rfl) ?_
  obtain ⟨v8, v9, k10, hf⟩ := bd2s hf
  have hj11 : ∀ (H : Heap) (locs : List Loc) (ls : Array Slot), va_P g.1 vwCl (xW g h hn hi ad ra sTaped sFault sFaultA sWays sMay sMust cTape cNames cHead cSure cN cRow cTried cFor cRoad cFear cCall cUnl cPaid cStep cGain cText iN iRow iFor iRoad iFear iCall iUnl iPaid iStep iGain iText tp) H → va_D A (xW g h hn hi ad ra sTaped sFault sFaultA sWays sMay sMust cTape cNames cHead cSure cN cRow cTried cFor cRoad cFear cCall cUnl cPaid cStep cGain cText iN iRow iFor iRoad iFear iCall iUnl iPaid iStep iGain iText tp) → va_S A s.heap H locs → lv_has ls 5 [(1, .int x1), (3, .int v8), (4, .int v9)] → W p l e ({ frames := 41, cells := 0, slots := 0, locals := 861 } : Room) s m ([.ref h, .int x1] : List Value).toArray below meth c H locs 0 0 (MQ below (QQ g (some (.int r)) (xW g h hn hi ad ra sTaped sFault sFaultA sWays sMay sMust cTape cNames cHead cSure cN cRow cTried cFor cRoad cFear cCall cUnl cPaid cStep cGain cText iN iRow iFor iRoad iFear iCall iUnl iPaid iStep iGain iText tp) A) ([.ref h, .int x1] : List Value).toArray s 0 0 A) (F0 m 42 ls []) := by
    intro H locs ls hP hD hS hl
    refine lv_iload_n hx hb dX0_mixed_42 rfl (lv_at hl 1 rfl) ?_
    refine bq_le (tgt := 52) hx hb hf dX0_mixed_43 (by decide) (fun hf => ?_) (fun hf => ?_)
    · refine lv_iconst (v := (-1)) hx hb dX0_mixed_52 (by decide) ?_
      cases hf
      exact rI X hP hD hS dX0_mixed_53
    · refine lv_iload_n hx hb dX0_mixed_46 rfl (lv_at hl 1 rfl) ?_
      refine lv_iload hx hb dX0_mixed_47 (lv_at hl 2 rfl) ?_
      refine bc_lt (tgt := 54) hx hb hf dX0_mixed_49 (by decide) (fun hf => ?_) (fun hf => ?_)
      · refine lv_iload_n hx hb dX0_mixed_54 rfl (lv_at hl 0 rfl) ?_
        refine bq_eq (tgt := 63) hx hb hf dX0_mixed_55 (by decide) (fun hf => ?_) (fun hf => ?_)
        · refine lv_iload_n hx hb dX0_mixed_63 rfl (lv_at hl 1 rfl) ?_
          refine lv_iload hx hb dX0_mixed_64 (lv_at hl 2 rfl) ?_
          refine lv_iload_n hx hb dX0_mixed_66 rfl (lv_at hl 1 rfl) ?_
          obtain ⟨r12, k13, hf⟩ := bd1s hf
          refine cSi (rest := [.int v8]) X (met_X_common 40 (g := g) k13) gs_X0_X0_common dy_X0_common ⟨⟨rfl, rfl⟩, Nat.le_of_ble_eq_true rfl, Nat.le_of_ble_eq_true rfl⟩ hP hD hS hl.1 rfl rfl ⟨Nat.zero_le _, Nat.zero_le _⟩ (Nat.le_of_ble_eq_true rfl) dX0_mixed_67 (fun H locs hP hD hS => ?_)
          obtain ⟨z14, hf⟩ := nzs hf
          refine lv_idiv hx hb dX0_mixed_70 z14 ?_
          cases hf
          exact rI X hP hD hS dX0_mixed_71
        · refine lv_iload hx hb dX0_mixed_58 (lv_at hl 2 rfl) ?_
          refine lv_goto (tgt := 64) hx hb dX0_mixed_60 (by decide) ?_
          refine lv_iload hx hb dX0_mixed_64 (lv_at hl 2 rfl) ?_
          refine lv_iload_n hx hb dX0_mixed_66 rfl (lv_at hl 1 rfl) ?_
          obtain ⟨r15, k16, hf⟩ := bd1s hf
          refine cSi (rest := [.int v9]) X (met_X_common 40 (g := g) k16) gs_X0_X0_common dy_X0_common ⟨⟨rfl, rfl⟩, Nat.le_of_ble_eq_true rfl, Nat.le_of_ble_eq_true rfl⟩ hP hD hS hl.1 rfl rfl ⟨Nat.zero_le _, Nat.zero_le _⟩ (Nat.le_of_ble_eq_true rfl) dX0_mixed_67 (fun H locs hP hD hS => ?_)
          obtain ⟨z17, hf⟩ := nzs hf
          refine lv_idiv hx hb dX0_mixed_70 z17 ?_
          cases hf
          exact rI X hP hD hS dX0_mixed_71
      · refine lv_iconst (v := (-1)) hx hb dX0_mixed_52 (by decide) ?_
        cases hf
        exact rI X hP hD hS dX0_mixed_53
  replace hf := k10
  clear k10
  refine bq_ge (tgt := 42) hx hb hf dX0_mixed_31 (by decide) (fun hf => ?_) (fun hf => ?_)
  · cases hf
    exact hj11 _ _ _ hP hD hS (lv_sub hl [4, 1, 0] rfl)
  · refine lv_iload_n hx hb dX0_mixed_34 rfl (lv_at hl 1 rfl) ?_
    refine lv_ineg hx hb dX0_mixed_35 ?_
    obtain ⟨v18, ev18, hf⟩ := lts hf
    refine tpi ev18 ?_
    refine lv_istore_n (lv' := [(3, .int v18), (4, .int v7), (2, .ref (ra 3 (1 : Int32).toNatClampNeg)), (0, .ref h), (1, .int x1)]) hx hb dX0_mixed_36 rfl hl (by decide) rfl (fun ls hl => ?_)
    refine lv_iload hx hb dX0_mixed_37 (lv_at hl 1 rfl) ?_
    refine lv_ineg hx hb dX0_mixed_39 ?_
    obtain ⟨v19, ev19, hf⟩ := lts hf
    refine tpi ev19 ?_
    refine lv_istore (lv' := [(4, .int v19), (3, .int v18), (2, .ref (ra 3 (1 : Int32).toNatClampNeg)), (0, .ref h), (1, .int x1)]) hx hb dX0_mixed_40 hl (by decide) rfl (fun ls hl => ?_)
    cases hf
    exact hj11 _ _ _ hP hD hS (lv_sub hl [4, 1, 0] rfl)
set_option maxHeartbeats 4000000 in
theorem met_X_befell {l : Launch} {g : gG} {h hn hi : Nat} {ad : Nat → Nat} {ra : Nat → Nat → Nat} {z : Nat → Nat} {sTaped : Int32} {sFault : Int32} {sFaultA : Int32} {sWays : Int32} {sMay : Int32} {sMust : Int32} {cTape : Nat → Int32} {cNames : Nat → Int32} {cHead : Nat → Int32} {cSure : Nat → Nat → Int32} {cN : Nat → Int32} {cRow : Nat → Int32} {cTried : Nat → Int32} {cFor : Nat → Int32} {cRoad : Nat → Int32} {cFear : Nat → Int32} {cCall : Nat → Int32} {cUnl : Nat → Int32} {cPaid : Nat → Nat → Int32} {cStep : Nat → Nat → Int32} {cGain : Nat → Nat → Int32} {cText : Nat → Option Nat} {iN : Nat → Int32} {iRow : Nat → Int32} {iFor : Nat → Int32} {iRoad : Nat → Int32} {iFear : Nat → Int32} {iCall : Nat → Int32} {iUnl : Nat → Int32} {iPaid : Nat → Nat → Int32} {iStep : Nat → Nat → Int32} {iGain : Nat → Nat → Int32} {iText : Nat → Option Nat} {tp : va_W} {x1 : Int32} {x2 : Int32} {r : Int32} {φ : Nat} (hf : X_befell φ cN cRow x1 x2 = some r) : CX l yX0_befell (ws_ yX0_befell cX0_befell 5 (some .int)) ({ frames := 2, cells := 0, slots := 0, locals := 43 } : Room) g z [.ref h, .int x1, .int x2] (xW g h hn hi ad ra sTaped sFault sFaultA sWays sMay sMust cTape cNames cHead cSure cN cRow cTried cFor cRoad cFear cCall cUnl cPaid cStep cGain cText iN iRow iFor iRoad iFear iCall iUnl iPaid iStep iGain iText tp) (some (.int r)) (xW g h hn hi ad ra sTaped sFault sFaultA sWays sMay sMust cTape cNames cHead cSure cN cRow cTried cFor cRoad cFear cCall cUnl cPaid cStep cGain cText iN iRow iFor iRoad iFear iCall iUnl iPaid iStep iGain iText tp) 0 0 := by
  refine CX.of RX0 rfl plain_X0 (Nat.le_of_ble_eq_true rfl) (fun p e s m below meth c A ls X hF hP hD hS hl => ?_)
  have hx := X.1
  have hb := X.2.1
  have hown := X.2.2.2.2.2.1
  have hts := X.2.2.2.2.2.2.1
  have hl : lv_has ls 5 [(0, .ref h), (1, .int x1), (2, .int x2)] := hl
  unfold X_befell at hf
  refine lv_iload_n hx hb dX0_befell_0 rfl (lv_at hl 1 rfl) ?_
  refine lv_iconst (v := (-1)) hx hb dX0_befell_1 (by decide) ?_
  obtain ⟨k1, ek1, hf⟩ := jns hf
  have hj2 : k1 = some r → ∀ (H : Heap) (locs : List Loc) (ls : Array Slot), va_P g.1 vwCl (xW g h hn hi ad ra sTaped sFault sFaultA sWays sMay sMust cTape cNames cHead cSure cN cRow cTried cFor cRoad cFear cCall cUnl cPaid cStep cGain cText iN iRow iFor iRoad iFear iCall iUnl iPaid iStep iGain iText tp) H → va_D A (xW g h hn hi ad ra sTaped sFault sFaultA sWays sMay sMust cTape cNames cHead cSure cN cRow cTried cFor cRoad cFear cCall cUnl cPaid cStep cGain cText iN iRow iFor iRoad iFear iCall iUnl iPaid iStep iGain iText tp) → va_S A s.heap H locs → lv_has ls 5 [(0, .ref h), (1, .int x1), (2, .int x2)] → W p l e ({ frames := 2, cells := 0, slots := 0, locals := 43 } : Room) s m ([.ref h, .int x1, .int x2] : List Value).toArray below meth c H locs 0 0 (MQ below (QQ g (some (.int r)) (xW g h hn hi ad ra sTaped sFault sFaultA sWays sMay sMust cTape cNames cHead cSure cN cRow cTried cFor cRoad cFear cCall cUnl cPaid cStep cGain cText iN iRow iFor iRoad iFear iCall iUnl iPaid iStep iGain iText tp) A) ([.ref h, .int x1, .int x2] : List Value).toArray s 0 0 A) (F0 m 13 ls []) := by
    intro hf H locs ls hP hD hS hl
    rw [ek1] at hf
    refine lv_iload_n hx hb dX0_befell_13 rfl (lv_at hl 2 rfl) ?_
    refine lv_iconst (v := 0) hx hb dX0_befell_14 (by decide) ?_
    refine lv_bipush (v := 6) hx hb dX0_befell_15 (by decide) ?_
    obtain ⟨r3, k4, hf⟩ := bd1s hf
    refine cSi (rest := []) X (met_X_in (g := g) k4) gs_X0_X0_in dy_X0_in ⟨⟨rfl, rfl⟩, Nat.le_of_ble_eq_true rfl, Nat.le_of_ble_eq_true rfl⟩ hP hD hS hl.1 rfl rfl ⟨Nat.zero_le _, Nat.zero_le _⟩ (Nat.le_of_ble_eq_true rfl) dX0_befell_17 (fun H locs hP hD hS => ?_)
    refine bq_ne (tgt := 26) hx hb hf dX0_befell_20 (by decide) (fun hf => ?_) (fun hf => ?_)
    · refine lv_iconst (v := 0) hx hb dX0_befell_26 (by decide) ?_
      refine lv_istore_n (lv' := [(3, .int 0), (0, .ref h), (1, .int x1), (2, .int x2)]) hx hb dX0_befell_27 rfl hl (by decide) rfl (fun ls hl => ?_)
      refine lv_iconst (v := 0) hx hb dX0_befell_28 (by decide) ?_
      refine lv_istore (lv' := [(4, .int 0), (3, .int 0), (0, .ref h), (1, .int x1), (2, .int x2)]) hx hb dX0_befell_29 hl (by decide) rfl (fun ls hl => ?_)
      obtain ⟨v7, k12, hf⟩ := bd1s hf
      have hE9 : ∀ (H : Heap) (locs : List Loc) (ls : Array Slot), va_P g.1 vwCl (xW g h hn hi ad ra sTaped sFault sFaultA sWays sMay sMust cTape cNames cHead cSure cN cRow cTried cFor cRoad cFear cCall cUnl cPaid cStep cGain cText iN iRow iFor iRoad iFear iCall iUnl iPaid iStep iGain iText tp) H → va_D A (xW g h hn hi ad ra sTaped sFault sFaultA sWays sMay sMust cTape cNames cHead cSure cN cRow cTried cFor cRoad cFear cCall cUnl cPaid cStep cGain cText iN iRow iFor iRoad iFear iCall iUnl iPaid iStep iGain iText tp) → va_S A s.heap H locs → lv_has ls 5 [(3, .int v7)] → W p l e ({ frames := 2, cells := 0, slots := 0, locals := 43 } : Room) s m ([.ref h, .int x1, .int x2] : List Value).toArray below meth c H locs 0 0 (MQ below (QQ g (some (.int r)) (xW g h hn hi ad ra sTaped sFault sFaultA sWays sMay sMust cTape cNames cHead cSure cN cRow cTried cFor cRoad cFear cCall cUnl cPaid cStep cGain cText iN iRow iFor iRoad iFear iCall iUnl iPaid iStep iGain iText tp) A) ([.ref h, .int x1, .int x2] : List Value).toArray s 0 0 A) (F0 m 107 ls []) := by
        intro H locs ls hP hD hS hl
        refine lv_iload_n hx hb dX0_befell_107 rfl (lv_at hl 0 rfl) ?_
        cases hf
        exact rI X hP hD hS dX0_befell_108
      have hL10 : ∀ (n8 : Nat) (v5 : Int32) (v6 : Int32), X_befell_L31 φ x1 x2 cRow n8 v5 v6 = some v7 → ∀ (H : Heap) (locs : List Loc) (ls : Array Slot), va_P g.1 vwCl (xW g h hn hi ad ra sTaped sFault sFaultA sWays sMay sMust cTape cNames cHead cSure cN cRow cTried cFor cRoad cFear cCall cUnl cPaid cStep cGain cText iN iRow iFor iRoad iFear iCall iUnl iPaid iStep iGain iText tp) H → va_D A (xW g h hn hi ad ra sTaped sFault sFaultA sWays sMay sMust cTape cNames cHead cSure cN cRow cTried cFor cRoad cFear cCall cUnl cPaid cStep cGain cText iN iRow iFor iRoad iFear iCall iUnl iPaid iStep iGain iText tp) → va_S A s.heap H locs → lv_has ls 5 [(0, .ref h), (1, .int x1), (2, .int x2), (3, .int v5), (4, .int v6)] → W p l e ({ frames := 2, cells := 0, slots := 0, locals := 43 } : Room) s m ([.ref h, .int x1, .int x2] : List Value).toArray below meth c H locs 0 0 (MQ below (QQ g (some (.int r)) (xW g h hn hi ad ra sTaped sFault sFaultA sWays sMay sMust cTape cNames cHead cSure cN cRow cTried cFor cRoad cFear cCall cUnl cPaid cStep cGain cText iN iRow iFor iRoad iFear iCall iUnl iPaid iStep iGain iText tp) A) ([.ref h, .int x1, .int x2] : List Value).toArray s 0 0 A) (F0 m 31 ls []) := by
        intro n8
        induction n8 with
        | zero =>
          intro v5 v6 hf
          exact nn hf
        | succ n8 ih11 =>
          intro v5 v6 hf H locs ls hP hD hS hl
          rw [X_befell_L31] at hf
          refine lv_iload hx hb dX0_befell_31 (lv_at hl 4 rfl) ?_
          refine lv_aload_n hx hb dX0_befell_33 rfl (lv_at hl 0 rfl) ?_
          refine gX_X0_this_now X hP dX0_befell_34 ?_
          refine gX_X0_now_row X hF hP dX0_befell_37 ?_
          refine lv_bipush (v := 44) hx hb dX0_befell_40 (by decide) ?_
          obtain ⟨v13, ev13, bv13, hf⟩ := rds hf
          refine lX_cRow X hP ev13 bv13 dX0_befell_42 ?_
          refine bc_ge (tgt := 107) hx hb hf dX0_befell_43 (by decide) (fun hf => ?_) (fun hf => ?_)
          · cases hf
            exact hE9 _ _ _ hP hD hS (lv_sub hl [3] rfl)
          · refine lv_iload_n hx hb dX0_befell_46 rfl (lv_at hl 3 rfl) ?_
            refine lv_aload_n hx hb dX0_befell_47 rfl (lv_at hl 0 rfl) ?_
            refine gX_X0_this_now X hP dX0_befell_48 ?_
            refine gX_X0_now_row X hF hP dX0_befell_51 ?_
            refine lv_bipush (v := 45) hx hb dX0_befell_54 (by decide) ?_
            refine lv_iconst (v := 3) hx hb dX0_befell_56 (by decide) ?_
            refine lv_iload hx hb dX0_befell_57 (lv_at hl 4 rfl) ?_
            refine lv_imul hx hb dX0_befell_59 ?_
            refine lv_iadd hx hb dX0_befell_60 ?_
            refine lv_iconst (v := 2) hx hb dX0_befell_61 (by decide) ?_
            refine lv_iadd hx hb dX0_befell_62 ?_
            obtain ⟨v14, ev14, bv14, hf⟩ := rds hf
            refine lX_cRow X hP ev14 bv14 dX0_befell_63 ?_
            refine lv_iload_n hx hb dX0_befell_64 rfl (lv_at hl 2 rfl) ?_
            refine bc_ne (tgt := 98) hx hb hf dX0_befell_65 (by decide) (fun hf => ?_) (fun hf => ?_)
            · refine lv_iconst (v := 0) hx hb dX0_befell_98 (by decide) ?_
              refine lv_iadd hx hb dX0_befell_99 ?_
              obtain ⟨v15, ev15, hf⟩ := lts hf
              refine tpi ev15 ?_
              refine lv_istore_n (lv' := [(3, .int v15), (0, .ref h), (1, .int x1), (2, .int x2), (4, .int v6)]) hx hb dX0_befell_100 rfl hl (by decide) rfl (fun ls hl => ?_)
              obtain ⟨v16, ev16, hf⟩ := lts hf
              refine lv_iinc (v := v16) (lv' := [(4, .int v16), (3, .int v15), (0, .ref h), (1, .int x1), (2, .int x2)]) hx hb dX0_befell_101 hl (k := 4) rfl (by rw [ev16]; rfl) (by decide) rfl (fun ls hl => ?_)
              refine lv_goto (tgt := 31) hx hb dX0_befell_104 (by decide) ?_
              exact ih11 _ _ hf _ _ _ hP hD hS (lv_sub hl [2, 3, 4, 1, 0] rfl)
            · refine lv_iload_n hx hb dX0_befell_68 rfl (lv_at hl 1 rfl) ?_
              refine lv_iconst (v := (-1)) hx hb dX0_befell_69 (by decide) ?_
              refine bc_eq (tgt := 94) hx hb hf dX0_befell_70 (by decide) (fun hf => ?_) (fun hf => ?_)
              · refine lv_iconst (v := 1) hx hb dX0_befell_94 (by decide) ?_
                refine lv_goto (tgt := 99) hx hb dX0_befell_95 (by decide) ?_
                refine lv_iadd hx hb dX0_befell_99 ?_
                obtain ⟨v17, ev17, hf⟩ := lts hf
                refine tpi ev17 ?_
                refine lv_istore_n (lv' := [(3, .int v17), (0, .ref h), (1, .int x1), (2, .int x2), (4, .int v6)]) hx hb dX0_befell_100 rfl hl (by decide) rfl (fun ls hl => ?_)
                obtain ⟨v18, ev18, hf⟩ := lts hf
                refine lv_iinc (v := v18) (lv' := [(4, .int v18), (3, .int v17), (0, .ref h), (1, .int x1), (2, .int x2)]) hx hb dX0_befell_101 hl (k := 4) rfl (by rw [ev18]; rfl) (by decide) rfl (fun ls hl => ?_)
                refine lv_goto (tgt := 31) hx hb dX0_befell_104 (by decide) ?_
                exact ih11 _ _ hf _ _ _ hP hD hS (lv_sub hl [2, 3, 4, 1, 0] rfl)
              · refine lv_aload_n hx hb dX0_befell_73 rfl (lv_at hl 0 rfl) ?_
                refine gX_X0_this_now X hP dX0_befell_74 ?_
                refine gX_X0_now_row X hF hP dX0_befell_77 ?_
                refine lv_bipush (v := 45) hx hb dX0_befell_80 (by decide) ?_
                refine lv_iconst (v := 3) hx hb dX0_befell_82 (by decide) ?_
                refine lv_iload hx hb dX0_befell_83 (lv_at hl 4 rfl) ?_
                refine lv_imul hx hb dX0_befell_85 ?_
                refine lv_iadd hx hb dX0_befell_86 ?_
                refine lv_iconst (v := 1) hx hb dX0_befell_87 (by decide) ?_
                refine lv_iadd hx hb dX0_befell_88 ?_
                obtain ⟨v19, ev19, bv19, hf⟩ := rds hf
                refine lX_cRow X hP ev19 bv19 dX0_befell_89 ?_
                refine lv_iload_n hx hb dX0_befell_90 rfl (lv_at hl 1 rfl) ?_
                refine bc_ne (tgt := 98) hx hb hf dX0_befell_91 (by decide) (fun hf => ?_) (fun hf => ?_)
                · refine lv_iconst (v := 0) hx hb dX0_befell_98 (by decide) ?_
                  refine lv_iadd hx hb dX0_befell_99 ?_
                  obtain ⟨v20, ev20, hf⟩ := lts hf
                  refine tpi ev20 ?_
                  refine lv_istore_n (lv' := [(3, .int v20), (0, .ref h), (1, .int x1), (2, .int x2), (4, .int v6)]) hx hb dX0_befell_100 rfl hl (by decide) rfl (fun ls hl => ?_)
                  obtain ⟨v21, ev21, hf⟩ := lts hf
                  refine lv_iinc (v := v21) (lv' := [(4, .int v21), (3, .int v20), (0, .ref h), (1, .int x1), (2, .int x2)]) hx hb dX0_befell_101 hl (k := 4) rfl (by rw [ev21]; rfl) (by decide) rfl (fun ls hl => ?_)
                  refine lv_goto (tgt := 31) hx hb dX0_befell_104 (by decide) ?_
                  exact ih11 _ _ hf _ _ _ hP hD hS (lv_sub hl [2, 3, 4, 1, 0] rfl)
                · refine lv_iconst (v := 1) hx hb dX0_befell_94 (by decide) ?_
                  refine lv_goto (tgt := 99) hx hb dX0_befell_95 (by decide) ?_
                  refine lv_iadd hx hb dX0_befell_99 ?_
                  obtain ⟨v22, ev22, hf⟩ := lts hf
                  refine tpi ev22 ?_
                  refine lv_istore_n (lv' := [(3, .int v22), (0, .ref h), (1, .int x1), (2, .int x2), (4, .int v6)]) hx hb dX0_befell_100 rfl hl (by decide) rfl (fun ls hl => ?_)
                  obtain ⟨v23, ev23, hf⟩ := lts hf
                  refine lv_iinc (v := v23) (lv' := [(4, .int v23), (3, .int v22), (0, .ref h), (1, .int x1), (2, .int x2)]) hx hb dX0_befell_101 hl (k := 4) rfl (by rw [ev23]; rfl) (by decide) rfl (fun ls hl => ?_)
                  refine lv_goto (tgt := 31) hx hb dX0_befell_104 (by decide) ?_
                  exact ih11 _ _ hf _ _ _ hP hD hS (lv_sub hl [2, 3, 4, 1, 0] rfl)
      exact hL10 _ _ _ k12 _ _ _ hP hD hS (lv_sub hl [2, 3, 4, 1, 0] rfl)
    · refine lv_bipush (v := (-2)) hx hb dX0_befell_23 (by decide) ?_
      cases hf
      exact rI X hP hD hS dX0_befell_25
  clear ek1
  refine bc_eq (tgt := 13) hx hb hf dX0_befell_2 (by decide) (fun hf => ?_) (fun hf => ?_)
  · exact hj2 hf _ _ _ hP hD hS (lv_sub hl [0, 1, 2] rfl)
  · refine lv_aload_n hx hb dX0_befell_5 rfl (lv_at hl 0 rfl) ?_
    refine lv_iload_n hx hb dX0_befell_6 rfl (lv_at hl 1 rfl) ?_
    obtain ⟨r24, k25, hf⟩ := bd1s hf
    refine xVi (rest := []) X hF (met_X_isPerson k25) gw_X0_X0_isPerson dy_X0_isPerson ⟨⟨rfl, rfl⟩, Nat.le_of_ble_eq_true rfl, Nat.le_of_ble_eq_true rfl⟩ hP hD hS hl.1 rcX rfl rfl ⟨Nat.zero_le _, Nat.zero_le _⟩ (Nat.le_of_ble_eq_true rfl) dX0_befell_7 (fun H locs hP hD hS => ?_)
    refine bq_eq (tgt := 23) hx hb hf dX0_befell_10 (by decide) (fun hf => ?_) (fun hf => ?_)
    · refine lv_bipush (v := (-2)) hx hb dX0_befell_23 (by decide) ?_
      cases hf
      exact rI X hP hD hS dX0_befell_25
    · exact hj2 hf _ _ _ hP hD hS (lv_sub hl [0, 1, 2] rfl)
set_option maxHeartbeats 4000000 in
theorem met_X_heirs {l : Launch} {g : gG} {h hn hi : Nat} {ad : Nat → Nat} {ra : Nat → Nat → Nat} {z : Nat → Nat} {sTaped : Int32} {sFault : Int32} {sFaultA : Int32} {sWays : Int32} {sMay : Int32} {sMust : Int32} {cTape : Nat → Int32} {cNames : Nat → Int32} {cHead : Nat → Int32} {cSure : Nat → Nat → Int32} {cN : Nat → Int32} {cRow : Nat → Int32} {cTried : Nat → Int32} {cFor : Nat → Int32} {cRoad : Nat → Int32} {cFear : Nat → Int32} {cCall : Nat → Int32} {cUnl : Nat → Int32} {cPaid : Nat → Nat → Int32} {cStep : Nat → Nat → Int32} {cGain : Nat → Nat → Int32} {cText : Nat → Option Nat} {iN : Nat → Int32} {iRow : Nat → Int32} {iFor : Nat → Int32} {iRoad : Nat → Int32} {iFear : Nat → Int32} {iCall : Nat → Int32} {iUnl : Nat → Int32} {iPaid : Nat → Nat → Int32} {iStep : Nat → Nat → Int32} {iGain : Nat → Nat → Int32} {iText : Nat → Option Nat} {tp : va_W} {x1 : Int32} {r : Int32} {φ : Nat} (hf : X_heirs φ cN cRow x1 = some r) : CX l yX0_heirs (ws_ yX0_heirs cX0_heirs 2 (some .int)) ({ frames := 4, cells := 0, slots := 0, locals := 87 } : Room) g z [.ref h, .int x1] (xW g h hn hi ad ra sTaped sFault sFaultA sWays sMay sMust cTape cNames cHead cSure cN cRow cTried cFor cRoad cFear cCall cUnl cPaid cStep cGain cText iN iRow iFor iRoad iFear iCall iUnl iPaid iStep iGain iText tp) (some (.int r)) (xW g h hn hi ad ra sTaped sFault sFaultA sWays sMay sMust cTape cNames cHead cSure cN cRow cTried cFor cRoad cFear cCall cUnl cPaid cStep cGain cText iN iRow iFor iRoad iFear iCall iUnl iPaid iStep iGain iText tp) 0 0 := by
  refine CX.of RX0 rfl plain_X0 (Nat.le_of_ble_eq_true rfl) (fun p e s m below meth c A ls X hF hP hD hS hl => ?_)
  have hx := X.1
  have hb := X.2.1
  have hown := X.2.2.2.2.2.1
  have hts := X.2.2.2.2.2.2.1
  have hl : lv_has ls 2 [(0, .ref h), (1, .int x1)] := hl
  unfold X_heirs at hf
  refine lv_aload_n hx hb dX0_heirs_0 rfl (lv_at hl 0 rfl) ?_
  refine lv_iload_n hx hb dX0_heirs_1 rfl (lv_at hl 1 rfl) ?_
  obtain ⟨r1, k2, hf⟩ := bd1s hf
  refine xVi (rest := []) X hF (met_X_isPerson k2) gw_X0_X0_isPerson dy_X0_isPerson ⟨⟨rfl, rfl⟩, Nat.le_of_ble_eq_true rfl, Nat.le_of_ble_eq_true rfl⟩ hP hD hS hl.1 rcX rfl rfl ⟨Nat.zero_le _, Nat.zero_le _⟩ (Nat.le_of_ble_eq_true rfl) dX0_heirs_2 (fun H locs hP hD hS => ?_)
  refine bq_eq (tgt := 33) hx hb hf dX0_heirs_5 (by decide) (fun hf => ?_) (fun hf => ?_)
  · refine lv_iconst (v := (-1)) hx hb dX0_heirs_33 (by decide) ?_
    cases hf
    exact rI X hP hD hS dX0_heirs_34
  · refine lv_aload_n hx hb dX0_heirs_8 rfl (lv_at hl 0 rfl) ?_
    refine lv_aload_n hx hb dX0_heirs_9 rfl (lv_at hl 0 rfl) ?_
    refine gX_X0_this_now X hP dX0_heirs_10 ?_
    refine gX_X0_now_row X hF hP dX0_heirs_13 ?_
    refine lv_iload_n hx hb dX0_heirs_16 rfl (lv_at hl 1 rfl) ?_
    refine lv_iconst (v := 0) hx hb dX0_heirs_17 (by decide) ?_
    obtain ⟨r3, k4, hf⟩ := bd1s hf
    refine xSi (rest := [.ref h]) X hF (met_X_atR k4) gs_X0_X0_at dy_X0_at ⟨⟨rfl, rfl⟩, Nat.le_of_ble_eq_true rfl, Nat.le_of_ble_eq_true rfl⟩ hP hD hS hl.1 rfl rfl ⟨Nat.zero_le _, Nat.zero_le _⟩ (Nat.le_of_ble_eq_true rfl) dX0_heirs_18 (fun H locs hP hD hS => ?_)
    obtain ⟨r5, k6, hf⟩ := bd1s hf
    refine xVi (rest := []) X hF (met_X_aliveIn k6) gw_X0_X0_aliveIn dy_X0_aliveIn ⟨⟨rfl, rfl⟩, Nat.le_of_ble_eq_true rfl, Nat.le_of_ble_eq_true rfl⟩ hP hD hS hl.1 rcX rfl rfl ⟨Nat.zero_le _, Nat.zero_le _⟩ (Nat.le_of_ble_eq_true rfl) dX0_heirs_21 (fun H locs hP hD hS => ?_)
    refine lv_iconst (v := 1) hx hb dX0_heirs_24 (by decide) ?_
    refine lv_iload_n hx hb dX0_heirs_25 rfl (lv_at hl 1 rfl) ?_
    refine lv_ishl hx hb dX0_heirs_26 ?_
    refine lv_iconst (v := (-1)) hx hb dX0_heirs_27 (by decide) ?_
    refine lv_ixor hx hb dX0_heirs_28 ?_
    refine lv_iand hx hb dX0_heirs_29 ?_
    refine lv_goto (tgt := 34) hx hb dX0_heirs_30 (by decide) ?_
    cases hf
    exact rI X hP hD hS dX0_heirs_34
set_option maxHeartbeats 4000000 in
theorem met_X_wolves {l : Launch} {g : gG} {h hn hi : Nat} {ad : Nat → Nat} {ra : Nat → Nat → Nat} {z : Nat → Nat} {sTaped : Int32} {sFault : Int32} {sFaultA : Int32} {sWays : Int32} {sMay : Int32} {sMust : Int32} {cTape : Nat → Int32} {cNames : Nat → Int32} {cHead : Nat → Int32} {cSure : Nat → Nat → Int32} {cN : Nat → Int32} {cRow : Nat → Int32} {cTried : Nat → Int32} {cFor : Nat → Int32} {cRoad : Nat → Int32} {cFear : Nat → Int32} {cCall : Nat → Int32} {cUnl : Nat → Int32} {cPaid : Nat → Nat → Int32} {cStep : Nat → Nat → Int32} {cGain : Nat → Nat → Int32} {cText : Nat → Option Nat} {iN : Nat → Int32} {iRow : Nat → Int32} {iFor : Nat → Int32} {iRoad : Nat → Int32} {iFear : Nat → Int32} {iCall : Nat → Int32} {iUnl : Nat → Int32} {iPaid : Nat → Nat → Int32} {iStep : Nat → Nat → Int32} {iGain : Nat → Nat → Int32} {iText : Nat → Option Nat} {tp : va_W} {r : Int32} {φ : Nat} (hf : X_wolves φ cN cRow = some r) : CX l yX0_wolves (ws_ yX0_wolves cX0_wolves 3 (some .int)) ({ frames := 3, cells := 0, slots := 0, locals := 64 } : Room) g z [.ref h] (xW g h hn hi ad ra sTaped sFault sFaultA sWays sMay sMust cTape cNames cHead cSure cN cRow cTried cFor cRoad cFear cCall cUnl cPaid cStep cGain cText iN iRow iFor iRoad iFear iCall iUnl iPaid iStep iGain iText tp) (some (.int r)) (xW g h hn hi ad ra sTaped sFault sFaultA sWays sMay sMust cTape cNames cHead cSure cN cRow cTried cFor cRoad cFear cCall cUnl cPaid cStep cGain cText iN iRow iFor iRoad iFear iCall iUnl iPaid iStep iGain iText tp) 0 0 := by
  refine CX.of RX0 rfl plain_X0 (Nat.le_of_ble_eq_true rfl) (fun p e s m below meth c A ls X hF hP hD hS hl => ?_)
  have hx := X.1
  have hb := X.2.1
  have hown := X.2.2.2.2.2.1
  have hts := X.2.2.2.2.2.2.1
  have hl : lv_has ls 3 [(0, .ref h)] := hl
  unfold X_wolves at hf
  refine lv_iconst (v := 0) hx hb dX0_wolves_0 (by decide) ?_
  refine lv_istore_n (lv' := [(1, .int 0), (0, .ref h)]) hx hb dX0_wolves_1 rfl hl (by decide) rfl (fun ls hl => ?_)
  refine lv_iconst (v := 0) hx hb dX0_wolves_2 (by decide) ?_
  refine lv_istore_n (lv' := [(2, .int 0), (1, .int 0), (0, .ref h)]) hx hb dX0_wolves_3 rfl hl (by decide) rfl (fun ls hl => ?_)
  obtain ⟨v3, k8, hf⟩ := bd1s hf
  have hE5 : ∀ (H : Heap) (locs : List Loc) (ls : Array Slot), va_P g.1 vwCl (xW g h hn hi ad ra sTaped sFault sFaultA sWays sMay sMust cTape cNames cHead cSure cN cRow cTried cFor cRoad cFear cCall cUnl cPaid cStep cGain cText iN iRow iFor iRoad iFear iCall iUnl iPaid iStep iGain iText tp) H → va_D A (xW g h hn hi ad ra sTaped sFault sFaultA sWays sMay sMust cTape cNames cHead cSure cN cRow cTried cFor cRoad cFear cCall cUnl cPaid cStep cGain cText iN iRow iFor iRoad iFear iCall iUnl iPaid iStep iGain iText tp) → va_S A s.heap H locs → lv_has ls 3 [(1, .int v3)] → W p l e ({ frames := 3, cells := 0, slots := 0, locals := 64 } : Room) s m ([.ref h] : List Value).toArray below meth c H locs 0 0 (MQ below (QQ g (some (.int r)) (xW g h hn hi ad ra sTaped sFault sFaultA sWays sMay sMust cTape cNames cHead cSure cN cRow cTried cFor cRoad cFear cCall cUnl cPaid cStep cGain cText iN iRow iFor iRoad iFear iCall iUnl iPaid iStep iGain iText tp) A) ([.ref h] : List Value).toArray s 0 0 A) (F0 m 41 ls []) := by
    intro H locs ls hP hD hS hl
    refine lv_iload_n hx hb dX0_wolves_41 rfl (lv_at hl 0 rfl) ?_
    cases hf
    exact rI X hP hD hS dX0_wolves_42
  have hL6 : ∀ (n4 : Nat) (v1 : Int32) (v2 : Int32), X_wolves_L4 φ cN cRow n4 v1 v2 = some v3 → ∀ (H : Heap) (locs : List Loc) (ls : Array Slot), va_P g.1 vwCl (xW g h hn hi ad ra sTaped sFault sFaultA sWays sMay sMust cTape cNames cHead cSure cN cRow cTried cFor cRoad cFear cCall cUnl cPaid cStep cGain cText iN iRow iFor iRoad iFear iCall iUnl iPaid iStep iGain iText tp) H → va_D A (xW g h hn hi ad ra sTaped sFault sFaultA sWays sMay sMust cTape cNames cHead cSure cN cRow cTried cFor cRoad cFear cCall cUnl cPaid cStep cGain cText iN iRow iFor iRoad iFear iCall iUnl iPaid iStep iGain iText tp) → va_S A s.heap H locs → lv_has ls 3 [(0, .ref h), (1, .int v1), (2, .int v2)] → W p l e ({ frames := 3, cells := 0, slots := 0, locals := 64 } : Room) s m ([.ref h] : List Value).toArray below meth c H locs 0 0 (MQ below (QQ g (some (.int r)) (xW g h hn hi ad ra sTaped sFault sFaultA sWays sMay sMust cTape cNames cHead cSure cN cRow cTried cFor cRoad cFear cCall cUnl cPaid cStep cGain cText iN iRow iFor iRoad iFear iCall iUnl iPaid iStep iGain iText tp) A) ([.ref h] : List Value).toArray s 0 0 A) (F0 m 4 ls []) := by
    intro n4
    induction n4 with
    | zero =>
      intro v1 v2 hf
      exact nn hf
    | succ n4 ih7 =>
      intro v1 v2 hf H locs ls hP hD hS hl
      rw [X_wolves_L4] at hf
      refine lv_iload_n hx hb dX0_wolves_4 rfl (lv_at hl 2 rfl) ?_
      refine lv_aload_n hx hb dX0_wolves_5 rfl (lv_at hl 0 rfl) ?_
      refine gX_X0_this_now X hP dX0_wolves_6 ?_
      refine gX_X0_now_n X hF hP dX0_wolves_9 ?_
      refine lv_iconst (v := 1) hx hb dX0_wolves_12 (by decide) ?_
      obtain ⟨v9, ev9, bv9, hf⟩ := rds hf
      refine lX_cN X hP ev9 bv9 dX0_wolves_13 ?_
      refine bc_ge (tgt := 41) hx hb hf dX0_wolves_14 (by decide) (fun hf => ?_) (fun hf => ?_)
      · cases hf
        exact hE5 _ _ _ hP hD hS (lv_sub hl [1] rfl)
      · refine lv_iload_n hx hb dX0_wolves_17 rfl (lv_at hl 1 rfl) ?_
        refine lv_aload_n hx hb dX0_wolves_18 rfl (lv_at hl 0 rfl) ?_
        refine lv_iload_n hx hb dX0_wolves_19 rfl (lv_at hl 2 rfl) ?_
        obtain ⟨r10, k11, hf⟩ := bd1s hf
        refine xVi (rest := [.int v1]) X hF (met_X_isWolf k11) gw_X0_X0_isWolf dy_X0_isWolf ⟨⟨rfl, rfl⟩, Nat.le_of_ble_eq_true rfl, Nat.le_of_ble_eq_true rfl⟩ hP hD hS hl.1 rcX rfl rfl ⟨Nat.zero_le _, Nat.zero_le _⟩ (Nat.le_of_ble_eq_true rfl) dX0_wolves_20 (fun H locs hP hD hS => ?_)
        refine bq_eq (tgt := 32) hx hb hf dX0_wolves_23 (by decide) (fun hf => ?_) (fun hf => ?_)
        · refine lv_iconst (v := 0) hx hb dX0_wolves_32 (by decide) ?_
          refine lv_ior hx hb dX0_wolves_33 ?_
          obtain ⟨v12, ev12, hf⟩ := lts hf
          refine tpi ev12 ?_
          refine lv_istore_n (lv' := [(1, .int v12), (0, .ref h), (2, .int v2)]) hx hb dX0_wolves_34 rfl hl (by decide) rfl (fun ls hl => ?_)
          obtain ⟨v13, ev13, hf⟩ := lts hf
          refine lv_iinc (v := v13) (lv' := [(2, .int v13), (1, .int v12), (0, .ref h)]) hx hb dX0_wolves_35 hl (k := 2) rfl (by rw [ev13]; rfl) (by decide) rfl (fun ls hl => ?_)
          refine lv_goto (tgt := 4) hx hb dX0_wolves_38 (by decide) ?_
          exact ih7 _ _ hf _ _ _ hP hD hS (lv_sub hl [2, 1, 0] rfl)
        · refine lv_iconst (v := 1) hx hb dX0_wolves_26 (by decide) ?_
          refine lv_iload_n hx hb dX0_wolves_27 rfl (lv_at hl 2 rfl) ?_
          refine lv_ishl hx hb dX0_wolves_28 ?_
          refine lv_goto (tgt := 33) hx hb dX0_wolves_29 (by decide) ?_
          refine lv_ior hx hb dX0_wolves_33 ?_
          obtain ⟨v14, ev14, hf⟩ := lts hf
          refine tpi ev14 ?_
          refine lv_istore_n (lv' := [(1, .int v14), (0, .ref h), (2, .int v2)]) hx hb dX0_wolves_34 rfl hl (by decide) rfl (fun ls hl => ?_)
          obtain ⟨v15, ev15, hf⟩ := lts hf
          refine lv_iinc (v := v15) (lv' := [(2, .int v15), (1, .int v14), (0, .ref h)]) hx hb dX0_wolves_35 hl (k := 2) rfl (by rw [ev15]; rfl) (by decide) rfl (fun ls hl => ?_)
          refine lv_goto (tgt := 4) hx hb dX0_wolves_38 (by decide) ?_
          exact ih7 _ _ hf _ _ _ hP hD hS (lv_sub hl [2, 1, 0] rfl)
  exact hL6 _ _ _ k8 _ _ _ hP hD hS (lv_sub hl [2, 1, 0] rfl)
theorem gw_X0_X0_wolves : GoodIn lw_all (wsV RX0 396 RX0 yX0_wolves (ws_ yX0_wolves cX0_wolves 3 (some .int))) := lw_V q1363 q1364 q1365 q145 q1366
theorem dy_X0_wolves : Dy yX0_wolves RX0 0 := by decide +kernel
set_option maxHeartbeats 4000000 in
theorem met_X_wolvesBeside {l : Launch} {g : gG} {h hn hi : Nat} {ad : Nat → Nat} {ra : Nat → Nat → Nat} {z : Nat → Nat} {sTaped : Int32} {sFault : Int32} {sFaultA : Int32} {sWays : Int32} {sMay : Int32} {sMust : Int32} {cTape : Nat → Int32} {cNames : Nat → Int32} {cHead : Nat → Int32} {cSure : Nat → Nat → Int32} {cN : Nat → Int32} {cRow : Nat → Int32} {cTried : Nat → Int32} {cFor : Nat → Int32} {cRoad : Nat → Int32} {cFear : Nat → Int32} {cCall : Nat → Int32} {cUnl : Nat → Int32} {cPaid : Nat → Nat → Int32} {cStep : Nat → Nat → Int32} {cGain : Nat → Nat → Int32} {cText : Nat → Option Nat} {iN : Nat → Int32} {iRow : Nat → Int32} {iFor : Nat → Int32} {iRoad : Nat → Int32} {iFear : Nat → Int32} {iCall : Nat → Int32} {iUnl : Nat → Int32} {iPaid : Nat → Nat → Int32} {iStep : Nat → Nat → Int32} {iGain : Nat → Nat → Int32} {iText : Nat → Option Nat} {tp : va_W} {x1 : Int32} {r : Int32} {φ : Nat} (hf : X_wolvesBeside φ cN cRow x1 = some r) : CX l yX0_wolvesBeside (ws_ yX0_wolvesBeside cX0_wolvesBeside 2 (some .int)) ({ frames := 4, cells := 0, slots := 0, locals := 87 } : Room) g z [.ref h, .int x1] (xW g h hn hi ad ra sTaped sFault sFaultA sWays sMay sMust cTape cNames cHead cSure cN cRow cTried cFor cRoad cFear cCall cUnl cPaid cStep cGain cText iN iRow iFor iRoad iFear iCall iUnl iPaid iStep iGain iText tp) (some (.int r)) (xW g h hn hi ad ra sTaped sFault sFaultA sWays sMay sMust cTape cNames cHead cSure cN cRow cTried cFor cRoad cFear cCall cUnl cPaid cStep cGain cText iN iRow iFor iRoad iFear iCall iUnl iPaid iStep iGain iText tp) 0 0 := by
  refine CX.of RX0 rfl plain_X0 (Nat.le_of_ble_eq_true rfl) (fun p e s m below meth c A ls X hF hP hD hS hl => ?_)
  have hx := X.1
  have hb := X.2.1
  have hown := X.2.2.2.2.2.1
  have hts := X.2.2.2.2.2.2.1
  have hl : lv_has ls 2 [(0, .ref h), (1, .int x1)] := hl
  unfold X_wolvesBeside at hf
  refine lv_aload_n hx hb dX0_wolvesBeside_0 rfl (lv_at hl 0 rfl) ?_
  obtain ⟨r1, k2, hf⟩ := bd1s hf
  refine xVi (rest := []) X hF (met_X_wolves k2) gw_X0_X0_wolves dy_X0_wolves ⟨⟨rfl, rfl⟩, Nat.le_of_ble_eq_true rfl, Nat.le_of_ble_eq_true rfl⟩ hP hD hS hl.1 rcX rfl rfl ⟨Nat.zero_le _, Nat.zero_le _⟩ (Nat.le_of_ble_eq_true rfl) dX0_wolvesBeside_1 (fun H locs hP hD hS => ?_)
  refine lv_aload_n hx hb dX0_wolvesBeside_4 rfl (lv_at hl 0 rfl) ?_
  refine lv_aload_n hx hb dX0_wolvesBeside_5 rfl (lv_at hl 0 rfl) ?_
  refine gX_X0_this_now X hP dX0_wolvesBeside_6 ?_
  refine gX_X0_now_row X hF hP dX0_wolvesBeside_9 ?_
  refine lv_iload_n hx hb dX0_wolvesBeside_12 rfl (lv_at hl 1 rfl) ?_
  refine lv_iconst (v := 0) hx hb dX0_wolvesBeside_13 (by decide) ?_
  obtain ⟨r3, k4, hf⟩ := bd1s hf
  refine xSi (rest := [.ref h, .int r1]) X hF (met_X_atR k4) gs_X0_X0_at dy_X0_at ⟨⟨rfl, rfl⟩, Nat.le_of_ble_eq_true rfl, Nat.le_of_ble_eq_true rfl⟩ hP hD hS hl.1 rfl rfl ⟨Nat.zero_le _, Nat.zero_le _⟩ (Nat.le_of_ble_eq_true rfl) dX0_wolvesBeside_14 (fun H locs hP hD hS => ?_)
  obtain ⟨r5, k6, hf⟩ := bd1s hf
  refine xVi (rest := [.int r1]) X hF (met_X_aliveIn k6) gw_X0_X0_aliveIn dy_X0_aliveIn ⟨⟨rfl, rfl⟩, Nat.le_of_ble_eq_true rfl, Nat.le_of_ble_eq_true rfl⟩ hP hD hS hl.1 rcX rfl rfl ⟨Nat.zero_le _, Nat.zero_le _⟩ (Nat.le_of_ble_eq_true rfl) dX0_wolvesBeside_17 (fun H locs hP hD hS => ?_)
  refine lv_iand hx hb dX0_wolvesBeside_20 ?_
  refine lv_iconst (v := 1) hx hb dX0_wolvesBeside_21 (by decide) ?_
  refine lv_iload_n hx hb dX0_wolvesBeside_22 rfl (lv_at hl 1 rfl) ?_
  refine lv_ishl hx hb dX0_wolvesBeside_23 ?_
  refine lv_iconst (v := (-1)) hx hb dX0_wolvesBeside_24 (by decide) ?_
  refine lv_ixor hx hb dX0_wolvesBeside_25 ?_
  refine lv_iand hx hb dX0_wolvesBeside_26 ?_
  obtain ⟨r7, k8, hf⟩ := bd1s hf
  refine cSi (rest := []) X (met_J_bitCount (g := g) k8) gs_X0_J15_bitCount dy_J15_bitCount ⟨⟨rfl, rfl⟩, Nat.le_of_ble_eq_true rfl, Nat.le_of_ble_eq_true rfl⟩ hP hD hS hl.1 rfl rfl ⟨Nat.zero_le _, Nat.zero_le _⟩ (Nat.le_of_ble_eq_true rfl) dX0_wolvesBeside_27 (fun H locs hP hD hS => ?_)
  cases hf
  exact rI X hP hD hS dX0_wolvesBeside_30
theorem gw_X0_X0_wolvesBeside : GoodIn lw_all (wsV RX0 399 RX0 yX0_wolvesBeside (ws_ yX0_wolvesBeside cX0_wolvesBeside 2 (some .int))) := lw_V q1359 q1361 qs62 q145 q1362
theorem dy_X0_wolvesBeside : Dy yX0_wolvesBeside RX0 1 := by decide +kernel
set_option maxHeartbeats 4000000 in
theorem met_X_feared {l : Launch} {g : gG} {h hn hi : Nat} {ad : Nat → Nat} {ra : Nat → Nat → Nat} {z : Nat → Nat} {sTaped : Int32} {sFault : Int32} {sFaultA : Int32} {sWays : Int32} {sMay : Int32} {sMust : Int32} {cTape : Nat → Int32} {cNames : Nat → Int32} {cHead : Nat → Int32} {cSure : Nat → Nat → Int32} {cN : Nat → Int32} {cRow : Nat → Int32} {cTried : Nat → Int32} {cFor : Nat → Int32} {cRoad : Nat → Int32} {cFear : Nat → Int32} {cCall : Nat → Int32} {cUnl : Nat → Int32} {cPaid : Nat → Nat → Int32} {cStep : Nat → Nat → Int32} {cGain : Nat → Nat → Int32} {cText : Nat → Option Nat} {iN : Nat → Int32} {iRow : Nat → Int32} {iFor : Nat → Int32} {iRoad : Nat → Int32} {iFear : Nat → Int32} {iCall : Nat → Int32} {iUnl : Nat → Int32} {iPaid : Nat → Nat → Int32} {iStep : Nat → Nat → Int32} {iGain : Nat → Nat → Int32} {iText : Nat → Option Nat} {tp : va_W} {r : Int32} {φ : Nat} (hf : X_feared φ cN cRow = some r) : CX l yX0_feared (ws_ yX0_feared cX0_feared 3 (some .int)) ({ frames := 5, cells := 0, slots := 0, locals := 108 } : Room) g z [.ref h] (xW g h hn hi ad ra sTaped sFault sFaultA sWays sMay sMust cTape cNames cHead cSure cN cRow cTried cFor cRoad cFear cCall cUnl cPaid cStep cGain cText iN iRow iFor iRoad iFear iCall iUnl iPaid iStep iGain iText tp) (some (.int r)) (xW g h hn hi ad ra sTaped sFault sFaultA sWays sMay sMust cTape cNames cHead cSure cN cRow cTried cFor cRoad cFear cCall cUnl cPaid cStep cGain cText iN iRow iFor iRoad iFear iCall iUnl iPaid iStep iGain iText tp) 0 0 := by
  refine CX.of RX0 rfl plain_X0 (Nat.le_of_ble_eq_true rfl) (fun p e s m below meth c A ls X hF hP hD hS hl => ?_)
  have hx := X.1
  have hb := X.2.1
  have hown := X.2.2.2.2.2.1
  have hts := X.2.2.2.2.2.2.1
  have hl : lv_has ls 3 [(0, .ref h)] := hl
  unfold X_feared at hf
  refine lv_iconst (v := (-1)) hx hb dX0_feared_0 (by decide) ?_
  refine lv_istore_n (lv' := [(1, .int (-1)), (0, .ref h)]) hx hb dX0_feared_1 rfl hl (by decide) rfl (fun ls hl => ?_)
  refine lv_iconst (v := 0) hx hb dX0_feared_2 (by decide) ?_
  refine lv_istore_n (lv' := [(2, .int 0), (1, .int (-1)), (0, .ref h)]) hx hb dX0_feared_3 rfl hl (by decide) rfl (fun ls hl => ?_)
  obtain ⟨v3, k8, hf⟩ := bd1s hf
  have hE5 : ∀ (H : Heap) (locs : List Loc) (ls : Array Slot), va_P g.1 vwCl (xW g h hn hi ad ra sTaped sFault sFaultA sWays sMay sMust cTape cNames cHead cSure cN cRow cTried cFor cRoad cFear cCall cUnl cPaid cStep cGain cText iN iRow iFor iRoad iFear iCall iUnl iPaid iStep iGain iText tp) H → va_D A (xW g h hn hi ad ra sTaped sFault sFaultA sWays sMay sMust cTape cNames cHead cSure cN cRow cTried cFor cRoad cFear cCall cUnl cPaid cStep cGain cText iN iRow iFor iRoad iFear iCall iUnl iPaid iStep iGain iText tp) → va_S A s.heap H locs → lv_has ls 3 [(1, .int v3)] → W p l e ({ frames := 5, cells := 0, slots := 0, locals := 108 } : Room) s m ([.ref h] : List Value).toArray below meth c H locs 0 0 (MQ below (QQ g (some (.int r)) (xW g h hn hi ad ra sTaped sFault sFaultA sWays sMay sMust cTape cNames cHead cSure cN cRow cTried cFor cRoad cFear cCall cUnl cPaid cStep cGain cText iN iRow iFor iRoad iFear iCall iUnl iPaid iStep iGain iText tp) A) ([.ref h] : List Value).toArray s 0 0 A) (F0 m 55 ls []) := by
    intro H locs ls hP hD hS hl
    refine lv_iload_n hx hb dX0_feared_55 rfl (lv_at hl 0 rfl) ?_
    cases hf
    exact rI X hP hD hS dX0_feared_56
  have hL6 : ∀ (n4 : Nat) (v1 : Int32) (v2 : Int32), X_feared_L4 φ cN cRow n4 v1 v2 = some v3 → ∀ (H : Heap) (locs : List Loc) (ls : Array Slot), va_P g.1 vwCl (xW g h hn hi ad ra sTaped sFault sFaultA sWays sMay sMust cTape cNames cHead cSure cN cRow cTried cFor cRoad cFear cCall cUnl cPaid cStep cGain cText iN iRow iFor iRoad iFear iCall iUnl iPaid iStep iGain iText tp) H → va_D A (xW g h hn hi ad ra sTaped sFault sFaultA sWays sMay sMust cTape cNames cHead cSure cN cRow cTried cFor cRoad cFear cCall cUnl cPaid cStep cGain cText iN iRow iFor iRoad iFear iCall iUnl iPaid iStep iGain iText tp) → va_S A s.heap H locs → lv_has ls 3 [(0, .ref h), (1, .int v1), (2, .int v2)] → W p l e ({ frames := 5, cells := 0, slots := 0, locals := 108 } : Room) s m ([.ref h] : List Value).toArray below meth c H locs 0 0 (MQ below (QQ g (some (.int r)) (xW g h hn hi ad ra sTaped sFault sFaultA sWays sMay sMust cTape cNames cHead cSure cN cRow cTried cFor cRoad cFear cCall cUnl cPaid cStep cGain cText iN iRow iFor iRoad iFear iCall iUnl iPaid iStep iGain iText tp) A) ([.ref h] : List Value).toArray s 0 0 A) (F0 m 4 ls []) := by
    intro n4
    induction n4 with
    | zero =>
      intro v1 v2 hf
      exact nn hf
    | succ n4 ih7 =>
      intro v1 v2 hf H locs ls hP hD hS hl
      rw [X_feared_L4] at hf
      refine lv_iload_n hx hb dX0_feared_4 rfl (lv_at hl 2 rfl) ?_
      refine lv_aload_n hx hb dX0_feared_5 rfl (lv_at hl 0 rfl) ?_
      refine gX_X0_this_now X hP dX0_feared_6 ?_
      refine gX_X0_now_n X hF hP dX0_feared_9 ?_
      refine lv_iconst (v := 1) hx hb dX0_feared_12 (by decide) ?_
      obtain ⟨v9, ev9, bv9, hf⟩ := rds hf
      refine lX_cN X hP ev9 bv9 dX0_feared_13 ?_
      refine bc_ge (tgt := 55) hx hb hf dX0_feared_14 (by decide) (fun hf => ?_) (fun hf => ?_)
      · cases hf
        exact hE5 _ _ _ hP hD hS (lv_sub hl [1] rfl)
      · refine lv_aload_n hx hb dX0_feared_17 rfl (lv_at hl 0 rfl) ?_
        refine lv_iload_n hx hb dX0_feared_18 rfl (lv_at hl 2 rfl) ?_
        obtain ⟨r10, k11, hf⟩ := bd1s hf
        refine xVi (rest := []) X hF (met_X_isAlive k11) gw_X0_X0_isAlive dy_X0_isAlive ⟨⟨rfl, rfl⟩, Nat.le_of_ble_eq_true rfl, Nat.le_of_ble_eq_true rfl⟩ hP hD hS hl.1 rcX rfl rfl ⟨Nat.zero_le _, Nat.zero_le _⟩ (Nat.le_of_ble_eq_true rfl) dX0_feared_19 (fun H locs hP hD hS => ?_)
        refine bq_eq (tgt := 49) hx hb hf dX0_feared_22 (by decide) (fun hf => ?_) (fun hf => ?_)
        · obtain ⟨v12, ev12, hf⟩ := lts hf
          refine lv_iinc (v := v12) (lv' := [(2, .int v12), (0, .ref h), (1, .int v1)]) hx hb dX0_feared_49 hl (k := 2) rfl (by rw [ev12]; rfl) (by decide) rfl (fun ls hl => ?_)
          refine lv_goto (tgt := 4) hx hb dX0_feared_52 (by decide) ?_
          exact ih7 _ _ hf _ _ _ hP hD hS (lv_sub hl [1, 2, 0] rfl)
        · refine lv_aload_n hx hb dX0_feared_25 rfl (lv_at hl 0 rfl) ?_
          refine lv_iload_n hx hb dX0_feared_26 rfl (lv_at hl 2 rfl) ?_
          obtain ⟨r13, k14, hf⟩ := bd1s hf
          refine xVi (rest := []) X hF (met_X_wolvesBeside k14) gw_X0_X0_wolvesBeside dy_X0_wolvesBeside ⟨⟨rfl, rfl⟩, Nat.le_of_ble_eq_true rfl, Nat.le_of_ble_eq_true rfl⟩ hP hD hS hl.1 rcX rfl rfl ⟨Nat.zero_le _, Nat.zero_le _⟩ (Nat.le_of_ble_eq_true rfl) dX0_feared_27 (fun H locs hP hD hS => ?_)
          refine lv_iload_n hx hb dX0_feared_30 rfl (lv_at hl 1 rfl) ?_
          refine lv_iconst (v := (-1)) hx hb dX0_feared_31 (by decide) ?_
          refine bc_ne (tgt := 39) hx hb hf dX0_feared_32 (by decide) (fun hf => ?_) (fun hf => ?_)
          · refine lv_aload_n hx hb dX0_feared_39 rfl (lv_at hl 0 rfl) ?_
            refine lv_iload_n hx hb dX0_feared_40 rfl (lv_at hl 1 rfl) ?_
            obtain ⟨r15, k16, hf⟩ := bd1s hf
            refine xVi (rest := [.int r13]) X hF (met_X_wolvesBeside k16) gw_X0_X0_wolvesBeside dy_X0_wolvesBeside ⟨⟨rfl, rfl⟩, Nat.le_of_ble_eq_true rfl, Nat.le_of_ble_eq_true rfl⟩ hP hD hS hl.1 rcX rfl rfl ⟨Nat.zero_le _, Nat.zero_le _⟩ (Nat.le_of_ble_eq_true rfl) dX0_feared_41 (fun H locs hP hD hS => ?_)
            refine bc_le (tgt := 49) hx hb hf dX0_feared_44 (by decide) (fun hf => ?_) (fun hf => ?_)
            · obtain ⟨v17, ev17, hf⟩ := lts hf
              refine lv_iinc (v := v17) (lv' := [(2, .int v17), (0, .ref h), (1, .int v1)]) hx hb dX0_feared_49 hl (k := 2) rfl (by rw [ev17]; rfl) (by decide) rfl (fun ls hl => ?_)
              refine lv_goto (tgt := 4) hx hb dX0_feared_52 (by decide) ?_
              exact ih7 _ _ hf _ _ _ hP hD hS (lv_sub hl [1, 2, 0] rfl)
            · refine lv_iload_n hx hb dX0_feared_47 rfl (lv_at hl 2 rfl) ?_
              refine lv_istore_n (lv' := [(1, .int v2), (0, .ref h), (2, .int v2)]) hx hb dX0_feared_48 rfl hl (by decide) rfl (fun ls hl => ?_)
              obtain ⟨v18, ev18, hf⟩ := lts hf
              refine lv_iinc (v := v18) (lv' := [(2, .int v18), (1, .int v2), (0, .ref h)]) hx hb dX0_feared_49 hl (k := 2) rfl (by rw [ev18]; rfl) (by decide) rfl (fun ls hl => ?_)
              refine lv_goto (tgt := 4) hx hb dX0_feared_52 (by decide) ?_
              exact ih7 _ _ hf _ _ _ hP hD hS (lv_sub hl [2, 1, 0] rfl)
          · refine lv_iconst (v := 0) hx hb dX0_feared_35 (by decide) ?_
            refine lv_goto (tgt := 44) hx hb dX0_feared_36 (by decide) ?_
            refine bc_le (tgt := 49) hx hb hf dX0_feared_44 (by decide) (fun hf => ?_) (fun hf => ?_)
            · obtain ⟨v19, ev19, hf⟩ := lts hf
              refine lv_iinc (v := v19) (lv' := [(2, .int v19), (0, .ref h), (1, .int v1)]) hx hb dX0_feared_49 hl (k := 2) rfl (by rw [ev19]; rfl) (by decide) rfl (fun ls hl => ?_)
              refine lv_goto (tgt := 4) hx hb dX0_feared_52 (by decide) ?_
              exact ih7 _ _ hf _ _ _ hP hD hS (lv_sub hl [1, 2, 0] rfl)
            · refine lv_iload_n hx hb dX0_feared_47 rfl (lv_at hl 2 rfl) ?_
              refine lv_istore_n (lv' := [(1, .int v2), (0, .ref h), (2, .int v2)]) hx hb dX0_feared_48 rfl hl (by decide) rfl (fun ls hl => ?_)
              obtain ⟨v20, ev20, hf⟩ := lts hf
              refine lv_iinc (v := v20) (lv' := [(2, .int v20), (1, .int v2), (0, .ref h)]) hx hb dX0_feared_49 hl (k := 2) rfl (by rw [ev20]; rfl) (by decide) rfl (fun ls hl => ?_)
              refine lv_goto (tgt := 4) hx hb dX0_feared_52 (by decide) ?_
              exact ih7 _ _ hf _ _ _ hP hD hS (lv_sub hl [2, 1, 0] rfl)
  exact hL6 _ _ _ k8 _ _ _ hP hD hS (lv_sub hl [2, 1, 0] rfl)
set_option maxHeartbeats 4000000 in
theorem met_X_paid {l : Launch} {g : gG} {h hn hi : Nat} {ad : Nat → Nat} {ra : Nat → Nat → Nat} {z : Nat → Nat} {sTaped : Int32} {sFault : Int32} {sFaultA : Int32} {sWays : Int32} {sMay : Int32} {sMust : Int32} {cTape : Nat → Int32} {cNames : Nat → Int32} {cHead : Nat → Int32} {cSure : Nat → Nat → Int32} {cN : Nat → Int32} {cRow : Nat → Int32} {cTried : Nat → Int32} {cFor : Nat → Int32} {cRoad : Nat → Int32} {cFear : Nat → Int32} {cCall : Nat → Int32} {cUnl : Nat → Int32} {cPaid : Nat → Nat → Int32} {cStep : Nat → Nat → Int32} {cGain : Nat → Nat → Int32} {cText : Nat → Option Nat} {iN : Nat → Int32} {iRow : Nat → Int32} {iFor : Nat → Int32} {iRoad : Nat → Int32} {iFear : Nat → Int32} {iCall : Nat → Int32} {iUnl : Nat → Int32} {iPaid : Nat → Nat → Int32} {iStep : Nat → Nat → Int32} {iGain : Nat → Nat → Int32} {iText : Nat → Option Nat} {tp : va_W} {x1 : Int32} {x2 : Int32} {r : Int32} {ncN : Nat → Int32} {ncPaid : Nat → Nat → Int32} (hf : X_paid cN cPaid x1 x2 = some (r, ncN, ncPaid)) : CX l yX0_paid (ws_ yX0_paid cX0_paid 3 (some .int)) ({ frames := 2, cells := 0, slots := 0, locals := 43 } : Room) g z [.ref h, .int x1, .int x2] (xW g h hn hi ad ra sTaped sFault sFaultA sWays sMay sMust cTape cNames cHead cSure cN cRow cTried cFor cRoad cFear cCall cUnl cPaid cStep cGain cText iN iRow iFor iRoad iFear iCall iUnl iPaid iStep iGain iText tp) (some (.int r)) (xW g h hn hi ad ra sTaped sFault sFaultA sWays sMay sMust cTape cNames cHead cSure ncN cRow cTried cFor cRoad cFear cCall cUnl ncPaid cStep cGain cText iN iRow iFor iRoad iFear iCall iUnl iPaid iStep iGain iText tp) 0 0 := by
  refine CX.of RX0 rfl plain_X0 (Nat.le_of_ble_eq_true rfl) (fun p e s m below meth c A ls X hF hP hD hS hl => ?_)
  have hx := X.1
  have hb := X.2.1
  have hown := X.2.2.2.2.2.1
  have hts := X.2.2.2.2.2.2.1
  have hl : lv_has ls 3 [(0, .ref h), (1, .int x1), (2, .int x2)] := hl
  unfold X_paid at hf
  refine lv_iload_n hx hb dX0_paid_0 rfl (lv_at hl 1 rfl) ?_
  refine lv_iconst (v := (-1)) hx hb dX0_paid_1 (by decide) ?_
  refine bc_ne (tgt := 15) hx hb hf dX0_paid_2 (by decide) (fun hf => ?_) (fun hf => ?_)
  · refine lv_aload_n hx hb dX0_paid_15 rfl (lv_at hl 0 rfl) ?_
    refine lv_iload_n hx hb dX0_paid_16 rfl (lv_at hl 1 rfl) ?_
    obtain ⟨r1, k2, hf⟩ := bd1s hf
    refine xVi (rest := []) X hF (met_X_isPerson k2) gw_X0_X0_isPerson dy_X0_isPerson ⟨⟨rfl, rfl⟩, Nat.le_of_ble_eq_true rfl, Nat.le_of_ble_eq_true rfl⟩ hP hD hS hl.1 rcX rfl rfl ⟨Nat.zero_le _, Nat.zero_le _⟩ (Nat.le_of_ble_eq_true rfl) dX0_paid_17 (fun H locs hP hD hS => ?_)
    refine bq_eq (tgt := 49) hx hb hf dX0_paid_20 (by decide) (fun hf => ?_) (fun hf => ?_)
    · refine lv_bipush (v := (-2)) hx hb dX0_paid_49 (by decide) ?_
      cases hf
      exact rI X hP hD hS dX0_paid_51
    · refine lv_iload_n hx hb dX0_paid_23 rfl (lv_at hl 2 rfl) ?_
      refine lv_iconst (v := 0) hx hb dX0_paid_24 (by decide) ?_
      refine lv_sipush (v := 9999) hx hb dX0_paid_25 (by decide) ?_
      obtain ⟨r3, k4, hf⟩ := bd1s hf
      refine cSi (rest := []) X (met_X_in (g := g) k4) gs_X0_X0_in dy_X0_in ⟨⟨rfl, rfl⟩, Nat.le_of_ble_eq_true rfl, Nat.le_of_ble_eq_true rfl⟩ hP hD hS hl.1 rfl rfl ⟨Nat.zero_le _, Nat.zero_le _⟩ (Nat.le_of_ble_eq_true rfl) dX0_paid_28 (fun H locs hP hD hS => ?_)
      refine bq_eq (tgt := 49) hx hb hf dX0_paid_31 (by decide) (fun hf => ?_) (fun hf => ?_)
      · refine lv_bipush (v := (-2)) hx hb dX0_paid_49 (by decide) ?_
        cases hf
        exact rI X hP hD hS dX0_paid_51
      · refine lv_aload_n hx hb dX0_paid_34 rfl (lv_at hl 0 rfl) ?_
        refine gX_X0_this_now X hP dX0_paid_35 ?_
        refine gX_X0_now_n X hF hP dX0_paid_38 ?_
        refine lv_bipush (v := 8) hx hb dX0_paid_41 (by decide) ?_
        obtain ⟨v5, ev5, bv5, hf⟩ := rds hf
        refine lX_cN X hP ev5 bv5 dX0_paid_43 ?_
        refine lv_bipush (v := 8) hx hb dX0_paid_44 (by decide) ?_
        refine bc_ne (tgt := 52) hx hb hf dX0_paid_46 (by decide) (fun hf => ?_) (fun hf => ?_)
        · refine lv_aload_n hx hb dX0_paid_52 rfl (lv_at hl 0 rfl) ?_
          refine gX_X0_this_now X hP dX0_paid_53 ?_
          refine gX_X0_now_paid X hF hP dX0_paid_56 ?_
          refine lv_aload_n hx hb dX0_paid_59 rfl (lv_at hl 0 rfl) ?_
          refine gX_X0_this_now X hP dX0_paid_60 ?_
          refine gX_X0_now_n X hF hP dX0_paid_63 ?_
          refine lv_bipush (v := 8) hx hb dX0_paid_66 (by decide) ?_
          obtain ⟨v6, ev6, bv6, hf⟩ := rds hf
          refine lX_cN X hP ev6 bv6 dX0_paid_68 ?_
          obtain ⟨b7, hf⟩ := inbs hf
          refine aX_cPaid X hP b7 dX0_paid_69 ?_
          refine lv_iconst (v := 0) hx hb dX0_paid_70 (by decide) ?_
          refine lv_iload_n hx hb dX0_paid_71 rfl (lv_at hl 1 rfl) ?_
          obtain ⟨f9, ef9, bf9, hf⟩ := wrs hf
          obtain ⟨c8, ec8, hf⟩ := lts hf
          refine s2X_cPaid X hP hD hS ef9 ec8 b7 bf9 dX0_paid_72 (fun H locs hP hD hS => ?_)
          refine lv_aload_n hx hb dX0_paid_73 rfl (lv_at hl 0 rfl) ?_
          refine gX_X0_this_now X hP dX0_paid_74 ?_
          refine gX_X0_now_paid X hF hP dX0_paid_77 ?_
          refine lv_aload_n hx hb dX0_paid_80 rfl (lv_at hl 0 rfl) ?_
          refine gX_X0_this_now X hP dX0_paid_81 ?_
          refine gX_X0_now_n X hF hP dX0_paid_84 ?_
          refine lv_bipush (v := 8) hx hb dX0_paid_87 (by decide) ?_
          obtain ⟨v10, ev10, bv10, hf⟩ := rds hf
          refine lX_cN X hP ev10 bv10 dX0_paid_89 ?_
          obtain ⟨b11, hf⟩ := inbs hf
          refine aX_cPaid X hP b11 dX0_paid_90 ?_
          refine lv_iconst (v := 1) hx hb dX0_paid_91 (by decide) ?_
          refine lv_iload_n hx hb dX0_paid_92 rfl (lv_at hl 2 rfl) ?_
          obtain ⟨f13, ef13, bf13, hf⟩ := wrs hf
          obtain ⟨c12, ec12, hf⟩ := lts hf
          refine s2X_cPaid X hP hD hS ef13 ec12 b11 bf13 dX0_paid_93 (fun H locs hP hD hS => ?_)
          refine lv_aload_n hx hb dX0_paid_94 rfl (lv_at hl 0 rfl) ?_
          refine gX_X0_this_now X hP dX0_paid_95 ?_
          refine gX_X0_now_n X hF hP dX0_paid_98 ?_
          refine lv_bipush (v := 8) hx hb dX0_paid_101 (by decide) ?_
          refine lv_dup2_11 hx hb dX0_paid_103 rfl rfl ?_
          obtain ⟨v14, ev14, bv14, hf⟩ := rds hf
          refine lX_cN X hP ev14 bv14 dX0_paid_104 ?_
          refine lv_iconst (v := 1) hx hb dX0_paid_105 (by decide) ?_
          refine lv_iadd hx hb dX0_paid_106 ?_
          obtain ⟨v15, ev15, hf⟩ := lts hf
          refine tpi ev15 ?_
          obtain ⟨c16, ec16, bc16, hf⟩ := wrs hf
          refine sX_cN X hP hD hS ec16 bc16 dX0_paid_107 (fun H locs hP hD hS => ?_)
          refine lv_aload_n hx hb dX0_paid_108 rfl (lv_at hl 0 rfl) ?_
          refine gX_X0_this_now X hP dX0_paid_109 ?_
          refine gX_X0_now_n X hF hP dX0_paid_112 ?_
          refine lv_bipush (v := 8) hx hb dX0_paid_115 (by decide) ?_
          obtain ⟨v17, ev17, bv17, hf⟩ := rds hf
          refine lX_cN X hP ev17 bv17 dX0_paid_117 ?_
          cases hf
          exact rI X hP hD hS dX0_paid_118
        · refine lv_bipush (v := (-2)) hx hb dX0_paid_49 (by decide) ?_
          cases hf
          exact rI X hP hD hS dX0_paid_51
  · refine lv_aload_n hx hb dX0_paid_5 rfl (lv_at hl 0 rfl) ?_
    refine gX_X0_this_now X hP dX0_paid_6 ?_
    refine lv_bipush (v := 8) hx hb dX0_paid_9 (by decide) ?_
    obtain ⟨r18, c19, k20, hf⟩ := bd2s hf
    refine xVi (rest := []) X hF (met_S_clears k20) gw_X0_X1_clears dy_X1_clears ⟨⟨rfl, rfl⟩, Nat.le_of_ble_eq_true rfl, Nat.le_of_ble_eq_true rfl⟩ hP hD hS hl.1 rcN rfl rfl ⟨Nat.zero_le _, Nat.zero_le _⟩ (Nat.le_of_ble_eq_true rfl) dX0_paid_11 (fun H locs hP hD hS => ?_)
    cases hf
    exact rI X hP hD hS dX0_paid_14
set_option maxHeartbeats 4000000 in
theorem met_X_isLaw {l : Launch} {g : gG} {h hn hi : Nat} {ad : Nat → Nat} {ra : Nat → Nat → Nat} {z : Nat → Nat} {sTaped : Int32} {sFault : Int32} {sFaultA : Int32} {sWays : Int32} {sMay : Int32} {sMust : Int32} {cTape : Nat → Int32} {cNames : Nat → Int32} {cHead : Nat → Int32} {cSure : Nat → Nat → Int32} {cN : Nat → Int32} {cRow : Nat → Int32} {cTried : Nat → Int32} {cFor : Nat → Int32} {cRoad : Nat → Int32} {cFear : Nat → Int32} {cCall : Nat → Int32} {cUnl : Nat → Int32} {cPaid : Nat → Nat → Int32} {cStep : Nat → Nat → Int32} {cGain : Nat → Nat → Int32} {cText : Nat → Option Nat} {iN : Nat → Int32} {iRow : Nat → Int32} {iFor : Nat → Int32} {iRoad : Nat → Int32} {iFear : Nat → Int32} {iCall : Nat → Int32} {iUnl : Nat → Int32} {iPaid : Nat → Nat → Int32} {iStep : Nat → Nat → Int32} {iGain : Nat → Nat → Int32} {iText : Nat → Option Nat} {tp : va_W} {E : Nat → Option (Nat → Option ((Nat → Int32) → Int64))} {t : Nat} {r : Int32} {ncNames : Nat → Int32} {φ : Nat} (hT : TxOk g z tp E) (hf : X_isLaw φ cNames cN cRow cFor cFear cPaid E t = some (r, ncNames)) : CX l yX0_isLaw (ws_ yX0_isLaw cX0_isLaw 3 (some .boolean)) ({ frames := 244, cells := 0, slots := 0, locals := 5247 } : Room) g z [.ref h, .ref t] (xW g h hn hi ad ra sTaped sFault sFaultA sWays sMay sMust cTape cNames cHead cSure cN cRow cTried cFor cRoad cFear cCall cUnl cPaid cStep cGain cText iN iRow iFor iRoad iFear iCall iUnl iPaid iStep iGain iText tp) (some (.int r)) (xW g h hn hi ad ra sTaped sFault sFaultA sWays sMay sMust cTape ncNames cHead cSure cN cRow cTried cFor cRoad cFear cCall cUnl cPaid cStep cGain cText iN iRow iFor iRoad iFear iCall iUnl iPaid iStep iGain iText tp) 0 0 := by
  refine CX.of RX0 rfl plain_X0 (Nat.le_of_ble_eq_true rfl) (fun p e s m below meth c A ls X hF hP hD hS hl => ?_)
  have hx := X.1
  have hb := X.2.1
  have hown := X.2.2.2.2.2.1
  have hts := X.2.2.2.2.2.2.1
  have hl : lv_has ls 3 [(0, .ref h), (1, .ref t)] := hl
  unfold X_isLaw at hf
  refine lv_iconst (v := 0) hx hb dX0_isLaw_0 (by decide) ?_
  refine lv_istore_n (lv' := [(2, .int 0), (0, .ref h), (1, .ref t)]) hx hb dX0_isLaw_1 rfl hl (by decide) rfl (fun ls hl => ?_)
  have hL5 : ∀ (n3 : Nat) (v1 : Int32) (c2 : Nat → Int32), X_isLaw_L2 φ t cN cRow cFor cFear cPaid E n3 v1 c2 = some (r, ncNames) → ∀ (H : Heap) (locs : List Loc) (ls : Array Slot), va_P g.1 vwCl (xW g h hn hi ad ra sTaped sFault sFaultA sWays sMay sMust cTape c2 cHead cSure cN cRow cTried cFor cRoad cFear cCall cUnl cPaid cStep cGain cText iN iRow iFor iRoad iFear iCall iUnl iPaid iStep iGain iText tp) H → va_D A (xW g h hn hi ad ra sTaped sFault sFaultA sWays sMay sMust cTape c2 cHead cSure cN cRow cTried cFor cRoad cFear cCall cUnl cPaid cStep cGain cText iN iRow iFor iRoad iFear iCall iUnl iPaid iStep iGain iText tp) → va_S A s.heap H locs → lv_has ls 3 [(0, .ref h), (1, .ref t), (2, .int v1)] → W p l e ({ frames := 244, cells := 0, slots := 0, locals := 5247 } : Room) s m ([.ref h, .ref t] : List Value).toArray below meth c H locs 0 0 (MQ below (QQ g (some (.int r)) (xW g h hn hi ad ra sTaped sFault sFaultA sWays sMay sMust cTape ncNames cHead cSure cN cRow cTried cFor cRoad cFear cCall cUnl cPaid cStep cGain cText iN iRow iFor iRoad iFear iCall iUnl iPaid iStep iGain iText tp) A) ([.ref h, .ref t] : List Value).toArray s 0 0 A) (F0 m 2 ls []) := by
    intro n3
    induction n3 with
    | zero =>
      intro v1 c2 hf
      exact nn hf
    | succ n3 ih6 =>
      intro v1 c2 hf H locs ls hP hD hS hl
      rw [X_isLaw_L2] at hf
      refine lv_iload_n hx hb dX0_isLaw_2 rfl (lv_at hl 2 rfl) ?_
      refine lv_aload_n hx hb dX0_isLaw_3 rfl (lv_at hl 0 rfl) ?_
      refine gX_X0_this_now X hP dX0_isLaw_4 ?_
      refine gX_X0_now_n X hF hP dX0_isLaw_7 ?_
      refine lv_bipush (v := 8) hx hb dX0_isLaw_10 (by decide) ?_
      obtain ⟨v8, ev8, bv8, hf⟩ := rds hf
      refine lX_cN X hP ev8 bv8 dX0_isLaw_12 ?_
      refine bc_ge (tgt := 61) hx hb hf dX0_isLaw_13 (by decide) (fun hf => ?_) (fun hf => ?_)
      · refine lv_iconst (v := 1) hx hb dX0_isLaw_61 (by decide) ?_
        cases hf
        exact rZ X rfl hP hD hS dX0_isLaw_62
      · refine lv_aload_n hx hb dX0_isLaw_16 rfl (lv_at hl 0 rfl) ?_
        refine lv_aload_n hx hb dX0_isLaw_17 rfl (lv_at hl 1 rfl) ?_
        refine lv_aload_n hx hb dX0_isLaw_18 rfl (lv_at hl 0 rfl) ?_
        refine gX_X0_this_now X hP dX0_isLaw_19 ?_
        refine gX_X0_now_row X hF hP dX0_isLaw_22 ?_
        refine lv_aload_n hx hb dX0_isLaw_25 rfl (lv_at hl 0 rfl) ?_
        refine gX_X0_this_now X hP dX0_isLaw_26 ?_
        refine gX_X0_now_paid X hF hP dX0_isLaw_29 ?_
        refine lv_iload_n hx hb dX0_isLaw_32 rfl (lv_at hl 2 rfl) ?_
        obtain ⟨b9, hf⟩ := inbs hf
        refine aX_cPaid X hP b9 dX0_isLaw_33 ?_
        refine lv_iconst (v := 0) hx hb dX0_isLaw_34 (by decide) ?_
        obtain ⟨v10, ev10, bv10, hf⟩ := rds hf
        refine l2X_cPaid X hP ev10 b9 bv10 dX0_isLaw_35 ?_
        obtain ⟨r11, c12, k13, hf⟩ := bd2s hf
        refine xVi (rest := []) X hF (met_X_priceByR hT k13) gw_X0_X0_priceBy dy_X0_priceBy ⟨⟨rfl, rfl⟩, Nat.le_of_ble_eq_true rfl, Nat.le_of_ble_eq_true rfl⟩ hP hD hS hl.1 rcX rfl rfl ⟨Nat.zero_le _, Nat.zero_le _⟩ (Nat.le_of_ble_eq_true rfl) dX0_isLaw_36 (fun H locs hP hD hS => ?_)
        refine lv_aload_n hx hb dX0_isLaw_39 rfl (lv_at hl 0 rfl) ?_
        refine gX_X0_this_now X hP dX0_isLaw_40 ?_
        refine gX_X0_now_paid X hF hP dX0_isLaw_43 ?_
        refine lv_iload_n hx hb dX0_isLaw_46 rfl (lv_at hl 2 rfl) ?_
        obtain ⟨b14, hf⟩ := inbs hf
        refine aX_cPaid X hP b14 dX0_isLaw_47 ?_
        refine lv_iconst (v := 1) hx hb dX0_isLaw_48 (by decide) ?_
        obtain ⟨v15, ev15, bv15, hf⟩ := rds hf
        refine l2X_cPaid X hP ev15 b14 bv15 dX0_isLaw_49 ?_
        refine bc_eq (tgt := 55) hx hb hf dX0_isLaw_50 (by decide) (fun hf => ?_) (fun hf => ?_)
        · obtain ⟨v16, ev16, hf⟩ := lts hf
          refine lv_iinc (v := v16) (lv' := [(2, .int v16), (0, .ref h), (1, .ref t)]) hx hb dX0_isLaw_55 hl (k := 2) rfl (by rw [ev16]; rfl) (by decide) rfl (fun ls hl => ?_)
          refine lv_goto (tgt := 2) hx hb dX0_isLaw_58 (by decide) ?_
          exact ih6 _ _ hf _ _ _ hP hD hS (lv_sub hl [1, 2, 0] rfl)
        · refine lv_iconst (v := 0) hx hb dX0_isLaw_53 (by decide) ?_
          cases hf
          exact rZ X rfl hP hD hS dX0_isLaw_54
  exact hL5 _ _ _ hf _ _ _ hP hD hS (lv_sub hl [1, 2, 0] rfl)
theorem gw_X0_X0_isLaw : GoodIn lw_all (wsV RX0 405 RX0 yX0_isLaw (ws_ yX0_isLaw cX0_isLaw 3 (some .boolean))) := lw_V q1376 q1378 qs63 q145 q1379
theorem dy_X0_isLaw : Dy yX0_isLaw RX0 1 := by decide +kernel
set_option maxHeartbeats 4000000 in
theorem met_X_whose {l : Launch} {g : gG} {h hn hi : Nat} {ad : Nat → Nat} {ra : Nat → Nat → Nat} {z : Nat → Nat} {sTaped : Int32} {sFault : Int32} {sFaultA : Int32} {sWays : Int32} {sMay : Int32} {sMust : Int32} {cTape : Nat → Int32} {cNames : Nat → Int32} {cHead : Nat → Int32} {cSure : Nat → Nat → Int32} {cN : Nat → Int32} {cRow : Nat → Int32} {cTried : Nat → Int32} {cFor : Nat → Int32} {cRoad : Nat → Int32} {cFear : Nat → Int32} {cCall : Nat → Int32} {cUnl : Nat → Int32} {cPaid : Nat → Nat → Int32} {cStep : Nat → Nat → Int32} {cGain : Nat → Nat → Int32} {cText : Nat → Option Nat} {iN : Nat → Int32} {iRow : Nat → Int32} {iFor : Nat → Int32} {iRoad : Nat → Int32} {iFear : Nat → Int32} {iCall : Nat → Int32} {iUnl : Nat → Int32} {iPaid : Nat → Nat → Int32} {iStep : Nat → Nat → Int32} {iGain : Nat → Nat → Int32} {iText : Nat → Option Nat} {tp : va_W} {E : Nat → Option (Nat → Option ((Nat → Int32) → Int64))} {r : Int32} {ncNames : Nat → Int32} {φ : Nat} (hT : TxOk g z tp E) (hf : X_whose φ cNames cN cRow cFor cFear cPaid cText E = some (r, ncNames)) : CX l yX0_whose (ws_ yX0_whose cX0_whose 3 (some .int)) ({ frames := 245, cells := 0, slots := 0, locals := 5269 } : Room) g z [.ref h] (xW g h hn hi ad ra sTaped sFault sFaultA sWays sMay sMust cTape cNames cHead cSure cN cRow cTried cFor cRoad cFear cCall cUnl cPaid cStep cGain cText iN iRow iFor iRoad iFear iCall iUnl iPaid iStep iGain iText tp) (some (.int r)) (xW g h hn hi ad ra sTaped sFault sFaultA sWays sMay sMust cTape ncNames cHead cSure cN cRow cTried cFor cRoad cFear cCall cUnl cPaid cStep cGain cText iN iRow iFor iRoad iFear iCall iUnl iPaid iStep iGain iText tp) 0 0 := by
  refine CX.of RX0 rfl plain_X0 (Nat.le_of_ble_eq_true rfl) (fun p e s m below meth c A ls X hF hP hD hS hl => ?_)
  have hx := X.1
  have hb := X.2.1
  have hown := X.2.2.2.2.2.1
  have hts := X.2.2.2.2.2.2.1
  have hl : lv_has ls 3 [(0, .ref h)] := hl
  unfold X_whose at hf
  refine lv_iconst (v := 0) hx hb dX0_whose_0 (by decide) ?_
  refine lv_istore_n (lv' := [(1, .int 0), (0, .ref h)]) hx hb dX0_whose_1 rfl hl (by decide) rfl (fun ls hl => ?_)
  refine lv_iconst (v := 0) hx hb dX0_whose_2 (by decide) ?_
  refine lv_istore_n (lv' := [(2, .int 0), (1, .int 0), (0, .ref h)]) hx hb dX0_whose_3 rfl hl (by decide) rfl (fun ls hl => ?_)
  obtain ⟨v4, c5, k10, hf⟩ := bd2s hf
  have hE7 : ∀ (H : Heap) (locs : List Loc) (ls : Array Slot), va_P g.1 vwCl (xW g h hn hi ad ra sTaped sFault sFaultA sWays sMay sMust cTape c5 cHead cSure cN cRow cTried cFor cRoad cFear cCall cUnl cPaid cStep cGain cText iN iRow iFor iRoad iFear iCall iUnl iPaid iStep iGain iText tp) H → va_D A (xW g h hn hi ad ra sTaped sFault sFaultA sWays sMay sMust cTape c5 cHead cSure cN cRow cTried cFor cRoad cFear cCall cUnl cPaid cStep cGain cText iN iRow iFor iRoad iFear iCall iUnl iPaid iStep iGain iText tp) → va_S A s.heap H locs → lv_has ls 3 [(1, .int v4)] → W p l e ({ frames := 245, cells := 0, slots := 0, locals := 5269 } : Room) s m ([.ref h] : List Value).toArray below meth c H locs 0 0 (MQ below (QQ g (some (.int r)) (xW g h hn hi ad ra sTaped sFault sFaultA sWays sMay sMust cTape ncNames cHead cSure cN cRow cTried cFor cRoad cFear cCall cUnl cPaid cStep cGain cText iN iRow iFor iRoad iFear iCall iUnl iPaid iStep iGain iText tp) A) ([.ref h] : List Value).toArray s 0 0 A) (F0 m 49 ls []) := by
    intro H locs ls hP hD hS hl
    refine lv_iload_n hx hb dX0_whose_49 rfl (lv_at hl 0 rfl) ?_
    cases hf
    exact rI X hP hD hS dX0_whose_50
  have hL8 : ∀ (n6 : Nat) (v1 : Int32) (v2 : Int32) (c3 : Nat → Int32), X_whose_L4 φ cN cRow cFor cFear cPaid cText E n6 v1 v2 c3 = some (v4, c5) → ∀ (H : Heap) (locs : List Loc) (ls : Array Slot), va_P g.1 vwCl (xW g h hn hi ad ra sTaped sFault sFaultA sWays sMay sMust cTape c3 cHead cSure cN cRow cTried cFor cRoad cFear cCall cUnl cPaid cStep cGain cText iN iRow iFor iRoad iFear iCall iUnl iPaid iStep iGain iText tp) H → va_D A (xW g h hn hi ad ra sTaped sFault sFaultA sWays sMay sMust cTape c3 cHead cSure cN cRow cTried cFor cRoad cFear cCall cUnl cPaid cStep cGain cText iN iRow iFor iRoad iFear iCall iUnl iPaid iStep iGain iText tp) → va_S A s.heap H locs → lv_has ls 3 [(0, .ref h), (1, .int v1), (2, .int v2)] → W p l e ({ frames := 245, cells := 0, slots := 0, locals := 5269 } : Room) s m ([.ref h] : List Value).toArray below meth c H locs 0 0 (MQ below (QQ g (some (.int r)) (xW g h hn hi ad ra sTaped sFault sFaultA sWays sMay sMust cTape ncNames cHead cSure cN cRow cTried cFor cRoad cFear cCall cUnl cPaid cStep cGain cText iN iRow iFor iRoad iFear iCall iUnl iPaid iStep iGain iText tp) A) ([.ref h] : List Value).toArray s 0 0 A) (F0 m 4 ls []) := by
    intro n6
    induction n6 with
    | zero =>
      intro v1 v2 c3 hf
      exact nn hf
    | succ n6 ih9 =>
      intro v1 v2 c3 hf H locs ls hP hD hS hl
      rw [X_whose_L4] at hf
      refine lv_iload_n hx hb dX0_whose_4 rfl (lv_at hl 2 rfl) ?_
      refine lv_aload_n hx hb dX0_whose_5 rfl (lv_at hl 0 rfl) ?_
      refine gX_X0_this_now X hP dX0_whose_6 ?_
      refine gX_X0_now_n X hF hP dX0_whose_9 ?_
      refine lv_iconst (v := 2) hx hb dX0_whose_12 (by decide) ?_
      obtain ⟨v11, ev11, bv11, hf⟩ := rds hf
      refine lX_cN X hP ev11 bv11 dX0_whose_13 ?_
      refine bc_ge (tgt := 49) hx hb hf dX0_whose_14 (by decide) (fun hf => ?_) (fun hf => ?_)
      · cases hf
        exact hE7 _ _ _ hP hD hS (lv_sub hl [1] rfl)
      · refine lv_iload_n hx hb dX0_whose_17 rfl (lv_at hl 1 rfl) ?_
        refine lv_aload_n hx hb dX0_whose_18 rfl (lv_at hl 0 rfl) ?_
        refine lv_aload_n hx hb dX0_whose_19 rfl (lv_at hl 0 rfl) ?_
        refine gX_X0_this_now X hP dX0_whose_20 ?_
        refine gX_X0_now_text X hF hP dX0_whose_23 ?_
        refine lv_iload_n hx hb dX0_whose_26 rfl (lv_at hl 2 rfl) ?_
        obtain ⟨v12, ev12, bv12, hf⟩ := rdqs hf
        refine lX_cText X hP ev12 bv12 dX0_whose_27 ?_
        obtain ⟨r13, c14, k15, hf⟩ := bd2s hf
        refine xVi (rest := [.int v1]) X hF (met_X_isLaw hT k15) gw_X0_X0_isLaw dy_X0_isLaw ⟨⟨rfl, rfl⟩, Nat.le_of_ble_eq_true rfl, Nat.le_of_ble_eq_true rfl⟩ hP hD hS hl.1 rcX rfl rfl ⟨Nat.zero_le _, Nat.zero_le _⟩ (Nat.le_of_ble_eq_true rfl) dX0_whose_28 (fun H locs hP hD hS => ?_)
        refine bq_eq (tgt := 40) hx hb hf dX0_whose_31 (by decide) (fun hf => ?_) (fun hf => ?_)
        · refine lv_iconst (v := 0) hx hb dX0_whose_40 (by decide) ?_
          refine lv_ior hx hb dX0_whose_41 ?_
          obtain ⟨v16, ev16, hf⟩ := lts hf
          refine tpi ev16 ?_
          refine lv_istore_n (lv' := [(1, .int v16), (0, .ref h), (2, .int v2)]) hx hb dX0_whose_42 rfl hl (by decide) rfl (fun ls hl => ?_)
          obtain ⟨v17, ev17, hf⟩ := lts hf
          refine lv_iinc (v := v17) (lv' := [(2, .int v17), (1, .int v16), (0, .ref h)]) hx hb dX0_whose_43 hl (k := 2) rfl (by rw [ev17]; rfl) (by decide) rfl (fun ls hl => ?_)
          refine lv_goto (tgt := 4) hx hb dX0_whose_46 (by decide) ?_
          exact ih9 _ _ _ hf _ _ _ hP hD hS (lv_sub hl [2, 1, 0] rfl)
        · refine lv_iconst (v := 1) hx hb dX0_whose_34 (by decide) ?_
          refine lv_iload_n hx hb dX0_whose_35 rfl (lv_at hl 2 rfl) ?_
          refine lv_ishl hx hb dX0_whose_36 ?_
          refine lv_goto (tgt := 41) hx hb dX0_whose_37 (by decide) ?_
          refine lv_ior hx hb dX0_whose_41 ?_
          obtain ⟨v18, ev18, hf⟩ := lts hf
          refine tpi ev18 ?_
          refine lv_istore_n (lv' := [(1, .int v18), (0, .ref h), (2, .int v2)]) hx hb dX0_whose_42 rfl hl (by decide) rfl (fun ls hl => ?_)
          obtain ⟨v19, ev19, hf⟩ := lts hf
          refine lv_iinc (v := v19) (lv' := [(2, .int v19), (1, .int v18), (0, .ref h)]) hx hb dX0_whose_43 hl (k := 2) rfl (by rw [ev19]; rfl) (by decide) rfl (fun ls hl => ?_)
          refine lv_goto (tgt := 4) hx hb dX0_whose_46 (by decide) ?_
          exact ih9 _ _ _ hf _ _ _ hP hD hS (lv_sub hl [2, 1, 0] rfl)
  exact hL8 _ _ _ _ k10 _ _ _ hP hD hS (lv_sub hl [2, 1, 0] rfl)
set_option maxHeartbeats 4000000 in
theorem met_S_copy_2PaidI {l : Launch} {g : gG} {h hn hi : Nat} {ad : Nat → Nat} {ra : Nat → Nat → Nat} {z : Nat → Nat} {sTaped : Int32} {sFault : Int32} {sFaultA : Int32} {sWays : Int32} {sMay : Int32} {sMust : Int32} {cTape : Nat → Int32} {cNames : Nat → Int32} {cHead : Nat → Int32} {cSure : Nat → Nat → Int32} {cN : Nat → Int32} {cRow : Nat → Int32} {cTried : Nat → Int32} {cFor : Nat → Int32} {cRoad : Nat → Int32} {cFear : Nat → Int32} {cCall : Nat → Int32} {cUnl : Nat → Int32} {cPaid : Nat → Nat → Int32} {cStep : Nat → Nat → Int32} {cGain : Nat → Nat → Int32} {cText : Nat → Option Nat} {iN : Nat → Int32} {iRow : Nat → Int32} {iFor : Nat → Int32} {iRoad : Nat → Int32} {iFear : Nat → Int32} {iCall : Nat → Int32} {iUnl : Nat → Int32} {iPaid : Nat → Nat → Int32} {iStep : Nat → Nat → Int32} {iGain : Nat → Nat → Int32} {iText : Nat → Option Nat} {tp : va_W} {niPaid : Nat → Nat → Int32} {φ : Nat} (hf : S_copy_2PaidI φ cPaid iPaid = some niPaid) : CX l yX1_copy_2 (ws_ yX1_copy_2 cX1_copy_2 3 none) ({ frames := 2, cells := 0, slots := 0, locals := 39 } : Room) g z [.ref (ad 12), .ref (ad 23)] (xW g h hn hi ad ra sTaped sFault sFaultA sWays sMay sMust cTape cNames cHead cSure cN cRow cTried cFor cRoad cFear cCall cUnl cPaid cStep cGain cText iN iRow iFor iRoad iFear iCall iUnl iPaid iStep iGain iText tp) none (xW g h hn hi ad ra sTaped sFault sFaultA sWays sMay sMust cTape cNames cHead cSure cN cRow cTried cFor cRoad cFear cCall cUnl cPaid cStep cGain cText iN iRow iFor iRoad iFear iCall iUnl niPaid iStep iGain iText tp) 0 0 := by
  refine CX.of RX1 rfl plain_X1 (Nat.le_of_ble_eq_true rfl) (fun p e s m below meth c A ls X hF hP hD hS hl => ?_)
  have hx := X.1
  have hb := X.2.1
  have hown := X.2.2.2.2.2.1
  have hts := X.2.2.2.2.2.2.1
  have hl : lv_has ls 3 [(0, .ref (ad 12)), (1, .ref (ad 23))] := hl
  unfold S_copy_2PaidI at hf
  refine lv_iconst (v := 0) hx hb dX1_copy_2_0 (by decide) ?_
  refine lv_istore_n (lv' := [(2, .int 0), (0, .ref (ad 12)), (1, .ref (ad 23))]) hx hb dX1_copy_2_1 rfl hl (by decide) rfl (fun ls hl => ?_)
  obtain ⟨c3, k8, hf⟩ := bd1s hf
  have hE5 : ∀ (H : Heap) (locs : List Loc) (ls : Array Slot), va_P g.1 vwCl (xW g h hn hi ad ra sTaped sFault sFaultA sWays sMay sMust cTape cNames cHead cSure cN cRow cTried cFor cRoad cFear cCall cUnl cPaid cStep cGain cText iN iRow iFor iRoad iFear iCall iUnl c3 iStep iGain iText tp) H → va_D A (xW g h hn hi ad ra sTaped sFault sFaultA sWays sMay sMust cTape cNames cHead cSure cN cRow cTried cFor cRoad cFear cCall cUnl cPaid cStep cGain cText iN iRow iFor iRoad iFear iCall iUnl c3 iStep iGain iText tp) → va_S A s.heap H locs → lv_has ls 3 [] → W p l e ({ frames := 2, cells := 0, slots := 0, locals := 39 } : Room) s m ([.ref (ad 12), .ref (ad 23)] : List Value).toArray below meth c H locs 0 0 (MQ below (QQ g none (xW g h hn hi ad ra sTaped sFault sFaultA sWays sMay sMust cTape cNames cHead cSure cN cRow cTried cFor cRoad cFear cCall cUnl cPaid cStep cGain cText iN iRow iFor iRoad iFear iCall iUnl niPaid iStep iGain iText tp) A) ([.ref (ad 12), .ref (ad 23)] : List Value).toArray s 0 0 A) (F0 m 23 ls []) := by
    intro H locs ls hP hD hS hl
    cases hf
    exact rV X hP hD hS dX1_copy_2_23
  have hL6 : ∀ (n4 : Nat) (v1 : Int32) (c2 : Nat → Nat → Int32), S_copy_2PaidI_L2 φ cPaid n4 v1 c2 = some c3 → ∀ (H : Heap) (locs : List Loc) (ls : Array Slot), va_P g.1 vwCl (xW g h hn hi ad ra sTaped sFault sFaultA sWays sMay sMust cTape cNames cHead cSure cN cRow cTried cFor cRoad cFear cCall cUnl cPaid cStep cGain cText iN iRow iFor iRoad iFear iCall iUnl c2 iStep iGain iText tp) H → va_D A (xW g h hn hi ad ra sTaped sFault sFaultA sWays sMay sMust cTape cNames cHead cSure cN cRow cTried cFor cRoad cFear cCall cUnl cPaid cStep cGain cText iN iRow iFor iRoad iFear iCall iUnl c2 iStep iGain iText tp) → va_S A s.heap H locs → lv_has ls 3 [(0, .ref (ad 12)), (1, .ref (ad 23)), (2, .int v1)] → W p l e ({ frames := 2, cells := 0, slots := 0, locals := 39 } : Room) s m ([.ref (ad 12), .ref (ad 23)] : List Value).toArray below meth c H locs 0 0 (MQ below (QQ g none (xW g h hn hi ad ra sTaped sFault sFaultA sWays sMay sMust cTape cNames cHead cSure cN cRow cTried cFor cRoad cFear cCall cUnl cPaid cStep cGain cText iN iRow iFor iRoad iFear iCall iUnl niPaid iStep iGain iText tp) A) ([.ref (ad 12), .ref (ad 23)] : List Value).toArray s 0 0 A) (F0 m 2 ls []) := by
    intro n4
    induction n4 with
    | zero =>
      intro v1 c2 hf
      exact nn hf
    | succ n4 ih7 =>
      intro v1 c2 hf H locs ls hP hD hS hl
      rw [S_copy_2PaidI_L2] at hf
      refine lv_iload_n hx hb dX1_copy_2_2 rfl (lv_at hl 2 rfl) ?_
      refine lv_aload_n hx hb dX1_copy_2_3 rfl (lv_at hl 0 rfl) ?_
      refine va_alen (v := 8) hx hb X.2.2.2.2.2.2.2.2 hP 15 5 rfl rfl rfl dX1_copy_2_4 ?_
      refine bc_ge (tgt := 23) hx hb hf dX1_copy_2_5 (by decide) (fun hf => ?_) (fun hf => ?_)
      · cases hf
        exact hE5 _ _ _ hP hD hS (lv_sub hl [] rfl)
      · refine lv_aload_n hx hb dX1_copy_2_8 rfl (lv_at hl 0 rfl) ?_
        refine lv_iload_n hx hb dX1_copy_2_9 rfl (lv_at hl 2 rfl) ?_
        obtain ⟨b9, hf⟩ := inbs hf
        refine aX_cPaid X hP b9 dX1_copy_2_10 ?_
        refine lv_aload_n hx hb dX1_copy_2_11 rfl (lv_at hl 1 rfl) ?_
        refine lv_iload_n hx hb dX1_copy_2_12 rfl (lv_at hl 2 rfl) ?_
        obtain ⟨b10, hf⟩ := inbs hf
        refine aX_iPaid X hP b10 dX1_copy_2_13 ?_
        obtain ⟨c11, ec11, hf⟩ := lts hf
        refine cCopy X q249 hl.1 hP hD hS (xat_cPaid (vp_lt b9)) (xat_iPaid (vp_lt b10)) (by have qb9 := vp_lt b9; have qb10 := vp_lt b10; omega) (Nat.le_of_ble_eq_true rfl) (xset_iPaid (vp_lt b10) ec11) ⟨Nat.le_of_ble_eq_true rfl, Nat.le_of_ble_eq_true rfl⟩ ⟨Nat.zero_le _, Nat.zero_le _⟩ (Nat.le_of_ble_eq_true rfl) dX1_copy_2_14 (fun H locs hP hD hS => ?_)
        obtain ⟨v12, ev12, hf⟩ := lts hf
        refine lv_iinc (v := v12) (lv' := [(2, .int v12), (0, .ref (ad 12)), (1, .ref (ad 23))]) hx hb dX1_copy_2_17 hl (k := 2) rfl (by rw [ev12]; rfl) (by decide) rfl (fun ls hl => ?_)
        refine lv_goto (tgt := 2) hx hb dX1_copy_2_20 (by decide) ?_
        exact ih7 _ _ hf _ _ _ hP hD hS (lv_sub hl [1, 2, 0] rfl)
  exact hL6 _ _ _ k8 _ _ _ hP hD hS (lv_sub hl [1, 2, 0] rfl)
set_option maxHeartbeats 4000000 in
theorem met_S_copy_2StepI {l : Launch} {g : gG} {h hn hi : Nat} {ad : Nat → Nat} {ra : Nat → Nat → Nat} {z : Nat → Nat} {sTaped : Int32} {sFault : Int32} {sFaultA : Int32} {sWays : Int32} {sMay : Int32} {sMust : Int32} {cTape : Nat → Int32} {cNames : Nat → Int32} {cHead : Nat → Int32} {cSure : Nat → Nat → Int32} {cN : Nat → Int32} {cRow : Nat → Int32} {cTried : Nat → Int32} {cFor : Nat → Int32} {cRoad : Nat → Int32} {cFear : Nat → Int32} {cCall : Nat → Int32} {cUnl : Nat → Int32} {cPaid : Nat → Nat → Int32} {cStep : Nat → Nat → Int32} {cGain : Nat → Nat → Int32} {cText : Nat → Option Nat} {iN : Nat → Int32} {iRow : Nat → Int32} {iFor : Nat → Int32} {iRoad : Nat → Int32} {iFear : Nat → Int32} {iCall : Nat → Int32} {iUnl : Nat → Int32} {iPaid : Nat → Nat → Int32} {iStep : Nat → Nat → Int32} {iGain : Nat → Nat → Int32} {iText : Nat → Option Nat} {tp : va_W} {niStep : Nat → Nat → Int32} {φ : Nat} (hf : S_copy_2StepI φ cStep iStep = some niStep) : CX l yX1_copy_2 (ws_ yX1_copy_2 cX1_copy_2 3 none) ({ frames := 2, cells := 0, slots := 0, locals := 39 } : Room) g z [.ref (ad 13), .ref (ad 24)] (xW g h hn hi ad ra sTaped sFault sFaultA sWays sMay sMust cTape cNames cHead cSure cN cRow cTried cFor cRoad cFear cCall cUnl cPaid cStep cGain cText iN iRow iFor iRoad iFear iCall iUnl iPaid iStep iGain iText tp) none (xW g h hn hi ad ra sTaped sFault sFaultA sWays sMay sMust cTape cNames cHead cSure cN cRow cTried cFor cRoad cFear cCall cUnl cPaid cStep cGain cText iN iRow iFor iRoad iFear iCall iUnl iPaid niStep iGain iText tp) 0 0 := by
  refine CX.of RX1 rfl plain_X1 (Nat.le_of_ble_eq_true rfl) (fun p e s m below meth c A ls X hF hP hD hS hl => ?_)
  have hx := X.1
  have hb := X.2.1
  have hown := X.2.2.2.2.2.1
  have hts := X.2.2.2.2.2.2.1
  have hl : lv_has ls 3 [(0, .ref (ad 13)), (1, .ref (ad 24))] := hl
  unfold S_copy_2StepI at hf
  refine lv_iconst (v := 0) hx hb dX1_copy_2_0 (by decide) ?_
  refine lv_istore_n (lv' := [(2, .int 0), (0, .ref (ad 13)), (1, .ref (ad 24))]) hx hb dX1_copy_2_1 rfl hl (by decide) rfl (fun ls hl => ?_)
  obtain ⟨c3, k8, hf⟩ := bd1s hf
  have hE5 : ∀ (H : Heap) (locs : List Loc) (ls : Array Slot), va_P g.1 vwCl (xW g h hn hi ad ra sTaped sFault sFaultA sWays sMay sMust cTape cNames cHead cSure cN cRow cTried cFor cRoad cFear cCall cUnl cPaid cStep cGain cText iN iRow iFor iRoad iFear iCall iUnl iPaid c3 iGain iText tp) H → va_D A (xW g h hn hi ad ra sTaped sFault sFaultA sWays sMay sMust cTape cNames cHead cSure cN cRow cTried cFor cRoad cFear cCall cUnl cPaid cStep cGain cText iN iRow iFor iRoad iFear iCall iUnl iPaid c3 iGain iText tp) → va_S A s.heap H locs → lv_has ls 3 [] → W p l e ({ frames := 2, cells := 0, slots := 0, locals := 39 } : Room) s m ([.ref (ad 13), .ref (ad 24)] : List Value).toArray below meth c H locs 0 0 (MQ below (QQ g none (xW g h hn hi ad ra sTaped sFault sFaultA sWays sMay sMust cTape cNames cHead cSure cN cRow cTried cFor cRoad cFear cCall cUnl cPaid cStep cGain cText iN iRow iFor iRoad iFear iCall iUnl iPaid niStep iGain iText tp) A) ([.ref (ad 13), .ref (ad 24)] : List Value).toArray s 0 0 A) (F0 m 23 ls []) := by
    intro H locs ls hP hD hS hl
    cases hf
    exact rV X hP hD hS dX1_copy_2_23
  have hL6 : ∀ (n4 : Nat) (v1 : Int32) (c2 : Nat → Nat → Int32), S_copy_2StepI_L2 φ cStep n4 v1 c2 = some c3 → ∀ (H : Heap) (locs : List Loc) (ls : Array Slot), va_P g.1 vwCl (xW g h hn hi ad ra sTaped sFault sFaultA sWays sMay sMust cTape cNames cHead cSure cN cRow cTried cFor cRoad cFear cCall cUnl cPaid cStep cGain cText iN iRow iFor iRoad iFear iCall iUnl iPaid c2 iGain iText tp) H → va_D A (xW g h hn hi ad ra sTaped sFault sFaultA sWays sMay sMust cTape cNames cHead cSure cN cRow cTried cFor cRoad cFear cCall cUnl cPaid cStep cGain cText iN iRow iFor iRoad iFear iCall iUnl iPaid c2 iGain iText tp) → va_S A s.heap H locs → lv_has ls 3 [(0, .ref (ad 13)), (1, .ref (ad 24)), (2, .int v1)] → W p l e ({ frames := 2, cells := 0, slots := 0, locals := 39 } : Room) s m ([.ref (ad 13), .ref (ad 24)] : List Value).toArray below meth c H locs 0 0 (MQ below (QQ g none (xW g h hn hi ad ra sTaped sFault sFaultA sWays sMay sMust cTape cNames cHead cSure cN cRow cTried cFor cRoad cFear cCall cUnl cPaid cStep cGain cText iN iRow iFor iRoad iFear iCall iUnl iPaid niStep iGain iText tp) A) ([.ref (ad 13), .ref (ad 24)] : List Value).toArray s 0 0 A) (F0 m 2 ls []) := by
    intro n4
    induction n4 with
    | zero =>
      intro v1 c2 hf
      exact nn hf
    | succ n4 ih7 =>
      intro v1 c2 hf H locs ls hP hD hS hl
      rw [S_copy_2StepI_L2] at hf
      refine lv_iload_n hx hb dX1_copy_2_2 rfl (lv_at hl 2 rfl) ?_
      refine lv_aload_n hx hb dX1_copy_2_3 rfl (lv_at hl 0 rfl) ?_
      refine va_alen (v := 30) hx hb X.2.2.2.2.2.2.2.2 hP 16 5 rfl rfl rfl dX1_copy_2_4 ?_
      refine bc_ge (tgt := 23) hx hb hf dX1_copy_2_5 (by decide) (fun hf => ?_) (fun hf => ?_)
      · cases hf
        exact hE5 _ _ _ hP hD hS (lv_sub hl [] rfl)
      · refine lv_aload_n hx hb dX1_copy_2_8 rfl (lv_at hl 0 rfl) ?_
        refine lv_iload_n hx hb dX1_copy_2_9 rfl (lv_at hl 2 rfl) ?_
        obtain ⟨b9, hf⟩ := inbs hf
        refine aX_cStep X hP b9 dX1_copy_2_10 ?_
        refine lv_aload_n hx hb dX1_copy_2_11 rfl (lv_at hl 1 rfl) ?_
        refine lv_iload_n hx hb dX1_copy_2_12 rfl (lv_at hl 2 rfl) ?_
        obtain ⟨b10, hf⟩ := inbs hf
        refine aX_iStep X hP b10 dX1_copy_2_13 ?_
        obtain ⟨c11, ec11, hf⟩ := lts hf
        refine cCopy X q249 hl.1 hP hD hS (xat_cStep (vp_lt b9)) (xat_iStep (vp_lt b10)) (by have qb9 := vp_lt b9; have qb10 := vp_lt b10; omega) (Nat.le_of_ble_eq_true rfl) (xset_iStep (vp_lt b10) ec11) ⟨Nat.le_of_ble_eq_true rfl, Nat.le_of_ble_eq_true rfl⟩ ⟨Nat.zero_le _, Nat.zero_le _⟩ (Nat.le_of_ble_eq_true rfl) dX1_copy_2_14 (fun H locs hP hD hS => ?_)
        obtain ⟨v12, ev12, hf⟩ := lts hf
        refine lv_iinc (v := v12) (lv' := [(2, .int v12), (0, .ref (ad 13)), (1, .ref (ad 24))]) hx hb dX1_copy_2_17 hl (k := 2) rfl (by rw [ev12]; rfl) (by decide) rfl (fun ls hl => ?_)
        refine lv_goto (tgt := 2) hx hb dX1_copy_2_20 (by decide) ?_
        exact ih7 _ _ hf _ _ _ hP hD hS (lv_sub hl [1, 2, 0] rfl)
  exact hL6 _ _ _ k8 _ _ _ hP hD hS (lv_sub hl [1, 2, 0] rfl)
set_option maxHeartbeats 4000000 in
theorem met_S_copy_2GainI {l : Launch} {g : gG} {h hn hi : Nat} {ad : Nat → Nat} {ra : Nat → Nat → Nat} {z : Nat → Nat} {sTaped : Int32} {sFault : Int32} {sFaultA : Int32} {sWays : Int32} {sMay : Int32} {sMust : Int32} {cTape : Nat → Int32} {cNames : Nat → Int32} {cHead : Nat → Int32} {cSure : Nat → Nat → Int32} {cN : Nat → Int32} {cRow : Nat → Int32} {cTried : Nat → Int32} {cFor : Nat → Int32} {cRoad : Nat → Int32} {cFear : Nat → Int32} {cCall : Nat → Int32} {cUnl : Nat → Int32} {cPaid : Nat → Nat → Int32} {cStep : Nat → Nat → Int32} {cGain : Nat → Nat → Int32} {cText : Nat → Option Nat} {iN : Nat → Int32} {iRow : Nat → Int32} {iFor : Nat → Int32} {iRoad : Nat → Int32} {iFear : Nat → Int32} {iCall : Nat → Int32} {iUnl : Nat → Int32} {iPaid : Nat → Nat → Int32} {iStep : Nat → Nat → Int32} {iGain : Nat → Nat → Int32} {iText : Nat → Option Nat} {tp : va_W} {niGain : Nat → Nat → Int32} {φ : Nat} (hf : S_copy_2GainI φ cGain iGain = some niGain) : CX l yX1_copy_2 (ws_ yX1_copy_2 cX1_copy_2 3 none) ({ frames := 2, cells := 0, slots := 0, locals := 39 } : Room) g z [.ref (ad 14), .ref (ad 25)] (xW g h hn hi ad ra sTaped sFault sFaultA sWays sMay sMust cTape cNames cHead cSure cN cRow cTried cFor cRoad cFear cCall cUnl cPaid cStep cGain cText iN iRow iFor iRoad iFear iCall iUnl iPaid iStep iGain iText tp) none (xW g h hn hi ad ra sTaped sFault sFaultA sWays sMay sMust cTape cNames cHead cSure cN cRow cTried cFor cRoad cFear cCall cUnl cPaid cStep cGain cText iN iRow iFor iRoad iFear iCall iUnl iPaid iStep niGain iText tp) 0 0 := by
  refine CX.of RX1 rfl plain_X1 (Nat.le_of_ble_eq_true rfl) (fun p e s m below meth c A ls X hF hP hD hS hl => ?_)
  have hx := X.1
  have hb := X.2.1
  have hown := X.2.2.2.2.2.1
  have hts := X.2.2.2.2.2.2.1
  have hl : lv_has ls 3 [(0, .ref (ad 14)), (1, .ref (ad 25))] := hl
  unfold S_copy_2GainI at hf
  refine lv_iconst (v := 0) hx hb dX1_copy_2_0 (by decide) ?_
  refine lv_istore_n (lv' := [(2, .int 0), (0, .ref (ad 14)), (1, .ref (ad 25))]) hx hb dX1_copy_2_1 rfl hl (by decide) rfl (fun ls hl => ?_)
  obtain ⟨c3, k8, hf⟩ := bd1s hf
  have hE5 : ∀ (H : Heap) (locs : List Loc) (ls : Array Slot), va_P g.1 vwCl (xW g h hn hi ad ra sTaped sFault sFaultA sWays sMay sMust cTape cNames cHead cSure cN cRow cTried cFor cRoad cFear cCall cUnl cPaid cStep cGain cText iN iRow iFor iRoad iFear iCall iUnl iPaid iStep c3 iText tp) H → va_D A (xW g h hn hi ad ra sTaped sFault sFaultA sWays sMay sMust cTape cNames cHead cSure cN cRow cTried cFor cRoad cFear cCall cUnl cPaid cStep cGain cText iN iRow iFor iRoad iFear iCall iUnl iPaid iStep c3 iText tp) → va_S A s.heap H locs → lv_has ls 3 [] → W p l e ({ frames := 2, cells := 0, slots := 0, locals := 39 } : Room) s m ([.ref (ad 14), .ref (ad 25)] : List Value).toArray below meth c H locs 0 0 (MQ below (QQ g none (xW g h hn hi ad ra sTaped sFault sFaultA sWays sMay sMust cTape cNames cHead cSure cN cRow cTried cFor cRoad cFear cCall cUnl cPaid cStep cGain cText iN iRow iFor iRoad iFear iCall iUnl iPaid iStep niGain iText tp) A) ([.ref (ad 14), .ref (ad 25)] : List Value).toArray s 0 0 A) (F0 m 23 ls []) := by
    intro H locs ls hP hD hS hl
    cases hf
    exact rV X hP hD hS dX1_copy_2_23
  have hL6 : ∀ (n4 : Nat) (v1 : Int32) (c2 : Nat → Nat → Int32), S_copy_2GainI_L2 φ cGain n4 v1 c2 = some c3 → ∀ (H : Heap) (locs : List Loc) (ls : Array Slot), va_P g.1 vwCl (xW g h hn hi ad ra sTaped sFault sFaultA sWays sMay sMust cTape cNames cHead cSure cN cRow cTried cFor cRoad cFear cCall cUnl cPaid cStep cGain cText iN iRow iFor iRoad iFear iCall iUnl iPaid iStep c2 iText tp) H → va_D A (xW g h hn hi ad ra sTaped sFault sFaultA sWays sMay sMust cTape cNames cHead cSure cN cRow cTried cFor cRoad cFear cCall cUnl cPaid cStep cGain cText iN iRow iFor iRoad iFear iCall iUnl iPaid iStep c2 iText tp) → va_S A s.heap H locs → lv_has ls 3 [(0, .ref (ad 14)), (1, .ref (ad 25)), (2, .int v1)] → W p l e ({ frames := 2, cells := 0, slots := 0, locals := 39 } : Room) s m ([.ref (ad 14), .ref (ad 25)] : List Value).toArray below meth c H locs 0 0 (MQ below (QQ g none (xW g h hn hi ad ra sTaped sFault sFaultA sWays sMay sMust cTape cNames cHead cSure cN cRow cTried cFor cRoad cFear cCall cUnl cPaid cStep cGain cText iN iRow iFor iRoad iFear iCall iUnl iPaid iStep niGain iText tp) A) ([.ref (ad 14), .ref (ad 25)] : List Value).toArray s 0 0 A) (F0 m 2 ls []) := by
    intro n4
    induction n4 with
    | zero =>
      intro v1 c2 hf
      exact nn hf
    | succ n4 ih7 =>
      intro v1 c2 hf H locs ls hP hD hS hl
      rw [S_copy_2GainI_L2] at hf
      refine lv_iload_n hx hb dX1_copy_2_2 rfl (lv_at hl 2 rfl) ?_
      refine lv_aload_n hx hb dX1_copy_2_3 rfl (lv_at hl 0 rfl) ?_
      refine va_alen (v := 2) hx hb X.2.2.2.2.2.2.2.2 hP 17 5 rfl rfl rfl dX1_copy_2_4 ?_
      refine bc_ge (tgt := 23) hx hb hf dX1_copy_2_5 (by decide) (fun hf => ?_) (fun hf => ?_)
      · cases hf
        exact hE5 _ _ _ hP hD hS (lv_sub hl [] rfl)
      · refine lv_aload_n hx hb dX1_copy_2_8 rfl (lv_at hl 0 rfl) ?_
        refine lv_iload_n hx hb dX1_copy_2_9 rfl (lv_at hl 2 rfl) ?_
        obtain ⟨b9, hf⟩ := inbs hf
        refine aX_cGain X hP b9 dX1_copy_2_10 ?_
        refine lv_aload_n hx hb dX1_copy_2_11 rfl (lv_at hl 1 rfl) ?_
        refine lv_iload_n hx hb dX1_copy_2_12 rfl (lv_at hl 2 rfl) ?_
        obtain ⟨b10, hf⟩ := inbs hf
        refine aX_iGain X hP b10 dX1_copy_2_13 ?_
        obtain ⟨c11, ec11, hf⟩ := lts hf
        refine cCopy X q249 hl.1 hP hD hS (xat_cGain (vp_lt b9)) (xat_iGain (vp_lt b10)) (by have qb9 := vp_lt b9; have qb10 := vp_lt b10; omega) (Nat.le_of_ble_eq_true rfl) (xset_iGain (vp_lt b10) ec11) ⟨Nat.le_of_ble_eq_true rfl, Nat.le_of_ble_eq_true rfl⟩ ⟨Nat.zero_le _, Nat.zero_le _⟩ (Nat.le_of_ble_eq_true rfl) dX1_copy_2_14 (fun H locs hP hD hS => ?_)
        obtain ⟨v12, ev12, hf⟩ := lts hf
        refine lv_iinc (v := v12) (lv' := [(2, .int v12), (0, .ref (ad 14)), (1, .ref (ad 25))]) hx hb dX1_copy_2_17 hl (k := 2) rfl (by rw [ev12]; rfl) (by decide) rfl (fun ls hl => ?_)
        refine lv_goto (tgt := 2) hx hb dX1_copy_2_20 (by decide) ?_
        exact ih7 _ _ hf _ _ _ hP hD hS (lv_sub hl [1, 2, 0] rfl)
  exact hL6 _ _ _ k8 _ _ _ hP hD hS (lv_sub hl [1, 2, 0] rfl)
theorem gs_X1_X1_copy_2 : GoodIn lw_all (va_wsS RX1 60 yX1_copy_2 (ws_ yX1_copy_2 cX1_copy_2 3 none)) := lw_S q255 q256 q146 q257
theorem dy_X1_copy_2 : Dy yX1_copy_2 RX1 2 := by decide +kernel
set_option maxHeartbeats 4000000 in
theorem met_S_beI {l : Launch} {g : gG} {h hn hi : Nat} {ad : Nat → Nat} {ra : Nat → Nat → Nat} {z : Nat → Nat} {sTaped : Int32} {sFault : Int32} {sFaultA : Int32} {sWays : Int32} {sMay : Int32} {sMust : Int32} {cTape : Nat → Int32} {cNames : Nat → Int32} {cHead : Nat → Int32} {cSure : Nat → Nat → Int32} {cN : Nat → Int32} {cRow : Nat → Int32} {cTried : Nat → Int32} {cFor : Nat → Int32} {cRoad : Nat → Int32} {cFear : Nat → Int32} {cCall : Nat → Int32} {cUnl : Nat → Int32} {cPaid : Nat → Nat → Int32} {cStep : Nat → Nat → Int32} {cGain : Nat → Nat → Int32} {cText : Nat → Option Nat} {iN : Nat → Int32} {iRow : Nat → Int32} {iFor : Nat → Int32} {iRoad : Nat → Int32} {iFear : Nat → Int32} {iCall : Nat → Int32} {iUnl : Nat → Int32} {iPaid : Nat → Nat → Int32} {iStep : Nat → Nat → Int32} {iGain : Nat → Nat → Int32} {iText : Nat → Option Nat} {tp : va_W} {niN : Nat → Int32} {niRow : Nat → Int32} {niFor : Nat → Int32} {niRoad : Nat → Int32} {niFear : Nat → Int32} {niCall : Nat → Int32} {niUnl : Nat → Int32} {niPaid : Nat → Nat → Int32} {niStep : Nat → Nat → Int32} {niGain : Nat → Nat → Int32} {niText : Nat → Option Nat} {φ : Nat} (hTcText : TxRef tp cText) (hf : S_beI φ cN cRow cFor cRoad cFear cCall cUnl cPaid cStep cGain cText iN iRow iFor iRoad iFear iCall iUnl iPaid iStep iGain iText = some (niN, niRow, niFor, niRoad, niFear, niCall, niUnl, niPaid, niStep, niGain, niText)) : CX l yX1_be (ws_ yX1_be cX1_be 2 none) ({ frames := 3, cells := 0, slots := 0, locals := 61 } : Room) g z [.ref hi, .ref hn] (xW g h hn hi ad ra sTaped sFault sFaultA sWays sMay sMust cTape cNames cHead cSure cN cRow cTried cFor cRoad cFear cCall cUnl cPaid cStep cGain cText iN iRow iFor iRoad iFear iCall iUnl iPaid iStep iGain iText tp) none (xW g h hn hi ad ra sTaped sFault sFaultA sWays sMay sMust cTape cNames cHead cSure cN cRow cTried cFor cRoad cFear cCall cUnl cPaid cStep cGain cText niN niRow niFor niRoad niFear niCall niUnl niPaid niStep niGain niText tp) 0 0 := by
  refine CX.of RX1 rfl plain_X1 (Nat.le_of_ble_eq_true rfl) (fun p e s m below meth c A ls X hF hP hD hS hl => ?_)
  have hx := X.1
  have hb := X.2.1
  have hown := X.2.2.2.2.2.1
  have hts := X.2.2.2.2.2.2.1
  have hl : lv_has ls 2 [(0, .ref hi), (1, .ref hn)] := hl
  unfold S_beI at hf
  refine lv_aload_n hx hb dX1_be_0 rfl (lv_at hl 1 rfl) ?_
  refine gX_X1_now_n X hP dX1_be_1 ?_
  refine lv_aload_n hx hb dX1_be_4 rfl (lv_at hl 0 rfl) ?_
  refine gX_X1_image_n X hP dX1_be_5 ?_
  obtain ⟨c1, ec1, hf⟩ := lts hf
  refine cCopy X q249 hl.1 hP hD hS xat_cN xat_iN (by decide) (Nat.le_of_ble_eq_true rfl) (xset_iN ec1) ⟨Nat.le_of_ble_eq_true rfl, Nat.le_of_ble_eq_true rfl⟩ ⟨Nat.zero_le _, Nat.zero_le _⟩ (Nat.le_of_ble_eq_true rfl) dX1_be_8 (fun H locs hP hD hS => ?_)
  refine lv_aload_n hx hb dX1_be_11 rfl (lv_at hl 1 rfl) ?_
  refine gX_X1_now_row X hP dX1_be_12 ?_
  refine lv_aload_n hx hb dX1_be_15 rfl (lv_at hl 0 rfl) ?_
  refine gX_X1_image_row X hP dX1_be_16 ?_
  obtain ⟨c2, ec2, hf⟩ := lts hf
  refine cCopy X q249 hl.1 hP hD hS xat_cRow xat_iRow (by decide) (Nat.le_of_ble_eq_true rfl) (xset_iRow ec2) ⟨Nat.le_of_ble_eq_true rfl, Nat.le_of_ble_eq_true rfl⟩ ⟨Nat.zero_le _, Nat.zero_le _⟩ (Nat.le_of_ble_eq_true rfl) dX1_be_19 (fun H locs hP hD hS => ?_)
  refine lv_aload_n hx hb dX1_be_22 rfl (lv_at hl 1 rfl) ?_
  refine gX_X1_now_forest X hP dX1_be_23 ?_
  refine lv_aload_n hx hb dX1_be_26 rfl (lv_at hl 0 rfl) ?_
  refine gX_X1_image_forest X hP dX1_be_27 ?_
  obtain ⟨c3, ec3, hf⟩ := lts hf
  refine cCopy X q249 hl.1 hP hD hS xat_cFor xat_iFor (by decide) (Nat.le_of_ble_eq_true rfl) (xset_iFor ec3) ⟨Nat.le_of_ble_eq_true rfl, Nat.le_of_ble_eq_true rfl⟩ ⟨Nat.zero_le _, Nat.zero_le _⟩ (Nat.le_of_ble_eq_true rfl) dX1_be_30 (fun H locs hP hD hS => ?_)
  refine lv_aload_n hx hb dX1_be_33 rfl (lv_at hl 1 rfl) ?_
  refine gX_X1_now_road X hP dX1_be_34 ?_
  refine lv_aload_n hx hb dX1_be_37 rfl (lv_at hl 0 rfl) ?_
  refine gX_X1_image_road X hP dX1_be_38 ?_
  obtain ⟨c4, ec4, hf⟩ := lts hf
  refine cCopy X q249 hl.1 hP hD hS xat_cRoad xat_iRoad (by decide) (Nat.le_of_ble_eq_true rfl) (xset_iRoad ec4) ⟨Nat.le_of_ble_eq_true rfl, Nat.le_of_ble_eq_true rfl⟩ ⟨Nat.zero_le _, Nat.zero_le _⟩ (Nat.le_of_ble_eq_true rfl) dX1_be_41 (fun H locs hP hD hS => ?_)
  refine lv_aload_n hx hb dX1_be_44 rfl (lv_at hl 1 rfl) ?_
  refine gX_X1_now_fear X hP dX1_be_45 ?_
  refine lv_aload_n hx hb dX1_be_48 rfl (lv_at hl 0 rfl) ?_
  refine gX_X1_image_fear X hP dX1_be_49 ?_
  obtain ⟨c5, ec5, hf⟩ := lts hf
  refine cCopy X q249 hl.1 hP hD hS xat_cFear xat_iFear (by decide) (Nat.le_of_ble_eq_true rfl) (xset_iFear ec5) ⟨Nat.le_of_ble_eq_true rfl, Nat.le_of_ble_eq_true rfl⟩ ⟨Nat.zero_le _, Nat.zero_le _⟩ (Nat.le_of_ble_eq_true rfl) dX1_be_52 (fun H locs hP hD hS => ?_)
  refine lv_aload_n hx hb dX1_be_55 rfl (lv_at hl 1 rfl) ?_
  refine gX_X1_now_call X hP dX1_be_56 ?_
  refine lv_aload_n hx hb dX1_be_59 rfl (lv_at hl 0 rfl) ?_
  refine gX_X1_image_call X hP dX1_be_60 ?_
  obtain ⟨c6, ec6, hf⟩ := lts hf
  refine cCopy X q249 hl.1 hP hD hS xat_cCall xat_iCall (by decide) (Nat.le_of_ble_eq_true rfl) (xset_iCall ec6) ⟨Nat.le_of_ble_eq_true rfl, Nat.le_of_ble_eq_true rfl⟩ ⟨Nat.zero_le _, Nat.zero_le _⟩ (Nat.le_of_ble_eq_true rfl) dX1_be_63 (fun H locs hP hD hS => ?_)
  refine lv_aload_n hx hb dX1_be_66 rfl (lv_at hl 1 rfl) ?_
  refine gX_X1_now_unlike X hP dX1_be_67 ?_
  refine lv_aload_n hx hb dX1_be_70 rfl (lv_at hl 0 rfl) ?_
  refine gX_X1_image_unlike X hP dX1_be_71 ?_
  obtain ⟨c7, ec7, hf⟩ := lts hf
  refine cCopy X q249 hl.1 hP hD hS xat_cUnl xat_iUnl (by decide) (Nat.le_of_ble_eq_true rfl) (xset_iUnl ec7) ⟨Nat.le_of_ble_eq_true rfl, Nat.le_of_ble_eq_true rfl⟩ ⟨Nat.zero_le _, Nat.zero_le _⟩ (Nat.le_of_ble_eq_true rfl) dX1_be_74 (fun H locs hP hD hS => ?_)
  refine lv_aload_n hx hb dX1_be_77 rfl (lv_at hl 1 rfl) ?_
  refine gX_X1_now_paid X hP dX1_be_78 ?_
  refine lv_aload_n hx hb dX1_be_81 rfl (lv_at hl 0 rfl) ?_
  refine gX_X1_image_paid X hP dX1_be_82 ?_
  obtain ⟨c8, k9, hf⟩ := bd1s hf
  refine xSv (rest := []) X hF (met_S_copy_2PaidI k9) gs_X1_X1_copy_2 dy_X1_copy_2 ⟨⟨rfl, rfl⟩, Nat.le_of_ble_eq_true rfl, Nat.le_of_ble_eq_true rfl⟩ hP hD hS hl.1 rfl rfl ⟨Nat.zero_le _, Nat.zero_le _⟩ (Nat.le_of_ble_eq_true rfl) dX1_be_85 (fun H locs hP hD hS => ?_)
  refine lv_aload_n hx hb dX1_be_88 rfl (lv_at hl 1 rfl) ?_
  refine gX_X1_now_step X hP dX1_be_89 ?_
  refine lv_aload_n hx hb dX1_be_92 rfl (lv_at hl 0 rfl) ?_
  refine gX_X1_image_step X hP dX1_be_93 ?_
  obtain ⟨c10, k11, hf⟩ := bd1s hf
  refine xSv (rest := []) X hF (met_S_copy_2StepI k11) gs_X1_X1_copy_2 dy_X1_copy_2 ⟨⟨rfl, rfl⟩, Nat.le_of_ble_eq_true rfl, Nat.le_of_ble_eq_true rfl⟩ hP hD hS hl.1 rfl rfl ⟨Nat.zero_le _, Nat.zero_le _⟩ (Nat.le_of_ble_eq_true rfl) dX1_be_96 (fun H locs hP hD hS => ?_)
  refine lv_aload_n hx hb dX1_be_99 rfl (lv_at hl 1 rfl) ?_
  refine gX_X1_now_gain X hP dX1_be_100 ?_
  refine lv_aload_n hx hb dX1_be_103 rfl (lv_at hl 0 rfl) ?_
  refine gX_X1_image_gain X hP dX1_be_104 ?_
  obtain ⟨c12, k13, hf⟩ := bd1s hf
  refine xSv (rest := []) X hF (met_S_copy_2GainI k13) gs_X1_X1_copy_2 dy_X1_copy_2 ⟨⟨rfl, rfl⟩, Nat.le_of_ble_eq_true rfl, Nat.le_of_ble_eq_true rfl⟩ hP hD hS hl.1 rfl rfl ⟨Nat.zero_le _, Nat.zero_le _⟩ (Nat.le_of_ble_eq_true rfl) dX1_be_107 (fun H locs hP hD hS => ?_)
  refine lv_aload_n hx hb dX1_be_110 rfl (lv_at hl 1 rfl) ?_
  refine gX_X1_now_text X hP dX1_be_111 ?_
  refine lv_iconst (v := 0) hx hb dX1_be_114 (by decide) ?_
  refine lv_aload_n hx hb dX1_be_115 rfl (lv_at hl 0 rfl) ?_
  refine gX_X1_image_text X hP dX1_be_116 ?_
  refine lv_iconst (v := 0) hx hb dX1_be_119 (by decide) ?_
  refine lv_iconst (v := 4) hx hb dX1_be_120 (by decide) ?_
  refine rCpyT X q252 hl.1 hP hD hS 18 29 rfl rfl (tx_in hTcText) rfl ⟨Nat.le_of_ble_eq_true rfl, Nat.le_of_ble_eq_true rfl⟩ dX1_be_121 (fun H locs hP hD hS => ?_)
  have hP : va_P g.1 vwCl (xW g h hn hi ad ra sTaped sFault sFaultA sWays sMay sMust cTape cNames cHead cSure cN cRow cTried cFor cRoad cFear cCall cUnl cPaid cStep cGain cText c1 c2 c3 c4 c5 c6 c7 c8 c10 c12 cText tp) H := hP
  have hD : va_D A (xW g h hn hi ad ra sTaped sFault sFaultA sWays sMay sMust cTape cNames cHead cSure cN cRow cTried cFor cRoad cFear cCall cUnl cPaid cStep cGain cText c1 c2 c3 c4 c5 c6 c7 c8 c10 c12 cText tp) := hD
  cases hf
  exact rV X hP hD hS dX1_be_124
theorem gw_X0_X1_be : GoodIn lw_all (wsV RX0 54 RX1 yX1_be (ws_ yX1_be cX1_be 2 none)) := lw_V q245 q246 q247 q146 q248
theorem dy_X1_be : Dy yX1_be RX1 1 := by decide +kernel
set_option maxHeartbeats 4000000 in
theorem met_X_image {l : Launch} {g : gG} {h hn hi : Nat} {ad : Nat → Nat} {ra : Nat → Nat → Nat} {z : Nat → Nat} {sTaped : Int32} {sFault : Int32} {sFaultA : Int32} {sWays : Int32} {sMay : Int32} {sMust : Int32} {cTape : Nat → Int32} {cNames : Nat → Int32} {cHead : Nat → Int32} {cSure : Nat → Nat → Int32} {cN : Nat → Int32} {cRow : Nat → Int32} {cTried : Nat → Int32} {cFor : Nat → Int32} {cRoad : Nat → Int32} {cFear : Nat → Int32} {cCall : Nat → Int32} {cUnl : Nat → Int32} {cPaid : Nat → Nat → Int32} {cStep : Nat → Nat → Int32} {cGain : Nat → Nat → Int32} {cText : Nat → Option Nat} {iN : Nat → Int32} {iRow : Nat → Int32} {iFor : Nat → Int32} {iRoad : Nat → Int32} {iFear : Nat → Int32} {iCall : Nat → Int32} {iUnl : Nat → Int32} {iPaid : Nat → Nat → Int32} {iStep : Nat → Nat → Int32} {iGain : Nat → Nat → Int32} {iText : Nat → Option Nat} {tp : va_W} {r : Int32} {niN : Nat → Int32} {niRow : Nat → Int32} {niFor : Nat → Int32} {niRoad : Nat → Int32} {niFear : Nat → Int32} {niCall : Nat → Int32} {niUnl : Nat → Int32} {niPaid : Nat → Nat → Int32} {niStep : Nat → Nat → Int32} {niGain : Nat → Nat → Int32} {niText : Nat → Option Nat} {φ : Nat} (hTcText : TxRef tp cText) (hf : X_image φ cN cRow cFor cRoad cFear cCall cUnl cPaid cStep cGain cText iN iRow iFor iRoad iFear iCall iUnl iPaid iStep iGain iText = some (r, niN, niRow, niFor, niRoad, niFear, niCall, niUnl, niPaid, niStep, niGain, niText)) : CX l yX0_image (ws_ yX0_image cX0_image 1 (some .int)) ({ frames := 4, cells := 0, slots := 0, locals := 82 } : Room) g z [.ref h] (xW g h hn hi ad ra sTaped sFault sFaultA sWays sMay sMust cTape cNames cHead cSure cN cRow cTried cFor cRoad cFear cCall cUnl cPaid cStep cGain cText iN iRow iFor iRoad iFear iCall iUnl iPaid iStep iGain iText tp) (some (.int r)) (xW g h hn hi ad ra sTaped sFault sFaultA sWays sMay sMust cTape cNames cHead cSure cN cRow cTried cFor cRoad cFear cCall cUnl cPaid cStep cGain cText niN niRow niFor niRoad niFear niCall niUnl niPaid niStep niGain niText tp) 0 0 := by
  refine CX.of RX0 rfl plain_X0 (Nat.le_of_ble_eq_true rfl) (fun p e s m below meth c A ls X hF hP hD hS hl => ?_)
  have hx := X.1
  have hb := X.2.1
  have hown := X.2.2.2.2.2.1
  have hts := X.2.2.2.2.2.2.1
  have hl : lv_has ls 1 [(0, .ref h)] := hl
  unfold X_image at hf
  refine lv_aload_n hx hb dX0_image_0 rfl (lv_at hl 0 rfl) ?_
  refine gX_X0_this_image X hP dX0_image_1 ?_
  refine lv_aload_n hx hb dX0_image_4 rfl (lv_at hl 0 rfl) ?_
  refine gX_X0_this_now X hP dX0_image_5 ?_
  obtain ⟨c1, c2, c3, c4, c5, c6, c7, c8, c9, c10, c11, k12, hf⟩ := bd11s hf
  refine xVv (rest := []) X hF (met_S_beI hTcText k12) gw_X0_X1_be dy_X1_be ⟨⟨rfl, rfl⟩, Nat.le_of_ble_eq_true rfl, Nat.le_of_ble_eq_true rfl⟩ hP hD hS hl.1 rcI rfl rfl ⟨Nat.zero_le _, Nat.zero_le _⟩ (Nat.le_of_ble_eq_true rfl) dX0_image_8 (fun H locs hP hD hS => ?_)
  refine lv_aload_n hx hb dX0_image_11 rfl (lv_at hl 0 rfl) ?_
  refine gX_X0_this_now X hP dX0_image_12 ?_
  refine gX_X0_now_row X hF hP dX0_image_15 ?_
  refine lv_iconst (v := 0) hx hb dX0_image_18 (by decide) ?_
  obtain ⟨v13, ev13, bv13, hf⟩ := rds hf
  refine lX_cRow X hP ev13 bv13 dX0_image_19 ?_
  cases hf
  exact rI X hP hD hS dX0_image_20
set_option maxHeartbeats 4000000 in
theorem met_S_copy_2PaidN {l : Launch} {g : gG} {h hn hi : Nat} {ad : Nat → Nat} {ra : Nat → Nat → Nat} {z : Nat → Nat} {sTaped : Int32} {sFault : Int32} {sFaultA : Int32} {sWays : Int32} {sMay : Int32} {sMust : Int32} {cTape : Nat → Int32} {cNames : Nat → Int32} {cHead : Nat → Int32} {cSure : Nat → Nat → Int32} {cN : Nat → Int32} {cRow : Nat → Int32} {cTried : Nat → Int32} {cFor : Nat → Int32} {cRoad : Nat → Int32} {cFear : Nat → Int32} {cCall : Nat → Int32} {cUnl : Nat → Int32} {cPaid : Nat → Nat → Int32} {cStep : Nat → Nat → Int32} {cGain : Nat → Nat → Int32} {cText : Nat → Option Nat} {iN : Nat → Int32} {iRow : Nat → Int32} {iFor : Nat → Int32} {iRoad : Nat → Int32} {iFear : Nat → Int32} {iCall : Nat → Int32} {iUnl : Nat → Int32} {iPaid : Nat → Nat → Int32} {iStep : Nat → Nat → Int32} {iGain : Nat → Nat → Int32} {iText : Nat → Option Nat} {tp : va_W} {ncPaid : Nat → Nat → Int32} {φ : Nat} (hf : S_copy_2PaidN φ cPaid iPaid = some ncPaid) : CX l yX1_copy_2 (ws_ yX1_copy_2 cX1_copy_2 3 none) ({ frames := 2, cells := 0, slots := 0, locals := 39 } : Room) g z [.ref (ad 23), .ref (ad 12)] (xW g h hn hi ad ra sTaped sFault sFaultA sWays sMay sMust cTape cNames cHead cSure cN cRow cTried cFor cRoad cFear cCall cUnl cPaid cStep cGain cText iN iRow iFor iRoad iFear iCall iUnl iPaid iStep iGain iText tp) none (xW g h hn hi ad ra sTaped sFault sFaultA sWays sMay sMust cTape cNames cHead cSure cN cRow cTried cFor cRoad cFear cCall cUnl ncPaid cStep cGain cText iN iRow iFor iRoad iFear iCall iUnl iPaid iStep iGain iText tp) 0 0 := by
  refine CX.of RX1 rfl plain_X1 (Nat.le_of_ble_eq_true rfl) (fun p e s m below meth c A ls X hF hP hD hS hl => ?_)
  have hx := X.1
  have hb := X.2.1
  have hown := X.2.2.2.2.2.1
  have hts := X.2.2.2.2.2.2.1
  have hl : lv_has ls 3 [(0, .ref (ad 23)), (1, .ref (ad 12))] := hl
  unfold S_copy_2PaidN at hf
  refine lv_iconst (v := 0) hx hb dX1_copy_2_0 (by decide) ?_
  refine lv_istore_n (lv' := [(2, .int 0), (0, .ref (ad 23)), (1, .ref (ad 12))]) hx hb dX1_copy_2_1 rfl hl (by decide) rfl (fun ls hl => ?_)
  obtain ⟨c3, k8, hf⟩ := bd1s hf
  have hE5 : ∀ (H : Heap) (locs : List Loc) (ls : Array Slot), va_P g.1 vwCl (xW g h hn hi ad ra sTaped sFault sFaultA sWays sMay sMust cTape cNames cHead cSure cN cRow cTried cFor cRoad cFear cCall cUnl c3 cStep cGain cText iN iRow iFor iRoad iFear iCall iUnl iPaid iStep iGain iText tp) H → va_D A (xW g h hn hi ad ra sTaped sFault sFaultA sWays sMay sMust cTape cNames cHead cSure cN cRow cTried cFor cRoad cFear cCall cUnl c3 cStep cGain cText iN iRow iFor iRoad iFear iCall iUnl iPaid iStep iGain iText tp) → va_S A s.heap H locs → lv_has ls 3 [] → W p l e ({ frames := 2, cells := 0, slots := 0, locals := 39 } : Room) s m ([.ref (ad 23), .ref (ad 12)] : List Value).toArray below meth c H locs 0 0 (MQ below (QQ g none (xW g h hn hi ad ra sTaped sFault sFaultA sWays sMay sMust cTape cNames cHead cSure cN cRow cTried cFor cRoad cFear cCall cUnl ncPaid cStep cGain cText iN iRow iFor iRoad iFear iCall iUnl iPaid iStep iGain iText tp) A) ([.ref (ad 23), .ref (ad 12)] : List Value).toArray s 0 0 A) (F0 m 23 ls []) := by
    intro H locs ls hP hD hS hl
    cases hf
    exact rV X hP hD hS dX1_copy_2_23
  have hL6 : ∀ (n4 : Nat) (v1 : Int32) (c2 : Nat → Nat → Int32), S_copy_2PaidN_L2 φ iPaid n4 v1 c2 = some c3 → ∀ (H : Heap) (locs : List Loc) (ls : Array Slot), va_P g.1 vwCl (xW g h hn hi ad ra sTaped sFault sFaultA sWays sMay sMust cTape cNames cHead cSure cN cRow cTried cFor cRoad cFear cCall cUnl c2 cStep cGain cText iN iRow iFor iRoad iFear iCall iUnl iPaid iStep iGain iText tp) H → va_D A (xW g h hn hi ad ra sTaped sFault sFaultA sWays sMay sMust cTape cNames cHead cSure cN cRow cTried cFor cRoad cFear cCall cUnl c2 cStep cGain cText iN iRow iFor iRoad iFear iCall iUnl iPaid iStep iGain iText tp) → va_S A s.heap H locs → lv_has ls 3 [(0, .ref (ad 23)), (1, .ref (ad 12)), (2, .int v1)] → W p l e ({ frames := 2, cells := 0, slots := 0, locals := 39 } : Room) s m ([.ref (ad 23), .ref (ad 12)] : List Value).toArray below meth c H locs 0 0 (MQ below (QQ g none (xW g h hn hi ad ra sTaped sFault sFaultA sWays sMay sMust cTape cNames cHead cSure cN cRow cTried cFor cRoad cFear cCall cUnl ncPaid cStep cGain cText iN iRow iFor iRoad iFear iCall iUnl iPaid iStep iGain iText tp) A) ([.ref (ad 23), .ref (ad 12)] : List Value).toArray s 0 0 A) (F0 m 2 ls []) := by
    intro n4
    induction n4 with
    | zero =>
      intro v1 c2 hf
      exact nn hf
    | succ n4 ih7 =>
      intro v1 c2 hf H locs ls hP hD hS hl
      rw [S_copy_2PaidN_L2] at hf
      refine lv_iload_n hx hb dX1_copy_2_2 rfl (lv_at hl 2 rfl) ?_
      refine lv_aload_n hx hb dX1_copy_2_3 rfl (lv_at hl 0 rfl) ?_
      refine va_alen (v := 8) hx hb X.2.2.2.2.2.2.2.2 hP 26 5 rfl rfl rfl dX1_copy_2_4 ?_
      refine bc_ge (tgt := 23) hx hb hf dX1_copy_2_5 (by decide) (fun hf => ?_) (fun hf => ?_)
      · cases hf
        exact hE5 _ _ _ hP hD hS (lv_sub hl [] rfl)
      · refine lv_aload_n hx hb dX1_copy_2_8 rfl (lv_at hl 0 rfl) ?_
        refine lv_iload_n hx hb dX1_copy_2_9 rfl (lv_at hl 2 rfl) ?_
        obtain ⟨b9, hf⟩ := inbs hf
        refine aX_iPaid X hP b9 dX1_copy_2_10 ?_
        refine lv_aload_n hx hb dX1_copy_2_11 rfl (lv_at hl 1 rfl) ?_
        refine lv_iload_n hx hb dX1_copy_2_12 rfl (lv_at hl 2 rfl) ?_
        obtain ⟨b10, hf⟩ := inbs hf
        refine aX_cPaid X hP b10 dX1_copy_2_13 ?_
        obtain ⟨c11, ec11, hf⟩ := lts hf
        refine cCopy X q249 hl.1 hP hD hS (xat_iPaid (vp_lt b9)) (xat_cPaid (vp_lt b10)) (by have qb9 := vp_lt b9; have qb10 := vp_lt b10; omega) (Nat.le_of_ble_eq_true rfl) (xset_cPaid (vp_lt b10) ec11) ⟨Nat.le_of_ble_eq_true rfl, Nat.le_of_ble_eq_true rfl⟩ ⟨Nat.zero_le _, Nat.zero_le _⟩ (Nat.le_of_ble_eq_true rfl) dX1_copy_2_14 (fun H locs hP hD hS => ?_)
        obtain ⟨v12, ev12, hf⟩ := lts hf
        refine lv_iinc (v := v12) (lv' := [(2, .int v12), (0, .ref (ad 23)), (1, .ref (ad 12))]) hx hb dX1_copy_2_17 hl (k := 2) rfl (by rw [ev12]; rfl) (by decide) rfl (fun ls hl => ?_)
        refine lv_goto (tgt := 2) hx hb dX1_copy_2_20 (by decide) ?_
        exact ih7 _ _ hf _ _ _ hP hD hS (lv_sub hl [1, 2, 0] rfl)
  exact hL6 _ _ _ k8 _ _ _ hP hD hS (lv_sub hl [1, 2, 0] rfl)
set_option maxHeartbeats 4000000 in
theorem met_S_copy_2StepN {l : Launch} {g : gG} {h hn hi : Nat} {ad : Nat → Nat} {ra : Nat → Nat → Nat} {z : Nat → Nat} {sTaped : Int32} {sFault : Int32} {sFaultA : Int32} {sWays : Int32} {sMay : Int32} {sMust : Int32} {cTape : Nat → Int32} {cNames : Nat → Int32} {cHead : Nat → Int32} {cSure : Nat → Nat → Int32} {cN : Nat → Int32} {cRow : Nat → Int32} {cTried : Nat → Int32} {cFor : Nat → Int32} {cRoad : Nat → Int32} {cFear : Nat → Int32} {cCall : Nat → Int32} {cUnl : Nat → Int32} {cPaid : Nat → Nat → Int32} {cStep : Nat → Nat → Int32} {cGain : Nat → Nat → Int32} {cText : Nat → Option Nat} {iN : Nat → Int32} {iRow : Nat → Int32} {iFor : Nat → Int32} {iRoad : Nat → Int32} {iFear : Nat → Int32} {iCall : Nat → Int32} {iUnl : Nat → Int32} {iPaid : Nat → Nat → Int32} {iStep : Nat → Nat → Int32} {iGain : Nat → Nat → Int32} {iText : Nat → Option Nat} {tp : va_W} {ncStep : Nat → Nat → Int32} {φ : Nat} (hf : S_copy_2StepN φ cStep iStep = some ncStep) : CX l yX1_copy_2 (ws_ yX1_copy_2 cX1_copy_2 3 none) ({ frames := 2, cells := 0, slots := 0, locals := 39 } : Room) g z [.ref (ad 24), .ref (ad 13)] (xW g h hn hi ad ra sTaped sFault sFaultA sWays sMay sMust cTape cNames cHead cSure cN cRow cTried cFor cRoad cFear cCall cUnl cPaid cStep cGain cText iN iRow iFor iRoad iFear iCall iUnl iPaid iStep iGain iText tp) none (xW g h hn hi ad ra sTaped sFault sFaultA sWays sMay sMust cTape cNames cHead cSure cN cRow cTried cFor cRoad cFear cCall cUnl cPaid ncStep cGain cText iN iRow iFor iRoad iFear iCall iUnl iPaid iStep iGain iText tp) 0 0 := by
  refine CX.of RX1 rfl plain_X1 (Nat.le_of_ble_eq_true rfl) (fun p e s m below meth c A ls X hF hP hD hS hl => ?_)
  have hx := X.1
  have hb := X.2.1
  have hown := X.2.2.2.2.2.1
  have hts := X.2.2.2.2.2.2.1
  have hl : lv_has ls 3 [(0, .ref (ad 24)), (1, .ref (ad 13))] := hl
  unfold S_copy_2StepN at hf
  refine lv_iconst (v := 0) hx hb dX1_copy_2_0 (by decide) ?_
  refine lv_istore_n (lv' := [(2, .int 0), (0, .ref (ad 24)), (1, .ref (ad 13))]) hx hb dX1_copy_2_1 rfl hl (by decide) rfl (fun ls hl => ?_)
  obtain ⟨c3, k8, hf⟩ := bd1s hf
  have hE5 : ∀ (H : Heap) (locs : List Loc) (ls : Array Slot), va_P g.1 vwCl (xW g h hn hi ad ra sTaped sFault sFaultA sWays sMay sMust cTape cNames cHead cSure cN cRow cTried cFor cRoad cFear cCall cUnl cPaid c3 cGain cText iN iRow iFor iRoad iFear iCall iUnl iPaid iStep iGain iText tp) H → va_D A (xW g h hn hi ad ra sTaped sFault sFaultA sWays sMay sMust cTape cNames cHead cSure cN cRow cTried cFor cRoad cFear cCall cUnl cPaid c3 cGain cText iN iRow iFor iRoad iFear iCall iUnl iPaid iStep iGain iText tp) → va_S A s.heap H locs → lv_has ls 3 [] → W p l e ({ frames := 2, cells := 0, slots := 0, locals := 39 } : Room) s m ([.ref (ad 24), .ref (ad 13)] : List Value).toArray below meth c H locs 0 0 (MQ below (QQ g none (xW g h hn hi ad ra sTaped sFault sFaultA sWays sMay sMust cTape cNames cHead cSure cN cRow cTried cFor cRoad cFear cCall cUnl cPaid ncStep cGain cText iN iRow iFor iRoad iFear iCall iUnl iPaid iStep iGain iText tp) A) ([.ref (ad 24), .ref (ad 13)] : List Value).toArray s 0 0 A) (F0 m 23 ls []) := by
    intro H locs ls hP hD hS hl
    cases hf
    exact rV X hP hD hS dX1_copy_2_23
  have hL6 : ∀ (n4 : Nat) (v1 : Int32) (c2 : Nat → Nat → Int32), S_copy_2StepN_L2 φ iStep n4 v1 c2 = some c3 → ∀ (H : Heap) (locs : List Loc) (ls : Array Slot), va_P g.1 vwCl (xW g h hn hi ad ra sTaped sFault sFaultA sWays sMay sMust cTape cNames cHead cSure cN cRow cTried cFor cRoad cFear cCall cUnl cPaid c2 cGain cText iN iRow iFor iRoad iFear iCall iUnl iPaid iStep iGain iText tp) H → va_D A (xW g h hn hi ad ra sTaped sFault sFaultA sWays sMay sMust cTape cNames cHead cSure cN cRow cTried cFor cRoad cFear cCall cUnl cPaid c2 cGain cText iN iRow iFor iRoad iFear iCall iUnl iPaid iStep iGain iText tp) → va_S A s.heap H locs → lv_has ls 3 [(0, .ref (ad 24)), (1, .ref (ad 13)), (2, .int v1)] → W p l e ({ frames := 2, cells := 0, slots := 0, locals := 39 } : Room) s m ([.ref (ad 24), .ref (ad 13)] : List Value).toArray below meth c H locs 0 0 (MQ below (QQ g none (xW g h hn hi ad ra sTaped sFault sFaultA sWays sMay sMust cTape cNames cHead cSure cN cRow cTried cFor cRoad cFear cCall cUnl cPaid ncStep cGain cText iN iRow iFor iRoad iFear iCall iUnl iPaid iStep iGain iText tp) A) ([.ref (ad 24), .ref (ad 13)] : List Value).toArray s 0 0 A) (F0 m 2 ls []) := by
    intro n4
    induction n4 with
    | zero =>
      intro v1 c2 hf
      exact nn hf
    | succ n4 ih7 =>
      intro v1 c2 hf H locs ls hP hD hS hl
      rw [S_copy_2StepN_L2] at hf
      refine lv_iload_n hx hb dX1_copy_2_2 rfl (lv_at hl 2 rfl) ?_
      refine lv_aload_n hx hb dX1_copy_2_3 rfl (lv_at hl 0 rfl) ?_
      refine va_alen (v := 30) hx hb X.2.2.2.2.2.2.2.2 hP 27 5 rfl rfl rfl dX1_copy_2_4 ?_
      refine bc_ge (tgt := 23) hx hb hf dX1_copy_2_5 (by decide) (fun hf => ?_) (fun hf => ?_)
      · cases hf
        exact hE5 _ _ _ hP hD hS (lv_sub hl [] rfl)
      · refine lv_aload_n hx hb dX1_copy_2_8 rfl (lv_at hl 0 rfl) ?_
        refine lv_iload_n hx hb dX1_copy_2_9 rfl (lv_at hl 2 rfl) ?_
        obtain ⟨b9, hf⟩ := inbs hf
        refine aX_iStep X hP b9 dX1_copy_2_10 ?_
        refine lv_aload_n hx hb dX1_copy_2_11 rfl (lv_at hl 1 rfl) ?_
        refine lv_iload_n hx hb dX1_copy_2_12 rfl (lv_at hl 2 rfl) ?_
        obtain ⟨b10, hf⟩ := inbs hf
        refine aX_cStep X hP b10 dX1_copy_2_13 ?_
        obtain ⟨c11, ec11, hf⟩ := lts hf
        refine cCopy X q249 hl.1 hP hD hS (xat_iStep (vp_lt b9)) (xat_cStep (vp_lt b10)) (by have qb9 := vp_lt b9; have qb10 := vp_lt b10; omega) (Nat.le_of_ble_eq_true rfl) (xset_cStep (vp_lt b10) ec11) ⟨Nat.le_of_ble_eq_true rfl, Nat.le_of_ble_eq_true rfl⟩ ⟨Nat.zero_le _, Nat.zero_le _⟩ (Nat.le_of_ble_eq_true rfl) dX1_copy_2_14 (fun H locs hP hD hS => ?_)
        obtain ⟨v12, ev12, hf⟩ := lts hf
        refine lv_iinc (v := v12) (lv' := [(2, .int v12), (0, .ref (ad 24)), (1, .ref (ad 13))]) hx hb dX1_copy_2_17 hl (k := 2) rfl (by rw [ev12]; rfl) (by decide) rfl (fun ls hl => ?_)
        refine lv_goto (tgt := 2) hx hb dX1_copy_2_20 (by decide) ?_
        exact ih7 _ _ hf _ _ _ hP hD hS (lv_sub hl [1, 2, 0] rfl)
  exact hL6 _ _ _ k8 _ _ _ hP hD hS (lv_sub hl [1, 2, 0] rfl)
set_option maxHeartbeats 4000000 in
theorem met_S_copy_2GainN {l : Launch} {g : gG} {h hn hi : Nat} {ad : Nat → Nat} {ra : Nat → Nat → Nat} {z : Nat → Nat} {sTaped : Int32} {sFault : Int32} {sFaultA : Int32} {sWays : Int32} {sMay : Int32} {sMust : Int32} {cTape : Nat → Int32} {cNames : Nat → Int32} {cHead : Nat → Int32} {cSure : Nat → Nat → Int32} {cN : Nat → Int32} {cRow : Nat → Int32} {cTried : Nat → Int32} {cFor : Nat → Int32} {cRoad : Nat → Int32} {cFear : Nat → Int32} {cCall : Nat → Int32} {cUnl : Nat → Int32} {cPaid : Nat → Nat → Int32} {cStep : Nat → Nat → Int32} {cGain : Nat → Nat → Int32} {cText : Nat → Option Nat} {iN : Nat → Int32} {iRow : Nat → Int32} {iFor : Nat → Int32} {iRoad : Nat → Int32} {iFear : Nat → Int32} {iCall : Nat → Int32} {iUnl : Nat → Int32} {iPaid : Nat → Nat → Int32} {iStep : Nat → Nat → Int32} {iGain : Nat → Nat → Int32} {iText : Nat → Option Nat} {tp : va_W} {ncGain : Nat → Nat → Int32} {φ : Nat} (hf : S_copy_2GainN φ cGain iGain = some ncGain) : CX l yX1_copy_2 (ws_ yX1_copy_2 cX1_copy_2 3 none) ({ frames := 2, cells := 0, slots := 0, locals := 39 } : Room) g z [.ref (ad 25), .ref (ad 14)] (xW g h hn hi ad ra sTaped sFault sFaultA sWays sMay sMust cTape cNames cHead cSure cN cRow cTried cFor cRoad cFear cCall cUnl cPaid cStep cGain cText iN iRow iFor iRoad iFear iCall iUnl iPaid iStep iGain iText tp) none (xW g h hn hi ad ra sTaped sFault sFaultA sWays sMay sMust cTape cNames cHead cSure cN cRow cTried cFor cRoad cFear cCall cUnl cPaid cStep ncGain cText iN iRow iFor iRoad iFear iCall iUnl iPaid iStep iGain iText tp) 0 0 := by
  refine CX.of RX1 rfl plain_X1 (Nat.le_of_ble_eq_true rfl) (fun p e s m below meth c A ls X hF hP hD hS hl => ?_)
  have hx := X.1
  have hb := X.2.1
  have hown := X.2.2.2.2.2.1
  have hts := X.2.2.2.2.2.2.1
  have hl : lv_has ls 3 [(0, .ref (ad 25)), (1, .ref (ad 14))] := hl
  unfold S_copy_2GainN at hf
  refine lv_iconst (v := 0) hx hb dX1_copy_2_0 (by decide) ?_
  refine lv_istore_n (lv' := [(2, .int 0), (0, .ref (ad 25)), (1, .ref (ad 14))]) hx hb dX1_copy_2_1 rfl hl (by decide) rfl (fun ls hl => ?_)
  obtain ⟨c3, k8, hf⟩ := bd1s hf
  have hE5 : ∀ (H : Heap) (locs : List Loc) (ls : Array Slot), va_P g.1 vwCl (xW g h hn hi ad ra sTaped sFault sFaultA sWays sMay sMust cTape cNames cHead cSure cN cRow cTried cFor cRoad cFear cCall cUnl cPaid cStep c3 cText iN iRow iFor iRoad iFear iCall iUnl iPaid iStep iGain iText tp) H → va_D A (xW g h hn hi ad ra sTaped sFault sFaultA sWays sMay sMust cTape cNames cHead cSure cN cRow cTried cFor cRoad cFear cCall cUnl cPaid cStep c3 cText iN iRow iFor iRoad iFear iCall iUnl iPaid iStep iGain iText tp) → va_S A s.heap H locs → lv_has ls 3 [] → W p l e ({ frames := 2, cells := 0, slots := 0, locals := 39 } : Room) s m ([.ref (ad 25), .ref (ad 14)] : List Value).toArray below meth c H locs 0 0 (MQ below (QQ g none (xW g h hn hi ad ra sTaped sFault sFaultA sWays sMay sMust cTape cNames cHead cSure cN cRow cTried cFor cRoad cFear cCall cUnl cPaid cStep ncGain cText iN iRow iFor iRoad iFear iCall iUnl iPaid iStep iGain iText tp) A) ([.ref (ad 25), .ref (ad 14)] : List Value).toArray s 0 0 A) (F0 m 23 ls []) := by
    intro H locs ls hP hD hS hl
    cases hf
    exact rV X hP hD hS dX1_copy_2_23
  have hL6 : ∀ (n4 : Nat) (v1 : Int32) (c2 : Nat → Nat → Int32), S_copy_2GainN_L2 φ iGain n4 v1 c2 = some c3 → ∀ (H : Heap) (locs : List Loc) (ls : Array Slot), va_P g.1 vwCl (xW g h hn hi ad ra sTaped sFault sFaultA sWays sMay sMust cTape cNames cHead cSure cN cRow cTried cFor cRoad cFear cCall cUnl cPaid cStep c2 cText iN iRow iFor iRoad iFear iCall iUnl iPaid iStep iGain iText tp) H → va_D A (xW g h hn hi ad ra sTaped sFault sFaultA sWays sMay sMust cTape cNames cHead cSure cN cRow cTried cFor cRoad cFear cCall cUnl cPaid cStep c2 cText iN iRow iFor iRoad iFear iCall iUnl iPaid iStep iGain iText tp) → va_S A s.heap H locs → lv_has ls 3 [(0, .ref (ad 25)), (1, .ref (ad 14)), (2, .int v1)] → W p l e ({ frames := 2, cells := 0, slots := 0, locals := 39 } : Room) s m ([.ref (ad 25), .ref (ad 14)] : List Value).toArray below meth c H locs 0 0 (MQ below (QQ g none (xW g h hn hi ad ra sTaped sFault sFaultA sWays sMay sMust cTape cNames cHead cSure cN cRow cTried cFor cRoad cFear cCall cUnl cPaid cStep ncGain cText iN iRow iFor iRoad iFear iCall iUnl iPaid iStep iGain iText tp) A) ([.ref (ad 25), .ref (ad 14)] : List Value).toArray s 0 0 A) (F0 m 2 ls []) := by
    intro n4
    induction n4 with
    | zero =>
      intro v1 c2 hf
      exact nn hf
    | succ n4 ih7 =>
      intro v1 c2 hf H locs ls hP hD hS hl
      rw [S_copy_2GainN_L2] at hf
      refine lv_iload_n hx hb dX1_copy_2_2 rfl (lv_at hl 2 rfl) ?_
      refine lv_aload_n hx hb dX1_copy_2_3 rfl (lv_at hl 0 rfl) ?_
      refine va_alen (v := 2) hx hb X.2.2.2.2.2.2.2.2 hP 28 5 rfl rfl rfl dX1_copy_2_4 ?_
      refine bc_ge (tgt := 23) hx hb hf dX1_copy_2_5 (by decide) (fun hf => ?_) (fun hf => ?_)
      · cases hf
        exact hE5 _ _ _ hP hD hS (lv_sub hl [] rfl)
      · refine lv_aload_n hx hb dX1_copy_2_8 rfl (lv_at hl 0 rfl) ?_
        refine lv_iload_n hx hb dX1_copy_2_9 rfl (lv_at hl 2 rfl) ?_
        obtain ⟨b9, hf⟩ := inbs hf
        refine aX_iGain X hP b9 dX1_copy_2_10 ?_
        refine lv_aload_n hx hb dX1_copy_2_11 rfl (lv_at hl 1 rfl) ?_
        refine lv_iload_n hx hb dX1_copy_2_12 rfl (lv_at hl 2 rfl) ?_
        obtain ⟨b10, hf⟩ := inbs hf
        refine aX_cGain X hP b10 dX1_copy_2_13 ?_
        obtain ⟨c11, ec11, hf⟩ := lts hf
        refine cCopy X q249 hl.1 hP hD hS (xat_iGain (vp_lt b9)) (xat_cGain (vp_lt b10)) (by have qb9 := vp_lt b9; have qb10 := vp_lt b10; omega) (Nat.le_of_ble_eq_true rfl) (xset_cGain (vp_lt b10) ec11) ⟨Nat.le_of_ble_eq_true rfl, Nat.le_of_ble_eq_true rfl⟩ ⟨Nat.zero_le _, Nat.zero_le _⟩ (Nat.le_of_ble_eq_true rfl) dX1_copy_2_14 (fun H locs hP hD hS => ?_)
        obtain ⟨v12, ev12, hf⟩ := lts hf
        refine lv_iinc (v := v12) (lv' := [(2, .int v12), (0, .ref (ad 25)), (1, .ref (ad 14))]) hx hb dX1_copy_2_17 hl (k := 2) rfl (by rw [ev12]; rfl) (by decide) rfl (fun ls hl => ?_)
        refine lv_goto (tgt := 2) hx hb dX1_copy_2_20 (by decide) ?_
        exact ih7 _ _ hf _ _ _ hP hD hS (lv_sub hl [1, 2, 0] rfl)
  exact hL6 _ _ _ k8 _ _ _ hP hD hS (lv_sub hl [1, 2, 0] rfl)
set_option maxHeartbeats 4000000 in
theorem met_S_beN {l : Launch} {g : gG} {h hn hi : Nat} {ad : Nat → Nat} {ra : Nat → Nat → Nat} {z : Nat → Nat} {sTaped : Int32} {sFault : Int32} {sFaultA : Int32} {sWays : Int32} {sMay : Int32} {sMust : Int32} {cTape : Nat → Int32} {cNames : Nat → Int32} {cHead : Nat → Int32} {cSure : Nat → Nat → Int32} {cN : Nat → Int32} {cRow : Nat → Int32} {cTried : Nat → Int32} {cFor : Nat → Int32} {cRoad : Nat → Int32} {cFear : Nat → Int32} {cCall : Nat → Int32} {cUnl : Nat → Int32} {cPaid : Nat → Nat → Int32} {cStep : Nat → Nat → Int32} {cGain : Nat → Nat → Int32} {cText : Nat → Option Nat} {iN : Nat → Int32} {iRow : Nat → Int32} {iFor : Nat → Int32} {iRoad : Nat → Int32} {iFear : Nat → Int32} {iCall : Nat → Int32} {iUnl : Nat → Int32} {iPaid : Nat → Nat → Int32} {iStep : Nat → Nat → Int32} {iGain : Nat → Nat → Int32} {iText : Nat → Option Nat} {tp : va_W} {ncN : Nat → Int32} {ncRow : Nat → Int32} {ncFor : Nat → Int32} {ncRoad : Nat → Int32} {ncFear : Nat → Int32} {ncCall : Nat → Int32} {ncUnl : Nat → Int32} {ncPaid : Nat → Nat → Int32} {ncStep : Nat → Nat → Int32} {ncGain : Nat → Nat → Int32} {ncText : Nat → Option Nat} {φ : Nat} (hTiText : TxRef tp iText) (hf : S_beN φ cN cRow cFor cRoad cFear cCall cUnl cPaid cStep cGain cText iN iRow iFor iRoad iFear iCall iUnl iPaid iStep iGain iText = some (ncN, ncRow, ncFor, ncRoad, ncFear, ncCall, ncUnl, ncPaid, ncStep, ncGain, ncText)) : CX l yX1_be (ws_ yX1_be cX1_be 2 none) ({ frames := 3, cells := 0, slots := 0, locals := 61 } : Room) g z [.ref hn, .ref hi] (xW g h hn hi ad ra sTaped sFault sFaultA sWays sMay sMust cTape cNames cHead cSure cN cRow cTried cFor cRoad cFear cCall cUnl cPaid cStep cGain cText iN iRow iFor iRoad iFear iCall iUnl iPaid iStep iGain iText tp) none (xW g h hn hi ad ra sTaped sFault sFaultA sWays sMay sMust cTape cNames cHead cSure ncN ncRow cTried ncFor ncRoad ncFear ncCall ncUnl ncPaid ncStep ncGain ncText iN iRow iFor iRoad iFear iCall iUnl iPaid iStep iGain iText tp) 0 0 := by
  refine CX.of RX1 rfl plain_X1 (Nat.le_of_ble_eq_true rfl) (fun p e s m below meth c A ls X hF hP hD hS hl => ?_)
  have hx := X.1
  have hb := X.2.1
  have hown := X.2.2.2.2.2.1
  have hts := X.2.2.2.2.2.2.1
  have hl : lv_has ls 2 [(0, .ref hn), (1, .ref hi)] := hl
  unfold S_beN at hf
  refine lv_aload_n hx hb dX1_be_0 rfl (lv_at hl 1 rfl) ?_
  refine gX_X1_image_n X hP dX1_be_1 ?_
  refine lv_aload_n hx hb dX1_be_4 rfl (lv_at hl 0 rfl) ?_
  refine gX_X1_now_n X hP dX1_be_5 ?_
  obtain ⟨c1, ec1, hf⟩ := lts hf
  refine cCopy X q249 hl.1 hP hD hS xat_iN xat_cN (by decide) (Nat.le_of_ble_eq_true rfl) (xset_cN ec1) ⟨Nat.le_of_ble_eq_true rfl, Nat.le_of_ble_eq_true rfl⟩ ⟨Nat.zero_le _, Nat.zero_le _⟩ (Nat.le_of_ble_eq_true rfl) dX1_be_8 (fun H locs hP hD hS => ?_)
  refine lv_aload_n hx hb dX1_be_11 rfl (lv_at hl 1 rfl) ?_
  refine gX_X1_image_row X hP dX1_be_12 ?_
  refine lv_aload_n hx hb dX1_be_15 rfl (lv_at hl 0 rfl) ?_
  refine gX_X1_now_row X hP dX1_be_16 ?_
  obtain ⟨c2, ec2, hf⟩ := lts hf
  refine cCopy X q249 hl.1 hP hD hS xat_iRow xat_cRow (by decide) (Nat.le_of_ble_eq_true rfl) (xset_cRow ec2) ⟨Nat.le_of_ble_eq_true rfl, Nat.le_of_ble_eq_true rfl⟩ ⟨Nat.zero_le _, Nat.zero_le _⟩ (Nat.le_of_ble_eq_true rfl) dX1_be_19 (fun H locs hP hD hS => ?_)
  refine lv_aload_n hx hb dX1_be_22 rfl (lv_at hl 1 rfl) ?_
  refine gX_X1_image_forest X hP dX1_be_23 ?_
  refine lv_aload_n hx hb dX1_be_26 rfl (lv_at hl 0 rfl) ?_
  refine gX_X1_now_forest X hP dX1_be_27 ?_
  obtain ⟨c3, ec3, hf⟩ := lts hf
  refine cCopy X q249 hl.1 hP hD hS xat_iFor xat_cFor (by decide) (Nat.le_of_ble_eq_true rfl) (xset_cFor ec3) ⟨Nat.le_of_ble_eq_true rfl, Nat.le_of_ble_eq_true rfl⟩ ⟨Nat.zero_le _, Nat.zero_le _⟩ (Nat.le_of_ble_eq_true rfl) dX1_be_30 (fun H locs hP hD hS => ?_)
  refine lv_aload_n hx hb dX1_be_33 rfl (lv_at hl 1 rfl) ?_
  refine gX_X1_image_road X hP dX1_be_34 ?_
  refine lv_aload_n hx hb dX1_be_37 rfl (lv_at hl 0 rfl) ?_
  refine gX_X1_now_road X hP dX1_be_38 ?_
  obtain ⟨c4, ec4, hf⟩ := lts hf
  refine cCopy X q249 hl.1 hP hD hS xat_iRoad xat_cRoad (by decide) (Nat.le_of_ble_eq_true rfl) (xset_cRoad ec4) ⟨Nat.le_of_ble_eq_true rfl, Nat.le_of_ble_eq_true rfl⟩ ⟨Nat.zero_le _, Nat.zero_le _⟩ (Nat.le_of_ble_eq_true rfl) dX1_be_41 (fun H locs hP hD hS => ?_)
  refine lv_aload_n hx hb dX1_be_44 rfl (lv_at hl 1 rfl) ?_
  refine gX_X1_image_fear X hP dX1_be_45 ?_
  refine lv_aload_n hx hb dX1_be_48 rfl (lv_at hl 0 rfl) ?_
  refine gX_X1_now_fear X hP dX1_be_49 ?_
  obtain ⟨c5, ec5, hf⟩ := lts hf
  refine cCopy X q249 hl.1 hP hD hS xat_iFear xat_cFear (by decide) (Nat.le_of_ble_eq_true rfl) (xset_cFear ec5) ⟨Nat.le_of_ble_eq_true rfl, Nat.le_of_ble_eq_true rfl⟩ ⟨Nat.zero_le _, Nat.zero_le _⟩ (Nat.le_of_ble_eq_true rfl) dX1_be_52 (fun H locs hP hD hS => ?_)
  refine lv_aload_n hx hb dX1_be_55 rfl (lv_at hl 1 rfl) ?_
  refine gX_X1_image_call X hP dX1_be_56 ?_
  refine lv_aload_n hx hb dX1_be_59 rfl (lv_at hl 0 rfl) ?_
  refine gX_X1_now_call X hP dX1_be_60 ?_
  obtain ⟨c6, ec6, hf⟩ := lts hf
  refine cCopy X q249 hl.1 hP hD hS xat_iCall xat_cCall (by decide) (Nat.le_of_ble_eq_true rfl) (xset_cCall ec6) ⟨Nat.le_of_ble_eq_true rfl, Nat.le_of_ble_eq_true rfl⟩ ⟨Nat.zero_le _, Nat.zero_le _⟩ (Nat.le_of_ble_eq_true rfl) dX1_be_63 (fun H locs hP hD hS => ?_)
  refine lv_aload_n hx hb dX1_be_66 rfl (lv_at hl 1 rfl) ?_
  refine gX_X1_image_unlike X hP dX1_be_67 ?_
  refine lv_aload_n hx hb dX1_be_70 rfl (lv_at hl 0 rfl) ?_
  refine gX_X1_now_unlike X hP dX1_be_71 ?_
  obtain ⟨c7, ec7, hf⟩ := lts hf
  refine cCopy X q249 hl.1 hP hD hS xat_iUnl xat_cUnl (by decide) (Nat.le_of_ble_eq_true rfl) (xset_cUnl ec7) ⟨Nat.le_of_ble_eq_true rfl, Nat.le_of_ble_eq_true rfl⟩ ⟨Nat.zero_le _, Nat.zero_le _⟩ (Nat.le_of_ble_eq_true rfl) dX1_be_74 (fun H locs hP hD hS => ?_)
  refine lv_aload_n hx hb dX1_be_77 rfl (lv_at hl 1 rfl) ?_
  refine gX_X1_image_paid X hP dX1_be_78 ?_
  refine lv_aload_n hx hb dX1_be_81 rfl (lv_at hl 0 rfl) ?_
  refine gX_X1_now_paid X hP dX1_be_82 ?_
  obtain ⟨c8, k9, hf⟩ := bd1s hf
  refine xSv (rest := []) X hF (met_S_copy_2PaidN k9) gs_X1_X1_copy_2 dy_X1_copy_2 ⟨⟨rfl, rfl⟩, Nat.le_of_ble_eq_true rfl, Nat.le_of_ble_eq_true rfl⟩ hP hD hS hl.1 rfl rfl ⟨Nat.zero_le _, Nat.zero_le _⟩ (Nat.le_of_ble_eq_true rfl) dX1_be_85 (fun H locs hP hD hS => ?_)
  refine lv_aload_n hx hb dX1_be_88 rfl (lv_at hl 1 rfl) ?_
  refine gX_X1_image_step X hP dX1_be_89 ?_
  refine lv_aload_n hx hb dX1_be_92 rfl (lv_at hl 0 rfl) ?_
  refine gX_X1_now_step X hP dX1_be_93 ?_
  obtain ⟨c10, k11, hf⟩ := bd1s hf
  refine xSv (rest := []) X hF (met_S_copy_2StepN k11) gs_X1_X1_copy_2 dy_X1_copy_2 ⟨⟨rfl, rfl⟩, Nat.le_of_ble_eq_true rfl, Nat.le_of_ble_eq_true rfl⟩ hP hD hS hl.1 rfl rfl ⟨Nat.zero_le _, Nat.zero_le _⟩ (Nat.le_of_ble_eq_true rfl) dX1_be_96 (fun H locs hP hD hS => ?_)
  refine lv_aload_n hx hb dX1_be_99 rfl (lv_at hl 1 rfl) ?_
  refine gX_X1_image_gain X hP dX1_be_100 ?_
  refine lv_aload_n hx hb dX1_be_103 rfl (lv_at hl 0 rfl) ?_
  refine gX_X1_now_gain X hP dX1_be_104 ?_
  obtain ⟨c12, k13, hf⟩ := bd1s hf
  refine xSv (rest := []) X hF (met_S_copy_2GainN k13) gs_X1_X1_copy_2 dy_X1_copy_2 ⟨⟨rfl, rfl⟩, Nat.le_of_ble_eq_true rfl, Nat.le_of_ble_eq_true rfl⟩ hP hD hS hl.1 rfl rfl ⟨Nat.zero_le _, Nat.zero_le _⟩ (Nat.le_of_ble_eq_true rfl) dX1_be_107 (fun H locs hP hD hS => ?_)
  refine lv_aload_n hx hb dX1_be_110 rfl (lv_at hl 1 rfl) ?_
  refine gX_X1_image_text X hP dX1_be_111 ?_
  refine lv_iconst (v := 0) hx hb dX1_be_114 (by decide) ?_
  refine lv_aload_n hx hb dX1_be_115 rfl (lv_at hl 0 rfl) ?_
  refine gX_X1_now_text X hP dX1_be_116 ?_
  refine lv_iconst (v := 0) hx hb dX1_be_119 (by decide) ?_
  refine lv_iconst (v := 4) hx hb dX1_be_120 (by decide) ?_
  refine rCpyT X q252 hl.1 hP hD hS 29 18 rfl rfl (tx_in hTiText) rfl ⟨Nat.le_of_ble_eq_true rfl, Nat.le_of_ble_eq_true rfl⟩ dX1_be_121 (fun H locs hP hD hS => ?_)
  have hP : va_P g.1 vwCl (xW g h hn hi ad ra sTaped sFault sFaultA sWays sMay sMust cTape cNames cHead cSure c1 c2 cTried c3 c4 c5 c6 c7 c8 c10 c12 iText iN iRow iFor iRoad iFear iCall iUnl iPaid iStep iGain iText tp) H := hP
  have hD : va_D A (xW g h hn hi ad ra sTaped sFault sFaultA sWays sMay sMust cTape cNames cHead cSure c1 c2 cTried c3 c4 c5 c6 c7 c8 c10 c12 iText iN iRow iFor iRoad iFear iCall iUnl iPaid iStep iGain iText tp) := hD
  cases hf
  exact rV X hP hD hS dX1_be_124
set_option maxHeartbeats 4000000 in
theorem met_X_back {l : Launch} {g : gG} {h hn hi : Nat} {ad : Nat → Nat} {ra : Nat → Nat → Nat} {z : Nat → Nat} {sTaped : Int32} {sFault : Int32} {sFaultA : Int32} {sWays : Int32} {sMay : Int32} {sMust : Int32} {cTape : Nat → Int32} {cNames : Nat → Int32} {cHead : Nat → Int32} {cSure : Nat → Nat → Int32} {cN : Nat → Int32} {cRow : Nat → Int32} {cTried : Nat → Int32} {cFor : Nat → Int32} {cRoad : Nat → Int32} {cFear : Nat → Int32} {cCall : Nat → Int32} {cUnl : Nat → Int32} {cPaid : Nat → Nat → Int32} {cStep : Nat → Nat → Int32} {cGain : Nat → Nat → Int32} {cText : Nat → Option Nat} {iN : Nat → Int32} {iRow : Nat → Int32} {iFor : Nat → Int32} {iRoad : Nat → Int32} {iFear : Nat → Int32} {iCall : Nat → Int32} {iUnl : Nat → Int32} {iPaid : Nat → Nat → Int32} {iStep : Nat → Nat → Int32} {iGain : Nat → Nat → Int32} {iText : Nat → Option Nat} {tp : va_W} {r : Int32} {ncN : Nat → Int32} {ncRow : Nat → Int32} {ncFor : Nat → Int32} {ncRoad : Nat → Int32} {ncFear : Nat → Int32} {ncCall : Nat → Int32} {ncUnl : Nat → Int32} {ncPaid : Nat → Nat → Int32} {ncStep : Nat → Nat → Int32} {ncGain : Nat → Nat → Int32} {ncText : Nat → Option Nat} {φ : Nat} (hTiText : TxRef tp iText) (hf : X_back φ cN cRow cFor cRoad cFear cCall cUnl cPaid cStep cGain cText iN iRow iFor iRoad iFear iCall iUnl iPaid iStep iGain iText = some (r, ncN, ncRow, ncFor, ncRoad, ncFear, ncCall, ncUnl, ncPaid, ncStep, ncGain, ncText)) : CX l yX0_back (ws_ yX0_back cX0_back 1 (some .int)) ({ frames := 4, cells := 0, slots := 0, locals := 82 } : Room) g z [.ref h] (xW g h hn hi ad ra sTaped sFault sFaultA sWays sMay sMust cTape cNames cHead cSure cN cRow cTried cFor cRoad cFear cCall cUnl cPaid cStep cGain cText iN iRow iFor iRoad iFear iCall iUnl iPaid iStep iGain iText tp) (some (.int r)) (xW g h hn hi ad ra sTaped sFault sFaultA sWays sMay sMust cTape cNames cHead cSure ncN ncRow cTried ncFor ncRoad ncFear ncCall ncUnl ncPaid ncStep ncGain ncText iN iRow iFor iRoad iFear iCall iUnl iPaid iStep iGain iText tp) 0 0 := by
  refine CX.of RX0 rfl plain_X0 (Nat.le_of_ble_eq_true rfl) (fun p e s m below meth c A ls X hF hP hD hS hl => ?_)
  have hx := X.1
  have hb := X.2.1
  have hown := X.2.2.2.2.2.1
  have hts := X.2.2.2.2.2.2.1
  have hl : lv_has ls 1 [(0, .ref h)] := hl
  unfold X_back at hf
  refine lv_aload_n hx hb dX0_back_0 rfl (lv_at hl 0 rfl) ?_
  refine gX_X0_this_now X hP dX0_back_1 ?_
  refine lv_aload_n hx hb dX0_back_4 rfl (lv_at hl 0 rfl) ?_
  refine gX_X0_this_image X hP dX0_back_5 ?_
  obtain ⟨c1, c2, c3, c4, c5, c6, c7, c8, c9, c10, c11, k12, hf⟩ := bd11s hf
  refine xVv (rest := []) X hF (met_S_beN hTiText k12) gw_X0_X1_be dy_X1_be ⟨⟨rfl, rfl⟩, Nat.le_of_ble_eq_true rfl, Nat.le_of_ble_eq_true rfl⟩ hP hD hS hl.1 rcN rfl rfl ⟨Nat.zero_le _, Nat.zero_le _⟩ (Nat.le_of_ble_eq_true rfl) dX0_back_8 (fun H locs hP hD hS => ?_)
  refine lv_aload_n hx hb dX0_back_11 rfl (lv_at hl 0 rfl) ?_
  refine gX_X0_this_now X hP dX0_back_12 ?_
  refine gX_X0_now_row X hF hP dX0_back_15 ?_
  refine lv_iconst (v := 0) hx hb dX0_back_18 (by decide) ?_
  obtain ⟨v13, ev13, bv13, hf⟩ := rds hf
  refine lX_cRow X hP ev13 bv13 dX0_back_19 ?_
  cases hf
  exact rI X hP hD hS dX0_back_20
set_option maxHeartbeats 4000000 in
theorem met_X_about {l : Launch} {g : gG} {h hn hi : Nat} {ad : Nat → Nat} {ra : Nat → Nat → Nat} {z : Nat → Nat} {sTaped : Int32} {sFault : Int32} {sFaultA : Int32} {sWays : Int32} {sMay : Int32} {sMust : Int32} {cTape : Nat → Int32} {cNames : Nat → Int32} {cHead : Nat → Int32} {cSure : Nat → Nat → Int32} {cN : Nat → Int32} {cRow : Nat → Int32} {cTried : Nat → Int32} {cFor : Nat → Int32} {cRoad : Nat → Int32} {cFear : Nat → Int32} {cCall : Nat → Int32} {cUnl : Nat → Int32} {cPaid : Nat → Nat → Int32} {cStep : Nat → Nat → Int32} {cGain : Nat → Nat → Int32} {cText : Nat → Option Nat} {iN : Nat → Int32} {iRow : Nat → Int32} {iFor : Nat → Int32} {iRoad : Nat → Int32} {iFear : Nat → Int32} {iCall : Nat → Int32} {iUnl : Nat → Int32} {iPaid : Nat → Nat → Int32} {iStep : Nat → Nat → Int32} {iGain : Nat → Nat → Int32} {iText : Nat → Option Nat} {tp : va_W} {x1 : Int32} {r : Int32} (hf : X_about sTaped cN x1 = some r) : CX l yX0_about (ws_ yX0_about cX0_about 2 (some .int)) ({ frames := 0, cells := 0, slots := 0, locals := 0 } : Room) g z [.ref h, .int x1] (xW g h hn hi ad ra sTaped sFault sFaultA sWays sMay sMust cTape cNames cHead cSure cN cRow cTried cFor cRoad cFear cCall cUnl cPaid cStep cGain cText iN iRow iFor iRoad iFear iCall iUnl iPaid iStep iGain iText tp) (some (.int r)) (xW g h hn hi ad ra sTaped sFault sFaultA sWays sMay sMust cTape cNames cHead cSure cN cRow cTried cFor cRoad cFear cCall cUnl cPaid cStep cGain cText iN iRow iFor iRoad iFear iCall iUnl iPaid iStep iGain iText tp) 0 0 := by
  refine CX.of RX0 rfl plain_X0 (Nat.le_of_ble_eq_true rfl) (fun p e s m below meth c A ls X hF hP hD hS hl => ?_)
  have hx := X.1
  have hb := X.2.1
  have hown := X.2.2.2.2.2.1
  have hts := X.2.2.2.2.2.2.1
  have hl : lv_has ls 2 [(0, .ref h), (1, .int x1)] := hl
  unfold X_about at hf
  refine lv_iload_n hx hb dX0_about_0 rfl (lv_at hl 1 rfl) ?_
  refine swc hf (fun q hf => ?_) (fun q0 hf => ?_)
  · refine lv_tableOut (tgt := 154) hx hb dX0_about_1 (Or.inl q) (by decide) ?_
    refine lv_bipush (v := (-2)) hx hb dX0_about_154 (by decide) ?_
    cases hf
    exact rI X hP hD hS dX0_about_156
  refine swc hf (fun q hf => ?_) (fun q1 hf => ?_)
  · refine lv_tableOut (tgt := 154) hx hb dX0_about_1 (Or.inr q) (by decide) ?_
    refine lv_bipush (v := (-2)) hx hb dX0_about_154 (by decide) ?_
    cases hf
    exact rI X hP hD hS dX0_about_156
  refine swc hf (fun q hf => ?_) (fun q2 hf => ?_)
  · refine lv_tableIn (off := 55) (tgt := 56) hx hb dX0_about_1 q0 q1 (by rw [q]; rfl) (by decide) ?_
    refine lv_aload_n hx hb dX0_about_56 rfl (lv_at hl 0 rfl) ?_
    refine gX_X0_this_now X hP dX0_about_57 ?_
    refine gX_X0_now_n X hF hP dX0_about_60 ?_
    refine lv_iconst (v := 0) hx hb dX0_about_63 (by decide) ?_
    obtain ⟨v1, ev1, bv1, hf⟩ := rds hf
    refine lX_cN X hP ev1 bv1 dX0_about_64 ?_
    cases hf
    exact rI X hP hD hS dX0_about_65
  refine swc hf (fun q hf => ?_) (fun q2 hf => ?_)
  · refine lv_tableIn (off := 65) (tgt := 66) hx hb dX0_about_1 q0 q1 (by rw [q]; rfl) (by decide) ?_
    refine lv_aload_n hx hb dX0_about_66 rfl (lv_at hl 0 rfl) ?_
    refine gX_X0_this_now X hP dX0_about_67 ?_
    refine gX_X0_now_n X hF hP dX0_about_70 ?_
    refine lv_iconst (v := 1) hx hb dX0_about_73 (by decide) ?_
    obtain ⟨v2, ev2, bv2, hf⟩ := rds hf
    refine lX_cN X hP ev2 bv2 dX0_about_74 ?_
    cases hf
    exact rI X hP hD hS dX0_about_75
  refine swc hf (fun q hf => ?_) (fun q2 hf => ?_)
  · refine lv_tableIn (off := 75) (tgt := 76) hx hb dX0_about_1 q0 q1 (by rw [q]; rfl) (by decide) ?_
    refine lv_aload_n hx hb dX0_about_76 rfl (lv_at hl 0 rfl) ?_
    refine gX_X0_this_now X hP dX0_about_77 ?_
    refine gX_X0_now_n X hF hP dX0_about_80 ?_
    refine lv_iconst (v := 2) hx hb dX0_about_83 (by decide) ?_
    obtain ⟨v3, ev3, bv3, hf⟩ := rds hf
    refine lX_cN X hP ev3 bv3 dX0_about_84 ?_
    cases hf
    exact rI X hP hD hS dX0_about_85
  refine swc hf (fun q hf => ?_) (fun q2 hf => ?_)
  · refine lv_tableIn (off := 85) (tgt := 86) hx hb dX0_about_1 q0 q1 (by rw [q]; rfl) (by decide) ?_
    refine lv_aload_n hx hb dX0_about_86 rfl (lv_at hl 0 rfl) ?_
    refine gX_X0_this_now X hP dX0_about_87 ?_
    refine gX_X0_now_n X hF hP dX0_about_90 ?_
    refine lv_iconst (v := 3) hx hb dX0_about_93 (by decide) ?_
    obtain ⟨v4, ev4, bv4, hf⟩ := rds hf
    refine lX_cN X hP ev4 bv4 dX0_about_94 ?_
    cases hf
    exact rI X hP hD hS dX0_about_95
  refine swc hf (fun q hf => ?_) (fun q2 hf => ?_)
  · refine lv_tableIn (off := 95) (tgt := 96) hx hb dX0_about_1 q0 q1 (by rw [q]; rfl) (by decide) ?_
    refine lv_aload_n hx hb dX0_about_96 rfl (lv_at hl 0 rfl) ?_
    refine gX_X0_this_now X hP dX0_about_97 ?_
    refine gX_X0_now_n X hF hP dX0_about_100 ?_
    refine lv_iconst (v := 4) hx hb dX0_about_103 (by decide) ?_
    obtain ⟨v5, ev5, bv5, hf⟩ := rds hf
    refine lX_cN X hP ev5 bv5 dX0_about_104 ?_
    cases hf
    exact rI X hP hD hS dX0_about_105
  refine swc hf (fun q hf => ?_) (fun q2 hf => ?_)
  · refine lv_tableIn (off := 105) (tgt := 106) hx hb dX0_about_1 q0 q1 (by rw [q]; rfl) (by decide) ?_
    refine lv_aload_n hx hb dX0_about_106 rfl (lv_at hl 0 rfl) ?_
    refine gX_X0_this_now X hP dX0_about_107 ?_
    refine gX_X0_now_n X hF hP dX0_about_110 ?_
    refine lv_iconst (v := 5) hx hb dX0_about_113 (by decide) ?_
    obtain ⟨v6, ev6, bv6, hf⟩ := rds hf
    refine lX_cN X hP ev6 bv6 dX0_about_114 ?_
    cases hf
    exact rI X hP hD hS dX0_about_115
  refine swc hf (fun q hf => ?_) (fun q2 hf => ?_)
  · refine lv_tableIn (off := 115) (tgt := 116) hx hb dX0_about_1 q0 q1 (by rw [q]; rfl) (by decide) ?_
    refine lv_aload_n hx hb dX0_about_116 rfl (lv_at hl 0 rfl) ?_
    refine gX_X0_this_now X hP dX0_about_117 ?_
    refine gX_X0_now_n X hF hP dX0_about_120 ?_
    refine lv_bipush (v := 6) hx hb dX0_about_123 (by decide) ?_
    obtain ⟨v7, ev7, bv7, hf⟩ := rds hf
    refine lX_cN X hP ev7 bv7 dX0_about_125 ?_
    cases hf
    exact rI X hP hD hS dX0_about_126
  refine swc hf (fun q hf => ?_) (fun q2 hf => ?_)
  · refine lv_tableIn (off := 126) (tgt := 127) hx hb dX0_about_1 q0 q1 (by rw [q]; rfl) (by decide) ?_
    refine lv_aload_n hx hb dX0_about_127 rfl (lv_at hl 0 rfl) ?_
    refine gX_X0_this_now X hP dX0_about_128 ?_
    refine gX_X0_now_n X hF hP dX0_about_131 ?_
    refine lv_bipush (v := 7) hx hb dX0_about_134 (by decide) ?_
    obtain ⟨v8, ev8, bv8, hf⟩ := rds hf
    refine lX_cN X hP ev8 bv8 dX0_about_136 ?_
    cases hf
    exact rI X hP hD hS dX0_about_137
  refine swc hf (fun q hf => ?_) (fun q2 hf => ?_)
  · refine lv_tableIn (off := 137) (tgt := 138) hx hb dX0_about_1 q0 q1 (by rw [q]; rfl) (by decide) ?_
    refine lv_aload_n hx hb dX0_about_138 rfl (lv_at hl 0 rfl) ?_
    refine gX_X0_this_now X hP dX0_about_139 ?_
    refine gX_X0_now_n X hF hP dX0_about_142 ?_
    refine lv_bipush (v := 8) hx hb dX0_about_145 (by decide) ?_
    obtain ⟨v9, ev9, bv9, hf⟩ := rds hf
    refine lX_cN X hP ev9 bv9 dX0_about_147 ?_
    cases hf
    exact rI X hP hD hS dX0_about_148
  refine swc hf (fun q hf => ?_) (fun q2 hf => ?_)
  · refine lv_tableIn (off := 148) (tgt := 149) hx hb dX0_about_1 q0 q1 (by rw [q]; rfl) (by decide) ?_
    refine lv_aload_n hx hb dX0_about_149 rfl (lv_at hl 0 rfl) ?_
    refine gX_X0_this_taped X hP dX0_about_150 ?_
    cases hf
    exact rI X hP hD hS dX0_about_153
  exact nn hf
