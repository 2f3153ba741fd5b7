/-! WolfsHead: walks, printed by gen/genx.py -/
set_option maxHeartbeats 4000000 in
theorem met_X_in {l : Launch} {g : gG} {x0 : Int32} {x1 : Int32} {x2 : Int32} {r : Int32} (hf : X_in x0 x1 x2 = some r) : CC l yX0_in (ws_ yX0_in cX0_in 3 (some .boolean)) ({ frames := 0, cells := 0, slots := 0, locals := 0 } : Room) g [.int x0, .int x1, .int x2] ([] : va_W) (some (.int r)) ([] : va_W) 0 0 := by
  refine CC.of RX0 rfl plain_X0 (Nat.le_of_ble_eq_true rfl) (fun p e s m below meth c A ls X hP hD hS hl => ?_)
  have hx := X.1
  have hb := X.2.1
  have hown := X.2.2.2.2.2.1
  have hts := X.2.2.2.2.2.2.1
  have hl : lv_has ls 3 [(0, .int x0), (1, .int x1), (2, .int x2)] := hl
  unfold X_in at hf
  refine lv_iload_n hx hb dX0_in_0 rfl (lv_at hl 0 rfl) ?_
  refine lv_iload_n hx hb dX0_in_1 rfl (lv_at hl 1 rfl) ?_
  refine bc_lt (tgt := 14) hx hb hf dX0_in_2 (by decide) (fun hf => ?_) (fun hf => ?_)
  · refine lv_iconst (v := 0) hx hb dX0_in_14 (by decide) ?_
    cases hf
    exact rZ X rfl hP hD hS dX0_in_15
  · refine lv_iload_n hx hb dX0_in_5 rfl (lv_at hl 0 rfl) ?_
    refine lv_iload_n hx hb dX0_in_6 rfl (lv_at hl 2 rfl) ?_
    refine bc_gt (tgt := 14) hx hb hf dX0_in_7 (by decide) (fun hf => ?_) (fun hf => ?_)
    · refine lv_iconst (v := 0) hx hb dX0_in_14 (by decide) ?_
      cases hf
      exact rZ X rfl hP hD hS dX0_in_15
    · refine lv_iconst (v := 1) hx hb dX0_in_10 (by decide) ?_
      refine lv_goto (tgt := 15) hx hb dX0_in_11 (by decide) ?_
      cases hf
      exact rZ X rfl hP hD hS dX0_in_15
theorem gs_X0_X0_in : GoodIn lw_all (va_wsS RX0 61 yX0_in (ws_ yX0_in cX0_in 3 (some .boolean))) := lw_S q303 q304 q145 q305
theorem dy_X0_in : Dy yX0_in RX0 3 := by decide +kernel
set_option maxHeartbeats 4000000 in
theorem met_X_land {l : Launch} {g : gG} {h hn hi : Nat} {ad : Nat → Nat} {ra : Nat → Nat → Nat} {z : Nat → Nat} {sTaped : Int32} {sFault : Int32} {sFaultA : Int32} {sWays : Int32} {sMay : Int32} {sMust : Int32} {cTape : Nat → Int32} {cNames : Nat → Int32} {cHead : Nat → Int32} {cSure : Nat → Nat → Int32} {cN : Nat → Int32} {cRow : Nat → Int32} {cTried : Nat → Int32} {cFor : Nat → Int32} {cRoad : Nat → Int32} {cFear : Nat → Int32} {cCall : Nat → Int32} {cUnl : Nat → Int32} {cPaid : Nat → Nat → Int32} {cStep : Nat → Nat → Int32} {cGain : Nat → Nat → Int32} {cText : Nat → Option Nat} {iN : Nat → Int32} {iRow : Nat → Int32} {iFor : Nat → Int32} {iRoad : Nat → Int32} {iFear : Nat → Int32} {iCall : Nat → Int32} {iUnl : Nat → Int32} {iPaid : Nat → Nat → Int32} {iStep : Nat → Nat → Int32} {iGain : Nat → Nat → Int32} {iText : Nat → Option Nat} {tp : va_W} {x1 : Int32} {r : Int32} {ncN : Nat → Int32} {ncFor : Nat → Int32} (hf : X_land cN cFor x1 = some (r, ncN, ncFor)) : CX l yX0_land (ws_ yX0_land cX0_land 3 (some .int)) ({ frames := 1, cells := 0, slots := 0, locals := 22 } : Room) g z [.ref h, .int x1] (xW g h hn hi ad ra sTaped sFault sFaultA sWays sMay sMust cTape cNames cHead cSure cN cRow cTried cFor cRoad cFear cCall cUnl cPaid cStep cGain cText iN iRow iFor iRoad iFear iCall iUnl iPaid iStep iGain iText tp) (some (.int r)) (xW g h hn hi ad ra sTaped sFault sFaultA sWays sMay sMust cTape cNames cHead cSure ncN cRow cTried ncFor cRoad cFear cCall cUnl cPaid cStep cGain cText iN iRow iFor iRoad iFear iCall iUnl iPaid iStep iGain iText tp) 0 0 := by
  refine CX.of RX0 rfl plain_X0 (Nat.le_of_ble_eq_true rfl) (fun p e s m below meth c A ls X hF hP hD hS hl => ?_)
  have hx := X.1
  have hb := X.2.1
  have hown := X.2.2.2.2.2.1
  have hts := X.2.2.2.2.2.2.1
  have hl : lv_has ls 3 [(0, .ref h), (1, .int x1)] := hl
  unfold X_land at hf
  refine lv_aload_n hx hb dX0_land_0 rfl (lv_at hl 0 rfl) ?_
  refine gX_X0_this_now X hP dX0_land_1 ?_
  refine gX_X0_now_n X hF hP dX0_land_4 ?_
  refine lv_iconst (v := 0) hx hb dX0_land_7 (by decide) ?_
  obtain ⟨v1, ev1, bv1, hf⟩ := rds hf
  refine lX_cN X hP ev1 bv1 dX0_land_8 ?_
  refine lv_istore_n (lv' := [(2, .int v1), (0, .ref h), (1, .int x1)]) hx hb dX0_land_9 rfl hl (by decide) rfl (fun ls hl => ?_)
  refine lv_iload_n hx hb dX0_land_10 rfl (lv_at hl 2 rfl) ?_
  refine lv_iconst (v := 0) hx hb dX0_land_11 (by decide) ?_
  refine lv_bipush (v := 9) hx hb dX0_land_12 (by decide) ?_
  obtain ⟨r2, k3, hf⟩ := bd1s hf
  refine cSi (rest := []) X (met_X_in (g := g) k3) gs_X0_X0_in dy_X0_in ⟨⟨rfl, rfl⟩, Nat.le_of_ble_eq_true rfl, Nat.le_of_ble_eq_true rfl⟩ hP hD hS hl.1 rfl rfl ⟨Nat.zero_le _, Nat.zero_le _⟩ (Nat.le_of_ble_eq_true rfl) dX0_land_14 (fun H locs hP hD hS => ?_)
  refine bq_eq (tgt := 26) hx hb hf dX0_land_17 (by decide) (fun hf => ?_) (fun hf => ?_)
  · refine lv_iconst (v := (-1)) hx hb dX0_land_26 (by decide) ?_
    cases hf
    exact rI X hP hD hS dX0_land_27
  · refine lv_iload_n hx hb dX0_land_20 rfl (lv_at hl 0 rfl) ?_
    refine lv_bipush (v := 8) hx hb dX0_land_21 (by decide) ?_
    refine bc_ne (tgt := 28) hx hb hf dX0_land_23 (by decide) (fun hf => ?_) (fun hf => ?_)
    · refine lv_aload_n hx hb dX0_land_28 rfl (lv_at hl 1 rfl) ?_
      refine gX_X0_this_now X hP dX0_land_29 ?_
      refine gX_X0_now_forest X hF hP dX0_land_32 ?_
      refine lv_iload_n hx hb dX0_land_35 rfl (lv_at hl 0 rfl) ?_
      refine lv_iload_n hx hb dX0_land_36 rfl (lv_at hl 2 rfl) ?_
      obtain ⟨c4, ec4, bc4, hf⟩ := wrs hf
      refine sX_cFor X hP hD hS ec4 bc4 dX0_land_37 (fun H locs hP hD hS => ?_)
      refine lv_aload_n hx hb dX0_land_38 rfl (lv_at hl 1 rfl) ?_
      refine gX_X0_this_now X hP dX0_land_39 ?_
      refine gX_X0_now_n X hF hP dX0_land_42 ?_
      refine lv_iconst (v := 0) hx hb dX0_land_45 (by decide) ?_
      refine lv_dup2_11 hx hb dX0_land_46 rfl rfl ?_
      obtain ⟨v5, ev5, bv5, hf⟩ := rds hf
      refine lX_cN X hP ev5 bv5 dX0_land_47 ?_
      refine lv_iconst (v := 1) hx hb dX0_land_48 (by decide) ?_
      refine lv_iadd hx hb dX0_land_49 ?_
      obtain ⟨v6, ev6, hf⟩ := lts hf
      refine tpi ev6 ?_
      obtain ⟨c7, ec7, bc7, hf⟩ := wrs hf
      refine sX_cN X hP hD hS ec7 bc7 dX0_land_50 (fun H locs hP hD hS => ?_)
      refine lv_iload_n hx hb dX0_land_51 rfl (lv_at hl 0 rfl) ?_
      cases hf
      exact rI X hP hD hS dX0_land_52
    · refine lv_iconst (v := (-1)) hx hb dX0_land_26 (by decide) ?_
      cases hf
      exact rI X hP hD hS dX0_land_27
set_option maxHeartbeats 4000000 in
theorem met_X_isLand {l : Launch} {g : gG} {h hn hi : Nat} {ad : Nat → Nat} {ra : Nat → Nat → Nat} {z : Nat → Nat} {sTaped : Int32} {sFault : Int32} {sFaultA : Int32} {sWays : Int32} {sMay : Int32} {sMust : Int32} {cTape : Nat → Int32} {cNames : Nat → Int32} {cHead : Nat → Int32} {cSure : Nat → Nat → Int32} {cN : Nat → Int32} {cRow : Nat → Int32} {cTried : Nat → Int32} {cFor : Nat → Int32} {cRoad : Nat → Int32} {cFear : Nat → Int32} {cCall : Nat → Int32} {cUnl : Nat → Int32} {cPaid : Nat → Nat → Int32} {cStep : Nat → Nat → Int32} {cGain : Nat → Nat → Int32} {cText : Nat → Option Nat} {iN : Nat → Int32} {iRow : Nat → Int32} {iFor : Nat → Int32} {iRoad : Nat → Int32} {iFear : Nat → Int32} {iCall : Nat → Int32} {iUnl : Nat → Int32} {iPaid : Nat → Nat → Int32} {iStep : Nat → Nat → Int32} {iGain : Nat → Nat → Int32} {iText : Nat → Option Nat} {tp : va_W} {x1 : Int32} {r : Int32} (hf : X_isLand cN x1 = some r) : CX l yX0_isLand (ws_ yX0_isLand cX0_isLand 2 (some .boolean)) ({ frames := 1, cells := 0, slots := 0, locals := 22 } : Room) g z [.ref h, .int x1] (xW g h hn hi ad ra sTaped sFault sFaultA sWays sMay sMust cTape cNames cHead cSure cN cRow cTried cFor cRoad cFear cCall cUnl cPaid cStep cGain cText iN iRow iFor iRoad iFear iCall iUnl iPaid iStep iGain iText tp) (some (.int r)) (xW g h hn hi ad ra sTaped sFault sFaultA sWays sMay sMust cTape cNames cHead cSure cN cRow cTried cFor cRoad cFear cCall cUnl cPaid cStep cGain cText iN iRow iFor iRoad iFear iCall iUnl iPaid iStep iGain iText tp) 0 0 := by
  refine CX.of RX0 rfl plain_X0 (Nat.le_of_ble_eq_true rfl) (fun p e s m below meth c A ls X hF hP hD hS hl => ?_)
  have hx := X.1
  have hb := X.2.1
  have hown := X.2.2.2.2.2.1
  have hts := X.2.2.2.2.2.2.1
  have hl : lv_has ls 2 [(0, .ref h), (1, .int x1)] := hl
  unfold X_isLand at hf
  refine lv_iload_n hx hb dX0_isLand_0 rfl (lv_at hl 1 rfl) ?_
  refine lv_iconst (v := 0) hx hb dX0_isLand_1 (by decide) ?_
  refine lv_aload_n hx hb dX0_isLand_2 rfl (lv_at hl 0 rfl) ?_
  refine gX_X0_this_now X hP dX0_isLand_3 ?_
  refine gX_X0_now_n X hF hP dX0_isLand_6 ?_
  refine lv_iconst (v := 0) hx hb dX0_isLand_9 (by decide) ?_
  obtain ⟨v1, ev1, bv1, hf⟩ := rds hf
  refine lX_cN X hP ev1 bv1 dX0_isLand_10 ?_
  refine lv_iconst (v := 1) hx hb dX0_isLand_11 (by decide) ?_
  refine lv_isub hx hb dX0_isLand_12 ?_
  obtain ⟨r2, k3, hf⟩ := bd1s hf
  refine cSi (rest := []) X (met_X_in (g := g) k3) gs_X0_X0_in dy_X0_in ⟨⟨rfl, rfl⟩, Nat.le_of_ble_eq_true rfl, Nat.le_of_ble_eq_true rfl⟩ hP hD hS hl.1 rfl rfl ⟨Nat.zero_le _, Nat.zero_le _⟩ (Nat.le_of_ble_eq_true rfl) dX0_isLand_13 (fun H locs hP hD hS => ?_)
  obtain ⟨hz, hf⟩ := zks hf
  cases hf
  exact rZ X hz hP hD hS dX0_isLand_16
set_option maxHeartbeats 4000000 in
theorem met_X_isIn {l : Launch} {g : gG} {x0 : Int32} {x1 : Int32} {r : Int32} (hf : X_isIn x0 x1 = some r) : CC l yX0_isIn (ws_ yX0_isIn cX0_isIn 2 (some .boolean)) ({ frames := 0, cells := 0, slots := 0, locals := 0 } : Room) g [.int x0, .int x1] ([] : va_W) (some (.int r)) ([] : va_W) 0 0 := by
  refine CC.of RX0 rfl plain_X0 (Nat.le_of_ble_eq_true rfl) (fun p e s m below meth c A ls X hP hD hS hl => ?_)
  have hx := X.1
  have hb := X.2.1
  have hown := X.2.2.2.2.2.1
  have hts := X.2.2.2.2.2.2.1
  have hl : lv_has ls 2 [(0, .int x0), (1, .int x1)] := hl
  unfold X_isIn at hf
  refine lv_iload_n hx hb dX0_isIn_0 rfl (lv_at hl 0 rfl) ?_
  refine lv_iload_n hx hb dX0_isIn_1 rfl (lv_at hl 1 rfl) ?_
  refine lv_ishr hx hb dX0_isIn_2 ?_
  refine lv_iconst (v := 1) hx hb dX0_isIn_3 (by decide) ?_
  refine lv_iand hx hb dX0_isIn_4 ?_
  refine lv_iconst (v := 1) hx hb dX0_isIn_5 (by decide) ?_
  refine bc_ne (tgt := 13) hx hb hf dX0_isIn_6 (by decide) (fun hf => ?_) (fun hf => ?_)
  · refine lv_iconst (v := 0) hx hb dX0_isIn_13 (by decide) ?_
    cases hf
    exact rZ X rfl hP hD hS dX0_isIn_14
  · refine lv_iconst (v := 1) hx hb dX0_isIn_9 (by decide) ?_
    refine lv_goto (tgt := 14) hx hb dX0_isIn_10 (by decide) ?_
    cases hf
    exact rZ X rfl hP hD hS dX0_isIn_14
theorem gs_X0_X0_isIn : GoodIn lw_all (va_wsS RX0 82 yX0_isIn (ws_ yX0_isIn cX0_isIn 2 (some .boolean))) := lw_S q318 q319 q145 q320
theorem dy_X0_isIn : Dy yX0_isIn RX0 2 := by decide +kernel
set_option maxHeartbeats 4000000 in
theorem met_X_isRoad {l : Launch} {g : gG} {h hn hi : Nat} {ad : Nat → Nat} {ra : Nat → Nat → Nat} {z : Nat → Nat} {sTaped : Int32} {sFault : Int32} {sFaultA : Int32} {sWays : Int32} {sMay : Int32} {sMust : Int32} {cTape : Nat → Int32} {cNames : Nat → Int32} {cHead : Nat → Int32} {cSure : Nat → Nat → Int32} {cN : Nat → Int32} {cRow : Nat → Int32} {cTried : Nat → Int32} {cFor : Nat → Int32} {cRoad : Nat → Int32} {cFear : Nat → Int32} {cCall : Nat → Int32} {cUnl : Nat → Int32} {cPaid : Nat → Nat → Int32} {cStep : Nat → Nat → Int32} {cGain : Nat → Nat → Int32} {cText : Nat → Option Nat} {iN : Nat → Int32} {iRow : Nat → Int32} {iFor : Nat → Int32} {iRoad : Nat → Int32} {iFear : Nat → Int32} {iCall : Nat → Int32} {iUnl : Nat → Int32} {iPaid : Nat → Nat → Int32} {iStep : Nat → Nat → Int32} {iGain : Nat → Nat → Int32} {iText : Nat → Option Nat} {tp : va_W} {x1 : Int32} {x2 : Int32} {r : Int32} (hf : X_isRoad cRoad x1 x2 = some r) : CX l yX0_isRoad (ws_ yX0_isRoad cX0_isRoad 3 (some .boolean)) ({ frames := 1, cells := 0, slots := 0, locals := 21 } : Room) g z [.ref h, .int x1, .int x2] (xW g h hn hi ad ra sTaped sFault sFaultA sWays sMay sMust cTape cNames cHead cSure cN cRow cTried cFor cRoad cFear cCall cUnl cPaid cStep cGain cText iN iRow iFor iRoad iFear iCall iUnl iPaid iStep iGain iText tp) (some (.int r)) (xW g h hn hi ad ra sTaped sFault sFaultA sWays sMay sMust cTape cNames cHead cSure cN cRow cTried cFor cRoad cFear cCall cUnl cPaid cStep cGain cText iN iRow iFor iRoad iFear iCall iUnl iPaid iStep iGain iText tp) 0 0 := by
  refine CX.of RX0 rfl plain_X0 (Nat.le_of_ble_eq_true rfl) (fun p e s m below meth c A ls X hF hP hD hS hl => ?_)
  have hx := X.1
  have hb := X.2.1
  have hown := X.2.2.2.2.2.1
  have hts := X.2.2.2.2.2.2.1
  have hl : lv_has ls 3 [(0, .ref h), (1, .int x1), (2, .int x2)] := hl
  unfold X_isRoad at hf
  refine lv_aload_n hx hb dX0_isRoad_0 rfl (lv_at hl 0 rfl) ?_
  refine gX_X0_this_now X hP dX0_isRoad_1 ?_
  refine gX_X0_now_road X hF hP dX0_isRoad_4 ?_
  refine lv_iload_n hx hb dX0_isRoad_7 rfl (lv_at hl 1 rfl) ?_
  obtain ⟨v1, ev1, bv1, hf⟩ := rds hf
  refine lX_cRoad X hP ev1 bv1 dX0_isRoad_8 ?_
  refine lv_iload_n hx hb dX0_isRoad_9 rfl (lv_at hl 2 rfl) ?_
  obtain ⟨r2, k3, hf⟩ := bd1s hf
  refine cSi (rest := []) X (met_X_isIn (g := g) k3) gs_X0_X0_isIn dy_X0_isIn ⟨⟨rfl, rfl⟩, Nat.le_of_ble_eq_true rfl, Nat.le_of_ble_eq_true rfl⟩ hP hD hS hl.1 rfl rfl ⟨Nat.zero_le _, Nat.zero_le _⟩ (Nat.le_of_ble_eq_true rfl) dX0_isRoad_10 (fun H locs hP hD hS => ?_)
  obtain ⟨hz, hf⟩ := zks hf
  cases hf
  exact rZ X hz hP hD hS dX0_isRoad_13
theorem gw_X0_X0_isLand : GoodIn lw_all (wsV RX0 86 RX0 yX0_isLand (ws_ yX0_isLand cX0_isLand 2 (some .boolean))) := lw_V q310 q312 qs0 q145 q313
theorem dy_X0_isLand : Dy yX0_isLand RX0 1 := by decide +kernel
theorem gw_X0_X0_isRoad : GoodIn lw_all (wsV RX0 89 RX0 yX0_isRoad (ws_ yX0_isRoad cX0_isRoad 3 (some .boolean))) := lw_V q314 q316 qs1 q145 q317
theorem dy_X0_isRoad : Dy yX0_isRoad RX0 2 := by decide +kernel
set_option maxHeartbeats 4000000 in
theorem met_X_road {l : Launch} {g : gG} {h hn hi : Nat} {ad : Nat → Nat} {ra : Nat → Nat → Nat} {z : Nat → Nat} {sTaped : Int32} {sFault : Int32} {sFaultA : Int32} {sWays : Int32} {sMay : Int32} {sMust : Int32} {cTape : Nat → Int32} {cNames : Nat → Int32} {cHead : Nat → Int32} {cSure : Nat → Nat → Int32} {cN : Nat → Int32} {cRow : Nat → Int32} {cTried : Nat → Int32} {cFor : Nat → Int32} {cRoad : Nat → Int32} {cFear : Nat → Int32} {cCall : Nat → Int32} {cUnl : Nat → Int32} {cPaid : Nat → Nat → Int32} {cStep : Nat → Nat → Int32} {cGain : Nat → Nat → Int32} {cText : Nat → Option Nat} {iN : Nat → Int32} {iRow : Nat → Int32} {iFor : Nat → Int32} {iRoad : Nat → Int32} {iFear : Nat → Int32} {iCall : Nat → Int32} {iUnl : Nat → Int32} {iPaid : Nat → Nat → Int32} {iStep : Nat → Nat → Int32} {iGain : Nat → Nat → Int32} {iText : Nat → Option Nat} {tp : va_W} {x1 : Int32} {x2 : Int32} {r : Int32} {ncRoad : Nat → Int32} (hf : X_road cN cRoad x1 x2 = some (r, ncRoad)) : CX l yX0_road (ws_ yX0_road cX0_road 3 (some .boolean)) ({ frames := 2, cells := 0, slots := 0, locals := 43 } : Room) g z [.ref h, .int x1, .int x2] (xW g h hn hi ad ra sTaped sFault sFaultA sWays sMay sMust cTape cNames cHead cSure cN cRow cTried cFor cRoad cFear cCall cUnl cPaid cStep cGain cText iN iRow iFor iRoad iFear iCall iUnl iPaid iStep iGain iText tp) (some (.int r)) (xW g h hn hi ad ra sTaped sFault sFaultA sWays sMay sMust cTape cNames cHead cSure cN cRow cTried cFor ncRoad cFear cCall cUnl cPaid cStep cGain cText iN iRow iFor iRoad iFear iCall iUnl iPaid iStep iGain iText tp) 0 0 := by
  refine CX.of RX0 rfl plain_X0 (Nat.le_of_ble_eq_true rfl) (fun p e s m below meth c A ls X hF hP hD hS hl => ?_)
  have hx := X.1
  have hb := X.2.1
  have hown := X.2.2.2.2.2.1
  have hts := X.2.2.2.2.2.2.1
  have hl : lv_has ls 3 [(0, .ref h), (1, .int x1), (2, .int x2)] := hl
  unfold X_road at hf
  refine lv_aload_n hx hb dX0_road_0 rfl (lv_at hl 0 rfl) ?_
  refine lv_iload_n hx hb dX0_road_1 rfl (lv_at hl 1 rfl) ?_
  obtain ⟨r1, k2, hf⟩ := bd1s hf
  refine xVi (rest := []) X hF (met_X_isLand k2) gw_X0_X0_isLand dy_X0_isLand ⟨⟨rfl, rfl⟩, Nat.le_of_ble_eq_true rfl, Nat.le_of_ble_eq_true rfl⟩ hP hD hS hl.1 rcX rfl rfl ⟨Nat.zero_le _, Nat.zero_le _⟩ (Nat.le_of_ble_eq_true rfl) dX0_road_2 (fun H locs hP hD hS => ?_)
  refine bq_eq (tgt := 30) hx hb hf dX0_road_5 (by decide) (fun hf => ?_) (fun hf => ?_)
  · refine lv_iconst (v := 0) hx hb dX0_road_30 (by decide) ?_
    cases hf
    exact rZ X rfl hP hD hS dX0_road_31
  · refine lv_aload_n hx hb dX0_road_8 rfl (lv_at hl 0 rfl) ?_
    refine lv_iload_n hx hb dX0_road_9 rfl (lv_at hl 2 rfl) ?_
    obtain ⟨r3, k4, hf⟩ := bd1s hf
    refine xVi (rest := []) X hF (met_X_isLand k4) gw_X0_X0_isLand dy_X0_isLand ⟨⟨rfl, rfl⟩, Nat.le_of_ble_eq_true rfl, Nat.le_of_ble_eq_true rfl⟩ hP hD hS hl.1 rcX rfl rfl ⟨Nat.zero_le _, Nat.zero_le _⟩ (Nat.le_of_ble_eq_true rfl) dX0_road_10 (fun H locs hP hD hS => ?_)
    refine bq_eq (tgt := 30) hx hb hf dX0_road_13 (by decide) (fun hf => ?_) (fun hf => ?_)
    · refine lv_iconst (v := 0) hx hb dX0_road_30 (by decide) ?_
      cases hf
      exact rZ X rfl hP hD hS dX0_road_31
    · refine lv_iload_n hx hb dX0_road_16 rfl (lv_at hl 1 rfl) ?_
      refine lv_iload_n hx hb dX0_road_17 rfl (lv_at hl 2 rfl) ?_
      refine bc_eq (tgt := 30) hx hb hf dX0_road_18 (by decide) (fun hf => ?_) (fun hf => ?_)
      · refine lv_iconst (v := 0) hx hb dX0_road_30 (by decide) ?_
        cases hf
        exact rZ X rfl hP hD hS dX0_road_31
      · refine lv_aload_n hx hb dX0_road_21 rfl (lv_at hl 0 rfl) ?_
        refine lv_iload_n hx hb dX0_road_22 rfl (lv_at hl 1 rfl) ?_
        refine lv_iload_n hx hb dX0_road_23 rfl (lv_at hl 2 rfl) ?_
        obtain ⟨r5, k6, hf⟩ := bd1s hf
        refine xVi (rest := []) X hF (met_X_isRoad k6) gw_X0_X0_isRoad dy_X0_isRoad ⟨⟨rfl, rfl⟩, Nat.le_of_ble_eq_true rfl, Nat.le_of_ble_eq_true rfl⟩ hP hD hS hl.1 rcX rfl rfl ⟨Nat.zero_le _, Nat.zero_le _⟩ (Nat.le_of_ble_eq_true rfl) dX0_road_24 (fun H locs hP hD hS => ?_)
        refine bq_eq (tgt := 32) hx hb hf dX0_road_27 (by decide) (fun hf => ?_) (fun hf => ?_)
        · refine lv_aload_n hx hb dX0_road_32 rfl (lv_at hl 0 rfl) ?_
          refine gX_X0_this_now X hP dX0_road_33 ?_
          refine gX_X0_now_road X hF hP dX0_road_36 ?_
          refine lv_iload_n hx hb dX0_road_39 rfl (lv_at hl 1 rfl) ?_
          refine lv_dup2_11 hx hb dX0_road_40 rfl rfl ?_
          obtain ⟨v7, ev7, bv7, hf⟩ := rds hf
          refine lX_cRoad X hP ev7 bv7 dX0_road_41 ?_
          refine lv_iconst (v := 1) hx hb dX0_road_42 (by decide) ?_
          refine lv_iload_n hx hb dX0_road_43 rfl (lv_at hl 2 rfl) ?_
          refine lv_ishl hx hb dX0_road_44 ?_
          refine lv_ior hx hb dX0_road_45 ?_
          obtain ⟨v8, ev8, hf⟩ := lts hf
          refine tpi ev8 ?_
          obtain ⟨c9, ec9, bc9, hf⟩ := wrs hf
          refine sX_cRoad X hP hD hS ec9 bc9 dX0_road_46 (fun H locs hP hD hS => ?_)
          refine lv_aload_n hx hb dX0_road_47 rfl (lv_at hl 0 rfl) ?_
          refine gX_X0_this_now X hP dX0_road_48 ?_
          refine gX_X0_now_road X hF hP dX0_road_51 ?_
          refine lv_iload_n hx hb dX0_road_54 rfl (lv_at hl 2 rfl) ?_
          refine lv_dup2_11 hx hb dX0_road_55 rfl rfl ?_
          obtain ⟨v10, ev10, bv10, hf⟩ := rds hf
          refine lX_cRoad X hP ev10 bv10 dX0_road_56 ?_
          refine lv_iconst (v := 1) hx hb dX0_road_57 (by decide) ?_
          refine lv_iload_n hx hb dX0_road_58 rfl (lv_at hl 1 rfl) ?_
          refine lv_ishl hx hb dX0_road_59 ?_
          refine lv_ior hx hb dX0_road_60 ?_
          obtain ⟨v11, ev11, hf⟩ := lts hf
          refine tpi ev11 ?_
          obtain ⟨c12, ec12, bc12, hf⟩ := wrs hf
          refine sX_cRoad X hP hD hS ec12 bc12 dX0_road_61 (fun H locs hP hD hS => ?_)
          refine lv_iconst (v := 1) hx hb dX0_road_62 (by decide) ?_
          cases hf
          exact rZ X rfl hP hD hS dX0_road_63
        · refine lv_iconst (v := 0) hx hb dX0_road_30 (by decide) ?_
          cases hf
          exact rZ X rfl hP hD hS dX0_road_31
set_option maxHeartbeats 4000000 in
theorem met_S_tells {l : Launch} {g : gG} {h hn hi : Nat} {ad : Nat → Nat} {ra : Nat → Nat → Nat} {z : Nat → Nat} {sTaped : Int32} {sFault : Int32} {sFaultA : Int32} {sWays : Int32} {sMay : Int32} {sMust : Int32} {cTape : Nat → Int32} {cNames : Nat → Int32} {cHead : Nat → Int32} {cSure : Nat → Nat → Int32} {cN : Nat → Int32} {cRow : Nat → Int32} {cTried : Nat → Int32} {cFor : Nat → Int32} {cRoad : Nat → Int32} {cFear : Nat → Int32} {cCall : Nat → Int32} {cUnl : Nat → Int32} {cPaid : Nat → Nat → Int32} {cStep : Nat → Nat → Int32} {cGain : Nat → Nat → Int32} {cText : Nat → Option Nat} {iN : Nat → Int32} {iRow : Nat → Int32} {iFor : Nat → Int32} {iRoad : Nat → Int32} {iFear : Nat → Int32} {iCall : Nat → Int32} {iUnl : Nat → Int32} {iPaid : Nat → Nat → Int32} {iStep : Nat → Nat → Int32} {iGain : Nat → Nat → Int32} {iText : Nat → Option Nat} {tp : va_W} {x1 : Int32} {x2 : Int32} {ncRow : Nat → Int32} {ncStep : Nat → Nat → Int32} {φ : Nat} (hf : S_tells φ cN cRow cStep x1 x2 = some (ncRow, ncStep)) : CX l yX1_tells (ws_ yX1_tells cX1_tells 4 none) ({ frames := 0, cells := 0, slots := 0, locals := 0 } : Room) g z [.ref hn, .int x1, .int x2] (xW g h hn hi ad ra sTaped sFault sFaultA sWays sMay sMust cTape cNames cHead cSure cN cRow cTried cFor cRoad cFear cCall cUnl cPaid cStep cGain cText iN iRow iFor iRoad iFear iCall iUnl iPaid iStep iGain iText tp) none (xW g h hn hi ad ra sTaped sFault sFaultA sWays sMay sMust cTape cNames cHead cSure cN ncRow cTried cFor cRoad cFear cCall cUnl cPaid ncStep cGain cText iN iRow iFor iRoad iFear iCall iUnl iPaid iStep iGain iText tp) 0 0 := by
  refine CX.of RX1 rfl plain_X1 (Nat.le_of_ble_eq_true rfl) (fun p e s m below meth c A ls X hF hP hD hS hl => ?_)
  have hx := X.1
  have hb := X.2.1
  have hown := X.2.2.2.2.2.1
  have hts := X.2.2.2.2.2.2.1
  have hl : lv_has ls 4 [(0, .ref hn), (1, .int x1), (2, .int x2)] := hl
  unfold S_tells at hf
  refine lv_aload_n hx hb dX1_tells_0 rfl (lv_at hl 0 rfl) ?_
  refine gX_X1_now_row X hP dX1_tells_1 ?_
  refine lv_iload_n hx hb dX1_tells_4 rfl (lv_at hl 1 rfl) ?_
  refine lv_iload_n hx hb dX1_tells_5 rfl (lv_at hl 2 rfl) ?_
  obtain ⟨c1, ec1, bc1, hf⟩ := wrs hf
  refine sX_cRow X hP hD hS ec1 bc1 dX1_tells_6 (fun H locs hP hD hS => ?_)
  refine lv_iconst (v := 0) hx hb dX1_tells_7 (by decide) ?_
  refine lv_istore_n (lv' := [(3, .int 0), (0, .ref hn), (1, .int x1), (2, .int x2)]) hx hb dX1_tells_8 rfl hl (by decide) rfl (fun ls hl => ?_)
  obtain ⟨c4, k9, hf⟩ := bd1s hf
  have hE6 : ∀ (H : Heap) (locs : List Loc) (ls : Array Slot), va_P g.1 vwCl (xW g h hn hi ad ra sTaped sFault sFaultA sWays sMay sMust cTape cNames cHead cSure cN c1 cTried cFor cRoad cFear cCall cUnl cPaid c4 cGain cText iN iRow iFor iRoad iFear iCall iUnl iPaid iStep iGain iText tp) H → va_D A (xW g h hn hi ad ra sTaped sFault sFaultA sWays sMay sMust cTape cNames cHead cSure cN c1 cTried cFor cRoad cFear cCall cUnl cPaid c4 cGain cText iN iRow iFor iRoad iFear iCall iUnl iPaid iStep iGain iText tp) → va_S A s.heap H locs → lv_has ls 4 [] → W p l e ({ frames := 0, cells := 0, slots := 0, locals := 0 } : Room) s m ([.ref hn, .int x1, .int x2] : List Value).toArray below meth c H locs 0 0 (MQ below (QQ g none (xW g h hn hi ad ra sTaped sFault sFaultA sWays sMay sMust cTape cNames cHead cSure cN ncRow cTried cFor cRoad cFear cCall cUnl cPaid ncStep cGain cText iN iRow iFor iRoad iFear iCall iUnl iPaid iStep iGain iText tp) A) ([.ref hn, .int x1, .int x2] : List Value).toArray s 0 0 A) (F0 m 34 ls []) := by
    intro H locs ls hP hD hS hl
    cases hf
    exact rV X hP hD hS dX1_tells_34
  have hL7 : ∀ (n5 : Nat) (v2 : Int32) (c3 : Nat → Nat → Int32), S_tells_L9 φ x1 x2 cN n5 v2 c3 = some c4 → ∀ (H : Heap) (locs : List Loc) (ls : Array Slot), va_P g.1 vwCl (xW g h hn hi ad ra sTaped sFault sFaultA sWays sMay sMust cTape cNames cHead cSure cN c1 cTried cFor cRoad cFear cCall cUnl cPaid c3 cGain cText iN iRow iFor iRoad iFear iCall iUnl iPaid iStep iGain iText tp) H → va_D A (xW g h hn hi ad ra sTaped sFault sFaultA sWays sMay sMust cTape cNames cHead cSure cN c1 cTried cFor cRoad cFear cCall cUnl cPaid c3 cGain cText iN iRow iFor iRoad iFear iCall iUnl iPaid iStep iGain iText tp) → va_S A s.heap H locs → lv_has ls 4 [(0, .ref hn), (1, .int x1), (2, .int x2), (3, .int v2)] → W p l e ({ frames := 0, cells := 0, slots := 0, locals := 0 } : Room) s m ([.ref hn, .int x1, .int x2] : List Value).toArray below meth c H locs 0 0 (MQ below (QQ g none (xW g h hn hi ad ra sTaped sFault sFaultA sWays sMay sMust cTape cNames cHead cSure cN ncRow cTried cFor cRoad cFear cCall cUnl cPaid ncStep cGain cText iN iRow iFor iRoad iFear iCall iUnl iPaid iStep iGain iText tp) A) ([.ref hn, .int x1, .int x2] : List Value).toArray s 0 0 A) (F0 m 9 ls []) := by
    intro n5
    induction n5 with
    | zero =>
      intro v2 c3 hf
      exact nn hf
    | succ n5 ih8 =>
      intro v2 c3 hf H locs ls hP hD hS hl
      rw [S_tells_L9] at hf
      refine lv_iload_n hx hb dX1_tells_9 rfl (lv_at hl 3 rfl) ?_
      refine lv_aload_n hx hb dX1_tells_10 rfl (lv_at hl 0 rfl) ?_
      refine gX_X1_now_n X hP dX1_tells_11 ?_
      refine lv_iconst (v := 4) hx hb dX1_tells_14 (by decide) ?_
      obtain ⟨v10, ev10, bv10, hf⟩ := rds hf
      refine lX_cN X hP ev10 bv10 dX1_tells_15 ?_
      refine bc_ge (tgt := 34) hx hb hf dX1_tells_16 (by decide) (fun hf => ?_) (fun hf => ?_)
      · cases hf
        exact hE6 _ _ _ hP hD hS (lv_sub hl [] rfl)
      · refine lv_aload_n hx hb dX1_tells_19 rfl (lv_at hl 0 rfl) ?_
        refine gX_X1_now_step X hP dX1_tells_20 ?_
        refine lv_iload_n hx hb dX1_tells_23 rfl (lv_at hl 3 rfl) ?_
        obtain ⟨b11, hf⟩ := inbs hf
        refine aX_cStep X hP b11 dX1_tells_24 ?_
        refine lv_iload_n hx hb dX1_tells_25 rfl (lv_at hl 1 rfl) ?_
        refine lv_iload_n hx hb dX1_tells_26 rfl (lv_at hl 2 rfl) ?_
        obtain ⟨f13, ef13, bf13, hf⟩ := wrs hf
        obtain ⟨c12, ec12, hf⟩ := lts hf
        refine s2X_cStep X hP hD hS ef13 ec12 b11 bf13 dX1_tells_27 (fun H locs hP hD hS => ?_)
        obtain ⟨v14, ev14, hf⟩ := lts hf
        refine lv_iinc (v := v14) (lv' := [(3, .int v14), (0, .ref hn), (1, .int x1), (2, .int x2)]) hx hb dX1_tells_28 hl (k := 3) rfl (by rw [ev14]; rfl) (by decide) rfl (fun ls hl => ?_)
        refine lv_goto (tgt := 9) hx hb dX1_tells_31 (by decide) ?_
        exact ih8 _ _ hf _ _ _ hP hD hS (lv_sub hl [1, 2, 3, 0] rfl)
  exact hL7 _ _ _ k9 _ _ _ hP hD hS (lv_sub hl [1, 2, 3, 0] rfl)
theorem gw_X0_X1_tells : GoodIn lw_all (wsV RX0 95 RX1 yX1_tells (ws_ yX1_tells cX1_tells 4 none)) := lw_V q325 q326 q327 q146 q328
theorem dy_X1_tells : Dy yX1_tells RX1 2 := by decide +kernel
set_option maxHeartbeats 4000000 in
theorem met_X_person {l : Launch} {g : gG} {h hn hi : Nat} {ad : Nat → Nat} {ra : Nat → Nat → Nat} {z : Nat → Nat} {sTaped : Int32} {sFault : Int32} {sFaultA : Int32} {sWays : Int32} {sMay : Int32} {sMust : Int32} {cTape : Nat → Int32} {cNames : Nat → Int32} {cHead : Nat → Int32} {cSure : Nat → Nat → Int32} {cN : Nat → Int32} {cRow : Nat → Int32} {cTried : Nat → Int32} {cFor : Nat → Int32} {cRoad : Nat → Int32} {cFear : Nat → Int32} {cCall : Nat → Int32} {cUnl : Nat → Int32} {cPaid : Nat → Nat → Int32} {cStep : Nat → Nat → Int32} {cGain : Nat → Nat → Int32} {cText : Nat → Option Nat} {iN : Nat → Int32} {iRow : Nat → Int32} {iFor : Nat → Int32} {iRoad : Nat → Int32} {iFear : Nat → Int32} {iCall : Nat → Int32} {iUnl : Nat → Int32} {iPaid : Nat → Nat → Int32} {iStep : Nat → Nat → Int32} {iGain : Nat → Nat → Int32} {iText : Nat → Option Nat} {tp : va_W} {x1 : Int32} {x2 : Int32} {x3 : Int32} {x4 : Int32} {r : Int32} {ncN : Nat → Int32} {ncRow : Nat → Int32} {ncFear : Nat → Int32} {ncStep : Nat → Nat → Int32} {φ : Nat} (hf : X_person φ cN cRow cFear cStep x1 x2 x3 x4 = some (r, ncN, ncRow, ncFear, ncStep)) : CX l yX0_person (ws_ yX0_person cX0_person 6 (some .int)) ({ frames := 2, cells := 0, slots := 0, locals := 43 } : Room) g z [.ref h, .int x1, .int x2, .int x3, .int x4] (xW g h hn hi ad ra sTaped sFault sFaultA sWays sMay sMust cTape cNames cHead cSure cN cRow cTried cFor cRoad cFear cCall cUnl cPaid cStep cGain cText iN iRow iFor iRoad iFear iCall iUnl iPaid iStep iGain iText tp) (some (.int r)) (xW g h hn hi ad ra sTaped sFault sFaultA sWays sMay sMust cTape cNames cHead cSure ncN ncRow cTried cFor cRoad ncFear cCall cUnl cPaid ncStep cGain cText iN iRow iFor iRoad iFear iCall iUnl iPaid iStep iGain iText tp) 0 0 := by
  refine CX.of RX0 rfl plain_X0 (Nat.le_of_ble_eq_true rfl) (fun p e s m below meth c A ls X hF hP hD hS hl => ?_)
  have hx := X.1
  have hb := X.2.1
  have hown := X.2.2.2.2.2.1
  have hts := X.2.2.2.2.2.2.1
  have hl : lv_has ls 6 [(0, .ref h), (1, .int x1), (2, .int x2), (3, .int x3), (4, .int x4)] := hl
  unfold X_person at hf
  refine lv_aload_n hx hb dX0_person_0 rfl (lv_at hl 0 rfl) ?_
  refine gX_X0_this_now X hP dX0_person_1 ?_
  refine gX_X0_now_n X hF hP dX0_person_4 ?_
  refine lv_iconst (v := 1) hx hb dX0_person_7 (by decide) ?_
  obtain ⟨v1, ev1, bv1, hf⟩ := rds hf
  refine lX_cN X hP ev1 bv1 dX0_person_8 ?_
  refine lv_istore (lv' := [(5, .int v1), (0, .ref h), (1, .int x1), (2, .int x2), (3, .int x3), (4, .int x4)]) hx hb dX0_person_9 hl (by decide) rfl (fun ls hl => ?_)
  refine lv_aload_n hx hb dX0_person_11 rfl (lv_at hl 1 rfl) ?_
  refine lv_iload_n hx hb dX0_person_12 rfl (lv_at hl 2 rfl) ?_
  obtain ⟨r2, k3, hf⟩ := bd1s hf
  refine xVi (rest := []) X hF (met_X_isLand k3) gw_X0_X0_isLand dy_X0_isLand ⟨⟨rfl, rfl⟩, Nat.le_of_ble_eq_true rfl, Nat.le_of_ble_eq_true rfl⟩ hP hD hS hl.1 rcX rfl rfl ⟨Nat.zero_le _, Nat.zero_le _⟩ (Nat.le_of_ble_eq_true rfl) dX0_person_13 (fun H locs hP hD hS => ?_)
  refine bq_eq (tgt := 59) hx hb hf dX0_person_16 (by decide) (fun hf => ?_) (fun hf => ?_)
  · refine lv_iconst (v := (-1)) hx hb dX0_person_59 (by decide) ?_
    cases hf
    exact rI X hP hD hS dX0_person_60
  · refine lv_iload_n hx hb dX0_person_19 rfl (lv_at hl 3 rfl) ?_
    refine lv_iconst (v := 0) hx hb dX0_person_20 (by decide) ?_
    refine lv_bipush (v := 9) hx hb dX0_person_21 (by decide) ?_
    obtain ⟨r4, k5, hf⟩ := bd1s hf
    refine cSi (rest := []) X (met_X_in (g := g) k5) gs_X0_X0_in dy_X0_in ⟨⟨rfl, rfl⟩, Nat.le_of_ble_eq_true rfl, Nat.le_of_ble_eq_true rfl⟩ hP hD hS hl.1 rfl rfl ⟨Nat.zero_le _, Nat.zero_le _⟩ (Nat.le_of_ble_eq_true rfl) dX0_person_23 (fun H locs hP hD hS => ?_)
    refine bq_eq (tgt := 59) hx hb hf dX0_person_26 (by decide) (fun hf => ?_) (fun hf => ?_)
    · refine lv_iconst (v := (-1)) hx hb dX0_person_59 (by decide) ?_
      cases hf
      exact rI X hP hD hS dX0_person_60
    · refine lv_iload_n hx hb dX0_person_29 rfl (lv_at hl 4 rfl) ?_
      refine lv_iconst (v := 0) hx hb dX0_person_30 (by decide) ?_
      refine lv_sipush (v := 9999) hx hb dX0_person_31 (by decide) ?_
      obtain ⟨r6, k7, hf⟩ := bd1s hf
      refine cSi (rest := []) X (met_X_in (g := g) k7) gs_X0_X0_in dy_X0_in ⟨⟨rfl, rfl⟩, Nat.le_of_ble_eq_true rfl, Nat.le_of_ble_eq_true rfl⟩ hP hD hS hl.1 rfl rfl ⟨Nat.zero_le _, Nat.zero_le _⟩ (Nat.le_of_ble_eq_true rfl) dX0_person_34 (fun H locs hP hD hS => ?_)
      refine bq_eq (tgt := 59) hx hb hf dX0_person_37 (by decide) (fun hf => ?_) (fun hf => ?_)
      · refine lv_iconst (v := (-1)) hx hb dX0_person_59 (by decide) ?_
        cases hf
        exact rI X hP hD hS dX0_person_60
      · refine lv_iload hx hb dX0_person_40 (lv_at hl 5 rfl) ?_
        refine lv_iconst (v := 0) hx hb dX0_person_42 (by decide) ?_
        refine lv_sipush (v := 9999) hx hb dX0_person_43 (by decide) ?_
        obtain ⟨r8, k9, hf⟩ := bd1s hf
        refine cSi (rest := []) X (met_X_in (g := g) k9) gs_X0_X0_in dy_X0_in ⟨⟨rfl, rfl⟩, Nat.le_of_ble_eq_true rfl, Nat.le_of_ble_eq_true rfl⟩ hP hD hS hl.1 rfl rfl ⟨Nat.zero_le _, Nat.zero_le _⟩ (Nat.le_of_ble_eq_true rfl) dX0_person_46 (fun H locs hP hD hS => ?_)
        refine bq_eq (tgt := 59) hx hb hf dX0_person_49 (by decide) (fun hf => ?_) (fun hf => ?_)
        · refine lv_iconst (v := (-1)) hx hb dX0_person_59 (by decide) ?_
          cases hf
          exact rI X hP hD hS dX0_person_60
        · refine lv_iload hx hb dX0_person_52 (lv_at hl 0 rfl) ?_
          refine lv_bipush (v := 6) hx hb dX0_person_54 (by decide) ?_
          refine bc_ne (tgt := 61) hx hb hf dX0_person_56 (by decide) (fun hf => ?_) (fun hf => ?_)
          · refine lv_aload_n hx hb dX0_person_61 rfl (lv_at hl 1 rfl) ?_
            refine gX_X0_this_now X hP dX0_person_62 ?_
            refine gX_X0_now_fear X hF hP dX0_person_65 ?_
            refine lv_iload hx hb dX0_person_68 (lv_at hl 0 rfl) ?_
            refine lv_iload_n hx hb dX0_person_70 rfl (lv_at hl 3 rfl) ?_
            obtain ⟨c10, ec10, bc10, hf⟩ := wrs hf
            refine sX_cFear X hP hD hS ec10 bc10 dX0_person_71 (fun H locs hP hD hS => ?_)
            refine lv_aload_n hx hb dX0_person_72 rfl (lv_at hl 1 rfl) ?_
            refine gX_X0_this_now X hP dX0_person_73 ?_
            refine gX_X0_now_n X hF hP dX0_person_76 ?_
            refine lv_iconst (v := 1) hx hb dX0_person_79 (by decide) ?_
            refine lv_dup2_11 hx hb dX0_person_80 rfl rfl ?_
            obtain ⟨v11, ev11, bv11, hf⟩ := rds hf
            refine lX_cN X hP ev11 bv11 dX0_person_81 ?_
            refine lv_iconst (v := 1) hx hb dX0_person_82 (by decide) ?_
            refine lv_iadd hx hb dX0_person_83 ?_
            obtain ⟨v12, ev12, hf⟩ := lts hf
            refine tpi ev12 ?_
            obtain ⟨c13, ec13, bc13, hf⟩ := wrs hf
            refine sX_cN X hP hD hS ec13 bc13 dX0_person_84 (fun H locs hP hD hS => ?_)
            refine lv_aload_n hx hb dX0_person_85 rfl (lv_at hl 1 rfl) ?_
            refine gX_X0_this_now X hP dX0_person_86 ?_
            refine lv_iconst (v := 2) hx hb dX0_person_89 (by decide) ?_
            refine lv_bipush (v := 7) hx hb dX0_person_90 (by decide) ?_
            refine lv_iload hx hb dX0_person_92 (lv_at hl 0 rfl) ?_
            refine lv_imul hx hb dX0_person_94 ?_
            refine lv_iadd hx hb dX0_person_95 ?_
            refine lv_iconst (v := 0) hx hb dX0_person_96 (by decide) ?_
            refine lv_iadd hx hb dX0_person_97 ?_
            refine lv_iload_n hx hb dX0_person_98 rfl (lv_at hl 2 rfl) ?_
            obtain ⟨c14, c15, k16, hf⟩ := bd2s hf
            refine xVv (rest := []) X hF (met_S_tells k16) gw_X0_X1_tells dy_X1_tells ⟨⟨rfl, rfl⟩, Nat.le_of_ble_eq_true rfl, Nat.le_of_ble_eq_true rfl⟩ hP hD hS hl.1 rcN rfl rfl ⟨Nat.zero_le _, Nat.zero_le _⟩ (Nat.le_of_ble_eq_true rfl) dX0_person_99 (fun H locs hP hD hS => ?_)
            refine lv_aload_n hx hb dX0_person_102 rfl (lv_at hl 1 rfl) ?_
            refine gX_X0_this_now X hP dX0_person_103 ?_
            refine lv_iconst (v := 2) hx hb dX0_person_106 (by decide) ?_
            refine lv_bipush (v := 7) hx hb dX0_person_107 (by decide) ?_
            refine lv_iload hx hb dX0_person_109 (lv_at hl 0 rfl) ?_
            refine lv_imul hx hb dX0_person_111 ?_
            refine lv_iadd hx hb dX0_person_112 ?_
            refine lv_iconst (v := 1) hx hb dX0_person_113 (by decide) ?_
            refine lv_iadd hx hb dX0_person_114 ?_
            refine lv_iload_n hx hb dX0_person_115 rfl (lv_at hl 4 rfl) ?_
            obtain ⟨c17, c18, k19, hf⟩ := bd2s hf
            refine xVv (rest := []) X hF (met_S_tells k19) gw_X0_X1_tells dy_X1_tells ⟨⟨rfl, rfl⟩, Nat.le_of_ble_eq_true rfl, Nat.le_of_ble_eq_true rfl⟩ hP hD hS hl.1 rcN rfl rfl ⟨Nat.zero_le _, Nat.zero_le _⟩ (Nat.le_of_ble_eq_true rfl) dX0_person_116 (fun H locs hP hD hS => ?_)
            refine lv_aload_n hx hb dX0_person_119 rfl (lv_at hl 1 rfl) ?_
            refine gX_X0_this_now X hP dX0_person_120 ?_
            refine lv_iconst (v := 2) hx hb dX0_person_123 (by decide) ?_
            refine lv_bipush (v := 7) hx hb dX0_person_124 (by decide) ?_
            refine lv_iload hx hb dX0_person_126 (lv_at hl 0 rfl) ?_
            refine lv_imul hx hb dX0_person_128 ?_
            refine lv_iadd hx hb dX0_person_129 ?_
            refine lv_iconst (v := 2) hx hb dX0_person_130 (by decide) ?_
            refine lv_iadd hx hb dX0_person_131 ?_
            refine lv_iload hx hb dX0_person_132 (lv_at hl 5 rfl) ?_
            obtain ⟨c20, c21, k22, hf⟩ := bd2s hf
            refine xVv (rest := []) X hF (met_S_tells k22) gw_X0_X1_tells dy_X1_tells ⟨⟨rfl, rfl⟩, Nat.le_of_ble_eq_true rfl, Nat.le_of_ble_eq_true rfl⟩ hP hD hS hl.1 rcN rfl rfl ⟨Nat.zero_le _, Nat.zero_le _⟩ (Nat.le_of_ble_eq_true rfl) dX0_person_134 (fun H locs hP hD hS => ?_)
            refine lv_iload hx hb dX0_person_137 (lv_at hl 0 rfl) ?_
            cases hf
            exact rI X hP hD hS dX0_person_139
          · refine lv_iconst (v := (-1)) hx hb dX0_person_59 (by decide) ?_
            cases hf
            exact rI X hP hD hS dX0_person_60
set_option maxHeartbeats 4000000 in
theorem met_X_put {l : Launch} {g : gG} {h hn hi : Nat} {ad : Nat → Nat} {ra : Nat → Nat → Nat} {z : Nat → Nat} {sTaped : Int32} {sFault : Int32} {sFaultA : Int32} {sWays : Int32} {sMay : Int32} {sMust : Int32} {cTape : Nat → Int32} {cNames : Nat → Int32} {cHead : Nat → Int32} {cSure : Nat → Nat → Int32} {cN : Nat → Int32} {cRow : Nat → Int32} {cTried : Nat → Int32} {cFor : Nat → Int32} {cRoad : Nat → Int32} {cFear : Nat → Int32} {cCall : Nat → Int32} {cUnl : Nat → Int32} {cPaid : Nat → Nat → Int32} {cStep : Nat → Nat → Int32} {cGain : Nat → Nat → Int32} {cText : Nat → Option Nat} {iN : Nat → Int32} {iRow : Nat → Int32} {iFor : Nat → Int32} {iRoad : Nat → Int32} {iFear : Nat → Int32} {iCall : Nat → Int32} {iUnl : Nat → Int32} {iPaid : Nat → Nat → Int32} {iStep : Nat → Nat → Int32} {iGain : Nat → Nat → Int32} {iText : Nat → Option Nat} {tp : va_W} {x1 : Int32} {nsTaped : Int32} {ncTape : Nat → Int32} {φ : Nat} (hf : X_put φ sTaped cTape x1 = some (nsTaped, ncTape)) : CX l yX0_put (ws_ yX0_put cX0_put 3 none) ({ frames := 0, cells := 0, slots := 0, locals := 0 } : Room) g z [.ref h, .int x1] (xW g h hn hi ad ra sTaped sFault sFaultA sWays sMay sMust cTape cNames cHead cSure cN cRow cTried cFor cRoad cFear cCall cUnl cPaid cStep cGain cText iN iRow iFor iRoad iFear iCall iUnl iPaid iStep iGain iText tp) none (xW g h hn hi ad ra nsTaped sFault sFaultA sWays sMay sMust ncTape cNames cHead cSure cN cRow cTried cFor cRoad cFear cCall cUnl cPaid cStep cGain cText iN iRow iFor iRoad iFear iCall iUnl iPaid iStep iGain iText tp) 0 0 := by
  refine CX.of RX0 rfl plain_X0 (Nat.le_of_ble_eq_true rfl) (fun p e s m below meth c A ls X hF hP hD hS hl => ?_)
  have hx := X.1
  have hb := X.2.1
  have hown := X.2.2.2.2.2.1
  have hts := X.2.2.2.2.2.2.1
  have hl : lv_has ls 3 [(0, .ref h), (1, .int x1)] := hl
  unfold X_put at hf
  refine lv_bipush (v := 24) hx hb dX0_put_0 (by decide) ?_
  refine lv_istore_n (lv' := [(2, .int 24), (0, .ref h), (1, .int x1)]) hx hb dX0_put_2 rfl hl (by decide) rfl (fun ls hl => ?_)
  obtain ⟨c4, c5, k10, hf⟩ := bd2s hf
  have hE7 : ∀ (H : Heap) (locs : List Loc) (ls : Array Slot), va_P g.1 vwCl (xW g h hn hi ad ra c4 sFault sFaultA sWays sMay sMust c5 cNames cHead cSure cN cRow cTried cFor cRoad cFear cCall cUnl cPaid cStep cGain cText iN iRow iFor iRoad iFear iCall iUnl iPaid iStep iGain iText tp) H → va_D A (xW g h hn hi ad ra c4 sFault sFaultA sWays sMay sMust c5 cNames cHead cSure cN cRow cTried cFor cRoad cFear cCall cUnl cPaid cStep cGain cText iN iRow iFor iRoad iFear iCall iUnl iPaid iStep iGain iText tp) → va_S A s.heap H locs → lv_has ls 3 [] → W p l e ({ frames := 0, cells := 0, slots := 0, locals := 0 } : Room) s m ([.ref h, .int x1] : List Value).toArray below meth c H locs 0 0 (MQ below (QQ g none (xW g h hn hi ad ra nsTaped sFault sFaultA sWays sMay sMust ncTape cNames cHead cSure cN cRow cTried cFor cRoad cFear cCall cUnl cPaid cStep cGain cText iN iRow iFor iRoad iFear iCall iUnl iPaid iStep iGain iText tp) A) ([.ref h, .int x1] : List Value).toArray s 0 0 A) (F0 m 36 ls []) := by
    intro H locs ls hP hD hS hl
    cases hf
    exact rV X hP hD hS dX0_put_36
  have hL8 : ∀ (n6 : Nat) (v1 : Int32) (c2 : Int32) (c3 : Nat → Int32), X_put_L3 φ x1 n6 v1 c2 c3 = some (c4, c5) → ∀ (H : Heap) (locs : List Loc) (ls : Array Slot), va_P g.1 vwCl (xW g h hn hi ad ra c2 sFault sFaultA sWays sMay sMust c3 cNames cHead cSure cN cRow cTried cFor cRoad cFear cCall cUnl cPaid cStep cGain cText iN iRow iFor iRoad iFear iCall iUnl iPaid iStep iGain iText tp) H → va_D A (xW g h hn hi ad ra c2 sFault sFaultA sWays sMay sMust c3 cNames cHead cSure cN cRow cTried cFor cRoad cFear cCall cUnl cPaid cStep cGain cText iN iRow iFor iRoad iFear iCall iUnl iPaid iStep iGain iText tp) → va_S A s.heap H locs → lv_has ls 3 [(0, .ref h), (1, .int x1), (2, .int v1)] → W p l e ({ frames := 0, cells := 0, slots := 0, locals := 0 } : Room) s m ([.ref h, .int x1] : List Value).toArray below meth c H locs 0 0 (MQ below (QQ g none (xW g h hn hi ad ra nsTaped sFault sFaultA sWays sMay sMust ncTape cNames cHead cSure cN cRow cTried cFor cRoad cFear cCall cUnl cPaid cStep cGain cText iN iRow iFor iRoad iFear iCall iUnl iPaid iStep iGain iText tp) A) ([.ref h, .int x1] : List Value).toArray s 0 0 A) (F0 m 3 ls []) := by
    intro n6
    induction n6 with
    | zero =>
      intro v1 c2 c3 hf
      exact nn hf
    | succ n6 ih9 =>
      intro v1 c2 c3 hf H locs ls hP hD hS hl
      rw [X_put_L3] at hf
      refine lv_iload_n hx hb dX0_put_3 rfl (lv_at hl 2 rfl) ?_
      refine bq_lt (tgt := 36) hx hb hf dX0_put_4 (by decide) (fun hf => ?_) (fun hf => ?_)
      · cases hf
        exact hE7 _ _ _ hP hD hS (lv_sub hl [] rfl)
      · refine lv_aload_n hx hb dX0_put_7 rfl (lv_at hl 0 rfl) ?_
        refine gX_X0_this_tape X hP dX0_put_8 ?_
        refine lv_aload_n hx hb dX0_put_11 rfl (lv_at hl 0 rfl) ?_
        refine gX_X0_this_taped X hP dX0_put_12 ?_
        refine lv_iload_n hx hb dX0_put_15 rfl (lv_at hl 1 rfl) ?_
        refine lv_iload_n hx hb dX0_put_16 rfl (lv_at hl 2 rfl) ?_
        refine lv_ishr hx hb dX0_put_17 ?_
        refine lv_i2b hx hb dX0_put_18 rfl ?_
        obtain ⟨v11, ev11, hf⟩ := lts hf
        refine tpi ev11 ?_
        obtain ⟨c12, ec12, bc12, hf⟩ := wrBs hf
        refine sX_cTape X hP hD hS ec12 bc12 dX0_put_19 (fun H locs hP hD hS => ?_)
        refine lv_aload_n hx hb dX0_put_20 rfl (lv_at hl 0 rfl) ?_
        refine lv_dup hx hb dX0_put_21 rfl ?_
        refine gX_X0_this_taped X hP dX0_put_22 ?_
        refine lv_iconst (v := 1) hx hb dX0_put_25 (by decide) ?_
        refine lv_iadd hx hb dX0_put_26 ?_
        obtain ⟨v13, ev13, hf⟩ := lts hf
        refine tpi ev13 ?_
        refine pX_taped X hP hD hS dX0_put_27 (fun H locs hP hD hS => ?_)
        obtain ⟨v14, ev14, hf⟩ := lts hf
        refine lv_iinc (v := v14) (lv' := [(2, .int v14), (0, .ref h), (1, .int x1)]) hx hb dX0_put_30 hl (k := 2) rfl (by rw [ev14]; rfl) (by decide) rfl (fun ls hl => ?_)
        refine lv_goto (tgt := 3) hx hb dX0_put_33 (by decide) ?_
        exact ih9 _ _ _ hf _ _ _ hP hD hS (lv_sub hl [1, 2, 0] rfl)
  exact hL8 _ _ _ _ k10 _ _ _ hP hD hS (lv_sub hl [1, 2, 0] rfl)
theorem gw_X0_X0_put : GoodIn lw_all (wsV RX0 102 RX0 yX0_put (ws_ yX0_put cX0_put 3 none)) := lw_V q333 q335 qs2 q145 q336
theorem dy_X0_put : Dy yX0_put RX0 1 := by decide +kernel
set_option maxHeartbeats 4000000 in
theorem met_X_feed {l : Launch} {g : gG} {h hn hi : Nat} {ad : Nat → Nat} {ra : Nat → Nat → Nat} {z : Nat → Nat} {sTaped : Int32} {sFault : Int32} {sFaultA : Int32} {sWays : Int32} {sMay : Int32} {sMust : Int32} {cTape : Nat → Int32} {cNames : Nat → Int32} {cHead : Nat → Int32} {cSure : Nat → Nat → Int32} {cN : Nat → Int32} {cRow : Nat → Int32} {cTried : Nat → Int32} {cFor : Nat → Int32} {cRoad : Nat → Int32} {cFear : Nat → Int32} {cCall : Nat → Int32} {cUnl : Nat → Int32} {cPaid : Nat → Nat → Int32} {cStep : Nat → Nat → Int32} {cGain : Nat → Nat → Int32} {cText : Nat → Option Nat} {iN : Nat → Int32} {iRow : Nat → Int32} {iFor : Nat → Int32} {iRoad : Nat → Int32} {iFear : Nat → Int32} {iCall : Nat → Int32} {iUnl : Nat → Int32} {iPaid : Nat → Nat → Int32} {iStep : Nat → Nat → Int32} {iGain : Nat → Nat → Int32} {iText : Nat → Option Nat} {tp : va_W} {x1 : Int32} {x2 : Int32} {x3 : Int32} {x4 : Int32} {x5 : Int32} {r : Int32} {nsTaped : Int32} {ncTape : Nat → Int32} {φ : Nat} (hf : X_feed φ sTaped cTape x1 x2 x3 x4 x5 = some (r, nsTaped, ncTape)) : CX l yX0_feed (ws_ yX0_feed cX0_feed 6 (some .int)) ({ frames := 1, cells := 0, slots := 0, locals := 22 } : Room) g z [.ref h, .int x1, .int x2, .int x3, .int x4, .int x5] (xW g h hn hi ad ra sTaped sFault sFaultA sWays sMay sMust cTape cNames cHead cSure cN cRow cTried cFor cRoad cFear cCall cUnl cPaid cStep cGain cText iN iRow iFor iRoad iFear iCall iUnl iPaid iStep iGain iText tp) (some (.int r)) (xW g h hn hi ad ra nsTaped sFault sFaultA sWays sMay sMust ncTape cNames cHead cSure cN cRow cTried cFor cRoad cFear cCall cUnl cPaid cStep cGain cText iN iRow iFor iRoad iFear iCall iUnl iPaid iStep iGain iText tp) 0 0 := by
  refine CX.of RX0 rfl plain_X0 (Nat.le_of_ble_eq_true rfl) (fun p e s m below meth c A ls X hF hP hD hS hl => ?_)
  have hx := X.1
  have hb := X.2.1
  have hown := X.2.2.2.2.2.1
  have hts := X.2.2.2.2.2.2.1
  have hl : lv_has ls 6 [(0, .ref h), (1, .int x1), (2, .int x2), (3, .int x3), (4, .int x4), (5, .int x5)] := hl
  unfold X_feed at hf
  refine lv_aload_n hx hb dX0_feed_0 rfl (lv_at hl 0 rfl) ?_
  refine gX_X0_this_taped X hP dX0_feed_1 ?_
  refine lv_bipush (v := 20) hx hb dX0_feed_4 (by decide) ?_
  refine lv_iadd hx hb dX0_feed_6 ?_
  refine lv_sipush (v := 300) hx hb dX0_feed_7 (by decide) ?_
  refine bc_le (tgt := 15) hx hb hf dX0_feed_10 (by decide) (fun hf => ?_) (fun hf => ?_)
  · refine lv_aload_n hx hb dX0_feed_15 rfl (lv_at hl 0 rfl) ?_
    refine lv_iload_n hx hb dX0_feed_16 rfl (lv_at hl 1 rfl) ?_
    obtain ⟨c1, c2, k3, hf⟩ := bd2s hf
    refine xVv (rest := []) X hF (met_X_put k3) gw_X0_X0_put dy_X0_put ⟨⟨rfl, rfl⟩, Nat.le_of_ble_eq_true rfl, Nat.le_of_ble_eq_true rfl⟩ hP hD hS hl.1 rcX rfl rfl ⟨Nat.zero_le _, Nat.zero_le _⟩ (Nat.le_of_ble_eq_true rfl) dX0_feed_17 (fun H locs hP hD hS => ?_)
    refine lv_aload_n hx hb dX0_feed_20 rfl (lv_at hl 0 rfl) ?_
    refine lv_iload_n hx hb dX0_feed_21 rfl (lv_at hl 2 rfl) ?_
    obtain ⟨c4, c5, k6, hf⟩ := bd2s hf
    refine xVv (rest := []) X hF (met_X_put k6) gw_X0_X0_put dy_X0_put ⟨⟨rfl, rfl⟩, Nat.le_of_ble_eq_true rfl, Nat.le_of_ble_eq_true rfl⟩ hP hD hS hl.1 rcX rfl rfl ⟨Nat.zero_le _, Nat.zero_le _⟩ (Nat.le_of_ble_eq_true rfl) dX0_feed_22 (fun H locs hP hD hS => ?_)
    refine lv_aload_n hx hb dX0_feed_25 rfl (lv_at hl 0 rfl) ?_
    refine lv_iload_n hx hb dX0_feed_26 rfl (lv_at hl 3 rfl) ?_
    obtain ⟨c7, c8, k9, hf⟩ := bd2s hf
    refine xVv (rest := []) X hF (met_X_put k9) gw_X0_X0_put dy_X0_put ⟨⟨rfl, rfl⟩, Nat.le_of_ble_eq_true rfl, Nat.le_of_ble_eq_true rfl⟩ hP hD hS hl.1 rcX rfl rfl ⟨Nat.zero_le _, Nat.zero_le _⟩ (Nat.le_of_ble_eq_true rfl) dX0_feed_27 (fun H locs hP hD hS => ?_)
    refine lv_aload_n hx hb dX0_feed_30 rfl (lv_at hl 0 rfl) ?_
    refine lv_iload hx hb dX0_feed_31 (lv_at hl 4 rfl) ?_
    obtain ⟨c10, c11, k12, hf⟩ := bd2s hf
    refine xVv (rest := []) X hF (met_X_put k12) gw_X0_X0_put dy_X0_put ⟨⟨rfl, rfl⟩, Nat.le_of_ble_eq_true rfl, Nat.le_of_ble_eq_true rfl⟩ hP hD hS hl.1 rcX rfl rfl ⟨Nat.zero_le _, Nat.zero_le _⟩ (Nat.le_of_ble_eq_true rfl) dX0_feed_33 (fun H locs hP hD hS => ?_)
    refine lv_aload_n hx hb dX0_feed_36 rfl (lv_at hl 0 rfl) ?_
    refine lv_iload hx hb dX0_feed_37 (lv_at hl 5 rfl) ?_
    obtain ⟨c13, c14, k15, hf⟩ := bd2s hf
    refine xVv (rest := []) X hF (met_X_put k15) gw_X0_X0_put dy_X0_put ⟨⟨rfl, rfl⟩, Nat.le_of_ble_eq_true rfl, Nat.le_of_ble_eq_true rfl⟩ hP hD hS hl.1 rcX rfl rfl ⟨Nat.zero_le _, Nat.zero_le _⟩ (Nat.le_of_ble_eq_true rfl) dX0_feed_39 (fun H locs hP hD hS => ?_)
    refine lv_aload_n hx hb dX0_feed_42 rfl (lv_at hl 0 rfl) ?_
    refine gX_X0_this_taped X hP dX0_feed_43 ?_
    cases hf
    exact rI X hP hD hS dX0_feed_46
  · refine lv_iconst (v := (-1)) hx hb dX0_feed_13 (by decide) ?_
    cases hf
    exact rI X hP hD hS dX0_feed_14
set_option maxHeartbeats 4000000 in
theorem met_X_end {l : Launch} {g : gG} {h hn hi : Nat} {ad : Nat → Nat} {ra : Nat → Nat → Nat} {z : Nat → Nat} {sTaped : Int32} {sFault : Int32} {sFaultA : Int32} {sWays : Int32} {sMay : Int32} {sMust : Int32} {cTape : Nat → Int32} {cNames : Nat → Int32} {cHead : Nat → Int32} {cSure : Nat → Nat → Int32} {cN : Nat → Int32} {cRow : Nat → Int32} {cTried : Nat → Int32} {cFor : Nat → Int32} {cRoad : Nat → Int32} {cFear : Nat → Int32} {cCall : Nat → Int32} {cUnl : Nat → Int32} {cPaid : Nat → Nat → Int32} {cStep : Nat → Nat → Int32} {cGain : Nat → Nat → Int32} {cText : Nat → Option Nat} {iN : Nat → Int32} {iRow : Nat → Int32} {iFor : Nat → Int32} {iRoad : Nat → Int32} {iFear : Nat → Int32} {iCall : Nat → Int32} {iUnl : Nat → Int32} {iPaid : Nat → Nat → Int32} {iStep : Nat → Nat → Int32} {iGain : Nat → Nat → Int32} {iText : Nat → Option Nat} {tp : va_W} {x1 : Int32} {r : Int32} {nsTaped : Int32} (hf : X_end sTaped x1 = some (r, nsTaped)) : CX l yX0_end (ws_ yX0_end cX0_end 2 (some .int)) ({ frames := 1, cells := 0, slots := 0, locals := 22 } : Room) g z [.ref h, .int x1] (xW g h hn hi ad ra sTaped sFault sFaultA sWays sMay sMust cTape cNames cHead cSure cN cRow cTried cFor cRoad cFear cCall cUnl cPaid cStep cGain cText iN iRow iFor iRoad iFear iCall iUnl iPaid iStep iGain iText tp) (some (.int r)) (xW g h hn hi ad ra nsTaped sFault sFaultA sWays sMay sMust cTape cNames cHead cSure cN cRow cTried cFor cRoad cFear cCall cUnl cPaid cStep cGain cText iN iRow iFor iRoad iFear iCall iUnl iPaid iStep iGain iText tp) 0 0 := by
  refine CX.of RX0 rfl plain_X0 (Nat.le_of_ble_eq_true rfl) (fun p e s m below meth c A ls X hF hP hD hS hl => ?_)
  have hx := X.1
  have hb := X.2.1
  have hown := X.2.2.2.2.2.1
  have hts := X.2.2.2.2.2.2.1
  have hl : lv_has ls 2 [(0, .ref h), (1, .int x1)] := hl
  unfold X_end at hf
  refine lv_iload_n hx hb dX0_end_0 rfl (lv_at hl 1 rfl) ?_
  refine lv_iconst (v := 0) hx hb dX0_end_1 (by decide) ?_
  refine lv_aload_n hx hb dX0_end_2 rfl (lv_at hl 0 rfl) ?_
  refine gX_X0_this_taped X hP dX0_end_3 ?_
  obtain ⟨r1, k2, hf⟩ := bd1s hf
  refine cSi (rest := []) X (met_X_in (g := g) k2) gs_X0_X0_in dy_X0_in ⟨⟨rfl, rfl⟩, Nat.le_of_ble_eq_true rfl, Nat.le_of_ble_eq_true rfl⟩ hP hD hS hl.1 rfl rfl ⟨Nat.zero_le _, Nat.zero_le _⟩ (Nat.le_of_ble_eq_true rfl) dX0_end_6 (fun H locs hP hD hS => ?_)
  refine bq_ne (tgt := 14) hx hb hf dX0_end_9 (by decide) (fun hf => ?_) (fun hf => ?_)
  · refine lv_aload_n hx hb dX0_end_14 rfl (lv_at hl 0 rfl) ?_
    refine lv_iload_n hx hb dX0_end_15 rfl (lv_at hl 1 rfl) ?_
    refine pX_taped X hP hD hS dX0_end_16 (fun H locs hP hD hS => ?_)
    refine lv_iload_n hx hb dX0_end_19 rfl (lv_at hl 1 rfl) ?_
    cases hf
    exact rI X hP hD hS dX0_end_20
  · refine lv_iconst (v := (-1)) hx hb dX0_end_12 (by decide) ?_
    cases hf
    exact rI X hP hD hS dX0_end_13
set_option maxHeartbeats 4000000 in
theorem met_X_fault {l : Launch} {g : gG} {h hn hi : Nat} {ad : Nat → Nat} {ra : Nat → Nat → Nat} {z : Nat → Nat} {sTaped : Int32} {sFault : Int32} {sFaultA : Int32} {sWays : Int32} {sMay : Int32} {sMust : Int32} {cTape : Nat → Int32} {cNames : Nat → Int32} {cHead : Nat → Int32} {cSure : Nat → Nat → Int32} {cN : Nat → Int32} {cRow : Nat → Int32} {cTried : Nat → Int32} {cFor : Nat → Int32} {cRoad : Nat → Int32} {cFear : Nat → Int32} {cCall : Nat → Int32} {cUnl : Nat → Int32} {cPaid : Nat → Nat → Int32} {cStep : Nat → Nat → Int32} {cGain : Nat → Nat → Int32} {cText : Nat → Option Nat} {iN : Nat → Int32} {iRow : Nat → Int32} {iFor : Nat → Int32} {iRoad : Nat → Int32} {iFear : Nat → Int32} {iCall : Nat → Int32} {iUnl : Nat → Int32} {iPaid : Nat → Nat → Int32} {iStep : Nat → Nat → Int32} {iGain : Nat → Nat → Int32} {iText : Nat → Option Nat} {tp : va_W} {x1 : Int32} {r : Int32} (hf : X_fault sFault sFaultA x1 = some r) : CX l yX0_fault (ws_ yX0_fault cX0_fault 2 (some .int)) ({ frames := 0, cells := 0, slots := 0, locals := 0 } : Room) g z [.ref h, .int x1] (xW g h hn hi ad ra sTaped sFault sFaultA sWays sMay sMust cTape cNames cHead cSure cN cRow cTried cFor cRoad cFear cCall cUnl cPaid cStep cGain cText iN iRow iFor iRoad iFear iCall iUnl iPaid iStep iGain iText tp) (some (.int r)) (xW g h hn hi ad ra sTaped sFault sFaultA sWays sMay sMust cTape cNames cHead cSure cN cRow cTried cFor cRoad cFear cCall cUnl cPaid cStep cGain cText iN iRow iFor iRoad iFear iCall iUnl iPaid iStep iGain iText tp) 0 0 := by
  refine CX.of RX0 rfl plain_X0 (Nat.le_of_ble_eq_true rfl) (fun p e s m below meth c A ls X hF hP hD hS hl => ?_)
  have hx := X.1
  have hb := X.2.1
  have hown := X.2.2.2.2.2.1
  have hts := X.2.2.2.2.2.2.1
  have hl : lv_has ls 2 [(0, .ref h), (1, .int x1)] := hl
  unfold X_fault at hf
  refine lv_iload_n hx hb dX0_fault_0 rfl (lv_at hl 1 rfl) ?_
  refine bq_ne (tgt := 11) hx hb hf dX0_fault_1 (by decide) (fun hf => ?_) (fun hf => ?_)
  · refine lv_iload_n hx hb dX0_fault_11 rfl (lv_at hl 1 rfl) ?_
    refine lv_iconst (v := 1) hx hb dX0_fault_12 (by decide) ?_
    refine bc_ne (tgt := 23) hx hb hf dX0_fault_13 (by decide) (fun hf => ?_) (fun hf => ?_)
    · refine lv_iconst (v := (-1)) hx hb dX0_fault_23 (by decide) ?_
      cases hf
      exact rI X hP hD hS dX0_fault_24
    · refine lv_aload_n hx hb dX0_fault_16 rfl (lv_at hl 0 rfl) ?_
      refine gX_X0_this_faultAt X hP dX0_fault_17 ?_
      refine lv_goto (tgt := 24) hx hb dX0_fault_20 (by decide) ?_
      cases hf
      exact rI X hP hD hS dX0_fault_24
  · refine lv_aload_n hx hb dX0_fault_4 rfl (lv_at hl 0 rfl) ?_
    refine gX_X0_this_fault X hP dX0_fault_5 ?_
    refine lv_goto (tgt := 24) hx hb dX0_fault_8 (by decide) ?_
    cases hf
    exact rI X hP hD hS dX0_fault_24
set_option maxHeartbeats 4000000 in
theorem met_X_isText {l : Launch} {g : gG} {h hn hi : Nat} {ad : Nat → Nat} {ra : Nat → Nat → Nat} {z : Nat → Nat} {sTaped : Int32} {sFault : Int32} {sFaultA : Int32} {sWays : Int32} {sMay : Int32} {sMust : Int32} {cTape : Nat → Int32} {cNames : Nat → Int32} {cHead : Nat → Int32} {cSure : Nat → Nat → Int32} {cN : Nat → Int32} {cRow : Nat → Int32} {cTried : Nat → Int32} {cFor : Nat → Int32} {cRoad : Nat → Int32} {cFear : Nat → Int32} {cCall : Nat → Int32} {cUnl : Nat → Int32} {cPaid : Nat → Nat → Int32} {cStep : Nat → Nat → Int32} {cGain : Nat → Nat → Int32} {cText : Nat → Option Nat} {iN : Nat → Int32} {iRow : Nat → Int32} {iFor : Nat → Int32} {iRoad : Nat → Int32} {iFear : Nat → Int32} {iCall : Nat → Int32} {iUnl : Nat → Int32} {iPaid : Nat → Nat → Int32} {iStep : Nat → Nat → Int32} {iGain : Nat → Nat → Int32} {iText : Nat → Option Nat} {tp : va_W} {x1 : Int32} {r : Int32} (hf : X_isText cN x1 = some r) : CX l yX0_isText (ws_ yX0_isText cX0_isText 2 (some .boolean)) ({ frames := 1, cells := 0, slots := 0, locals := 22 } : Room) g z [.ref h, .int x1] (xW g h hn hi ad ra sTaped sFault sFaultA sWays sMay sMust cTape cNames cHead cSure cN cRow cTried cFor cRoad cFear cCall cUnl cPaid cStep cGain cText iN iRow iFor iRoad iFear iCall iUnl iPaid iStep iGain iText tp) (some (.int r)) (xW g h hn hi ad ra sTaped sFault sFaultA sWays sMay sMust cTape cNames cHead cSure cN cRow cTried cFor cRoad cFear cCall cUnl cPaid cStep cGain cText iN iRow iFor iRoad iFear iCall iUnl iPaid iStep iGain iText tp) 0 0 := by
  refine CX.of RX0 rfl plain_X0 (Nat.le_of_ble_eq_true rfl) (fun p e s m below meth c A ls X hF hP hD hS hl => ?_)
  have hx := X.1
  have hb := X.2.1
  have hown := X.2.2.2.2.2.1
  have hts := X.2.2.2.2.2.2.1
  have hl : lv_has ls 2 [(0, .ref h), (1, .int x1)] := hl
  unfold X_isText at hf
  refine lv_iload_n hx hb dX0_isText_0 rfl (lv_at hl 1 rfl) ?_
  refine lv_iconst (v := 0) hx hb dX0_isText_1 (by decide) ?_
  refine lv_aload_n hx hb dX0_isText_2 rfl (lv_at hl 0 rfl) ?_
  refine gX_X0_this_now X hP dX0_isText_3 ?_
  refine gX_X0_now_n X hF hP dX0_isText_6 ?_
  refine lv_iconst (v := 2) hx hb dX0_isText_9 (by decide) ?_
  obtain ⟨v1, ev1, bv1, hf⟩ := rds hf
  refine lX_cN X hP ev1 bv1 dX0_isText_10 ?_
  refine lv_iconst (v := 1) hx hb dX0_isText_11 (by decide) ?_
  refine lv_isub hx hb dX0_isText_12 ?_
  obtain ⟨r2, k3, hf⟩ := bd1s hf
  refine cSi (rest := []) X (met_X_in (g := g) k3) gs_X0_X0_in dy_X0_in ⟨⟨rfl, rfl⟩, Nat.le_of_ble_eq_true rfl, Nat.le_of_ble_eq_true rfl⟩ hP hD hS hl.1 rfl rfl ⟨Nat.zero_le _, Nat.zero_le _⟩ (Nat.le_of_ble_eq_true rfl) dX0_isText_13 (fun H locs hP hD hS => ?_)
  obtain ⟨hz, hf⟩ := zks hf
  cases hf
  exact rZ X hz hP hD hS dX0_isText_16
theorem gw_X0_X0_isText : GoodIn lw_all (wsV RX0 125 RX0 yX0_isText (ws_ yX0_isText cX0_isText 2 (some .boolean))) := lw_V q888 q890 qs24 q145 q891
theorem dy_X0_isText : Dy yX0_isText RX0 1 := by decide +kernel
set_option maxHeartbeats 4000000 in
theorem met_X_by {l : Launch} {g : gG} {h hn hi : Nat} {ad : Nat → Nat} {ra : Nat → Nat → Nat} {z : Nat → Nat} {sTaped : Int32} {sFault : Int32} {sFaultA : Int32} {sWays : Int32} {sMay : Int32} {sMust : Int32} {cTape : Nat → Int32} {cNames : Nat → Int32} {cHead : Nat → Int32} {cSure : Nat → Nat → Int32} {cN : Nat → Int32} {cRow : Nat → Int32} {cTried : Nat → Int32} {cFor : Nat → Int32} {cRoad : Nat → Int32} {cFear : Nat → Int32} {cCall : Nat → Int32} {cUnl : Nat → Int32} {cPaid : Nat → Nat → Int32} {cStep : Nat → Nat → Int32} {cGain : Nat → Nat → Int32} {cText : Nat → Option Nat} {iN : Nat → Int32} {iRow : Nat → Int32} {iFor : Nat → Int32} {iRoad : Nat → Int32} {iFear : Nat → Int32} {iCall : Nat → Int32} {iUnl : Nat → Int32} {iPaid : Nat → Nat → Int32} {iStep : Nat → Nat → Int32} {iGain : Nat → Nat → Int32} {iText : Nat → Option Nat} {tp : va_W} {x1 : Int32} {r : Int32} {ncN : Nat → Int32} (hf : X_by cN x1 = some (r, ncN)) : CX l yX0_by (ws_ yX0_by cX0_by 2 (some .boolean)) ({ frames := 2, cells := 0, slots := 0, locals := 43 } : Room) g z [.ref h, .int x1] (xW g h hn hi ad ra sTaped sFault sFaultA sWays sMay sMust cTape cNames cHead cSure cN cRow cTried cFor cRoad cFear cCall cUnl cPaid cStep cGain cText iN iRow iFor iRoad iFear iCall iUnl iPaid iStep iGain iText tp) (some (.int r)) (xW g h hn hi ad ra sTaped sFault sFaultA sWays sMay sMust cTape cNames cHead cSure ncN cRow cTried cFor cRoad cFear cCall cUnl cPaid cStep cGain cText iN iRow iFor iRoad iFear iCall iUnl iPaid iStep iGain iText tp) 0 0 := by
  refine CX.of RX0 rfl plain_X0 (Nat.le_of_ble_eq_true rfl) (fun p e s m below meth c A ls X hF hP hD hS hl => ?_)
  have hx := X.1
  have hb := X.2.1
  have hown := X.2.2.2.2.2.1
  have hts := X.2.2.2.2.2.2.1
  have hl : lv_has ls 2 [(0, .ref h), (1, .int x1)] := hl
  unfold X_by at hf
  refine lv_iload_n hx hb dX0_by_0 rfl (lv_at hl 1 rfl) ?_
  refine lv_iconst (v := (-1)) hx hb dX0_by_1 (by decide) ?_
  obtain ⟨k1, ek1, hf⟩ := jns hf
  have hj2 : k1 = some (r, ncN) → ∀ (H : Heap) (locs : List Loc) (ls : Array Slot), va_P g.1 vwCl (xW g h hn hi ad ra sTaped sFault sFaultA sWays sMay sMust cTape cNames cHead cSure cN cRow cTried cFor cRoad cFear cCall cUnl cPaid cStep cGain cText iN iRow iFor iRoad iFear iCall iUnl iPaid iStep iGain iText tp) H → va_D A (xW g h hn hi ad ra sTaped sFault sFaultA sWays sMay sMust cTape cNames cHead cSure cN cRow cTried cFor cRoad cFear cCall cUnl cPaid cStep cGain cText iN iRow iFor iRoad iFear iCall iUnl iPaid iStep iGain iText tp) → va_S A s.heap H locs → lv_has ls 2 [(0, .ref h), (1, .int x1)] → W p l e ({ frames := 2, cells := 0, slots := 0, locals := 43 } : Room) s m ([.ref h, .int x1] : List Value).toArray below meth c H locs 0 0 (MQ below (QQ g (some (.int r)) (xW g h hn hi ad ra sTaped sFault sFaultA sWays sMay sMust cTape cNames cHead cSure ncN cRow cTried cFor cRoad cFear cCall cUnl cPaid cStep cGain cText iN iRow iFor iRoad iFear iCall iUnl iPaid iStep iGain iText tp) A) ([.ref h, .int x1] : List Value).toArray s 0 0 A) (F0 m 15 ls []) := by
    intro hf H locs ls hP hD hS hl
    rw [ek1] at hf
    refine lv_aload_n hx hb dX0_by_15 rfl (lv_at hl 0 rfl) ?_
    refine gX_X0_this_now X hP dX0_by_16 ?_
    refine gX_X0_now_n X hF hP dX0_by_19 ?_
    refine lv_iconst (v := 3) hx hb dX0_by_22 (by decide) ?_
    refine lv_iload_n hx hb dX0_by_23 rfl (lv_at hl 1 rfl) ?_
    obtain ⟨c3, ec3, bc3, hf⟩ := wrs hf
    refine sX_cN X hP hD hS ec3 bc3 dX0_by_24 (fun H locs hP hD hS => ?_)
    refine lv_iconst (v := 1) hx hb dX0_by_25 (by decide) ?_
    cases hf
    exact rZ X rfl hP hD hS dX0_by_26
  clear ek1
  refine bc_eq (tgt := 15) hx hb hf dX0_by_2 (by decide) (fun hf => ?_) (fun hf => ?_)
  · exact hj2 hf _ _ _ hP hD hS (lv_sub hl [0, 1] rfl)
  · refine lv_aload_n hx hb dX0_by_5 rfl (lv_at hl 0 rfl) ?_
    refine lv_iload_n hx hb dX0_by_6 rfl (lv_at hl 1 rfl) ?_
    obtain ⟨r4, k5, hf⟩ := bd1s hf
    refine xVi (rest := []) X hF (met_X_isText k5) gw_X0_X0_isText dy_X0_isText ⟨⟨rfl, rfl⟩, Nat.le_of_ble_eq_true rfl, Nat.le_of_ble_eq_true rfl⟩ hP hD hS hl.1 rcX rfl rfl ⟨Nat.zero_le _, Nat.zero_le _⟩ (Nat.le_of_ble_eq_true rfl) dX0_by_7 (fun H locs hP hD hS => ?_)
    refine bq_ne (tgt := 15) hx hb hf dX0_by_10 (by decide) (fun hf => ?_) (fun hf => ?_)
    · exact hj2 hf _ _ _ hP hD hS (lv_sub hl [0, 1] rfl)
    · refine lv_iconst (v := 0) hx hb dX0_by_13 (by decide) ?_
      cases hf
      exact rZ X rfl hP hD hS dX0_by_14
set_option maxHeartbeats 4000000 in
theorem met_S_keeps {l : Launch} {g : gG} {h hn hi : Nat} {ad : Nat → Nat} {ra : Nat → Nat → Nat} {z : Nat → Nat} {sTaped : Int32} {sFault : Int32} {sFaultA : Int32} {sWays : Int32} {sMay : Int32} {sMust : Int32} {cTape : Nat → Int32} {cNames : Nat → Int32} {cHead : Nat → Int32} {cSure : Nat → Nat → Int32} {cN : Nat → Int32} {cRow : Nat → Int32} {cTried : Nat → Int32} {cFor : Nat → Int32} {cRoad : Nat → Int32} {cFear : Nat → Int32} {cCall : Nat → Int32} {cUnl : Nat → Int32} {cPaid : Nat → Nat → Int32} {cStep : Nat → Nat → Int32} {cGain : Nat → Nat → Int32} {cText : Nat → Option Nat} {iN : Nat → Int32} {iRow : Nat → Int32} {iFor : Nat → Int32} {iRoad : Nat → Int32} {iFear : Nat → Int32} {iCall : Nat → Int32} {iUnl : Nat → Int32} {iPaid : Nat → Nat → Int32} {iStep : Nat → Nat → Int32} {iGain : Nat → Nat → Int32} {iText : Nat → Option Nat} {tp : va_W} {ncN : Nat → Int32} {ncStep : Nat → Nat → Int32} {φ : Nat} (hf : S_keeps φ cN cRow cStep = some (ncN, ncStep)) : CX l yX1_keeps (ws_ yX1_keeps cX1_keeps 2 none) ({ frames := 2, cells := 0, slots := 0, locals := 39 } : Room) g z [.ref hn] (xW g h hn hi ad ra sTaped sFault sFaultA sWays sMay sMust cTape cNames cHead cSure cN cRow cTried cFor cRoad cFear cCall cUnl cPaid cStep cGain cText iN iRow iFor iRoad iFear iCall iUnl iPaid iStep iGain iText tp) none (xW g h hn hi ad ra sTaped sFault sFaultA sWays sMay sMust cTape cNames cHead cSure ncN cRow cTried cFor cRoad cFear cCall cUnl cPaid ncStep cGain cText iN iRow iFor iRoad iFear iCall iUnl iPaid iStep iGain iText tp) 0 0 := by
  refine CX.of RX1 rfl plain_X1 (Nat.le_of_ble_eq_true rfl) (fun p e s m below meth c A ls X hF hP hD hS hl => ?_)
  have hx := X.1
  have hb := X.2.1
  have hown := X.2.2.2.2.2.1
  have hts := X.2.2.2.2.2.2.1
  have hl : lv_has ls 2 [(0, .ref hn)] := hl
  unfold S_keeps at hf
  refine lv_aload_n hx hb dX1_keeps_0 rfl (lv_at hl 0 rfl) ?_
  refine gX_X1_now_n X hP dX1_keeps_1 ?_
  refine lv_iconst (v := 4) hx hb dX1_keeps_4 (by decide) ?_
  obtain ⟨v1, ev1, bv1, hf⟩ := rds hf
  refine lX_cN X hP ev1 bv1 dX1_keeps_5 ?_
  refine lv_bipush (v := 30) hx hb dX1_keeps_6 (by decide) ?_
  obtain ⟨c2, c3, k4, hf⟩ := bd2s hf
  have hj5 : ∀ (H : Heap) (locs : List Loc) (ls : Array Slot), va_P g.1 vwCl (xW g h hn hi ad ra sTaped sFault sFaultA sWays sMay sMust cTape cNames cHead cSure c2 cRow cTried cFor cRoad cFear cCall cUnl cPaid c3 cGain cText iN iRow iFor iRoad iFear iCall iUnl iPaid iStep iGain iText tp) H → va_D A (xW g h hn hi ad ra sTaped sFault sFaultA sWays sMay sMust cTape cNames cHead cSure c2 cRow cTried cFor cRoad cFear cCall cUnl cPaid c3 cGain cText iN iRow iFor iRoad iFear iCall iUnl iPaid iStep iGain iText tp) → va_S A s.heap H locs → lv_has ls 2 [(0, .ref hn)] → W p l e ({ frames := 2, cells := 0, slots := 0, locals := 39 } : Room) s m ([.ref hn] : List Value).toArray below meth c H locs 0 0 (MQ below (QQ g none (xW g h hn hi ad ra sTaped sFault sFaultA sWays sMay sMust cTape cNames cHead cSure ncN cRow cTried cFor cRoad cFear cCall cUnl cPaid ncStep cGain cText iN iRow iFor iRoad iFear iCall iUnl iPaid iStep iGain iText tp) A) ([.ref hn] : List Value).toArray s 0 0 A) (F0 m 52 ls []) := by
    intro H locs ls hP hD hS hl
    refine lv_aload_n hx hb dX1_keeps_52 rfl (lv_at hl 0 rfl) ?_
    refine gX_X1_now_row X hP dX1_keeps_53 ?_
    refine lv_aload_n hx hb dX1_keeps_56 rfl (lv_at hl 0 rfl) ?_
    refine gX_X1_now_step X hP dX1_keeps_57 ?_
    refine lv_aload_n hx hb dX1_keeps_60 rfl (lv_at hl 0 rfl) ?_
    refine gX_X1_now_n X hP dX1_keeps_61 ?_
    refine lv_iconst (v := 4) hx hb dX1_keeps_64 (by decide) ?_
    obtain ⟨v6, ev6, bv6, hf⟩ := rds hf
    refine lX_cN X hP ev6 bv6 dX1_keeps_65 ?_
    obtain ⟨b7, hf⟩ := inbs hf
    refine aX_cStep X hP b7 dX1_keeps_66 ?_
    obtain ⟨c8, ec8, hf⟩ := lts hf
    refine cCopy X q249 hl.1 hP hD hS xat_cRow (xat_cStep (vp_lt b7)) (by have qb7 := vp_lt b7; omega) (Nat.le_of_ble_eq_true rfl) (xset_cStep (vp_lt b7) ec8) ⟨Nat.le_of_ble_eq_true rfl, Nat.le_of_ble_eq_true rfl⟩ ⟨Nat.zero_le _, Nat.zero_le _⟩ (Nat.le_of_ble_eq_true rfl) dX1_keeps_67 (fun H locs hP hD hS => ?_)
    refine lv_aload_n hx hb dX1_keeps_70 rfl (lv_at hl 0 rfl) ?_
    refine gX_X1_now_n X hP dX1_keeps_71 ?_
    refine lv_iconst (v := 4) hx hb dX1_keeps_74 (by decide) ?_
    refine lv_dup2_11 hx hb dX1_keeps_75 rfl rfl ?_
    obtain ⟨v9, ev9, bv9, hf⟩ := rds hf
    refine lX_cN X hP ev9 bv9 dX1_keeps_76 ?_
    refine lv_iconst (v := 1) hx hb dX1_keeps_77 (by decide) ?_
    refine lv_iadd hx hb dX1_keeps_78 ?_
    obtain ⟨v10, ev10, hf⟩ := lts hf
    refine tpi ev10 ?_
    obtain ⟨c11, ec11, bc11, hf⟩ := wrs hf
    refine sX_cN X hP hD hS ec11 bc11 dX1_keeps_79 (fun H locs hP hD hS => ?_)
    cases hf
    exact rV X hP hD hS dX1_keeps_80
  replace hf := k4
  clear k4
  refine bc_ne (tgt := 52) hx hb hf dX1_keeps_8 (by decide) (fun hf => ?_) (fun hf => ?_)
  · cases hf
    exact hj5 _ _ _ hP hD hS (lv_sub hl [0] rfl)
  · refine lv_iconst (v := 1) hx hb dX1_keeps_11 (by decide) ?_
    refine lv_istore_n (lv' := [(1, .int 1), (0, .ref hn)]) hx hb dX1_keeps_12 rfl hl (by decide) rfl (fun ls hl => ?_)
    obtain ⟨c14, k19, hf⟩ := bd1s hf
    have hE16 : ∀ (H : Heap) (locs : List Loc) (ls : Array Slot), va_P g.1 vwCl (xW g h hn hi ad ra sTaped sFault sFaultA sWays sMay sMust cTape cNames cHead cSure cN cRow cTried cFor cRoad cFear cCall cUnl cPaid c14 cGain cText iN iRow iFor iRoad iFear iCall iUnl iPaid iStep iGain iText tp) H → va_D A (xW g h hn hi ad ra sTaped sFault sFaultA sWays sMay sMust cTape cNames cHead cSure cN cRow cTried cFor cRoad cFear cCall cUnl cPaid c14 cGain cText iN iRow iFor iRoad iFear iCall iUnl iPaid iStep iGain iText tp) → va_S A s.heap H locs → lv_has ls 2 [(0, .ref hn)] → W p l e ({ frames := 2, cells := 0, slots := 0, locals := 39 } : Room) s m ([.ref hn] : List Value).toArray below meth c H locs 0 0 (MQ below (QQ g none (xW g h hn hi ad ra sTaped sFault sFaultA sWays sMay sMust cTape cNames cHead cSure ncN cRow cTried cFor cRoad cFear cCall cUnl cPaid ncStep cGain cText iN iRow iFor iRoad iFear iCall iUnl iPaid iStep iGain iText tp) A) ([.ref hn] : List Value).toArray s 0 0 A) (F0 m 42 ls []) := by
      intro H locs ls hP hD hS hl
      refine lv_aload_n hx hb dX1_keeps_42 rfl (lv_at hl 0 rfl) ?_
      refine gX_X1_now_n X hP dX1_keeps_43 ?_
      refine lv_iconst (v := 4) hx hb dX1_keeps_46 (by decide) ?_
      refine lv_dup2_11 hx hb dX1_keeps_47 rfl rfl ?_
      obtain ⟨v20, ev20, bv20, hf⟩ := rds hf
      refine lX_cN X hP ev20 bv20 dX1_keeps_48 ?_
      refine lv_iconst (v := 1) hx hb dX1_keeps_49 (by decide) ?_
      refine lv_isub hx hb dX1_keeps_50 ?_
      obtain ⟨v21, ev21, hf⟩ := lts hf
      refine tpi ev21 ?_
      obtain ⟨c22, ec22, bc22, hf⟩ := wrs hf
      refine sX_cN X hP hD hS ec22 bc22 dX1_keeps_51 (fun H locs hP hD hS => ?_)
      cases hf
      exact hj5 _ _ _ hP hD hS (lv_sub hl [0] rfl)
    have hL17 : ∀ (n15 : Nat) (v12 : Int32) (c13 : Nat → Nat → Int32), S_keeps_L13 φ n15 v12 c13 = some c14 → ∀ (H : Heap) (locs : List Loc) (ls : Array Slot), va_P g.1 vwCl (xW g h hn hi ad ra sTaped sFault sFaultA sWays sMay sMust cTape cNames cHead cSure cN cRow cTried cFor cRoad cFear cCall cUnl cPaid c13 cGain cText iN iRow iFor iRoad iFear iCall iUnl iPaid iStep iGain iText tp) H → va_D A (xW g h hn hi ad ra sTaped sFault sFaultA sWays sMay sMust cTape cNames cHead cSure cN cRow cTried cFor cRoad cFear cCall cUnl cPaid c13 cGain cText iN iRow iFor iRoad iFear iCall iUnl iPaid iStep iGain iText tp) → va_S A s.heap H locs → lv_has ls 2 [(0, .ref hn), (1, .int v12)] → W p l e ({ frames := 2, cells := 0, slots := 0, locals := 39 } : Room) s m ([.ref hn] : List Value).toArray below meth c H locs 0 0 (MQ below (QQ g none (xW g h hn hi ad ra sTaped sFault sFaultA sWays sMay sMust cTape cNames cHead cSure ncN cRow cTried cFor cRoad cFear cCall cUnl cPaid ncStep cGain cText iN iRow iFor iRoad iFear iCall iUnl iPaid iStep iGain iText tp) A) ([.ref hn] : List Value).toArray s 0 0 A) (F0 m 13 ls []) := by
      intro n15
      induction n15 with
      | zero =>
        intro v12 c13 hf
        exact nn hf
      | succ n15 ih18 =>
        intro v12 c13 hf H locs ls hP hD hS hl
        rw [S_keeps_L13] at hf
        refine lv_iload_n hx hb dX1_keeps_13 rfl (lv_at hl 1 rfl) ?_
        refine lv_bipush (v := 30) hx hb dX1_keeps_14 (by decide) ?_
        refine bc_ge (tgt := 42) hx hb hf dX1_keeps_16 (by decide) (fun hf => ?_) (fun hf => ?_)
        · cases hf
          exact hE16 _ _ _ hP hD hS (lv_sub hl [0] rfl)
        · refine lv_aload_n hx hb dX1_keeps_19 rfl (lv_at hl 0 rfl) ?_
          refine gX_X1_now_step X hP dX1_keeps_20 ?_
          refine lv_iload_n hx hb dX1_keeps_23 rfl (lv_at hl 1 rfl) ?_
          obtain ⟨b23, hf⟩ := inbs hf
          refine aX_cStep X hP b23 dX1_keeps_24 ?_
          refine lv_aload_n hx hb dX1_keeps_25 rfl (lv_at hl 0 rfl) ?_
          refine gX_X1_now_step X hP dX1_keeps_26 ?_
          refine lv_iload_n hx hb dX1_keeps_29 rfl (lv_at hl 1 rfl) ?_
          refine lv_iconst (v := 1) hx hb dX1_keeps_30 (by decide) ?_
          refine lv_isub hx hb dX1_keeps_31 ?_
          obtain ⟨v24, ev24, hf⟩ := lts hf
          refine tpi ev24 ?_
          obtain ⟨b25, hf⟩ := inbs hf
          refine aX_cStep X hP b25 dX1_keeps_32 ?_
          obtain ⟨c26, ec26, hf⟩ := lts hf
          refine cCopy X q249 hl.1 hP hD hS (xat_cStep (vp_lt b23)) (xat_cStep (vp_lt b25)) (by have q := nat_ne b23 b25 ev24; omega) (Nat.le_of_ble_eq_true rfl) (xset_cStep (vp_lt b25) ec26) ⟨Nat.le_of_ble_eq_true rfl, Nat.le_of_ble_eq_true rfl⟩ ⟨Nat.zero_le _, Nat.zero_le _⟩ (Nat.le_of_ble_eq_true rfl) dX1_keeps_33 (fun H locs hP hD hS => ?_)
          obtain ⟨v27, ev27, hf⟩ := lts hf
          refine lv_iinc (v := v27) (lv' := [(1, .int v27), (0, .ref hn)]) hx hb dX1_keeps_36 hl (k := 1) rfl (by rw [ev27]; rfl) (by decide) rfl (fun ls hl => ?_)
          refine lv_goto (tgt := 13) hx hb dX1_keeps_39 (by decide) ?_
          exact ih18 _ _ hf _ _ _ hP hD hS (lv_sub hl [1, 0] rfl)
    exact hL17 _ _ _ k19 _ _ _ hP hD hS (lv_sub hl [1, 0] rfl)
set_option maxHeartbeats 4000000 in
theorem met_X_atR {l : Launch} {g : gG} {h hn hi : Nat} {ad : Nat → Nat} {ra : Nat → Nat → Nat} {z : Nat → Nat} {sTaped : Int32} {sFault : Int32} {sFaultA : Int32} {sWays : Int32} {sMay : Int32} {sMust : Int32} {cTape : Nat → Int32} {cNames : Nat → Int32} {cHead : Nat → Int32} {cSure : Nat → Nat → Int32} {cN : Nat → Int32} {cRow : Nat → Int32} {cTried : Nat → Int32} {cFor : Nat → Int32} {cRoad : Nat → Int32} {cFear : Nat → Int32} {cCall : Nat → Int32} {cUnl : Nat → Int32} {cPaid : Nat → Nat → Int32} {cStep : Nat → Nat → Int32} {cGain : Nat → Nat → Int32} {cText : Nat → Option Nat} {iN : Nat → Int32} {iRow : Nat → Int32} {iFor : Nat → Int32} {iRoad : Nat → Int32} {iFear : Nat → Int32} {iCall : Nat → Int32} {iUnl : Nat → Int32} {iPaid : Nat → Nat → Int32} {iStep : Nat → Nat → Int32} {iGain : Nat → Nat → Int32} {iText : Nat → Option Nat} {tp : va_W} {x1 : Int32} {x2 : Int32} {r : Int32} (hf : X_at cRow x1 x2 = some r) : CX l yX0_at (ws_ yX0_at cX0_at 3 (some .int)) ({ frames := 0, cells := 0, slots := 0, locals := 0 } : Room) g z [.ref (ad 6), .int x1, .int x2] (xW g h hn hi ad ra sTaped sFault sFaultA sWays sMay sMust cTape cNames cHead cSure cN cRow cTried cFor cRoad cFear cCall cUnl cPaid cStep cGain cText iN iRow iFor iRoad iFear iCall iUnl iPaid iStep iGain iText tp) (some (.int r)) (xW g h hn hi ad ra sTaped sFault sFaultA sWays sMay sMust cTape cNames cHead cSure cN cRow cTried cFor cRoad cFear cCall cUnl cPaid cStep cGain cText iN iRow iFor iRoad iFear iCall iUnl iPaid iStep iGain iText tp) 0 0 := by
  refine CX.of RX0 rfl plain_X0 (Nat.le_of_ble_eq_true rfl) (fun p e s m below meth c A ls X hF hP hD hS hl => ?_)
  have hx := X.1
  have hb := X.2.1
  have hown := X.2.2.2.2.2.1
  have hts := X.2.2.2.2.2.2.1
  have hl : lv_has ls 3 [(0, .ref (ad 6)), (1, .int x1), (2, .int x2)] := hl
  unfold X_at at hf
  refine lv_aload_n hx hb dX0_at_0 rfl (lv_at hl 0 rfl) ?_
  refine lv_iconst (v := 2) hx hb dX0_at_1 (by decide) ?_
  refine lv_bipush (v := 7) hx hb dX0_at_2 (by decide) ?_
  refine lv_iload_n hx hb dX0_at_4 rfl (lv_at hl 1 rfl) ?_
  refine lv_imul hx hb dX0_at_5 ?_
  refine lv_iadd hx hb dX0_at_6 ?_
  refine lv_iload_n hx hb dX0_at_7 rfl (lv_at hl 2 rfl) ?_
  refine lv_iadd hx hb dX0_at_8 ?_
  obtain ⟨v1, ev1, bv1, hf⟩ := rds hf
  refine lX_cRow X hP ev1 bv1 dX0_at_9 ?_
  cases hf
  exact rI X hP hD hS dX0_at_10
theorem gs_X0_X0_at : GoodIn lw_all (va_wsS RX0 72 yX0_at (ws_ yX0_at cX0_at 3 (some .int))) := lw_S q904 q905 q145 q906
theorem dy_X0_at : Dy yX0_at RX0 3 := by decide +kernel
set_option maxHeartbeats 4000000 in
theorem met_X_crowdInR {l : Launch} {g : gG} {h hn hi : Nat} {ad : Nat → Nat} {ra : Nat → Nat → Nat} {z : Nat → Nat} {sTaped : Int32} {sFault : Int32} {sFaultA : Int32} {sWays : Int32} {sMay : Int32} {sMust : Int32} {cTape : Nat → Int32} {cNames : Nat → Int32} {cHead : Nat → Int32} {cSure : Nat → Nat → Int32} {cN : Nat → Int32} {cRow : Nat → Int32} {cTried : Nat → Int32} {cFor : Nat → Int32} {cRoad : Nat → Int32} {cFear : Nat → Int32} {cCall : Nat → Int32} {cUnl : Nat → Int32} {cPaid : Nat → Nat → Int32} {cStep : Nat → Nat → Int32} {cGain : Nat → Nat → Int32} {cText : Nat → Option Nat} {iN : Nat → Int32} {iRow : Nat → Int32} {iFor : Nat → Int32} {iRoad : Nat → Int32} {iFear : Nat → Int32} {iCall : Nat → Int32} {iUnl : Nat → Int32} {iPaid : Nat → Nat → Int32} {iStep : Nat → Nat → Int32} {iGain : Nat → Nat → Int32} {iText : Nat → Option Nat} {tp : va_W} {x2 : Int32} {x3 : Int32} {r : Int32} {φ : Nat} (hf : X_crowdIn φ cN cRow x2 x3 = some r) : CX l yX0_crowdIn (ws_ yX0_crowdIn cX0_crowdIn 6 (some .int)) ({ frames := 1, cells := 0, slots := 0, locals := 22 } : Room) g z [.ref h, .ref (ad 6), .int x2, .int x3] (xW g h hn hi ad ra sTaped sFault sFaultA sWays sMay sMust cTape cNames cHead cSure cN cRow cTried cFor cRoad cFear cCall cUnl cPaid cStep cGain cText iN iRow iFor iRoad iFear iCall iUnl iPaid iStep iGain iText tp) (some (.int r)) (xW g h hn hi ad ra sTaped sFault sFaultA sWays sMay sMust cTape cNames cHead cSure cN cRow cTried cFor cRoad cFear cCall cUnl cPaid cStep cGain cText iN iRow iFor iRoad iFear iCall iUnl iPaid iStep iGain iText tp) 0 0 := by
  refine CX.of RX0 rfl plain_X0 (Nat.le_of_ble_eq_true rfl) (fun p e s m below meth c A ls X hF hP hD hS hl => ?_)
  have hx := X.1
  have hb := X.2.1
  have hown := X.2.2.2.2.2.1
  have hts := X.2.2.2.2.2.2.1
  have hl : lv_has ls 6 [(0, .ref h), (1, .ref (ad 6)), (2, .int x2), (3, .int x3)] := hl
  unfold X_crowdIn at hf
  refine lv_iconst (v := 0) hx hb dX0_crowdIn_0 (by decide) ?_
  refine lv_istore (lv' := [(4, .int 0), (0, .ref h), (1, .ref (ad 6)), (2, .int x2), (3, .int x3)]) hx hb dX0_crowdIn_1 hl (by decide) rfl (fun ls hl => ?_)
  refine lv_iconst (v := 0) hx hb dX0_crowdIn_3 (by decide) ?_
  refine lv_istore (lv' := [(5, .int 0), (4, .int 0), (0, .ref h), (1, .ref (ad 6)), (2, .int x2), (3, .int x3)]) hx hb dX0_crowdIn_4 hl (by decide) rfl (fun ls hl => ?_)
  obtain ⟨v3, k8, hf⟩ := bd1s hf
  have hE5 : ∀ (H : Heap) (locs : List Loc) (ls : Array Slot), va_P g.1 vwCl (xW g h hn hi ad ra sTaped sFault sFaultA sWays sMay sMust cTape cNames cHead cSure cN cRow cTried cFor cRoad cFear cCall cUnl cPaid cStep cGain cText iN iRow iFor iRoad iFear iCall iUnl iPaid iStep iGain iText tp) H → va_D A (xW g h hn hi ad ra sTaped sFault sFaultA sWays sMay sMust cTape cNames cHead cSure cN cRow cTried cFor cRoad cFear cCall cUnl cPaid cStep cGain cText iN iRow iFor iRoad iFear iCall iUnl iPaid iStep iGain iText tp) → va_S A s.heap H locs → lv_has ls 6 [(4, .int v3)] → W p l e ({ frames := 1, cells := 0, slots := 0, locals := 22 } : Room) s m ([.ref h, .ref (ad 6), .int x2, .int x3] : List Value).toArray below meth c H locs 0 0 (MQ below (QQ g (some (.int r)) (xW g h hn hi ad ra sTaped sFault sFaultA sWays sMay sMust cTape cNames cHead cSure cN cRow cTried cFor cRoad cFear cCall cUnl cPaid cStep cGain cText iN iRow iFor iRoad iFear iCall iUnl iPaid iStep iGain iText tp) A) ([.ref h, .ref (ad 6), .int x2, .int x3] : List Value).toArray s 0 0 A) (F0 m 65 ls []) := by
    intro H locs ls hP hD hS hl
    refine lv_iload hx hb dX0_crowdIn_65 (lv_at hl 0 rfl) ?_
    cases hf
    exact rI X hP hD hS dX0_crowdIn_67
  have hL6 : ∀ (n4 : Nat) (v1 : Int32) (v2 : Int32), X_crowdIn_L6 φ x2 x3 cN cRow n4 v1 v2 = some v3 → ∀ (H : Heap) (locs : List Loc) (ls : Array Slot), va_P g.1 vwCl (xW g h hn hi ad ra sTaped sFault sFaultA sWays sMay sMust cTape cNames cHead cSure cN cRow cTried cFor cRoad cFear cCall cUnl cPaid cStep cGain cText iN iRow iFor iRoad iFear iCall iUnl iPaid iStep iGain iText tp) H → va_D A (xW g h hn hi ad ra sTaped sFault sFaultA sWays sMay sMust cTape cNames cHead cSure cN cRow cTried cFor cRoad cFear cCall cUnl cPaid cStep cGain cText iN iRow iFor iRoad iFear iCall iUnl iPaid iStep iGain iText tp) → va_S A s.heap H locs → lv_has ls 6 [(0, .ref h), (1, .ref (ad 6)), (2, .int x2), (3, .int x3), (4, .int v1), (5, .int v2)] → W p l e ({ frames := 1, cells := 0, slots := 0, locals := 22 } : Room) s m ([.ref h, .ref (ad 6), .int x2, .int x3] : List Value).toArray below meth c H locs 0 0 (MQ below (QQ g (some (.int r)) (xW g h hn hi ad ra sTaped sFault sFaultA sWays sMay sMust cTape cNames cHead cSure cN cRow cTried cFor cRoad cFear cCall cUnl cPaid cStep cGain cText iN iRow iFor iRoad iFear iCall iUnl iPaid iStep iGain iText tp) A) ([.ref h, .ref (ad 6), .int x2, .int x3] : List Value).toArray s 0 0 A) (F0 m 6 ls []) := by
    intro n4
    induction n4 with
    | zero =>
      intro v1 v2 hf
      exact nn hf
    | succ n4 ih7 =>
      intro v1 v2 hf H locs ls hP hD hS hl
      rw [X_crowdIn_L6] at hf
      refine lv_iload hx hb dX0_crowdIn_6 (lv_at hl 5 rfl) ?_
      refine lv_aload_n hx hb dX0_crowdIn_8 rfl (lv_at hl 0 rfl) ?_
      refine gX_X0_this_now X hP dX0_crowdIn_9 ?_
      refine gX_X0_now_n X hF hP dX0_crowdIn_12 ?_
      refine lv_iconst (v := 1) hx hb dX0_crowdIn_15 (by decide) ?_
      obtain ⟨v9, ev9, bv9, hf⟩ := rds hf
      refine lX_cN X hP ev9 bv9 dX0_crowdIn_16 ?_
      refine bc_ge (tgt := 65) hx hb hf dX0_crowdIn_17 (by decide) (fun hf => ?_) (fun hf => ?_)
      · cases hf
        exact hE5 _ _ _ hP hD hS (lv_sub hl [4] rfl)
      · refine lv_iload hx hb dX0_crowdIn_20 (lv_at hl 4 rfl) ?_
        refine lv_iload hx hb dX0_crowdIn_22 (lv_at hl 5 rfl) ?_
        refine lv_iload_n hx hb dX0_crowdIn_24 rfl (lv_at hl 2 rfl) ?_
        refine bc_eq (tgt := 55) hx hb hf dX0_crowdIn_25 (by decide) (fun hf => ?_) (fun hf => ?_)
        · refine lv_iconst (v := 0) hx hb dX0_crowdIn_55 (by decide) ?_
          refine lv_iadd hx hb dX0_crowdIn_56 ?_
          obtain ⟨v10, ev10, hf⟩ := lts hf
          refine tpi ev10 ?_
          refine lv_istore (lv' := [(4, .int v10), (0, .ref h), (1, .ref (ad 6)), (2, .int x2), (3, .int x3), (5, .int v2)]) hx hb dX0_crowdIn_57 hl (by decide) rfl (fun ls hl => ?_)
          obtain ⟨v11, ev11, hf⟩ := lts hf
          refine lv_iinc (v := v11) (lv' := [(5, .int v11), (4, .int v10), (0, .ref h), (1, .ref (ad 6)), (2, .int x2), (3, .int x3)]) hx hb dX0_crowdIn_59 hl (k := 5) rfl (by rw [ev11]; rfl) (by decide) rfl (fun ls hl => ?_)
          refine lv_goto (tgt := 6) hx hb dX0_crowdIn_62 (by decide) ?_
          exact ih7 _ _ hf _ _ _ hP hD hS (lv_sub hl [2, 3, 4, 5, 1, 0] rfl)
        · refine lv_aload_n hx hb dX0_crowdIn_28 rfl (lv_at hl 1 rfl) ?_
          refine lv_iload hx hb dX0_crowdIn_29 (lv_at hl 5 rfl) ?_
          refine lv_bipush (v := 6) hx hb dX0_crowdIn_31 (by decide) ?_
          obtain ⟨r12, k13, hf⟩ := bd1s hf
          refine xSi (rest := [.int v1]) X hF (met_X_atR k13) gs_X0_X0_at dy_X0_at ⟨⟨rfl, rfl⟩, Nat.le_of_ble_eq_true rfl, Nat.le_of_ble_eq_true rfl⟩ hP hD hS hl.1 rfl rfl ⟨Nat.zero_le _, Nat.zero_le _⟩ (Nat.le_of_ble_eq_true rfl) dX0_crowdIn_33 (fun H locs hP hD hS => ?_)
          refine lv_iconst (v := 3) hx hb dX0_crowdIn_36 (by decide) ?_
          refine bc_eq (tgt := 55) hx hb hf dX0_crowdIn_37 (by decide) (fun hf => ?_) (fun hf => ?_)
          · refine lv_iconst (v := 0) hx hb dX0_crowdIn_55 (by decide) ?_
            refine lv_iadd hx hb dX0_crowdIn_56 ?_
            obtain ⟨v14, ev14, hf⟩ := lts hf
            refine tpi ev14 ?_
            refine lv_istore (lv' := [(4, .int v14), (0, .ref h), (1, .ref (ad 6)), (2, .int x2), (3, .int x3), (5, .int v2)]) hx hb dX0_crowdIn_57 hl (by decide) rfl (fun ls hl => ?_)
            obtain ⟨v15, ev15, hf⟩ := lts hf
            refine lv_iinc (v := v15) (lv' := [(5, .int v15), (4, .int v14), (0, .ref h), (1, .ref (ad 6)), (2, .int x2), (3, .int x3)]) hx hb dX0_crowdIn_59 hl (k := 5) rfl (by rw [ev15]; rfl) (by decide) rfl (fun ls hl => ?_)
            refine lv_goto (tgt := 6) hx hb dX0_crowdIn_62 (by decide) ?_
            exact ih7 _ _ hf _ _ _ hP hD hS (lv_sub hl [2, 3, 4, 5, 1, 0] rfl)
          · refine lv_aload_n hx hb dX0_crowdIn_40 rfl (lv_at hl 1 rfl) ?_
            refine lv_iload hx hb dX0_crowdIn_41 (lv_at hl 5 rfl) ?_
            refine lv_iconst (v := 0) hx hb dX0_crowdIn_43 (by decide) ?_
            obtain ⟨r16, k17, hf⟩ := bd1s hf
            refine xSi (rest := [.int v1]) X hF (met_X_atR k17) gs_X0_X0_at dy_X0_at ⟨⟨rfl, rfl⟩, Nat.le_of_ble_eq_true rfl, Nat.le_of_ble_eq_true rfl⟩ hP hD hS hl.1 rfl rfl ⟨Nat.zero_le _, Nat.zero_le _⟩ (Nat.le_of_ble_eq_true rfl) dX0_crowdIn_44 (fun H locs hP hD hS => ?_)
            refine lv_iload_n hx hb dX0_crowdIn_47 rfl (lv_at hl 3 rfl) ?_
            refine bc_ne (tgt := 55) hx hb hf dX0_crowdIn_48 (by decide) (fun hf => ?_) (fun hf => ?_)
            · refine lv_iconst (v := 0) hx hb dX0_crowdIn_55 (by decide) ?_
              refine lv_iadd hx hb dX0_crowdIn_56 ?_
              obtain ⟨v18, ev18, hf⟩ := lts hf
              refine tpi ev18 ?_
              refine lv_istore (lv' := [(4, .int v18), (0, .ref h), (1, .ref (ad 6)), (2, .int x2), (3, .int x3), (5, .int v2)]) hx hb dX0_crowdIn_57 hl (by decide) rfl (fun ls hl => ?_)
              obtain ⟨v19, ev19, hf⟩ := lts hf
              refine lv_iinc (v := v19) (lv' := [(5, .int v19), (4, .int v18), (0, .ref h), (1, .ref (ad 6)), (2, .int x2), (3, .int x3)]) hx hb dX0_crowdIn_59 hl (k := 5) rfl (by rw [ev19]; rfl) (by decide) rfl (fun ls hl => ?_)
              refine lv_goto (tgt := 6) hx hb dX0_crowdIn_62 (by decide) ?_
              exact ih7 _ _ hf _ _ _ hP hD hS (lv_sub hl [2, 3, 4, 5, 1, 0] rfl)
            · refine lv_iconst (v := 1) hx hb dX0_crowdIn_51 (by decide) ?_
              refine lv_goto (tgt := 56) hx hb dX0_crowdIn_52 (by decide) ?_
              refine lv_iadd hx hb dX0_crowdIn_56 ?_
              obtain ⟨v20, ev20, hf⟩ := lts hf
              refine tpi ev20 ?_
              refine lv_istore (lv' := [(4, .int v20), (0, .ref h), (1, .ref (ad 6)), (2, .int x2), (3, .int x3), (5, .int v2)]) hx hb dX0_crowdIn_57 hl (by decide) rfl (fun ls hl => ?_)
              obtain ⟨v21, ev21, hf⟩ := lts hf
              refine lv_iinc (v := v21) (lv' := [(5, .int v21), (4, .int v20), (0, .ref h), (1, .ref (ad 6)), (2, .int x2), (3, .int x3)]) hx hb dX0_crowdIn_59 hl (k := 5) rfl (by rw [ev21]; rfl) (by decide) rfl (fun ls hl => ?_)
              refine lv_goto (tgt := 6) hx hb dX0_crowdIn_62 (by decide) ?_
              exact ih7 _ _ hf _ _ _ hP hD hS (lv_sub hl [2, 3, 4, 5, 1, 0] rfl)
  exact hL6 _ _ _ k8 _ _ _ hP hD hS (lv_sub hl [2, 3, 4, 5, 1, 0] rfl)
theorem gw_X0_X0_crowdIn : GoodIn lw_all (wsV RX0 132 RX0 yX0_crowdIn (ws_ yX0_crowdIn cX0_crowdIn 6 (some .int))) := lw_V q915 q917 qs28 q145 q918
theorem dy_X0_crowdIn : Dy yX0_crowdIn RX0 3 := by decide +kernel
set_option maxHeartbeats 4000000 in
theorem met_X_namesOfR {l : Launch} {g : gG} {h hn hi : Nat} {ad : Nat → Nat} {ra : Nat → Nat → Nat} {z : Nat → Nat} {sTaped : Int32} {sFault : Int32} {sFaultA : Int32} {sWays : Int32} {sMay : Int32} {sMust : Int32} {cTape : Nat → Int32} {cNames : Nat → Int32} {cHead : Nat → Int32} {cSure : Nat → Nat → Int32} {cN : Nat → Int32} {cRow : Nat → Int32} {cTried : Nat → Int32} {cFor : Nat → Int32} {cRoad : Nat → Int32} {cFear : Nat → Int32} {cCall : Nat → Int32} {cUnl : Nat → Int32} {cPaid : Nat → Nat → Int32} {cStep : Nat → Nat → Int32} {cGain : Nat → Nat → Int32} {cText : Nat → Option Nat} {iN : Nat → Int32} {iRow : Nat → Int32} {iFor : Nat → Int32} {iRoad : Nat → Int32} {iFear : Nat → Int32} {iCall : Nat → Int32} {iUnl : Nat → Int32} {iPaid : Nat → Nat → Int32} {iStep : Nat → Nat → Int32} {iGain : Nat → Nat → Int32} {iText : Nat → Option Nat} {tp : va_W} {x2 : Int32} {x3 : Int32} {ncNames : Nat → Int32} {φ : Nat} (hf : X_namesOf φ cNames cN cRow cFor cFear x2 x3 = some ncNames) : CX l yX0_namesOf (ws_ yX0_namesOf cX0_namesOf 4 none) ({ frames := 2, cells := 0, slots := 0, locals := 47 } : Room) g z [.ref h, .ref (ad 6), .int x2, .int x3] (xW g h hn hi ad ra sTaped sFault sFaultA sWays sMay sMust cTape cNames cHead cSure cN cRow cTried cFor cRoad cFear cCall cUnl cPaid cStep cGain cText iN iRow iFor iRoad iFear iCall iUnl iPaid iStep iGain iText tp) none (xW g h hn hi ad ra sTaped sFault sFaultA sWays sMay sMust cTape ncNames cHead cSure cN cRow cTried cFor cRoad cFear cCall cUnl cPaid cStep cGain cText iN iRow iFor iRoad iFear iCall iUnl iPaid iStep iGain iText tp) 0 0 := by
  refine CX.of RX0 rfl plain_X0 (Nat.le_of_ble_eq_true rfl) (fun p e s m below meth c A ls X hF hP hD hS hl => ?_)
  have hx := X.1
  have hb := X.2.1
  have hown := X.2.2.2.2.2.1
  have hts := X.2.2.2.2.2.2.1
  have hl : lv_has ls 4 [(0, .ref h), (1, .ref (ad 6)), (2, .int x2), (3, .int x3)] := hl
  unfold X_namesOf at hf
  refine lv_aload_n hx hb dX0_namesOf_0 rfl (lv_at hl 0 rfl) ?_
  refine gX_X0_this_names X hP dX0_namesOf_1 ?_
  refine lv_iconst (v := 0) hx hb dX0_namesOf_4 (by decide) ?_
  refine lv_aload_n hx hb dX0_namesOf_5 rfl (lv_at hl 1 rfl) ?_
  refine lv_iconst (v := 0) hx hb dX0_namesOf_6 (by decide) ?_
  obtain ⟨v1, ev1, bv1, hf⟩ := rds hf
  refine lX_cRow X hP ev1 bv1 dX0_namesOf_7 ?_
  obtain ⟨c2, ec2, bc2, hf⟩ := wrs hf
  refine sX_cNames X hP hD hS ec2 bc2 dX0_namesOf_8 (fun H locs hP hD hS => ?_)
  refine lv_aload_n hx hb dX0_namesOf_9 rfl (lv_at hl 0 rfl) ?_
  refine gX_X0_this_names X hP dX0_namesOf_10 ?_
  refine lv_iconst (v := 1) hx hb dX0_namesOf_13 (by decide) ?_
  refine lv_iload_n hx hb dX0_namesOf_14 rfl (lv_at hl 2 rfl) ?_
  obtain ⟨c3, ec3, bc3, hf⟩ := wrs hf
  refine sX_cNames X hP hD hS ec3 bc3 dX0_namesOf_15 (fun H locs hP hD hS => ?_)
  refine lv_aload_n hx hb dX0_namesOf_16 rfl (lv_at hl 0 rfl) ?_
  refine gX_X0_this_names X hP dX0_namesOf_17 ?_
  refine lv_iconst (v := 2) hx hb dX0_namesOf_20 (by decide) ?_
  refine lv_aload_n hx hb dX0_namesOf_21 rfl (lv_at hl 0 rfl) ?_
  refine gX_X0_this_now X hP dX0_namesOf_22 ?_
  refine gX_X0_now_fear X hF hP dX0_namesOf_25 ?_
  refine lv_iload_n hx hb dX0_namesOf_28 rfl (lv_at hl 2 rfl) ?_
  obtain ⟨v4, ev4, bv4, hf⟩ := rds hf
  refine lX_cFear X hP ev4 bv4 dX0_namesOf_29 ?_
  obtain ⟨c5, ec5, bc5, hf⟩ := wrs hf
  refine sX_cNames X hP hD hS ec5 bc5 dX0_namesOf_30 (fun H locs hP hD hS => ?_)
  refine lv_aload_n hx hb dX0_namesOf_31 rfl (lv_at hl 0 rfl) ?_
  refine gX_X0_this_names X hP dX0_namesOf_32 ?_
  refine lv_iconst (v := 3) hx hb dX0_namesOf_35 (by decide) ?_
  refine lv_iload_n hx hb dX0_namesOf_36 rfl (lv_at hl 3 rfl) ?_
  obtain ⟨c6, ec6, bc6, hf⟩ := wrs hf
  refine sX_cNames X hP hD hS ec6 bc6 dX0_namesOf_37 (fun H locs hP hD hS => ?_)
  refine lv_aload_n hx hb dX0_namesOf_38 rfl (lv_at hl 0 rfl) ?_
  refine gX_X0_this_names X hP dX0_namesOf_39 ?_
  refine lv_iconst (v := 4) hx hb dX0_namesOf_42 (by decide) ?_
  refine lv_aload_n hx hb dX0_namesOf_43 rfl (lv_at hl 0 rfl) ?_
  refine gX_X0_this_now X hP dX0_namesOf_44 ?_
  refine gX_X0_now_forest X hF hP dX0_namesOf_47 ?_
  refine lv_iload_n hx hb dX0_namesOf_50 rfl (lv_at hl 3 rfl) ?_
  obtain ⟨v7, ev7, bv7, hf⟩ := rds hf
  refine lX_cFor X hP ev7 bv7 dX0_namesOf_51 ?_
  obtain ⟨c8, ec8, bc8, hf⟩ := wrs hf
  refine sX_cNames X hP hD hS ec8 bc8 dX0_namesOf_52 (fun H locs hP hD hS => ?_)
  refine lv_aload_n hx hb dX0_namesOf_53 rfl (lv_at hl 0 rfl) ?_
  refine gX_X0_this_names X hP dX0_namesOf_54 ?_
  refine lv_iconst (v := 5) hx hb dX0_namesOf_57 (by decide) ?_
  refine lv_aload_n hx hb dX0_namesOf_58 rfl (lv_at hl 1 rfl) ?_
  refine lv_iload_n hx hb dX0_namesOf_59 rfl (lv_at hl 2 rfl) ?_
  refine lv_iconst (v := 4) hx hb dX0_namesOf_60 (by decide) ?_
  obtain ⟨r9, k10, hf⟩ := bd1s hf
  refine xSi (rest := [.int 5, .ref (ad 1)]) X hF (met_X_atR k10) gs_X0_X0_at dy_X0_at ⟨⟨rfl, rfl⟩, Nat.le_of_ble_eq_true rfl, Nat.le_of_ble_eq_true rfl⟩ hP hD hS hl.1 rfl rfl ⟨Nat.zero_le _, Nat.zero_le _⟩ (Nat.le_of_ble_eq_true rfl) dX0_namesOf_61 (fun H locs hP hD hS => ?_)
  obtain ⟨c11, ec11, bc11, hf⟩ := wrs hf
  refine sX_cNames X hP hD hS ec11 bc11 dX0_namesOf_64 (fun H locs hP hD hS => ?_)
  refine lv_aload_n hx hb dX0_namesOf_65 rfl (lv_at hl 0 rfl) ?_
  refine gX_X0_this_names X hP dX0_namesOf_66 ?_
  refine lv_bipush (v := 6) hx hb dX0_namesOf_69 (by decide) ?_
  refine lv_aload_n hx hb dX0_namesOf_71 rfl (lv_at hl 1 rfl) ?_
  refine lv_iload_n hx hb dX0_namesOf_72 rfl (lv_at hl 2 rfl) ?_
  refine lv_iconst (v := 5) hx hb dX0_namesOf_73 (by decide) ?_
  obtain ⟨r12, k13, hf⟩ := bd1s hf
  refine xSi (rest := [.int 6, .ref (ad 1)]) X hF (met_X_atR k13) gs_X0_X0_at dy_X0_at ⟨⟨rfl, rfl⟩, Nat.le_of_ble_eq_true rfl, Nat.le_of_ble_eq_true rfl⟩ hP hD hS hl.1 rfl rfl ⟨Nat.zero_le _, Nat.zero_le _⟩ (Nat.le_of_ble_eq_true rfl) dX0_namesOf_74 (fun H locs hP hD hS => ?_)
  obtain ⟨c14, ec14, bc14, hf⟩ := wrs hf
  refine sX_cNames X hP hD hS ec14 bc14 dX0_namesOf_77 (fun H locs hP hD hS => ?_)
  refine lv_aload_n hx hb dX0_namesOf_78 rfl (lv_at hl 0 rfl) ?_
  refine gX_X0_this_names X hP dX0_namesOf_79 ?_
  refine lv_bipush (v := 7) hx hb dX0_namesOf_82 (by decide) ?_
  refine lv_aload_n hx hb dX0_namesOf_84 rfl (lv_at hl 1 rfl) ?_
  refine lv_iload_n hx hb dX0_namesOf_85 rfl (lv_at hl 2 rfl) ?_
  refine lv_iconst (v := 1) hx hb dX0_namesOf_86 (by decide) ?_
  obtain ⟨r15, k16, hf⟩ := bd1s hf
  refine xSi (rest := [.int 7, .ref (ad 1)]) X hF (met_X_atR k16) gs_X0_X0_at dy_X0_at ⟨⟨rfl, rfl⟩, Nat.le_of_ble_eq_true rfl, Nat.le_of_ble_eq_true rfl⟩ hP hD hS hl.1 rfl rfl ⟨Nat.zero_le _, Nat.zero_le _⟩ (Nat.le_of_ble_eq_true rfl) dX0_namesOf_87 (fun H locs hP hD hS => ?_)
  obtain ⟨c17, ec17, bc17, hf⟩ := wrs hf
  refine sX_cNames X hP hD hS ec17 bc17 dX0_namesOf_90 (fun H locs hP hD hS => ?_)
  refine lv_aload_n hx hb dX0_namesOf_91 rfl (lv_at hl 0 rfl) ?_
  refine gX_X0_this_names X hP dX0_namesOf_92 ?_
  refine lv_bipush (v := 8) hx hb dX0_namesOf_95 (by decide) ?_
  refine lv_aload_n hx hb dX0_namesOf_97 rfl (lv_at hl 1 rfl) ?_
  refine lv_iload_n hx hb dX0_namesOf_98 rfl (lv_at hl 2 rfl) ?_
  refine lv_iconst (v := 2) hx hb dX0_namesOf_99 (by decide) ?_
  obtain ⟨r18, k19, hf⟩ := bd1s hf
  refine xSi (rest := [.int 8, .ref (ad 1)]) X hF (met_X_atR k19) gs_X0_X0_at dy_X0_at ⟨⟨rfl, rfl⟩, Nat.le_of_ble_eq_true rfl, Nat.le_of_ble_eq_true rfl⟩ hP hD hS hl.1 rfl rfl ⟨Nat.zero_le _, Nat.zero_le _⟩ (Nat.le_of_ble_eq_true rfl) dX0_namesOf_100 (fun H locs hP hD hS => ?_)
  obtain ⟨c20, ec20, bc20, hf⟩ := wrs hf
  refine sX_cNames X hP hD hS ec20 bc20 dX0_namesOf_103 (fun H locs hP hD hS => ?_)
  refine lv_aload_n hx hb dX0_namesOf_104 rfl (lv_at hl 0 rfl) ?_
  refine gX_X0_this_names X hP dX0_namesOf_105 ?_
  refine lv_bipush (v := 9) hx hb dX0_namesOf_108 (by decide) ?_
  refine lv_aload_n hx hb dX0_namesOf_110 rfl (lv_at hl 0 rfl) ?_
  refine lv_aload_n hx hb dX0_namesOf_111 rfl (lv_at hl 1 rfl) ?_
  refine lv_iload_n hx hb dX0_namesOf_112 rfl (lv_at hl 2 rfl) ?_
  refine lv_iload_n hx hb dX0_namesOf_113 rfl (lv_at hl 3 rfl) ?_
  obtain ⟨r21, k22, hf⟩ := bd1s hf
  refine xVi (rest := [.int 9, .ref (ad 1)]) X hF (met_X_crowdInR k22) gw_X0_X0_crowdIn dy_X0_crowdIn ⟨⟨rfl, rfl⟩, Nat.le_of_ble_eq_true rfl, Nat.le_of_ble_eq_true rfl⟩ hP hD hS hl.1 rcX rfl rfl ⟨Nat.zero_le _, Nat.zero_le _⟩ (Nat.le_of_ble_eq_true rfl) dX0_namesOf_114 (fun H locs hP hD hS => ?_)
  obtain ⟨c23, ec23, bc23, hf⟩ := wrs hf
  refine sX_cNames X hP hD hS ec23 bc23 dX0_namesOf_117 (fun H locs hP hD hS => ?_)
  refine lv_aload_n hx hb dX0_namesOf_118 rfl (lv_at hl 0 rfl) ?_
  refine gX_X0_this_now X hP dX0_namesOf_119 ?_
  refine gX_X0_now_fear X hF hP dX0_namesOf_122 ?_
  refine lv_iconst (v := 0) hx hb dX0_namesOf_125 (by decide) ?_
  refine lv_aload_n hx hb dX0_namesOf_126 rfl (lv_at hl 0 rfl) ?_
  refine gX_X0_this_names X hP dX0_namesOf_127 ?_
  refine lv_bipush (v := 10) hx hb dX0_namesOf_130 (by decide) ?_
  refine lv_bipush (v := 6) hx hb dX0_namesOf_132 (by decide) ?_
  obtain ⟨c24, ec24, bc24, hf⟩ := acps hf
  refine rCpy X q919 hl.1 hP hD hS 12 4 rfl rfl ec24 bc24 rfl ⟨Nat.le_of_ble_eq_true rfl, Nat.le_of_ble_eq_true rfl⟩ dX0_namesOf_134 (fun H locs hP hD hS => ?_)
  have hP : va_P g.1 vwCl (xW g h hn hi ad ra sTaped sFault sFaultA sWays sMay sMust cTape c24 cHead cSure cN cRow cTried cFor cRoad cFear cCall cUnl cPaid cStep cGain cText iN iRow iFor iRoad iFear iCall iUnl iPaid iStep iGain iText tp) H := hP
  have hD : va_D A (xW g h hn hi ad ra sTaped sFault sFaultA sWays sMay sMust cTape c24 cHead cSure cN cRow cTried cFor cRoad cFear cCall cUnl cPaid cStep cGain cText iN iRow iFor iRoad iFear iCall iUnl iPaid iStep iGain iText tp) := hD
  cases hf
  exact rV X hP hD hS dX0_namesOf_137
theorem gw_X0_X0_namesOf : GoodIn lw_all (wsV RX0 157 RX0 yX0_namesOf (ws_ yX0_namesOf cX0_namesOf 4 none)) := lw_V q911 q913 qs27 q145 q914
theorem dy_X0_namesOf : Dy yX0_namesOf RX0 3 := by decide +kernel
theorem gw_X0_X0_rules : GoodIn lw_all (wsV RX0 161 RX0 yX0_rules (ws_ yX0_rules cX0_rules 1 (some (.object "WolfsHead$Text")))) := lw_V q920 q922 qs29 q145 q923
theorem dy_X0_rules : Dy yX0_rules RX0 0 := by decide +kernel
theorem gw_X0_X0_law : GoodIn lw_all (wsV RX0 164 RX0 yX0_law (ws_ yX0_law cX0_law 5 (some .int))) := lw_V q926 q928 qs30 q145 q929
theorem dy_X0_law : Dy yX0_law RX0 4 := by decide +kernel
set_option maxHeartbeats 4000000 in
theorem met_X_hungersOfR {l : Launch} {g : gG} {h hn hi : Nat} {ad : Nat → Nat} {ra : Nat → Nat → Nat} {z : Nat → Nat} {sTaped : Int32} {sFault : Int32} {sFaultA : Int32} {sWays : Int32} {sMay : Int32} {sMust : Int32} {cTape : Nat → Int32} {cNames : Nat → Int32} {cHead : Nat → Int32} {cSure : Nat → Nat → Int32} {cN : Nat → Int32} {cRow : Nat → Int32} {cTried : Nat → Int32} {cFor : Nat → Int32} {cRoad : Nat → Int32} {cFear : Nat → Int32} {cCall : Nat → Int32} {cUnl : Nat → Int32} {cPaid : Nat → Nat → Int32} {cStep : Nat → Nat → Int32} {cGain : Nat → Nat → Int32} {cText : Nat → Option Nat} {iN : Nat → Int32} {iRow : Nat → Int32} {iFor : Nat → Int32} {iRoad : Nat → Int32} {iFear : Nat → Int32} {iCall : Nat → Int32} {iUnl : Nat → Int32} {iPaid : Nat → Nat → Int32} {iStep : Nat → Nat → Int32} {iGain : Nat → Nat → Int32} {iText : Nat → Option Nat} {tp : va_W} {E : Nat → Option (Nat → Option ((Nat → Int32) → Int64))} {zN : Nat} {x2 : Int32} {r : Int32} {ncNames : Nat → Int32} {φ : Nat} (hzN : zN = z 0) (hT : TxOk g z tp E) (hf : X_hungersOf φ cNames cN cRow cFor cFear cText E zN x2 = some (r, ncNames)) : CX l yX0_hungersOf (ws_ yX0_hungersOf cX0_hungersOf 3 (some .int)) ({ frames := 243, cells := 0, slots := 0, locals := 5224 } : Room) g z [.ref h, .ref (ad 6), .int x2] (xW g h hn hi ad ra sTaped sFault sFaultA sWays sMay sMust cTape cNames cHead cSure cN cRow cTried cFor cRoad cFear cCall cUnl cPaid cStep cGain cText iN iRow iFor iRoad iFear iCall iUnl iPaid iStep iGain iText tp) (some (.int r)) (xW g h hn hi ad ra sTaped sFault sFaultA sWays sMay sMust cTape ncNames cHead cSure cN cRow cTried cFor cRoad cFear cCall cUnl cPaid cStep cGain cText iN iRow iFor iRoad iFear iCall iUnl iPaid iStep iGain iText tp) 0 0 := by
  refine CX.of RX0 rfl plain_X0 (Nat.le_of_ble_eq_true rfl) (fun p e s m below meth c A ls X hF hP hD hS hl => ?_)
  have hx := X.1
  have hb := X.2.1
  have hown := X.2.2.2.2.2.1
  have hts := X.2.2.2.2.2.2.1
  have hl : lv_has ls 3 [(0, .ref h), (1, .ref (ad 6)), (2, .int x2)] := hl
  unfold X_hungersOf at hf
  refine lv_aload_n hx hb dX0_hungersOf_0 rfl (lv_at hl 0 rfl) ?_
  refine lv_aload_n hx hb dX0_hungersOf_1 rfl (lv_at hl 1 rfl) ?_
  refine lv_iload_n hx hb dX0_hungersOf_2 rfl (lv_at hl 2 rfl) ?_
  refine lv_aload_n hx hb dX0_hungersOf_3 rfl (lv_at hl 1 rfl) ?_
  refine lv_iload_n hx hb dX0_hungersOf_4 rfl (lv_at hl 2 rfl) ?_
  refine lv_iconst (v := 0) hx hb dX0_hungersOf_5 (by decide) ?_
  obtain ⟨r1, k2, hf⟩ := bd1s hf
  refine xSi (rest := [.int x2, .ref (ad 6), .ref h]) X hF (met_X_atR k2) gs_X0_X0_at dy_X0_at ⟨⟨rfl, rfl⟩, Nat.le_of_ble_eq_true rfl, Nat.le_of_ble_eq_true rfl⟩ hP hD hS hl.1 rfl rfl ⟨Nat.zero_le _, Nat.zero_le _⟩ (Nat.le_of_ble_eq_true rfl) dX0_hungersOf_6 (fun H locs hP hD hS => ?_)
  obtain ⟨c3, k4, hf⟩ := bd1s hf
  refine xVv (rest := []) X hF (met_X_namesOfR k4) gw_X0_X0_namesOf dy_X0_namesOf ⟨⟨rfl, rfl⟩, Nat.le_of_ble_eq_true rfl, Nat.le_of_ble_eq_true rfl⟩ hP hD hS hl.1 rcX rfl rfl ⟨Nat.zero_le _, Nat.zero_le _⟩ (Nat.le_of_ble_eq_true rfl) dX0_hungersOf_9 (fun H locs hP hD hS => ?_)
  refine lv_aload_n hx hb dX0_hungersOf_12 rfl (lv_at hl 0 rfl) ?_
  refine lv_aload_n hx hb dX0_hungersOf_13 rfl (lv_at hl 0 rfl) ?_
  obtain ⟨r5, k6, hf⟩ := bd1s hf
  refine xVr (rest := [.ref h]) X hF (met_X_rules hzN k6) gw_X0_X0_rules dy_X0_rules ⟨⟨rfl, rfl⟩, Nat.le_of_ble_eq_true rfl, Nat.le_of_ble_eq_true rfl⟩ hP hD hS hl.1 rcX rfl rfl ⟨Nat.zero_le _, Nat.zero_le _⟩ (Nat.le_of_ble_eq_true rfl) dX0_hungersOf_14 (fun H locs hP hD hS => ?_)
  refine lv_iconst (v := 0) hx hb dX0_hungersOf_17 (by decide) ?_
  refine lv_iconst (v := 1) hx hb dX0_hungersOf_18 (by decide) ?_
  refine lv_bipush (v := 9) hx hb dX0_hungersOf_19 (by decide) ?_
  obtain ⟨r7, k8, hf⟩ := bd1s hf
  refine xVi (rest := []) X hF (met_X_law hT k8) gw_X0_X0_law dy_X0_law ⟨⟨rfl, rfl⟩, Nat.le_of_ble_eq_true rfl, Nat.le_of_ble_eq_true rfl⟩ hP hD hS hl.1 rcX rfl rfl ⟨Nat.zero_le _, Nat.zero_le _⟩ (Nat.le_of_ble_eq_true rfl) dX0_hungersOf_21 (fun H locs hP hD hS => ?_)
  cases hf
  exact rI X hP hD hS dX0_hungersOf_24
set_option maxHeartbeats 4000000 in
theorem met_X_setsR {l : Launch} {g : gG} {h hn hi : Nat} {ad : Nat → Nat} {ra : Nat → Nat → Nat} {z : Nat → Nat} {sTaped : Int32} {sFault : Int32} {sFaultA : Int32} {sWays : Int32} {sMay : Int32} {sMust : Int32} {cTape : Nat → Int32} {cNames : Nat → Int32} {cHead : Nat → Int32} {cSure : Nat → Nat → Int32} {cN : Nat → Int32} {cRow : Nat → Int32} {cTried : Nat → Int32} {cFor : Nat → Int32} {cRoad : Nat → Int32} {cFear : Nat → Int32} {cCall : Nat → Int32} {cUnl : Nat → Int32} {cPaid : Nat → Nat → Int32} {cStep : Nat → Nat → Int32} {cGain : Nat → Nat → Int32} {cText : Nat → Option Nat} {iN : Nat → Int32} {iRow : Nat → Int32} {iFor : Nat → Int32} {iRoad : Nat → Int32} {iFear : Nat → Int32} {iCall : Nat → Int32} {iUnl : Nat → Int32} {iPaid : Nat → Nat → Int32} {iStep : Nat → Nat → Int32} {iGain : Nat → Nat → Int32} {iText : Nat → Option Nat} {tp : va_W} {x1 : Int32} {x2 : Int32} {x3 : Int32} {ncRow : Nat → Int32} (hf : X_sets cRow x1 x2 x3 = some ncRow) : CX l yX0_sets (ws_ yX0_sets cX0_sets 4 none) ({ frames := 0, cells := 0, slots := 0, locals := 0 } : Room) g z [.ref (ad 6), .int x1, .int x2, .int x3] (xW g h hn hi ad ra sTaped sFault sFaultA sWays sMay sMust cTape cNames cHead cSure cN cRow cTried cFor cRoad cFear cCall cUnl cPaid cStep cGain cText iN iRow iFor iRoad iFear iCall iUnl iPaid iStep iGain iText tp) none (xW g h hn hi ad ra sTaped sFault sFaultA sWays sMay sMust cTape cNames cHead cSure cN ncRow cTried cFor cRoad cFear cCall cUnl cPaid cStep cGain cText iN iRow iFor iRoad iFear iCall iUnl iPaid iStep iGain iText tp) 0 0 := by
  refine CX.of RX0 rfl plain_X0 (Nat.le_of_ble_eq_true rfl) (fun p e s m below meth c A ls X hF hP hD hS hl => ?_)
  have hx := X.1
  have hb := X.2.1
  have hown := X.2.2.2.2.2.1
  have hts := X.2.2.2.2.2.2.1
  have hl : lv_has ls 4 [(0, .ref (ad 6)), (1, .int x1), (2, .int x2), (3, .int x3)] := hl
  unfold X_sets at hf
  refine lv_aload_n hx hb dX0_sets_0 rfl (lv_at hl 0 rfl) ?_
  refine lv_iconst (v := 2) hx hb dX0_sets_1 (by decide) ?_
  refine lv_bipush (v := 7) hx hb dX0_sets_2 (by decide) ?_
  refine lv_iload_n hx hb dX0_sets_4 rfl (lv_at hl 1 rfl) ?_
  refine lv_imul hx hb dX0_sets_5 ?_
  refine lv_iadd hx hb dX0_sets_6 ?_
  refine lv_iload_n hx hb dX0_sets_7 rfl (lv_at hl 2 rfl) ?_
  refine lv_iadd hx hb dX0_sets_8 ?_
  refine lv_iload_n hx hb dX0_sets_9 rfl (lv_at hl 3 rfl) ?_
  obtain ⟨c1, ec1, bc1, hf⟩ := wrs hf
  refine sX_cRow X hP hD hS ec1 bc1 dX0_sets_10 (fun H locs hP hD hS => ?_)
  cases hf
  exact rV X hP hD hS dX0_sets_11
set_option maxHeartbeats 4000000 in
theorem met_X_drawsR {l : Launch} {g : gG} {h hn hi : Nat} {ad : Nat → Nat} {ra : Nat → Nat → Nat} {z : Nat → Nat} {sTaped : Int32} {sFault : Int32} {sFaultA : Int32} {sWays : Int32} {sMay : Int32} {sMust : Int32} {cTape : Nat → Int32} {cNames : Nat → Int32} {cHead : Nat → Int32} {cSure : Nat → Nat → Int32} {cN : Nat → Int32} {cRow : Nat → Int32} {cTried : Nat → Int32} {cFor : Nat → Int32} {cRoad : Nat → Int32} {cFear : Nat → Int32} {cCall : Nat → Int32} {cUnl : Nat → Int32} {cPaid : Nat → Nat → Int32} {cStep : Nat → Nat → Int32} {cGain : Nat → Nat → Int32} {cText : Nat → Option Nat} {iN : Nat → Int32} {iRow : Nat → Int32} {iFor : Nat → Int32} {iRoad : Nat → Int32} {iFear : Nat → Int32} {iCall : Nat → Int32} {iUnl : Nat → Int32} {iPaid : Nat → Nat → Int32} {iStep : Nat → Nat → Int32} {iGain : Nat → Nat → Int32} {iText : Nat → Option Nat} {tp : va_W} {ncRow : Nat → Int32} (hf : X_draws cRow = some ncRow) : CX l yX0_draws (ws_ yX0_draws cX0_draws 1 none) ({ frames := 0, cells := 0, slots := 0, locals := 0 } : Room) g z [.ref (ad 6)] (xW g h hn hi ad ra sTaped sFault sFaultA sWays sMay sMust cTape cNames cHead cSure cN cRow cTried cFor cRoad cFear cCall cUnl cPaid cStep cGain cText iN iRow iFor iRoad iFear iCall iUnl iPaid iStep iGain iText tp) none (xW g h hn hi ad ra sTaped sFault sFaultA sWays sMay sMust cTape cNames cHead cSure cN ncRow cTried cFor cRoad cFear cCall cUnl cPaid cStep cGain cText iN iRow iFor iRoad iFear iCall iUnl iPaid iStep iGain iText tp) 0 0 := by
  refine CX.of RX0 rfl plain_X0 (Nat.le_of_ble_eq_true rfl) (fun p e s m below meth c A ls X hF hP hD hS hl => ?_)
  have hx := X.1
  have hb := X.2.1
  have hown := X.2.2.2.2.2.1
  have hts := X.2.2.2.2.2.2.1
  have hl : lv_has ls 1 [(0, .ref (ad 6))] := hl
  unfold X_draws at hf
  refine lv_aload_n hx hb dX0_draws_0 rfl (lv_at hl 0 rfl) ?_
  refine lv_iconst (v := 1) hx hb dX0_draws_1 (by decide) ?_
  refine lv_aload_n hx hb dX0_draws_2 rfl (lv_at hl 0 rfl) ?_
  refine lv_iconst (v := 1) hx hb dX0_draws_3 (by decide) ?_
  obtain ⟨v1, ev1, bv1, hf⟩ := rds hf
  refine lX_cRow X hP ev1 bv1 dX0_draws_4 ?_
  refine lv_sipush (v := 379) hx hb dX0_draws_5 (by decide) ?_
  refine lv_imul hx hb dX0_draws_8 ?_
  refine lv_sipush (v := 257) hx hb dX0_draws_9 (by decide) ?_
  refine lv_iadd hx hb dX0_draws_12 ?_
  refine lv_sipush (v := 30469) hx hb dX0_draws_13 (by decide) ?_
  refine lv_irem hx hb dX0_draws_16 (by decide) ?_
  obtain ⟨v2, ev2, hf⟩ := lts hf
  refine tpi ev2 ?_
  obtain ⟨c3, ec3, bc3, hf⟩ := wrs hf
  refine sX_cRow X hP hD hS ec3 bc3 dX0_draws_17 (fun H locs hP hD hS => ?_)
  cases hf
  exact rV X hP hD hS dX0_draws_18
theorem gs_X0_X0_draws : GoodIn lw_all (va_wsS RX0 170 yX0_draws (ws_ yX0_draws cX0_draws 1 none)) := lw_S q1064 q1065 q145 q1066
theorem dy_X0_draws : Dy yX0_draws RX0 1 := by decide +kernel
set_option maxHeartbeats 4000000 in
theorem met_X_drawR {l : Launch} {g : gG} {h hn hi : Nat} {ad : Nat → Nat} {ra : Nat → Nat → Nat} {z : Nat → Nat} {sTaped : Int32} {sFault : Int32} {sFaultA : Int32} {sWays : Int32} {sMay : Int32} {sMust : Int32} {cTape : Nat → Int32} {cNames : Nat → Int32} {cHead : Nat → Int32} {cSure : Nat → Nat → Int32} {cN : Nat → Int32} {cRow : Nat → Int32} {cTried : Nat → Int32} {cFor : Nat → Int32} {cRoad : Nat → Int32} {cFear : Nat → Int32} {cCall : Nat → Int32} {cUnl : Nat → Int32} {cPaid : Nat → Nat → Int32} {cStep : Nat → Nat → Int32} {cGain : Nat → Nat → Int32} {cText : Nat → Option Nat} {iN : Nat → Int32} {iRow : Nat → Int32} {iFor : Nat → Int32} {iRoad : Nat → Int32} {iFear : Nat → Int32} {iCall : Nat → Int32} {iUnl : Nat → Int32} {iPaid : Nat → Nat → Int32} {iStep : Nat → Nat → Int32} {iGain : Nat → Nat → Int32} {iText : Nat → Option Nat} {tp : va_W} {r : Int32} {ncRow : Nat → Int32} (hf : X_draw cRow = some (r, ncRow)) : CX l yX0_draw (ws_ yX0_draw cX0_draw 2 (some .int)) ({ frames := 1, cells := 0, slots := 0, locals := 20 } : Room) g z [.ref (ad 6)] (xW g h hn hi ad ra sTaped sFault sFaultA sWays sMay sMust cTape cNames cHead cSure cN cRow cTried cFor cRoad cFear cCall cUnl cPaid cStep cGain cText iN iRow iFor iRoad iFear iCall iUnl iPaid iStep iGain iText tp) (some (.int r)) (xW g h hn hi ad ra sTaped sFault sFaultA sWays sMay sMust cTape cNames cHead cSure cN ncRow cTried cFor cRoad cFear cCall cUnl cPaid cStep cGain cText iN iRow iFor iRoad iFear iCall iUnl iPaid iStep iGain iText tp) 0 0 := by
  refine CX.of RX0 rfl plain_X0 (Nat.le_of_ble_eq_true rfl) (fun p e s m below meth c A ls X hF hP hD hS hl => ?_)
  have hx := X.1
  have hb := X.2.1
  have hown := X.2.2.2.2.2.1
  have hts := X.2.2.2.2.2.2.1
  have hl : lv_has ls 2 [(0, .ref (ad 6))] := hl
  unfold X_draw at hf
  refine lv_aload_n hx hb dX0_draw_0 rfl (lv_at hl 0 rfl) ?_
  refine lv_iconst (v := 1) hx hb dX0_draw_1 (by decide) ?_
  obtain ⟨v1, ev1, bv1, hf⟩ := rds hf
  refine lX_cRow X hP ev1 bv1 dX0_draw_2 ?_
  refine lv_bipush (v := 10) hx hb dX0_draw_3 (by decide) ?_
  refine lv_irem hx hb dX0_draw_5 (by decide) ?_
  obtain ⟨v2, ev2, hf⟩ := lts hf
  refine tpi ev2 ?_
  refine lv_istore_n (lv' := [(1, .int v2), (0, .ref (ad 6))]) hx hb dX0_draw_6 rfl hl (by decide) rfl (fun ls hl => ?_)
  refine lv_aload_n hx hb dX0_draw_7 rfl (lv_at hl 1 rfl) ?_
  obtain ⟨c3, k4, hf⟩ := bd1s hf
  refine xSv (rest := []) X hF (met_X_drawsR k4) gs_X0_X0_draws dy_X0_draws ⟨⟨rfl, rfl⟩, Nat.le_of_ble_eq_true rfl, Nat.le_of_ble_eq_true rfl⟩ hP hD hS hl.1 rfl rfl ⟨Nat.zero_le _, Nat.zero_le _⟩ (Nat.le_of_ble_eq_true rfl) dX0_draw_8 (fun H locs hP hD hS => ?_)
  refine lv_iload_n hx hb dX0_draw_11 rfl (lv_at hl 0 rfl) ?_
  cases hf
  exact rI X hP hD hS dX0_draw_12
set_option maxHeartbeats 4000000 in
theorem met_X_findsInR {l : Launch} {g : gG} {h hn hi : Nat} {ad : Nat → Nat} {ra : Nat → Nat → Nat} {z : Nat → Nat} {sTaped : Int32} {sFault : Int32} {sFaultA : Int32} {sWays : Int32} {sMay : Int32} {sMust : Int32} {cTape : Nat → Int32} {cNames : Nat → Int32} {cHead : Nat → Int32} {cSure : Nat → Nat → Int32} {cN : Nat → Int32} {cRow : Nat → Int32} {cTried : Nat → Int32} {cFor : Nat → Int32} {cRoad : Nat → Int32} {cFear : Nat → Int32} {cCall : Nat → Int32} {cUnl : Nat → Int32} {cPaid : Nat → Nat → Int32} {cStep : Nat → Nat → Int32} {cGain : Nat → Nat → Int32} {cText : Nat → Option Nat} {iN : Nat → Int32} {iRow : Nat → Int32} {iFor : Nat → Int32} {iRoad : Nat → Int32} {iFear : Nat → Int32} {iCall : Nat → Int32} {iUnl : Nat → Int32} {iPaid : Nat → Nat → Int32} {iStep : Nat → Nat → Int32} {iGain : Nat → Nat → Int32} {iText : Nat → Option Nat} {tp : va_W} {E : Nat → Option (Nat → Option ((Nat → Int32) → Int64))} {zN : Nat} {x2 : Int32} {x3 : Int32} {r : Int32} {ncNames : Nat → Int32} {φ : Nat} (hzN : zN = z 0) (hT : TxOk g z tp E) (hf : X_findsIn φ cNames cN cRow cFor cFear cText E zN x2 x3 = some (r, ncNames)) : CX l yX0_findsIn (ws_ yX0_findsIn cX0_findsIn 4 (some .int)) ({ frames := 243, cells := 0, slots := 0, locals := 5224 } : Room) g z [.ref h, .ref (ad 6), .int x2, .int x3] (xW g h hn hi ad ra sTaped sFault sFaultA sWays sMay sMust cTape cNames cHead cSure cN cRow cTried cFor cRoad cFear cCall cUnl cPaid cStep cGain cText iN iRow iFor iRoad iFear iCall iUnl iPaid iStep iGain iText tp) (some (.int r)) (xW g h hn hi ad ra sTaped sFault sFaultA sWays sMay sMust cTape ncNames cHead cSure cN cRow cTried cFor cRoad cFear cCall cUnl cPaid cStep cGain cText iN iRow iFor iRoad iFear iCall iUnl iPaid iStep iGain iText tp) 0 0 := by
  refine CX.of RX0 rfl plain_X0 (Nat.le_of_ble_eq_true rfl) (fun p e s m below meth c A ls X hF hP hD hS hl => ?_)
  have hx := X.1
  have hb := X.2.1
  have hown := X.2.2.2.2.2.1
  have hts := X.2.2.2.2.2.2.1
  have hl : lv_has ls 4 [(0, .ref h), (1, .ref (ad 6)), (2, .int x2), (3, .int x3)] := hl
  unfold X_findsIn at hf
  refine lv_aload_n hx hb dX0_findsIn_0 rfl (lv_at hl 0 rfl) ?_
  refine lv_aload_n hx hb dX0_findsIn_1 rfl (lv_at hl 1 rfl) ?_
  refine lv_iload_n hx hb dX0_findsIn_2 rfl (lv_at hl 2 rfl) ?_
  refine lv_iload_n hx hb dX0_findsIn_3 rfl (lv_at hl 3 rfl) ?_
  obtain ⟨c1, k2, hf⟩ := bd1s hf
  refine xVv (rest := []) X hF (met_X_namesOfR k2) gw_X0_X0_namesOf dy_X0_namesOf ⟨⟨rfl, rfl⟩, Nat.le_of_ble_eq_true rfl, Nat.le_of_ble_eq_true rfl⟩ hP hD hS hl.1 rcX rfl rfl ⟨Nat.zero_le _, Nat.zero_le _⟩ (Nat.le_of_ble_eq_true rfl) dX0_findsIn_4 (fun H locs hP hD hS => ?_)
  refine lv_aload_n hx hb dX0_findsIn_7 rfl (lv_at hl 0 rfl) ?_
  refine lv_aload_n hx hb dX0_findsIn_8 rfl (lv_at hl 0 rfl) ?_
  obtain ⟨r3, k4, hf⟩ := bd1s hf
  refine xVr (rest := [.ref h]) X hF (met_X_rules hzN k4) gw_X0_X0_rules dy_X0_rules ⟨⟨rfl, rfl⟩, Nat.le_of_ble_eq_true rfl, Nat.le_of_ble_eq_true rfl⟩ hP hD hS hl.1 rcX rfl rfl ⟨Nat.zero_le _, Nat.zero_le _⟩ (Nat.le_of_ble_eq_true rfl) dX0_findsIn_9 (fun H locs hP hD hS => ?_)
  refine lv_iconst (v := 1) hx hb dX0_findsIn_12 (by decide) ?_
  refine lv_iconst (v := 5) hx hb dX0_findsIn_13 (by decide) ?_
  refine lv_aload_n hx hb dX0_findsIn_14 rfl (lv_at hl 0 rfl) ?_
  refine gX_X0_this_names X hP dX0_findsIn_15 ?_
  refine lv_iconst (v := 4) hx hb dX0_findsIn_18 (by decide) ?_
  obtain ⟨v5, ev5, bv5, hf⟩ := rds hf
  refine lX_cNames X hP ev5 bv5 dX0_findsIn_19 ?_
  refine lv_iconst (v := 2) hx hb dX0_findsIn_20 (by decide) ?_
  refine lv_idiv hx hb dX0_findsIn_21 (by decide) ?_
  refine lv_isub hx hb dX0_findsIn_22 ?_
  refine lv_bipush (v := 10) hx hb dX0_findsIn_23 (by decide) ?_
  obtain ⟨r6, k7, hf⟩ := bd1s hf
  refine xVi (rest := []) X hF (met_X_law hT k7) gw_X0_X0_law dy_X0_law ⟨⟨rfl, rfl⟩, Nat.le_of_ble_eq_true rfl, Nat.le_of_ble_eq_true rfl⟩ hP hD hS hl.1 rcX rfl rfl ⟨Nat.zero_le _, Nat.zero_le _⟩ (Nat.le_of_ble_eq_true rfl) dX0_findsIn_25 (fun H locs hP hD hS => ?_)
  cases hf
  exact rI X hP hD hS dX0_findsIn_28
theorem gw_X0_X0_findsIn : GoodIn lw_all (wsV RX0 167 RX0 yX0_findsIn (ws_ yX0_findsIn cX0_findsIn 4 (some .int))) := lw_V q1071 q1073 qs34 q145 q1074
theorem dy_X0_findsIn : Dy yX0_findsIn RX0 3 := by decide +kernel
set_option maxHeartbeats 4000000 in
theorem met_X_findsOfR {l : Launch} {g : gG} {h hn hi : Nat} {ad : Nat → Nat} {ra : Nat → Nat → Nat} {z : Nat → Nat} {sTaped : Int32} {sFault : Int32} {sFaultA : Int32} {sWays : Int32} {sMay : Int32} {sMust : Int32} {cTape : Nat → Int32} {cNames : Nat → Int32} {cHead : Nat → Int32} {cSure : Nat → Nat → Int32} {cN : Nat → Int32} {cRow : Nat → Int32} {cTried : Nat → Int32} {cFor : Nat → Int32} {cRoad : Nat → Int32} {cFear : Nat → Int32} {cCall : Nat → Int32} {cUnl : Nat → Int32} {cPaid : Nat → Nat → Int32} {cStep : Nat → Nat → Int32} {cGain : Nat → Nat → Int32} {cText : Nat → Option Nat} {iN : Nat → Int32} {iRow : Nat → Int32} {iFor : Nat → Int32} {iRoad : Nat → Int32} {iFear : Nat → Int32} {iCall : Nat → Int32} {iUnl : Nat → Int32} {iPaid : Nat → Nat → Int32} {iStep : Nat → Nat → Int32} {iGain : Nat → Nat → Int32} {iText : Nat → Option Nat} {tp : va_W} {E : Nat → Option (Nat → Option ((Nat → Int32) → Int64))} {zN : Nat} {x2 : Int32} {r : Int32} {ncNames : Nat → Int32} {φ : Nat} (hzN : zN = z 0) (hT : TxOk g z tp E) (hf : X_findsOf φ cNames cN cRow cFor cFear cText E zN x2 = some (r, ncNames)) : CX l yX0_findsOf (ws_ yX0_findsOf cX0_findsOf 3 (some .int)) ({ frames := 244, cells := 0, slots := 0, locals := 5247 } : Room) g z [.ref h, .ref (ad 6), .int x2] (xW g h hn hi ad ra sTaped sFault sFaultA sWays sMay sMust cTape cNames cHead cSure cN cRow cTried cFor cRoad cFear cCall cUnl cPaid cStep cGain cText iN iRow iFor iRoad iFear iCall iUnl iPaid iStep iGain iText tp) (some (.int r)) (xW g h hn hi ad ra sTaped sFault sFaultA sWays sMay sMust cTape ncNames cHead cSure cN cRow cTried cFor cRoad cFear cCall cUnl cPaid cStep cGain cText iN iRow iFor iRoad iFear iCall iUnl iPaid iStep iGain iText tp) 0 0 := by
  refine CX.of RX0 rfl plain_X0 (Nat.le_of_ble_eq_true rfl) (fun p e s m below meth c A ls X hF hP hD hS hl => ?_)
  have hx := X.1
  have hb := X.2.1
  have hown := X.2.2.2.2.2.1
  have hts := X.2.2.2.2.2.2.1
  have hl : lv_has ls 3 [(0, .ref h), (1, .ref (ad 6)), (2, .int x2)] := hl
  unfold X_findsOf at hf
  refine lv_aload_n hx hb dX0_findsOf_0 rfl (lv_at hl 0 rfl) ?_
  refine lv_aload_n hx hb dX0_findsOf_1 rfl (lv_at hl 1 rfl) ?_
  refine lv_iload_n hx hb dX0_findsOf_2 rfl (lv_at hl 2 rfl) ?_
  refine lv_aload_n hx hb dX0_findsOf_3 rfl (lv_at hl 1 rfl) ?_
  refine lv_iload_n hx hb dX0_findsOf_4 rfl (lv_at hl 2 rfl) ?_
  refine lv_iconst (v := 0) hx hb dX0_findsOf_5 (by decide) ?_
  obtain ⟨r1, k2, hf⟩ := bd1s hf
  refine xSi (rest := [.int x2, .ref (ad 6), .ref h]) X hF (met_X_atR k2) gs_X0_X0_at dy_X0_at ⟨⟨rfl, rfl⟩, Nat.le_of_ble_eq_true rfl, Nat.le_of_ble_eq_true rfl⟩ hP hD hS hl.1 rfl rfl ⟨Nat.zero_le _, Nat.zero_le _⟩ (Nat.le_of_ble_eq_true rfl) dX0_findsOf_6 (fun H locs hP hD hS => ?_)
  obtain ⟨r3, c4, k5, hf⟩ := bd2s hf
  refine xVi (rest := []) X hF (met_X_findsInR hzN hT k5) gw_X0_X0_findsIn dy_X0_findsIn ⟨⟨rfl, rfl⟩, Nat.le_of_ble_eq_true rfl, Nat.le_of_ble_eq_true rfl⟩ hP hD hS hl.1 rcX rfl rfl ⟨Nat.zero_le _, Nat.zero_le _⟩ (Nat.le_of_ble_eq_true rfl) dX0_findsOf_9 (fun H locs hP hD hS => ?_)
  cases hf
  exact rI X hP hD hS dX0_findsOf_12
set_option maxHeartbeats 4000000 in
theorem met_X_writesR {l : Launch} {g : gG} {h hn hi : Nat} {ad : Nat → Nat} {ra : Nat → Nat → Nat} {z : Nat → Nat} {sTaped : Int32} {sFault : Int32} {sFaultA : Int32} {sWays : Int32} {sMay : Int32} {sMust : Int32} {cTape : Nat → Int32} {cNames : Nat → Int32} {cHead : Nat → Int32} {cSure : Nat → Nat → Int32} {cN : Nat → Int32} {cRow : Nat → Int32} {cTried : Nat → Int32} {cFor : Nat → Int32} {cRoad : Nat → Int32} {cFear : Nat → Int32} {cCall : Nat → Int32} {cUnl : Nat → Int32} {cPaid : Nat → Nat → Int32} {cStep : Nat → Nat → Int32} {cGain : Nat → Nat → Int32} {cText : Nat → Option Nat} {iN : Nat → Int32} {iRow : Nat → Int32} {iFor : Nat → Int32} {iRoad : Nat → Int32} {iFear : Nat → Int32} {iCall : Nat → Int32} {iUnl : Nat → Int32} {iPaid : Nat → Nat → Int32} {iStep : Nat → Nat → Int32} {iGain : Nat → Nat → Int32} {iText : Nat → Option Nat} {tp : va_W} {x1 : Int32} {x2 : Int32} {ncRow : Nat → Int32} (hf : X_writes cRow x1 x2 = some ncRow) : CX l yX0_writes (ws_ yX0_writes cX0_writes 4 none) ({ frames := 1, cells := 0, slots := 0, locals := 26 } : Room) g z [.ref (ad 6), .int x1, .int x2] (xW g h hn hi ad ra sTaped sFault sFaultA sWays sMay sMust cTape cNames cHead cSure cN cRow cTried cFor cRoad cFear cCall cUnl cPaid cStep cGain cText iN iRow iFor iRoad iFear iCall iUnl iPaid iStep iGain iText tp) none (xW g h hn hi ad ra sTaped sFault sFaultA sWays sMay sMust cTape cNames cHead cSure cN ncRow cTried cFor cRoad cFear cCall cUnl cPaid cStep cGain cText iN iRow iFor iRoad iFear iCall iUnl iPaid iStep iGain iText tp) 0 0 := by
  refine CX.of RX0 rfl plain_X0 (Nat.le_of_ble_eq_true rfl) (fun p e s m below meth c A ls X hF hP hD hS hl => ?_)
  have hx := X.1
  have hb := X.2.1
  have hown := X.2.2.2.2.2.1
  have hts := X.2.2.2.2.2.2.1
  have hl : lv_has ls 4 [(0, .ref (ad 6)), (1, .int x1), (2, .int x2)] := hl
  unfold X_writes at hf
  refine lv_aload_n hx hb dX0_writes_0 rfl (lv_at hl 0 rfl) ?_
  refine lv_bipush (v := 44) hx hb dX0_writes_1 (by decide) ?_
  obtain ⟨v1, ev1, bv1, hf⟩ := rds hf
  refine lX_cRow X hP ev1 bv1 dX0_writes_3 ?_
  refine lv_bipush (v := 30) hx hb dX0_writes_4 (by decide) ?_
  obtain ⟨c2, k3, hf⟩ := bd1s hf
  have hj4 : ∀ (H : Heap) (locs : List Loc) (ls : Array Slot), va_P g.1 vwCl (xW g h hn hi ad ra sTaped sFault sFaultA sWays sMay sMust cTape cNames cHead cSure cN c2 cTried cFor cRoad cFear cCall cUnl cPaid cStep cGain cText iN iRow iFor iRoad iFear iCall iUnl iPaid iStep iGain iText tp) H → va_D A (xW g h hn hi ad ra sTaped sFault sFaultA sWays sMay sMust cTape cNames cHead cSure cN c2 cTried cFor cRoad cFear cCall cUnl cPaid cStep cGain cText iN iRow iFor iRoad iFear iCall iUnl iPaid iStep iGain iText tp) → va_S A s.heap H locs → lv_has ls 4 [(0, .ref (ad 6)), (1, .int x1), (2, .int x2)] → W p l e ({ frames := 1, cells := 0, slots := 0, locals := 26 } : Room) s m ([.ref (ad 6), .int x1, .int x2] : List Value).toArray below meth c H locs 0 0 (MQ below (QQ g none (xW g h hn hi ad ra sTaped sFault sFaultA sWays sMay sMust cTape cNames cHead cSure cN ncRow cTried cFor cRoad cFear cCall cUnl cPaid cStep cGain cText iN iRow iFor iRoad iFear iCall iUnl iPaid iStep iGain iText tp) A) ([.ref (ad 6), .int x1, .int x2] : List Value).toArray s 0 0 A) (F0 m 28 ls []) := by
    intro H locs ls hP hD hS hl
    refine lv_bipush (v := 45) hx hb dX0_writes_28 (by decide) ?_
    refine lv_iconst (v := 3) hx hb dX0_writes_30 (by decide) ?_
    refine lv_aload_n hx hb dX0_writes_31 rfl (lv_at hl 0 rfl) ?_
    refine lv_bipush (v := 44) hx hb dX0_writes_32 (by decide) ?_
    obtain ⟨v5, ev5, bv5, hf⟩ := rds hf
    refine lX_cRow X hP ev5 bv5 dX0_writes_34 ?_
    refine lv_imul hx hb dX0_writes_35 ?_
    refine lv_iadd hx hb dX0_writes_36 ?_
    obtain ⟨v6, ev6, hf⟩ := lts hf
    refine tpi ev6 ?_
    refine lv_istore_n (lv' := [(3, .int v6), (0, .ref (ad 6)), (1, .int x1), (2, .int x2)]) hx hb dX0_writes_37 rfl hl (by decide) rfl (fun ls hl => ?_)
    refine lv_aload_n hx hb dX0_writes_38 rfl (lv_at hl 1 rfl) ?_
    refine lv_iload_n hx hb dX0_writes_39 rfl (lv_at hl 0 rfl) ?_
    refine lv_aload_n hx hb dX0_writes_40 rfl (lv_at hl 1 rfl) ?_
    refine lv_iconst (v := 0) hx hb dX0_writes_41 (by decide) ?_
    obtain ⟨v7, ev7, bv7, hf⟩ := rds hf
    refine lX_cRow X hP ev7 bv7 dX0_writes_42 ?_
    obtain ⟨c8, ec8, bc8, hf⟩ := wrs hf
    refine sX_cRow X hP hD hS ec8 bc8 dX0_writes_43 (fun H locs hP hD hS => ?_)
    refine lv_aload_n hx hb dX0_writes_44 rfl (lv_at hl 1 rfl) ?_
    refine lv_iload_n hx hb dX0_writes_45 rfl (lv_at hl 0 rfl) ?_
    refine lv_iconst (v := 1) hx hb dX0_writes_46 (by decide) ?_
    refine lv_iadd hx hb dX0_writes_47 ?_
    refine lv_iload_n hx hb dX0_writes_48 rfl (lv_at hl 2 rfl) ?_
    obtain ⟨c9, ec9, bc9, hf⟩ := wrs hf
    refine sX_cRow X hP hD hS ec9 bc9 dX0_writes_49 (fun H locs hP hD hS => ?_)
    refine lv_aload_n hx hb dX0_writes_50 rfl (lv_at hl 1 rfl) ?_
    refine lv_iload_n hx hb dX0_writes_51 rfl (lv_at hl 0 rfl) ?_
    refine lv_iconst (v := 2) hx hb dX0_writes_52 (by decide) ?_
    refine lv_iadd hx hb dX0_writes_53 ?_
    refine lv_iload_n hx hb dX0_writes_54 rfl (lv_at hl 3 rfl) ?_
    obtain ⟨c10, ec10, bc10, hf⟩ := wrs hf
    refine sX_cRow X hP hD hS ec10 bc10 dX0_writes_55 (fun H locs hP hD hS => ?_)
    refine lv_aload_n hx hb dX0_writes_56 rfl (lv_at hl 1 rfl) ?_
    refine lv_bipush (v := 44) hx hb dX0_writes_57 (by decide) ?_
    refine lv_dup2_11 hx hb dX0_writes_59 rfl rfl ?_
    obtain ⟨v11, ev11, bv11, hf⟩ := rds hf
    refine lX_cRow X hP ev11 bv11 dX0_writes_60 ?_
    refine lv_iconst (v := 1) hx hb dX0_writes_61 (by decide) ?_
    refine lv_iadd hx hb dX0_writes_62 ?_
    obtain ⟨v12, ev12, hf⟩ := lts hf
    refine tpi ev12 ?_
    obtain ⟨c13, ec13, bc13, hf⟩ := wrs hf
    refine sX_cRow X hP hD hS ec13 bc13 dX0_writes_63 (fun H locs hP hD hS => ?_)
    cases hf
    exact rV X hP hD hS dX0_writes_64
  replace hf := k3
  clear k3
  refine bc_ne (tgt := 28) hx hb hf dX0_writes_6 (by decide) (fun hf => ?_) (fun hf => ?_)
  · cases hf
    exact hj4 _ _ _ hP hD hS (lv_sub hl [0, 1, 2] rfl)
  · refine lv_aload_n hx hb dX0_writes_9 rfl (lv_at hl 0 rfl) ?_
    refine lv_bipush (v := 48) hx hb dX0_writes_10 (by decide) ?_
    refine lv_aload_n hx hb dX0_writes_12 rfl (lv_at hl 0 rfl) ?_
    refine lv_bipush (v := 45) hx hb dX0_writes_13 (by decide) ?_
    refine lv_bipush (v := 87) hx hb dX0_writes_15 (by decide) ?_
    obtain ⟨c14, ec14, bc14, hf⟩ := acps hf
    refine rCpy X q919 hl.1 hP hD hS 9 9 rfl rfl ec14 bc14 rfl ⟨Nat.le_of_ble_eq_true rfl, Nat.le_of_ble_eq_true rfl⟩ dX0_writes_17 (fun H locs hP hD hS => ?_)
    have hP : va_P g.1 vwCl (xW g h hn hi ad ra sTaped sFault sFaultA sWays sMay sMust cTape cNames cHead cSure cN c14 cTried cFor cRoad cFear cCall cUnl cPaid cStep cGain cText iN iRow iFor iRoad iFear iCall iUnl iPaid iStep iGain iText tp) H := hP
    have hD : va_D A (xW g h hn hi ad ra sTaped sFault sFaultA sWays sMay sMust cTape cNames cHead cSure cN c14 cTried cFor cRoad cFear cCall cUnl cPaid cStep cGain cText iN iRow iFor iRoad iFear iCall iUnl iPaid iStep iGain iText tp) := hD
    refine lv_aload_n hx hb dX0_writes_20 rfl (lv_at hl 0 rfl) ?_
    refine lv_bipush (v := 44) hx hb dX0_writes_21 (by decide) ?_
    refine lv_dup2_11 hx hb dX0_writes_23 rfl rfl ?_
    obtain ⟨v15, ev15, bv15, hf⟩ := rds hf
    refine lX_cRow X hP ev15 bv15 dX0_writes_24 ?_
    refine lv_iconst (v := 1) hx hb dX0_writes_25 (by decide) ?_
    refine lv_isub hx hb dX0_writes_26 ?_
    obtain ⟨v16, ev16, hf⟩ := lts hf
    refine tpi ev16 ?_
    obtain ⟨c17, ec17, bc17, hf⟩ := wrs hf
    refine sX_cRow X hP hD hS ec17 bc17 dX0_writes_27 (fun H locs hP hD hS => ?_)
    cases hf
    exact hj4 _ _ _ hP hD hS (lv_sub hl [0, 1, 2] rfl)
theorem gs_X0_X0_sets : GoodIn lw_all (va_wsS RX0 174 yX0_sets (ws_ yX0_sets cX0_sets 4 none)) := lw_S q1044 q1045 q145 q1046
theorem dy_X0_sets : Dy yX0_sets RX0 4 := by decide +kernel
theorem gs_X0_X0_writes : GoodIn lw_all (va_wsS RX0 178 yX0_writes (ws_ yX0_writes cX0_writes 4 none)) := lw_S q1058 q1059 q145 q1060
theorem dy_X0_writes : Dy yX0_writes RX0 3 := by decide +kernel
set_option maxHeartbeats 4000000 in
theorem met_X_diesR {l : Launch} {g : gG} {h hn hi : Nat} {ad : Nat → Nat} {ra : Nat → Nat → Nat} {z : Nat → Nat} {sTaped : Int32} {sFault : Int32} {sFaultA : Int32} {sWays : Int32} {sMay : Int32} {sMust : Int32} {cTape : Nat → Int32} {cNames : Nat → Int32} {cHead : Nat → Int32} {cSure : Nat → Nat → Int32} {cN : Nat → Int32} {cRow : Nat → Int32} {cTried : Nat → Int32} {cFor : Nat → Int32} {cRoad : Nat → Int32} {cFear : Nat → Int32} {cCall : Nat → Int32} {cUnl : Nat → Int32} {cPaid : Nat → Nat → Int32} {cStep : Nat → Nat → Int32} {cGain : Nat → Nat → Int32} {cText : Nat → Option Nat} {iN : Nat → Int32} {iRow : Nat → Int32} {iFor : Nat → Int32} {iRoad : Nat → Int32} {iFear : Nat → Int32} {iCall : Nat → Int32} {iUnl : Nat → Int32} {iPaid : Nat → Nat → Int32} {iStep : Nat → Nat → Int32} {iGain : Nat → Nat → Int32} {iText : Nat → Option Nat} {tp : va_W} {x1 : Int32} {x2 : Int32} {ncRow : Nat → Int32} (hf : X_dies cRow x1 x2 = some ncRow) : CX l yX0_dies (ws_ yX0_dies cX0_dies 3 none) ({ frames := 2, cells := 0, slots := 0, locals := 49 } : Room) g z [.ref (ad 6), .int x1, .int x2] (xW g h hn hi ad ra sTaped sFault sFaultA sWays sMay sMust cTape cNames cHead cSure cN cRow cTried cFor cRoad cFear cCall cUnl cPaid cStep cGain cText iN iRow iFor iRoad iFear iCall iUnl iPaid iStep iGain iText tp) none (xW g h hn hi ad ra sTaped sFault sFaultA sWays sMay sMust cTape cNames cHead cSure cN ncRow cTried cFor cRoad cFear cCall cUnl cPaid cStep cGain cText iN iRow iFor iRoad iFear iCall iUnl iPaid iStep iGain iText tp) 0 0 := by
  refine CX.of RX0 rfl plain_X0 (Nat.le_of_ble_eq_true rfl) (fun p e s m below meth c A ls X hF hP hD hS hl => ?_)
  have hx := X.1
  have hb := X.2.1
  have hown := X.2.2.2.2.2.1
  have hts := X.2.2.2.2.2.2.1
  have hl : lv_has ls 3 [(0, .ref (ad 6)), (1, .int x1), (2, .int x2)] := hl
  unfold X_dies at hf
  refine lv_aload_n hx hb dX0_dies_0 rfl (lv_at hl 0 rfl) ?_
  refine lv_iload_n hx hb dX0_dies_1 rfl (lv_at hl 1 rfl) ?_
  refine lv_bipush (v := 6) hx hb dX0_dies_2 (by decide) ?_
  refine lv_iconst (v := 3) hx hb dX0_dies_4 (by decide) ?_
  obtain ⟨c1, k2, hf⟩ := bd1s hf
  refine xSv (rest := []) X hF (met_X_setsR k2) gs_X0_X0_sets dy_X0_sets ⟨⟨rfl, rfl⟩, Nat.le_of_ble_eq_true rfl, Nat.le_of_ble_eq_true rfl⟩ hP hD hS hl.1 rfl rfl ⟨Nat.zero_le _, Nat.zero_le _⟩ (Nat.le_of_ble_eq_true rfl) dX0_dies_5 (fun H locs hP hD hS => ?_)
  refine lv_aload_n hx hb dX0_dies_8 rfl (lv_at hl 0 rfl) ?_
  refine lv_iload_n hx hb dX0_dies_9 rfl (lv_at hl 1 rfl) ?_
  refine lv_iload_n hx hb dX0_dies_10 rfl (lv_at hl 2 rfl) ?_
  obtain ⟨c3, k4, hf⟩ := bd1s hf
  refine xSv (rest := []) X hF (met_X_writesR k4) gs_X0_X0_writes dy_X0_writes ⟨⟨rfl, rfl⟩, Nat.le_of_ble_eq_true rfl, Nat.le_of_ble_eq_true rfl⟩ hP hD hS hl.1 rfl rfl ⟨Nat.zero_le _, Nat.zero_le _⟩ (Nat.le_of_ble_eq_true rfl) dX0_dies_11 (fun H locs hP hD hS => ?_)
  cases hf
  exact rV X hP hD hS dX0_dies_14
theorem gw_X0_X0_hungersOf : GoodIn lw_all (wsV RX0 181 RX0 yX0_hungersOf (ws_ yX0_hungersOf cX0_hungersOf 3 (some .int))) := lw_V q1051 q1053 qs32 q145 q1054
theorem dy_X0_hungersOf : Dy yX0_hungersOf RX0 2 := by decide +kernel
theorem gs_X0_X0_draw : GoodIn lw_all (va_wsS RX0 191 yX0_draw (ws_ yX0_draw cX0_draw 2 (some .int))) := lw_S q1061 q1062 q145 q1063
theorem dy_X0_draw : Dy yX0_draw RX0 1 := by decide +kernel
theorem gw_X0_X0_findsOf : GoodIn lw_all (wsV RX0 195 RX0 yX0_findsOf (ws_ yX0_findsOf cX0_findsOf 3 (some .int))) := lw_V q1067 q1069 qs33 q145 q1070
theorem dy_X0_findsOf : Dy yX0_findsOf RX0 2 := by decide +kernel
theorem gs_X0_X0_dies : GoodIn lw_all (va_wsS RX0 188 yX0_dies (ws_ yX0_dies cX0_dies 3 none)) := lw_S q1055 q1056 q145 q1057
theorem dy_X0_dies : Dy yX0_dies RX0 3 := by decide +kernel
set_option maxHeartbeats 4000000 in
theorem met_X_livesR {l : Launch} {g : gG} {h hn hi : Nat} {ad : Nat → Nat} {ra : Nat → Nat → Nat} {z : Nat → Nat} {sTaped : Int32} {sFault : Int32} {sFaultA : Int32} {sWays : Int32} {sMay : Int32} {sMust : Int32} {cTape : Nat → Int32} {cNames : Nat → Int32} {cHead : Nat → Int32} {cSure : Nat → Nat → Int32} {cN : Nat → Int32} {cRow : Nat → Int32} {cTried : Nat → Int32} {cFor : Nat → Int32} {cRoad : Nat → Int32} {cFear : Nat → Int32} {cCall : Nat → Int32} {cUnl : Nat → Int32} {cPaid : Nat → Nat → Int32} {cStep : Nat → Nat → Int32} {cGain : Nat → Nat → Int32} {cText : Nat → Option Nat} {iN : Nat → Int32} {iRow : Nat → Int32} {iFor : Nat → Int32} {iRoad : Nat → Int32} {iFear : Nat → Int32} {iCall : Nat → Int32} {iUnl : Nat → Int32} {iPaid : Nat → Nat → Int32} {iStep : Nat → Nat → Int32} {iGain : Nat → Nat → Int32} {iText : Nat → Option Nat} {tp : va_W} {E : Nat → Option (Nat → Option ((Nat → Int32) → Int64))} {zN : Nat} {x2 : Int32} {r : Int32} {ncNames : Nat → Int32} {ncRow : Nat → Int32} {φ : Nat} (hzN : zN = z 0) (hT : TxOk g z tp E) (hf : X_lives φ cNames cN cRow cFor cFear cText E zN x2 = some (r, ncNames, ncRow)) : CX l yX0_lives (ws_ yX0_lives cX0_lives 3 (some .boolean)) ({ frames := 245, cells := 0, slots := 0, locals := 5269 } : Room) g z [.ref h, .ref (ad 6), .int x2] (xW g h hn hi ad ra sTaped sFault sFaultA sWays sMay sMust cTape cNames cHead cSure cN cRow cTried cFor cRoad cFear cCall cUnl cPaid cStep cGain cText iN iRow iFor iRoad iFear iCall iUnl iPaid iStep iGain iText tp) (some (.int r)) (xW g h hn hi ad ra sTaped sFault sFaultA sWays sMay sMust cTape ncNames cHead cSure cN ncRow cTried cFor cRoad cFear cCall cUnl cPaid cStep cGain cText iN iRow iFor iRoad iFear iCall iUnl iPaid iStep iGain iText tp) 0 0 := by
  refine CX.of RX0 rfl plain_X0 (Nat.le_of_ble_eq_true rfl) (fun p e s m below meth c A ls X hF hP hD hS hl => ?_)
  have hx := X.1
  have hb := X.2.1
  have hown := X.2.2.2.2.2.1
  have hts := X.2.2.2.2.2.2.1
  have hl : lv_has ls 3 [(0, .ref h), (1, .ref (ad 6)), (2, .int x2)] := hl
  unfold X_lives at hf
  refine lv_aload_n hx hb dX0_lives_0 rfl (lv_at hl 1 rfl) ?_
  refine lv_iload_n hx hb dX0_lives_1 rfl (lv_at hl 2 rfl) ?_
  refine lv_iconst (v := 4) hx hb dX0_lives_2 (by decide) ?_
  refine lv_bipush (v := 9) hx hb dX0_lives_3 (by decide) ?_
  refine lv_aload_n hx hb dX0_lives_5 rfl (lv_at hl 1 rfl) ?_
  refine lv_iload_n hx hb dX0_lives_6 rfl (lv_at hl 2 rfl) ?_
  refine lv_iconst (v := 4) hx hb dX0_lives_7 (by decide) ?_
  obtain ⟨r1, k2, hf⟩ := bd1s hf
  refine xSi (rest := [.int 9, .int 4, .int x2, .ref (ad 6)]) X hF (met_X_atR k2) gs_X0_X0_at dy_X0_at ⟨⟨rfl, rfl⟩, Nat.le_of_ble_eq_true rfl, Nat.le_of_ble_eq_true rfl⟩ hP hD hS hl.1 rfl rfl ⟨Nat.zero_le _, Nat.zero_le _⟩ (Nat.le_of_ble_eq_true rfl) dX0_lives_8 (fun H locs hP hD hS => ?_)
  refine lv_aload_n hx hb dX0_lives_11 rfl (lv_at hl 0 rfl) ?_
  refine lv_aload_n hx hb dX0_lives_12 rfl (lv_at hl 1 rfl) ?_
  refine lv_iload_n hx hb dX0_lives_13 rfl (lv_at hl 2 rfl) ?_
  obtain ⟨r3, c4, k5, hf⟩ := bd2s hf
  refine xVi (rest := [.int r1, .int 9, .int 4, .int x2, .ref (ad 6)]) X hF (met_X_hungersOfR hzN hT k5) gw_X0_X0_hungersOf dy_X0_hungersOf ⟨⟨rfl, rfl⟩, Nat.le_of_ble_eq_true rfl, Nat.le_of_ble_eq_true rfl⟩ hP hD hS hl.1 rcX rfl rfl ⟨Nat.zero_le _, Nat.zero_le _⟩ (Nat.le_of_ble_eq_true rfl) dX0_lives_14 (fun H locs hP hD hS => ?_)
  refine lv_iadd hx hb dX0_lives_17 ?_
  refine rMin X q1043 hl.1 ⟨Nat.le_of_ble_eq_true rfl, Nat.le_of_ble_eq_true rfl⟩ ⟨Nat.zero_le _, Nat.zero_le _⟩ dX0_lives_18 ?_
  obtain ⟨v6, ev6, hf⟩ := lts hf
  refine tpi ev6 ?_
  obtain ⟨c7, k8, hf⟩ := bd1s hf
  refine xSv (rest := []) X hF (met_X_setsR k8) gs_X0_X0_sets dy_X0_sets ⟨⟨rfl, rfl⟩, Nat.le_of_ble_eq_true rfl, Nat.le_of_ble_eq_true rfl⟩ hP hD hS hl.1 rfl rfl ⟨Nat.zero_le _, Nat.zero_le _⟩ (Nat.le_of_ble_eq_true rfl) dX0_lives_21 (fun H locs hP hD hS => ?_)
  refine lv_aload_n hx hb dX0_lives_24 rfl (lv_at hl 1 rfl) ?_
  refine lv_iload_n hx hb dX0_lives_25 rfl (lv_at hl 2 rfl) ?_
  refine lv_iconst (v := 4) hx hb dX0_lives_26 (by decide) ?_
  obtain ⟨r9, k10, hf⟩ := bd1s hf
  refine xSi (rest := []) X hF (met_X_atR k10) gs_X0_X0_at dy_X0_at ⟨⟨rfl, rfl⟩, Nat.le_of_ble_eq_true rfl, Nat.le_of_ble_eq_true rfl⟩ hP hD hS hl.1 rfl rfl ⟨Nat.zero_le _, Nat.zero_le _⟩ (Nat.le_of_ble_eq_true rfl) dX0_lives_27 (fun H locs hP hD hS => ?_)
  refine lv_bipush (v := 9) hx hb dX0_lives_30 (by decide) ?_
  obtain ⟨c11, c12, k13, hf⟩ := bd2s hf
  have hj14 : ∀ (H : Heap) (locs : List Loc) (ls : Array Slot), va_P g.1 vwCl (xW g h hn hi ad ra sTaped sFault sFaultA sWays sMay sMust cTape c11 cHead cSure cN c12 cTried cFor cRoad cFear cCall cUnl cPaid cStep cGain cText iN iRow iFor iRoad iFear iCall iUnl iPaid iStep iGain iText tp) H → va_D A (xW g h hn hi ad ra sTaped sFault sFaultA sWays sMay sMust cTape c11 cHead cSure cN c12 cTried cFor cRoad cFear cCall cUnl cPaid cStep cGain cText iN iRow iFor iRoad iFear iCall iUnl iPaid iStep iGain iText tp) → va_S A s.heap H locs → lv_has ls 3 [(1, .ref (ad 6)), (2, .int x2)] → W p l e ({ frames := 245, cells := 0, slots := 0, locals := 5269 } : Room) s m ([.ref h, .ref (ad 6), .int x2] : List Value).toArray below meth c H locs 0 0 (MQ below (QQ g (some (.int r)) (xW g h hn hi ad ra sTaped sFault sFaultA sWays sMay sMust cTape ncNames cHead cSure cN ncRow cTried cFor cRoad cFear cCall cUnl cPaid cStep cGain cText iN iRow iFor iRoad iFear iCall iUnl iPaid iStep iGain iText tp) A) ([.ref h, .ref (ad 6), .int x2] : List Value).toArray s 0 0 A) (F0 m 86 ls []) := by
    intro H locs ls hP hD hS hl
    refine lv_aload_n hx hb dX0_lives_86 rfl (lv_at hl 0 rfl) ?_
    refine lv_iload_n hx hb dX0_lives_87 rfl (lv_at hl 1 rfl) ?_
    refine lv_bipush (v := 6) hx hb dX0_lives_88 (by decide) ?_
    obtain ⟨r15, k16, hf⟩ := bd1s hf
    refine xSi (rest := []) X hF (met_X_atR k16) gs_X0_X0_at dy_X0_at ⟨⟨rfl, rfl⟩, Nat.le_of_ble_eq_true rfl, Nat.le_of_ble_eq_true rfl⟩ hP hD hS hl.1 rfl rfl ⟨Nat.zero_le _, Nat.zero_le _⟩ (Nat.le_of_ble_eq_true rfl) dX0_lives_90 (fun H locs hP hD hS => ?_)
    refine lv_iconst (v := 3) hx hb dX0_lives_93 (by decide) ?_
    refine bc_eq (tgt := 101) hx hb hf dX0_lives_94 (by decide) (fun hf => ?_) (fun hf => ?_)
    · refine lv_iconst (v := 0) hx hb dX0_lives_101 (by decide) ?_
      cases hf
      exact rZ X rfl hP hD hS dX0_lives_102
    · refine lv_iconst (v := 1) hx hb dX0_lives_97 (by decide) ?_
      refine lv_goto (tgt := 102) hx hb dX0_lives_98 (by decide) ?_
      cases hf
      exact rZ X rfl hP hD hS dX0_lives_102
  replace hf := k13
  clear k13
  refine bc_ne (tgt := 44) hx hb hf dX0_lives_32 (by decide) (fun hf => ?_) (fun hf => ?_)
  · refine lv_aload_n hx hb dX0_lives_44 rfl (lv_at hl 1 rfl) ?_
    obtain ⟨r17, c18, k19, hf⟩ := bd2s hf
    refine xSi (rest := []) X hF (met_X_drawR k19) gs_X0_X0_draw dy_X0_draw ⟨⟨rfl, rfl⟩, Nat.le_of_ble_eq_true rfl, Nat.le_of_ble_eq_true rfl⟩ hP hD hS hl.1 rfl rfl ⟨Nat.zero_le _, Nat.zero_le _⟩ (Nat.le_of_ble_eq_true rfl) dX0_lives_45 (fun H locs hP hD hS => ?_)
    refine lv_aload_n hx hb dX0_lives_48 rfl (lv_at hl 0 rfl) ?_
    refine lv_aload_n hx hb dX0_lives_49 rfl (lv_at hl 1 rfl) ?_
    refine lv_iload_n hx hb dX0_lives_50 rfl (lv_at hl 2 rfl) ?_
    obtain ⟨r20, c21, k22, hf⟩ := bd2s hf
    refine xVi (rest := [.int r17]) X hF (met_X_findsOfR hzN hT k22) gw_X0_X0_findsOf dy_X0_findsOf ⟨⟨rfl, rfl⟩, Nat.le_of_ble_eq_true rfl, Nat.le_of_ble_eq_true rfl⟩ hP hD hS hl.1 rcX rfl rfl ⟨Nat.zero_le _, Nat.zero_le _⟩ (Nat.le_of_ble_eq_true rfl) dX0_lives_51 (fun H locs hP hD hS => ?_)
    refine bc_ge (tgt := 66) hx hb hf dX0_lives_54 (by decide) (fun hf => ?_) (fun hf => ?_)
    · refine lv_aload_n hx hb dX0_lives_66 rfl (lv_at hl 1 rfl) ?_
      refine lv_iload_n hx hb dX0_lives_67 rfl (lv_at hl 2 rfl) ?_
      refine lv_iconst (v := 5) hx hb dX0_lives_68 (by decide) ?_
      refine lv_sipush (v := 9999) hx hb dX0_lives_69 (by decide) ?_
      refine lv_aload_n hx hb dX0_lives_72 rfl (lv_at hl 1 rfl) ?_
      refine lv_iload_n hx hb dX0_lives_73 rfl (lv_at hl 2 rfl) ?_
      refine lv_iconst (v := 5) hx hb dX0_lives_74 (by decide) ?_
      obtain ⟨r23, k24, hf⟩ := bd1s hf
      refine xSi (rest := [.int 9999, .int 5, .int x2, .ref (ad 6)]) X hF (met_X_atR k24) gs_X0_X0_at dy_X0_at ⟨⟨rfl, rfl⟩, Nat.le_of_ble_eq_true rfl, Nat.le_of_ble_eq_true rfl⟩ hP hD hS hl.1 rfl rfl ⟨Nat.zero_le _, Nat.zero_le _⟩ (Nat.le_of_ble_eq_true rfl) dX0_lives_75 (fun H locs hP hD hS => ?_)
      refine lv_iconst (v := 1) hx hb dX0_lives_78 (by decide) ?_
      refine lv_iadd hx hb dX0_lives_79 ?_
      refine rMin X q1043 hl.1 ⟨Nat.le_of_ble_eq_true rfl, Nat.le_of_ble_eq_true rfl⟩ ⟨Nat.zero_le _, Nat.zero_le _⟩ dX0_lives_80 ?_
      obtain ⟨v25, ev25, hf⟩ := lts hf
      refine tpi ev25 ?_
      obtain ⟨c26, k27, hf⟩ := bd1s hf
      refine xSv (rest := []) X hF (met_X_setsR k27) gs_X0_X0_sets dy_X0_sets ⟨⟨rfl, rfl⟩, Nat.le_of_ble_eq_true rfl, Nat.le_of_ble_eq_true rfl⟩ hP hD hS hl.1 rfl rfl ⟨Nat.zero_le _, Nat.zero_le _⟩ (Nat.le_of_ble_eq_true rfl) dX0_lives_83 (fun H locs hP hD hS => ?_)
      cases hf
      exact hj14 _ _ _ hP hD hS (lv_sub hl [1, 2] rfl)
    · refine lv_aload_n hx hb dX0_lives_57 rfl (lv_at hl 1 rfl) ?_
      refine lv_iload_n hx hb dX0_lives_58 rfl (lv_at hl 2 rfl) ?_
      refine lv_iconst (v := 4) hx hb dX0_lives_59 (by decide) ?_
      obtain ⟨c28, k29, hf⟩ := bd1s hf
      refine xSv (rest := []) X hF (met_X_diesR k29) gs_X0_X0_dies dy_X0_dies ⟨⟨rfl, rfl⟩, Nat.le_of_ble_eq_true rfl, Nat.le_of_ble_eq_true rfl⟩ hP hD hS hl.1 rfl rfl ⟨Nat.zero_le _, Nat.zero_le _⟩ (Nat.le_of_ble_eq_true rfl) dX0_lives_60 (fun H locs hP hD hS => ?_)
      refine lv_goto (tgt := 86) hx hb dX0_lives_63 (by decide) ?_
      cases hf
      exact hj14 _ _ _ hP hD hS (lv_sub hl [1, 2] rfl)
  · refine lv_aload_n hx hb dX0_lives_35 rfl (lv_at hl 1 rfl) ?_
    refine lv_iload_n hx hb dX0_lives_36 rfl (lv_at hl 2 rfl) ?_
    refine lv_iconst (v := 3) hx hb dX0_lives_37 (by decide) ?_
    obtain ⟨c30, k31, hf⟩ := bd1s hf
    refine xSv (rest := []) X hF (met_X_diesR k31) gs_X0_X0_dies dy_X0_dies ⟨⟨rfl, rfl⟩, Nat.le_of_ble_eq_true rfl, Nat.le_of_ble_eq_true rfl⟩ hP hD hS hl.1 rfl rfl ⟨Nat.zero_le _, Nat.zero_le _⟩ (Nat.le_of_ble_eq_true rfl) dX0_lives_38 (fun H locs hP hD hS => ?_)
    refine lv_goto (tgt := 86) hx hb dX0_lives_41 (by decide) ?_
    cases hf
    exact hj14 _ _ _ hP hD hS (lv_sub hl [1, 2] rfl)
set_option maxHeartbeats 4000000 in
theorem met_X_earnsOfR {l : Launch} {g : gG} {h hn hi : Nat} {ad : Nat → Nat} {ra : Nat → Nat → Nat} {z : Nat → Nat} {sTaped : Int32} {sFault : Int32} {sFaultA : Int32} {sWays : Int32} {sMay : Int32} {sMust : Int32} {cTape : Nat → Int32} {cNames : Nat → Int32} {cHead : Nat → Int32} {cSure : Nat → Nat → Int32} {cN : Nat → Int32} {cRow : Nat → Int32} {cTried : Nat → Int32} {cFor : Nat → Int32} {cRoad : Nat → Int32} {cFear : Nat → Int32} {cCall : Nat → Int32} {cUnl : Nat → Int32} {cPaid : Nat → Nat → Int32} {cStep : Nat → Nat → Int32} {cGain : Nat → Nat → Int32} {cText : Nat → Option Nat} {iN : Nat → Int32} {iRow : Nat → Int32} {iFor : Nat → Int32} {iRoad : Nat → Int32} {iFear : Nat → Int32} {iCall : Nat → Int32} {iUnl : Nat → Int32} {iPaid : Nat → Nat → Int32} {iStep : Nat → Nat → Int32} {iGain : Nat → Nat → Int32} {iText : Nat → Option Nat} {tp : va_W} {E : Nat → Option (Nat → Option ((Nat → Int32) → Int64))} {zN : Nat} {x2 : Int32} {r : Int32} {ncNames : Nat → Int32} {φ : Nat} (hzN : zN = z 0) (hT : TxOk g z tp E) (hf : X_earnsOf φ cNames cN cRow cFor cFear cText E zN x2 = some (r, ncNames)) : CX l yX0_earnsOf (ws_ yX0_earnsOf cX0_earnsOf 3 (some .int)) ({ frames := 243, cells := 0, slots := 0, locals := 5224 } : Room) g z [.ref h, .ref (ad 6), .int x2] (xW g h hn hi ad ra sTaped sFault sFaultA sWays sMay sMust cTape cNames cHead cSure cN cRow cTried cFor cRoad cFear cCall cUnl cPaid cStep cGain cText iN iRow iFor iRoad iFear iCall iUnl iPaid iStep iGain iText tp) (some (.int r)) (xW g h hn hi ad ra sTaped sFault sFaultA sWays sMay sMust cTape ncNames cHead cSure cN cRow cTried cFor cRoad cFear cCall cUnl cPaid cStep cGain cText iN iRow iFor iRoad iFear iCall iUnl iPaid iStep iGain iText tp) 0 0 := by
  refine CX.of RX0 rfl plain_X0 (Nat.le_of_ble_eq_true rfl) (fun p e s m below meth c A ls X hF hP hD hS hl => ?_)
  have hx := X.1
  have hb := X.2.1
  have hown := X.2.2.2.2.2.1
  have hts := X.2.2.2.2.2.2.1
  have hl : lv_has ls 3 [(0, .ref h), (1, .ref (ad 6)), (2, .int x2)] := hl
  unfold X_earnsOf at hf
  refine lv_aload_n hx hb dX0_earnsOf_0 rfl (lv_at hl 0 rfl) ?_
  refine lv_aload_n hx hb dX0_earnsOf_1 rfl (lv_at hl 1 rfl) ?_
  refine lv_iload_n hx hb dX0_earnsOf_2 rfl (lv_at hl 2 rfl) ?_
  refine lv_aload_n hx hb dX0_earnsOf_3 rfl (lv_at hl 1 rfl) ?_
  refine lv_iload_n hx hb dX0_earnsOf_4 rfl (lv_at hl 2 rfl) ?_
  refine lv_iconst (v := 0) hx hb dX0_earnsOf_5 (by decide) ?_
  obtain ⟨r1, k2, hf⟩ := bd1s hf
  refine xSi (rest := [.int x2, .ref (ad 6), .ref h]) X hF (met_X_atR k2) gs_X0_X0_at dy_X0_at ⟨⟨rfl, rfl⟩, Nat.le_of_ble_eq_true rfl, Nat.le_of_ble_eq_true rfl⟩ hP hD hS hl.1 rfl rfl ⟨Nat.zero_le _, Nat.zero_le _⟩ (Nat.le_of_ble_eq_true rfl) dX0_earnsOf_6 (fun H locs hP hD hS => ?_)
  obtain ⟨c3, k4, hf⟩ := bd1s hf
  refine xVv (rest := []) X hF (met_X_namesOfR k4) gw_X0_X0_namesOf dy_X0_namesOf ⟨⟨rfl, rfl⟩, Nat.le_of_ble_eq_true rfl, Nat.le_of_ble_eq_true rfl⟩ hP hD hS hl.1 rcX rfl rfl ⟨Nat.zero_le _, Nat.zero_le _⟩ (Nat.le_of_ble_eq_true rfl) dX0_earnsOf_9 (fun H locs hP hD hS => ?_)
  refine lv_aload_n hx hb dX0_earnsOf_12 rfl (lv_at hl 0 rfl) ?_
  refine lv_aload_n hx hb dX0_earnsOf_13 rfl (lv_at hl 0 rfl) ?_
  obtain ⟨r5, k6, hf⟩ := bd1s hf
  refine xVr (rest := [.ref h]) X hF (met_X_rules hzN k6) gw_X0_X0_rules dy_X0_rules ⟨⟨rfl, rfl⟩, Nat.le_of_ble_eq_true rfl, Nat.le_of_ble_eq_true rfl⟩ hP hD hS hl.1 rcX rfl rfl ⟨Nat.zero_le _, Nat.zero_le _⟩ (Nat.le_of_ble_eq_true rfl) dX0_earnsOf_14 (fun H locs hP hD hS => ?_)
  refine lv_iconst (v := 3) hx hb dX0_earnsOf_17 (by decide) ?_
  refine lv_bipush (v := 10) hx hb dX0_earnsOf_18 (by decide) ?_
  refine lv_bipush (v := 99) hx hb dX0_earnsOf_20 (by decide) ?_
  obtain ⟨r7, k8, hf⟩ := bd1s hf
  refine xVi (rest := []) X hF (met_X_law hT k8) gw_X0_X0_law dy_X0_law ⟨⟨rfl, rfl⟩, Nat.le_of_ble_eq_true rfl, Nat.le_of_ble_eq_true rfl⟩ hP hD hS hl.1 rcX rfl rfl ⟨Nat.zero_le _, Nat.zero_le _⟩ (Nat.le_of_ble_eq_true rfl) dX0_earnsOf_22 (fun H locs hP hD hS => ?_)
  cases hf
  exact rI X hP hD hS dX0_earnsOf_25
theorem gw_X0_X0_lives : GoodIn lw_all (wsV RX0 201 RX0 yX0_lives (ws_ yX0_lives cX0_lives 3 (some .boolean))) := lw_V q1047 q1049 qs31 q145 q1050
theorem dy_X0_lives : Dy yX0_lives RX0 2 := by decide +kernel
theorem gw_X0_X0_earnsOf : GoodIn lw_all (wsV RX0 198 RX0 yX0_earnsOf (ws_ yX0_earnsOf cX0_earnsOf 3 (some .int))) := lw_V q907 q909 qs26 q145 q910
theorem dy_X0_earnsOf : Dy yX0_earnsOf RX0 2 := by decide +kernel
set_option maxHeartbeats 4000000 in
theorem met_X_passesR {l : Launch} {g : gG} {h hn hi : Nat} {ad : Nat → Nat} {ra : Nat → Nat → Nat} {z : Nat → Nat} {sTaped : Int32} {sFault : Int32} {sFaultA : Int32} {sWays : Int32} {sMay : Int32} {sMust : Int32} {cTape : Nat → Int32} {cNames : Nat → Int32} {cHead : Nat → Int32} {cSure : Nat → Nat → Int32} {cN : Nat → Int32} {cRow : Nat → Int32} {cTried : Nat → Int32} {cFor : Nat → Int32} {cRoad : Nat → Int32} {cFear : Nat → Int32} {cCall : Nat → Int32} {cUnl : Nat → Int32} {cPaid : Nat → Nat → Int32} {cStep : Nat → Nat → Int32} {cGain : Nat → Nat → Int32} {cText : Nat → Option Nat} {iN : Nat → Int32} {iRow : Nat → Int32} {iFor : Nat → Int32} {iRoad : Nat → Int32} {iFear : Nat → Int32} {iCall : Nat → Int32} {iUnl : Nat → Int32} {iPaid : Nat → Nat → Int32} {iStep : Nat → Nat → Int32} {iGain : Nat → Nat → Int32} {iText : Nat → Option Nat} {tp : va_W} {E : Nat → Option (Nat → Option ((Nat → Int32) → Int64))} {zN : Nat} {r : Int32} {ncNames : Nat → Int32} {ncRow : Nat → Int32} {φ : Nat} (hzN : zN = z 0) (hT : TxOk g z tp E) (hf : X_passes φ cNames cN cRow cFor cFear cText E zN = some (r, ncNames, ncRow)) : CX l yX0_passes (ws_ yX0_passes cX0_passes 4 (some .int)) ({ frames := 246, cells := 0, slots := 0, locals := 5291 } : Room) g z [.ref h, .ref (ad 6)] (xW g h hn hi ad ra sTaped sFault sFaultA sWays sMay sMust cTape cNames cHead cSure cN cRow cTried cFor cRoad cFear cCall cUnl cPaid cStep cGain cText iN iRow iFor iRoad iFear iCall iUnl iPaid iStep iGain iText tp) (some (.int r)) (xW g h hn hi ad ra sTaped sFault sFaultA sWays sMay sMust cTape ncNames cHead cSure cN ncRow cTried cFor cRoad cFear cCall cUnl cPaid cStep cGain cText iN iRow iFor iRoad iFear iCall iUnl iPaid iStep iGain iText tp) 0 0 := by
  refine CX.of RX0 rfl plain_X0 (Nat.le_of_ble_eq_true rfl) (fun p e s m below meth c A ls X hF hP hD hS hl => ?_)
  have hx := X.1
  have hb := X.2.1
  have hown := X.2.2.2.2.2.1
  have hts := X.2.2.2.2.2.2.1
  have hl : lv_has ls 4 [(0, .ref h), (1, .ref (ad 6))] := hl
  unfold X_passes at hf
  refine lv_iconst (v := 0) hx hb dX0_passes_0 (by decide) ?_
  refine lv_istore_n (lv' := [(2, .int 0), (0, .ref h), (1, .ref (ad 6))]) hx hb dX0_passes_1 rfl hl (by decide) rfl (fun ls hl => ?_)
  refine lv_iconst (v := 0) hx hb dX0_passes_2 (by decide) ?_
  refine lv_istore_n (lv' := [(3, .int 0), (2, .int 0), (0, .ref h), (1, .ref (ad 6))]) hx hb dX0_passes_3 rfl hl (by decide) rfl (fun ls hl => ?_)
  obtain ⟨v5, c6, c7, k12, hf⟩ := bd3s hf
  have hE9 : ∀ (H : Heap) (locs : List Loc) (ls : Array Slot), va_P g.1 vwCl (xW g h hn hi ad ra sTaped sFault sFaultA sWays sMay sMust cTape c6 cHead cSure cN c7 cTried cFor cRoad cFear cCall cUnl cPaid cStep cGain cText iN iRow iFor iRoad iFear iCall iUnl iPaid iStep iGain iText tp) H → va_D A (xW g h hn hi ad ra sTaped sFault sFaultA sWays sMay sMust cTape c6 cHead cSure cN c7 cTried cFor cRoad cFear cCall cUnl cPaid cStep cGain cText iN iRow iFor iRoad iFear iCall iUnl iPaid iStep iGain iText tp) → va_S A s.heap H locs → lv_has ls 4 [(1, .ref (ad 6)), (2, .int v5)] → W p l e ({ frames := 246, cells := 0, slots := 0, locals := 5291 } : Room) s m ([.ref h, .ref (ad 6)] : List Value).toArray below meth c H locs 0 0 (MQ below (QQ g (some (.int r)) (xW g h hn hi ad ra sTaped sFault sFaultA sWays sMay sMust cTape ncNames cHead cSure cN ncRow cTried cFor cRoad cFear cCall cUnl cPaid cStep cGain cText iN iRow iFor iRoad iFear iCall iUnl iPaid iStep iGain iText tp) A) ([.ref h, .ref (ad 6)] : List Value).toArray s 0 0 A) (F0 m 88 ls []) := by
    intro H locs ls hP hD hS hl
    refine lv_aload_n hx hb dX0_passes_88 rfl (lv_at hl 0 rfl) ?_
    refine lv_iconst (v := 0) hx hb dX0_passes_89 (by decide) ?_
    refine lv_dup2_11 hx hb dX0_passes_90 rfl rfl ?_
    obtain ⟨v13, ev13, bv13, hf⟩ := rds hf
    refine lX_cRow X hP ev13 bv13 dX0_passes_91 ?_
    refine lv_iconst (v := 1) hx hb dX0_passes_92 (by decide) ?_
    refine lv_iadd hx hb dX0_passes_93 ?_
    obtain ⟨v14, ev14, hf⟩ := lts hf
    refine tpi ev14 ?_
    obtain ⟨c15, ec15, bc15, hf⟩ := wrs hf
    refine sX_cRow X hP hD hS ec15 bc15 dX0_passes_94 (fun H locs hP hD hS => ?_)
    refine lv_iload_n hx hb dX0_passes_95 rfl (lv_at hl 1 rfl) ?_
    cases hf
    exact rI X hP hD hS dX0_passes_96
  have hL10 : ∀ (n8 : Nat) (v1 : Int32) (v2 : Int32) (c3 : Nat → Int32) (c4 : Nat → Int32), X_passes_L4 φ cN cFor cFear cText E zN n8 v1 v2 c3 c4 = some (v5, c6, c7) → ∀ (H : Heap) (locs : List Loc) (ls : Array Slot), va_P g.1 vwCl (xW g h hn hi ad ra sTaped sFault sFaultA sWays sMay sMust cTape c3 cHead cSure cN c4 cTried cFor cRoad cFear cCall cUnl cPaid cStep cGain cText iN iRow iFor iRoad iFear iCall iUnl iPaid iStep iGain iText tp) H → va_D A (xW g h hn hi ad ra sTaped sFault sFaultA sWays sMay sMust cTape c3 cHead cSure cN c4 cTried cFor cRoad cFear cCall cUnl cPaid cStep cGain cText iN iRow iFor iRoad iFear iCall iUnl iPaid iStep iGain iText tp) → va_S A s.heap H locs → lv_has ls 4 [(0, .ref h), (1, .ref (ad 6)), (2, .int v1), (3, .int v2)] → W p l e ({ frames := 246, cells := 0, slots := 0, locals := 5291 } : Room) s m ([.ref h, .ref (ad 6)] : List Value).toArray below meth c H locs 0 0 (MQ below (QQ g (some (.int r)) (xW g h hn hi ad ra sTaped sFault sFaultA sWays sMay sMust cTape ncNames cHead cSure cN ncRow cTried cFor cRoad cFear cCall cUnl cPaid cStep cGain cText iN iRow iFor iRoad iFear iCall iUnl iPaid iStep iGain iText tp) A) ([.ref h, .ref (ad 6)] : List Value).toArray s 0 0 A) (F0 m 4 ls []) := by
    intro n8
    induction n8 with
    | zero =>
      intro v1 v2 c3 c4 hf
      exact nn hf
    | succ n8 ih11 =>
      intro v1 v2 c3 c4 hf H locs ls hP hD hS hl
      rw [X_passes_L4] at hf
      refine lv_iload_n hx hb dX0_passes_4 rfl (lv_at hl 3 rfl) ?_
      refine lv_aload_n hx hb dX0_passes_5 rfl (lv_at hl 0 rfl) ?_
      refine gX_X0_this_now X hP dX0_passes_6 ?_
      refine gX_X0_now_n X hF hP dX0_passes_9 ?_
      refine lv_iconst (v := 1) hx hb dX0_passes_12 (by decide) ?_
      obtain ⟨v16, ev16, bv16, hf⟩ := rds hf
      refine lX_cN X hP ev16 bv16 dX0_passes_13 ?_
      refine bc_ge (tgt := 88) hx hb hf dX0_passes_14 (by decide) (fun hf => ?_) (fun hf => ?_)
      · cases hf
        exact hE9 _ _ _ hP hD hS (lv_sub hl [1, 2] rfl)
      · refine lv_aload_n hx hb dX0_passes_17 rfl (lv_at hl 1 rfl) ?_
        refine lv_iload_n hx hb dX0_passes_18 rfl (lv_at hl 3 rfl) ?_
        refine lv_bipush (v := 6) hx hb dX0_passes_19 (by decide) ?_
        obtain ⟨r17, k18, hf⟩ := bd1s hf
        refine xSi (rest := []) X hF (met_X_atR k18) gs_X0_X0_at dy_X0_at ⟨⟨rfl, rfl⟩, Nat.le_of_ble_eq_true rfl, Nat.le_of_ble_eq_true rfl⟩ hP hD hS hl.1 rfl rfl ⟨Nat.zero_le _, Nat.zero_le _⟩ (Nat.le_of_ble_eq_true rfl) dX0_passes_21 (fun H locs hP hD hS => ?_)
        refine lv_iconst (v := 3) hx hb dX0_passes_24 (by decide) ?_
        refine bc_ne (tgt := 31) hx hb hf dX0_passes_25 (by decide) (fun hf => ?_) (fun hf => ?_)
        · refine lv_aload_n hx hb dX0_passes_31 rfl (lv_at hl 1 rfl) ?_
          refine lv_iload_n hx hb dX0_passes_32 rfl (lv_at hl 3 rfl) ?_
          refine lv_bipush (v := 6) hx hb dX0_passes_33 (by decide) ?_
          obtain ⟨r19, k20, hf⟩ := bd1s hf
          refine xSi (rest := []) X hF (met_X_atR k20) gs_X0_X0_at dy_X0_at ⟨⟨rfl, rfl⟩, Nat.le_of_ble_eq_true rfl, Nat.le_of_ble_eq_true rfl⟩ hP hD hS hl.1 rfl rfl ⟨Nat.zero_le _, Nat.zero_le _⟩ (Nat.le_of_ble_eq_true rfl) dX0_passes_35 (fun H locs hP hD hS => ?_)
          refine lv_iconst (v := 1) hx hb dX0_passes_38 (by decide) ?_
          refine bc_eq (tgt := 70) hx hb hf dX0_passes_39 (by decide) (fun hf => ?_) (fun hf => ?_)
          · refine lv_aload_n hx hb dX0_passes_70 rfl (lv_at hl 0 rfl) ?_
            refine lv_aload_n hx hb dX0_passes_71 rfl (lv_at hl 1 rfl) ?_
            refine lv_iload_n hx hb dX0_passes_72 rfl (lv_at hl 3 rfl) ?_
            obtain ⟨r21, c22, c23, k24, hf⟩ := bd3s hf
            refine xVi (rest := []) X hF (met_X_livesR hzN hT k24) gw_X0_X0_lives dy_X0_lives ⟨⟨rfl, rfl⟩, Nat.le_of_ble_eq_true rfl, Nat.le_of_ble_eq_true rfl⟩ hP hD hS hl.1 rcX rfl rfl ⟨Nat.zero_le _, Nat.zero_le _⟩ (Nat.le_of_ble_eq_true rfl) dX0_passes_73 (fun H locs hP hD hS => ?_)
            refine bq_ne (tgt := 82) hx hb hf dX0_passes_76 (by decide) (fun hf => ?_) (fun hf => ?_)
            · obtain ⟨v25, ev25, hf⟩ := lts hf
              refine lv_iinc (v := v25) (lv' := [(3, .int v25), (0, .ref h), (1, .ref (ad 6)), (2, .int v1)]) hx hb dX0_passes_82 hl (k := 3) rfl (by rw [ev25]; rfl) (by decide) rfl (fun ls hl => ?_)
              refine lv_goto (tgt := 4) hx hb dX0_passes_85 (by decide) ?_
              exact ih11 _ _ _ _ hf _ _ _ hP hD hS (lv_sub hl [1, 2, 3, 0] rfl)
            · obtain ⟨v26, ev26, hf⟩ := lts hf
              refine lv_iinc (v := v26) (lv' := [(2, .int v26), (0, .ref h), (1, .ref (ad 6)), (3, .int v2)]) hx hb dX0_passes_79 hl (k := 2) rfl (by rw [ev26]; rfl) (by decide) rfl (fun ls hl => ?_)
              obtain ⟨v27, ev27, hf⟩ := lts hf
              refine lv_iinc (v := v27) (lv' := [(3, .int v27), (2, .int v26), (0, .ref h), (1, .ref (ad 6))]) hx hb dX0_passes_82 hl (k := 3) rfl (by rw [ev27]; rfl) (by decide) rfl (fun ls hl => ?_)
              refine lv_goto (tgt := 4) hx hb dX0_passes_85 (by decide) ?_
              exact ih11 _ _ _ _ hf _ _ _ hP hD hS (lv_sub hl [2, 3, 1, 0] rfl)
          · refine lv_aload_n hx hb dX0_passes_42 rfl (lv_at hl 1 rfl) ?_
            refine lv_iload_n hx hb dX0_passes_43 rfl (lv_at hl 3 rfl) ?_
            refine lv_iconst (v := 1) hx hb dX0_passes_44 (by decide) ?_
            refine lv_sipush (v := 9999) hx hb dX0_passes_45 (by decide) ?_
            refine lv_aload_n hx hb dX0_passes_48 rfl (lv_at hl 1 rfl) ?_
            refine lv_iload_n hx hb dX0_passes_49 rfl (lv_at hl 3 rfl) ?_
            refine lv_iconst (v := 1) hx hb dX0_passes_50 (by decide) ?_
            obtain ⟨r28, k29, hf⟩ := bd1s hf
            refine xSi (rest := [.int 9999, .int 1, .int v2, .ref (ad 6)]) X hF (met_X_atR k29) gs_X0_X0_at dy_X0_at ⟨⟨rfl, rfl⟩, Nat.le_of_ble_eq_true rfl, Nat.le_of_ble_eq_true rfl⟩ hP hD hS hl.1 rfl rfl ⟨Nat.zero_le _, Nat.zero_le _⟩ (Nat.le_of_ble_eq_true rfl) dX0_passes_51 (fun H locs hP hD hS => ?_)
            refine lv_aload_n hx hb dX0_passes_54 rfl (lv_at hl 0 rfl) ?_
            refine lv_aload_n hx hb dX0_passes_55 rfl (lv_at hl 1 rfl) ?_
            refine lv_iload_n hx hb dX0_passes_56 rfl (lv_at hl 3 rfl) ?_
            obtain ⟨r30, c31, k32, hf⟩ := bd2s hf
            refine xVi (rest := [.int r28, .int 9999, .int 1, .int v2, .ref (ad 6)]) X hF (met_X_earnsOfR hzN hT k32) gw_X0_X0_earnsOf dy_X0_earnsOf ⟨⟨rfl, rfl⟩, Nat.le_of_ble_eq_true rfl, Nat.le_of_ble_eq_true rfl⟩ hP hD hS hl.1 rcX rfl rfl ⟨Nat.zero_le _, Nat.zero_le _⟩ (Nat.le_of_ble_eq_true rfl) dX0_passes_57 (fun H locs hP hD hS => ?_)
            refine lv_iadd hx hb dX0_passes_60 ?_
            refine rMin X q1043 hl.1 ⟨Nat.le_of_ble_eq_true rfl, Nat.le_of_ble_eq_true rfl⟩ ⟨Nat.zero_le _, Nat.zero_le _⟩ dX0_passes_61 ?_
            obtain ⟨v33, ev33, hf⟩ := lts hf
            refine tpi ev33 ?_
            obtain ⟨c34, k35, hf⟩ := bd1s hf
            refine xSv (rest := []) X hF (met_X_setsR k35) gs_X0_X0_sets dy_X0_sets ⟨⟨rfl, rfl⟩, Nat.le_of_ble_eq_true rfl, Nat.le_of_ble_eq_true rfl⟩ hP hD hS hl.1 rfl rfl ⟨Nat.zero_le _, Nat.zero_le _⟩ (Nat.le_of_ble_eq_true rfl) dX0_passes_64 (fun H locs hP hD hS => ?_)
            refine lv_goto (tgt := 82) hx hb dX0_passes_67 (by decide) ?_
            obtain ⟨v36, ev36, hf⟩ := lts hf
            refine lv_iinc (v := v36) (lv' := [(3, .int v36), (0, .ref h), (1, .ref (ad 6)), (2, .int v1)]) hx hb dX0_passes_82 hl (k := 3) rfl (by rw [ev36]; rfl) (by decide) rfl (fun ls hl => ?_)
            refine lv_goto (tgt := 4) hx hb dX0_passes_85 (by decide) ?_
            exact ih11 _ _ _ _ hf _ _ _ hP hD hS (lv_sub hl [1, 2, 3, 0] rfl)
        · refine lv_goto (tgt := 82) hx hb dX0_passes_28 (by decide) ?_
          obtain ⟨v37, ev37, hf⟩ := lts hf
          refine lv_iinc (v := v37) (lv' := [(3, .int v37), (0, .ref h), (1, .ref (ad 6)), (2, .int v1)]) hx hb dX0_passes_82 hl (k := 3) rfl (by rw [ev37]; rfl) (by decide) rfl (fun ls hl => ?_)
          refine lv_goto (tgt := 4) hx hb dX0_passes_85 (by decide) ?_
          exact ih11 _ _ _ _ hf _ _ _ hP hD hS (lv_sub hl [1, 2, 3, 0] rfl)
  exact hL10 _ _ _ _ _ k12 _ _ _ hP hD hS (lv_sub hl [2, 3, 1, 0] rfl)
theorem gw_X0_X1_keeps : GoodIn lw_all (wsV RX0 205 RX1 yX1_keeps (ws_ yX1_keeps cX1_keeps 2 none)) := lw_V q896 q897 q898 q146 q899
theorem dy_X1_keeps : Dy yX1_keeps RX1 0 := by decide +kernel
theorem gw_X0_X0_passes : GoodIn lw_all (wsV RX0 208 RX0 yX0_passes (ws_ yX0_passes cX0_passes 4 (some .int))) := lw_V q900 q902 qs25 q145 q903
theorem dy_X0_passes : Dy yX0_passes RX0 1 := by decide +kernel
set_option maxHeartbeats 4000000 in
theorem met_X_month {l : Launch} {g : gG} {h hn hi : Nat} {ad : Nat → Nat} {ra : Nat → Nat → Nat} {z : Nat → Nat} {sTaped : Int32} {sFault : Int32} {sFaultA : Int32} {sWays : Int32} {sMay : Int32} {sMust : Int32} {cTape : Nat → Int32} {cNames : Nat → Int32} {cHead : Nat → Int32} {cSure : Nat → Nat → Int32} {cN : Nat → Int32} {cRow : Nat → Int32} {cTried : Nat → Int32} {cFor : Nat → Int32} {cRoad : Nat → Int32} {cFear : Nat → Int32} {cCall : Nat → Int32} {cUnl : Nat → Int32} {cPaid : Nat → Nat → Int32} {cStep : Nat → Nat → Int32} {cGain : Nat → Nat → Int32} {cText : Nat → Option Nat} {iN : Nat → Int32} {iRow : Nat → Int32} {iFor : Nat → Int32} {iRoad : Nat → Int32} {iFear : Nat → Int32} {iCall : Nat → Int32} {iUnl : Nat → Int32} {iPaid : Nat → Nat → Int32} {iStep : Nat → Nat → Int32} {iGain : Nat → Nat → Int32} {iText : Nat → Option Nat} {tp : va_W} {E : Nat → Option (Nat → Option ((Nat → Int32) → Int64))} {zN : Nat} {x1 : Int32} {r : Int32} {ncNames : Nat → Int32} {ncN : Nat → Int32} {ncRow : Nat → Int32} {ncStep : Nat → Nat → Int32} {φ : Nat} (hzN : zN = z 0) (hT : TxOk g z tp E) (hf : X_month φ cNames cN cRow cFor cFear cStep cText E zN x1 = some (r, ncNames, ncN, ncRow, ncStep)) : CX l yX0_month (ws_ yX0_month cX0_month 4 (some .int)) ({ frames := 247, cells := 0, slots := 0, locals := 5314 } : Room) g z [.ref h, .int x1] (xW g h hn hi ad ra sTaped sFault sFaultA sWays sMay sMust cTape cNames cHead cSure cN cRow cTried cFor cRoad cFear cCall cUnl cPaid cStep cGain cText iN iRow iFor iRoad iFear iCall iUnl iPaid iStep iGain iText tp) (some (.int r)) (xW g h hn hi ad ra sTaped sFault sFaultA sWays sMay sMust cTape ncNames cHead cSure ncN ncRow cTried cFor cRoad cFear cCall cUnl cPaid ncStep cGain cText iN iRow iFor iRoad iFear iCall iUnl iPaid iStep iGain iText tp) 0 0 := by
  refine CX.of RX0 rfl plain_X0 (Nat.le_of_ble_eq_true rfl) (fun p e s m below meth c A ls X hF hP hD hS hl => ?_)
  have hx := X.1
  have hb := X.2.1
  have hown := X.2.2.2.2.2.1
  have hts := X.2.2.2.2.2.2.1
  have hl : lv_has ls 4 [(0, .ref h), (1, .int x1)] := hl
  unfold X_month at hf
  refine lv_iload_n hx hb dX0_month_0 rfl (lv_at hl 1 rfl) ?_
  refine lv_iconst (v := 1) hx hb dX0_month_1 (by decide) ?_
  refine lv_bipush (v := 60) hx hb dX0_month_2 (by decide) ?_
  obtain ⟨r1, k2, hf⟩ := bd1s hf
  refine cSi (rest := []) X (met_X_in (g := g) k2) gs_X0_X0_in dy_X0_in ⟨⟨rfl, rfl⟩, Nat.le_of_ble_eq_true rfl, Nat.le_of_ble_eq_true rfl⟩ hP hD hS hl.1 rfl rfl ⟨Nat.zero_le _, Nat.zero_le _⟩ (Nat.le_of_ble_eq_true rfl) dX0_month_4 (fun H locs hP hD hS => ?_)
  refine bq_eq (tgt := 27) hx hb hf dX0_month_7 (by decide) (fun hf => ?_) (fun hf => ?_)
  · refine lv_iconst (v := (-1)) hx hb dX0_month_27 (by decide) ?_
    cases hf
    exact rI X hP hD hS dX0_month_28
  · refine lv_aload_n hx hb dX0_month_10 rfl (lv_at hl 0 rfl) ?_
    refine gX_X0_this_now X hP dX0_month_11 ?_
    refine gX_X0_now_row X hF hP dX0_month_14 ?_
    refine lv_iconst (v := 0) hx hb dX0_month_17 (by decide) ?_
    obtain ⟨v3, ev3, bv3, hf⟩ := rds hf
    refine lX_cRow X hP ev3 bv3 dX0_month_18 ?_
    refine lv_iload_n hx hb dX0_month_19 rfl (lv_at hl 1 rfl) ?_
    refine lv_iadd hx hb dX0_month_20 ?_
    refine lv_sipush (v := 9999) hx hb dX0_month_21 (by decide) ?_
    refine bc_le (tgt := 29) hx hb hf dX0_month_24 (by decide) (fun hf => ?_) (fun hf => ?_)
    · refine lv_iconst (v := 0) hx hb dX0_month_29 (by decide) ?_
      refine lv_istore_n (lv' := [(2, .int 0), (0, .ref h), (1, .int x1)]) hx hb dX0_month_30 rfl hl (by decide) rfl (fun ls hl => ?_)
      refine lv_iconst (v := 0) hx hb dX0_month_31 (by decide) ?_
      refine lv_istore_n (lv' := [(3, .int 0), (2, .int 0), (0, .ref h), (1, .int x1)]) hx hb dX0_month_32 rfl hl (by decide) rfl (fun ls hl => ?_)
      obtain ⟨v10, c11, c12, c13, c14, k19, hf⟩ := bd5s hf
      have hE16 : ∀ (H : Heap) (locs : List Loc) (ls : Array Slot), va_P g.1 vwCl (xW g h hn hi ad ra sTaped sFault sFaultA sWays sMay sMust cTape c11 cHead cSure c12 c13 cTried cFor cRoad cFear cCall cUnl cPaid c14 cGain cText iN iRow iFor iRoad iFear iCall iUnl iPaid iStep iGain iText tp) H → va_D A (xW g h hn hi ad ra sTaped sFault sFaultA sWays sMay sMust cTape c11 cHead cSure c12 c13 cTried cFor cRoad cFear cCall cUnl cPaid c14 cGain cText iN iRow iFor iRoad iFear iCall iUnl iPaid iStep iGain iText tp) → va_S A s.heap H locs → lv_has ls 4 [(2, .int v10)] → W p l e ({ frames := 247, cells := 0, slots := 0, locals := 5314 } : Room) s m ([.ref h, .int x1] : List Value).toArray below meth c H locs 0 0 (MQ below (QQ g (some (.int r)) (xW g h hn hi ad ra sTaped sFault sFaultA sWays sMay sMust cTape ncNames cHead cSure ncN ncRow cTried cFor cRoad cFear cCall cUnl cPaid ncStep cGain cText iN iRow iFor iRoad iFear iCall iUnl iPaid iStep iGain iText tp) A) ([.ref h, .int x1] : List Value).toArray s 0 0 A) (F0 m 65 ls []) := by
        intro H locs ls hP hD hS hl
        refine lv_iload_n hx hb dX0_month_65 rfl (lv_at hl 0 rfl) ?_
        cases hf
        exact rI X hP hD hS dX0_month_66
      have hL17 : ∀ (n15 : Nat) (v4 : Int32) (v5 : Int32) (c6 : Nat → Int32) (c7 : Nat → Int32) (c8 : Nat → Int32) (c9 : Nat → Nat → Int32), X_month_L33 φ x1 cFor cFear cText E zN n15 v4 v5 c6 c7 c8 c9 = some (v10, c11, c12, c13, c14) → ∀ (H : Heap) (locs : List Loc) (ls : Array Slot), va_P g.1 vwCl (xW g h hn hi ad ra sTaped sFault sFaultA sWays sMay sMust cTape c6 cHead cSure c7 c8 cTried cFor cRoad cFear cCall cUnl cPaid c9 cGain cText iN iRow iFor iRoad iFear iCall iUnl iPaid iStep iGain iText tp) H → va_D A (xW g h hn hi ad ra sTaped sFault sFaultA sWays sMay sMust cTape c6 cHead cSure c7 c8 cTried cFor cRoad cFear cCall cUnl cPaid c9 cGain cText iN iRow iFor iRoad iFear iCall iUnl iPaid iStep iGain iText tp) → va_S A s.heap H locs → lv_has ls 4 [(0, .ref h), (1, .int x1), (2, .int v4), (3, .int v5)] → W p l e ({ frames := 247, cells := 0, slots := 0, locals := 5314 } : Room) s m ([.ref h, .int x1] : List Value).toArray below meth c H locs 0 0 (MQ below (QQ g (some (.int r)) (xW g h hn hi ad ra sTaped sFault sFaultA sWays sMay sMust cTape ncNames cHead cSure ncN ncRow cTried cFor cRoad cFear cCall cUnl cPaid ncStep cGain cText iN iRow iFor iRoad iFear iCall iUnl iPaid iStep iGain iText tp) A) ([.ref h, .int x1] : List Value).toArray s 0 0 A) (F0 m 33 ls []) := by
        intro n15
        induction n15 with
        | zero =>
          intro v4 v5 c6 c7 c8 c9 hf
          exact nn hf
        | succ n15 ih18 =>
          intro v4 v5 c6 c7 c8 c9 hf H locs ls hP hD hS hl
          rw [X_month_L33] at hf
          refine lv_iload_n hx hb dX0_month_33 rfl (lv_at hl 3 rfl) ?_
          refine lv_iload_n hx hb dX0_month_34 rfl (lv_at hl 1 rfl) ?_
          refine bc_ge (tgt := 65) hx hb hf dX0_month_35 (by decide) (fun hf => ?_) (fun hf => ?_)
          · cases hf
            exact hE16 _ _ _ hP hD hS (lv_sub hl [2] rfl)
          · refine lv_aload_n hx hb dX0_month_38 rfl (lv_at hl 0 rfl) ?_
            refine gX_X0_this_now X hP dX0_month_39 ?_
            obtain ⟨c20, c21, k22, hf⟩ := bd2s hf
            refine xVv (rest := []) X hF (met_S_keeps k22) gw_X0_X1_keeps dy_X1_keeps ⟨⟨rfl, rfl⟩, Nat.le_of_ble_eq_true rfl, Nat.le_of_ble_eq_true rfl⟩ hP hD hS hl.1 rcN rfl rfl ⟨Nat.zero_le _, Nat.zero_le _⟩ (Nat.le_of_ble_eq_true rfl) dX0_month_42 (fun H locs hP hD hS => ?_)
            refine lv_iload_n hx hb dX0_month_45 rfl (lv_at hl 2 rfl) ?_
            refine lv_aload_n hx hb dX0_month_46 rfl (lv_at hl 0 rfl) ?_
            refine lv_aload_n hx hb dX0_month_47 rfl (lv_at hl 0 rfl) ?_
            refine gX_X0_this_now X hP dX0_month_48 ?_
            refine gX_X0_now_row X hF hP dX0_month_51 ?_
            obtain ⟨r23, c24, c25, k26, hf⟩ := bd3s hf
            refine xVi (rest := [.int v4]) X hF (met_X_passesR hzN hT k26) gw_X0_X0_passes dy_X0_passes ⟨⟨rfl, rfl⟩, Nat.le_of_ble_eq_true rfl, Nat.le_of_ble_eq_true rfl⟩ hP hD hS hl.1 rcX rfl rfl ⟨Nat.zero_le _, Nat.zero_le _⟩ (Nat.le_of_ble_eq_true rfl) dX0_month_54 (fun H locs hP hD hS => ?_)
            refine lv_iadd hx hb dX0_month_57 ?_
            obtain ⟨v27, ev27, hf⟩ := lts hf
            refine tpi ev27 ?_
            refine lv_istore_n (lv' := [(2, .int v27), (0, .ref h), (1, .int x1), (3, .int v5)]) hx hb dX0_month_58 rfl hl (by decide) rfl (fun ls hl => ?_)
            obtain ⟨v28, ev28, hf⟩ := lts hf
            refine lv_iinc (v := v28) (lv' := [(3, .int v28), (2, .int v27), (0, .ref h), (1, .int x1)]) hx hb dX0_month_59 hl (k := 3) rfl (by rw [ev28]; rfl) (by decide) rfl (fun ls hl => ?_)
            refine lv_goto (tgt := 33) hx hb dX0_month_62 (by decide) ?_
            exact ih18 _ _ _ _ _ _ hf _ _ _ hP hD hS (lv_sub hl [2, 3, 1, 0] rfl)
      exact hL17 _ _ _ _ _ _ _ k19 _ _ _ hP hD hS (lv_sub hl [2, 3, 1, 0] rfl)
    · refine lv_iconst (v := (-1)) hx hb dX0_month_27 (by decide) ?_
      cases hf
      exact rI X hP hD hS dX0_month_28
set_option maxHeartbeats 4000000 in
theorem met_X_isPerson {l : Launch} {g : gG} {h hn hi : Nat} {ad : Nat → Nat} {ra : Nat → Nat → Nat} {z : Nat → Nat} {sTaped : Int32} {sFault : Int32} {sFaultA : Int32} {sWays : Int32} {sMay : Int32} {sMust : Int32} {cTape : Nat → Int32} {cNames : Nat → Int32} {cHead : Nat → Int32} {cSure : Nat → Nat → Int32} {cN : Nat → Int32} {cRow : Nat → Int32} {cTried : Nat → Int32} {cFor : Nat → Int32} {cRoad : Nat → Int32} {cFear : Nat → Int32} {cCall : Nat → Int32} {cUnl : Nat → Int32} {cPaid : Nat → Nat → Int32} {cStep : Nat → Nat → Int32} {cGain : Nat → Nat → Int32} {cText : Nat → Option Nat} {iN : Nat → Int32} {iRow : Nat → Int32} {iFor : Nat → Int32} {iRoad : Nat → Int32} {iFear : Nat → Int32} {iCall : Nat → Int32} {iUnl : Nat → Int32} {iPaid : Nat → Nat → Int32} {iStep : Nat → Nat → Int32} {iGain : Nat → Nat → Int32} {iText : Nat → Option Nat} {tp : va_W} {x1 : Int32} {r : Int32} (hf : X_isPerson cN x1 = some r) : CX l yX0_isPerson (ws_ yX0_isPerson cX0_isPerson 2 (some .boolean)) ({ frames := 1, cells := 0, slots := 0, locals := 22 } : Room) g z [.ref h, .int x1] (xW g h hn hi ad ra sTaped sFault sFaultA sWays sMay sMust cTape cNames cHead cSure cN cRow cTried cFor cRoad cFear cCall cUnl cPaid cStep cGain cText iN iRow iFor iRoad iFear iCall iUnl iPaid iStep iGain iText tp) (some (.int r)) (xW g h hn hi ad ra sTaped sFault sFaultA sWays sMay sMust cTape cNames cHead cSure cN cRow cTried cFor cRoad cFear cCall cUnl cPaid cStep cGain cText iN iRow iFor iRoad iFear iCall iUnl iPaid iStep iGain iText tp) 0 0 := by
  refine CX.of RX0 rfl plain_X0 (Nat.le_of_ble_eq_true rfl) (fun p e s m below meth c A ls X hF hP hD hS hl => ?_)
  have hx := X.1
  have hb := X.2.1
  have hown := X.2.2.2.2.2.1
  have hts := X.2.2.2.2.2.2.1
  have hl : lv_has ls 2 [(0, .ref h), (1, .int x1)] := hl
  unfold X_isPerson at hf
  refine lv_iload_n hx hb dX0_isPerson_0 rfl (lv_at hl 1 rfl) ?_
  refine lv_iconst (v := 0) hx hb dX0_isPerson_1 (by decide) ?_
  refine lv_aload_n hx hb dX0_isPerson_2 rfl (lv_at hl 0 rfl) ?_
  refine gX_X0_this_now X hP dX0_isPerson_3 ?_
  refine gX_X0_now_n X hF hP dX0_isPerson_6 ?_
  refine lv_iconst (v := 1) hx hb dX0_isPerson_9 (by decide) ?_
  obtain ⟨v1, ev1, bv1, hf⟩ := rds hf
  refine lX_cN X hP ev1 bv1 dX0_isPerson_10 ?_
  refine lv_iconst (v := 1) hx hb dX0_isPerson_11 (by decide) ?_
  refine lv_isub hx hb dX0_isPerson_12 ?_
  obtain ⟨r2, k3, hf⟩ := bd1s hf
  refine cSi (rest := []) X (met_X_in (g := g) k3) gs_X0_X0_in dy_X0_in ⟨⟨rfl, rfl⟩, Nat.le_of_ble_eq_true rfl, Nat.le_of_ble_eq_true rfl⟩ hP hD hS hl.1 rfl rfl ⟨Nat.zero_le _, Nat.zero_le _⟩ (Nat.le_of_ble_eq_true rfl) dX0_isPerson_13 (fun H locs hP hD hS => ?_)
  obtain ⟨hz, hf⟩ := zks hf
  cases hf
  exact rZ X hz hP hD hS dX0_isPerson_16
theorem gw_X0_X0_isPerson : GoodIn lw_all (wsV RX0 65 RX0 yX0_isPerson (ws_ yX0_isPerson cX0_isPerson 2 (some .boolean))) := lw_V q1087 q1089 qs37 q145 q1090
theorem dy_X0_isPerson : Dy yX0_isPerson RX0 1 := by decide +kernel
set_option maxHeartbeats 4000000 in
theorem met_X_isAlive {l : Launch} {g : gG} {h hn hi : Nat} {ad : Nat → Nat} {ra : Nat → Nat → Nat} {z : Nat → Nat} {sTaped : Int32} {sFault : Int32} {sFaultA : Int32} {sWays : Int32} {sMay : Int32} {sMust : Int32} {cTape : Nat → Int32} {cNames : Nat → Int32} {cHead : Nat → Int32} {cSure : Nat → Nat → Int32} {cN : Nat → Int32} {cRow : Nat → Int32} {cTried : Nat → Int32} {cFor : Nat → Int32} {cRoad : Nat → Int32} {cFear : Nat → Int32} {cCall : Nat → Int32} {cUnl : Nat → Int32} {cPaid : Nat → Nat → Int32} {cStep : Nat → Nat → Int32} {cGain : Nat → Nat → Int32} {cText : Nat → Option Nat} {iN : Nat → Int32} {iRow : Nat → Int32} {iFor : Nat → Int32} {iRoad : Nat → Int32} {iFear : Nat → Int32} {iCall : Nat → Int32} {iUnl : Nat → Int32} {iPaid : Nat → Nat → Int32} {iStep : Nat → Nat → Int32} {iGain : Nat → Nat → Int32} {iText : Nat → Option Nat} {tp : va_W} {x1 : Int32} {r : Int32} (hf : X_isAlive cN cRow x1 = some r) : CX l yX0_isAlive (ws_ yX0_isAlive cX0_isAlive 2 (some .boolean)) ({ frames := 2, cells := 0, slots := 0, locals := 43 } : Room) g z [.ref h, .int x1] (xW g h hn hi ad ra sTaped sFault sFaultA sWays sMay sMust cTape cNames cHead cSure cN cRow cTried cFor cRoad cFear cCall cUnl cPaid cStep cGain cText iN iRow iFor iRoad iFear iCall iUnl iPaid iStep iGain iText tp) (some (.int r)) (xW g h hn hi ad ra sTaped sFault sFaultA sWays sMay sMust cTape cNames cHead cSure cN cRow cTried cFor cRoad cFear cCall cUnl cPaid cStep cGain cText iN iRow iFor iRoad iFear iCall iUnl iPaid iStep iGain iText tp) 0 0 := by
  refine CX.of RX0 rfl plain_X0 (Nat.le_of_ble_eq_true rfl) (fun p e s m below meth c A ls X hF hP hD hS hl => ?_)
  have hx := X.1
  have hb := X.2.1
  have hown := X.2.2.2.2.2.1
  have hts := X.2.2.2.2.2.2.1
  have hl : lv_has ls 2 [(0, .ref h), (1, .int x1)] := hl
  unfold X_isAlive at hf
  refine lv_aload_n hx hb dX0_isAlive_0 rfl (lv_at hl 0 rfl) ?_
  refine lv_iload_n hx hb dX0_isAlive_1 rfl (lv_at hl 1 rfl) ?_
  obtain ⟨r1, k2, hf⟩ := bd1s hf
  refine xVi (rest := []) X hF (met_X_isPerson k2) gw_X0_X0_isPerson dy_X0_isPerson ⟨⟨rfl, rfl⟩, Nat.le_of_ble_eq_true rfl, Nat.le_of_ble_eq_true rfl⟩ hP hD hS hl.1 rcX rfl rfl ⟨Nat.zero_le _, Nat.zero_le _⟩ (Nat.le_of_ble_eq_true rfl) dX0_isAlive_2 (fun H locs hP hD hS => ?_)
  refine bq_eq (tgt := 29) hx hb hf dX0_isAlive_5 (by decide) (fun hf => ?_) (fun hf => ?_)
  · refine lv_iconst (v := 0) hx hb dX0_isAlive_29 (by decide) ?_
    cases hf
    exact rZ X rfl hP hD hS dX0_isAlive_30
  · refine lv_aload_n hx hb dX0_isAlive_8 rfl (lv_at hl 0 rfl) ?_
    refine gX_X0_this_now X hP dX0_isAlive_9 ?_
    refine gX_X0_now_row X hF hP dX0_isAlive_12 ?_
    refine lv_iload_n hx hb dX0_isAlive_15 rfl (lv_at hl 1 rfl) ?_
    refine lv_bipush (v := 6) hx hb dX0_isAlive_16 (by decide) ?_
    obtain ⟨r3, k4, hf⟩ := bd1s hf
    refine xSi (rest := []) X hF (met_X_atR k4) gs_X0_X0_at dy_X0_at ⟨⟨rfl, rfl⟩, Nat.le_of_ble_eq_true rfl, Nat.le_of_ble_eq_true rfl⟩ hP hD hS hl.1 rfl rfl ⟨Nat.zero_le _, Nat.zero_le _⟩ (Nat.le_of_ble_eq_true rfl) dX0_isAlive_18 (fun H locs hP hD hS => ?_)
    refine lv_iconst (v := 3) hx hb dX0_isAlive_21 (by decide) ?_
    refine bc_eq (tgt := 29) hx hb hf dX0_isAlive_22 (by decide) (fun hf => ?_) (fun hf => ?_)
    · refine lv_iconst (v := 0) hx hb dX0_isAlive_29 (by decide) ?_
      cases hf
      exact rZ X rfl hP hD hS dX0_isAlive_30
    · refine lv_iconst (v := 1) hx hb dX0_isAlive_25 (by decide) ?_
      refine lv_goto (tgt := 30) hx hb dX0_isAlive_26 (by decide) ?_
      cases hf
      exact rZ X rfl hP hD hS dX0_isAlive_30
set_option maxHeartbeats 4000000 in
theorem met_X_isWolf {l : Launch} {g : gG} {h hn hi : Nat} {ad : Nat → Nat} {ra : Nat → Nat → Nat} {z : Nat → Nat} {sTaped : Int32} {sFault : Int32} {sFaultA : Int32} {sWays : Int32} {sMay : Int32} {sMust : Int32} {cTape : Nat → Int32} {cNames : Nat → Int32} {cHead : Nat → Int32} {cSure : Nat → Nat → Int32} {cN : Nat → Int32} {cRow : Nat → Int32} {cTried : Nat → Int32} {cFor : Nat → Int32} {cRoad : Nat → Int32} {cFear : Nat → Int32} {cCall : Nat → Int32} {cUnl : Nat → Int32} {cPaid : Nat → Nat → Int32} {cStep : Nat → Nat → Int32} {cGain : Nat → Nat → Int32} {cText : Nat → Option Nat} {iN : Nat → Int32} {iRow : Nat → Int32} {iFor : Nat → Int32} {iRoad : Nat → Int32} {iFear : Nat → Int32} {iCall : Nat → Int32} {iUnl : Nat → Int32} {iPaid : Nat → Nat → Int32} {iStep : Nat → Nat → Int32} {iGain : Nat → Nat → Int32} {iText : Nat → Option Nat} {tp : va_W} {x1 : Int32} {r : Int32} (hf : X_isWolf cN cRow x1 = some r) : CX l yX0_isWolf (ws_ yX0_isWolf cX0_isWolf 2 (some .boolean)) ({ frames := 2, cells := 0, slots := 0, locals := 43 } : Room) g z [.ref h, .int x1] (xW g h hn hi ad ra sTaped sFault sFaultA sWays sMay sMust cTape cNames cHead cSure cN cRow cTried cFor cRoad cFear cCall cUnl cPaid cStep cGain cText iN iRow iFor iRoad iFear iCall iUnl iPaid iStep iGain iText tp) (some (.int r)) (xW g h hn hi ad ra sTaped sFault sFaultA sWays sMay sMust cTape cNames cHead cSure cN cRow cTried cFor cRoad cFear cCall cUnl cPaid cStep cGain cText iN iRow iFor iRoad iFear iCall iUnl iPaid iStep iGain iText tp) 0 0 := by
  refine CX.of RX0 rfl plain_X0 (Nat.le_of_ble_eq_true rfl) (fun p e s m below meth c A ls X hF hP hD hS hl => ?_)
  have hx := X.1
  have hb := X.2.1
  have hown := X.2.2.2.2.2.1
  have hts := X.2.2.2.2.2.2.1
  have hl : lv_has ls 2 [(0, .ref h), (1, .int x1)] := hl
  unfold X_isWolf at hf
  refine lv_aload_n hx hb dX0_isWolf_0 rfl (lv_at hl 0 rfl) ?_
  refine lv_iload_n hx hb dX0_isWolf_1 rfl (lv_at hl 1 rfl) ?_
  obtain ⟨r1, k2, hf⟩ := bd1s hf
  refine xVi (rest := []) X hF (met_X_isPerson k2) gw_X0_X0_isPerson dy_X0_isPerson ⟨⟨rfl, rfl⟩, Nat.le_of_ble_eq_true rfl, Nat.le_of_ble_eq_true rfl⟩ hP hD hS hl.1 rcX rfl rfl ⟨Nat.zero_le _, Nat.zero_le _⟩ (Nat.le_of_ble_eq_true rfl) dX0_isWolf_2 (fun H locs hP hD hS => ?_)
  refine bq_eq (tgt := 29) hx hb hf dX0_isWolf_5 (by decide) (fun hf => ?_) (fun hf => ?_)
  · refine lv_iconst (v := 0) hx hb dX0_isWolf_29 (by decide) ?_
    cases hf
    exact rZ X rfl hP hD hS dX0_isWolf_30
  · refine lv_aload_n hx hb dX0_isWolf_8 rfl (lv_at hl 0 rfl) ?_
    refine gX_X0_this_now X hP dX0_isWolf_9 ?_
    refine gX_X0_now_row X hF hP dX0_isWolf_12 ?_
    refine lv_iload_n hx hb dX0_isWolf_15 rfl (lv_at hl 1 rfl) ?_
    refine lv_bipush (v := 6) hx hb dX0_isWolf_16 (by decide) ?_
    obtain ⟨r3, k4, hf⟩ := bd1s hf
    refine xSi (rest := []) X hF (met_X_atR k4) gs_X0_X0_at dy_X0_at ⟨⟨rfl, rfl⟩, Nat.le_of_ble_eq_true rfl, Nat.le_of_ble_eq_true rfl⟩ hP hD hS hl.1 rfl rfl ⟨Nat.zero_le _, Nat.zero_le _⟩ (Nat.le_of_ble_eq_true rfl) dX0_isWolf_18 (fun H locs hP hD hS => ?_)
    refine lv_iconst (v := 1) hx hb dX0_isWolf_21 (by decide) ?_
    refine bc_ne (tgt := 29) hx hb hf dX0_isWolf_22 (by decide) (fun hf => ?_) (fun hf => ?_)
    · refine lv_iconst (v := 0) hx hb dX0_isWolf_29 (by decide) ?_
      cases hf
      exact rZ X rfl hP hD hS dX0_isWolf_30
    · refine lv_iconst (v := 1) hx hb dX0_isWolf_25 (by decide) ?_
      refine lv_goto (tgt := 30) hx hb dX0_isWolf_26 (by decide) ?_
      cases hf
      exact rZ X rfl hP hD hS dX0_isWolf_30
theorem gw_X0_X0_isAlive : GoodIn lw_all (wsV RX0 211 RX0 yX0_isAlive (ws_ yX0_isAlive cX0_isAlive 2 (some .boolean))) := lw_V q1083 q1085 qs36 q145 q1086
theorem dy_X0_isAlive : Dy yX0_isAlive RX0 1 := by decide +kernel
theorem gw_X0_X0_isWolf : GoodIn lw_all (wsV RX0 214 RX0 yX0_isWolf (ws_ yX0_isWolf cX0_isWolf 2 (some .boolean))) := lw_V q1091 q1093 qs38 q145 q1094
theorem dy_X0_isWolf : Dy yX0_isWolf RX0 1 := by decide +kernel
set_option maxHeartbeats 4000000 in
theorem met_X_canCall {l : Launch} {g : gG} {h hn hi : Nat} {ad : Nat → Nat} {ra : Nat → Nat → Nat} {z : Nat → Nat} {sTaped : Int32} {sFault : Int32} {sFaultA : Int32} {sWays : Int32} {sMay : Int32} {sMust : Int32} {cTape : Nat → Int32} {cNames : Nat → Int32} {cHead : Nat → Int32} {cSure : Nat → Nat → Int32} {cN : Nat → Int32} {cRow : Nat → Int32} {cTried : Nat → Int32} {cFor : Nat → Int32} {cRoad : Nat → Int32} {cFear : Nat → Int32} {cCall : Nat → Int32} {cUnl : Nat → Int32} {cPaid : Nat → Nat → Int32} {cStep : Nat → Nat → Int32} {cGain : Nat → Nat → Int32} {cText : Nat → Option Nat} {iN : Nat → Int32} {iRow : Nat → Int32} {iFor : Nat → Int32} {iRoad : Nat → Int32} {iFear : Nat → Int32} {iCall : Nat → Int32} {iUnl : Nat → Int32} {iPaid : Nat → Nat → Int32} {iStep : Nat → Nat → Int32} {iGain : Nat → Nat → Int32} {iText : Nat → Option Nat} {tp : va_W} {x1 : Int32} {x2 : Int32} {r : Int32} (hf : X_canCall cN cRow x1 x2 = some r) : CX l yX0_canCall (ws_ yX0_canCall cX0_canCall 3 (some .boolean)) ({ frames := 3, cells := 0, slots := 0, locals := 64 } : Room) g z [.ref h, .int x1, .int x2] (xW g h hn hi ad ra sTaped sFault sFaultA sWays sMay sMust cTape cNames cHead cSure cN cRow cTried cFor cRoad cFear cCall cUnl cPaid cStep cGain cText iN iRow iFor iRoad iFear iCall iUnl iPaid iStep iGain iText tp) (some (.int r)) (xW g h hn hi ad ra sTaped sFault sFaultA sWays sMay sMust cTape cNames cHead cSure cN cRow cTried cFor cRoad cFear cCall cUnl cPaid cStep cGain cText iN iRow iFor iRoad iFear iCall iUnl iPaid iStep iGain iText tp) 0 0 := by
  refine CX.of RX0 rfl plain_X0 (Nat.le_of_ble_eq_true rfl) (fun p e s m below meth c A ls X hF hP hD hS hl => ?_)
  have hx := X.1
  have hb := X.2.1
  have hown := X.2.2.2.2.2.1
  have hts := X.2.2.2.2.2.2.1
  have hl : lv_has ls 3 [(0, .ref h), (1, .int x1), (2, .int x2)] := hl
  unfold X_canCall at hf
  refine lv_aload_n hx hb dX0_canCall_0 rfl (lv_at hl 0 rfl) ?_
  refine lv_iload_n hx hb dX0_canCall_1 rfl (lv_at hl 1 rfl) ?_
  obtain ⟨r1, k2, hf⟩ := bd1s hf
  refine xVi (rest := []) X hF (met_X_isAlive k2) gw_X0_X0_isAlive dy_X0_isAlive ⟨⟨rfl, rfl⟩, Nat.le_of_ble_eq_true rfl, Nat.le_of_ble_eq_true rfl⟩ hP hD hS hl.1 rcX rfl rfl ⟨Nat.zero_le _, Nat.zero_le _⟩ (Nat.le_of_ble_eq_true rfl) dX0_canCall_2 (fun H locs hP hD hS => ?_)
  refine bq_eq (tgt := 28) hx hb hf dX0_canCall_5 (by decide) (fun hf => ?_) (fun hf => ?_)
  · refine lv_iconst (v := 0) hx hb dX0_canCall_28 (by decide) ?_
    cases hf
    exact rZ X rfl hP hD hS dX0_canCall_29
  · refine lv_aload_n hx hb dX0_canCall_8 rfl (lv_at hl 0 rfl) ?_
    refine lv_iload_n hx hb dX0_canCall_9 rfl (lv_at hl 1 rfl) ?_
    obtain ⟨r3, k4, hf⟩ := bd1s hf
    refine xVi (rest := []) X hF (met_X_isWolf k4) gw_X0_X0_isWolf dy_X0_isWolf ⟨⟨rfl, rfl⟩, Nat.le_of_ble_eq_true rfl, Nat.le_of_ble_eq_true rfl⟩ hP hD hS hl.1 rcX rfl rfl ⟨Nat.zero_le _, Nat.zero_le _⟩ (Nat.le_of_ble_eq_true rfl) dX0_canCall_10 (fun H locs hP hD hS => ?_)
    refine bq_ne (tgt := 28) hx hb hf dX0_canCall_13 (by decide) (fun hf => ?_) (fun hf => ?_)
    · refine lv_iconst (v := 0) hx hb dX0_canCall_28 (by decide) ?_
      cases hf
      exact rZ X rfl hP hD hS dX0_canCall_29
    · refine lv_aload_n hx hb dX0_canCall_16 rfl (lv_at hl 0 rfl) ?_
      refine lv_iload_n hx hb dX0_canCall_17 rfl (lv_at hl 2 rfl) ?_
      obtain ⟨r5, k6, hf⟩ := bd1s hf
      refine xVi (rest := []) X hF (met_X_isLand k6) gw_X0_X0_isLand dy_X0_isLand ⟨⟨rfl, rfl⟩, Nat.le_of_ble_eq_true rfl, Nat.le_of_ble_eq_true rfl⟩ hP hD hS hl.1 rcX rfl rfl ⟨Nat.zero_le _, Nat.zero_le _⟩ (Nat.le_of_ble_eq_true rfl) dX0_canCall_18 (fun H locs hP hD hS => ?_)
      refine bq_eq (tgt := 28) hx hb hf dX0_canCall_21 (by decide) (fun hf => ?_) (fun hf => ?_)
      · refine lv_iconst (v := 0) hx hb dX0_canCall_28 (by decide) ?_
        cases hf
        exact rZ X rfl hP hD hS dX0_canCall_29
      · refine lv_iconst (v := 1) hx hb dX0_canCall_24 (by decide) ?_
        refine lv_goto (tgt := 29) hx hb dX0_canCall_25 (by decide) ?_
        cases hf
        exact rZ X rfl hP hD hS dX0_canCall_29
set_option maxHeartbeats 4000000 in
theorem met_X_calls {l : Launch} {g : gG} {h hn hi : Nat} {ad : Nat → Nat} {ra : Nat → Nat → Nat} {z : Nat → Nat} {sTaped : Int32} {sFault : Int32} {sFaultA : Int32} {sWays : Int32} {sMay : Int32} {sMust : Int32} {cTape : Nat → Int32} {cNames : Nat → Int32} {cHead : Nat → Int32} {cSure : Nat → Nat → Int32} {cN : Nat → Int32} {cRow : Nat → Int32} {cTried : Nat → Int32} {cFor : Nat → Int32} {cRoad : Nat → Int32} {cFear : Nat → Int32} {cCall : Nat → Int32} {cUnl : Nat → Int32} {cPaid : Nat → Nat → Int32} {cStep : Nat → Nat → Int32} {cGain : Nat → Nat → Int32} {cText : Nat → Option Nat} {iN : Nat → Int32} {iRow : Nat → Int32} {iFor : Nat → Int32} {iRoad : Nat → Int32} {iFear : Nat → Int32} {iCall : Nat → Int32} {iUnl : Nat → Int32} {iPaid : Nat → Nat → Int32} {iStep : Nat → Nat → Int32} {iGain : Nat → Nat → Int32} {iText : Nat → Option Nat} {tp : va_W} {x1 : Int32} {x2 : Int32} {r : Int32} {ncRow : Nat → Int32} (hf : X_calls cRow x1 x2 = some (r, ncRow)) : CX l yX0_calls (ws_ yX0_calls cX0_calls 5 (some .int)) ({ frames := 2, cells := 0, slots := 0, locals := 49 } : Room) g z [.ref h, .int x1, .int x2] (xW g h hn hi ad ra sTaped sFault sFaultA sWays sMay sMust cTape cNames cHead cSure cN cRow cTried cFor cRoad cFear cCall cUnl cPaid cStep cGain cText iN iRow iFor iRoad iFear iCall iUnl iPaid iStep iGain iText tp) (some (.int r)) (xW g h hn hi ad ra sTaped sFault sFaultA sWays sMay sMust cTape cNames cHead cSure cN ncRow cTried cFor cRoad cFear cCall cUnl cPaid cStep cGain cText iN iRow iFor iRoad iFear iCall iUnl iPaid iStep iGain iText tp) 0 0 := by
  refine CX.of RX0 rfl plain_X0 (Nat.le_of_ble_eq_true rfl) (fun p e s m below meth c A ls X hF hP hD hS hl => ?_)
  have hx := X.1
  have hb := X.2.1
  have hown := X.2.2.2.2.2.1
  have hts := X.2.2.2.2.2.2.1
  have hl : lv_has ls 5 [(0, .ref h), (1, .int x1), (2, .int x2)] := hl
  unfold X_calls at hf
  refine lv_aload_n hx hb dX0_calls_0 rfl (lv_at hl 0 rfl) ?_
  refine gX_X0_this_now X hP dX0_calls_1 ?_
  refine gX_X0_now_row X hF hP dX0_calls_4 ?_
  refine lv_astore_n (lv' := [(3, .ref (ad 6)), (0, .ref h), (1, .int x1), (2, .int x2)]) hx hb dX0_calls_7 rfl hl (by decide) rfl (fun ls hl => ?_)
  refine lv_aload_n hx hb dX0_calls_8 rfl (lv_at hl 0 rfl) ?_
  refine lv_iload_n hx hb dX0_calls_9 rfl (lv_at hl 2 rfl) ?_
  refine lv_iconst (v := 0) hx hb dX0_calls_10 (by decide) ?_
  obtain ⟨r1, k2, hf⟩ := bd1s hf
  refine xSi (rest := []) X hF (met_X_atR k2) gs_X0_X0_at dy_X0_at ⟨⟨rfl, rfl⟩, Nat.le_of_ble_eq_true rfl, Nat.le_of_ble_eq_true rfl⟩ hP hD hS hl.1 rfl rfl ⟨Nat.zero_le _, Nat.zero_le _⟩ (Nat.le_of_ble_eq_true rfl) dX0_calls_11 (fun H locs hP hD hS => ?_)
  refine lv_iload_n hx hb dX0_calls_14 rfl (lv_at hl 3 rfl) ?_
  obtain ⟨v3, k4, hf⟩ := bd1s hf
  have hj5 : ∀ (H : Heap) (locs : List Loc) (ls : Array Slot), va_P g.1 vwCl (xW g h hn hi ad ra sTaped sFault sFaultA sWays sMay sMust cTape cNames cHead cSure cN cRow cTried cFor cRoad cFear cCall cUnl cPaid cStep cGain cText iN iRow iFor iRoad iFear iCall iUnl iPaid iStep iGain iText tp) H → va_D A (xW g h hn hi ad ra sTaped sFault sFaultA sWays sMay sMust cTape cNames cHead cSure cN cRow cTried cFor cRoad cFear cCall cUnl cPaid cStep cGain cText iN iRow iFor iRoad iFear iCall iUnl iPaid iStep iGain iText tp) → va_S A s.heap H locs → lv_has ls 5 [(1, .int x1), (3, .ref (ad 6))] → W p l e ({ frames := 2, cells := 0, slots := 0, locals := 49 } : Room) s m ([.ref h, .int x1, .int x2] : List Value).toArray below meth c H locs 0 0 (MQ below (QQ g (some (.int r)) (xW g h hn hi ad ra sTaped sFault sFaultA sWays sMay sMust cTape cNames cHead cSure cN ncRow cTried cFor cRoad cFear cCall cUnl cPaid cStep cGain cText iN iRow iFor iRoad iFear iCall iUnl iPaid iStep iGain iText tp) A) ([.ref h, .int x1, .int x2] : List Value).toArray s 0 0 A) (F0 m 30 ls [.int v3]) := by
    intro H locs ls hP hD hS hl
    refine lv_istore (lv' := [(4, .int v3), (1, .int x1), (3, .ref (ad 6))]) hx hb dX0_calls_30 hl (by decide) rfl (fun ls hl => ?_)
    refine lv_aload_n hx hb dX0_calls_32 rfl (lv_at hl 2 rfl) ?_
    refine lv_iload_n hx hb dX0_calls_33 rfl (lv_at hl 1 rfl) ?_
    refine lv_iconst (v := 3) hx hb dX0_calls_34 (by decide) ?_
    refine lv_iload hx hb dX0_calls_35 (lv_at hl 0 rfl) ?_
    refine lv_iconst (v := 5) hx hb dX0_calls_37 (by decide) ?_
    refine lv_irem hx hb dX0_calls_38 (by decide) ?_
    obtain ⟨c6, k7, hf⟩ := bd1s hf
    refine xSv (rest := []) X hF (met_X_setsR k7) gs_X0_X0_sets dy_X0_sets ⟨⟨rfl, rfl⟩, Nat.le_of_ble_eq_true rfl, Nat.le_of_ble_eq_true rfl⟩ hP hD hS hl.1 rfl rfl ⟨Nat.zero_le _, Nat.zero_le _⟩ (Nat.le_of_ble_eq_true rfl) dX0_calls_39 (fun H locs hP hD hS => ?_)
    refine lv_iload hx hb dX0_calls_42 (lv_at hl 0 rfl) ?_
    obtain ⟨c8, k9, hf⟩ := bd1s hf
    have hj10 : ∀ (H : Heap) (locs : List Loc) (ls : Array Slot), va_P g.1 vwCl (xW g h hn hi ad ra sTaped sFault sFaultA sWays sMay sMust cTape cNames cHead cSure cN c8 cTried cFor cRoad cFear cCall cUnl cPaid cStep cGain cText iN iRow iFor iRoad iFear iCall iUnl iPaid iStep iGain iText tp) H → va_D A (xW g h hn hi ad ra sTaped sFault sFaultA sWays sMay sMust cTape cNames cHead cSure cN c8 cTried cFor cRoad cFear cCall cUnl cPaid cStep cGain cText iN iRow iFor iRoad iFear iCall iUnl iPaid iStep iGain iText tp) → va_S A s.heap H locs → lv_has ls 5 [(1, .int x1), (3, .ref (ad 6)), (4, .int v3)] → W p l e ({ frames := 2, cells := 0, slots := 0, locals := 49 } : Room) s m ([.ref h, .int x1, .int x2] : List Value).toArray below meth c H locs 0 0 (MQ below (QQ g (some (.int r)) (xW g h hn hi ad ra sTaped sFault sFaultA sWays sMay sMust cTape cNames cHead cSure cN ncRow cTried cFor cRoad cFear cCall cUnl cPaid cStep cGain cText iN iRow iFor iRoad iFear iCall iUnl iPaid iStep iGain iText tp) A) ([.ref h, .int x1, .int x2] : List Value).toArray s 0 0 A) (F0 m 53 ls []) := by
      intro H locs ls hP hD hS hl
      refine lv_iload hx hb dX0_calls_53 (lv_at hl 2 rfl) ?_
      refine lv_iconst (v := 5) hx hb dX0_calls_55 (by decide) ?_
      refine bc_ge (tgt := 62) hx hb hf dX0_calls_56 (by decide) (fun hf => ?_) (fun hf => ?_)
      · refine lv_aload_n hx hb dX0_calls_62 rfl (lv_at hl 1 rfl) ?_
        refine lv_iload_n hx hb dX0_calls_63 rfl (lv_at hl 0 rfl) ?_
        refine lv_bipush (v := 6) hx hb dX0_calls_64 (by decide) ?_
        refine lv_iconst (v := 1) hx hb dX0_calls_66 (by decide) ?_
        obtain ⟨c11, k12, hf⟩ := bd1s hf
        refine xSv (rest := []) X hF (met_X_setsR k12) gs_X0_X0_sets dy_X0_sets ⟨⟨rfl, rfl⟩, Nat.le_of_ble_eq_true rfl, Nat.le_of_ble_eq_true rfl⟩ hP hD hS hl.1 rfl rfl ⟨Nat.zero_le _, Nat.zero_le _⟩ (Nat.le_of_ble_eq_true rfl) dX0_calls_67 (fun H locs hP hD hS => ?_)
        refine lv_aload_n hx hb dX0_calls_70 rfl (lv_at hl 1 rfl) ?_
        refine lv_iload_n hx hb dX0_calls_71 rfl (lv_at hl 0 rfl) ?_
        refine lv_iconst (v := 5) hx hb dX0_calls_72 (by decide) ?_
        refine lv_iconst (v := 0) hx hb dX0_calls_73 (by decide) ?_
        obtain ⟨c13, k14, hf⟩ := bd1s hf
        refine xSv (rest := []) X hF (met_X_setsR k14) gs_X0_X0_sets dy_X0_sets ⟨⟨rfl, rfl⟩, Nat.le_of_ble_eq_true rfl, Nat.le_of_ble_eq_true rfl⟩ hP hD hS hl.1 rfl rfl ⟨Nat.zero_le _, Nat.zero_le _⟩ (Nat.le_of_ble_eq_true rfl) dX0_calls_74 (fun H locs hP hD hS => ?_)
        refine lv_aload_n hx hb dX0_calls_77 rfl (lv_at hl 1 rfl) ?_
        refine lv_iload_n hx hb dX0_calls_78 rfl (lv_at hl 0 rfl) ?_
        refine lv_iconst (v := 4) hx hb dX0_calls_79 (by decide) ?_
        refine lv_iconst (v := 0) hx hb dX0_calls_80 (by decide) ?_
        obtain ⟨c15, k16, hf⟩ := bd1s hf
        refine xSv (rest := []) X hF (met_X_setsR k16) gs_X0_X0_sets dy_X0_sets ⟨⟨rfl, rfl⟩, Nat.le_of_ble_eq_true rfl, Nat.le_of_ble_eq_true rfl⟩ hP hD hS hl.1 rfl rfl ⟨Nat.zero_le _, Nat.zero_le _⟩ (Nat.le_of_ble_eq_true rfl) dX0_calls_81 (fun H locs hP hD hS => ?_)
        refine lv_aload_n hx hb dX0_calls_84 rfl (lv_at hl 1 rfl) ?_
        refine lv_iload_n hx hb dX0_calls_85 rfl (lv_at hl 0 rfl) ?_
        refine lv_iconst (v := 1) hx hb dX0_calls_86 (by decide) ?_
        refine lv_iconst (v := 0) hx hb dX0_calls_87 (by decide) ?_
        obtain ⟨c17, k18, hf⟩ := bd1s hf
        refine xSv (rest := []) X hF (met_X_setsR k18) gs_X0_X0_sets dy_X0_sets ⟨⟨rfl, rfl⟩, Nat.le_of_ble_eq_true rfl, Nat.le_of_ble_eq_true rfl⟩ hP hD hS hl.1 rfl rfl ⟨Nat.zero_le _, Nat.zero_le _⟩ (Nat.le_of_ble_eq_true rfl) dX0_calls_88 (fun H locs hP hD hS => ?_)
        refine lv_aload_n hx hb dX0_calls_91 rfl (lv_at hl 1 rfl) ?_
        refine lv_iload_n hx hb dX0_calls_92 rfl (lv_at hl 0 rfl) ?_
        refine lv_iconst (v := 2) hx hb dX0_calls_93 (by decide) ?_
        refine lv_iconst (v := 0) hx hb dX0_calls_94 (by decide) ?_
        obtain ⟨c19, k20, hf⟩ := bd1s hf
        refine xSv (rest := []) X hF (met_X_setsR k20) gs_X0_X0_sets dy_X0_sets ⟨⟨rfl, rfl⟩, Nat.le_of_ble_eq_true rfl, Nat.le_of_ble_eq_true rfl⟩ hP hD hS hl.1 rfl rfl ⟨Nat.zero_le _, Nat.zero_le _⟩ (Nat.le_of_ble_eq_true rfl) dX0_calls_95 (fun H locs hP hD hS => ?_)
        refine lv_aload_n hx hb dX0_calls_98 rfl (lv_at hl 1 rfl) ?_
        refine lv_iload_n hx hb dX0_calls_99 rfl (lv_at hl 0 rfl) ?_
        refine lv_iconst (v := 1) hx hb dX0_calls_100 (by decide) ?_
        obtain ⟨c21, k22, hf⟩ := bd1s hf
        refine xSv (rest := []) X hF (met_X_writesR k22) gs_X0_X0_writes dy_X0_writes ⟨⟨rfl, rfl⟩, Nat.le_of_ble_eq_true rfl, Nat.le_of_ble_eq_true rfl⟩ hP hD hS hl.1 rfl rfl ⟨Nat.zero_le _, Nat.zero_le _⟩ (Nat.le_of_ble_eq_true rfl) dX0_calls_101 (fun H locs hP hD hS => ?_)
        refine lv_iconst (v := 0) hx hb dX0_calls_104 (by decide) ?_
        cases hf
        exact rI X hP hD hS dX0_calls_105
      · refine lv_iload hx hb dX0_calls_59 (lv_at hl 2 rfl) ?_
        cases hf
        exact rI X hP hD hS dX0_calls_61
    replace hf := k9
    clear k9
    refine bq_ne (tgt := 53) hx hb hf dX0_calls_44 (by decide) (fun hf => ?_) (fun hf => ?_)
    · cases hf
      exact hj10 _ _ _ hP hD hS (lv_sub hl [1, 2, 0] rfl)
    · refine lv_aload_n hx hb dX0_calls_47 rfl (lv_at hl 2 rfl) ?_
      refine lv_iload_n hx hb dX0_calls_48 rfl (lv_at hl 1 rfl) ?_
      refine lv_iconst (v := 0) hx hb dX0_calls_49 (by decide) ?_
      obtain ⟨c23, k24, hf⟩ := bd1s hf
      refine xSv (rest := []) X hF (met_X_writesR k24) gs_X0_X0_writes dy_X0_writes ⟨⟨rfl, rfl⟩, Nat.le_of_ble_eq_true rfl, Nat.le_of_ble_eq_true rfl⟩ hP hD hS hl.1 rfl rfl ⟨Nat.zero_le _, Nat.zero_le _⟩ (Nat.le_of_ble_eq_true rfl) dX0_calls_50 (fun H locs hP hD hS => ?_)
      cases hf
      exact hj10 _ _ _ hP hD hS (lv_sub hl [1, 2, 0] rfl)
  replace hf := k4
  clear k4
  refine bc_ne (tgt := 22) hx hb hf dX0_calls_15 (by decide) (fun hf => ?_) (fun hf => ?_)
  · refine lv_aload_n hx hb dX0_calls_22 rfl (lv_at hl 0 rfl) ?_
    refine lv_iload_n hx hb dX0_calls_23 rfl (lv_at hl 2 rfl) ?_
    refine lv_iconst (v := 3) hx hb dX0_calls_24 (by decide) ?_
    obtain ⟨r25, k26, hf⟩ := bd1s hf
    refine xSi (rest := []) X hF (met_X_atR k26) gs_X0_X0_at dy_X0_at ⟨⟨rfl, rfl⟩, Nat.le_of_ble_eq_true rfl, Nat.le_of_ble_eq_true rfl⟩ hP hD hS hl.1 rfl rfl ⟨Nat.zero_le _, Nat.zero_le _⟩ (Nat.le_of_ble_eq_true rfl) dX0_calls_25 (fun H locs hP hD hS => ?_)
    refine lv_iconst (v := 1) hx hb dX0_calls_28 (by decide) ?_
    refine lv_iadd hx hb dX0_calls_29 ?_
    cases hf
    exact hj5 _ _ _ hP hD hS (lv_sub hl [2, 0] rfl)
  · refine lv_iconst (v := 0) hx hb dX0_calls_18 (by decide) ?_
    refine lv_goto (tgt := 30) hx hb dX0_calls_19 (by decide) ?_
    cases hf
    exact hj5 _ _ _ hP hD hS (lv_sub hl [2, 0] rfl)
theorem gw_X0_X0_canCall : GoodIn lw_all (wsV RX0 217 RX0 yX0_canCall (ws_ yX0_canCall cX0_canCall 3 (some .boolean))) := lw_V q1079 q1081 qs35 q145 q1082
theorem dy_X0_canCall : Dy yX0_canCall RX0 2 := by decide +kernel
theorem gw_X0_X0_calls : GoodIn lw_all (wsV RX0 220 RX0 yX0_calls (ws_ yX0_calls cX0_calls 5 (some .int))) := lw_V q1095 q1097 qs39 q145 q1098
theorem dy_X0_calls : Dy yX0_calls RX0 2 := by decide +kernel
set_option maxHeartbeats 4000000 in
theorem met_X_call {l : Launch} {g : gG} {h hn hi : Nat} {ad : Nat → Nat} {ra : Nat → Nat → Nat} {z : Nat → Nat} {sTaped : Int32} {sFault : Int32} {sFaultA : Int32} {sWays : Int32} {sMay : Int32} {sMust : Int32} {cTape : Nat → Int32} {cNames : Nat → Int32} {cHead : Nat → Int32} {cSure : Nat → Nat → Int32} {cN : Nat → Int32} {cRow : Nat → Int32} {cTried : Nat → Int32} {cFor : Nat → Int32} {cRoad : Nat → Int32} {cFear : Nat → Int32} {cCall : Nat → Int32} {cUnl : Nat → Int32} {cPaid : Nat → Nat → Int32} {cStep : Nat → Nat → Int32} {cGain : Nat → Nat → Int32} {cText : Nat → Option Nat} {iN : Nat → Int32} {iRow : Nat → Int32} {iFor : Nat → Int32} {iRoad : Nat → Int32} {iFear : Nat → Int32} {iCall : Nat → Int32} {iUnl : Nat → Int32} {iPaid : Nat → Nat → Int32} {iStep : Nat → Nat → Int32} {iGain : Nat → Nat → Int32} {iText : Nat → Option Nat} {tp : va_W} {x1 : Int32} {x2 : Int32} {r : Int32} {ncN : Nat → Int32} {ncRow : Nat → Int32} {ncStep : Nat → Nat → Int32} {φ : Nat} (hf : X_call φ cN cRow cStep x1 x2 = some (r, ncN, ncRow, ncStep)) : CX l yX0_call (ws_ yX0_call cX0_call 3 (some .int)) ({ frames := 4, cells := 0, slots := 0, locals := 86 } : Room) g z [.ref h, .int x1, .int x2] (xW g h hn hi ad ra sTaped sFault sFaultA sWays sMay sMust cTape cNames cHead cSure cN cRow cTried cFor cRoad cFear cCall cUnl cPaid cStep cGain cText iN iRow iFor iRoad iFear iCall iUnl iPaid iStep iGain iText tp) (some (.int r)) (xW g h hn hi ad ra sTaped sFault sFaultA sWays sMay sMust cTape cNames cHead cSure ncN ncRow cTried cFor cRoad cFear cCall cUnl cPaid ncStep cGain cText iN iRow iFor iRoad iFear iCall iUnl iPaid iStep iGain iText tp) 0 0 := by
  refine CX.of RX0 rfl plain_X0 (Nat.le_of_ble_eq_true rfl) (fun p e s m below meth c A ls X hF hP hD hS hl => ?_)
  have hx := X.1
  have hb := X.2.1
  have hown := X.2.2.2.2.2.1
  have hts := X.2.2.2.2.2.2.1
  have hl : lv_has ls 3 [(0, .ref h), (1, .int x1), (2, .int x2)] := hl
  unfold X_call at hf
  refine lv_aload_n hx hb dX0_call_0 rfl (lv_at hl 0 rfl) ?_
  refine lv_iload_n hx hb dX0_call_1 rfl (lv_at hl 1 rfl) ?_
  refine lv_iload_n hx hb dX0_call_2 rfl (lv_at hl 2 rfl) ?_
  obtain ⟨r1, k2, hf⟩ := bd1s hf
  refine xVi (rest := []) X hF (met_X_canCall k2) gw_X0_X0_canCall dy_X0_canCall ⟨⟨rfl, rfl⟩, Nat.le_of_ble_eq_true rfl, Nat.le_of_ble_eq_true rfl⟩ hP hD hS hl.1 rcX rfl rfl ⟨Nat.zero_le _, Nat.zero_le _⟩ (Nat.le_of_ble_eq_true rfl) dX0_call_3 (fun H locs hP hD hS => ?_)
  refine bq_ne (tgt := 11) hx hb hf dX0_call_6 (by decide) (fun hf => ?_) (fun hf => ?_)
  · refine lv_aload_n hx hb dX0_call_11 rfl (lv_at hl 0 rfl) ?_
    refine gX_X0_this_now X hP dX0_call_12 ?_
    obtain ⟨c3, c4, k5, hf⟩ := bd2s hf
    refine xVv (rest := []) X hF (met_S_keeps k5) gw_X0_X1_keeps dy_X1_keeps ⟨⟨rfl, rfl⟩, Nat.le_of_ble_eq_true rfl, Nat.le_of_ble_eq_true rfl⟩ hP hD hS hl.1 rcN rfl rfl ⟨Nat.zero_le _, Nat.zero_le _⟩ (Nat.le_of_ble_eq_true rfl) dX0_call_15 (fun H locs hP hD hS => ?_)
    refine lv_aload_n hx hb dX0_call_18 rfl (lv_at hl 0 rfl) ?_
    refine lv_iload_n hx hb dX0_call_19 rfl (lv_at hl 1 rfl) ?_
    refine lv_iload_n hx hb dX0_call_20 rfl (lv_at hl 2 rfl) ?_
    obtain ⟨r6, c7, k8, hf⟩ := bd2s hf
    refine xVi (rest := []) X hF (met_X_calls k8) gw_X0_X0_calls dy_X0_calls ⟨⟨rfl, rfl⟩, Nat.le_of_ble_eq_true rfl, Nat.le_of_ble_eq_true rfl⟩ hP hD hS hl.1 rcX rfl rfl ⟨Nat.zero_le _, Nat.zero_le _⟩ (Nat.le_of_ble_eq_true rfl) dX0_call_21 (fun H locs hP hD hS => ?_)
    cases hf
    exact rI X hP hD hS dX0_call_24
  · refine lv_iconst (v := (-1)) hx hb dX0_call_9 (by decide) ?_
    cases hf
    exact rI X hP hD hS dX0_call_10
set_option maxHeartbeats 4000000 in
theorem met_X_canMove {l : Launch} {g : gG} {h hn hi : Nat} {ad : Nat → Nat} {ra : Nat → Nat → Nat} {z : Nat → Nat} {sTaped : Int32} {sFault : Int32} {sFaultA : Int32} {sWays : Int32} {sMay : Int32} {sMust : Int32} {cTape : Nat → Int32} {cNames : Nat → Int32} {cHead : Nat → Int32} {cSure : Nat → Nat → Int32} {cN : Nat → Int32} {cRow : Nat → Int32} {cTried : Nat → Int32} {cFor : Nat → Int32} {cRoad : Nat → Int32} {cFear : Nat → Int32} {cCall : Nat → Int32} {cUnl : Nat → Int32} {cPaid : Nat → Nat → Int32} {cStep : Nat → Nat → Int32} {cGain : Nat → Nat → Int32} {cText : Nat → Option Nat} {iN : Nat → Int32} {iRow : Nat → Int32} {iFor : Nat → Int32} {iRoad : Nat → Int32} {iFear : Nat → Int32} {iCall : Nat → Int32} {iUnl : Nat → Int32} {iPaid : Nat → Nat → Int32} {iStep : Nat → Nat → Int32} {iGain : Nat → Nat → Int32} {iText : Nat → Option Nat} {tp : va_W} {x1 : Int32} {x2 : Int32} {r : Int32} (hf : X_canMove cN cRow cRoad x1 x2 = some r) : CX l yX0_canMove (ws_ yX0_canMove cX0_canMove 3 (some .boolean)) ({ frames := 3, cells := 0, slots := 0, locals := 64 } : Room) g z [.ref h, .int x1, .int x2] (xW g h hn hi ad ra sTaped sFault sFaultA sWays sMay sMust cTape cNames cHead cSure cN cRow cTried cFor cRoad cFear cCall cUnl cPaid cStep cGain cText iN iRow iFor iRoad iFear iCall iUnl iPaid iStep iGain iText tp) (some (.int r)) (xW g h hn hi ad ra sTaped sFault sFaultA sWays sMay sMust cTape cNames cHead cSure cN cRow cTried cFor cRoad cFear cCall cUnl cPaid cStep cGain cText iN iRow iFor iRoad iFear iCall iUnl iPaid iStep iGain iText tp) 0 0 := by
  refine CX.of RX0 rfl plain_X0 (Nat.le_of_ble_eq_true rfl) (fun p e s m below meth c A ls X hF hP hD hS hl => ?_)
  have hx := X.1
  have hb := X.2.1
  have hown := X.2.2.2.2.2.1
  have hts := X.2.2.2.2.2.2.1
  have hl : lv_has ls 3 [(0, .ref h), (1, .int x1), (2, .int x2)] := hl
  unfold X_canMove at hf
  refine lv_aload_n hx hb dX0_canMove_0 rfl (lv_at hl 0 rfl) ?_
  refine lv_iload_n hx hb dX0_canMove_1 rfl (lv_at hl 1 rfl) ?_
  obtain ⟨r1, k2, hf⟩ := bd1s hf
  refine xVi (rest := []) X hF (met_X_isAlive k2) gw_X0_X0_isAlive dy_X0_isAlive ⟨⟨rfl, rfl⟩, Nat.le_of_ble_eq_true rfl, Nat.le_of_ble_eq_true rfl⟩ hP hD hS hl.1 rcX rfl rfl ⟨Nat.zero_le _, Nat.zero_le _⟩ (Nat.le_of_ble_eq_true rfl) dX0_canMove_2 (fun H locs hP hD hS => ?_)
  refine bq_eq (tgt := 40) hx hb hf dX0_canMove_5 (by decide) (fun hf => ?_) (fun hf => ?_)
  · refine lv_iconst (v := 0) hx hb dX0_canMove_40 (by decide) ?_
    cases hf
    exact rZ X rfl hP hD hS dX0_canMove_41
  · refine lv_aload_n hx hb dX0_canMove_8 rfl (lv_at hl 0 rfl) ?_
    refine lv_iload_n hx hb dX0_canMove_9 rfl (lv_at hl 2 rfl) ?_
    obtain ⟨r3, k4, hf⟩ := bd1s hf
    refine xVi (rest := []) X hF (met_X_isLand k4) gw_X0_X0_isLand dy_X0_isLand ⟨⟨rfl, rfl⟩, Nat.le_of_ble_eq_true rfl, Nat.le_of_ble_eq_true rfl⟩ hP hD hS hl.1 rcX rfl rfl ⟨Nat.zero_le _, Nat.zero_le _⟩ (Nat.le_of_ble_eq_true rfl) dX0_canMove_10 (fun H locs hP hD hS => ?_)
    refine bq_eq (tgt := 40) hx hb hf dX0_canMove_13 (by decide) (fun hf => ?_) (fun hf => ?_)
    · refine lv_iconst (v := 0) hx hb dX0_canMove_40 (by decide) ?_
      cases hf
      exact rZ X rfl hP hD hS dX0_canMove_41
    · refine lv_aload_n hx hb dX0_canMove_16 rfl (lv_at hl 0 rfl) ?_
      refine lv_aload_n hx hb dX0_canMove_17 rfl (lv_at hl 0 rfl) ?_
      refine gX_X0_this_now X hP dX0_canMove_18 ?_
      refine gX_X0_now_row X hF hP dX0_canMove_21 ?_
      refine lv_iload_n hx hb dX0_canMove_24 rfl (lv_at hl 1 rfl) ?_
      refine lv_iconst (v := 0) hx hb dX0_canMove_25 (by decide) ?_
      obtain ⟨r5, k6, hf⟩ := bd1s hf
      refine xSi (rest := [.ref h]) X hF (met_X_atR k6) gs_X0_X0_at dy_X0_at ⟨⟨rfl, rfl⟩, Nat.le_of_ble_eq_true rfl, Nat.le_of_ble_eq_true rfl⟩ hP hD hS hl.1 rfl rfl ⟨Nat.zero_le _, Nat.zero_le _⟩ (Nat.le_of_ble_eq_true rfl) dX0_canMove_26 (fun H locs hP hD hS => ?_)
      refine lv_iload_n hx hb dX0_canMove_29 rfl (lv_at hl 2 rfl) ?_
      obtain ⟨r7, k8, hf⟩ := bd1s hf
      refine xVi (rest := []) X hF (met_X_isRoad k8) gw_X0_X0_isRoad dy_X0_isRoad ⟨⟨rfl, rfl⟩, Nat.le_of_ble_eq_true rfl, Nat.le_of_ble_eq_true rfl⟩ hP hD hS hl.1 rcX rfl rfl ⟨Nat.zero_le _, Nat.zero_le _⟩ (Nat.le_of_ble_eq_true rfl) dX0_canMove_30 (fun H locs hP hD hS => ?_)
      refine bq_eq (tgt := 40) hx hb hf dX0_canMove_33 (by decide) (fun hf => ?_) (fun hf => ?_)
      · refine lv_iconst (v := 0) hx hb dX0_canMove_40 (by decide) ?_
        cases hf
        exact rZ X rfl hP hD hS dX0_canMove_41
      · refine lv_iconst (v := 1) hx hb dX0_canMove_36 (by decide) ?_
        refine lv_goto (tgt := 41) hx hb dX0_canMove_37 (by decide) ?_
        cases hf
        exact rZ X rfl hP hD hS dX0_canMove_41
theorem gw_X0_X0_canMove : GoodIn lw_all (wsV RX0 223 RX0 yX0_canMove (ws_ yX0_canMove cX0_canMove 3 (some .boolean))) := lw_V q1103 q1105 qs40 q145 q1106
theorem dy_X0_canMove : Dy yX0_canMove RX0 2 := by decide +kernel
set_option maxHeartbeats 4000000 in
theorem met_X_move {l : Launch} {g : gG} {h hn hi : Nat} {ad : Nat → Nat} {ra : Nat → Nat → Nat} {z : Nat → Nat} {sTaped : Int32} {sFault : Int32} {sFaultA : Int32} {sWays : Int32} {sMay : Int32} {sMust : Int32} {cTape : Nat → Int32} {cNames : Nat → Int32} {cHead : Nat → Int32} {cSure : Nat → Nat → Int32} {cN : Nat → Int32} {cRow : Nat → Int32} {cTried : Nat → Int32} {cFor : Nat → Int32} {cRoad : Nat → Int32} {cFear : Nat → Int32} {cCall : Nat → Int32} {cUnl : Nat → Int32} {cPaid : Nat → Nat → Int32} {cStep : Nat → Nat → Int32} {cGain : Nat → Nat → Int32} {cText : Nat → Option Nat} {iN : Nat → Int32} {iRow : Nat → Int32} {iFor : Nat → Int32} {iRoad : Nat → Int32} {iFear : Nat → Int32} {iCall : Nat → Int32} {iUnl : Nat → Int32} {iPaid : Nat → Nat → Int32} {iStep : Nat → Nat → Int32} {iGain : Nat → Nat → Int32} {iText : Nat → Option Nat} {tp : va_W} {x1 : Int32} {x2 : Int32} {r : Int32} {ncN : Nat → Int32} {ncRow : Nat → Int32} {ncStep : Nat → Nat → Int32} {φ : Nat} (hf : X_move φ cN cRow cRoad cStep x1 x2 = some (r, ncN, ncRow, ncStep)) : CX l yX0_move (ws_ yX0_move cX0_move 3 (some .boolean)) ({ frames := 4, cells := 0, slots := 0, locals := 86 } : Room) g z [.ref h, .int x1, .int x2] (xW g h hn hi ad ra sTaped sFault sFaultA sWays sMay sMust cTape cNames cHead cSure cN cRow cTried cFor cRoad cFear cCall cUnl cPaid cStep cGain cText iN iRow iFor iRoad iFear iCall iUnl iPaid iStep iGain iText tp) (some (.int r)) (xW g h hn hi ad ra sTaped sFault sFaultA sWays sMay sMust cTape cNames cHead cSure ncN ncRow cTried cFor cRoad cFear cCall cUnl cPaid ncStep cGain cText iN iRow iFor iRoad iFear iCall iUnl iPaid iStep iGain iText tp) 0 0 := by
  refine CX.of RX0 rfl plain_X0 (Nat.le_of_ble_eq_true rfl) (fun p e s m below meth c A ls X hF hP hD hS hl => ?_)
  have hx := X.1
  have hb := X.2.1
  have hown := X.2.2.2.2.2.1
  have hts := X.2.2.2.2.2.2.1
  have hl : lv_has ls 3 [(0, .ref h), (1, .int x1), (2, .int x2)] := hl
  unfold X_move at hf
  refine lv_aload_n hx hb dX0_move_0 rfl (lv_at hl 0 rfl) ?_
  refine lv_iload_n hx hb dX0_move_1 rfl (lv_at hl 1 rfl) ?_
  refine lv_iload_n hx hb dX0_move_2 rfl (lv_at hl 2 rfl) ?_
  obtain ⟨r1, k2, hf⟩ := bd1s hf
  refine xVi (rest := []) X hF (met_X_canMove k2) gw_X0_X0_canMove dy_X0_canMove ⟨⟨rfl, rfl⟩, Nat.le_of_ble_eq_true rfl, Nat.le_of_ble_eq_true rfl⟩ hP hD hS hl.1 rcX rfl rfl ⟨Nat.zero_le _, Nat.zero_le _⟩ (Nat.le_of_ble_eq_true rfl) dX0_move_3 (fun H locs hP hD hS => ?_)
  refine bq_ne (tgt := 11) hx hb hf dX0_move_6 (by decide) (fun hf => ?_) (fun hf => ?_)
  · refine lv_aload_n hx hb dX0_move_11 rfl (lv_at hl 0 rfl) ?_
    refine gX_X0_this_now X hP dX0_move_12 ?_
    obtain ⟨c3, c4, k5, hf⟩ := bd2s hf
    refine xVv (rest := []) X hF (met_S_keeps k5) gw_X0_X1_keeps dy_X1_keeps ⟨⟨rfl, rfl⟩, Nat.le_of_ble_eq_true rfl, Nat.le_of_ble_eq_true rfl⟩ hP hD hS hl.1 rcN rfl rfl ⟨Nat.zero_le _, Nat.zero_le _⟩ (Nat.le_of_ble_eq_true rfl) dX0_move_15 (fun H locs hP hD hS => ?_)
    refine lv_aload_n hx hb dX0_move_18 rfl (lv_at hl 0 rfl) ?_
    refine gX_X0_this_now X hP dX0_move_19 ?_
    refine gX_X0_now_row X hF hP dX0_move_22 ?_
    refine lv_iload_n hx hb dX0_move_25 rfl (lv_at hl 1 rfl) ?_
    refine lv_iconst (v := 0) hx hb dX0_move_26 (by decide) ?_
    refine lv_iload_n hx hb dX0_move_27 rfl (lv_at hl 2 rfl) ?_
    obtain ⟨c6, k7, hf⟩ := bd1s hf
    refine xSv (rest := []) X hF (met_X_setsR k7) gs_X0_X0_sets dy_X0_sets ⟨⟨rfl, rfl⟩, Nat.le_of_ble_eq_true rfl, Nat.le_of_ble_eq_true rfl⟩ hP hD hS hl.1 rfl rfl ⟨Nat.zero_le _, Nat.zero_le _⟩ (Nat.le_of_ble_eq_true rfl) dX0_move_28 (fun H locs hP hD hS => ?_)
    refine lv_iconst (v := 1) hx hb dX0_move_31 (by decide) ?_
    cases hf
    exact rZ X rfl hP hD hS dX0_move_32
  · refine lv_iconst (v := 0) hx hb dX0_move_9 (by decide) ?_
    cases hf
    exact rZ X rfl hP hD hS dX0_move_10
set_option maxHeartbeats 4000000 in
theorem met_X_doMeet {l : Launch} {g : gG} {h hn hi : Nat} {ad : Nat → Nat} {ra : Nat → Nat → Nat} {z : Nat → Nat} {sTaped : Int32} {sFault : Int32} {sFaultA : Int32} {sWays : Int32} {sMay : Int32} {sMust : Int32} {cTape : Nat → Int32} {cNames : Nat → Int32} {cHead : Nat → Int32} {cSure : Nat → Nat → Int32} {cN : Nat → Int32} {cRow : Nat → Int32} {cTried : Nat → Int32} {cFor : Nat → Int32} {cRoad : Nat → Int32} {cFear : Nat → Int32} {cCall : Nat → Int32} {cUnl : Nat → Int32} {cPaid : Nat → Nat → Int32} {cStep : Nat → Nat → Int32} {cGain : Nat → Nat → Int32} {cText : Nat → Option Nat} {iN : Nat → Int32} {iRow : Nat → Int32} {iFor : Nat → Int32} {iRoad : Nat → Int32} {iFear : Nat → Int32} {iCall : Nat → Int32} {iUnl : Nat → Int32} {iPaid : Nat → Nat → Int32} {iStep : Nat → Nat → Int32} {iGain : Nat → Nat → Int32} {iText : Nat → Option Nat} {tp : va_W} {x1 : Int32} {x2 : Int32} {r : Int32} (hf : X_doMeet cN cRow x1 x2 = some r) : CX l yX0_doMeet (ws_ yX0_doMeet cX0_doMeet 3 (some .boolean)) ({ frames := 3, cells := 0, slots := 0, locals := 64 } : Room) g z [.ref h, .int x1, .int x2] (xW g h hn hi ad ra sTaped sFault sFaultA sWays sMay sMust cTape cNames cHead cSure cN cRow cTried cFor cRoad cFear cCall cUnl cPaid cStep cGain cText iN iRow iFor iRoad iFear iCall iUnl iPaid iStep iGain iText tp) (some (.int r)) (xW g h hn hi ad ra sTaped sFault sFaultA sWays sMay sMust cTape cNames cHead cSure cN cRow cTried cFor cRoad cFear cCall cUnl cPaid cStep cGain cText iN iRow iFor iRoad iFear iCall iUnl iPaid iStep iGain iText tp) 0 0 := by
  refine CX.of RX0 rfl plain_X0 (Nat.le_of_ble_eq_true rfl) (fun p e s m below meth c A ls X hF hP hD hS hl => ?_)
  have hx := X.1
  have hb := X.2.1
  have hown := X.2.2.2.2.2.1
  have hts := X.2.2.2.2.2.2.1
  have hl : lv_has ls 3 [(0, .ref h), (1, .int x1), (2, .int x2)] := hl
  unfold X_doMeet at hf
  refine lv_aload_n hx hb dX0_doMeet_0 rfl (lv_at hl 0 rfl) ?_
  refine lv_iload_n hx hb dX0_doMeet_1 rfl (lv_at hl 1 rfl) ?_
  obtain ⟨r1, k2, hf⟩ := bd1s hf
  refine xVi (rest := []) X hF (met_X_isWolf k2) gw_X0_X0_isWolf dy_X0_isWolf ⟨⟨rfl, rfl⟩, Nat.le_of_ble_eq_true rfl, Nat.le_of_ble_eq_true rfl⟩ hP hD hS hl.1 rcX rfl rfl ⟨Nat.zero_le _, Nat.zero_le _⟩ (Nat.le_of_ble_eq_true rfl) dX0_doMeet_2 (fun H locs hP hD hS => ?_)
  refine bq_eq (tgt := 52) hx hb hf dX0_doMeet_5 (by decide) (fun hf => ?_) (fun hf => ?_)
  · refine lv_iconst (v := 0) hx hb dX0_doMeet_52 (by decide) ?_
    cases hf
    exact rZ X rfl hP hD hS dX0_doMeet_53
  · refine lv_aload_n hx hb dX0_doMeet_8 rfl (lv_at hl 0 rfl) ?_
    refine lv_iload_n hx hb dX0_doMeet_9 rfl (lv_at hl 2 rfl) ?_
    obtain ⟨r3, k4, hf⟩ := bd1s hf
    refine xVi (rest := []) X hF (met_X_isAlive k4) gw_X0_X0_isAlive dy_X0_isAlive ⟨⟨rfl, rfl⟩, Nat.le_of_ble_eq_true rfl, Nat.le_of_ble_eq_true rfl⟩ hP hD hS hl.1 rcX rfl rfl ⟨Nat.zero_le _, Nat.zero_le _⟩ (Nat.le_of_ble_eq_true rfl) dX0_doMeet_10 (fun H locs hP hD hS => ?_)
    refine bq_eq (tgt := 52) hx hb hf dX0_doMeet_13 (by decide) (fun hf => ?_) (fun hf => ?_)
    · refine lv_iconst (v := 0) hx hb dX0_doMeet_52 (by decide) ?_
      cases hf
      exact rZ X rfl hP hD hS dX0_doMeet_53
    · refine lv_iload_n hx hb dX0_doMeet_16 rfl (lv_at hl 1 rfl) ?_
      refine lv_iload_n hx hb dX0_doMeet_17 rfl (lv_at hl 2 rfl) ?_
      refine bc_eq (tgt := 52) hx hb hf dX0_doMeet_18 (by decide) (fun hf => ?_) (fun hf => ?_)
      · refine lv_iconst (v := 0) hx hb dX0_doMeet_52 (by decide) ?_
        cases hf
        exact rZ X rfl hP hD hS dX0_doMeet_53
      · refine lv_aload_n hx hb dX0_doMeet_21 rfl (lv_at hl 0 rfl) ?_
        refine gX_X0_this_now X hP dX0_doMeet_22 ?_
        refine gX_X0_now_row X hF hP dX0_doMeet_25 ?_
        refine lv_iload_n hx hb dX0_doMeet_28 rfl (lv_at hl 1 rfl) ?_
        refine lv_iconst (v := 0) hx hb dX0_doMeet_29 (by decide) ?_
        obtain ⟨r5, k6, hf⟩ := bd1s hf
        refine xSi (rest := []) X hF (met_X_atR k6) gs_X0_X0_at dy_X0_at ⟨⟨rfl, rfl⟩, Nat.le_of_ble_eq_true rfl, Nat.le_of_ble_eq_true rfl⟩ hP hD hS hl.1 rfl rfl ⟨Nat.zero_le _, Nat.zero_le _⟩ (Nat.le_of_ble_eq_true rfl) dX0_doMeet_30 (fun H locs hP hD hS => ?_)
        refine lv_aload_n hx hb dX0_doMeet_33 rfl (lv_at hl 0 rfl) ?_
        refine gX_X0_this_now X hP dX0_doMeet_34 ?_
        refine gX_X0_now_row X hF hP dX0_doMeet_37 ?_
        refine lv_iload_n hx hb dX0_doMeet_40 rfl (lv_at hl 2 rfl) ?_
        refine lv_iconst (v := 0) hx hb dX0_doMeet_41 (by decide) ?_
        obtain ⟨r7, k8, hf⟩ := bd1s hf
        refine xSi (rest := [.int r5]) X hF (met_X_atR k8) gs_X0_X0_at dy_X0_at ⟨⟨rfl, rfl⟩, Nat.le_of_ble_eq_true rfl, Nat.le_of_ble_eq_true rfl⟩ hP hD hS hl.1 rfl rfl ⟨Nat.zero_le _, Nat.zero_le _⟩ (Nat.le_of_ble_eq_true rfl) dX0_doMeet_42 (fun H locs hP hD hS => ?_)
        refine bc_ne (tgt := 52) hx hb hf dX0_doMeet_45 (by decide) (fun hf => ?_) (fun hf => ?_)
        · refine lv_iconst (v := 0) hx hb dX0_doMeet_52 (by decide) ?_
          cases hf
          exact rZ X rfl hP hD hS dX0_doMeet_53
        · refine lv_iconst (v := 1) hx hb dX0_doMeet_48 (by decide) ?_
          refine lv_goto (tgt := 53) hx hb dX0_doMeet_49 (by decide) ?_
          cases hf
          exact rZ X rfl hP hD hS dX0_doMeet_53
set_option maxHeartbeats 4000000 in
theorem met_X_isFed {l : Launch} {g : gG} {h hn hi : Nat} {ad : Nat → Nat} {ra : Nat → Nat → Nat} {z : Nat → Nat} {sTaped : Int32} {sFault : Int32} {sFaultA : Int32} {sWays : Int32} {sMay : Int32} {sMust : Int32} {cTape : Nat → Int32} {cNames : Nat → Int32} {cHead : Nat → Int32} {cSure : Nat → Nat → Int32} {cN : Nat → Int32} {cRow : Nat → Int32} {cTried : Nat → Int32} {cFor : Nat → Int32} {cRoad : Nat → Int32} {cFear : Nat → Int32} {cCall : Nat → Int32} {cUnl : Nat → Int32} {cPaid : Nat → Nat → Int32} {cStep : Nat → Nat → Int32} {cGain : Nat → Nat → Int32} {cText : Nat → Option Nat} {iN : Nat → Int32} {iRow : Nat → Int32} {iFor : Nat → Int32} {iRoad : Nat → Int32} {iFear : Nat → Int32} {iCall : Nat → Int32} {iUnl : Nat → Int32} {iPaid : Nat → Nat → Int32} {iStep : Nat → Nat → Int32} {iGain : Nat → Nat → Int32} {iText : Nat → Option Nat} {tp : va_W} {E : Nat → Option (Nat → Option ((Nat → Int32) → Int64))} {zN : Nat} {x1 : Int32} {x2 : Int32} {r : Int32} {ncNames : Nat → Int32} {ncRow : Nat → Int32} {φ : Nat} (hzN : zN = z 0) (hT : TxOk g z tp E) (hf : X_isFed φ cNames cN cRow cFor cFear cText E zN x1 x2 = some (r, ncNames, ncRow)) : CX l yX0_isFed (ws_ yX0_isFed cX0_isFed 4 (some .int)) ({ frames := 245, cells := 0, slots := 0, locals := 5269 } : Room) g z [.ref h, .int x1, .int x2] (xW g h hn hi ad ra sTaped sFault sFaultA sWays sMay sMust cTape cNames cHead cSure cN cRow cTried cFor cRoad cFear cCall cUnl cPaid cStep cGain cText iN iRow iFor iRoad iFear iCall iUnl iPaid iStep iGain iText tp) (some (.int r)) (xW g h hn hi ad ra sTaped sFault sFaultA sWays sMay sMust cTape ncNames cHead cSure cN ncRow cTried cFor cRoad cFear cCall cUnl cPaid cStep cGain cText iN iRow iFor iRoad iFear iCall iUnl iPaid iStep iGain iText tp) 0 0 := by
  refine CX.of RX0 rfl plain_X0 (Nat.le_of_ble_eq_true rfl) (fun p e s m below meth c A ls X hF hP hD hS hl => ?_)
  have hx := X.1
  have hb := X.2.1
  have hown := X.2.2.2.2.2.1
  have hts := X.2.2.2.2.2.2.1
  have hl : lv_has ls 4 [(0, .ref h), (1, .int x1), (2, .int x2)] := hl
  unfold X_isFed at hf
  refine lv_aload_n hx hb dX0_isFed_0 rfl (lv_at hl 0 rfl) ?_
  refine gX_X0_this_now X hP dX0_isFed_1 ?_
  refine gX_X0_now_row X hF hP dX0_isFed_4 ?_
  refine lv_astore_n (lv' := [(3, .ref (ad 6)), (0, .ref h), (1, .int x1), (2, .int x2)]) hx hb dX0_isFed_7 rfl hl (by decide) rfl (fun ls hl => ?_)
  refine lv_aload_n hx hb dX0_isFed_8 rfl (lv_at hl 0 rfl) ?_
  refine lv_iload_n hx hb dX0_isFed_9 rfl (lv_at hl 2 rfl) ?_
  refine lv_iconst (v := 4) hx hb dX0_isFed_10 (by decide) ?_
  refine lv_iconst (v := 0) hx hb dX0_isFed_11 (by decide) ?_
  obtain ⟨c1, k2, hf⟩ := bd1s hf
  refine xSv (rest := []) X hF (met_X_setsR k2) gs_X0_X0_sets dy_X0_sets ⟨⟨rfl, rfl⟩, Nat.le_of_ble_eq_true rfl, Nat.le_of_ble_eq_true rfl⟩ hP hD hS hl.1 rfl rfl ⟨Nat.zero_le _, Nat.zero_le _⟩ (Nat.le_of_ble_eq_true rfl) dX0_isFed_12 (fun H locs hP hD hS => ?_)
  refine lv_aload_n hx hb dX0_isFed_15 rfl (lv_at hl 0 rfl) ?_
  refine lv_iload_n hx hb dX0_isFed_16 rfl (lv_at hl 2 rfl) ?_
  refine lv_iconst (v := 2) hx hb dX0_isFed_17 (by decide) ?_
  obtain ⟨c3, k4, hf⟩ := bd1s hf
  refine xSv (rest := []) X hF (met_X_writesR k4) gs_X0_X0_writes dy_X0_writes ⟨⟨rfl, rfl⟩, Nat.le_of_ble_eq_true rfl, Nat.le_of_ble_eq_true rfl⟩ hP hD hS hl.1 rfl rfl ⟨Nat.zero_le _, Nat.zero_le _⟩ (Nat.le_of_ble_eq_true rfl) dX0_isFed_18 (fun H locs hP hD hS => ?_)
  refine lv_aload_n hx hb dX0_isFed_21 rfl (lv_at hl 1 rfl) ?_
  refine lv_iload_n hx hb dX0_isFed_22 rfl (lv_at hl 3 rfl) ?_
  obtain ⟨r5, k6, hf⟩ := bd1s hf
  refine xVi (rest := []) X hF (met_X_isWolf k6) gw_X0_X0_isWolf dy_X0_isWolf ⟨⟨rfl, rfl⟩, Nat.le_of_ble_eq_true rfl, Nat.le_of_ble_eq_true rfl⟩ hP hD hS hl.1 rcX rfl rfl ⟨Nat.zero_le _, Nat.zero_le _⟩ (Nat.le_of_ble_eq_true rfl) dX0_isFed_23 (fun H locs hP hD hS => ?_)
  refine bq_ne (tgt := 60) hx hb hf dX0_isFed_26 (by decide) (fun hf => ?_) (fun hf => ?_)
  · refine lv_aload_n hx hb dX0_isFed_60 rfl (lv_at hl 0 rfl) ?_
    refine lv_iload_n hx hb dX0_isFed_61 rfl (lv_at hl 3 rfl) ?_
    refine lv_iconst (v := 3) hx hb dX0_isFed_62 (by decide) ?_
    obtain ⟨r7, k8, hf⟩ := bd1s hf
    refine xSi (rest := []) X hF (met_X_atR k8) gs_X0_X0_at dy_X0_at ⟨⟨rfl, rfl⟩, Nat.le_of_ble_eq_true rfl, Nat.le_of_ble_eq_true rfl⟩ hP hD hS hl.1 rfl rfl ⟨Nat.zero_le _, Nat.zero_le _⟩ (Nat.le_of_ble_eq_true rfl) dX0_isFed_63 (fun H locs hP hD hS => ?_)
    cases hf
    exact rI X hP hD hS dX0_isFed_66
  · refine lv_aload_n hx hb dX0_isFed_29 rfl (lv_at hl 0 rfl) ?_
    obtain ⟨r9, c10, k11, hf⟩ := bd2s hf
    refine xSi (rest := []) X hF (met_X_drawR k11) gs_X0_X0_draw dy_X0_draw ⟨⟨rfl, rfl⟩, Nat.le_of_ble_eq_true rfl, Nat.le_of_ble_eq_true rfl⟩ hP hD hS hl.1 rfl rfl ⟨Nat.zero_le _, Nat.zero_le _⟩ (Nat.le_of_ble_eq_true rfl) dX0_isFed_30 (fun H locs hP hD hS => ?_)
    refine lv_aload_n hx hb dX0_isFed_33 rfl (lv_at hl 1 rfl) ?_
    refine lv_aload_n hx hb dX0_isFed_34 rfl (lv_at hl 0 rfl) ?_
    refine lv_iload_n hx hb dX0_isFed_35 rfl (lv_at hl 2 rfl) ?_
    obtain ⟨r12, c13, k14, hf⟩ := bd2s hf
    refine xVi (rest := [.int r9]) X hF (met_X_findsOfR hzN hT k14) gw_X0_X0_findsOf dy_X0_findsOf ⟨⟨rfl, rfl⟩, Nat.le_of_ble_eq_true rfl, Nat.le_of_ble_eq_true rfl⟩ hP hD hS hl.1 rcX rfl rfl ⟨Nat.zero_le _, Nat.zero_le _⟩ (Nat.le_of_ble_eq_true rfl) dX0_isFed_36 (fun H locs hP hD hS => ?_)
    refine bc_ge (tgt := 60) hx hb hf dX0_isFed_39 (by decide) (fun hf => ?_) (fun hf => ?_)
    · refine lv_aload_n hx hb dX0_isFed_60 rfl (lv_at hl 0 rfl) ?_
      refine lv_iload_n hx hb dX0_isFed_61 rfl (lv_at hl 3 rfl) ?_
      refine lv_iconst (v := 3) hx hb dX0_isFed_62 (by decide) ?_
      obtain ⟨r15, k16, hf⟩ := bd1s hf
      refine xSi (rest := []) X hF (met_X_atR k16) gs_X0_X0_at dy_X0_at ⟨⟨rfl, rfl⟩, Nat.le_of_ble_eq_true rfl, Nat.le_of_ble_eq_true rfl⟩ hP hD hS hl.1 rfl rfl ⟨Nat.zero_le _, Nat.zero_le _⟩ (Nat.le_of_ble_eq_true rfl) dX0_isFed_63 (fun H locs hP hD hS => ?_)
      cases hf
      exact rI X hP hD hS dX0_isFed_66
    · refine lv_aload_n hx hb dX0_isFed_42 rfl (lv_at hl 0 rfl) ?_
      refine lv_iload_n hx hb dX0_isFed_43 rfl (lv_at hl 3 rfl) ?_
      refine lv_iconst (v := 3) hx hb dX0_isFed_44 (by decide) ?_
      refine lv_iconst (v := 4) hx hb dX0_isFed_45 (by decide) ?_
      refine lv_aload_n hx hb dX0_isFed_46 rfl (lv_at hl 0 rfl) ?_
      refine lv_iload_n hx hb dX0_isFed_47 rfl (lv_at hl 3 rfl) ?_
      refine lv_iconst (v := 3) hx hb dX0_isFed_48 (by decide) ?_
      obtain ⟨r17, k18, hf⟩ := bd1s hf
      refine xSi (rest := [.int 4, .int 3, .int x2, .ref (ad 6)]) X hF (met_X_atR k18) gs_X0_X0_at dy_X0_at ⟨⟨rfl, rfl⟩, Nat.le_of_ble_eq_true rfl, Nat.le_of_ble_eq_true rfl⟩ hP hD hS hl.1 rfl rfl ⟨Nat.zero_le _, Nat.zero_le _⟩ (Nat.le_of_ble_eq_true rfl) dX0_isFed_49 (fun H locs hP hD hS => ?_)
      refine lv_iconst (v := 1) hx hb dX0_isFed_52 (by decide) ?_
      refine lv_iadd hx hb dX0_isFed_53 ?_
      refine rMin X q1043 hl.1 ⟨Nat.le_of_ble_eq_true rfl, Nat.le_of_ble_eq_true rfl⟩ ⟨Nat.zero_le _, Nat.zero_le _⟩ dX0_isFed_54 ?_
      obtain ⟨v19, ev19, hf⟩ := lts hf
      refine tpi ev19 ?_
      obtain ⟨c20, k21, hf⟩ := bd1s hf
      refine xSv (rest := []) X hF (met_X_setsR k21) gs_X0_X0_sets dy_X0_sets ⟨⟨rfl, rfl⟩, Nat.le_of_ble_eq_true rfl, Nat.le_of_ble_eq_true rfl⟩ hP hD hS hl.1 rfl rfl ⟨Nat.zero_le _, Nat.zero_le _⟩ (Nat.le_of_ble_eq_true rfl) dX0_isFed_57 (fun H locs hP hD hS => ?_)
      refine lv_aload_n hx hb dX0_isFed_60 rfl (lv_at hl 0 rfl) ?_
      refine lv_iload_n hx hb dX0_isFed_61 rfl (lv_at hl 3 rfl) ?_
      refine lv_iconst (v := 3) hx hb dX0_isFed_62 (by decide) ?_
      obtain ⟨r22, k23, hf⟩ := bd1s hf
      refine xSi (rest := []) X hF (met_X_atR k23) gs_X0_X0_at dy_X0_at ⟨⟨rfl, rfl⟩, Nat.le_of_ble_eq_true rfl, Nat.le_of_ble_eq_true rfl⟩ hP hD hS hl.1 rfl rfl ⟨Nat.zero_le _, Nat.zero_le _⟩ (Nat.le_of_ble_eq_true rfl) dX0_isFed_63 (fun H locs hP hD hS => ?_)
      cases hf
      exact rI X hP hD hS dX0_isFed_66
theorem gw_X0_X0_doMeet : GoodIn lw_all (wsV RX0 226 RX0 yX0_doMeet (ws_ yX0_doMeet cX0_doMeet 3 (some .boolean))) := lw_V q1111 q1113 qs41 q145 q1114
theorem dy_X0_doMeet : Dy yX0_doMeet RX0 2 := by decide +kernel
theorem gw_X0_X0_isFed : GoodIn lw_all (wsV RX0 229 RX0 yX0_isFed (ws_ yX0_isFed cX0_isFed 4 (some .int))) := lw_V q1115 q1117 qs42 q145 q1118
theorem dy_X0_isFed : Dy yX0_isFed RX0 2 := by decide +kernel
set_option maxHeartbeats 4000000 in
theorem met_X_feeds {l : Launch} {g : gG} {h hn hi : Nat} {ad : Nat → Nat} {ra : Nat → Nat → Nat} {z : Nat → Nat} {sTaped : Int32} {sFault : Int32} {sFaultA : Int32} {sWays : Int32} {sMay : Int32} {sMust : Int32} {cTape : Nat → Int32} {cNames : Nat → Int32} {cHead : Nat → Int32} {cSure : Nat → Nat → Int32} {cN : Nat → Int32} {cRow : Nat → Int32} {cTried : Nat → Int32} {cFor : Nat → Int32} {cRoad : Nat → Int32} {cFear : Nat → Int32} {cCall : Nat → Int32} {cUnl : Nat → Int32} {cPaid : Nat → Nat → Int32} {cStep : Nat → Nat → Int32} {cGain : Nat → Nat → Int32} {cText : Nat → Option Nat} {iN : Nat → Int32} {iRow : Nat → Int32} {iFor : Nat → Int32} {iRoad : Nat → Int32} {iFear : Nat → Int32} {iCall : Nat → Int32} {iUnl : Nat → Int32} {iPaid : Nat → Nat → Int32} {iStep : Nat → Nat → Int32} {iGain : Nat → Nat → Int32} {iText : Nat → Option Nat} {tp : va_W} {E : Nat → Option (Nat → Option ((Nat → Int32) → Int64))} {zN : Nat} {x1 : Int32} {x2 : Int32} {r : Int32} {ncNames : Nat → Int32} {ncN : Nat → Int32} {ncRow : Nat → Int32} {ncStep : Nat → Nat → Int32} {φ : Nat} (hzN : zN = z 0) (hT : TxOk g z tp E) (hf : X_feeds φ cNames cN cRow cFor cFear cStep cText E zN x1 x2 = some (r, ncNames, ncN, ncRow, ncStep)) : CX l yX0_feeds (ws_ yX0_feeds cX0_feeds 3 (some .int)) ({ frames := 246, cells := 0, slots := 0, locals := 5292 } : Room) g z [.ref h, .int x1, .int x2] (xW g h hn hi ad ra sTaped sFault sFaultA sWays sMay sMust cTape cNames cHead cSure cN cRow cTried cFor cRoad cFear cCall cUnl cPaid cStep cGain cText iN iRow iFor iRoad iFear iCall iUnl iPaid iStep iGain iText tp) (some (.int r)) (xW g h hn hi ad ra sTaped sFault sFaultA sWays sMay sMust cTape ncNames cHead cSure ncN ncRow cTried cFor cRoad cFear cCall cUnl cPaid ncStep cGain cText iN iRow iFor iRoad iFear iCall iUnl iPaid iStep iGain iText tp) 0 0 := by
  refine CX.of RX0 rfl plain_X0 (Nat.le_of_ble_eq_true rfl) (fun p e s m below meth c A ls X hF hP hD hS hl => ?_)
  have hx := X.1
  have hb := X.2.1
  have hown := X.2.2.2.2.2.1
  have hts := X.2.2.2.2.2.2.1
  have hl : lv_has ls 3 [(0, .ref h), (1, .int x1), (2, .int x2)] := hl
  unfold X_feeds at hf
  refine lv_aload_n hx hb dX0_feeds_0 rfl (lv_at hl 0 rfl) ?_
  refine lv_iload_n hx hb dX0_feeds_1 rfl (lv_at hl 1 rfl) ?_
  refine lv_iload_n hx hb dX0_feeds_2 rfl (lv_at hl 2 rfl) ?_
  obtain ⟨r1, k2, hf⟩ := bd1s hf
  refine xVi (rest := []) X hF (met_X_doMeet k2) gw_X0_X0_doMeet dy_X0_doMeet ⟨⟨rfl, rfl⟩, Nat.le_of_ble_eq_true rfl, Nat.le_of_ble_eq_true rfl⟩ hP hD hS hl.1 rcX rfl rfl ⟨Nat.zero_le _, Nat.zero_le _⟩ (Nat.le_of_ble_eq_true rfl) dX0_feeds_3 (fun H locs hP hD hS => ?_)
  refine bq_ne (tgt := 11) hx hb hf dX0_feeds_6 (by decide) (fun hf => ?_) (fun hf => ?_)
  · refine lv_aload_n hx hb dX0_feeds_11 rfl (lv_at hl 0 rfl) ?_
    refine gX_X0_this_now X hP dX0_feeds_12 ?_
    obtain ⟨c3, c4, k5, hf⟩ := bd2s hf
    refine xVv (rest := []) X hF (met_S_keeps k5) gw_X0_X1_keeps dy_X1_keeps ⟨⟨rfl, rfl⟩, Nat.le_of_ble_eq_true rfl, Nat.le_of_ble_eq_true rfl⟩ hP hD hS hl.1 rcN rfl rfl ⟨Nat.zero_le _, Nat.zero_le _⟩ (Nat.le_of_ble_eq_true rfl) dX0_feeds_15 (fun H locs hP hD hS => ?_)
    refine lv_aload_n hx hb dX0_feeds_18 rfl (lv_at hl 0 rfl) ?_
    refine lv_iload_n hx hb dX0_feeds_19 rfl (lv_at hl 1 rfl) ?_
    refine lv_iload_n hx hb dX0_feeds_20 rfl (lv_at hl 2 rfl) ?_
    obtain ⟨r6, c7, c8, k9, hf⟩ := bd3s hf
    refine xVi (rest := []) X hF (met_X_isFed hzN hT k9) gw_X0_X0_isFed dy_X0_isFed ⟨⟨rfl, rfl⟩, Nat.le_of_ble_eq_true rfl, Nat.le_of_ble_eq_true rfl⟩ hP hD hS hl.1 rcX rfl rfl ⟨Nat.zero_le _, Nat.zero_le _⟩ (Nat.le_of_ble_eq_true rfl) dX0_feeds_21 (fun H locs hP hD hS => ?_)
    cases hf
    exact rI X hP hD hS dX0_feeds_24
  · refine lv_iconst (v := (-1)) hx hb dX0_feeds_9 (by decide) ?_
    cases hf
    exact rI X hP hD hS dX0_feeds_10
set_option maxHeartbeats 4000000 in
theorem met_X_freesR {l : Launch} {g : gG} {h hn hi : Nat} {ad : Nat → Nat} {ra : Nat → Nat → Nat} {z : Nat → Nat} {sTaped : Int32} {sFault : Int32} {sFaultA : Int32} {sWays : Int32} {sMay : Int32} {sMust : Int32} {cTape : Nat → Int32} {cNames : Nat → Int32} {cHead : Nat → Int32} {cSure : Nat → Nat → Int32} {cN : Nat → Int32} {cRow : Nat → Int32} {cTried : Nat → Int32} {cFor : Nat → Int32} {cRoad : Nat → Int32} {cFear : Nat → Int32} {cCall : Nat → Int32} {cUnl : Nat → Int32} {cPaid : Nat → Nat → Int32} {cStep : Nat → Nat → Int32} {cGain : Nat → Nat → Int32} {cText : Nat → Option Nat} {iN : Nat → Int32} {iRow : Nat → Int32} {iFor : Nat → Int32} {iRoad : Nat → Int32} {iFear : Nat → Int32} {iCall : Nat → Int32} {iUnl : Nat → Int32} {iPaid : Nat → Nat → Int32} {iStep : Nat → Nat → Int32} {iGain : Nat → Nat → Int32} {iText : Nat → Option Nat} {tp : va_W} {x1 : Int32} {ncRow : Nat → Int32} (hf : X_frees cRow x1 = some ncRow) : CX l yX0_frees (ws_ yX0_frees cX0_frees 2 none) ({ frames := 1, cells := 0, slots := 0, locals := 23 } : Room) g z [.ref (ad 6), .int x1] (xW g h hn hi ad ra sTaped sFault sFaultA sWays sMay sMust cTape cNames cHead cSure cN cRow cTried cFor cRoad cFear cCall cUnl cPaid cStep cGain cText iN iRow iFor iRoad iFear iCall iUnl iPaid iStep iGain iText tp) none (xW g h hn hi ad ra sTaped sFault sFaultA sWays sMay sMust cTape cNames cHead cSure cN ncRow cTried cFor cRoad cFear cCall cUnl cPaid cStep cGain cText iN iRow iFor iRoad iFear iCall iUnl iPaid iStep iGain iText tp) 0 0 := by
  refine CX.of RX0 rfl plain_X0 (Nat.le_of_ble_eq_true rfl) (fun p e s m below meth c A ls X hF hP hD hS hl => ?_)
  have hx := X.1
  have hb := X.2.1
  have hown := X.2.2.2.2.2.1
  have hts := X.2.2.2.2.2.2.1
  have hl : lv_has ls 2 [(0, .ref (ad 6)), (1, .int x1)] := hl
  unfold X_frees at hf
  refine lv_aload_n hx hb dX0_frees_0 rfl (lv_at hl 0 rfl) ?_
  refine lv_iload_n hx hb dX0_frees_1 rfl (lv_at hl 1 rfl) ?_
  refine lv_bipush (v := 6) hx hb dX0_frees_2 (by decide) ?_
  refine lv_iconst (v := 2) hx hb dX0_frees_4 (by decide) ?_
  obtain ⟨c1, k2, hf⟩ := bd1s hf
  refine xSv (rest := []) X hF (met_X_setsR k2) gs_X0_X0_sets dy_X0_sets ⟨⟨rfl, rfl⟩, Nat.le_of_ble_eq_true rfl, Nat.le_of_ble_eq_true rfl⟩ hP hD hS hl.1 rfl rfl ⟨Nat.zero_le _, Nat.zero_le _⟩ (Nat.le_of_ble_eq_true rfl) dX0_frees_5 (fun H locs hP hD hS => ?_)
  refine lv_aload_n hx hb dX0_frees_8 rfl (lv_at hl 0 rfl) ?_
  refine lv_iload_n hx hb dX0_frees_9 rfl (lv_at hl 1 rfl) ?_
  refine lv_iconst (v := 5) hx hb dX0_frees_10 (by decide) ?_
  refine lv_iconst (v := 0) hx hb dX0_frees_11 (by decide) ?_
  obtain ⟨c3, k4, hf⟩ := bd1s hf
  refine xSv (rest := []) X hF (met_X_setsR k4) gs_X0_X0_sets dy_X0_sets ⟨⟨rfl, rfl⟩, Nat.le_of_ble_eq_true rfl, Nat.le_of_ble_eq_true rfl⟩ hP hD hS hl.1 rfl rfl ⟨Nat.zero_le _, Nat.zero_le _⟩ (Nat.le_of_ble_eq_true rfl) dX0_frees_12 (fun H locs hP hD hS => ?_)
  refine lv_aload_n hx hb dX0_frees_15 rfl (lv_at hl 0 rfl) ?_
  refine lv_iload_n hx hb dX0_frees_16 rfl (lv_at hl 1 rfl) ?_
  refine lv_iconst (v := 4) hx hb dX0_frees_17 (by decide) ?_
  refine lv_iconst (v := 0) hx hb dX0_frees_18 (by decide) ?_
  obtain ⟨c5, k6, hf⟩ := bd1s hf
  refine xSv (rest := []) X hF (met_X_setsR k6) gs_X0_X0_sets dy_X0_sets ⟨⟨rfl, rfl⟩, Nat.le_of_ble_eq_true rfl, Nat.le_of_ble_eq_true rfl⟩ hP hD hS hl.1 rfl rfl ⟨Nat.zero_le _, Nat.zero_le _⟩ (Nat.le_of_ble_eq_true rfl) dX0_frees_19 (fun H locs hP hD hS => ?_)
  cases hf
  exact rV X hP hD hS dX0_frees_22
theorem gs_X0_X0_frees : GoodIn lw_all (va_wsS RX0 232 yX0_frees (ws_ yX0_frees cX0_frees 2 none)) := lw_S q1127 q1128 q145 q1129
theorem dy_X0_frees : Dy yX0_frees RX0 2 := by decide +kernel
set_option maxHeartbeats 4000000 in
theorem met_X_isKilled {l : Launch} {g : gG} {h hn hi : Nat} {ad : Nat → Nat} {ra : Nat → Nat → Nat} {z : Nat → Nat} {sTaped : Int32} {sFault : Int32} {sFaultA : Int32} {sWays : Int32} {sMay : Int32} {sMust : Int32} {cTape : Nat → Int32} {cNames : Nat → Int32} {cHead : Nat → Int32} {cSure : Nat → Nat → Int32} {cN : Nat → Int32} {cRow : Nat → Int32} {cTried : Nat → Int32} {cFor : Nat → Int32} {cRoad : Nat → Int32} {cFear : Nat → Int32} {cCall : Nat → Int32} {cUnl : Nat → Int32} {cPaid : Nat → Nat → Int32} {cStep : Nat → Nat → Int32} {cGain : Nat → Nat → Int32} {cText : Nat → Option Nat} {iN : Nat → Int32} {iRow : Nat → Int32} {iFor : Nat → Int32} {iRoad : Nat → Int32} {iFear : Nat → Int32} {iCall : Nat → Int32} {iUnl : Nat → Int32} {iPaid : Nat → Nat → Int32} {iStep : Nat → Nat → Int32} {iGain : Nat → Nat → Int32} {iText : Nat → Option Nat} {tp : va_W} {x1 : Int32} {x2 : Int32} {ncRow : Nat → Int32} (hf : X_isKilled cN cRow x1 x2 = some ncRow) : CX l yX0_isKilled (ws_ yX0_isKilled cX0_isKilled 3 none) ({ frames := 3, cells := 0, slots := 0, locals := 71 } : Room) g z [.ref h, .int x1, .int x2] (xW g h hn hi ad ra sTaped sFault sFaultA sWays sMay sMust cTape cNames cHead cSure cN cRow cTried cFor cRoad cFear cCall cUnl cPaid cStep cGain cText iN iRow iFor iRoad iFear iCall iUnl iPaid iStep iGain iText tp) none (xW g h hn hi ad ra sTaped sFault sFaultA sWays sMay sMust cTape cNames cHead cSure cN ncRow cTried cFor cRoad cFear cCall cUnl cPaid cStep cGain cText iN iRow iFor iRoad iFear iCall iUnl iPaid iStep iGain iText tp) 0 0 := by
  refine CX.of RX0 rfl plain_X0 (Nat.le_of_ble_eq_true rfl) (fun p e s m below meth c A ls X hF hP hD hS hl => ?_)
  have hx := X.1
  have hb := X.2.1
  have hown := X.2.2.2.2.2.1
  have hts := X.2.2.2.2.2.2.1
  have hl : lv_has ls 3 [(0, .ref h), (1, .int x1), (2, .int x2)] := hl
  unfold X_isKilled at hf
  refine lv_aload_n hx hb dX0_isKilled_0 rfl (lv_at hl 0 rfl) ?_
  refine gX_X0_this_now X hP dX0_isKilled_1 ?_
  refine gX_X0_now_row X hF hP dX0_isKilled_4 ?_
  refine lv_iload_n hx hb dX0_isKilled_7 rfl (lv_at hl 1 rfl) ?_
  refine lv_iconst (v := 5) hx hb dX0_isKilled_8 (by decide) ?_
  obtain ⟨c1, k2, hf⟩ := bd1s hf
  refine xSv (rest := []) X hF (met_X_diesR k2) gs_X0_X0_dies dy_X0_dies ⟨⟨rfl, rfl⟩, Nat.le_of_ble_eq_true rfl, Nat.le_of_ble_eq_true rfl⟩ hP hD hS hl.1 rfl rfl ⟨Nat.zero_le _, Nat.zero_le _⟩ (Nat.le_of_ble_eq_true rfl) dX0_isKilled_9 (fun H locs hP hD hS => ?_)
  refine lv_aload_n hx hb dX0_isKilled_12 rfl (lv_at hl 0 rfl) ?_
  refine lv_iload_n hx hb dX0_isKilled_13 rfl (lv_at hl 2 rfl) ?_
  obtain ⟨r3, k4, hf⟩ := bd1s hf
  refine xVi (rest := []) X hF (met_X_isWolf k4) gw_X0_X0_isWolf dy_X0_isWolf ⟨⟨rfl, rfl⟩, Nat.le_of_ble_eq_true rfl, Nat.le_of_ble_eq_true rfl⟩ hP hD hS hl.1 rcX rfl rfl ⟨Nat.zero_le _, Nat.zero_le _⟩ (Nat.le_of_ble_eq_true rfl) dX0_isKilled_14 (fun H locs hP hD hS => ?_)
  refine bq_eq (tgt := 31) hx hb hf dX0_isKilled_17 (by decide) (fun hf => ?_) (fun hf => ?_)
  · cases hf
    exact rV X hP hD hS dX0_isKilled_31
  · refine lv_aload_n hx hb dX0_isKilled_20 rfl (lv_at hl 0 rfl) ?_
    refine gX_X0_this_now X hP dX0_isKilled_21 ?_
    refine gX_X0_now_row X hF hP dX0_isKilled_24 ?_
    refine lv_iload_n hx hb dX0_isKilled_27 rfl (lv_at hl 2 rfl) ?_
    obtain ⟨c5, k6, hf⟩ := bd1s hf
    refine xSv (rest := []) X hF (met_X_freesR k6) gs_X0_X0_frees dy_X0_frees ⟨⟨rfl, rfl⟩, Nat.le_of_ble_eq_true rfl, Nat.le_of_ble_eq_true rfl⟩ hP hD hS hl.1 rfl rfl ⟨Nat.zero_le _, Nat.zero_le _⟩ (Nat.le_of_ble_eq_true rfl) dX0_isKilled_28 (fun H locs hP hD hS => ?_)
    cases hf
    exact rV X hP hD hS dX0_isKilled_31
theorem gw_X0_X0_isKilled : GoodIn lw_all (wsV RX0 236 RX0 yX0_isKilled (ws_ yX0_isKilled cX0_isKilled 3 none)) := lw_V q1123 q1125 qs43 q145 q1126
theorem dy_X0_isKilled : Dy yX0_isKilled RX0 2 := by decide +kernel
set_option maxHeartbeats 4000000 in
theorem met_X_kill {l : Launch} {g : gG} {h hn hi : Nat} {ad : Nat → Nat} {ra : Nat → Nat → Nat} {z : Nat → Nat} {sTaped : Int32} {sFault : Int32} {sFaultA : Int32} {sWays : Int32} {sMay : Int32} {sMust : Int32} {cTape : Nat → Int32} {cNames : Nat → Int32} {cHead : Nat → Int32} {cSure : Nat → Nat → Int32} {cN : Nat → Int32} {cRow : Nat → Int32} {cTried : Nat → Int32} {cFor : Nat → Int32} {cRoad : Nat → Int32} {cFear : Nat → Int32} {cCall : Nat → Int32} {cUnl : Nat → Int32} {cPaid : Nat → Nat → Int32} {cStep : Nat → Nat → Int32} {cGain : Nat → Nat → Int32} {cText : Nat → Option Nat} {iN : Nat → Int32} {iRow : Nat → Int32} {iFor : Nat → Int32} {iRoad : Nat → Int32} {iFear : Nat → Int32} {iCall : Nat → Int32} {iUnl : Nat → Int32} {iPaid : Nat → Nat → Int32} {iStep : Nat → Nat → Int32} {iGain : Nat → Nat → Int32} {iText : Nat → Option Nat} {tp : va_W} {x1 : Int32} {x2 : Int32} {r : Int32} {ncN : Nat → Int32} {ncRow : Nat → Int32} {ncStep : Nat → Nat → Int32} {φ : Nat} (hf : X_kill φ cN cRow cStep x1 x2 = some (r, ncN, ncRow, ncStep)) : CX l yX0_kill (ws_ yX0_kill cX0_kill 3 (some .boolean)) ({ frames := 4, cells := 0, slots := 0, locals := 93 } : Room) g z [.ref h, .int x1, .int x2] (xW g h hn hi ad ra sTaped sFault sFaultA sWays sMay sMust cTape cNames cHead cSure cN cRow cTried cFor cRoad cFear cCall cUnl cPaid cStep cGain cText iN iRow iFor iRoad iFear iCall iUnl iPaid iStep iGain iText tp) (some (.int r)) (xW g h hn hi ad ra sTaped sFault sFaultA sWays sMay sMust cTape cNames cHead cSure ncN ncRow cTried cFor cRoad cFear cCall cUnl cPaid ncStep cGain cText iN iRow iFor iRoad iFear iCall iUnl iPaid iStep iGain iText tp) 0 0 := by
  refine CX.of RX0 rfl plain_X0 (Nat.le_of_ble_eq_true rfl) (fun p e s m below meth c A ls X hF hP hD hS hl => ?_)
  have hx := X.1
  have hb := X.2.1
  have hown := X.2.2.2.2.2.1
  have hts := X.2.2.2.2.2.2.1
  have hl : lv_has ls 3 [(0, .ref h), (1, .int x1), (2, .int x2)] := hl
  unfold X_kill at hf
  refine lv_aload_n hx hb dX0_kill_0 rfl (lv_at hl 0 rfl) ?_
  refine lv_iload_n hx hb dX0_kill_1 rfl (lv_at hl 1 rfl) ?_
  refine lv_iload_n hx hb dX0_kill_2 rfl (lv_at hl 2 rfl) ?_
  obtain ⟨r1, k2, hf⟩ := bd1s hf
  refine xVi (rest := []) X hF (met_X_doMeet k2) gw_X0_X0_doMeet dy_X0_doMeet ⟨⟨rfl, rfl⟩, Nat.le_of_ble_eq_true rfl, Nat.le_of_ble_eq_true rfl⟩ hP hD hS hl.1 rcX rfl rfl ⟨Nat.zero_le _, Nat.zero_le _⟩ (Nat.le_of_ble_eq_true rfl) dX0_kill_3 (fun H locs hP hD hS => ?_)
  refine bq_ne (tgt := 11) hx hb hf dX0_kill_6 (by decide) (fun hf => ?_) (fun hf => ?_)
  · refine lv_aload_n hx hb dX0_kill_11 rfl (lv_at hl 0 rfl) ?_
    refine gX_X0_this_now X hP dX0_kill_12 ?_
    obtain ⟨c3, c4, k5, hf⟩ := bd2s hf
    refine xVv (rest := []) X hF (met_S_keeps k5) gw_X0_X1_keeps dy_X1_keeps ⟨⟨rfl, rfl⟩, Nat.le_of_ble_eq_true rfl, Nat.le_of_ble_eq_true rfl⟩ hP hD hS hl.1 rcN rfl rfl ⟨Nat.zero_le _, Nat.zero_le _⟩ (Nat.le_of_ble_eq_true rfl) dX0_kill_15 (fun H locs hP hD hS => ?_)
    refine lv_aload_n hx hb dX0_kill_18 rfl (lv_at hl 0 rfl) ?_
    refine lv_iload_n hx hb dX0_kill_19 rfl (lv_at hl 1 rfl) ?_
    refine lv_iload_n hx hb dX0_kill_20 rfl (lv_at hl 2 rfl) ?_
    obtain ⟨c6, k7, hf⟩ := bd1s hf
    refine xVv (rest := []) X hF (met_X_isKilled k7) gw_X0_X0_isKilled dy_X0_isKilled ⟨⟨rfl, rfl⟩, Nat.le_of_ble_eq_true rfl, Nat.le_of_ble_eq_true rfl⟩ hP hD hS hl.1 rcX rfl rfl ⟨Nat.zero_le _, Nat.zero_le _⟩ (Nat.le_of_ble_eq_true rfl) dX0_kill_21 (fun H locs hP hD hS => ?_)
    refine lv_iconst (v := 1) hx hb dX0_kill_24 (by decide) ?_
    cases hf
    exact rZ X rfl hP hD hS dX0_kill_25
  · refine lv_iconst (v := 0) hx hb dX0_kill_9 (by decide) ?_
    cases hf
    exact rZ X rfl hP hD hS dX0_kill_10
set_option maxHeartbeats 4000000 in
theorem met_X_priceByR {l : Launch} {g : gG} {h hn hi : Nat} {ad : Nat → Nat} {ra : Nat → Nat → Nat} {z : Nat → Nat} {sTaped : Int32} {sFault : Int32} {sFaultA : Int32} {sWays : Int32} {sMay : Int32} {sMust : Int32} {cTape : Nat → Int32} {cNames : Nat → Int32} {cHead : Nat → Int32} {cSure : Nat → Nat → Int32} {cN : Nat → Int32} {cRow : Nat → Int32} {cTried : Nat → Int32} {cFor : Nat → Int32} {cRoad : Nat → Int32} {cFear : Nat → Int32} {cCall : Nat → Int32} {cUnl : Nat → Int32} {cPaid : Nat → Nat → Int32} {cStep : Nat → Nat → Int32} {cGain : Nat → Nat → Int32} {cText : Nat → Option Nat} {iN : Nat → Int32} {iRow : Nat → Int32} {iFor : Nat → Int32} {iRoad : Nat → Int32} {iFear : Nat → Int32} {iCall : Nat → Int32} {iUnl : Nat → Int32} {iPaid : Nat → Nat → Int32} {iStep : Nat → Nat → Int32} {iGain : Nat → Nat → Int32} {iText : Nat → Option Nat} {tp : va_W} {E : Nat → Option (Nat → Option ((Nat → Int32) → Int64))} {t : Nat} {x3 : Int32} {r : Int32} {ncNames : Nat → Int32} {φ : Nat} (hT : TxOk g z tp E) (hf : X_priceBy φ cNames cN cRow cFor cFear E t x3 = some (r, ncNames)) : CX l yX0_priceBy (ws_ yX0_priceBy cX0_priceBy 4 (some .int)) ({ frames := 243, cells := 0, slots := 0, locals := 5224 } : Room) g z [.ref h, .ref t, .ref (ad 6), .int x3] (xW g h hn hi ad ra sTaped sFault sFaultA sWays sMay sMust cTape cNames cHead cSure cN cRow cTried cFor cRoad cFear cCall cUnl cPaid cStep cGain cText iN iRow iFor iRoad iFear iCall iUnl iPaid iStep iGain iText tp) (some (.int r)) (xW g h hn hi ad ra sTaped sFault sFaultA sWays sMay sMust cTape ncNames cHead cSure cN cRow cTried cFor cRoad cFear cCall cUnl cPaid cStep cGain cText iN iRow iFor iRoad iFear iCall iUnl iPaid iStep iGain iText tp) 0 0 := by
  refine CX.of RX0 rfl plain_X0 (Nat.le_of_ble_eq_true rfl) (fun p e s m below meth c A ls X hF hP hD hS hl => ?_)
  have hx := X.1
  have hb := X.2.1
  have hown := X.2.2.2.2.2.1
  have hts := X.2.2.2.2.2.2.1
  have hl : lv_has ls 4 [(0, .ref h), (1, .ref t), (2, .ref (ad 6)), (3, .int x3)] := hl
  unfold X_priceBy at hf
  refine lv_aload_n hx hb dX0_priceBy_0 rfl (lv_at hl 0 rfl) ?_
  refine lv_aload_n hx hb dX0_priceBy_1 rfl (lv_at hl 2 rfl) ?_
  refine lv_iload_n hx hb dX0_priceBy_2 rfl (lv_at hl 3 rfl) ?_
  refine lv_aload_n hx hb dX0_priceBy_3 rfl (lv_at hl 2 rfl) ?_
  refine lv_iload_n hx hb dX0_priceBy_4 rfl (lv_at hl 3 rfl) ?_
  refine lv_iconst (v := 0) hx hb dX0_priceBy_5 (by decide) ?_
  obtain ⟨r1, k2, hf⟩ := bd1s hf
  refine xSi (rest := [.int x3, .ref (ad 6), .ref h]) X hF (met_X_atR k2) gs_X0_X0_at dy_X0_at ⟨⟨rfl, rfl⟩, Nat.le_of_ble_eq_true rfl, Nat.le_of_ble_eq_true rfl⟩ hP hD hS hl.1 rfl rfl ⟨Nat.zero_le _, Nat.zero_le _⟩ (Nat.le_of_ble_eq_true rfl) dX0_priceBy_6 (fun H locs hP hD hS => ?_)
  obtain ⟨c3, k4, hf⟩ := bd1s hf
  refine xVv (rest := []) X hF (met_X_namesOfR k4) gw_X0_X0_namesOf dy_X0_namesOf ⟨⟨rfl, rfl⟩, Nat.le_of_ble_eq_true rfl, Nat.le_of_ble_eq_true rfl⟩ hP hD hS hl.1 rcX rfl rfl ⟨Nat.zero_le _, Nat.zero_le _⟩ (Nat.le_of_ble_eq_true rfl) dX0_priceBy_9 (fun H locs hP hD hS => ?_)
  refine lv_aload_n hx hb dX0_priceBy_12 rfl (lv_at hl 0 rfl) ?_
  refine lv_aload_n hx hb dX0_priceBy_13 rfl (lv_at hl 1 rfl) ?_
  refine lv_iconst (v := 2) hx hb dX0_priceBy_14 (by decide) ?_
  refine lv_bipush (v := 100) hx hb dX0_priceBy_15 (by decide) ?_
  refine lv_bipush (v := 20) hx hb dX0_priceBy_17 (by decide) ?_
  refine lv_aload_n hx hb dX0_priceBy_19 rfl (lv_at hl 0 rfl) ?_
  refine gX_X0_this_names X hP dX0_priceBy_20 ?_
  refine lv_bipush (v := 6) hx hb dX0_priceBy_23 (by decide) ?_
  obtain ⟨v5, ev5, bv5, hf⟩ := rds hf
  refine lX_cNames X hP ev5 bv5 dX0_priceBy_25 ?_
  refine lv_imul hx hb dX0_priceBy_26 ?_
  refine lv_iadd hx hb dX0_priceBy_27 ?_
  refine lv_sipush (v := 9999) hx hb dX0_priceBy_28 (by decide) ?_
  obtain ⟨r6, k7, hf⟩ := bd1s hf
  refine xVi (rest := []) X hF (met_X_law hT k7) gw_X0_X0_law dy_X0_law ⟨⟨rfl, rfl⟩, Nat.le_of_ble_eq_true rfl, Nat.le_of_ble_eq_true rfl⟩ hP hD hS hl.1 rcX rfl rfl ⟨Nat.zero_le _, Nat.zero_le _⟩ (Nat.le_of_ble_eq_true rfl) dX0_priceBy_31 (fun H locs hP hD hS => ?_)
  cases hf
  exact rI X hP hD hS dX0_priceBy_34
theorem gw_X0_X0_priceBy : GoodIn lw_all (wsV RX0 239 RX0 yX0_priceBy (ws_ yX0_priceBy cX0_priceBy 4 (some .int))) := lw_V q1142 q1144 qs46 q145 q1145
theorem dy_X0_priceBy : Dy yX0_priceBy RX0 3 := by decide +kernel
set_option maxHeartbeats 4000000 in
theorem met_X_canPayR {l : Launch} {g : gG} {h hn hi : Nat} {ad : Nat → Nat} {ra : Nat → Nat → Nat} {z : Nat → Nat} {sTaped : Int32} {sFault : Int32} {sFaultA : Int32} {sWays : Int32} {sMay : Int32} {sMust : Int32} {cTape : Nat → Int32} {cNames : Nat → Int32} {cHead : Nat → Int32} {cSure : Nat → Nat → Int32} {cN : Nat → Int32} {cRow : Nat → Int32} {cTried : Nat → Int32} {cFor : Nat → Int32} {cRoad : Nat → Int32} {cFear : Nat → Int32} {cCall : Nat → Int32} {cUnl : Nat → Int32} {cPaid : Nat → Nat → Int32} {cStep : Nat → Nat → Int32} {cGain : Nat → Nat → Int32} {cText : Nat → Option Nat} {iN : Nat → Int32} {iRow : Nat → Int32} {iFor : Nat → Int32} {iRoad : Nat → Int32} {iFear : Nat → Int32} {iCall : Nat → Int32} {iUnl : Nat → Int32} {iPaid : Nat → Nat → Int32} {iStep : Nat → Nat → Int32} {iGain : Nat → Nat → Int32} {iText : Nat → Option Nat} {tp : va_W} {E : Nat → Option (Nat → Option ((Nat → Int32) → Int64))} {zN : Nat} {x2 : Int32} {x3 : Int32} {r : Int32} {ncNames : Nat → Int32} {φ : Nat} (hzN : zN = z 0) (hT : TxOk g z tp E) (hf : X_canPay φ cNames cN cRow cFor cFear cText E zN x2 x3 = some (r, ncNames)) : CX l yX0_canPay (ws_ yX0_canPay cX0_canPay 4 (some .boolean)) ({ frames := 244, cells := 0, slots := 0, locals := 5247 } : Room) g z [.ref h, .ref (ad 6), .int x2, .int x3] (xW g h hn hi ad ra sTaped sFault sFaultA sWays sMay sMust cTape cNames cHead cSure cN cRow cTried cFor cRoad cFear cCall cUnl cPaid cStep cGain cText iN iRow iFor iRoad iFear iCall iUnl iPaid iStep iGain iText tp) (some (.int r)) (xW g h hn hi ad ra sTaped sFault sFaultA sWays sMay sMust cTape ncNames cHead cSure cN cRow cTried cFor cRoad cFear cCall cUnl cPaid cStep cGain cText iN iRow iFor iRoad iFear iCall iUnl iPaid iStep iGain iText tp) 0 0 := by
  refine CX.of RX0 rfl plain_X0 (Nat.le_of_ble_eq_true rfl) (fun p e s m below meth c A ls X hF hP hD hS hl => ?_)
  have hx := X.1
  have hb := X.2.1
  have hown := X.2.2.2.2.2.1
  have hts := X.2.2.2.2.2.2.1
  have hl : lv_has ls 4 [(0, .ref h), (1, .ref (ad 6)), (2, .int x2), (3, .int x3)] := hl
  unfold X_canPay at hf
  refine lv_aload_n hx hb dX0_canPay_0 rfl (lv_at hl 1 rfl) ?_
  refine lv_iload_n hx hb dX0_canPay_1 rfl (lv_at hl 2 rfl) ?_
  refine lv_bipush (v := 6) hx hb dX0_canPay_2 (by decide) ?_
  obtain ⟨r1, k2, hf⟩ := bd1s hf
  refine xSi (rest := []) X hF (met_X_atR k2) gs_X0_X0_at dy_X0_at ⟨⟨rfl, rfl⟩, Nat.le_of_ble_eq_true rfl, Nat.le_of_ble_eq_true rfl⟩ hP hD hS hl.1 rfl rfl ⟨Nat.zero_le _, Nat.zero_le _⟩ (Nat.le_of_ble_eq_true rfl) dX0_canPay_4 (fun H locs hP hD hS => ?_)
  refine lv_iconst (v := 1) hx hb dX0_canPay_7 (by decide) ?_
  refine bc_ne (tgt := 45) hx hb hf dX0_canPay_8 (by decide) (fun hf => ?_) (fun hf => ?_)
  · refine lv_iconst (v := 0) hx hb dX0_canPay_45 (by decide) ?_
    cases hf
    exact rZ X rfl hP hD hS dX0_canPay_46
  · refine lv_aload_n hx hb dX0_canPay_11 rfl (lv_at hl 1 rfl) ?_
    refine lv_iload_n hx hb dX0_canPay_12 rfl (lv_at hl 3 rfl) ?_
    refine lv_bipush (v := 6) hx hb dX0_canPay_13 (by decide) ?_
    obtain ⟨r3, k4, hf⟩ := bd1s hf
    refine xSi (rest := []) X hF (met_X_atR k4) gs_X0_X0_at dy_X0_at ⟨⟨rfl, rfl⟩, Nat.le_of_ble_eq_true rfl, Nat.le_of_ble_eq_true rfl⟩ hP hD hS hl.1 rfl rfl ⟨Nat.zero_le _, Nat.zero_le _⟩ (Nat.le_of_ble_eq_true rfl) dX0_canPay_15 (fun H locs hP hD hS => ?_)
    refine lv_iconst (v := 3) hx hb dX0_canPay_18 (by decide) ?_
    refine bc_eq (tgt := 45) hx hb hf dX0_canPay_19 (by decide) (fun hf => ?_) (fun hf => ?_)
    · refine lv_iconst (v := 0) hx hb dX0_canPay_45 (by decide) ?_
      cases hf
      exact rZ X rfl hP hD hS dX0_canPay_46
    · refine lv_aload_n hx hb dX0_canPay_22 rfl (lv_at hl 1 rfl) ?_
      refine lv_iload_n hx hb dX0_canPay_23 rfl (lv_at hl 3 rfl) ?_
      refine lv_iconst (v := 1) hx hb dX0_canPay_24 (by decide) ?_
      obtain ⟨r5, k6, hf⟩ := bd1s hf
      refine xSi (rest := []) X hF (met_X_atR k6) gs_X0_X0_at dy_X0_at ⟨⟨rfl, rfl⟩, Nat.le_of_ble_eq_true rfl, Nat.le_of_ble_eq_true rfl⟩ hP hD hS hl.1 rfl rfl ⟨Nat.zero_le _, Nat.zero_le _⟩ (Nat.le_of_ble_eq_true rfl) dX0_canPay_25 (fun H locs hP hD hS => ?_)
      refine lv_aload_n hx hb dX0_canPay_28 rfl (lv_at hl 0 rfl) ?_
      refine lv_aload_n hx hb dX0_canPay_29 rfl (lv_at hl 0 rfl) ?_
      obtain ⟨r7, k8, hf⟩ := bd1s hf
      refine xVr (rest := [.ref h, .int r5]) X hF (met_X_rules hzN k8) gw_X0_X0_rules dy_X0_rules ⟨⟨rfl, rfl⟩, Nat.le_of_ble_eq_true rfl, Nat.le_of_ble_eq_true rfl⟩ hP hD hS hl.1 rcX rfl rfl ⟨Nat.zero_le _, Nat.zero_le _⟩ (Nat.le_of_ble_eq_true rfl) dX0_canPay_30 (fun H locs hP hD hS => ?_)
      refine lv_aload_n hx hb dX0_canPay_33 rfl (lv_at hl 1 rfl) ?_
      refine lv_iload_n hx hb dX0_canPay_34 rfl (lv_at hl 2 rfl) ?_
      obtain ⟨r9, c10, k11, hf⟩ := bd2s hf
      refine xVi (rest := [.int r5]) X hF (met_X_priceByR hT k11) gw_X0_X0_priceBy dy_X0_priceBy ⟨⟨rfl, rfl⟩, Nat.le_of_ble_eq_true rfl, Nat.le_of_ble_eq_true rfl⟩ hP hD hS hl.1 rcX rfl rfl ⟨Nat.zero_le _, Nat.zero_le _⟩ (Nat.le_of_ble_eq_true rfl) dX0_canPay_35 (fun H locs hP hD hS => ?_)
      refine bc_lt (tgt := 45) hx hb hf dX0_canPay_38 (by decide) (fun hf => ?_) (fun hf => ?_)
      · refine lv_iconst (v := 0) hx hb dX0_canPay_45 (by decide) ?_
        cases hf
        exact rZ X rfl hP hD hS dX0_canPay_46
      · refine lv_iconst (v := 1) hx hb dX0_canPay_41 (by decide) ?_
        refine lv_goto (tgt := 46) hx hb dX0_canPay_42 (by decide) ?_
        cases hf
        exact rZ X rfl hP hD hS dX0_canPay_46
theorem gw_X0_X0_canPay : GoodIn lw_all (wsV RX0 243 RX0 yX0_canPay (ws_ yX0_canPay cX0_canPay 4 (some .boolean))) := lw_V q1138 q1140 qs45 q145 q1141
theorem dy_X0_canPay : Dy yX0_canPay RX0 3 := by decide +kernel
set_option maxHeartbeats 4000000 in
theorem met_X_canPardon {l : Launch} {g : gG} {h hn hi : Nat} {ad : Nat → Nat} {ra : Nat → Nat → Nat} {z : Nat → Nat} {sTaped : Int32} {sFault : Int32} {sFaultA : Int32} {sWays : Int32} {sMay : Int32} {sMust : Int32} {cTape : Nat → Int32} {cNames : Nat → Int32} {cHead : Nat → Int32} {cSure : Nat → Nat → Int32} {cN : Nat → Int32} {cRow : Nat → Int32} {cTried : Nat → Int32} {cFor : Nat → Int32} {cRoad : Nat → Int32} {cFear : Nat → Int32} {cCall : Nat → Int32} {cUnl : Nat → Int32} {cPaid : Nat → Nat → Int32} {cStep : Nat → Nat → Int32} {cGain : Nat → Nat → Int32} {cText : Nat → Option Nat} {iN : Nat → Int32} {iRow : Nat → Int32} {iFor : Nat → Int32} {iRoad : Nat → Int32} {iFear : Nat → Int32} {iCall : Nat → Int32} {iUnl : Nat → Int32} {iPaid : Nat → Nat → Int32} {iStep : Nat → Nat → Int32} {iGain : Nat → Nat → Int32} {iText : Nat → Option Nat} {tp : va_W} {E : Nat → Option (Nat → Option ((Nat → Int32) → Int64))} {zN : Nat} {x1 : Int32} {x2 : Int32} {r : Int32} {ncNames : Nat → Int32} {φ : Nat} (hzN : zN = z 0) (hT : TxOk g z tp E) (hf : X_canPardon φ cNames cN cRow cFor cFear cText E zN x1 x2 = some (r, ncNames)) : CX l yX0_canPardon (ws_ yX0_canPardon cX0_canPardon 3 (some .boolean)) ({ frames := 245, cells := 0, slots := 0, locals := 5270 } : Room) g z [.ref h, .int x1, .int x2] (xW g h hn hi ad ra sTaped sFault sFaultA sWays sMay sMust cTape cNames cHead cSure cN cRow cTried cFor cRoad cFear cCall cUnl cPaid cStep cGain cText iN iRow iFor iRoad iFear iCall iUnl iPaid iStep iGain iText tp) (some (.int r)) (xW g h hn hi ad ra sTaped sFault sFaultA sWays sMay sMust cTape ncNames cHead cSure cN cRow cTried cFor cRoad cFear cCall cUnl cPaid cStep cGain cText iN iRow iFor iRoad iFear iCall iUnl iPaid iStep iGain iText tp) 0 0 := by
  refine CX.of RX0 rfl plain_X0 (Nat.le_of_ble_eq_true rfl) (fun p e s m below meth c A ls X hF hP hD hS hl => ?_)
  have hx := X.1
  have hb := X.2.1
  have hown := X.2.2.2.2.2.1
  have hts := X.2.2.2.2.2.2.1
  have hl : lv_has ls 3 [(0, .ref h), (1, .int x1), (2, .int x2)] := hl
  unfold X_canPardon at hf
  refine lv_aload_n hx hb dX0_canPardon_0 rfl (lv_at hl 0 rfl) ?_
  refine lv_iload_n hx hb dX0_canPardon_1 rfl (lv_at hl 1 rfl) ?_
  obtain ⟨r1, k2, hf⟩ := bd1s hf
  refine xVi (rest := []) X hF (met_X_isPerson k2) gw_X0_X0_isPerson dy_X0_isPerson ⟨⟨rfl, rfl⟩, Nat.le_of_ble_eq_true rfl, Nat.le_of_ble_eq_true rfl⟩ hP hD hS hl.1 rcX rfl rfl ⟨Nat.zero_le _, Nat.zero_le _⟩ (Nat.le_of_ble_eq_true rfl) dX0_canPardon_2 (fun H locs hP hD hS => ?_)
  refine bq_eq (tgt := 36) hx hb hf dX0_canPardon_5 (by decide) (fun hf => ?_) (fun hf => ?_)
  · refine lv_iconst (v := 0) hx hb dX0_canPardon_36 (by decide) ?_
    cases hf
    exact rZ X rfl hP hD hS dX0_canPardon_37
  · refine lv_aload_n hx hb dX0_canPardon_8 rfl (lv_at hl 0 rfl) ?_
    refine lv_iload_n hx hb dX0_canPardon_9 rfl (lv_at hl 2 rfl) ?_
    obtain ⟨r3, k4, hf⟩ := bd1s hf
    refine xVi (rest := []) X hF (met_X_isPerson k4) gw_X0_X0_isPerson dy_X0_isPerson ⟨⟨rfl, rfl⟩, Nat.le_of_ble_eq_true rfl, Nat.le_of_ble_eq_true rfl⟩ hP hD hS hl.1 rcX rfl rfl ⟨Nat.zero_le _, Nat.zero_le _⟩ (Nat.le_of_ble_eq_true rfl) dX0_canPardon_10 (fun H locs hP hD hS => ?_)
    refine bq_eq (tgt := 36) hx hb hf dX0_canPardon_13 (by decide) (fun hf => ?_) (fun hf => ?_)
    · refine lv_iconst (v := 0) hx hb dX0_canPardon_36 (by decide) ?_
      cases hf
      exact rZ X rfl hP hD hS dX0_canPardon_37
    · refine lv_aload_n hx hb dX0_canPardon_16 rfl (lv_at hl 0 rfl) ?_
      refine lv_aload_n hx hb dX0_canPardon_17 rfl (lv_at hl 0 rfl) ?_
      refine gX_X0_this_now X hP dX0_canPardon_18 ?_
      refine gX_X0_now_row X hF hP dX0_canPardon_21 ?_
      refine lv_iload_n hx hb dX0_canPardon_24 rfl (lv_at hl 1 rfl) ?_
      refine lv_iload_n hx hb dX0_canPardon_25 rfl (lv_at hl 2 rfl) ?_
      obtain ⟨r5, c6, k7, hf⟩ := bd2s hf
      refine xVi (rest := []) X hF (met_X_canPayR hzN hT k7) gw_X0_X0_canPay dy_X0_canPay ⟨⟨rfl, rfl⟩, Nat.le_of_ble_eq_true rfl, Nat.le_of_ble_eq_true rfl⟩ hP hD hS hl.1 rcX rfl rfl ⟨Nat.zero_le _, Nat.zero_le _⟩ (Nat.le_of_ble_eq_true rfl) dX0_canPardon_26 (fun H locs hP hD hS => ?_)
      refine bq_eq (tgt := 36) hx hb hf dX0_canPardon_29 (by decide) (fun hf => ?_) (fun hf => ?_)
      · refine lv_iconst (v := 0) hx hb dX0_canPardon_36 (by decide) ?_
        cases hf
        exact rZ X rfl hP hD hS dX0_canPardon_37
      · refine lv_iconst (v := 1) hx hb dX0_canPardon_32 (by decide) ?_
        refine lv_goto (tgt := 37) hx hb dX0_canPardon_33 (by decide) ?_
        cases hf
        exact rZ X rfl hP hD hS dX0_canPardon_37
set_option maxHeartbeats 4000000 in
theorem met_X_buys {l : Launch} {g : gG} {h hn hi : Nat} {ad : Nat → Nat} {ra : Nat → Nat → Nat} {z : Nat → Nat} {sTaped : Int32} {sFault : Int32} {sFaultA : Int32} {sWays : Int32} {sMay : Int32} {sMust : Int32} {cTape : Nat → Int32} {cNames : Nat → Int32} {cHead : Nat → Int32} {cSure : Nat → Nat → Int32} {cN : Nat → Int32} {cRow : Nat → Int32} {cTried : Nat → Int32} {cFor : Nat → Int32} {cRoad : Nat → Int32} {cFear : Nat → Int32} {cCall : Nat → Int32} {cUnl : Nat → Int32} {cPaid : Nat → Nat → Int32} {cStep : Nat → Nat → Int32} {cGain : Nat → Nat → Int32} {cText : Nat → Option Nat} {iN : Nat → Int32} {iRow : Nat → Int32} {iFor : Nat → Int32} {iRoad : Nat → Int32} {iFear : Nat → Int32} {iCall : Nat → Int32} {iUnl : Nat → Int32} {iPaid : Nat → Nat → Int32} {iStep : Nat → Nat → Int32} {iGain : Nat → Nat → Int32} {iText : Nat → Option Nat} {tp : va_W} {E : Nat → Option (Nat → Option ((Nat → Int32) → Int64))} {zN : Nat} {x1 : Int32} {x2 : Int32} {r : Int32} {ncNames : Nat → Int32} {ncRow : Nat → Int32} {φ : Nat} (hzN : zN = z 0) (hT : TxOk g z tp E) (hf : X_buys φ cNames cN cRow cFor cFear cText E zN x1 x2 = some (r, ncNames, ncRow)) : CX l yX0_buys (ws_ yX0_buys cX0_buys 5 (some .int)) ({ frames := 244, cells := 0, slots := 0, locals := 5247 } : Room) g z [.ref h, .int x1, .int x2] (xW g h hn hi ad ra sTaped sFault sFaultA sWays sMay sMust cTape cNames cHead cSure cN cRow cTried cFor cRoad cFear cCall cUnl cPaid cStep cGain cText iN iRow iFor iRoad iFear iCall iUnl iPaid iStep iGain iText tp) (some (.int r)) (xW g h hn hi ad ra sTaped sFault sFaultA sWays sMay sMust cTape ncNames cHead cSure cN ncRow cTried cFor cRoad cFear cCall cUnl cPaid cStep cGain cText iN iRow iFor iRoad iFear iCall iUnl iPaid iStep iGain iText tp) 0 0 := by
  refine CX.of RX0 rfl plain_X0 (Nat.le_of_ble_eq_true rfl) (fun p e s m below meth c A ls X hF hP hD hS hl => ?_)
  have hx := X.1
  have hb := X.2.1
  have hown := X.2.2.2.2.2.1
  have hts := X.2.2.2.2.2.2.1
  have hl : lv_has ls 5 [(0, .ref h), (1, .int x1), (2, .int x2)] := hl
  unfold X_buys at hf
  refine lv_aload_n hx hb dX0_buys_0 rfl (lv_at hl 0 rfl) ?_
  refine gX_X0_this_now X hP dX0_buys_1 ?_
  refine gX_X0_now_row X hF hP dX0_buys_4 ?_
  refine lv_astore_n (lv' := [(3, .ref (ad 6)), (0, .ref h), (1, .int x1), (2, .int x2)]) hx hb dX0_buys_7 rfl hl (by decide) rfl (fun ls hl => ?_)
  refine lv_aload_n hx hb dX0_buys_8 rfl (lv_at hl 1 rfl) ?_
  refine lv_aload_n hx hb dX0_buys_9 rfl (lv_at hl 1 rfl) ?_
  obtain ⟨r1, k2, hf⟩ := bd1s hf
  refine xVr (rest := [.ref h]) X hF (met_X_rules hzN k2) gw_X0_X0_rules dy_X0_rules ⟨⟨rfl, rfl⟩, Nat.le_of_ble_eq_true rfl, Nat.le_of_ble_eq_true rfl⟩ hP hD hS hl.1 rcX rfl rfl ⟨Nat.zero_le _, Nat.zero_le _⟩ (Nat.le_of_ble_eq_true rfl) dX0_buys_10 (fun H locs hP hD hS => ?_)
  refine lv_aload_n hx hb dX0_buys_13 rfl (lv_at hl 0 rfl) ?_
  refine lv_iload_n hx hb dX0_buys_14 rfl (lv_at hl 2 rfl) ?_
  obtain ⟨r3, c4, k5, hf⟩ := bd2s hf
  refine xVi (rest := []) X hF (met_X_priceByR hT k5) gw_X0_X0_priceBy dy_X0_priceBy ⟨⟨rfl, rfl⟩, Nat.le_of_ble_eq_true rfl, Nat.le_of_ble_eq_true rfl⟩ hP hD hS hl.1 rcX rfl rfl ⟨Nat.zero_le _, Nat.zero_le _⟩ (Nat.le_of_ble_eq_true rfl) dX0_buys_15 (fun H locs hP hD hS => ?_)
  refine lv_istore (lv' := [(4, .int r3), (3, .ref (ad 6)), (0, .ref h), (1, .int x1), (2, .int x2)]) hx hb dX0_buys_18 hl (by decide) rfl (fun ls hl => ?_)
  refine lv_aload_n hx hb dX0_buys_20 rfl (lv_at hl 1 rfl) ?_
  refine lv_iload_n hx hb dX0_buys_21 rfl (lv_at hl 4 rfl) ?_
  refine lv_iconst (v := 1) hx hb dX0_buys_22 (by decide) ?_
  refine lv_aload_n hx hb dX0_buys_23 rfl (lv_at hl 1 rfl) ?_
  refine lv_iload_n hx hb dX0_buys_24 rfl (lv_at hl 4 rfl) ?_
  refine lv_iconst (v := 1) hx hb dX0_buys_25 (by decide) ?_
  obtain ⟨r6, k7, hf⟩ := bd1s hf
  refine xSi (rest := [.int 1, .int x2, .ref (ad 6)]) X hF (met_X_atR k7) gs_X0_X0_at dy_X0_at ⟨⟨rfl, rfl⟩, Nat.le_of_ble_eq_true rfl, Nat.le_of_ble_eq_true rfl⟩ hP hD hS hl.1 rfl rfl ⟨Nat.zero_le _, Nat.zero_le _⟩ (Nat.le_of_ble_eq_true rfl) dX0_buys_26 (fun H locs hP hD hS => ?_)
  refine lv_iload hx hb dX0_buys_29 (lv_at hl 0 rfl) ?_
  refine lv_isub hx hb dX0_buys_31 ?_
  obtain ⟨c8, k9, hf⟩ := bd1s hf
  refine xSv (rest := []) X hF (met_X_setsR k9) gs_X0_X0_sets dy_X0_sets ⟨⟨rfl, rfl⟩, Nat.le_of_ble_eq_true rfl, Nat.le_of_ble_eq_true rfl⟩ hP hD hS hl.1 rfl rfl ⟨Nat.zero_le _, Nat.zero_le _⟩ (Nat.le_of_ble_eq_true rfl) dX0_buys_32 (fun H locs hP hD hS => ?_)
  refine lv_aload_n hx hb dX0_buys_35 rfl (lv_at hl 1 rfl) ?_
  refine lv_iload_n hx hb dX0_buys_36 rfl (lv_at hl 3 rfl) ?_
  obtain ⟨c10, k11, hf⟩ := bd1s hf
  refine xSv (rest := []) X hF (met_X_freesR k11) gs_X0_X0_frees dy_X0_frees ⟨⟨rfl, rfl⟩, Nat.le_of_ble_eq_true rfl, Nat.le_of_ble_eq_true rfl⟩ hP hD hS hl.1 rfl rfl ⟨Nat.zero_le _, Nat.zero_le _⟩ (Nat.le_of_ble_eq_true rfl) dX0_buys_37 (fun H locs hP hD hS => ?_)
  refine lv_aload_n hx hb dX0_buys_40 rfl (lv_at hl 1 rfl) ?_
  refine lv_iload_n hx hb dX0_buys_41 rfl (lv_at hl 3 rfl) ?_
  refine lv_bipush (v := 6) hx hb dX0_buys_42 (by decide) ?_
  obtain ⟨c12, k13, hf⟩ := bd1s hf
  refine xSv (rest := []) X hF (met_X_writesR k13) gs_X0_X0_writes dy_X0_writes ⟨⟨rfl, rfl⟩, Nat.le_of_ble_eq_true rfl, Nat.le_of_ble_eq_true rfl⟩ hP hD hS hl.1 rfl rfl ⟨Nat.zero_le _, Nat.zero_le _⟩ (Nat.le_of_ble_eq_true rfl) dX0_buys_44 (fun H locs hP hD hS => ?_)
  refine lv_iload hx hb dX0_buys_47 (lv_at hl 0 rfl) ?_
  cases hf
  exact rI X hP hD hS dX0_buys_49
theorem gw_X0_X0_canPardon : GoodIn lw_all (wsV RX0 247 RX0 yX0_canPardon (ws_ yX0_canPardon cX0_canPardon 3 (some .boolean))) := lw_V q1134 q1136 qs44 q145 q1137
theorem dy_X0_canPardon : Dy yX0_canPardon RX0 2 := by decide +kernel
theorem gw_X0_X0_buys : GoodIn lw_all (wsV RX0 250 RX0 yX0_buys (ws_ yX0_buys cX0_buys 5 (some .int))) := lw_V q1146 q1148 qs47 q145 q1149
theorem dy_X0_buys : Dy yX0_buys RX0 2 := by decide +kernel
set_option maxHeartbeats 4000000 in
theorem met_X_pardon {l : Launch} {g : gG} {h hn hi : Nat} {ad : Nat → Nat} {ra : Nat → Nat → Nat} {z : Nat → Nat} {sTaped : Int32} {sFault : Int32} {sFaultA : Int32} {sWays : Int32} {sMay : Int32} {sMust : Int32} {cTape : Nat → Int32} {cNames : Nat → Int32} {cHead : Nat → Int32} {cSure : Nat → Nat → Int32} {cN : Nat → Int32} {cRow : Nat → Int32} {cTried : Nat → Int32} {cFor : Nat → Int32} {cRoad : Nat → Int32} {cFear : Nat → Int32} {cCall : Nat → Int32} {cUnl : Nat → Int32} {cPaid : Nat → Nat → Int32} {cStep : Nat → Nat → Int32} {cGain : Nat → Nat → Int32} {cText : Nat → Option Nat} {iN : Nat → Int32} {iRow : Nat → Int32} {iFor : Nat → Int32} {iRoad : Nat → Int32} {iFear : Nat → Int32} {iCall : Nat → Int32} {iUnl : Nat → Int32} {iPaid : Nat → Nat → Int32} {iStep : Nat → Nat → Int32} {iGain : Nat → Nat → Int32} {iText : Nat → Option Nat} {tp : va_W} {E : Nat → Option (Nat → Option ((Nat → Int32) → Int64))} {zN : Nat} {x1 : Int32} {x2 : Int32} {r : Int32} {ncNames : Nat → Int32} {ncN : Nat → Int32} {ncRow : Nat → Int32} {ncStep : Nat → Nat → Int32} {φ : Nat} (hzN : zN = z 0) (hT : TxOk g z tp E) (hf : X_pardon φ cNames cN cRow cFor cFear cStep cText E zN x1 x2 = some (r, ncNames, ncN, ncRow, ncStep)) : CX l yX0_pardon (ws_ yX0_pardon cX0_pardon 3 (some .int)) ({ frames := 246, cells := 0, slots := 0, locals := 5292 } : Room) g z [.ref h, .int x1, .int x2] (xW g h hn hi ad ra sTaped sFault sFaultA sWays sMay sMust cTape cNames cHead cSure cN cRow cTried cFor cRoad cFear cCall cUnl cPaid cStep cGain cText iN iRow iFor iRoad iFear iCall iUnl iPaid iStep iGain iText tp) (some (.int r)) (xW g h hn hi ad ra sTaped sFault sFaultA sWays sMay sMust cTape ncNames cHead cSure ncN ncRow cTried cFor cRoad cFear cCall cUnl cPaid ncStep cGain cText iN iRow iFor iRoad iFear iCall iUnl iPaid iStep iGain iText tp) 0 0 := by
  refine CX.of RX0 rfl plain_X0 (Nat.le_of_ble_eq_true rfl) (fun p e s m below meth c A ls X hF hP hD hS hl => ?_)
  have hx := X.1
  have hb := X.2.1
  have hown := X.2.2.2.2.2.1
  have hts := X.2.2.2.2.2.2.1
  have hl : lv_has ls 3 [(0, .ref h), (1, .int x1), (2, .int x2)] := hl
  unfold X_pardon at hf
  refine lv_aload_n hx hb dX0_pardon_0 rfl (lv_at hl 0 rfl) ?_
  refine lv_iload_n hx hb dX0_pardon_1 rfl (lv_at hl 1 rfl) ?_
  refine lv_iload_n hx hb dX0_pardon_2 rfl (lv_at hl 2 rfl) ?_
  obtain ⟨r1, c2, k3, hf⟩ := bd2s hf
  refine xVi (rest := []) X hF (met_X_canPardon hzN hT k3) gw_X0_X0_canPardon dy_X0_canPardon ⟨⟨rfl, rfl⟩, Nat.le_of_ble_eq_true rfl, Nat.le_of_ble_eq_true rfl⟩ hP hD hS hl.1 rcX rfl rfl ⟨Nat.zero_le _, Nat.zero_le _⟩ (Nat.le_of_ble_eq_true rfl) dX0_pardon_3 (fun H locs hP hD hS => ?_)
  refine bq_ne (tgt := 11) hx hb hf dX0_pardon_6 (by decide) (fun hf => ?_) (fun hf => ?_)
  · refine lv_aload_n hx hb dX0_pardon_11 rfl (lv_at hl 0 rfl) ?_
    refine gX_X0_this_now X hP dX0_pardon_12 ?_
    obtain ⟨c4, c5, k6, hf⟩ := bd2s hf
    refine xVv (rest := []) X hF (met_S_keeps k6) gw_X0_X1_keeps dy_X1_keeps ⟨⟨rfl, rfl⟩, Nat.le_of_ble_eq_true rfl, Nat.le_of_ble_eq_true rfl⟩ hP hD hS hl.1 rcN rfl rfl ⟨Nat.zero_le _, Nat.zero_le _⟩ (Nat.le_of_ble_eq_true rfl) dX0_pardon_15 (fun H locs hP hD hS => ?_)
    refine lv_aload_n hx hb dX0_pardon_18 rfl (lv_at hl 0 rfl) ?_
    refine lv_iload_n hx hb dX0_pardon_19 rfl (lv_at hl 1 rfl) ?_
    refine lv_iload_n hx hb dX0_pardon_20 rfl (lv_at hl 2 rfl) ?_
    obtain ⟨r7, c8, c9, k10, hf⟩ := bd3s hf
    refine xVi (rest := []) X hF (met_X_buys hzN hT k10) gw_X0_X0_buys dy_X0_buys ⟨⟨rfl, rfl⟩, Nat.le_of_ble_eq_true rfl, Nat.le_of_ble_eq_true rfl⟩ hP hD hS hl.1 rcX rfl rfl ⟨Nat.zero_le _, Nat.zero_le _⟩ (Nat.le_of_ble_eq_true rfl) dX0_pardon_21 (fun H locs hP hD hS => ?_)
    cases hf
    exact rI X hP hD hS dX0_pardon_24
  · refine lv_iconst (v := (-1)) hx hb dX0_pardon_9 (by decide) ?_
    cases hf
    exact rI X hP hD hS dX0_pardon_10
theorem gw_X0_X0_month : GoodIn lw_all (wsV RX0 253 RX0 yX0_month (ws_ yX0_month cX0_month 4 (some .int))) := lw_V q1181 q893 q894 q145 q895
theorem dy_X0_month : Dy yX0_month RX0 1 := by decide +kernel
set_option maxHeartbeats 4000000 in
theorem met_X_passesAll {l : Launch} {g : gG} {h hn hi : Nat} {ad : Nat → Nat} {ra : Nat → Nat → Nat} {z : Nat → Nat} {sTaped : Int32} {sFault : Int32} {sFaultA : Int32} {sWays : Int32} {sMay : Int32} {sMust : Int32} {cTape : Nat → Int32} {cNames : Nat → Int32} {cHead : Nat → Int32} {cSure : Nat → Nat → Int32} {cN : Nat → Int32} {cRow : Nat → Int32} {cTried : Nat → Int32} {cFor : Nat → Int32} {cRoad : Nat → Int32} {cFear : Nat → Int32} {cCall : Nat → Int32} {cUnl : Nat → Int32} {cPaid : Nat → Nat → Int32} {cStep : Nat → Nat → Int32} {cGain : Nat → Nat → Int32} {cText : Nat → Option Nat} {iN : Nat → Int32} {iRow : Nat → Int32} {iFor : Nat → Int32} {iRoad : Nat → Int32} {iFear : Nat → Int32} {iCall : Nat → Int32} {iUnl : Nat → Int32} {iPaid : Nat → Nat → Int32} {iStep : Nat → Nat → Int32} {iGain : Nat → Nat → Int32} {iText : Nat → Option Nat} {tp : va_W} {E : Nat → Option (Nat → Option ((Nat → Int32) → Int64))} {zN : Nat} {x1 : Int32} {r : Int32} {ncNames : Nat → Int32} {ncN : Nat → Int32} {ncRow : Nat → Int32} {ncStep : Nat → Nat → Int32} {φ : Nat} (hzN : zN = z 0) (hT : TxOk g z tp E) (hf : X_passesAll φ cNames cN cRow cFor cFear cStep cText E zN x1 = some (r, ncNames, ncN, ncRow, ncStep)) : CX l yX0_passesAll (ws_ yX0_passesAll cX0_passesAll 3 (some .boolean)) ({ frames := 248, cells := 0, slots := 0, locals := 5337 } : Room) g z [.ref h, .int x1] (xW g h hn hi ad ra sTaped sFault sFaultA sWays sMay sMust cTape cNames cHead cSure cN cRow cTried cFor cRoad cFear cCall cUnl cPaid cStep cGain cText iN iRow iFor iRoad iFear iCall iUnl iPaid iStep iGain iText tp) (some (.int r)) (xW g h hn hi ad ra sTaped sFault sFaultA sWays sMay sMust cTape ncNames cHead cSure ncN ncRow cTried cFor cRoad cFear cCall cUnl cPaid ncStep cGain cText iN iRow iFor iRoad iFear iCall iUnl iPaid iStep iGain iText tp) 0 0 := by
  refine CX.of RX0 rfl plain_X0 (Nat.le_of_ble_eq_true rfl) (fun p e s m below meth c A ls X hF hP hD hS hl => ?_)
  have hx := X.1
  have hb := X.2.1
  have hown := X.2.2.2.2.2.1
  have hts := X.2.2.2.2.2.2.1
  have hl : lv_has ls 3 [(0, .ref h), (1, .int x1)] := hl
  unfold X_passesAll at hf
  refine lv_iconst (v := 0) hx hb dX0_passesAll_0 (by decide) ?_
  refine lv_istore_n (lv' := [(2, .int 0), (0, .ref h), (1, .int x1)]) hx hb dX0_passesAll_1 rfl hl (by decide) rfl (fun ls hl => ?_)
  have hL8 : ∀ (n6 : Nat) (v1 : Int32) (c2 : Nat → Int32) (c3 : Nat → Int32) (c4 : Nat → Int32) (c5 : Nat → Nat → Int32), X_passesAll_L2 φ x1 cFor cFear cText E zN n6 v1 c2 c3 c4 c5 = some (r, ncNames, ncN, ncRow, ncStep) → ∀ (H : Heap) (locs : List Loc) (ls : Array Slot), va_P g.1 vwCl (xW g h hn hi ad ra sTaped sFault sFaultA sWays sMay sMust cTape c2 cHead cSure c3 c4 cTried cFor cRoad cFear cCall cUnl cPaid c5 cGain cText iN iRow iFor iRoad iFear iCall iUnl iPaid iStep iGain iText tp) H → va_D A (xW g h hn hi ad ra sTaped sFault sFaultA sWays sMay sMust cTape c2 cHead cSure c3 c4 cTried cFor cRoad cFear cCall cUnl cPaid c5 cGain cText iN iRow iFor iRoad iFear iCall iUnl iPaid iStep iGain iText tp) → va_S A s.heap H locs → lv_has ls 3 [(0, .ref h), (1, .int x1), (2, .int v1)] → W p l e ({ frames := 248, cells := 0, slots := 0, locals := 5337 } : Room) s m ([.ref h, .int x1] : List Value).toArray below meth c H locs 0 0 (MQ below (QQ g (some (.int r)) (xW g h hn hi ad ra sTaped sFault sFaultA sWays sMay sMust cTape ncNames cHead cSure ncN ncRow cTried cFor cRoad cFear cCall cUnl cPaid ncStep cGain cText iN iRow iFor iRoad iFear iCall iUnl iPaid iStep iGain iText tp) A) ([.ref h, .int x1] : List Value).toArray s 0 0 A) (F0 m 2 ls []) := by
    intro n6
    induction n6 with
    | zero =>
      intro v1 c2 c3 c4 c5 hf
      exact nn hf
    | succ n6 ih9 =>
      intro v1 c2 c3 c4 c5 hf H locs ls hP hD hS hl
      rw [X_passesAll_L2] at hf
      refine lv_iload_n hx hb dX0_passesAll_2 rfl (lv_at hl 2 rfl) ?_
      refine lv_iload_n hx hb dX0_passesAll_3 rfl (lv_at hl 1 rfl) ?_
      refine bc_ge (tgt := 24) hx hb hf dX0_passesAll_4 (by decide) (fun hf => ?_) (fun hf => ?_)
      · refine lv_iconst (v := 1) hx hb dX0_passesAll_24 (by decide) ?_
        cases hf
        exact rZ X rfl hP hD hS dX0_passesAll_25
      · refine lv_aload_n hx hb dX0_passesAll_7 rfl (lv_at hl 0 rfl) ?_
        refine lv_iconst (v := 1) hx hb dX0_passesAll_8 (by decide) ?_
        obtain ⟨r11, c12, c13, c14, c15, k16, hf⟩ := bd5s hf
        refine xVi (rest := []) X hF (met_X_month hzN hT k16) gw_X0_X0_month dy_X0_month ⟨⟨rfl, rfl⟩, Nat.le_of_ble_eq_true rfl, Nat.le_of_ble_eq_true rfl⟩ hP hD hS hl.1 rcX rfl rfl ⟨Nat.zero_le _, Nat.zero_le _⟩ (Nat.le_of_ble_eq_true rfl) dX0_passesAll_9 (fun H locs hP hD hS => ?_)
        refine lv_iconst (v := (-1)) hx hb dX0_passesAll_12 (by decide) ?_
        refine bc_ne (tgt := 18) hx hb hf dX0_passesAll_13 (by decide) (fun hf => ?_) (fun hf => ?_)
        · obtain ⟨v17, ev17, hf⟩ := lts hf
          refine lv_iinc (v := v17) (lv' := [(2, .int v17), (0, .ref h), (1, .int x1)]) hx hb dX0_passesAll_18 hl (k := 2) rfl (by rw [ev17]; rfl) (by decide) rfl (fun ls hl => ?_)
          refine lv_goto (tgt := 2) hx hb dX0_passesAll_21 (by decide) ?_
          exact ih9 _ _ _ _ _ hf _ _ _ hP hD hS (lv_sub hl [1, 2, 0] rfl)
        · refine lv_iconst (v := 0) hx hb dX0_passesAll_16 (by decide) ?_
          cases hf
          exact rZ X rfl hP hD hS dX0_passesAll_17
  exact hL8 _ _ _ _ _ _ hf _ _ _ hP hD hS (lv_sub hl [1, 2, 0] rfl)
set_option maxHeartbeats 4000000 in
theorem met_X_happens {l : Launch} {g : gG} {h hn hi : Nat} {ad : Nat → Nat} {ra : Nat → Nat → Nat} {z : Nat → Nat} {sTaped : Int32} {sFault : Int32} {sFaultA : Int32} {sWays : Int32} {sMay : Int32} {sMust : Int32} {cTape : Nat → Int32} {cNames : Nat → Int32} {cHead : Nat → Int32} {cSure : Nat → Nat → Int32} {cN : Nat → Int32} {cRow : Nat → Int32} {cTried : Nat → Int32} {cFor : Nat → Int32} {cRoad : Nat → Int32} {cFear : Nat → Int32} {cCall : Nat → Int32} {cUnl : Nat → Int32} {cPaid : Nat → Nat → Int32} {cStep : Nat → Nat → Int32} {cGain : Nat → Nat → Int32} {cText : Nat → Option Nat} {iN : Nat → Int32} {iRow : Nat → Int32} {iFor : Nat → Int32} {iRoad : Nat → Int32} {iFear : Nat → Int32} {iCall : Nat → Int32} {iUnl : Nat → Int32} {iPaid : Nat → Nat → Int32} {iStep : Nat → Nat → Int32} {iGain : Nat → Nat → Int32} {iText : Nat → Option Nat} {tp : va_W} {E : Nat → Option (Nat → Option ((Nat → Int32) → Int64))} {zN : Nat} {x1 : Int32} {ncNames : Nat → Int32} {ncRow : Nat → Int32} {φ : Nat} (hzN : zN = z 0) (hT : TxOk g z tp E) (hf : X_happens φ cNames cN cRow cFor cRoad cFear cText E zN x1 = some (ncNames, ncRow)) : CX l yX0_happens (ws_ yX0_happens cX0_happens 6 none) ({ frames := 247, cells := 0, slots := 0, locals := 5314 } : Room) g z [.ref h, .int x1] (xW g h hn hi ad ra sTaped sFault sFaultA sWays sMay sMust cTape cNames cHead cSure cN cRow cTried cFor cRoad cFear cCall cUnl cPaid cStep cGain cText iN iRow iFor iRoad iFear iCall iUnl iPaid iStep iGain iText tp) none (xW g h hn hi ad ra sTaped sFault sFaultA sWays sMay sMust cTape ncNames cHead cSure cN ncRow cTried cFor cRoad cFear cCall cUnl cPaid cStep cGain cText iN iRow iFor iRoad iFear iCall iUnl iPaid iStep iGain iText tp) 0 0 := by
  refine CX.of RX0 rfl plain_X0 (Nat.le_of_ble_eq_true rfl) (fun p e s m below meth c A ls X hF hP hD hS hl => ?_)
  have hx := X.1
  have hb := X.2.1
  have hown := X.2.2.2.2.2.1
  have hts := X.2.2.2.2.2.2.1
  have hl : lv_has ls 6 [(0, .ref h), (1, .int x1)] := hl
  unfold X_happens at hf
  refine lv_iload_n hx hb dX0_happens_0 rfl (lv_at hl 1 rfl) ?_
  refine lv_aload_n hx hb dX0_happens_1 rfl (lv_at hl 0 rfl) ?_
  refine gX_X0_this_now X hP dX0_happens_2 ?_
  refine gX_X0_now_n X hF hP dX0_happens_5 ?_
  refine lv_iconst (v := 1) hx hb dX0_happens_8 (by decide) ?_
  obtain ⟨v1, ev1, bv1, hf⟩ := rds hf
  refine lX_cN X hP ev1 bv1 dX0_happens_9 ?_
  obtain ⟨z2, hf⟩ := nzs hf
  refine lv_irem hx hb dX0_happens_10 z2 ?_
  obtain ⟨v3, ev3, hf⟩ := lts hf
  refine tpi ev3 ?_
  refine lv_istore_n (lv' := [(2, .int v3), (0, .ref h), (1, .int x1)]) hx hb dX0_happens_11 rfl hl (by decide) rfl (fun ls hl => ?_)
  refine lv_iload_n hx hb dX0_happens_12 rfl (lv_at hl 2 rfl) ?_
  refine lv_bipush (v := 7) hx hb dX0_happens_13 (by decide) ?_
  refine lv_idiv hx hb dX0_happens_15 (by decide) ?_
  refine lv_aload_n hx hb dX0_happens_16 rfl (lv_at hl 1 rfl) ?_
  refine gX_X0_this_now X hP dX0_happens_17 ?_
  refine gX_X0_now_n X hF hP dX0_happens_20 ?_
  refine lv_iconst (v := 0) hx hb dX0_happens_23 (by decide) ?_
  obtain ⟨v4, ev4, bv4, hf⟩ := rds hf
  refine lX_cN X hP ev4 bv4 dX0_happens_24 ?_
  obtain ⟨z5, hf⟩ := nzs hf
  refine lv_irem hx hb dX0_happens_25 z5 ?_
  obtain ⟨v6, ev6, hf⟩ := lts hf
  refine tpi ev6 ?_
  refine lv_istore_n (lv' := [(3, .int v6), (2, .int v3), (0, .ref h), (1, .int x1)]) hx hb dX0_happens_26 rfl hl (by decide) rfl (fun ls hl => ?_)
  refine lv_iload_n hx hb dX0_happens_27 rfl (lv_at hl 3 rfl) ?_
  refine lv_iconst (v := 5) hx hb dX0_happens_28 (by decide) ?_
  refine lv_idiv hx hb dX0_happens_29 (by decide) ?_
  refine lv_aload_n hx hb dX0_happens_30 rfl (lv_at hl 2 rfl) ?_
  refine gX_X0_this_now X hP dX0_happens_31 ?_
  refine gX_X0_now_n X hF hP dX0_happens_34 ?_
  refine lv_iconst (v := 1) hx hb dX0_happens_37 (by decide) ?_
  obtain ⟨v7, ev7, bv7, hf⟩ := rds hf
  refine lX_cN X hP ev7 bv7 dX0_happens_38 ?_
  obtain ⟨z8, hf⟩ := nzs hf
  refine lv_irem hx hb dX0_happens_39 z8 ?_
  obtain ⟨v9, ev9, hf⟩ := lts hf
  refine tpi ev9 ?_
  refine lv_istore (lv' := [(4, .int v9), (3, .int v6), (2, .int v3), (0, .ref h), (1, .int x1)]) hx hb dX0_happens_40 hl (by decide) rfl (fun ls hl => ?_)
  refine lv_iconst (v := 0) hx hb dX0_happens_42 (by decide) ?_
  refine lv_istore (lv' := [(5, .int 0), (4, .int v9), (3, .int v6), (2, .int v3), (0, .ref h), (1, .int x1)]) hx hb dX0_happens_43 hl (by decide) rfl (fun ls hl => ?_)
  refine lv_iload_n hx hb dX0_happens_45 rfl (lv_at hl 5 rfl) ?_
  refine lv_bipush (v := 7) hx hb dX0_happens_46 (by decide) ?_
  refine lv_irem hx hb dX0_happens_48 (by decide) ?_
  obtain ⟨v10, ev10, hf⟩ := lts hf
  refine tpi ev10 ?_
  refine swc hf (fun q hf => ?_) (fun q0 hf => ?_)
  · refine lv_tableOut (tgt := 203) hx hb dX0_happens_49 (Or.inl q) (by decide) ?_
    refine lv_aload_n hx hb dX0_happens_203 rfl (lv_at hl 4 rfl) ?_
    refine gX_X0_this_now X hP dX0_happens_204 ?_
    refine gX_X0_now_row X hF hP dX0_happens_207 ?_
    refine lv_iconst (v := 0) hx hb dX0_happens_210 (by decide) ?_
    obtain ⟨v11, ev11, bv11, hf⟩ := rds hf
    refine lX_cRow X hP ev11 bv11 dX0_happens_211 ?_
    refine lv_sipush (v := 9999) hx hb dX0_happens_212 (by decide) ?_
    refine bc_ge (tgt := 231) hx hb hf dX0_happens_215 (by decide) (fun hf => ?_) (fun hf => ?_)
    · cases hf
      exact rV X hP hD hS dX0_happens_231
    · refine lv_aload_n hx hb dX0_happens_218 rfl (lv_at hl 4 rfl) ?_
      refine lv_aload_n hx hb dX0_happens_219 rfl (lv_at hl 4 rfl) ?_
      refine gX_X0_this_now X hP dX0_happens_220 ?_
      refine gX_X0_now_row X hF hP dX0_happens_223 ?_
      obtain ⟨r12, c13, c14, k15, hf⟩ := bd3s hf
      refine xVi (rest := []) X hF (met_X_passesR hzN hT k15) gw_X0_X0_passes dy_X0_passes ⟨⟨rfl, rfl⟩, Nat.le_of_ble_eq_true rfl, Nat.le_of_ble_eq_true rfl⟩ hP hD hS hl.1 rcX rfl rfl ⟨Nat.zero_le _, Nat.zero_le _⟩ (Nat.le_of_ble_eq_true rfl) dX0_happens_226 (fun H locs hP hD hS => ?_)
      refine lv_istore (lv' := [(5, .int r12), (4, .int v9), (3, .int v6), (2, .int v3), (0, .ref h), (1, .int x1)]) hx hb dX0_happens_229 hl (by decide) rfl (fun ls hl => ?_)
      cases hf
      exact rV X hP hD hS dX0_happens_231
  refine swc hf (fun q hf => ?_) (fun q1 hf => ?_)
  · refine lv_tableOut (tgt := 203) hx hb dX0_happens_49 (Or.inr q) (by decide) ?_
    refine lv_aload_n hx hb dX0_happens_203 rfl (lv_at hl 4 rfl) ?_
    refine gX_X0_this_now X hP dX0_happens_204 ?_
    refine gX_X0_now_row X hF hP dX0_happens_207 ?_
    refine lv_iconst (v := 0) hx hb dX0_happens_210 (by decide) ?_
    obtain ⟨v16, ev16, bv16, hf⟩ := rds hf
    refine lX_cRow X hP ev16 bv16 dX0_happens_211 ?_
    refine lv_sipush (v := 9999) hx hb dX0_happens_212 (by decide) ?_
    refine bc_ge (tgt := 231) hx hb hf dX0_happens_215 (by decide) (fun hf => ?_) (fun hf => ?_)
    · cases hf
      exact rV X hP hD hS dX0_happens_231
    · refine lv_aload_n hx hb dX0_happens_218 rfl (lv_at hl 4 rfl) ?_
      refine lv_aload_n hx hb dX0_happens_219 rfl (lv_at hl 4 rfl) ?_
      refine gX_X0_this_now X hP dX0_happens_220 ?_
      refine gX_X0_now_row X hF hP dX0_happens_223 ?_
      obtain ⟨r17, c18, c19, k20, hf⟩ := bd3s hf
      refine xVi (rest := []) X hF (met_X_passesR hzN hT k20) gw_X0_X0_passes dy_X0_passes ⟨⟨rfl, rfl⟩, Nat.le_of_ble_eq_true rfl, Nat.le_of_ble_eq_true rfl⟩ hP hD hS hl.1 rcX rfl rfl ⟨Nat.zero_le _, Nat.zero_le _⟩ (Nat.le_of_ble_eq_true rfl) dX0_happens_226 (fun H locs hP hD hS => ?_)
      refine lv_istore (lv' := [(5, .int r17), (4, .int v9), (3, .int v6), (2, .int v3), (0, .ref h), (1, .int x1)]) hx hb dX0_happens_229 hl (by decide) rfl (fun ls hl => ?_)
      cases hf
      exact rV X hP hD hS dX0_happens_231
  refine swc hf (fun q hf => ?_) (fun q2 hf => ?_)
  · refine lv_tableIn (off := 39) (tgt := 88) hx hb dX0_happens_49 q0 q1 (by rw [q]; rfl) (by decide) ?_
    refine lv_aload_n hx hb dX0_happens_88 rfl (lv_at hl 4 rfl) ?_
    refine lv_iload_n hx hb dX0_happens_89 rfl (lv_at hl 3 rfl) ?_
    refine lv_iload_n hx hb dX0_happens_90 rfl (lv_at hl 2 rfl) ?_
    obtain ⟨r21, k22, hf⟩ := bd1s hf
    refine xVi (rest := []) X hF (met_X_canCall k22) gw_X0_X0_canCall dy_X0_canCall ⟨⟨rfl, rfl⟩, Nat.le_of_ble_eq_true rfl, Nat.le_of_ble_eq_true rfl⟩ hP hD hS hl.1 rcX rfl rfl ⟨Nat.zero_le _, Nat.zero_le _⟩ (Nat.le_of_ble_eq_true rfl) dX0_happens_91 (fun H locs hP hD hS => ?_)
    refine bq_eq (tgt := 231) hx hb hf dX0_happens_94 (by decide) (fun hf => ?_) (fun hf => ?_)
    · cases hf
      exact rV X hP hD hS dX0_happens_231
    · refine lv_aload_n hx hb dX0_happens_97 rfl (lv_at hl 4 rfl) ?_
      refine lv_iload_n hx hb dX0_happens_98 rfl (lv_at hl 3 rfl) ?_
      refine lv_iload_n hx hb dX0_happens_99 rfl (lv_at hl 2 rfl) ?_
      obtain ⟨r23, c24, k25, hf⟩ := bd2s hf
      refine xVi (rest := []) X hF (met_X_calls k25) gw_X0_X0_calls dy_X0_calls ⟨⟨rfl, rfl⟩, Nat.le_of_ble_eq_true rfl, Nat.le_of_ble_eq_true rfl⟩ hP hD hS hl.1 rcX rfl rfl ⟨Nat.zero_le _, Nat.zero_le _⟩ (Nat.le_of_ble_eq_true rfl) dX0_happens_100 (fun H locs hP hD hS => ?_)
      refine lv_istore (lv' := [(5, .int r23), (4, .int v9), (3, .int v6), (2, .int v3), (0, .ref h), (1, .int x1)]) hx hb dX0_happens_103 hl (by decide) rfl (fun ls hl => ?_)
      refine lv_goto (tgt := 231) hx hb dX0_happens_105 (by decide) ?_
      cases hf
      exact rV X hP hD hS dX0_happens_231
  refine swc hf (fun q hf => ?_) (fun q2 hf => ?_)
  · refine lv_tableIn (off := 39) (tgt := 88) hx hb dX0_happens_49 q0 q1 (by rw [q]; rfl) (by decide) ?_
    refine lv_aload_n hx hb dX0_happens_88 rfl (lv_at hl 4 rfl) ?_
    refine lv_iload_n hx hb dX0_happens_89 rfl (lv_at hl 3 rfl) ?_
    refine lv_iload_n hx hb dX0_happens_90 rfl (lv_at hl 2 rfl) ?_
    obtain ⟨r26, k27, hf⟩ := bd1s hf
    refine xVi (rest := []) X hF (met_X_canCall k27) gw_X0_X0_canCall dy_X0_canCall ⟨⟨rfl, rfl⟩, Nat.le_of_ble_eq_true rfl, Nat.le_of_ble_eq_true rfl⟩ hP hD hS hl.1 rcX rfl rfl ⟨Nat.zero_le _, Nat.zero_le _⟩ (Nat.le_of_ble_eq_true rfl) dX0_happens_91 (fun H locs hP hD hS => ?_)
    refine bq_eq (tgt := 231) hx hb hf dX0_happens_94 (by decide) (fun hf => ?_) (fun hf => ?_)
    · cases hf
      exact rV X hP hD hS dX0_happens_231
    · refine lv_aload_n hx hb dX0_happens_97 rfl (lv_at hl 4 rfl) ?_
      refine lv_iload_n hx hb dX0_happens_98 rfl (lv_at hl 3 rfl) ?_
      refine lv_iload_n hx hb dX0_happens_99 rfl (lv_at hl 2 rfl) ?_
      obtain ⟨r28, c29, k30, hf⟩ := bd2s hf
      refine xVi (rest := []) X hF (met_X_calls k30) gw_X0_X0_calls dy_X0_calls ⟨⟨rfl, rfl⟩, Nat.le_of_ble_eq_true rfl, Nat.le_of_ble_eq_true rfl⟩ hP hD hS hl.1 rcX rfl rfl ⟨Nat.zero_le _, Nat.zero_le _⟩ (Nat.le_of_ble_eq_true rfl) dX0_happens_100 (fun H locs hP hD hS => ?_)
      refine lv_istore (lv' := [(5, .int r28), (4, .int v9), (3, .int v6), (2, .int v3), (0, .ref h), (1, .int x1)]) hx hb dX0_happens_103 hl (by decide) rfl (fun ls hl => ?_)
      refine lv_goto (tgt := 231) hx hb dX0_happens_105 (by decide) ?_
      cases hf
      exact rV X hP hD hS dX0_happens_231
  refine swc hf (fun q hf => ?_) (fun q2 hf => ?_)
  · refine lv_tableIn (off := 59) (tgt := 108) hx hb dX0_happens_49 q0 q1 (by rw [q]; rfl) (by decide) ?_
    refine lv_aload_n hx hb dX0_happens_108 rfl (lv_at hl 4 rfl) ?_
    refine lv_iload_n hx hb dX0_happens_109 rfl (lv_at hl 3 rfl) ?_
    refine lv_iload_n hx hb dX0_happens_110 rfl (lv_at hl 2 rfl) ?_
    obtain ⟨r31, k32, hf⟩ := bd1s hf
    refine xVi (rest := []) X hF (met_X_canMove k32) gw_X0_X0_canMove dy_X0_canMove ⟨⟨rfl, rfl⟩, Nat.le_of_ble_eq_true rfl, Nat.le_of_ble_eq_true rfl⟩ hP hD hS hl.1 rcX rfl rfl ⟨Nat.zero_le _, Nat.zero_le _⟩ (Nat.le_of_ble_eq_true rfl) dX0_happens_111 (fun H locs hP hD hS => ?_)
    refine bq_eq (tgt := 231) hx hb hf dX0_happens_114 (by decide) (fun hf => ?_) (fun hf => ?_)
    · cases hf
      exact rV X hP hD hS dX0_happens_231
    · refine lv_aload_n hx hb dX0_happens_117 rfl (lv_at hl 4 rfl) ?_
      refine gX_X0_this_now X hP dX0_happens_118 ?_
      refine gX_X0_now_row X hF hP dX0_happens_121 ?_
      refine lv_iload_n hx hb dX0_happens_124 rfl (lv_at hl 3 rfl) ?_
      refine lv_iconst (v := 0) hx hb dX0_happens_125 (by decide) ?_
      refine lv_iload_n hx hb dX0_happens_126 rfl (lv_at hl 2 rfl) ?_
      obtain ⟨c33, k34, hf⟩ := bd1s hf
      refine xSv (rest := []) X hF (met_X_setsR k34) gs_X0_X0_sets dy_X0_sets ⟨⟨rfl, rfl⟩, Nat.le_of_ble_eq_true rfl, Nat.le_of_ble_eq_true rfl⟩ hP hD hS hl.1 rfl rfl ⟨Nat.zero_le _, Nat.zero_le _⟩ (Nat.le_of_ble_eq_true rfl) dX0_happens_127 (fun H locs hP hD hS => ?_)
      refine lv_goto (tgt := 231) hx hb dX0_happens_130 (by decide) ?_
      cases hf
      exact rV X hP hD hS dX0_happens_231
  refine swc hf (fun q hf => ?_) (fun q2 hf => ?_)
  · refine lv_tableIn (off := 84) (tgt := 133) hx hb dX0_happens_49 q0 q1 (by rw [q]; rfl) (by decide) ?_
    refine lv_aload_n hx hb dX0_happens_133 rfl (lv_at hl 4 rfl) ?_
    refine lv_iload_n hx hb dX0_happens_134 rfl (lv_at hl 3 rfl) ?_
    refine lv_iload hx hb dX0_happens_135 (lv_at hl 1 rfl) ?_
    obtain ⟨r35, k36, hf⟩ := bd1s hf
    refine xVi (rest := []) X hF (met_X_doMeet k36) gw_X0_X0_doMeet dy_X0_doMeet ⟨⟨rfl, rfl⟩, Nat.le_of_ble_eq_true rfl, Nat.le_of_ble_eq_true rfl⟩ hP hD hS hl.1 rcX rfl rfl ⟨Nat.zero_le _, Nat.zero_le _⟩ (Nat.le_of_ble_eq_true rfl) dX0_happens_137 (fun H locs hP hD hS => ?_)
    refine bq_eq (tgt := 231) hx hb hf dX0_happens_140 (by decide) (fun hf => ?_) (fun hf => ?_)
    · cases hf
      exact rV X hP hD hS dX0_happens_231
    · refine lv_aload_n hx hb dX0_happens_143 rfl (lv_at hl 4 rfl) ?_
      refine lv_iload_n hx hb dX0_happens_144 rfl (lv_at hl 3 rfl) ?_
      refine lv_iload hx hb dX0_happens_145 (lv_at hl 1 rfl) ?_
      obtain ⟨r37, c38, c39, k40, hf⟩ := bd3s hf
      refine xVi (rest := []) X hF (met_X_isFed hzN hT k40) gw_X0_X0_isFed dy_X0_isFed ⟨⟨rfl, rfl⟩, Nat.le_of_ble_eq_true rfl, Nat.le_of_ble_eq_true rfl⟩ hP hD hS hl.1 rcX rfl rfl ⟨Nat.zero_le _, Nat.zero_le _⟩ (Nat.le_of_ble_eq_true rfl) dX0_happens_147 (fun H locs hP hD hS => ?_)
      refine lv_istore (lv' := [(5, .int r37), (4, .int v9), (3, .int v6), (2, .int v3), (0, .ref h), (1, .int x1)]) hx hb dX0_happens_150 hl (by decide) rfl (fun ls hl => ?_)
      refine lv_goto (tgt := 231) hx hb dX0_happens_152 (by decide) ?_
      cases hf
      exact rV X hP hD hS dX0_happens_231
  refine swc hf (fun q hf => ?_) (fun q2 hf => ?_)
  · refine lv_tableIn (off := 106) (tgt := 155) hx hb dX0_happens_49 q0 q1 (by rw [q]; rfl) (by decide) ?_
    refine lv_iload_n hx hb dX0_happens_155 rfl (lv_at hl 5 rfl) ?_
    refine lv_iconst (v := 4) hx hb dX0_happens_156 (by decide) ?_
    refine lv_irem hx hb dX0_happens_157 (by decide) ?_
    refine bq_ne (tgt := 231) hx hb hf dX0_happens_158 (by decide) (fun hf => ?_) (fun hf => ?_)
    · cases hf
      exact rV X hP hD hS dX0_happens_231
    · refine lv_aload_n hx hb dX0_happens_161 rfl (lv_at hl 4 rfl) ?_
      refine lv_iload_n hx hb dX0_happens_162 rfl (lv_at hl 3 rfl) ?_
      refine lv_iload hx hb dX0_happens_163 (lv_at hl 1 rfl) ?_
      obtain ⟨r41, k42, hf⟩ := bd1s hf
      refine xVi (rest := []) X hF (met_X_doMeet k42) gw_X0_X0_doMeet dy_X0_doMeet ⟨⟨rfl, rfl⟩, Nat.le_of_ble_eq_true rfl, Nat.le_of_ble_eq_true rfl⟩ hP hD hS hl.1 rcX rfl rfl ⟨Nat.zero_le _, Nat.zero_le _⟩ (Nat.le_of_ble_eq_true rfl) dX0_happens_165 (fun H locs hP hD hS => ?_)
      refine bq_eq (tgt := 231) hx hb hf dX0_happens_168 (by decide) (fun hf => ?_) (fun hf => ?_)
      · cases hf
        exact rV X hP hD hS dX0_happens_231
      · refine lv_aload_n hx hb dX0_happens_171 rfl (lv_at hl 4 rfl) ?_
        refine lv_iload_n hx hb dX0_happens_172 rfl (lv_at hl 3 rfl) ?_
        refine lv_iload hx hb dX0_happens_173 (lv_at hl 1 rfl) ?_
        obtain ⟨c43, k44, hf⟩ := bd1s hf
        refine xVv (rest := []) X hF (met_X_isKilled k44) gw_X0_X0_isKilled dy_X0_isKilled ⟨⟨rfl, rfl⟩, Nat.le_of_ble_eq_true rfl, Nat.le_of_ble_eq_true rfl⟩ hP hD hS hl.1 rcX rfl rfl ⟨Nat.zero_le _, Nat.zero_le _⟩ (Nat.le_of_ble_eq_true rfl) dX0_happens_175 (fun H locs hP hD hS => ?_)
        refine lv_goto (tgt := 231) hx hb dX0_happens_178 (by decide) ?_
        cases hf
        exact rV X hP hD hS dX0_happens_231
  refine swc hf (fun q hf => ?_) (fun q2 hf => ?_)
  · refine lv_tableIn (off := 132) (tgt := 181) hx hb dX0_happens_49 q0 q1 (by rw [q]; rfl) (by decide) ?_
    refine lv_aload_n hx hb dX0_happens_181 rfl (lv_at hl 4 rfl) ?_
    refine lv_iload_n hx hb dX0_happens_182 rfl (lv_at hl 3 rfl) ?_
    refine lv_iload hx hb dX0_happens_183 (lv_at hl 1 rfl) ?_
    obtain ⟨r45, c46, k47, hf⟩ := bd2s hf
    refine xVi (rest := []) X hF (met_X_canPardon hzN hT k47) gw_X0_X0_canPardon dy_X0_canPardon ⟨⟨rfl, rfl⟩, Nat.le_of_ble_eq_true rfl, Nat.le_of_ble_eq_true rfl⟩ hP hD hS hl.1 rcX rfl rfl ⟨Nat.zero_le _, Nat.zero_le _⟩ (Nat.le_of_ble_eq_true rfl) dX0_happens_185 (fun H locs hP hD hS => ?_)
    refine bq_eq (tgt := 231) hx hb hf dX0_happens_188 (by decide) (fun hf => ?_) (fun hf => ?_)
    · cases hf
      exact rV X hP hD hS dX0_happens_231
    · refine lv_aload_n hx hb dX0_happens_191 rfl (lv_at hl 4 rfl) ?_
      refine lv_iload_n hx hb dX0_happens_192 rfl (lv_at hl 3 rfl) ?_
      refine lv_iload hx hb dX0_happens_193 (lv_at hl 1 rfl) ?_
      obtain ⟨r48, c49, c50, k51, hf⟩ := bd3s hf
      refine xVi (rest := []) X hF (met_X_buys hzN hT k51) gw_X0_X0_buys dy_X0_buys ⟨⟨rfl, rfl⟩, Nat.le_of_ble_eq_true rfl, Nat.le_of_ble_eq_true rfl⟩ hP hD hS hl.1 rcX rfl rfl ⟨Nat.zero_le _, Nat.zero_le _⟩ (Nat.le_of_ble_eq_true rfl) dX0_happens_195 (fun H locs hP hD hS => ?_)
      refine lv_istore (lv' := [(5, .int r48), (4, .int v9), (3, .int v6), (2, .int v3), (0, .ref h), (1, .int x1)]) hx hb dX0_happens_198 hl (by decide) rfl (fun ls hl => ?_)
      refine lv_goto (tgt := 231) hx hb dX0_happens_200 (by decide) ?_
      cases hf
      exact rV X hP hD hS dX0_happens_231
  exact nn hf
theorem gw_X0_X0_happens : GoodIn lw_all (wsV RX0 313 RX0 yX0_happens (ws_ yX0_happens cX0_happens 6 none)) := lw_V q1190 q1192 qs50 q145 q1193
theorem dy_X0_happens : Dy yX0_happens RX0 1 := by decide +kernel
set_option maxHeartbeats 4000000 in
theorem met_X_reigns {l : Launch} {g : gG} {h hn hi : Nat} {ad : Nat → Nat} {ra : Nat → Nat → Nat} {z : Nat → Nat} {sTaped : Int32} {sFault : Int32} {sFaultA : Int32} {sWays : Int32} {sMay : Int32} {sMust : Int32} {cTape : Nat → Int32} {cNames : Nat → Int32} {cHead : Nat → Int32} {cSure : Nat → Nat → Int32} {cN : Nat → Int32} {cRow : Nat → Int32} {cTried : Nat → Int32} {cFor : Nat → Int32} {cRoad : Nat → Int32} {cFear : Nat → Int32} {cCall : Nat → Int32} {cUnl : Nat → Int32} {cPaid : Nat → Nat → Int32} {cStep : Nat → Nat → Int32} {cGain : Nat → Nat → Int32} {cText : Nat → Option Nat} {iN : Nat → Int32} {iRow : Nat → Int32} {iFor : Nat → Int32} {iRoad : Nat → Int32} {iFear : Nat → Int32} {iCall : Nat → Int32} {iUnl : Nat → Int32} {iPaid : Nat → Nat → Int32} {iStep : Nat → Nat → Int32} {iGain : Nat → Nat → Int32} {iText : Nat → Option Nat} {tp : va_W} {E : Nat → Option (Nat → Option ((Nat → Int32) → Int64))} {zN : Nat} {x1 : Int32} {x2 : Int32} {r : Int32} {ncNames : Nat → Int32} {ncN : Nat → Int32} {ncRow : Nat → Int32} {ncStep : Nat → Nat → Int32} {φ : Nat} (hzN : zN = z 0) (hT : TxOk g z tp E) (hf : X_reigns φ cNames cN cRow cFor cRoad cFear cStep cText E zN x1 x2 = some (r, ncNames, ncN, ncRow, ncStep)) : CX l yX0_reigns (ws_ yX0_reigns cX0_reigns 5 (some .int)) ({ frames := 248, cells := 0, slots := 0, locals := 5339 } : Room) g z [.ref h, .int x1, .int x2] (xW g h hn hi ad ra sTaped sFault sFaultA sWays sMay sMust cTape cNames cHead cSure cN cRow cTried cFor cRoad cFear cCall cUnl cPaid cStep cGain cText iN iRow iFor iRoad iFear iCall iUnl iPaid iStep iGain iText tp) (some (.int r)) (xW g h hn hi ad ra sTaped sFault sFaultA sWays sMay sMust cTape ncNames cHead cSure ncN ncRow cTried cFor cRoad cFear cCall cUnl cPaid ncStep cGain cText iN iRow iFor iRoad iFear iCall iUnl iPaid iStep iGain iText tp) 0 0 := by
  refine CX.of RX0 rfl plain_X0 (Nat.le_of_ble_eq_true rfl) (fun p e s m below meth c A ls X hF hP hD hS hl => ?_)
  have hx := X.1
  have hb := X.2.1
  have hown := X.2.2.2.2.2.1
  have hts := X.2.2.2.2.2.2.1
  have hl : lv_has ls 5 [(0, .ref h), (1, .int x1), (2, .int x2)] := hl
  unfold X_reigns at hf
  refine lv_iload_n hx hb dX0_reigns_0 rfl (lv_at hl 1 rfl) ?_
  refine lv_iconst (v := 0) hx hb dX0_reigns_1 (by decide) ?_
  refine lv_sipush (v := 9999) hx hb dX0_reigns_2 (by decide) ?_
  obtain ⟨r1, k2, hf⟩ := bd1s hf
  refine cSi (rest := []) X (met_X_in (g := g) k2) gs_X0_X0_in dy_X0_in ⟨⟨rfl, rfl⟩, Nat.le_of_ble_eq_true rfl, Nat.le_of_ble_eq_true rfl⟩ hP hD hS hl.1 rfl rfl ⟨Nat.zero_le _, Nat.zero_le _⟩ (Nat.le_of_ble_eq_true rfl) dX0_reigns_5 (fun H locs hP hD hS => ?_)
  refine bq_eq (tgt := 33) hx hb hf dX0_reigns_8 (by decide) (fun hf => ?_) (fun hf => ?_)
  · refine lv_iconst (v := (-1)) hx hb dX0_reigns_33 (by decide) ?_
    cases hf
    exact rI X hP hD hS dX0_reigns_34
  · refine lv_iload_n hx hb dX0_reigns_11 rfl (lv_at hl 2 rfl) ?_
    refine lv_iconst (v := 1) hx hb dX0_reigns_12 (by decide) ?_
    refine lv_bipush (v := 40) hx hb dX0_reigns_13 (by decide) ?_
    obtain ⟨r3, k4, hf⟩ := bd1s hf
    refine cSi (rest := []) X (met_X_in (g := g) k4) gs_X0_X0_in dy_X0_in ⟨⟨rfl, rfl⟩, Nat.le_of_ble_eq_true rfl, Nat.le_of_ble_eq_true rfl⟩ hP hD hS hl.1 rfl rfl ⟨Nat.zero_le _, Nat.zero_le _⟩ (Nat.le_of_ble_eq_true rfl) dX0_reigns_15 (fun H locs hP hD hS => ?_)
    refine bq_eq (tgt := 33) hx hb hf dX0_reigns_18 (by decide) (fun hf => ?_) (fun hf => ?_)
    · refine lv_iconst (v := (-1)) hx hb dX0_reigns_33 (by decide) ?_
      cases hf
      exact rI X hP hD hS dX0_reigns_34
    · refine lv_aload_n hx hb dX0_reigns_21 rfl (lv_at hl 0 rfl) ?_
      refine gX_X0_this_now X hP dX0_reigns_22 ?_
      refine gX_X0_now_n X hF hP dX0_reigns_25 ?_
      refine lv_iconst (v := 1) hx hb dX0_reigns_28 (by decide) ?_
      obtain ⟨v5, ev5, bv5, hf⟩ := rds hf
      refine lX_cN X hP ev5 bv5 dX0_reigns_29 ?_
      refine bq_ne (tgt := 35) hx hb hf dX0_reigns_30 (by decide) (fun hf => ?_) (fun hf => ?_)
      · refine lv_aload_n hx hb dX0_reigns_35 rfl (lv_at hl 0 rfl) ?_
        refine gX_X0_this_now X hP dX0_reigns_36 ?_
        obtain ⟨c6, c7, k8, hf⟩ := bd2s hf
        refine xVv (rest := []) X hF (met_S_keeps k8) gw_X0_X1_keeps dy_X1_keeps ⟨⟨rfl, rfl⟩, Nat.le_of_ble_eq_true rfl, Nat.le_of_ble_eq_true rfl⟩ hP hD hS hl.1 rcN rfl rfl ⟨Nat.zero_le _, Nat.zero_le _⟩ (Nat.le_of_ble_eq_true rfl) dX0_reigns_39 (fun H locs hP hD hS => ?_)
        refine lv_aload_n hx hb dX0_reigns_42 rfl (lv_at hl 0 rfl) ?_
        refine gX_X0_this_now X hP dX0_reigns_43 ?_
        refine gX_X0_now_row X hF hP dX0_reigns_46 ?_
        refine lv_iconst (v := 1) hx hb dX0_reigns_49 (by decide) ?_
        refine lv_iload_n hx hb dX0_reigns_50 rfl (lv_at hl 1 rfl) ?_
        refine lv_iconst (v := 2) hx hb dX0_reigns_51 (by decide) ?_
        refine lv_imul hx hb dX0_reigns_52 ?_
        refine lv_sipush (v := 149) hx hb dX0_reigns_53 (by decide) ?_
        refine lv_iadd hx hb dX0_reigns_56 ?_
        obtain ⟨v9, ev9, hf⟩ := lts hf
        refine tpi ev9 ?_
        obtain ⟨c10, ec10, bc10, hf⟩ := wrs hf
        refine sX_cRow X hP hD hS ec10 bc10 dX0_reigns_57 (fun H locs hP hD hS => ?_)
        refine lv_iconst (v := 0) hx hb dX0_reigns_58 (by decide) ?_
        refine lv_istore_n (lv' := [(3, .int 0), (0, .ref h), (1, .int x1), (2, .int x2)]) hx hb dX0_reigns_59 rfl hl (by decide) rfl (fun ls hl => ?_)
        obtain ⟨c14, c15, k20, hf⟩ := bd2s hf
        have hE17 : ∀ (H : Heap) (locs : List Loc) (ls : Array Slot), va_P g.1 vwCl (xW g h hn hi ad ra sTaped sFault sFaultA sWays sMay sMust cTape c14 cHead cSure c6 c15 cTried cFor cRoad cFear cCall cUnl cPaid c7 cGain cText iN iRow iFor iRoad iFear iCall iUnl iPaid iStep iGain iText tp) H → va_D A (xW g h hn hi ad ra sTaped sFault sFaultA sWays sMay sMust cTape c14 cHead cSure c6 c15 cTried cFor cRoad cFear cCall cUnl cPaid c7 cGain cText iN iRow iFor iRoad iFear iCall iUnl iPaid iStep iGain iText tp) → va_S A s.heap H locs → lv_has ls 5 [(0, .ref h)] → W p l e ({ frames := 248, cells := 0, slots := 0, locals := 5339 } : Room) s m ([.ref h, .int x1, .int x2] : List Value).toArray below meth c H locs 0 0 (MQ below (QQ g (some (.int r)) (xW g h hn hi ad ra sTaped sFault sFaultA sWays sMay sMust cTape ncNames cHead cSure ncN ncRow cTried cFor cRoad cFear cCall cUnl cPaid ncStep cGain cText iN iRow iFor iRoad iFear iCall iUnl iPaid iStep iGain iText tp) A) ([.ref h, .int x1, .int x2] : List Value).toArray s 0 0 A) (F0 m 98 ls []) := by
          intro H locs ls hP hD hS hl
          refine lv_aload_n hx hb dX0_reigns_98 rfl (lv_at hl 0 rfl) ?_
          refine gX_X0_this_now X hP dX0_reigns_99 ?_
          refine gX_X0_now_row X hF hP dX0_reigns_102 ?_
          refine lv_iconst (v := 0) hx hb dX0_reigns_105 (by decide) ?_
          obtain ⟨v21, ev21, bv21, hf⟩ := rds hf
          refine lX_cRow X hP ev21 bv21 dX0_reigns_106 ?_
          cases hf
          exact rI X hP hD hS dX0_reigns_107
        have hL18 : ∀ (n16 : Nat) (v11 : Int32) (c12 : Nat → Int32) (c13 : Nat → Int32), X_reigns_L60 φ x2 c6 cFor cRoad cFear cText E zN n16 v11 c12 c13 = some (c14, c15) → ∀ (H : Heap) (locs : List Loc) (ls : Array Slot), va_P g.1 vwCl (xW g h hn hi ad ra sTaped sFault sFaultA sWays sMay sMust cTape c12 cHead cSure c6 c13 cTried cFor cRoad cFear cCall cUnl cPaid c7 cGain cText iN iRow iFor iRoad iFear iCall iUnl iPaid iStep iGain iText tp) H → va_D A (xW g h hn hi ad ra sTaped sFault sFaultA sWays sMay sMust cTape c12 cHead cSure c6 c13 cTried cFor cRoad cFear cCall cUnl cPaid c7 cGain cText iN iRow iFor iRoad iFear iCall iUnl iPaid iStep iGain iText tp) → va_S A s.heap H locs → lv_has ls 5 [(0, .ref h), (2, .int x2), (3, .int v11)] → W p l e ({ frames := 248, cells := 0, slots := 0, locals := 5339 } : Room) s m ([.ref h, .int x1, .int x2] : List Value).toArray below meth c H locs 0 0 (MQ below (QQ g (some (.int r)) (xW g h hn hi ad ra sTaped sFault sFaultA sWays sMay sMust cTape ncNames cHead cSure ncN ncRow cTried cFor cRoad cFear cCall cUnl cPaid ncStep cGain cText iN iRow iFor iRoad iFear iCall iUnl iPaid iStep iGain iText tp) A) ([.ref h, .int x1, .int x2] : List Value).toArray s 0 0 A) (F0 m 60 ls []) := by
          intro n16
          induction n16 with
          | zero =>
            intro v11 c12 c13 hf
            exact nn hf
          | succ n16 ih19 =>
            intro v11 c12 c13 hf H locs ls hP hD hS hl
            rw [X_reigns_L60] at hf
            refine lv_iload_n hx hb dX0_reigns_60 rfl (lv_at hl 2 rfl) ?_
            refine lv_iload_n hx hb dX0_reigns_61 rfl (lv_at hl 1 rfl) ?_
            refine bc_ge (tgt := 98) hx hb hf dX0_reigns_62 (by decide) (fun hf => ?_) (fun hf => ?_)
            · cases hf
              exact hE17 _ _ _ hP hD hS (lv_sub hl [0] rfl)
            · refine lv_aload_n hx hb dX0_reigns_65 rfl (lv_at hl 0 rfl) ?_
              refine gX_X0_this_now X hP dX0_reigns_66 ?_
              refine gX_X0_now_row X hF hP dX0_reigns_69 ?_
              refine lv_iconst (v := 1) hx hb dX0_reigns_72 (by decide) ?_
              obtain ⟨v22, ev22, bv22, hf⟩ := rds hf
              refine lX_cRow X hP ev22 bv22 dX0_reigns_73 ?_
              refine lv_istore (lv' := [(4, .int v22), (0, .ref h), (2, .int x2), (3, .int v11)]) hx hb dX0_reigns_74 hl (by decide) rfl (fun ls hl => ?_)
              refine lv_aload_n hx hb dX0_reigns_76 rfl (lv_at hl 1 rfl) ?_
              refine gX_X0_this_now X hP dX0_reigns_77 ?_
              refine gX_X0_now_row X hF hP dX0_reigns_80 ?_
              obtain ⟨c23, k24, hf⟩ := bd1s hf
              refine xSv (rest := []) X hF (met_X_drawsR k24) gs_X0_X0_draws dy_X0_draws ⟨⟨rfl, rfl⟩, Nat.le_of_ble_eq_true rfl, Nat.le_of_ble_eq_true rfl⟩ hP hD hS hl.1 rfl rfl ⟨Nat.zero_le _, Nat.zero_le _⟩ (Nat.le_of_ble_eq_true rfl) dX0_reigns_83 (fun H locs hP hD hS => ?_)
              refine lv_aload_n hx hb dX0_reigns_86 rfl (lv_at hl 1 rfl) ?_
              refine lv_iload hx hb dX0_reigns_87 (lv_at hl 0 rfl) ?_
              obtain ⟨c25, c26, k27, hf⟩ := bd2s hf
              refine xVv (rest := []) X hF (met_X_happens hzN hT k27) gw_X0_X0_happens dy_X0_happens ⟨⟨rfl, rfl⟩, Nat.le_of_ble_eq_true rfl, Nat.le_of_ble_eq_true rfl⟩ hP hD hS hl.1 rcX rfl rfl ⟨Nat.zero_le _, Nat.zero_le _⟩ (Nat.le_of_ble_eq_true rfl) dX0_reigns_89 (fun H locs hP hD hS => ?_)
              obtain ⟨v28, ev28, hf⟩ := lts hf
              refine lv_iinc (v := v28) (lv' := [(3, .int v28), (4, .int v22), (0, .ref h), (2, .int x2)]) hx hb dX0_reigns_92 hl (k := 3) rfl (by rw [ev28]; rfl) (by decide) rfl (fun ls hl => ?_)
              refine lv_goto (tgt := 60) hx hb dX0_reigns_95 (by decide) ?_
              exact ih19 _ _ _ hf _ _ _ hP hD hS (lv_sub hl [2, 3, 0] rfl)
        exact hL18 _ _ _ _ k20 _ _ _ hP hD hS (lv_sub hl [1, 3, 0] rfl)
      · refine lv_iconst (v := (-1)) hx hb dX0_reigns_33 (by decide) ?_
        cases hf
        exact rI X hP hD hS dX0_reigns_34
set_option maxHeartbeats 4000000 in
theorem met_X_undo {l : Launch} {g : gG} {h hn hi : Nat} {ad : Nat → Nat} {ra : Nat → Nat → Nat} {z : Nat → Nat} {sTaped : Int32} {sFault : Int32} {sFaultA : Int32} {sWays : Int32} {sMay : Int32} {sMust : Int32} {cTape : Nat → Int32} {cNames : Nat → Int32} {cHead : Nat → Int32} {cSure : Nat → Nat → Int32} {cN : Nat → Int32} {cRow : Nat → Int32} {cTried : Nat → Int32} {cFor : Nat → Int32} {cRoad : Nat → Int32} {cFear : Nat → Int32} {cCall : Nat → Int32} {cUnl : Nat → Int32} {cPaid : Nat → Nat → Int32} {cStep : Nat → Nat → Int32} {cGain : Nat → Nat → Int32} {cText : Nat → Option Nat} {iN : Nat → Int32} {iRow : Nat → Int32} {iFor : Nat → Int32} {iRoad : Nat → Int32} {iFear : Nat → Int32} {iCall : Nat → Int32} {iUnl : Nat → Int32} {iPaid : Nat → Nat → Int32} {iStep : Nat → Nat → Int32} {iGain : Nat → Nat → Int32} {iText : Nat → Option Nat} {tp : va_W} {r : Int32} {ncN : Nat → Int32} {ncRow : Nat → Int32} (hf : X_undo cN cRow cStep = some (r, ncN, ncRow)) : CX l yX0_undo (ws_ yX0_undo cX0_undo 1 (some .int)) ({ frames := 2, cells := 0, slots := 0, locals := 39 } : Room) g z [.ref h] (xW g h hn hi ad ra sTaped sFault sFaultA sWays sMay sMust cTape cNames cHead cSure cN cRow cTried cFor cRoad cFear cCall cUnl cPaid cStep cGain cText iN iRow iFor iRoad iFear iCall iUnl iPaid iStep iGain iText tp) (some (.int r)) (xW g h hn hi ad ra sTaped sFault sFaultA sWays sMay sMust cTape cNames cHead cSure ncN ncRow cTried cFor cRoad cFear cCall cUnl cPaid cStep cGain cText iN iRow iFor iRoad iFear iCall iUnl iPaid iStep iGain iText tp) 0 0 := by
  refine CX.of RX0 rfl plain_X0 (Nat.le_of_ble_eq_true rfl) (fun p e s m below meth c A ls X hF hP hD hS hl => ?_)
  have hx := X.1
  have hb := X.2.1
  have hown := X.2.2.2.2.2.1
  have hts := X.2.2.2.2.2.2.1
  have hl : lv_has ls 1 [(0, .ref h)] := hl
  unfold X_undo at hf
  refine lv_aload_n hx hb dX0_undo_0 rfl (lv_at hl 0 rfl) ?_
  refine gX_X0_this_now X hP dX0_undo_1 ?_
  refine gX_X0_now_n X hF hP dX0_undo_4 ?_
  refine lv_iconst (v := 4) hx hb dX0_undo_7 (by decide) ?_
  obtain ⟨v1, ev1, bv1, hf⟩ := rds hf
  refine lX_cN X hP ev1 bv1 dX0_undo_8 ?_
  refine bq_ne (tgt := 14) hx hb hf dX0_undo_9 (by decide) (fun hf => ?_) (fun hf => ?_)
  · refine lv_aload_n hx hb dX0_undo_14 rfl (lv_at hl 0 rfl) ?_
    refine gX_X0_this_now X hP dX0_undo_15 ?_
    refine gX_X0_now_n X hF hP dX0_undo_18 ?_
    refine lv_iconst (v := 4) hx hb dX0_undo_21 (by decide) ?_
    refine lv_dup2_11 hx hb dX0_undo_22 rfl rfl ?_
    obtain ⟨v2, ev2, bv2, hf⟩ := rds hf
    refine lX_cN X hP ev2 bv2 dX0_undo_23 ?_
    refine lv_iconst (v := 1) hx hb dX0_undo_24 (by decide) ?_
    refine lv_isub hx hb dX0_undo_25 ?_
    obtain ⟨v3, ev3, hf⟩ := lts hf
    refine tpi ev3 ?_
    obtain ⟨c4, ec4, bc4, hf⟩ := wrs hf
    refine sX_cN X hP hD hS ec4 bc4 dX0_undo_26 (fun H locs hP hD hS => ?_)
    refine lv_aload_n hx hb dX0_undo_27 rfl (lv_at hl 0 rfl) ?_
    refine gX_X0_this_now X hP dX0_undo_28 ?_
    refine gX_X0_now_step X hF hP dX0_undo_31 ?_
    refine lv_aload_n hx hb dX0_undo_34 rfl (lv_at hl 0 rfl) ?_
    refine gX_X0_this_now X hP dX0_undo_35 ?_
    refine gX_X0_now_n X hF hP dX0_undo_38 ?_
    refine lv_iconst (v := 4) hx hb dX0_undo_41 (by decide) ?_
    obtain ⟨v5, ev5, bv5, hf⟩ := rds hf
    refine lX_cN X hP ev5 bv5 dX0_undo_42 ?_
    obtain ⟨b6, hf⟩ := inbs hf
    refine aX_cStep X hP b6 dX0_undo_43 ?_
    refine lv_aload_n hx hb dX0_undo_44 rfl (lv_at hl 0 rfl) ?_
    refine gX_X0_this_now X hP dX0_undo_45 ?_
    refine gX_X0_now_row X hF hP dX0_undo_48 ?_
    obtain ⟨c7, ec7, hf⟩ := lts hf
    refine cCopyN X hF 29 rfl hl.1 hP hD hS (xat_cStep (vp_lt b6)) xat_cRow (by have qb6 := vp_lt b6; omega) (Nat.le_of_ble_eq_true rfl) (xset_cRow ec7) ⟨Nat.le_of_ble_eq_true rfl, Nat.le_of_ble_eq_true rfl⟩ ⟨Nat.zero_le _, Nat.zero_le _⟩ (Nat.le_of_ble_eq_true rfl) dX0_undo_51 (fun H locs hP hD hS => ?_)
    refine lv_aload_n hx hb dX0_undo_54 rfl (lv_at hl 0 rfl) ?_
    refine gX_X0_this_now X hP dX0_undo_55 ?_
    refine gX_X0_now_n X hF hP dX0_undo_58 ?_
    refine lv_iconst (v := 4) hx hb dX0_undo_61 (by decide) ?_
    obtain ⟨v8, ev8, bv8, hf⟩ := rds hf
    refine lX_cN X hP ev8 bv8 dX0_undo_62 ?_
    cases hf
    exact rI X hP hD hS dX0_undo_63
  · refine lv_iconst (v := (-1)) hx hb dX0_undo_12 (by decide) ?_
    cases hf
    exact rI X hP hD hS dX0_undo_13
set_option maxHeartbeats 4000000 in
theorem met_X_of {l : Launch} {g : gG} {h hn hi : Nat} {ad : Nat → Nat} {ra : Nat → Nat → Nat} {z : Nat → Nat} {sTaped : Int32} {sFault : Int32} {sFaultA : Int32} {sWays : Int32} {sMay : Int32} {sMust : Int32} {cTape : Nat → Int32} {cNames : Nat → Int32} {cHead : Nat → Int32} {cSure : Nat → Nat → Int32} {cN : Nat → Int32} {cRow : Nat → Int32} {cTried : Nat → Int32} {cFor : Nat → Int32} {cRoad : Nat → Int32} {cFear : Nat → Int32} {cCall : Nat → Int32} {cUnl : Nat → Int32} {cPaid : Nat → Nat → Int32} {cStep : Nat → Nat → Int32} {cGain : Nat → Nat → Int32} {cText : Nat → Option Nat} {iN : Nat → Int32} {iRow : Nat → Int32} {iFor : Nat → Int32} {iRoad : Nat → Int32} {iFear : Nat → Int32} {iCall : Nat → Int32} {iUnl : Nat → Int32} {iPaid : Nat → Nat → Int32} {iStep : Nat → Nat → Int32} {iGain : Nat → Nat → Int32} {iText : Nat → Option Nat} {tp : va_W} {E : Nat → Option (Nat → Option ((Nat → Int32) → Int64))} {zN : Nat} {x1 : Int32} {x2 : Int32} {r : Int32} {ncNames : Nat → Int32} {φ : Nat} (hzN : zN = z 0) (hT : TxOk g z tp E) (hf : X_of φ cNames cN cRow cFor cFear cText E zN x1 x2 = some (r, ncNames)) : CX l yX0_of (ws_ yX0_of cX0_of 4 (some .int)) ({ frames := 245, cells := 0, slots := 0, locals := 5269 } : Room) g z [.ref h, .int x1, .int x2] (xW g h hn hi ad ra sTaped sFault sFaultA sWays sMay sMust cTape cNames cHead cSure cN cRow cTried cFor cRoad cFear cCall cUnl cPaid cStep cGain cText iN iRow iFor iRoad iFear iCall iUnl iPaid iStep iGain iText tp) (some (.int r)) (xW g h hn hi ad ra sTaped sFault sFaultA sWays sMay sMust cTape ncNames cHead cSure cN cRow cTried cFor cRoad cFear cCall cUnl cPaid cStep cGain cText iN iRow iFor iRoad iFear iCall iUnl iPaid iStep iGain iText tp) 0 0 := by
  refine CX.of RX0 rfl plain_X0 (Nat.le_of_ble_eq_true rfl) (fun p e s m below meth c A ls X hF hP hD hS hl => ?_)
  have hx := X.1
  have hb := X.2.1
  have hown := X.2.2.2.2.2.1
  have hts := X.2.2.2.2.2.2.1
  have hl : lv_has ls 4 [(0, .ref h), (1, .int x1), (2, .int x2)] := hl
  unfold X_of at hf
  refine lv_aload_n hx hb dX0_of_0 rfl (lv_at hl 0 rfl) ?_
  refine lv_iload_n hx hb dX0_of_1 rfl (lv_at hl 1 rfl) ?_
  obtain ⟨r1, k2, hf⟩ := bd1s hf
  refine xVi (rest := []) X hF (met_X_isPerson k2) gw_X0_X0_isPerson dy_X0_isPerson ⟨⟨rfl, rfl⟩, Nat.le_of_ble_eq_true rfl, Nat.le_of_ble_eq_true rfl⟩ hP hD hS hl.1 rcX rfl rfl ⟨Nat.zero_le _, Nat.zero_le _⟩ (Nat.le_of_ble_eq_true rfl) dX0_of_2 (fun H locs hP hD hS => ?_)
  refine bq_ne (tgt := 10) hx hb hf dX0_of_5 (by decide) (fun hf => ?_) (fun hf => ?_)
  · refine lv_aload_n hx hb dX0_of_10 rfl (lv_at hl 0 rfl) ?_
    refine gX_X0_this_now X hP dX0_of_11 ?_
    refine gX_X0_now_row X hF hP dX0_of_14 ?_
    refine lv_astore_n (lv' := [(3, .ref (ad 6)), (0, .ref h), (1, .int x1), (2, .int x2)]) hx hb dX0_of_17 rfl hl (by decide) rfl (fun ls hl => ?_)
    refine lv_iload_n hx hb dX0_of_18 rfl (lv_at hl 3 rfl) ?_
    refine swc hf (fun q hf => ?_) (fun q0 hf => ?_)
    · refine lv_tableOut (tgt := 146) hx hb dX0_of_19 (Or.inl q) (by decide) ?_
      refine lv_iload_n hx hb dX0_of_146 rfl (lv_at hl 3 rfl) ?_
      refine lv_iconst (v := 2) hx hb dX0_of_147 (by decide) ?_
      refine lv_bipush (v := 7) hx hb dX0_of_148 (by decide) ?_
      obtain ⟨r3, k4, hf⟩ := bd1s hf
      refine cSi (rest := []) X (met_X_in (g := g) k4) gs_X0_X0_in dy_X0_in ⟨⟨rfl, rfl⟩, Nat.le_of_ble_eq_true rfl, Nat.le_of_ble_eq_true rfl⟩ hP hD hS hl.1 rfl rfl ⟨Nat.zero_le _, Nat.zero_le _⟩ (Nat.le_of_ble_eq_true rfl) dX0_of_150 (fun H locs hP hD hS => ?_)
      refine bq_eq (tgt := 167) hx hb hf dX0_of_153 (by decide) (fun hf => ?_) (fun hf => ?_)
      · refine lv_iconst (v := (-1)) hx hb dX0_of_167 (by decide) ?_
        cases hf
        exact rI X hP hD hS dX0_of_168
      · refine lv_aload_n hx hb dX0_of_156 rfl (lv_at hl 0 rfl) ?_
        refine lv_iload_n hx hb dX0_of_157 rfl (lv_at hl 2 rfl) ?_
        refine lv_iload_n hx hb dX0_of_158 rfl (lv_at hl 3 rfl) ?_
        refine lv_iconst (v := 1) hx hb dX0_of_159 (by decide) ?_
        refine lv_isub hx hb dX0_of_160 ?_
        obtain ⟨r5, k6, hf⟩ := bd1s hf
        refine xSi (rest := []) X hF (met_X_atR k6) gs_X0_X0_at dy_X0_at ⟨⟨rfl, rfl⟩, Nat.le_of_ble_eq_true rfl, Nat.le_of_ble_eq_true rfl⟩ hP hD hS hl.1 rfl rfl ⟨Nat.zero_le _, Nat.zero_le _⟩ (Nat.le_of_ble_eq_true rfl) dX0_of_161 (fun H locs hP hD hS => ?_)
        refine lv_goto (tgt := 168) hx hb dX0_of_164 (by decide) ?_
        cases hf
        exact rI X hP hD hS dX0_of_168
    refine swc hf (fun q hf => ?_) (fun q1 hf => ?_)
    · refine lv_tableOut (tgt := 146) hx hb dX0_of_19 (Or.inr q) (by decide) ?_
      refine lv_iload_n hx hb dX0_of_146 rfl (lv_at hl 3 rfl) ?_
      refine lv_iconst (v := 2) hx hb dX0_of_147 (by decide) ?_
      refine lv_bipush (v := 7) hx hb dX0_of_148 (by decide) ?_
      obtain ⟨r7, k8, hf⟩ := bd1s hf
      refine cSi (rest := []) X (met_X_in (g := g) k8) gs_X0_X0_in dy_X0_in ⟨⟨rfl, rfl⟩, Nat.le_of_ble_eq_true rfl, Nat.le_of_ble_eq_true rfl⟩ hP hD hS hl.1 rfl rfl ⟨Nat.zero_le _, Nat.zero_le _⟩ (Nat.le_of_ble_eq_true rfl) dX0_of_150 (fun H locs hP hD hS => ?_)
      refine bq_eq (tgt := 167) hx hb hf dX0_of_153 (by decide) (fun hf => ?_) (fun hf => ?_)
      · refine lv_iconst (v := (-1)) hx hb dX0_of_167 (by decide) ?_
        cases hf
        exact rI X hP hD hS dX0_of_168
      · refine lv_aload_n hx hb dX0_of_156 rfl (lv_at hl 0 rfl) ?_
        refine lv_iload_n hx hb dX0_of_157 rfl (lv_at hl 2 rfl) ?_
        refine lv_iload_n hx hb dX0_of_158 rfl (lv_at hl 3 rfl) ?_
        refine lv_iconst (v := 1) hx hb dX0_of_159 (by decide) ?_
        refine lv_isub hx hb dX0_of_160 ?_
        obtain ⟨r9, k10, hf⟩ := bd1s hf
        refine xSi (rest := []) X hF (met_X_atR k10) gs_X0_X0_at dy_X0_at ⟨⟨rfl, rfl⟩, Nat.le_of_ble_eq_true rfl, Nat.le_of_ble_eq_true rfl⟩ hP hD hS hl.1 rfl rfl ⟨Nat.zero_le _, Nat.zero_le _⟩ (Nat.le_of_ble_eq_true rfl) dX0_of_161 (fun H locs hP hD hS => ?_)
        refine lv_goto (tgt := 168) hx hb dX0_of_164 (by decide) ?_
        cases hf
        exact rI X hP hD hS dX0_of_168
    refine swc hf (fun q hf => ?_) (fun q2 hf => ?_)
    · refine lv_tableIn (off := 65) (tgt := 84) hx hb dX0_of_19 q0 q1 (by rw [q]; rfl) (by decide) ?_
      refine lv_aload_n hx hb dX0_of_84 rfl (lv_at hl 0 rfl) ?_
      refine lv_iload_n hx hb dX0_of_85 rfl (lv_at hl 2 rfl) ?_
      refine lv_iconst (v := 0) hx hb dX0_of_86 (by decide) ?_
      obtain ⟨r11, k12, hf⟩ := bd1s hf
      refine xSi (rest := []) X hF (met_X_atR k12) gs_X0_X0_at dy_X0_at ⟨⟨rfl, rfl⟩, Nat.le_of_ble_eq_true rfl, Nat.le_of_ble_eq_true rfl⟩ hP hD hS hl.1 rfl rfl ⟨Nat.zero_le _, Nat.zero_le _⟩ (Nat.le_of_ble_eq_true rfl) dX0_of_87 (fun H locs hP hD hS => ?_)
      cases hf
      exact rI X hP hD hS dX0_of_90
    refine swc hf (fun q hf => ?_) (fun q2 hf => ?_)
    · refine lv_tableIn (off := 72) (tgt := 91) hx hb dX0_of_19 q0 q1 (by rw [q]; rfl) (by decide) ?_
      refine lv_aload_n hx hb dX0_of_91 rfl (lv_at hl 1 rfl) ?_
      refine gX_X0_this_now X hP dX0_of_92 ?_
      refine gX_X0_now_fear X hF hP dX0_of_95 ?_
      refine lv_iload_n hx hb dX0_of_98 rfl (lv_at hl 2 rfl) ?_
      obtain ⟨v13, ev13, bv13, hf⟩ := rds hf
      refine lX_cFear X hP ev13 bv13 dX0_of_99 ?_
      cases hf
      exact rI X hP hD hS dX0_of_100
    refine swc hf (fun q hf => ?_) (fun q2 hf => ?_)
    · refine lv_tableIn (off := 127) (tgt := 146) hx hb dX0_of_19 q0 q1 (by rw [q]; rfl) (by decide) ?_
      refine lv_iload_n hx hb dX0_of_146 rfl (lv_at hl 3 rfl) ?_
      refine lv_iconst (v := 2) hx hb dX0_of_147 (by decide) ?_
      refine lv_bipush (v := 7) hx hb dX0_of_148 (by decide) ?_
      obtain ⟨r14, k15, hf⟩ := bd1s hf
      refine cSi (rest := []) X (met_X_in (g := g) k15) gs_X0_X0_in dy_X0_in ⟨⟨rfl, rfl⟩, Nat.le_of_ble_eq_true rfl, Nat.le_of_ble_eq_true rfl⟩ hP hD hS hl.1 rfl rfl ⟨Nat.zero_le _, Nat.zero_le _⟩ (Nat.le_of_ble_eq_true rfl) dX0_of_150 (fun H locs hP hD hS => ?_)
      refine bq_eq (tgt := 167) hx hb hf dX0_of_153 (by decide) (fun hf => ?_) (fun hf => ?_)
      · refine lv_iconst (v := (-1)) hx hb dX0_of_167 (by decide) ?_
        cases hf
        exact rI X hP hD hS dX0_of_168
      · refine lv_aload_n hx hb dX0_of_156 rfl (lv_at hl 0 rfl) ?_
        refine lv_iload_n hx hb dX0_of_157 rfl (lv_at hl 2 rfl) ?_
        refine lv_iload_n hx hb dX0_of_158 rfl (lv_at hl 3 rfl) ?_
        refine lv_iconst (v := 1) hx hb dX0_of_159 (by decide) ?_
        refine lv_isub hx hb dX0_of_160 ?_
        obtain ⟨r16, k17, hf⟩ := bd1s hf
        refine xSi (rest := []) X hF (met_X_atR k17) gs_X0_X0_at dy_X0_at ⟨⟨rfl, rfl⟩, Nat.le_of_ble_eq_true rfl, Nat.le_of_ble_eq_true rfl⟩ hP hD hS hl.1 rfl rfl ⟨Nat.zero_le _, Nat.zero_le _⟩ (Nat.le_of_ble_eq_true rfl) dX0_of_161 (fun H locs hP hD hS => ?_)
        refine lv_goto (tgt := 168) hx hb dX0_of_164 (by decide) ?_
        cases hf
        exact rI X hP hD hS dX0_of_168
    refine swc hf (fun q hf => ?_) (fun q2 hf => ?_)
    · refine lv_tableIn (off := 127) (tgt := 146) hx hb dX0_of_19 q0 q1 (by rw [q]; rfl) (by decide) ?_
      refine lv_iload_n hx hb dX0_of_146 rfl (lv_at hl 3 rfl) ?_
      refine lv_iconst (v := 2) hx hb dX0_of_147 (by decide) ?_
      refine lv_bipush (v := 7) hx hb dX0_of_148 (by decide) ?_
      obtain ⟨r18, k19, hf⟩ := bd1s hf
      refine cSi (rest := []) X (met_X_in (g := g) k19) gs_X0_X0_in dy_X0_in ⟨⟨rfl, rfl⟩, Nat.le_of_ble_eq_true rfl, Nat.le_of_ble_eq_true rfl⟩ hP hD hS hl.1 rfl rfl ⟨Nat.zero_le _, Nat.zero_le _⟩ (Nat.le_of_ble_eq_true rfl) dX0_of_150 (fun H locs hP hD hS => ?_)
      refine bq_eq (tgt := 167) hx hb hf dX0_of_153 (by decide) (fun hf => ?_) (fun hf => ?_)
      · refine lv_iconst (v := (-1)) hx hb dX0_of_167 (by decide) ?_
        cases hf
        exact rI X hP hD hS dX0_of_168
      · refine lv_aload_n hx hb dX0_of_156 rfl (lv_at hl 0 rfl) ?_
        refine lv_iload_n hx hb dX0_of_157 rfl (lv_at hl 2 rfl) ?_
        refine lv_iload_n hx hb dX0_of_158 rfl (lv_at hl 3 rfl) ?_
        refine lv_iconst (v := 1) hx hb dX0_of_159 (by decide) ?_
        refine lv_isub hx hb dX0_of_160 ?_
        obtain ⟨r20, k21, hf⟩ := bd1s hf
        refine xSi (rest := []) X hF (met_X_atR k21) gs_X0_X0_at dy_X0_at ⟨⟨rfl, rfl⟩, Nat.le_of_ble_eq_true rfl, Nat.le_of_ble_eq_true rfl⟩ hP hD hS hl.1 rfl rfl ⟨Nat.zero_le _, Nat.zero_le _⟩ (Nat.le_of_ble_eq_true rfl) dX0_of_161 (fun H locs hP hD hS => ?_)
        refine lv_goto (tgt := 168) hx hb dX0_of_164 (by decide) ?_
        cases hf
        exact rI X hP hD hS dX0_of_168
    refine swc hf (fun q hf => ?_) (fun q2 hf => ?_)
    · refine lv_tableIn (off := 127) (tgt := 146) hx hb dX0_of_19 q0 q1 (by rw [q]; rfl) (by decide) ?_
      refine lv_iload_n hx hb dX0_of_146 rfl (lv_at hl 3 rfl) ?_
      refine lv_iconst (v := 2) hx hb dX0_of_147 (by decide) ?_
      refine lv_bipush (v := 7) hx hb dX0_of_148 (by decide) ?_
      obtain ⟨r22, k23, hf⟩ := bd1s hf
      refine cSi (rest := []) X (met_X_in (g := g) k23) gs_X0_X0_in dy_X0_in ⟨⟨rfl, rfl⟩, Nat.le_of_ble_eq_true rfl, Nat.le_of_ble_eq_true rfl⟩ hP hD hS hl.1 rfl rfl ⟨Nat.zero_le _, Nat.zero_le _⟩ (Nat.le_of_ble_eq_true rfl) dX0_of_150 (fun H locs hP hD hS => ?_)
      refine bq_eq (tgt := 167) hx hb hf dX0_of_153 (by decide) (fun hf => ?_) (fun hf => ?_)
      · refine lv_iconst (v := (-1)) hx hb dX0_of_167 (by decide) ?_
        cases hf
        exact rI X hP hD hS dX0_of_168
      · refine lv_aload_n hx hb dX0_of_156 rfl (lv_at hl 0 rfl) ?_
        refine lv_iload_n hx hb dX0_of_157 rfl (lv_at hl 2 rfl) ?_
        refine lv_iload_n hx hb dX0_of_158 rfl (lv_at hl 3 rfl) ?_
        refine lv_iconst (v := 1) hx hb dX0_of_159 (by decide) ?_
        refine lv_isub hx hb dX0_of_160 ?_
        obtain ⟨r24, k25, hf⟩ := bd1s hf
        refine xSi (rest := []) X hF (met_X_atR k25) gs_X0_X0_at dy_X0_at ⟨⟨rfl, rfl⟩, Nat.le_of_ble_eq_true rfl, Nat.le_of_ble_eq_true rfl⟩ hP hD hS hl.1 rfl rfl ⟨Nat.zero_le _, Nat.zero_le _⟩ (Nat.le_of_ble_eq_true rfl) dX0_of_161 (fun H locs hP hD hS => ?_)
        refine lv_goto (tgt := 168) hx hb dX0_of_164 (by decide) ?_
        cases hf
        exact rI X hP hD hS dX0_of_168
    refine swc hf (fun q hf => ?_) (fun q2 hf => ?_)
    · refine lv_tableIn (off := 127) (tgt := 146) hx hb dX0_of_19 q0 q1 (by rw [q]; rfl) (by decide) ?_
      refine lv_iload_n hx hb dX0_of_146 rfl (lv_at hl 3 rfl) ?_
      refine lv_iconst (v := 2) hx hb dX0_of_147 (by decide) ?_
      refine lv_bipush (v := 7) hx hb dX0_of_148 (by decide) ?_
      obtain ⟨r26, k27, hf⟩ := bd1s hf
      refine cSi (rest := []) X (met_X_in (g := g) k27) gs_X0_X0_in dy_X0_in ⟨⟨rfl, rfl⟩, Nat.le_of_ble_eq_true rfl, Nat.le_of_ble_eq_true rfl⟩ hP hD hS hl.1 rfl rfl ⟨Nat.zero_le _, Nat.zero_le _⟩ (Nat.le_of_ble_eq_true rfl) dX0_of_150 (fun H locs hP hD hS => ?_)
      refine bq_eq (tgt := 167) hx hb hf dX0_of_153 (by decide) (fun hf => ?_) (fun hf => ?_)
      · refine lv_iconst (v := (-1)) hx hb dX0_of_167 (by decide) ?_
        cases hf
        exact rI X hP hD hS dX0_of_168
      · refine lv_aload_n hx hb dX0_of_156 rfl (lv_at hl 0 rfl) ?_
        refine lv_iload_n hx hb dX0_of_157 rfl (lv_at hl 2 rfl) ?_
        refine lv_iload_n hx hb dX0_of_158 rfl (lv_at hl 3 rfl) ?_
        refine lv_iconst (v := 1) hx hb dX0_of_159 (by decide) ?_
        refine lv_isub hx hb dX0_of_160 ?_
        obtain ⟨r28, k29, hf⟩ := bd1s hf
        refine xSi (rest := []) X hF (met_X_atR k29) gs_X0_X0_at dy_X0_at ⟨⟨rfl, rfl⟩, Nat.le_of_ble_eq_true rfl, Nat.le_of_ble_eq_true rfl⟩ hP hD hS hl.1 rfl rfl ⟨Nat.zero_le _, Nat.zero_le _⟩ (Nat.le_of_ble_eq_true rfl) dX0_of_161 (fun H locs hP hD hS => ?_)
        refine lv_goto (tgt := 168) hx hb dX0_of_164 (by decide) ?_
        cases hf
        exact rI X hP hD hS dX0_of_168
    refine swc hf (fun q hf => ?_) (fun q2 hf => ?_)
    · refine lv_tableIn (off := 127) (tgt := 146) hx hb dX0_of_19 q0 q1 (by rw [q]; rfl) (by decide) ?_
      refine lv_iload_n hx hb dX0_of_146 rfl (lv_at hl 3 rfl) ?_
      refine lv_iconst (v := 2) hx hb dX0_of_147 (by decide) ?_
      refine lv_bipush (v := 7) hx hb dX0_of_148 (by decide) ?_
      obtain ⟨r30, k31, hf⟩ := bd1s hf
      refine cSi (rest := []) X (met_X_in (g := g) k31) gs_X0_X0_in dy_X0_in ⟨⟨rfl, rfl⟩, Nat.le_of_ble_eq_true rfl, Nat.le_of_ble_eq_true rfl⟩ hP hD hS hl.1 rfl rfl ⟨Nat.zero_le _, Nat.zero_le _⟩ (Nat.le_of_ble_eq_true rfl) dX0_of_150 (fun H locs hP hD hS => ?_)
      refine bq_eq (tgt := 167) hx hb hf dX0_of_153 (by decide) (fun hf => ?_) (fun hf => ?_)
      · refine lv_iconst (v := (-1)) hx hb dX0_of_167 (by decide) ?_
        cases hf
        exact rI X hP hD hS dX0_of_168
      · refine lv_aload_n hx hb dX0_of_156 rfl (lv_at hl 0 rfl) ?_
        refine lv_iload_n hx hb dX0_of_157 rfl (lv_at hl 2 rfl) ?_
        refine lv_iload_n hx hb dX0_of_158 rfl (lv_at hl 3 rfl) ?_
        refine lv_iconst (v := 1) hx hb dX0_of_159 (by decide) ?_
        refine lv_isub hx hb dX0_of_160 ?_
        obtain ⟨r32, k33, hf⟩ := bd1s hf
        refine xSi (rest := []) X hF (met_X_atR k33) gs_X0_X0_at dy_X0_at ⟨⟨rfl, rfl⟩, Nat.le_of_ble_eq_true rfl, Nat.le_of_ble_eq_true rfl⟩ hP hD hS hl.1 rfl rfl ⟨Nat.zero_le _, Nat.zero_le _⟩ (Nat.le_of_ble_eq_true rfl) dX0_of_161 (fun H locs hP hD hS => ?_)
        refine lv_goto (tgt := 168) hx hb dX0_of_164 (by decide) ?_
        cases hf
        exact rI X hP hD hS dX0_of_168
    refine swc hf (fun q hf => ?_) (fun q2 hf => ?_)
    · refine lv_tableIn (off := 127) (tgt := 146) hx hb dX0_of_19 q0 q1 (by rw [q]; rfl) (by decide) ?_
      refine lv_iload_n hx hb dX0_of_146 rfl (lv_at hl 3 rfl) ?_
      refine lv_iconst (v := 2) hx hb dX0_of_147 (by decide) ?_
      refine lv_bipush (v := 7) hx hb dX0_of_148 (by decide) ?_
      obtain ⟨r34, k35, hf⟩ := bd1s hf
      refine cSi (rest := []) X (met_X_in (g := g) k35) gs_X0_X0_in dy_X0_in ⟨⟨rfl, rfl⟩, Nat.le_of_ble_eq_true rfl, Nat.le_of_ble_eq_true rfl⟩ hP hD hS hl.1 rfl rfl ⟨Nat.zero_le _, Nat.zero_le _⟩ (Nat.le_of_ble_eq_true rfl) dX0_of_150 (fun H locs hP hD hS => ?_)
      refine bq_eq (tgt := 167) hx hb hf dX0_of_153 (by decide) (fun hf => ?_) (fun hf => ?_)
      · refine lv_iconst (v := (-1)) hx hb dX0_of_167 (by decide) ?_
        cases hf
        exact rI X hP hD hS dX0_of_168
      · refine lv_aload_n hx hb dX0_of_156 rfl (lv_at hl 0 rfl) ?_
        refine lv_iload_n hx hb dX0_of_157 rfl (lv_at hl 2 rfl) ?_
        refine lv_iload_n hx hb dX0_of_158 rfl (lv_at hl 3 rfl) ?_
        refine lv_iconst (v := 1) hx hb dX0_of_159 (by decide) ?_
        refine lv_isub hx hb dX0_of_160 ?_
        obtain ⟨r36, k37, hf⟩ := bd1s hf
        refine xSi (rest := []) X hF (met_X_atR k37) gs_X0_X0_at dy_X0_at ⟨⟨rfl, rfl⟩, Nat.le_of_ble_eq_true rfl, Nat.le_of_ble_eq_true rfl⟩ hP hD hS hl.1 rfl rfl ⟨Nat.zero_le _, Nat.zero_le _⟩ (Nat.le_of_ble_eq_true rfl) dX0_of_161 (fun H locs hP hD hS => ?_)
        refine lv_goto (tgt := 168) hx hb dX0_of_164 (by decide) ?_
        cases hf
        exact rI X hP hD hS dX0_of_168
    refine swc hf (fun q hf => ?_) (fun q2 hf => ?_)
    · refine lv_tableIn (off := 82) (tgt := 101) hx hb dX0_of_19 q0 q1 (by rw [q]; rfl) (by decide) ?_
      refine lv_aload_n hx hb dX0_of_101 rfl (lv_at hl 1 rfl) ?_
      refine lv_aload_n hx hb dX0_of_102 rfl (lv_at hl 0 rfl) ?_
      refine lv_iload_n hx hb dX0_of_103 rfl (lv_at hl 2 rfl) ?_
      obtain ⟨r38, c39, k40, hf⟩ := bd2s hf
      refine xVi (rest := []) X hF (met_X_hungersOfR hzN hT k40) gw_X0_X0_hungersOf dy_X0_hungersOf ⟨⟨rfl, rfl⟩, Nat.le_of_ble_eq_true rfl, Nat.le_of_ble_eq_true rfl⟩ hP hD hS hl.1 rcX rfl rfl ⟨Nat.zero_le _, Nat.zero_le _⟩ (Nat.le_of_ble_eq_true rfl) dX0_of_104 (fun H locs hP hD hS => ?_)
      cases hf
      exact rI X hP hD hS dX0_of_107
    refine swc hf (fun q hf => ?_) (fun q2 hf => ?_)
    · refine lv_tableIn (off := 89) (tgt := 108) hx hb dX0_of_19 q0 q1 (by rw [q]; rfl) (by decide) ?_
      refine lv_aload_n hx hb dX0_of_108 rfl (lv_at hl 1 rfl) ?_
      refine lv_aload_n hx hb dX0_of_109 rfl (lv_at hl 0 rfl) ?_
      refine lv_iload_n hx hb dX0_of_110 rfl (lv_at hl 2 rfl) ?_
      obtain ⟨r41, c42, k43, hf⟩ := bd2s hf
      refine xVi (rest := []) X hF (met_X_findsOfR hzN hT k43) gw_X0_X0_findsOf dy_X0_findsOf ⟨⟨rfl, rfl⟩, Nat.le_of_ble_eq_true rfl, Nat.le_of_ble_eq_true rfl⟩ hP hD hS hl.1 rcX rfl rfl ⟨Nat.zero_le _, Nat.zero_le _⟩ (Nat.le_of_ble_eq_true rfl) dX0_of_111 (fun H locs hP hD hS => ?_)
      cases hf
      exact rI X hP hD hS dX0_of_114
    refine swc hf (fun q hf => ?_) (fun q2 hf => ?_)
    · refine lv_tableIn (off := 96) (tgt := 115) hx hb dX0_of_19 q0 q1 (by rw [q]; rfl) (by decide) ?_
      refine lv_aload_n hx hb dX0_of_115 rfl (lv_at hl 1 rfl) ?_
      refine lv_aload_n hx hb dX0_of_116 rfl (lv_at hl 1 rfl) ?_
      obtain ⟨r44, k45, hf⟩ := bd1s hf
      refine xVr (rest := [.ref h]) X hF (met_X_rules hzN k45) gw_X0_X0_rules dy_X0_rules ⟨⟨rfl, rfl⟩, Nat.le_of_ble_eq_true rfl, Nat.le_of_ble_eq_true rfl⟩ hP hD hS hl.1 rcX rfl rfl ⟨Nat.zero_le _, Nat.zero_le _⟩ (Nat.le_of_ble_eq_true rfl) dX0_of_117 (fun H locs hP hD hS => ?_)
      refine lv_aload_n hx hb dX0_of_120 rfl (lv_at hl 0 rfl) ?_
      refine lv_iload_n hx hb dX0_of_121 rfl (lv_at hl 2 rfl) ?_
      obtain ⟨r46, c47, k48, hf⟩ := bd2s hf
      refine xVi (rest := []) X hF (met_X_priceByR hT k48) gw_X0_X0_priceBy dy_X0_priceBy ⟨⟨rfl, rfl⟩, Nat.le_of_ble_eq_true rfl, Nat.le_of_ble_eq_true rfl⟩ hP hD hS hl.1 rcX rfl rfl ⟨Nat.zero_le _, Nat.zero_le _⟩ (Nat.le_of_ble_eq_true rfl) dX0_of_122 (fun H locs hP hD hS => ?_)
      cases hf
      exact rI X hP hD hS dX0_of_125
    refine swc hf (fun q hf => ?_) (fun q2 hf => ?_)
    · refine lv_tableIn (off := 107) (tgt := 126) hx hb dX0_of_19 q0 q1 (by rw [q]; rfl) (by decide) ?_
      refine lv_aload_n hx hb dX0_of_126 rfl (lv_at hl 1 rfl) ?_
      refine lv_aload_n hx hb dX0_of_127 rfl (lv_at hl 0 rfl) ?_
      refine lv_iload_n hx hb dX0_of_128 rfl (lv_at hl 2 rfl) ?_
      obtain ⟨r49, c50, k51, hf⟩ := bd2s hf
      refine xVi (rest := []) X hF (met_X_earnsOfR hzN hT k51) gw_X0_X0_earnsOf dy_X0_earnsOf ⟨⟨rfl, rfl⟩, Nat.le_of_ble_eq_true rfl, Nat.le_of_ble_eq_true rfl⟩ hP hD hS hl.1 rcX rfl rfl ⟨Nat.zero_le _, Nat.zero_le _⟩ (Nat.le_of_ble_eq_true rfl) dX0_of_129 (fun H locs hP hD hS => ?_)
      cases hf
      exact rI X hP hD hS dX0_of_132
    refine swc hf (fun q hf => ?_) (fun q2 hf => ?_)
    · refine lv_tableIn (off := 114) (tgt := 133) hx hb dX0_of_19 q0 q1 (by rw [q]; rfl) (by decide) ?_
      refine lv_aload_n hx hb dX0_of_133 rfl (lv_at hl 1 rfl) ?_
      refine lv_aload_n hx hb dX0_of_134 rfl (lv_at hl 0 rfl) ?_
      refine lv_iload_n hx hb dX0_of_135 rfl (lv_at hl 2 rfl) ?_
      refine lv_aload_n hx hb dX0_of_136 rfl (lv_at hl 0 rfl) ?_
      refine lv_iload_n hx hb dX0_of_137 rfl (lv_at hl 2 rfl) ?_
      refine lv_iconst (v := 0) hx hb dX0_of_138 (by decide) ?_
      obtain ⟨r52, k53, hf⟩ := bd1s hf
      refine xSi (rest := [.int x1, .ref (ad 6), .ref h]) X hF (met_X_atR k53) gs_X0_X0_at dy_X0_at ⟨⟨rfl, rfl⟩, Nat.le_of_ble_eq_true rfl, Nat.le_of_ble_eq_true rfl⟩ hP hD hS hl.1 rfl rfl ⟨Nat.zero_le _, Nat.zero_le _⟩ (Nat.le_of_ble_eq_true rfl) dX0_of_139 (fun H locs hP hD hS => ?_)
      obtain ⟨r54, k55, hf⟩ := bd1s hf
      refine xVi (rest := []) X hF (met_X_crowdInR k55) gw_X0_X0_crowdIn dy_X0_crowdIn ⟨⟨rfl, rfl⟩, Nat.le_of_ble_eq_true rfl, Nat.le_of_ble_eq_true rfl⟩ hP hD hS hl.1 rcX rfl rfl ⟨Nat.zero_le _, Nat.zero_le _⟩ (Nat.le_of_ble_eq_true rfl) dX0_of_142 (fun H locs hP hD hS => ?_)
      cases hf
      exact rI X hP hD hS dX0_of_145
    exact nn hf
  · refine lv_iconst (v := (-1)) hx hb dX0_of_8 (by decide) ?_
    cases hf
    exact rI X hP hD hS dX0_of_9
set_option maxHeartbeats 4000000 in
theorem met_X_aliveIn {l : Launch} {g : gG} {h hn hi : Nat} {ad : Nat → Nat} {ra : Nat → Nat → Nat} {z : Nat → Nat} {sTaped : Int32} {sFault : Int32} {sFaultA : Int32} {sWays : Int32} {sMay : Int32} {sMust : Int32} {cTape : Nat → Int32} {cNames : Nat → Int32} {cHead : Nat → Int32} {cSure : Nat → Nat → Int32} {cN : Nat → Int32} {cRow : Nat → Int32} {cTried : Nat → Int32} {cFor : Nat → Int32} {cRoad : Nat → Int32} {cFear : Nat → Int32} {cCall : Nat → Int32} {cUnl : Nat → Int32} {cPaid : Nat → Nat → Int32} {cStep : Nat → Nat → Int32} {cGain : Nat → Nat → Int32} {cText : Nat → Option Nat} {iN : Nat → Int32} {iRow : Nat → Int32} {iFor : Nat → Int32} {iRoad : Nat → Int32} {iFear : Nat → Int32} {iCall : Nat → Int32} {iUnl : Nat → Int32} {iPaid : Nat → Nat → Int32} {iStep : Nat → Nat → Int32} {iGain : Nat → Nat → Int32} {iText : Nat → Option Nat} {tp : va_W} {x1 : Int32} {r : Int32} {φ : Nat} (hf : X_aliveIn φ cN cRow x1 = some r) : CX l yX0_aliveIn (ws_ yX0_aliveIn cX0_aliveIn 4 (some .int)) ({ frames := 3, cells := 0, slots := 0, locals := 64 } : Room) g z [.ref h, .int x1] (xW g h hn hi ad ra sTaped sFault sFaultA sWays sMay sMust cTape cNames cHead cSure cN cRow cTried cFor cRoad cFear cCall cUnl cPaid cStep cGain cText iN iRow iFor iRoad iFear iCall iUnl iPaid iStep iGain iText tp) (some (.int r)) (xW g h hn hi ad ra sTaped sFault sFaultA sWays sMay sMust cTape cNames cHead cSure cN cRow cTried cFor cRoad cFear cCall cUnl cPaid cStep cGain cText iN iRow iFor iRoad iFear iCall iUnl iPaid iStep iGain iText tp) 0 0 := by
  refine CX.of RX0 rfl plain_X0 (Nat.le_of_ble_eq_true rfl) (fun p e s m below meth c A ls X hF hP hD hS hl => ?_)
  have hx := X.1
  have hb := X.2.1
  have hown := X.2.2.2.2.2.1
  have hts := X.2.2.2.2.2.2.1
  have hl : lv_has ls 4 [(0, .ref h), (1, .int x1)] := hl
  unfold X_aliveIn at hf
  refine lv_iconst (v := 0) hx hb dX0_aliveIn_0 (by decide) ?_
  refine lv_istore_n (lv' := [(2, .int 0), (0, .ref h), (1, .int x1)]) hx hb dX0_aliveIn_1 rfl hl (by decide) rfl (fun ls hl => ?_)
  refine lv_iconst (v := 0) hx hb dX0_aliveIn_2 (by decide) ?_
  refine lv_istore_n (lv' := [(3, .int 0), (2, .int 0), (0, .ref h), (1, .int x1)]) hx hb dX0_aliveIn_3 rfl hl (by decide) rfl (fun ls hl => ?_)
  obtain ⟨v3, k8, hf⟩ := bd1s hf
  have hE5 : ∀ (H : Heap) (locs : List Loc) (ls : Array Slot), va_P g.1 vwCl (xW g h hn hi ad ra sTaped sFault sFaultA sWays sMay sMust cTape cNames cHead cSure cN cRow cTried cFor cRoad cFear cCall cUnl cPaid cStep cGain cText iN iRow iFor iRoad iFear iCall iUnl iPaid iStep iGain iText tp) H → va_D A (xW g h hn hi ad ra sTaped sFault sFaultA sWays sMay sMust cTape cNames cHead cSure cN cRow cTried cFor cRoad cFear cCall cUnl cPaid cStep cGain cText iN iRow iFor iRoad iFear iCall iUnl iPaid iStep iGain iText tp) → va_S A s.heap H locs → lv_has ls 4 [(2, .int v3)] → W p l e ({ frames := 3, cells := 0, slots := 0, locals := 64 } : Room) s m ([.ref h, .int x1] : List Value).toArray below meth c H locs 0 0 (MQ below (QQ g (some (.int r)) (xW g h hn hi ad ra sTaped sFault sFaultA sWays sMay sMust cTape cNames cHead cSure cN cRow cTried cFor cRoad cFear cCall cUnl cPaid cStep cGain cText iN iRow iFor iRoad iFear iCall iUnl iPaid iStep iGain iText tp) A) ([.ref h, .int x1] : List Value).toArray s 0 0 A) (F0 m 57 ls []) := by
    intro H locs ls hP hD hS hl
    refine lv_iload_n hx hb dX0_aliveIn_57 rfl (lv_at hl 0 rfl) ?_
    cases hf
    exact rI X hP hD hS dX0_aliveIn_58
  have hL6 : ∀ (n4 : Nat) (v1 : Int32) (v2 : Int32), X_aliveIn_L4 φ x1 cN cRow n4 v1 v2 = some v3 → ∀ (H : Heap) (locs : List Loc) (ls : Array Slot), va_P g.1 vwCl (xW g h hn hi ad ra sTaped sFault sFaultA sWays sMay sMust cTape cNames cHead cSure cN cRow cTried cFor cRoad cFear cCall cUnl cPaid cStep cGain cText iN iRow iFor iRoad iFear iCall iUnl iPaid iStep iGain iText tp) H → va_D A (xW g h hn hi ad ra sTaped sFault sFaultA sWays sMay sMust cTape cNames cHead cSure cN cRow cTried cFor cRoad cFear cCall cUnl cPaid cStep cGain cText iN iRow iFor iRoad iFear iCall iUnl iPaid iStep iGain iText tp) → va_S A s.heap H locs → lv_has ls 4 [(0, .ref h), (1, .int x1), (2, .int v1), (3, .int v2)] → W p l e ({ frames := 3, cells := 0, slots := 0, locals := 64 } : Room) s m ([.ref h, .int x1] : List Value).toArray below meth c H locs 0 0 (MQ below (QQ g (some (.int r)) (xW g h hn hi ad ra sTaped sFault sFaultA sWays sMay sMust cTape cNames cHead cSure cN cRow cTried cFor cRoad cFear cCall cUnl cPaid cStep cGain cText iN iRow iFor iRoad iFear iCall iUnl iPaid iStep iGain iText tp) A) ([.ref h, .int x1] : List Value).toArray s 0 0 A) (F0 m 4 ls []) := by
    intro n4
    induction n4 with
    | zero =>
      intro v1 v2 hf
      exact nn hf
    | succ n4 ih7 =>
      intro v1 v2 hf H locs ls hP hD hS hl
      rw [X_aliveIn_L4] at hf
      refine lv_iload_n hx hb dX0_aliveIn_4 rfl (lv_at hl 3 rfl) ?_
      refine lv_aload_n hx hb dX0_aliveIn_5 rfl (lv_at hl 0 rfl) ?_
      refine gX_X0_this_now X hP dX0_aliveIn_6 ?_
      refine gX_X0_now_n X hF hP dX0_aliveIn_9 ?_
      refine lv_iconst (v := 1) hx hb dX0_aliveIn_12 (by decide) ?_
      obtain ⟨v9, ev9, bv9, hf⟩ := rds hf
      refine lX_cN X hP ev9 bv9 dX0_aliveIn_13 ?_
      refine bc_ge (tgt := 57) hx hb hf dX0_aliveIn_14 (by decide) (fun hf => ?_) (fun hf => ?_)
      · cases hf
        exact hE5 _ _ _ hP hD hS (lv_sub hl [2] rfl)
      · refine lv_iload_n hx hb dX0_aliveIn_17 rfl (lv_at hl 2 rfl) ?_
        refine lv_aload_n hx hb dX0_aliveIn_18 rfl (lv_at hl 0 rfl) ?_
        refine lv_iload_n hx hb dX0_aliveIn_19 rfl (lv_at hl 3 rfl) ?_
        obtain ⟨r10, k11, hf⟩ := bd1s hf
        refine xVi (rest := [.int v1]) X hF (met_X_isAlive k11) gw_X0_X0_isAlive dy_X0_isAlive ⟨⟨rfl, rfl⟩, Nat.le_of_ble_eq_true rfl, Nat.le_of_ble_eq_true rfl⟩ hP hD hS hl.1 rcX rfl rfl ⟨Nat.zero_le _, Nat.zero_le _⟩ (Nat.le_of_ble_eq_true rfl) dX0_aliveIn_20 (fun H locs hP hD hS => ?_)
        refine bq_eq (tgt := 48) hx hb hf dX0_aliveIn_23 (by decide) (fun hf => ?_) (fun hf => ?_)
        · refine lv_iconst (v := 0) hx hb dX0_aliveIn_48 (by decide) ?_
          refine lv_ior hx hb dX0_aliveIn_49 ?_
          obtain ⟨v12, ev12, hf⟩ := lts hf
          refine tpi ev12 ?_
          refine lv_istore_n (lv' := [(2, .int v12), (0, .ref h), (1, .int x1), (3, .int v2)]) hx hb dX0_aliveIn_50 rfl hl (by decide) rfl (fun ls hl => ?_)
          obtain ⟨v13, ev13, hf⟩ := lts hf
          refine lv_iinc (v := v13) (lv' := [(3, .int v13), (2, .int v12), (0, .ref h), (1, .int x1)]) hx hb dX0_aliveIn_51 hl (k := 3) rfl (by rw [ev13]; rfl) (by decide) rfl (fun ls hl => ?_)
          refine lv_goto (tgt := 4) hx hb dX0_aliveIn_54 (by decide) ?_
          exact ih7 _ _ hf _ _ _ hP hD hS (lv_sub hl [2, 3, 1, 0] rfl)
        · refine lv_aload_n hx hb dX0_aliveIn_26 rfl (lv_at hl 0 rfl) ?_
          refine gX_X0_this_now X hP dX0_aliveIn_27 ?_
          refine gX_X0_now_row X hF hP dX0_aliveIn_30 ?_
          refine lv_iload_n hx hb dX0_aliveIn_33 rfl (lv_at hl 3 rfl) ?_
          refine lv_iconst (v := 0) hx hb dX0_aliveIn_34 (by decide) ?_
          obtain ⟨r14, k15, hf⟩ := bd1s hf
          refine xSi (rest := [.int v1]) X hF (met_X_atR k15) gs_X0_X0_at dy_X0_at ⟨⟨rfl, rfl⟩, Nat.le_of_ble_eq_true rfl, Nat.le_of_ble_eq_true rfl⟩ hP hD hS hl.1 rfl rfl ⟨Nat.zero_le _, Nat.zero_le _⟩ (Nat.le_of_ble_eq_true rfl) dX0_aliveIn_35 (fun H locs hP hD hS => ?_)
          refine lv_iload_n hx hb dX0_aliveIn_38 rfl (lv_at hl 1 rfl) ?_
          refine bc_ne (tgt := 48) hx hb hf dX0_aliveIn_39 (by decide) (fun hf => ?_) (fun hf => ?_)
          · refine lv_iconst (v := 0) hx hb dX0_aliveIn_48 (by decide) ?_
            refine lv_ior hx hb dX0_aliveIn_49 ?_
            obtain ⟨v16, ev16, hf⟩ := lts hf
            refine tpi ev16 ?_
            refine lv_istore_n (lv' := [(2, .int v16), (0, .ref h), (1, .int x1), (3, .int v2)]) hx hb dX0_aliveIn_50 rfl hl (by decide) rfl (fun ls hl => ?_)
            obtain ⟨v17, ev17, hf⟩ := lts hf
            refine lv_iinc (v := v17) (lv' := [(3, .int v17), (2, .int v16), (0, .ref h), (1, .int x1)]) hx hb dX0_aliveIn_51 hl (k := 3) rfl (by rw [ev17]; rfl) (by decide) rfl (fun ls hl => ?_)
            refine lv_goto (tgt := 4) hx hb dX0_aliveIn_54 (by decide) ?_
            exact ih7 _ _ hf _ _ _ hP hD hS (lv_sub hl [2, 3, 1, 0] rfl)
          · refine lv_iconst (v := 1) hx hb dX0_aliveIn_42 (by decide) ?_
            refine lv_iload_n hx hb dX0_aliveIn_43 rfl (lv_at hl 3 rfl) ?_
            refine lv_ishl hx hb dX0_aliveIn_44 ?_
            refine lv_goto (tgt := 49) hx hb dX0_aliveIn_45 (by decide) ?_
            refine lv_ior hx hb dX0_aliveIn_49 ?_
            obtain ⟨v18, ev18, hf⟩ := lts hf
            refine tpi ev18 ?_
            refine lv_istore_n (lv' := [(2, .int v18), (0, .ref h), (1, .int x1), (3, .int v2)]) hx hb dX0_aliveIn_50 rfl hl (by decide) rfl (fun ls hl => ?_)
            obtain ⟨v19, ev19, hf⟩ := lts hf
            refine lv_iinc (v := v19) (lv' := [(3, .int v19), (2, .int v18), (0, .ref h), (1, .int x1)]) hx hb dX0_aliveIn_51 hl (k := 3) rfl (by rw [ev19]; rfl) (by decide) rfl (fun ls hl => ?_)
            refine lv_goto (tgt := 4) hx hb dX0_aliveIn_54 (by decide) ?_
            exact ih7 _ _ hf _ _ _ hP hD hS (lv_sub hl [2, 3, 1, 0] rfl)
  exact hL6 _ _ _ k8 _ _ _ hP hD hS (lv_sub hl [2, 3, 1, 0] rfl)
theorem gw_X0_X0_aliveIn : GoodIn lw_all (wsV RX0 323 RX0 yX0_aliveIn (ws_ yX0_aliveIn cX0_aliveIn 4 (some .int))) := lw_V q1207 q1209 qs51 q145 q1210
theorem dy_X0_aliveIn : Dy yX0_aliveIn RX0 1 := by decide +kernel
set_option maxHeartbeats 4000000 in
theorem met_X_ofLand {l : Launch} {g : gG} {h hn hi : Nat} {ad : Nat → Nat} {ra : Nat → Nat → Nat} {z : Nat → Nat} {sTaped : Int32} {sFault : Int32} {sFaultA : Int32} {sWays : Int32} {sMay : Int32} {sMust : Int32} {cTape : Nat → Int32} {cNames : Nat → Int32} {cHead : Nat → Int32} {cSure : Nat → Nat → Int32} {cN : Nat → Int32} {cRow : Nat → Int32} {cTried : Nat → Int32} {cFor : Nat → Int32} {cRoad : Nat → Int32} {cFear : Nat → Int32} {cCall : Nat → Int32} {cUnl : Nat → Int32} {cPaid : Nat → Nat → Int32} {cStep : Nat → Nat → Int32} {cGain : Nat → Nat → Int32} {cText : Nat → Option Nat} {iN : Nat → Int32} {iRow : Nat → Int32} {iFor : Nat → Int32} {iRoad : Nat → Int32} {iFear : Nat → Int32} {iCall : Nat → Int32} {iUnl : Nat → Int32} {iPaid : Nat → Nat → Int32} {iStep : Nat → Nat → Int32} {iGain : Nat → Nat → Int32} {iText : Nat → Option Nat} {tp : va_W} {x1 : Int32} {x2 : Int32} {r : Int32} {φ : Nat} (hf : X_ofLand φ cN cRow cFor cRoad x1 x2 = some r) : CX l yX0_ofLand (ws_ yX0_ofLand cX0_ofLand 3 (some .int)) ({ frames := 4, cells := 0, slots := 0, locals := 87 } : Room) g z [.ref h, .int x1, .int x2] (xW g h hn hi ad ra sTaped sFault sFaultA sWays sMay sMust cTape cNames cHead cSure cN cRow cTried cFor cRoad cFear cCall cUnl cPaid cStep cGain cText iN iRow iFor iRoad iFear iCall iUnl iPaid iStep iGain iText tp) (some (.int r)) (xW g h hn hi ad ra sTaped sFault sFaultA sWays sMay sMust cTape cNames cHead cSure cN cRow cTried cFor cRoad cFear cCall cUnl cPaid cStep cGain cText iN iRow iFor iRoad iFear iCall iUnl iPaid iStep iGain iText tp) 0 0 := by
  refine CX.of RX0 rfl plain_X0 (Nat.le_of_ble_eq_true rfl) (fun p e s m below meth c A ls X hF hP hD hS hl => ?_)
  have hx := X.1
  have hb := X.2.1
  have hown := X.2.2.2.2.2.1
  have hts := X.2.2.2.2.2.2.1
  have hl : lv_has ls 3 [(0, .ref h), (1, .int x1), (2, .int x2)] := hl
  unfold X_ofLand at hf
  refine lv_aload_n hx hb dX0_ofLand_0 rfl (lv_at hl 0 rfl) ?_
  refine lv_iload_n hx hb dX0_ofLand_1 rfl (lv_at hl 1 rfl) ?_
  obtain ⟨r1, k2, hf⟩ := bd1s hf
  refine xVi (rest := []) X hF (met_X_isLand k2) gw_X0_X0_isLand dy_X0_isLand ⟨⟨rfl, rfl⟩, Nat.le_of_ble_eq_true rfl, Nat.le_of_ble_eq_true rfl⟩ hP hD hS hl.1 rcX rfl rfl ⟨Nat.zero_le _, Nat.zero_le _⟩ (Nat.le_of_ble_eq_true rfl) dX0_ofLand_2 (fun H locs hP hD hS => ?_)
  refine bq_ne (tgt := 10) hx hb hf dX0_ofLand_5 (by decide) (fun hf => ?_) (fun hf => ?_)
  · refine lv_iload_n hx hb dX0_ofLand_10 rfl (lv_at hl 2 rfl) ?_
    refine bq_ne (tgt := 26) hx hb hf dX0_ofLand_11 (by decide) (fun hf => ?_) (fun hf => ?_)
    · refine lv_iload_n hx hb dX0_ofLand_26 rfl (lv_at hl 2 rfl) ?_
      refine lv_iconst (v := 1) hx hb dX0_ofLand_27 (by decide) ?_
      refine bc_ne (tgt := 43) hx hb hf dX0_ofLand_28 (by decide) (fun hf => ?_) (fun hf => ?_)
      · refine lv_iload_n hx hb dX0_ofLand_43 rfl (lv_at hl 2 rfl) ?_
        refine lv_iconst (v := 2) hx hb dX0_ofLand_44 (by decide) ?_
        refine bc_ne (tgt := 56) hx hb hf dX0_ofLand_45 (by decide) (fun hf => ?_) (fun hf => ?_)
        · refine lv_iconst (v := (-1)) hx hb dX0_ofLand_56 (by decide) ?_
          cases hf
          exact rI X hP hD hS dX0_ofLand_57
        · refine lv_aload_n hx hb dX0_ofLand_48 rfl (lv_at hl 0 rfl) ?_
          refine lv_iload_n hx hb dX0_ofLand_49 rfl (lv_at hl 1 rfl) ?_
          obtain ⟨r3, k4, hf⟩ := bd1s hf
          refine xVi (rest := []) X hF (met_X_aliveIn k4) gw_X0_X0_aliveIn dy_X0_aliveIn ⟨⟨rfl, rfl⟩, Nat.le_of_ble_eq_true rfl, Nat.le_of_ble_eq_true rfl⟩ hP hD hS hl.1 rcX rfl rfl ⟨Nat.zero_le _, Nat.zero_le _⟩ (Nat.le_of_ble_eq_true rfl) dX0_ofLand_50 (fun H locs hP hD hS => ?_)
          refine lv_goto (tgt := 57) hx hb dX0_ofLand_53 (by decide) ?_
          cases hf
          exact rI X hP hD hS dX0_ofLand_57
      · refine lv_aload_n hx hb dX0_ofLand_31 rfl (lv_at hl 0 rfl) ?_
        refine gX_X0_this_now X hP dX0_ofLand_32 ?_
        refine gX_X0_now_road X hF hP dX0_ofLand_35 ?_
        refine lv_iload_n hx hb dX0_ofLand_38 rfl (lv_at hl 1 rfl) ?_
        obtain ⟨v5, ev5, bv5, hf⟩ := rds hf
        refine lX_cRoad X hP ev5 bv5 dX0_ofLand_39 ?_
        refine lv_goto (tgt := 57) hx hb dX0_ofLand_40 (by decide) ?_
        cases hf
        exact rI X hP hD hS dX0_ofLand_57
    · refine lv_aload_n hx hb dX0_ofLand_14 rfl (lv_at hl 0 rfl) ?_
      refine gX_X0_this_now X hP dX0_ofLand_15 ?_
      refine gX_X0_now_forest X hF hP dX0_ofLand_18 ?_
      refine lv_iload_n hx hb dX0_ofLand_21 rfl (lv_at hl 1 rfl) ?_
      obtain ⟨v6, ev6, bv6, hf⟩ := rds hf
      refine lX_cFor X hP ev6 bv6 dX0_ofLand_22 ?_
      refine lv_goto (tgt := 57) hx hb dX0_ofLand_23 (by decide) ?_
      cases hf
      exact rI X hP hD hS dX0_ofLand_57
  · refine lv_iconst (v := (-1)) hx hb dX0_ofLand_8 (by decide) ?_
    cases hf
    exact rI X hP hD hS dX0_ofLand_9
set_option maxHeartbeats 4000000 in
theorem met_X_is {l : Launch} {g : gG} {h hn hi : Nat} {ad : Nat → Nat} {ra : Nat → Nat → Nat} {z : Nat → Nat} {sTaped : Int32} {sFault : Int32} {sFaultA : Int32} {sWays : Int32} {sMay : Int32} {sMust : Int32} {cTape : Nat → Int32} {cNames : Nat → Int32} {cHead : Nat → Int32} {cSure : Nat → Nat → Int32} {cN : Nat → Int32} {cRow : Nat → Int32} {cTried : Nat → Int32} {cFor : Nat → Int32} {cRoad : Nat → Int32} {cFear : Nat → Int32} {cCall : Nat → Int32} {cUnl : Nat → Int32} {cPaid : Nat → Nat → Int32} {cStep : Nat → Nat → Int32} {cGain : Nat → Nat → Int32} {cText : Nat → Option Nat} {iN : Nat → Int32} {iRow : Nat → Int32} {iFor : Nat → Int32} {iRoad : Nat → Int32} {iFear : Nat → Int32} {iCall : Nat → Int32} {iUnl : Nat → Int32} {iPaid : Nat → Nat → Int32} {iStep : Nat → Nat → Int32} {iGain : Nat → Nat → Int32} {iText : Nat → Option Nat} {tp : va_W} {x1 : Int32} {r : Int32} (hf : X_is cRow x1 = some r) : CX l yX0_is (ws_ yX0_is cX0_is 2 (some .int)) ({ frames := 0, cells := 0, slots := 0, locals := 0 } : Room) g z [.ref h, .int x1] (xW g h hn hi ad ra sTaped sFault sFaultA sWays sMay sMust cTape cNames cHead cSure cN cRow cTried cFor cRoad cFear cCall cUnl cPaid cStep cGain cText iN iRow iFor iRoad iFear iCall iUnl iPaid iStep iGain iText tp) (some (.int r)) (xW g h hn hi ad ra sTaped sFault sFaultA sWays sMay sMust cTape cNames cHead cSure cN cRow cTried cFor cRoad cFear cCall cUnl cPaid cStep cGain cText iN iRow iFor iRoad iFear iCall iUnl iPaid iStep iGain iText tp) 0 0 := by
  refine CX.of RX0 rfl plain_X0 (Nat.le_of_ble_eq_true rfl) (fun p e s m below meth c A ls X hF hP hD hS hl => ?_)
  have hx := X.1
  have hb := X.2.1
  have hown := X.2.2.2.2.2.1
  have hts := X.2.2.2.2.2.2.1
  have hl : lv_has ls 2 [(0, .ref h), (1, .int x1)] := hl
  unfold X_is at hf
  refine lv_iload_n hx hb dX0_is_0 rfl (lv_at hl 1 rfl) ?_
  refine bq_ne (tgt := 16) hx hb hf dX0_is_1 (by decide) (fun hf => ?_) (fun hf => ?_)
  · refine lv_iload_n hx hb dX0_is_16 rfl (lv_at hl 1 rfl) ?_
    refine lv_iconst (v := 1) hx hb dX0_is_17 (by decide) ?_
    refine bc_ne (tgt := 33) hx hb hf dX0_is_18 (by decide) (fun hf => ?_) (fun hf => ?_)
    · refine lv_bipush (v := (-2)) hx hb dX0_is_33 (by decide) ?_
      cases hf
      exact rI X hP hD hS dX0_is_35
    · refine lv_aload_n hx hb dX0_is_21 rfl (lv_at hl 0 rfl) ?_
      refine gX_X0_this_now X hP dX0_is_22 ?_
      refine gX_X0_now_row X hF hP dX0_is_25 ?_
      refine lv_iconst (v := 1) hx hb dX0_is_28 (by decide) ?_
      obtain ⟨v1, ev1, bv1, hf⟩ := rds hf
      refine lX_cRow X hP ev1 bv1 dX0_is_29 ?_
      refine lv_goto (tgt := 35) hx hb dX0_is_30 (by decide) ?_
      cases hf
      exact rI X hP hD hS dX0_is_35
  · refine lv_aload_n hx hb dX0_is_4 rfl (lv_at hl 0 rfl) ?_
    refine gX_X0_this_now X hP dX0_is_5 ?_
    refine gX_X0_now_row X hF hP dX0_is_8 ?_
    refine lv_iconst (v := 0) hx hb dX0_is_11 (by decide) ?_
    obtain ⟨v2, ev2, bv2, hf⟩ := rds hf
    refine lX_cRow X hP ev2 bv2 dX0_is_12 ?_
    refine lv_goto (tgt := 35) hx hb dX0_is_13 (by decide) ?_
    cases hf
    exact rI X hP hD hS dX0_is_35
set_option maxHeartbeats 4000000 in
theorem met_X_book {l : Launch} {g : gG} {h hn hi : Nat} {ad : Nat → Nat} {ra : Nat → Nat → Nat} {z : Nat → Nat} {sTaped : Int32} {sFault : Int32} {sFaultA : Int32} {sWays : Int32} {sMay : Int32} {sMust : Int32} {cTape : Nat → Int32} {cNames : Nat → Int32} {cHead : Nat → Int32} {cSure : Nat → Nat → Int32} {cN : Nat → Int32} {cRow : Nat → Int32} {cTried : Nat → Int32} {cFor : Nat → Int32} {cRoad : Nat → Int32} {cFear : Nat → Int32} {cCall : Nat → Int32} {cUnl : Nat → Int32} {cPaid : Nat → Nat → Int32} {cStep : Nat → Nat → Int32} {cGain : Nat → Nat → Int32} {cText : Nat → Option Nat} {iN : Nat → Int32} {iRow : Nat → Int32} {iFor : Nat → Int32} {iRoad : Nat → Int32} {iFear : Nat → Int32} {iCall : Nat → Int32} {iUnl : Nat → Int32} {iPaid : Nat → Nat → Int32} {iStep : Nat → Nat → Int32} {iGain : Nat → Nat → Int32} {iText : Nat → Option Nat} {tp : va_W} {x1 : Int32} {x2 : Int32} {r : Int32} (hf : X_book cRow x1 x2 = some r) : CX l yX0_book (ws_ yX0_book cX0_book 3 (some .int)) ({ frames := 1, cells := 0, slots := 0, locals := 22 } : Room) g z [.ref h, .int x1, .int x2] (xW g h hn hi ad ra sTaped sFault sFaultA sWays sMay sMust cTape cNames cHead cSure cN cRow cTried cFor cRoad cFear cCall cUnl cPaid cStep cGain cText iN iRow iFor iRoad iFear iCall iUnl iPaid iStep iGain iText tp) (some (.int r)) (xW g h hn hi ad ra sTaped sFault sFaultA sWays sMay sMust cTape cNames cHead cSure cN cRow cTried cFor cRoad cFear cCall cUnl cPaid cStep cGain cText iN iRow iFor iRoad iFear iCall iUnl iPaid iStep iGain iText tp) 0 0 := by
  refine CX.of RX0 rfl plain_X0 (Nat.le_of_ble_eq_true rfl) (fun p e s m below meth c A ls X hF hP hD hS hl => ?_)
  have hx := X.1
  have hb := X.2.1
  have hown := X.2.2.2.2.2.1
  have hts := X.2.2.2.2.2.2.1
  have hl : lv_has ls 3 [(0, .ref h), (1, .int x1), (2, .int x2)] := hl
  unfold X_book at hf
  refine lv_iload_n hx hb dX0_book_0 rfl (lv_at hl 1 rfl) ?_
  refine lv_iconst (v := (-1)) hx hb dX0_book_1 (by decide) ?_
  refine bc_ne (tgt := 16) hx hb hf dX0_book_2 (by decide) (fun hf => ?_) (fun hf => ?_)
  · refine lv_iload_n hx hb dX0_book_16 rfl (lv_at hl 1 rfl) ?_
    refine lv_iconst (v := 0) hx hb dX0_book_17 (by decide) ?_
    refine lv_aload_n hx hb dX0_book_18 rfl (lv_at hl 0 rfl) ?_
    refine gX_X0_this_now X hP dX0_book_19 ?_
    refine gX_X0_now_row X hF hP dX0_book_22 ?_
    refine lv_bipush (v := 44) hx hb dX0_book_25 (by decide) ?_
    obtain ⟨v1, ev1, bv1, hf⟩ := rds hf
    refine lX_cRow X hP ev1 bv1 dX0_book_27 ?_
    refine lv_iconst (v := 1) hx hb dX0_book_28 (by decide) ?_
    refine lv_isub hx hb dX0_book_29 ?_
    obtain ⟨r2, k3, hf⟩ := bd1s hf
    refine cSi (rest := []) X (met_X_in (g := g) k3) gs_X0_X0_in dy_X0_in ⟨⟨rfl, rfl⟩, Nat.le_of_ble_eq_true rfl, Nat.le_of_ble_eq_true rfl⟩ hP hD hS hl.1 rfl rfl ⟨Nat.zero_le _, Nat.zero_le _⟩ (Nat.le_of_ble_eq_true rfl) dX0_book_30 (fun H locs hP hD hS => ?_)
    refine bq_eq (tgt := 64) hx hb hf dX0_book_33 (by decide) (fun hf => ?_) (fun hf => ?_)
    · refine lv_bipush (v := (-2)) hx hb dX0_book_64 (by decide) ?_
      cases hf
      exact rI X hP hD hS dX0_book_66
    · refine lv_iload_n hx hb dX0_book_36 rfl (lv_at hl 2 rfl) ?_
      refine lv_iconst (v := 0) hx hb dX0_book_37 (by decide) ?_
      refine lv_iconst (v := 2) hx hb dX0_book_38 (by decide) ?_
      obtain ⟨r4, k5, hf⟩ := bd1s hf
      refine cSi (rest := []) X (met_X_in (g := g) k5) gs_X0_X0_in dy_X0_in ⟨⟨rfl, rfl⟩, Nat.le_of_ble_eq_true rfl, Nat.le_of_ble_eq_true rfl⟩ hP hD hS hl.1 rfl rfl ⟨Nat.zero_le _, Nat.zero_le _⟩ (Nat.le_of_ble_eq_true rfl) dX0_book_39 (fun H locs hP hD hS => ?_)
      refine bq_eq (tgt := 64) hx hb hf dX0_book_42 (by decide) (fun hf => ?_) (fun hf => ?_)
      · refine lv_bipush (v := (-2)) hx hb dX0_book_64 (by decide) ?_
        cases hf
        exact rI X hP hD hS dX0_book_66
      · refine lv_aload_n hx hb dX0_book_45 rfl (lv_at hl 0 rfl) ?_
        refine gX_X0_this_now X hP dX0_book_46 ?_
        refine gX_X0_now_row X hF hP dX0_book_49 ?_
        refine lv_bipush (v := 45) hx hb dX0_book_52 (by decide) ?_
        refine lv_iconst (v := 3) hx hb dX0_book_54 (by decide) ?_
        refine lv_iload_n hx hb dX0_book_55 rfl (lv_at hl 1 rfl) ?_
        refine lv_imul hx hb dX0_book_56 ?_
        refine lv_iadd hx hb dX0_book_57 ?_
        refine lv_iload_n hx hb dX0_book_58 rfl (lv_at hl 2 rfl) ?_
        refine lv_iadd hx hb dX0_book_59 ?_
        obtain ⟨v6, ev6, bv6, hf⟩ := rds hf
        refine lX_cRow X hP ev6 bv6 dX0_book_60 ?_
        refine lv_goto (tgt := 66) hx hb dX0_book_61 (by decide) ?_
        cases hf
        exact rI X hP hD hS dX0_book_66
  · refine lv_aload_n hx hb dX0_book_5 rfl (lv_at hl 0 rfl) ?_
    refine gX_X0_this_now X hP dX0_book_6 ?_
    refine gX_X0_now_row X hF hP dX0_book_9 ?_
    refine lv_bipush (v := 44) hx hb dX0_book_12 (by decide) ?_
    obtain ⟨v7, ev7, bv7, hf⟩ := rds hf
    refine lX_cRow X hP ev7 bv7 dX0_book_14 ?_
    cases hf
    exact rI X hP hD hS dX0_book_15
set_option maxHeartbeats 4000000 in
theorem met_X_atT {l : Launch} {g : gG} {h hn hi : Nat} {ad : Nat → Nat} {ra : Nat → Nat → Nat} {z : Nat → Nat} {sTaped : Int32} {sFault : Int32} {sFaultA : Int32} {sWays : Int32} {sMay : Int32} {sMust : Int32} {cTape : Nat → Int32} {cNames : Nat → Int32} {cHead : Nat → Int32} {cSure : Nat → Nat → Int32} {cN : Nat → Int32} {cRow : Nat → Int32} {cTried : Nat → Int32} {cFor : Nat → Int32} {cRoad : Nat → Int32} {cFear : Nat → Int32} {cCall : Nat → Int32} {cUnl : Nat → Int32} {cPaid : Nat → Nat → Int32} {cStep : Nat → Nat → Int32} {cGain : Nat → Nat → Int32} {cText : Nat → Option Nat} {iN : Nat → Int32} {iRow : Nat → Int32} {iFor : Nat → Int32} {iRoad : Nat → Int32} {iFear : Nat → Int32} {iCall : Nat → Int32} {iUnl : Nat → Int32} {iPaid : Nat → Nat → Int32} {iStep : Nat → Nat → Int32} {iGain : Nat → Nat → Int32} {iText : Nat → Option Nat} {tp : va_W} {x1 : Int32} {x2 : Int32} {r : Int32} (hf : X_at cTried x1 x2 = some r) : CX l yX0_at (ws_ yX0_at cX0_at 3 (some .int)) ({ frames := 0, cells := 0, slots := 0, locals := 0 } : Room) g z [.ref (ad 2), .int x1, .int x2] (xW g h hn hi ad ra sTaped sFault sFaultA sWays sMay sMust cTape cNames cHead cSure cN cRow cTried cFor cRoad cFear cCall cUnl cPaid cStep cGain cText iN iRow iFor iRoad iFear iCall iUnl iPaid iStep iGain iText tp) (some (.int r)) (xW g h hn hi ad ra sTaped sFault sFaultA sWays sMay sMust cTape cNames cHead cSure cN cRow cTried cFor cRoad cFear cCall cUnl cPaid cStep cGain cText iN iRow iFor iRoad iFear iCall iUnl iPaid iStep iGain iText tp) 0 0 := by
  refine CX.of RX0 rfl plain_X0 (Nat.le_of_ble_eq_true rfl) (fun p e s m below meth c A ls X hF hP hD hS hl => ?_)
  have hx := X.1
  have hb := X.2.1
  have hown := X.2.2.2.2.2.1
  have hts := X.2.2.2.2.2.2.1
  have hl : lv_has ls 3 [(0, .ref (ad 2)), (1, .int x1), (2, .int x2)] := hl
  unfold X_at at hf
  refine lv_aload_n hx hb dX0_at_0 rfl (lv_at hl 0 rfl) ?_
  refine lv_iconst (v := 2) hx hb dX0_at_1 (by decide) ?_
  refine lv_bipush (v := 7) hx hb dX0_at_2 (by decide) ?_
  refine lv_iload_n hx hb dX0_at_4 rfl (lv_at hl 1 rfl) ?_
  refine lv_imul hx hb dX0_at_5 ?_
  refine lv_iadd hx hb dX0_at_6 ?_
  refine lv_iload_n hx hb dX0_at_7 rfl (lv_at hl 2 rfl) ?_
  refine lv_iadd hx hb dX0_at_8 ?_
  obtain ⟨v1, ev1, bv1, hf⟩ := rds hf
  refine lX_cTried X hP ev1 bv1 dX0_at_9 ?_
  cases hf
  exact rI X hP hD hS dX0_at_10
set_option maxHeartbeats 4000000 in
theorem met_X_crowdInT {l : Launch} {g : gG} {h hn hi : Nat} {ad : Nat → Nat} {ra : Nat → Nat → Nat} {z : Nat → Nat} {sTaped : Int32} {sFault : Int32} {sFaultA : Int32} {sWays : Int32} {sMay : Int32} {sMust : Int32} {cTape : Nat → Int32} {cNames : Nat → Int32} {cHead : Nat → Int32} {cSure : Nat → Nat → Int32} {cN : Nat → Int32} {cRow : Nat → Int32} {cTried : Nat → Int32} {cFor : Nat → Int32} {cRoad : Nat → Int32} {cFear : Nat → Int32} {cCall : Nat → Int32} {cUnl : Nat → Int32} {cPaid : Nat → Nat → Int32} {cStep : Nat → Nat → Int32} {cGain : Nat → Nat → Int32} {cText : Nat → Option Nat} {iN : Nat → Int32} {iRow : Nat → Int32} {iFor : Nat → Int32} {iRoad : Nat → Int32} {iFear : Nat → Int32} {iCall : Nat → Int32} {iUnl : Nat → Int32} {iPaid : Nat → Nat → Int32} {iStep : Nat → Nat → Int32} {iGain : Nat → Nat → Int32} {iText : Nat → Option Nat} {tp : va_W} {x2 : Int32} {x3 : Int32} {r : Int32} {φ : Nat} (hf : X_crowdIn φ cN cTried x2 x3 = some r) : CX l yX0_crowdIn (ws_ yX0_crowdIn cX0_crowdIn 6 (some .int)) ({ frames := 1, cells := 0, slots := 0, locals := 22 } : Room) g z [.ref h, .ref (ad 2), .int x2, .int x3] (xW g h hn hi ad ra sTaped sFault sFaultA sWays sMay sMust cTape cNames cHead cSure cN cRow cTried cFor cRoad cFear cCall cUnl cPaid cStep cGain cText iN iRow iFor iRoad iFear iCall iUnl iPaid iStep iGain iText tp) (some (.int r)) (xW g h hn hi ad ra sTaped sFault sFaultA sWays sMay sMust cTape cNames cHead cSure cN cRow cTried cFor cRoad cFear cCall cUnl cPaid cStep cGain cText iN iRow iFor iRoad iFear iCall iUnl iPaid iStep iGain iText tp) 0 0 := by
  refine CX.of RX0 rfl plain_X0 (Nat.le_of_ble_eq_true rfl) (fun p e s m below meth c A ls X hF hP hD hS hl => ?_)
  have hx := X.1
  have hb := X.2.1
  have hown := X.2.2.2.2.2.1
  have hts := X.2.2.2.2.2.2.1
  have hl : lv_has ls 6 [(0, .ref h), (1, .ref (ad 2)), (2, .int x2), (3, .int x3)] := hl
  unfold X_crowdIn at hf
  refine lv_iconst (v := 0) hx hb dX0_crowdIn_0 (by decide) ?_
  refine lv_istore (lv' := [(4, .int 0), (0, .ref h), (1, .ref (ad 2)), (2, .int x2), (3, .int x3)]) hx hb dX0_crowdIn_1 hl (by decide) rfl (fun ls hl => ?_)
  refine lv_iconst (v := 0) hx hb dX0_crowdIn_3 (by decide) ?_
  refine lv_istore (lv' := [(5, .int 0), (4, .int 0), (0, .ref h), (1, .ref (ad 2)), (2, .int x2), (3, .int x3)]) hx hb dX0_crowdIn_4 hl (by decide) rfl (fun ls hl => ?_)
  obtain ⟨v3, k8, hf⟩ := bd1s hf
  have hE5 : ∀ (H : Heap) (locs : List Loc) (ls : Array Slot), va_P g.1 vwCl (xW g h hn hi ad ra sTaped sFault sFaultA sWays sMay sMust cTape cNames cHead cSure cN cRow cTried cFor cRoad cFear cCall cUnl cPaid cStep cGain cText iN iRow iFor iRoad iFear iCall iUnl iPaid iStep iGain iText tp) H → va_D A (xW g h hn hi ad ra sTaped sFault sFaultA sWays sMay sMust cTape cNames cHead cSure cN cRow cTried cFor cRoad cFear cCall cUnl cPaid cStep cGain cText iN iRow iFor iRoad iFear iCall iUnl iPaid iStep iGain iText tp) → va_S A s.heap H locs → lv_has ls 6 [(4, .int v3)] → W p l e ({ frames := 1, cells := 0, slots := 0, locals := 22 } : Room) s m ([.ref h, .ref (ad 2), .int x2, .int x3] : List Value).toArray below meth c H locs 0 0 (MQ below (QQ g (some (.int r)) (xW g h hn hi ad ra sTaped sFault sFaultA sWays sMay sMust cTape cNames cHead cSure cN cRow cTried cFor cRoad cFear cCall cUnl cPaid cStep cGain cText iN iRow iFor iRoad iFear iCall iUnl iPaid iStep iGain iText tp) A) ([.ref h, .ref (ad 2), .int x2, .int x3] : List Value).toArray s 0 0 A) (F0 m 65 ls []) := by
    intro H locs ls hP hD hS hl
    refine lv_iload hx hb dX0_crowdIn_65 (lv_at hl 0 rfl) ?_
    cases hf
    exact rI X hP hD hS dX0_crowdIn_67
  have hL6 : ∀ (n4 : Nat) (v1 : Int32) (v2 : Int32), X_crowdIn_L6 φ x2 x3 cN cTried n4 v1 v2 = some v3 → ∀ (H : Heap) (locs : List Loc) (ls : Array Slot), va_P g.1 vwCl (xW g h hn hi ad ra sTaped sFault sFaultA sWays sMay sMust cTape cNames cHead cSure cN cRow cTried cFor cRoad cFear cCall cUnl cPaid cStep cGain cText iN iRow iFor iRoad iFear iCall iUnl iPaid iStep iGain iText tp) H → va_D A (xW g h hn hi ad ra sTaped sFault sFaultA sWays sMay sMust cTape cNames cHead cSure cN cRow cTried cFor cRoad cFear cCall cUnl cPaid cStep cGain cText iN iRow iFor iRoad iFear iCall iUnl iPaid iStep iGain iText tp) → va_S A s.heap H locs → lv_has ls 6 [(0, .ref h), (1, .ref (ad 2)), (2, .int x2), (3, .int x3), (4, .int v1), (5, .int v2)] → W p l e ({ frames := 1, cells := 0, slots := 0, locals := 22 } : Room) s m ([.ref h, .ref (ad 2), .int x2, .int x3] : List Value).toArray below meth c H locs 0 0 (MQ below (QQ g (some (.int r)) (xW g h hn hi ad ra sTaped sFault sFaultA sWays sMay sMust cTape cNames cHead cSure cN cRow cTried cFor cRoad cFear cCall cUnl cPaid cStep cGain cText iN iRow iFor iRoad iFear iCall iUnl iPaid iStep iGain iText tp) A) ([.ref h, .ref (ad 2), .int x2, .int x3] : List Value).toArray s 0 0 A) (F0 m 6 ls []) := by
    intro n4
    induction n4 with
    | zero =>
      intro v1 v2 hf
      exact nn hf
    | succ n4 ih7 =>
      intro v1 v2 hf H locs ls hP hD hS hl
      rw [X_crowdIn_L6] at hf
      refine lv_iload hx hb dX0_crowdIn_6 (lv_at hl 5 rfl) ?_
      refine lv_aload_n hx hb dX0_crowdIn_8 rfl (lv_at hl 0 rfl) ?_
      refine gX_X0_this_now X hP dX0_crowdIn_9 ?_
      refine gX_X0_now_n X hF hP dX0_crowdIn_12 ?_
      refine lv_iconst (v := 1) hx hb dX0_crowdIn_15 (by decide) ?_
      obtain ⟨v9, ev9, bv9, hf⟩ := rds hf
      refine lX_cN X hP ev9 bv9 dX0_crowdIn_16 ?_
      refine bc_ge (tgt := 65) hx hb hf dX0_crowdIn_17 (by decide) (fun hf => ?_) (fun hf => ?_)
      · cases hf
        exact hE5 _ _ _ hP hD hS (lv_sub hl [4] rfl)
      · refine lv_iload hx hb dX0_crowdIn_20 (lv_at hl 4 rfl) ?_
        refine lv_iload hx hb dX0_crowdIn_22 (lv_at hl 5 rfl) ?_
        refine lv_iload_n hx hb dX0_crowdIn_24 rfl (lv_at hl 2 rfl) ?_
        refine bc_eq (tgt := 55) hx hb hf dX0_crowdIn_25 (by decide) (fun hf => ?_) (fun hf => ?_)
        · refine lv_iconst (v := 0) hx hb dX0_crowdIn_55 (by decide) ?_
          refine lv_iadd hx hb dX0_crowdIn_56 ?_
          obtain ⟨v10, ev10, hf⟩ := lts hf
          refine tpi ev10 ?_
          refine lv_istore (lv' := [(4, .int v10), (0, .ref h), (1, .ref (ad 2)), (2, .int x2), (3, .int x3), (5, .int v2)]) hx hb dX0_crowdIn_57 hl (by decide) rfl (fun ls hl => ?_)
          obtain ⟨v11, ev11, hf⟩ := lts hf
          refine lv_iinc (v := v11) (lv' := [(5, .int v11), (4, .int v10), (0, .ref h), (1, .ref (ad 2)), (2, .int x2), (3, .int x3)]) hx hb dX0_crowdIn_59 hl (k := 5) rfl (by rw [ev11]; rfl) (by decide) rfl (fun ls hl => ?_)
          refine lv_goto (tgt := 6) hx hb dX0_crowdIn_62 (by decide) ?_
          exact ih7 _ _ hf _ _ _ hP hD hS (lv_sub hl [2, 3, 4, 5, 1, 0] rfl)
        · refine lv_aload_n hx hb dX0_crowdIn_28 rfl (lv_at hl 1 rfl) ?_
          refine lv_iload hx hb dX0_crowdIn_29 (lv_at hl 5 rfl) ?_
          refine lv_bipush (v := 6) hx hb dX0_crowdIn_31 (by decide) ?_
          obtain ⟨r12, k13, hf⟩ := bd1s hf
          refine xSi (rest := [.int v1]) X hF (met_X_atT k13) gs_X0_X0_at dy_X0_at ⟨⟨rfl, rfl⟩, Nat.le_of_ble_eq_true rfl, Nat.le_of_ble_eq_true rfl⟩ hP hD hS hl.1 rfl rfl ⟨Nat.zero_le _, Nat.zero_le _⟩ (Nat.le_of_ble_eq_true rfl) dX0_crowdIn_33 (fun H locs hP hD hS => ?_)
          refine lv_iconst (v := 3) hx hb dX0_crowdIn_36 (by decide) ?_
          refine bc_eq (tgt := 55) hx hb hf dX0_crowdIn_37 (by decide) (fun hf => ?_) (fun hf => ?_)
          · refine lv_iconst (v := 0) hx hb dX0_crowdIn_55 (by decide) ?_
            refine lv_iadd hx hb dX0_crowdIn_56 ?_
            obtain ⟨v14, ev14, hf⟩ := lts hf
            refine tpi ev14 ?_
            refine lv_istore (lv' := [(4, .int v14), (0, .ref h), (1, .ref (ad 2)), (2, .int x2), (3, .int x3), (5, .int v2)]) hx hb dX0_crowdIn_57 hl (by decide) rfl (fun ls hl => ?_)
            obtain ⟨v15, ev15, hf⟩ := lts hf
            refine lv_iinc (v := v15) (lv' := [(5, .int v15), (4, .int v14), (0, .ref h), (1, .ref (ad 2)), (2, .int x2), (3, .int x3)]) hx hb dX0_crowdIn_59 hl (k := 5) rfl (by rw [ev15]; rfl) (by decide) rfl (fun ls hl => ?_)
            refine lv_goto (tgt := 6) hx hb dX0_crowdIn_62 (by decide) ?_
            exact ih7 _ _ hf _ _ _ hP hD hS (lv_sub hl [2, 3, 4, 5, 1, 0] rfl)
          · refine lv_aload_n hx hb dX0_crowdIn_40 rfl (lv_at hl 1 rfl) ?_
            refine lv_iload hx hb dX0_crowdIn_41 (lv_at hl 5 rfl) ?_
            refine lv_iconst (v := 0) hx hb dX0_crowdIn_43 (by decide) ?_
            obtain ⟨r16, k17, hf⟩ := bd1s hf
            refine xSi (rest := [.int v1]) X hF (met_X_atT k17) gs_X0_X0_at dy_X0_at ⟨⟨rfl, rfl⟩, Nat.le_of_ble_eq_true rfl, Nat.le_of_ble_eq_true rfl⟩ hP hD hS hl.1 rfl rfl ⟨Nat.zero_le _, Nat.zero_le _⟩ (Nat.le_of_ble_eq_true rfl) dX0_crowdIn_44 (fun H locs hP hD hS => ?_)
            refine lv_iload_n hx hb dX0_crowdIn_47 rfl (lv_at hl 3 rfl) ?_
            refine bc_ne (tgt := 55) hx hb hf dX0_crowdIn_48 (by decide) (fun hf => ?_) (fun hf => ?_)
            · refine lv_iconst (v := 0) hx hb dX0_crowdIn_55 (by decide) ?_
              refine lv_iadd hx hb dX0_crowdIn_56 ?_
              obtain ⟨v18, ev18, hf⟩ := lts hf
              refine tpi ev18 ?_
              refine lv_istore (lv' := [(4, .int v18), (0, .ref h), (1, .ref (ad 2)), (2, .int x2), (3, .int x3), (5, .int v2)]) hx hb dX0_crowdIn_57 hl (by decide) rfl (fun ls hl => ?_)
              obtain ⟨v19, ev19, hf⟩ := lts hf
              refine lv_iinc (v := v19) (lv' := [(5, .int v19), (4, .int v18), (0, .ref h), (1, .ref (ad 2)), (2, .int x2), (3, .int x3)]) hx hb dX0_crowdIn_59 hl (k := 5) rfl (by rw [ev19]; rfl) (by decide) rfl (fun ls hl => ?_)
              refine lv_goto (tgt := 6) hx hb dX0_crowdIn_62 (by decide) ?_
              exact ih7 _ _ hf _ _ _ hP hD hS (lv_sub hl [2, 3, 4, 5, 1, 0] rfl)
            · refine lv_iconst (v := 1) hx hb dX0_crowdIn_51 (by decide) ?_
              refine lv_goto (tgt := 56) hx hb dX0_crowdIn_52 (by decide) ?_
              refine lv_iadd hx hb dX0_crowdIn_56 ?_
              obtain ⟨v20, ev20, hf⟩ := lts hf
              refine tpi ev20 ?_
              refine lv_istore (lv' := [(4, .int v20), (0, .ref h), (1, .ref (ad 2)), (2, .int x2), (3, .int x3), (5, .int v2)]) hx hb dX0_crowdIn_57 hl (by decide) rfl (fun ls hl => ?_)
              obtain ⟨v21, ev21, hf⟩ := lts hf
              refine lv_iinc (v := v21) (lv' := [(5, .int v21), (4, .int v20), (0, .ref h), (1, .ref (ad 2)), (2, .int x2), (3, .int x3)]) hx hb dX0_crowdIn_59 hl (k := 5) rfl (by rw [ev21]; rfl) (by decide) rfl (fun ls hl => ?_)
              refine lv_goto (tgt := 6) hx hb dX0_crowdIn_62 (by decide) ?_
              exact ih7 _ _ hf _ _ _ hP hD hS (lv_sub hl [2, 3, 4, 5, 1, 0] rfl)
  exact hL6 _ _ _ k8 _ _ _ hP hD hS (lv_sub hl [2, 3, 4, 5, 1, 0] rfl)
set_option maxHeartbeats 4000000 in
theorem met_X_namesOfT {l : Launch} {g : gG} {h hn hi : Nat} {ad : Nat → Nat} {ra : Nat → Nat → Nat} {z : Nat → Nat} {sTaped : Int32} {sFault : Int32} {sFaultA : Int32} {sWays : Int32} {sMay : Int32} {sMust : Int32} {cTape : Nat → Int32} {cNames : Nat → Int32} {cHead : Nat → Int32} {cSure : Nat → Nat → Int32} {cN : Nat → Int32} {cRow : Nat → Int32} {cTried : Nat → Int32} {cFor : Nat → Int32} {cRoad : Nat → Int32} {cFear : Nat → Int32} {cCall : Nat → Int32} {cUnl : Nat → Int32} {cPaid : Nat → Nat → Int32} {cStep : Nat → Nat → Int32} {cGain : Nat → Nat → Int32} {cText : Nat → Option Nat} {iN : Nat → Int32} {iRow : Nat → Int32} {iFor : Nat → Int32} {iRoad : Nat → Int32} {iFear : Nat → Int32} {iCall : Nat → Int32} {iUnl : Nat → Int32} {iPaid : Nat → Nat → Int32} {iStep : Nat → Nat → Int32} {iGain : Nat → Nat → Int32} {iText : Nat → Option Nat} {tp : va_W} {x2 : Int32} {x3 : Int32} {ncNames : Nat → Int32} {φ : Nat} (hf : X_namesOf φ cNames cN cTried cFor cFear x2 x3 = some ncNames) : CX l yX0_namesOf (ws_ yX0_namesOf cX0_namesOf 4 none) ({ frames := 2, cells := 0, slots := 0, locals := 47 } : Room) g z [.ref h, .ref (ad 2), .int x2, .int x3] (xW g h hn hi ad ra sTaped sFault sFaultA sWays sMay sMust cTape cNames cHead cSure cN cRow cTried cFor cRoad cFear cCall cUnl cPaid cStep cGain cText iN iRow iFor iRoad iFear iCall iUnl iPaid iStep iGain iText tp) none (xW g h hn hi ad ra sTaped sFault sFaultA sWays sMay sMust cTape ncNames cHead cSure cN cRow cTried cFor cRoad cFear cCall cUnl cPaid cStep cGain cText iN iRow iFor iRoad iFear iCall iUnl iPaid iStep iGain iText tp) 0 0 := by
  refine CX.of RX0 rfl plain_X0 (Nat.le_of_ble_eq_true rfl) (fun p e s m below meth c A ls X hF hP hD hS hl => ?_)
  have hx := X.1
  have hb := X.2.1
  have hown := X.2.2.2.2.2.1
  have hts := X.2.2.2.2.2.2.1
  have hl : lv_has ls 4 [(0, .ref h), (1, .ref (ad 2)), (2, .int x2), (3, .int x3)] := hl
  unfold X_namesOf at hf
  refine lv_aload_n hx hb dX0_namesOf_0 rfl (lv_at hl 0 rfl) ?_
  refine gX_X0_this_names X hP dX0_namesOf_1 ?_
  refine lv_iconst (v := 0) hx hb dX0_namesOf_4 (by decide) ?_
  refine lv_aload_n hx hb dX0_namesOf_5 rfl (lv_at hl 1 rfl) ?_
  refine lv_iconst (v := 0) hx hb dX0_namesOf_6 (by decide) ?_
  obtain ⟨v1, ev1, bv1, hf⟩ := rds hf
  refine lX_cTried X hP ev1 bv1 dX0_namesOf_7 ?_
  obtain ⟨c2, ec2, bc2, hf⟩ := wrs hf
  refine sX_cNames X hP hD hS ec2 bc2 dX0_namesOf_8 (fun H locs hP hD hS => ?_)
  refine lv_aload_n hx hb dX0_namesOf_9 rfl (lv_at hl 0 rfl) ?_
  refine gX_X0_this_names X hP dX0_namesOf_10 ?_
  refine lv_iconst (v := 1) hx hb dX0_namesOf_13 (by decide) ?_
  refine lv_iload_n hx hb dX0_namesOf_14 rfl (lv_at hl 2 rfl) ?_
  obtain ⟨c3, ec3, bc3, hf⟩ := wrs hf
  refine sX_cNames X hP hD hS ec3 bc3 dX0_namesOf_15 (fun H locs hP hD hS => ?_)
  refine lv_aload_n hx hb dX0_namesOf_16 rfl (lv_at hl 0 rfl) ?_
  refine gX_X0_this_names X hP dX0_namesOf_17 ?_
  refine lv_iconst (v := 2) hx hb dX0_namesOf_20 (by decide) ?_
  refine lv_aload_n hx hb dX0_namesOf_21 rfl (lv_at hl 0 rfl) ?_
  refine gX_X0_this_now X hP dX0_namesOf_22 ?_
  refine gX_X0_now_fear X hF hP dX0_namesOf_25 ?_
  refine lv_iload_n hx hb dX0_namesOf_28 rfl (lv_at hl 2 rfl) ?_
  obtain ⟨v4, ev4, bv4, hf⟩ := rds hf
  refine lX_cFear X hP ev4 bv4 dX0_namesOf_29 ?_
  obtain ⟨c5, ec5, bc5, hf⟩ := wrs hf
  refine sX_cNames X hP hD hS ec5 bc5 dX0_namesOf_30 (fun H locs hP hD hS => ?_)
  refine lv_aload_n hx hb dX0_namesOf_31 rfl (lv_at hl 0 rfl) ?_
  refine gX_X0_this_names X hP dX0_namesOf_32 ?_
  refine lv_iconst (v := 3) hx hb dX0_namesOf_35 (by decide) ?_
  refine lv_iload_n hx hb dX0_namesOf_36 rfl (lv_at hl 3 rfl) ?_
  obtain ⟨c6, ec6, bc6, hf⟩ := wrs hf
  refine sX_cNames X hP hD hS ec6 bc6 dX0_namesOf_37 (fun H locs hP hD hS => ?_)
  refine lv_aload_n hx hb dX0_namesOf_38 rfl (lv_at hl 0 rfl) ?_
  refine gX_X0_this_names X hP dX0_namesOf_39 ?_
  refine lv_iconst (v := 4) hx hb dX0_namesOf_42 (by decide) ?_
  refine lv_aload_n hx hb dX0_namesOf_43 rfl (lv_at hl 0 rfl) ?_
  refine gX_X0_this_now X hP dX0_namesOf_44 ?_
  refine gX_X0_now_forest X hF hP dX0_namesOf_47 ?_
  refine lv_iload_n hx hb dX0_namesOf_50 rfl (lv_at hl 3 rfl) ?_
  obtain ⟨v7, ev7, bv7, hf⟩ := rds hf
  refine lX_cFor X hP ev7 bv7 dX0_namesOf_51 ?_
  obtain ⟨c8, ec8, bc8, hf⟩ := wrs hf
  refine sX_cNames X hP hD hS ec8 bc8 dX0_namesOf_52 (fun H locs hP hD hS => ?_)
  refine lv_aload_n hx hb dX0_namesOf_53 rfl (lv_at hl 0 rfl) ?_
  refine gX_X0_this_names X hP dX0_namesOf_54 ?_
  refine lv_iconst (v := 5) hx hb dX0_namesOf_57 (by decide) ?_
  refine lv_aload_n hx hb dX0_namesOf_58 rfl (lv_at hl 1 rfl) ?_
  refine lv_iload_n hx hb dX0_namesOf_59 rfl (lv_at hl 2 rfl) ?_
  refine lv_iconst (v := 4) hx hb dX0_namesOf_60 (by decide) ?_
  obtain ⟨r9, k10, hf⟩ := bd1s hf
  refine xSi (rest := [.int 5, .ref (ad 1)]) X hF (met_X_atT k10) gs_X0_X0_at dy_X0_at ⟨⟨rfl, rfl⟩, Nat.le_of_ble_eq_true rfl, Nat.le_of_ble_eq_true rfl⟩ hP hD hS hl.1 rfl rfl ⟨Nat.zero_le _, Nat.zero_le _⟩ (Nat.le_of_ble_eq_true rfl) dX0_namesOf_61 (fun H locs hP hD hS => ?_)
  obtain ⟨c11, ec11, bc11, hf⟩ := wrs hf
  refine sX_cNames X hP hD hS ec11 bc11 dX0_namesOf_64 (fun H locs hP hD hS => ?_)
  refine lv_aload_n hx hb dX0_namesOf_65 rfl (lv_at hl 0 rfl) ?_
  refine gX_X0_this_names X hP dX0_namesOf_66 ?_
  refine lv_bipush (v := 6) hx hb dX0_namesOf_69 (by decide) ?_
  refine lv_aload_n hx hb dX0_namesOf_71 rfl (lv_at hl 1 rfl) ?_
  refine lv_iload_n hx hb dX0_namesOf_72 rfl (lv_at hl 2 rfl) ?_
  refine lv_iconst (v := 5) hx hb dX0_namesOf_73 (by decide) ?_
  obtain ⟨r12, k13, hf⟩ := bd1s hf
  refine xSi (rest := [.int 6, .ref (ad 1)]) X hF (met_X_atT k13) gs_X0_X0_at dy_X0_at ⟨⟨rfl, rfl⟩, Nat.le_of_ble_eq_true rfl, Nat.le_of_ble_eq_true rfl⟩ hP hD hS hl.1 rfl rfl ⟨Nat.zero_le _, Nat.zero_le _⟩ (Nat.le_of_ble_eq_true rfl) dX0_namesOf_74 (fun H locs hP hD hS => ?_)
  obtain ⟨c14, ec14, bc14, hf⟩ := wrs hf
  refine sX_cNames X hP hD hS ec14 bc14 dX0_namesOf_77 (fun H locs hP hD hS => ?_)
  refine lv_aload_n hx hb dX0_namesOf_78 rfl (lv_at hl 0 rfl) ?_
  refine gX_X0_this_names X hP dX0_namesOf_79 ?_
  refine lv_bipush (v := 7) hx hb dX0_namesOf_82 (by decide) ?_
  refine lv_aload_n hx hb dX0_namesOf_84 rfl (lv_at hl 1 rfl) ?_
  refine lv_iload_n hx hb dX0_namesOf_85 rfl (lv_at hl 2 rfl) ?_
  refine lv_iconst (v := 1) hx hb dX0_namesOf_86 (by decide) ?_
  obtain ⟨r15, k16, hf⟩ := bd1s hf
  refine xSi (rest := [.int 7, .ref (ad 1)]) X hF (met_X_atT k16) gs_X0_X0_at dy_X0_at ⟨⟨rfl, rfl⟩, Nat.le_of_ble_eq_true rfl, Nat.le_of_ble_eq_true rfl⟩ hP hD hS hl.1 rfl rfl ⟨Nat.zero_le _, Nat.zero_le _⟩ (Nat.le_of_ble_eq_true rfl) dX0_namesOf_87 (fun H locs hP hD hS => ?_)
  obtain ⟨c17, ec17, bc17, hf⟩ := wrs hf
  refine sX_cNames X hP hD hS ec17 bc17 dX0_namesOf_90 (fun H locs hP hD hS => ?_)
  refine lv_aload_n hx hb dX0_namesOf_91 rfl (lv_at hl 0 rfl) ?_
  refine gX_X0_this_names X hP dX0_namesOf_92 ?_
  refine lv_bipush (v := 8) hx hb dX0_namesOf_95 (by decide) ?_
  refine lv_aload_n hx hb dX0_namesOf_97 rfl (lv_at hl 1 rfl) ?_
  refine lv_iload_n hx hb dX0_namesOf_98 rfl (lv_at hl 2 rfl) ?_
  refine lv_iconst (v := 2) hx hb dX0_namesOf_99 (by decide) ?_
  obtain ⟨r18, k19, hf⟩ := bd1s hf
  refine xSi (rest := [.int 8, .ref (ad 1)]) X hF (met_X_atT k19) gs_X0_X0_at dy_X0_at ⟨⟨rfl, rfl⟩, Nat.le_of_ble_eq_true rfl, Nat.le_of_ble_eq_true rfl⟩ hP hD hS hl.1 rfl rfl ⟨Nat.zero_le _, Nat.zero_le _⟩ (Nat.le_of_ble_eq_true rfl) dX0_namesOf_100 (fun H locs hP hD hS => ?_)
  obtain ⟨c20, ec20, bc20, hf⟩ := wrs hf
  refine sX_cNames X hP hD hS ec20 bc20 dX0_namesOf_103 (fun H locs hP hD hS => ?_)
  refine lv_aload_n hx hb dX0_namesOf_104 rfl (lv_at hl 0 rfl) ?_
  refine gX_X0_this_names X hP dX0_namesOf_105 ?_
  refine lv_bipush (v := 9) hx hb dX0_namesOf_108 (by decide) ?_
  refine lv_aload_n hx hb dX0_namesOf_110 rfl (lv_at hl 0 rfl) ?_
  refine lv_aload_n hx hb dX0_namesOf_111 rfl (lv_at hl 1 rfl) ?_
  refine lv_iload_n hx hb dX0_namesOf_112 rfl (lv_at hl 2 rfl) ?_
  refine lv_iload_n hx hb dX0_namesOf_113 rfl (lv_at hl 3 rfl) ?_
  obtain ⟨r21, k22, hf⟩ := bd1s hf
  refine xVi (rest := [.int 9, .ref (ad 1)]) X hF (met_X_crowdInT k22) gw_X0_X0_crowdIn dy_X0_crowdIn ⟨⟨rfl, rfl⟩, Nat.le_of_ble_eq_true rfl, Nat.le_of_ble_eq_true rfl⟩ hP hD hS hl.1 rcX rfl rfl ⟨Nat.zero_le _, Nat.zero_le _⟩ (Nat.le_of_ble_eq_true rfl) dX0_namesOf_114 (fun H locs hP hD hS => ?_)
  obtain ⟨c23, ec23, bc23, hf⟩ := wrs hf
  refine sX_cNames X hP hD hS ec23 bc23 dX0_namesOf_117 (fun H locs hP hD hS => ?_)
  refine lv_aload_n hx hb dX0_namesOf_118 rfl (lv_at hl 0 rfl) ?_
  refine gX_X0_this_now X hP dX0_namesOf_119 ?_
  refine gX_X0_now_fear X hF hP dX0_namesOf_122 ?_
  refine lv_iconst (v := 0) hx hb dX0_namesOf_125 (by decide) ?_
  refine lv_aload_n hx hb dX0_namesOf_126 rfl (lv_at hl 0 rfl) ?_
  refine gX_X0_this_names X hP dX0_namesOf_127 ?_
  refine lv_bipush (v := 10) hx hb dX0_namesOf_130 (by decide) ?_
  refine lv_bipush (v := 6) hx hb dX0_namesOf_132 (by decide) ?_
  obtain ⟨c24, ec24, bc24, hf⟩ := acps hf
  refine rCpy X q919 hl.1 hP hD hS 12 4 rfl rfl ec24 bc24 rfl ⟨Nat.le_of_ble_eq_true rfl, Nat.le_of_ble_eq_true rfl⟩ dX0_namesOf_134 (fun H locs hP hD hS => ?_)
  have hP : va_P g.1 vwCl (xW g h hn hi ad ra sTaped sFault sFaultA sWays sMay sMust cTape c24 cHead cSure cN cRow cTried cFor cRoad cFear cCall cUnl cPaid cStep cGain cText iN iRow iFor iRoad iFear iCall iUnl iPaid iStep iGain iText tp) H := hP
  have hD : va_D A (xW g h hn hi ad ra sTaped sFault sFaultA sWays sMay sMust cTape c24 cHead cSure cN cRow cTried cFor cRoad cFear cCall cUnl cPaid cStep cGain cText iN iRow iFor iRoad iFear iCall iUnl iPaid iStep iGain iText tp) := hD
  cases hf
  exact rV X hP hD hS dX0_namesOf_137
set_option maxHeartbeats 4000000 in
theorem met_X_hungersOfT {l : Launch} {g : gG} {h hn hi : Nat} {ad : Nat → Nat} {ra : Nat → Nat → Nat} {z : Nat → Nat} {sTaped : Int32} {sFault : Int32} {sFaultA : Int32} {sWays : Int32} {sMay : Int32} {sMust : Int32} {cTape : Nat → Int32} {cNames : Nat → Int32} {cHead : Nat → Int32} {cSure : Nat → Nat → Int32} {cN : Nat → Int32} {cRow : Nat → Int32} {cTried : Nat → Int32} {cFor : Nat → Int32} {cRoad : Nat → Int32} {cFear : Nat → Int32} {cCall : Nat → Int32} {cUnl : Nat → Int32} {cPaid : Nat → Nat → Int32} {cStep : Nat → Nat → Int32} {cGain : Nat → Nat → Int32} {cText : Nat → Option Nat} {iN : Nat → Int32} {iRow : Nat → Int32} {iFor : Nat → Int32} {iRoad : Nat → Int32} {iFear : Nat → Int32} {iCall : Nat → Int32} {iUnl : Nat → Int32} {iPaid : Nat → Nat → Int32} {iStep : Nat → Nat → Int32} {iGain : Nat → Nat → Int32} {iText : Nat → Option Nat} {tp : va_W} {E : Nat → Option (Nat → Option ((Nat → Int32) → Int64))} {zN : Nat} {x2 : Int32} {r : Int32} {ncNames : Nat → Int32} {φ : Nat} (hzN : zN = z 0) (hT : TxOk g z tp E) (hf : X_hungersOf φ cNames cN cTried cFor cFear cText E zN x2 = some (r, ncNames)) : CX l yX0_hungersOf (ws_ yX0_hungersOf cX0_hungersOf 3 (some .int)) ({ frames := 243, cells := 0, slots := 0, locals := 5224 } : Room) g z [.ref h, .ref (ad 2), .int x2] (xW g h hn hi ad ra sTaped sFault sFaultA sWays sMay sMust cTape cNames cHead cSure cN cRow cTried cFor cRoad cFear cCall cUnl cPaid cStep cGain cText iN iRow iFor iRoad iFear iCall iUnl iPaid iStep iGain iText tp) (some (.int r)) (xW g h hn hi ad ra sTaped sFault sFaultA sWays sMay sMust cTape ncNames cHead cSure cN cRow cTried cFor cRoad cFear cCall cUnl cPaid cStep cGain cText iN iRow iFor iRoad iFear iCall iUnl iPaid iStep iGain iText tp) 0 0 := by
  refine CX.of RX0 rfl plain_X0 (Nat.le_of_ble_eq_true rfl) (fun p e s m below meth c A ls X hF hP hD hS hl => ?_)
  have hx := X.1
  have hb := X.2.1
  have hown := X.2.2.2.2.2.1
  have hts := X.2.2.2.2.2.2.1
  have hl : lv_has ls 3 [(0, .ref h), (1, .ref (ad 2)), (2, .int x2)] := hl
  unfold X_hungersOf at hf
  refine lv_aload_n hx hb dX0_hungersOf_0 rfl (lv_at hl 0 rfl) ?_
  refine lv_aload_n hx hb dX0_hungersOf_1 rfl (lv_at hl 1 rfl) ?_
  refine lv_iload_n hx hb dX0_hungersOf_2 rfl (lv_at hl 2 rfl) ?_
  refine lv_aload_n hx hb dX0_hungersOf_3 rfl (lv_at hl 1 rfl) ?_
  refine lv_iload_n hx hb dX0_hungersOf_4 rfl (lv_at hl 2 rfl) ?_
  refine lv_iconst (v := 0) hx hb dX0_hungersOf_5 (by decide) ?_
  obtain ⟨r1, k2, hf⟩ := bd1s hf
  refine xSi (rest := [.int x2, .ref (ad 2), .ref h]) X hF (met_X_atT k2) gs_X0_X0_at dy_X0_at ⟨⟨rfl, rfl⟩, Nat.le_of_ble_eq_true rfl, Nat.le_of_ble_eq_true rfl⟩ hP hD hS hl.1 rfl rfl ⟨Nat.zero_le _, Nat.zero_le _⟩ (Nat.le_of_ble_eq_true rfl) dX0_hungersOf_6 (fun H locs hP hD hS => ?_)
  obtain ⟨c3, k4, hf⟩ := bd1s hf
  refine xVv (rest := []) X hF (met_X_namesOfT k4) gw_X0_X0_namesOf dy_X0_namesOf ⟨⟨rfl, rfl⟩, Nat.le_of_ble_eq_true rfl, Nat.le_of_ble_eq_true rfl⟩ hP hD hS hl.1 rcX rfl rfl ⟨Nat.zero_le _, Nat.zero_le _⟩ (Nat.le_of_ble_eq_true rfl) dX0_hungersOf_9 (fun H locs hP hD hS => ?_)
  refine lv_aload_n hx hb dX0_hungersOf_12 rfl (lv_at hl 0 rfl) ?_
  refine lv_aload_n hx hb dX0_hungersOf_13 rfl (lv_at hl 0 rfl) ?_
  obtain ⟨r5, k6, hf⟩ := bd1s hf
  refine xVr (rest := [.ref h]) X hF (met_X_rules hzN k6) gw_X0_X0_rules dy_X0_rules ⟨⟨rfl, rfl⟩, Nat.le_of_ble_eq_true rfl, Nat.le_of_ble_eq_true rfl⟩ hP hD hS hl.1 rcX rfl rfl ⟨Nat.zero_le _, Nat.zero_le _⟩ (Nat.le_of_ble_eq_true rfl) dX0_hungersOf_14 (fun H locs hP hD hS => ?_)
  refine lv_iconst (v := 0) hx hb dX0_hungersOf_17 (by decide) ?_
  refine lv_iconst (v := 1) hx hb dX0_hungersOf_18 (by decide) ?_
  refine lv_bipush (v := 9) hx hb dX0_hungersOf_19 (by decide) ?_
  obtain ⟨r7, k8, hf⟩ := bd1s hf
  refine xVi (rest := []) X hF (met_X_law hT k8) gw_X0_X0_law dy_X0_law ⟨⟨rfl, rfl⟩, Nat.le_of_ble_eq_true rfl, Nat.le_of_ble_eq_true rfl⟩ hP hD hS hl.1 rcX rfl rfl ⟨Nat.zero_le _, Nat.zero_le _⟩ (Nat.le_of_ble_eq_true rfl) dX0_hungersOf_21 (fun H locs hP hD hS => ?_)
  cases hf
  exact rI X hP hD hS dX0_hungersOf_24
set_option maxHeartbeats 4000000 in
theorem met_X_setsT {l : Launch} {g : gG} {h hn hi : Nat} {ad : Nat → Nat} {ra : Nat → Nat → Nat} {z : Nat → Nat} {sTaped : Int32} {sFault : Int32} {sFaultA : Int32} {sWays : Int32} {sMay : Int32} {sMust : Int32} {cTape : Nat → Int32} {cNames : Nat → Int32} {cHead : Nat → Int32} {cSure : Nat → Nat → Int32} {cN : Nat → Int32} {cRow : Nat → Int32} {cTried : Nat → Int32} {cFor : Nat → Int32} {cRoad : Nat → Int32} {cFear : Nat → Int32} {cCall : Nat → Int32} {cUnl : Nat → Int32} {cPaid : Nat → Nat → Int32} {cStep : Nat → Nat → Int32} {cGain : Nat → Nat → Int32} {cText : Nat → Option Nat} {iN : Nat → Int32} {iRow : Nat → Int32} {iFor : Nat → Int32} {iRoad : Nat → Int32} {iFear : Nat → Int32} {iCall : Nat → Int32} {iUnl : Nat → Int32} {iPaid : Nat → Nat → Int32} {iStep : Nat → Nat → Int32} {iGain : Nat → Nat → Int32} {iText : Nat → Option Nat} {tp : va_W} {x1 : Int32} {x2 : Int32} {x3 : Int32} {ncTried : Nat → Int32} (hf : X_sets cTried x1 x2 x3 = some ncTried) : CX l yX0_sets (ws_ yX0_sets cX0_sets 4 none) ({ frames := 0, cells := 0, slots := 0, locals := 0 } : Room) g z [.ref (ad 2), .int x1, .int x2, .int x3] (xW g h hn hi ad ra sTaped sFault sFaultA sWays sMay sMust cTape cNames cHead cSure cN cRow cTried cFor cRoad cFear cCall cUnl cPaid cStep cGain cText iN iRow iFor iRoad iFear iCall iUnl iPaid iStep iGain iText tp) none (xW g h hn hi ad ra sTaped sFault sFaultA sWays sMay sMust cTape cNames cHead cSure cN cRow ncTried cFor cRoad cFear cCall cUnl cPaid cStep cGain cText iN iRow iFor iRoad iFear iCall iUnl iPaid iStep iGain iText tp) 0 0 := by
  refine CX.of RX0 rfl plain_X0 (Nat.le_of_ble_eq_true rfl) (fun p e s m below meth c A ls X hF hP hD hS hl => ?_)
  have hx := X.1
  have hb := X.2.1
  have hown := X.2.2.2.2.2.1
  have hts := X.2.2.2.2.2.2.1
  have hl : lv_has ls 4 [(0, .ref (ad 2)), (1, .int x1), (2, .int x2), (3, .int x3)] := hl
  unfold X_sets at hf
  refine lv_aload_n hx hb dX0_sets_0 rfl (lv_at hl 0 rfl) ?_
  refine lv_iconst (v := 2) hx hb dX0_sets_1 (by decide) ?_
  refine lv_bipush (v := 7) hx hb dX0_sets_2 (by decide) ?_
  refine lv_iload_n hx hb dX0_sets_4 rfl (lv_at hl 1 rfl) ?_
  refine lv_imul hx hb dX0_sets_5 ?_
  refine lv_iadd hx hb dX0_sets_6 ?_
  refine lv_iload_n hx hb dX0_sets_7 rfl (lv_at hl 2 rfl) ?_
  refine lv_iadd hx hb dX0_sets_8 ?_
  refine lv_iload_n hx hb dX0_sets_9 rfl (lv_at hl 3 rfl) ?_
  obtain ⟨c1, ec1, bc1, hf⟩ := wrs hf
  refine sX_cTried X hP hD hS ec1 bc1 dX0_sets_10 (fun H locs hP hD hS => ?_)
  cases hf
  exact rV X hP hD hS dX0_sets_11
set_option maxHeartbeats 4000000 in
theorem met_X_drawsT {l : Launch} {g : gG} {h hn hi : Nat} {ad : Nat → Nat} {ra : Nat → Nat → Nat} {z : Nat → Nat} {sTaped : Int32} {sFault : Int32} {sFaultA : Int32} {sWays : Int32} {sMay : Int32} {sMust : Int32} {cTape : Nat → Int32} {cNames : Nat → Int32} {cHead : Nat → Int32} {cSure : Nat → Nat → Int32} {cN : Nat → Int32} {cRow : Nat → Int32} {cTried : Nat → Int32} {cFor : Nat → Int32} {cRoad : Nat → Int32} {cFear : Nat → Int32} {cCall : Nat → Int32} {cUnl : Nat → Int32} {cPaid : Nat → Nat → Int32} {cStep : Nat → Nat → Int32} {cGain : Nat → Nat → Int32} {cText : Nat → Option Nat} {iN : Nat → Int32} {iRow : Nat → Int32} {iFor : Nat → Int32} {iRoad : Nat → Int32} {iFear : Nat → Int32} {iCall : Nat → Int32} {iUnl : Nat → Int32} {iPaid : Nat → Nat → Int32} {iStep : Nat → Nat → Int32} {iGain : Nat → Nat → Int32} {iText : Nat → Option Nat} {tp : va_W} {ncTried : Nat → Int32} (hf : X_draws cTried = some ncTried) : CX l yX0_draws (ws_ yX0_draws cX0_draws 1 none) ({ frames := 0, cells := 0, slots := 0, locals := 0 } : Room) g z [.ref (ad 2)] (xW g h hn hi ad ra sTaped sFault sFaultA sWays sMay sMust cTape cNames cHead cSure cN cRow cTried cFor cRoad cFear cCall cUnl cPaid cStep cGain cText iN iRow iFor iRoad iFear iCall iUnl iPaid iStep iGain iText tp) none (xW g h hn hi ad ra sTaped sFault sFaultA sWays sMay sMust cTape cNames cHead cSure cN cRow ncTried cFor cRoad cFear cCall cUnl cPaid cStep cGain cText iN iRow iFor iRoad iFear iCall iUnl iPaid iStep iGain iText tp) 0 0 := by
  refine CX.of RX0 rfl plain_X0 (Nat.le_of_ble_eq_true rfl) (fun p e s m below meth c A ls X hF hP hD hS hl => ?_)
  have hx := X.1
  have hb := X.2.1
  have hown := X.2.2.2.2.2.1
  have hts := X.2.2.2.2.2.2.1
  have hl : lv_has ls 1 [(0, .ref (ad 2))] := hl
  unfold X_draws at hf
  refine lv_aload_n hx hb dX0_draws_0 rfl (lv_at hl 0 rfl) ?_
  refine lv_iconst (v := 1) hx hb dX0_draws_1 (by decide) ?_
  refine lv_aload_n hx hb dX0_draws_2 rfl (lv_at hl 0 rfl) ?_
  refine lv_iconst (v := 1) hx hb dX0_draws_3 (by decide) ?_
  obtain ⟨v1, ev1, bv1, hf⟩ := rds hf
  refine lX_cTried X hP ev1 bv1 dX0_draws_4 ?_
  refine lv_sipush (v := 379) hx hb dX0_draws_5 (by decide) ?_
  refine lv_imul hx hb dX0_draws_8 ?_
  refine lv_sipush (v := 257) hx hb dX0_draws_9 (by decide) ?_
  refine lv_iadd hx hb dX0_draws_12 ?_
  refine lv_sipush (v := 30469) hx hb dX0_draws_13 (by decide) ?_
  refine lv_irem hx hb dX0_draws_16 (by decide) ?_
  obtain ⟨v2, ev2, hf⟩ := lts hf
  refine tpi ev2 ?_
  obtain ⟨c3, ec3, bc3, hf⟩ := wrs hf
  refine sX_cTried X hP hD hS ec3 bc3 dX0_draws_17 (fun H locs hP hD hS => ?_)
  cases hf
  exact rV X hP hD hS dX0_draws_18
set_option maxHeartbeats 4000000 in
theorem met_X_drawT {l : Launch} {g : gG} {h hn hi : Nat} {ad : Nat → Nat} {ra : Nat → Nat → Nat} {z : Nat → Nat} {sTaped : Int32} {sFault : Int32} {sFaultA : Int32} {sWays : Int32} {sMay : Int32} {sMust : Int32} {cTape : Nat → Int32} {cNames : Nat → Int32} {cHead : Nat → Int32} {cSure : Nat → Nat → Int32} {cN : Nat → Int32} {cRow : Nat → Int32} {cTried : Nat → Int32} {cFor : Nat → Int32} {cRoad : Nat → Int32} {cFear : Nat → Int32} {cCall : Nat → Int32} {cUnl : Nat → Int32} {cPaid : Nat → Nat → Int32} {cStep : Nat → Nat → Int32} {cGain : Nat → Nat → Int32} {cText : Nat → Option Nat} {iN : Nat → Int32} {iRow : Nat → Int32} {iFor : Nat → Int32} {iRoad : Nat → Int32} {iFear : Nat → Int32} {iCall : Nat → Int32} {iUnl : Nat → Int32} {iPaid : Nat → Nat → Int32} {iStep : Nat → Nat → Int32} {iGain : Nat → Nat → Int32} {iText : Nat → Option Nat} {tp : va_W} {r : Int32} {ncTried : Nat → Int32} (hf : X_draw cTried = some (r, ncTried)) : CX l yX0_draw (ws_ yX0_draw cX0_draw 2 (some .int)) ({ frames := 1, cells := 0, slots := 0, locals := 20 } : Room) g z [.ref (ad 2)] (xW g h hn hi ad ra sTaped sFault sFaultA sWays sMay sMust cTape cNames cHead cSure cN cRow cTried cFor cRoad cFear cCall cUnl cPaid cStep cGain cText iN iRow iFor iRoad iFear iCall iUnl iPaid iStep iGain iText tp) (some (.int r)) (xW g h hn hi ad ra sTaped sFault sFaultA sWays sMay sMust cTape cNames cHead cSure cN cRow ncTried cFor cRoad cFear cCall cUnl cPaid cStep cGain cText iN iRow iFor iRoad iFear iCall iUnl iPaid iStep iGain iText tp) 0 0 := by
  refine CX.of RX0 rfl plain_X0 (Nat.le_of_ble_eq_true rfl) (fun p e s m below meth c A ls X hF hP hD hS hl => ?_)
  have hx := X.1
  have hb := X.2.1
  have hown := X.2.2.2.2.2.1
  have hts := X.2.2.2.2.2.2.1
  have hl : lv_has ls 2 [(0, .ref (ad 2))] := hl
  unfold X_draw at hf
  refine lv_aload_n hx hb dX0_draw_0 rfl (lv_at hl 0 rfl) ?_
  refine lv_iconst (v := 1) hx hb dX0_draw_1 (by decide) ?_
  obtain ⟨v1, ev1, bv1, hf⟩ := rds hf
  refine lX_cTried X hP ev1 bv1 dX0_draw_2 ?_
  refine lv_bipush (v := 10) hx hb dX0_draw_3 (by decide) ?_
  refine lv_irem hx hb dX0_draw_5 (by decide) ?_
  obtain ⟨v2, ev2, hf⟩ := lts hf
  refine tpi ev2 ?_
  refine lv_istore_n (lv' := [(1, .int v2), (0, .ref (ad 2))]) hx hb dX0_draw_6 rfl hl (by decide) rfl (fun ls hl => ?_)
  refine lv_aload_n hx hb dX0_draw_7 rfl (lv_at hl 1 rfl) ?_
  obtain ⟨c3, k4, hf⟩ := bd1s hf
  refine xSv (rest := []) X hF (met_X_drawsT k4) gs_X0_X0_draws dy_X0_draws ⟨⟨rfl, rfl⟩, Nat.le_of_ble_eq_true rfl, Nat.le_of_ble_eq_true rfl⟩ hP hD hS hl.1 rfl rfl ⟨Nat.zero_le _, Nat.zero_le _⟩ (Nat.le_of_ble_eq_true rfl) dX0_draw_8 (fun H locs hP hD hS => ?_)
  refine lv_iload_n hx hb dX0_draw_11 rfl (lv_at hl 0 rfl) ?_
  cases hf
  exact rI X hP hD hS dX0_draw_12
set_option maxHeartbeats 4000000 in
theorem met_X_findsInT {l : Launch} {g : gG} {h hn hi : Nat} {ad : Nat → Nat} {ra : Nat → Nat → Nat} {z : Nat → Nat} {sTaped : Int32} {sFault : Int32} {sFaultA : Int32} {sWays : Int32} {sMay : Int32} {sMust : Int32} {cTape : Nat → Int32} {cNames : Nat → Int32} {cHead : Nat → Int32} {cSure : Nat → Nat → Int32} {cN : Nat → Int32} {cRow : Nat → Int32} {cTried : Nat → Int32} {cFor : Nat → Int32} {cRoad : Nat → Int32} {cFear : Nat → Int32} {cCall : Nat → Int32} {cUnl : Nat → Int32} {cPaid : Nat → Nat → Int32} {cStep : Nat → Nat → Int32} {cGain : Nat → Nat → Int32} {cText : Nat → Option Nat} {iN : Nat → Int32} {iRow : Nat → Int32} {iFor : Nat → Int32} {iRoad : Nat → Int32} {iFear : Nat → Int32} {iCall : Nat → Int32} {iUnl : Nat → Int32} {iPaid : Nat → Nat → Int32} {iStep : Nat → Nat → Int32} {iGain : Nat → Nat → Int32} {iText : Nat → Option Nat} {tp : va_W} {E : Nat → Option (Nat → Option ((Nat → Int32) → Int64))} {zN : Nat} {x2 : Int32} {x3 : Int32} {r : Int32} {ncNames : Nat → Int32} {φ : Nat} (hzN : zN = z 0) (hT : TxOk g z tp E) (hf : X_findsIn φ cNames cN cTried cFor cFear cText E zN x2 x3 = some (r, ncNames)) : CX l yX0_findsIn (ws_ yX0_findsIn cX0_findsIn 4 (some .int)) ({ frames := 243, cells := 0, slots := 0, locals := 5224 } : Room) g z [.ref h, .ref (ad 2), .int x2, .int x3] (xW g h hn hi ad ra sTaped sFault sFaultA sWays sMay sMust cTape cNames cHead cSure cN cRow cTried cFor cRoad cFear cCall cUnl cPaid cStep cGain cText iN iRow iFor iRoad iFear iCall iUnl iPaid iStep iGain iText tp) (some (.int r)) (xW g h hn hi ad ra sTaped sFault sFaultA sWays sMay sMust cTape ncNames cHead cSure cN cRow cTried cFor cRoad cFear cCall cUnl cPaid cStep cGain cText iN iRow iFor iRoad iFear iCall iUnl iPaid iStep iGain iText tp) 0 0 := by
  refine CX.of RX0 rfl plain_X0 (Nat.le_of_ble_eq_true rfl) (fun p e s m below meth c A ls X hF hP hD hS hl => ?_)
  have hx := X.1
  have hb := X.2.1
  have hown := X.2.2.2.2.2.1
  have hts := X.2.2.2.2.2.2.1
  have hl : lv_has ls 4 [(0, .ref h), (1, .ref (ad 2)), (2, .int x2), (3, .int x3)] := hl
  unfold X_findsIn at hf
  refine lv_aload_n hx hb dX0_findsIn_0 rfl (lv_at hl 0 rfl) ?_
  refine lv_aload_n hx hb dX0_findsIn_1 rfl (lv_at hl 1 rfl) ?_
  refine lv_iload_n hx hb dX0_findsIn_2 rfl (lv_at hl 2 rfl) ?_
  refine lv_iload_n hx hb dX0_findsIn_3 rfl (lv_at hl 3 rfl) ?_
  obtain ⟨c1, k2, hf⟩ := bd1s hf
  refine xVv (rest := []) X hF (met_X_namesOfT k2) gw_X0_X0_namesOf dy_X0_namesOf ⟨⟨rfl, rfl⟩, Nat.le_of_ble_eq_true rfl, Nat.le_of_ble_eq_true rfl⟩ hP hD hS hl.1 rcX rfl rfl ⟨Nat.zero_le _, Nat.zero_le _⟩ (Nat.le_of_ble_eq_true rfl) dX0_findsIn_4 (fun H locs hP hD hS => ?_)
  refine lv_aload_n hx hb dX0_findsIn_7 rfl (lv_at hl 0 rfl) ?_
  refine lv_aload_n hx hb dX0_findsIn_8 rfl (lv_at hl 0 rfl) ?_
  obtain ⟨r3, k4, hf⟩ := bd1s hf
  refine xVr (rest := [.ref h]) X hF (met_X_rules hzN k4) gw_X0_X0_rules dy_X0_rules ⟨⟨rfl, rfl⟩, Nat.le_of_ble_eq_true rfl, Nat.le_of_ble_eq_true rfl⟩ hP hD hS hl.1 rcX rfl rfl ⟨Nat.zero_le _, Nat.zero_le _⟩ (Nat.le_of_ble_eq_true rfl) dX0_findsIn_9 (fun H locs hP hD hS => ?_)
  refine lv_iconst (v := 1) hx hb dX0_findsIn_12 (by decide) ?_
  refine lv_iconst (v := 5) hx hb dX0_findsIn_13 (by decide) ?_
  refine lv_aload_n hx hb dX0_findsIn_14 rfl (lv_at hl 0 rfl) ?_
  refine gX_X0_this_names X hP dX0_findsIn_15 ?_
  refine lv_iconst (v := 4) hx hb dX0_findsIn_18 (by decide) ?_
  obtain ⟨v5, ev5, bv5, hf⟩ := rds hf
  refine lX_cNames X hP ev5 bv5 dX0_findsIn_19 ?_
  refine lv_iconst (v := 2) hx hb dX0_findsIn_20 (by decide) ?_
  refine lv_idiv hx hb dX0_findsIn_21 (by decide) ?_
  refine lv_isub hx hb dX0_findsIn_22 ?_
  refine lv_bipush (v := 10) hx hb dX0_findsIn_23 (by decide) ?_
  obtain ⟨r6, k7, hf⟩ := bd1s hf
  refine xVi (rest := []) X hF (met_X_law hT k7) gw_X0_X0_law dy_X0_law ⟨⟨rfl, rfl⟩, Nat.le_of_ble_eq_true rfl, Nat.le_of_ble_eq_true rfl⟩ hP hD hS hl.1 rcX rfl rfl ⟨Nat.zero_le _, Nat.zero_le _⟩ (Nat.le_of_ble_eq_true rfl) dX0_findsIn_25 (fun H locs hP hD hS => ?_)
  cases hf
  exact rI X hP hD hS dX0_findsIn_28
set_option maxHeartbeats 4000000 in
theorem met_X_findsOfT {l : Launch} {g : gG} {h hn hi : Nat} {ad : Nat → Nat} {ra : Nat → Nat → Nat} {z : Nat → Nat} {sTaped : Int32} {sFault : Int32} {sFaultA : Int32} {sWays : Int32} {sMay : Int32} {sMust : Int32} {cTape : Nat → Int32} {cNames : Nat → Int32} {cHead : Nat → Int32} {cSure : Nat → Nat → Int32} {cN : Nat → Int32} {cRow : Nat → Int32} {cTried : Nat → Int32} {cFor : Nat → Int32} {cRoad : Nat → Int32} {cFear : Nat → Int32} {cCall : Nat → Int32} {cUnl : Nat → Int32} {cPaid : Nat → Nat → Int32} {cStep : Nat → Nat → Int32} {cGain : Nat → Nat → Int32} {cText : Nat → Option Nat} {iN : Nat → Int32} {iRow : Nat → Int32} {iFor : Nat → Int32} {iRoad : Nat → Int32} {iFear : Nat → Int32} {iCall : Nat → Int32} {iUnl : Nat → Int32} {iPaid : Nat → Nat → Int32} {iStep : Nat → Nat → Int32} {iGain : Nat → Nat → Int32} {iText : Nat → Option Nat} {tp : va_W} {E : Nat → Option (Nat → Option ((Nat → Int32) → Int64))} {zN : Nat} {x2 : Int32} {r : Int32} {ncNames : Nat → Int32} {φ : Nat} (hzN : zN = z 0) (hT : TxOk g z tp E) (hf : X_findsOf φ cNames cN cTried cFor cFear cText E zN x2 = some (r, ncNames)) : CX l yX0_findsOf (ws_ yX0_findsOf cX0_findsOf 3 (some .int)) ({ frames := 244, cells := 0, slots := 0, locals := 5247 } : Room) g z [.ref h, .ref (ad 2), .int x2] (xW g h hn hi ad ra sTaped sFault sFaultA sWays sMay sMust cTape cNames cHead cSure cN cRow cTried cFor cRoad cFear cCall cUnl cPaid cStep cGain cText iN iRow iFor iRoad iFear iCall iUnl iPaid iStep iGain iText tp) (some (.int r)) (xW g h hn hi ad ra sTaped sFault sFaultA sWays sMay sMust cTape ncNames cHead cSure cN cRow cTried cFor cRoad cFear cCall cUnl cPaid cStep cGain cText iN iRow iFor iRoad iFear iCall iUnl iPaid iStep iGain iText tp) 0 0 := by
  refine CX.of RX0 rfl plain_X0 (Nat.le_of_ble_eq_true rfl) (fun p e s m below meth c A ls X hF hP hD hS hl => ?_)
  have hx := X.1
  have hb := X.2.1
  have hown := X.2.2.2.2.2.1
  have hts := X.2.2.2.2.2.2.1
  have hl : lv_has ls 3 [(0, .ref h), (1, .ref (ad 2)), (2, .int x2)] := hl
  unfold X_findsOf at hf
  refine lv_aload_n hx hb dX0_findsOf_0 rfl (lv_at hl 0 rfl) ?_
  refine lv_aload_n hx hb dX0_findsOf_1 rfl (lv_at hl 1 rfl) ?_
  refine lv_iload_n hx hb dX0_findsOf_2 rfl (lv_at hl 2 rfl) ?_
  refine lv_aload_n hx hb dX0_findsOf_3 rfl (lv_at hl 1 rfl) ?_
  refine lv_iload_n hx hb dX0_findsOf_4 rfl (lv_at hl 2 rfl) ?_
  refine lv_iconst (v := 0) hx hb dX0_findsOf_5 (by decide) ?_
  obtain ⟨r1, k2, hf⟩ := bd1s hf
  refine xSi (rest := [.int x2, .ref (ad 2), .ref h]) X hF (met_X_atT k2) gs_X0_X0_at dy_X0_at ⟨⟨rfl, rfl⟩, Nat.le_of_ble_eq_true rfl, Nat.le_of_ble_eq_true rfl⟩ hP hD hS hl.1 rfl rfl ⟨Nat.zero_le _, Nat.zero_le _⟩ (Nat.le_of_ble_eq_true rfl) dX0_findsOf_6 (fun H locs hP hD hS => ?_)
  obtain ⟨r3, c4, k5, hf⟩ := bd2s hf
  refine xVi (rest := []) X hF (met_X_findsInT hzN hT k5) gw_X0_X0_findsIn dy_X0_findsIn ⟨⟨rfl, rfl⟩, Nat.le_of_ble_eq_true rfl, Nat.le_of_ble_eq_true rfl⟩ hP hD hS hl.1 rcX rfl rfl ⟨Nat.zero_le _, Nat.zero_le _⟩ (Nat.le_of_ble_eq_true rfl) dX0_findsOf_9 (fun H locs hP hD hS => ?_)
  cases hf
  exact rI X hP hD hS dX0_findsOf_12
set_option maxHeartbeats 4000000 in
theorem met_X_writesT {l : Launch} {g : gG} {h hn hi : Nat} {ad : Nat → Nat} {ra : Nat → Nat → Nat} {z : Nat → Nat} {sTaped : Int32} {sFault : Int32} {sFaultA : Int32} {sWays : Int32} {sMay : Int32} {sMust : Int32} {cTape : Nat → Int32} {cNames : Nat → Int32} {cHead : Nat → Int32} {cSure : Nat → Nat → Int32} {cN : Nat → Int32} {cRow : Nat → Int32} {cTried : Nat → Int32} {cFor : Nat → Int32} {cRoad : Nat → Int32} {cFear : Nat → Int32} {cCall : Nat → Int32} {cUnl : Nat → Int32} {cPaid : Nat → Nat → Int32} {cStep : Nat → Nat → Int32} {cGain : Nat → Nat → Int32} {cText : Nat → Option Nat} {iN : Nat → Int32} {iRow : Nat → Int32} {iFor : Nat → Int32} {iRoad : Nat → Int32} {iFear : Nat → Int32} {iCall : Nat → Int32} {iUnl : Nat → Int32} {iPaid : Nat → Nat → Int32} {iStep : Nat → Nat → Int32} {iGain : Nat → Nat → Int32} {iText : Nat → Option Nat} {tp : va_W} {x1 : Int32} {x2 : Int32} {ncTried : Nat → Int32} (hf : X_writes cTried x1 x2 = some ncTried) : CX l yX0_writes (ws_ yX0_writes cX0_writes 4 none) ({ frames := 1, cells := 0, slots := 0, locals := 26 } : Room) g z [.ref (ad 2), .int x1, .int x2] (xW g h hn hi ad ra sTaped sFault sFaultA sWays sMay sMust cTape cNames cHead cSure cN cRow cTried cFor cRoad cFear cCall cUnl cPaid cStep cGain cText iN iRow iFor iRoad iFear iCall iUnl iPaid iStep iGain iText tp) none (xW g h hn hi ad ra sTaped sFault sFaultA sWays sMay sMust cTape cNames cHead cSure cN cRow ncTried cFor cRoad cFear cCall cUnl cPaid cStep cGain cText iN iRow iFor iRoad iFear iCall iUnl iPaid iStep iGain iText tp) 0 0 := by
  refine CX.of RX0 rfl plain_X0 (Nat.le_of_ble_eq_true rfl) (fun p e s m below meth c A ls X hF hP hD hS hl => ?_)
  have hx := X.1
  have hb := X.2.1
  have hown := X.2.2.2.2.2.1
  have hts := X.2.2.2.2.2.2.1
  have hl : lv_has ls 4 [(0, .ref (ad 2)), (1, .int x1), (2, .int x2)] := hl
  unfold X_writes at hf
  refine lv_aload_n hx hb dX0_writes_0 rfl (lv_at hl 0 rfl) ?_
  refine lv_bipush (v := 44) hx hb dX0_writes_1 (by decide) ?_
  obtain ⟨v1, ev1, bv1, hf⟩ := rds hf
  refine lX_cTried X hP ev1 bv1 dX0_writes_3 ?_
  refine lv_bipush (v := 30) hx hb dX0_writes_4 (by decide) ?_
  obtain ⟨c2, k3, hf⟩ := bd1s hf
  have hj4 : ∀ (H : Heap) (locs : List Loc) (ls : Array Slot), va_P g.1 vwCl (xW g h hn hi ad ra sTaped sFault sFaultA sWays sMay sMust cTape cNames cHead cSure cN cRow c2 cFor cRoad cFear cCall cUnl cPaid cStep cGain cText iN iRow iFor iRoad iFear iCall iUnl iPaid iStep iGain iText tp) H → va_D A (xW g h hn hi ad ra sTaped sFault sFaultA sWays sMay sMust cTape cNames cHead cSure cN cRow c2 cFor cRoad cFear cCall cUnl cPaid cStep cGain cText iN iRow iFor iRoad iFear iCall iUnl iPaid iStep iGain iText tp) → va_S A s.heap H locs → lv_has ls 4 [(0, .ref (ad 2)), (1, .int x1), (2, .int x2)] → W p l e ({ frames := 1, cells := 0, slots := 0, locals := 26 } : Room) s m ([.ref (ad 2), .int x1, .int x2] : List Value).toArray below meth c H locs 0 0 (MQ below (QQ g none (xW g h hn hi ad ra sTaped sFault sFaultA sWays sMay sMust cTape cNames cHead cSure cN cRow ncTried cFor cRoad cFear cCall cUnl cPaid cStep cGain cText iN iRow iFor iRoad iFear iCall iUnl iPaid iStep iGain iText tp) A) ([.ref (ad 2), .int x1, .int x2] : List Value).toArray s 0 0 A) (F0 m 28 ls []) := by
    intro H locs ls hP hD hS hl
    refine lv_bipush (v := 45) hx hb dX0_writes_28 (by decide) ?_
    refine lv_iconst (v := 3) hx hb dX0_writes_30 (by decide) ?_
    refine lv_aload_n hx hb dX0_writes_31 rfl (lv_at hl 0 rfl) ?_
    refine lv_bipush (v := 44) hx hb dX0_writes_32 (by decide) ?_
    obtain ⟨v5, ev5, bv5, hf⟩ := rds hf
    refine lX_cTried X hP ev5 bv5 dX0_writes_34 ?_
    refine lv_imul hx hb dX0_writes_35 ?_
    refine lv_iadd hx hb dX0_writes_36 ?_
    obtain ⟨v6, ev6, hf⟩ := lts hf
    refine tpi ev6 ?_
    refine lv_istore_n (lv' := [(3, .int v6), (0, .ref (ad 2)), (1, .int x1), (2, .int x2)]) hx hb dX0_writes_37 rfl hl (by decide) rfl (fun ls hl => ?_)
    refine lv_aload_n hx hb dX0_writes_38 rfl (lv_at hl 1 rfl) ?_
    refine lv_iload_n hx hb dX0_writes_39 rfl (lv_at hl 0 rfl) ?_
    refine lv_aload_n hx hb dX0_writes_40 rfl (lv_at hl 1 rfl) ?_
    refine lv_iconst (v := 0) hx hb dX0_writes_41 (by decide) ?_
    obtain ⟨v7, ev7, bv7, hf⟩ := rds hf
    refine lX_cTried X hP ev7 bv7 dX0_writes_42 ?_
    obtain ⟨c8, ec8, bc8, hf⟩ := wrs hf
    refine sX_cTried X hP hD hS ec8 bc8 dX0_writes_43 (fun H locs hP hD hS => ?_)
    refine lv_aload_n hx hb dX0_writes_44 rfl (lv_at hl 1 rfl) ?_
    refine lv_iload_n hx hb dX0_writes_45 rfl (lv_at hl 0 rfl) ?_
    refine lv_iconst (v := 1) hx hb dX0_writes_46 (by decide) ?_
    refine lv_iadd hx hb dX0_writes_47 ?_
    refine lv_iload_n hx hb dX0_writes_48 rfl (lv_at hl 2 rfl) ?_
    obtain ⟨c9, ec9, bc9, hf⟩ := wrs hf
    refine sX_cTried X hP hD hS ec9 bc9 dX0_writes_49 (fun H locs hP hD hS => ?_)
    refine lv_aload_n hx hb dX0_writes_50 rfl (lv_at hl 1 rfl) ?_
    refine lv_iload_n hx hb dX0_writes_51 rfl (lv_at hl 0 rfl) ?_
    refine lv_iconst (v := 2) hx hb dX0_writes_52 (by decide) ?_
    refine lv_iadd hx hb dX0_writes_53 ?_
    refine lv_iload_n hx hb dX0_writes_54 rfl (lv_at hl 3 rfl) ?_
    obtain ⟨c10, ec10, bc10, hf⟩ := wrs hf
    refine sX_cTried X hP hD hS ec10 bc10 dX0_writes_55 (fun H locs hP hD hS => ?_)
    refine lv_aload_n hx hb dX0_writes_56 rfl (lv_at hl 1 rfl) ?_
    refine lv_bipush (v := 44) hx hb dX0_writes_57 (by decide) ?_
    refine lv_dup2_11 hx hb dX0_writes_59 rfl rfl ?_
    obtain ⟨v11, ev11, bv11, hf⟩ := rds hf
    refine lX_cTried X hP ev11 bv11 dX0_writes_60 ?_
    refine lv_iconst (v := 1) hx hb dX0_writes_61 (by decide) ?_
    refine lv_iadd hx hb dX0_writes_62 ?_
    obtain ⟨v12, ev12, hf⟩ := lts hf
    refine tpi ev12 ?_
    obtain ⟨c13, ec13, bc13, hf⟩ := wrs hf
    refine sX_cTried X hP hD hS ec13 bc13 dX0_writes_63 (fun H locs hP hD hS => ?_)
    cases hf
    exact rV X hP hD hS dX0_writes_64
  replace hf := k3
  clear k3
  refine bc_ne (tgt := 28) hx hb hf dX0_writes_6 (by decide) (fun hf => ?_) (fun hf => ?_)
  · cases hf
    exact hj4 _ _ _ hP hD hS (lv_sub hl [0, 1, 2] rfl)
  · refine lv_aload_n hx hb dX0_writes_9 rfl (lv_at hl 0 rfl) ?_
    refine lv_bipush (v := 48) hx hb dX0_writes_10 (by decide) ?_
    refine lv_aload_n hx hb dX0_writes_12 rfl (lv_at hl 0 rfl) ?_
    refine lv_bipush (v := 45) hx hb dX0_writes_13 (by decide) ?_
    refine lv_bipush (v := 87) hx hb dX0_writes_15 (by decide) ?_
    obtain ⟨c14, ec14, bc14, hf⟩ := acps hf
    refine rCpy X q919 hl.1 hP hD hS 5 5 rfl rfl ec14 bc14 rfl ⟨Nat.le_of_ble_eq_true rfl, Nat.le_of_ble_eq_true rfl⟩ dX0_writes_17 (fun H locs hP hD hS => ?_)
    have hP : va_P g.1 vwCl (xW g h hn hi ad ra sTaped sFault sFaultA sWays sMay sMust cTape cNames cHead cSure cN cRow c14 cFor cRoad cFear cCall cUnl cPaid cStep cGain cText iN iRow iFor iRoad iFear iCall iUnl iPaid iStep iGain iText tp) H := hP
    have hD : va_D A (xW g h hn hi ad ra sTaped sFault sFaultA sWays sMay sMust cTape cNames cHead cSure cN cRow c14 cFor cRoad cFear cCall cUnl cPaid cStep cGain cText iN iRow iFor iRoad iFear iCall iUnl iPaid iStep iGain iText tp) := hD
    refine lv_aload_n hx hb dX0_writes_20 rfl (lv_at hl 0 rfl) ?_
    refine lv_bipush (v := 44) hx hb dX0_writes_21 (by decide) ?_
    refine lv_dup2_11 hx hb dX0_writes_23 rfl rfl ?_
    obtain ⟨v15, ev15, bv15, hf⟩ := rds hf
    refine lX_cTried X hP ev15 bv15 dX0_writes_24 ?_
    refine lv_iconst (v := 1) hx hb dX0_writes_25 (by decide) ?_
    refine lv_isub hx hb dX0_writes_26 ?_
    obtain ⟨v16, ev16, hf⟩ := lts hf
    refine tpi ev16 ?_
    obtain ⟨c17, ec17, bc17, hf⟩ := wrs hf
    refine sX_cTried X hP hD hS ec17 bc17 dX0_writes_27 (fun H locs hP hD hS => ?_)
    cases hf
    exact hj4 _ _ _ hP hD hS (lv_sub hl [0, 1, 2] rfl)
set_option maxHeartbeats 4000000 in
theorem met_X_diesT {l : Launch} {g : gG} {h hn hi : Nat} {ad : Nat → Nat} {ra : Nat → Nat → Nat} {z : Nat → Nat} {sTaped : Int32} {sFault : Int32} {sFaultA : Int32} {sWays : Int32} {sMay : Int32} {sMust : Int32} {cTape : Nat → Int32} {cNames : Nat → Int32} {cHead : Nat → Int32} {cSure : Nat → Nat → Int32} {cN : Nat → Int32} {cRow : Nat → Int32} {cTried : Nat → Int32} {cFor : Nat → Int32} {cRoad : Nat → Int32} {cFear : Nat → Int32} {cCall : Nat → Int32} {cUnl : Nat → Int32} {cPaid : Nat → Nat → Int32} {cStep : Nat → Nat → Int32} {cGain : Nat → Nat → Int32} {cText : Nat → Option Nat} {iN : Nat → Int32} {iRow : Nat → Int32} {iFor : Nat → Int32} {iRoad : Nat → Int32} {iFear : Nat → Int32} {iCall : Nat → Int32} {iUnl : Nat → Int32} {iPaid : Nat → Nat → Int32} {iStep : Nat → Nat → Int32} {iGain : Nat → Nat → Int32} {iText : Nat → Option Nat} {tp : va_W} {x1 : Int32} {x2 : Int32} {ncTried : Nat → Int32} (hf : X_dies cTried x1 x2 = some ncTried) : CX l yX0_dies (ws_ yX0_dies cX0_dies 3 none) ({ frames := 2, cells := 0, slots := 0, locals := 49 } : Room) g z [.ref (ad 2), .int x1, .int x2] (xW g h hn hi ad ra sTaped sFault sFaultA sWays sMay sMust cTape cNames cHead cSure cN cRow cTried cFor cRoad cFear cCall cUnl cPaid cStep cGain cText iN iRow iFor iRoad iFear iCall iUnl iPaid iStep iGain iText tp) none (xW g h hn hi ad ra sTaped sFault sFaultA sWays sMay sMust cTape cNames cHead cSure cN cRow ncTried cFor cRoad cFear cCall cUnl cPaid cStep cGain cText iN iRow iFor iRoad iFear iCall iUnl iPaid iStep iGain iText tp) 0 0 := by
  refine CX.of RX0 rfl plain_X0 (Nat.le_of_ble_eq_true rfl) (fun p e s m below meth c A ls X hF hP hD hS hl => ?_)
  have hx := X.1
  have hb := X.2.1
  have hown := X.2.2.2.2.2.1
  have hts := X.2.2.2.2.2.2.1
  have hl : lv_has ls 3 [(0, .ref (ad 2)), (1, .int x1), (2, .int x2)] := hl
  unfold X_dies at hf
  refine lv_aload_n hx hb dX0_dies_0 rfl (lv_at hl 0 rfl) ?_
  refine lv_iload_n hx hb dX0_dies_1 rfl (lv_at hl 1 rfl) ?_
  refine lv_bipush (v := 6) hx hb dX0_dies_2 (by decide) ?_
  refine lv_iconst (v := 3) hx hb dX0_dies_4 (by decide) ?_
  obtain ⟨c1, k2, hf⟩ := bd1s hf
  refine xSv (rest := []) X hF (met_X_setsT k2) gs_X0_X0_sets dy_X0_sets ⟨⟨rfl, rfl⟩, Nat.le_of_ble_eq_true rfl, Nat.le_of_ble_eq_true rfl⟩ hP hD hS hl.1 rfl rfl ⟨Nat.zero_le _, Nat.zero_le _⟩ (Nat.le_of_ble_eq_true rfl) dX0_dies_5 (fun H locs hP hD hS => ?_)
  refine lv_aload_n hx hb dX0_dies_8 rfl (lv_at hl 0 rfl) ?_
  refine lv_iload_n hx hb dX0_dies_9 rfl (lv_at hl 1 rfl) ?_
  refine lv_iload_n hx hb dX0_dies_10 rfl (lv_at hl 2 rfl) ?_
  obtain ⟨c3, k4, hf⟩ := bd1s hf
  refine xSv (rest := []) X hF (met_X_writesT k4) gs_X0_X0_writes dy_X0_writes ⟨⟨rfl, rfl⟩, Nat.le_of_ble_eq_true rfl, Nat.le_of_ble_eq_true rfl⟩ hP hD hS hl.1 rfl rfl ⟨Nat.zero_le _, Nat.zero_le _⟩ (Nat.le_of_ble_eq_true rfl) dX0_dies_11 (fun H locs hP hD hS => ?_)
  cases hf
  exact rV X hP hD hS dX0_dies_14
set_option maxHeartbeats 4000000 in
theorem met_X_livesT {l : Launch} {g : gG} {h hn hi : Nat} {ad : Nat → Nat} {ra : Nat → Nat → Nat} {z : Nat → Nat} {sTaped : Int32} {sFault : Int32} {sFaultA : Int32} {sWays : Int32} {sMay : Int32} {sMust : Int32} {cTape : Nat → Int32} {cNames : Nat → Int32} {cHead : Nat → Int32} {cSure : Nat → Nat → Int32} {cN : Nat → Int32} {cRow : Nat → Int32} {cTried : Nat → Int32} {cFor : Nat → Int32} {cRoad : Nat → Int32} {cFear : Nat → Int32} {cCall : Nat → Int32} {cUnl : Nat → Int32} {cPaid : Nat → Nat → Int32} {cStep : Nat → Nat → Int32} {cGain : Nat → Nat → Int32} {cText : Nat → Option Nat} {iN : Nat → Int32} {iRow : Nat → Int32} {iFor : Nat → Int32} {iRoad : Nat → Int32} {iFear : Nat → Int32} {iCall : Nat → Int32} {iUnl : Nat → Int32} {iPaid : Nat → Nat → Int32} {iStep : Nat → Nat → Int32} {iGain : Nat → Nat → Int32} {iText : Nat → Option Nat} {tp : va_W} {E : Nat → Option (Nat → Option ((Nat → Int32) → Int64))} {zN : Nat} {x2 : Int32} {r : Int32} {ncNames : Nat → Int32} {ncTried : Nat → Int32} {φ : Nat} (hzN : zN = z 0) (hT : TxOk g z tp E) (hf : X_lives φ cNames cN cTried cFor cFear cText E zN x2 = some (r, ncNames, ncTried)) : CX l yX0_lives (ws_ yX0_lives cX0_lives 3 (some .boolean)) ({ frames := 245, cells := 0, slots := 0, locals := 5269 } : Room) g z [.ref h, .ref (ad 2), .int x2] (xW g h hn hi ad ra sTaped sFault sFaultA sWays sMay sMust cTape cNames cHead cSure cN cRow cTried cFor cRoad cFear cCall cUnl cPaid cStep cGain cText iN iRow iFor iRoad iFear iCall iUnl iPaid iStep iGain iText tp) (some (.int r)) (xW g h hn hi ad ra sTaped sFault sFaultA sWays sMay sMust cTape ncNames cHead cSure cN cRow ncTried cFor cRoad cFear cCall cUnl cPaid cStep cGain cText iN iRow iFor iRoad iFear iCall iUnl iPaid iStep iGain iText tp) 0 0 := by
  refine CX.of RX0 rfl plain_X0 (Nat.le_of_ble_eq_true rfl) (fun p e s m below meth c A ls X hF hP hD hS hl => ?_)
  have hx := X.1
  have hb := X.2.1
  have hown := X.2.2.2.2.2.1
  have hts := X.2.2.2.2.2.2.1
  have hl : lv_has ls 3 [(0, .ref h), (1, .ref (ad 2)), (2, .int x2)] := hl
  unfold X_lives at hf
  refine lv_aload_n hx hb dX0_lives_0 rfl (lv_at hl 1 rfl) ?_
  refine lv_iload_n hx hb dX0_lives_1 rfl (lv_at hl 2 rfl) ?_
  refine lv_iconst (v := 4) hx hb dX0_lives_2 (by decide) ?_
  refine lv_bipush (v := 9) hx hb dX0_lives_3 (by decide) ?_
  refine lv_aload_n hx hb dX0_lives_5 rfl (lv_at hl 1 rfl) ?_
  refine lv_iload_n hx hb dX0_lives_6 rfl (lv_at hl 2 rfl) ?_
  refine lv_iconst (v := 4) hx hb dX0_lives_7 (by decide) ?_
  obtain ⟨r1, k2, hf⟩ := bd1s hf
  refine xSi (rest := [.int 9, .int 4, .int x2, .ref (ad 2)]) X hF (met_X_atT k2) gs_X0_X0_at dy_X0_at ⟨⟨rfl, rfl⟩, Nat.le_of_ble_eq_true rfl, Nat.le_of_ble_eq_true rfl⟩ hP hD hS hl.1 rfl rfl ⟨Nat.zero_le _, Nat.zero_le _⟩ (Nat.le_of_ble_eq_true rfl) dX0_lives_8 (fun H locs hP hD hS => ?_)
  refine lv_aload_n hx hb dX0_lives_11 rfl (lv_at hl 0 rfl) ?_
  refine lv_aload_n hx hb dX0_lives_12 rfl (lv_at hl 1 rfl) ?_
  refine lv_iload_n hx hb dX0_lives_13 rfl (lv_at hl 2 rfl) ?_
  obtain ⟨r3, c4, k5, hf⟩ := bd2s hf
  refine xVi (rest := [.int r1, .int 9, .int 4, .int x2, .ref (ad 2)]) X hF (met_X_hungersOfT hzN hT k5) gw_X0_X0_hungersOf dy_X0_hungersOf ⟨⟨rfl, rfl⟩, Nat.le_of_ble_eq_true rfl, Nat.le_of_ble_eq_true rfl⟩ hP hD hS hl.1 rcX rfl rfl ⟨Nat.zero_le _, Nat.zero_le _⟩ (Nat.le_of_ble_eq_true rfl) dX0_lives_14 (fun H locs hP hD hS => ?_)
  refine lv_iadd hx hb dX0_lives_17 ?_
  refine rMin X q1043 hl.1 ⟨Nat.le_of_ble_eq_true rfl, Nat.le_of_ble_eq_true rfl⟩ ⟨Nat.zero_le _, Nat.zero_le _⟩ dX0_lives_18 ?_
  obtain ⟨v6, ev6, hf⟩ := lts hf
  refine tpi ev6 ?_
  obtain ⟨c7, k8, hf⟩ := bd1s hf
  refine xSv (rest := []) X hF (met_X_setsT k8) gs_X0_X0_sets dy_X0_sets ⟨⟨rfl, rfl⟩, Nat.le_of_ble_eq_true rfl, Nat.le_of_ble_eq_true rfl⟩ hP hD hS hl.1 rfl rfl ⟨Nat.zero_le _, Nat.zero_le _⟩ (Nat.le_of_ble_eq_true rfl) dX0_lives_21 (fun H locs hP hD hS => ?_)
  refine lv_aload_n hx hb dX0_lives_24 rfl (lv_at hl 1 rfl) ?_
  refine lv_iload_n hx hb dX0_lives_25 rfl (lv_at hl 2 rfl) ?_
  refine lv_iconst (v := 4) hx hb dX0_lives_26 (by decide) ?_
  obtain ⟨r9, k10, hf⟩ := bd1s hf
  refine xSi (rest := []) X hF (met_X_atT k10) gs_X0_X0_at dy_X0_at ⟨⟨rfl, rfl⟩, Nat.le_of_ble_eq_true rfl, Nat.le_of_ble_eq_true rfl⟩ hP hD hS hl.1 rfl rfl ⟨Nat.zero_le _, Nat.zero_le _⟩ (Nat.le_of_ble_eq_true rfl) dX0_lives_27 (fun H locs hP hD hS => ?_)
  refine lv_bipush (v := 9) hx hb dX0_lives_30 (by decide) ?_
  obtain ⟨c11, c12, k13, hf⟩ := bd2s hf
  have hj14 : ∀ (H : Heap) (locs : List Loc) (ls : Array Slot), va_P g.1 vwCl (xW g h hn hi ad ra sTaped sFault sFaultA sWays sMay sMust cTape c11 cHead cSure cN cRow c12 cFor cRoad cFear cCall cUnl cPaid cStep cGain cText iN iRow iFor iRoad iFear iCall iUnl iPaid iStep iGain iText tp) H → va_D A (xW g h hn hi ad ra sTaped sFault sFaultA sWays sMay sMust cTape c11 cHead cSure cN cRow c12 cFor cRoad cFear cCall cUnl cPaid cStep cGain cText iN iRow iFor iRoad iFear iCall iUnl iPaid iStep iGain iText tp) → va_S A s.heap H locs → lv_has ls 3 [(1, .ref (ad 2)), (2, .int x2)] → W p l e ({ frames := 245, cells := 0, slots := 0, locals := 5269 } : Room) s m ([.ref h, .ref (ad 2), .int x2] : List Value).toArray below meth c H locs 0 0 (MQ below (QQ g (some (.int r)) (xW g h hn hi ad ra sTaped sFault sFaultA sWays sMay sMust cTape ncNames cHead cSure cN cRow ncTried cFor cRoad cFear cCall cUnl cPaid cStep cGain cText iN iRow iFor iRoad iFear iCall iUnl iPaid iStep iGain iText tp) A) ([.ref h, .ref (ad 2), .int x2] : List Value).toArray s 0 0 A) (F0 m 86 ls []) := by
    intro H locs ls hP hD hS hl
    refine lv_aload_n hx hb dX0_lives_86 rfl (lv_at hl 0 rfl) ?_
    refine lv_iload_n hx hb dX0_lives_87 rfl (lv_at hl 1 rfl) ?_
    refine lv_bipush (v := 6) hx hb dX0_lives_88 (by decide) ?_
    obtain ⟨r15, k16, hf⟩ := bd1s hf
    refine xSi (rest := []) X hF (met_X_atT k16) gs_X0_X0_at dy_X0_at ⟨⟨rfl, rfl⟩, Nat.le_of_ble_eq_true rfl, Nat.le_of_ble_eq_true rfl⟩ hP hD hS hl.1 rfl rfl ⟨Nat.zero_le _, Nat.zero_le _⟩ (Nat.le_of_ble_eq_true rfl) dX0_lives_90 (fun H locs hP hD hS => ?_)
    refine lv_iconst (v := 3) hx hb dX0_lives_93 (by decide) ?_
    refine bc_eq (tgt := 101) hx hb hf dX0_lives_94 (by decide) (fun hf => ?_) (fun hf => ?_)
    · refine lv_iconst (v := 0) hx hb dX0_lives_101 (by decide) ?_
      cases hf
      exact rZ X rfl hP hD hS dX0_lives_102
    · refine lv_iconst (v := 1) hx hb dX0_lives_97 (by decide) ?_
      refine lv_goto (tgt := 102) hx hb dX0_lives_98 (by decide) ?_
      cases hf
      exact rZ X rfl hP hD hS dX0_lives_102
  replace hf := k13
  clear k13
  refine bc_ne (tgt := 44) hx hb hf dX0_lives_32 (by decide) (fun hf => ?_) (fun hf => ?_)
  · refine lv_aload_n hx hb dX0_lives_44 rfl (lv_at hl 1 rfl) ?_
    obtain ⟨r17, c18, k19, hf⟩ := bd2s hf
    refine xSi (rest := []) X hF (met_X_drawT k19) gs_X0_X0_draw dy_X0_draw ⟨⟨rfl, rfl⟩, Nat.le_of_ble_eq_true rfl, Nat.le_of_ble_eq_true rfl⟩ hP hD hS hl.1 rfl rfl ⟨Nat.zero_le _, Nat.zero_le _⟩ (Nat.le_of_ble_eq_true rfl) dX0_lives_45 (fun H locs hP hD hS => ?_)
    refine lv_aload_n hx hb dX0_lives_48 rfl (lv_at hl 0 rfl) ?_
    refine lv_aload_n hx hb dX0_lives_49 rfl (lv_at hl 1 rfl) ?_
    refine lv_iload_n hx hb dX0_lives_50 rfl (lv_at hl 2 rfl) ?_
    obtain ⟨r20, c21, k22, hf⟩ := bd2s hf
    refine xVi (rest := [.int r17]) X hF (met_X_findsOfT hzN hT k22) gw_X0_X0_findsOf dy_X0_findsOf ⟨⟨rfl, rfl⟩, Nat.le_of_ble_eq_true rfl, Nat.le_of_ble_eq_true rfl⟩ hP hD hS hl.1 rcX rfl rfl ⟨Nat.zero_le _, Nat.zero_le _⟩ (Nat.le_of_ble_eq_true rfl) dX0_lives_51 (fun H locs hP hD hS => ?_)
    refine bc_ge (tgt := 66) hx hb hf dX0_lives_54 (by decide) (fun hf => ?_) (fun hf => ?_)
    · refine lv_aload_n hx hb dX0_lives_66 rfl (lv_at hl 1 rfl) ?_
      refine lv_iload_n hx hb dX0_lives_67 rfl (lv_at hl 2 rfl) ?_
      refine lv_iconst (v := 5) hx hb dX0_lives_68 (by decide) ?_
      refine lv_sipush (v := 9999) hx hb dX0_lives_69 (by decide) ?_
      refine lv_aload_n hx hb dX0_lives_72 rfl (lv_at hl 1 rfl) ?_
      refine lv_iload_n hx hb dX0_lives_73 rfl (lv_at hl 2 rfl) ?_
      refine lv_iconst (v := 5) hx hb dX0_lives_74 (by decide) ?_
      obtain ⟨r23, k24, hf⟩ := bd1s hf
      refine xSi (rest := [.int 9999, .int 5, .int x2, .ref (ad 2)]) X hF (met_X_atT k24) gs_X0_X0_at dy_X0_at ⟨⟨rfl, rfl⟩, Nat.le_of_ble_eq_true rfl, Nat.le_of_ble_eq_true rfl⟩ hP hD hS hl.1 rfl rfl ⟨Nat.zero_le _, Nat.zero_le _⟩ (Nat.le_of_ble_eq_true rfl) dX0_lives_75 (fun H locs hP hD hS => ?_)
      refine lv_iconst (v := 1) hx hb dX0_lives_78 (by decide) ?_
      refine lv_iadd hx hb dX0_lives_79 ?_
      refine rMin X q1043 hl.1 ⟨Nat.le_of_ble_eq_true rfl, Nat.le_of_ble_eq_true rfl⟩ ⟨Nat.zero_le _, Nat.zero_le _⟩ dX0_lives_80 ?_
      obtain ⟨v25, ev25, hf⟩ := lts hf
      refine tpi ev25 ?_
      obtain ⟨c26, k27, hf⟩ := bd1s hf
      refine xSv (rest := []) X hF (met_X_setsT k27) gs_X0_X0_sets dy_X0_sets ⟨⟨rfl, rfl⟩, Nat.le_of_ble_eq_true rfl, Nat.le_of_ble_eq_true rfl⟩ hP hD hS hl.1 rfl rfl ⟨Nat.zero_le _, Nat.zero_le _⟩ (Nat.le_of_ble_eq_true rfl) dX0_lives_83 (fun H locs hP hD hS => ?_)
      cases hf
      exact hj14 _ _ _ hP hD hS (lv_sub hl [1, 2] rfl)
    · refine lv_aload_n hx hb dX0_lives_57 rfl (lv_at hl 1 rfl) ?_
      refine lv_iload_n hx hb dX0_lives_58 rfl (lv_at hl 2 rfl) ?_
      refine lv_iconst (v := 4) hx hb dX0_lives_59 (by decide) ?_
      obtain ⟨c28, k29, hf⟩ := bd1s hf
      refine xSv (rest := []) X hF (met_X_diesT k29) gs_X0_X0_dies dy_X0_dies ⟨⟨rfl, rfl⟩, Nat.le_of_ble_eq_true rfl, Nat.le_of_ble_eq_true rfl⟩ hP hD hS hl.1 rfl rfl ⟨Nat.zero_le _, Nat.zero_le _⟩ (Nat.le_of_ble_eq_true rfl) dX0_lives_60 (fun H locs hP hD hS => ?_)
      refine lv_goto (tgt := 86) hx hb dX0_lives_63 (by decide) ?_
      cases hf
      exact hj14 _ _ _ hP hD hS (lv_sub hl [1, 2] rfl)
  · refine lv_aload_n hx hb dX0_lives_35 rfl (lv_at hl 1 rfl) ?_
    refine lv_iload_n hx hb dX0_lives_36 rfl (lv_at hl 2 rfl) ?_
    refine lv_iconst (v := 3) hx hb dX0_lives_37 (by decide) ?_
    obtain ⟨c30, k31, hf⟩ := bd1s hf
    refine xSv (rest := []) X hF (met_X_diesT k31) gs_X0_X0_dies dy_X0_dies ⟨⟨rfl, rfl⟩, Nat.le_of_ble_eq_true rfl, Nat.le_of_ble_eq_true rfl⟩ hP hD hS hl.1 rfl rfl ⟨Nat.zero_le _, Nat.zero_le _⟩ (Nat.le_of_ble_eq_true rfl) dX0_lives_38 (fun H locs hP hD hS => ?_)
    refine lv_goto (tgt := 86) hx hb dX0_lives_41 (by decide) ?_
    cases hf
    exact hj14 _ _ _ hP hD hS (lv_sub hl [1, 2] rfl)
set_option maxHeartbeats 4000000 in
theorem met_X_earnsOfT {l : Launch} {g : gG} {h hn hi : Nat} {ad : Nat → Nat} {ra : Nat → Nat → Nat} {z : Nat → Nat} {sTaped : Int32} {sFault : Int32} {sFaultA : Int32} {sWays : Int32} {sMay : Int32} {sMust : Int32} {cTape : Nat → Int32} {cNames : Nat → Int32} {cHead : Nat → Int32} {cSure : Nat → Nat → Int32} {cN : Nat → Int32} {cRow : Nat → Int32} {cTried : Nat → Int32} {cFor : Nat → Int32} {cRoad : Nat → Int32} {cFear : Nat → Int32} {cCall : Nat → Int32} {cUnl : Nat → Int32} {cPaid : Nat → Nat → Int32} {cStep : Nat → Nat → Int32} {cGain : Nat → Nat → Int32} {cText : Nat → Option Nat} {iN : Nat → Int32} {iRow : Nat → Int32} {iFor : Nat → Int32} {iRoad : Nat → Int32} {iFear : Nat → Int32} {iCall : Nat → Int32} {iUnl : Nat → Int32} {iPaid : Nat → Nat → Int32} {iStep : Nat → Nat → Int32} {iGain : Nat → Nat → Int32} {iText : Nat → Option Nat} {tp : va_W} {E : Nat → Option (Nat → Option ((Nat → Int32) → Int64))} {zN : Nat} {x2 : Int32} {r : Int32} {ncNames : Nat → Int32} {φ : Nat} (hzN : zN = z 0) (hT : TxOk g z tp E) (hf : X_earnsOf φ cNames cN cTried cFor cFear cText E zN x2 = some (r, ncNames)) : CX l yX0_earnsOf (ws_ yX0_earnsOf cX0_earnsOf 3 (some .int)) ({ frames := 243, cells := 0, slots := 0, locals := 5224 } : Room) g z [.ref h, .ref (ad 2), .int x2] (xW g h hn hi ad ra sTaped sFault sFaultA sWays sMay sMust cTape cNames cHead cSure cN cRow cTried cFor cRoad cFear cCall cUnl cPaid cStep cGain cText iN iRow iFor iRoad iFear iCall iUnl iPaid iStep iGain iText tp) (some (.int r)) (xW g h hn hi ad ra sTaped sFault sFaultA sWays sMay sMust cTape ncNames cHead cSure cN cRow cTried cFor cRoad cFear cCall cUnl cPaid cStep cGain cText iN iRow iFor iRoad iFear iCall iUnl iPaid iStep iGain iText tp) 0 0 := by
  refine CX.of RX0 rfl plain_X0 (Nat.le_of_ble_eq_true rfl) (fun p e s m below meth c A ls X hF hP hD hS hl => ?_)
  have hx := X.1
  have hb := X.2.1
  have hown := X.2.2.2.2.2.1
  have hts := X.2.2.2.2.2.2.1
  have hl : lv_has ls 3 [(0, .ref h), (1, .ref (ad 2)), (2, .int x2)] := hl
  unfold X_earnsOf at hf
  refine lv_aload_n hx hb dX0_earnsOf_0 rfl (lv_at hl 0 rfl) ?_
  refine lv_aload_n hx hb dX0_earnsOf_1 rfl (lv_at hl 1 rfl) ?_
  refine lv_iload_n hx hb dX0_earnsOf_2 rfl (lv_at hl 2 rfl) ?_
  refine lv_aload_n hx hb dX0_earnsOf_3 rfl (lv_at hl 1 rfl) ?_
  refine lv_iload_n hx hb dX0_earnsOf_4 rfl (lv_at hl 2 rfl) ?_
  refine lv_iconst (v := 0) hx hb dX0_earnsOf_5 (by decide) ?_
  obtain ⟨r1, k2, hf⟩ := bd1s hf
  refine xSi (rest := [.int x2, .ref (ad 2), .ref h]) X hF (met_X_atT k2) gs_X0_X0_at dy_X0_at ⟨⟨rfl, rfl⟩, Nat.le_of_ble_eq_true rfl, Nat.le_of_ble_eq_true rfl⟩ hP hD hS hl.1 rfl rfl ⟨Nat.zero_le _, Nat.zero_le _⟩ (Nat.le_of_ble_eq_true rfl) dX0_earnsOf_6 (fun H locs hP hD hS => ?_)
  obtain ⟨c3, k4, hf⟩ := bd1s hf
  refine xVv (rest := []) X hF (met_X_namesOfT k4) gw_X0_X0_namesOf dy_X0_namesOf ⟨⟨rfl, rfl⟩, Nat.le_of_ble_eq_true rfl, Nat.le_of_ble_eq_true rfl⟩ hP hD hS hl.1 rcX rfl rfl ⟨Nat.zero_le _, Nat.zero_le _⟩ (Nat.le_of_ble_eq_true rfl) dX0_earnsOf_9 (fun H locs hP hD hS => ?_)
  refine lv_aload_n hx hb dX0_earnsOf_12 rfl (lv_at hl 0 rfl) ?_
  refine lv_aload_n hx hb dX0_earnsOf_13 rfl (lv_at hl 0 rfl) ?_
  obtain ⟨r5, k6, hf⟩ := bd1s hf
  refine xVr (rest := [.ref h]) X hF (met_X_rules hzN k6) gw_X0_X0_rules dy_X0_rules ⟨⟨rfl, rfl⟩, Nat.le_of_ble_eq_true rfl, Nat.le_of_ble_eq_true rfl⟩ hP hD hS hl.1 rcX rfl rfl ⟨Nat.zero_le _, Nat.zero_le _⟩ (Nat.le_of_ble_eq_true rfl) dX0_earnsOf_14 (fun H locs hP hD hS => ?_)
  refine lv_iconst (v := 3) hx hb dX0_earnsOf_17 (by decide) ?_
  refine lv_bipush (v := 10) hx hb dX0_earnsOf_18 (by decide) ?_
  refine lv_bipush (v := 99) hx hb dX0_earnsOf_20 (by decide) ?_
  obtain ⟨r7, k8, hf⟩ := bd1s hf
  refine xVi (rest := []) X hF (met_X_law hT k8) gw_X0_X0_law dy_X0_law ⟨⟨rfl, rfl⟩, Nat.le_of_ble_eq_true rfl, Nat.le_of_ble_eq_true rfl⟩ hP hD hS hl.1 rcX rfl rfl ⟨Nat.zero_le _, Nat.zero_le _⟩ (Nat.le_of_ble_eq_true rfl) dX0_earnsOf_22 (fun H locs hP hD hS => ?_)
  cases hf
  exact rI X hP hD hS dX0_earnsOf_25
set_option maxHeartbeats 4000000 in
theorem met_X_passesT {l : Launch} {g : gG} {h hn hi : Nat} {ad : Nat → Nat} {ra : Nat → Nat → Nat} {z : Nat → Nat} {sTaped : Int32} {sFault : Int32} {sFaultA : Int32} {sWays : Int32} {sMay : Int32} {sMust : Int32} {cTape : Nat → Int32} {cNames : Nat → Int32} {cHead : Nat → Int32} {cSure : Nat → Nat → Int32} {cN : Nat → Int32} {cRow : Nat → Int32} {cTried : Nat → Int32} {cFor : Nat → Int32} {cRoad : Nat → Int32} {cFear : Nat → Int32} {cCall : Nat → Int32} {cUnl : Nat → Int32} {cPaid : Nat → Nat → Int32} {cStep : Nat → Nat → Int32} {cGain : Nat → Nat → Int32} {cText : Nat → Option Nat} {iN : Nat → Int32} {iRow : Nat → Int32} {iFor : Nat → Int32} {iRoad : Nat → Int32} {iFear : Nat → Int32} {iCall : Nat → Int32} {iUnl : Nat → Int32} {iPaid : Nat → Nat → Int32} {iStep : Nat → Nat → Int32} {iGain : Nat → Nat → Int32} {iText : Nat → Option Nat} {tp : va_W} {E : Nat → Option (Nat → Option ((Nat → Int32) → Int64))} {zN : Nat} {r : Int32} {ncNames : Nat → Int32} {ncTried : Nat → Int32} {φ : Nat} (hzN : zN = z 0) (hT : TxOk g z tp E) (hf : X_passes φ cNames cN cTried cFor cFear cText E zN = some (r, ncNames, ncTried)) : CX l yX0_passes (ws_ yX0_passes cX0_passes 4 (some .int)) ({ frames := 246, cells := 0, slots := 0, locals := 5291 } : Room) g z [.ref h, .ref (ad 2)] (xW g h hn hi ad ra sTaped sFault sFaultA sWays sMay sMust cTape cNames cHead cSure cN cRow cTried cFor cRoad cFear cCall cUnl cPaid cStep cGain cText iN iRow iFor iRoad iFear iCall iUnl iPaid iStep iGain iText tp) (some (.int r)) (xW g h hn hi ad ra sTaped sFault sFaultA sWays sMay sMust cTape ncNames cHead cSure cN cRow ncTried cFor cRoad cFear cCall cUnl cPaid cStep cGain cText iN iRow iFor iRoad iFear iCall iUnl iPaid iStep iGain iText tp) 0 0 := by
  refine CX.of RX0 rfl plain_X0 (Nat.le_of_ble_eq_true rfl) (fun p e s m below meth c A ls X hF hP hD hS hl => ?_)
  have hx := X.1
  have hb := X.2.1
  have hown := X.2.2.2.2.2.1
  have hts := X.2.2.2.2.2.2.1
  have hl : lv_has ls 4 [(0, .ref h), (1, .ref (ad 2))] := hl
  unfold X_passes at hf
  refine lv_iconst (v := 0) hx hb dX0_passes_0 (by decide) ?_
  refine lv_istore_n (lv' := [(2, .int 0), (0, .ref h), (1, .ref (ad 2))]) hx hb dX0_passes_1 rfl hl (by decide) rfl (fun ls hl => ?_)
  refine lv_iconst (v := 0) hx hb dX0_passes_2 (by decide) ?_
  refine lv_istore_n (lv' := [(3, .int 0), (2, .int 0), (0, .ref h), (1, .ref (ad 2))]) hx hb dX0_passes_3 rfl hl (by decide) rfl (fun ls hl => ?_)
  obtain ⟨v5, c6, c7, k12, hf⟩ := bd3s hf
  have hE9 : ∀ (H : Heap) (locs : List Loc) (ls : Array Slot), va_P g.1 vwCl (xW g h hn hi ad ra sTaped sFault sFaultA sWays sMay sMust cTape c6 cHead cSure cN cRow c7 cFor cRoad cFear cCall cUnl cPaid cStep cGain cText iN iRow iFor iRoad iFear iCall iUnl iPaid iStep iGain iText tp) H → va_D A (xW g h hn hi ad ra sTaped sFault sFaultA sWays sMay sMust cTape c6 cHead cSure cN cRow c7 cFor cRoad cFear cCall cUnl cPaid cStep cGain cText iN iRow iFor iRoad iFear iCall iUnl iPaid iStep iGain iText tp) → va_S A s.heap H locs → lv_has ls 4 [(1, .ref (ad 2)), (2, .int v5)] → W p l e ({ frames := 246, cells := 0, slots := 0, locals := 5291 } : Room) s m ([.ref h, .ref (ad 2)] : List Value).toArray below meth c H locs 0 0 (MQ below (QQ g (some (.int r)) (xW g h hn hi ad ra sTaped sFault sFaultA sWays sMay sMust cTape ncNames cHead cSure cN cRow ncTried cFor cRoad cFear cCall cUnl cPaid cStep cGain cText iN iRow iFor iRoad iFear iCall iUnl iPaid iStep iGain iText tp) A) ([.ref h, .ref (ad 2)] : List Value).toArray s 0 0 A) (F0 m 88 ls []) := by
    intro H locs ls hP hD hS hl
    refine lv_aload_n hx hb dX0_passes_88 rfl (lv_at hl 0 rfl) ?_
    refine lv_iconst (v := 0) hx hb dX0_passes_89 (by decide) ?_
    refine lv_dup2_11 hx hb dX0_passes_90 rfl rfl ?_
    obtain ⟨v13, ev13, bv13, hf⟩ := rds hf
    refine lX_cTried X hP ev13 bv13 dX0_passes_91 ?_
    refine lv_iconst (v := 1) hx hb dX0_passes_92 (by decide) ?_
    refine lv_iadd hx hb dX0_passes_93 ?_
    obtain ⟨v14, ev14, hf⟩ := lts hf
    refine tpi ev14 ?_
    obtain ⟨c15, ec15, bc15, hf⟩ := wrs hf
    refine sX_cTried X hP hD hS ec15 bc15 dX0_passes_94 (fun H locs hP hD hS => ?_)
    refine lv_iload_n hx hb dX0_passes_95 rfl (lv_at hl 1 rfl) ?_
    cases hf
    exact rI X hP hD hS dX0_passes_96
  have hL10 : ∀ (n8 : Nat) (v1 : Int32) (v2 : Int32) (c3 : Nat → Int32) (c4 : Nat → Int32), X_passes_L4 φ cN cFor cFear cText E zN n8 v1 v2 c3 c4 = some (v5, c6, c7) → ∀ (H : Heap) (locs : List Loc) (ls : Array Slot), va_P g.1 vwCl (xW g h hn hi ad ra sTaped sFault sFaultA sWays sMay sMust cTape c3 cHead cSure cN cRow c4 cFor cRoad cFear cCall cUnl cPaid cStep cGain cText iN iRow iFor iRoad iFear iCall iUnl iPaid iStep iGain iText tp) H → va_D A (xW g h hn hi ad ra sTaped sFault sFaultA sWays sMay sMust cTape c3 cHead cSure cN cRow c4 cFor cRoad cFear cCall cUnl cPaid cStep cGain cText iN iRow iFor iRoad iFear iCall iUnl iPaid iStep iGain iText tp) → va_S A s.heap H locs → lv_has ls 4 [(0, .ref h), (1, .ref (ad 2)), (2, .int v1), (3, .int v2)] → W p l e ({ frames := 246, cells := 0, slots := 0, locals := 5291 } : Room) s m ([.ref h, .ref (ad 2)] : List Value).toArray below meth c H locs 0 0 (MQ below (QQ g (some (.int r)) (xW g h hn hi ad ra sTaped sFault sFaultA sWays sMay sMust cTape ncNames cHead cSure cN cRow ncTried cFor cRoad cFear cCall cUnl cPaid cStep cGain cText iN iRow iFor iRoad iFear iCall iUnl iPaid iStep iGain iText tp) A) ([.ref h, .ref (ad 2)] : List Value).toArray s 0 0 A) (F0 m 4 ls []) := by
    intro n8
    induction n8 with
    | zero =>
      intro v1 v2 c3 c4 hf
      exact nn hf
    | succ n8 ih11 =>
      intro v1 v2 c3 c4 hf H locs ls hP hD hS hl
      rw [X_passes_L4] at hf
      refine lv_iload_n hx hb dX0_passes_4 rfl (lv_at hl 3 rfl) ?_
      refine lv_aload_n hx hb dX0_passes_5 rfl (lv_at hl 0 rfl) ?_
      refine gX_X0_this_now X hP dX0_passes_6 ?_
      refine gX_X0_now_n X hF hP dX0_passes_9 ?_
      refine lv_iconst (v := 1) hx hb dX0_passes_12 (by decide) ?_
      obtain ⟨v16, ev16, bv16, hf⟩ := rds hf
      refine lX_cN X hP ev16 bv16 dX0_passes_13 ?_
      refine bc_ge (tgt := 88) hx hb hf dX0_passes_14 (by decide) (fun hf => ?_) (fun hf => ?_)
      · cases hf
        exact hE9 _ _ _ hP hD hS (lv_sub hl [1, 2] rfl)
      · refine lv_aload_n hx hb dX0_passes_17 rfl (lv_at hl 1 rfl) ?_
        refine lv_iload_n hx hb dX0_passes_18 rfl (lv_at hl 3 rfl) ?_
        refine lv_bipush (v := 6) hx hb dX0_passes_19 (by decide) ?_
        obtain ⟨r17, k18, hf⟩ := bd1s hf
        refine xSi (rest := []) X hF (met_X_atT k18) gs_X0_X0_at dy_X0_at ⟨⟨rfl, rfl⟩, Nat.le_of_ble_eq_true rfl, Nat.le_of_ble_eq_true rfl⟩ hP hD hS hl.1 rfl rfl ⟨Nat.zero_le _, Nat.zero_le _⟩ (Nat.le_of_ble_eq_true rfl) dX0_passes_21 (fun H locs hP hD hS => ?_)
        refine lv_iconst (v := 3) hx hb dX0_passes_24 (by decide) ?_
        refine bc_ne (tgt := 31) hx hb hf dX0_passes_25 (by decide) (fun hf => ?_) (fun hf => ?_)
        · refine lv_aload_n hx hb dX0_passes_31 rfl (lv_at hl 1 rfl) ?_
          refine lv_iload_n hx hb dX0_passes_32 rfl (lv_at hl 3 rfl) ?_
          refine lv_bipush (v := 6) hx hb dX0_passes_33 (by decide) ?_
          obtain ⟨r19, k20, hf⟩ := bd1s hf
          refine xSi (rest := []) X hF (met_X_atT k20) gs_X0_X0_at dy_X0_at ⟨⟨rfl, rfl⟩, Nat.le_of_ble_eq_true rfl, Nat.le_of_ble_eq_true rfl⟩ hP hD hS hl.1 rfl rfl ⟨Nat.zero_le _, Nat.zero_le _⟩ (Nat.le_of_ble_eq_true rfl) dX0_passes_35 (fun H locs hP hD hS => ?_)
          refine lv_iconst (v := 1) hx hb dX0_passes_38 (by decide) ?_
          refine bc_eq (tgt := 70) hx hb hf dX0_passes_39 (by decide) (fun hf => ?_) (fun hf => ?_)
          · refine lv_aload_n hx hb dX0_passes_70 rfl (lv_at hl 0 rfl) ?_
            refine lv_aload_n hx hb dX0_passes_71 rfl (lv_at hl 1 rfl) ?_
            refine lv_iload_n hx hb dX0_passes_72 rfl (lv_at hl 3 rfl) ?_
            obtain ⟨r21, c22, c23, k24, hf⟩ := bd3s hf
            refine xVi (rest := []) X hF (met_X_livesT hzN hT k24) gw_X0_X0_lives dy_X0_lives ⟨⟨rfl, rfl⟩, Nat.le_of_ble_eq_true rfl, Nat.le_of_ble_eq_true rfl⟩ hP hD hS hl.1 rcX rfl rfl ⟨Nat.zero_le _, Nat.zero_le _⟩ (Nat.le_of_ble_eq_true rfl) dX0_passes_73 (fun H locs hP hD hS => ?_)
            refine bq_ne (tgt := 82) hx hb hf dX0_passes_76 (by decide) (fun hf => ?_) (fun hf => ?_)
            · obtain ⟨v25, ev25, hf⟩ := lts hf
              refine lv_iinc (v := v25) (lv' := [(3, .int v25), (0, .ref h), (1, .ref (ad 2)), (2, .int v1)]) hx hb dX0_passes_82 hl (k := 3) rfl (by rw [ev25]; rfl) (by decide) rfl (fun ls hl => ?_)
              refine lv_goto (tgt := 4) hx hb dX0_passes_85 (by decide) ?_
              exact ih11 _ _ _ _ hf _ _ _ hP hD hS (lv_sub hl [1, 2, 3, 0] rfl)
            · obtain ⟨v26, ev26, hf⟩ := lts hf
              refine lv_iinc (v := v26) (lv' := [(2, .int v26), (0, .ref h), (1, .ref (ad 2)), (3, .int v2)]) hx hb dX0_passes_79 hl (k := 2) rfl (by rw [ev26]; rfl) (by decide) rfl (fun ls hl => ?_)
              obtain ⟨v27, ev27, hf⟩ := lts hf
              refine lv_iinc (v := v27) (lv' := [(3, .int v27), (2, .int v26), (0, .ref h), (1, .ref (ad 2))]) hx hb dX0_passes_82 hl (k := 3) rfl (by rw [ev27]; rfl) (by decide) rfl (fun ls hl => ?_)
              refine lv_goto (tgt := 4) hx hb dX0_passes_85 (by decide) ?_
              exact ih11 _ _ _ _ hf _ _ _ hP hD hS (lv_sub hl [2, 3, 1, 0] rfl)
          · refine lv_aload_n hx hb dX0_passes_42 rfl (lv_at hl 1 rfl) ?_
            refine lv_iload_n hx hb dX0_passes_43 rfl (lv_at hl 3 rfl) ?_
            refine lv_iconst (v := 1) hx hb dX0_passes_44 (by decide) ?_
            refine lv_sipush (v := 9999) hx hb dX0_passes_45 (by decide) ?_
            refine lv_aload_n hx hb dX0_passes_48 rfl (lv_at hl 1 rfl) ?_
            refine lv_iload_n hx hb dX0_passes_49 rfl (lv_at hl 3 rfl) ?_
            refine lv_iconst (v := 1) hx hb dX0_passes_50 (by decide) ?_
            obtain ⟨r28, k29, hf⟩ := bd1s hf
            refine xSi (rest := [.int 9999, .int 1, .int v2, .ref (ad 2)]) X hF (met_X_atT k29) gs_X0_X0_at dy_X0_at ⟨⟨rfl, rfl⟩, Nat.le_of_ble_eq_true rfl, Nat.le_of_ble_eq_true rfl⟩ hP hD hS hl.1 rfl rfl ⟨Nat.zero_le _, Nat.zero_le _⟩ (Nat.le_of_ble_eq_true rfl) dX0_passes_51 (fun H locs hP hD hS => ?_)
            refine lv_aload_n hx hb dX0_passes_54 rfl (lv_at hl 0 rfl) ?_
            refine lv_aload_n hx hb dX0_passes_55 rfl (lv_at hl 1 rfl) ?_
            refine lv_iload_n hx hb dX0_passes_56 rfl (lv_at hl 3 rfl) ?_
            obtain ⟨r30, c31, k32, hf⟩ := bd2s hf
            refine xVi (rest := [.int r28, .int 9999, .int 1, .int v2, .ref (ad 2)]) X hF (met_X_earnsOfT hzN hT k32) gw_X0_X0_earnsOf dy_X0_earnsOf ⟨⟨rfl, rfl⟩, Nat.le_of_ble_eq_true rfl, Nat.le_of_ble_eq_true rfl⟩ hP hD hS hl.1 rcX rfl rfl ⟨Nat.zero_le _, Nat.zero_le _⟩ (Nat.le_of_ble_eq_true rfl) dX0_passes_57 (fun H locs hP hD hS => ?_)
            refine lv_iadd hx hb dX0_passes_60 ?_
            refine rMin X q1043 hl.1 ⟨Nat.le_of_ble_eq_true rfl, Nat.le_of_ble_eq_true rfl⟩ ⟨Nat.zero_le _, Nat.zero_le _⟩ dX0_passes_61 ?_
            obtain ⟨v33, ev33, hf⟩ := lts hf
            refine tpi ev33 ?_
            obtain ⟨c34, k35, hf⟩ := bd1s hf
            refine xSv (rest := []) X hF (met_X_setsT k35) gs_X0_X0_sets dy_X0_sets ⟨⟨rfl, rfl⟩, Nat.le_of_ble_eq_true rfl, Nat.le_of_ble_eq_true rfl⟩ hP hD hS hl.1 rfl rfl ⟨Nat.zero_le _, Nat.zero_le _⟩ (Nat.le_of_ble_eq_true rfl) dX0_passes_64 (fun H locs hP hD hS => ?_)
            refine lv_goto (tgt := 82) hx hb dX0_passes_67 (by decide) ?_
            obtain ⟨v36, ev36, hf⟩ := lts hf
            refine lv_iinc (v := v36) (lv' := [(3, .int v36), (0, .ref h), (1, .ref (ad 2)), (2, .int v1)]) hx hb dX0_passes_82 hl (k := 3) rfl (by rw [ev36]; rfl) (by decide) rfl (fun ls hl => ?_)
            refine lv_goto (tgt := 4) hx hb dX0_passes_85 (by decide) ?_
            exact ih11 _ _ _ _ hf _ _ _ hP hD hS (lv_sub hl [1, 2, 3, 0] rfl)
        · refine lv_goto (tgt := 82) hx hb dX0_passes_28 (by decide) ?_
          obtain ⟨v37, ev37, hf⟩ := lts hf
          refine lv_iinc (v := v37) (lv' := [(3, .int v37), (0, .ref h), (1, .ref (ad 2)), (2, .int v1)]) hx hb dX0_passes_82 hl (k := 3) rfl (by rw [ev37]; rfl) (by decide) rfl (fun ls hl => ?_)
          refine lv_goto (tgt := 4) hx hb dX0_passes_85 (by decide) ?_
          exact ih11 _ _ _ _ hf _ _ _ hP hD hS (lv_sub hl [1, 2, 3, 0] rfl)
  exact hL10 _ _ _ _ _ k12 _ _ _ hP hD hS (lv_sub hl [2, 3, 1, 0] rfl)
set_option maxHeartbeats 4000000 in
theorem met_X_foretold {l : Launch} {g : gG} {h hn hi : Nat} {ad : Nat → Nat} {ra : Nat → Nat → Nat} {z : Nat → Nat} {sTaped : Int32} {sFault : Int32} {sFaultA : Int32} {sWays : Int32} {sMay : Int32} {sMust : Int32} {cTape : Nat → Int32} {cNames : Nat → Int32} {cHead : Nat → Int32} {cSure : Nat → Nat → Int32} {cN : Nat → Int32} {cRow : Nat → Int32} {cTried : Nat → Int32} {cFor : Nat → Int32} {cRoad : Nat → Int32} {cFear : Nat → Int32} {cCall : Nat → Int32} {cUnl : Nat → Int32} {cPaid : Nat → Nat → Int32} {cStep : Nat → Nat → Int32} {cGain : Nat → Nat → Int32} {cText : Nat → Option Nat} {iN : Nat → Int32} {iRow : Nat → Int32} {iFor : Nat → Int32} {iRoad : Nat → Int32} {iFear : Nat → Int32} {iCall : Nat → Int32} {iUnl : Nat → Int32} {iPaid : Nat → Nat → Int32} {iStep : Nat → Nat → Int32} {iGain : Nat → Nat → Int32} {iText : Nat → Option Nat} {tp : va_W} {E : Nat → Option (Nat → Option ((Nat → Int32) → Int64))} {zN : Nat} {x1 : Int32} {x2 : Int32} {x3 : Int32} {r : Int32} {ncNames : Nat → Int32} {ncTried : Nat → Int32} {φ : Nat} (hzN : zN = z 0) (hT : TxOk g z tp E) (hf : X_foretold φ cNames cN cRow cTried cFor cFear cText E zN x1 x2 x3 = some (r, ncNames, ncTried)) : CX l yX0_foretold (ws_ yX0_foretold cX0_foretold 6 (some .int)) ({ frames := 247, cells := 0, slots := 0, locals := 5314 } : Room) g z [.ref h, .int x1, .int x2, .int x3] (xW g h hn hi ad ra sTaped sFault sFaultA sWays sMay sMust cTape cNames cHead cSure cN cRow cTried cFor cRoad cFear cCall cUnl cPaid cStep cGain cText iN iRow iFor iRoad iFear iCall iUnl iPaid iStep iGain iText tp) (some (.int r)) (xW g h hn hi ad ra sTaped sFault sFaultA sWays sMay sMust cTape ncNames cHead cSure cN cRow ncTried cFor cRoad cFear cCall cUnl cPaid cStep cGain cText iN iRow iFor iRoad iFear iCall iUnl iPaid iStep iGain iText tp) 0 0 := by
  refine CX.of RX0 rfl plain_X0 (Nat.le_of_ble_eq_true rfl) (fun p e s m below meth c A ls X hF hP hD hS hl => ?_)
  have hx := X.1
  have hb := X.2.1
  have hown := X.2.2.2.2.2.1
  have hts := X.2.2.2.2.2.2.1
  have hl : lv_has ls 6 [(0, .ref h), (1, .int x1), (2, .int x2), (3, .int x3)] := hl
  unfold X_foretold at hf
  refine lv_iload_n hx hb dX0_foretold_0 rfl (lv_at hl 1 rfl) ?_
  refine lv_iconst (v := 1) hx hb dX0_foretold_1 (by decide) ?_
  refine lv_bipush (v := 60) hx hb dX0_foretold_2 (by decide) ?_
  obtain ⟨r1, k2, hf⟩ := bd1s hf
  refine cSi (rest := []) X (met_X_in (g := g) k2) gs_X0_X0_in dy_X0_in ⟨⟨rfl, rfl⟩, Nat.le_of_ble_eq_true rfl, Nat.le_of_ble_eq_true rfl⟩ hP hD hS hl.1 rfl rfl ⟨Nat.zero_le _, Nat.zero_le _⟩ (Nat.le_of_ble_eq_true rfl) dX0_foretold_4 (fun H locs hP hD hS => ?_)
  refine bq_eq (tgt := 18) hx hb hf dX0_foretold_7 (by decide) (fun hf => ?_) (fun hf => ?_)
  · refine lv_iconst (v := (-1)) hx hb dX0_foretold_18 (by decide) ?_
    cases hf
    exact rI X hP hD hS dX0_foretold_19
  · refine lv_aload_n hx hb dX0_foretold_10 rfl (lv_at hl 0 rfl) ?_
    refine lv_iload_n hx hb dX0_foretold_11 rfl (lv_at hl 2 rfl) ?_
    obtain ⟨r3, k4, hf⟩ := bd1s hf
    refine xVi (rest := []) X hF (met_X_isPerson k4) gw_X0_X0_isPerson dy_X0_isPerson ⟨⟨rfl, rfl⟩, Nat.le_of_ble_eq_true rfl, Nat.le_of_ble_eq_true rfl⟩ hP hD hS hl.1 rcX rfl rfl ⟨Nat.zero_le _, Nat.zero_le _⟩ (Nat.le_of_ble_eq_true rfl) dX0_foretold_12 (fun H locs hP hD hS => ?_)
    refine bq_ne (tgt := 20) hx hb hf dX0_foretold_15 (by decide) (fun hf => ?_) (fun hf => ?_)
    · refine lv_aload_n hx hb dX0_foretold_20 rfl (lv_at hl 0 rfl) ?_
      refine gX_X0_this_now X hP dX0_foretold_21 ?_
      refine gX_X0_now_row X hF hP dX0_foretold_24 ?_
      refine lv_aload_n hx hb dX0_foretold_27 rfl (lv_at hl 0 rfl) ?_
      refine gX_X0_this_tried X hP dX0_foretold_28 ?_
      obtain ⟨c5, ec5, hf⟩ := lts hf
      refine cCopyN X hF 29 rfl hl.1 hP hD hS xat_cRow xat_cTried (by decide) (Nat.le_of_ble_eq_true rfl) (xset_cTried ec5) ⟨Nat.le_of_ble_eq_true rfl, Nat.le_of_ble_eq_true rfl⟩ ⟨Nat.zero_le _, Nat.zero_le _⟩ (Nat.le_of_ble_eq_true rfl) dX0_foretold_31 (fun H locs hP hD hS => ?_)
      refine lv_iconst (v := 0) hx hb dX0_foretold_34 (by decide) ?_
      refine lv_istore (lv' := [(4, .int 0), (0, .ref h), (1, .int x1), (2, .int x2), (3, .int x3)]) hx hb dX0_foretold_35 hl (by decide) rfl (fun ls hl => ?_)
      refine lv_iconst (v := 0) hx hb dX0_foretold_37 (by decide) ?_
      refine lv_istore (lv' := [(5, .int 0), (4, .int 0), (0, .ref h), (1, .int x1), (2, .int x2), (3, .int x3)]) hx hb dX0_foretold_38 hl (by decide) rfl (fun ls hl => ?_)
      obtain ⟨c10, c11, k16, hf⟩ := bd2s hf
      have hE13 : ∀ (H : Heap) (locs : List Loc) (ls : Array Slot), va_P g.1 vwCl (xW g h hn hi ad ra sTaped sFault sFaultA sWays sMay sMust cTape c10 cHead cSure cN cRow c11 cFor cRoad cFear cCall cUnl cPaid cStep cGain cText iN iRow iFor iRoad iFear iCall iUnl iPaid iStep iGain iText tp) H → va_D A (xW g h hn hi ad ra sTaped sFault sFaultA sWays sMay sMust cTape c10 cHead cSure cN cRow c11 cFor cRoad cFear cCall cUnl cPaid cStep cGain cText iN iRow iFor iRoad iFear iCall iUnl iPaid iStep iGain iText tp) → va_S A s.heap H locs → lv_has ls 6 [(0, .ref h), (2, .int x2), (3, .int x3)] → W p l e ({ frames := 247, cells := 0, slots := 0, locals := 5314 } : Room) s m ([.ref h, .int x1, .int x2, .int x3] : List Value).toArray below meth c H locs 0 0 (MQ below (QQ g (some (.int r)) (xW g h hn hi ad ra sTaped sFault sFaultA sWays sMay sMust cTape ncNames cHead cSure cN cRow ncTried cFor cRoad cFear cCall cUnl cPaid cStep cGain cText iN iRow iFor iRoad iFear iCall iUnl iPaid iStep iGain iText tp) A) ([.ref h, .int x1, .int x2, .int x3] : List Value).toArray s 0 0 A) (F0 m 77 ls []) := by
        intro H locs ls hP hD hS hl
        refine lv_aload_n hx hb dX0_foretold_77 rfl (lv_at hl 0 rfl) ?_
        refine gX_X0_this_tried X hP dX0_foretold_78 ?_
        refine lv_iload_n hx hb dX0_foretold_81 rfl (lv_at hl 1 rfl) ?_
        refine lv_iload_n hx hb dX0_foretold_82 rfl (lv_at hl 2 rfl) ?_
        refine bq_eq (tgt := 90) hx hb hf dX0_foretold_83 (by decide) (fun hf => ?_) (fun hf => ?_)
        · refine lv_bipush (v := 6) hx hb dX0_foretold_90 (by decide) ?_
          obtain ⟨r17, k18, hf⟩ := bd1s hf
          refine xSi (rest := []) X hF (met_X_atT k18) gs_X0_X0_at dy_X0_at ⟨⟨rfl, rfl⟩, Nat.le_of_ble_eq_true rfl, Nat.le_of_ble_eq_true rfl⟩ hP hD hS hl.1 rfl rfl ⟨Nat.zero_le _, Nat.zero_le _⟩ (Nat.le_of_ble_eq_true rfl) dX0_foretold_92 (fun H locs hP hD hS => ?_)
          cases hf
          exact rI X hP hD hS dX0_foretold_95
        · refine lv_iconst (v := 1) hx hb dX0_foretold_86 (by decide) ?_
          refine lv_goto (tgt := 92) hx hb dX0_foretold_87 (by decide) ?_
          obtain ⟨r19, k20, hf⟩ := bd1s hf
          refine xSi (rest := []) X hF (met_X_atT k20) gs_X0_X0_at dy_X0_at ⟨⟨rfl, rfl⟩, Nat.le_of_ble_eq_true rfl, Nat.le_of_ble_eq_true rfl⟩ hP hD hS hl.1 rfl rfl ⟨Nat.zero_le _, Nat.zero_le _⟩ (Nat.le_of_ble_eq_true rfl) dX0_foretold_92 (fun H locs hP hD hS => ?_)
          cases hf
          exact rI X hP hD hS dX0_foretold_95
      have hL14 : ∀ (n12 : Nat) (v6 : Int32) (v7 : Int32) (c8 : Nat → Int32) (c9 : Nat → Int32), X_foretold_L40 φ x1 x2 x3 cN cFor cFear cText E zN n12 v6 v7 c8 c9 = some (c10, c11) → ∀ (H : Heap) (locs : List Loc) (ls : Array Slot), va_P g.1 vwCl (xW g h hn hi ad ra sTaped sFault sFaultA sWays sMay sMust cTape c8 cHead cSure cN cRow c9 cFor cRoad cFear cCall cUnl cPaid cStep cGain cText iN iRow iFor iRoad iFear iCall iUnl iPaid iStep iGain iText tp) H → va_D A (xW g h hn hi ad ra sTaped sFault sFaultA sWays sMay sMust cTape c8 cHead cSure cN cRow c9 cFor cRoad cFear cCall cUnl cPaid cStep cGain cText iN iRow iFor iRoad iFear iCall iUnl iPaid iStep iGain iText tp) → va_S A s.heap H locs → lv_has ls 6 [(0, .ref h), (1, .int x1), (2, .int x2), (3, .int x3), (4, .int v6), (5, .int v7)] → W p l e ({ frames := 247, cells := 0, slots := 0, locals := 5314 } : Room) s m ([.ref h, .int x1, .int x2, .int x3] : List Value).toArray below meth c H locs 0 0 (MQ below (QQ g (some (.int r)) (xW g h hn hi ad ra sTaped sFault sFaultA sWays sMay sMust cTape ncNames cHead cSure cN cRow ncTried cFor cRoad cFear cCall cUnl cPaid cStep cGain cText iN iRow iFor iRoad iFear iCall iUnl iPaid iStep iGain iText tp) A) ([.ref h, .int x1, .int x2, .int x3] : List Value).toArray s 0 0 A) (F0 m 40 ls []) := by
        intro n12
        induction n12 with
        | zero =>
          intro v6 v7 c8 c9 hf
          exact nn hf
        | succ n12 ih15 =>
          intro v6 v7 c8 c9 hf H locs ls hP hD hS hl
          rw [X_foretold_L40] at hf
          refine lv_iload hx hb dX0_foretold_40 (lv_at hl 5 rfl) ?_
          refine lv_iload_n hx hb dX0_foretold_42 rfl (lv_at hl 1 rfl) ?_
          refine bc_ge (tgt := 77) hx hb hf dX0_foretold_43 (by decide) (fun hf => ?_) (fun hf => ?_)
          · cases hf
            exact hE13 _ _ _ hP hD hS (lv_sub hl [0, 2, 3] rfl)
          · refine lv_aload_n hx hb dX0_foretold_46 rfl (lv_at hl 0 rfl) ?_
            refine gX_X0_this_tried X hP dX0_foretold_47 ?_
            refine lv_iconst (v := 0) hx hb dX0_foretold_50 (by decide) ?_
            obtain ⟨v21, ev21, bv21, hf⟩ := rds hf
            refine lX_cTried X hP ev21 bv21 dX0_foretold_51 ?_
            refine lv_sipush (v := 9999) hx hb dX0_foretold_52 (by decide) ?_
            refine bc_ge (tgt := 77) hx hb hf dX0_foretold_55 (by decide) (fun hf => ?_) (fun hf => ?_)
            · cases hf
              exact hE13 _ _ _ hP hD hS (lv_sub hl [0, 2, 3] rfl)
            · refine lv_iload hx hb dX0_foretold_58 (lv_at hl 4 rfl) ?_
              refine lv_aload_n hx hb dX0_foretold_60 rfl (lv_at hl 0 rfl) ?_
              refine lv_aload_n hx hb dX0_foretold_61 rfl (lv_at hl 0 rfl) ?_
              refine gX_X0_this_tried X hP dX0_foretold_62 ?_
              obtain ⟨r22, c23, c24, k25, hf⟩ := bd3s hf
              refine xVi (rest := [.int v6]) X hF (met_X_passesT hzN hT k25) gw_X0_X0_passes dy_X0_passes ⟨⟨rfl, rfl⟩, Nat.le_of_ble_eq_true rfl, Nat.le_of_ble_eq_true rfl⟩ hP hD hS hl.1 rcX rfl rfl ⟨Nat.zero_le _, Nat.zero_le _⟩ (Nat.le_of_ble_eq_true rfl) dX0_foretold_65 (fun H locs hP hD hS => ?_)
              refine lv_iadd hx hb dX0_foretold_68 ?_
              obtain ⟨v26, ev26, hf⟩ := lts hf
              refine tpi ev26 ?_
              refine lv_istore (lv' := [(4, .int v26), (0, .ref h), (1, .int x1), (2, .int x2), (3, .int x3), (5, .int v7)]) hx hb dX0_foretold_69 hl (by decide) rfl (fun ls hl => ?_)
              obtain ⟨v27, ev27, hf⟩ := lts hf
              refine lv_iinc (v := v27) (lv' := [(5, .int v27), (4, .int v26), (0, .ref h), (1, .int x1), (2, .int x2), (3, .int x3)]) hx hb dX0_foretold_71 hl (k := 5) rfl (by rw [ev27]; rfl) (by decide) rfl (fun ls hl => ?_)
              refine lv_goto (tgt := 40) hx hb dX0_foretold_74 (by decide) ?_
              exact ih15 _ _ _ _ hf _ _ _ hP hD hS (lv_sub hl [2, 3, 4, 5, 1, 0] rfl)
      exact hL14 _ _ _ _ _ k16 _ _ _ hP hD hS (lv_sub hl [2, 3, 4, 5, 1, 0] rfl)
    · refine lv_iconst (v := (-1)) hx hb dX0_foretold_18 (by decide) ?_
      cases hf
      exact rI X hP hD hS dX0_foretold_19
set_option maxHeartbeats 4000000 in
theorem met_X_priceByT {l : Launch} {g : gG} {h hn hi : Nat} {ad : Nat → Nat} {ra : Nat → Nat → Nat} {z : Nat → Nat} {sTaped : Int32} {sFault : Int32} {sFaultA : Int32} {sWays : Int32} {sMay : Int32} {sMust : Int32} {cTape : Nat → Int32} {cNames : Nat → Int32} {cHead : Nat → Int32} {cSure : Nat → Nat → Int32} {cN : Nat → Int32} {cRow : Nat → Int32} {cTried : Nat → Int32} {cFor : Nat → Int32} {cRoad : Nat → Int32} {cFear : Nat → Int32} {cCall : Nat → Int32} {cUnl : Nat → Int32} {cPaid : Nat → Nat → Int32} {cStep : Nat → Nat → Int32} {cGain : Nat → Nat → Int32} {cText : Nat → Option Nat} {iN : Nat → Int32} {iRow : Nat → Int32} {iFor : Nat → Int32} {iRoad : Nat → Int32} {iFear : Nat → Int32} {iCall : Nat → Int32} {iUnl : Nat → Int32} {iPaid : Nat → Nat → Int32} {iStep : Nat → Nat → Int32} {iGain : Nat → Nat → Int32} {iText : Nat → Option Nat} {tp : va_W} {E : Nat → Option (Nat → Option ((Nat → Int32) → Int64))} {t : Nat} {x3 : Int32} {r : Int32} {ncNames : Nat → Int32} {φ : Nat} (hT : TxOk g z tp E) (hf : X_priceBy φ cNames cN cTried cFor cFear E t x3 = some (r, ncNames)) : CX l yX0_priceBy (ws_ yX0_priceBy cX0_priceBy 4 (some .int)) ({ frames := 243, cells := 0, slots := 0, locals := 5224 } : Room) g z [.ref h, .ref t, .ref (ad 2), .int x3] (xW g h hn hi ad ra sTaped sFault sFaultA sWays sMay sMust cTape cNames cHead cSure cN cRow cTried cFor cRoad cFear cCall cUnl cPaid cStep cGain cText iN iRow iFor iRoad iFear iCall iUnl iPaid iStep iGain iText tp) (some (.int r)) (xW g h hn hi ad ra sTaped sFault sFaultA sWays sMay sMust cTape ncNames cHead cSure cN cRow cTried cFor cRoad cFear cCall cUnl cPaid cStep cGain cText iN iRow iFor iRoad iFear iCall iUnl iPaid iStep iGain iText tp) 0 0 := by
  refine CX.of RX0 rfl plain_X0 (Nat.le_of_ble_eq_true rfl) (fun p e s m below meth c A ls X hF hP hD hS hl => ?_)
  have hx := X.1
  have hb := X.2.1
  have hown := X.2.2.2.2.2.1
  have hts := X.2.2.2.2.2.2.1
  have hl : lv_has ls 4 [(0, .ref h), (1, .ref t), (2, .ref (ad 2)), (3, .int x3)] := hl
  unfold X_priceBy at hf
  refine lv_aload_n hx hb dX0_priceBy_0 rfl (lv_at hl 0 rfl) ?_
  refine lv_aload_n hx hb dX0_priceBy_1 rfl (lv_at hl 2 rfl) ?_
  refine lv_iload_n hx hb dX0_priceBy_2 rfl (lv_at hl 3 rfl) ?_
  refine lv_aload_n hx hb dX0_priceBy_3 rfl (lv_at hl 2 rfl) ?_
  refine lv_iload_n hx hb dX0_priceBy_4 rfl (lv_at hl 3 rfl) ?_
  refine lv_iconst (v := 0) hx hb dX0_priceBy_5 (by decide) ?_
  obtain ⟨r1, k2, hf⟩ := bd1s hf
  refine xSi (rest := [.int x3, .ref (ad 2), .ref h]) X hF (met_X_atT k2) gs_X0_X0_at dy_X0_at ⟨⟨rfl, rfl⟩, Nat.le_of_ble_eq_true rfl, Nat.le_of_ble_eq_true rfl⟩ hP hD hS hl.1 rfl rfl ⟨Nat.zero_le _, Nat.zero_le _⟩ (Nat.le_of_ble_eq_true rfl) dX0_priceBy_6 (fun H locs hP hD hS => ?_)
  obtain ⟨c3, k4, hf⟩ := bd1s hf
  refine xVv (rest := []) X hF (met_X_namesOfT k4) gw_X0_X0_namesOf dy_X0_namesOf ⟨⟨rfl, rfl⟩, Nat.le_of_ble_eq_true rfl, Nat.le_of_ble_eq_true rfl⟩ hP hD hS hl.1 rcX rfl rfl ⟨Nat.zero_le _, Nat.zero_le _⟩ (Nat.le_of_ble_eq_true rfl) dX0_priceBy_9 (fun H locs hP hD hS => ?_)
  refine lv_aload_n hx hb dX0_priceBy_12 rfl (lv_at hl 0 rfl) ?_
  refine lv_aload_n hx hb dX0_priceBy_13 rfl (lv_at hl 1 rfl) ?_
  refine lv_iconst (v := 2) hx hb dX0_priceBy_14 (by decide) ?_
  refine lv_bipush (v := 100) hx hb dX0_priceBy_15 (by decide) ?_
  refine lv_bipush (v := 20) hx hb dX0_priceBy_17 (by decide) ?_
  refine lv_aload_n hx hb dX0_priceBy_19 rfl (lv_at hl 0 rfl) ?_
  refine gX_X0_this_names X hP dX0_priceBy_20 ?_
  refine lv_bipush (v := 6) hx hb dX0_priceBy_23 (by decide) ?_
  obtain ⟨v5, ev5, bv5, hf⟩ := rds hf
  refine lX_cNames X hP ev5 bv5 dX0_priceBy_25 ?_
  refine lv_imul hx hb dX0_priceBy_26 ?_
  refine lv_iadd hx hb dX0_priceBy_27 ?_
  refine lv_sipush (v := 9999) hx hb dX0_priceBy_28 (by decide) ?_
  obtain ⟨r6, k7, hf⟩ := bd1s hf
  refine xVi (rest := []) X hF (met_X_law hT k7) gw_X0_X0_law dy_X0_law ⟨⟨rfl, rfl⟩, Nat.le_of_ble_eq_true rfl, Nat.le_of_ble_eq_true rfl⟩ hP hD hS hl.1 rcX rfl rfl ⟨Nat.zero_le _, Nat.zero_le _⟩ (Nat.le_of_ble_eq_true rfl) dX0_priceBy_31 (fun H locs hP hD hS => ?_)
  cases hf
  exact rI X hP hD hS dX0_priceBy_34
set_option maxHeartbeats 4000000 in
theorem met_X_canPayT {l : Launch} {g : gG} {h hn hi : Nat} {ad : Nat → Nat} {ra : Nat → Nat → Nat} {z : Nat → Nat} {sTaped : Int32} {sFault : Int32} {sFaultA : Int32} {sWays : Int32} {sMay : Int32} {sMust : Int32} {cTape : Nat → Int32} {cNames : Nat → Int32} {cHead : Nat → Int32} {cSure : Nat → Nat → Int32} {cN : Nat → Int32} {cRow : Nat → Int32} {cTried : Nat → Int32} {cFor : Nat → Int32} {cRoad : Nat → Int32} {cFear : Nat → Int32} {cCall : Nat → Int32} {cUnl : Nat → Int32} {cPaid : Nat → Nat → Int32} {cStep : Nat → Nat → Int32} {cGain : Nat → Nat → Int32} {cText : Nat → Option Nat} {iN : Nat → Int32} {iRow : Nat → Int32} {iFor : Nat → Int32} {iRoad : Nat → Int32} {iFear : Nat → Int32} {iCall : Nat → Int32} {iUnl : Nat → Int32} {iPaid : Nat → Nat → Int32} {iStep : Nat → Nat → Int32} {iGain : Nat → Nat → Int32} {iText : Nat → Option Nat} {tp : va_W} {E : Nat → Option (Nat → Option ((Nat → Int32) → Int64))} {zN : Nat} {x2 : Int32} {x3 : Int32} {r : Int32} {ncNames : Nat → Int32} {φ : Nat} (hzN : zN = z 0) (hT : TxOk g z tp E) (hf : X_canPay φ cNames cN cTried cFor cFear cText E zN x2 x3 = some (r, ncNames)) : CX l yX0_canPay (ws_ yX0_canPay cX0_canPay 4 (some .boolean)) ({ frames := 244, cells := 0, slots := 0, locals := 5247 } : Room) g z [.ref h, .ref (ad 2), .int x2, .int x3] (xW g h hn hi ad ra sTaped sFault sFaultA sWays sMay sMust cTape cNames cHead cSure cN cRow cTried cFor cRoad cFear cCall cUnl cPaid cStep cGain cText iN iRow iFor iRoad iFear iCall iUnl iPaid iStep iGain iText tp) (some (.int r)) (xW g h hn hi ad ra sTaped sFault sFaultA sWays sMay sMust cTape ncNames cHead cSure cN cRow cTried cFor cRoad cFear cCall cUnl cPaid cStep cGain cText iN iRow iFor iRoad iFear iCall iUnl iPaid iStep iGain iText tp) 0 0 := by
  refine CX.of RX0 rfl plain_X0 (Nat.le_of_ble_eq_true rfl) (fun p e s m below meth c A ls X hF hP hD hS hl => ?_)
  have hx := X.1
  have hb := X.2.1
  have hown := X.2.2.2.2.2.1
  have hts := X.2.2.2.2.2.2.1
  have hl : lv_has ls 4 [(0, .ref h), (1, .ref (ad 2)), (2, .int x2), (3, .int x3)] := hl
  unfold X_canPay at hf
  refine lv_aload_n hx hb dX0_canPay_0 rfl (lv_at hl 1 rfl) ?_
  refine lv_iload_n hx hb dX0_canPay_1 rfl (lv_at hl 2 rfl) ?_
  refine lv_bipush (v := 6) hx hb dX0_canPay_2 (by decide) ?_
  obtain ⟨r1, k2, hf⟩ := bd1s hf
  refine xSi (rest := []) X hF (met_X_atT k2) gs_X0_X0_at dy_X0_at ⟨⟨rfl, rfl⟩, Nat.le_of_ble_eq_true rfl, Nat.le_of_ble_eq_true rfl⟩ hP hD hS hl.1 rfl rfl ⟨Nat.zero_le _, Nat.zero_le _⟩ (Nat.le_of_ble_eq_true rfl) dX0_canPay_4 (fun H locs hP hD hS => ?_)
  refine lv_iconst (v := 1) hx hb dX0_canPay_7 (by decide) ?_
  refine bc_ne (tgt := 45) hx hb hf dX0_canPay_8 (by decide) (fun hf => ?_) (fun hf => ?_)
  · refine lv_iconst (v := 0) hx hb dX0_canPay_45 (by decide) ?_
    cases hf
    exact rZ X rfl hP hD hS dX0_canPay_46
  · refine lv_aload_n hx hb dX0_canPay_11 rfl (lv_at hl 1 rfl) ?_
    refine lv_iload_n hx hb dX0_canPay_12 rfl (lv_at hl 3 rfl) ?_
    refine lv_bipush (v := 6) hx hb dX0_canPay_13 (by decide) ?_
    obtain ⟨r3, k4, hf⟩ := bd1s hf
    refine xSi (rest := []) X hF (met_X_atT k4) gs_X0_X0_at dy_X0_at ⟨⟨rfl, rfl⟩, Nat.le_of_ble_eq_true rfl, Nat.le_of_ble_eq_true rfl⟩ hP hD hS hl.1 rfl rfl ⟨Nat.zero_le _, Nat.zero_le _⟩ (Nat.le_of_ble_eq_true rfl) dX0_canPay_15 (fun H locs hP hD hS => ?_)
    refine lv_iconst (v := 3) hx hb dX0_canPay_18 (by decide) ?_
    refine bc_eq (tgt := 45) hx hb hf dX0_canPay_19 (by decide) (fun hf => ?_) (fun hf => ?_)
    · refine lv_iconst (v := 0) hx hb dX0_canPay_45 (by decide) ?_
      cases hf
      exact rZ X rfl hP hD hS dX0_canPay_46
    · refine lv_aload_n hx hb dX0_canPay_22 rfl (lv_at hl 1 rfl) ?_
      refine lv_iload_n hx hb dX0_canPay_23 rfl (lv_at hl 3 rfl) ?_
      refine lv_iconst (v := 1) hx hb dX0_canPay_24 (by decide) ?_
      obtain ⟨r5, k6, hf⟩ := bd1s hf
      refine xSi (rest := []) X hF (met_X_atT k6) gs_X0_X0_at dy_X0_at ⟨⟨rfl, rfl⟩, Nat.le_of_ble_eq_true rfl, Nat.le_of_ble_eq_true rfl⟩ hP hD hS hl.1 rfl rfl ⟨Nat.zero_le _, Nat.zero_le _⟩ (Nat.le_of_ble_eq_true rfl) dX0_canPay_25 (fun H locs hP hD hS => ?_)
      refine lv_aload_n hx hb dX0_canPay_28 rfl (lv_at hl 0 rfl) ?_
      refine lv_aload_n hx hb dX0_canPay_29 rfl (lv_at hl 0 rfl) ?_
      obtain ⟨r7, k8, hf⟩ := bd1s hf
      refine xVr (rest := [.ref h, .int r5]) X hF (met_X_rules hzN k8) gw_X0_X0_rules dy_X0_rules ⟨⟨rfl, rfl⟩, Nat.le_of_ble_eq_true rfl, Nat.le_of_ble_eq_true rfl⟩ hP hD hS hl.1 rcX rfl rfl ⟨Nat.zero_le _, Nat.zero_le _⟩ (Nat.le_of_ble_eq_true rfl) dX0_canPay_30 (fun H locs hP hD hS => ?_)
      refine lv_aload_n hx hb dX0_canPay_33 rfl (lv_at hl 1 rfl) ?_
      refine lv_iload_n hx hb dX0_canPay_34 rfl (lv_at hl 2 rfl) ?_
      obtain ⟨r9, c10, k11, hf⟩ := bd2s hf
      refine xVi (rest := [.int r5]) X hF (met_X_priceByT hT k11) gw_X0_X0_priceBy dy_X0_priceBy ⟨⟨rfl, rfl⟩, Nat.le_of_ble_eq_true rfl, Nat.le_of_ble_eq_true rfl⟩ hP hD hS hl.1 rcX rfl rfl ⟨Nat.zero_le _, Nat.zero_le _⟩ (Nat.le_of_ble_eq_true rfl) dX0_canPay_35 (fun H locs hP hD hS => ?_)
      refine bc_lt (tgt := 45) hx hb hf dX0_canPay_38 (by decide) (fun hf => ?_) (fun hf => ?_)
      · refine lv_iconst (v := 0) hx hb dX0_canPay_45 (by decide) ?_
        cases hf
        exact rZ X rfl hP hD hS dX0_canPay_46
      · refine lv_iconst (v := 1) hx hb dX0_canPay_41 (by decide) ?_
        refine lv_goto (tgt := 46) hx hb dX0_canPay_42 (by decide) ?_
        cases hf
        exact rZ X rfl hP hD hS dX0_canPay_46
set_option maxHeartbeats 4000000 in
theorem met_X_toPay {l : Launch} {g : gG} {h hn hi : Nat} {ad : Nat → Nat} {ra : Nat → Nat → Nat} {z : Nat → Nat} {sTaped : Int32} {sFault : Int32} {sFaultA : Int32} {sWays : Int32} {sMay : Int32} {sMust : Int32} {cTape : Nat → Int32} {cNames : Nat → Int32} {cHead : Nat → Int32} {cSure : Nat → Nat → Int32} {cN : Nat → Int32} {cRow : Nat → Int32} {cTried : Nat → Int32} {cFor : Nat → Int32} {cRoad : Nat → Int32} {cFear : Nat → Int32} {cCall : Nat → Int32} {cUnl : Nat → Int32} {cPaid : Nat → Nat → Int32} {cStep : Nat → Nat → Int32} {cGain : Nat → Nat → Int32} {cText : Nat → Option Nat} {iN : Nat → Int32} {iRow : Nat → Int32} {iFor : Nat → Int32} {iRoad : Nat → Int32} {iFear : Nat → Int32} {iCall : Nat → Int32} {iUnl : Nat → Int32} {iPaid : Nat → Nat → Int32} {iStep : Nat → Nat → Int32} {iGain : Nat → Nat → Int32} {iText : Nat → Option Nat} {tp : va_W} {E : Nat → Option (Nat → Option ((Nat → Int32) → Int64))} {zN : Nat} {x1 : Int32} {x2 : Int32} {r : Int32} {ncNames : Nat → Int32} {ncTried : Nat → Int32} {φ : Nat} (hzN : zN = z 0) (hT : TxOk g z tp E) (hf : X_toPay φ cNames cN cRow cTried cFor cFear cText E zN x1 x2 = some (r, ncNames, ncTried)) : CX l yX0_toPay (ws_ yX0_toPay cX0_toPay 5 (some .int)) ({ frames := 247, cells := 0, slots := 0, locals := 5314 } : Room) g z [.ref h, .int x1, .int x2] (xW g h hn hi ad ra sTaped sFault sFaultA sWays sMay sMust cTape cNames cHead cSure cN cRow cTried cFor cRoad cFear cCall cUnl cPaid cStep cGain cText iN iRow iFor iRoad iFear iCall iUnl iPaid iStep iGain iText tp) (some (.int r)) (xW g h hn hi ad ra sTaped sFault sFaultA sWays sMay sMust cTape ncNames cHead cSure cN cRow ncTried cFor cRoad cFear cCall cUnl cPaid cStep cGain cText iN iRow iFor iRoad iFear iCall iUnl iPaid iStep iGain iText tp) 0 0 := by
  refine CX.of RX0 rfl plain_X0 (Nat.le_of_ble_eq_true rfl) (fun p e s m below meth c A ls X hF hP hD hS hl => ?_)
  have hx := X.1
  have hb := X.2.1
  have hown := X.2.2.2.2.2.1
  have hts := X.2.2.2.2.2.2.1
  have hl : lv_has ls 5 [(0, .ref h), (1, .int x1), (2, .int x2)] := hl
  unfold X_toPay at hf
  refine lv_aload_n hx hb dX0_toPay_0 rfl (lv_at hl 0 rfl) ?_
  refine lv_iload_n hx hb dX0_toPay_1 rfl (lv_at hl 1 rfl) ?_
  obtain ⟨r1, k2, hf⟩ := bd1s hf
  refine xVi (rest := []) X hF (met_X_isPerson k2) gw_X0_X0_isPerson dy_X0_isPerson ⟨⟨rfl, rfl⟩, Nat.le_of_ble_eq_true rfl, Nat.le_of_ble_eq_true rfl⟩ hP hD hS hl.1 rcX rfl rfl ⟨Nat.zero_le _, Nat.zero_le _⟩ (Nat.le_of_ble_eq_true rfl) dX0_toPay_2 (fun H locs hP hD hS => ?_)
  refine bq_eq (tgt := 16) hx hb hf dX0_toPay_5 (by decide) (fun hf => ?_) (fun hf => ?_)
  · refine lv_iconst (v := (-1)) hx hb dX0_toPay_16 (by decide) ?_
    cases hf
    exact rI X hP hD hS dX0_toPay_17
  · refine lv_aload_n hx hb dX0_toPay_8 rfl (lv_at hl 0 rfl) ?_
    refine lv_iload_n hx hb dX0_toPay_9 rfl (lv_at hl 2 rfl) ?_
    obtain ⟨r3, k4, hf⟩ := bd1s hf
    refine xVi (rest := []) X hF (met_X_isPerson k4) gw_X0_X0_isPerson dy_X0_isPerson ⟨⟨rfl, rfl⟩, Nat.le_of_ble_eq_true rfl, Nat.le_of_ble_eq_true rfl⟩ hP hD hS hl.1 rcX rfl rfl ⟨Nat.zero_le _, Nat.zero_le _⟩ (Nat.le_of_ble_eq_true rfl) dX0_toPay_10 (fun H locs hP hD hS => ?_)
    refine bq_ne (tgt := 18) hx hb hf dX0_toPay_13 (by decide) (fun hf => ?_) (fun hf => ?_)
    · refine lv_aload_n hx hb dX0_toPay_18 rfl (lv_at hl 0 rfl) ?_
      refine gX_X0_this_now X hP dX0_toPay_19 ?_
      refine gX_X0_now_row X hF hP dX0_toPay_22 ?_
      refine lv_aload_n hx hb dX0_toPay_25 rfl (lv_at hl 0 rfl) ?_
      refine gX_X0_this_tried X hP dX0_toPay_26 ?_
      obtain ⟨c5, ec5, hf⟩ := lts hf
      refine cCopyN X hF 29 rfl hl.1 hP hD hS xat_cRow xat_cTried (by decide) (Nat.le_of_ble_eq_true rfl) (xset_cTried ec5) ⟨Nat.le_of_ble_eq_true rfl, Nat.le_of_ble_eq_true rfl⟩ ⟨Nat.zero_le _, Nat.zero_le _⟩ (Nat.le_of_ble_eq_true rfl) dX0_toPay_29 (fun H locs hP hD hS => ?_)
      refine lv_iconst (v := 0) hx hb dX0_toPay_32 (by decide) ?_
      refine lv_istore_n (lv' := [(3, .int 0), (0, .ref h), (1, .int x1), (2, .int x2)]) hx hb dX0_toPay_33 rfl hl (by decide) rfl (fun ls hl => ?_)
      have hL11 : ∀ (n9 : Nat) (v6 : Int32) (c7 : Nat → Int32) (c8 : Nat → Int32), X_toPay_L34 φ x1 x2 cN cFor cFear cText E zN n9 v6 c7 c8 = some (r, ncNames, ncTried) → ∀ (H : Heap) (locs : List Loc) (ls : Array Slot), va_P g.1 vwCl (xW g h hn hi ad ra sTaped sFault sFaultA sWays sMay sMust cTape c7 cHead cSure cN cRow c8 cFor cRoad cFear cCall cUnl cPaid cStep cGain cText iN iRow iFor iRoad iFear iCall iUnl iPaid iStep iGain iText tp) H → va_D A (xW g h hn hi ad ra sTaped sFault sFaultA sWays sMay sMust cTape c7 cHead cSure cN cRow c8 cFor cRoad cFear cCall cUnl cPaid cStep cGain cText iN iRow iFor iRoad iFear iCall iUnl iPaid iStep iGain iText tp) → va_S A s.heap H locs → lv_has ls 5 [(0, .ref h), (1, .int x1), (2, .int x2), (3, .int v6)] → W p l e ({ frames := 247, cells := 0, slots := 0, locals := 5314 } : Room) s m ([.ref h, .int x1, .int x2] : List Value).toArray below meth c H locs 0 0 (MQ below (QQ g (some (.int r)) (xW g h hn hi ad ra sTaped sFault sFaultA sWays sMay sMust cTape ncNames cHead cSure cN cRow ncTried cFor cRoad cFear cCall cUnl cPaid cStep cGain cText iN iRow iFor iRoad iFear iCall iUnl iPaid iStep iGain iText tp) A) ([.ref h, .int x1, .int x2] : List Value).toArray s 0 0 A) (F0 m 34 ls []) := by
        intro n9
        induction n9 with
        | zero =>
          intro v6 c7 c8 hf
          exact nn hf
        | succ n9 ih12 =>
          intro v6 c7 c8 hf H locs ls hP hD hS hl
          rw [X_toPay_L34] at hf
          refine lv_iload_n hx hb dX0_toPay_34 rfl (lv_at hl 3 rfl) ?_
          refine lv_bipush (v := 60) hx hb dX0_toPay_35 (by decide) ?_
          refine bc_gt (tgt := 85) hx hb hf dX0_toPay_37 (by decide) (fun hf => ?_) (fun hf => ?_)
          · refine lv_iconst (v := (-1)) hx hb dX0_toPay_85 (by decide) ?_
            cases hf
            exact rI X hP hD hS dX0_toPay_86
          · refine lv_aload_n hx hb dX0_toPay_40 rfl (lv_at hl 0 rfl) ?_
            refine lv_aload_n hx hb dX0_toPay_41 rfl (lv_at hl 0 rfl) ?_
            refine gX_X0_this_tried X hP dX0_toPay_42 ?_
            refine lv_iload_n hx hb dX0_toPay_45 rfl (lv_at hl 1 rfl) ?_
            refine lv_iload_n hx hb dX0_toPay_46 rfl (lv_at hl 2 rfl) ?_
            obtain ⟨r14, c15, k16, hf⟩ := bd2s hf
            refine xVi (rest := []) X hF (met_X_canPayT hzN hT k16) gw_X0_X0_canPay dy_X0_canPay ⟨⟨rfl, rfl⟩, Nat.le_of_ble_eq_true rfl, Nat.le_of_ble_eq_true rfl⟩ hP hD hS hl.1 rcX rfl rfl ⟨Nat.zero_le _, Nat.zero_le _⟩ (Nat.le_of_ble_eq_true rfl) dX0_toPay_47 (fun H locs hP hD hS => ?_)
            refine bq_eq (tgt := 55) hx hb hf dX0_toPay_50 (by decide) (fun hf => ?_) (fun hf => ?_)
            · refine lv_aload_n hx hb dX0_toPay_55 rfl (lv_at hl 0 rfl) ?_
              refine gX_X0_this_tried X hP dX0_toPay_56 ?_
              refine lv_iconst (v := 0) hx hb dX0_toPay_59 (by decide) ?_
              obtain ⟨v17, ev17, bv17, hf⟩ := rds hf
              refine lX_cTried X hP ev17 bv17 dX0_toPay_60 ?_
              refine lv_sipush (v := 9999) hx hb dX0_toPay_61 (by decide) ?_
              refine bc_ne (tgt := 69) hx hb hf dX0_toPay_64 (by decide) (fun hf => ?_) (fun hf => ?_)
              · refine lv_aload_n hx hb dX0_toPay_69 rfl (lv_at hl 0 rfl) ?_
                refine lv_aload_n hx hb dX0_toPay_70 rfl (lv_at hl 0 rfl) ?_
                refine gX_X0_this_tried X hP dX0_toPay_71 ?_
                obtain ⟨r18, c19, c20, k21, hf⟩ := bd3s hf
                refine xVi (rest := []) X hF (met_X_passesT hzN hT k21) gw_X0_X0_passes dy_X0_passes ⟨⟨rfl, rfl⟩, Nat.le_of_ble_eq_true rfl, Nat.le_of_ble_eq_true rfl⟩ hP hD hS hl.1 rcX rfl rfl ⟨Nat.zero_le _, Nat.zero_le _⟩ (Nat.le_of_ble_eq_true rfl) dX0_toPay_74 (fun H locs hP hD hS => ?_)
                refine lv_istore (lv' := [(4, .int r18), (0, .ref h), (1, .int x1), (2, .int x2), (3, .int v6)]) hx hb dX0_toPay_77 hl (by decide) rfl (fun ls hl => ?_)
                obtain ⟨v22, ev22, hf⟩ := lts hf
                refine lv_iinc (v := v22) (lv' := [(3, .int v22), (4, .int r18), (0, .ref h), (1, .int x1), (2, .int x2)]) hx hb dX0_toPay_79 hl (k := 4) rfl (by rw [ev22]; rfl) (by decide) rfl (fun ls hl => ?_)
                refine lv_goto (tgt := 34) hx hb dX0_toPay_82 (by decide) ?_
                exact ih12 _ _ _ hf _ _ _ hP hD hS (lv_sub hl [2, 3, 4, 0] rfl)
              · refine lv_iconst (v := (-1)) hx hb dX0_toPay_67 (by decide) ?_
                cases hf
                exact rI X hP hD hS dX0_toPay_68
            · refine lv_iload_n hx hb dX0_toPay_53 rfl (lv_at hl 3 rfl) ?_
              cases hf
              exact rI X hP hD hS dX0_toPay_54
      exact hL11 _ _ _ _ hf _ _ _ hP hD hS (lv_sub hl [1, 2, 3, 0] rfl)
    · refine lv_iconst (v := (-1)) hx hb dX0_toPay_16 (by decide) ?_
      cases hf
      exact rI X hP hD hS dX0_toPay_17
set_option maxHeartbeats 4000000 in
theorem met_X_mayGo {l : Launch} {g : gG} {h hn hi : Nat} {ad : Nat → Nat} {ra : Nat → Nat → Nat} {z : Nat → Nat} {sTaped : Int32} {sFault : Int32} {sFaultA : Int32} {sWays : Int32} {sMay : Int32} {sMust : Int32} {cTape : Nat → Int32} {cNames : Nat → Int32} {cHead : Nat → Int32} {cSure : Nat → Nat → Int32} {cN : Nat → Int32} {cRow : Nat → Int32} {cTried : Nat → Int32} {cFor : Nat → Int32} {cRoad : Nat → Int32} {cFear : Nat → Int32} {cCall : Nat → Int32} {cUnl : Nat → Int32} {cPaid : Nat → Nat → Int32} {cStep : Nat → Nat → Int32} {cGain : Nat → Nat → Int32} {cText : Nat → Option Nat} {iN : Nat → Int32} {iRow : Nat → Int32} {iFor : Nat → Int32} {iRoad : Nat → Int32} {iFear : Nat → Int32} {iCall : Nat → Int32} {iUnl : Nat → Int32} {iPaid : Nat → Nat → Int32} {iStep : Nat → Nat → Int32} {iGain : Nat → Nat → Int32} {iText : Nat → Option Nat} {tp : va_W} {x1 : Int32} {x2 : Int32} {r : Int32} (hf : X_mayGo cRoad x1 x2 = some r) : CX l yX0_mayGo (ws_ yX0_mayGo cX0_mayGo 3 (some .boolean)) ({ frames := 2, cells := 0, slots := 0, locals := 43 } : Room) g z [.ref h, .int x1, .int x2] (xW g h hn hi ad ra sTaped sFault sFaultA sWays sMay sMust cTape cNames cHead cSure cN cRow cTried cFor cRoad cFear cCall cUnl cPaid cStep cGain cText iN iRow iFor iRoad iFear iCall iUnl iPaid iStep iGain iText tp) (some (.int r)) (xW g h hn hi ad ra sTaped sFault sFaultA sWays sMay sMust cTape cNames cHead cSure cN cRow cTried cFor cRoad cFear cCall cUnl cPaid cStep cGain cText iN iRow iFor iRoad iFear iCall iUnl iPaid iStep iGain iText tp) 0 0 := by
  refine CX.of RX0 rfl plain_X0 (Nat.le_of_ble_eq_true rfl) (fun p e s m below meth c A ls X hF hP hD hS hl => ?_)
  have hx := X.1
  have hb := X.2.1
  have hown := X.2.2.2.2.2.1
  have hts := X.2.2.2.2.2.2.1
  have hl : lv_has ls 3 [(0, .ref h), (1, .int x1), (2, .int x2)] := hl
  unfold X_mayGo at hf
  refine lv_iload_n hx hb dX0_mayGo_0 rfl (lv_at hl 1 rfl) ?_
  refine lv_iload_n hx hb dX0_mayGo_1 rfl (lv_at hl 2 rfl) ?_
  refine bc_eq (tgt := 14) hx hb hf dX0_mayGo_2 (by decide) (fun hf => ?_) (fun hf => ?_)
  · refine lv_iconst (v := 1) hx hb dX0_mayGo_14 (by decide) ?_
    refine lv_goto (tgt := 19) hx hb dX0_mayGo_15 (by decide) ?_
    cases hf
    exact rZ X rfl hP hD hS dX0_mayGo_19
  · refine lv_aload_n hx hb dX0_mayGo_5 rfl (lv_at hl 0 rfl) ?_
    refine lv_iload_n hx hb dX0_mayGo_6 rfl (lv_at hl 1 rfl) ?_
    refine lv_iload_n hx hb dX0_mayGo_7 rfl (lv_at hl 2 rfl) ?_
    obtain ⟨r1, k2, hf⟩ := bd1s hf
    refine xVi (rest := []) X hF (met_X_isRoad k2) gw_X0_X0_isRoad dy_X0_isRoad ⟨⟨rfl, rfl⟩, Nat.le_of_ble_eq_true rfl, Nat.le_of_ble_eq_true rfl⟩ hP hD hS hl.1 rcX rfl rfl ⟨Nat.zero_le _, Nat.zero_le _⟩ (Nat.le_of_ble_eq_true rfl) dX0_mayGo_8 (fun H locs hP hD hS => ?_)
    refine bq_eq (tgt := 18) hx hb hf dX0_mayGo_11 (by decide) (fun hf => ?_) (fun hf => ?_)
    · refine lv_iconst (v := 0) hx hb dX0_mayGo_18 (by decide) ?_
      cases hf
      exact rZ X rfl hP hD hS dX0_mayGo_19
    · refine lv_iconst (v := 1) hx hb dX0_mayGo_14 (by decide) ?_
      refine lv_goto (tgt := 19) hx hb dX0_mayGo_15 (by decide) ?_
      cases hf
      exact rZ X rfl hP hD hS dX0_mayGo_19
set_option maxHeartbeats 4000000 in
theorem met_X_sureBy {l : Launch} {g : gG} {h hn hi : Nat} {ad : Nat → Nat} {ra : Nat → Nat → Nat} {z : Nat → Nat} {sTaped : Int32} {sFault : Int32} {sFaultA : Int32} {sWays : Int32} {sMay : Int32} {sMust : Int32} {cTape : Nat → Int32} {cNames : Nat → Int32} {cHead : Nat → Int32} {cSure : Nat → Nat → Int32} {cN : Nat → Int32} {cRow : Nat → Int32} {cTried : Nat → Int32} {cFor : Nat → Int32} {cRoad : Nat → Int32} {cFear : Nat → Int32} {cCall : Nat → Int32} {cUnl : Nat → Int32} {cPaid : Nat → Nat → Int32} {cStep : Nat → Nat → Int32} {cGain : Nat → Nat → Int32} {cText : Nat → Option Nat} {iN : Nat → Int32} {iRow : Nat → Int32} {iFor : Nat → Int32} {iRoad : Nat → Int32} {iFear : Nat → Int32} {iCall : Nat → Int32} {iUnl : Nat → Int32} {iPaid : Nat → Nat → Int32} {iStep : Nat → Nat → Int32} {iGain : Nat → Nat → Int32} {iText : Nat → Option Nat} {tp : va_W} {E : Nat → Option (Nat → Option ((Nat → Int32) → Int64))} {zN : Nat} {x1 : Int32} {x2 : Int32} {x3 : Int32} {r : Int32} {ncNames : Nat → Int32} {φ : Nat} (hzN : zN = z 0) (hT : TxOk g z tp E) (hf : X_sureBy φ cNames cSure cN cRow cFor cFear cText E zN x1 x2 x3 = some (r, ncNames)) : CX l yX0_sureBy (ws_ yX0_sureBy cX0_sureBy 4 (some .int)) ({ frames := 244, cells := 0, slots := 0, locals := 5247 } : Room) g z [.ref h, .int x1, .int x2, .int x3] (xW g h hn hi ad ra sTaped sFault sFaultA sWays sMay sMust cTape cNames cHead cSure cN cRow cTried cFor cRoad cFear cCall cUnl cPaid cStep cGain cText iN iRow iFor iRoad iFear iCall iUnl iPaid iStep iGain iText tp) (some (.int r)) (xW g h hn hi ad ra sTaped sFault sFaultA sWays sMay sMust cTape ncNames cHead cSure cN cRow cTried cFor cRoad cFear cCall cUnl cPaid cStep cGain cText iN iRow iFor iRoad iFear iCall iUnl iPaid iStep iGain iText tp) 0 0 := by
  refine CX.of RX0 rfl plain_X0 (Nat.le_of_ble_eq_true rfl) (fun p e s m below meth c A ls X hF hP hD hS hl => ?_)
  have hx := X.1
  have hb := X.2.1
  have hown := X.2.2.2.2.2.1
  have hts := X.2.2.2.2.2.2.1
  have hl : lv_has ls 4 [(0, .ref h), (1, .int x1), (2, .int x2), (3, .int x3)] := hl
  unfold X_sureBy at hf
  refine lv_bipush (v := 10) hx hb dX0_sureBy_0 (by decide) ?_
  refine lv_aload_n hx hb dX0_sureBy_2 rfl (lv_at hl 0 rfl) ?_
  refine lv_aload_n hx hb dX0_sureBy_3 rfl (lv_at hl 0 rfl) ?_
  refine gX_X0_this_now X hP dX0_sureBy_4 ?_
  refine gX_X0_now_row X hF hP dX0_sureBy_7 ?_
  refine lv_iload_n hx hb dX0_sureBy_10 rfl (lv_at hl 1 rfl) ?_
  refine lv_iload_n hx hb dX0_sureBy_11 rfl (lv_at hl 3 rfl) ?_
  obtain ⟨r1, c2, k3, hf⟩ := bd2s hf
  refine xVi (rest := [.int 10]) X hF (met_X_findsInR hzN hT k3) gw_X0_X0_findsIn dy_X0_findsIn ⟨⟨rfl, rfl⟩, Nat.le_of_ble_eq_true rfl, Nat.le_of_ble_eq_true rfl⟩ hP hD hS hl.1 rcX rfl rfl ⟨Nat.zero_le _, Nat.zero_le _⟩ (Nat.le_of_ble_eq_true rfl) dX0_sureBy_12 (fun H locs hP hD hS => ?_)
  refine lv_isub hx hb dX0_sureBy_15 ?_
  refine lv_aload_n hx hb dX0_sureBy_16 rfl (lv_at hl 0 rfl) ?_
  refine gX_X0_this_sure X hP dX0_sureBy_17 ?_
  refine lv_iload_n hx hb dX0_sureBy_20 rfl (lv_at hl 2 rfl) ?_
  refine lv_iconst (v := 1) hx hb dX0_sureBy_21 (by decide) ?_
  refine lv_isub hx hb dX0_sureBy_22 ?_
  obtain ⟨v4, ev4, hf⟩ := lts hf
  refine tpi ev4 ?_
  obtain ⟨b5, hf⟩ := inbs hf
  refine aX_cSure X hP b5 dX0_sureBy_23 ?_
  refine lv_iload_n hx hb dX0_sureBy_24 rfl (lv_at hl 3 rfl) ?_
  obtain ⟨v6, ev6, bv6, hf⟩ := rds hf
  refine l2X_cSure X hP ev6 b5 bv6 dX0_sureBy_25 ?_
  refine lv_imul hx hb dX0_sureBy_26 ?_
  cases hf
  exact rI X hP hD hS dX0_sureBy_27
theorem gw_X0_X0_mayGo : GoodIn lw_all (wsV RX0 331 RX0 yX0_mayGo (ws_ yX0_mayGo cX0_mayGo 3 (some .boolean))) := lw_V q1238 q1240 qs53 q145 q1241
theorem dy_X0_mayGo : Dy yX0_mayGo RX0 2 := by decide +kernel
theorem gw_X0_X0_sureBy : GoodIn lw_all (wsV RX0 334 RX0 yX0_sureBy (ws_ yX0_sureBy cX0_sureBy 4 (some .int))) := lw_V q1242 q1244 qs54 q145 q1245
theorem dy_X0_sureBy : Dy yX0_sureBy RX0 3 := by decide +kernel
set_option maxHeartbeats 4000000 in
theorem met_X_laysSure {l : Launch} {g : gG} {h hn hi : Nat} {ad : Nat → Nat} {ra : Nat → Nat → Nat} {z : Nat → Nat} {sTaped : Int32} {sFault : Int32} {sFaultA : Int32} {sWays : Int32} {sMay : Int32} {sMust : Int32} {cTape : Nat → Int32} {cNames : Nat → Int32} {cHead : Nat → Int32} {cSure : Nat → Nat → Int32} {cN : Nat → Int32} {cRow : Nat → Int32} {cTried : Nat → Int32} {cFor : Nat → Int32} {cRoad : Nat → Int32} {cFear : Nat → Int32} {cCall : Nat → Int32} {cUnl : Nat → Int32} {cPaid : Nat → Nat → Int32} {cStep : Nat → Nat → Int32} {cGain : Nat → Nat → Int32} {cText : Nat → Option Nat} {iN : Nat → Int32} {iRow : Nat → Int32} {iFor : Nat → Int32} {iRoad : Nat → Int32} {iFear : Nat → Int32} {iCall : Nat → Int32} {iUnl : Nat → Int32} {iPaid : Nat → Nat → Int32} {iStep : Nat → Nat → Int32} {iGain : Nat → Nat → Int32} {iText : Nat → Option Nat} {tp : va_W} {E : Nat → Option (Nat → Option ((Nat → Int32) → Int64))} {zN : Nat} {x1 : Int32} {x2 : Int32} {ncNames : Nat → Int32} {ncSure : Nat → Nat → Int32} {φ : Nat} (hzN : zN = z 0) (hT : TxOk g z tp E) (hf : X_laysSure φ cNames cSure cN cRow cFor cRoad cFear cText E zN x1 x2 = some (ncNames, ncSure)) : CX l yX0_laysSure (ws_ yX0_laysSure cX0_laysSure 6 none) ({ frames := 245, cells := 0, slots := 0, locals := 5270 } : Room) g z [.ref h, .int x1, .int x2] (xW g h hn hi ad ra sTaped sFault sFaultA sWays sMay sMust cTape cNames cHead cSure cN cRow cTried cFor cRoad cFear cCall cUnl cPaid cStep cGain cText iN iRow iFor iRoad iFear iCall iUnl iPaid iStep iGain iText tp) none (xW g h hn hi ad ra sTaped sFault sFaultA sWays sMay sMust cTape ncNames cHead ncSure cN cRow cTried cFor cRoad cFear cCall cUnl cPaid cStep cGain cText iN iRow iFor iRoad iFear iCall iUnl iPaid iStep iGain iText tp) 0 0 := by
  refine CX.of RX0 rfl plain_X0 (Nat.le_of_ble_eq_true rfl) (fun p e s m below meth c A ls X hF hP hD hS hl => ?_)
  have hx := X.1
  have hb := X.2.1
  have hown := X.2.2.2.2.2.1
  have hts := X.2.2.2.2.2.2.1
  have hl : lv_has ls 6 [(0, .ref h), (1, .int x1), (2, .int x2)] := hl
  unfold X_laysSure at hf
  refine lv_aload_n hx hb dX0_laysSure_0 rfl (lv_at hl 0 rfl) ?_
  refine gX_X0_this_sure X hP dX0_laysSure_1 ?_
  refine lv_iconst (v := 0) hx hb dX0_laysSure_4 (by decide) ?_
  obtain ⟨b1, hf⟩ := inbs hf
  refine aX_cSure X hP b1 dX0_laysSure_5 ?_
  refine lv_iconst (v := 1) hx hb dX0_laysSure_6 (by decide) ?_
  obtain ⟨c2, ec2, hf⟩ := lts hf
  refine cFill X q1235 hl.1 hP hD hS (xat_cSure (vp_lt b1)) (Nat.le_of_ble_eq_true rfl) (xset_cSure (vp_lt b1) ec2) ⟨Nat.le_of_ble_eq_true rfl, Nat.le_of_ble_eq_true rfl⟩ ⟨Nat.zero_le _, Nat.zero_le _⟩ (Nat.le_of_ble_eq_true rfl) dX0_laysSure_7 (fun H locs hP hD hS => ?_)
  refine lv_iconst (v := 1) hx hb dX0_laysSure_10 (by decide) ?_
  refine lv_istore_n (lv' := [(3, .int 1), (0, .ref h), (1, .int x1), (2, .int x2)]) hx hb dX0_laysSure_11 rfl hl (by decide) rfl (fun ls hl => ?_)
  obtain ⟨c6, c7, k12, hf⟩ := bd2s hf
  have hE9 : ∀ (H : Heap) (locs : List Loc) (ls : Array Slot), va_P g.1 vwCl (xW g h hn hi ad ra sTaped sFault sFaultA sWays sMay sMust cTape c6 cHead c7 cN cRow cTried cFor cRoad cFear cCall cUnl cPaid cStep cGain cText iN iRow iFor iRoad iFear iCall iUnl iPaid iStep iGain iText tp) H → va_D A (xW g h hn hi ad ra sTaped sFault sFaultA sWays sMay sMust cTape c6 cHead c7 cN cRow cTried cFor cRoad cFear cCall cUnl cPaid cStep cGain cText iN iRow iFor iRoad iFear iCall iUnl iPaid iStep iGain iText tp) → va_S A s.heap H locs → lv_has ls 6 [] → W p l e ({ frames := 245, cells := 0, slots := 0, locals := 5270 } : Room) s m ([.ref h, .int x1, .int x2] : List Value).toArray below meth c H locs 0 0 (MQ below (QQ g none (xW g h hn hi ad ra sTaped sFault sFaultA sWays sMay sMust cTape ncNames cHead ncSure cN cRow cTried cFor cRoad cFear cCall cUnl cPaid cStep cGain cText iN iRow iFor iRoad iFear iCall iUnl iPaid iStep iGain iText tp) A) ([.ref h, .int x1, .int x2] : List Value).toArray s 0 0 A) (F0 m 119 ls []) := by
    intro H locs ls hP hD hS hl
    cases hf
    exact rV X hP hD hS dX0_laysSure_119
  have hL10 : ∀ (n8 : Nat) (v3 : Int32) (c4 : Nat → Int32) (c5 : Nat → Nat → Int32), X_laysSure_L12 φ x1 x2 cN cRow cFor cRoad cFear cText E zN n8 v3 c4 c5 = some (c6, c7) → ∀ (H : Heap) (locs : List Loc) (ls : Array Slot), va_P g.1 vwCl (xW g h hn hi ad ra sTaped sFault sFaultA sWays sMay sMust cTape c4 cHead c5 cN cRow cTried cFor cRoad cFear cCall cUnl cPaid cStep cGain cText iN iRow iFor iRoad iFear iCall iUnl iPaid iStep iGain iText tp) H → va_D A (xW g h hn hi ad ra sTaped sFault sFaultA sWays sMay sMust cTape c4 cHead c5 cN cRow cTried cFor cRoad cFear cCall cUnl cPaid cStep cGain cText iN iRow iFor iRoad iFear iCall iUnl iPaid iStep iGain iText tp) → va_S A s.heap H locs → lv_has ls 6 [(0, .ref h), (1, .int x1), (2, .int x2), (3, .int v3)] → W p l e ({ frames := 245, cells := 0, slots := 0, locals := 5270 } : Room) s m ([.ref h, .int x1, .int x2] : List Value).toArray below meth c H locs 0 0 (MQ below (QQ g none (xW g h hn hi ad ra sTaped sFault sFaultA sWays sMay sMust cTape ncNames cHead ncSure cN cRow cTried cFor cRoad cFear cCall cUnl cPaid cStep cGain cText iN iRow iFor iRoad iFear iCall iUnl iPaid iStep iGain iText tp) A) ([.ref h, .int x1, .int x2] : List Value).toArray s 0 0 A) (F0 m 12 ls []) := by
    intro n8
    induction n8 with
    | zero =>
      intro v3 c4 c5 hf
      exact nn hf
    | succ n8 ih11 =>
      intro v3 c4 c5 hf H locs ls hP hD hS hl
      rw [X_laysSure_L12] at hf
      refine lv_iload_n hx hb dX0_laysSure_12 rfl (lv_at hl 3 rfl) ?_
      refine lv_iload_n hx hb dX0_laysSure_13 rfl (lv_at hl 2 rfl) ?_
      refine bc_gt (tgt := 119) hx hb hf dX0_laysSure_14 (by decide) (fun hf => ?_) (fun hf => ?_)
      · cases hf
        exact hE9 _ _ _ hP hD hS (lv_sub hl [] rfl)
      · refine lv_iconst (v := 0) hx hb dX0_laysSure_17 (by decide) ?_
        refine lv_istore (lv' := [(4, .int 0), (0, .ref h), (1, .int x1), (2, .int x2), (3, .int v3)]) hx hb dX0_laysSure_18 hl (by decide) rfl (fun ls hl => ?_)
        obtain ⟨c16, c17, k22, hf⟩ := bd2s hf
        have hE19 : ∀ (H : Heap) (locs : List Loc) (ls : Array Slot), va_P g.1 vwCl (xW g h hn hi ad ra sTaped sFault sFaultA sWays sMay sMust cTape c16 cHead c17 cN cRow cTried cFor cRoad cFear cCall cUnl cPaid cStep cGain cText iN iRow iFor iRoad iFear iCall iUnl iPaid iStep iGain iText tp) H → va_D A (xW g h hn hi ad ra sTaped sFault sFaultA sWays sMay sMust cTape c16 cHead c17 cN cRow cTried cFor cRoad cFear cCall cUnl cPaid cStep cGain cText iN iRow iFor iRoad iFear iCall iUnl iPaid iStep iGain iText tp) → va_S A s.heap H locs → lv_has ls 6 [(0, .ref h), (1, .int x1), (2, .int x2), (3, .int v3)] → W p l e ({ frames := 245, cells := 0, slots := 0, locals := 5270 } : Room) s m ([.ref h, .int x1, .int x2] : List Value).toArray below meth c H locs 0 0 (MQ below (QQ g none (xW g h hn hi ad ra sTaped sFault sFaultA sWays sMay sMust cTape ncNames cHead ncSure cN cRow cTried cFor cRoad cFear cCall cUnl cPaid cStep cGain cText iN iRow iFor iRoad iFear iCall iUnl iPaid iStep iGain iText tp) A) ([.ref h, .int x1, .int x2] : List Value).toArray s 0 0 A) (F0 m 113 ls []) := by
          intro H locs ls hP hD hS hl
          obtain ⟨v23, ev23, hf⟩ := lts hf
          refine lv_iinc (v := v23) (lv' := [(3, .int v23), (0, .ref h), (1, .int x1), (2, .int x2)]) hx hb dX0_laysSure_113 hl (k := 3) rfl (by rw [ev23]; rfl) (by decide) rfl (fun ls hl => ?_)
          refine lv_goto (tgt := 12) hx hb dX0_laysSure_116 (by decide) ?_
          exact ih11 _ _ _ hf _ _ _ hP hD hS (lv_sub hl [1, 2, 3, 0] rfl)
        have hL20 : ∀ (n18 : Nat) (v13 : Int32) (c14 : Nat → Int32) (c15 : Nat → Nat → Int32), X_laysSure_L20 φ x1 x2 v3 cN cRow cFor cRoad cFear cText E zN n18 v13 c14 c15 = some (c16, c17) → ∀ (H : Heap) (locs : List Loc) (ls : Array Slot), va_P g.1 vwCl (xW g h hn hi ad ra sTaped sFault sFaultA sWays sMay sMust cTape c14 cHead c15 cN cRow cTried cFor cRoad cFear cCall cUnl cPaid cStep cGain cText iN iRow iFor iRoad iFear iCall iUnl iPaid iStep iGain iText tp) H → va_D A (xW g h hn hi ad ra sTaped sFault sFaultA sWays sMay sMust cTape c14 cHead c15 cN cRow cTried cFor cRoad cFear cCall cUnl cPaid cStep cGain cText iN iRow iFor iRoad iFear iCall iUnl iPaid iStep iGain iText tp) → va_S A s.heap H locs → lv_has ls 6 [(0, .ref h), (1, .int x1), (2, .int x2), (3, .int v3), (4, .int v13)] → W p l e ({ frames := 245, cells := 0, slots := 0, locals := 5270 } : Room) s m ([.ref h, .int x1, .int x2] : List Value).toArray below meth c H locs 0 0 (MQ below (QQ g none (xW g h hn hi ad ra sTaped sFault sFaultA sWays sMay sMust cTape ncNames cHead ncSure cN cRow cTried cFor cRoad cFear cCall cUnl cPaid cStep cGain cText iN iRow iFor iRoad iFear iCall iUnl iPaid iStep iGain iText tp) A) ([.ref h, .int x1, .int x2] : List Value).toArray s 0 0 A) (F0 m 20 ls []) := by
          intro n18
          induction n18 with
          | zero =>
            intro v13 c14 c15 hf
            exact nn hf
          | succ n18 ih21 =>
            intro v13 c14 c15 hf H locs ls hP hD hS hl
            rw [X_laysSure_L20] at hf
            refine lv_iload hx hb dX0_laysSure_20 (lv_at hl 4 rfl) ?_
            refine lv_aload_n hx hb dX0_laysSure_22 rfl (lv_at hl 0 rfl) ?_
            refine gX_X0_this_now X hP dX0_laysSure_23 ?_
            refine gX_X0_now_n X hF hP dX0_laysSure_26 ?_
            refine lv_iconst (v := 0) hx hb dX0_laysSure_29 (by decide) ?_
            obtain ⟨v24, ev24, bv24, hf⟩ := rds hf
            refine lX_cN X hP ev24 bv24 dX0_laysSure_30 ?_
            refine bc_ge (tgt := 113) hx hb hf dX0_laysSure_31 (by decide) (fun hf => ?_) (fun hf => ?_)
            · cases hf
              exact hE19 _ _ _ hP hD hS (lv_sub hl [0, 1, 2, 3] rfl)
            · refine lv_aload_n hx hb dX0_laysSure_34 rfl (lv_at hl 0 rfl) ?_
              refine gX_X0_this_sure X hP dX0_laysSure_35 ?_
              refine lv_iload_n hx hb dX0_laysSure_38 rfl (lv_at hl 3 rfl) ?_
              obtain ⟨b25, hf⟩ := inbs hf
              refine aX_cSure X hP b25 dX0_laysSure_39 ?_
              refine lv_iload hx hb dX0_laysSure_40 (lv_at hl 4 rfl) ?_
              refine lv_iconst (v := 0) hx hb dX0_laysSure_42 (by decide) ?_
              obtain ⟨f27, ef27, bf27, hf⟩ := wrs hf
              obtain ⟨c26, ec26, hf⟩ := lts hf
              refine s2X_cSure X hP hD hS ef27 ec26 b25 bf27 dX0_laysSure_43 (fun H locs hP hD hS => ?_)
              refine lv_iconst (v := 0) hx hb dX0_laysSure_44 (by decide) ?_
              refine lv_istore (lv' := [(5, .int 0), (0, .ref h), (1, .int x1), (2, .int x2), (3, .int v3), (4, .int v13)]) hx hb dX0_laysSure_45 hl (by decide) rfl (fun ls hl => ?_)
              obtain ⟨c31, c32, k37, hf⟩ := bd2s hf
              have hE34 : ∀ (H : Heap) (locs : List Loc) (ls : Array Slot), va_P g.1 vwCl (xW g h hn hi ad ra sTaped sFault sFaultA sWays sMay sMust cTape c31 cHead c32 cN cRow cTried cFor cRoad cFear cCall cUnl cPaid cStep cGain cText iN iRow iFor iRoad iFear iCall iUnl iPaid iStep iGain iText tp) H → va_D A (xW g h hn hi ad ra sTaped sFault sFaultA sWays sMay sMust cTape c31 cHead c32 cN cRow cTried cFor cRoad cFear cCall cUnl cPaid cStep cGain cText iN iRow iFor iRoad iFear iCall iUnl iPaid iStep iGain iText tp) → va_S A s.heap H locs → lv_has ls 6 [(0, .ref h), (1, .int x1), (2, .int x2), (3, .int v3), (4, .int v13)] → W p l e ({ frames := 245, cells := 0, slots := 0, locals := 5270 } : Room) s m ([.ref h, .int x1, .int x2] : List Value).toArray below meth c H locs 0 0 (MQ below (QQ g none (xW g h hn hi ad ra sTaped sFault sFaultA sWays sMay sMust cTape ncNames cHead ncSure cN cRow cTried cFor cRoad cFear cCall cUnl cPaid cStep cGain cText iN iRow iFor iRoad iFear iCall iUnl iPaid iStep iGain iText tp) A) ([.ref h, .int x1, .int x2] : List Value).toArray s 0 0 A) (F0 m 107 ls []) := by
                intro H locs ls hP hD hS hl
                obtain ⟨v38, ev38, hf⟩ := lts hf
                refine lv_iinc (v := v38) (lv' := [(4, .int v38), (0, .ref h), (1, .int x1), (2, .int x2), (3, .int v3)]) hx hb dX0_laysSure_107 hl (k := 4) rfl (by rw [ev38]; rfl) (by decide) rfl (fun ls hl => ?_)
                refine lv_goto (tgt := 20) hx hb dX0_laysSure_110 (by decide) ?_
                exact ih21 _ _ _ hf _ _ _ hP hD hS (lv_sub hl [1, 2, 3, 4, 0] rfl)
              have hL35 : ∀ (n33 : Nat) (v28 : Int32) (c29 : Nat → Int32) (c30 : Nat → Nat → Int32), X_laysSure_L47 φ x1 x2 v3 v13 cN cRow cFor cRoad cFear cText E zN n33 v28 c29 c30 = some (c31, c32) → ∀ (H : Heap) (locs : List Loc) (ls : Array Slot), va_P g.1 vwCl (xW g h hn hi ad ra sTaped sFault sFaultA sWays sMay sMust cTape c29 cHead c30 cN cRow cTried cFor cRoad cFear cCall cUnl cPaid cStep cGain cText iN iRow iFor iRoad iFear iCall iUnl iPaid iStep iGain iText tp) H → va_D A (xW g h hn hi ad ra sTaped sFault sFaultA sWays sMay sMust cTape c29 cHead c30 cN cRow cTried cFor cRoad cFear cCall cUnl cPaid cStep cGain cText iN iRow iFor iRoad iFear iCall iUnl iPaid iStep iGain iText tp) → va_S A s.heap H locs → lv_has ls 6 [(0, .ref h), (1, .int x1), (2, .int x2), (3, .int v3), (4, .int v13), (5, .int v28)] → W p l e ({ frames := 245, cells := 0, slots := 0, locals := 5270 } : Room) s m ([.ref h, .int x1, .int x2] : List Value).toArray below meth c H locs 0 0 (MQ below (QQ g none (xW g h hn hi ad ra sTaped sFault sFaultA sWays sMay sMust cTape ncNames cHead ncSure cN cRow cTried cFor cRoad cFear cCall cUnl cPaid cStep cGain cText iN iRow iFor iRoad iFear iCall iUnl iPaid iStep iGain iText tp) A) ([.ref h, .int x1, .int x2] : List Value).toArray s 0 0 A) (F0 m 47 ls []) := by
                intro n33
                induction n33 with
                | zero =>
                  intro v28 c29 c30 hf
                  exact nn hf
                | succ n33 ih36 =>
                  intro v28 c29 c30 hf H locs ls hP hD hS hl
                  rw [X_laysSure_L47] at hf
                  refine lv_iload hx hb dX0_laysSure_47 (lv_at hl 5 rfl) ?_
                  refine lv_aload_n hx hb dX0_laysSure_49 rfl (lv_at hl 0 rfl) ?_
                  refine gX_X0_this_now X hP dX0_laysSure_50 ?_
                  refine gX_X0_now_n X hF hP dX0_laysSure_53 ?_
                  refine lv_iconst (v := 0) hx hb dX0_laysSure_56 (by decide) ?_
                  obtain ⟨v39, ev39, bv39, hf⟩ := rds hf
                  refine lX_cN X hP ev39 bv39 dX0_laysSure_57 ?_
                  refine bc_ge (tgt := 107) hx hb hf dX0_laysSure_58 (by decide) (fun hf => ?_) (fun hf => ?_)
                  · cases hf
                    exact hE34 _ _ _ hP hD hS (lv_sub hl [0, 1, 2, 3, 4] rfl)
                  · refine lv_aload_n hx hb dX0_laysSure_61 rfl (lv_at hl 0 rfl) ?_
                    refine lv_iload hx hb dX0_laysSure_62 (lv_at hl 4 rfl) ?_
                    refine lv_iload hx hb dX0_laysSure_64 (lv_at hl 5 rfl) ?_
                    obtain ⟨r40, k41, hf⟩ := bd1s hf
                    refine xVi (rest := []) X hF (met_X_mayGo k41) gw_X0_X0_mayGo dy_X0_mayGo ⟨⟨rfl, rfl⟩, Nat.le_of_ble_eq_true rfl, Nat.le_of_ble_eq_true rfl⟩ hP hD hS hl.1 rcX rfl rfl ⟨Nat.zero_le _, Nat.zero_le _⟩ (Nat.le_of_ble_eq_true rfl) dX0_laysSure_66 (fun H locs hP hD hS => ?_)
                    refine bq_eq (tgt := 101) hx hb hf dX0_laysSure_69 (by decide) (fun hf => ?_) (fun hf => ?_)
                    · obtain ⟨v42, ev42, hf⟩ := lts hf
                      refine lv_iinc (v := v42) (lv' := [(5, .int v42), (0, .ref h), (1, .int x1), (2, .int x2), (3, .int v3), (4, .int v13)]) hx hb dX0_laysSure_101 hl (k := 5) rfl (by rw [ev42]; rfl) (by decide) rfl (fun ls hl => ?_)
                      refine lv_goto (tgt := 47) hx hb dX0_laysSure_104 (by decide) ?_
                      exact ih36 _ _ _ hf _ _ _ hP hD hS (lv_sub hl [1, 2, 3, 4, 5, 0] rfl)
                    · refine lv_aload_n hx hb dX0_laysSure_72 rfl (lv_at hl 0 rfl) ?_
                      refine gX_X0_this_sure X hP dX0_laysSure_73 ?_
                      refine lv_iload_n hx hb dX0_laysSure_76 rfl (lv_at hl 3 rfl) ?_
                      obtain ⟨b43, hf⟩ := inbs hf
                      refine aX_cSure X hP b43 dX0_laysSure_77 ?_
                      refine lv_iload hx hb dX0_laysSure_78 (lv_at hl 4 rfl) ?_
                      refine lv_aload_n hx hb dX0_laysSure_80 rfl (lv_at hl 0 rfl) ?_
                      refine gX_X0_this_sure X hP dX0_laysSure_81 ?_
                      refine lv_iload_n hx hb dX0_laysSure_84 rfl (lv_at hl 3 rfl) ?_
                      obtain ⟨b44, hf⟩ := inbs hf
                      refine aX_cSure X hP b44 dX0_laysSure_85 ?_
                      refine lv_iload hx hb dX0_laysSure_86 (lv_at hl 4 rfl) ?_
                      obtain ⟨v45, ev45, bv45, hf⟩ := rds hf
                      refine l2X_cSure X hP ev45 b44 bv45 dX0_laysSure_88 ?_
                      refine lv_aload_n hx hb dX0_laysSure_89 rfl (lv_at hl 0 rfl) ?_
                      refine lv_iload_n hx hb dX0_laysSure_90 rfl (lv_at hl 1 rfl) ?_
                      refine lv_iload_n hx hb dX0_laysSure_91 rfl (lv_at hl 3 rfl) ?_
                      refine lv_iload hx hb dX0_laysSure_92 (lv_at hl 5 rfl) ?_
                      obtain ⟨r46, c47, k48, hf⟩ := bd2s hf
                      refine xVi (rest := [.int v45, .int v13, .ref (ra 0 (v3 : Int32).toNatClampNeg)]) X hF (met_X_sureBy hzN hT k48) gw_X0_X0_sureBy dy_X0_sureBy ⟨⟨rfl, rfl⟩, Nat.le_of_ble_eq_true rfl, Nat.le_of_ble_eq_true rfl⟩ hP hD hS hl.1 rcX rfl rfl ⟨Nat.zero_le _, Nat.zero_le _⟩ (Nat.le_of_ble_eq_true rfl) dX0_laysSure_94 (fun H locs hP hD hS => ?_)
                      refine rMax X q1246 hl.1 ⟨Nat.le_of_ble_eq_true rfl, Nat.le_of_ble_eq_true rfl⟩ ⟨Nat.zero_le _, Nat.zero_le _⟩ dX0_laysSure_97 ?_
                      obtain ⟨v49, ev49, hf⟩ := lts hf
                      refine tpi ev49 ?_
                      obtain ⟨f51, ef51, bf51, hf⟩ := wrs hf
                      obtain ⟨c50, ec50, hf⟩ := lts hf
                      refine s2X_cSure X hP hD hS ef51 ec50 b43 bf51 dX0_laysSure_100 (fun H locs hP hD hS => ?_)
                      obtain ⟨v52, ev52, hf⟩ := lts hf
                      refine lv_iinc (v := v52) (lv' := [(5, .int v52), (0, .ref h), (1, .int x1), (2, .int x2), (3, .int v3), (4, .int v13)]) hx hb dX0_laysSure_101 hl (k := 5) rfl (by rw [ev52]; rfl) (by decide) rfl (fun ls hl => ?_)
                      refine lv_goto (tgt := 47) hx hb dX0_laysSure_104 (by decide) ?_
                      exact ih36 _ _ _ hf _ _ _ hP hD hS (lv_sub hl [1, 2, 3, 4, 5, 0] rfl)
              exact hL35 _ _ _ _ k37 _ _ _ hP hD hS (lv_sub hl [1, 2, 3, 4, 5, 0] rfl)
        exact hL20 _ _ _ _ k22 _ _ _ hP hD hS (lv_sub hl [1, 2, 3, 4, 0] rfl)
  exact hL10 _ _ _ _ k12 _ _ _ hP hD hS (lv_sub hl [1, 2, 3, 0] rfl)
theorem gs_X0_X0_power : GoodIn lw_all (va_wsS RX0 343 yX0_power (ws_ yX0_power cX0_power 2 (some .int))) := lw_S q1247 q1248 q145 q1249
theorem dy_X0_power : Dy yX0_power RX0 2 := by decide +kernel
set_option maxHeartbeats 4000000 in
theorem met_X_power {l : Launch} {g : gG} : ∀ (n0 : Nat) {x0 : Int32} {x1 : Int32} {r : Int32}, X_power n0 x0 x1 = some r → CC l yX0_power (ws_ yX0_power cX0_power 2 (some .int)) ({ frames := n0 + 0, cells := 0, slots := 0, locals := 21 * n0 + 0 } : Room) g [.int x0, .int x1] ([] : va_W) (some (.int r)) ([] : va_W) 0 0 := by
  intro n0
  induction n0 with
  | zero =>
    intro x0 x1 r hf
    exact nn hf
  | succ n0 ih0 =>
    intro x0 x1 r hf
    refine CC.of RX0 rfl plain_X0 (Nat.le_of_ble_eq_true rfl) (fun p e s m below meth c A ls X hP hD hS hl => ?_)
    have hx := X.1
    have hb := X.2.1
    have hown := X.2.2.2.2.2.1
    have hts := X.2.2.2.2.2.2.1
    have hl : lv_has ls 2 [(0, .int x0), (1, .int x1)] := hl
    rw [X_power] at hf
    refine lv_iload_n hx hb dX0_power_0 rfl (lv_at hl 1 rfl) ?_
    refine bq_ne (tgt := 8) hx hb hf dX0_power_1 (by decide) (fun hf => ?_) (fun hf => ?_)
    · refine lv_iload_n hx hb dX0_power_8 rfl (lv_at hl 0 rfl) ?_
      refine lv_iload_n hx hb dX0_power_9 rfl (lv_at hl 0 rfl) ?_
      refine lv_iload_n hx hb dX0_power_10 rfl (lv_at hl 1 rfl) ?_
      refine lv_iconst (v := 1) hx hb dX0_power_11 (by decide) ?_
      refine lv_isub hx hb dX0_power_12 ?_
      obtain ⟨r1, k2, hf⟩ := bd1s hf
      refine cSi (rest := [.int x0]) X (ih0 k2) gs_X0_X0_power dy_X0_power ⟨⟨rfl, rfl⟩, (by dsimp only; omega), (by dsimp only; omega)⟩ hP hD hS hl.1 rfl rfl ⟨Nat.zero_le _, Nat.zero_le _⟩ (Nat.le_of_ble_eq_true rfl) dX0_power_13 (fun H locs hP hD hS => ?_)
      refine lv_imul hx hb dX0_power_16 ?_
      cases hf
      exact rI X hP hD hS dX0_power_17
    · refine lv_iconst (v := 1) hx hb dX0_power_4 (by decide) ?_
      refine lv_goto (tgt := 17) hx hb dX0_power_5 (by decide) ?_
      cases hf
      exact rI X hP hD hS dX0_power_17
theorem gs_X0_X0_common : GoodIn lw_all (va_wsS RX0 340 yX0_common (ws_ yX0_common cX0_common 2 (some .int))) := lw_S q1250 q1251 q145 q1252
theorem dy_X0_common : Dy yX0_common RX0 2 := by decide +kernel
set_option maxHeartbeats 4000000 in
theorem met_X_common {l : Launch} {g : gG} : ∀ (n0 : Nat) {x0 : Int32} {x1 : Int32} {r : Int32}, X_common n0 x0 x1 = some r → CC l yX0_common (ws_ yX0_common cX0_common 2 (some .int)) ({ frames := n0 + 0, cells := 0, slots := 0, locals := 21 * n0 + 0 } : Room) g [.int x0, .int x1] ([] : va_W) (some (.int r)) ([] : va_W) 0 0 := by
  intro n0
  induction n0 with
  | zero =>
    intro x0 x1 r hf
    exact nn hf
  | succ n0 ih0 =>
    intro x0 x1 r hf
    refine CC.of RX0 rfl plain_X0 (Nat.le_of_ble_eq_true rfl) (fun p e s m below meth c A ls X hP hD hS hl => ?_)
    have hx := X.1
    have hb := X.2.1
    have hown := X.2.2.2.2.2.1
    have hts := X.2.2.2.2.2.2.1
    have hl : lv_has ls 2 [(0, .int x0), (1, .int x1)] := hl
    rw [X_common] at hf
    refine lv_iload_n hx hb dX0_common_0 rfl (lv_at hl 1 rfl) ?_
    refine bq_ne (tgt := 8) hx hb hf dX0_common_1 (by decide) (fun hf => ?_) (fun hf => ?_)
    · refine lv_iload_n hx hb dX0_common_8 rfl (lv_at hl 1 rfl) ?_
      refine lv_iload_n hx hb dX0_common_9 rfl (lv_at hl 0 rfl) ?_
      refine lv_iload_n hx hb dX0_common_10 rfl (lv_at hl 1 rfl) ?_
      obtain ⟨z1, hf⟩ := nzs hf
      refine lv_irem hx hb dX0_common_11 z1 ?_
      obtain ⟨r2, k3, hf⟩ := bd1s hf
      refine cSi (rest := []) X (ih0 k3) gs_X0_X0_common dy_X0_common ⟨⟨rfl, rfl⟩, (by dsimp only; omega), (by dsimp only; omega)⟩ hP hD hS hl.1 rfl rfl ⟨Nat.zero_le _, Nat.zero_le _⟩ (Nat.le_of_ble_eq_true rfl) dX0_common_12 (fun H locs hP hD hS => ?_)
      cases hf
      exact rI X hP hD hS dX0_common_15
    · refine lv_iload_n hx hb dX0_common_4 rfl (lv_at hl 0 rfl) ?_
      refine lv_goto (tgt := 15) hx hb dX0_common_5 (by decide) ?_
      cases hf
      exact rI X hP hD hS dX0_common_15
theorem gw_X0_X0_laysSure : GoodIn lw_all (wsV RX0 346 RX0 yX0_laysSure (ws_ yX0_laysSure cX0_laysSure 6 none)) := lw_V q1231 q1233 qs52 q145 q1234
theorem dy_X0_laysSure : Dy yX0_laysSure RX0 2 := by decide +kernel
set_option maxHeartbeats 4000000 in
theorem met_X_surest {l : Launch} {g : gG} {h hn hi : Nat} {ad : Nat → Nat} {ra : Nat → Nat → Nat} {z : Nat → Nat} {sTaped : Int32} {sFault : Int32} {sFaultA : Int32} {sWays : Int32} {sMay : Int32} {sMust : Int32} {cTape : Nat → Int32} {cNames : Nat → Int32} {cHead : Nat → Int32} {cSure : Nat → Nat → Int32} {cN : Nat → Int32} {cRow : Nat → Int32} {cTried : Nat → Int32} {cFor : Nat → Int32} {cRoad : Nat → Int32} {cFear : Nat → Int32} {cCall : Nat → Int32} {cUnl : Nat → Int32} {cPaid : Nat → Nat → Int32} {cStep : Nat → Nat → Int32} {cGain : Nat → Nat → Int32} {cText : Nat → Option Nat} {iN : Nat → Int32} {iRow : Nat → Int32} {iFor : Nat → Int32} {iRoad : Nat → Int32} {iFear : Nat → Int32} {iCall : Nat → Int32} {iUnl : Nat → Int32} {iPaid : Nat → Nat → Int32} {iStep : Nat → Nat → Int32} {iGain : Nat → Nat → Int32} {iText : Nat → Option Nat} {tp : va_W} {E : Nat → Option (Nat → Option ((Nat → Int32) → Int64))} {zN : Nat} {x1 : Int32} {x2 : Int32} {x3 : Int32} {r : Int32} {ncNames : Nat → Int32} {ncSure : Nat → Nat → Int32} {φ : Nat} (hzN : zN = z 0) (hT : TxOk g z tp E) (hf : X_surest φ cNames cSure cN cRow cFor cRoad cFear cText E zN x1 x2 x3 = some (r, ncNames, ncSure)) : CX l yX0_surest (ws_ yX0_surest cX0_surest 10 (some .int)) ({ frames := 246, cells := 0, slots := 0, locals := 5295 } : Room) g z [.ref h, .int x1, .int x2, .int x3] (xW g h hn hi ad ra sTaped sFault sFaultA sWays sMay sMust cTape cNames cHead cSure cN cRow cTried cFor cRoad cFear cCall cUnl cPaid cStep cGain cText iN iRow iFor iRoad iFear iCall iUnl iPaid iStep iGain iText tp) (some (.int r)) (xW g h hn hi ad ra sTaped sFault sFaultA sWays sMay sMust cTape ncNames cHead ncSure cN cRow cTried cFor cRoad cFear cCall cUnl cPaid cStep cGain cText iN iRow iFor iRoad iFear iCall iUnl iPaid iStep iGain iText tp) 0 0 := by
  refine CX.of RX0 rfl plain_X0 (Nat.le_of_ble_eq_true rfl) (fun p e s m below meth c A ls X hF hP hD hS hl => ?_)
  have hx := X.1
  have hb := X.2.1
  have hown := X.2.2.2.2.2.1
  have hts := X.2.2.2.2.2.2.1
  have hl : lv_has ls 10 [(0, .ref h), (1, .int x1), (2, .int x2), (3, .int x3)] := hl
  unfold X_surest at hf
  refine lv_aload_n hx hb dX0_surest_0 rfl (lv_at hl 0 rfl) ?_
  refine lv_iload_n hx hb dX0_surest_1 rfl (lv_at hl 1 rfl) ?_
  obtain ⟨r1, k2, hf⟩ := bd1s hf
  refine xVi (rest := []) X hF (met_X_isWolf k2) gw_X0_X0_isWolf dy_X0_isWolf ⟨⟨rfl, rfl⟩, Nat.le_of_ble_eq_true rfl, Nat.le_of_ble_eq_true rfl⟩ hP hD hS hl.1 rcX rfl rfl ⟨Nat.zero_le _, Nat.zero_le _⟩ (Nat.le_of_ble_eq_true rfl) dX0_surest_2 (fun H locs hP hD hS => ?_)
  refine bq_eq (tgt := 30) hx hb hf dX0_surest_5 (by decide) (fun hf => ?_) (fun hf => ?_)
  · refine lv_bipush (v := (-3)) hx hb dX0_surest_30 (by decide) ?_
    cases hf
    exact rI X hP hD hS dX0_surest_32
  · refine lv_iload_n hx hb dX0_surest_8 rfl (lv_at hl 2 rfl) ?_
    refine lv_iconst (v := 1) hx hb dX0_surest_9 (by decide) ?_
    refine lv_bipush (v := 6) hx hb dX0_surest_10 (by decide) ?_
    obtain ⟨r3, k4, hf⟩ := bd1s hf
    refine cSi (rest := []) X (met_X_in (g := g) k4) gs_X0_X0_in dy_X0_in ⟨⟨rfl, rfl⟩, Nat.le_of_ble_eq_true rfl, Nat.le_of_ble_eq_true rfl⟩ hP hD hS hl.1 rfl rfl ⟨Nat.zero_le _, Nat.zero_le _⟩ (Nat.le_of_ble_eq_true rfl) dX0_surest_12 (fun H locs hP hD hS => ?_)
    refine bq_eq (tgt := 30) hx hb hf dX0_surest_15 (by decide) (fun hf => ?_) (fun hf => ?_)
    · refine lv_bipush (v := (-3)) hx hb dX0_surest_30 (by decide) ?_
      cases hf
      exact rI X hP hD hS dX0_surest_32
    · refine lv_iload_n hx hb dX0_surest_18 rfl (lv_at hl 3 rfl) ?_
      refine lv_bipush (v := (-2)) hx hb dX0_surest_19 (by decide) ?_
      refine lv_iload_n hx hb dX0_surest_21 rfl (lv_at hl 2 rfl) ?_
      refine lv_iconst (v := 1) hx hb dX0_surest_22 (by decide) ?_
      refine lv_isub hx hb dX0_surest_23 ?_
      obtain ⟨r5, k6, hf⟩ := bd1s hf
      refine cSi (rest := []) X (met_X_in (g := g) k6) gs_X0_X0_in dy_X0_in ⟨⟨rfl, rfl⟩, Nat.le_of_ble_eq_true rfl, Nat.le_of_ble_eq_true rfl⟩ hP hD hS hl.1 rfl rfl ⟨Nat.zero_le _, Nat.zero_le _⟩ (Nat.le_of_ble_eq_true rfl) dX0_surest_24 (fun H locs hP hD hS => ?_)
      refine bq_ne (tgt := 33) hx hb hf dX0_surest_27 (by decide) (fun hf => ?_) (fun hf => ?_)
      · refine lv_aload_n hx hb dX0_surest_33 rfl (lv_at hl 0 rfl) ?_
        refine lv_iload_n hx hb dX0_surest_34 rfl (lv_at hl 1 rfl) ?_
        refine lv_iload_n hx hb dX0_surest_35 rfl (lv_at hl 2 rfl) ?_
        obtain ⟨c7, c8, k9, hf⟩ := bd2s hf
        refine xVv (rest := []) X hF (met_X_laysSure hzN hT k9) gw_X0_X0_laysSure dy_X0_laysSure ⟨⟨rfl, rfl⟩, Nat.le_of_ble_eq_true rfl, Nat.le_of_ble_eq_true rfl⟩ hP hD hS hl.1 rcX rfl rfl ⟨Nat.zero_le _, Nat.zero_le _⟩ (Nat.le_of_ble_eq_true rfl) dX0_surest_36 (fun H locs hP hD hS => ?_)
        refine lv_aload_n hx hb dX0_surest_39 rfl (lv_at hl 0 rfl) ?_
        refine gX_X0_this_now X hP dX0_surest_40 ?_
        refine gX_X0_now_row X hF hP dX0_surest_43 ?_
        refine lv_iload_n hx hb dX0_surest_46 rfl (lv_at hl 1 rfl) ?_
        refine lv_iconst (v := 0) hx hb dX0_surest_47 (by decide) ?_
        obtain ⟨r10, k11, hf⟩ := bd1s hf
        refine xSi (rest := []) X hF (met_X_atR k11) gs_X0_X0_at dy_X0_at ⟨⟨rfl, rfl⟩, Nat.le_of_ble_eq_true rfl, Nat.le_of_ble_eq_true rfl⟩ hP hD hS hl.1 rfl rfl ⟨Nat.zero_le _, Nat.zero_le _⟩ (Nat.le_of_ble_eq_true rfl) dX0_surest_48 (fun H locs hP hD hS => ?_)
        refine lv_istore (lv' := [(4, .int r10), (0, .ref h), (1, .int x1), (2, .int x2), (3, .int x3)]) hx hb dX0_surest_51 hl (by decide) rfl (fun ls hl => ?_)
        refine lv_aload_n hx hb dX0_surest_53 rfl (lv_at hl 1 rfl) ?_
        refine gX_X0_this_sure X hP dX0_surest_54 ?_
        refine lv_iload_n hx hb dX0_surest_57 rfl (lv_at hl 3 rfl) ?_
        obtain ⟨b12, hf⟩ := inbs hf
        refine aX_cSure X hP b12 dX0_surest_58 ?_
        refine lv_iload hx hb dX0_surest_59 (lv_at hl 0 rfl) ?_
        obtain ⟨v13, ev13, bv13, hf⟩ := rds hf
        refine l2X_cSure X hP ev13 b12 bv13 dX0_surest_61 ?_
        refine lv_istore (lv' := [(5, .int v13), (4, .int r10), (0, .ref h), (1, .int x1), (2, .int x2), (3, .int x3)]) hx hb dX0_surest_62 hl (by decide) rfl (fun ls hl => ?_)
        refine lv_bipush (v := 10) hx hb dX0_surest_64 (by decide) ?_
        refine lv_iload_n hx hb dX0_surest_66 rfl (lv_at hl 4 rfl) ?_
        obtain ⟨r14, k15, hf⟩ := bd1s hf
        refine cSi (rest := []) X (met_X_power 8 (g := g) k15) gs_X0_X0_power dy_X0_power ⟨⟨rfl, rfl⟩, Nat.le_of_ble_eq_true rfl, Nat.le_of_ble_eq_true rfl⟩ hP hD hS hl.1 rfl rfl ⟨Nat.zero_le _, Nat.zero_le _⟩ (Nat.le_of_ble_eq_true rfl) dX0_surest_67 (fun H locs hP hD hS => ?_)
        refine lv_istore (lv' := [(6, .int r14), (5, .int v13), (4, .int r10), (0, .ref h), (1, .int x1), (2, .int x2), (3, .int x3)]) hx hb dX0_surest_70 hl (by decide) rfl (fun ls hl => ?_)
        refine lv_iload hx hb dX0_surest_72 (lv_at hl 0 rfl) ?_
        refine lv_iload hx hb dX0_surest_74 (lv_at hl 1 rfl) ?_
        obtain ⟨r16, k17, hf⟩ := bd1s hf
        refine cSi (rest := []) X (met_X_common 40 (g := g) k17) gs_X0_X0_common dy_X0_common ⟨⟨rfl, rfl⟩, Nat.le_of_ble_eq_true rfl, Nat.le_of_ble_eq_true rfl⟩ hP hD hS hl.1 rfl rfl ⟨Nat.zero_le _, Nat.zero_le _⟩ (Nat.le_of_ble_eq_true rfl) dX0_surest_76 (fun H locs hP hD hS => ?_)
        refine lv_istore (lv' := [(7, .int r16), (6, .int r14), (5, .int v13), (4, .int r10), (0, .ref h), (1, .int x1), (2, .int x2), (3, .int x3)]) hx hb dX0_surest_79 hl (by decide) rfl (fun ls hl => ?_)
        refine lv_iload_n hx hb dX0_surest_81 rfl (lv_at hl 7 rfl) ?_
        refine lv_bipush (v := (-2)) hx hb dX0_surest_82 (by decide) ?_
        refine bc_ne (tgt := 93) hx hb hf dX0_surest_84 (by decide) (fun hf => ?_) (fun hf => ?_)
        · refine lv_iload_n hx hb dX0_surest_93 rfl (lv_at hl 7 rfl) ?_
          refine lv_iconst (v := (-1)) hx hb dX0_surest_94 (by decide) ?_
          refine bc_ne (tgt := 104) hx hb hf dX0_surest_95 (by decide) (fun hf => ?_) (fun hf => ?_)
          · refine lv_iconst (v := 0) hx hb dX0_surest_104 (by decide) ?_
            refine lv_istore (lv' := [(8, .int 0), (7, .int r16), (6, .int r14), (5, .int v13), (4, .int r10), (0, .ref h), (1, .int x1), (2, .int x2), (3, .int x3)]) hx hb dX0_surest_105 hl (by decide) rfl (fun ls hl => ?_)
            obtain ⟨v21, c22, k27, hf⟩ := bd2s hf
            have hE24 : ∀ (H : Heap) (locs : List Loc) (ls : Array Slot), va_P g.1 vwCl (xW g h hn hi ad ra sTaped sFault sFaultA sWays sMay sMust cTape c22 cHead c8 cN cRow cTried cFor cRoad cFear cCall cUnl cPaid cStep cGain cText iN iRow iFor iRoad iFear iCall iUnl iPaid iStep iGain iText tp) H → va_D A (xW g h hn hi ad ra sTaped sFault sFaultA sWays sMay sMust cTape c22 cHead c8 cN cRow cTried cFor cRoad cFear cCall cUnl cPaid cStep cGain cText iN iRow iFor iRoad iFear iCall iUnl iPaid iStep iGain iText tp) → va_S A s.heap H locs → lv_has ls 10 [(4, .int v21)] → W p l e ({ frames := 246, cells := 0, slots := 0, locals := 5295 } : Room) s m ([.ref h, .int x1, .int x2, .int x3] : List Value).toArray below meth c H locs 0 0 (MQ below (QQ g (some (.int r)) (xW g h hn hi ad ra sTaped sFault sFaultA sWays sMay sMust cTape ncNames cHead ncSure cN cRow cTried cFor cRoad cFear cCall cUnl cPaid cStep cGain cText iN iRow iFor iRoad iFear iCall iUnl iPaid iStep iGain iText tp) A) ([.ref h, .int x1, .int x2, .int x3] : List Value).toArray s 0 0 A) (F0 m 174 ls []) := by
              intro H locs ls hP hD hS hl
              refine lv_iload hx hb dX0_surest_174 (lv_at hl 0 rfl) ?_
              cases hf
              exact rI X hP hD hS dX0_surest_176
            have hL25 : ∀ (n23 : Nat) (v18 : Int32) (v19 : Int32) (c20 : Nat → Int32), X_surest_L107 φ x1 x2 x3 v13 c8 cN cRow cFor cRoad cFear cText E zN n23 v18 v19 c20 = some (v21, c22) → ∀ (H : Heap) (locs : List Loc) (ls : Array Slot), va_P g.1 vwCl (xW g h hn hi ad ra sTaped sFault sFaultA sWays sMay sMust cTape c20 cHead c8 cN cRow cTried cFor cRoad cFear cCall cUnl cPaid cStep cGain cText iN iRow iFor iRoad iFear iCall iUnl iPaid iStep iGain iText tp) H → va_D A (xW g h hn hi ad ra sTaped sFault sFaultA sWays sMay sMust cTape c20 cHead c8 cN cRow cTried cFor cRoad cFear cCall cUnl cPaid cStep cGain cText iN iRow iFor iRoad iFear iCall iUnl iPaid iStep iGain iText tp) → va_S A s.heap H locs → lv_has ls 10 [(0, .ref h), (1, .int x1), (2, .int x2), (3, .int x3), (4, .int v18), (5, .int v13), (8, .int v19)] → W p l e ({ frames := 246, cells := 0, slots := 0, locals := 5295 } : Room) s m ([.ref h, .int x1, .int x2, .int x3] : List Value).toArray below meth c H locs 0 0 (MQ below (QQ g (some (.int r)) (xW g h hn hi ad ra sTaped sFault sFaultA sWays sMay sMust cTape ncNames cHead ncSure cN cRow cTried cFor cRoad cFear cCall cUnl cPaid cStep cGain cText iN iRow iFor iRoad iFear iCall iUnl iPaid iStep iGain iText tp) A) ([.ref h, .int x1, .int x2, .int x3] : List Value).toArray s 0 0 A) (F0 m 107 ls []) := by
              intro n23
              induction n23 with
              | zero =>
                intro v18 v19 c20 hf
                exact nn hf
              | succ n23 ih26 =>
                intro v18 v19 c20 hf H locs ls hP hD hS hl
                rw [X_surest_L107] at hf
                refine lv_iload hx hb dX0_surest_107 (lv_at hl 6 rfl) ?_
                refine lv_iload_n hx hb dX0_surest_109 rfl (lv_at hl 3 rfl) ?_
                refine bc_gt (tgt := 174) hx hb hf dX0_surest_110 (by decide) (fun hf => ?_) (fun hf => ?_)
                · cases hf
                  exact hE24 _ _ _ hP hD hS (lv_sub hl [4] rfl)
                · refine lv_iconst (v := 0) hx hb dX0_surest_113 (by decide) ?_
                  refine lv_istore (lv' := [(9, .int 0), (0, .ref h), (1, .int x1), (2, .int x2), (3, .int x3), (4, .int v18), (5, .int v13), (8, .int v19)]) hx hb dX0_surest_114 hl (by decide) rfl (fun ls hl => ?_)
                  obtain ⟨v30, c31, k36, hf⟩ := bd2s hf
                  have hE33 : ∀ (H : Heap) (locs : List Loc) (ls : Array Slot), va_P g.1 vwCl (xW g h hn hi ad ra sTaped sFault sFaultA sWays sMay sMust cTape c31 cHead c8 cN cRow cTried cFor cRoad cFear cCall cUnl cPaid cStep cGain cText iN iRow iFor iRoad iFear iCall iUnl iPaid iStep iGain iText tp) H → va_D A (xW g h hn hi ad ra sTaped sFault sFaultA sWays sMay sMust cTape c31 cHead c8 cN cRow cTried cFor cRoad cFear cCall cUnl cPaid cStep cGain cText iN iRow iFor iRoad iFear iCall iUnl iPaid iStep iGain iText tp) → va_S A s.heap H locs → lv_has ls 10 [(0, .ref h), (1, .int x1), (2, .int x2), (3, .int x3), (5, .int v13), (8, .int v19), (9, .int v30)] → W p l e ({ frames := 246, cells := 0, slots := 0, locals := 5295 } : Room) s m ([.ref h, .int x1, .int x2, .int x3] : List Value).toArray below meth c H locs 0 0 (MQ below (QQ g (some (.int r)) (xW g h hn hi ad ra sTaped sFault sFaultA sWays sMay sMust cTape ncNames cHead ncSure cN cRow cTried cFor cRoad cFear cCall cUnl cPaid cStep cGain cText iN iRow iFor iRoad iFear iCall iUnl iPaid iStep iGain iText tp) A) ([.ref h, .int x1, .int x2, .int x3] : List Value).toArray s 0 0 A) (F0 m 164 ls []) := by
                    intro H locs ls hP hD hS hl
                    refine lv_iload hx hb dX0_surest_164 (lv_at hl 6 rfl) ?_
                    refine lv_istore (lv' := [(4, .int v30), (0, .ref h), (1, .int x1), (2, .int x2), (3, .int x3), (5, .int v13), (8, .int v19), (9, .int v30)]) hx hb dX0_surest_166 hl (by decide) rfl (fun ls hl => ?_)
                    obtain ⟨v37, ev37, hf⟩ := lts hf
                    refine lv_iinc (v := v37) (lv' := [(8, .int v37), (4, .int v30), (0, .ref h), (1, .int x1), (2, .int x2), (3, .int x3), (5, .int v13), (9, .int v30)]) hx hb dX0_surest_168 hl (k := 6) rfl (by rw [ev37]; rfl) (by decide) rfl (fun ls hl => ?_)
                    refine lv_goto (tgt := 107) hx hb dX0_surest_171 (by decide) ?_
                    exact ih26 _ _ _ hf _ _ _ hP hD hS (lv_sub hl [2, 3, 4, 5, 1, 6, 0] rfl)
                  have hL34 : ∀ (n32 : Nat) (v28 : Int32) (c29 : Nat → Int32), X_surest_L116 φ x1 x2 x3 v18 v13 v19 c8 cN cRow cFor cRoad cFear cText E zN n32 v28 c29 = some (v30, c31) → ∀ (H : Heap) (locs : List Loc) (ls : Array Slot), va_P g.1 vwCl (xW g h hn hi ad ra sTaped sFault sFaultA sWays sMay sMust cTape c29 cHead c8 cN cRow cTried cFor cRoad cFear cCall cUnl cPaid cStep cGain cText iN iRow iFor iRoad iFear iCall iUnl iPaid iStep iGain iText tp) H → va_D A (xW g h hn hi ad ra sTaped sFault sFaultA sWays sMay sMust cTape c29 cHead c8 cN cRow cTried cFor cRoad cFear cCall cUnl cPaid cStep cGain cText iN iRow iFor iRoad iFear iCall iUnl iPaid iStep iGain iText tp) → va_S A s.heap H locs → lv_has ls 10 [(0, .ref h), (1, .int x1), (2, .int x2), (3, .int x3), (4, .int v18), (5, .int v13), (8, .int v19), (9, .int v28)] → W p l e ({ frames := 246, cells := 0, slots := 0, locals := 5295 } : Room) s m ([.ref h, .int x1, .int x2, .int x3] : List Value).toArray below meth c H locs 0 0 (MQ below (QQ g (some (.int r)) (xW g h hn hi ad ra sTaped sFault sFaultA sWays sMay sMust cTape ncNames cHead ncSure cN cRow cTried cFor cRoad cFear cCall cUnl cPaid cStep cGain cText iN iRow iFor iRoad iFear iCall iUnl iPaid iStep iGain iText tp) A) ([.ref h, .int x1, .int x2, .int x3] : List Value).toArray s 0 0 A) (F0 m 116 ls []) := by
                    intro n32
                    induction n32 with
                    | zero =>
                      intro v28 c29 hf
                      exact nn hf
                    | succ n32 ih35 =>
                      intro v28 c29 hf H locs ls hP hD hS hl
                      rw [X_surest_L116] at hf
                      refine lv_aload_n hx hb dX0_surest_116 rfl (lv_at hl 0 rfl) ?_
                      refine lv_iload hx hb dX0_surest_117 (lv_at hl 4 rfl) ?_
                      refine lv_iload hx hb dX0_surest_119 (lv_at hl 7 rfl) ?_
                      obtain ⟨r38, k39, hf⟩ := bd1s hf
                      refine xVi (rest := []) X hF (met_X_mayGo k39) gw_X0_X0_mayGo dy_X0_mayGo ⟨⟨rfl, rfl⟩, Nat.le_of_ble_eq_true rfl, Nat.le_of_ble_eq_true rfl⟩ hP hD hS hl.1 rcX rfl rfl ⟨Nat.zero_le _, Nat.zero_le _⟩ (Nat.le_of_ble_eq_true rfl) dX0_surest_121 (fun H locs hP hD hS => ?_)
                      refine bq_eq (tgt := 158) hx hb hf dX0_surest_124 (by decide) (fun hf => ?_) (fun hf => ?_)
                      · obtain ⟨v40, ev40, hf⟩ := lts hf
                        refine lv_iinc (v := v40) (lv' := [(9, .int v40), (0, .ref h), (1, .int x1), (2, .int x2), (3, .int x3), (4, .int v18), (5, .int v13), (8, .int v19)]) hx hb dX0_surest_158 hl (k := 7) rfl (by rw [ev40]; rfl) (by decide) rfl (fun ls hl => ?_)
                        refine lv_goto (tgt := 116) hx hb dX0_surest_161 (by decide) ?_
                        exact ih35 _ _ hf _ _ _ hP hD hS (lv_sub hl [1, 2, 3, 4, 5, 6, 7, 0] rfl)
                      · refine lv_iload hx hb dX0_surest_127 (lv_at hl 5 rfl) ?_
                        refine bq_le (tgt := 164) hx hb hf dX0_surest_129 (by decide) (fun hf => ?_) (fun hf => ?_)
                        · cases hf
                          exact hE33 _ _ _ hP hD hS (lv_sub hl [0, 1, 2, 3, 5, 6, 7] rfl)
                        · refine lv_aload_n hx hb dX0_surest_132 rfl (lv_at hl 0 rfl) ?_
                          refine lv_iload_n hx hb dX0_surest_133 rfl (lv_at hl 1 rfl) ?_
                          refine lv_iload_n hx hb dX0_surest_134 rfl (lv_at hl 2 rfl) ?_
                          refine lv_iload hx hb dX0_surest_135 (lv_at hl 6 rfl) ?_
                          refine lv_isub hx hb dX0_surest_137 ?_
                          refine lv_iload hx hb dX0_surest_138 (lv_at hl 7 rfl) ?_
                          obtain ⟨r41, c42, k43, hf⟩ := bd2s hf
                          refine xVi (rest := []) X hF (met_X_sureBy hzN hT k43) gw_X0_X0_sureBy dy_X0_sureBy ⟨⟨rfl, rfl⟩, Nat.le_of_ble_eq_true rfl, Nat.le_of_ble_eq_true rfl⟩ hP hD hS hl.1 rcX rfl rfl ⟨Nat.zero_le _, Nat.zero_le _⟩ (Nat.le_of_ble_eq_true rfl) dX0_surest_140 (fun H locs hP hD hS => ?_)
                          refine lv_aload_n hx hb dX0_surest_143 rfl (lv_at hl 0 rfl) ?_
                          refine gX_X0_this_sure X hP dX0_surest_144 ?_
                          refine lv_iload_n hx hb dX0_surest_147 rfl (lv_at hl 2 rfl) ?_
                          refine lv_iload hx hb dX0_surest_148 (lv_at hl 6 rfl) ?_
                          refine lv_isub hx hb dX0_surest_150 ?_
                          obtain ⟨v44, ev44, hf⟩ := lts hf
                          refine tpi ev44 ?_
                          obtain ⟨b45, hf⟩ := inbs hf
                          refine aX_cSure X hP b45 dX0_surest_151 ?_
                          refine lv_iload hx hb dX0_surest_152 (lv_at hl 4 rfl) ?_
                          obtain ⟨v46, ev46, bv46, hf⟩ := rds hf
                          refine l2X_cSure X hP ev46 b45 bv46 dX0_surest_154 ?_
                          refine bc_eq (tgt := 164) hx hb hf dX0_surest_155 (by decide) (fun hf => ?_) (fun hf => ?_)
                          · cases hf
                            exact hE33 _ _ _ hP hD hS (lv_sub hl [0, 1, 2, 3, 5, 6, 7] rfl)
                          · obtain ⟨v47, ev47, hf⟩ := lts hf
                            refine lv_iinc (v := v47) (lv' := [(9, .int v47), (0, .ref h), (1, .int x1), (2, .int x2), (3, .int x3), (4, .int v18), (5, .int v13), (8, .int v19)]) hx hb dX0_surest_158 hl (k := 7) rfl (by rw [ev47]; rfl) (by decide) rfl (fun ls hl => ?_)
                            refine lv_goto (tgt := 116) hx hb dX0_surest_161 (by decide) ?_
                            exact ih35 _ _ hf _ _ _ hP hD hS (lv_sub hl [1, 2, 3, 4, 5, 6, 7, 0] rfl)
                  exact hL34 _ _ _ k36 _ _ _ hP hD hS (lv_sub hl [1, 2, 3, 4, 5, 6, 7, 0] rfl)
            exact hL25 _ _ _ _ k27 _ _ _ hP hD hS (lv_sub hl [5, 6, 7, 8, 4, 3, 0] rfl)
          · refine lv_iload hx hb dX0_surest_98 (lv_at hl 1 rfl) ?_
            refine lv_iload hx hb dX0_surest_100 (lv_at hl 0 rfl) ?_
            obtain ⟨z48, hf⟩ := nzs hf
            refine lv_idiv hx hb dX0_surest_102 z48 ?_
            cases hf
            exact rI X hP hD hS dX0_surest_103
        · refine lv_iload hx hb dX0_surest_87 (lv_at hl 2 rfl) ?_
          refine lv_iload hx hb dX0_surest_89 (lv_at hl 0 rfl) ?_
          obtain ⟨z49, hf⟩ := nzs hf
          refine lv_idiv hx hb dX0_surest_91 z49 ?_
          cases hf
          exact rI X hP hD hS dX0_surest_92
      · refine lv_bipush (v := (-3)) hx hb dX0_surest_30 (by decide) ?_
        cases hf
        exact rI X hP hD hS dX0_surest_32
set_option maxHeartbeats 4000000 in
theorem met_X_spreads {l : Launch} {g : gG} {h hn hi : Nat} {ad : Nat → Nat} {ra : Nat → Nat → Nat} {z : Nat → Nat} {sTaped : Int32} {sFault : Int32} {sFaultA : Int32} {sWays : Int32} {sMay : Int32} {sMust : Int32} {cTape : Nat → Int32} {cNames : Nat → Int32} {cHead : Nat → Int32} {cSure : Nat → Nat → Int32} {cN : Nat → Int32} {cRow : Nat → Int32} {cTried : Nat → Int32} {cFor : Nat → Int32} {cRoad : Nat → Int32} {cFear : Nat → Int32} {cCall : Nat → Int32} {cUnl : Nat → Int32} {cPaid : Nat → Nat → Int32} {cStep : Nat → Nat → Int32} {cGain : Nat → Nat → Int32} {cText : Nat → Option Nat} {iN : Nat → Int32} {iRow : Nat → Int32} {iFor : Nat → Int32} {iRoad : Nat → Int32} {iFear : Nat → Int32} {iCall : Nat → Int32} {iUnl : Nat → Int32} {iPaid : Nat → Nat → Int32} {iStep : Nat → Nat → Int32} {iGain : Nat → Nat → Int32} {iText : Nat → Option Nat} {tp : va_W} {x1 : Int32} {x2 : Int32} {r : Int32} {φ : Nat} (hf : X_spreads φ cN cRoad x1 x2 = some r) : CX l yX0_spreads (ws_ yX0_spreads cX0_spreads 5 (some .int)) ({ frames := 1, cells := 0, slots := 0, locals := 21 } : Room) g z [.ref h, .int x1, .int x2] (xW g h hn hi ad ra sTaped sFault sFaultA sWays sMay sMust cTape cNames cHead cSure cN cRow cTried cFor cRoad cFear cCall cUnl cPaid cStep cGain cText iN iRow iFor iRoad iFear iCall iUnl iPaid iStep iGain iText tp) (some (.int r)) (xW g h hn hi ad ra sTaped sFault sFaultA sWays sMay sMust cTape cNames cHead cSure cN cRow cTried cFor cRoad cFear cCall cUnl cPaid cStep cGain cText iN iRow iFor iRoad iFear iCall iUnl iPaid iStep iGain iText tp) 0 0 := by
  refine CX.of RX0 rfl plain_X0 (Nat.le_of_ble_eq_true rfl) (fun p e s m below meth c A ls X hF hP hD hS hl => ?_)
  have hx := X.1
  have hb := X.2.1
  have hown := X.2.2.2.2.2.1
  have hts := X.2.2.2.2.2.2.1
  have hl : lv_has ls 5 [(0, .ref h), (1, .int x1), (2, .int x2)] := hl
  unfold X_spreads at hf
  refine lv_iload_n hx hb dX0_spreads_0 rfl (lv_at hl 1 rfl) ?_
  refine lv_istore_n (lv' := [(3, .int x1), (0, .ref h), (1, .int x1), (2, .int x2)]) hx hb dX0_spreads_1 rfl hl (by decide) rfl (fun ls hl => ?_)
  refine lv_iconst (v := 0) hx hb dX0_spreads_2 (by decide) ?_
  refine lv_istore (lv' := [(4, .int 0), (3, .int x1), (0, .ref h), (1, .int x1), (2, .int x2)]) hx hb dX0_spreads_3 hl (by decide) rfl (fun ls hl => ?_)
  obtain ⟨v3, k8, hf⟩ := bd1s hf
  have hE5 : ∀ (H : Heap) (locs : List Loc) (ls : Array Slot), va_P g.1 vwCl (xW g h hn hi ad ra sTaped sFault sFaultA sWays sMay sMust cTape cNames cHead cSure cN cRow cTried cFor cRoad cFear cCall cUnl cPaid cStep cGain cText iN iRow iFor iRoad iFear iCall iUnl iPaid iStep iGain iText tp) H → va_D A (xW g h hn hi ad ra sTaped sFault sFaultA sWays sMay sMust cTape cNames cHead cSure cN cRow cTried cFor cRoad cFear cCall cUnl cPaid cStep cGain cText iN iRow iFor iRoad iFear iCall iUnl iPaid iStep iGain iText tp) → va_S A s.heap H locs → lv_has ls 5 [(2, .int x2), (3, .int v3)] → W p l e ({ frames := 1, cells := 0, slots := 0, locals := 21 } : Room) s m ([.ref h, .int x1, .int x2] : List Value).toArray below meth c H locs 0 0 (MQ below (QQ g (some (.int r)) (xW g h hn hi ad ra sTaped sFault sFaultA sWays sMay sMust cTape cNames cHead cSure cN cRow cTried cFor cRoad cFear cCall cUnl cPaid cStep cGain cText iN iRow iFor iRoad iFear iCall iUnl iPaid iStep iGain iText tp) A) ([.ref h, .int x1, .int x2] : List Value).toArray s 0 0 A) (F0 m 51 ls []) := by
    intro H locs ls hP hD hS hl
    refine lv_iload_n hx hb dX0_spreads_51 rfl (lv_at hl 1 rfl) ?_
    refine lv_iload_n hx hb dX0_spreads_52 rfl (lv_at hl 0 rfl) ?_
    refine lv_iconst (v := (-1)) hx hb dX0_spreads_53 (by decide) ?_
    refine lv_ixor hx hb dX0_spreads_54 ?_
    refine lv_iand hx hb dX0_spreads_55 ?_
    cases hf
    exact rI X hP hD hS dX0_spreads_56
  have hL6 : ∀ (n4 : Nat) (v1 : Int32) (v2 : Int32), X_spreads_L5 φ x1 x2 cN cRoad n4 v1 v2 = some v3 → ∀ (H : Heap) (locs : List Loc) (ls : Array Slot), va_P g.1 vwCl (xW g h hn hi ad ra sTaped sFault sFaultA sWays sMay sMust cTape cNames cHead cSure cN cRow cTried cFor cRoad cFear cCall cUnl cPaid cStep cGain cText iN iRow iFor iRoad iFear iCall iUnl iPaid iStep iGain iText tp) H → va_D A (xW g h hn hi ad ra sTaped sFault sFaultA sWays sMay sMust cTape cNames cHead cSure cN cRow cTried cFor cRoad cFear cCall cUnl cPaid cStep cGain cText iN iRow iFor iRoad iFear iCall iUnl iPaid iStep iGain iText tp) → va_S A s.heap H locs → lv_has ls 5 [(0, .ref h), (1, .int x1), (2, .int x2), (3, .int v1), (4, .int v2)] → W p l e ({ frames := 1, cells := 0, slots := 0, locals := 21 } : Room) s m ([.ref h, .int x1, .int x2] : List Value).toArray below meth c H locs 0 0 (MQ below (QQ g (some (.int r)) (xW g h hn hi ad ra sTaped sFault sFaultA sWays sMay sMust cTape cNames cHead cSure cN cRow cTried cFor cRoad cFear cCall cUnl cPaid cStep cGain cText iN iRow iFor iRoad iFear iCall iUnl iPaid iStep iGain iText tp) A) ([.ref h, .int x1, .int x2] : List Value).toArray s 0 0 A) (F0 m 5 ls []) := by
    intro n4
    induction n4 with
    | zero =>
      intro v1 v2 hf
      exact nn hf
    | succ n4 ih7 =>
      intro v1 v2 hf H locs ls hP hD hS hl
      rw [X_spreads_L5] at hf
      refine lv_iload hx hb dX0_spreads_5 (lv_at hl 4 rfl) ?_
      refine lv_aload_n hx hb dX0_spreads_7 rfl (lv_at hl 0 rfl) ?_
      refine gX_X0_this_now X hP dX0_spreads_8 ?_
      refine gX_X0_now_n X hF hP dX0_spreads_11 ?_
      refine lv_iconst (v := 0) hx hb dX0_spreads_14 (by decide) ?_
      obtain ⟨v9, ev9, bv9, hf⟩ := rds hf
      refine lX_cN X hP ev9 bv9 dX0_spreads_15 ?_
      refine bc_ge (tgt := 51) hx hb hf dX0_spreads_16 (by decide) (fun hf => ?_) (fun hf => ?_)
      · cases hf
        exact hE5 _ _ _ hP hD hS (lv_sub hl [2, 3] rfl)
      · refine lv_iload_n hx hb dX0_spreads_19 rfl (lv_at hl 3 rfl) ?_
        refine lv_iload_n hx hb dX0_spreads_20 rfl (lv_at hl 1 rfl) ?_
        refine lv_iload hx hb dX0_spreads_21 (lv_at hl 4 rfl) ?_
        obtain ⟨r10, k11, hf⟩ := bd1s hf
        refine cSi (rest := [.int v1]) X (met_X_isIn (g := g) k11) gs_X0_X0_isIn dy_X0_isIn ⟨⟨rfl, rfl⟩, Nat.le_of_ble_eq_true rfl, Nat.le_of_ble_eq_true rfl⟩ hP hD hS hl.1 rfl rfl ⟨Nat.zero_le _, Nat.zero_le _⟩ (Nat.le_of_ble_eq_true rfl) dX0_spreads_23 (fun H locs hP hD hS => ?_)
        refine bq_eq (tgt := 42) hx hb hf dX0_spreads_26 (by decide) (fun hf => ?_) (fun hf => ?_)
        · refine lv_iconst (v := 0) hx hb dX0_spreads_42 (by decide) ?_
          refine lv_ior hx hb dX0_spreads_43 ?_
          obtain ⟨v12, ev12, hf⟩ := lts hf
          refine tpi ev12 ?_
          refine lv_istore_n (lv' := [(3, .int v12), (0, .ref h), (1, .int x1), (2, .int x2), (4, .int v2)]) hx hb dX0_spreads_44 rfl hl (by decide) rfl (fun ls hl => ?_)
          obtain ⟨v13, ev13, hf⟩ := lts hf
          refine lv_iinc (v := v13) (lv' := [(4, .int v13), (3, .int v12), (0, .ref h), (1, .int x1), (2, .int x2)]) hx hb dX0_spreads_45 hl (k := 4) rfl (by rw [ev13]; rfl) (by decide) rfl (fun ls hl => ?_)
          refine lv_goto (tgt := 5) hx hb dX0_spreads_48 (by decide) ?_
          exact ih7 _ _ hf _ _ _ hP hD hS (lv_sub hl [2, 3, 4, 1, 0] rfl)
        · refine lv_aload_n hx hb dX0_spreads_29 rfl (lv_at hl 0 rfl) ?_
          refine gX_X0_this_now X hP dX0_spreads_30 ?_
          refine gX_X0_now_road X hF hP dX0_spreads_33 ?_
          refine lv_iload hx hb dX0_spreads_36 (lv_at hl 4 rfl) ?_
          obtain ⟨v14, ev14, bv14, hf⟩ := rds hf
          refine lX_cRoad X hP ev14 bv14 dX0_spreads_38 ?_
          refine lv_goto (tgt := 43) hx hb dX0_spreads_39 (by decide) ?_
          refine lv_ior hx hb dX0_spreads_43 ?_
          obtain ⟨v15, ev15, hf⟩ := lts hf
          refine tpi ev15 ?_
          refine lv_istore_n (lv' := [(3, .int v15), (0, .ref h), (1, .int x1), (2, .int x2), (4, .int v2)]) hx hb dX0_spreads_44 rfl hl (by decide) rfl (fun ls hl => ?_)
          obtain ⟨v16, ev16, hf⟩ := lts hf
          refine lv_iinc (v := v16) (lv' := [(4, .int v16), (3, .int v15), (0, .ref h), (1, .int x1), (2, .int x2)]) hx hb dX0_spreads_45 hl (k := 4) rfl (by rw [ev16]; rfl) (by decide) rfl (fun ls hl => ?_)
          refine lv_goto (tgt := 5) hx hb dX0_spreads_48 (by decide) ?_
          exact ih7 _ _ hf _ _ _ hP hD hS (lv_sub hl [2, 3, 4, 1, 0] rfl)
  exact hL6 _ _ _ k8 _ _ _ hP hD hS (lv_sub hl [2, 3, 4, 1, 0] rfl)
theorem gw_X0_X0_spreads : GoodIn lw_all (wsV RX0 349 RX0 yX0_spreads (ws_ yX0_spreads cX0_spreads 5 (some .int))) := lw_V q1261 q1263 qs56 q145 q1264
theorem dy_X0_spreads : Dy yX0_spreads RX0 2 := by decide +kernel
set_option maxHeartbeats 4000000 in
theorem met_X_stepsTo {l : Launch} {g : gG} {h hn hi : Nat} {ad : Nat → Nat} {ra : Nat → Nat → Nat} {z : Nat → Nat} {sTaped : Int32} {sFault : Int32} {sFaultA : Int32} {sWays : Int32} {sMay : Int32} {sMust : Int32} {cTape : Nat → Int32} {cNames : Nat → Int32} {cHead : Nat → Int32} {cSure : Nat → Nat → Int32} {cN : Nat → Int32} {cRow : Nat → Int32} {cTried : Nat → Int32} {cFor : Nat → Int32} {cRoad : Nat → Int32} {cFear : Nat → Int32} {cCall : Nat → Int32} {cUnl : Nat → Int32} {cPaid : Nat → Nat → Int32} {cStep : Nat → Nat → Int32} {cGain : Nat → Nat → Int32} {cText : Nat → Option Nat} {iN : Nat → Int32} {iRow : Nat → Int32} {iFor : Nat → Int32} {iRoad : Nat → Int32} {iFear : Nat → Int32} {iCall : Nat → Int32} {iUnl : Nat → Int32} {iPaid : Nat → Nat → Int32} {iStep : Nat → Nat → Int32} {iGain : Nat → Nat → Int32} {iText : Nat → Option Nat} {tp : va_W} {x1 : Int32} {x2 : Int32} {r : Int32} {φ : Nat} (hf : X_stepsTo φ cN cRoad x1 x2 = some r) : CX l yX0_stepsTo (ws_ yX0_stepsTo cX0_stepsTo 5 (some .int)) ({ frames := 2, cells := 0, slots := 0, locals := 45 } : Room) g z [.ref h, .int x1, .int x2] (xW g h hn hi ad ra sTaped sFault sFaultA sWays sMay sMust cTape cNames cHead cSure cN cRow cTried cFor cRoad cFear cCall cUnl cPaid cStep cGain cText iN iRow iFor iRoad iFear iCall iUnl iPaid iStep iGain iText tp) (some (.int r)) (xW g h hn hi ad ra sTaped sFault sFaultA sWays sMay sMust cTape cNames cHead cSure cN cRow cTried cFor cRoad cFear cCall cUnl cPaid cStep cGain cText iN iRow iFor iRoad iFear iCall iUnl iPaid iStep iGain iText tp) 0 0 := by
  refine CX.of RX0 rfl plain_X0 (Nat.le_of_ble_eq_true rfl) (fun p e s m below meth c A ls X hF hP hD hS hl => ?_)
  have hx := X.1
  have hb := X.2.1
  have hown := X.2.2.2.2.2.1
  have hts := X.2.2.2.2.2.2.1
  have hl : lv_has ls 5 [(0, .ref h), (1, .int x1), (2, .int x2)] := hl
  unfold X_stepsTo at hf
  refine lv_iconst (v := 1) hx hb dX0_stepsTo_0 (by decide) ?_
  refine lv_iload_n hx hb dX0_stepsTo_1 rfl (lv_at hl 1 rfl) ?_
  refine lv_ishl hx hb dX0_stepsTo_2 ?_
  obtain ⟨v1, ev1, hf⟩ := lts hf
  refine tpi ev1 ?_
  refine lv_istore_n (lv' := [(3, .int v1), (0, .ref h), (1, .int x1), (2, .int x2)]) hx hb dX0_stepsTo_3 rfl hl (by decide) rfl (fun ls hl => ?_)
  refine lv_iconst (v := 0) hx hb dX0_stepsTo_4 (by decide) ?_
  refine lv_istore (lv' := [(4, .int 0), (3, .int v1), (0, .ref h), (1, .int x1), (2, .int x2)]) hx hb dX0_stepsTo_5 hl (by decide) rfl (fun ls hl => ?_)
  have hL6 : ∀ (n4 : Nat) (v2 : Int32) (v3 : Int32), X_stepsTo_L7 φ x2 cN cRoad n4 v2 v3 = some r → ∀ (H : Heap) (locs : List Loc) (ls : Array Slot), va_P g.1 vwCl (xW g h hn hi ad ra sTaped sFault sFaultA sWays sMay sMust cTape cNames cHead cSure cN cRow cTried cFor cRoad cFear cCall cUnl cPaid cStep cGain cText iN iRow iFor iRoad iFear iCall iUnl iPaid iStep iGain iText tp) H → va_D A (xW g h hn hi ad ra sTaped sFault sFaultA sWays sMay sMust cTape cNames cHead cSure cN cRow cTried cFor cRoad cFear cCall cUnl cPaid cStep cGain cText iN iRow iFor iRoad iFear iCall iUnl iPaid iStep iGain iText tp) → va_S A s.heap H locs → lv_has ls 5 [(0, .ref h), (2, .int x2), (3, .int v2), (4, .int v3)] → W p l e ({ frames := 2, cells := 0, slots := 0, locals := 45 } : Room) s m ([.ref h, .int x1, .int x2] : List Value).toArray below meth c H locs 0 0 (MQ below (QQ g (some (.int r)) (xW g h hn hi ad ra sTaped sFault sFaultA sWays sMay sMust cTape cNames cHead cSure cN cRow cTried cFor cRoad cFear cCall cUnl cPaid cStep cGain cText iN iRow iFor iRoad iFear iCall iUnl iPaid iStep iGain iText tp) A) ([.ref h, .int x1, .int x2] : List Value).toArray s 0 0 A) (F0 m 7 ls []) := by
    intro n4
    induction n4 with
    | zero =>
      intro v2 v3 hf
      exact nn hf
    | succ n4 ih7 =>
      intro v2 v3 hf H locs ls hP hD hS hl
      rw [X_stepsTo_L7] at hf
      refine lv_iload hx hb dX0_stepsTo_7 (lv_at hl 3 rfl) ?_
      refine lv_bipush (v := 8) hx hb dX0_stepsTo_9 (by decide) ?_
      refine bc_ge (tgt := 36) hx hb hf dX0_stepsTo_11 (by decide) (fun hf => ?_) (fun hf => ?_)
      · refine lv_iconst (v := (-1)) hx hb dX0_stepsTo_36 (by decide) ?_
        cases hf
        exact rI X hP hD hS dX0_stepsTo_37
      · refine lv_iload_n hx hb dX0_stepsTo_14 rfl (lv_at hl 2 rfl) ?_
        refine lv_iload_n hx hb dX0_stepsTo_15 rfl (lv_at hl 1 rfl) ?_
        refine lv_iand hx hb dX0_stepsTo_16 ?_
        refine bq_eq (tgt := 23) hx hb hf dX0_stepsTo_17 (by decide) (fun hf => ?_) (fun hf => ?_)
        · refine lv_aload_n hx hb dX0_stepsTo_23 rfl (lv_at hl 0 rfl) ?_
          refine lv_iload_n hx hb dX0_stepsTo_24 rfl (lv_at hl 2 rfl) ?_
          refine lv_iconst (v := 0) hx hb dX0_stepsTo_25 (by decide) ?_
          obtain ⟨r9, k10, hf⟩ := bd1s hf
          refine xVi (rest := []) X hF (met_X_spreads k10) gw_X0_X0_spreads dy_X0_spreads ⟨⟨rfl, rfl⟩, Nat.le_of_ble_eq_true rfl, Nat.le_of_ble_eq_true rfl⟩ hP hD hS hl.1 rcX rfl rfl ⟨Nat.zero_le _, Nat.zero_le _⟩ (Nat.le_of_ble_eq_true rfl) dX0_stepsTo_26 (fun H locs hP hD hS => ?_)
          refine lv_istore_n (lv' := [(3, .int r9), (0, .ref h), (2, .int x2), (4, .int v3)]) hx hb dX0_stepsTo_29 rfl hl (by decide) rfl (fun ls hl => ?_)
          obtain ⟨v11, ev11, hf⟩ := lts hf
          refine lv_iinc (v := v11) (lv' := [(4, .int v11), (3, .int r9), (0, .ref h), (2, .int x2)]) hx hb dX0_stepsTo_30 hl (k := 3) rfl (by rw [ev11]; rfl) (by decide) rfl (fun ls hl => ?_)
          refine lv_goto (tgt := 7) hx hb dX0_stepsTo_33 (by decide) ?_
          exact ih7 _ _ hf _ _ _ hP hD hS (lv_sub hl [2, 3, 1, 0] rfl)
        · refine lv_iload hx hb dX0_stepsTo_20 (lv_at hl 3 rfl) ?_
          cases hf
          exact rI X hP hD hS dX0_stepsTo_22
  exact hL6 _ _ _ hf _ _ _ hP hD hS (lv_sub hl [2, 4, 1, 0] rfl)
theorem gw_X0_X0_stepsTo : GoodIn lw_all (wsV RX0 352 RX0 yX0_stepsTo (ws_ yX0_stepsTo cX0_stepsTo 5 (some .int))) := lw_V q1257 q1259 qs55 q145 q1260
theorem dy_X0_stepsTo : Dy yX0_stepsTo RX0 2 := by decide +kernel
set_option maxHeartbeats 4000000 in
theorem met_X_steps {l : Launch} {g : gG} {h hn hi : Nat} {ad : Nat → Nat} {ra : Nat → Nat → Nat} {z : Nat → Nat} {sTaped : Int32} {sFault : Int32} {sFaultA : Int32} {sWays : Int32} {sMay : Int32} {sMust : Int32} {cTape : Nat → Int32} {cNames : Nat → Int32} {cHead : Nat → Int32} {cSure : Nat → Nat → Int32} {cN : Nat → Int32} {cRow : Nat → Int32} {cTried : Nat → Int32} {cFor : Nat → Int32} {cRoad : Nat → Int32} {cFear : Nat → Int32} {cCall : Nat → Int32} {cUnl : Nat → Int32} {cPaid : Nat → Nat → Int32} {cStep : Nat → Nat → Int32} {cGain : Nat → Nat → Int32} {cText : Nat → Option Nat} {iN : Nat → Int32} {iRow : Nat → Int32} {iFor : Nat → Int32} {iRoad : Nat → Int32} {iFear : Nat → Int32} {iCall : Nat → Int32} {iUnl : Nat → Int32} {iPaid : Nat → Nat → Int32} {iStep : Nat → Nat → Int32} {iGain : Nat → Nat → Int32} {iText : Nat → Option Nat} {tp : va_W} {x1 : Int32} {x2 : Int32} {r : Int32} {φ : Nat} (hf : X_steps φ cN cRoad x1 x2 = some r) : CX l yX0_steps (ws_ yX0_steps cX0_steps 3 (some .int)) ({ frames := 3, cells := 0, slots := 0, locals := 69 } : Room) g z [.ref h, .int x1, .int x2] (xW g h hn hi ad ra sTaped sFault sFaultA sWays sMay sMust cTape cNames cHead cSure cN cRow cTried cFor cRoad cFear cCall cUnl cPaid cStep cGain cText iN iRow iFor iRoad iFear iCall iUnl iPaid iStep iGain iText tp) (some (.int r)) (xW g h hn hi ad ra sTaped sFault sFaultA sWays sMay sMust cTape cNames cHead cSure cN cRow cTried cFor cRoad cFear cCall cUnl cPaid cStep cGain cText iN iRow iFor iRoad iFear iCall iUnl iPaid iStep iGain iText tp) 0 0 := by
  refine CX.of RX0 rfl plain_X0 (Nat.le_of_ble_eq_true rfl) (fun p e s m below meth c A ls X hF hP hD hS hl => ?_)
  have hx := X.1
  have hb := X.2.1
  have hown := X.2.2.2.2.2.1
  have hts := X.2.2.2.2.2.2.1
  have hl : lv_has ls 3 [(0, .ref h), (1, .int x1), (2, .int x2)] := hl
  unfold X_steps at hf
  refine lv_aload_n hx hb dX0_steps_0 rfl (lv_at hl 0 rfl) ?_
  refine lv_iload_n hx hb dX0_steps_1 rfl (lv_at hl 1 rfl) ?_
  obtain ⟨r1, k2, hf⟩ := bd1s hf
  refine xVi (rest := []) X hF (met_X_isLand k2) gw_X0_X0_isLand dy_X0_isLand ⟨⟨rfl, rfl⟩, Nat.le_of_ble_eq_true rfl, Nat.le_of_ble_eq_true rfl⟩ hP hD hS hl.1 rcX rfl rfl ⟨Nat.zero_le _, Nat.zero_le _⟩ (Nat.le_of_ble_eq_true rfl) dX0_steps_2 (fun H locs hP hD hS => ?_)
  refine bq_eq (tgt := 27) hx hb hf dX0_steps_5 (by decide) (fun hf => ?_) (fun hf => ?_)
  · refine lv_iconst (v := (-1)) hx hb dX0_steps_27 (by decide) ?_
    cases hf
    exact rI X hP hD hS dX0_steps_28
  · refine lv_aload_n hx hb dX0_steps_8 rfl (lv_at hl 0 rfl) ?_
    refine lv_iload_n hx hb dX0_steps_9 rfl (lv_at hl 2 rfl) ?_
    obtain ⟨r3, k4, hf⟩ := bd1s hf
    refine xVi (rest := []) X hF (met_X_isLand k4) gw_X0_X0_isLand dy_X0_isLand ⟨⟨rfl, rfl⟩, Nat.le_of_ble_eq_true rfl, Nat.le_of_ble_eq_true rfl⟩ hP hD hS hl.1 rcX rfl rfl ⟨Nat.zero_le _, Nat.zero_le _⟩ (Nat.le_of_ble_eq_true rfl) dX0_steps_10 (fun H locs hP hD hS => ?_)
    refine bq_eq (tgt := 27) hx hb hf dX0_steps_13 (by decide) (fun hf => ?_) (fun hf => ?_)
    · refine lv_iconst (v := (-1)) hx hb dX0_steps_27 (by decide) ?_
      cases hf
      exact rI X hP hD hS dX0_steps_28
    · refine lv_aload_n hx hb dX0_steps_16 rfl (lv_at hl 0 rfl) ?_
      refine lv_iload_n hx hb dX0_steps_17 rfl (lv_at hl 1 rfl) ?_
      refine lv_iconst (v := 1) hx hb dX0_steps_18 (by decide) ?_
      refine lv_iload_n hx hb dX0_steps_19 rfl (lv_at hl 2 rfl) ?_
      refine lv_ishl hx hb dX0_steps_20 ?_
      obtain ⟨r5, k6, hf⟩ := bd1s hf
      refine xVi (rest := []) X hF (met_X_stepsTo k6) gw_X0_X0_stepsTo dy_X0_stepsTo ⟨⟨rfl, rfl⟩, Nat.le_of_ble_eq_true rfl, Nat.le_of_ble_eq_true rfl⟩ hP hD hS hl.1 rcX rfl rfl ⟨Nat.zero_le _, Nat.zero_le _⟩ (Nat.le_of_ble_eq_true rfl) dX0_steps_21 (fun H locs hP hD hS => ?_)
      refine lv_goto (tgt := 28) hx hb dX0_steps_24 (by decide) ?_
      cases hf
      exact rI X hP hD hS dX0_steps_28
set_option maxHeartbeats 4000000 in
theorem met_X_allLands {l : Launch} {g : gG} {h hn hi : Nat} {ad : Nat → Nat} {ra : Nat → Nat → Nat} {z : Nat → Nat} {sTaped : Int32} {sFault : Int32} {sFaultA : Int32} {sWays : Int32} {sMay : Int32} {sMust : Int32} {cTape : Nat → Int32} {cNames : Nat → Int32} {cHead : Nat → Int32} {cSure : Nat → Nat → Int32} {cN : Nat → Int32} {cRow : Nat → Int32} {cTried : Nat → Int32} {cFor : Nat → Int32} {cRoad : Nat → Int32} {cFear : Nat → Int32} {cCall : Nat → Int32} {cUnl : Nat → Int32} {cPaid : Nat → Nat → Int32} {cStep : Nat → Nat → Int32} {cGain : Nat → Nat → Int32} {cText : Nat → Option Nat} {iN : Nat → Int32} {iRow : Nat → Int32} {iFor : Nat → Int32} {iRoad : Nat → Int32} {iFear : Nat → Int32} {iCall : Nat → Int32} {iUnl : Nat → Int32} {iPaid : Nat → Nat → Int32} {iStep : Nat → Nat → Int32} {iGain : Nat → Nat → Int32} {iText : Nat → Option Nat} {tp : va_W} {r : Int32} (hf : X_allLands cN = some r) : CX l yX0_allLands (ws_ yX0_allLands cX0_allLands 1 (some .int)) ({ frames := 0, cells := 0, slots := 0, locals := 0 } : Room) g z [.ref h] (xW g h hn hi ad ra sTaped sFault sFaultA sWays sMay sMust cTape cNames cHead cSure cN cRow cTried cFor cRoad cFear cCall cUnl cPaid cStep cGain cText iN iRow iFor iRoad iFear iCall iUnl iPaid iStep iGain iText tp) (some (.int r)) (xW g h hn hi ad ra sTaped sFault sFaultA sWays sMay sMust cTape cNames cHead cSure cN cRow cTried cFor cRoad cFear cCall cUnl cPaid cStep cGain cText iN iRow iFor iRoad iFear iCall iUnl iPaid iStep iGain iText tp) 0 0 := by
  refine CX.of RX0 rfl plain_X0 (Nat.le_of_ble_eq_true rfl) (fun p e s m below meth c A ls X hF hP hD hS hl => ?_)
  have hx := X.1
  have hb := X.2.1
  have hown := X.2.2.2.2.2.1
  have hts := X.2.2.2.2.2.2.1
  have hl : lv_has ls 1 [(0, .ref h)] := hl
  unfold X_allLands at hf
  refine lv_iconst (v := 1) hx hb dX0_allLands_0 (by decide) ?_
  refine lv_aload_n hx hb dX0_allLands_1 rfl (lv_at hl 0 rfl) ?_
  refine gX_X0_this_now X hP dX0_allLands_2 ?_
  refine gX_X0_now_n X hF hP dX0_allLands_5 ?_
  refine lv_iconst (v := 0) hx hb dX0_allLands_8 (by decide) ?_
  obtain ⟨v1, ev1, bv1, hf⟩ := rds hf
  refine lX_cN X hP ev1 bv1 dX0_allLands_9 ?_
  refine lv_ishl hx hb dX0_allLands_10 ?_
  refine lv_iconst (v := 1) hx hb dX0_allLands_11 (by decide) ?_
  refine lv_isub hx hb dX0_allLands_12 ?_
  cases hf
  exact rI X hP hD hS dX0_allLands_13
theorem gw_X0_X0_allLands : GoodIn lw_all (wsV RX0 355 RX0 yX0_allLands (ws_ yX0_allLands cX0_allLands 1 (some .int))) := lw_V q1269 q1271 qs57 q145 q1272
theorem dy_X0_allLands : Dy yX0_allLands RX0 0 := by decide +kernel
set_option maxHeartbeats 4000000 in
theorem met_X_unheard {l : Launch} {g : gG} {h hn hi : Nat} {ad : Nat → Nat} {ra : Nat → Nat → Nat} {z : Nat → Nat} {sTaped : Int32} {sFault : Int32} {sFaultA : Int32} {sWays : Int32} {sMay : Int32} {sMust : Int32} {cTape : Nat → Int32} {cNames : Nat → Int32} {cHead : Nat → Int32} {cSure : Nat → Nat → Int32} {cN : Nat → Int32} {cRow : Nat → Int32} {cTried : Nat → Int32} {cFor : Nat → Int32} {cRoad : Nat → Int32} {cFear : Nat → Int32} {cCall : Nat → Int32} {cUnl : Nat → Int32} {cPaid : Nat → Nat → Int32} {cStep : Nat → Nat → Int32} {cGain : Nat → Nat → Int32} {cText : Nat → Option Nat} {iN : Nat → Int32} {iRow : Nat → Int32} {iFor : Nat → Int32} {iRoad : Nat → Int32} {iFear : Nat → Int32} {iCall : Nat → Int32} {iUnl : Nat → Int32} {iPaid : Nat → Nat → Int32} {iStep : Nat → Nat → Int32} {iGain : Nat → Nat → Int32} {iText : Nat → Option Nat} {tp : va_W} {x1 : Int32} {x2 : Int32} {r : Int32} {φ : Nat} (hf : X_unheard φ cN cRoad x1 x2 = some r) : CX l yX0_unheard (ws_ yX0_unheard cX0_unheard 5 (some .int)) ({ frames := 2, cells := 0, slots := 0, locals := 45 } : Room) g z [.ref h, .int x1, .int x2] (xW g h hn hi ad ra sTaped sFault sFaultA sWays sMay sMust cTape cNames cHead cSure cN cRow cTried cFor cRoad cFear cCall cUnl cPaid cStep cGain cText iN iRow iFor iRoad iFear iCall iUnl iPaid iStep iGain iText tp) (some (.int r)) (xW g h hn hi ad ra sTaped sFault sFaultA sWays sMay sMust cTape cNames cHead cSure cN cRow cTried cFor cRoad cFear cCall cUnl cPaid cStep cGain cText iN iRow iFor iRoad iFear iCall iUnl iPaid iStep iGain iText tp) 0 0 := by
  refine CX.of RX0 rfl plain_X0 (Nat.le_of_ble_eq_true rfl) (fun p e s m below meth c A ls X hF hP hD hS hl => ?_)
  have hx := X.1
  have hb := X.2.1
  have hown := X.2.2.2.2.2.1
  have hts := X.2.2.2.2.2.2.1
  have hl : lv_has ls 5 [(0, .ref h), (1, .int x1), (2, .int x2)] := hl
  unfold X_unheard at hf
  refine lv_aload_n hx hb dX0_unheard_0 rfl (lv_at hl 0 rfl) ?_
  refine lv_iload_n hx hb dX0_unheard_1 rfl (lv_at hl 1 rfl) ?_
  obtain ⟨r1, k2, hf⟩ := bd1s hf
  refine xVi (rest := []) X hF (met_X_isLand k2) gw_X0_X0_isLand dy_X0_isLand ⟨⟨rfl, rfl⟩, Nat.le_of_ble_eq_true rfl, Nat.le_of_ble_eq_true rfl⟩ hP hD hS hl.1 rcX rfl rfl ⟨Nat.zero_le _, Nat.zero_le _⟩ (Nat.le_of_ble_eq_true rfl) dX0_unheard_2 (fun H locs hP hD hS => ?_)
  refine bq_eq (tgt := 18) hx hb hf dX0_unheard_5 (by decide) (fun hf => ?_) (fun hf => ?_)
  · refine lv_iconst (v := (-1)) hx hb dX0_unheard_18 (by decide) ?_
    cases hf
    exact rI X hP hD hS dX0_unheard_19
  · refine lv_iload_n hx hb dX0_unheard_8 rfl (lv_at hl 2 rfl) ?_
    refine lv_iconst (v := 0) hx hb dX0_unheard_9 (by decide) ?_
    refine lv_bipush (v := 9) hx hb dX0_unheard_10 (by decide) ?_
    obtain ⟨r3, k4, hf⟩ := bd1s hf
    refine cSi (rest := []) X (met_X_in (g := g) k4) gs_X0_X0_in dy_X0_in ⟨⟨rfl, rfl⟩, Nat.le_of_ble_eq_true rfl, Nat.le_of_ble_eq_true rfl⟩ hP hD hS hl.1 rfl rfl ⟨Nat.zero_le _, Nat.zero_le _⟩ (Nat.le_of_ble_eq_true rfl) dX0_unheard_12 (fun H locs hP hD hS => ?_)
    refine bq_ne (tgt := 20) hx hb hf dX0_unheard_15 (by decide) (fun hf => ?_) (fun hf => ?_)
    · refine lv_iconst (v := 1) hx hb dX0_unheard_20 (by decide) ?_
      refine lv_iload_n hx hb dX0_unheard_21 rfl (lv_at hl 1 rfl) ?_
      refine lv_ishl hx hb dX0_unheard_22 ?_
      obtain ⟨v5, ev5, hf⟩ := lts hf
      refine tpi ev5 ?_
      refine lv_istore_n (lv' := [(3, .int v5), (0, .ref h), (1, .int x1), (2, .int x2)]) hx hb dX0_unheard_23 rfl hl (by decide) rfl (fun ls hl => ?_)
      refine lv_iconst (v := 0) hx hb dX0_unheard_24 (by decide) ?_
      refine lv_istore (lv' := [(4, .int 0), (3, .int v5), (0, .ref h), (1, .int x1), (2, .int x2)]) hx hb dX0_unheard_25 hl (by decide) rfl (fun ls hl => ?_)
      obtain ⟨v8, k13, hf⟩ := bd1s hf
      have hE10 : ∀ (H : Heap) (locs : List Loc) (ls : Array Slot), va_P g.1 vwCl (xW g h hn hi ad ra sTaped sFault sFaultA sWays sMay sMust cTape cNames cHead cSure cN cRow cTried cFor cRoad cFear cCall cUnl cPaid cStep cGain cText iN iRow iFor iRoad iFear iCall iUnl iPaid iStep iGain iText tp) H → va_D A (xW g h hn hi ad ra sTaped sFault sFaultA sWays sMay sMust cTape cNames cHead cSure cN cRow cTried cFor cRoad cFear cCall cUnl cPaid cStep cGain cText iN iRow iFor iRoad iFear iCall iUnl iPaid iStep iGain iText tp) → va_S A s.heap H locs → lv_has ls 5 [(0, .ref h), (3, .int v8)] → W p l e ({ frames := 2, cells := 0, slots := 0, locals := 45 } : Room) s m ([.ref h, .int x1, .int x2] : List Value).toArray below meth c H locs 0 0 (MQ below (QQ g (some (.int r)) (xW g h hn hi ad ra sTaped sFault sFaultA sWays sMay sMust cTape cNames cHead cSure cN cRow cTried cFor cRoad cFear cCall cUnl cPaid cStep cGain cText iN iRow iFor iRoad iFear iCall iUnl iPaid iStep iGain iText tp) A) ([.ref h, .int x1, .int x2] : List Value).toArray s 0 0 A) (F0 m 46 ls []) := by
        intro H locs ls hP hD hS hl
        refine lv_aload_n hx hb dX0_unheard_46 rfl (lv_at hl 0 rfl) ?_
        obtain ⟨r14, k15, hf⟩ := bd1s hf
        refine xVi (rest := []) X hF (met_X_allLands k15) gw_X0_X0_allLands dy_X0_allLands ⟨⟨rfl, rfl⟩, Nat.le_of_ble_eq_true rfl, Nat.le_of_ble_eq_true rfl⟩ hP hD hS hl.1 rcX rfl rfl ⟨Nat.zero_le _, Nat.zero_le _⟩ (Nat.le_of_ble_eq_true rfl) dX0_unheard_47 (fun H locs hP hD hS => ?_)
        refine lv_iload_n hx hb dX0_unheard_50 rfl (lv_at hl 1 rfl) ?_
        refine lv_iconst (v := (-1)) hx hb dX0_unheard_51 (by decide) ?_
        refine lv_ixor hx hb dX0_unheard_52 ?_
        refine lv_iand hx hb dX0_unheard_53 ?_
        cases hf
        exact rI X hP hD hS dX0_unheard_54
      have hL11 : ∀ (n9 : Nat) (v6 : Int32) (v7 : Int32), X_unheard_L27 φ x2 cN cRoad n9 v6 v7 = some v8 → ∀ (H : Heap) (locs : List Loc) (ls : Array Slot), va_P g.1 vwCl (xW g h hn hi ad ra sTaped sFault sFaultA sWays sMay sMust cTape cNames cHead cSure cN cRow cTried cFor cRoad cFear cCall cUnl cPaid cStep cGain cText iN iRow iFor iRoad iFear iCall iUnl iPaid iStep iGain iText tp) H → va_D A (xW g h hn hi ad ra sTaped sFault sFaultA sWays sMay sMust cTape cNames cHead cSure cN cRow cTried cFor cRoad cFear cCall cUnl cPaid cStep cGain cText iN iRow iFor iRoad iFear iCall iUnl iPaid iStep iGain iText tp) → va_S A s.heap H locs → lv_has ls 5 [(0, .ref h), (2, .int x2), (3, .int v6), (4, .int v7)] → W p l e ({ frames := 2, cells := 0, slots := 0, locals := 45 } : Room) s m ([.ref h, .int x1, .int x2] : List Value).toArray below meth c H locs 0 0 (MQ below (QQ g (some (.int r)) (xW g h hn hi ad ra sTaped sFault sFaultA sWays sMay sMust cTape cNames cHead cSure cN cRow cTried cFor cRoad cFear cCall cUnl cPaid cStep cGain cText iN iRow iFor iRoad iFear iCall iUnl iPaid iStep iGain iText tp) A) ([.ref h, .int x1, .int x2] : List Value).toArray s 0 0 A) (F0 m 27 ls []) := by
        intro n9
        induction n9 with
        | zero =>
          intro v6 v7 hf
          exact nn hf
        | succ n9 ih12 =>
          intro v6 v7 hf H locs ls hP hD hS hl
          rw [X_unheard_L27] at hf
          refine lv_iload hx hb dX0_unheard_27 (lv_at hl 3 rfl) ?_
          refine lv_iload_n hx hb dX0_unheard_29 rfl (lv_at hl 1 rfl) ?_
          refine bc_ge (tgt := 46) hx hb hf dX0_unheard_30 (by decide) (fun hf => ?_) (fun hf => ?_)
          · cases hf
            exact hE10 _ _ _ hP hD hS (lv_sub hl [0, 2] rfl)
          · refine lv_aload_n hx hb dX0_unheard_33 rfl (lv_at hl 0 rfl) ?_
            refine lv_iload_n hx hb dX0_unheard_34 rfl (lv_at hl 2 rfl) ?_
            refine lv_iconst (v := 0) hx hb dX0_unheard_35 (by decide) ?_
            obtain ⟨r16, k17, hf⟩ := bd1s hf
            refine xVi (rest := []) X hF (met_X_spreads k17) gw_X0_X0_spreads dy_X0_spreads ⟨⟨rfl, rfl⟩, Nat.le_of_ble_eq_true rfl, Nat.le_of_ble_eq_true rfl⟩ hP hD hS hl.1 rcX rfl rfl ⟨Nat.zero_le _, Nat.zero_le _⟩ (Nat.le_of_ble_eq_true rfl) dX0_unheard_36 (fun H locs hP hD hS => ?_)
            refine lv_istore_n (lv' := [(3, .int r16), (0, .ref h), (2, .int x2), (4, .int v7)]) hx hb dX0_unheard_39 rfl hl (by decide) rfl (fun ls hl => ?_)
            obtain ⟨v18, ev18, hf⟩ := lts hf
            refine lv_iinc (v := v18) (lv' := [(4, .int v18), (3, .int r16), (0, .ref h), (2, .int x2)]) hx hb dX0_unheard_40 hl (k := 3) rfl (by rw [ev18]; rfl) (by decide) rfl (fun ls hl => ?_)
            refine lv_goto (tgt := 27) hx hb dX0_unheard_43 (by decide) ?_
            exact ih12 _ _ hf _ _ _ hP hD hS (lv_sub hl [2, 3, 1, 0] rfl)
      exact hL11 _ _ _ k13 _ _ _ hP hD hS (lv_sub hl [2, 4, 1, 0] rfl)
    · refine lv_iconst (v := (-1)) hx hb dX0_unheard_18 (by decide) ?_
      cases hf
      exact rI X hP hD hS dX0_unheard_19
set_option maxHeartbeats 4000000 in
theorem met_S_clears {l : Launch} {g : gG} {h hn hi : Nat} {ad : Nat → Nat} {ra : Nat → Nat → Nat} {z : Nat → Nat} {sTaped : Int32} {sFault : Int32} {sFaultA : Int32} {sWays : Int32} {sMay : Int32} {sMust : Int32} {cTape : Nat → Int32} {cNames : Nat → Int32} {cHead : Nat → Int32} {cSure : Nat → Nat → Int32} {cN : Nat → Int32} {cRow : Nat → Int32} {cTried : Nat → Int32} {cFor : Nat → Int32} {cRoad : Nat → Int32} {cFear : Nat → Int32} {cCall : Nat → Int32} {cUnl : Nat → Int32} {cPaid : Nat → Nat → Int32} {cStep : Nat → Nat → Int32} {cGain : Nat → Nat → Int32} {cText : Nat → Option Nat} {iN : Nat → Int32} {iRow : Nat → Int32} {iFor : Nat → Int32} {iRoad : Nat → Int32} {iFear : Nat → Int32} {iCall : Nat → Int32} {iUnl : Nat → Int32} {iPaid : Nat → Nat → Int32} {iStep : Nat → Nat → Int32} {iGain : Nat → Nat → Int32} {iText : Nat → Option Nat} {tp : va_W} {x1 : Int32} {r : Int32} {ncN : Nat → Int32} (hf : S_clears cN x1 = some (r, ncN)) : CX l yX1_clears (ws_ yX1_clears cX1_clears 2 (some .int)) ({ frames := 0, cells := 0, slots := 0, locals := 0 } : Room) g z [.ref hn, .int x1] (xW g h hn hi ad ra sTaped sFault sFaultA sWays sMay sMust cTape cNames cHead cSure cN cRow cTried cFor cRoad cFear cCall cUnl cPaid cStep cGain cText iN iRow iFor iRoad iFear iCall iUnl iPaid iStep iGain iText tp) (some (.int r)) (xW g h hn hi ad ra sTaped sFault sFaultA sWays sMay sMust cTape cNames cHead cSure ncN cRow cTried cFor cRoad cFear cCall cUnl cPaid cStep cGain cText iN iRow iFor iRoad iFear iCall iUnl iPaid iStep iGain iText tp) 0 0 := by
  refine CX.of RX1 rfl plain_X1 (Nat.le_of_ble_eq_true rfl) (fun p e s m below meth c A ls X hF hP hD hS hl => ?_)
  have hx := X.1
  have hb := X.2.1
  have hown := X.2.2.2.2.2.1
  have hts := X.2.2.2.2.2.2.1
  have hl : lv_has ls 2 [(0, .ref hn), (1, .int x1)] := hl
  unfold S_clears at hf
  refine lv_aload_n hx hb dX1_clears_0 rfl (lv_at hl 0 rfl) ?_
  refine gX_X1_now_n X hP dX1_clears_1 ?_
  refine lv_iload_n hx hb dX1_clears_4 rfl (lv_at hl 1 rfl) ?_
  refine lv_iconst (v := 0) hx hb dX1_clears_5 (by decide) ?_
  obtain ⟨c1, ec1, bc1, hf⟩ := wrs hf
  refine sX_cN X hP hD hS ec1 bc1 dX1_clears_6 (fun H locs hP hD hS => ?_)
  refine lv_iconst (v := 0) hx hb dX1_clears_7 (by decide) ?_
  cases hf
  exact rI X hP hD hS dX1_clears_8
theorem gw_X0_X1_clears : GoodIn lw_all (wsV RX0 358 RX1 yX1_clears (ws_ yX1_clears cX1_clears 2 (some .int))) := lw_V q1277 q1278 q1279 q146 q1280
theorem dy_X1_clears : Dy yX1_clears RX1 1 := by decide +kernel
set_option maxHeartbeats 4000000 in
theorem met_X_crowd {l : Launch} {g : gG} {h hn hi : Nat} {ad : Nat → Nat} {ra : Nat → Nat → Nat} {z : Nat → Nat} {sTaped : Int32} {sFault : Int32} {sFaultA : Int32} {sWays : Int32} {sMay : Int32} {sMust : Int32} {cTape : Nat → Int32} {cNames : Nat → Int32} {cHead : Nat → Int32} {cSure : Nat → Nat → Int32} {cN : Nat → Int32} {cRow : Nat → Int32} {cTried : Nat → Int32} {cFor : Nat → Int32} {cRoad : Nat → Int32} {cFear : Nat → Int32} {cCall : Nat → Int32} {cUnl : Nat → Int32} {cPaid : Nat → Nat → Int32} {cStep : Nat → Nat → Int32} {cGain : Nat → Nat → Int32} {cText : Nat → Option Nat} {iN : Nat → Int32} {iRow : Nat → Int32} {iFor : Nat → Int32} {iRoad : Nat → Int32} {iFear : Nat → Int32} {iCall : Nat → Int32} {iUnl : Nat → Int32} {iPaid : Nat → Nat → Int32} {iStep : Nat → Nat → Int32} {iGain : Nat → Nat → Int32} {iText : Nat → Option Nat} {tp : va_W} {x1 : Int32} {r : Int32} {ncN : Nat → Int32} {ncCall : Nat → Int32} (hf : X_crowd cN cCall x1 = some (r, ncN, ncCall)) : CX l yX0_crowd (ws_ yX0_crowd cX0_crowd 2 (some .int)) ({ frames := 2, cells := 0, slots := 0, locals := 43 } : Room) g z [.ref h, .int x1] (xW g h hn hi ad ra sTaped sFault sFaultA sWays sMay sMust cTape cNames cHead cSure cN cRow cTried cFor cRoad cFear cCall cUnl cPaid cStep cGain cText iN iRow iFor iRoad iFear iCall iUnl iPaid iStep iGain iText tp) (some (.int r)) (xW g h hn hi ad ra sTaped sFault sFaultA sWays sMay sMust cTape cNames cHead cSure ncN cRow cTried cFor cRoad cFear ncCall cUnl cPaid cStep cGain cText iN iRow iFor iRoad iFear iCall iUnl iPaid iStep iGain iText tp) 0 0 := by
  refine CX.of RX0 rfl plain_X0 (Nat.le_of_ble_eq_true rfl) (fun p e s m below meth c A ls X hF hP hD hS hl => ?_)
  have hx := X.1
  have hb := X.2.1
  have hown := X.2.2.2.2.2.1
  have hts := X.2.2.2.2.2.2.1
  have hl : lv_has ls 2 [(0, .ref h), (1, .int x1)] := hl
  unfold X_crowd at hf
  refine lv_iload_n hx hb dX0_crowd_0 rfl (lv_at hl 1 rfl) ?_
  refine lv_iconst (v := (-1)) hx hb dX0_crowd_1 (by decide) ?_
  refine bc_ne (tgt := 14) hx hb hf dX0_crowd_2 (by decide) (fun hf => ?_) (fun hf => ?_)
  · refine lv_aload_n hx hb dX0_crowd_14 rfl (lv_at hl 0 rfl) ?_
    refine lv_iload_n hx hb dX0_crowd_15 rfl (lv_at hl 1 rfl) ?_
    obtain ⟨r1, k2, hf⟩ := bd1s hf
    refine xVi (rest := []) X hF (met_X_isLand k2) gw_X0_X0_isLand dy_X0_isLand ⟨⟨rfl, rfl⟩, Nat.le_of_ble_eq_true rfl, Nat.le_of_ble_eq_true rfl⟩ hP hD hS hl.1 rcX rfl rfl ⟨Nat.zero_le _, Nat.zero_le _⟩ (Nat.le_of_ble_eq_true rfl) dX0_crowd_16 (fun H locs hP hD hS => ?_)
    refine bq_eq (tgt := 35) hx hb hf dX0_crowd_19 (by decide) (fun hf => ?_) (fun hf => ?_)
    · refine lv_bipush (v := (-2)) hx hb dX0_crowd_35 (by decide) ?_
      cases hf
      exact rI X hP hD hS dX0_crowd_37
    · refine lv_aload_n hx hb dX0_crowd_22 rfl (lv_at hl 0 rfl) ?_
      refine gX_X0_this_now X hP dX0_crowd_23 ?_
      refine gX_X0_now_n X hF hP dX0_crowd_26 ?_
      refine lv_iconst (v := 5) hx hb dX0_crowd_29 (by decide) ?_
      obtain ⟨v3, ev3, bv3, hf⟩ := rds hf
      refine lX_cN X hP ev3 bv3 dX0_crowd_30 ?_
      refine lv_iconst (v := 5) hx hb dX0_crowd_31 (by decide) ?_
      refine bc_ne (tgt := 38) hx hb hf dX0_crowd_32 (by decide) (fun hf => ?_) (fun hf => ?_)
      · refine lv_aload_n hx hb dX0_crowd_38 rfl (lv_at hl 0 rfl) ?_
        refine gX_X0_this_now X hP dX0_crowd_39 ?_
        refine gX_X0_now_call X hF hP dX0_crowd_42 ?_
        refine lv_aload_n hx hb dX0_crowd_45 rfl (lv_at hl 0 rfl) ?_
        refine gX_X0_this_now X hP dX0_crowd_46 ?_
        refine gX_X0_now_n X hF hP dX0_crowd_49 ?_
        refine lv_iconst (v := 5) hx hb dX0_crowd_52 (by decide) ?_
        obtain ⟨v4, ev4, bv4, hf⟩ := rds hf
        refine lX_cN X hP ev4 bv4 dX0_crowd_53 ?_
        refine lv_iload_n hx hb dX0_crowd_54 rfl (lv_at hl 1 rfl) ?_
        obtain ⟨c5, ec5, bc5, hf⟩ := wrs hf
        refine sX_cCall X hP hD hS ec5 bc5 dX0_crowd_55 (fun H locs hP hD hS => ?_)
        refine lv_aload_n hx hb dX0_crowd_56 rfl (lv_at hl 0 rfl) ?_
        refine gX_X0_this_now X hP dX0_crowd_57 ?_
        refine gX_X0_now_n X hF hP dX0_crowd_60 ?_
        refine lv_iconst (v := 5) hx hb dX0_crowd_63 (by decide) ?_
        refine lv_dup2_11 hx hb dX0_crowd_64 rfl rfl ?_
        obtain ⟨v6, ev6, bv6, hf⟩ := rds hf
        refine lX_cN X hP ev6 bv6 dX0_crowd_65 ?_
        refine lv_iconst (v := 1) hx hb dX0_crowd_66 (by decide) ?_
        refine lv_iadd hx hb dX0_crowd_67 ?_
        obtain ⟨v7, ev7, hf⟩ := lts hf
        refine tpi ev7 ?_
        obtain ⟨c8, ec8, bc8, hf⟩ := wrs hf
        refine sX_cN X hP hD hS ec8 bc8 dX0_crowd_68 (fun H locs hP hD hS => ?_)
        refine lv_aload_n hx hb dX0_crowd_69 rfl (lv_at hl 0 rfl) ?_
        refine gX_X0_this_now X hP dX0_crowd_70 ?_
        refine gX_X0_now_n X hF hP dX0_crowd_73 ?_
        refine lv_iconst (v := 5) hx hb dX0_crowd_76 (by decide) ?_
        obtain ⟨v9, ev9, bv9, hf⟩ := rds hf
        refine lX_cN X hP ev9 bv9 dX0_crowd_77 ?_
        cases hf
        exact rI X hP hD hS dX0_crowd_78
      · refine lv_bipush (v := (-2)) hx hb dX0_crowd_35 (by decide) ?_
        cases hf
        exact rI X hP hD hS dX0_crowd_37
  · refine lv_aload_n hx hb dX0_crowd_5 rfl (lv_at hl 0 rfl) ?_
    refine gX_X0_this_now X hP dX0_crowd_6 ?_
    refine lv_iconst (v := 5) hx hb dX0_crowd_9 (by decide) ?_
    obtain ⟨r10, c11, k12, hf⟩ := bd2s hf
    refine xVi (rest := []) X hF (met_S_clears k12) gw_X0_X1_clears dy_X1_clears ⟨⟨rfl, rfl⟩, Nat.le_of_ble_eq_true rfl, Nat.le_of_ble_eq_true rfl⟩ hP hD hS hl.1 rcN rfl rfl ⟨Nat.zero_le _, Nat.zero_le _⟩ (Nat.le_of_ble_eq_true rfl) dX0_crowd_10 (fun H locs hP hD hS => ?_)
    cases hf
    exact rI X hP hD hS dX0_crowd_13
set_option maxHeartbeats 4000000 in
theorem met_J_bitCount {l : Launch} {g : gG} {x0 : Int32} {r : Int32} (hf : J_bitCount x0 = some r) : CC l yJ15_bitCount (ws_ yJ15_bitCount cJ15_bitCount 1 (some .int)) ({ frames := 0, cells := 0, slots := 0, locals := 0 } : Room) g [.int x0] ([] : va_W) (some (.int r)) ([] : va_W) 0 0 := by
  refine CC.of RJ15 rfl plain_J15 (Nat.le_of_ble_eq_true rfl) (fun p e s m below meth c A ls X hP hD hS hl => ?_)
  have hx := X.1
  have hb := X.2.1
  have hown := X.2.2.2.2.2.1
  have hts := X.2.2.2.2.2.2.1
  have hl : lv_has ls 1 [(0, .int x0)] := hl
  unfold J_bitCount at hf
  refine lv_iload_n hx hb dJ15_bitCount_0 rfl (lv_at hl 0 rfl) ?_
  refine lv_iload_n hx hb dJ15_bitCount_1 rfl (lv_at hl 0 rfl) ?_
  refine lv_iconst (v := 1) hx hb dJ15_bitCount_2 (by decide) ?_
  refine lv_iushr hx hb dJ15_bitCount_3 rfl ?_
  refine lv_ldcw (v := 1431655765) hx hb hown (hts _ q1292) dJ15_bitCount_4 ?_
  refine lv_iand hx hb dJ15_bitCount_7 ?_
  refine lv_isub hx hb dJ15_bitCount_8 ?_
  obtain ⟨v1, ev1, hf⟩ := lts hf
  refine tpi ev1 ?_
  refine lv_istore_n (lv' := [(0, .int v1)]) hx hb dJ15_bitCount_9 rfl hl (by decide) rfl (fun ls hl => ?_)
  refine lv_iload_n hx hb dJ15_bitCount_10 rfl (lv_at hl 0 rfl) ?_
  refine lv_ldcw (v := 858993459) hx hb hown (hts _ q1293) dJ15_bitCount_11 ?_
  refine lv_iand hx hb dJ15_bitCount_14 ?_
  refine lv_iload_n hx hb dJ15_bitCount_15 rfl (lv_at hl 0 rfl) ?_
  refine lv_iconst (v := 2) hx hb dJ15_bitCount_16 (by decide) ?_
  refine lv_iushr hx hb dJ15_bitCount_17 rfl ?_
  refine lv_ldcw (v := 858993459) hx hb hown (hts _ q1293) dJ15_bitCount_18 ?_
  refine lv_iand hx hb dJ15_bitCount_21 ?_
  refine lv_iadd hx hb dJ15_bitCount_22 ?_
  obtain ⟨v2, ev2, hf⟩ := lts hf
  refine tpi ev2 ?_
  refine lv_istore_n (lv' := [(0, .int v2)]) hx hb dJ15_bitCount_23 rfl hl (by decide) rfl (fun ls hl => ?_)
  refine lv_iload_n hx hb dJ15_bitCount_24 rfl (lv_at hl 0 rfl) ?_
  refine lv_iload_n hx hb dJ15_bitCount_25 rfl (lv_at hl 0 rfl) ?_
  refine lv_iconst (v := 4) hx hb dJ15_bitCount_26 (by decide) ?_
  refine lv_iushr hx hb dJ15_bitCount_27 rfl ?_
  refine lv_iadd hx hb dJ15_bitCount_28 ?_
  refine lv_ldcw (v := 252645135) hx hb hown (hts _ q1294) dJ15_bitCount_29 ?_
  refine lv_iand hx hb dJ15_bitCount_32 ?_
  obtain ⟨v3, ev3, hf⟩ := lts hf
  refine tpi ev3 ?_
  refine lv_istore_n (lv' := [(0, .int v3)]) hx hb dJ15_bitCount_33 rfl hl (by decide) rfl (fun ls hl => ?_)
  refine lv_iload_n hx hb dJ15_bitCount_34 rfl (lv_at hl 0 rfl) ?_
  refine lv_iload_n hx hb dJ15_bitCount_35 rfl (lv_at hl 0 rfl) ?_
  refine lv_bipush (v := 8) hx hb dJ15_bitCount_36 (by decide) ?_
  refine lv_iushr hx hb dJ15_bitCount_38 rfl ?_
  refine lv_iadd hx hb dJ15_bitCount_39 ?_
  obtain ⟨v4, ev4, hf⟩ := lts hf
  refine tpi ev4 ?_
  refine lv_istore_n (lv' := [(0, .int v4)]) hx hb dJ15_bitCount_40 rfl hl (by decide) rfl (fun ls hl => ?_)
  refine lv_iload_n hx hb dJ15_bitCount_41 rfl (lv_at hl 0 rfl) ?_
  refine lv_iload_n hx hb dJ15_bitCount_42 rfl (lv_at hl 0 rfl) ?_
  refine lv_bipush (v := 16) hx hb dJ15_bitCount_43 (by decide) ?_
  refine lv_iushr hx hb dJ15_bitCount_45 rfl ?_
  refine lv_iadd hx hb dJ15_bitCount_46 ?_
  obtain ⟨v5, ev5, hf⟩ := lts hf
  refine tpi ev5 ?_
  refine lv_istore_n (lv' := [(0, .int v5)]) hx hb dJ15_bitCount_47 rfl hl (by decide) rfl (fun ls hl => ?_)
  refine lv_iload_n hx hb dJ15_bitCount_48 rfl (lv_at hl 0 rfl) ?_
  refine lv_bipush (v := 63) hx hb dJ15_bitCount_49 (by decide) ?_
  refine lv_iand hx hb dJ15_bitCount_51 ?_
  cases hf
  exact rI X hP hD hS dJ15_bitCount_52
theorem gw_X0_X0_goes : GoodIn lw_all (wsV RX0 377 RX0 yX0_goes (ws_ yX0_goes cX0_goes 7 none)) := lw_V q1285 q1287 qs58 q145 q1288
theorem dy_X0_goes : Dy yX0_goes RX0 4 := by decide +kernel
theorem gs_X0_J15_bitCount : GoodIn lw_all (va_wsS RX0 363 yJ15_bitCount (ws_ yJ15_bitCount cJ15_bitCount 1 (some .int))) := lw_S q1289 q1290 q177 q1291
theorem dy_J15_bitCount : Dy yJ15_bitCount RJ15 1 := by decide +kernel
set_option maxHeartbeats 4000000 in
theorem met_X_goes {l : Launch} {g : gG} {h hn hi : Nat} {ad : Nat → Nat} {ra : Nat → Nat → Nat} {z : Nat → Nat} {φ : Nat} : ∀ (n0 : Nat) {sTaped : Int32} {sFault : Int32} {sFaultA : Int32} {sWays : Int32} {sMay : Int32} {sMust : Int32} {cTape : Nat → Int32} {cNames : Nat → Int32} {cHead : Nat → Int32} {cSure : Nat → Nat → Int32} {cN : Nat → Int32} {cRow : Nat → Int32} {cTried : Nat → Int32} {cFor : Nat → Int32} {cRoad : Nat → Int32} {cFear : Nat → Int32} {cCall : Nat → Int32} {cUnl : Nat → Int32} {cPaid : Nat → Nat → Int32} {cStep : Nat → Nat → Int32} {cGain : Nat → Nat → Int32} {cText : Nat → Option Nat} {iN : Nat → Int32} {iRow : Nat → Int32} {iFor : Nat → Int32} {iRoad : Nat → Int32} {iFear : Nat → Int32} {iCall : Nat → Int32} {iUnl : Nat → Int32} {iPaid : Nat → Nat → Int32} {iStep : Nat → Nat → Int32} {iGain : Nat → Nat → Int32} {iText : Nat → Option Nat} {tp : va_W} {x1 : Int32} {x2 : Int32} {x3 : Int32} {x4 : Int32} {nsWays : Int32} {nsMay : Int32} {nsMust : Int32}, X_goes φ n0 sWays sMay sMust cN cRoad cCall x1 x2 x3 x4 = some (nsWays, nsMay, nsMust) → CX l yX0_goes (ws_ yX0_goes cX0_goes 7 none) ({ frames := n0 + 3, cells := 0, slots := 0, locals := 26 * n0 + 65 } : Room) g z [.ref h, .int x1, .int x2, .int x3, .int x4] (xW g h hn hi ad ra sTaped sFault sFaultA sWays sMay sMust cTape cNames cHead cSure cN cRow cTried cFor cRoad cFear cCall cUnl cPaid cStep cGain cText iN iRow iFor iRoad iFear iCall iUnl iPaid iStep iGain iText tp) none (xW g h hn hi ad ra sTaped sFault sFaultA nsWays nsMay nsMust cTape cNames cHead cSure cN cRow cTried cFor cRoad cFear cCall cUnl cPaid cStep cGain cText iN iRow iFor iRoad iFear iCall iUnl iPaid iStep iGain iText tp) 0 0 := by
  intro n0
  induction n0 with
  | zero =>
    intro sTaped sFault sFaultA sWays sMay sMust cTape cNames cHead cSure cN cRow cTried cFor cRoad cFear cCall cUnl cPaid cStep cGain cText iN iRow iFor iRoad iFear iCall iUnl iPaid iStep iGain iText tp x1 x2 x3 x4 nsWays nsMay nsMust hf
    exact nn hf
  | succ n0 ih0 =>
    intro sTaped sFault sFaultA sWays sMay sMust cTape cNames cHead cSure cN cRow cTried cFor cRoad cFear cCall cUnl cPaid cStep cGain cText iN iRow iFor iRoad iFear iCall iUnl iPaid iStep iGain iText tp x1 x2 x3 x4 nsWays nsMay nsMust hf
    refine CX.of RX0 rfl plain_X0 (Nat.le_of_ble_eq_true rfl) (fun p e s m below meth c A ls X hF hP hD hS hl => ?_)
    have hx := X.1
    have hb := X.2.1
    have hown := X.2.2.2.2.2.1
    have hts := X.2.2.2.2.2.2.1
    have hl : lv_has ls 7 [(0, .ref h), (1, .int x1), (2, .int x2), (3, .int x3), (4, .int x4)] := hl
    rw [X_goes] at hf
    refine lv_aload_n hx hb dX0_goes_0 rfl (lv_at hl 0 rfl) ?_
    refine gX_X0_this_now X hP dX0_goes_1 ?_
    refine gX_X0_now_call X hF hP dX0_goes_4 ?_
    refine lv_iload_n hx hb dX0_goes_7 rfl (lv_at hl 2 rfl) ?_
    obtain ⟨v1, ev1, bv1, hf⟩ := rds hf
    refine lX_cCall X hP ev1 bv1 dX0_goes_8 ?_
    refine lv_iload_n hx hb dX0_goes_9 rfl (lv_at hl 1 rfl) ?_
    obtain ⟨v2, k3, hf⟩ := bd1s hf
    have hj4 : ∀ (H : Heap) (locs : List Loc) (ls : Array Slot), va_P g.1 vwCl (xW g h hn hi ad ra sTaped sFault sFaultA sWays sMay sMust cTape cNames cHead cSure cN cRow cTried cFor cRoad cFear cCall cUnl cPaid cStep cGain cText iN iRow iFor iRoad iFear iCall iUnl iPaid iStep iGain iText tp) H → va_D A (xW g h hn hi ad ra sTaped sFault sFaultA sWays sMay sMust cTape cNames cHead cSure cN cRow cTried cFor cRoad cFear cCall cUnl cPaid cStep cGain cText iN iRow iFor iRoad iFear iCall iUnl iPaid iStep iGain iText tp) → va_S A s.heap H locs → lv_has ls 7 [(0, .ref h), (1, .int x1), (2, .int x2), (4, .int x4)] → W p l e ({ frames := (n0 + 1) + 3, cells := 0, slots := 0, locals := 26 * (n0 + 1) + 65 } : Room) s m ([.ref h, .int x1, .int x2, .int x3, .int x4] : List Value).toArray below meth c H locs 0 0 (MQ below (QQ g none (xW g h hn hi ad ra sTaped sFault sFaultA nsWays nsMay nsMust cTape cNames cHead cSure cN cRow cTried cFor cRoad cFear cCall cUnl cPaid cStep cGain cText iN iRow iFor iRoad iFear iCall iUnl iPaid iStep iGain iText tp) A) ([.ref h, .int x1, .int x2, .int x3, .int x4] : List Value).toArray s 0 0 A) (F0 m 22 ls [.int v2]) := by
      intro H locs ls hP hD hS hl
      refine lv_istore (lv' := [(5, .int v2), (0, .ref h), (1, .int x1), (2, .int x2), (4, .int x4)]) hx hb dX0_goes_22 hl (by decide) rfl (fun ls hl => ?_)
      refine lv_iload_n hx hb dX0_goes_24 rfl (lv_at hl 3 rfl) ?_
      refine lv_aload_n hx hb dX0_goes_25 rfl (lv_at hl 1 rfl) ?_
      refine gX_X0_this_now X hP dX0_goes_26 ?_
      refine gX_X0_now_n X hF hP dX0_goes_29 ?_
      refine lv_iconst (v := 5) hx hb dX0_goes_32 (by decide) ?_
      obtain ⟨v5, ev5, bv5, hf⟩ := rds hf
      refine lX_cN X hP ev5 bv5 dX0_goes_33 ?_
      refine lv_iconst (v := 1) hx hb dX0_goes_34 (by decide) ?_
      refine lv_isub hx hb dX0_goes_35 ?_
      refine bc_ne (tgt := 83) hx hb hf dX0_goes_36 (by decide) (fun hf => ?_) (fun hf => ?_)
      · refine lv_iconst (v := 0) hx hb dX0_goes_83 (by decide) ?_
        refine lv_istore (lv' := [(6, .int 0), (5, .int v2), (0, .ref h), (1, .int x1), (2, .int x2), (4, .int x4)]) hx hb dX0_goes_84 hl (by decide) rfl (fun ls hl => ?_)
        obtain ⟨c10, c11, c12, k17, hf⟩ := bd3s hf
        have hE14 : ∀ (H : Heap) (locs : List Loc) (ls : Array Slot), va_P g.1 vwCl (xW g h hn hi ad ra sTaped sFault sFaultA c10 c11 c12 cTape cNames cHead cSure cN cRow cTried cFor cRoad cFear cCall cUnl cPaid cStep cGain cText iN iRow iFor iRoad iFear iCall iUnl iPaid iStep iGain iText tp) H → va_D A (xW g h hn hi ad ra sTaped sFault sFaultA c10 c11 c12 cTape cNames cHead cSure cN cRow cTried cFor cRoad cFear cCall cUnl cPaid cStep cGain cText iN iRow iFor iRoad iFear iCall iUnl iPaid iStep iGain iText tp) → va_S A s.heap H locs → lv_has ls 7 [] → W p l e ({ frames := (n0 + 1) + 3, cells := 0, slots := 0, locals := 26 * (n0 + 1) + 65 } : Room) s m ([.ref h, .int x1, .int x2, .int x3, .int x4] : List Value).toArray below meth c H locs 0 0 (MQ below (QQ g none (xW g h hn hi ad ra sTaped sFault sFaultA nsWays nsMay nsMust cTape cNames cHead cSure cN cRow cTried cFor cRoad cFear cCall cUnl cPaid cStep cGain cText iN iRow iFor iRoad iFear iCall iUnl iPaid iStep iGain iText tp) A) ([.ref h, .int x1, .int x2, .int x3, .int x4] : List Value).toArray s 0 0 A) (F0 m 129 ls []) := by
          intro H locs ls hP hD hS hl
          cases hf
          exact rV X hP hD hS dX0_goes_129
        have hL15 : ∀ (n13 : Nat) (v6 : Int32) (c7 : Int32) (c8 : Int32) (c9 : Int32), X_goes_L86 (X_goes φ n0) φ x1 x2 x4 v2 cN cRoad cCall n13 v6 c7 c8 c9 = some (c10, c11, c12) → ∀ (H : Heap) (locs : List Loc) (ls : Array Slot), va_P g.1 vwCl (xW g h hn hi ad ra sTaped sFault sFaultA c7 c8 c9 cTape cNames cHead cSure cN cRow cTried cFor cRoad cFear cCall cUnl cPaid cStep cGain cText iN iRow iFor iRoad iFear iCall iUnl iPaid iStep iGain iText tp) H → va_D A (xW g h hn hi ad ra sTaped sFault sFaultA c7 c8 c9 cTape cNames cHead cSure cN cRow cTried cFor cRoad cFear cCall cUnl cPaid cStep cGain cText iN iRow iFor iRoad iFear iCall iUnl iPaid iStep iGain iText tp) → va_S A s.heap H locs → lv_has ls 7 [(0, .ref h), (1, .int x1), (2, .int x2), (4, .int x4), (5, .int v2), (6, .int v6)] → W p l e ({ frames := (n0 + 1) + 3, cells := 0, slots := 0, locals := 26 * (n0 + 1) + 65 } : Room) s m ([.ref h, .int x1, .int x2, .int x3, .int x4] : List Value).toArray below meth c H locs 0 0 (MQ below (QQ g none (xW g h hn hi ad ra sTaped sFault sFaultA nsWays nsMay nsMust cTape cNames cHead cSure cN cRow cTried cFor cRoad cFear cCall cUnl cPaid cStep cGain cText iN iRow iFor iRoad iFear iCall iUnl iPaid iStep iGain iText tp) A) ([.ref h, .int x1, .int x2, .int x3, .int x4] : List Value).toArray s 0 0 A) (F0 m 86 ls []) := by
          intro n13
          induction n13 with
          | zero =>
            intro v6 c7 c8 c9 hf
            exact nn hf
          | succ n13 ih16 =>
            intro v6 c7 c8 c9 hf H locs ls hP hD hS hl
            rw [X_goes_L86] at hf
            refine lv_iload hx hb dX0_goes_86 (lv_at hl 5 rfl) ?_
            refine lv_aload_n hx hb dX0_goes_88 rfl (lv_at hl 0 rfl) ?_
            refine gX_X0_this_now X hP dX0_goes_89 ?_
            refine gX_X0_now_n X hF hP dX0_goes_92 ?_
            refine lv_iconst (v := 0) hx hb dX0_goes_95 (by decide) ?_
            obtain ⟨v18, ev18, bv18, hf⟩ := rds hf
            refine lX_cN X hP ev18 bv18 dX0_goes_96 ?_
            refine bc_ge (tgt := 129) hx hb hf dX0_goes_97 (by decide) (fun hf => ?_) (fun hf => ?_)
            · cases hf
              exact hE14 _ _ _ hP hD hS (lv_sub hl [] rfl)
            · refine lv_aload_n hx hb dX0_goes_100 rfl (lv_at hl 0 rfl) ?_
              refine lv_iload_n hx hb dX0_goes_101 rfl (lv_at hl 1 rfl) ?_
              refine lv_iload hx hb dX0_goes_102 (lv_at hl 5 rfl) ?_
              obtain ⟨r19, k20, hf⟩ := bd1s hf
              refine xVi (rest := []) X hF (met_X_mayGo k20) gw_X0_X0_mayGo dy_X0_mayGo ⟨⟨rfl, rfl⟩, (by dsimp only; omega), (by dsimp only; omega)⟩ hP hD hS hl.1 rcX rfl rfl ⟨Nat.zero_le _, Nat.zero_le _⟩ (Nat.le_of_ble_eq_true rfl) dX0_goes_104 (fun H locs hP hD hS => ?_)
              refine bq_eq (tgt := 123) hx hb hf dX0_goes_107 (by decide) (fun hf => ?_) (fun hf => ?_)
              · obtain ⟨v21, ev21, hf⟩ := lts hf
                refine lv_iinc (v := v21) (lv' := [(6, .int v21), (0, .ref h), (1, .int x1), (2, .int x2), (4, .int x4), (5, .int v2)]) hx hb dX0_goes_123 hl (k := 5) rfl (by rw [ev21]; rfl) (by decide) rfl (fun ls hl => ?_)
                refine lv_goto (tgt := 86) hx hb dX0_goes_126 (by decide) ?_
                exact ih16 _ _ _ _ hf _ _ _ hP hD hS (lv_sub hl [1, 2, 3, 4, 5, 0] rfl)
              · refine lv_aload_n hx hb dX0_goes_110 rfl (lv_at hl 0 rfl) ?_
                refine lv_iload hx hb dX0_goes_111 (lv_at hl 5 rfl) ?_
                refine lv_iload_n hx hb dX0_goes_113 rfl (lv_at hl 2 rfl) ?_
                refine lv_iconst (v := 1) hx hb dX0_goes_114 (by decide) ?_
                refine lv_iadd hx hb dX0_goes_115 ?_
                refine lv_iload hx hb dX0_goes_116 (lv_at hl 4 rfl) ?_
                refine lv_iload hx hb dX0_goes_118 (lv_at hl 3 rfl) ?_
                obtain ⟨c22, c23, c24, k25, hf⟩ := bd3s hf
                refine xVv (rest := []) X hF (ih0 k25) gw_X0_X0_goes dy_X0_goes ⟨⟨rfl, rfl⟩, (by dsimp only; omega), (by dsimp only; omega)⟩ hP hD hS hl.1 rcX rfl rfl ⟨Nat.zero_le _, Nat.zero_le _⟩ (Nat.le_of_ble_eq_true rfl) dX0_goes_120 (fun H locs hP hD hS => ?_)
                obtain ⟨v26, ev26, hf⟩ := lts hf
                refine lv_iinc (v := v26) (lv' := [(6, .int v26), (0, .ref h), (1, .int x1), (2, .int x2), (4, .int x4), (5, .int v2)]) hx hb dX0_goes_123 hl (k := 5) rfl (by rw [ev26]; rfl) (by decide) rfl (fun ls hl => ?_)
                refine lv_goto (tgt := 86) hx hb dX0_goes_126 (by decide) ?_
                exact ih16 _ _ _ _ hf _ _ _ hP hD hS (lv_sub hl [1, 2, 3, 4, 5, 0] rfl)
        exact hL15 _ _ _ _ _ k17 _ _ _ hP hD hS (lv_sub hl [2, 3, 4, 5, 1, 0] rfl)
      · refine lv_iload hx hb dX0_goes_39 (lv_at hl 0 rfl) ?_
        obtain ⟨r27, k28, hf⟩ := bd1s hf
        refine cSi (rest := []) X (met_J_bitCount (g := g) k28) gs_X0_J15_bitCount dy_J15_bitCount ⟨⟨rfl, rfl⟩, (by dsimp only; omega), (by dsimp only; omega)⟩ hP hD hS hl.1 rfl rfl ⟨Nat.zero_le _, Nat.zero_le _⟩ (Nat.le_of_ble_eq_true rfl) dX0_goes_41 (fun H locs hP hD hS => ?_)
        refine lv_iload hx hb dX0_goes_44 (lv_at hl 4 rfl) ?_
        refine bc_eq (tgt := 50) hx hb hf dX0_goes_46 (by decide) (fun hf => ?_) (fun hf => ?_)
        · refine lv_aload_n hx hb dX0_goes_50 rfl (lv_at hl 1 rfl) ?_
          refine lv_dup hx hb dX0_goes_51 rfl ?_
          refine gX_X0_this_ways X hP dX0_goes_52 ?_
          refine lv_iconst (v := 1) hx hb dX0_goes_55 (by decide) ?_
          refine lv_iadd hx hb dX0_goes_56 ?_
          obtain ⟨v29, ev29, hf⟩ := lts hf
          refine tpi ev29 ?_
          refine pX_ways X hP hD hS dX0_goes_57 (fun H locs hP hD hS => ?_)
          refine lv_aload_n hx hb dX0_goes_60 rfl (lv_at hl 1 rfl) ?_
          refine lv_dup hx hb dX0_goes_61 rfl ?_
          refine gX_X0_this_may X hP dX0_goes_62 ?_
          refine lv_iload hx hb dX0_goes_65 (lv_at hl 0 rfl) ?_
          refine lv_ior hx hb dX0_goes_67 ?_
          obtain ⟨v30, ev30, hf⟩ := lts hf
          refine tpi ev30 ?_
          refine pX_may X hP hD hS dX0_goes_68 (fun H locs hP hD hS => ?_)
          refine lv_aload_n hx hb dX0_goes_71 rfl (lv_at hl 1 rfl) ?_
          refine lv_dup hx hb dX0_goes_72 rfl ?_
          refine gX_X0_this_must X hP dX0_goes_73 ?_
          refine lv_iload hx hb dX0_goes_76 (lv_at hl 0 rfl) ?_
          refine lv_iand hx hb dX0_goes_78 ?_
          obtain ⟨v31, ev31, hf⟩ := lts hf
          refine tpi ev31 ?_
          refine pX_must X hP hD hS dX0_goes_79 (fun H locs hP hD hS => ?_)
          cases hf
          exact rV X hP hD hS dX0_goes_82
        · cases hf
          exact rV X hP hD hS dX0_goes_49
    replace hf := k3
    clear k3
    refine bc_ne (tgt := 21) hx hb hf dX0_goes_10 (by decide) (fun hf => ?_) (fun hf => ?_)
    · refine lv_iload_n hx hb dX0_goes_21 rfl (lv_at hl 3 rfl) ?_
      cases hf
      exact hj4 _ _ _ hP hD hS (lv_sub hl [0, 1, 2, 4] rfl)
    · refine lv_iload_n hx hb dX0_goes_13 rfl (lv_at hl 3 rfl) ?_
      refine lv_iconst (v := 1) hx hb dX0_goes_14 (by decide) ?_
      refine lv_iload_n hx hb dX0_goes_15 rfl (lv_at hl 2 rfl) ?_
      refine lv_ishl hx hb dX0_goes_16 ?_
      refine lv_ior hx hb dX0_goes_17 ?_
      refine lv_goto (tgt := 22) hx hb dX0_goes_18 (by decide) ?_
      cases hf
      exact hj4 _ _ _ hP hD hS (lv_sub hl [0, 1, 2, 4] rfl)
set_option maxHeartbeats 4000000 in
theorem met_X_inCrowd {l : Launch} {g : gG} {h hn hi : Nat} {ad : Nat → Nat} {ra : Nat → Nat → Nat} {z : Nat → Nat} {sTaped : Int32} {sFault : Int32} {sFaultA : Int32} {sWays : Int32} {sMay : Int32} {sMust : Int32} {cTape : Nat → Int32} {cNames : Nat → Int32} {cHead : Nat → Int32} {cSure : Nat → Nat → Int32} {cN : Nat → Int32} {cRow : Nat → Int32} {cTried : Nat → Int32} {cFor : Nat → Int32} {cRoad : Nat → Int32} {cFear : Nat → Int32} {cCall : Nat → Int32} {cUnl : Nat → Int32} {cPaid : Nat → Nat → Int32} {cStep : Nat → Nat → Int32} {cGain : Nat → Nat → Int32} {cText : Nat → Option Nat} {iN : Nat → Int32} {iRow : Nat → Int32} {iFor : Nat → Int32} {iRoad : Nat → Int32} {iFear : Nat → Int32} {iCall : Nat → Int32} {iUnl : Nat → Int32} {iPaid : Nat → Nat → Int32} {iStep : Nat → Nat → Int32} {iGain : Nat → Nat → Int32} {iText : Nat → Option Nat} {tp : va_W} {x1 : Int32} {x2 : Int32} {x3 : Int32} {r : Int32} {nsWays : Int32} {nsMay : Int32} {nsMust : Int32} {φ : Nat} (hf : X_inCrowd φ sWays sMay sMust cN cRoad cCall x1 x2 x3 = some (r, nsWays, nsMay, nsMust)) : CX l yX0_inCrowd (ws_ yX0_inCrowd cX0_inCrowd 4 (some .int)) ({ frames := 10, cells := 0, slots := 0, locals := 247 } : Room) g z [.ref h, .int x1, .int x2, .int x3] (xW g h hn hi ad ra sTaped sFault sFaultA sWays sMay sMust cTape cNames cHead cSure cN cRow cTried cFor cRoad cFear cCall cUnl cPaid cStep cGain cText iN iRow iFor iRoad iFear iCall iUnl iPaid iStep iGain iText tp) (some (.int r)) (xW g h hn hi ad ra sTaped sFault sFaultA nsWays nsMay nsMust cTape cNames cHead cSure cN cRow cTried cFor cRoad cFear cCall cUnl cPaid cStep cGain cText iN iRow iFor iRoad iFear iCall iUnl iPaid iStep iGain iText tp) 0 0 := by
  refine CX.of RX0 rfl plain_X0 (Nat.le_of_ble_eq_true rfl) (fun p e s m below meth c A ls X hF hP hD hS hl => ?_)
  have hx := X.1
  have hb := X.2.1
  have hown := X.2.2.2.2.2.1
  have hts := X.2.2.2.2.2.2.1
  have hl : lv_has ls 4 [(0, .ref h), (1, .int x1), (2, .int x2), (3, .int x3)] := hl
  unfold X_inCrowd at hf
  refine lv_aload_n hx hb dX0_inCrowd_0 rfl (lv_at hl 0 rfl) ?_
  refine lv_iload_n hx hb dX0_inCrowd_1 rfl (lv_at hl 1 rfl) ?_
  obtain ⟨r1, k2, hf⟩ := bd1s hf
  refine xVi (rest := []) X hF (met_X_isLand k2) gw_X0_X0_isLand dy_X0_isLand ⟨⟨rfl, rfl⟩, Nat.le_of_ble_eq_true rfl, Nat.le_of_ble_eq_true rfl⟩ hP hD hS hl.1 rcX rfl rfl ⟨Nat.zero_le _, Nat.zero_le _⟩ (Nat.le_of_ble_eq_true rfl) dX0_inCrowd_2 (fun H locs hP hD hS => ?_)
  refine bq_eq (tgt := 38) hx hb hf dX0_inCrowd_5 (by decide) (fun hf => ?_) (fun hf => ?_)
  · refine lv_iconst (v := (-1)) hx hb dX0_inCrowd_38 (by decide) ?_
    cases hf
    exact rI X hP hD hS dX0_inCrowd_39
  · refine lv_iload_n hx hb dX0_inCrowd_8 rfl (lv_at hl 2 rfl) ?_
    refine lv_iconst (v := 0) hx hb dX0_inCrowd_9 (by decide) ?_
    refine lv_iconst (v := 5) hx hb dX0_inCrowd_10 (by decide) ?_
    obtain ⟨r3, k4, hf⟩ := bd1s hf
    refine cSi (rest := []) X (met_X_in (g := g) k4) gs_X0_X0_in dy_X0_in ⟨⟨rfl, rfl⟩, Nat.le_of_ble_eq_true rfl, Nat.le_of_ble_eq_true rfl⟩ hP hD hS hl.1 rfl rfl ⟨Nat.zero_le _, Nat.zero_le _⟩ (Nat.le_of_ble_eq_true rfl) dX0_inCrowd_11 (fun H locs hP hD hS => ?_)
    refine bq_eq (tgt := 38) hx hb hf dX0_inCrowd_14 (by decide) (fun hf => ?_) (fun hf => ?_)
    · refine lv_iconst (v := (-1)) hx hb dX0_inCrowd_38 (by decide) ?_
      cases hf
      exact rI X hP hD hS dX0_inCrowd_39
    · refine lv_iload_n hx hb dX0_inCrowd_17 rfl (lv_at hl 3 rfl) ?_
      refine lv_iconst (v := 0) hx hb dX0_inCrowd_18 (by decide) ?_
      refine lv_iconst (v := 2) hx hb dX0_inCrowd_19 (by decide) ?_
      obtain ⟨r5, k6, hf⟩ := bd1s hf
      refine cSi (rest := []) X (met_X_in (g := g) k6) gs_X0_X0_in dy_X0_in ⟨⟨rfl, rfl⟩, Nat.le_of_ble_eq_true rfl, Nat.le_of_ble_eq_true rfl⟩ hP hD hS hl.1 rfl rfl ⟨Nat.zero_le _, Nat.zero_le _⟩ (Nat.le_of_ble_eq_true rfl) dX0_inCrowd_20 (fun H locs hP hD hS => ?_)
      refine bq_eq (tgt := 38) hx hb hf dX0_inCrowd_23 (by decide) (fun hf => ?_) (fun hf => ?_)
      · refine lv_iconst (v := (-1)) hx hb dX0_inCrowd_38 (by decide) ?_
        cases hf
        exact rI X hP hD hS dX0_inCrowd_39
      · refine lv_aload_n hx hb dX0_inCrowd_26 rfl (lv_at hl 0 rfl) ?_
        refine gX_X0_this_now X hP dX0_inCrowd_27 ?_
        refine gX_X0_now_n X hF hP dX0_inCrowd_30 ?_
        refine lv_iconst (v := 5) hx hb dX0_inCrowd_33 (by decide) ?_
        obtain ⟨v7, ev7, bv7, hf⟩ := rds hf
        refine lX_cN X hP ev7 bv7 dX0_inCrowd_34 ?_
        refine bq_ne (tgt := 40) hx hb hf dX0_inCrowd_35 (by decide) (fun hf => ?_) (fun hf => ?_)
        · refine lv_aload_n hx hb dX0_inCrowd_40 rfl (lv_at hl 0 rfl) ?_
          refine lv_iconst (v := 0) hx hb dX0_inCrowd_41 (by decide) ?_
          refine pX_ways X hP hD hS dX0_inCrowd_42 (fun H locs hP hD hS => ?_)
          refine lv_aload_n hx hb dX0_inCrowd_45 rfl (lv_at hl 0 rfl) ?_
          refine lv_iconst (v := 0) hx hb dX0_inCrowd_46 (by decide) ?_
          refine pX_may X hP hD hS dX0_inCrowd_47 (fun H locs hP hD hS => ?_)
          refine lv_aload_n hx hb dX0_inCrowd_50 rfl (lv_at hl 0 rfl) ?_
          refine lv_bipush (v := 31) hx hb dX0_inCrowd_51 (by decide) ?_
          refine pX_must X hP hD hS dX0_inCrowd_53 (fun H locs hP hD hS => ?_)
          refine lv_aload_n hx hb dX0_inCrowd_56 rfl (lv_at hl 0 rfl) ?_
          refine lv_iload_n hx hb dX0_inCrowd_57 rfl (lv_at hl 1 rfl) ?_
          refine lv_iconst (v := 0) hx hb dX0_inCrowd_58 (by decide) ?_
          refine lv_iconst (v := 0) hx hb dX0_inCrowd_59 (by decide) ?_
          refine lv_iload_n hx hb dX0_inCrowd_60 rfl (lv_at hl 2 rfl) ?_
          obtain ⟨c8, c9, c10, k11, hf⟩ := bd3s hf
          refine xVv (rest := []) X hF (met_X_goes 6 k11) gw_X0_X0_goes dy_X0_goes ⟨⟨rfl, rfl⟩, Nat.le_of_ble_eq_true rfl, Nat.le_of_ble_eq_true rfl⟩ hP hD hS hl.1 rcX rfl rfl ⟨Nat.zero_le _, Nat.zero_le _⟩ (Nat.le_of_ble_eq_true rfl) dX0_inCrowd_61 (fun H locs hP hD hS => ?_)
          refine lv_iload_n hx hb dX0_inCrowd_64 rfl (lv_at hl 3 rfl) ?_
          refine bq_ne (tgt := 75) hx hb hf dX0_inCrowd_65 (by decide) (fun hf => ?_) (fun hf => ?_)
          · refine lv_iload_n hx hb dX0_inCrowd_75 rfl (lv_at hl 3 rfl) ?_
            refine lv_iconst (v := 1) hx hb dX0_inCrowd_76 (by decide) ?_
            refine bc_ne (tgt := 87) hx hb hf dX0_inCrowd_77 (by decide) (fun hf => ?_) (fun hf => ?_)
            · refine lv_aload_n hx hb dX0_inCrowd_87 rfl (lv_at hl 0 rfl) ?_
              refine gX_X0_this_ways X hP dX0_inCrowd_88 ?_
              refine bq_ne (tgt := 98) hx hb hf dX0_inCrowd_91 (by decide) (fun hf => ?_) (fun hf => ?_)
              · refine lv_aload_n hx hb dX0_inCrowd_98 rfl (lv_at hl 0 rfl) ?_
                refine gX_X0_this_must X hP dX0_inCrowd_99 ?_
                cases hf
                exact rI X hP hD hS dX0_inCrowd_102
              · refine lv_iconst (v := 0) hx hb dX0_inCrowd_94 (by decide) ?_
                refine lv_goto (tgt := 102) hx hb dX0_inCrowd_95 (by decide) ?_
                cases hf
                exact rI X hP hD hS dX0_inCrowd_102
            · refine lv_aload_n hx hb dX0_inCrowd_80 rfl (lv_at hl 0 rfl) ?_
              refine gX_X0_this_may X hP dX0_inCrowd_81 ?_
              refine lv_goto (tgt := 102) hx hb dX0_inCrowd_84 (by decide) ?_
              cases hf
              exact rI X hP hD hS dX0_inCrowd_102
          · refine lv_aload_n hx hb dX0_inCrowd_68 rfl (lv_at hl 0 rfl) ?_
            refine gX_X0_this_ways X hP dX0_inCrowd_69 ?_
            refine lv_goto (tgt := 102) hx hb dX0_inCrowd_72 (by decide) ?_
            cases hf
            exact rI X hP hD hS dX0_inCrowd_102
        · refine lv_iconst (v := (-1)) hx hb dX0_inCrowd_38 (by decide) ?_
          cases hf
          exact rI X hP hD hS dX0_inCrowd_39
set_option maxHeartbeats 4000000 in
theorem met_X_helpers {l : Launch} {g : gG} {h hn hi : Nat} {ad : Nat → Nat} {ra : Nat → Nat → Nat} {z : Nat → Nat} {sTaped : Int32} {sFault : Int32} {sFaultA : Int32} {sWays : Int32} {sMay : Int32} {sMust : Int32} {cTape : Nat → Int32} {cNames : Nat → Int32} {cHead : Nat → Int32} {cSure : Nat → Nat → Int32} {cN : Nat → Int32} {cRow : Nat → Int32} {cTried : Nat → Int32} {cFor : Nat → Int32} {cRoad : Nat → Int32} {cFear : Nat → Int32} {cCall : Nat → Int32} {cUnl : Nat → Int32} {cPaid : Nat → Nat → Int32} {cStep : Nat → Nat → Int32} {cGain : Nat → Nat → Int32} {cText : Nat → Option Nat} {iN : Nat → Int32} {iRow : Nat → Int32} {iFor : Nat → Int32} {iRoad : Nat → Int32} {iFear : Nat → Int32} {iCall : Nat → Int32} {iUnl : Nat → Int32} {iPaid : Nat → Nat → Int32} {iStep : Nat → Nat → Int32} {iGain : Nat → Nat → Int32} {iText : Nat → Option Nat} {tp : va_W} {r : Int32} {φ : Nat} (hf : X_helpers φ cN cRoad = some r) : CX l yX0_helpers (ws_ yX0_helpers cX0_helpers 3 (some .int)) ({ frames := 2, cells := 0, slots := 0, locals := 45 } : Room) g z [.ref h] (xW g h hn hi ad ra sTaped sFault sFaultA sWays sMay sMust cTape cNames cHead cSure cN cRow cTried cFor cRoad cFear cCall cUnl cPaid cStep cGain cText iN iRow iFor iRoad iFear iCall iUnl iPaid iStep iGain iText tp) (some (.int r)) (xW g h hn hi ad ra sTaped sFault sFaultA sWays sMay sMust cTape cNames cHead cSure cN cRow cTried cFor cRoad cFear cCall cUnl cPaid cStep cGain cText iN iRow iFor iRoad iFear iCall iUnl iPaid iStep iGain iText tp) 0 0 := by
  refine CX.of RX0 rfl plain_X0 (Nat.le_of_ble_eq_true rfl) (fun p e s m below meth c A ls X hF hP hD hS hl => ?_)
  have hx := X.1
  have hb := X.2.1
  have hown := X.2.2.2.2.2.1
  have hts := X.2.2.2.2.2.2.1
  have hl : lv_has ls 3 [(0, .ref h)] := hl
  unfold X_helpers at hf
  refine lv_aload_n hx hb dX0_helpers_0 rfl (lv_at hl 0 rfl) ?_
  obtain ⟨r1, k2, hf⟩ := bd1s hf
  refine xVi (rest := []) X hF (met_X_allLands k2) gw_X0_X0_allLands dy_X0_allLands ⟨⟨rfl, rfl⟩, Nat.le_of_ble_eq_true rfl, Nat.le_of_ble_eq_true rfl⟩ hP hD hS hl.1 rcX rfl rfl ⟨Nat.zero_le _, Nat.zero_le _⟩ (Nat.le_of_ble_eq_true rfl) dX0_helpers_1 (fun H locs hP hD hS => ?_)
  refine lv_istore_n (lv' := [(1, .int r1), (0, .ref h)]) hx hb dX0_helpers_4 rfl hl (by decide) rfl (fun ls hl => ?_)
  refine lv_iload_n hx hb dX0_helpers_5 rfl (lv_at hl 0 rfl) ?_
  refine lv_istore_n (lv' := [(2, .int r1), (1, .int r1), (0, .ref h)]) hx hb dX0_helpers_6 rfl hl (by decide) rfl (fun ls hl => ?_)
  obtain ⟨v5, k10, hf⟩ := bd1s hf
  have hE7 : ∀ (H : Heap) (locs : List Loc) (ls : Array Slot), va_P g.1 vwCl (xW g h hn hi ad ra sTaped sFault sFaultA sWays sMay sMust cTape cNames cHead cSure cN cRow cTried cFor cRoad cFear cCall cUnl cPaid cStep cGain cText iN iRow iFor iRoad iFear iCall iUnl iPaid iStep iGain iText tp) H → va_D A (xW g h hn hi ad ra sTaped sFault sFaultA sWays sMay sMust cTape cNames cHead cSure cN cRow cTried cFor cRoad cFear cCall cUnl cPaid cStep cGain cText iN iRow iFor iRoad iFear iCall iUnl iPaid iStep iGain iText tp) → va_S A s.heap H locs → lv_has ls 3 [(1, .int v5)] → W p l e ({ frames := 2, cells := 0, slots := 0, locals := 45 } : Room) s m ([.ref h] : List Value).toArray below meth c H locs 0 0 (MQ below (QQ g (some (.int r)) (xW g h hn hi ad ra sTaped sFault sFaultA sWays sMay sMust cTape cNames cHead cSure cN cRow cTried cFor cRoad cFear cCall cUnl cPaid cStep cGain cText iN iRow iFor iRoad iFear iCall iUnl iPaid iStep iGain iText tp) A) ([.ref h] : List Value).toArray s 0 0 A) (F0 m 43 ls []) := by
    intro H locs ls hP hD hS hl
    refine lv_iload_n hx hb dX0_helpers_43 rfl (lv_at hl 0 rfl) ?_
    cases hf
    exact rI X hP hD hS dX0_helpers_44
  have hL8 : ∀ (n6 : Nat) (v3 : Int32) (v4 : Int32), X_helpers_L7 φ cN cRoad n6 v3 v4 = some v5 → ∀ (H : Heap) (locs : List Loc) (ls : Array Slot), va_P g.1 vwCl (xW g h hn hi ad ra sTaped sFault sFaultA sWays sMay sMust cTape cNames cHead cSure cN cRow cTried cFor cRoad cFear cCall cUnl cPaid cStep cGain cText iN iRow iFor iRoad iFear iCall iUnl iPaid iStep iGain iText tp) H → va_D A (xW g h hn hi ad ra sTaped sFault sFaultA sWays sMay sMust cTape cNames cHead cSure cN cRow cTried cFor cRoad cFear cCall cUnl cPaid cStep cGain cText iN iRow iFor iRoad iFear iCall iUnl iPaid iStep iGain iText tp) → va_S A s.heap H locs → lv_has ls 3 [(0, .ref h), (1, .int v3), (2, .int v4)] → W p l e ({ frames := 2, cells := 0, slots := 0, locals := 45 } : Room) s m ([.ref h] : List Value).toArray below meth c H locs 0 0 (MQ below (QQ g (some (.int r)) (xW g h hn hi ad ra sTaped sFault sFaultA sWays sMay sMust cTape cNames cHead cSure cN cRow cTried cFor cRoad cFear cCall cUnl cPaid cStep cGain cText iN iRow iFor iRoad iFear iCall iUnl iPaid iStep iGain iText tp) A) ([.ref h] : List Value).toArray s 0 0 A) (F0 m 7 ls []) := by
    intro n6
    induction n6 with
    | zero =>
      intro v3 v4 hf
      exact nn hf
    | succ n6 ih9 =>
      intro v3 v4 hf H locs ls hP hD hS hl
      rw [X_helpers_L7] at hf
      refine lv_iload_n hx hb dX0_helpers_7 rfl (lv_at hl 2 rfl) ?_
      refine bq_lt (tgt := 43) hx hb hf dX0_helpers_8 (by decide) (fun hf => ?_) (fun hf => ?_)
      · cases hf
        exact hE7 _ _ _ hP hD hS (lv_sub hl [1] rfl)
      · refine lv_iload_n hx hb dX0_helpers_11 rfl (lv_at hl 2 rfl) ?_
        obtain ⟨r11, k12, hf⟩ := bd1s hf
        refine cSi (rest := []) X (met_J_bitCount (g := g) k12) gs_X0_J15_bitCount dy_J15_bitCount ⟨⟨rfl, rfl⟩, Nat.le_of_ble_eq_true rfl, Nat.le_of_ble_eq_true rfl⟩ hP hD hS hl.1 rfl rfl ⟨Nat.zero_le _, Nat.zero_le _⟩ (Nat.le_of_ble_eq_true rfl) dX0_helpers_12 (fun H locs hP hD hS => ?_)
        refine lv_iload_n hx hb dX0_helpers_15 rfl (lv_at hl 1 rfl) ?_
        obtain ⟨r13, k14, hf⟩ := bd1s hf
        refine cSi (rest := [.int r11]) X (met_J_bitCount (g := g) k14) gs_X0_J15_bitCount dy_J15_bitCount ⟨⟨rfl, rfl⟩, Nat.le_of_ble_eq_true rfl, Nat.le_of_ble_eq_true rfl⟩ hP hD hS hl.1 rfl rfl ⟨Nat.zero_le _, Nat.zero_le _⟩ (Nat.le_of_ble_eq_true rfl) dX0_helpers_16 (fun H locs hP hD hS => ?_)
        refine bc_gt (tgt := 37) hx hb hf dX0_helpers_19 (by decide) (fun hf => ?_) (fun hf => ?_)
        · obtain ⟨v15, ev15, hf⟩ := lts hf
          refine lv_iinc (v := v15) (lv' := [(2, .int v15), (0, .ref h), (1, .int v3)]) hx hb dX0_helpers_37 hl (k := 2) rfl (by rw [ev15]; rfl) (by decide) rfl (fun ls hl => ?_)
          refine lv_goto (tgt := 7) hx hb dX0_helpers_40 (by decide) ?_
          exact ih9 _ _ hf _ _ _ hP hD hS (lv_sub hl [1, 2, 0] rfl)
        · refine lv_aload_n hx hb dX0_helpers_22 rfl (lv_at hl 0 rfl) ?_
          refine lv_iload_n hx hb dX0_helpers_23 rfl (lv_at hl 2 rfl) ?_
          refine lv_iconst (v := 0) hx hb dX0_helpers_24 (by decide) ?_
          obtain ⟨r16, k17, hf⟩ := bd1s hf
          refine xVi (rest := []) X hF (met_X_spreads k17) gw_X0_X0_spreads dy_X0_spreads ⟨⟨rfl, rfl⟩, Nat.le_of_ble_eq_true rfl, Nat.le_of_ble_eq_true rfl⟩ hP hD hS hl.1 rcX rfl rfl ⟨Nat.zero_le _, Nat.zero_le _⟩ (Nat.le_of_ble_eq_true rfl) dX0_helpers_25 (fun H locs hP hD hS => ?_)
          refine lv_aload_n hx hb dX0_helpers_28 rfl (lv_at hl 0 rfl) ?_
          obtain ⟨r18, k19, hf⟩ := bd1s hf
          refine xVi (rest := [.int r16]) X hF (met_X_allLands k19) gw_X0_X0_allLands dy_X0_allLands ⟨⟨rfl, rfl⟩, Nat.le_of_ble_eq_true rfl, Nat.le_of_ble_eq_true rfl⟩ hP hD hS hl.1 rcX rfl rfl ⟨Nat.zero_le _, Nat.zero_le _⟩ (Nat.le_of_ble_eq_true rfl) dX0_helpers_29 (fun H locs hP hD hS => ?_)
          refine bc_ne (tgt := 37) hx hb hf dX0_helpers_32 (by decide) (fun hf => ?_) (fun hf => ?_)
          · obtain ⟨v20, ev20, hf⟩ := lts hf
            refine lv_iinc (v := v20) (lv' := [(2, .int v20), (0, .ref h), (1, .int v3)]) hx hb dX0_helpers_37 hl (k := 2) rfl (by rw [ev20]; rfl) (by decide) rfl (fun ls hl => ?_)
            refine lv_goto (tgt := 7) hx hb dX0_helpers_40 (by decide) ?_
            exact ih9 _ _ hf _ _ _ hP hD hS (lv_sub hl [1, 2, 0] rfl)
          · refine lv_iload_n hx hb dX0_helpers_35 rfl (lv_at hl 2 rfl) ?_
            refine lv_istore_n (lv' := [(1, .int v4), (0, .ref h), (2, .int v4)]) hx hb dX0_helpers_36 rfl hl (by decide) rfl (fun ls hl => ?_)
            obtain ⟨v21, ev21, hf⟩ := lts hf
            refine lv_iinc (v := v21) (lv' := [(2, .int v21), (1, .int v4), (0, .ref h)]) hx hb dX0_helpers_37 hl (k := 2) rfl (by rw [ev21]; rfl) (by decide) rfl (fun ls hl => ?_)
            refine lv_goto (tgt := 7) hx hb dX0_helpers_40 (by decide) ?_
            exact ih9 _ _ hf _ _ _ hP hD hS (lv_sub hl [2, 1, 0] rfl)
  exact hL8 _ _ _ k10 _ _ _ hP hD hS (lv_sub hl [2, 1, 0] rfl)
set_option maxHeartbeats 4000000 in
theorem met_X_isCut {l : Launch} {g : gG} {h hn hi : Nat} {ad : Nat → Nat} {ra : Nat → Nat → Nat} {z : Nat → Nat} {sTaped : Int32} {sFault : Int32} {sFaultA : Int32} {sWays : Int32} {sMay : Int32} {sMust : Int32} {cTape : Nat → Int32} {cNames : Nat → Int32} {cHead : Nat → Int32} {cSure : Nat → Nat → Int32} {cN : Nat → Int32} {cRow : Nat → Int32} {cTried : Nat → Int32} {cFor : Nat → Int32} {cRoad : Nat → Int32} {cFear : Nat → Int32} {cCall : Nat → Int32} {cUnl : Nat → Int32} {cPaid : Nat → Nat → Int32} {cStep : Nat → Nat → Int32} {cGain : Nat → Nat → Int32} {cText : Nat → Option Nat} {iN : Nat → Int32} {iRow : Nat → Int32} {iFor : Nat → Int32} {iRoad : Nat → Int32} {iFear : Nat → Int32} {iCall : Nat → Int32} {iUnl : Nat → Int32} {iPaid : Nat → Nat → Int32} {iStep : Nat → Nat → Int32} {iGain : Nat → Nat → Int32} {iText : Nat → Option Nat} {tp : va_W} {x1 : Int32} {x2 : Int32} {x3 : Int32} {r : Int32} {φ : Nat} (hf : X_isCut φ cN cRoad x1 x2 x3 = some r) : CX l yX0_isCut (ws_ yX0_isCut cX0_isCut 6 (some .boolean)) ({ frames := 2, cells := 0, slots := 0, locals := 45 } : Room) g z [.ref h, .int x1, .int x2, .int x3] (xW g h hn hi ad ra sTaped sFault sFaultA sWays sMay sMust cTape cNames cHead cSure cN cRow cTried cFor cRoad cFear cCall cUnl cPaid cStep cGain cText iN iRow iFor iRoad iFear iCall iUnl iPaid iStep iGain iText tp) (some (.int r)) (xW g h hn hi ad ra sTaped sFault sFaultA sWays sMay sMust cTape cNames cHead cSure cN cRow cTried cFor cRoad cFear cCall cUnl cPaid cStep cGain cText iN iRow iFor iRoad iFear iCall iUnl iPaid iStep iGain iText tp) 0 0 := by
  refine CX.of RX0 rfl plain_X0 (Nat.le_of_ble_eq_true rfl) (fun p e s m below meth c A ls X hF hP hD hS hl => ?_)
  have hx := X.1
  have hb := X.2.1
  have hown := X.2.2.2.2.2.1
  have hts := X.2.2.2.2.2.2.1
  have hl : lv_has ls 6 [(0, .ref h), (1, .int x1), (2, .int x2), (3, .int x3)] := hl
  unfold X_isCut at hf
  refine lv_iconst (v := 1) hx hb dX0_isCut_0 (by decide) ?_
  refine lv_iload_n hx hb dX0_isCut_1 rfl (lv_at hl 1 rfl) ?_
  refine lv_ishl hx hb dX0_isCut_2 ?_
  obtain ⟨v1, ev1, hf⟩ := lts hf
  refine tpi ev1 ?_
  refine lv_istore (lv' := [(4, .int v1), (0, .ref h), (1, .int x1), (2, .int x2), (3, .int x3)]) hx hb dX0_isCut_3 hl (by decide) rfl (fun ls hl => ?_)
  refine lv_iconst (v := 0) hx hb dX0_isCut_5 (by decide) ?_
  refine lv_istore (lv' := [(5, .int 0), (4, .int v1), (0, .ref h), (1, .int x1), (2, .int x2), (3, .int x3)]) hx hb dX0_isCut_6 hl (by decide) rfl (fun ls hl => ?_)
  obtain ⟨v4, k9, hf⟩ := bd1s hf
  have hE6 : ∀ (H : Heap) (locs : List Loc) (ls : Array Slot), va_P g.1 vwCl (xW g h hn hi ad ra sTaped sFault sFaultA sWays sMay sMust cTape cNames cHead cSure cN cRow cTried cFor cRoad cFear cCall cUnl cPaid cStep cGain cText iN iRow iFor iRoad iFear iCall iUnl iPaid iStep iGain iText tp) H → va_D A (xW g h hn hi ad ra sTaped sFault sFaultA sWays sMay sMust cTape cNames cHead cSure cN cRow cTried cFor cRoad cFear cCall cUnl cPaid cStep cGain cText iN iRow iFor iRoad iFear iCall iUnl iPaid iStep iGain iText tp) → va_S A s.heap H locs → lv_has ls 6 [(2, .int x2), (4, .int v4)] → W p l e ({ frames := 2, cells := 0, slots := 0, locals := 45 } : Room) s m ([.ref h, .int x1, .int x2, .int x3] : List Value).toArray below meth c H locs 0 0 (MQ below (QQ g (some (.int r)) (xW g h hn hi ad ra sTaped sFault sFaultA sWays sMay sMust cTape cNames cHead cSure cN cRow cTried cFor cRoad cFear cCall cUnl cPaid cStep cGain cText iN iRow iFor iRoad iFear iCall iUnl iPaid iStep iGain iText tp) A) ([.ref h, .int x1, .int x2, .int x3] : List Value).toArray s 0 0 A) (F0 m 30 ls []) := by
    intro H locs ls hP hD hS hl
    refine lv_iload hx hb dX0_isCut_30 (lv_at hl 1 rfl) ?_
    refine lv_iload_n hx hb dX0_isCut_32 rfl (lv_at hl 0 rfl) ?_
    obtain ⟨r10, k11, hf⟩ := bd1s hf
    refine cSi (rest := []) X (met_X_isIn (g := g) k11) gs_X0_X0_isIn dy_X0_isIn ⟨⟨rfl, rfl⟩, Nat.le_of_ble_eq_true rfl, Nat.le_of_ble_eq_true rfl⟩ hP hD hS hl.1 rfl rfl ⟨Nat.zero_le _, Nat.zero_le _⟩ (Nat.le_of_ble_eq_true rfl) dX0_isCut_33 (fun H locs hP hD hS => ?_)
    refine bq_ne (tgt := 43) hx hb hf dX0_isCut_36 (by decide) (fun hf => ?_) (fun hf => ?_)
    · refine lv_iconst (v := 0) hx hb dX0_isCut_43 (by decide) ?_
      cases hf
      exact rZ X rfl hP hD hS dX0_isCut_44
    · refine lv_iconst (v := 1) hx hb dX0_isCut_39 (by decide) ?_
      refine lv_goto (tgt := 44) hx hb dX0_isCut_40 (by decide) ?_
      cases hf
      exact rZ X rfl hP hD hS dX0_isCut_44
  have hL7 : ∀ (n5 : Nat) (v2 : Int32) (v3 : Int32), X_isCut_L8 φ x2 x3 cN cRoad n5 v2 v3 = some v4 → ∀ (H : Heap) (locs : List Loc) (ls : Array Slot), va_P g.1 vwCl (xW g h hn hi ad ra sTaped sFault sFaultA sWays sMay sMust cTape cNames cHead cSure cN cRow cTried cFor cRoad cFear cCall cUnl cPaid cStep cGain cText iN iRow iFor iRoad iFear iCall iUnl iPaid iStep iGain iText tp) H → va_D A (xW g h hn hi ad ra sTaped sFault sFaultA sWays sMay sMust cTape cNames cHead cSure cN cRow cTried cFor cRoad cFear cCall cUnl cPaid cStep cGain cText iN iRow iFor iRoad iFear iCall iUnl iPaid iStep iGain iText tp) → va_S A s.heap H locs → lv_has ls 6 [(0, .ref h), (2, .int x2), (3, .int x3), (4, .int v2), (5, .int v3)] → W p l e ({ frames := 2, cells := 0, slots := 0, locals := 45 } : Room) s m ([.ref h, .int x1, .int x2, .int x3] : List Value).toArray below meth c H locs 0 0 (MQ below (QQ g (some (.int r)) (xW g h hn hi ad ra sTaped sFault sFaultA sWays sMay sMust cTape cNames cHead cSure cN cRow cTried cFor cRoad cFear cCall cUnl cPaid cStep cGain cText iN iRow iFor iRoad iFear iCall iUnl iPaid iStep iGain iText tp) A) ([.ref h, .int x1, .int x2, .int x3] : List Value).toArray s 0 0 A) (F0 m 8 ls []) := by
    intro n5
    induction n5 with
    | zero =>
      intro v2 v3 hf
      exact nn hf
    | succ n5 ih8 =>
      intro v2 v3 hf H locs ls hP hD hS hl
      rw [X_isCut_L8] at hf
      refine lv_iload hx hb dX0_isCut_8 (lv_at hl 4 rfl) ?_
      refine lv_bipush (v := 8) hx hb dX0_isCut_10 (by decide) ?_
      refine bc_ge (tgt := 30) hx hb hf dX0_isCut_12 (by decide) (fun hf => ?_) (fun hf => ?_)
      · cases hf
        exact hE6 _ _ _ hP hD hS (lv_sub hl [1, 3] rfl)
      · refine lv_aload_n hx hb dX0_isCut_15 rfl (lv_at hl 0 rfl) ?_
        refine lv_iload hx hb dX0_isCut_16 (lv_at hl 3 rfl) ?_
        refine lv_iload_n hx hb dX0_isCut_18 rfl (lv_at hl 2 rfl) ?_
        obtain ⟨r12, k13, hf⟩ := bd1s hf
        refine xVi (rest := []) X hF (met_X_spreads k13) gw_X0_X0_spreads dy_X0_spreads ⟨⟨rfl, rfl⟩, Nat.le_of_ble_eq_true rfl, Nat.le_of_ble_eq_true rfl⟩ hP hD hS hl.1 rcX rfl rfl ⟨Nat.zero_le _, Nat.zero_le _⟩ (Nat.le_of_ble_eq_true rfl) dX0_isCut_19 (fun H locs hP hD hS => ?_)
        refine lv_istore (lv' := [(4, .int r12), (0, .ref h), (2, .int x2), (3, .int x3), (5, .int v3)]) hx hb dX0_isCut_22 hl (by decide) rfl (fun ls hl => ?_)
        obtain ⟨v14, ev14, hf⟩ := lts hf
        refine lv_iinc (v := v14) (lv' := [(5, .int v14), (4, .int r12), (0, .ref h), (2, .int x2), (3, .int x3)]) hx hb dX0_isCut_24 hl (k := 4) rfl (by rw [ev14]; rfl) (by decide) rfl (fun ls hl => ?_)
        refine lv_goto (tgt := 8) hx hb dX0_isCut_27 (by decide) ?_
        exact ih8 _ _ hf _ _ _ hP hD hS (lv_sub hl [2, 3, 4, 1, 0] rfl)
  exact hL7 _ _ _ k9 _ _ _ hP hD hS (lv_sub hl [2, 4, 5, 1, 0] rfl)
theorem gw_X0_X0_isCut : GoodIn lw_all (wsV RX0 381 RX0 yX0_isCut (ws_ yX0_isCut cX0_isCut 6 (some .boolean))) := lw_V q1303 q1305 qs59 q145 q1306
theorem dy_X0_isCut : Dy yX0_isCut RX0 3 := by decide +kernel
set_option maxHeartbeats 4000000 in
theorem met_X_watch {l : Launch} {g : gG} {h hn hi : Nat} {ad : Nat → Nat} {ra : Nat → Nat → Nat} {z : Nat → Nat} {sTaped : Int32} {sFault : Int32} {sFaultA : Int32} {sWays : Int32} {sMay : Int32} {sMust : Int32} {cTape : Nat → Int32} {cNames : Nat → Int32} {cHead : Nat → Int32} {cSure : Nat → Nat → Int32} {cN : Nat → Int32} {cRow : Nat → Int32} {cTried : Nat → Int32} {cFor : Nat → Int32} {cRoad : Nat → Int32} {cFear : Nat → Int32} {cCall : Nat → Int32} {cUnl : Nat → Int32} {cPaid : Nat → Nat → Int32} {cStep : Nat → Nat → Int32} {cGain : Nat → Nat → Int32} {cText : Nat → Option Nat} {iN : Nat → Int32} {iRow : Nat → Int32} {iFor : Nat → Int32} {iRoad : Nat → Int32} {iFear : Nat → Int32} {iCall : Nat → Int32} {iUnl : Nat → Int32} {iPaid : Nat → Nat → Int32} {iStep : Nat → Nat → Int32} {iGain : Nat → Nat → Int32} {iText : Nat → Option Nat} {tp : va_W} {x1 : Int32} {x2 : Int32} {r : Int32} {φ : Nat} (hf : X_watch φ cN cRoad x1 x2 = some r) : CX l yX0_watch (ws_ yX0_watch cX0_watch 6 (some .int)) ({ frames := 3, cells := 0, slots := 0, locals := 70 } : Room) g z [.ref h, .int x1, .int x2] (xW g h hn hi ad ra sTaped sFault sFaultA sWays sMay sMust cTape cNames cHead cSure cN cRow cTried cFor cRoad cFear cCall cUnl cPaid cStep cGain cText iN iRow iFor iRoad iFear iCall iUnl iPaid iStep iGain iText tp) (some (.int r)) (xW g h hn hi ad ra sTaped sFault sFaultA sWays sMay sMust cTape cNames cHead cSure cN cRow cTried cFor cRoad cFear cCall cUnl cPaid cStep cGain cText iN iRow iFor iRoad iFear iCall iUnl iPaid iStep iGain iText tp) 0 0 := by
  refine CX.of RX0 rfl plain_X0 (Nat.le_of_ble_eq_true rfl) (fun p e s m below meth c A ls X hF hP hD hS hl => ?_)
  have hx := X.1
  have hb := X.2.1
  have hown := X.2.2.2.2.2.1
  have hts := X.2.2.2.2.2.2.1
  have hl : lv_has ls 6 [(0, .ref h), (1, .int x1), (2, .int x2)] := hl
  unfold X_watch at hf
  refine lv_aload_n hx hb dX0_watch_0 rfl (lv_at hl 0 rfl) ?_
  refine lv_iload_n hx hb dX0_watch_1 rfl (lv_at hl 1 rfl) ?_
  obtain ⟨r1, k2, hf⟩ := bd1s hf
  refine xVi (rest := []) X hF (met_X_isLand k2) gw_X0_X0_isLand dy_X0_isLand ⟨⟨rfl, rfl⟩, Nat.le_of_ble_eq_true rfl, Nat.le_of_ble_eq_true rfl⟩ hP hD hS hl.1 rcX rfl rfl ⟨Nat.zero_le _, Nat.zero_le _⟩ (Nat.le_of_ble_eq_true rfl) dX0_watch_2 (fun H locs hP hD hS => ?_)
  refine bq_eq (tgt := 25) hx hb hf dX0_watch_5 (by decide) (fun hf => ?_) (fun hf => ?_)
  · refine lv_iconst (v := (-1)) hx hb dX0_watch_25 (by decide) ?_
    cases hf
    exact rI X hP hD hS dX0_watch_26
  · refine lv_aload_n hx hb dX0_watch_8 rfl (lv_at hl 0 rfl) ?_
    refine lv_iload_n hx hb dX0_watch_9 rfl (lv_at hl 2 rfl) ?_
    obtain ⟨r3, k4, hf⟩ := bd1s hf
    refine xVi (rest := []) X hF (met_X_isLand k4) gw_X0_X0_isLand dy_X0_isLand ⟨⟨rfl, rfl⟩, Nat.le_of_ble_eq_true rfl, Nat.le_of_ble_eq_true rfl⟩ hP hD hS hl.1 rcX rfl rfl ⟨Nat.zero_le _, Nat.zero_le _⟩ (Nat.le_of_ble_eq_true rfl) dX0_watch_10 (fun H locs hP hD hS => ?_)
    refine bq_eq (tgt := 25) hx hb hf dX0_watch_13 (by decide) (fun hf => ?_) (fun hf => ?_)
    · refine lv_iconst (v := (-1)) hx hb dX0_watch_25 (by decide) ?_
      cases hf
      exact rI X hP hD hS dX0_watch_26
    · refine lv_aload_n hx hb dX0_watch_16 rfl (lv_at hl 0 rfl) ?_
      refine lv_iload_n hx hb dX0_watch_17 rfl (lv_at hl 1 rfl) ?_
      refine lv_iload_n hx hb dX0_watch_18 rfl (lv_at hl 2 rfl) ?_
      obtain ⟨r5, k6, hf⟩ := bd1s hf
      refine xVi (rest := []) X hF (met_X_mayGo k6) gw_X0_X0_mayGo dy_X0_mayGo ⟨⟨rfl, rfl⟩, Nat.le_of_ble_eq_true rfl, Nat.le_of_ble_eq_true rfl⟩ hP hD hS hl.1 rcX rfl rfl ⟨Nat.zero_le _, Nat.zero_le _⟩ (Nat.le_of_ble_eq_true rfl) dX0_watch_19 (fun H locs hP hD hS => ?_)
      refine bq_eq (tgt := 27) hx hb hf dX0_watch_22 (by decide) (fun hf => ?_) (fun hf => ?_)
      · refine lv_aload_n hx hb dX0_watch_27 rfl (lv_at hl 0 rfl) ?_
        obtain ⟨r7, k8, hf⟩ := bd1s hf
        refine xVi (rest := []) X hF (met_X_allLands k8) gw_X0_X0_allLands dy_X0_allLands ⟨⟨rfl, rfl⟩, Nat.le_of_ble_eq_true rfl, Nat.le_of_ble_eq_true rfl⟩ hP hD hS hl.1 rcX rfl rfl ⟨Nat.zero_le _, Nat.zero_le _⟩ (Nat.le_of_ble_eq_true rfl) dX0_watch_28 (fun H locs hP hD hS => ?_)
        refine lv_iconst (v := 1) hx hb dX0_watch_31 (by decide) ?_
        refine lv_iload_n hx hb dX0_watch_32 rfl (lv_at hl 1 rfl) ?_
        refine lv_ishl hx hb dX0_watch_33 ?_
        refine lv_iconst (v := 1) hx hb dX0_watch_34 (by decide) ?_
        refine lv_iload_n hx hb dX0_watch_35 rfl (lv_at hl 2 rfl) ?_
        refine lv_ishl hx hb dX0_watch_36 ?_
        refine lv_ior hx hb dX0_watch_37 ?_
        refine lv_iconst (v := (-1)) hx hb dX0_watch_38 (by decide) ?_
        refine lv_ixor hx hb dX0_watch_39 ?_
        refine lv_iand hx hb dX0_watch_40 ?_
        obtain ⟨v9, ev9, hf⟩ := lts hf
        refine tpi ev9 ?_
        refine lv_istore_n (lv' := [(3, .int v9), (0, .ref h), (1, .int x1), (2, .int x2)]) hx hb dX0_watch_41 rfl hl (by decide) rfl (fun ls hl => ?_)
        refine lv_iload_n hx hb dX0_watch_42 rfl (lv_at hl 0 rfl) ?_
        refine lv_istore (lv' := [(4, .int v9), (3, .int v9), (0, .ref h), (1, .int x1), (2, .int x2)]) hx hb dX0_watch_43 hl (by decide) rfl (fun ls hl => ?_)
        refine lv_iload_n hx hb dX0_watch_45 rfl (lv_at hl 1 rfl) ?_
        refine lv_istore (lv' := [(5, .int v9), (4, .int v9), (3, .int v9), (0, .ref h), (1, .int x1), (2, .int x2)]) hx hb dX0_watch_46 hl (by decide) rfl (fun ls hl => ?_)
        obtain ⟨v12, k17, hf⟩ := bd1s hf
        have hE14 : ∀ (H : Heap) (locs : List Loc) (ls : Array Slot), va_P g.1 vwCl (xW g h hn hi ad ra sTaped sFault sFaultA sWays sMay sMust cTape cNames cHead cSure cN cRow cTried cFor cRoad cFear cCall cUnl cPaid cStep cGain cText iN iRow iFor iRoad iFear iCall iUnl iPaid iStep iGain iText tp) H → va_D A (xW g h hn hi ad ra sTaped sFault sFaultA sWays sMay sMust cTape cNames cHead cSure cN cRow cTried cFor cRoad cFear cCall cUnl cPaid cStep cGain cText iN iRow iFor iRoad iFear iCall iUnl iPaid iStep iGain iText tp) → va_S A s.heap H locs → lv_has ls 6 [(4, .int v12)] → W p l e ({ frames := 3, cells := 0, slots := 0, locals := 70 } : Room) s m ([.ref h, .int x1, .int x2] : List Value).toArray below meth c H locs 0 0 (MQ below (QQ g (some (.int r)) (xW g h hn hi ad ra sTaped sFault sFaultA sWays sMay sMust cTape cNames cHead cSure cN cRow cTried cFor cRoad cFear cCall cUnl cPaid cStep cGain cText iN iRow iFor iRoad iFear iCall iUnl iPaid iStep iGain iText tp) A) ([.ref h, .int x1, .int x2] : List Value).toArray s 0 0 A) (F0 m 81 ls []) := by
          intro H locs ls hP hD hS hl
          refine lv_iload hx hb dX0_watch_81 (lv_at hl 0 rfl) ?_
          cases hf
          exact rI X hP hD hS dX0_watch_83
        have hL15 : ∀ (n13 : Nat) (v10 : Int32) (v11 : Int32), X_watch_L48 φ x1 x2 v9 cN cRoad n13 v10 v11 = some v12 → ∀ (H : Heap) (locs : List Loc) (ls : Array Slot), va_P g.1 vwCl (xW g h hn hi ad ra sTaped sFault sFaultA sWays sMay sMust cTape cNames cHead cSure cN cRow cTried cFor cRoad cFear cCall cUnl cPaid cStep cGain cText iN iRow iFor iRoad iFear iCall iUnl iPaid iStep iGain iText tp) H → va_D A (xW g h hn hi ad ra sTaped sFault sFaultA sWays sMay sMust cTape cNames cHead cSure cN cRow cTried cFor cRoad cFear cCall cUnl cPaid cStep cGain cText iN iRow iFor iRoad iFear iCall iUnl iPaid iStep iGain iText tp) → va_S A s.heap H locs → lv_has ls 6 [(0, .ref h), (1, .int x1), (2, .int x2), (3, .int v9), (4, .int v10), (5, .int v11)] → W p l e ({ frames := 3, cells := 0, slots := 0, locals := 70 } : Room) s m ([.ref h, .int x1, .int x2] : List Value).toArray below meth c H locs 0 0 (MQ below (QQ g (some (.int r)) (xW g h hn hi ad ra sTaped sFault sFaultA sWays sMay sMust cTape cNames cHead cSure cN cRow cTried cFor cRoad cFear cCall cUnl cPaid cStep cGain cText iN iRow iFor iRoad iFear iCall iUnl iPaid iStep iGain iText tp) A) ([.ref h, .int x1, .int x2] : List Value).toArray s 0 0 A) (F0 m 48 ls []) := by
          intro n13
          induction n13 with
          | zero =>
            intro v10 v11 hf
            exact nn hf
          | succ n13 ih16 =>
            intro v10 v11 hf H locs ls hP hD hS hl
            rw [X_watch_L48] at hf
            refine lv_iload hx hb dX0_watch_48 (lv_at hl 5 rfl) ?_
            obtain ⟨r18, k19, hf⟩ := bd1s hf
            refine cSi (rest := []) X (met_J_bitCount (g := g) k19) gs_X0_J15_bitCount dy_J15_bitCount ⟨⟨rfl, rfl⟩, Nat.le_of_ble_eq_true rfl, Nat.le_of_ble_eq_true rfl⟩ hP hD hS hl.1 rfl rfl ⟨Nat.zero_le _, Nat.zero_le _⟩ (Nat.le_of_ble_eq_true rfl) dX0_watch_50 (fun H locs hP hD hS => ?_)
            refine lv_iload hx hb dX0_watch_53 (lv_at hl 4 rfl) ?_
            obtain ⟨r20, k21, hf⟩ := bd1s hf
            refine cSi (rest := [.int r18]) X (met_J_bitCount (g := g) k21) gs_X0_J15_bitCount dy_J15_bitCount ⟨⟨rfl, rfl⟩, Nat.le_of_ble_eq_true rfl, Nat.le_of_ble_eq_true rfl⟩ hP hD hS hl.1 rfl rfl ⟨Nat.zero_le _, Nat.zero_le _⟩ (Nat.le_of_ble_eq_true rfl) dX0_watch_55 (fun H locs hP hD hS => ?_)
            obtain ⟨v22, k23, hf⟩ := bd1s hf
            have hj24 : ∀ (H : Heap) (locs : List Loc) (ls : Array Slot), va_P g.1 vwCl (xW g h hn hi ad ra sTaped sFault sFaultA sWays sMay sMust cTape cNames cHead cSure cN cRow cTried cFor cRoad cFear cCall cUnl cPaid cStep cGain cText iN iRow iFor iRoad iFear iCall iUnl iPaid iStep iGain iText tp) H → va_D A (xW g h hn hi ad ra sTaped sFault sFaultA sWays sMay sMust cTape cNames cHead cSure cN cRow cTried cFor cRoad cFear cCall cUnl cPaid cStep cGain cText iN iRow iFor iRoad iFear iCall iUnl iPaid iStep iGain iText tp) → va_S A s.heap H locs → lv_has ls 6 [(0, .ref h), (1, .int x1), (2, .int x2), (3, .int v9), (4, .int v22), (5, .int v11)] → W p l e ({ frames := 3, cells := 0, slots := 0, locals := 70 } : Room) s m ([.ref h, .int x1, .int x2] : List Value).toArray below meth c H locs 0 0 (MQ below (QQ g (some (.int r)) (xW g h hn hi ad ra sTaped sFault sFaultA sWays sMay sMust cTape cNames cHead cSure cN cRow cTried cFor cRoad cFear cCall cUnl cPaid cStep cGain cText iN iRow iFor iRoad iFear iCall iUnl iPaid iStep iGain iText tp) A) ([.ref h, .int x1, .int x2] : List Value).toArray s 0 0 A) (F0 m 76 ls []) := by
              intro H locs ls hP hD hS hl
              refine lv_iload hx hb dX0_watch_76 (lv_at hl 5 rfl) ?_
              refine bq_ne (tgt := 84) hx hb hf dX0_watch_78 (by decide) (fun hf => ?_) (fun hf => ?_)
              · refine lv_iload hx hb dX0_watch_84 (lv_at hl 5 rfl) ?_
                refine lv_iconst (v := 1) hx hb dX0_watch_86 (by decide) ?_
                refine lv_isub hx hb dX0_watch_87 ?_
                refine lv_iload_n hx hb dX0_watch_88 rfl (lv_at hl 3 rfl) ?_
                refine lv_iand hx hb dX0_watch_89 ?_
                obtain ⟨v25, ev25, hf⟩ := lts hf
                refine tpi ev25 ?_
                refine lv_istore (lv' := [(5, .int v25), (0, .ref h), (1, .int x1), (2, .int x2), (3, .int v9), (4, .int v22)]) hx hb dX0_watch_90 hl (by decide) rfl (fun ls hl => ?_)
                refine lv_goto (tgt := 48) hx hb dX0_watch_92 (by decide) ?_
                exact ih16 _ _ hf _ _ _ hP hD hS (lv_sub hl [1, 2, 3, 4, 5, 0] rfl)
              · cases hf
                exact hE14 _ _ _ hP hD hS (lv_sub hl [4] rfl)
            replace hf := k23
            clear k23
            refine bc_gt (tgt := 76) hx hb hf dX0_watch_58 (by decide) (fun hf => ?_) (fun hf => ?_)
            · cases hf
              exact hj24 _ _ _ hP hD hS (lv_sub hl [0, 1, 2, 3, 4, 5] rfl)
            · refine lv_aload_n hx hb dX0_watch_61 rfl (lv_at hl 0 rfl) ?_
              refine lv_iload_n hx hb dX0_watch_62 rfl (lv_at hl 1 rfl) ?_
              refine lv_iload_n hx hb dX0_watch_63 rfl (lv_at hl 2 rfl) ?_
              refine lv_iload hx hb dX0_watch_64 (lv_at hl 5 rfl) ?_
              obtain ⟨r26, k27, hf⟩ := bd1s hf
              refine xVi (rest := []) X hF (met_X_isCut k27) gw_X0_X0_isCut dy_X0_isCut ⟨⟨rfl, rfl⟩, Nat.le_of_ble_eq_true rfl, Nat.le_of_ble_eq_true rfl⟩ hP hD hS hl.1 rcX rfl rfl ⟨Nat.zero_le _, Nat.zero_le _⟩ (Nat.le_of_ble_eq_true rfl) dX0_watch_66 (fun H locs hP hD hS => ?_)
              refine bq_eq (tgt := 76) hx hb hf dX0_watch_69 (by decide) (fun hf => ?_) (fun hf => ?_)
              · cases hf
                exact hj24 _ _ _ hP hD hS (lv_sub hl [0, 1, 2, 3, 4, 5] rfl)
              · refine lv_iload hx hb dX0_watch_72 (lv_at hl 5 rfl) ?_
                refine lv_istore (lv' := [(4, .int v11), (0, .ref h), (1, .int x1), (2, .int x2), (3, .int v9), (5, .int v11)]) hx hb dX0_watch_74 hl (by decide) rfl (fun ls hl => ?_)
                cases hf
                exact hj24 _ _ _ hP hD hS (lv_sub hl [1, 2, 3, 4, 0, 5] rfl)
        exact hL15 _ _ _ k17 _ _ _ hP hD hS (lv_sub hl [3, 4, 5, 2, 1, 0] rfl)
      · refine lv_iconst (v := (-1)) hx hb dX0_watch_25 (by decide) ?_
        cases hf
        exact rI X hP hD hS dX0_watch_26
set_option maxHeartbeats 4000000 in
theorem met_X_borders {l : Launch} {g : gG} {h hn hi : Nat} {ad : Nat → Nat} {ra : Nat → Nat → Nat} {z : Nat → Nat} {sTaped : Int32} {sFault : Int32} {sFaultA : Int32} {sWays : Int32} {sMay : Int32} {sMust : Int32} {cTape : Nat → Int32} {cNames : Nat → Int32} {cHead : Nat → Int32} {cSure : Nat → Nat → Int32} {cN : Nat → Int32} {cRow : Nat → Int32} {cTried : Nat → Int32} {cFor : Nat → Int32} {cRoad : Nat → Int32} {cFear : Nat → Int32} {cCall : Nat → Int32} {cUnl : Nat → Int32} {cPaid : Nat → Nat → Int32} {cStep : Nat → Nat → Int32} {cGain : Nat → Nat → Int32} {cText : Nat → Option Nat} {iN : Nat → Int32} {iRow : Nat → Int32} {iFor : Nat → Int32} {iRoad : Nat → Int32} {iFear : Nat → Int32} {iCall : Nat → Int32} {iUnl : Nat → Int32} {iPaid : Nat → Nat → Int32} {iStep : Nat → Nat → Int32} {iGain : Nat → Nat → Int32} {iText : Nat → Option Nat} {tp : va_W} {x1 : Int32} {r : Int32} {ncN : Nat → Int32} (hf : X_borders cN x1 = some (r, ncN)) : CX l yX0_borders (ws_ yX0_borders cX0_borders 2 (some .boolean)) ({ frames := 1, cells := 0, slots := 0, locals := 22 } : Room) g z [.ref h, .int x1] (xW g h hn hi ad ra sTaped sFault sFaultA sWays sMay sMust cTape cNames cHead cSure cN cRow cTried cFor cRoad cFear cCall cUnl cPaid cStep cGain cText iN iRow iFor iRoad iFear iCall iUnl iPaid iStep iGain iText tp) (some (.int r)) (xW g h hn hi ad ra sTaped sFault sFaultA sWays sMay sMust cTape cNames cHead cSure ncN cRow cTried cFor cRoad cFear cCall cUnl cPaid cStep cGain cText iN iRow iFor iRoad iFear iCall iUnl iPaid iStep iGain iText tp) 0 0 := by
  refine CX.of RX0 rfl plain_X0 (Nat.le_of_ble_eq_true rfl) (fun p e s m below meth c A ls X hF hP hD hS hl => ?_)
  have hx := X.1
  have hb := X.2.1
  have hown := X.2.2.2.2.2.1
  have hts := X.2.2.2.2.2.2.1
  have hl : lv_has ls 2 [(0, .ref h), (1, .int x1)] := hl
  unfold X_borders at hf
  refine lv_iload_n hx hb dX0_borders_0 rfl (lv_at hl 1 rfl) ?_
  refine lv_iconst (v := 0) hx hb dX0_borders_1 (by decide) ?_
  refine lv_sipush (v := 255) hx hb dX0_borders_2 (by decide) ?_
  obtain ⟨r1, k2, hf⟩ := bd1s hf
  refine cSi (rest := []) X (met_X_in (g := g) k2) gs_X0_X0_in dy_X0_in ⟨⟨rfl, rfl⟩, Nat.le_of_ble_eq_true rfl, Nat.le_of_ble_eq_true rfl⟩ hP hD hS hl.1 rfl rfl ⟨Nat.zero_le _, Nat.zero_le _⟩ (Nat.le_of_ble_eq_true rfl) dX0_borders_5 (fun H locs hP hD hS => ?_)
  refine bq_ne (tgt := 13) hx hb hf dX0_borders_8 (by decide) (fun hf => ?_) (fun hf => ?_)
  · refine lv_aload_n hx hb dX0_borders_13 rfl (lv_at hl 0 rfl) ?_
    refine gX_X0_this_now X hP dX0_borders_14 ?_
    refine gX_X0_now_n X hF hP dX0_borders_17 ?_
    refine lv_bipush (v := 9) hx hb dX0_borders_20 (by decide) ?_
    refine lv_iload_n hx hb dX0_borders_22 rfl (lv_at hl 1 rfl) ?_
    obtain ⟨c3, ec3, bc3, hf⟩ := wrs hf
    refine sX_cN X hP hD hS ec3 bc3 dX0_borders_23 (fun H locs hP hD hS => ?_)
    refine lv_iconst (v := 1) hx hb dX0_borders_24 (by decide) ?_
    cases hf
    exact rZ X rfl hP hD hS dX0_borders_25
  · refine lv_iconst (v := 0) hx hb dX0_borders_11 (by decide) ?_
    cases hf
    exact rZ X rfl hP hD hS dX0_borders_12
set_option maxHeartbeats 4000000 in
theorem met_X_toBorder {l : Launch} {g : gG} {h hn hi : Nat} {ad : Nat → Nat} {ra : Nat → Nat → Nat} {z : Nat → Nat} {sTaped : Int32} {sFault : Int32} {sFaultA : Int32} {sWays : Int32} {sMay : Int32} {sMust : Int32} {cTape : Nat → Int32} {cNames : Nat → Int32} {cHead : Nat → Int32} {cSure : Nat → Nat → Int32} {cN : Nat → Int32} {cRow : Nat → Int32} {cTried : Nat → Int32} {cFor : Nat → Int32} {cRoad : Nat → Int32} {cFear : Nat → Int32} {cCall : Nat → Int32} {cUnl : Nat → Int32} {cPaid : Nat → Nat → Int32} {cStep : Nat → Nat → Int32} {cGain : Nat → Nat → Int32} {cText : Nat → Option Nat} {iN : Nat → Int32} {iRow : Nat → Int32} {iFor : Nat → Int32} {iRoad : Nat → Int32} {iFear : Nat → Int32} {iCall : Nat → Int32} {iUnl : Nat → Int32} {iPaid : Nat → Nat → Int32} {iStep : Nat → Nat → Int32} {iGain : Nat → Nat → Int32} {iText : Nat → Option Nat} {tp : va_W} {x1 : Int32} {r : Int32} {φ : Nat} (hf : X_toBorder φ cN cRoad x1 = some r) : CX l yX0_toBorder (ws_ yX0_toBorder cX0_toBorder 2 (some .int)) ({ frames := 3, cells := 0, slots := 0, locals := 69 } : Room) g z [.ref h, .int x1] (xW g h hn hi ad ra sTaped sFault sFaultA sWays sMay sMust cTape cNames cHead cSure cN cRow cTried cFor cRoad cFear cCall cUnl cPaid cStep cGain cText iN iRow iFor iRoad iFear iCall iUnl iPaid iStep iGain iText tp) (some (.int r)) (xW g h hn hi ad ra sTaped sFault sFaultA sWays sMay sMust cTape cNames cHead cSure cN cRow cTried cFor cRoad cFear cCall cUnl cPaid cStep cGain cText iN iRow iFor iRoad iFear iCall iUnl iPaid iStep iGain iText tp) 0 0 := by
  refine CX.of RX0 rfl plain_X0 (Nat.le_of_ble_eq_true rfl) (fun p e s m below meth c A ls X hF hP hD hS hl => ?_)
  have hx := X.1
  have hb := X.2.1
  have hown := X.2.2.2.2.2.1
  have hts := X.2.2.2.2.2.2.1
  have hl : lv_has ls 2 [(0, .ref h), (1, .int x1)] := hl
  unfold X_toBorder at hf
  refine lv_aload_n hx hb dX0_toBorder_0 rfl (lv_at hl 0 rfl) ?_
  refine lv_iload_n hx hb dX0_toBorder_1 rfl (lv_at hl 1 rfl) ?_
  obtain ⟨r1, k2, hf⟩ := bd1s hf
  refine xVi (rest := []) X hF (met_X_isLand k2) gw_X0_X0_isLand dy_X0_isLand ⟨⟨rfl, rfl⟩, Nat.le_of_ble_eq_true rfl, Nat.le_of_ble_eq_true rfl⟩ hP hD hS hl.1 rcX rfl rfl ⟨Nat.zero_le _, Nat.zero_le _⟩ (Nat.le_of_ble_eq_true rfl) dX0_toBorder_2 (fun H locs hP hD hS => ?_)
  refine bq_eq (tgt := 31) hx hb hf dX0_toBorder_5 (by decide) (fun hf => ?_) (fun hf => ?_)
  · refine lv_iconst (v := (-1)) hx hb dX0_toBorder_31 (by decide) ?_
    cases hf
    exact rI X hP hD hS dX0_toBorder_32
  · refine lv_aload_n hx hb dX0_toBorder_8 rfl (lv_at hl 0 rfl) ?_
    refine lv_iload_n hx hb dX0_toBorder_9 rfl (lv_at hl 1 rfl) ?_
    refine lv_aload_n hx hb dX0_toBorder_10 rfl (lv_at hl 0 rfl) ?_
    refine gX_X0_this_now X hP dX0_toBorder_11 ?_
    refine gX_X0_now_n X hF hP dX0_toBorder_14 ?_
    refine lv_bipush (v := 9) hx hb dX0_toBorder_17 (by decide) ?_
    obtain ⟨v3, ev3, bv3, hf⟩ := rds hf
    refine lX_cN X hP ev3 bv3 dX0_toBorder_19 ?_
    refine lv_aload_n hx hb dX0_toBorder_20 rfl (lv_at hl 0 rfl) ?_
    obtain ⟨r4, k5, hf⟩ := bd1s hf
    refine xVi (rest := [.int v3, .int x1, .ref h]) X hF (met_X_allLands k5) gw_X0_X0_allLands dy_X0_allLands ⟨⟨rfl, rfl⟩, Nat.le_of_ble_eq_true rfl, Nat.le_of_ble_eq_true rfl⟩ hP hD hS hl.1 rcX rfl rfl ⟨Nat.zero_le _, Nat.zero_le _⟩ (Nat.le_of_ble_eq_true rfl) dX0_toBorder_21 (fun H locs hP hD hS => ?_)
    refine lv_iand hx hb dX0_toBorder_24 ?_
    obtain ⟨r6, k7, hf⟩ := bd1s hf
    refine xVi (rest := []) X hF (met_X_stepsTo k7) gw_X0_X0_stepsTo dy_X0_stepsTo ⟨⟨rfl, rfl⟩, Nat.le_of_ble_eq_true rfl, Nat.le_of_ble_eq_true rfl⟩ hP hD hS hl.1 rcX rfl rfl ⟨Nat.zero_le _, Nat.zero_le _⟩ (Nat.le_of_ble_eq_true rfl) dX0_toBorder_25 (fun H locs hP hD hS => ?_)
    refine lv_goto (tgt := 32) hx hb dX0_toBorder_28 (by decide) ?_
    cases hf
    exact rI X hP hD hS dX0_toBorder_32
set_option maxHeartbeats 4000000 in
theorem met_X_reports {l : Launch} {g : gG} {h hn hi : Nat} {ad : Nat → Nat} {ra : Nat → Nat → Nat} {z : Nat → Nat} {sTaped : Int32} {sFault : Int32} {sFaultA : Int32} {sWays : Int32} {sMay : Int32} {sMust : Int32} {cTape : Nat → Int32} {cNames : Nat → Int32} {cHead : Nat → Int32} {cSure : Nat → Nat → Int32} {cN : Nat → Int32} {cRow : Nat → Int32} {cTried : Nat → Int32} {cFor : Nat → Int32} {cRoad : Nat → Int32} {cFear : Nat → Int32} {cCall : Nat → Int32} {cUnl : Nat → Int32} {cPaid : Nat → Nat → Int32} {cStep : Nat → Nat → Int32} {cGain : Nat → Nat → Int32} {cText : Nat → Option Nat} {iN : Nat → Int32} {iRow : Nat → Int32} {iFor : Nat → Int32} {iRoad : Nat → Int32} {iFear : Nat → Int32} {iCall : Nat → Int32} {iUnl : Nat → Int32} {iPaid : Nat → Nat → Int32} {iStep : Nat → Nat → Int32} {iGain : Nat → Nat → Int32} {iText : Nat → Option Nat} {tp : va_W} {x1 : Int32} {r : Int32} {ncN : Nat → Int32} {ncUnl : Nat → Int32} (hf : X_reports cN cUnl x1 = some (r, ncN, ncUnl)) : CX l yX0_reports (ws_ yX0_reports cX0_reports 2 (some .boolean)) ({ frames := 1, cells := 0, slots := 0, locals := 23 } : Room) g z [.ref h, .int x1] (xW g h hn hi ad ra sTaped sFault sFaultA sWays sMay sMust cTape cNames cHead cSure cN cRow cTried cFor cRoad cFear cCall cUnl cPaid cStep cGain cText iN iRow iFor iRoad iFear iCall iUnl iPaid iStep iGain iText tp) (some (.int r)) (xW g h hn hi ad ra sTaped sFault sFaultA sWays sMay sMust cTape cNames cHead cSure ncN cRow cTried cFor cRoad cFear cCall ncUnl cPaid cStep cGain cText iN iRow iFor iRoad iFear iCall iUnl iPaid iStep iGain iText tp) 0 0 := by
  refine CX.of RX0 rfl plain_X0 (Nat.le_of_ble_eq_true rfl) (fun p e s m below meth c A ls X hF hP hD hS hl => ?_)
  have hx := X.1
  have hb := X.2.1
  have hown := X.2.2.2.2.2.1
  have hts := X.2.2.2.2.2.2.1
  have hl : lv_has ls 2 [(0, .ref h), (1, .int x1)] := hl
  unfold X_reports at hf
  refine lv_iload_n hx hb dX0_reports_0 rfl (lv_at hl 1 rfl) ?_
  refine lv_iconst (v := 0) hx hb dX0_reports_1 (by decide) ?_
  refine lv_bipush (v := 8) hx hb dX0_reports_2 (by decide) ?_
  obtain ⟨r1, k2, hf⟩ := bd1s hf
  refine cSi (rest := []) X (met_X_in (g := g) k2) gs_X0_X0_in dy_X0_in ⟨⟨rfl, rfl⟩, Nat.le_of_ble_eq_true rfl, Nat.le_of_ble_eq_true rfl⟩ hP hD hS hl.1 rfl rfl ⟨Nat.zero_le _, Nat.zero_le _⟩ (Nat.le_of_ble_eq_true rfl) dX0_reports_4 (fun H locs hP hD hS => ?_)
  refine bq_ne (tgt := 12) hx hb hf dX0_reports_7 (by decide) (fun hf => ?_) (fun hf => ?_)
  · refine lv_aload_n hx hb dX0_reports_12 rfl (lv_at hl 0 rfl) ?_
    refine gX_X0_this_now X hP dX0_reports_13 ?_
    refine gX_X0_now_n X hF hP dX0_reports_16 ?_
    refine lv_bipush (v := 6) hx hb dX0_reports_19 (by decide) ?_
    refine lv_iload_n hx hb dX0_reports_21 rfl (lv_at hl 1 rfl) ?_
    obtain ⟨c3, ec3, bc3, hf⟩ := wrs hf
    refine sX_cN X hP hD hS ec3 bc3 dX0_reports_22 (fun H locs hP hD hS => ?_)
    refine lv_aload_n hx hb dX0_reports_23 rfl (lv_at hl 0 rfl) ?_
    refine gX_X0_this_now X hP dX0_reports_24 ?_
    refine gX_X0_now_n X hF hP dX0_reports_27 ?_
    refine lv_bipush (v := 7) hx hb dX0_reports_30 (by decide) ?_
    refine lv_iconst (v := 0) hx hb dX0_reports_32 (by decide) ?_
    obtain ⟨c4, ec4, bc4, hf⟩ := wrs hf
    refine sX_cN X hP hD hS ec4 bc4 dX0_reports_33 (fun H locs hP hD hS => ?_)
    refine lv_aload_n hx hb dX0_reports_34 rfl (lv_at hl 0 rfl) ?_
    refine gX_X0_this_now X hP dX0_reports_35 ?_
    refine gX_X0_now_unlike X hF hP dX0_reports_38 ?_
    refine lv_iconst (v := 0) hx hb dX0_reports_41 (by decide) ?_
    obtain ⟨c5, ec5, hf⟩ := lts hf
    refine cFill X q1235 hl.1 hP hD hS xat_cUnl (Nat.le_of_ble_eq_true rfl) (xset_cUnl ec5) ⟨Nat.le_of_ble_eq_true rfl, Nat.le_of_ble_eq_true rfl⟩ ⟨Nat.zero_le _, Nat.zero_le _⟩ (Nat.le_of_ble_eq_true rfl) dX0_reports_42 (fun H locs hP hD hS => ?_)
    refine lv_iconst (v := 1) hx hb dX0_reports_45 (by decide) ?_
    cases hf
    exact rZ X rfl hP hD hS dX0_reports_46
  · refine lv_iconst (v := 0) hx hb dX0_reports_10 (by decide) ?_
    cases hf
    exact rZ X rfl hP hD hS dX0_reports_11
set_option maxHeartbeats 4000000 in
theorem met_X_isReport {l : Launch} {g : gG} {h hn hi : Nat} {ad : Nat → Nat} {ra : Nat → Nat → Nat} {z : Nat → Nat} {sTaped : Int32} {sFault : Int32} {sFaultA : Int32} {sWays : Int32} {sMay : Int32} {sMust : Int32} {cTape : Nat → Int32} {cNames : Nat → Int32} {cHead : Nat → Int32} {cSure : Nat → Nat → Int32} {cN : Nat → Int32} {cRow : Nat → Int32} {cTried : Nat → Int32} {cFor : Nat → Int32} {cRoad : Nat → Int32} {cFear : Nat → Int32} {cCall : Nat → Int32} {cUnl : Nat → Int32} {cPaid : Nat → Nat → Int32} {cStep : Nat → Nat → Int32} {cGain : Nat → Nat → Int32} {cText : Nat → Option Nat} {iN : Nat → Int32} {iRow : Nat → Int32} {iFor : Nat → Int32} {iRoad : Nat → Int32} {iFear : Nat → Int32} {iCall : Nat → Int32} {iUnl : Nat → Int32} {iPaid : Nat → Nat → Int32} {iStep : Nat → Nat → Int32} {iGain : Nat → Nat → Int32} {iText : Nat → Option Nat} {tp : va_W} {x1 : Int32} {r : Int32} (hf : X_isReport cN x1 = some r) : CX l yX0_isReport (ws_ yX0_isReport cX0_isReport 2 (some .boolean)) ({ frames := 1, cells := 0, slots := 0, locals := 22 } : Room) g z [.ref h, .int x1] (xW g h hn hi ad ra sTaped sFault sFaultA sWays sMay sMust cTape cNames cHead cSure cN cRow cTried cFor cRoad cFear cCall cUnl cPaid cStep cGain cText iN iRow iFor iRoad iFear iCall iUnl iPaid iStep iGain iText tp) (some (.int r)) (xW g h hn hi ad ra sTaped sFault sFaultA sWays sMay sMust cTape cNames cHead cSure cN cRow cTried cFor cRoad cFear cCall cUnl cPaid cStep cGain cText iN iRow iFor iRoad iFear iCall iUnl iPaid iStep iGain iText tp) 0 0 := by
  refine CX.of RX0 rfl plain_X0 (Nat.le_of_ble_eq_true rfl) (fun p e s m below meth c A ls X hF hP hD hS hl => ?_)
  have hx := X.1
  have hb := X.2.1
  have hown := X.2.2.2.2.2.1
  have hts := X.2.2.2.2.2.2.1
  have hl : lv_has ls 2 [(0, .ref h), (1, .int x1)] := hl
  unfold X_isReport at hf
  refine lv_iload_n hx hb dX0_isReport_0 rfl (lv_at hl 1 rfl) ?_
  refine lv_iconst (v := 0) hx hb dX0_isReport_1 (by decide) ?_
  refine lv_aload_n hx hb dX0_isReport_2 rfl (lv_at hl 0 rfl) ?_
  refine gX_X0_this_now X hP dX0_isReport_3 ?_
  refine gX_X0_now_n X hF hP dX0_isReport_6 ?_
  refine lv_bipush (v := 6) hx hb dX0_isReport_9 (by decide) ?_
  obtain ⟨v1, ev1, bv1, hf⟩ := rds hf
  refine lX_cN X hP ev1 bv1 dX0_isReport_11 ?_
  refine lv_iconst (v := 1) hx hb dX0_isReport_12 (by decide) ?_
  refine lv_isub hx hb dX0_isReport_13 ?_
  obtain ⟨r2, k3, hf⟩ := bd1s hf
  refine cSi (rest := []) X (met_X_in (g := g) k3) gs_X0_X0_in dy_X0_in ⟨⟨rfl, rfl⟩, Nat.le_of_ble_eq_true rfl, Nat.le_of_ble_eq_true rfl⟩ hP hD hS hl.1 rfl rfl ⟨Nat.zero_le _, Nat.zero_le _⟩ (Nat.le_of_ble_eq_true rfl) dX0_isReport_14 (fun H locs hP hD hS => ?_)
  obtain ⟨hz, hf⟩ := zks hf
  cases hf
  exact rZ X hz hP hD hS dX0_isReport_17
theorem gw_X0_X0_isReport : GoodIn lw_all (wsV RX0 387 RX0 yX0_isReport (ws_ yX0_isReport cX0_isReport 2 (some .boolean))) := lw_V q1323 q1325 qs60 q145 q1326
theorem dy_X0_isReport : Dy yX0_isReport RX0 1 := by decide +kernel
set_option maxHeartbeats 4000000 in
theorem met_X_unlike {l : Launch} {g : gG} {h hn hi : Nat} {ad : Nat → Nat} {ra : Nat → Nat → Nat} {z : Nat → Nat} {sTaped : Int32} {sFault : Int32} {sFaultA : Int32} {sWays : Int32} {sMay : Int32} {sMust : Int32} {cTape : Nat → Int32} {cNames : Nat → Int32} {cHead : Nat → Int32} {cSure : Nat → Nat → Int32} {cN : Nat → Int32} {cRow : Nat → Int32} {cTried : Nat → Int32} {cFor : Nat → Int32} {cRoad : Nat → Int32} {cFear : Nat → Int32} {cCall : Nat → Int32} {cUnl : Nat → Int32} {cPaid : Nat → Nat → Int32} {cStep : Nat → Nat → Int32} {cGain : Nat → Nat → Int32} {cText : Nat → Option Nat} {iN : Nat → Int32} {iRow : Nat → Int32} {iFor : Nat → Int32} {iRoad : Nat → Int32} {iFear : Nat → Int32} {iCall : Nat → Int32} {iUnl : Nat → Int32} {iPaid : Nat → Nat → Int32} {iStep : Nat → Nat → Int32} {iGain : Nat → Nat → Int32} {iText : Nat → Option Nat} {tp : va_W} {x1 : Int32} {x2 : Int32} {r : Int32} {ncN : Nat → Int32} {ncUnl : Nat → Int32} (hf : X_unlike cN cUnl x1 x2 = some (r, ncN, ncUnl)) : CX l yX0_unlike (ws_ yX0_unlike cX0_unlike 3 (some .int)) ({ frames := 2, cells := 0, slots := 0, locals := 43 } : Room) g z [.ref h, .int x1, .int x2] (xW g h hn hi ad ra sTaped sFault sFaultA sWays sMay sMust cTape cNames cHead cSure cN cRow cTried cFor cRoad cFear cCall cUnl cPaid cStep cGain cText iN iRow iFor iRoad iFear iCall iUnl iPaid iStep iGain iText tp) (some (.int r)) (xW g h hn hi ad ra sTaped sFault sFaultA sWays sMay sMust cTape cNames cHead cSure ncN cRow cTried cFor cRoad cFear cCall ncUnl cPaid cStep cGain cText iN iRow iFor iRoad iFear iCall iUnl iPaid iStep iGain iText tp) 0 0 := by
  refine CX.of RX0 rfl plain_X0 (Nat.le_of_ble_eq_true rfl) (fun p e s m below meth c A ls X hF hP hD hS hl => ?_)
  have hx := X.1
  have hb := X.2.1
  have hown := X.2.2.2.2.2.1
  have hts := X.2.2.2.2.2.2.1
  have hl : lv_has ls 3 [(0, .ref h), (1, .int x1), (2, .int x2)] := hl
  unfold X_unlike at hf
  refine lv_aload_n hx hb dX0_unlike_0 rfl (lv_at hl 0 rfl) ?_
  refine lv_iload_n hx hb dX0_unlike_1 rfl (lv_at hl 1 rfl) ?_
  obtain ⟨r1, k2, hf⟩ := bd1s hf
  refine xVi (rest := []) X hF (met_X_isReport k2) gw_X0_X0_isReport dy_X0_isReport ⟨⟨rfl, rfl⟩, Nat.le_of_ble_eq_true rfl, Nat.le_of_ble_eq_true rfl⟩ hP hD hS hl.1 rcX rfl rfl ⟨Nat.zero_le _, Nat.zero_le _⟩ (Nat.le_of_ble_eq_true rfl) dX0_unlike_2 (fun H locs hP hD hS => ?_)
  refine bq_eq (tgt := 36) hx hb hf dX0_unlike_5 (by decide) (fun hf => ?_) (fun hf => ?_)
  · refine lv_bipush (v := (-2)) hx hb dX0_unlike_36 (by decide) ?_
    cases hf
    exact rI X hP hD hS dX0_unlike_38
  · refine lv_aload_n hx hb dX0_unlike_8 rfl (lv_at hl 0 rfl) ?_
    refine lv_iload_n hx hb dX0_unlike_9 rfl (lv_at hl 2 rfl) ?_
    obtain ⟨r3, k4, hf⟩ := bd1s hf
    refine xVi (rest := []) X hF (met_X_isReport k4) gw_X0_X0_isReport dy_X0_isReport ⟨⟨rfl, rfl⟩, Nat.le_of_ble_eq_true rfl, Nat.le_of_ble_eq_true rfl⟩ hP hD hS hl.1 rcX rfl rfl ⟨Nat.zero_le _, Nat.zero_le _⟩ (Nat.le_of_ble_eq_true rfl) dX0_unlike_10 (fun H locs hP hD hS => ?_)
    refine bq_eq (tgt := 36) hx hb hf dX0_unlike_13 (by decide) (fun hf => ?_) (fun hf => ?_)
    · refine lv_bipush (v := (-2)) hx hb dX0_unlike_36 (by decide) ?_
      cases hf
      exact rI X hP hD hS dX0_unlike_38
    · refine lv_iload_n hx hb dX0_unlike_16 rfl (lv_at hl 1 rfl) ?_
      refine lv_iload_n hx hb dX0_unlike_17 rfl (lv_at hl 2 rfl) ?_
      refine bc_eq (tgt := 36) hx hb hf dX0_unlike_18 (by decide) (fun hf => ?_) (fun hf => ?_)
      · refine lv_bipush (v := (-2)) hx hb dX0_unlike_36 (by decide) ?_
        cases hf
        exact rI X hP hD hS dX0_unlike_38
      · refine lv_aload_n hx hb dX0_unlike_21 rfl (lv_at hl 0 rfl) ?_
        refine gX_X0_this_now X hP dX0_unlike_22 ?_
        refine gX_X0_now_n X hF hP dX0_unlike_25 ?_
        refine lv_bipush (v := 7) hx hb dX0_unlike_28 (by decide) ?_
        obtain ⟨v5, ev5, bv5, hf⟩ := rds hf
        refine lX_cN X hP ev5 bv5 dX0_unlike_30 ?_
        refine lv_bipush (v := 8) hx hb dX0_unlike_31 (by decide) ?_
        refine bc_ne (tgt := 39) hx hb hf dX0_unlike_33 (by decide) (fun hf => ?_) (fun hf => ?_)
        · refine lv_aload_n hx hb dX0_unlike_39 rfl (lv_at hl 0 rfl) ?_
          refine gX_X0_this_now X hP dX0_unlike_40 ?_
          refine gX_X0_now_unlike X hF hP dX0_unlike_43 ?_
          refine lv_iload_n hx hb dX0_unlike_46 rfl (lv_at hl 1 rfl) ?_
          refine lv_dup2_11 hx hb dX0_unlike_47 rfl rfl ?_
          obtain ⟨v6, ev6, bv6, hf⟩ := rds hf
          refine lX_cUnl X hP ev6 bv6 dX0_unlike_48 ?_
          refine lv_iconst (v := 1) hx hb dX0_unlike_49 (by decide) ?_
          refine lv_iload_n hx hb dX0_unlike_50 rfl (lv_at hl 2 rfl) ?_
          refine lv_ishl hx hb dX0_unlike_51 ?_
          refine lv_ior hx hb dX0_unlike_52 ?_
          obtain ⟨v7, ev7, hf⟩ := lts hf
          refine tpi ev7 ?_
          obtain ⟨c8, ec8, bc8, hf⟩ := wrs hf
          refine sX_cUnl X hP hD hS ec8 bc8 dX0_unlike_53 (fun H locs hP hD hS => ?_)
          refine lv_aload_n hx hb dX0_unlike_54 rfl (lv_at hl 0 rfl) ?_
          refine gX_X0_this_now X hP dX0_unlike_55 ?_
          refine gX_X0_now_unlike X hF hP dX0_unlike_58 ?_
          refine lv_iload_n hx hb dX0_unlike_61 rfl (lv_at hl 2 rfl) ?_
          refine lv_dup2_11 hx hb dX0_unlike_62 rfl rfl ?_
          obtain ⟨v9, ev9, bv9, hf⟩ := rds hf
          refine lX_cUnl X hP ev9 bv9 dX0_unlike_63 ?_
          refine lv_iconst (v := 1) hx hb dX0_unlike_64 (by decide) ?_
          refine lv_iload_n hx hb dX0_unlike_65 rfl (lv_at hl 1 rfl) ?_
          refine lv_ishl hx hb dX0_unlike_66 ?_
          refine lv_ior hx hb dX0_unlike_67 ?_
          obtain ⟨v10, ev10, hf⟩ := lts hf
          refine tpi ev10 ?_
          obtain ⟨c11, ec11, bc11, hf⟩ := wrs hf
          refine sX_cUnl X hP hD hS ec11 bc11 dX0_unlike_68 (fun H locs hP hD hS => ?_)
          refine lv_aload_n hx hb dX0_unlike_69 rfl (lv_at hl 0 rfl) ?_
          refine gX_X0_this_now X hP dX0_unlike_70 ?_
          refine gX_X0_now_n X hF hP dX0_unlike_73 ?_
          refine lv_bipush (v := 7) hx hb dX0_unlike_76 (by decide) ?_
          refine lv_dup2_11 hx hb dX0_unlike_78 rfl rfl ?_
          obtain ⟨v12, ev12, bv12, hf⟩ := rds hf
          refine lX_cN X hP ev12 bv12 dX0_unlike_79 ?_
          refine lv_iconst (v := 1) hx hb dX0_unlike_80 (by decide) ?_
          refine lv_iadd hx hb dX0_unlike_81 ?_
          obtain ⟨v13, ev13, hf⟩ := lts hf
          refine tpi ev13 ?_
          obtain ⟨c14, ec14, bc14, hf⟩ := wrs hf
          refine sX_cN X hP hD hS ec14 bc14 dX0_unlike_82 (fun H locs hP hD hS => ?_)
          refine lv_aload_n hx hb dX0_unlike_83 rfl (lv_at hl 0 rfl) ?_
          refine gX_X0_this_now X hP dX0_unlike_84 ?_
          refine gX_X0_now_n X hF hP dX0_unlike_87 ?_
          refine lv_bipush (v := 7) hx hb dX0_unlike_90 (by decide) ?_
          obtain ⟨v15, ev15, bv15, hf⟩ := rds hf
          refine lX_cN X hP ev15 bv15 dX0_unlike_92 ?_
          cases hf
          exact rI X hP hD hS dX0_unlike_93
        · refine lv_bipush (v := (-2)) hx hb dX0_unlike_36 (by decide) ?_
          cases hf
          exact rI X hP hD hS dX0_unlike_38
theorem gw_X0_X0_areOf : GoodIn lw_all (wsV RX0 390 RX0 yX0_areOf (ws_ yX0_areOf cX0_areOf 6 (some .boolean))) := lw_V q1331 q1333 qs61 q145 q1334
theorem dy_X0_areOf : Dy yX0_areOf RX0 2 := by decide +kernel
set_option maxHeartbeats 4000000 in
theorem met_X_areOf {l : Launch} {g : gG} {h hn hi : Nat} {ad : Nat → Nat} {ra : Nat → Nat → Nat} {z : Nat → Nat} {φ : Nat} : ∀ (n0 : Nat) {sTaped : Int32} {sFault : Int32} {sFaultA : Int32} {sWays : Int32} {sMay : Int32} {sMust : Int32} {cTape : Nat → Int32} {cNames : Nat → Int32} {cHead : Nat → Int32} {cSure : Nat → Nat → Int32} {cN : Nat → Int32} {cRow : Nat → Int32} {cTried : Nat → Int32} {cFor : Nat → Int32} {cRoad : Nat → Int32} {cFear : Nat → Int32} {cCall : Nat → Int32} {cUnl : Nat → Int32} {cPaid : Nat → Nat → Int32} {cStep : Nat → Nat → Int32} {cGain : Nat → Nat → Int32} {cText : Nat → Option Nat} {iN : Nat → Int32} {iRow : Nat → Int32} {iFor : Nat → Int32} {iRoad : Nat → Int32} {iFear : Nat → Int32} {iCall : Nat → Int32} {iUnl : Nat → Int32} {iPaid : Nat → Nat → Int32} {iStep : Nat → Nat → Int32} {iGain : Nat → Nat → Int32} {iText : Nat → Option Nat} {tp : va_W} {x1 : Int32} {x2 : Int32} {r : Int32} {ncHead : Nat → Int32}, X_areOf φ n0 cHead cN cUnl x1 x2 = some (r, ncHead) → CX l yX0_areOf (ws_ yX0_areOf cX0_areOf 6 (some .boolean)) ({ frames := n0 + 1, cells := 0, slots := 0, locals := 25 * n0 + 21 } : Room) g z [.ref h, .int x1, .int x2] (xW g h hn hi ad ra sTaped sFault sFaultA sWays sMay sMust cTape cNames cHead cSure cN cRow cTried cFor cRoad cFear cCall cUnl cPaid cStep cGain cText iN iRow iFor iRoad iFear iCall iUnl iPaid iStep iGain iText tp) (some (.int r)) (xW g h hn hi ad ra sTaped sFault sFaultA sWays sMay sMust cTape cNames ncHead cSure cN cRow cTried cFor cRoad cFear cCall cUnl cPaid cStep cGain cText iN iRow iFor iRoad iFear iCall iUnl iPaid iStep iGain iText tp) 0 0 := by
  intro n0
  induction n0 with
  | zero =>
    intro sTaped sFault sFaultA sWays sMay sMust cTape cNames cHead cSure cN cRow cTried cFor cRoad cFear cCall cUnl cPaid cStep cGain cText iN iRow iFor iRoad iFear iCall iUnl iPaid iStep iGain iText tp x1 x2 r ncHead hf
    exact nn hf
  | succ n0 ih0 =>
    intro sTaped sFault sFaultA sWays sMay sMust cTape cNames cHead cSure cN cRow cTried cFor cRoad cFear cCall cUnl cPaid cStep cGain cText iN iRow iFor iRoad iFear iCall iUnl iPaid iStep iGain iText tp x1 x2 r ncHead hf
    refine CX.of RX0 rfl plain_X0 (Nat.le_of_ble_eq_true rfl) (fun p e s m below meth c A ls X hF hP hD hS hl => ?_)
    have hx := X.1
    have hb := X.2.1
    have hown := X.2.2.2.2.2.1
    have hts := X.2.2.2.2.2.2.1
    have hl : lv_has ls 6 [(0, .ref h), (1, .int x1), (2, .int x2)] := hl
    rw [X_areOf] at hf
    refine lv_iload_n hx hb dX0_areOf_0 rfl (lv_at hl 1 rfl) ?_
    refine lv_aload_n hx hb dX0_areOf_1 rfl (lv_at hl 0 rfl) ?_
    refine gX_X0_this_now X hP dX0_areOf_2 ?_
    refine gX_X0_now_n X hF hP dX0_areOf_5 ?_
    refine lv_bipush (v := 6) hx hb dX0_areOf_8 (by decide) ?_
    obtain ⟨v1, ev1, bv1, hf⟩ := rds hf
    refine lX_cN X hP ev1 bv1 dX0_areOf_10 ?_
    refine bc_ne (tgt := 16) hx hb hf dX0_areOf_11 (by decide) (fun hf => ?_) (fun hf => ?_)
    · refine lv_iconst (v := 0) hx hb dX0_areOf_16 (by decide) ?_
      refine lv_istore_n (lv' := [(3, .int 0), (0, .ref h), (1, .int x1), (2, .int x2)]) hx hb dX0_areOf_17 rfl hl (by decide) rfl (fun ls hl => ?_)
      have hL6 : ∀ (n4 : Nat) (v2 : Int32) (c3 : Nat → Int32), X_areOf_L18 (X_areOf φ n0) φ x1 x2 cN cUnl n4 v2 c3 = some (r, ncHead) → ∀ (H : Heap) (locs : List Loc) (ls : Array Slot), va_P g.1 vwCl (xW g h hn hi ad ra sTaped sFault sFaultA sWays sMay sMust cTape cNames c3 cSure cN cRow cTried cFor cRoad cFear cCall cUnl cPaid cStep cGain cText iN iRow iFor iRoad iFear iCall iUnl iPaid iStep iGain iText tp) H → va_D A (xW g h hn hi ad ra sTaped sFault sFaultA sWays sMay sMust cTape cNames c3 cSure cN cRow cTried cFor cRoad cFear cCall cUnl cPaid cStep cGain cText iN iRow iFor iRoad iFear iCall iUnl iPaid iStep iGain iText tp) → va_S A s.heap H locs → lv_has ls 6 [(0, .ref h), (1, .int x1), (2, .int x2), (3, .int v2)] → W p l e ({ frames := (n0 + 1) + 1, cells := 0, slots := 0, locals := 25 * (n0 + 1) + 21 } : Room) s m ([.ref h, .int x1, .int x2] : List Value).toArray below meth c H locs 0 0 (MQ below (QQ g (some (.int r)) (xW g h hn hi ad ra sTaped sFault sFaultA sWays sMay sMust cTape cNames ncHead cSure cN cRow cTried cFor cRoad cFear cCall cUnl cPaid cStep cGain cText iN iRow iFor iRoad iFear iCall iUnl iPaid iStep iGain iText tp) A) ([.ref h, .int x1, .int x2] : List Value).toArray s 0 0 A) (F0 m 18 ls []) := by
        intro n4
        induction n4 with
        | zero =>
          intro v2 c3 hf
          exact nn hf
        | succ n4 ih7 =>
          intro v2 c3 hf H locs ls hP hD hS hl
          rw [X_areOf_L18] at hf
          refine lv_iload_n hx hb dX0_areOf_18 rfl (lv_at hl 3 rfl) ?_
          refine lv_iload_n hx hb dX0_areOf_19 rfl (lv_at hl 2 rfl) ?_
          refine bc_ge (tgt := 113) hx hb hf dX0_areOf_20 (by decide) (fun hf => ?_) (fun hf => ?_)
          · refine lv_iconst (v := 0) hx hb dX0_areOf_113 (by decide) ?_
            cases hf
            exact rZ X rfl hP hD hS dX0_areOf_114
          · refine lv_iconst (v := 1) hx hb dX0_areOf_23 (by decide) ?_
            refine lv_istore (lv' := [(4, .int 1), (0, .ref h), (1, .int x1), (2, .int x2), (3, .int v2)]) hx hb dX0_areOf_24 hl (by decide) rfl (fun ls hl => ?_)
            refine lv_iconst (v := 0) hx hb dX0_areOf_26 (by decide) ?_
            refine lv_istore (lv' := [(5, .int 0), (4, .int 1), (0, .ref h), (1, .int x1), (2, .int x2), (3, .int v2)]) hx hb dX0_areOf_27 hl (by decide) rfl (fun ls hl => ?_)
            obtain ⟨v11, k16, hf⟩ := bd1s hf
            have hE13 : ∀ (H : Heap) (locs : List Loc) (ls : Array Slot), va_P g.1 vwCl (xW g h hn hi ad ra sTaped sFault sFaultA sWays sMay sMust cTape cNames c3 cSure cN cRow cTried cFor cRoad cFear cCall cUnl cPaid cStep cGain cText iN iRow iFor iRoad iFear iCall iUnl iPaid iStep iGain iText tp) H → va_D A (xW g h hn hi ad ra sTaped sFault sFaultA sWays sMay sMust cTape cNames c3 cSure cN cRow cTried cFor cRoad cFear cCall cUnl cPaid cStep cGain cText iN iRow iFor iRoad iFear iCall iUnl iPaid iStep iGain iText tp) → va_S A s.heap H locs → lv_has ls 6 [(0, .ref h), (1, .int x1), (2, .int x2), (3, .int v2), (4, .int v11)] → W p l e ({ frames := (n0 + 1) + 1, cells := 0, slots := 0, locals := 25 * (n0 + 1) + 21 } : Room) s m ([.ref h, .int x1, .int x2] : List Value).toArray below meth c H locs 0 0 (MQ below (QQ g (some (.int r)) (xW g h hn hi ad ra sTaped sFault sFaultA sWays sMay sMust cTape cNames ncHead cSure cN cRow cTried cFor cRoad cFear cCall cUnl cPaid cStep cGain cText iN iRow iFor iRoad iFear iCall iUnl iPaid iStep iGain iText tp) A) ([.ref h, .int x1, .int x2] : List Value).toArray s 0 0 A) (F0 m 79 ls []) := by
              intro H locs ls hP hD hS hl
              refine lv_iload hx hb dX0_areOf_79 (lv_at hl 4 rfl) ?_
              refine bq_ne (tgt := 87) hx hb hf dX0_areOf_81 (by decide) (fun hf => ?_) (fun hf => ?_)
              · refine lv_aload_n hx hb dX0_areOf_87 rfl (lv_at hl 0 rfl) ?_
                refine gX_X0_this_head X hP dX0_areOf_88 ?_
                refine lv_iload_n hx hb dX0_areOf_91 rfl (lv_at hl 1 rfl) ?_
                refine lv_iload_n hx hb dX0_areOf_92 rfl (lv_at hl 3 rfl) ?_
                obtain ⟨c17, ec17, bc17, hf⟩ := wrs hf
                refine sX_cHead X hP hD hS ec17 bc17 dX0_areOf_93 (fun H locs hP hD hS => ?_)
                refine lv_aload_n hx hb dX0_areOf_94 rfl (lv_at hl 0 rfl) ?_
                refine lv_iload_n hx hb dX0_areOf_95 rfl (lv_at hl 1 rfl) ?_
                refine lv_iconst (v := 1) hx hb dX0_areOf_96 (by decide) ?_
                refine lv_iadd hx hb dX0_areOf_97 ?_
                refine lv_iload_n hx hb dX0_areOf_98 rfl (lv_at hl 2 rfl) ?_
                obtain ⟨r18, c19, k20, hf⟩ := bd2s hf
                refine xVi (rest := []) X hF (ih0 k20) gw_X0_X0_areOf dy_X0_areOf ⟨⟨rfl, rfl⟩, (by dsimp only; omega), (by dsimp only; omega)⟩ hP hD hS hl.1 rcX rfl rfl ⟨Nat.zero_le _, Nat.zero_le _⟩ (Nat.le_of_ble_eq_true rfl) dX0_areOf_99 (fun H locs hP hD hS => ?_)
                refine bq_eq (tgt := 107) hx hb hf dX0_areOf_102 (by decide) (fun hf => ?_) (fun hf => ?_)
                · obtain ⟨v21, ev21, hf⟩ := lts hf
                  refine lv_iinc (v := v21) (lv' := [(3, .int v21), (0, .ref h), (1, .int x1), (2, .int x2), (4, .int v11)]) hx hb dX0_areOf_107 hl (k := 3) rfl (by rw [ev21]; rfl) (by decide) rfl (fun ls hl => ?_)
                  refine lv_goto (tgt := 18) hx hb dX0_areOf_110 (by decide) ?_
                  exact ih7 _ _ hf _ _ _ hP hD hS (lv_sub hl [1, 2, 3, 0] rfl)
                · refine lv_iconst (v := 1) hx hb dX0_areOf_105 (by decide) ?_
                  cases hf
                  exact rZ X rfl hP hD hS dX0_areOf_106
              · refine lv_goto (tgt := 107) hx hb dX0_areOf_84 (by decide) ?_
                obtain ⟨v22, ev22, hf⟩ := lts hf
                refine lv_iinc (v := v22) (lv' := [(3, .int v22), (0, .ref h), (1, .int x1), (2, .int x2), (4, .int v11)]) hx hb dX0_areOf_107 hl (k := 3) rfl (by rw [ev22]; rfl) (by decide) rfl (fun ls hl => ?_)
                refine lv_goto (tgt := 18) hx hb dX0_areOf_110 (by decide) ?_
                exact ih7 _ _ hf _ _ _ hP hD hS (lv_sub hl [1, 2, 3, 0] rfl)
            have hL14 : ∀ (n12 : Nat) (v9 : Int32) (v10 : Int32), X_areOf_L29 φ x1 x2 v2 c3 cUnl n12 v9 v10 = some v11 → ∀ (H : Heap) (locs : List Loc) (ls : Array Slot), va_P g.1 vwCl (xW g h hn hi ad ra sTaped sFault sFaultA sWays sMay sMust cTape cNames c3 cSure cN cRow cTried cFor cRoad cFear cCall cUnl cPaid cStep cGain cText iN iRow iFor iRoad iFear iCall iUnl iPaid iStep iGain iText tp) H → va_D A (xW g h hn hi ad ra sTaped sFault sFaultA sWays sMay sMust cTape cNames c3 cSure cN cRow cTried cFor cRoad cFear cCall cUnl cPaid cStep cGain cText iN iRow iFor iRoad iFear iCall iUnl iPaid iStep iGain iText tp) → va_S A s.heap H locs → lv_has ls 6 [(0, .ref h), (1, .int x1), (2, .int x2), (3, .int v2), (4, .int v9), (5, .int v10)] → W p l e ({ frames := (n0 + 1) + 1, cells := 0, slots := 0, locals := 25 * (n0 + 1) + 21 } : Room) s m ([.ref h, .int x1, .int x2] : List Value).toArray below meth c H locs 0 0 (MQ below (QQ g (some (.int r)) (xW g h hn hi ad ra sTaped sFault sFaultA sWays sMay sMust cTape cNames ncHead cSure cN cRow cTried cFor cRoad cFear cCall cUnl cPaid cStep cGain cText iN iRow iFor iRoad iFear iCall iUnl iPaid iStep iGain iText tp) A) ([.ref h, .int x1, .int x2] : List Value).toArray s 0 0 A) (F0 m 29 ls []) := by
              intro n12
              induction n12 with
              | zero =>
                intro v9 v10 hf
                exact nn hf
              | succ n12 ih15 =>
                intro v9 v10 hf H locs ls hP hD hS hl
                rw [X_areOf_L29] at hf
                refine lv_iload hx hb dX0_areOf_29 (lv_at hl 5 rfl) ?_
                refine lv_iload_n hx hb dX0_areOf_31 rfl (lv_at hl 1 rfl) ?_
                refine bc_ge (tgt := 79) hx hb hf dX0_areOf_32 (by decide) (fun hf => ?_) (fun hf => ?_)
                · cases hf
                  exact hE13 _ _ _ hP hD hS (lv_sub hl [0, 1, 2, 3, 4] rfl)
                · refine lv_iload hx hb dX0_areOf_35 (lv_at hl 4 rfl) ?_
                  refine lv_aload_n hx hb dX0_areOf_37 rfl (lv_at hl 0 rfl) ?_
                  refine gX_X0_this_head X hP dX0_areOf_38 ?_
                  refine lv_iload hx hb dX0_areOf_41 (lv_at hl 5 rfl) ?_
                  obtain ⟨v23, ev23, bv23, hf⟩ := rds hf
                  refine lX_cHead X hP ev23 bv23 dX0_areOf_43 ?_
                  refine lv_iload_n hx hb dX0_areOf_44 rfl (lv_at hl 3 rfl) ?_
                  refine bc_ne (tgt := 65) hx hb hf dX0_areOf_45 (by decide) (fun hf => ?_) (fun hf => ?_)
                  · refine lv_iconst (v := 1) hx hb dX0_areOf_65 (by decide) ?_
                    refine lv_goto (tgt := 70) hx hb dX0_areOf_66 (by decide) ?_
                    refine lv_iand hx hb dX0_areOf_70 ?_
                    obtain ⟨v24, ev24, hf⟩ := lts hf
                    refine tpi ev24 ?_
                    refine lv_istore (lv' := [(4, .int v24), (0, .ref h), (1, .int x1), (2, .int x2), (3, .int v2), (5, .int v10)]) hx hb dX0_areOf_71 hl (by decide) rfl (fun ls hl => ?_)
                    obtain ⟨v25, ev25, hf⟩ := lts hf
                    refine lv_iinc (v := v25) (lv' := [(5, .int v25), (4, .int v24), (0, .ref h), (1, .int x1), (2, .int x2), (3, .int v2)]) hx hb dX0_areOf_73 hl (k := 5) rfl (by rw [ev25]; rfl) (by decide) rfl (fun ls hl => ?_)
                    refine lv_goto (tgt := 29) hx hb dX0_areOf_76 (by decide) ?_
                    exact ih15 _ _ hf _ _ _ hP hD hS (lv_sub hl [2, 3, 4, 5, 1, 0] rfl)
                  · refine lv_aload_n hx hb dX0_areOf_48 rfl (lv_at hl 0 rfl) ?_
                    refine gX_X0_this_now X hP dX0_areOf_49 ?_
                    refine gX_X0_now_unlike X hF hP dX0_areOf_52 ?_
                    refine lv_iload_n hx hb dX0_areOf_55 rfl (lv_at hl 1 rfl) ?_
                    obtain ⟨v26, ev26, bv26, hf⟩ := rds hf
                    refine lX_cUnl X hP ev26 bv26 dX0_areOf_56 ?_
                    refine lv_iload hx hb dX0_areOf_57 (lv_at hl 5 rfl) ?_
                    obtain ⟨r27, k28, hf⟩ := bd1s hf
                    refine cSi (rest := [.int v9]) X (met_X_isIn (g := g) k28) gs_X0_X0_isIn dy_X0_isIn ⟨⟨rfl, rfl⟩, (by dsimp only; omega), (by dsimp only; omega)⟩ hP hD hS hl.1 rfl rfl ⟨Nat.zero_le _, Nat.zero_le _⟩ (Nat.le_of_ble_eq_true rfl) dX0_areOf_59 (fun H locs hP hD hS => ?_)
                    refine bq_ne (tgt := 69) hx hb hf dX0_areOf_62 (by decide) (fun hf => ?_) (fun hf => ?_)
                    · refine lv_iconst (v := 0) hx hb dX0_areOf_69 (by decide) ?_
                      refine lv_iand hx hb dX0_areOf_70 ?_
                      obtain ⟨v29, ev29, hf⟩ := lts hf
                      refine tpi ev29 ?_
                      refine lv_istore (lv' := [(4, .int v29), (0, .ref h), (1, .int x1), (2, .int x2), (3, .int v2), (5, .int v10)]) hx hb dX0_areOf_71 hl (by decide) rfl (fun ls hl => ?_)
                      obtain ⟨v30, ev30, hf⟩ := lts hf
                      refine lv_iinc (v := v30) (lv' := [(5, .int v30), (4, .int v29), (0, .ref h), (1, .int x1), (2, .int x2), (3, .int v2)]) hx hb dX0_areOf_73 hl (k := 5) rfl (by rw [ev30]; rfl) (by decide) rfl (fun ls hl => ?_)
                      refine lv_goto (tgt := 29) hx hb dX0_areOf_76 (by decide) ?_
                      exact ih15 _ _ hf _ _ _ hP hD hS (lv_sub hl [2, 3, 4, 5, 1, 0] rfl)
                    · refine lv_iconst (v := 1) hx hb dX0_areOf_65 (by decide) ?_
                      refine lv_goto (tgt := 70) hx hb dX0_areOf_66 (by decide) ?_
                      refine lv_iand hx hb dX0_areOf_70 ?_
                      obtain ⟨v31, ev31, hf⟩ := lts hf
                      refine tpi ev31 ?_
                      refine lv_istore (lv' := [(4, .int v31), (0, .ref h), (1, .int x1), (2, .int x2), (3, .int v2), (5, .int v10)]) hx hb dX0_areOf_71 hl (by decide) rfl (fun ls hl => ?_)
                      obtain ⟨v32, ev32, hf⟩ := lts hf
                      refine lv_iinc (v := v32) (lv' := [(5, .int v32), (4, .int v31), (0, .ref h), (1, .int x1), (2, .int x2), (3, .int v2)]) hx hb dX0_areOf_73 hl (k := 5) rfl (by rw [ev32]; rfl) (by decide) rfl (fun ls hl => ?_)
                      refine lv_goto (tgt := 29) hx hb dX0_areOf_76 (by decide) ?_
                      exact ih15 _ _ hf _ _ _ hP hD hS (lv_sub hl [2, 3, 4, 5, 1, 0] rfl)
            exact hL14 _ _ _ k16 _ _ _ hP hD hS (lv_sub hl [2, 3, 4, 5, 1, 0] rfl)
      exact hL6 _ _ _ hf _ _ _ hP hD hS (lv_sub hl [1, 2, 3, 0] rfl)
    · refine lv_iconst (v := 1) hx hb dX0_areOf_14 (by decide) ?_
      cases hf
      exact rZ X rfl hP hD hS dX0_areOf_15
