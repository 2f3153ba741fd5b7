/-! WolfsHeadModel: walks, printed by gen/genm.py -/
theorem gs_X2_X2_w3 : GoodIn lw_all (va_wsS RX2 132 yX2_w3 (ws_ yX2_w3 cX2_w3 3 (some .long))) := lw_S q1579 q1580 q148 q1581
theorem dy_X2_w3 : Dy yX2_w3 RX2 3 := by decide +kernel
set_option maxHeartbeats 4000000 in
theorem met_M_w4 {l : Launch} {g : gG} {x0 : Int32} {x1 : Int32} {x2 : Int32} {x3 : Int32} {r : Int64} (hf : M_w4 x0 x1 x2 x3 = some r) : CC l yX2_w4 (ws_ yX2_w4 cX2_w4 4 (some .long)) ({ frames := 2, cells := 0, slots := 0, locals := 43 } : Room) g [.int x0, .int x1, .int x2, .int x3] ([] : va_W) (some (.long r)) ([] : va_W) 0 0 := by
  refine CC.of RX2 rfl plain_X2 (Nat.le_of_ble_eq_true rfl) (fun p e s m below meth c A ls X hP hD hS hl => ?_)
  have hx := X.1
  have hb := X.2.1
  have hown := X.2.2.2.2.2.1
  have hts := X.2.2.2.2.2.2.1
  have hl : lv_has ls 4 [(0, .int x0), (1, .int x1), (2, .int x2), (3, .int x3)] := hl
  unfold M_w4 at hf
  refine lv_iload_n hx hb dX2_w4_0 rfl (lv_at hl 0 rfl) ?_
  refine lv_iload_n hx hb dX2_w4_1 rfl (lv_at hl 1 rfl) ?_
  refine lv_iload_n hx hb dX2_w4_2 rfl (lv_at hl 2 rfl) ?_
  obtain ⟨r1, k2, hf⟩ := bd1s hf
  refine cSl (rest := []) X (met_M_w3 (g := g) k2) gs_X2_X2_w3 dy_X2_w3 ⟨⟨rfl, rfl⟩, Nat.le_of_ble_eq_true rfl, Nat.le_of_ble_eq_true rfl⟩ hP hD hS hl.1 rfl rfl ⟨Nat.zero_le _, Nat.zero_le _⟩ (Nat.le_of_ble_eq_true rfl) dX2_w4_3 (fun H locs hP hD hS => ?_)
  refine lv_bipush (v := 8) hx hb dX2_w4_6 (by decide) ?_
  refine lv_lshl hx hb dX2_w4_8 rfl ?_
  refine lv_iload_n hx hb dX2_w4_9 rfl (lv_at hl 3 rfl) ?_
  refine lv_i2l hx hb dX2_w4_10 rfl ?_
  refine lv_lor hx hb dX2_w4_11 ?_
  cases hf
  exact rL X hP hD hS dX2_w4_12
theorem gs_X2_X2_w4 : GoodIn lw_all (va_wsS RX2 136 yX2_w4 (ws_ yX2_w4 cX2_w4 4 (some .long))) := lw_S q1576 q1577 q148 q1578
theorem dy_X2_w4 : Dy yX2_w4 RX2 4 := by decide +kernel
set_option maxHeartbeats 4000000 in
theorem met_M_w5 {l : Launch} {g : gG} {x0 : Int32} {x1 : Int32} {x2 : Int32} {x3 : Int32} {x4 : Int32} {r : Int64} (hf : M_w5 x0 x1 x2 x3 x4 = some r) : CC l yX2_w5 (ws_ yX2_w5 cX2_w5 5 (some .long)) ({ frames := 3, cells := 0, slots := 0, locals := 66 } : Room) g [.int x0, .int x1, .int x2, .int x3, .int x4] ([] : va_W) (some (.long r)) ([] : va_W) 0 0 := by
  refine CC.of RX2 rfl plain_X2 (Nat.le_of_ble_eq_true rfl) (fun p e s m below meth c A ls X hP hD hS hl => ?_)
  have hx := X.1
  have hb := X.2.1
  have hown := X.2.2.2.2.2.1
  have hts := X.2.2.2.2.2.2.1
  have hl : lv_has ls 5 [(0, .int x0), (1, .int x1), (2, .int x2), (3, .int x3), (4, .int x4)] := hl
  unfold M_w5 at hf
  refine lv_iload_n hx hb dX2_w5_0 rfl (lv_at hl 0 rfl) ?_
  refine lv_iload_n hx hb dX2_w5_1 rfl (lv_at hl 1 rfl) ?_
  refine lv_iload_n hx hb dX2_w5_2 rfl (lv_at hl 2 rfl) ?_
  refine lv_iload_n hx hb dX2_w5_3 rfl (lv_at hl 3 rfl) ?_
  obtain ⟨r1, k2, hf⟩ := bd1s hf
  refine cSl (rest := []) X (met_M_w4 (g := g) k2) gs_X2_X2_w4 dy_X2_w4 ⟨⟨rfl, rfl⟩, Nat.le_of_ble_eq_true rfl, Nat.le_of_ble_eq_true rfl⟩ hP hD hS hl.1 rfl rfl ⟨Nat.zero_le _, Nat.zero_le _⟩ (Nat.le_of_ble_eq_true rfl) dX2_w5_4 (fun H locs hP hD hS => ?_)
  refine lv_bipush (v := 8) hx hb dX2_w5_7 (by decide) ?_
  refine lv_lshl hx hb dX2_w5_9 rfl ?_
  refine lv_iload hx hb dX2_w5_10 (lv_at hl 4 rfl) ?_
  refine lv_i2l hx hb dX2_w5_12 rfl ?_
  refine lv_lor hx hb dX2_w5_13 ?_
  cases hf
  exact rL X hP hD hS dX2_w5_14
theorem gs_X2_X2_w5 : GoodIn lw_all (va_wsS RX2 140 yX2_w5 (ws_ yX2_w5 cX2_w5 5 (some .long))) := lw_S q1585 q1586 q148 q1587
theorem dy_X2_w5 : Dy yX2_w5 RX2 5 := by decide +kernel
set_option maxHeartbeats 4000000 in
theorem met_M_w6 {l : Launch} {g : gG} {x0 : Int32} {x1 : Int32} {x2 : Int32} {x3 : Int32} {x4 : Int32} {x5 : Int32} {r : Int64} (hf : M_w6 x0 x1 x2 x3 x4 x5 = some r) : CC l yX2_w6 (ws_ yX2_w6 cX2_w6 6 (some .long)) ({ frames := 4, cells := 0, slots := 0, locals := 90 } : Room) g [.int x0, .int x1, .int x2, .int x3, .int x4, .int x5] ([] : va_W) (some (.long r)) ([] : va_W) 0 0 := by
  refine CC.of RX2 rfl plain_X2 (Nat.le_of_ble_eq_true rfl) (fun p e s m below meth c A ls X hP hD hS hl => ?_)
  have hx := X.1
  have hb := X.2.1
  have hown := X.2.2.2.2.2.1
  have hts := X.2.2.2.2.2.2.1
  have hl : lv_has ls 6 [(0, .int x0), (1, .int x1), (2, .int x2), (3, .int x3), (4, .int x4), (5, .int x5)] := hl
  unfold M_w6 at hf
  refine lv_iload_n hx hb dX2_w6_0 rfl (lv_at hl 0 rfl) ?_
  refine lv_iload_n hx hb dX2_w6_1 rfl (lv_at hl 1 rfl) ?_
  refine lv_iload_n hx hb dX2_w6_2 rfl (lv_at hl 2 rfl) ?_
  refine lv_iload_n hx hb dX2_w6_3 rfl (lv_at hl 3 rfl) ?_
  refine lv_iload hx hb dX2_w6_4 (lv_at hl 4 rfl) ?_
  obtain ⟨r1, k2, hf⟩ := bd1s hf
  refine cSl (rest := []) X (met_M_w5 (g := g) k2) gs_X2_X2_w5 dy_X2_w5 ⟨⟨rfl, rfl⟩, Nat.le_of_ble_eq_true rfl, Nat.le_of_ble_eq_true rfl⟩ hP hD hS hl.1 rfl rfl ⟨Nat.zero_le _, Nat.zero_le _⟩ (Nat.le_of_ble_eq_true rfl) dX2_w6_6 (fun H locs hP hD hS => ?_)
  refine lv_bipush (v := 8) hx hb dX2_w6_9 (by decide) ?_
  refine lv_lshl hx hb dX2_w6_11 rfl ?_
  refine lv_iload hx hb dX2_w6_12 (lv_at hl 5 rfl) ?_
  refine lv_i2l hx hb dX2_w6_14 rfl ?_
  refine lv_lor hx hb dX2_w6_15 ?_
  cases hf
  exact rL X hP hD hS dX2_w6_16
theorem gw_X2_X2_worded : GoodIn lw_all (wsV RX2 228 RX2 yX2_worded (ws_ yX2_worded cX2_worded 5 (some .int))) := lw_V q1607 q1609 qs79 q148 q1610
theorem dy_X2_worded : Dy yX2_worded RX2 3 := by decide +kernel
set_option maxHeartbeats 4000000 in
theorem met_M_pair {l : Launch} {g : gG} {h : Nat} {ad : Nat → Nat} {sTaped : Int32} {sFault : Int32} {sFaultP : Int32} {sAt : Int32} {sPlace : Int32} {sToken : Int32} {sNumber : Int32} {sWord : Int64} {sText0 : Int32} {sWritten : Int32} {sSort0 : Int32} {sPiled : Int32} {sOpens : Int32} {sWhole : Int32} {sOnce : Int32} {sIsW : Int32} {sDied : Int32} {cA : Nat → Int32} {cIm : Nat → Int32} {cTx : Nat → Int32} {cTp : Nat → Int32} {cPl : Nat → Int32} {cNm : Nat → Int32} {cVa : Nat → Int64} {cTr : Nat → Int32} {cAs : Nat → Int32} {cLi : Nat → Int32} {cSa : Nat → Int32} {cHd : Nat → Int32} {x1 : Int32} {x2 : Int32} {x3 : Int64} {x5 : Int32} {r : Int32} {nsAt : Int32} {nsPlace : Int32} {nsToken : Int32} {nsNumber : Int32} {nsWord : Int64} {ncTx : Nat → Int32} {φ : Nat} (hf : M_pair φ sTaped sAt sPlace sToken sNumber sWord cTx cTp x1 x2 x3 x5 = some (r, nsAt, nsPlace, nsToken, nsNumber, nsWord, ncTx)) : CC l yX2_pair (ws_ yX2_pair cX2_pair 7 (some .int)) ({ frames := 4, cells := 0, slots := 0, locals := 89 } : Room) g [.ref h, .int x1, .int x2, .long x3, .int x5] (mW g h ad sTaped sFault sFaultP sAt sPlace sToken sNumber sWord sText0 sWritten sSort0 sPiled sOpens sWhole sOnce sIsW sDied cA cIm cTx cTp cPl cNm cVa cTr cAs cLi cSa cHd) (some (.int r)) (mW g h ad sTaped sFault sFaultP nsAt nsPlace nsToken nsNumber nsWord sText0 sWritten sSort0 sPiled sOpens sWhole sOnce sIsW sDied cA cIm ncTx cTp cPl cNm cVa cTr cAs cLi cSa cHd) 0 0 := by
  refine CC.of RX2 rfl plain_X2 (Nat.le_of_ble_eq_true rfl) (fun p e s m below meth c A ls X hP hD hS hl => ?_)
  have hx := X.1
  have hb := X.2.1
  have hown := X.2.2.2.2.2.1
  have hts := X.2.2.2.2.2.2.1
  have hl : lv_has ls 7 [(0, .ref h), (1, .int x1), (2, .int x2), (3, .long x3), (5, .int x5)] := hl
  unfold M_pair at hf
  refine lv_aload_n hx hb dX2_pair_0 rfl (lv_at hl 0 rfl) ?_
  refine lv_iload_n hx hb dX2_pair_1 rfl (lv_at hl 1 rfl) ?_
  refine lv_iconst (v := 1) hx hb dX2_pair_2 (by decide) ?_
  refine lv_iadd hx hb dX2_pair_3 ?_
  refine lv_iconst (v := 0) hx hb dX2_pair_4 (by decide) ?_
  refine lv_iload_n hx hb dX2_pair_5 rfl (lv_at hl 2 rfl) ?_
  obtain ⟨r1, c2, c3, c4, c5, c6, c7, k8, hf⟩ := bd7s hf
  refine cVi (rest := []) X (met_M_figure k8) gw_X2_X2_figure dy_X2_figure ⟨⟨rfl, rfl⟩, Nat.le_of_ble_eq_true rfl, Nat.le_of_ble_eq_true rfl⟩ hP hD hS hl.1 rcM rfl rfl ⟨Nat.zero_le _, Nat.zero_le _⟩ (Nat.le_of_ble_eq_true rfl) dX2_pair_6 (fun H locs hP hD hS => ?_)
  refine lv_istore (lv' := [(6, .int r1), (0, .ref h), (1, .int x1), (2, .int x2), (3, .long x3), (5, .int x5)]) hx hb dX2_pair_9 hl (by decide) rfl (fun ls hl => ?_)
  refine lv_iload hx hb dX2_pair_11 (lv_at hl 0 rfl) ?_
  refine bq_eq (tgt := 21) hx hb hf dX2_pair_13 (by decide) (fun hf => ?_) (fun hf => ?_)
  · refine lv_aload_n hx hb dX2_pair_21 rfl (lv_at hl 1 rfl) ?_
    refine lv_lload_n hx hb dX2_pair_22 rfl (lv_at hl 4 rfl) ?_
    refine lv_iload_n hx hb dX2_pair_23 rfl (lv_at hl 2 rfl) ?_
    refine lv_iconst (v := 2) hx hb dX2_pair_24 (by decide) ?_
    refine lv_iadd hx hb dX2_pair_25 ?_
    refine lv_iload hx hb dX2_pair_26 (lv_at hl 5 rfl) ?_
    obtain ⟨r9, c10, c11, c12, c13, c14, c15, k16, hf⟩ := bd7s hf
    refine cVi (rest := []) X (met_M_worded k16) gw_X2_X2_worded dy_X2_worded ⟨⟨rfl, rfl⟩, Nat.le_of_ble_eq_true rfl, Nat.le_of_ble_eq_true rfl⟩ hP hD hS hl.1 rcM rfl rfl ⟨Nat.zero_le _, Nat.zero_le _⟩ (Nat.le_of_ble_eq_true rfl) dX2_pair_28 (fun H locs hP hD hS => ?_)
    cases hf
    exact rI X hP hD hS dX2_pair_31
  · refine lv_iload hx hb dX2_pair_16 (lv_at hl 0 rfl) ?_
    refine lv_goto (tgt := 31) hx hb dX2_pair_18 (by decide) ?_
    cases hf
    exact rI X hP hD hS dX2_pair_31
set_option maxHeartbeats 4000000 in
theorem met_M_personClause {l : Launch} {g : gG} {h : Nat} {ad : Nat → Nat} {sTaped : Int32} {sFault : Int32} {sFaultP : Int32} {sAt : Int32} {sPlace : Int32} {sToken : Int32} {sNumber : Int32} {sWord : Int64} {sText0 : Int32} {sWritten : Int32} {sSort0 : Int32} {sPiled : Int32} {sOpens : Int32} {sWhole : Int32} {sOnce : Int32} {sIsW : Int32} {sDied : Int32} {cA : Nat → Int32} {cIm : Nat → Int32} {cTx : Nat → Int32} {cTp : Nat → Int32} {cPl : Nat → Int32} {cNm : Nat → Int32} {cVa : Nat → Int64} {cTr : Nat → Int32} {cAs : Nat → Int32} {cLi : Nat → Int32} {cSa : Nat → Int32} {cHd : Nat → Int32} {x1 : Int32} {r : Int32} {nsAt : Int32} {nsPlace : Int32} {nsToken : Int32} {nsNumber : Int32} {nsWord : Int64} {ncTx : Nat → Int32} {φ : Nat} (hf : M_personClause φ sTaped sAt sPlace sToken sNumber sWord cTx cTp x1 = some (r, nsAt, nsPlace, nsToken, nsNumber, nsWord, ncTx)) : CC l yX2_personClause (ws_ yX2_personClause cX2_personClause 3 (some .int)) ({ frames := 4, cells := 0, slots := 0, locals := 90 } : Room) g [.ref h, .int x1] (mW g h ad sTaped sFault sFaultP sAt sPlace sToken sNumber sWord sText0 sWritten sSort0 sPiled sOpens sWhole sOnce sIsW sDied cA cIm cTx cTp cPl cNm cVa cTr cAs cLi cSa cHd) (some (.int r)) (mW g h ad sTaped sFault sFaultP nsAt nsPlace nsToken nsNumber nsWord sText0 sWritten sSort0 sPiled sOpens sWhole sOnce sIsW sDied cA cIm ncTx cTp cPl cNm cVa cTr cAs cLi cSa cHd) 0 0 := by
  refine CC.of RX2 rfl plain_X2 (Nat.le_of_ble_eq_true rfl) (fun p e s m below meth c A ls X hP hD hS hl => ?_)
  have hx := X.1
  have hb := X.2.1
  have hown := X.2.2.2.2.2.1
  have hts := X.2.2.2.2.2.2.1
  have hl : lv_has ls 3 [(0, .ref h), (1, .int x1)] := hl
  unfold M_personClause at hf
  refine lv_aload_n hx hb dX2_personClause_0 rfl (lv_at hl 0 rfl) ?_
  refine lv_iload_n hx hb dX2_personClause_1 rfl (lv_at hl 1 rfl) ?_
  refine lv_iconst (v := 1) hx hb dX2_personClause_2 (by decide) ?_
  refine lv_iadd hx hb dX2_personClause_3 ?_
  refine lv_iconst (v := 0) hx hb dX2_personClause_4 (by decide) ?_
  refine lv_bipush (v := 7) hx hb dX2_personClause_5 (by decide) ?_
  obtain ⟨r1, c2, c3, c4, c5, c6, c7, k8, hf⟩ := bd7s hf
  refine cVi (rest := []) X (met_M_figure k8) gw_X2_X2_figure dy_X2_figure ⟨⟨rfl, rfl⟩, Nat.le_of_ble_eq_true rfl, Nat.le_of_ble_eq_true rfl⟩ hP hD hS hl.1 rcM rfl rfl ⟨Nat.zero_le _, Nat.zero_le _⟩ (Nat.le_of_ble_eq_true rfl) dX2_personClause_7 (fun H locs hP hD hS => ?_)
  refine lv_istore_n (lv' := [(2, .int r1), (0, .ref h), (1, .int x1)]) hx hb dX2_personClause_10 rfl hl (by decide) rfl (fun ls hl => ?_)
  refine lv_iload_n hx hb dX2_personClause_11 rfl (lv_at hl 0 rfl) ?_
  obtain ⟨v9, c10, c11, c12, c13, c14, c15, k16, hf⟩ := bd7s hf
  have hj17 : ∀ (H : Heap) (locs : List Loc) (ls : Array Slot), va_P g.1 vwCl (mW g h ad sTaped sFault sFaultP c10 c11 c12 c13 c14 sText0 sWritten sSort0 sPiled sOpens sWhole sOnce sIsW sDied cA cIm c15 cTp cPl cNm cVa cTr cAs cLi cSa cHd) H → va_D A (mW g h ad sTaped sFault sFaultP c10 c11 c12 c13 c14 sText0 sWritten sSort0 sPiled sOpens sWhole sOnce sIsW sDied cA cIm c15 cTp cPl cNm cVa cTr cAs cLi cSa cHd) → va_S A s.heap H locs → lv_has ls 3 [(0, .ref h), (1, .int x1), (2, .int v9)] → W p l e ({ frames := 4, cells := 0, slots := 0, locals := 90 } : Room) s m ([.ref h, .int x1] : List Value).toArray below meth c H locs 0 0 (MQ below (QQ g (some (.int r)) (mW g h ad sTaped sFault sFaultP nsAt nsPlace nsToken nsNumber nsWord sText0 sWritten sSort0 sPiled sOpens sWhole sOnce sIsW sDied cA cIm ncTx cTp cPl cNm cVa cTr cAs cLi cSa cHd) A) ([.ref h, .int x1] : List Value).toArray s 0 0 A) (F0 m 36 ls []) := by
    intro H locs ls hP hD hS hl
    refine lv_iload_n hx hb dX2_personClause_36 rfl (lv_at hl 2 rfl) ?_
    obtain ⟨v18, c19, c20, c21, c22, c23, c24, k25, hf⟩ := bd7s hf
    have hj26 : ∀ (H : Heap) (locs : List Loc) (ls : Array Slot), va_P g.1 vwCl (mW g h ad sTaped sFault sFaultP c19 c20 c21 c22 c23 sText0 sWritten sSort0 sPiled sOpens sWhole sOnce sIsW sDied cA cIm c24 cTp cPl cNm cVa cTr cAs cLi cSa cHd) H → va_D A (mW g h ad sTaped sFault sFaultP c19 c20 c21 c22 c23 sText0 sWritten sSort0 sPiled sOpens sWhole sOnce sIsW sDied cA cIm c24 cTp cPl cNm cVa cTr cAs cLi cSa cHd) → va_S A s.heap H locs → lv_has ls 3 [(0, .ref h), (1, .int x1), (2, .int v18)] → W p l e ({ frames := 4, cells := 0, slots := 0, locals := 90 } : Room) s m ([.ref h, .int x1] : List Value).toArray below meth c H locs 0 0 (MQ below (QQ g (some (.int r)) (mW g h ad sTaped sFault sFaultP nsAt nsPlace nsToken nsNumber nsWord sText0 sWritten sSort0 sPiled sOpens sWhole sOnce sIsW sDied cA cIm ncTx cTp cPl cNm cVa cTr cAs cLi cSa cHd) A) ([.ref h, .int x1] : List Value).toArray s 0 0 A) (F0 m 64 ls []) := by
      intro H locs ls hP hD hS hl
      refine lv_iload_n hx hb dX2_personClause_64 rfl (lv_at hl 2 rfl) ?_
      refine bq_eq (tgt := 72) hx hb hf dX2_personClause_65 (by decide) (fun hf => ?_) (fun hf => ?_)
      · refine lv_aload_n hx hb dX2_personClause_72 rfl (lv_at hl 0 rfl) ?_
        refine lv_bipush (v := 100) hx hb dX2_personClause_73 (by decide) ?_
        refine lv_bipush (v := 101) hx hb dX2_personClause_75 (by decide) ?_
        refine lv_bipush (v := 98) hx hb dX2_personClause_77 (by decide) ?_
        refine lv_bipush (v := 116) hx hb dX2_personClause_79 (by decide) ?_
        refine lv_bipush (v := 115) hx hb dX2_personClause_81 (by decide) ?_
        obtain ⟨r27, k28, hf⟩ := bd1s hf
        refine cSl (rest := [.ref h]) X (met_M_w5 (g := g) k28) gs_X2_X2_w5 dy_X2_w5 ⟨⟨rfl, rfl⟩, Nat.le_of_ble_eq_true rfl, Nat.le_of_ble_eq_true rfl⟩ hP hD hS hl.1 rfl rfl ⟨Nat.zero_le _, Nat.zero_le _⟩ (Nat.le_of_ble_eq_true rfl) dX2_personClause_83 (fun H locs hP hD hS => ?_)
        refine lv_iload_n hx hb dX2_personClause_86 rfl (lv_at hl 1 rfl) ?_
        refine lv_iconst (v := 4) hx hb dX2_personClause_87 (by decide) ?_
        refine lv_iadd hx hb dX2_personClause_88 ?_
        refine lv_sipush (v := 9999) hx hb dX2_personClause_89 (by decide) ?_
        obtain ⟨r29, c30, c31, c32, c33, c34, c35, k36, hf⟩ := bd7s hf
        refine cVi (rest := []) X (met_M_worded k36) gw_X2_X2_worded dy_X2_worded ⟨⟨rfl, rfl⟩, Nat.le_of_ble_eq_true rfl, Nat.le_of_ble_eq_true rfl⟩ hP hD hS hl.1 rcM rfl rfl ⟨Nat.zero_le _, Nat.zero_le _⟩ (Nat.le_of_ble_eq_true rfl) dX2_personClause_92 (fun H locs hP hD hS => ?_)
        cases hf
        exact rI X hP hD hS dX2_personClause_95
      · refine lv_iload_n hx hb dX2_personClause_68 rfl (lv_at hl 2 rfl) ?_
        refine lv_goto (tgt := 95) hx hb dX2_personClause_69 (by decide) ?_
        cases hf
        exact rI X hP hD hS dX2_personClause_95
    replace hf := k25
    clear k25
    refine bq_ne (tgt := 64) hx hb hf dX2_personClause_37 (by decide) (fun hf => ?_) (fun hf => ?_)
    · cases hf
      exact hj26 _ _ _ hP hD hS (lv_sub hl [0, 1, 2] rfl)
    · refine lv_aload_n hx hb dX2_personClause_40 rfl (lv_at hl 0 rfl) ?_
      refine lv_bipush (v := 103) hx hb dX2_personClause_41 (by decide) ?_
      refine lv_bipush (v := 111) hx hb dX2_personClause_43 (by decide) ?_
      refine lv_bipush (v := 111) hx hb dX2_personClause_45 (by decide) ?_
      refine lv_bipush (v := 100) hx hb dX2_personClause_47 (by decide) ?_
      refine lv_bipush (v := 115) hx hb dX2_personClause_49 (by decide) ?_
      obtain ⟨r37, k38, hf⟩ := bd1s hf
      refine cSl (rest := [.ref h]) X (met_M_w5 (g := g) k38) gs_X2_X2_w5 dy_X2_w5 ⟨⟨rfl, rfl⟩, Nat.le_of_ble_eq_true rfl, Nat.le_of_ble_eq_true rfl⟩ hP hD hS hl.1 rfl rfl ⟨Nat.zero_le _, Nat.zero_le _⟩ (Nat.le_of_ble_eq_true rfl) dX2_personClause_51 (fun H locs hP hD hS => ?_)
      refine lv_iload_n hx hb dX2_personClause_54 rfl (lv_at hl 1 rfl) ?_
      refine lv_iconst (v := 3) hx hb dX2_personClause_55 (by decide) ?_
      refine lv_iadd hx hb dX2_personClause_56 ?_
      refine lv_sipush (v := 9999) hx hb dX2_personClause_57 (by decide) ?_
      obtain ⟨r39, c40, c41, c42, c43, c44, c45, k46, hf⟩ := bd7s hf
      refine cVi (rest := []) X (met_M_worded k46) gw_X2_X2_worded dy_X2_worded ⟨⟨rfl, rfl⟩, Nat.le_of_ble_eq_true rfl, Nat.le_of_ble_eq_true rfl⟩ hP hD hS hl.1 rcM rfl rfl ⟨Nat.zero_le _, Nat.zero_le _⟩ (Nat.le_of_ble_eq_true rfl) dX2_personClause_60 (fun H locs hP hD hS => ?_)
      refine lv_istore_n (lv' := [(2, .int r39), (0, .ref h), (1, .int x1)]) hx hb dX2_personClause_63 rfl hl (by decide) rfl (fun ls hl => ?_)
      cases hf
      exact hj26 _ _ _ hP hD hS (lv_sub hl [1, 2, 0] rfl)
  replace hf := k16
  clear k16
  refine bq_ne (tgt := 36) hx hb hf dX2_personClause_12 (by decide) (fun hf => ?_) (fun hf => ?_)
  · cases hf
    exact hj17 _ _ _ hP hD hS (lv_sub hl [1, 2, 0] rfl)
  · refine lv_aload_n hx hb dX2_personClause_15 rfl (lv_at hl 1 rfl) ?_
    refine lv_bipush (v := 102) hx hb dX2_personClause_16 (by decide) ?_
    refine lv_bipush (v := 101) hx hb dX2_personClause_18 (by decide) ?_
    refine lv_bipush (v := 97) hx hb dX2_personClause_20 (by decide) ?_
    refine lv_bipush (v := 114) hx hb dX2_personClause_22 (by decide) ?_
    obtain ⟨r47, k48, hf⟩ := bd1s hf
    refine cSl (rest := [.ref h]) X (met_M_w4 (g := g) k48) gs_X2_X2_w4 dy_X2_w4 ⟨⟨rfl, rfl⟩, Nat.le_of_ble_eq_true rfl, Nat.le_of_ble_eq_true rfl⟩ hP hD hS hl.1 rfl rfl ⟨Nat.zero_le _, Nat.zero_le _⟩ (Nat.le_of_ble_eq_true rfl) dX2_personClause_24 (fun H locs hP hD hS => ?_)
    refine lv_iload_n hx hb dX2_personClause_27 rfl (lv_at hl 2 rfl) ?_
    refine lv_iconst (v := 2) hx hb dX2_personClause_28 (by decide) ?_
    refine lv_iadd hx hb dX2_personClause_29 ?_
    refine lv_bipush (v := 9) hx hb dX2_personClause_30 (by decide) ?_
    obtain ⟨r49, c50, c51, c52, c53, c54, c55, k56, hf⟩ := bd7s hf
    refine cVi (rest := []) X (met_M_worded k56) gw_X2_X2_worded dy_X2_worded ⟨⟨rfl, rfl⟩, Nat.le_of_ble_eq_true rfl, Nat.le_of_ble_eq_true rfl⟩ hP hD hS hl.1 rcM rfl rfl ⟨Nat.zero_le _, Nat.zero_le _⟩ (Nat.le_of_ble_eq_true rfl) dX2_personClause_32 (fun H locs hP hD hS => ?_)
    refine lv_istore_n (lv' := [(2, .int r49), (0, .ref h), (1, .int x1)]) hx hb dX2_personClause_35 rfl hl (by decide) rfl (fun ls hl => ?_)
    cases hf
    exact hj17 _ _ _ hP hD hS (lv_sub hl [1, 2, 0] rfl)
theorem gw_X2_X2_isCompared : GoodIn lw_all (wsV RX2 203 RX2 yX2_isCompared (ws_ yX2_isCompared cX2_isCompared 2 (some .boolean))) := lw_V q1639 q1641 qs87 q148 q1642
theorem dy_X2_isCompared : Dy yX2_isCompared RX2 0 := by decide +kernel
theorem gw_X2_X2_compareOf : GoodIn lw_all (wsV RX2 206 RX2 yX2_compareOf (ws_ yX2_compareOf cX2_compareOf 1 (some .int))) := lw_V q1646 q1648 qs88 q148 q1649
theorem dy_X2_compareOf : Dy yX2_compareOf RX2 0 := by decide +kernel
set_option maxHeartbeats 4000000 in
theorem met_M_betweenOf {l : Launch} {g : gG} {h : Nat} {ad : Nat → Nat} {sTaped : Int32} {sFault : Int32} {sFaultP : Int32} {sAt : Int32} {sPlace : Int32} {sToken : Int32} {sNumber : Int32} {sWord : Int64} {sText0 : Int32} {sWritten : Int32} {sSort0 : Int32} {sPiled : Int32} {sOpens : Int32} {sWhole : Int32} {sOnce : Int32} {sIsW : Int32} {sDied : Int32} {cA : Nat → Int32} {cIm : Nat → Int32} {cTx : Nat → Int32} {cTp : Nat → Int32} {cPl : Nat → Int32} {cNm : Nat → Int32} {cVa : Nat → Int64} {cTr : Nat → Int32} {cAs : Nat → Int32} {cLi : Nat → Int32} {cSa : Nat → Int32} {cHd : Nat → Int32} {r : Int32} {φ : Nat} (hf : M_betweenOf φ sToken sWord sPiled cPl = some r) : CC l yX2_betweenOf (ws_ yX2_betweenOf cX2_betweenOf 1 (some .int)) ({ frames := 2, cells := 0, slots := 0, locals := 43 } : Room) g [.ref h] (mW g h ad sTaped sFault sFaultP sAt sPlace sToken sNumber sWord sText0 sWritten sSort0 sPiled sOpens sWhole sOnce sIsW sDied cA cIm cTx cTp cPl cNm cVa cTr cAs cLi cSa cHd) (some (.int r)) (mW g h ad sTaped sFault sFaultP sAt sPlace sToken sNumber sWord sText0 sWritten sSort0 sPiled sOpens sWhole sOnce sIsW sDied cA cIm cTx cTp cPl cNm cVa cTr cAs cLi cSa cHd) 0 0 := by
  refine CC.of RX2 rfl plain_X2 (Nat.le_of_ble_eq_true rfl) (fun p e s m below meth c A ls X hP hD hS hl => ?_)
  have hx := X.1
  have hb := X.2.1
  have hown := X.2.2.2.2.2.1
  have hts := X.2.2.2.2.2.2.1
  have hl : lv_has ls 1 [(0, .ref h)] := hl
  unfold M_betweenOf at hf
  refine lv_aload_n hx hb dX2_betweenOf_0 rfl (lv_at hl 0 rfl) ?_
  refine gM9 X hP dX2_betweenOf_1 ?_
  refine lv_bipush (v := 43) hx hb dX2_betweenOf_4 (by decide) ?_
  refine bc_ne (tgt := 12) hx hb hf dX2_betweenOf_6 (by decide) (fun hf => ?_) (fun hf => ?_)
  · refine lv_aload_n hx hb dX2_betweenOf_12 rfl (lv_at hl 0 rfl) ?_
    refine gM9 X hP dX2_betweenOf_13 ?_
    refine lv_bipush (v := 45) hx hb dX2_betweenOf_16 (by decide) ?_
    refine bc_ne (tgt := 24) hx hb hf dX2_betweenOf_18 (by decide) (fun hf => ?_) (fun hf => ?_)
    · refine lv_aload_n hx hb dX2_betweenOf_24 rfl (lv_at hl 0 rfl) ?_
      refine gM9 X hP dX2_betweenOf_25 ?_
      refine lv_bipush (v := 42) hx hb dX2_betweenOf_28 (by decide) ?_
      refine bc_ne (tgt := 36) hx hb hf dX2_betweenOf_30 (by decide) (fun hf => ?_) (fun hf => ?_)
      · refine lv_aload_n hx hb dX2_betweenOf_36 rfl (lv_at hl 0 rfl) ?_
        refine gM9 X hP dX2_betweenOf_37 ?_
        refine lv_bipush (v := 47) hx hb dX2_betweenOf_40 (by decide) ?_
        refine bc_ne (tgt := 48) hx hb hf dX2_betweenOf_42 (by decide) (fun hf => ?_) (fun hf => ?_)
        · refine lv_aload_n hx hb dX2_betweenOf_48 rfl (lv_at hl 0 rfl) ?_
          obtain ⟨r1, k2, hf⟩ := bd1s hf
          refine cVi (rest := []) X (met_M_openNow k2) gw_X2_X2_openNow dy_X2_openNow ⟨⟨rfl, rfl⟩, Nat.le_of_ble_eq_true rfl, Nat.le_of_ble_eq_true rfl⟩ hP hD hS hl.1 rcM rfl rfl ⟨Nat.zero_le _, Nat.zero_le _⟩ (Nat.le_of_ble_eq_true rfl) dX2_betweenOf_49 (fun H locs hP hD hS => ?_)
          refine lv_bipush (v := 41) hx hb dX2_betweenOf_52 (by decide) ?_
          refine bc_eq (tgt := 59) hx hb hf dX2_betweenOf_54 (by decide) (fun hf => ?_) (fun hf => ?_)
          · refine lv_aload_n hx hb dX2_betweenOf_59 rfl (lv_at hl 0 rfl) ?_
            obtain ⟨r3, k4, hf⟩ := bd1s hf
            refine cVi (rest := []) X (met_M_isCompared k4) gw_X2_X2_isCompared dy_X2_isCompared ⟨⟨rfl, rfl⟩, Nat.le_of_ble_eq_true rfl, Nat.le_of_ble_eq_true rfl⟩ hP hD hS hl.1 rcM rfl rfl ⟨Nat.zero_le _, Nat.zero_le _⟩ (Nat.le_of_ble_eq_true rfl) dX2_betweenOf_60 (fun H locs hP hD hS => ?_)
            refine bq_ne (tgt := 71) hx hb hf dX2_betweenOf_63 (by decide) (fun hf => ?_) (fun hf => ?_)
            · refine lv_aload_n hx hb dX2_betweenOf_71 rfl (lv_at hl 0 rfl) ?_
              refine lv_bipush (v := 97) hx hb dX2_betweenOf_72 (by decide) ?_
              refine lv_bipush (v := 110) hx hb dX2_betweenOf_74 (by decide) ?_
              refine lv_bipush (v := 100) hx hb dX2_betweenOf_76 (by decide) ?_
              obtain ⟨r5, k6, hf⟩ := bd1s hf
              refine cSl (rest := [.ref h]) X (met_M_w3 (g := g) k6) gs_X2_X2_w3 dy_X2_w3 ⟨⟨rfl, rfl⟩, Nat.le_of_ble_eq_true rfl, Nat.le_of_ble_eq_true rfl⟩ hP hD hS hl.1 rfl rfl ⟨Nat.zero_le _, Nat.zero_le _⟩ (Nat.le_of_ble_eq_true rfl) dX2_betweenOf_78 (fun H locs hP hD hS => ?_)
              obtain ⟨r7, k8, hf⟩ := bd1s hf
              refine cVi (rest := []) X (met_M_isWord k8) gw_X2_X2_isWord dy_X2_isWord ⟨⟨rfl, rfl⟩, Nat.le_of_ble_eq_true rfl, Nat.le_of_ble_eq_true rfl⟩ hP hD hS hl.1 rcM rfl rfl ⟨Nat.zero_le _, Nat.zero_le _⟩ (Nat.le_of_ble_eq_true rfl) dX2_betweenOf_81 (fun H locs hP hD hS => ?_)
              refine bq_eq (tgt := 92) hx hb hf dX2_betweenOf_84 (by decide) (fun hf => ?_) (fun hf => ?_)
              · refine lv_aload_n hx hb dX2_betweenOf_92 rfl (lv_at hl 0 rfl) ?_
                refine lv_bipush (v := 111) hx hb dX2_betweenOf_93 (by decide) ?_
                refine lv_bipush (v := 114) hx hb dX2_betweenOf_95 (by decide) ?_
                obtain ⟨r9, k10, hf⟩ := bd1s hf
                refine cSl (rest := [.ref h]) X (met_M_w2 (g := g) k10) gs_X2_X2_w2 dy_X2_w2 ⟨⟨rfl, rfl⟩, Nat.le_of_ble_eq_true rfl, Nat.le_of_ble_eq_true rfl⟩ hP hD hS hl.1 rfl rfl ⟨Nat.zero_le _, Nat.zero_le _⟩ (Nat.le_of_ble_eq_true rfl) dX2_betweenOf_97 (fun H locs hP hD hS => ?_)
                obtain ⟨r11, k12, hf⟩ := bd1s hf
                refine cVi (rest := []) X (met_M_isWord k12) gw_X2_X2_isWord dy_X2_isWord ⟨⟨rfl, rfl⟩, Nat.le_of_ble_eq_true rfl, Nat.le_of_ble_eq_true rfl⟩ hP hD hS hl.1 rcM rfl rfl ⟨Nat.zero_le _, Nat.zero_le _⟩ (Nat.le_of_ble_eq_true rfl) dX2_betweenOf_100 (fun H locs hP hD hS => ?_)
                refine bq_eq (tgt := 111) hx hb hf dX2_betweenOf_103 (by decide) (fun hf => ?_) (fun hf => ?_)
                · refine lv_iconst (v := (-1)) hx hb dX2_betweenOf_111 (by decide) ?_
                  cases hf
                  exact rI X hP hD hS dX2_betweenOf_112
                · refine lv_bipush (v := 22) hx hb dX2_betweenOf_106 (by decide) ?_
                  refine lv_goto (tgt := 112) hx hb dX2_betweenOf_108 (by decide) ?_
                  cases hf
                  exact rI X hP hD hS dX2_betweenOf_112
              · refine lv_bipush (v := 21) hx hb dX2_betweenOf_87 (by decide) ?_
                refine lv_goto (tgt := 112) hx hb dX2_betweenOf_89 (by decide) ?_
                cases hf
                exact rI X hP hD hS dX2_betweenOf_112
            · refine lv_aload_n hx hb dX2_betweenOf_66 rfl (lv_at hl 0 rfl) ?_
              obtain ⟨r13, k14, hf⟩ := bd1s hf
              refine cVi (rest := []) X (met_M_compareOf k14) gw_X2_X2_compareOf dy_X2_compareOf ⟨⟨rfl, rfl⟩, Nat.le_of_ble_eq_true rfl, Nat.le_of_ble_eq_true rfl⟩ hP hD hS hl.1 rcM rfl rfl ⟨Nat.zero_le _, Nat.zero_le _⟩ (Nat.le_of_ble_eq_true rfl) dX2_betweenOf_67 (fun H locs hP hD hS => ?_)
              cases hf
              exact rI X hP hD hS dX2_betweenOf_70
          · refine lv_iconst (v := (-1)) hx hb dX2_betweenOf_57 (by decide) ?_
            cases hf
            exact rI X hP hD hS dX2_betweenOf_58
        · refine lv_bipush (v := 9) hx hb dX2_betweenOf_45 (by decide) ?_
          cases hf
          exact rI X hP hD hS dX2_betweenOf_47
      · refine lv_bipush (v := 8) hx hb dX2_betweenOf_33 (by decide) ?_
        cases hf
        exact rI X hP hD hS dX2_betweenOf_35
    · refine lv_bipush (v := 7) hx hb dX2_betweenOf_21 (by decide) ?_
      cases hf
      exact rI X hP hD hS dX2_betweenOf_23
  · refine lv_bipush (v := 6) hx hb dX2_betweenOf_9 (by decide) ?_
    cases hf
    exact rI X hP hD hS dX2_betweenOf_11
set_option maxHeartbeats 4000000 in
theorem met_M_partOf {l : Launch} {g : gG} {h : Nat} {ad : Nat → Nat} {sTaped : Int32} {sFault : Int32} {sFaultP : Int32} {sAt : Int32} {sPlace : Int32} {sToken : Int32} {sNumber : Int32} {sWord : Int64} {sText0 : Int32} {sWritten : Int32} {sSort0 : Int32} {sPiled : Int32} {sOpens : Int32} {sWhole : Int32} {sOnce : Int32} {sIsW : Int32} {sDied : Int32} {cA : Nat → Int32} {cIm : Nat → Int32} {cTx : Nat → Int32} {cTp : Nat → Int32} {cPl : Nat → Int32} {cNm : Nat → Int32} {cVa : Nat → Int64} {cTr : Nat → Int32} {cAs : Nat → Int32} {cLi : Nat → Int32} {cSa : Nat → Int32} {cHd : Nat → Int32} {x1 : Int32} {r : Int32} {φ : Nat} (hf : M_partOf φ sToken sWord sPiled cPl x1 = some r) : CC l yX2_partOf (ws_ yX2_partOf cX2_partOf 2 (some .int)) ({ frames := 3, cells := 0, slots := 0, locals := 66 } : Room) g [.ref h, .int x1] (mW g h ad sTaped sFault sFaultP sAt sPlace sToken sNumber sWord sText0 sWritten sSort0 sPiled sOpens sWhole sOnce sIsW sDied cA cIm cTx cTp cPl cNm cVa cTr cAs cLi cSa cHd) (some (.int r)) (mW g h ad sTaped sFault sFaultP sAt sPlace sToken sNumber sWord sText0 sWritten sSort0 sPiled sOpens sWhole sOnce sIsW sDied cA cIm cTx cTp cPl cNm cVa cTr cAs cLi cSa cHd) 0 0 := by
  refine CC.of RX2 rfl plain_X2 (Nat.le_of_ble_eq_true rfl) (fun p e s m below meth c A ls X hP hD hS hl => ?_)
  have hx := X.1
  have hb := X.2.1
  have hown := X.2.2.2.2.2.1
  have hts := X.2.2.2.2.2.2.1
  have hl : lv_has ls 2 [(0, .ref h), (1, .int x1)] := hl
  unfold M_partOf at hf
  refine lv_iload_n hx hb dX2_partOf_0 rfl (lv_at hl 1 rfl) ?_
  refine swc hf (fun q hf => ?_) (fun q0 hf => ?_)
  · refine lv_tableOut (tgt := 126) hx hb dX2_partOf_1 (Or.inl q) (by decide) ?_
    refine lv_iconst (v := (-1)) hx hb dX2_partOf_126 (by decide) ?_
    cases hf
    exact rI X hP hD hS dX2_partOf_127
  refine swc hf (fun q hf => ?_) (fun q1 hf => ?_)
  · refine lv_tableOut (tgt := 126) hx hb dX2_partOf_1 (Or.inr q) (by decide) ?_
    refine lv_iconst (v := (-1)) hx hb dX2_partOf_126 (by decide) ?_
    cases hf
    exact rI X hP hD hS dX2_partOf_127
  refine swc hf (fun q hf => ?_) (fun q2 hf => ?_)
  · refine lv_tableIn (off := 31) (tgt := 32) hx hb dX2_partOf_1 q0 q1 (by rw [q]; rfl) (by decide) ?_
    refine lv_aload_n hx hb dX2_partOf_32 rfl (lv_at hl 0 rfl) ?_
    refine gM9 X hP dX2_partOf_33 ?_
    refine lv_bipush (v := 41) hx hb dX2_partOf_36 (by decide) ?_
    refine bc_ne (tgt := 45) hx hb hf dX2_partOf_38 (by decide) (fun hf => ?_) (fun hf => ?_)
    · refine lv_iconst (v := (-1)) hx hb dX2_partOf_45 (by decide) ?_
      cases hf
      exact rI X hP hD hS dX2_partOf_46
    · refine lv_iconst (v := 0) hx hb dX2_partOf_41 (by decide) ?_
      refine lv_goto (tgt := 46) hx hb dX2_partOf_42 (by decide) ?_
      cases hf
      exact rI X hP hD hS dX2_partOf_46
  refine swc hf (fun q hf => ?_) (fun q2 hf => ?_)
  · refine lv_tableIn (off := 46) (tgt := 47) hx hb dX2_partOf_1 q0 q1 (by rw [q]; rfl) (by decide) ?_
    refine lv_aload_n hx hb dX2_partOf_47 rfl (lv_at hl 0 rfl) ?_
    refine lv_bipush (v := 116) hx hb dX2_partOf_48 (by decide) ?_
    refine lv_bipush (v := 104) hx hb dX2_partOf_50 (by decide) ?_
    refine lv_bipush (v := 101) hx hb dX2_partOf_52 (by decide) ?_
    refine lv_bipush (v := 110) hx hb dX2_partOf_54 (by decide) ?_
    obtain ⟨r1, k2, hf⟩ := bd1s hf
    refine cSl (rest := [.ref h]) X (met_M_w4 (g := g) k2) gs_X2_X2_w4 dy_X2_w4 ⟨⟨rfl, rfl⟩, Nat.le_of_ble_eq_true rfl, Nat.le_of_ble_eq_true rfl⟩ hP hD hS hl.1 rfl rfl ⟨Nat.zero_le _, Nat.zero_le _⟩ (Nat.le_of_ble_eq_true rfl) dX2_partOf_56 (fun H locs hP hD hS => ?_)
    obtain ⟨r3, k4, hf⟩ := bd1s hf
    refine cVi (rest := []) X (met_M_isWord k4) gw_X2_X2_isWord dy_X2_isWord ⟨⟨rfl, rfl⟩, Nat.le_of_ble_eq_true rfl, Nat.le_of_ble_eq_true rfl⟩ hP hD hS hl.1 rcM rfl rfl ⟨Nat.zero_le _, Nat.zero_le _⟩ (Nat.le_of_ble_eq_true rfl) dX2_partOf_59 (fun H locs hP hD hS => ?_)
    refine bq_eq (tgt := 77) hx hb hf dX2_partOf_62 (by decide) (fun hf => ?_) (fun hf => ?_)
    · refine lv_iconst (v := (-1)) hx hb dX2_partOf_77 (by decide) ?_
      cases hf
      exact rI X hP hD hS dX2_partOf_78
    · refine lv_aload_n hx hb dX2_partOf_65 rfl (lv_at hl 0 rfl) ?_
      obtain ⟨r5, k6, hf⟩ := bd1s hf
      refine cVi (rest := []) X (met_M_isCompared k6) gw_X2_X2_isCompared dy_X2_isCompared ⟨⟨rfl, rfl⟩, Nat.le_of_ble_eq_true rfl, Nat.le_of_ble_eq_true rfl⟩ hP hD hS hl.1 rcM rfl rfl ⟨Nat.zero_le _, Nat.zero_le _⟩ (Nat.le_of_ble_eq_true rfl) dX2_partOf_66 (fun H locs hP hD hS => ?_)
      refine bq_eq (tgt := 77) hx hb hf dX2_partOf_69 (by decide) (fun hf => ?_) (fun hf => ?_)
      · refine lv_iconst (v := (-1)) hx hb dX2_partOf_77 (by decide) ?_
        cases hf
        exact rI X hP hD hS dX2_partOf_78
      · refine lv_bipush (v := 42) hx hb dX2_partOf_72 (by decide) ?_
        refine lv_goto (tgt := 78) hx hb dX2_partOf_74 (by decide) ?_
        cases hf
        exact rI X hP hD hS dX2_partOf_78
  refine swc hf (fun q hf => ?_) (fun q2 hf => ?_)
  · refine lv_tableIn (off := 78) (tgt := 79) hx hb dX2_partOf_1 q0 q1 (by rw [q]; rfl) (by decide) ?_
    refine lv_aload_n hx hb dX2_partOf_79 rfl (lv_at hl 0 rfl) ?_
    refine lv_bipush (v := 101) hx hb dX2_partOf_80 (by decide) ?_
    refine lv_bipush (v := 108) hx hb dX2_partOf_82 (by decide) ?_
    refine lv_bipush (v := 115) hx hb dX2_partOf_84 (by decide) ?_
    refine lv_bipush (v := 101) hx hb dX2_partOf_86 (by decide) ?_
    obtain ⟨r7, k8, hf⟩ := bd1s hf
    refine cSl (rest := [.ref h]) X (met_M_w4 (g := g) k8) gs_X2_X2_w4 dy_X2_w4 ⟨⟨rfl, rfl⟩, Nat.le_of_ble_eq_true rfl, Nat.le_of_ble_eq_true rfl⟩ hP hD hS hl.1 rfl rfl ⟨Nat.zero_le _, Nat.zero_le _⟩ (Nat.le_of_ble_eq_true rfl) dX2_partOf_88 (fun H locs hP hD hS => ?_)
    obtain ⟨r9, k10, hf⟩ := bd1s hf
    refine cVi (rest := []) X (met_M_isWord k10) gw_X2_X2_isWord dy_X2_isWord ⟨⟨rfl, rfl⟩, Nat.le_of_ble_eq_true rfl, Nat.le_of_ble_eq_true rfl⟩ hP hD hS hl.1 rcM rfl rfl ⟨Nat.zero_le _, Nat.zero_le _⟩ (Nat.le_of_ble_eq_true rfl) dX2_partOf_91 (fun H locs hP hD hS => ?_)
    refine bq_eq (tgt := 102) hx hb hf dX2_partOf_94 (by decide) (fun hf => ?_) (fun hf => ?_)
    · refine lv_iconst (v := (-1)) hx hb dX2_partOf_102 (by decide) ?_
      cases hf
      exact rI X hP hD hS dX2_partOf_103
    · refine lv_bipush (v := 43) hx hb dX2_partOf_97 (by decide) ?_
      refine lv_goto (tgt := 103) hx hb dX2_partOf_99 (by decide) ?_
      cases hf
      exact rI X hP hD hS dX2_partOf_103
  refine swc hf (fun q hf => ?_) (fun q2 hf => ?_)
  · refine lv_tableIn (off := 103) (tgt := 104) hx hb dX2_partOf_1 q0 q1 (by rw [q]; rfl) (by decide) ?_
    refine lv_aload_n hx hb dX2_partOf_104 rfl (lv_at hl 0 rfl) ?_
    refine lv_bipush (v := 101) hx hb dX2_partOf_105 (by decide) ?_
    refine lv_bipush (v := 110) hx hb dX2_partOf_107 (by decide) ?_
    refine lv_bipush (v := 100) hx hb dX2_partOf_109 (by decide) ?_
    obtain ⟨r11, k12, hf⟩ := bd1s hf
    refine cSl (rest := [.ref h]) X (met_M_w3 (g := g) k12) gs_X2_X2_w3 dy_X2_w3 ⟨⟨rfl, rfl⟩, Nat.le_of_ble_eq_true rfl, Nat.le_of_ble_eq_true rfl⟩ hP hD hS hl.1 rfl rfl ⟨Nat.zero_le _, Nat.zero_le _⟩ (Nat.le_of_ble_eq_true rfl) dX2_partOf_111 (fun H locs hP hD hS => ?_)
    obtain ⟨r13, k14, hf⟩ := bd1s hf
    refine cVi (rest := []) X (met_M_isWord k14) gw_X2_X2_isWord dy_X2_isWord ⟨⟨rfl, rfl⟩, Nat.le_of_ble_eq_true rfl, Nat.le_of_ble_eq_true rfl⟩ hP hD hS hl.1 rcM rfl rfl ⟨Nat.zero_le _, Nat.zero_le _⟩ (Nat.le_of_ble_eq_true rfl) dX2_partOf_114 (fun H locs hP hD hS => ?_)
    refine bq_eq (tgt := 124) hx hb hf dX2_partOf_117 (by decide) (fun hf => ?_) (fun hf => ?_)
    · refine lv_iconst (v := (-1)) hx hb dX2_partOf_124 (by decide) ?_
      cases hf
      exact rI X hP hD hS dX2_partOf_125
    · refine lv_iconst (v := 0) hx hb dX2_partOf_120 (by decide) ?_
      refine lv_goto (tgt := 125) hx hb dX2_partOf_121 (by decide) ?_
      cases hf
      exact rI X hP hD hS dX2_partOf_125
  exact nn hf
theorem gs_X2_X2_w6 : GoodIn lw_all (va_wsS RX2 150 yX2_w6 (ws_ yX2_w6 cX2_w6 6 (some .long))) := lw_S q1592 q1593 q148 q1594
theorem dy_X2_w6 : Dy yX2_w6 RX2 6 := by decide +kernel
set_option maxHeartbeats 4000000 in
theorem met_M_nameOf {l : Launch} {g : gG} {h : Nat} {ad : Nat → Nat} {sTaped : Int32} {sFault : Int32} {sFaultP : Int32} {sAt : Int32} {sPlace : Int32} {sToken : Int32} {sNumber : Int32} {sWord : Int64} {sText0 : Int32} {sWritten : Int32} {sSort0 : Int32} {sPiled : Int32} {sOpens : Int32} {sWhole : Int32} {sOnce : Int32} {sIsW : Int32} {sDied : Int32} {cA : Nat → Int32} {cIm : Nat → Int32} {cTx : Nat → Int32} {cTp : Nat → Int32} {cPl : Nat → Int32} {cNm : Nat → Int32} {cVa : Nat → Int64} {cTr : Nat → Int32} {cAs : Nat → Int32} {cLi : Nat → Int32} {cSa : Nat → Int32} {cHd : Nat → Int32} {r : Int32} (hf : M_nameOf sToken sWord = some r) : CC l yX2_nameOf (ws_ yX2_nameOf cX2_nameOf 1 (some .int)) ({ frames := 5, cells := 0, slots := 0, locals := 115 } : Room) g [.ref h] (mW g h ad sTaped sFault sFaultP sAt sPlace sToken sNumber sWord sText0 sWritten sSort0 sPiled sOpens sWhole sOnce sIsW sDied cA cIm cTx cTp cPl cNm cVa cTr cAs cLi cSa cHd) (some (.int r)) (mW g h ad sTaped sFault sFaultP sAt sPlace sToken sNumber sWord sText0 sWritten sSort0 sPiled sOpens sWhole sOnce sIsW sDied cA cIm cTx cTp cPl cNm cVa cTr cAs cLi cSa cHd) 0 0 := by
  refine CC.of RX2 rfl plain_X2 (Nat.le_of_ble_eq_true rfl) (fun p e s m below meth c A ls X hP hD hS hl => ?_)
  have hx := X.1
  have hb := X.2.1
  have hown := X.2.2.2.2.2.1
  have hts := X.2.2.2.2.2.2.1
  have hl : lv_has ls 1 [(0, .ref h)] := hl
  unfold M_nameOf at hf
  refine lv_aload_n hx hb dX2_nameOf_0 rfl (lv_at hl 0 rfl) ?_
  refine gM9 X hP dX2_nameOf_1 ?_
  refine lv_iconst (v := 2) hx hb dX2_nameOf_4 (by decide) ?_
  refine bc_eq (tgt := 10) hx hb hf dX2_nameOf_5 (by decide) (fun hf => ?_) (fun hf => ?_)
  · refine lv_aload_n hx hb dX2_nameOf_10 rfl (lv_at hl 0 rfl) ?_
    refine gM11 X hP dX2_nameOf_11 ?_
    refine lv_bipush (v := 109) hx hb dX2_nameOf_14 (by decide) ?_
    refine lv_bipush (v := 111) hx hb dX2_nameOf_16 (by decide) ?_
    refine lv_bipush (v := 110) hx hb dX2_nameOf_18 (by decide) ?_
    refine lv_bipush (v := 116) hx hb dX2_nameOf_20 (by decide) ?_
    refine lv_bipush (v := 104) hx hb dX2_nameOf_22 (by decide) ?_
    obtain ⟨r1, k2, hf⟩ := bd1s hf
    refine cSl (rest := [.long sWord]) X (met_M_w5 (g := g) k2) gs_X2_X2_w5 dy_X2_w5 ⟨⟨rfl, rfl⟩, Nat.le_of_ble_eq_true rfl, Nat.le_of_ble_eq_true rfl⟩ hP hD hS hl.1 rfl rfl ⟨Nat.zero_le _, Nat.zero_le _⟩ (Nat.le_of_ble_eq_true rfl) dX2_nameOf_24 (fun H locs hP hD hS => ?_)
    refine W.lcmp hx hb dX2_nameOf_27 ?_
    refine bq_ne (tgt := 33) hx hb hf dX2_nameOf_28 (by decide) (fun hf => ?_) (fun hf => ?_)
    · refine lv_aload_n hx hb dX2_nameOf_33 rfl (lv_at hl 0 rfl) ?_
      refine gM11 X hP dX2_nameOf_34 ?_
      refine lv_bipush (v := 119) hx hb dX2_nameOf_37 (by decide) ?_
      refine lv_bipush (v := 104) hx hb dX2_nameOf_39 (by decide) ?_
      refine lv_bipush (v := 111) hx hb dX2_nameOf_41 (by decide) ?_
      obtain ⟨r3, k4, hf⟩ := bd1s hf
      refine cSl (rest := [.long sWord]) X (met_M_w3 (g := g) k4) gs_X2_X2_w3 dy_X2_w3 ⟨⟨rfl, rfl⟩, Nat.le_of_ble_eq_true rfl, Nat.le_of_ble_eq_true rfl⟩ hP hD hS hl.1 rfl rfl ⟨Nat.zero_le _, Nat.zero_le _⟩ (Nat.le_of_ble_eq_true rfl) dX2_nameOf_43 (fun H locs hP hD hS => ?_)
      refine W.lcmp hx hb dX2_nameOf_46 ?_
      refine bq_ne (tgt := 52) hx hb hf dX2_nameOf_47 (by decide) (fun hf => ?_) (fun hf => ?_)
      · refine lv_aload_n hx hb dX2_nameOf_52 rfl (lv_at hl 0 rfl) ?_
        refine gM11 X hP dX2_nameOf_53 ?_
        refine lv_bipush (v := 102) hx hb dX2_nameOf_56 (by decide) ?_
        refine lv_bipush (v := 101) hx hb dX2_nameOf_58 (by decide) ?_
        refine lv_bipush (v := 97) hx hb dX2_nameOf_60 (by decide) ?_
        refine lv_bipush (v := 114) hx hb dX2_nameOf_62 (by decide) ?_
        obtain ⟨r5, k6, hf⟩ := bd1s hf
        refine cSl (rest := [.long sWord]) X (met_M_w4 (g := g) k6) gs_X2_X2_w4 dy_X2_w4 ⟨⟨rfl, rfl⟩, Nat.le_of_ble_eq_true rfl, Nat.le_of_ble_eq_true rfl⟩ hP hD hS hl.1 rfl rfl ⟨Nat.zero_le _, Nat.zero_le _⟩ (Nat.le_of_ble_eq_true rfl) dX2_nameOf_64 (fun H locs hP hD hS => ?_)
        refine W.lcmp hx hb dX2_nameOf_67 ?_
        refine bq_ne (tgt := 73) hx hb hf dX2_nameOf_68 (by decide) (fun hf => ?_) (fun hf => ?_)
        · refine lv_aload_n hx hb dX2_nameOf_73 rfl (lv_at hl 0 rfl) ?_
          refine gM11 X hP dX2_nameOf_74 ?_
          refine lv_bipush (v := 108) hx hb dX2_nameOf_77 (by decide) ?_
          refine lv_bipush (v := 97) hx hb dX2_nameOf_79 (by decide) ?_
          refine lv_bipush (v := 110) hx hb dX2_nameOf_81 (by decide) ?_
          refine lv_bipush (v := 100) hx hb dX2_nameOf_83 (by decide) ?_
          obtain ⟨r7, k8, hf⟩ := bd1s hf
          refine cSl (rest := [.long sWord]) X (met_M_w4 (g := g) k8) gs_X2_X2_w4 dy_X2_w4 ⟨⟨rfl, rfl⟩, Nat.le_of_ble_eq_true rfl, Nat.le_of_ble_eq_true rfl⟩ hP hD hS hl.1 rfl rfl ⟨Nat.zero_le _, Nat.zero_le _⟩ (Nat.le_of_ble_eq_true rfl) dX2_nameOf_85 (fun H locs hP hD hS => ?_)
          refine W.lcmp hx hb dX2_nameOf_88 ?_
          refine bq_ne (tgt := 94) hx hb hf dX2_nameOf_89 (by decide) (fun hf => ?_) (fun hf => ?_)
          · refine lv_aload_n hx hb dX2_nameOf_94 rfl (lv_at hl 0 rfl) ?_
            refine gM11 X hP dX2_nameOf_95 ?_
            refine lv_bipush (v := 102) hx hb dX2_nameOf_98 (by decide) ?_
            refine lv_bipush (v := 111) hx hb dX2_nameOf_100 (by decide) ?_
            refine lv_bipush (v := 114) hx hb dX2_nameOf_102 (by decide) ?_
            refine lv_bipush (v := 101) hx hb dX2_nameOf_104 (by decide) ?_
            refine lv_bipush (v := 115) hx hb dX2_nameOf_106 (by decide) ?_
            refine lv_bipush (v := 116) hx hb dX2_nameOf_108 (by decide) ?_
            obtain ⟨r9, k10, hf⟩ := bd1s hf
            refine cSl (rest := [.long sWord]) X (met_M_w6 (g := g) k10) gs_X2_X2_w6 dy_X2_w6 ⟨⟨rfl, rfl⟩, Nat.le_of_ble_eq_true rfl, Nat.le_of_ble_eq_true rfl⟩ hP hD hS hl.1 rfl rfl ⟨Nat.zero_le _, Nat.zero_le _⟩ (Nat.le_of_ble_eq_true rfl) dX2_nameOf_110 (fun H locs hP hD hS => ?_)
            refine W.lcmp hx hb dX2_nameOf_113 ?_
            refine bq_ne (tgt := 119) hx hb hf dX2_nameOf_114 (by decide) (fun hf => ?_) (fun hf => ?_)
            · refine lv_aload_n hx hb dX2_nameOf_119 rfl (lv_at hl 0 rfl) ?_
              refine gM11 X hP dX2_nameOf_120 ?_
              refine lv_bipush (v := 104) hx hb dX2_nameOf_123 (by decide) ?_
              refine lv_bipush (v := 117) hx hb dX2_nameOf_125 (by decide) ?_
              refine lv_bipush (v := 110) hx hb dX2_nameOf_127 (by decide) ?_
              refine lv_bipush (v := 103) hx hb dX2_nameOf_129 (by decide) ?_
              refine lv_bipush (v := 101) hx hb dX2_nameOf_131 (by decide) ?_
              refine lv_bipush (v := 114) hx hb dX2_nameOf_133 (by decide) ?_
              obtain ⟨r11, k12, hf⟩ := bd1s hf
              refine cSl (rest := [.long sWord]) X (met_M_w6 (g := g) k12) gs_X2_X2_w6 dy_X2_w6 ⟨⟨rfl, rfl⟩, Nat.le_of_ble_eq_true rfl, Nat.le_of_ble_eq_true rfl⟩ hP hD hS hl.1 rfl rfl ⟨Nat.zero_le _, Nat.zero_le _⟩ (Nat.le_of_ble_eq_true rfl) dX2_nameOf_135 (fun H locs hP hD hS => ?_)
              refine W.lcmp hx hb dX2_nameOf_138 ?_
              refine bq_ne (tgt := 144) hx hb hf dX2_nameOf_139 (by decide) (fun hf => ?_) (fun hf => ?_)
              · refine lv_aload_n hx hb dX2_nameOf_144 rfl (lv_at hl 0 rfl) ?_
                refine gM11 X hP dX2_nameOf_145 ?_
                refine lv_bipush (v := 111) hx hb dX2_nameOf_148 (by decide) ?_
                refine lv_bipush (v := 117) hx hb dX2_nameOf_150 (by decide) ?_
                refine lv_bipush (v := 116) hx hb dX2_nameOf_152 (by decide) ?_
                obtain ⟨r13, k14, hf⟩ := bd1s hf
                refine cSl (rest := [.long sWord]) X (met_M_w3 (g := g) k14) gs_X2_X2_w3 dy_X2_w3 ⟨⟨rfl, rfl⟩, Nat.le_of_ble_eq_true rfl, Nat.le_of_ble_eq_true rfl⟩ hP hD hS hl.1 rfl rfl ⟨Nat.zero_le _, Nat.zero_le _⟩ (Nat.le_of_ble_eq_true rfl) dX2_nameOf_154 (fun H locs hP hD hS => ?_)
                refine W.lcmp hx hb dX2_nameOf_157 ?_
                refine bq_ne (tgt := 164) hx hb hf dX2_nameOf_158 (by decide) (fun hf => ?_) (fun hf => ?_)
                · refine lv_aload_n hx hb dX2_nameOf_164 rfl (lv_at hl 0 rfl) ?_
                  refine gM11 X hP dX2_nameOf_165 ?_
                  refine lv_bipush (v := 103) hx hb dX2_nameOf_168 (by decide) ?_
                  refine lv_bipush (v := 111) hx hb dX2_nameOf_170 (by decide) ?_
                  refine lv_bipush (v := 111) hx hb dX2_nameOf_172 (by decide) ?_
                  refine lv_bipush (v := 100) hx hb dX2_nameOf_174 (by decide) ?_
                  refine lv_bipush (v := 115) hx hb dX2_nameOf_176 (by decide) ?_
                  obtain ⟨r15, k16, hf⟩ := bd1s hf
                  refine cSl (rest := [.long sWord]) X (met_M_w5 (g := g) k16) gs_X2_X2_w5 dy_X2_w5 ⟨⟨rfl, rfl⟩, Nat.le_of_ble_eq_true rfl, Nat.le_of_ble_eq_true rfl⟩ hP hD hS hl.1 rfl rfl ⟨Nat.zero_le _, Nat.zero_le _⟩ (Nat.le_of_ble_eq_true rfl) dX2_nameOf_178 (fun H locs hP hD hS => ?_)
                  refine W.lcmp hx hb dX2_nameOf_181 ?_
                  refine bq_ne (tgt := 188) hx hb hf dX2_nameOf_182 (by decide) (fun hf => ?_) (fun hf => ?_)
                  · refine lv_aload_n hx hb dX2_nameOf_188 rfl (lv_at hl 0 rfl) ?_
                    refine gM11 X hP dX2_nameOf_189 ?_
                    refine lv_bipush (v := 100) hx hb dX2_nameOf_192 (by decide) ?_
                    refine lv_bipush (v := 101) hx hb dX2_nameOf_194 (by decide) ?_
                    refine lv_bipush (v := 98) hx hb dX2_nameOf_196 (by decide) ?_
                    refine lv_bipush (v := 116) hx hb dX2_nameOf_198 (by decide) ?_
                    refine lv_bipush (v := 115) hx hb dX2_nameOf_200 (by decide) ?_
                    obtain ⟨r17, k18, hf⟩ := bd1s hf
                    refine cSl (rest := [.long sWord]) X (met_M_w5 (g := g) k18) gs_X2_X2_w5 dy_X2_w5 ⟨⟨rfl, rfl⟩, Nat.le_of_ble_eq_true rfl, Nat.le_of_ble_eq_true rfl⟩ hP hD hS hl.1 rfl rfl ⟨Nat.zero_le _, Nat.zero_le _⟩ (Nat.le_of_ble_eq_true rfl) dX2_nameOf_202 (fun H locs hP hD hS => ?_)
                    refine W.lcmp hx hb dX2_nameOf_205 ?_
                    refine bq_ne (tgt := 214) hx hb hf dX2_nameOf_206 (by decide) (fun hf => ?_) (fun hf => ?_)
                    · refine lv_aload_n hx hb dX2_nameOf_214 rfl (lv_at hl 0 rfl) ?_
                      refine gM11 X hP dX2_nameOf_215 ?_
                      refine lv_bipush (v := 99) hx hb dX2_nameOf_218 (by decide) ?_
                      refine lv_bipush (v := 114) hx hb dX2_nameOf_220 (by decide) ?_
                      refine lv_bipush (v := 111) hx hb dX2_nameOf_222 (by decide) ?_
                      refine lv_bipush (v := 119) hx hb dX2_nameOf_224 (by decide) ?_
                      refine lv_bipush (v := 100) hx hb dX2_nameOf_226 (by decide) ?_
                      obtain ⟨r19, k20, hf⟩ := bd1s hf
                      refine cSl (rest := [.long sWord]) X (met_M_w5 (g := g) k20) gs_X2_X2_w5 dy_X2_w5 ⟨⟨rfl, rfl⟩, Nat.le_of_ble_eq_true rfl, Nat.le_of_ble_eq_true rfl⟩ hP hD hS hl.1 rfl rfl ⟨Nat.zero_le _, Nat.zero_le _⟩ (Nat.le_of_ble_eq_true rfl) dX2_nameOf_228 (fun H locs hP hD hS => ?_)
                      refine W.lcmp hx hb dX2_nameOf_231 ?_
                      refine bq_ne (tgt := 240) hx hb hf dX2_nameOf_232 (by decide) (fun hf => ?_) (fun hf => ?_)
                      · refine lv_iconst (v := (-1)) hx hb dX2_nameOf_240 (by decide) ?_
                        cases hf
                        exact rI X hP hD hS dX2_nameOf_241
                      · refine lv_bipush (v := 9) hx hb dX2_nameOf_235 (by decide) ?_
                        refine lv_goto (tgt := 241) hx hb dX2_nameOf_237 (by decide) ?_
                        cases hf
                        exact rI X hP hD hS dX2_nameOf_241
                    · refine lv_bipush (v := 8) hx hb dX2_nameOf_209 (by decide) ?_
                      refine lv_goto (tgt := 241) hx hb dX2_nameOf_211 (by decide) ?_
                      cases hf
                      exact rI X hP hD hS dX2_nameOf_241
                  · refine lv_bipush (v := 7) hx hb dX2_nameOf_185 (by decide) ?_
                    cases hf
                    exact rI X hP hD hS dX2_nameOf_187
                · refine lv_bipush (v := 6) hx hb dX2_nameOf_161 (by decide) ?_
                  cases hf
                  exact rI X hP hD hS dX2_nameOf_163
              · refine lv_iconst (v := 5) hx hb dX2_nameOf_142 (by decide) ?_
                cases hf
                exact rI X hP hD hS dX2_nameOf_143
            · refine lv_iconst (v := 4) hx hb dX2_nameOf_117 (by decide) ?_
              cases hf
              exact rI X hP hD hS dX2_nameOf_118
          · refine lv_iconst (v := 3) hx hb dX2_nameOf_92 (by decide) ?_
            cases hf
            exact rI X hP hD hS dX2_nameOf_93
        · refine lv_iconst (v := 2) hx hb dX2_nameOf_71 (by decide) ?_
          cases hf
          exact rI X hP hD hS dX2_nameOf_72
      · refine lv_iconst (v := 1) hx hb dX2_nameOf_50 (by decide) ?_
        cases hf
        exact rI X hP hD hS dX2_nameOf_51
    · refine lv_iconst (v := 0) hx hb dX2_nameOf_31 (by decide) ?_
      cases hf
      exact rI X hP hD hS dX2_nameOf_32
  · refine lv_iconst (v := (-1)) hx hb dX2_nameOf_8 (by decide) ?_
    cases hf
    exact rI X hP hD hS dX2_nameOf_9
set_option maxHeartbeats 4000000 in
theorem met_M_canCall {l : Launch} {g : gG} {h : Nat} {ad : Nat → Nat} {sTaped : Int32} {sFault : Int32} {sFaultP : Int32} {sAt : Int32} {sPlace : Int32} {sToken : Int32} {sNumber : Int32} {sWord : Int64} {sText0 : Int32} {sWritten : Int32} {sSort0 : Int32} {sPiled : Int32} {sOpens : Int32} {sWhole : Int32} {sOnce : Int32} {sIsW : Int32} {sDied : Int32} {cA : Nat → Int32} {cIm : Nat → Int32} {cTx : Nat → Int32} {cTp : Nat → Int32} {cPl : Nat → Int32} {cNm : Nat → Int32} {cVa : Nat → Int64} {cTr : Nat → Int32} {cAs : Nat → Int32} {cLi : Nat → Int32} {cSa : Nat → Int32} {cHd : Nat → Int32} {x1 : Int32} {x2 : Int32} {r : Int32} (hf : M_canCall cA x1 x2 = some r) : CC l yX2_canCall (ws_ yX2_canCall cX2_canCall 3 (some .boolean)) ({ frames := 3, cells := 0, slots := 0, locals := 64 } : Room) g [.ref h, .int x1, .int x2] (mW g h ad sTaped sFault sFaultP sAt sPlace sToken sNumber sWord sText0 sWritten sSort0 sPiled sOpens sWhole sOnce sIsW sDied cA cIm cTx cTp cPl cNm cVa cTr cAs cLi cSa cHd) (some (.int r)) (mW g h ad sTaped sFault sFaultP sAt sPlace sToken sNumber sWord sText0 sWritten sSort0 sPiled sOpens sWhole sOnce sIsW sDied cA cIm cTx cTp cPl cNm cVa cTr cAs cLi cSa cHd) 0 0 := by
  refine CC.of RX2 rfl plain_X2 (Nat.le_of_ble_eq_true rfl) (fun p e s m below meth c A ls X hP hD hS hl => ?_)
  have hx := X.1
  have hb := X.2.1
  have hown := X.2.2.2.2.2.1
  have hts := X.2.2.2.2.2.2.1
  have hl : lv_has ls 3 [(0, .ref h), (1, .int x1), (2, .int x2)] := hl
  unfold M_canCall at hf
  refine lv_aload_n hx hb dX2_canCall_0 rfl (lv_at hl 0 rfl) ?_
  refine lv_iload_n hx hb dX2_canCall_1 rfl (lv_at hl 1 rfl) ?_
  obtain ⟨r1, k2, hf⟩ := bd1s hf
  refine cVi (rest := []) X (met_M_isAlive k2) gw_X2_X2_isAlive dy_X2_isAlive ⟨⟨rfl, rfl⟩, Nat.le_of_ble_eq_true rfl, Nat.le_of_ble_eq_true rfl⟩ hP hD hS hl.1 rcM rfl rfl ⟨Nat.zero_le _, Nat.zero_le _⟩ (Nat.le_of_ble_eq_true rfl) dX2_canCall_2 (fun H locs hP hD hS => ?_)
  refine bq_eq (tgt := 31) hx hb hf dX2_canCall_5 (by decide) (fun hf => ?_) (fun hf => ?_)
  · refine lv_iconst (v := 0) hx hb dX2_canCall_31 (by decide) ?_
    cases hf
    exact rZ X rfl hP hD hS dX2_canCall_32
  · refine lv_aload_n hx hb dX2_canCall_8 rfl (lv_at hl 0 rfl) ?_
    refine lv_iload_n hx hb dX2_canCall_9 rfl (lv_at hl 1 rfl) ?_
    refine lv_bipush (v := 6) hx hb dX2_canCall_10 (by decide) ?_
    obtain ⟨r3, k4, hf⟩ := bd1s hf
    refine cVi (rest := []) X (met_M_get k4) gw_X2_X2_get dy_X2_get ⟨⟨rfl, rfl⟩, Nat.le_of_ble_eq_true rfl, Nat.le_of_ble_eq_true rfl⟩ hP hD hS hl.1 rcM rfl rfl ⟨Nat.zero_le _, Nat.zero_le _⟩ (Nat.le_of_ble_eq_true rfl) dX2_canCall_12 (fun H locs hP hD hS => ?_)
    refine lv_iconst (v := 1) hx hb dX2_canCall_15 (by decide) ?_
    refine bc_eq (tgt := 31) hx hb hf dX2_canCall_16 (by decide) (fun hf => ?_) (fun hf => ?_)
    · refine lv_iconst (v := 0) hx hb dX2_canCall_31 (by decide) ?_
      cases hf
      exact rZ X rfl hP hD hS dX2_canCall_32
    · refine lv_aload_n hx hb dX2_canCall_19 rfl (lv_at hl 0 rfl) ?_
      refine lv_iload_n hx hb dX2_canCall_20 rfl (lv_at hl 2 rfl) ?_
      obtain ⟨r5, k6, hf⟩ := bd1s hf
      refine cVi (rest := []) X (met_M_isLand k6) gw_X2_X2_isLand dy_X2_isLand ⟨⟨rfl, rfl⟩, Nat.le_of_ble_eq_true rfl, Nat.le_of_ble_eq_true rfl⟩ hP hD hS hl.1 rcM rfl rfl ⟨Nat.zero_le _, Nat.zero_le _⟩ (Nat.le_of_ble_eq_true rfl) dX2_canCall_21 (fun H locs hP hD hS => ?_)
      refine bq_eq (tgt := 31) hx hb hf dX2_canCall_24 (by decide) (fun hf => ?_) (fun hf => ?_)
      · refine lv_iconst (v := 0) hx hb dX2_canCall_31 (by decide) ?_
        cases hf
        exact rZ X rfl hP hD hS dX2_canCall_32
      · refine lv_iconst (v := 1) hx hb dX2_canCall_27 (by decide) ?_
        refine lv_goto (tgt := 32) hx hb dX2_canCall_28 (by decide) ?_
        cases hf
        exact rZ X rfl hP hD hS dX2_canCall_32
theorem gw_X2_X2_canMove : GoodIn lw_all (wsV RX2 355 RX2 yX2_canMove (ws_ yX2_canMove cX2_canMove 3 (some .boolean))) := lw_V q1726 q1728 qs103 q148 q1729
theorem dy_X2_canMove : Dy yX2_canMove RX2 2 := by decide +kernel
theorem gw_X2_X2_keep : GoodIn lw_all (wsV RX2 349 RX2 yX2_keep (ws_ yX2_keep cX2_keep 4 none)) := lw_V q1710 q1712 qs100 q148 q1713
theorem dy_X2_keep : Dy yX2_keep RX2 0 := by decide +kernel
set_option maxHeartbeats 4000000 in
theorem met_M_move {l : Launch} {g : gG} {h : Nat} {ad : Nat → Nat} {sTaped : Int32} {sFault : Int32} {sFaultP : Int32} {sAt : Int32} {sPlace : Int32} {sToken : Int32} {sNumber : Int32} {sWord : Int64} {sText0 : Int32} {sWritten : Int32} {sSort0 : Int32} {sPiled : Int32} {sOpens : Int32} {sWhole : Int32} {sOnce : Int32} {sIsW : Int32} {sDied : Int32} {cA : Nat → Int32} {cIm : Nat → Int32} {cTx : Nat → Int32} {cTp : Nat → Int32} {cPl : Nat → Int32} {cNm : Nat → Int32} {cVa : Nat → Int64} {cTr : Nat → Int32} {cAs : Nat → Int32} {cLi : Nat → Int32} {cSa : Nat → Int32} {cHd : Nat → Int32} {x1 : Int32} {x2 : Int32} {r : Int32} {ncA : Nat → Int32} {φ : Nat} (hf : M_move φ cA x1 x2 = some (r, ncA)) : CC l yX2_move (ws_ yX2_move cX2_move 3 (some .boolean)) ({ frames := 4, cells := 0, slots := 0, locals := 86 } : Room) g [.ref h, .int x1, .int x2] (mW g h ad sTaped sFault sFaultP sAt sPlace sToken sNumber sWord sText0 sWritten sSort0 sPiled sOpens sWhole sOnce sIsW sDied cA cIm cTx cTp cPl cNm cVa cTr cAs cLi cSa cHd) (some (.int r)) (mW g h ad sTaped sFault sFaultP sAt sPlace sToken sNumber sWord sText0 sWritten sSort0 sPiled sOpens sWhole sOnce sIsW sDied ncA cIm cTx cTp cPl cNm cVa cTr cAs cLi cSa cHd) 0 0 := by
  refine CC.of RX2 rfl plain_X2 (Nat.le_of_ble_eq_true rfl) (fun p e s m below meth c A ls X hP hD hS hl => ?_)
  have hx := X.1
  have hb := X.2.1
  have hown := X.2.2.2.2.2.1
  have hts := X.2.2.2.2.2.2.1
  have hl : lv_has ls 3 [(0, .ref h), (1, .int x1), (2, .int x2)] := hl
  unfold M_move at hf
  refine lv_aload_n hx hb dX2_move_0 rfl (lv_at hl 0 rfl) ?_
  refine lv_iload_n hx hb dX2_move_1 rfl (lv_at hl 1 rfl) ?_
  refine lv_iload_n hx hb dX2_move_2 rfl (lv_at hl 2 rfl) ?_
  obtain ⟨r1, k2, hf⟩ := bd1s hf
  refine cVi (rest := []) X (met_M_canMove k2) gw_X2_X2_canMove dy_X2_canMove ⟨⟨rfl, rfl⟩, Nat.le_of_ble_eq_true rfl, Nat.le_of_ble_eq_true rfl⟩ hP hD hS hl.1 rcM rfl rfl ⟨Nat.zero_le _, Nat.zero_le _⟩ (Nat.le_of_ble_eq_true rfl) dX2_move_3 (fun H locs hP hD hS => ?_)
  refine bq_ne (tgt := 11) hx hb hf dX2_move_6 (by decide) (fun hf => ?_) (fun hf => ?_)
  · refine lv_aload_n hx hb dX2_move_11 rfl (lv_at hl 0 rfl) ?_
    obtain ⟨c3, k4, hf⟩ := bd1s hf
    refine cVv (rest := []) X (met_M_keep k4) gw_X2_X2_keep dy_X2_keep ⟨⟨rfl, rfl⟩, Nat.le_of_ble_eq_true rfl, Nat.le_of_ble_eq_true rfl⟩ hP hD hS hl.1 rcM rfl rfl ⟨Nat.zero_le _, Nat.zero_le _⟩ (Nat.le_of_ble_eq_true rfl) dX2_move_12 (fun H locs hP hD hS => ?_)
    refine lv_aload_n hx hb dX2_move_15 rfl (lv_at hl 0 rfl) ?_
    refine lv_iload_n hx hb dX2_move_16 rfl (lv_at hl 1 rfl) ?_
    refine lv_iconst (v := 0) hx hb dX2_move_17 (by decide) ?_
    refine lv_iload_n hx hb dX2_move_18 rfl (lv_at hl 2 rfl) ?_
    obtain ⟨c5, k6, hf⟩ := bd1s hf
    refine cVv (rest := []) X (met_M_put k6) gw_X2_X2_put dy_X2_put ⟨⟨rfl, rfl⟩, Nat.le_of_ble_eq_true rfl, Nat.le_of_ble_eq_true rfl⟩ hP hD hS hl.1 rcM rfl rfl ⟨Nat.zero_le _, Nat.zero_le _⟩ (Nat.le_of_ble_eq_true rfl) dX2_move_19 (fun H locs hP hD hS => ?_)
    refine lv_iconst (v := 1) hx hb dX2_move_22 (by decide) ?_
    cases hf
    exact rZ X rfl hP hD hS dX2_move_23
  · refine lv_iconst (v := 0) hx hb dX2_move_9 (by decide) ?_
    cases hf
    exact rZ X rfl hP hD hS dX2_move_10
theorem gs_X2_X2_joined : GoodIn lw_all (va_wsS RX2 287 yX2_joined (ws_ yX2_joined cX2_joined 3 (some .boolean))) := lw_S q1792 q1793 q148 q1794
theorem dy_X2_joined : Dy yX2_joined RX2 3 := by decide +kernel
theorem gs_X2_X2_isAsked : GoodIn lw_all (va_wsS RX2 283 yX2_isAsked (ws_ yX2_isAsked cX2_isAsked 5 (some .boolean))) := lw_S q1789 q1790 q148 q1791
theorem dy_X2_isAsked : Dy yX2_isAsked RX2 3 := by decide +kernel
theorem gs_X2_X2_two : GoodIn lw_all (va_wsS RX2 279 yX2_two (ws_ yX2_two cX2_two 5 (some .long))) := lw_S q1781 q1782 q148 q1783
theorem dy_X2_two : Dy yX2_two RX2 3 := by decide +kernel
theorem gw_X2_X2_prefixed : GoodIn lw_all (wsV RX2 275 RX2 yX2_prefixed (ws_ yX2_prefixed cX2_prefixed 4 (some .long))) := lw_V q1770 q1772 qs113 q148 q1773
theorem dy_X2_prefixed : Dy yX2_prefixed RX2 2 := by decide +kernel
set_option maxHeartbeats 4000000 in
theorem met_M_summedUp {l : Launch} {g : gG} {h : Nat} {ad : Nat → Nat} {sTaped : Int32} {sFault : Int32} {sFaultP : Int32} {sAt : Int32} {sPlace : Int32} {sToken : Int32} {sNumber : Int32} {sWord : Int64} {sText0 : Int32} {sWritten : Int32} {sSort0 : Int32} {sPiled : Int32} {sOpens : Int32} {sWhole : Int32} {sOnce : Int32} {sIsW : Int32} {sDied : Int32} {cA : Nat → Int32} {cIm : Nat → Int32} {cTx : Nat → Int32} {cTp : Nat → Int32} {cPl : Nat → Int32} {cNm : Nat → Int32} {cVa : Nat → Int64} {cTr : Nat → Int32} {cAs : Nat → Int32} {cLi : Nat → Int32} {cSa : Nat → Int32} {cHd : Nat → Int32} {x1 : Int32} {x2 : Int32} {r : Int64} {ncVa : Nat → Int64} {ncTr : Nat → Int32} {φ : Nat} (hf : M_summedUp φ cA cTx cNm cVa cTr x1 x2 = some (r, ncVa, ncTr)) : CC l yX2_summedUp (ws_ yX2_summedUp cX2_summedUp 10 (some .long)) ({ frames := 3, cells := 0, slots := 0, locals := 67 } : Room) g [.ref h, .int x1, .int x2] (mW g h ad sTaped sFault sFaultP sAt sPlace sToken sNumber sWord sText0 sWritten sSort0 sPiled sOpens sWhole sOnce sIsW sDied cA cIm cTx cTp cPl cNm cVa cTr cAs cLi cSa cHd) (some (.long r)) (mW g h ad sTaped sFault sFaultP sAt sPlace sToken sNumber sWord sText0 sWritten sSort0 sPiled sOpens sWhole sOnce sIsW sDied cA cIm cTx cTp cPl cNm ncVa ncTr cAs cLi cSa cHd) 0 0 := by
  refine CC.of RX2 rfl plain_X2 (Nat.le_of_ble_eq_true rfl) (fun p e s m below meth c A ls X hP hD hS hl => ?_)
  have hx := X.1
  have hb := X.2.1
  have hown := X.2.2.2.2.2.1
  have hts := X.2.2.2.2.2.2.1
  have hl : lv_has ls 10 [(0, .ref h), (1, .int x1), (2, .int x2)] := hl
  unfold M_summedUp at hf
  refine lv_sipush (v := 729) hx hb dX2_summedUp_0 (by decide) ?_
  refine lv_iload_n hx hb dX2_summedUp_3 rfl (lv_at hl 1 rfl) ?_
  refine lv_imul hx hb dX2_summedUp_4 ?_
  refine lv_iconst (v := 1) hx hb dX2_summedUp_5 (by decide) ?_
  refine lv_iadd hx hb dX2_summedUp_6 ?_
  refine lv_iconst (v := 5) hx hb dX2_summedUp_7 (by decide) ?_
  refine lv_iload_n hx hb dX2_summedUp_8 rfl (lv_at hl 2 rfl) ?_
  refine lv_imul hx hb dX2_summedUp_9 ?_
  refine lv_iadd hx hb dX2_summedUp_10 ?_
  obtain ⟨v1, ev1, hf⟩ := lts hf
  refine tpi ev1 ?_
  refine lv_istore_n (lv' := [(3, .int v1), (0, .ref h), (1, .int x1), (2, .int x2)]) hx hb dX2_summedUp_11 rfl hl (by decide) rfl (fun ls hl => ?_)
  refine lv_sipush (v := 729) hx hb dX2_summedUp_12 (by decide) ?_
  refine lv_iload_n hx hb dX2_summedUp_15 rfl (lv_at hl 2 rfl) ?_
  refine lv_imul hx hb dX2_summedUp_16 ?_
  refine lv_bipush (v := 121) hx hb dX2_summedUp_17 (by decide) ?_
  refine lv_iadd hx hb dX2_summedUp_19 ?_
  obtain ⟨v2, ev2, hf⟩ := lts hf
  refine tpi ev2 ?_
  refine lv_istore (lv' := [(4, .int v2), (3, .int v1), (0, .ref h), (1, .int x1), (2, .int x2)]) hx hb dX2_summedUp_20 hl (by decide) rfl (fun ls hl => ?_)
  refine lv_iconst (v := 0) hx hb dX2_summedUp_22 (by decide) ?_
  refine lv_istore (lv' := [(5, .int 0), (4, .int v2), (3, .int v1), (0, .ref h), (1, .int x1), (2, .int x2)]) hx hb dX2_summedUp_23 hl (by decide) rfl (fun ls hl => ?_)
  refine lv_iconst (v := 0) hx hb dX2_summedUp_25 (by decide) ?_
  refine lv_istore (lv' := [(6, .int 0), (5, .int 0), (4, .int v2), (3, .int v1), (0, .ref h), (1, .int x1), (2, .int x2)]) hx hb dX2_summedUp_26 hl (by decide) rfl (fun ls hl => ?_)
  refine lv_aload_n hx hb dX2_summedUp_28 rfl (lv_at hl 4 rfl) ?_
  refine gM2 X hP dX2_summedUp_29 ?_
  refine lv_iload_n hx hb dX2_summedUp_32 rfl (lv_at hl 3 rfl) ?_
  refine lv_iconst (v := 1) hx hb dX2_summedUp_33 (by decide) ?_
  refine lv_iadd hx hb dX2_summedUp_34 ?_
  obtain ⟨v3, ev3, bv3, hf⟩ := rds hf
  refine lM_cTx X hP ev3 bv3 dX2_summedUp_35 ?_
  refine lv_istore (lv' := [(7, .int v3), (6, .int 0), (5, .int 0), (4, .int v2), (3, .int v1), (0, .ref h), (1, .int x1), (2, .int x2)]) hx hb dX2_summedUp_36 hl (by decide) rfl (fun ls hl => ?_)
  obtain ⟨c9, c10, k15, hf⟩ := bd2s hf
  have hE12 : ∀ (H : Heap) (locs : List Loc) (ls : Array Slot), va_P g.1 vwCl (mW g h ad sTaped sFault sFaultP sAt sPlace sToken sNumber sWord sText0 sWritten sSort0 sPiled sOpens sWhole sOnce sIsW sDied cA cIm cTx cTp cPl cNm c9 c10 cAs cLi cSa cHd) H → va_D A (mW g h ad sTaped sFault sFaultP sAt sPlace sToken sNumber sWord sText0 sWritten sSort0 sPiled sOpens sWhole sOnce sIsW sDied cA cIm cTx cTp cPl cNm c9 c10 cAs cLi cSa cHd) → va_S A s.heap H locs → lv_has ls 10 [(0, .ref h)] → W p l e ({ frames := 3, cells := 0, slots := 0, locals := 67 } : Room) s m ([.ref h, .int x1, .int x2] : List Value).toArray below meth c H locs 0 0 (MQ below (QQ g (some (.long r)) (mW g h ad sTaped sFault sFaultP sAt sPlace sToken sNumber sWord sText0 sWritten sSort0 sPiled sOpens sWhole sOnce sIsW sDied cA cIm cTx cTp cPl cNm ncVa ncTr cAs cLi cSa cHd) A) ([.ref h, .int x1, .int x2] : List Value).toArray s 0 0 A) (F0 m 355 ls []) := by
    intro H locs ls hP hD hS hl
    refine lv_aload_n hx hb dX2_summedUp_355 rfl (lv_at hl 0 rfl) ?_
    refine gM21 X hP dX2_summedUp_356 ?_
    refine lv_iconst (v := 0) hx hb dX2_summedUp_359 (by decide) ?_
    obtain ⟨v16, ev16, bv16, hf⟩ := rds hf
    refine lM_cVa X hP ev16 bv16 dX2_summedUp_360 ?_
    cases hf
    exact rL X hP hD hS dX2_summedUp_361
  have hL13 : ∀ (n11 : Nat) (v4 : Int32) (v5 : Int32) (v6 : Int32) (c7 : Nat → Int64) (c8 : Nat → Int32), M_summedUp_L38 φ v1 v2 cA cTx cNm n11 v4 v5 v6 c7 c8 = some (c9, c10) → ∀ (H : Heap) (locs : List Loc) (ls : Array Slot), va_P g.1 vwCl (mW g h ad sTaped sFault sFaultP sAt sPlace sToken sNumber sWord sText0 sWritten sSort0 sPiled sOpens sWhole sOnce sIsW sDied cA cIm cTx cTp cPl cNm c7 c8 cAs cLi cSa cHd) H → va_D A (mW g h ad sTaped sFault sFaultP sAt sPlace sToken sNumber sWord sText0 sWritten sSort0 sPiled sOpens sWhole sOnce sIsW sDied cA cIm cTx cTp cPl cNm c7 c8 cAs cLi cSa cHd) → va_S A s.heap H locs → lv_has ls 10 [(0, .ref h), (3, .int v1), (4, .int v2), (5, .int v4), (6, .int v5), (7, .int v6)] → W p l e ({ frames := 3, cells := 0, slots := 0, locals := 67 } : Room) s m ([.ref h, .int x1, .int x2] : List Value).toArray below meth c H locs 0 0 (MQ below (QQ g (some (.long r)) (mW g h ad sTaped sFault sFaultP sAt sPlace sToken sNumber sWord sText0 sWritten sSort0 sPiled sOpens sWhole sOnce sIsW sDied cA cIm cTx cTp cPl cNm ncVa ncTr cAs cLi cSa cHd) A) ([.ref h, .int x1, .int x2] : List Value).toArray s 0 0 A) (F0 m 38 ls []) := by
    intro n11
    induction n11 with
    | zero =>
      intro v4 v5 v6 c7 c8 hf
      exact nn hf
    | succ n11 ih14 =>
      intro v4 v5 v6 c7 c8 hf H locs ls hP hD hS hl
      rw [M_summedUp_L38] at hf
      refine lv_iload hx hb dX2_summedUp_38 (lv_at hl 5 rfl) ?_
      refine lv_aload_n hx hb dX2_summedUp_40 rfl (lv_at hl 0 rfl) ?_
      refine gM2 X hP dX2_summedUp_41 ?_
      refine lv_iload_n hx hb dX2_summedUp_44 rfl (lv_at hl 1 rfl) ?_
      refine lv_iconst (v := 2) hx hb dX2_summedUp_45 (by decide) ?_
      refine lv_iadd hx hb dX2_summedUp_46 ?_
      obtain ⟨v17, ev17, bv17, hf⟩ := rds hf
      refine lM_cTx X hP ev17 bv17 dX2_summedUp_47 ?_
      refine bc_ge (tgt := 355) hx hb hf dX2_summedUp_48 (by decide) (fun hf => ?_) (fun hf => ?_)
      · cases hf
        exact hE12 _ _ _ hP hD hS (lv_sub hl [0] rfl)
      · refine lv_aload_n hx hb dX2_summedUp_51 rfl (lv_at hl 0 rfl) ?_
        refine gM2 X hP dX2_summedUp_52 ?_
        refine lv_iload hx hb dX2_summedUp_55 (lv_at hl 2 rfl) ?_
        refine lv_iconst (v := 2) hx hb dX2_summedUp_57 (by decide) ?_
        refine lv_iload hx hb dX2_summedUp_58 (lv_at hl 5 rfl) ?_
        refine lv_imul hx hb dX2_summedUp_60 ?_
        refine lv_iadd hx hb dX2_summedUp_61 ?_
        obtain ⟨v18, ev18, bv18, hf⟩ := rds hf
        refine lM_cTx X hP ev18 bv18 dX2_summedUp_62 ?_
        refine lv_istore (lv' := [(8, .int v18), (0, .ref h), (3, .int v1), (4, .int v2), (5, .int v4), (6, .int v5), (7, .int v6)]) hx hb dX2_summedUp_63 hl (by decide) rfl (fun ls hl => ?_)
        refine lv_aload_n hx hb dX2_summedUp_65 rfl (lv_at hl 1 rfl) ?_
        refine gM2 X hP dX2_summedUp_66 ?_
        refine lv_iload hx hb dX2_summedUp_69 (lv_at hl 3 rfl) ?_
        refine lv_iconst (v := 2) hx hb dX2_summedUp_71 (by decide) ?_
        refine lv_iload hx hb dX2_summedUp_72 (lv_at hl 6 rfl) ?_
        refine lv_imul hx hb dX2_summedUp_74 ?_
        refine lv_iadd hx hb dX2_summedUp_75 ?_
        refine lv_iconst (v := 1) hx hb dX2_summedUp_76 (by decide) ?_
        refine lv_iadd hx hb dX2_summedUp_77 ?_
        obtain ⟨v19, ev19, bv19, hf⟩ := rds hf
        refine lM_cTx X hP ev19 bv19 dX2_summedUp_78 ?_
        refine lv_istore (lv' := [(9, .int v19), (8, .int v18), (0, .ref h), (3, .int v1), (4, .int v2), (5, .int v4), (6, .int v5), (7, .int v6)]) hx hb dX2_summedUp_79 hl (by decide) rfl (fun ls hl => ?_)
        refine lv_iload hx hb dX2_summedUp_81 (lv_at hl 1 rfl) ?_
        refine lv_iconst (v := 1) hx hb dX2_summedUp_83 (by decide) ?_
        refine bc_gt (tgt := 119) hx hb hf dX2_summedUp_84 (by decide) (fun hf => ?_) (fun hf => ?_)
        · refine lv_iload hx hb dX2_summedUp_119 (lv_at hl 1 rfl) ?_
          refine lv_iconst (v := 4) hx hb dX2_summedUp_121 (by decide) ?_
          refine bc_ne (tgt := 160) hx hb hf dX2_summedUp_122 (by decide) (fun hf => ?_) (fun hf => ?_)
          · refine lv_iload hx hb dX2_summedUp_160 (lv_at hl 1 rfl) ?_
            refine lv_iconst (v := 5) hx hb dX2_summedUp_162 (by decide) ?_
            refine bc_gt (tgt := 193) hx hb hf dX2_summedUp_163 (by decide) (fun hf => ?_) (fun hf => ?_)
            · refine lv_iload hx hb dX2_summedUp_193 (lv_at hl 1 rfl) ?_
              refine lv_bipush (v := 10) hx hb dX2_summedUp_195 (by decide) ?_
              refine bc_ge (tgt := 236) hx hb hf dX2_summedUp_197 (by decide) (fun hf => ?_) (fun hf => ?_)
              · refine lv_iload hx hb dX2_summedUp_236 (lv_at hl 1 rfl) ?_
                refine lv_bipush (v := 20) hx hb dX2_summedUp_238 (by decide) ?_
                refine bc_ge (tgt := 280) hx hb hf dX2_summedUp_240 (by decide) (fun hf => ?_) (fun hf => ?_)
                · refine lv_iload hx hb dX2_summedUp_280 (lv_at hl 1 rfl) ?_
                  refine lv_bipush (v := 20) hx hb dX2_summedUp_282 (by decide) ?_
                  refine bc_ne (tgt := 316) hx hb hf dX2_summedUp_284 (by decide) (fun hf => ?_) (fun hf => ?_)
                  · obtain ⟨v20, ev20, hf⟩ := lts hf
                    refine lv_iinc (v := v20) (lv' := [(6, .int v20), (9, .int v19), (8, .int v18), (0, .ref h), (3, .int v1), (4, .int v2), (5, .int v4), (7, .int v6)]) hx hb dX2_summedUp_316 hl (k := 6) rfl (by rw [ev20]; rfl) (by decide) rfl (fun ls hl => ?_)
                    refine lv_aload_n hx hb dX2_summedUp_319 rfl (lv_at hl 3 rfl) ?_
                    refine gM22 X hP dX2_summedUp_320 ?_
                    refine lv_iload hx hb dX2_summedUp_323 (lv_at hl 0 rfl) ?_
                    refine lv_iconst (v := 1) hx hb dX2_summedUp_325 (by decide) ?_
                    refine lv_isub hx hb dX2_summedUp_326 ?_
                    refine lv_iload hx hb dX2_summedUp_327 (lv_at hl 2 rfl) ?_
                    refine lv_aload_n hx hb dX2_summedUp_329 rfl (lv_at hl 3 rfl) ?_
                    refine gM22 X hP dX2_summedUp_330 ?_
                    refine lv_iload hx hb dX2_summedUp_333 (lv_at hl 0 rfl) ?_
                    refine lv_iconst (v := 1) hx hb dX2_summedUp_335 (by decide) ?_
                    refine lv_isub hx hb dX2_summedUp_336 ?_
                    obtain ⟨v21, ev21, bv21, hf⟩ := rds hf
                    refine lM_cTr X hP ev21 bv21 dX2_summedUp_337 ?_
                    refine lv_aload_n hx hb dX2_summedUp_338 rfl (lv_at hl 3 rfl) ?_
                    refine gM22 X hP dX2_summedUp_339 ?_
                    refine lv_iload hx hb dX2_summedUp_342 (lv_at hl 0 rfl) ?_
                    obtain ⟨v22, ev22, bv22, hf⟩ := rds hf
                    refine lM_cTr X hP ev22 bv22 dX2_summedUp_344 ?_
                    obtain ⟨r23, k24, hf⟩ := bd1s hf
                    refine cSi (rest := [.int (v20 - 1), .ref (ad 7)]) X (met_M_joined (g := g) k24) gs_X2_X2_joined dy_X2_joined ⟨⟨rfl, rfl⟩, Nat.le_of_ble_eq_true rfl, Nat.le_of_ble_eq_true rfl⟩ hP hD hS hl.1 rfl rfl ⟨Nat.zero_le _, Nat.zero_le _⟩ (Nat.le_of_ble_eq_true rfl) dX2_summedUp_345 (fun H locs hP hD hS => ?_)
                    obtain ⟨c25, ec25, bc25, hf⟩ := wrZs hf
                    refine sM_cTr X hP hD hS ec25 bc25 dX2_summedUp_348 (fun H locs hP hD hS => ?_)
                    obtain ⟨v26, ev26, hf⟩ := lts hf
                    refine lv_iinc (v := v26) (lv' := [(7, .int v26), (6, .int v20), (9, .int v19), (8, .int v18), (0, .ref h), (3, .int v1), (4, .int v2), (5, .int v4)]) hx hb dX2_summedUp_349 hl (k := 7) rfl (by rw [ev26]; rfl) (by decide) rfl (fun ls hl => ?_)
                    refine lv_goto (tgt := 38) hx hb dX2_summedUp_352 (by decide) ?_
                    exact ih14 _ _ _ _ _ hf _ _ _ hP hD hS (lv_sub hl [4, 5, 6, 7, 1, 0] rfl)
                  · refine lv_aload_n hx hb dX2_summedUp_287 rfl (lv_at hl 2 rfl) ?_
                    refine gM22 X hP dX2_summedUp_288 ?_
                    refine lv_iload hx hb dX2_summedUp_291 (lv_at hl 6 rfl) ?_
                    refine lv_iconst (v := 1) hx hb dX2_summedUp_293 (by decide) ?_
                    refine lv_isub hx hb dX2_summedUp_294 ?_
                    refine lv_aload_n hx hb dX2_summedUp_295 rfl (lv_at hl 2 rfl) ?_
                    refine gM22 X hP dX2_summedUp_296 ?_
                    refine lv_iload hx hb dX2_summedUp_299 (lv_at hl 6 rfl) ?_
                    refine lv_iconst (v := 1) hx hb dX2_summedUp_301 (by decide) ?_
                    refine lv_isub hx hb dX2_summedUp_302 ?_
                    obtain ⟨v27, ev27, bv27, hf⟩ := rds hf
                    refine lM_cTr X hP ev27 bv27 dX2_summedUp_303 ?_
                    refine bq_ne (tgt := 311) hx hb hf dX2_summedUp_304 (by decide) (fun hf => ?_) (fun hf => ?_)
                    · refine lv_iconst (v := 0) hx hb dX2_summedUp_311 (by decide) ?_
                      obtain ⟨c28, ec28, bc28, hf⟩ := wrZs hf
                      refine sM_cTr X hP hD hS ec28 bc28 dX2_summedUp_312 (fun H locs hP hD hS => ?_)
                      refine lv_goto (tgt := 349) hx hb dX2_summedUp_313 (by decide) ?_
                      obtain ⟨v29, ev29, hf⟩ := lts hf
                      refine lv_iinc (v := v29) (lv' := [(7, .int v29), (9, .int v19), (8, .int v18), (0, .ref h), (3, .int v1), (4, .int v2), (5, .int v4), (6, .int v5)]) hx hb dX2_summedUp_349 hl (k := 7) rfl (by rw [ev29]; rfl) (by decide) rfl (fun ls hl => ?_)
                      refine lv_goto (tgt := 38) hx hb dX2_summedUp_352 (by decide) ?_
                      exact ih14 _ _ _ _ _ hf _ _ _ hP hD hS (lv_sub hl [3, 4, 5, 6, 7, 0] rfl)
                    · refine lv_iconst (v := 1) hx hb dX2_summedUp_307 (by decide) ?_
                      refine lv_goto (tgt := 312) hx hb dX2_summedUp_308 (by decide) ?_
                      obtain ⟨c30, ec30, bc30, hf⟩ := wrZs hf
                      refine sM_cTr X hP hD hS ec30 bc30 dX2_summedUp_312 (fun H locs hP hD hS => ?_)
                      refine lv_goto (tgt := 349) hx hb dX2_summedUp_313 (by decide) ?_
                      obtain ⟨v31, ev31, hf⟩ := lts hf
                      refine lv_iinc (v := v31) (lv' := [(7, .int v31), (9, .int v19), (8, .int v18), (0, .ref h), (3, .int v1), (4, .int v2), (5, .int v4), (6, .int v5)]) hx hb dX2_summedUp_349 hl (k := 7) rfl (by rw [ev31]; rfl) (by decide) rfl (fun ls hl => ?_)
                      refine lv_goto (tgt := 38) hx hb dX2_summedUp_352 (by decide) ?_
                      exact ih14 _ _ _ _ _ hf _ _ _ hP hD hS (lv_sub hl [3, 4, 5, 6, 7, 0] rfl)
                · obtain ⟨v32, ev32, hf⟩ := lts hf
                  refine lv_iinc (v := v32) (lv' := [(5, .int v32), (9, .int v19), (8, .int v18), (0, .ref h), (3, .int v1), (4, .int v2), (6, .int v5), (7, .int v6)]) hx hb dX2_summedUp_243 hl (k := 5) rfl (by rw [ev32]; rfl) (by decide) rfl (fun ls hl => ?_)
                  refine lv_aload_n hx hb dX2_summedUp_246 rfl (lv_at hl 3 rfl) ?_
                  refine gM22 X hP dX2_summedUp_247 ?_
                  refine lv_iload hx hb dX2_summedUp_250 (lv_at hl 6 rfl) ?_
                  refine lv_iload hx hb dX2_summedUp_252 (lv_at hl 2 rfl) ?_
                  refine lv_aload_n hx hb dX2_summedUp_254 rfl (lv_at hl 3 rfl) ?_
                  refine gM21 X hP dX2_summedUp_255 ?_
                  refine lv_iload hx hb dX2_summedUp_258 (lv_at hl 0 rfl) ?_
                  obtain ⟨v33, ev33, bv33, hf⟩ := rds hf
                  refine lM_cVa X hP ev33 bv33 dX2_summedUp_260 ?_
                  refine lv_aload_n hx hb dX2_summedUp_261 rfl (lv_at hl 3 rfl) ?_
                  refine gM21 X hP dX2_summedUp_262 ?_
                  refine lv_iload hx hb dX2_summedUp_265 (lv_at hl 0 rfl) ?_
                  refine lv_iconst (v := 1) hx hb dX2_summedUp_267 (by decide) ?_
                  refine lv_iadd hx hb dX2_summedUp_268 ?_
                  obtain ⟨v34, ev34, bv34, hf⟩ := rds hf
                  refine lM_cVa X hP ev34 bv34 dX2_summedUp_269 ?_
                  obtain ⟨r35, k36, hf⟩ := bd1s hf
                  refine cSi (rest := [.int v5, .ref (ad 7)]) X (met_M_isAsked (g := g) k36) gs_X2_X2_isAsked dy_X2_isAsked ⟨⟨rfl, rfl⟩, Nat.le_of_ble_eq_true rfl, Nat.le_of_ble_eq_true rfl⟩ hP hD hS hl.1 rfl rfl ⟨Nat.zero_le _, Nat.zero_le _⟩ (Nat.le_of_ble_eq_true rfl) dX2_summedUp_270 (fun H locs hP hD hS => ?_)
                  obtain ⟨c37, ec37, bc37, hf⟩ := wrZs hf
                  refine sM_cTr X hP hD hS ec37 bc37 dX2_summedUp_273 (fun H locs hP hD hS => ?_)
                  obtain ⟨v38, ev38, hf⟩ := lts hf
                  refine lv_iinc (v := v38) (lv' := [(6, .int v38), (5, .int v32), (9, .int v19), (8, .int v18), (0, .ref h), (3, .int v1), (4, .int v2), (7, .int v6)]) hx hb dX2_summedUp_274 hl (k := 6) rfl (by rw [ev38]; rfl) (by decide) rfl (fun ls hl => ?_)
                  refine lv_goto (tgt := 349) hx hb dX2_summedUp_277 (by decide) ?_
                  obtain ⟨v39, ev39, hf⟩ := lts hf
                  refine lv_iinc (v := v39) (lv' := [(7, .int v39), (6, .int v38), (5, .int v32), (9, .int v19), (8, .int v18), (0, .ref h), (3, .int v1), (4, .int v2)]) hx hb dX2_summedUp_349 hl (k := 7) rfl (by rw [ev39]; rfl) (by decide) rfl (fun ls hl => ?_)
                  refine lv_goto (tgt := 38) hx hb dX2_summedUp_352 (by decide) ?_
                  exact ih14 _ _ _ _ _ hf _ _ _ hP hD hS (lv_sub hl [5, 6, 7, 2, 1, 0] rfl)
              · obtain ⟨v40, ev40, hf⟩ := lts hf
                refine lv_iinc (v := v40) (lv' := [(5, .int v40), (9, .int v19), (8, .int v18), (0, .ref h), (3, .int v1), (4, .int v2), (6, .int v5), (7, .int v6)]) hx hb dX2_summedUp_200 hl (k := 5) rfl (by rw [ev40]; rfl) (by decide) rfl (fun ls hl => ?_)
                refine lv_aload_n hx hb dX2_summedUp_203 rfl (lv_at hl 3 rfl) ?_
                refine gM21 X hP dX2_summedUp_204 ?_
                refine lv_iload hx hb dX2_summedUp_207 (lv_at hl 0 rfl) ?_
                refine lv_iconst (v := 1) hx hb dX2_summedUp_209 (by decide) ?_
                refine lv_isub hx hb dX2_summedUp_210 ?_
                refine lv_iload hx hb dX2_summedUp_211 (lv_at hl 2 rfl) ?_
                refine lv_aload_n hx hb dX2_summedUp_213 rfl (lv_at hl 3 rfl) ?_
                refine gM21 X hP dX2_summedUp_214 ?_
                refine lv_iload hx hb dX2_summedUp_217 (lv_at hl 0 rfl) ?_
                refine lv_iconst (v := 1) hx hb dX2_summedUp_219 (by decide) ?_
                refine lv_isub hx hb dX2_summedUp_220 ?_
                obtain ⟨v41, ev41, bv41, hf⟩ := rds hf
                refine lM_cVa X hP ev41 bv41 dX2_summedUp_221 ?_
                refine lv_aload_n hx hb dX2_summedUp_222 rfl (lv_at hl 3 rfl) ?_
                refine gM21 X hP dX2_summedUp_223 ?_
                refine lv_iload hx hb dX2_summedUp_226 (lv_at hl 0 rfl) ?_
                obtain ⟨v42, ev42, bv42, hf⟩ := rds hf
                refine lM_cVa X hP ev42 bv42 dX2_summedUp_228 ?_
                obtain ⟨r43, k44, hf⟩ := bd1s hf
                refine cSl (rest := [.int (v40 - 1), .ref (ad 6)]) X (met_M_two (g := g) k44) gs_X2_X2_two dy_X2_two ⟨⟨rfl, rfl⟩, Nat.le_of_ble_eq_true rfl, Nat.le_of_ble_eq_true rfl⟩ hP hD hS hl.1 rfl rfl ⟨Nat.zero_le _, Nat.zero_le _⟩ (Nat.le_of_ble_eq_true rfl) dX2_summedUp_229 (fun H locs hP hD hS => ?_)
                obtain ⟨c45, ec45, bc45, hf⟩ := wrLs hf
                refine sM_cVa X hP hD hS ec45 bc45 dX2_summedUp_232 (fun H locs hP hD hS => ?_)
                refine lv_goto (tgt := 349) hx hb dX2_summedUp_233 (by decide) ?_
                obtain ⟨v46, ev46, hf⟩ := lts hf
                refine lv_iinc (v := v46) (lv' := [(7, .int v46), (5, .int v40), (9, .int v19), (8, .int v18), (0, .ref h), (3, .int v1), (4, .int v2), (6, .int v5)]) hx hb dX2_summedUp_349 hl (k := 7) rfl (by rw [ev46]; rfl) (by decide) rfl (fun ls hl => ?_)
                refine lv_goto (tgt := 38) hx hb dX2_summedUp_352 (by decide) ?_
                exact ih14 _ _ _ _ _ hf _ _ _ hP hD hS (lv_sub hl [4, 5, 6, 1, 7, 0] rfl)
            · refine lv_aload_n hx hb dX2_summedUp_166 rfl (lv_at hl 2 rfl) ?_
              refine gM21 X hP dX2_summedUp_167 ?_
              refine lv_iload hx hb dX2_summedUp_170 (lv_at hl 5 rfl) ?_
              refine lv_iconst (v := 1) hx hb dX2_summedUp_172 (by decide) ?_
              refine lv_isub hx hb dX2_summedUp_173 ?_
              refine lv_aload_n hx hb dX2_summedUp_174 rfl (lv_at hl 2 rfl) ?_
              refine lv_iload hx hb dX2_summedUp_175 (lv_at hl 1 rfl) ?_
              refine lv_aload_n hx hb dX2_summedUp_177 rfl (lv_at hl 2 rfl) ?_
              refine gM21 X hP dX2_summedUp_178 ?_
              refine lv_iload hx hb dX2_summedUp_181 (lv_at hl 5 rfl) ?_
              refine lv_iconst (v := 1) hx hb dX2_summedUp_183 (by decide) ?_
              refine lv_isub hx hb dX2_summedUp_184 ?_
              obtain ⟨v47, ev47, bv47, hf⟩ := rds hf
              refine lM_cVa X hP ev47 bv47 dX2_summedUp_185 ?_
              obtain ⟨r48, k49, hf⟩ := bd1s hf
              refine cVl (rest := [.int (v4 - 1), .ref (ad 6)]) X (met_M_prefixed k49) gw_X2_X2_prefixed dy_X2_prefixed ⟨⟨rfl, rfl⟩, Nat.le_of_ble_eq_true rfl, Nat.le_of_ble_eq_true rfl⟩ hP hD hS hl.1 rcM rfl rfl ⟨Nat.zero_le _, Nat.zero_le _⟩ (Nat.le_of_ble_eq_true rfl) dX2_summedUp_186 (fun H locs hP hD hS => ?_)
              obtain ⟨c50, ec50, bc50, hf⟩ := wrLs hf
              refine sM_cVa X hP hD hS ec50 bc50 dX2_summedUp_189 (fun H locs hP hD hS => ?_)
              refine lv_goto (tgt := 349) hx hb dX2_summedUp_190 (by decide) ?_
              obtain ⟨v51, ev51, hf⟩ := lts hf
              refine lv_iinc (v := v51) (lv' := [(7, .int v51), (9, .int v19), (8, .int v18), (0, .ref h), (3, .int v1), (4, .int v2), (5, .int v4), (6, .int v5)]) hx hb dX2_summedUp_349 hl (k := 7) rfl (by rw [ev51]; rfl) (by decide) rfl (fun ls hl => ?_)
              refine lv_goto (tgt := 38) hx hb dX2_summedUp_352 (by decide) ?_
              exact ih14 _ _ _ _ _ hf _ _ _ hP hD hS (lv_sub hl [3, 4, 5, 6, 7, 0] rfl)
          · obtain ⟨v52, ev52, hf⟩ := lts hf
            refine lv_iinc (v := v52) (lv' := [(5, .int v52), (9, .int v19), (8, .int v18), (0, .ref h), (3, .int v1), (4, .int v2), (6, .int v5), (7, .int v6)]) hx hb dX2_summedUp_125 hl (k := 5) rfl (by rw [ev52]; rfl) (by decide) rfl (fun ls hl => ?_)
            obtain ⟨v53, ev53, hf⟩ := lts hf
            refine lv_iinc (v := v53) (lv' := [(6, .int v53), (5, .int v52), (9, .int v19), (8, .int v18), (0, .ref h), (3, .int v1), (4, .int v2), (7, .int v6)]) hx hb dX2_summedUp_128 hl (k := 6) rfl (by rw [ev53]; rfl) (by decide) rfl (fun ls hl => ?_)
            refine lv_aload_n hx hb dX2_summedUp_131 rfl (lv_at hl 4 rfl) ?_
            refine gM22 X hP dX2_summedUp_132 ?_
            refine lv_iload hx hb dX2_summedUp_135 (lv_at hl 0 rfl) ?_
            obtain ⟨v54, ev54, bv54, hf⟩ := rds hf
            refine lM_cTr X hP ev54 bv54 dX2_summedUp_137 ?_
            refine bq_ne (tgt := 349) hx hb hf dX2_summedUp_138 (by decide) (fun hf => ?_) (fun hf => ?_)
            · obtain ⟨v55, ev55, hf⟩ := lts hf
              refine lv_iinc (v := v55) (lv' := [(7, .int v55), (6, .int v53), (5, .int v52), (9, .int v19), (8, .int v18), (0, .ref h), (3, .int v1), (4, .int v2)]) hx hb dX2_summedUp_349 hl (k := 7) rfl (by rw [ev55]; rfl) (by decide) rfl (fun ls hl => ?_)
              refine lv_goto (tgt := 38) hx hb dX2_summedUp_352 (by decide) ?_
              exact ih14 _ _ _ _ _ hf _ _ _ hP hD hS (lv_sub hl [5, 6, 7, 2, 1, 0] rfl)
            · refine lv_aload_n hx hb dX2_summedUp_141 rfl (lv_at hl 4 rfl) ?_
              refine gM21 X hP dX2_summedUp_142 ?_
              refine lv_iload hx hb dX2_summedUp_145 (lv_at hl 1 rfl) ?_
              refine lv_iconst (v := 1) hx hb dX2_summedUp_147 (by decide) ?_
              refine lv_isub hx hb dX2_summedUp_148 ?_
              refine lv_aload_n hx hb dX2_summedUp_149 rfl (lv_at hl 4 rfl) ?_
              refine gM21 X hP dX2_summedUp_150 ?_
              refine lv_iload hx hb dX2_summedUp_153 (lv_at hl 1 rfl) ?_
              obtain ⟨v56, ev56, bv56, hf⟩ := rds hf
              refine lM_cVa X hP ev56 bv56 dX2_summedUp_155 ?_
              obtain ⟨c57, ec57, bc57, hf⟩ := wrLs hf
              refine sM_cVa X hP hD hS ec57 bc57 dX2_summedUp_156 (fun H locs hP hD hS => ?_)
              refine lv_goto (tgt := 349) hx hb dX2_summedUp_157 (by decide) ?_
              obtain ⟨v58, ev58, hf⟩ := lts hf
              refine lv_iinc (v := v58) (lv' := [(7, .int v58), (6, .int v53), (5, .int v52), (9, .int v19), (8, .int v18), (0, .ref h), (3, .int v1), (4, .int v2)]) hx hb dX2_summedUp_349 hl (k := 7) rfl (by rw [ev58]; rfl) (by decide) rfl (fun ls hl => ?_)
              refine lv_goto (tgt := 38) hx hb dX2_summedUp_352 (by decide) ?_
              exact ih14 _ _ _ _ _ hf _ _ _ hP hD hS (lv_sub hl [5, 6, 7, 2, 1, 0] rfl)
        · refine lv_aload_n hx hb dX2_summedUp_87 rfl (lv_at hl 2 rfl) ?_
          refine gM21 X hP dX2_summedUp_88 ?_
          refine lv_iload hx hb dX2_summedUp_91 (lv_at hl 5 rfl) ?_
          refine lv_iload hx hb dX2_summedUp_93 (lv_at hl 1 rfl) ?_
          refine bq_ne (tgt := 104) hx hb hf dX2_summedUp_95 (by decide) (fun hf => ?_) (fun hf => ?_)
          · refine lv_aload_n hx hb dX2_summedUp_104 rfl (lv_at hl 2 rfl) ?_
            refine gM20 X hP dX2_summedUp_105 ?_
            refine lv_iload hx hb dX2_summedUp_108 (lv_at hl 0 rfl) ?_
            obtain ⟨v59, ev59, bv59, hf⟩ := rds hf
            refine lM_cNm X hP ev59 bv59 dX2_summedUp_110 ?_
            refine lv_i2l hx hb dX2_summedUp_111 rfl ?_
            obtain ⟨v60, ev60, hf⟩ := lts hf
            refine tpl ev60 ?_
            obtain ⟨c61, ec61, bc61, hf⟩ := wrLs hf
            refine sM_cVa X hP hD hS ec61 bc61 dX2_summedUp_112 (fun H locs hP hD hS => ?_)
            obtain ⟨v62, ev62, hf⟩ := lts hf
            refine lv_iinc (v := v62) (lv' := [(5, .int v62), (9, .int v19), (8, .int v18), (0, .ref h), (3, .int v1), (4, .int v2), (6, .int v5), (7, .int v6)]) hx hb dX2_summedUp_113 hl (k := 5) rfl (by rw [ev62]; rfl) (by decide) rfl (fun ls hl => ?_)
            refine lv_goto (tgt := 349) hx hb dX2_summedUp_116 (by decide) ?_
            obtain ⟨v63, ev63, hf⟩ := lts hf
            refine lv_iinc (v := v63) (lv' := [(7, .int v63), (5, .int v62), (9, .int v19), (8, .int v18), (0, .ref h), (3, .int v1), (4, .int v2), (6, .int v5)]) hx hb dX2_summedUp_349 hl (k := 7) rfl (by rw [ev63]; rfl) (by decide) rfl (fun ls hl => ?_)
            refine lv_goto (tgt := 38) hx hb dX2_summedUp_352 (by decide) ?_
            exact ih14 _ _ _ _ _ hf _ _ _ hP hD hS (lv_sub hl [4, 5, 6, 1, 7, 0] rfl)
          · refine lv_iload hx hb dX2_summedUp_98 (lv_at hl 0 rfl) ?_
            refine lv_i2l hx hb dX2_summedUp_100 rfl ?_
            refine lv_goto (tgt := 112) hx hb dX2_summedUp_101 (by decide) ?_
            obtain ⟨v64, ev64, hf⟩ := lts hf
            refine tpl ev64 ?_
            obtain ⟨c65, ec65, bc65, hf⟩ := wrLs hf
            refine sM_cVa X hP hD hS ec65 bc65 dX2_summedUp_112 (fun H locs hP hD hS => ?_)
            obtain ⟨v66, ev66, hf⟩ := lts hf
            refine lv_iinc (v := v66) (lv' := [(5, .int v66), (9, .int v19), (8, .int v18), (0, .ref h), (3, .int v1), (4, .int v2), (6, .int v5), (7, .int v6)]) hx hb dX2_summedUp_113 hl (k := 5) rfl (by rw [ev66]; rfl) (by decide) rfl (fun ls hl => ?_)
            refine lv_goto (tgt := 349) hx hb dX2_summedUp_116 (by decide) ?_
            obtain ⟨v67, ev67, hf⟩ := lts hf
            refine lv_iinc (v := v67) (lv' := [(7, .int v67), (5, .int v66), (9, .int v19), (8, .int v18), (0, .ref h), (3, .int v1), (4, .int v2), (6, .int v5)]) hx hb dX2_summedUp_349 hl (k := 7) rfl (by rw [ev67]; rfl) (by decide) rfl (fun ls hl => ?_)
            refine lv_goto (tgt := 38) hx hb dX2_summedUp_352 (by decide) ?_
            exact ih14 _ _ _ _ _ hf _ _ _ hP hD hS (lv_sub hl [4, 5, 6, 1, 7, 0] rfl)
  exact hL13 _ _ _ _ _ _ k15 _ _ _ hP hD hS (lv_sub hl [5, 4, 3, 2, 1, 0] rfl)
theorem gw_X2_X2_areBeside : GoodIn lw_all (wsV RX2 361 RX2 yX2_areBeside (ws_ yX2_areBeside cX2_areBeside 3 (some .boolean))) := lw_V q1734 q1736 qs104 q148 q1737
theorem dy_X2_areBeside : Dy yX2_areBeside RX2 2 := by decide +kernel
theorem gw_X2_X2_killNow : GoodIn lw_all (wsV RX2 370 RX2 yX2_killNow (ws_ yX2_killNow cX2_killNow 3 none)) := lw_V q1813 q1815 qs117 q148 q1816
theorem dy_X2_killNow : Dy yX2_killNow RX2 2 := by decide +kernel
set_option maxHeartbeats 4000000 in
theorem met_M_kill {l : Launch} {g : gG} {h : Nat} {ad : Nat → Nat} {sTaped : Int32} {sFault : Int32} {sFaultP : Int32} {sAt : Int32} {sPlace : Int32} {sToken : Int32} {sNumber : Int32} {sWord : Int64} {sText0 : Int32} {sWritten : Int32} {sSort0 : Int32} {sPiled : Int32} {sOpens : Int32} {sWhole : Int32} {sOnce : Int32} {sIsW : Int32} {sDied : Int32} {cA : Nat → Int32} {cIm : Nat → Int32} {cTx : Nat → Int32} {cTp : Nat → Int32} {cPl : Nat → Int32} {cNm : Nat → Int32} {cVa : Nat → Int64} {cTr : Nat → Int32} {cAs : Nat → Int32} {cLi : Nat → Int32} {cSa : Nat → Int32} {cHd : Nat → Int32} {x1 : Int32} {x2 : Int32} {r : Int32} {nsDied : Int32} {ncA : Nat → Int32} {φ : Nat} (hf : M_kill φ sIsW sDied cA x1 x2 = some (r, nsDied, ncA)) : CC l yX2_kill (ws_ yX2_kill cX2_kill 3 (some .boolean)) ({ frames := 4, cells := 0, slots := 0, locals := 86 } : Room) g [.ref h, .int x1, .int x2] (mW g h ad sTaped sFault sFaultP sAt sPlace sToken sNumber sWord sText0 sWritten sSort0 sPiled sOpens sWhole sOnce sIsW sDied cA cIm cTx cTp cPl cNm cVa cTr cAs cLi cSa cHd) (some (.int r)) (mW g h ad sTaped sFault sFaultP sAt sPlace sToken sNumber sWord sText0 sWritten sSort0 sPiled sOpens sWhole sOnce sIsW nsDied ncA cIm cTx cTp cPl cNm cVa cTr cAs cLi cSa cHd) 0 0 := by
  refine CC.of RX2 rfl plain_X2 (Nat.le_of_ble_eq_true rfl) (fun p e s m below meth c A ls X hP hD hS hl => ?_)
  have hx := X.1
  have hb := X.2.1
  have hown := X.2.2.2.2.2.1
  have hts := X.2.2.2.2.2.2.1
  have hl : lv_has ls 3 [(0, .ref h), (1, .int x1), (2, .int x2)] := hl
  unfold M_kill at hf
  refine lv_aload_n hx hb dX2_kill_0 rfl (lv_at hl 0 rfl) ?_
  refine lv_iload_n hx hb dX2_kill_1 rfl (lv_at hl 1 rfl) ?_
  refine lv_iload_n hx hb dX2_kill_2 rfl (lv_at hl 2 rfl) ?_
  obtain ⟨r1, k2, hf⟩ := bd1s hf
  refine cVi (rest := []) X (met_M_areBeside k2) gw_X2_X2_areBeside dy_X2_areBeside ⟨⟨rfl, rfl⟩, Nat.le_of_ble_eq_true rfl, Nat.le_of_ble_eq_true rfl⟩ hP hD hS hl.1 rcM rfl rfl ⟨Nat.zero_le _, Nat.zero_le _⟩ (Nat.le_of_ble_eq_true rfl) dX2_kill_3 (fun H locs hP hD hS => ?_)
  refine bq_ne (tgt := 11) hx hb hf dX2_kill_6 (by decide) (fun hf => ?_) (fun hf => ?_)
  · refine lv_aload_n hx hb dX2_kill_11 rfl (lv_at hl 0 rfl) ?_
    obtain ⟨c3, k4, hf⟩ := bd1s hf
    refine cVv (rest := []) X (met_M_keep k4) gw_X2_X2_keep dy_X2_keep ⟨⟨rfl, rfl⟩, Nat.le_of_ble_eq_true rfl, Nat.le_of_ble_eq_true rfl⟩ hP hD hS hl.1 rcM rfl rfl ⟨Nat.zero_le _, Nat.zero_le _⟩ (Nat.le_of_ble_eq_true rfl) dX2_kill_12 (fun H locs hP hD hS => ?_)
    refine lv_aload_n hx hb dX2_kill_15 rfl (lv_at hl 0 rfl) ?_
    refine lv_iload_n hx hb dX2_kill_16 rfl (lv_at hl 1 rfl) ?_
    refine lv_iload_n hx hb dX2_kill_17 rfl (lv_at hl 2 rfl) ?_
    obtain ⟨c5, c6, k7, hf⟩ := bd2s hf
    refine cVv (rest := []) X (met_M_killNow k7) gw_X2_X2_killNow dy_X2_killNow ⟨⟨rfl, rfl⟩, Nat.le_of_ble_eq_true rfl, Nat.le_of_ble_eq_true rfl⟩ hP hD hS hl.1 rcM rfl rfl ⟨Nat.zero_le _, Nat.zero_le _⟩ (Nat.le_of_ble_eq_true rfl) dX2_kill_18 (fun H locs hP hD hS => ?_)
    refine lv_iconst (v := 1) hx hb dX2_kill_21 (by decide) ?_
    cases hf
    exact rZ X rfl hP hD hS dX2_kill_22
  · refine lv_iconst (v := 0) hx hb dX2_kill_9 (by decide) ?_
    cases hf
    exact rZ X rfl hP hD hS dX2_kill_10
theorem gw_X2_X2_isExplained : GoodIn lw_all (wsV RX2 463 RX2 yX2_isExplained (ws_ yX2_isExplained cX2_isExplained 4 (some .boolean))) := lw_V q2029 q2031 qs142 q148 q2032
theorem dy_X2_isExplained : Dy yX2_isExplained RX2 1 := by decide +kernel
set_option maxHeartbeats 4000000 in
theorem met_M_heads {l : Launch} {g : gG} {h : Nat} {ad : Nat → Nat} {sTaped : Int32} {sFault : Int32} {sFaultP : Int32} {sAt : Int32} {sPlace : Int32} {sToken : Int32} {sNumber : Int32} {sWord : Int64} {sText0 : Int32} {sWritten : Int32} {sSort0 : Int32} {sPiled : Int32} {sOpens : Int32} {sWhole : Int32} {sOnce : Int32} {sIsW : Int32} {sDied : Int32} {cA : Nat → Int32} {cIm : Nat → Int32} {cTx : Nat → Int32} {cTp : Nat → Int32} {cPl : Nat → Int32} {cNm : Nat → Int32} {cVa : Nat → Int64} {cTr : Nat → Int32} {cAs : Nat → Int32} {cLi : Nat → Int32} {cSa : Nat → Int32} {cHd : Nat → Int32} {x1 : Int32} {r : Int32} {ncHd : Nat → Int32} {φ : Nat} (hf : M_heads φ cA cHd x1 = some (r, ncHd)) : CC l yX2_heads (ws_ yX2_heads cX2_heads 3 (some .int)) ({ frames := 2, cells := 0, slots := 0, locals := 48 } : Room) g [.ref h, .int x1] (mW g h ad sTaped sFault sFaultP sAt sPlace sToken sNumber sWord sText0 sWritten sSort0 sPiled sOpens sWhole sOnce sIsW sDied cA cIm cTx cTp cPl cNm cVa cTr cAs cLi cSa cHd) (some (.int r)) (mW g h ad sTaped sFault sFaultP sAt sPlace sToken sNumber sWord sText0 sWritten sSort0 sPiled sOpens sWhole sOnce sIsW sDied cA cIm cTx cTp cPl cNm cVa cTr cAs cLi cSa ncHd) 0 0 := by
  refine CC.of RX2 rfl plain_X2 (Nat.le_of_ble_eq_true rfl) (fun p e s m below meth c A ls X hP hD hS hl => ?_)
  have hx := X.1
  have hb := X.2.1
  have hown := X.2.2.2.2.2.1
  have hts := X.2.2.2.2.2.2.1
  have hl : lv_has ls 3 [(0, .ref h), (1, .int x1)] := hl
  unfold M_heads at hf
  refine lv_iload_n hx hb dX2_heads_0 rfl (lv_at hl 1 rfl) ?_
  refine lv_iconst (v := (-1)) hx hb dX2_heads_1 (by decide) ?_
  refine lv_aload_n hx hb dX2_heads_2 rfl (lv_at hl 0 rfl) ?_
  refine gM0 X hP dX2_heads_3 ?_
  refine lv_bipush (v := 6) hx hb dX2_heads_6 (by decide) ?_
  obtain ⟨v1, ev1, bv1, hf⟩ := rds hf
  refine lM_cA X hP ev1 bv1 dX2_heads_8 ?_
  refine lv_iconst (v := 1) hx hb dX2_heads_9 (by decide) ?_
  refine lv_isub hx hb dX2_heads_10 ?_
  obtain ⟨r2, k3, hf⟩ := bd1s hf
  refine cSi (rest := []) X (met_M_isIn (g := g) k3) gs_X2_X2_isIn dy_X2_isIn ⟨⟨rfl, rfl⟩, Nat.le_of_ble_eq_true rfl, Nat.le_of_ble_eq_true rfl⟩ hP hD hS hl.1 rfl rfl ⟨Nat.zero_le _, Nat.zero_le _⟩ (Nat.le_of_ble_eq_true rfl) dX2_heads_11 (fun H locs hP hD hS => ?_)
  refine bq_ne (tgt := 20) hx hb hf dX2_heads_14 (by decide) (fun hf => ?_) (fun hf => ?_)
  · refine lv_aload_n hx hb dX2_heads_20 rfl (lv_at hl 0 rfl) ?_
    refine gM0 X hP dX2_heads_21 ?_
    refine lv_bipush (v := 6) hx hb dX2_heads_24 (by decide) ?_
    obtain ⟨v4, ev4, bv4, hf⟩ := rds hf
    refine lM_cA X hP ev4 bv4 dX2_heads_26 ?_
    obtain ⟨v5, k6, hf⟩ := bd1s hf
    have hj7 : ∀ (H : Heap) (locs : List Loc) (ls : Array Slot), va_P g.1 vwCl (mW g h ad sTaped sFault sFaultP sAt sPlace sToken sNumber sWord sText0 sWritten sSort0 sPiled sOpens sWhole sOnce sIsW sDied cA cIm cTx cTp cPl cNm cVa cTr cAs cLi cSa cHd) H → va_D A (mW g h ad sTaped sFault sFaultP sAt sPlace sToken sNumber sWord sText0 sWritten sSort0 sPiled sOpens sWhole sOnce sIsW sDied cA cIm cTx cTp cPl cNm cVa cTr cAs cLi cSa cHd) → va_S A s.heap H locs → lv_has ls 3 [(0, .ref h), (1, .int x1)] → W p l e ({ frames := 2, cells := 0, slots := 0, locals := 48 } : Room) s m ([.ref h, .int x1] : List Value).toArray below meth c H locs 0 0 (MQ below (QQ g (some (.int r)) (mW g h ad sTaped sFault sFaultP sAt sPlace sToken sNumber sWord sText0 sWritten sSort0 sPiled sOpens sWhole sOnce sIsW sDied cA cIm cTx cTp cPl cNm cVa cTr cAs cLi cSa ncHd) A) ([.ref h, .int x1] : List Value).toArray s 0 0 A) (F0 m 35 ls [.int v5]) := by
      intro H locs ls hP hD hS hl
      refine lv_istore_n (lv' := [(2, .int v5), (0, .ref h), (1, .int x1)]) hx hb dX2_heads_35 rfl hl (by decide) rfl (fun ls hl => ?_)
      obtain ⟨v10, c11, k16, hf⟩ := bd2s hf
      have hE13 : ∀ (H : Heap) (locs : List Loc) (ls : Array Slot), va_P g.1 vwCl (mW g h ad sTaped sFault sFaultP sAt sPlace sToken sNumber sWord sText0 sWritten sSort0 sPiled sOpens sWhole sOnce sIsW sDied cA cIm cTx cTp cPl cNm cVa cTr cAs cLi cSa c11) H → va_D A (mW g h ad sTaped sFault sFaultP sAt sPlace sToken sNumber sWord sText0 sWritten sSort0 sPiled sOpens sWhole sOnce sIsW sDied cA cIm cTx cTp cPl cNm cVa cTr cAs cLi cSa c11) → va_S A s.heap H locs → lv_has ls 3 [(0, .ref h), (1, .int x1), (2, .int v10)] → W p l e ({ frames := 2, cells := 0, slots := 0, locals := 48 } : Room) s m ([.ref h, .int x1] : List Value).toArray below meth c H locs 0 0 (MQ below (QQ g (some (.int r)) (mW g h ad sTaped sFault sFaultP sAt sPlace sToken sNumber sWord sText0 sWritten sSort0 sPiled sOpens sWhole sOnce sIsW sDied cA cIm cTx cTp cPl cNm cVa cTr cAs cLi cSa ncHd) A) ([.ref h, .int x1] : List Value).toArray s 0 0 A) (F0 m 54 ls []) := by
        intro H locs ls hP hD hS hl
        refine lv_iload_n hx hb dX2_heads_54 rfl (lv_at hl 1 rfl) ?_
        refine lv_iconst (v := (-1)) hx hb dX2_heads_55 (by decide) ?_
        refine bc_ne (tgt := 63) hx hb hf dX2_heads_56 (by decide) (fun hf => ?_) (fun hf => ?_)
        · refine lv_aload_n hx hb dX2_heads_63 rfl (lv_at hl 0 rfl) ?_
          refine gM28 X hP dX2_heads_64 ?_
          refine lv_iload_n hx hb dX2_heads_67 rfl (lv_at hl 1 rfl) ?_
          obtain ⟨v17, ev17, bv17, hf⟩ := rds hf
          refine lM_cHd X hP ev17 bv17 dX2_heads_68 ?_
          cases hf
          exact rI X hP hD hS dX2_heads_69
        · refine lv_iload_n hx hb dX2_heads_59 rfl (lv_at hl 2 rfl) ?_
          refine lv_goto (tgt := 69) hx hb dX2_heads_60 (by decide) ?_
          cases hf
          exact rI X hP hD hS dX2_heads_69
      have hL14 : ∀ (n12 : Nat) (v8 : Int32) (c9 : Nat → Int32), M_heads_L36 φ x1 cA n12 v8 c9 = some (v10, c11) → ∀ (H : Heap) (locs : List Loc) (ls : Array Slot), va_P g.1 vwCl (mW g h ad sTaped sFault sFaultP sAt sPlace sToken sNumber sWord sText0 sWritten sSort0 sPiled sOpens sWhole sOnce sIsW sDied cA cIm cTx cTp cPl cNm cVa cTr cAs cLi cSa c9) H → va_D A (mW g h ad sTaped sFault sFaultP sAt sPlace sToken sNumber sWord sText0 sWritten sSort0 sPiled sOpens sWhole sOnce sIsW sDied cA cIm cTx cTp cPl cNm cVa cTr cAs cLi cSa c9) → va_S A s.heap H locs → lv_has ls 3 [(0, .ref h), (1, .int x1), (2, .int v8)] → W p l e ({ frames := 2, cells := 0, slots := 0, locals := 48 } : Room) s m ([.ref h, .int x1] : List Value).toArray below meth c H locs 0 0 (MQ below (QQ g (some (.int r)) (mW g h ad sTaped sFault sFaultP sAt sPlace sToken sNumber sWord sText0 sWritten sSort0 sPiled sOpens sWhole sOnce sIsW sDied cA cIm cTx cTp cPl cNm cVa cTr cAs cLi cSa ncHd) A) ([.ref h, .int x1] : List Value).toArray s 0 0 A) (F0 m 36 ls []) := by
        intro n12
        induction n12 with
        | zero =>
          intro v8 c9 hf
          exact nn hf
        | succ n12 ih15 =>
          intro v8 c9 hf H locs ls hP hD hS hl
          rw [M_heads_L36] at hf
          refine lv_iload_n hx hb dX2_heads_36 rfl (lv_at hl 2 rfl) ?_
          refine bq_le (tgt := 54) hx hb hf dX2_heads_37 (by decide) (fun hf => ?_) (fun hf => ?_)
          · cases hf
            exact hE13 _ _ _ hP hD hS (lv_sub hl [0, 1, 2] rfl)
          · refine lv_aload_n hx hb dX2_heads_40 rfl (lv_at hl 0 rfl) ?_
            refine lv_iload_n hx hb dX2_heads_41 rfl (lv_at hl 2 rfl) ?_
            obtain ⟨r18, c19, k20, hf⟩ := bd2s hf
            refine cVi (rest := []) X (met_M_isExplained k20) gw_X2_X2_isExplained dy_X2_isExplained ⟨⟨rfl, rfl⟩, Nat.le_of_ble_eq_true rfl, Nat.le_of_ble_eq_true rfl⟩ hP hD hS hl.1 rcM rfl rfl ⟨Nat.zero_le _, Nat.zero_le _⟩ (Nat.le_of_ble_eq_true rfl) dX2_heads_42 (fun H locs hP hD hS => ?_)
            refine bq_ne (tgt := 54) hx hb hf dX2_heads_45 (by decide) (fun hf => ?_) (fun hf => ?_)
            · cases hf
              exact hE13 _ _ _ hP hD hS (lv_sub hl [0, 1, 2] rfl)
            · obtain ⟨v21, ev21, hf⟩ := lts hf
              refine lv_iinc (v := v21) (lv' := [(2, .int v21), (0, .ref h), (1, .int x1)]) hx hb dX2_heads_48 hl (k := 2) rfl (by rw [ev21]; rfl) (by decide) rfl (fun ls hl => ?_)
              refine lv_goto (tgt := 36) hx hb dX2_heads_51 (by decide) ?_
              exact ih15 _ _ hf _ _ _ hP hD hS (lv_sub hl [1, 2, 0] rfl)
      exact hL14 _ _ _ k16 _ _ _ hP hD hS (lv_sub hl [1, 2, 0] rfl)
    replace hf := k6
    clear k6
    refine bq_ne (tgt := 34) hx hb hf dX2_heads_27 (by decide) (fun hf => ?_) (fun hf => ?_)
    · refine lv_iconst (v := 1) hx hb dX2_heads_34 (by decide) ?_
      cases hf
      exact hj7 _ _ _ hP hD hS (lv_sub hl [0, 1] rfl)
    · refine lv_iconst (v := 0) hx hb dX2_heads_30 (by decide) ?_
      refine lv_goto (tgt := 35) hx hb dX2_heads_31 (by decide) ?_
      cases hf
      exact hj7 _ _ _ hP hD hS (lv_sub hl [0, 1] rfl)
  · refine lv_bipush (v := (-2)) hx hb dX2_heads_17 (by decide) ?_
    cases hf
    exact rI X hP hD hS dX2_heads_19
set_option maxHeartbeats 4000000 in
theorem met_M_isHungers {l : Launch} {g : gG} {h : Nat} {ad : Nat → Nat} {sTaped : Int32} {sFault : Int32} {sFaultP : Int32} {sAt : Int32} {sPlace : Int32} {sToken : Int32} {sNumber : Int32} {sWord : Int64} {sText0 : Int32} {sWritten : Int32} {sSort0 : Int32} {sPiled : Int32} {sOpens : Int32} {sWhole : Int32} {sOnce : Int32} {sIsW : Int32} {sDied : Int32} {cA : Nat → Int32} {cIm : Nat → Int32} {cTx : Nat → Int32} {cTp : Nat → Int32} {cPl : Nat → Int32} {cNm : Nat → Int32} {cVa : Nat → Int64} {cTr : Nat → Int32} {cAs : Nat → Int32} {cLi : Nat → Int32} {cSa : Nat → Int32} {cHd : Nat → Int32} {r : Int32} (hf : M_isHungers sTaped sAt sPlace sToken cTp = some r) : CC l yX2_isHungers (ws_ yX2_isHungers cX2_isHungers 1 (some .boolean)) ({ frames := 3, cells := 0, slots := 0, locals := 66 } : Room) g [.ref h] (mW g h ad sTaped sFault sFaultP sAt sPlace sToken sNumber sWord sText0 sWritten sSort0 sPiled sOpens sWhole sOnce sIsW sDied cA cIm cTx cTp cPl cNm cVa cTr cAs cLi cSa cHd) (some (.int r)) (mW g h ad sTaped sFault sFaultP sAt sPlace sToken sNumber sWord sText0 sWritten sSort0 sPiled sOpens sWhole sOnce sIsW sDied cA cIm cTx cTp cPl cNm cVa cTr cAs cLi cSa cHd) 0 0 := by
  refine CC.of RX2 rfl plain_X2 (Nat.le_of_ble_eq_true rfl) (fun p e s m below meth c A ls X hP hD hS hl => ?_)
  have hx := X.1
  have hb := X.2.1
  have hown := X.2.2.2.2.2.1
  have hts := X.2.2.2.2.2.2.1
  have hl : lv_has ls 1 [(0, .ref h)] := hl
  unfold M_isHungers at hf
  refine lv_aload_n hx hb dX2_isHungers_0 rfl (lv_at hl 0 rfl) ?_
  refine gM9 X hP dX2_isHungers_1 ?_
  refine lv_iconst (v := 2) hx hb dX2_isHungers_4 (by decide) ?_
  refine bc_ne (tgt := 129) hx hb hf dX2_isHungers_5 (by decide) (fun hf => ?_) (fun hf => ?_)
  · refine lv_iconst (v := 0) hx hb dX2_isHungers_129 (by decide) ?_
    cases hf
    exact rZ X rfl hP hD hS dX2_isHungers_130
  · refine lv_aload_n hx hb dX2_isHungers_8 rfl (lv_at hl 0 rfl) ?_
    refine gM7 X hP dX2_isHungers_9 ?_
    refine lv_aload_n hx hb dX2_isHungers_12 rfl (lv_at hl 0 rfl) ?_
    refine gM8 X hP dX2_isHungers_13 ?_
    refine lv_isub hx hb dX2_isHungers_16 ?_
    refine lv_bipush (v := 7) hx hb dX2_isHungers_17 (by decide) ?_
    refine bc_ne (tgt := 129) hx hb hf dX2_isHungers_19 (by decide) (fun hf => ?_) (fun hf => ?_)
    · refine lv_iconst (v := 0) hx hb dX2_isHungers_129 (by decide) ?_
      cases hf
      exact rZ X rfl hP hD hS dX2_isHungers_130
    · refine lv_aload_n hx hb dX2_isHungers_22 rfl (lv_at hl 0 rfl) ?_
      refine lv_aload_n hx hb dX2_isHungers_23 rfl (lv_at hl 0 rfl) ?_
      refine gM8 X hP dX2_isHungers_24 ?_
      obtain ⟨r1, k2, hf⟩ := bd1s hf
      refine cVi (rest := []) X (met_M_byteAt k2) gw_X2_X2_byteAt dy_X2_byteAt ⟨⟨rfl, rfl⟩, Nat.le_of_ble_eq_true rfl, Nat.le_of_ble_eq_true rfl⟩ hP hD hS hl.1 rcM rfl rfl ⟨Nat.zero_le _, Nat.zero_le _⟩ (Nat.le_of_ble_eq_true rfl) dX2_isHungers_27 (fun H locs hP hD hS => ?_)
      refine lv_aload_n hx hb dX2_isHungers_30 rfl (lv_at hl 0 rfl) ?_
      refine lv_aload_n hx hb dX2_isHungers_31 rfl (lv_at hl 0 rfl) ?_
      refine gM8 X hP dX2_isHungers_32 ?_
      refine lv_iconst (v := 1) hx hb dX2_isHungers_35 (by decide) ?_
      refine lv_iadd hx hb dX2_isHungers_36 ?_
      obtain ⟨r3, k4, hf⟩ := bd1s hf
      refine cVi (rest := [.int r1]) X (met_M_byteAt k4) gw_X2_X2_byteAt dy_X2_byteAt ⟨⟨rfl, rfl⟩, Nat.le_of_ble_eq_true rfl, Nat.le_of_ble_eq_true rfl⟩ hP hD hS hl.1 rcM rfl rfl ⟨Nat.zero_le _, Nat.zero_le _⟩ (Nat.le_of_ble_eq_true rfl) dX2_isHungers_37 (fun H locs hP hD hS => ?_)
      refine lv_aload_n hx hb dX2_isHungers_40 rfl (lv_at hl 0 rfl) ?_
      refine lv_aload_n hx hb dX2_isHungers_41 rfl (lv_at hl 0 rfl) ?_
      refine gM8 X hP dX2_isHungers_42 ?_
      refine lv_iconst (v := 2) hx hb dX2_isHungers_45 (by decide) ?_
      refine lv_iadd hx hb dX2_isHungers_46 ?_
      obtain ⟨r5, k6, hf⟩ := bd1s hf
      refine cVi (rest := [.int r3, .int r1]) X (met_M_byteAt k6) gw_X2_X2_byteAt dy_X2_byteAt ⟨⟨rfl, rfl⟩, Nat.le_of_ble_eq_true rfl, Nat.le_of_ble_eq_true rfl⟩ hP hD hS hl.1 rcM rfl rfl ⟨Nat.zero_le _, Nat.zero_le _⟩ (Nat.le_of_ble_eq_true rfl) dX2_isHungers_47 (fun H locs hP hD hS => ?_)
      refine lv_aload_n hx hb dX2_isHungers_50 rfl (lv_at hl 0 rfl) ?_
      refine lv_aload_n hx hb dX2_isHungers_51 rfl (lv_at hl 0 rfl) ?_
      refine gM8 X hP dX2_isHungers_52 ?_
      refine lv_iconst (v := 3) hx hb dX2_isHungers_55 (by decide) ?_
      refine lv_iadd hx hb dX2_isHungers_56 ?_
      obtain ⟨r7, k8, hf⟩ := bd1s hf
      refine cVi (rest := [.int r5, .int r3, .int r1]) X (met_M_byteAt k8) gw_X2_X2_byteAt dy_X2_byteAt ⟨⟨rfl, rfl⟩, Nat.le_of_ble_eq_true rfl, Nat.le_of_ble_eq_true rfl⟩ hP hD hS hl.1 rcM rfl rfl ⟨Nat.zero_le _, Nat.zero_le _⟩ (Nat.le_of_ble_eq_true rfl) dX2_isHungers_57 (fun H locs hP hD hS => ?_)
      obtain ⟨r9, k10, hf⟩ := bd1s hf
      refine cSl (rest := []) X (met_M_w4 (g := g) k10) gs_X2_X2_w4 dy_X2_w4 ⟨⟨rfl, rfl⟩, Nat.le_of_ble_eq_true rfl, Nat.le_of_ble_eq_true rfl⟩ hP hD hS hl.1 rfl rfl ⟨Nat.zero_le _, Nat.zero_le _⟩ (Nat.le_of_ble_eq_true rfl) dX2_isHungers_60 (fun H locs hP hD hS => ?_)
      refine lv_bipush (v := 104) hx hb dX2_isHungers_63 (by decide) ?_
      refine lv_bipush (v := 117) hx hb dX2_isHungers_65 (by decide) ?_
      refine lv_bipush (v := 110) hx hb dX2_isHungers_67 (by decide) ?_
      refine lv_bipush (v := 103) hx hb dX2_isHungers_69 (by decide) ?_
      obtain ⟨r11, k12, hf⟩ := bd1s hf
      refine cSl (rest := [.long r9]) X (met_M_w4 (g := g) k12) gs_X2_X2_w4 dy_X2_w4 ⟨⟨rfl, rfl⟩, Nat.le_of_ble_eq_true rfl, Nat.le_of_ble_eq_true rfl⟩ hP hD hS hl.1 rfl rfl ⟨Nat.zero_le _, Nat.zero_le _⟩ (Nat.le_of_ble_eq_true rfl) dX2_isHungers_71 (fun H locs hP hD hS => ?_)
      refine W.lcmp hx hb dX2_isHungers_74 ?_
      refine bq_ne (tgt := 129) hx hb hf dX2_isHungers_75 (by decide) (fun hf => ?_) (fun hf => ?_)
      · refine lv_iconst (v := 0) hx hb dX2_isHungers_129 (by decide) ?_
        cases hf
        exact rZ X rfl hP hD hS dX2_isHungers_130
      · refine lv_aload_n hx hb dX2_isHungers_78 rfl (lv_at hl 0 rfl) ?_
        refine lv_aload_n hx hb dX2_isHungers_79 rfl (lv_at hl 0 rfl) ?_
        refine gM8 X hP dX2_isHungers_80 ?_
        refine lv_iconst (v := 4) hx hb dX2_isHungers_83 (by decide) ?_
        refine lv_iadd hx hb dX2_isHungers_84 ?_
        obtain ⟨r13, k14, hf⟩ := bd1s hf
        refine cVi (rest := []) X (met_M_byteAt k14) gw_X2_X2_byteAt dy_X2_byteAt ⟨⟨rfl, rfl⟩, Nat.le_of_ble_eq_true rfl, Nat.le_of_ble_eq_true rfl⟩ hP hD hS hl.1 rcM rfl rfl ⟨Nat.zero_le _, Nat.zero_le _⟩ (Nat.le_of_ble_eq_true rfl) dX2_isHungers_85 (fun H locs hP hD hS => ?_)
        refine lv_aload_n hx hb dX2_isHungers_88 rfl (lv_at hl 0 rfl) ?_
        refine lv_aload_n hx hb dX2_isHungers_89 rfl (lv_at hl 0 rfl) ?_
        refine gM8 X hP dX2_isHungers_90 ?_
        refine lv_iconst (v := 5) hx hb dX2_isHungers_93 (by decide) ?_
        refine lv_iadd hx hb dX2_isHungers_94 ?_
        obtain ⟨r15, k16, hf⟩ := bd1s hf
        refine cVi (rest := [.int r13]) X (met_M_byteAt k16) gw_X2_X2_byteAt dy_X2_byteAt ⟨⟨rfl, rfl⟩, Nat.le_of_ble_eq_true rfl, Nat.le_of_ble_eq_true rfl⟩ hP hD hS hl.1 rcM rfl rfl ⟨Nat.zero_le _, Nat.zero_le _⟩ (Nat.le_of_ble_eq_true rfl) dX2_isHungers_95 (fun H locs hP hD hS => ?_)
        refine lv_aload_n hx hb dX2_isHungers_98 rfl (lv_at hl 0 rfl) ?_
        refine lv_aload_n hx hb dX2_isHungers_99 rfl (lv_at hl 0 rfl) ?_
        refine gM8 X hP dX2_isHungers_100 ?_
        refine lv_bipush (v := 6) hx hb dX2_isHungers_103 (by decide) ?_
        refine lv_iadd hx hb dX2_isHungers_105 ?_
        obtain ⟨r17, k18, hf⟩ := bd1s hf
        refine cVi (rest := [.int r15, .int r13]) X (met_M_byteAt k18) gw_X2_X2_byteAt dy_X2_byteAt ⟨⟨rfl, rfl⟩, Nat.le_of_ble_eq_true rfl, Nat.le_of_ble_eq_true rfl⟩ hP hD hS hl.1 rcM rfl rfl ⟨Nat.zero_le _, Nat.zero_le _⟩ (Nat.le_of_ble_eq_true rfl) dX2_isHungers_106 (fun H locs hP hD hS => ?_)
        obtain ⟨r19, k20, hf⟩ := bd1s hf
        refine cSl (rest := []) X (met_M_w3 (g := g) k20) gs_X2_X2_w3 dy_X2_w3 ⟨⟨rfl, rfl⟩, Nat.le_of_ble_eq_true rfl, Nat.le_of_ble_eq_true rfl⟩ hP hD hS hl.1 rfl rfl ⟨Nat.zero_le _, Nat.zero_le _⟩ (Nat.le_of_ble_eq_true rfl) dX2_isHungers_109 (fun H locs hP hD hS => ?_)
        refine lv_bipush (v := 101) hx hb dX2_isHungers_112 (by decide) ?_
        refine lv_bipush (v := 114) hx hb dX2_isHungers_114 (by decide) ?_
        refine lv_bipush (v := 115) hx hb dX2_isHungers_116 (by decide) ?_
        obtain ⟨r21, k22, hf⟩ := bd1s hf
        refine cSl (rest := [.long r19]) X (met_M_w3 (g := g) k22) gs_X2_X2_w3 dy_X2_w3 ⟨⟨rfl, rfl⟩, Nat.le_of_ble_eq_true rfl, Nat.le_of_ble_eq_true rfl⟩ hP hD hS hl.1 rfl rfl ⟨Nat.zero_le _, Nat.zero_le _⟩ (Nat.le_of_ble_eq_true rfl) dX2_isHungers_118 (fun H locs hP hD hS => ?_)
        refine W.lcmp hx hb dX2_isHungers_121 ?_
        refine bq_ne (tgt := 129) hx hb hf dX2_isHungers_122 (by decide) (fun hf => ?_) (fun hf => ?_)
        · refine lv_iconst (v := 0) hx hb dX2_isHungers_129 (by decide) ?_
          cases hf
          exact rZ X rfl hP hD hS dX2_isHungers_130
        · refine lv_iconst (v := 1) hx hb dX2_isHungers_125 (by decide) ?_
          refine lv_goto (tgt := 130) hx hb dX2_isHungers_126 (by decide) ?_
          cases hf
          exact rZ X rfl hP hD hS dX2_isHungers_130
theorem gw_X2_X2_betweenOf : GoodIn lw_all (wsV RX2 209 RX2 yX2_betweenOf (ws_ yX2_betweenOf cX2_betweenOf 1 (some .int))) := lw_V q1627 q1629 qs84 q148 q1630
theorem dy_X2_betweenOf : Dy yX2_betweenOf RX2 0 := by decide +kernel
theorem gw_X2_X2_partOf : GoodIn lw_all (wsV RX2 212 RX2 yX2_partOf (ws_ yX2_partOf cX2_partOf 2 (some .int))) := lw_V q1658 q1660 qs91 q148 q1661
theorem dy_X2_partOf : Dy yX2_partOf RX2 1 := by decide +kernel
theorem gw_X2_X2_settle : GoodIn lw_all (wsV RX2 189 RX2 yX2_settle (ws_ yX2_settle cX2_settle 2 none)) := lw_V q1650 q1652 qs89 q148 q1653
theorem dy_X2_settle : Dy yX2_settle RX2 1 := by decide +kernel
set_option maxHeartbeats 4000000 in
theorem met_M_behindOne {l : Launch} {g : gG} {h : Nat} {ad : Nat → Nat} {sTaped : Int32} {sFault : Int32} {sFaultP : Int32} {sAt : Int32} {sPlace : Int32} {sToken : Int32} {sNumber : Int32} {sWord : Int64} {sText0 : Int32} {sWritten : Int32} {sSort0 : Int32} {sPiled : Int32} {sOpens : Int32} {sWhole : Int32} {sOnce : Int32} {sIsW : Int32} {sDied : Int32} {cA : Nat → Int32} {cIm : Nat → Int32} {cTx : Nat → Int32} {cTp : Nat → Int32} {cPl : Nat → Int32} {cNm : Nat → Int32} {cVa : Nat → Int64} {cTr : Nat → Int32} {cAs : Nat → Int32} {cLi : Nat → Int32} {cSa : Nat → Int32} {cHd : Nat → Int32} {r : Int32} {nsAt : Int32} {nsPlace : Int32} {nsToken : Int32} {nsNumber : Int32} {nsWord : Int64} {nsWritten : Int32} {nsPiled : Int32} {nsOpens : Int32} {nsWhole : Int32} {ncTx : Nat → Int32} {ncPl : Nat → Int32} {φ : Nat} (hf : M_behindOne φ sTaped sAt sPlace sToken sNumber sWord sText0 sWritten sPiled sOpens sWhole cTx cTp cPl = some (r, nsAt, nsPlace, nsToken, nsNumber, nsWord, nsWritten, nsPiled, nsOpens, nsWhole, ncTx, ncPl)) : CC l yX2_behindOne (ws_ yX2_behindOne cX2_behindOne 4 (some .boolean)) ({ frames := 4, cells := 0, slots := 0, locals := 87 } : Room) g [.ref h] (mW g h ad sTaped sFault sFaultP sAt sPlace sToken sNumber sWord sText0 sWritten sSort0 sPiled sOpens sWhole sOnce sIsW sDied cA cIm cTx cTp cPl cNm cVa cTr cAs cLi cSa cHd) (some (.int r)) (mW g h ad sTaped sFault sFaultP nsAt nsPlace nsToken nsNumber nsWord sText0 nsWritten sSort0 nsPiled nsOpens nsWhole sOnce sIsW sDied cA cIm ncTx cTp ncPl cNm cVa cTr cAs cLi cSa cHd) 0 0 := by
  refine CC.of RX2 rfl plain_X2 (Nat.le_of_ble_eq_true rfl) (fun p e s m below meth c A ls X hP hD hS hl => ?_)
  have hx := X.1
  have hb := X.2.1
  have hown := X.2.2.2.2.2.1
  have hts := X.2.2.2.2.2.2.1
  have hl : lv_has ls 4 [(0, .ref h)] := hl
  unfold M_behindOne at hf
  refine lv_aload_n hx hb dX2_behindOne_0 rfl (lv_at hl 0 rfl) ?_
  obtain ⟨r1, k2, hf⟩ := bd1s hf
  refine cVi (rest := []) X (met_M_betweenOf k2) gw_X2_X2_betweenOf dy_X2_betweenOf ⟨⟨rfl, rfl⟩, Nat.le_of_ble_eq_true rfl, Nat.le_of_ble_eq_true rfl⟩ hP hD hS hl.1 rcM rfl rfl ⟨Nat.zero_le _, Nat.zero_le _⟩ (Nat.le_of_ble_eq_true rfl) dX2_behindOne_1 (fun H locs hP hD hS => ?_)
  refine lv_istore_n (lv' := [(1, .int r1), (0, .ref h)]) hx hb dX2_behindOne_4 rfl hl (by decide) rfl (fun ls hl => ?_)
  refine lv_iload_n hx hb dX2_behindOne_5 rfl (lv_at hl 0 rfl) ?_
  refine bq_lt (tgt := 60) hx hb hf dX2_behindOne_6 (by decide) (fun hf => ?_) (fun hf => ?_)
  · refine lv_aload_n hx hb dX2_behindOne_60 rfl (lv_at hl 1 rfl) ?_
    obtain ⟨r3, k4, hf⟩ := bd1s hf
    refine cVi (rest := []) X (met_M_openNow k4) gw_X2_X2_openNow dy_X2_openNow ⟨⟨rfl, rfl⟩, Nat.le_of_ble_eq_true rfl, Nat.le_of_ble_eq_true rfl⟩ hP hD hS hl.1 rcM rfl rfl ⟨Nat.zero_le _, Nat.zero_le _⟩ (Nat.le_of_ble_eq_true rfl) dX2_behindOne_61 (fun H locs hP hD hS => ?_)
    refine lv_istore_n (lv' := [(2, .int r3), (1, .int r1), (0, .ref h)]) hx hb dX2_behindOne_64 rfl hl (by decide) rfl (fun ls hl => ?_)
    refine lv_aload_n hx hb dX2_behindOne_65 rfl (lv_at hl 2 rfl) ?_
    refine lv_iload_n hx hb dX2_behindOne_66 rfl (lv_at hl 0 rfl) ?_
    obtain ⟨r5, k6, hf⟩ := bd1s hf
    refine cVi (rest := []) X (met_M_partOf k6) gw_X2_X2_partOf dy_X2_partOf ⟨⟨rfl, rfl⟩, Nat.le_of_ble_eq_true rfl, Nat.le_of_ble_eq_true rfl⟩ hP hD hS hl.1 rcM rfl rfl ⟨Nat.zero_le _, Nat.zero_le _⟩ (Nat.le_of_ble_eq_true rfl) dX2_behindOne_67 (fun H locs hP hD hS => ?_)
    refine lv_istore_n (lv' := [(3, .int r5), (2, .int r3), (1, .int r1), (0, .ref h)]) hx hb dX2_behindOne_70 rfl hl (by decide) rfl (fun ls hl => ?_)
    refine lv_iload_n hx hb dX2_behindOne_71 rfl (lv_at hl 0 rfl) ?_
    refine bq_ge (tgt := 77) hx hb hf dX2_behindOne_72 (by decide) (fun hf => ?_) (fun hf => ?_)
    · refine lv_aload_n hx hb dX2_behindOne_77 rfl (lv_at hl 3 rfl) ?_
      refine lv_iconst (v := 1) hx hb dX2_behindOne_78 (by decide) ?_
      obtain ⟨c7, c8, c9, c10, k11, hf⟩ := bd4s hf
      refine cVv (rest := []) X (met_M_settle k11) gw_X2_X2_settle dy_X2_settle ⟨⟨rfl, rfl⟩, Nat.le_of_ble_eq_true rfl, Nat.le_of_ble_eq_true rfl⟩ hP hD hS hl.1 rcM rfl rfl ⟨Nat.zero_le _, Nat.zero_le _⟩ (Nat.le_of_ble_eq_true rfl) dX2_behindOne_79 (fun H locs hP hD hS => ?_)
      refine lv_aload_n hx hb dX2_behindOne_82 rfl (lv_at hl 3 rfl) ?_
      obtain ⟨c12, c13, c14, c15, c16, k17, hf⟩ := bd5s hf
      refine cVv (rest := []) X (met_M_nextToken k17) gw_X2_X2_nextToken dy_X2_nextToken ⟨⟨rfl, rfl⟩, Nat.le_of_ble_eq_true rfl, Nat.le_of_ble_eq_true rfl⟩ hP hD hS hl.1 rcM rfl rfl ⟨Nat.zero_le _, Nat.zero_le _⟩ (Nat.le_of_ble_eq_true rfl) dX2_behindOne_83 (fun H locs hP hD hS => ?_)
      refine lv_iload_n hx hb dX2_behindOne_86 rfl (lv_at hl 0 rfl) ?_
      refine bq_le (tgt := 107) hx hb hf dX2_behindOne_87 (by decide) (fun hf => ?_) (fun hf => ?_)
      · refine lv_aload_n hx hb dX2_behindOne_107 rfl (lv_at hl 3 rfl) ?_
        refine lv_dup hx hb dX2_behindOne_108 rfl ?_
        refine gM17 X hP dX2_behindOne_109 ?_
        refine lv_iconst (v := 1) hx hb dX2_behindOne_112 (by decide) ?_
        refine lv_isub hx hb dX2_behindOne_113 ?_
        obtain ⟨v18, ev18, hf⟩ := lts hf
        refine tpi ev18 ?_
        refine pM17 X hP hD hS dX2_behindOne_114 (fun H locs hP hD hS => ?_)
        refine lv_aload_n hx hb dX2_behindOne_117 rfl (lv_at hl 3 rfl) ?_
        refine lv_dup hx hb dX2_behindOne_118 rfl ?_
        refine gM16 X hP dX2_behindOne_119 ?_
        refine lv_iconst (v := 1) hx hb dX2_behindOne_122 (by decide) ?_
        refine lv_isub hx hb dX2_behindOne_123 ?_
        obtain ⟨v19, ev19, hf⟩ := lts hf
        refine tpi ev19 ?_
        refine pM16 X hP hD hS dX2_behindOne_124 (fun H locs hP hD hS => ?_)
        refine lv_iload_n hx hb dX2_behindOne_127 rfl (lv_at hl 1 rfl) ?_
        refine lv_bipush (v := 43) hx hb dX2_behindOne_128 (by decide) ?_
        refine bc_ne (tgt := 139) hx hb hf dX2_behindOne_130 (by decide) (fun hf => ?_) (fun hf => ?_)
        · refine lv_aload_n hx hb dX2_behindOne_139 rfl (lv_at hl 3 rfl) ?_
          refine lv_bipush (v := 7) hx hb dX2_behindOne_140 (by decide) ?_
          obtain ⟨c20, c21, c22, c23, k24, hf⟩ := bd4s hf
          refine cVv (rest := []) X (met_M_settle k24) gw_X2_X2_settle dy_X2_settle ⟨⟨rfl, rfl⟩, Nat.le_of_ble_eq_true rfl, Nat.le_of_ble_eq_true rfl⟩ hP hD hS hl.1 rcM rfl rfl ⟨Nat.zero_le _, Nat.zero_le _⟩ (Nat.le_of_ble_eq_true rfl) dX2_behindOne_142 (fun H locs hP hD hS => ?_)
          refine lv_iconst (v := 1) hx hb dX2_behindOne_145 (by decide) ?_
          cases hf
          exact rZ X rfl hP hD hS dX2_behindOne_146
        · refine lv_aload_n hx hb dX2_behindOne_133 rfl (lv_at hl 3 rfl) ?_
          refine lv_iconst (v := 4) hx hb dX2_behindOne_134 (by decide) ?_
          refine lv_iconst (v := 0) hx hb dX2_behindOne_135 (by decide) ?_
          obtain ⟨c25, c26, k27, hf⟩ := bd2s hf
          refine cVv (rest := []) X (met_M_emit k27) gw_X2_X2_emit dy_X2_emit ⟨⟨rfl, rfl⟩, Nat.le_of_ble_eq_true rfl, Nat.le_of_ble_eq_true rfl⟩ hP hD hS hl.1 rcM rfl rfl ⟨Nat.zero_le _, Nat.zero_le _⟩ (Nat.le_of_ble_eq_true rfl) dX2_behindOne_136 (fun H locs hP hD hS => ?_)
          refine lv_aload_n hx hb dX2_behindOne_139 rfl (lv_at hl 3 rfl) ?_
          refine lv_bipush (v := 7) hx hb dX2_behindOne_140 (by decide) ?_
          obtain ⟨c28, c29, c30, c31, k32, hf⟩ := bd4s hf
          refine cVv (rest := []) X (met_M_settle k32) gw_X2_X2_settle dy_X2_settle ⟨⟨rfl, rfl⟩, Nat.le_of_ble_eq_true rfl, Nat.le_of_ble_eq_true rfl⟩ hP hD hS hl.1 rcM rfl rfl ⟨Nat.zero_le _, Nat.zero_le _⟩ (Nat.le_of_ble_eq_true rfl) dX2_behindOne_142 (fun H locs hP hD hS => ?_)
          refine lv_iconst (v := 1) hx hb dX2_behindOne_145 (by decide) ?_
          cases hf
          exact rZ X rfl hP hD hS dX2_behindOne_146
      · refine lv_aload_n hx hb dX2_behindOne_90 rfl (lv_at hl 3 rfl) ?_
        refine gM15 X hP dX2_behindOne_91 ?_
        refine lv_aload_n hx hb dX2_behindOne_94 rfl (lv_at hl 3 rfl) ?_
        obtain ⟨r33, k34, hf⟩ := bd1s hf
        refine cVi (rest := [.ref (ad 4)]) X (met_M_openAt k34) gw_X2_X2_openAt dy_X2_openAt ⟨⟨rfl, rfl⟩, Nat.le_of_ble_eq_true rfl, Nat.le_of_ble_eq_true rfl⟩ hP hD hS hl.1 rcM rfl rfl ⟨Nat.zero_le _, Nat.zero_le _⟩ (Nat.le_of_ble_eq_true rfl) dX2_behindOne_95 (fun H locs hP hD hS => ?_)
        refine lv_iload_n hx hb dX2_behindOne_98 rfl (lv_at hl 0 rfl) ?_
        obtain ⟨c35, ec35, bc35, hf⟩ := wrs hf
        refine sM_cPl X hP hD hS ec35 bc35 dX2_behindOne_99 (fun H locs hP hD hS => ?_)
        refine lv_aload_n hx hb dX2_behindOne_100 rfl (lv_at hl 3 rfl) ?_
        refine lv_iconst (v := 0) hx hb dX2_behindOne_101 (by decide) ?_
        refine pM18 X hP hD hS rfl rfl dX2_behindOne_102 (fun H locs hP hD hS => ?_)
        refine lv_iconst (v := 1) hx hb dX2_behindOne_105 (by decide) ?_
        cases hf
        exact rZ X rfl hP hD hS dX2_behindOne_106
    · refine lv_iconst (v := 0) hx hb dX2_behindOne_75 (by decide) ?_
      cases hf
      exact rZ X rfl hP hD hS dX2_behindOne_76
  · refine lv_aload_n hx hb dX2_behindOne_9 rfl (lv_at hl 1 rfl) ?_
    refine lv_iload_n hx hb dX2_behindOne_10 rfl (lv_at hl 0 rfl) ?_
    obtain ⟨r36, k37, hf⟩ := bd1s hf
    refine cSi (rest := [.ref h]) X (met_M_rank (g := g) k37) gs_X2_X2_rank dy_X2_rank ⟨⟨rfl, rfl⟩, Nat.le_of_ble_eq_true rfl, Nat.le_of_ble_eq_true rfl⟩ hP hD hS hl.1 rfl rfl ⟨Nat.zero_le _, Nat.zero_le _⟩ (Nat.le_of_ble_eq_true rfl) dX2_behindOne_11 (fun H locs hP hD hS => ?_)
    refine lv_iconst (v := 4) hx hb dX2_behindOne_14 (by decide) ?_
    obtain ⟨v38, k39, hf⟩ := bd1s hf
    have hj40 : ∀ (H : Heap) (locs : List Loc) (ls : Array Slot), va_P g.1 vwCl (mW g h ad sTaped sFault sFaultP sAt sPlace sToken sNumber sWord sText0 sWritten sSort0 sPiled sOpens sWhole sOnce sIsW sDied cA cIm cTx cTp cPl cNm cVa cTr cAs cLi cSa cHd) H → va_D A (mW g h ad sTaped sFault sFaultP sAt sPlace sToken sNumber sWord sText0 sWritten sSort0 sPiled sOpens sWhole sOnce sIsW sDied cA cIm cTx cTp cPl cNm cVa cTr cAs cLi cSa cHd) → va_S A s.heap H locs → lv_has ls 4 [(0, .ref h), (1, .int r1)] → W p l e ({ frames := 4, cells := 0, slots := 0, locals := 87 } : Room) s m ([.ref h] : List Value).toArray below meth c H locs 0 0 (MQ below (QQ g (some (.int r)) (mW g h ad sTaped sFault sFaultP nsAt nsPlace nsToken nsNumber nsWord sText0 nsWritten sSort0 nsPiled nsOpens nsWhole sOnce sIsW sDied cA cIm ncTx cTp ncPl cNm cVa cTr cAs cLi cSa cHd) A) ([.ref h] : List Value).toArray s 0 0 A) (F0 m 26 ls [.int v38, .ref h]) := by
      intro H locs ls hP hD hS hl
      obtain ⟨c41, c42, c43, c44, k45, hf⟩ := bd4s hf
      refine cVv (rest := []) X (met_M_settle k45) gw_X2_X2_settle dy_X2_settle ⟨⟨rfl, rfl⟩, Nat.le_of_ble_eq_true rfl, Nat.le_of_ble_eq_true rfl⟩ hP hD hS hl.1 rcM rfl rfl ⟨Nat.zero_le _, Nat.zero_le _⟩ (Nat.le_of_ble_eq_true rfl) dX2_behindOne_26 (fun H locs hP hD hS => ?_)
      refine lv_aload_n hx hb dX2_behindOne_29 rfl (lv_at hl 0 rfl) ?_
      refine gM15 X hP dX2_behindOne_30 ?_
      refine lv_aload_n hx hb dX2_behindOne_33 rfl (lv_at hl 0 rfl) ?_
      refine gM16 X hP dX2_behindOne_34 ?_
      refine lv_iload_n hx hb dX2_behindOne_37 rfl (lv_at hl 1 rfl) ?_
      obtain ⟨c46, ec46, bc46, hf⟩ := wrs hf
      refine sM_cPl X hP hD hS ec46 bc46 dX2_behindOne_38 (fun H locs hP hD hS => ?_)
      refine lv_aload_n hx hb dX2_behindOne_39 rfl (lv_at hl 0 rfl) ?_
      refine lv_dup hx hb dX2_behindOne_40 rfl ?_
      refine gM16 X hP dX2_behindOne_41 ?_
      refine lv_iconst (v := 1) hx hb dX2_behindOne_44 (by decide) ?_
      refine lv_iadd hx hb dX2_behindOne_45 ?_
      obtain ⟨v47, ev47, hf⟩ := lts hf
      refine tpi ev47 ?_
      refine pM16 X hP hD hS dX2_behindOne_46 (fun H locs hP hD hS => ?_)
      refine lv_aload_n hx hb dX2_behindOne_49 rfl (lv_at hl 0 rfl) ?_
      refine lv_iconst (v := 0) hx hb dX2_behindOne_50 (by decide) ?_
      refine pM18 X hP hD hS rfl rfl dX2_behindOne_51 (fun H locs hP hD hS => ?_)
      refine lv_aload_n hx hb dX2_behindOne_54 rfl (lv_at hl 0 rfl) ?_
      obtain ⟨c48, c49, c50, c51, c52, k53, hf⟩ := bd5s hf
      refine cVv (rest := []) X (met_M_nextToken k53) gw_X2_X2_nextToken dy_X2_nextToken ⟨⟨rfl, rfl⟩, Nat.le_of_ble_eq_true rfl, Nat.le_of_ble_eq_true rfl⟩ hP hD hS hl.1 rcM rfl rfl ⟨Nat.zero_le _, Nat.zero_le _⟩ (Nat.le_of_ble_eq_true rfl) dX2_behindOne_55 (fun H locs hP hD hS => ?_)
      refine lv_iconst (v := 1) hx hb dX2_behindOne_58 (by decide) ?_
      cases hf
      exact rZ X rfl hP hD hS dX2_behindOne_59
    replace hf := k39
    clear k39
    refine bc_ne (tgt := 22) hx hb hf dX2_behindOne_15 (by decide) (fun hf => ?_) (fun hf => ?_)
    · refine lv_iload_n hx hb dX2_behindOne_22 rfl (lv_at hl 0 rfl) ?_
      obtain ⟨r54, k55, hf⟩ := bd1s hf
      refine cSi (rest := [.ref h]) X (met_M_rank (g := g) k55) gs_X2_X2_rank dy_X2_rank ⟨⟨rfl, rfl⟩, Nat.le_of_ble_eq_true rfl, Nat.le_of_ble_eq_true rfl⟩ hP hD hS hl.1 rfl rfl ⟨Nat.zero_le _, Nat.zero_le _⟩ (Nat.le_of_ble_eq_true rfl) dX2_behindOne_23 (fun H locs hP hD hS => ?_)
      cases hf
      exact hj40 _ _ _ hP hD hS (lv_sub hl [1, 0] rfl)
    · refine lv_iconst (v := 5) hx hb dX2_behindOne_18 (by decide) ?_
      refine lv_goto (tgt := 26) hx hb dX2_behindOne_19 (by decide) ?_
      cases hf
      exact hj40 _ _ _ hP hD hS (lv_sub hl [1, 0] rfl)
theorem gw_X2_X2_nameOf : GoodIn lw_all (wsV RX2 180 RX2 yX2_nameOf (ws_ yX2_nameOf cX2_nameOf 1 (some .int))) := lw_V q1666 q1668 qs93 q148 q1669
theorem dy_X2_nameOf : Dy yX2_nameOf RX2 0 := by decide +kernel
theorem gw_X2_X2_isAskAhead : GoodIn lw_all (wsV RX2 199 RX2 yX2_isAskAhead (ws_ yX2_isAskAhead cX2_isAskAhead 1 (some .boolean))) := lw_V q1678 q1680 qs96 q148 q1681
theorem dy_X2_isAskAhead : Dy yX2_isAskAhead RX2 0 := by decide +kernel
theorem gw_X2_X2_opened : GoodIn lw_all (wsV RX2 192 RX2 yX2_opened (ws_ yX2_opened cX2_opened 2 (some .int))) := lw_V q1674 q1676 qs95 q148 q1677
theorem dy_X2_opened : Dy yX2_opened RX2 1 := by decide +kernel
theorem gw_X2_X2_isOf : GoodIn lw_all (wsV RX2 183 RX2 yX2_isOf (ws_ yX2_isOf cX2_isOf 2 (some .boolean))) := lw_V q1670 q1672 qs94 q148 q1673
theorem dy_X2_isOf : Dy yX2_isOf RX2 1 := by decide +kernel
set_option maxHeartbeats 4000000 in
theorem met_M_beginOne {l : Launch} {g : gG} {h : Nat} {ad : Nat → Nat} {sTaped : Int32} {sFault : Int32} {sFaultP : Int32} {sAt : Int32} {sPlace : Int32} {sToken : Int32} {sNumber : Int32} {sWord : Int64} {sText0 : Int32} {sWritten : Int32} {sSort0 : Int32} {sPiled : Int32} {sOpens : Int32} {sWhole : Int32} {sOnce : Int32} {sIsW : Int32} {sDied : Int32} {cA : Nat → Int32} {cIm : Nat → Int32} {cTx : Nat → Int32} {cTp : Nat → Int32} {cPl : Nat → Int32} {cNm : Nat → Int32} {cVa : Nat → Int64} {cTr : Nat → Int32} {cAs : Nat → Int32} {cLi : Nat → Int32} {cSa : Nat → Int32} {cHd : Nat → Int32} {r : Int32} {nsAt : Int32} {nsPlace : Int32} {nsToken : Int32} {nsNumber : Int32} {nsWord : Int64} {nsWritten : Int32} {nsPiled : Int32} {nsOpens : Int32} {nsWhole : Int32} {ncTx : Nat → Int32} {ncPl : Nat → Int32} {φ : Nat} (hf : M_beginOne φ sTaped sAt sPlace sToken sNumber sWord sText0 sWritten sSort0 sPiled sOpens sWhole cTx cTp cPl = some (r, nsAt, nsPlace, nsToken, nsNumber, nsWord, nsWritten, nsPiled, nsOpens, nsWhole, ncTx, ncPl)) : CC l yX2_beginOne (ws_ yX2_beginOne cX2_beginOne 2 (some .int)) ({ frames := 6, cells := 0, slots := 0, locals := 135 } : Room) g [.ref h] (mW g h ad sTaped sFault sFaultP sAt sPlace sToken sNumber sWord sText0 sWritten sSort0 sPiled sOpens sWhole sOnce sIsW sDied cA cIm cTx cTp cPl cNm cVa cTr cAs cLi cSa cHd) (some (.int r)) (mW g h ad sTaped sFault sFaultP nsAt nsPlace nsToken nsNumber nsWord sText0 nsWritten sSort0 nsPiled nsOpens nsWhole sOnce sIsW sDied cA cIm ncTx cTp ncPl cNm cVa cTr cAs cLi cSa cHd) 0 0 := by
  refine CC.of RX2 rfl plain_X2 (Nat.le_of_ble_eq_true rfl) (fun p e s m below meth c A ls X hP hD hS hl => ?_)
  have hx := X.1
  have hb := X.2.1
  have hown := X.2.2.2.2.2.1
  have hts := X.2.2.2.2.2.2.1
  have hl : lv_has ls 2 [(0, .ref h)] := hl
  unfold M_beginOne at hf
  refine lv_aload_n hx hb dX2_beginOne_0 rfl (lv_at hl 0 rfl) ?_
  refine gM9 X hP dX2_beginOne_1 ?_
  refine lv_iconst (v := 1) hx hb dX2_beginOne_4 (by decide) ?_
  obtain ⟨k1, ek1, hf⟩ := jns hf
  have hj2 : k1 = some (r, nsAt, nsPlace, nsToken, nsNumber, nsWord, nsWritten, nsPiled, nsOpens, nsWhole, ncTx, ncPl) → ∀ (H : Heap) (locs : List Loc) (ls : Array Slot), va_P g.1 vwCl (mW g h ad sTaped sFault sFaultP sAt sPlace sToken sNumber sWord sText0 sWritten sSort0 sPiled sOpens sWhole sOnce sIsW sDied cA cIm cTx cTp cPl cNm cVa cTr cAs cLi cSa cHd) H → va_D A (mW g h ad sTaped sFault sFaultP sAt sPlace sToken sNumber sWord sText0 sWritten sSort0 sPiled sOpens sWhole sOnce sIsW sDied cA cIm cTx cTp cPl cNm cVa cTr cAs cLi cSa cHd) → va_S A s.heap H locs → lv_has ls 2 [(0, .ref h)] → W p l e ({ frames := 6, cells := 0, slots := 0, locals := 135 } : Room) s m ([.ref h] : List Value).toArray below meth c H locs 0 0 (MQ below (QQ g (some (.int r)) (mW g h ad sTaped sFault sFaultP nsAt nsPlace nsToken nsNumber nsWord sText0 nsWritten sSort0 nsPiled nsOpens nsWhole sOnce sIsW sDied cA cIm ncTx cTp ncPl cNm cVa cTr cAs cLi cSa cHd) A) ([.ref h] : List Value).toArray s 0 0 A) (F0 m 20 ls []) := by
    intro hf H locs ls hP hD hS hl
    rw [ek1] at hf
    refine lv_aload_n hx hb dX2_beginOne_20 rfl (lv_at hl 0 rfl) ?_
    obtain ⟨r3, k4, hf⟩ := bd1s hf
    refine cVi (rest := []) X (met_M_nameOf k4) gw_X2_X2_nameOf dy_X2_nameOf ⟨⟨rfl, rfl⟩, Nat.le_of_ble_eq_true rfl, Nat.le_of_ble_eq_true rfl⟩ hP hD hS hl.1 rcM rfl rfl ⟨Nat.zero_le _, Nat.zero_le _⟩ (Nat.le_of_ble_eq_true rfl) dX2_beginOne_21 (fun H locs hP hD hS => ?_)
    refine lv_istore_n (lv' := [(1, .int r3), (0, .ref h)]) hx hb dX2_beginOne_24 rfl hl (by decide) rfl (fun ls hl => ?_)
    refine lv_iload_n hx hb dX2_beginOne_25 rfl (lv_at hl 0 rfl) ?_
    obtain ⟨k5, ek5, hf⟩ := jns hf
    have hj6 : k5 = some (r, nsAt, nsPlace, nsToken, nsNumber, nsWord, nsWritten, nsPiled, nsOpens, nsWhole, ncTx, ncPl) → ∀ (H : Heap) (locs : List Loc) (ls : Array Slot), va_P g.1 vwCl (mW g h ad sTaped sFault sFaultP sAt sPlace sToken sNumber sWord sText0 sWritten sSort0 sPiled sOpens sWhole sOnce sIsW sDied cA cIm cTx cTp cPl cNm cVa cTr cAs cLi cSa cHd) H → va_D A (mW g h ad sTaped sFault sFaultP sAt sPlace sToken sNumber sWord sText0 sWritten sSort0 sPiled sOpens sWhole sOnce sIsW sDied cA cIm cTx cTp cPl cNm cVa cTr cAs cLi cSa cHd) → va_S A s.heap H locs → lv_has ls 2 [(0, .ref h), (1, .int r3)] → W p l e ({ frames := 6, cells := 0, slots := 0, locals := 135 } : Room) s m ([.ref h] : List Value).toArray below meth c H locs 0 0 (MQ below (QQ g (some (.int r)) (mW g h ad sTaped sFault sFaultP nsAt nsPlace nsToken nsNumber nsWord sText0 nsWritten sSort0 nsPiled nsOpens nsWhole sOnce sIsW sDied cA cIm ncTx cTp ncPl cNm cVa cTr cAs cLi cSa cHd) A) ([.ref h] : List Value).toArray s 0 0 A) (F0 m 39 ls []) := by
      intro hf H locs ls hP hD hS hl
      rw [ek5] at hf
      refine lv_aload_n hx hb dX2_beginOne_39 rfl (lv_at hl 0 rfl) ?_
      refine gM9 X hP dX2_beginOne_40 ?_
      refine lv_iconst (v := 1) hx hb dX2_beginOne_43 (by decide) ?_
      obtain ⟨k7, ek7, hf⟩ := jns hf
      have hj8 : k7 = some (r, nsAt, nsPlace, nsToken, nsNumber, nsWord, nsWritten, nsPiled, nsOpens, nsWhole, ncTx, ncPl) → ∀ (H : Heap) (locs : List Loc) (ls : Array Slot), va_P g.1 vwCl (mW g h ad sTaped sFault sFaultP sAt sPlace sToken sNumber sWord sText0 sWritten sSort0 sPiled sOpens sWhole sOnce sIsW sDied cA cIm cTx cTp cPl cNm cVa cTr cAs cLi cSa cHd) H → va_D A (mW g h ad sTaped sFault sFaultP sAt sPlace sToken sNumber sWord sText0 sWritten sSort0 sPiled sOpens sWhole sOnce sIsW sDied cA cIm cTx cTp cPl cNm cVa cTr cAs cLi cSa cHd) → va_S A s.heap H locs → lv_has ls 2 [(0, .ref h), (1, .int r3)] → W p l e ({ frames := 6, cells := 0, slots := 0, locals := 135 } : Room) s m ([.ref h] : List Value).toArray below meth c H locs 0 0 (MQ below (QQ g (some (.int r)) (mW g h ad sTaped sFault sFaultP nsAt nsPlace nsToken nsNumber nsWord sText0 nsWritten sSort0 nsPiled nsOpens nsWhole sOnce sIsW sDied cA cIm ncTx cTp ncPl cNm cVa cTr cAs cLi cSa cHd) A) ([.ref h] : List Value).toArray s 0 0 A) (F0 m 51 ls []) := by
        intro hf H locs ls hP hD hS hl
        rw [ek7] at hf
        refine lv_aload_n hx hb dX2_beginOne_51 rfl (lv_at hl 0 rfl) ?_
        refine lv_aload_n hx hb dX2_beginOne_52 rfl (lv_at hl 0 rfl) ?_
        refine gM9 X hP dX2_beginOne_53 ?_
        refine lv_iconst (v := 1) hx hb dX2_beginOne_56 (by decide) ?_
        obtain ⟨v9, k10, hf⟩ := bd1s hf
        have hj11 : ∀ (H : Heap) (locs : List Loc) (ls : Array Slot), va_P g.1 vwCl (mW g h ad sTaped sFault sFaultP sAt sPlace sToken sNumber sWord sText0 sWritten sSort0 sPiled sOpens sWhole sOnce sIsW sDied cA cIm cTx cTp cPl cNm cVa cTr cAs cLi cSa cHd) H → va_D A (mW g h ad sTaped sFault sFaultP sAt sPlace sToken sNumber sWord sText0 sWritten sSort0 sPiled sOpens sWhole sOnce sIsW sDied cA cIm cTx cTp cPl cNm cVa cTr cAs cLi cSa cHd) → va_S A s.heap H locs → lv_has ls 2 [(0, .ref h), (1, .int r3)] → W p l e ({ frames := 6, cells := 0, slots := 0, locals := 135 } : Room) s m ([.ref h] : List Value).toArray below meth c H locs 0 0 (MQ below (QQ g (some (.int r)) (mW g h ad sTaped sFault sFaultP nsAt nsPlace nsToken nsNumber nsWord sText0 nsWritten sSort0 nsPiled nsOpens nsWhole sOnce sIsW sDied cA cIm ncTx cTp ncPl cNm cVa cTr cAs cLi cSa cHd) A) ([.ref h] : List Value).toArray s 0 0 A) (F0 m 65 ls [.int v9, .ref h]) := by
          intro H locs ls hP hD hS hl
          refine lv_aload_n hx hb dX2_beginOne_65 rfl (lv_at hl 0 rfl) ?_
          refine gM9 X hP dX2_beginOne_66 ?_
          refine lv_iconst (v := 1) hx hb dX2_beginOne_69 (by decide) ?_
          obtain ⟨v12, k13, hf⟩ := bd1s hf
          have hj14 : ∀ (H : Heap) (locs : List Loc) (ls : Array Slot), va_P g.1 vwCl (mW g h ad sTaped sFault sFaultP sAt sPlace sToken sNumber sWord sText0 sWritten sSort0 sPiled sOpens sWhole sOnce sIsW sDied cA cIm cTx cTp cPl cNm cVa cTr cAs cLi cSa cHd) H → va_D A (mW g h ad sTaped sFault sFaultP sAt sPlace sToken sNumber sWord sText0 sWritten sSort0 sPiled sOpens sWhole sOnce sIsW sDied cA cIm cTx cTp cPl cNm cVa cTr cAs cLi cSa cHd) → va_S A s.heap H locs → lv_has ls 2 [(0, .ref h)] → W p l e ({ frames := 6, cells := 0, slots := 0, locals := 135 } : Room) s m ([.ref h] : List Value).toArray below meth c H locs 0 0 (MQ below (QQ g (some (.int r)) (mW g h ad sTaped sFault sFaultP nsAt nsPlace nsToken nsNumber nsWord sText0 nsWritten sSort0 nsPiled nsOpens nsWhole sOnce sIsW sDied cA cIm ncTx cTp ncPl cNm cVa cTr cAs cLi cSa cHd) A) ([.ref h] : List Value).toArray s 0 0 A) (F0 m 81 ls [.int v12, .int v9, .ref h]) := by
            intro H locs ls hP hD hS hl
            obtain ⟨c15, c16, k17, hf⟩ := bd2s hf
            refine cVv (rest := []) X (met_M_emit k17) gw_X2_X2_emit dy_X2_emit ⟨⟨rfl, rfl⟩, Nat.le_of_ble_eq_true rfl, Nat.le_of_ble_eq_true rfl⟩ hP hD hS hl.1 rcM rfl rfl ⟨Nat.zero_le _, Nat.zero_le _⟩ (Nat.le_of_ble_eq_true rfl) dX2_beginOne_81 (fun H locs hP hD hS => ?_)
            refine lv_aload_n hx hb dX2_beginOne_84 rfl (lv_at hl 0 rfl) ?_
            obtain ⟨c18, c19, c20, c21, c22, k23, hf⟩ := bd5s hf
            refine cVv (rest := []) X (met_M_nextToken k23) gw_X2_X2_nextToken dy_X2_nextToken ⟨⟨rfl, rfl⟩, Nat.le_of_ble_eq_true rfl, Nat.le_of_ble_eq_true rfl⟩ hP hD hS hl.1 rcM rfl rfl ⟨Nat.zero_le _, Nat.zero_le _⟩ (Nat.le_of_ble_eq_true rfl) dX2_beginOne_85 (fun H locs hP hD hS => ?_)
            refine lv_aload_n hx hb dX2_beginOne_88 rfl (lv_at hl 0 rfl) ?_
            refine lv_iconst (v := 1) hx hb dX2_beginOne_89 (by decide) ?_
            refine pM18 X hP hD hS rfl rfl dX2_beginOne_90 (fun H locs hP hD hS => ?_)
            refine lv_aload_n hx hb dX2_beginOne_93 rfl (lv_at hl 0 rfl) ?_
            refine lv_bipush (v := 7) hx hb dX2_beginOne_94 (by decide) ?_
            obtain ⟨c24, c25, c26, c27, k28, hf⟩ := bd4s hf
            refine cVv (rest := []) X (met_M_settle k28) gw_X2_X2_settle dy_X2_settle ⟨⟨rfl, rfl⟩, Nat.le_of_ble_eq_true rfl, Nat.le_of_ble_eq_true rfl⟩ hP hD hS hl.1 rcM rfl rfl ⟨Nat.zero_le _, Nat.zero_le _⟩ (Nat.le_of_ble_eq_true rfl) dX2_beginOne_96 (fun H locs hP hD hS => ?_)
            refine lv_iconst (v := 0) hx hb dX2_beginOne_99 (by decide) ?_
            cases hf
            exact rI X hP hD hS dX2_beginOne_100
          replace hf := k13
          clear k13
          refine bc_ne (tgt := 80) hx hb hf dX2_beginOne_70 (by decide) (fun hf => ?_) (fun hf => ?_)
          · refine lv_iload_n hx hb dX2_beginOne_80 rfl (lv_at hl 1 rfl) ?_
            cases hf
            exact hj14 _ _ _ hP hD hS (lv_sub hl [0] rfl)
          · refine lv_aload_n hx hb dX2_beginOne_73 rfl (lv_at hl 0 rfl) ?_
            refine gM10 X hP dX2_beginOne_74 ?_
            refine lv_goto (tgt := 81) hx hb dX2_beginOne_77 (by decide) ?_
            cases hf
            exact hj14 _ _ _ hP hD hS (lv_sub hl [0] rfl)
        replace hf := k10
        clear k10
        refine bc_ne (tgt := 64) hx hb hf dX2_beginOne_57 (by decide) (fun hf => ?_) (fun hf => ?_)
        · refine lv_iconst (v := 1) hx hb dX2_beginOne_64 (by decide) ?_
          cases hf
          exact hj11 _ _ _ hP hD hS (lv_sub hl [0, 1] rfl)
        · refine lv_iconst (v := 0) hx hb dX2_beginOne_60 (by decide) ?_
          refine lv_goto (tgt := 65) hx hb dX2_beginOne_61 (by decide) ?_
          cases hf
          exact hj11 _ _ _ hP hD hS (lv_sub hl [0, 1] rfl)
      clear ek7
      refine bc_eq (tgt := 51) hx hb hf dX2_beginOne_44 (by decide) (fun hf => ?_) (fun hf => ?_)
      · exact hj8 hf _ _ _ hP hD hS (lv_sub hl [0, 1] rfl)
      · refine lv_iload_n hx hb dX2_beginOne_47 rfl (lv_at hl 1 rfl) ?_
        refine bq_lt (tgt := 101) hx hb hf dX2_beginOne_48 (by decide) (fun hf => ?_) (fun hf => ?_)
        · refine lv_aload_n hx hb dX2_beginOne_101 rfl (lv_at hl 0 rfl) ?_
          refine gM9 X hP dX2_beginOne_102 ?_
          refine lv_bipush (v := 40) hx hb dX2_beginOne_105 (by decide) ?_
          refine bc_ne (tgt := 117) hx hb hf dX2_beginOne_107 (by decide) (fun hf => ?_) (fun hf => ?_)
          · refine lv_aload_n hx hb dX2_beginOne_117 rfl (lv_at hl 0 rfl) ?_
            refine gM9 X hP dX2_beginOne_118 ?_
            refine lv_bipush (v := 45) hx hb dX2_beginOne_121 (by decide) ?_
            refine bc_ne (tgt := 132) hx hb hf dX2_beginOne_123 (by decide) (fun hf => ?_) (fun hf => ?_)
            · refine lv_aload_n hx hb dX2_beginOne_132 rfl (lv_at hl 0 rfl) ?_
              refine lv_bipush (v := 111) hx hb dX2_beginOne_133 (by decide) ?_
              refine lv_bipush (v := 110) hx hb dX2_beginOne_135 (by decide) ?_
              refine lv_bipush (v := 101) hx hb dX2_beginOne_137 (by decide) ?_
              refine lv_bipush (v := 115) hx hb dX2_beginOne_139 (by decide) ?_
              obtain ⟨r29, k30, hf⟩ := bd1s hf
              refine cSl (rest := [.ref h]) X (met_M_w4 (g := g) k30) gs_X2_X2_w4 dy_X2_w4 ⟨⟨rfl, rfl⟩, Nat.le_of_ble_eq_true rfl, Nat.le_of_ble_eq_true rfl⟩ hP hD hS hl.1 rfl rfl ⟨Nat.zero_le _, Nat.zero_le _⟩ (Nat.le_of_ble_eq_true rfl) dX2_beginOne_141 (fun H locs hP hD hS => ?_)
              obtain ⟨r31, k32, hf⟩ := bd1s hf
              refine cVi (rest := []) X (met_M_isWord k32) gw_X2_X2_isWord dy_X2_isWord ⟨⟨rfl, rfl⟩, Nat.le_of_ble_eq_true rfl, Nat.le_of_ble_eq_true rfl⟩ hP hD hS hl.1 rcM rfl rfl ⟨Nat.zero_le _, Nat.zero_le _⟩ (Nat.le_of_ble_eq_true rfl) dX2_beginOne_144 (fun H locs hP hD hS => ?_)
              refine bq_eq (tgt := 156) hx hb hf dX2_beginOne_147 (by decide) (fun hf => ?_) (fun hf => ?_)
              · refine lv_aload_n hx hb dX2_beginOne_156 rfl (lv_at hl 0 rfl) ?_
                refine lv_bipush (v := 102) hx hb dX2_beginOne_157 (by decide) ?_
                refine lv_bipush (v := 101) hx hb dX2_beginOne_159 (by decide) ?_
                refine lv_bipush (v := 97) hx hb dX2_beginOne_161 (by decide) ?_
                refine lv_bipush (v := 114) hx hb dX2_beginOne_163 (by decide) ?_
                refine lv_bipush (v := 115) hx hb dX2_beginOne_165 (by decide) ?_
                obtain ⟨r33, k34, hf⟩ := bd1s hf
                refine cSl (rest := [.ref h]) X (met_M_w5 (g := g) k34) gs_X2_X2_w5 dy_X2_w5 ⟨⟨rfl, rfl⟩, Nat.le_of_ble_eq_true rfl, Nat.le_of_ble_eq_true rfl⟩ hP hD hS hl.1 rfl rfl ⟨Nat.zero_le _, Nat.zero_le _⟩ (Nat.le_of_ble_eq_true rfl) dX2_beginOne_167 (fun H locs hP hD hS => ?_)
                obtain ⟨r35, k36, hf⟩ := bd1s hf
                refine cVi (rest := []) X (met_M_isWord k36) gw_X2_X2_isWord dy_X2_isWord ⟨⟨rfl, rfl⟩, Nat.le_of_ble_eq_true rfl, Nat.le_of_ble_eq_true rfl⟩ hP hD hS hl.1 rcM rfl rfl ⟨Nat.zero_le _, Nat.zero_le _⟩ (Nat.le_of_ble_eq_true rfl) dX2_beginOne_170 (fun H locs hP hD hS => ?_)
                refine bq_eq (tgt := 182) hx hb hf dX2_beginOne_173 (by decide) (fun hf => ?_) (fun hf => ?_)
                · refine lv_aload_n hx hb dX2_beginOne_182 rfl (lv_at hl 0 rfl) ?_
                  refine lv_bipush (v := 105) hx hb dX2_beginOne_183 (by decide) ?_
                  refine lv_bipush (v := 102) hx hb dX2_beginOne_185 (by decide) ?_
                  obtain ⟨r37, k38, hf⟩ := bd1s hf
                  refine cSl (rest := [.ref h]) X (met_M_w2 (g := g) k38) gs_X2_X2_w2 dy_X2_w2 ⟨⟨rfl, rfl⟩, Nat.le_of_ble_eq_true rfl, Nat.le_of_ble_eq_true rfl⟩ hP hD hS hl.1 rfl rfl ⟨Nat.zero_le _, Nat.zero_le _⟩ (Nat.le_of_ble_eq_true rfl) dX2_beginOne_187 (fun H locs hP hD hS => ?_)
                  obtain ⟨r39, k40, hf⟩ := bd1s hf
                  refine cVi (rest := []) X (met_M_isWord k40) gw_X2_X2_isWord dy_X2_isWord ⟨⟨rfl, rfl⟩, Nat.le_of_ble_eq_true rfl, Nat.le_of_ble_eq_true rfl⟩ hP hD hS hl.1 rcM rfl rfl ⟨Nat.zero_le _, Nat.zero_le _⟩ (Nat.le_of_ble_eq_true rfl) dX2_beginOne_190 (fun H locs hP hD hS => ?_)
                  refine bq_eq (tgt := 203) hx hb hf dX2_beginOne_193 (by decide) (fun hf => ?_) (fun hf => ?_)
                  · refine lv_aload_n hx hb dX2_beginOne_203 rfl (lv_at hl 0 rfl) ?_
                    refine lv_bipush (v := 110) hx hb dX2_beginOne_204 (by decide) ?_
                    refine lv_bipush (v := 111) hx hb dX2_beginOne_206 (by decide) ?_
                    refine lv_bipush (v := 116) hx hb dX2_beginOne_208 (by decide) ?_
                    obtain ⟨r41, k42, hf⟩ := bd1s hf
                    refine cSl (rest := [.ref h]) X (met_M_w3 (g := g) k42) gs_X2_X2_w3 dy_X2_w3 ⟨⟨rfl, rfl⟩, Nat.le_of_ble_eq_true rfl, Nat.le_of_ble_eq_true rfl⟩ hP hD hS hl.1 rfl rfl ⟨Nat.zero_le _, Nat.zero_le _⟩ (Nat.le_of_ble_eq_true rfl) dX2_beginOne_210 (fun H locs hP hD hS => ?_)
                    obtain ⟨r43, k44, hf⟩ := bd1s hf
                    refine cVi (rest := []) X (met_M_isWord k44) gw_X2_X2_isWord dy_X2_isWord ⟨⟨rfl, rfl⟩, Nat.le_of_ble_eq_true rfl, Nat.le_of_ble_eq_true rfl⟩ hP hD hS hl.1 rcM rfl rfl ⟨Nat.zero_le _, Nat.zero_le _⟩ (Nat.le_of_ble_eq_true rfl) dX2_beginOne_213 (fun H locs hP hD hS => ?_)
                    refine bq_eq (tgt := 235) hx hb hf dX2_beginOne_216 (by decide) (fun hf => ?_) (fun hf => ?_)
                    · refine lv_iconst (v := 1) hx hb dX2_beginOne_235 (by decide) ?_
                      cases hf
                      exact rI X hP hD hS dX2_beginOne_236
                    · refine lv_aload_n hx hb dX2_beginOne_219 rfl (lv_at hl 0 rfl) ?_
                      obtain ⟨r45, k46, hf⟩ := bd1s hf
                      refine cVi (rest := []) X (met_M_isAskAhead k46) gw_X2_X2_isAskAhead dy_X2_isAskAhead ⟨⟨rfl, rfl⟩, Nat.le_of_ble_eq_true rfl, Nat.le_of_ble_eq_true rfl⟩ hP hD hS hl.1 rcM rfl rfl ⟨Nat.zero_le _, Nat.zero_le _⟩ (Nat.le_of_ble_eq_true rfl) dX2_beginOne_220 (fun H locs hP hD hS => ?_)
                      refine bq_eq (tgt := 235) hx hb hf dX2_beginOne_223 (by decide) (fun hf => ?_) (fun hf => ?_)
                      · refine lv_iconst (v := 1) hx hb dX2_beginOne_235 (by decide) ?_
                        cases hf
                        exact rI X hP hD hS dX2_beginOne_236
                      · refine lv_aload_n hx hb dX2_beginOne_226 rfl (lv_at hl 0 rfl) ?_
                        refine lv_bipush (v := 20) hx hb dX2_beginOne_227 (by decide) ?_
                        obtain ⟨r47, c48, c49, c50, c51, c52, c53, c54, c55, k56, hf⟩ := bd9s hf
                        refine cVi (rest := []) X (met_M_opened k56) gw_X2_X2_opened dy_X2_opened ⟨⟨rfl, rfl⟩, Nat.le_of_ble_eq_true rfl, Nat.le_of_ble_eq_true rfl⟩ hP hD hS hl.1 rcM rfl rfl ⟨Nat.zero_le _, Nat.zero_le _⟩ (Nat.le_of_ble_eq_true rfl) dX2_beginOne_229 (fun H locs hP hD hS => ?_)
                        refine lv_goto (tgt := 236) hx hb dX2_beginOne_232 (by decide) ?_
                        cases hf
                        exact rI X hP hD hS dX2_beginOne_236
                  · refine lv_aload_n hx hb dX2_beginOne_196 rfl (lv_at hl 0 rfl) ?_
                    refine lv_bipush (v := 41) hx hb dX2_beginOne_197 (by decide) ?_
                    obtain ⟨r57, c58, c59, c60, c61, c62, c63, c64, c65, k66, hf⟩ := bd9s hf
                    refine cVi (rest := []) X (met_M_opened k66) gw_X2_X2_opened dy_X2_opened ⟨⟨rfl, rfl⟩, Nat.le_of_ble_eq_true rfl, Nat.le_of_ble_eq_true rfl⟩ hP hD hS hl.1 rcM rfl rfl ⟨Nat.zero_le _, Nat.zero_le _⟩ (Nat.le_of_ble_eq_true rfl) dX2_beginOne_199 (fun H locs hP hD hS => ?_)
                    cases hf
                    exact rI X hP hD hS dX2_beginOne_202
                · refine lv_aload_n hx hb dX2_beginOne_176 rfl (lv_at hl 0 rfl) ?_
                  refine lv_iconst (v := 3) hx hb dX2_beginOne_177 (by decide) ?_
                  obtain ⟨r67, c68, c69, c70, c71, c72, c73, c74, c75, k76, hf⟩ := bd9s hf
                  refine cVi (rest := []) X (met_M_opened k76) gw_X2_X2_opened dy_X2_opened ⟨⟨rfl, rfl⟩, Nat.le_of_ble_eq_true rfl, Nat.le_of_ble_eq_true rfl⟩ hP hD hS hl.1 rcM rfl rfl ⟨Nat.zero_le _, Nat.zero_le _⟩ (Nat.le_of_ble_eq_true rfl) dX2_beginOne_178 (fun H locs hP hD hS => ?_)
                  cases hf
                  exact rI X hP hD hS dX2_beginOne_181
              · refine lv_aload_n hx hb dX2_beginOne_150 rfl (lv_at hl 0 rfl) ?_
                refine lv_iconst (v := 2) hx hb dX2_beginOne_151 (by decide) ?_
                obtain ⟨r77, c78, c79, c80, c81, c82, c83, c84, c85, k86, hf⟩ := bd9s hf
                refine cVi (rest := []) X (met_M_opened k86) gw_X2_X2_opened dy_X2_opened ⟨⟨rfl, rfl⟩, Nat.le_of_ble_eq_true rfl, Nat.le_of_ble_eq_true rfl⟩ hP hD hS hl.1 rcM rfl rfl ⟨Nat.zero_le _, Nat.zero_le _⟩ (Nat.le_of_ble_eq_true rfl) dX2_beginOne_152 (fun H locs hP hD hS => ?_)
                cases hf
                exact rI X hP hD hS dX2_beginOne_155
            · refine lv_aload_n hx hb dX2_beginOne_126 rfl (lv_at hl 0 rfl) ?_
              refine lv_iconst (v := 5) hx hb dX2_beginOne_127 (by decide) ?_
              obtain ⟨r87, c88, c89, c90, c91, c92, c93, c94, c95, k96, hf⟩ := bd9s hf
              refine cVi (rest := []) X (met_M_opened k96) gw_X2_X2_opened dy_X2_opened ⟨⟨rfl, rfl⟩, Nat.le_of_ble_eq_true rfl, Nat.le_of_ble_eq_true rfl⟩ hP hD hS hl.1 rcM rfl rfl ⟨Nat.zero_le _, Nat.zero_le _⟩ (Nat.le_of_ble_eq_true rfl) dX2_beginOne_128 (fun H locs hP hD hS => ?_)
              cases hf
              exact rI X hP hD hS dX2_beginOne_131
          · refine lv_aload_n hx hb dX2_beginOne_110 rfl (lv_at hl 0 rfl) ?_
            refine lv_bipush (v := 40) hx hb dX2_beginOne_111 (by decide) ?_
            obtain ⟨r97, c98, c99, c100, c101, c102, c103, c104, c105, k106, hf⟩ := bd9s hf
            refine cVi (rest := []) X (met_M_opened k106) gw_X2_X2_opened dy_X2_opened ⟨⟨rfl, rfl⟩, Nat.le_of_ble_eq_true rfl, Nat.le_of_ble_eq_true rfl⟩ hP hD hS hl.1 rcM rfl rfl ⟨Nat.zero_le _, Nat.zero_le _⟩ (Nat.le_of_ble_eq_true rfl) dX2_beginOne_113 (fun H locs hP hD hS => ?_)
            cases hf
            exact rI X hP hD hS dX2_beginOne_116
        · exact hj8 hf _ _ _ hP hD hS (lv_sub hl [0, 1] rfl)
    clear ek5
    refine bq_lt (tgt := 39) hx hb hf dX2_beginOne_26 (by decide) (fun hf => ?_) (fun hf => ?_)
    · exact hj6 hf _ _ _ hP hD hS (lv_sub hl [1, 0] rfl)
    · refine lv_aload_n hx hb dX2_beginOne_29 rfl (lv_at hl 1 rfl) ?_
      refine lv_iload_n hx hb dX2_beginOne_30 rfl (lv_at hl 0 rfl) ?_
      obtain ⟨r107, k108, hf⟩ := bd1s hf
      refine cVi (rest := []) X (met_M_isOf k108) gw_X2_X2_isOf dy_X2_isOf ⟨⟨rfl, rfl⟩, Nat.le_of_ble_eq_true rfl, Nat.le_of_ble_eq_true rfl⟩ hP hD hS hl.1 rcM rfl rfl ⟨Nat.zero_le _, Nat.zero_le _⟩ (Nat.le_of_ble_eq_true rfl) dX2_beginOne_31 (fun H locs hP hD hS => ?_)
      refine bq_ne (tgt := 39) hx hb hf dX2_beginOne_34 (by decide) (fun hf => ?_) (fun hf => ?_)
      · exact hj6 hf _ _ _ hP hD hS (lv_sub hl [1, 0] rfl)
      · refine lv_iconst (v := 5) hx hb dX2_beginOne_37 (by decide) ?_
        cases hf
        exact rI X hP hD hS dX2_beginOne_38
  clear ek1
  refine bc_ne (tgt := 20) hx hb hf dX2_beginOne_5 (by decide) (fun hf => ?_) (fun hf => ?_)
  · exact hj2 hf _ _ _ hP hD hS (lv_sub hl [0] rfl)
  · refine lv_aload_n hx hb dX2_beginOne_8 rfl (lv_at hl 0 rfl) ?_
    refine gM10 X hP dX2_beginOne_9 ?_
    refine lv_sipush (v := 9999) hx hb dX2_beginOne_12 (by decide) ?_
    refine bc_le (tgt := 20) hx hb hf dX2_beginOne_15 (by decide) (fun hf => ?_) (fun hf => ?_)
    · exact hj2 hf _ _ _ hP hD hS (lv_sub hl [0] rfl)
    · refine lv_iconst (v := 2) hx hb dX2_beginOne_18 (by decide) ?_
      cases hf
      exact rI X hP hD hS dX2_beginOne_19
theorem gw_X2_X2_canCall : GoodIn lw_all (wsV RX2 346 RX2 yX2_canCall (ws_ yX2_canCall cX2_canCall 3 (some .boolean))) := lw_V q1698 q1700 qs97 q148 q1701
theorem dy_X2_canCall : Dy yX2_canCall RX2 2 := by decide +kernel
theorem gw_X2_X2_callNow : GoodIn lw_all (wsV RX2 352 RX2 yX2_callNow (ws_ yX2_callNow cX2_callNow 4 none)) := lw_V q1714 q1716 qs101 q148 q1717
theorem dy_X2_callNow : Dy yX2_callNow RX2 2 := by decide +kernel
set_option maxHeartbeats 4000000 in
theorem met_M_call {l : Launch} {g : gG} {h : Nat} {ad : Nat → Nat} {sTaped : Int32} {sFault : Int32} {sFaultP : Int32} {sAt : Int32} {sPlace : Int32} {sToken : Int32} {sNumber : Int32} {sWord : Int64} {sText0 : Int32} {sWritten : Int32} {sSort0 : Int32} {sPiled : Int32} {sOpens : Int32} {sWhole : Int32} {sOnce : Int32} {sIsW : Int32} {sDied : Int32} {cA : Nat → Int32} {cIm : Nat → Int32} {cTx : Nat → Int32} {cTp : Nat → Int32} {cPl : Nat → Int32} {cNm : Nat → Int32} {cVa : Nat → Int64} {cTr : Nat → Int32} {cAs : Nat → Int32} {cLi : Nat → Int32} {cSa : Nat → Int32} {cHd : Nat → Int32} {x1 : Int32} {x2 : Int32} {r : Int32} {ncA : Nat → Int32} {φ : Nat} (hf : M_call φ sIsW cA x1 x2 = some (r, ncA)) : CC l yX2_call (ws_ yX2_call cX2_call 3 (some .int)) ({ frames := 4, cells := 0, slots := 0, locals := 86 } : Room) g [.ref h, .int x1, .int x2] (mW g h ad sTaped sFault sFaultP sAt sPlace sToken sNumber sWord sText0 sWritten sSort0 sPiled sOpens sWhole sOnce sIsW sDied cA cIm cTx cTp cPl cNm cVa cTr cAs cLi cSa cHd) (some (.int r)) (mW g h ad sTaped sFault sFaultP sAt sPlace sToken sNumber sWord sText0 sWritten sSort0 sPiled sOpens sWhole sOnce sIsW sDied ncA cIm cTx cTp cPl cNm cVa cTr cAs cLi cSa cHd) 0 0 := by
  refine CC.of RX2 rfl plain_X2 (Nat.le_of_ble_eq_true rfl) (fun p e s m below meth c A ls X hP hD hS hl => ?_)
  have hx := X.1
  have hb := X.2.1
  have hown := X.2.2.2.2.2.1
  have hts := X.2.2.2.2.2.2.1
  have hl : lv_has ls 3 [(0, .ref h), (1, .int x1), (2, .int x2)] := hl
  unfold M_call at hf
  refine lv_aload_n hx hb dX2_call_0 rfl (lv_at hl 0 rfl) ?_
  refine lv_iload_n hx hb dX2_call_1 rfl (lv_at hl 1 rfl) ?_
  refine lv_iload_n hx hb dX2_call_2 rfl (lv_at hl 2 rfl) ?_
  obtain ⟨r1, k2, hf⟩ := bd1s hf
  refine cVi (rest := []) X (met_M_canCall k2) gw_X2_X2_canCall dy_X2_canCall ⟨⟨rfl, rfl⟩, Nat.le_of_ble_eq_true rfl, Nat.le_of_ble_eq_true rfl⟩ hP hD hS hl.1 rcM rfl rfl ⟨Nat.zero_le _, Nat.zero_le _⟩ (Nat.le_of_ble_eq_true rfl) dX2_call_3 (fun H locs hP hD hS => ?_)
  refine bq_ne (tgt := 11) hx hb hf dX2_call_6 (by decide) (fun hf => ?_) (fun hf => ?_)
  · refine lv_aload_n hx hb dX2_call_11 rfl (lv_at hl 0 rfl) ?_
    obtain ⟨c3, k4, hf⟩ := bd1s hf
    refine cVv (rest := []) X (met_M_keep k4) gw_X2_X2_keep dy_X2_keep ⟨⟨rfl, rfl⟩, Nat.le_of_ble_eq_true rfl, Nat.le_of_ble_eq_true rfl⟩ hP hD hS hl.1 rcM rfl rfl ⟨Nat.zero_le _, Nat.zero_le _⟩ (Nat.le_of_ble_eq_true rfl) dX2_call_12 (fun H locs hP hD hS => ?_)
    refine lv_aload_n hx hb dX2_call_15 rfl (lv_at hl 0 rfl) ?_
    refine lv_iload_n hx hb dX2_call_16 rfl (lv_at hl 1 rfl) ?_
    refine lv_iload_n hx hb dX2_call_17 rfl (lv_at hl 2 rfl) ?_
    obtain ⟨c5, k6, hf⟩ := bd1s hf
    refine cVv (rest := []) X (met_M_callNow k6) gw_X2_X2_callNow dy_X2_callNow ⟨⟨rfl, rfl⟩, Nat.le_of_ble_eq_true rfl, Nat.le_of_ble_eq_true rfl⟩ hP hD hS hl.1 rcM rfl rfl ⟨Nat.zero_le _, Nat.zero_le _⟩ (Nat.le_of_ble_eq_true rfl) dX2_call_18 (fun H locs hP hD hS => ?_)
    refine lv_aload_n hx hb dX2_call_21 rfl (lv_at hl 0 rfl) ?_
    refine lv_iload_n hx hb dX2_call_22 rfl (lv_at hl 1 rfl) ?_
    refine lv_iconst (v := 3) hx hb dX2_call_23 (by decide) ?_
    obtain ⟨r7, k8, hf⟩ := bd1s hf
    refine cVi (rest := []) X (met_M_get k8) gw_X2_X2_get dy_X2_get ⟨⟨rfl, rfl⟩, Nat.le_of_ble_eq_true rfl, Nat.le_of_ble_eq_true rfl⟩ hP hD hS hl.1 rcM rfl rfl ⟨Nat.zero_le _, Nat.zero_le _⟩ (Nat.le_of_ble_eq_true rfl) dX2_call_24 (fun H locs hP hD hS => ?_)
    cases hf
    exact rI X hP hD hS dX2_call_27
  · refine lv_iconst (v := (-1)) hx hb dX2_call_9 (by decide) ?_
    cases hf
    exact rI X hP hD hS dX2_call_10
theorem gs_X2_X2_cut : GoodIn lw_all (va_wsS RX2 294 yX2_cut (ws_ yX2_cut cX2_cut 4 (some .int))) := lw_S q1795 q1796 q148 q1797
theorem dy_X2_cut : Dy yX2_cut RX2 3 := by decide +kernel
theorem gw_X2_X2_summedUp : GoodIn lw_all (wsV RX2 291 RX2 yX2_summedUp (ws_ yX2_summedUp cX2_summedUp 10 (some .long))) := lw_V q1766 q1768 qs112 q148 q1769
theorem dy_X2_summedUp : Dy yX2_summedUp RX2 2 := by decide +kernel
set_option maxHeartbeats 4000000 in
theorem met_M_says {l : Launch} {g : gG} {h : Nat} {ad : Nat → Nat} {sTaped : Int32} {sFault : Int32} {sFaultP : Int32} {sAt : Int32} {sPlace : Int32} {sToken : Int32} {sNumber : Int32} {sWord : Int64} {sText0 : Int32} {sWritten : Int32} {sSort0 : Int32} {sPiled : Int32} {sOpens : Int32} {sWhole : Int32} {sOnce : Int32} {sIsW : Int32} {sDied : Int32} {cA : Nat → Int32} {cIm : Nat → Int32} {cTx : Nat → Int32} {cTp : Nat → Int32} {cPl : Nat → Int32} {cNm : Nat → Int32} {cVa : Nat → Int64} {cTr : Nat → Int32} {cAs : Nat → Int32} {cLi : Nat → Int32} {cSa : Nat → Int32} {cHd : Nat → Int32} {x1 : Int32} {x2 : Int32} {x3 : Int32} {x4 : Int32} {r : Int32} {ncVa : Nat → Int64} {ncTr : Nat → Int32} {φ : Nat} (hf : M_says φ cA cTx cNm cVa cTr x1 x2 x3 x4 = some (r, ncVa, ncTr)) : CC l yX2_says (ws_ yX2_says cX2_says 6 (some .int)) ({ frames := 4, cells := 0, slots := 0, locals := 96 } : Room) g [.ref h, .int x1, .int x2, .int x3, .int x4] (mW g h ad sTaped sFault sFaultP sAt sPlace sToken sNumber sWord sText0 sWritten sSort0 sPiled sOpens sWhole sOnce sIsW sDied cA cIm cTx cTp cPl cNm cVa cTr cAs cLi cSa cHd) (some (.int r)) (mW g h ad sTaped sFault sFaultP sAt sPlace sToken sNumber sWord sText0 sWritten sSort0 sPiled sOpens sWhole sOnce sIsW sDied cA cIm cTx cTp cPl cNm ncVa ncTr cAs cLi cSa cHd) 0 0 := by
  refine CC.of RX2 rfl plain_X2 (Nat.le_of_ble_eq_true rfl) (fun p e s m below meth c A ls X hP hD hS hl => ?_)
  have hx := X.1
  have hb := X.2.1
  have hown := X.2.2.2.2.2.1
  have hts := X.2.2.2.2.2.2.1
  have hl : lv_has ls 6 [(0, .ref h), (1, .int x1), (2, .int x2), (3, .int x3), (4, .int x4)] := hl
  unfold M_says at hf
  refine lv_iconst (v := 0) hx hb dX2_says_0 (by decide) ?_
  refine lv_istore (lv' := [(5, .int 0), (0, .ref h), (1, .int x1), (2, .int x2), (3, .int x3), (4, .int x4)]) hx hb dX2_says_1 hl (by decide) rfl (fun ls hl => ?_)
  have hL4 : ∀ (n2 : Nat) (v1 : Int32), M_says_L3 φ x1 x2 x3 x4 cA cTx cNm cVa cTr n2 v1 = some (r, ncVa, ncTr) → ∀ (H : Heap) (locs : List Loc) (ls : Array Slot), va_P g.1 vwCl (mW g h ad sTaped sFault sFaultP sAt sPlace sToken sNumber sWord sText0 sWritten sSort0 sPiled sOpens sWhole sOnce sIsW sDied cA cIm cTx cTp cPl cNm cVa cTr cAs cLi cSa cHd) H → va_D A (mW g h ad sTaped sFault sFaultP sAt sPlace sToken sNumber sWord sText0 sWritten sSort0 sPiled sOpens sWhole sOnce sIsW sDied cA cIm cTx cTp cPl cNm cVa cTr cAs cLi cSa cHd) → va_S A s.heap H locs → lv_has ls 6 [(0, .ref h), (1, .int x1), (2, .int x2), (3, .int x3), (4, .int x4), (5, .int v1)] → W p l e ({ frames := 4, cells := 0, slots := 0, locals := 96 } : Room) s m ([.ref h, .int x1, .int x2, .int x3, .int x4] : List Value).toArray below meth c H locs 0 0 (MQ below (QQ g (some (.int r)) (mW g h ad sTaped sFault sFaultP sAt sPlace sToken sNumber sWord sText0 sWritten sSort0 sPiled sOpens sWhole sOnce sIsW sDied cA cIm cTx cTp cPl cNm ncVa ncTr cAs cLi cSa cHd) A) ([.ref h, .int x1, .int x2, .int x3, .int x4] : List Value).toArray s 0 0 A) (F0 m 3 ls []) := by
    intro n2
    induction n2 with
    | zero =>
      intro v1 hf
      exact nn hf
    | succ n2 ih5 =>
      intro v1 hf H locs ls hP hD hS hl
      rw [M_says_L3] at hf
      refine lv_iload_n hx hb dX2_says_3 rfl (lv_at hl 1 rfl) ?_
      refine bq_lt (tgt := 63) hx hb hf dX2_says_4 (by decide) (fun hf => ?_) (fun hf => ?_)
      · refine lv_iload_n hx hb dX2_says_63 rfl (lv_at hl 3 rfl) ?_
        refine lv_i2l hx hb dX2_says_64 rfl ?_
        refine lv_iconst (v := 0) hx hb dX2_says_65 (by decide) ?_
        refine lv_iload hx hb dX2_says_66 (lv_at hl 4 rfl) ?_
        obtain ⟨r7, k8, hf⟩ := bd1s hf
        refine cSi (rest := []) X (met_M_cut (g := g) k8) gs_X2_X2_cut dy_X2_cut ⟨⟨rfl, rfl⟩, Nat.le_of_ble_eq_true rfl, Nat.le_of_ble_eq_true rfl⟩ hP hD hS hl.1 rfl rfl ⟨Nat.zero_le _, Nat.zero_le _⟩ (Nat.le_of_ble_eq_true rfl) dX2_says_68 (fun H locs hP hD hS => ?_)
        cases hf
        exact rI X hP hD hS dX2_says_71
      · refine lv_iload hx hb dX2_says_7 (lv_at hl 5 rfl) ?_
        refine lv_aload_n hx hb dX2_says_9 rfl (lv_at hl 0 rfl) ?_
        refine gM2 X hP dX2_says_10 ?_
        refine lv_sipush (v := 729) hx hb dX2_says_13 (by decide) ?_
        refine lv_iload_n hx hb dX2_says_16 rfl (lv_at hl 1 rfl) ?_
        refine lv_imul hx hb dX2_says_17 ?_
        obtain ⟨v9, ev9, bv9, hf⟩ := rds hf
        refine lM_cTx X hP ev9 bv9 dX2_says_18 ?_
        refine bc_ge (tgt := 63) hx hb hf dX2_says_19 (by decide) (fun hf => ?_) (fun hf => ?_)
        · refine lv_iload_n hx hb dX2_says_63 rfl (lv_at hl 3 rfl) ?_
          refine lv_i2l hx hb dX2_says_64 rfl ?_
          refine lv_iconst (v := 0) hx hb dX2_says_65 (by decide) ?_
          refine lv_iload hx hb dX2_says_66 (lv_at hl 4 rfl) ?_
          obtain ⟨r10, k11, hf⟩ := bd1s hf
          refine cSi (rest := []) X (met_M_cut (g := g) k11) gs_X2_X2_cut dy_X2_cut ⟨⟨rfl, rfl⟩, Nat.le_of_ble_eq_true rfl, Nat.le_of_ble_eq_true rfl⟩ hP hD hS hl.1 rfl rfl ⟨Nat.zero_le _, Nat.zero_le _⟩ (Nat.le_of_ble_eq_true rfl) dX2_says_68 (fun H locs hP hD hS => ?_)
          cases hf
          exact rI X hP hD hS dX2_says_71
        · refine lv_aload_n hx hb dX2_says_22 rfl (lv_at hl 0 rfl) ?_
          refine gM2 X hP dX2_says_23 ?_
          refine lv_sipush (v := 729) hx hb dX2_says_26 (by decide) ?_
          refine lv_iload_n hx hb dX2_says_29 rfl (lv_at hl 1 rfl) ?_
          refine lv_imul hx hb dX2_says_30 ?_
          refine lv_iconst (v := 1) hx hb dX2_says_31 (by decide) ?_
          refine lv_iadd hx hb dX2_says_32 ?_
          refine lv_iconst (v := 5) hx hb dX2_says_33 (by decide) ?_
          refine lv_iload hx hb dX2_says_34 (lv_at hl 5 rfl) ?_
          refine lv_imul hx hb dX2_says_36 ?_
          refine lv_iadd hx hb dX2_says_37 ?_
          obtain ⟨v12, ev12, bv12, hf⟩ := rds hf
          refine lM_cTx X hP ev12 bv12 dX2_says_38 ?_
          refine lv_iload_n hx hb dX2_says_39 rfl (lv_at hl 2 rfl) ?_
          refine bc_ne (tgt := 57) hx hb hf dX2_says_40 (by decide) (fun hf => ?_) (fun hf => ?_)
          · obtain ⟨v13, ev13, hf⟩ := lts hf
            refine lv_iinc (v := v13) (lv' := [(5, .int v13), (0, .ref h), (1, .int x1), (2, .int x2), (3, .int x3), (4, .int x4)]) hx hb dX2_says_57 hl (k := 5) rfl (by rw [ev13]; rfl) (by decide) rfl (fun ls hl => ?_)
            refine lv_goto (tgt := 3) hx hb dX2_says_60 (by decide) ?_
            exact ih5 _ hf _ _ _ hP hD hS (lv_sub hl [1, 2, 3, 4, 5, 0] rfl)
          · refine lv_aload_n hx hb dX2_says_43 rfl (lv_at hl 0 rfl) ?_
            refine lv_iload_n hx hb dX2_says_44 rfl (lv_at hl 1 rfl) ?_
            refine lv_iload hx hb dX2_says_45 (lv_at hl 5 rfl) ?_
            obtain ⟨r14, c15, c16, k17, hf⟩ := bd3s hf
            refine cVl (rest := []) X (met_M_summedUp k17) gw_X2_X2_summedUp dy_X2_summedUp ⟨⟨rfl, rfl⟩, Nat.le_of_ble_eq_true rfl, Nat.le_of_ble_eq_true rfl⟩ hP hD hS hl.1 rcM rfl rfl ⟨Nat.zero_le _, Nat.zero_le _⟩ (Nat.le_of_ble_eq_true rfl) dX2_says_47 (fun H locs hP hD hS => ?_)
            refine lv_iconst (v := 0) hx hb dX2_says_50 (by decide) ?_
            refine lv_iload hx hb dX2_says_51 (lv_at hl 4 rfl) ?_
            obtain ⟨r18, k19, hf⟩ := bd1s hf
            refine cSi (rest := []) X (met_M_cut (g := g) k19) gs_X2_X2_cut dy_X2_cut ⟨⟨rfl, rfl⟩, Nat.le_of_ble_eq_true rfl, Nat.le_of_ble_eq_true rfl⟩ hP hD hS hl.1 rfl rfl ⟨Nat.zero_le _, Nat.zero_le _⟩ (Nat.le_of_ble_eq_true rfl) dX2_says_53 (fun H locs hP hD hS => ?_)
            cases hf
            exact rI X hP hD hS dX2_says_56
  exact hL4 _ _ hf _ _ _ hP hD hS (lv_sub hl [1, 2, 3, 4, 5, 0] rfl)
theorem gw_X2_X2_nameIn : GoodIn lw_all (wsV RX2 300 RX2 yX2_nameIn (ws_ yX2_nameIn cX2_nameIn 3 none)) := lw_V q1754 q1756 qs109 q148 q1757
theorem dy_X2_nameIn : Dy yX2_nameIn RX2 2 := by decide +kernel
theorem gw_X2_X2_says : GoodIn lw_all (wsV RX2 303 RX2 yX2_says (ws_ yX2_says cX2_says 6 (some .int))) := lw_V q1762 q1764 qs111 q148 q1765
theorem dy_X2_says : Dy yX2_says RX2 4 := by decide +kernel
set_option maxHeartbeats 4000000 in
theorem met_M_priceOf {l : Launch} {g : gG} {h : Nat} {ad : Nat → Nat} {sTaped : Int32} {sFault : Int32} {sFaultP : Int32} {sAt : Int32} {sPlace : Int32} {sToken : Int32} {sNumber : Int32} {sWord : Int64} {sText0 : Int32} {sWritten : Int32} {sSort0 : Int32} {sPiled : Int32} {sOpens : Int32} {sWhole : Int32} {sOnce : Int32} {sIsW : Int32} {sDied : Int32} {cA : Nat → Int32} {cIm : Nat → Int32} {cTx : Nat → Int32} {cTp : Nat → Int32} {cPl : Nat → Int32} {cNm : Nat → Int32} {cVa : Nat → Int64} {cTr : Nat → Int32} {cAs : Nat → Int32} {cLi : Nat → Int32} {cSa : Nat → Int32} {cHd : Nat → Int32} {x1 : Int32} {x2 : Int32} {r : Int32} {ncNm : Nat → Int32} {ncVa : Nat → Int64} {ncTr : Nat → Int32} {φ : Nat} (hf : M_priceOf φ cA cTx cNm cVa cTr x1 x2 = some (r, ncNm, ncVa, ncTr)) : CC l yX2_priceOf (ws_ yX2_priceOf cX2_priceOf 3 (some .int)) ({ frames := 5, cells := 0, slots := 0, locals := 121 } : Room) g [.ref h, .int x1, .int x2] (mW g h ad sTaped sFault sFaultP sAt sPlace sToken sNumber sWord sText0 sWritten sSort0 sPiled sOpens sWhole sOnce sIsW sDied cA cIm cTx cTp cPl cNm cVa cTr cAs cLi cSa cHd) (some (.int r)) (mW g h ad sTaped sFault sFaultP sAt sPlace sToken sNumber sWord sText0 sWritten sSort0 sPiled sOpens sWhole sOnce sIsW sDied cA cIm cTx cTp cPl ncNm ncVa ncTr cAs cLi cSa cHd) 0 0 := by
  refine CC.of RX2 rfl plain_X2 (Nat.le_of_ble_eq_true rfl) (fun p e s m below meth c A ls X hP hD hS hl => ?_)
  have hx := X.1
  have hb := X.2.1
  have hown := X.2.2.2.2.2.1
  have hts := X.2.2.2.2.2.2.1
  have hl : lv_has ls 3 [(0, .ref h), (1, .int x1), (2, .int x2)] := hl
  unfold M_priceOf at hf
  refine lv_aload_n hx hb dX2_priceOf_0 rfl (lv_at hl 0 rfl) ?_
  refine lv_iload_n hx hb dX2_priceOf_1 rfl (lv_at hl 2 rfl) ?_
  refine lv_aload_n hx hb dX2_priceOf_2 rfl (lv_at hl 0 rfl) ?_
  refine lv_iload_n hx hb dX2_priceOf_3 rfl (lv_at hl 2 rfl) ?_
  refine lv_iconst (v := 0) hx hb dX2_priceOf_4 (by decide) ?_
  obtain ⟨r1, k2, hf⟩ := bd1s hf
  refine cVi (rest := [.int x2, .ref h]) X (met_M_get k2) gw_X2_X2_get dy_X2_get ⟨⟨rfl, rfl⟩, Nat.le_of_ble_eq_true rfl, Nat.le_of_ble_eq_true rfl⟩ hP hD hS hl.1 rcM rfl rfl ⟨Nat.zero_le _, Nat.zero_le _⟩ (Nat.le_of_ble_eq_true rfl) dX2_priceOf_5 (fun H locs hP hD hS => ?_)
  obtain ⟨c3, k4, hf⟩ := bd1s hf
  refine cVv (rest := []) X (met_M_nameIn k4) gw_X2_X2_nameIn dy_X2_nameIn ⟨⟨rfl, rfl⟩, Nat.le_of_ble_eq_true rfl, Nat.le_of_ble_eq_true rfl⟩ hP hD hS hl.1 rcM rfl rfl ⟨Nat.zero_le _, Nat.zero_le _⟩ (Nat.le_of_ble_eq_true rfl) dX2_priceOf_8 (fun H locs hP hD hS => ?_)
  refine lv_aload_n hx hb dX2_priceOf_11 rfl (lv_at hl 0 rfl) ?_
  refine lv_iload_n hx hb dX2_priceOf_12 rfl (lv_at hl 1 rfl) ?_
  refine lv_iconst (v := 2) hx hb dX2_priceOf_13 (by decide) ?_
  refine lv_bipush (v := 100) hx hb dX2_priceOf_14 (by decide) ?_
  refine lv_bipush (v := 20) hx hb dX2_priceOf_16 (by decide) ?_
  refine lv_aload_n hx hb dX2_priceOf_18 rfl (lv_at hl 0 rfl) ?_
  refine lv_iload_n hx hb dX2_priceOf_19 rfl (lv_at hl 2 rfl) ?_
  refine lv_iconst (v := 5) hx hb dX2_priceOf_20 (by decide) ?_
  obtain ⟨r5, k6, hf⟩ := bd1s hf
  refine cVi (rest := [.int 20, .int 100, .int 2, .int x1, .ref h]) X (met_M_get k6) gw_X2_X2_get dy_X2_get ⟨⟨rfl, rfl⟩, Nat.le_of_ble_eq_true rfl, Nat.le_of_ble_eq_true rfl⟩ hP hD hS hl.1 rcM rfl rfl ⟨Nat.zero_le _, Nat.zero_le _⟩ (Nat.le_of_ble_eq_true rfl) dX2_priceOf_21 (fun H locs hP hD hS => ?_)
  refine lv_imul hx hb dX2_priceOf_24 ?_
  refine lv_iadd hx hb dX2_priceOf_25 ?_
  refine lv_sipush (v := 9999) hx hb dX2_priceOf_26 (by decide) ?_
  obtain ⟨r7, c8, c9, k10, hf⟩ := bd3s hf
  refine cVi (rest := []) X (met_M_says k10) gw_X2_X2_says dy_X2_says ⟨⟨rfl, rfl⟩, Nat.le_of_ble_eq_true rfl, Nat.le_of_ble_eq_true rfl⟩ hP hD hS hl.1 rcM rfl rfl ⟨Nat.zero_le _, Nat.zero_le _⟩ (Nat.le_of_ble_eq_true rfl) dX2_priceOf_29 (fun H locs hP hD hS => ?_)
  cases hf
  exact rI X hP hD hS dX2_priceOf_32
theorem gw_X2_X2_priceOf : GoodIn lw_all (wsV RX2 373 RX2 yX2_priceOf (ws_ yX2_priceOf cX2_priceOf 3 (some .int))) := lw_V q1833 q1835 qs121 q148 q1836
theorem dy_X2_priceOf : Dy yX2_priceOf RX2 2 := by decide +kernel
set_option maxHeartbeats 4000000 in
theorem met_M_payNow {l : Launch} {g : gG} {h : Nat} {ad : Nat → Nat} {sTaped : Int32} {sFault : Int32} {sFaultP : Int32} {sAt : Int32} {sPlace : Int32} {sToken : Int32} {sNumber : Int32} {sWord : Int64} {sText0 : Int32} {sWritten : Int32} {sSort0 : Int32} {sPiled : Int32} {sOpens : Int32} {sWhole : Int32} {sOnce : Int32} {sIsW : Int32} {sDied : Int32} {cA : Nat → Int32} {cIm : Nat → Int32} {cTx : Nat → Int32} {cTp : Nat → Int32} {cPl : Nat → Int32} {cNm : Nat → Int32} {cVa : Nat → Int64} {cTr : Nat → Int32} {cAs : Nat → Int32} {cLi : Nat → Int32} {cSa : Nat → Int32} {cHd : Nat → Int32} {x1 : Int32} {x2 : Int32} {r : Int32} {ncA : Nat → Int32} {ncNm : Nat → Int32} {ncVa : Nat → Int64} {ncTr : Nat → Int32} {φ : Nat} (hf : M_payNow φ sIsW cA cTx cNm cVa cTr x1 x2 = some (r, ncA, ncNm, ncVa, ncTr)) : CC l yX2_payNow (ws_ yX2_payNow cX2_payNow 4 (some .int)) ({ frames := 6, cells := 0, slots := 0, locals := 143 } : Room) g [.ref h, .int x1, .int x2] (mW g h ad sTaped sFault sFaultP sAt sPlace sToken sNumber sWord sText0 sWritten sSort0 sPiled sOpens sWhole sOnce sIsW sDied cA cIm cTx cTp cPl cNm cVa cTr cAs cLi cSa cHd) (some (.int r)) (mW g h ad sTaped sFault sFaultP sAt sPlace sToken sNumber sWord sText0 sWritten sSort0 sPiled sOpens sWhole sOnce sIsW sDied ncA cIm cTx cTp cPl ncNm ncVa ncTr cAs cLi cSa cHd) 0 0 := by
  refine CC.of RX2 rfl plain_X2 (Nat.le_of_ble_eq_true rfl) (fun p e s m below meth c A ls X hP hD hS hl => ?_)
  have hx := X.1
  have hb := X.2.1
  have hown := X.2.2.2.2.2.1
  have hts := X.2.2.2.2.2.2.1
  have hl : lv_has ls 4 [(0, .ref h), (1, .int x1), (2, .int x2)] := hl
  unfold M_payNow at hf
  refine lv_aload_n hx hb dX2_payNow_0 rfl (lv_at hl 0 rfl) ?_
  refine lv_aload_n hx hb dX2_payNow_1 rfl (lv_at hl 0 rfl) ?_
  refine gM0 X hP dX2_payNow_2 ?_
  refine lv_iconst (v := 3) hx hb dX2_payNow_5 (by decide) ?_
  obtain ⟨v1, ev1, bv1, hf⟩ := rds hf
  refine lM_cA X hP ev1 bv1 dX2_payNow_6 ?_
  refine lv_iload_n hx hb dX2_payNow_7 rfl (lv_at hl 1 rfl) ?_
  obtain ⟨r2, c3, c4, c5, k6, hf⟩ := bd4s hf
  refine cVi (rest := []) X (met_M_priceOf k6) gw_X2_X2_priceOf dy_X2_priceOf ⟨⟨rfl, rfl⟩, Nat.le_of_ble_eq_true rfl, Nat.le_of_ble_eq_true rfl⟩ hP hD hS hl.1 rcM rfl rfl ⟨Nat.zero_le _, Nat.zero_le _⟩ (Nat.le_of_ble_eq_true rfl) dX2_payNow_8 (fun H locs hP hD hS => ?_)
  refine lv_istore_n (lv' := [(3, .int r2), (0, .ref h), (1, .int x1), (2, .int x2)]) hx hb dX2_payNow_11 rfl hl (by decide) rfl (fun ls hl => ?_)
  refine lv_aload_n hx hb dX2_payNow_12 rfl (lv_at hl 1 rfl) ?_
  refine lv_iload_n hx hb dX2_payNow_13 rfl (lv_at hl 3 rfl) ?_
  refine lv_iconst (v := 1) hx hb dX2_payNow_14 (by decide) ?_
  refine lv_aload_n hx hb dX2_payNow_15 rfl (lv_at hl 1 rfl) ?_
  refine lv_iload_n hx hb dX2_payNow_16 rfl (lv_at hl 3 rfl) ?_
  refine lv_iconst (v := 1) hx hb dX2_payNow_17 (by decide) ?_
  obtain ⟨r7, k8, hf⟩ := bd1s hf
  refine cVi (rest := [.int 1, .int x2, .ref h]) X (met_M_get k8) gw_X2_X2_get dy_X2_get ⟨⟨rfl, rfl⟩, Nat.le_of_ble_eq_true rfl, Nat.le_of_ble_eq_true rfl⟩ hP hD hS hl.1 rcM rfl rfl ⟨Nat.zero_le _, Nat.zero_le _⟩ (Nat.le_of_ble_eq_true rfl) dX2_payNow_18 (fun H locs hP hD hS => ?_)
  refine lv_iload_n hx hb dX2_payNow_21 rfl (lv_at hl 0 rfl) ?_
  refine lv_isub hx hb dX2_payNow_22 ?_
  obtain ⟨c9, k10, hf⟩ := bd1s hf
  refine cVv (rest := []) X (met_M_put k10) gw_X2_X2_put dy_X2_put ⟨⟨rfl, rfl⟩, Nat.le_of_ble_eq_true rfl, Nat.le_of_ble_eq_true rfl⟩ hP hD hS hl.1 rcM rfl rfl ⟨Nat.zero_le _, Nat.zero_le _⟩ (Nat.le_of_ble_eq_true rfl) dX2_payNow_23 (fun H locs hP hD hS => ?_)
  refine lv_aload_n hx hb dX2_payNow_26 rfl (lv_at hl 1 rfl) ?_
  refine lv_iload_n hx hb dX2_payNow_27 rfl (lv_at hl 2 rfl) ?_
  obtain ⟨c11, k12, hf⟩ := bd1s hf
  refine cVv (rest := []) X (met_M_pardonNow k12) gw_X2_X2_pardonNow dy_X2_pardonNow ⟨⟨rfl, rfl⟩, Nat.le_of_ble_eq_true rfl, Nat.le_of_ble_eq_true rfl⟩ hP hD hS hl.1 rcM rfl rfl ⟨Nat.zero_le _, Nat.zero_le _⟩ (Nat.le_of_ble_eq_true rfl) dX2_payNow_28 (fun H locs hP hD hS => ?_)
  refine lv_aload_n hx hb dX2_payNow_31 rfl (lv_at hl 1 rfl) ?_
  refine lv_iload_n hx hb dX2_payNow_32 rfl (lv_at hl 2 rfl) ?_
  refine lv_bipush (v := 6) hx hb dX2_payNow_33 (by decide) ?_
  obtain ⟨c13, k14, hf⟩ := bd1s hf
  refine cVv (rest := []) X (met_M_write k14) gw_X2_X2_write dy_X2_write ⟨⟨rfl, rfl⟩, Nat.le_of_ble_eq_true rfl, Nat.le_of_ble_eq_true rfl⟩ hP hD hS hl.1 rcM rfl rfl ⟨Nat.zero_le _, Nat.zero_le _⟩ (Nat.le_of_ble_eq_true rfl) dX2_payNow_35 (fun H locs hP hD hS => ?_)
  refine lv_iload_n hx hb dX2_payNow_38 rfl (lv_at hl 0 rfl) ?_
  cases hf
  exact rI X hP hD hS dX2_payNow_39
set_option maxHeartbeats 4000000 in
theorem met_M_earnsOf {l : Launch} {g : gG} {h : Nat} {ad : Nat → Nat} {sTaped : Int32} {sFault : Int32} {sFaultP : Int32} {sAt : Int32} {sPlace : Int32} {sToken : Int32} {sNumber : Int32} {sWord : Int64} {sText0 : Int32} {sWritten : Int32} {sSort0 : Int32} {sPiled : Int32} {sOpens : Int32} {sWhole : Int32} {sOnce : Int32} {sIsW : Int32} {sDied : Int32} {cA : Nat → Int32} {cIm : Nat → Int32} {cTx : Nat → Int32} {cTp : Nat → Int32} {cPl : Nat → Int32} {cNm : Nat → Int32} {cVa : Nat → Int64} {cTr : Nat → Int32} {cAs : Nat → Int32} {cLi : Nat → Int32} {cSa : Nat → Int32} {cHd : Nat → Int32} {x1 : Int32} {r : Int32} {ncNm : Nat → Int32} {ncVa : Nat → Int64} {ncTr : Nat → Int32} {φ : Nat} (hf : M_earnsOf φ cA cTx cNm cVa cTr x1 = some (r, ncNm, ncVa, ncTr)) : CC l yX2_earnsOf (ws_ yX2_earnsOf cX2_earnsOf 2 (some .int)) ({ frames := 5, cells := 0, slots := 0, locals := 121 } : Room) g [.ref h, .int x1] (mW g h ad sTaped sFault sFaultP sAt sPlace sToken sNumber sWord sText0 sWritten sSort0 sPiled sOpens sWhole sOnce sIsW sDied cA cIm cTx cTp cPl cNm cVa cTr cAs cLi cSa cHd) (some (.int r)) (mW g h ad sTaped sFault sFaultP sAt sPlace sToken sNumber sWord sText0 sWritten sSort0 sPiled sOpens sWhole sOnce sIsW sDied cA cIm cTx cTp cPl ncNm ncVa ncTr cAs cLi cSa cHd) 0 0 := by
  refine CC.of RX2 rfl plain_X2 (Nat.le_of_ble_eq_true rfl) (fun p e s m below meth c A ls X hP hD hS hl => ?_)
  have hx := X.1
  have hb := X.2.1
  have hown := X.2.2.2.2.2.1
  have hts := X.2.2.2.2.2.2.1
  have hl : lv_has ls 2 [(0, .ref h), (1, .int x1)] := hl
  unfold M_earnsOf at hf
  refine lv_aload_n hx hb dX2_earnsOf_0 rfl (lv_at hl 0 rfl) ?_
  refine lv_iload_n hx hb dX2_earnsOf_1 rfl (lv_at hl 1 rfl) ?_
  refine lv_aload_n hx hb dX2_earnsOf_2 rfl (lv_at hl 0 rfl) ?_
  refine lv_iload_n hx hb dX2_earnsOf_3 rfl (lv_at hl 1 rfl) ?_
  refine lv_iconst (v := 0) hx hb dX2_earnsOf_4 (by decide) ?_
  obtain ⟨r1, k2, hf⟩ := bd1s hf
  refine cVi (rest := [.int x1, .ref h]) X (met_M_get k2) gw_X2_X2_get dy_X2_get ⟨⟨rfl, rfl⟩, Nat.le_of_ble_eq_true rfl, Nat.le_of_ble_eq_true rfl⟩ hP hD hS hl.1 rcM rfl rfl ⟨Nat.zero_le _, Nat.zero_le _⟩ (Nat.le_of_ble_eq_true rfl) dX2_earnsOf_5 (fun H locs hP hD hS => ?_)
  obtain ⟨c3, k4, hf⟩ := bd1s hf
  refine cVv (rest := []) X (met_M_nameIn k4) gw_X2_X2_nameIn dy_X2_nameIn ⟨⟨rfl, rfl⟩, Nat.le_of_ble_eq_true rfl, Nat.le_of_ble_eq_true rfl⟩ hP hD hS hl.1 rcM rfl rfl ⟨Nat.zero_le _, Nat.zero_le _⟩ (Nat.le_of_ble_eq_true rfl) dX2_earnsOf_8 (fun H locs hP hD hS => ?_)
  refine lv_aload_n hx hb dX2_earnsOf_11 rfl (lv_at hl 0 rfl) ?_
  refine lv_aload_n hx hb dX2_earnsOf_12 rfl (lv_at hl 0 rfl) ?_
  refine gM0 X hP dX2_earnsOf_13 ?_
  refine lv_iconst (v := 3) hx hb dX2_earnsOf_16 (by decide) ?_
  obtain ⟨v5, ev5, bv5, hf⟩ := rds hf
  refine lM_cA X hP ev5 bv5 dX2_earnsOf_17 ?_
  refine lv_iconst (v := 3) hx hb dX2_earnsOf_18 (by decide) ?_
  refine lv_bipush (v := 10) hx hb dX2_earnsOf_19 (by decide) ?_
  refine lv_bipush (v := 99) hx hb dX2_earnsOf_21 (by decide) ?_
  obtain ⟨r6, c7, c8, k9, hf⟩ := bd3s hf
  refine cVi (rest := []) X (met_M_says k9) gw_X2_X2_says dy_X2_says ⟨⟨rfl, rfl⟩, Nat.le_of_ble_eq_true rfl, Nat.le_of_ble_eq_true rfl⟩ hP hD hS hl.1 rcM rfl rfl ⟨Nat.zero_le _, Nat.zero_le _⟩ (Nat.le_of_ble_eq_true rfl) dX2_earnsOf_23 (fun H locs hP hD hS => ?_)
  cases hf
  exact rI X hP hD hS dX2_earnsOf_26
set_option maxHeartbeats 4000000 in
theorem met_M_hungersOf {l : Launch} {g : gG} {h : Nat} {ad : Nat → Nat} {sTaped : Int32} {sFault : Int32} {sFaultP : Int32} {sAt : Int32} {sPlace : Int32} {sToken : Int32} {sNumber : Int32} {sWord : Int64} {sText0 : Int32} {sWritten : Int32} {sSort0 : Int32} {sPiled : Int32} {sOpens : Int32} {sWhole : Int32} {sOnce : Int32} {sIsW : Int32} {sDied : Int32} {cA : Nat → Int32} {cIm : Nat → Int32} {cTx : Nat → Int32} {cTp : Nat → Int32} {cPl : Nat → Int32} {cNm : Nat → Int32} {cVa : Nat → Int64} {cTr : Nat → Int32} {cAs : Nat → Int32} {cLi : Nat → Int32} {cSa : Nat → Int32} {cHd : Nat → Int32} {x1 : Int32} {r : Int32} {ncNm : Nat → Int32} {ncVa : Nat → Int64} {ncTr : Nat → Int32} {φ : Nat} (hf : M_hungersOf φ cA cTx cNm cVa cTr x1 = some (r, ncNm, ncVa, ncTr)) : CC l yX2_hungersOf (ws_ yX2_hungersOf cX2_hungersOf 2 (some .int)) ({ frames := 5, cells := 0, slots := 0, locals := 121 } : Room) g [.ref h, .int x1] (mW g h ad sTaped sFault sFaultP sAt sPlace sToken sNumber sWord sText0 sWritten sSort0 sPiled sOpens sWhole sOnce sIsW sDied cA cIm cTx cTp cPl cNm cVa cTr cAs cLi cSa cHd) (some (.int r)) (mW g h ad sTaped sFault sFaultP sAt sPlace sToken sNumber sWord sText0 sWritten sSort0 sPiled sOpens sWhole sOnce sIsW sDied cA cIm cTx cTp cPl ncNm ncVa ncTr cAs cLi cSa cHd) 0 0 := by
  refine CC.of RX2 rfl plain_X2 (Nat.le_of_ble_eq_true rfl) (fun p e s m below meth c A ls X hP hD hS hl => ?_)
  have hx := X.1
  have hb := X.2.1
  have hown := X.2.2.2.2.2.1
  have hts := X.2.2.2.2.2.2.1
  have hl : lv_has ls 2 [(0, .ref h), (1, .int x1)] := hl
  unfold M_hungersOf at hf
  refine lv_aload_n hx hb dX2_hungersOf_0 rfl (lv_at hl 0 rfl) ?_
  refine lv_iload_n hx hb dX2_hungersOf_1 rfl (lv_at hl 1 rfl) ?_
  refine lv_aload_n hx hb dX2_hungersOf_2 rfl (lv_at hl 0 rfl) ?_
  refine lv_iload_n hx hb dX2_hungersOf_3 rfl (lv_at hl 1 rfl) ?_
  refine lv_iconst (v := 0) hx hb dX2_hungersOf_4 (by decide) ?_
  obtain ⟨r1, k2, hf⟩ := bd1s hf
  refine cVi (rest := [.int x1, .ref h]) X (met_M_get k2) gw_X2_X2_get dy_X2_get ⟨⟨rfl, rfl⟩, Nat.le_of_ble_eq_true rfl, Nat.le_of_ble_eq_true rfl⟩ hP hD hS hl.1 rcM rfl rfl ⟨Nat.zero_le _, Nat.zero_le _⟩ (Nat.le_of_ble_eq_true rfl) dX2_hungersOf_5 (fun H locs hP hD hS => ?_)
  obtain ⟨c3, k4, hf⟩ := bd1s hf
  refine cVv (rest := []) X (met_M_nameIn k4) gw_X2_X2_nameIn dy_X2_nameIn ⟨⟨rfl, rfl⟩, Nat.le_of_ble_eq_true rfl, Nat.le_of_ble_eq_true rfl⟩ hP hD hS hl.1 rcM rfl rfl ⟨Nat.zero_le _, Nat.zero_le _⟩ (Nat.le_of_ble_eq_true rfl) dX2_hungersOf_8 (fun H locs hP hD hS => ?_)
  refine lv_aload_n hx hb dX2_hungersOf_11 rfl (lv_at hl 0 rfl) ?_
  refine lv_aload_n hx hb dX2_hungersOf_12 rfl (lv_at hl 0 rfl) ?_
  refine gM0 X hP dX2_hungersOf_13 ?_
  refine lv_iconst (v := 3) hx hb dX2_hungersOf_16 (by decide) ?_
  obtain ⟨v5, ev5, bv5, hf⟩ := rds hf
  refine lM_cA X hP ev5 bv5 dX2_hungersOf_17 ?_
  refine lv_iconst (v := 0) hx hb dX2_hungersOf_18 (by decide) ?_
  refine lv_iconst (v := 1) hx hb dX2_hungersOf_19 (by decide) ?_
  refine lv_bipush (v := 9) hx hb dX2_hungersOf_20 (by decide) ?_
  obtain ⟨r6, c7, c8, k9, hf⟩ := bd3s hf
  refine cVi (rest := []) X (met_M_says k9) gw_X2_X2_says dy_X2_says ⟨⟨rfl, rfl⟩, Nat.le_of_ble_eq_true rfl, Nat.le_of_ble_eq_true rfl⟩ hP hD hS hl.1 rcM rfl rfl ⟨Nat.zero_le _, Nat.zero_le _⟩ (Nat.le_of_ble_eq_true rfl) dX2_hungersOf_22 (fun H locs hP hD hS => ?_)
  cases hf
  exact rI X hP hD hS dX2_hungersOf_25
set_option maxHeartbeats 4000000 in
theorem met_M_whose {l : Launch} {g : gG} {h : Nat} {ad : Nat → Nat} {sTaped : Int32} {sFault : Int32} {sFaultP : Int32} {sAt : Int32} {sPlace : Int32} {sToken : Int32} {sNumber : Int32} {sWord : Int64} {sText0 : Int32} {sWritten : Int32} {sSort0 : Int32} {sPiled : Int32} {sOpens : Int32} {sWhole : Int32} {sOnce : Int32} {sIsW : Int32} {sDied : Int32} {cA : Nat → Int32} {cIm : Nat → Int32} {cTx : Nat → Int32} {cTp : Nat → Int32} {cPl : Nat → Int32} {cNm : Nat → Int32} {cVa : Nat → Int64} {cTr : Nat → Int32} {cAs : Nat → Int32} {cLi : Nat → Int32} {cSa : Nat → Int32} {cHd : Nat → Int32} {r : Int32} {ncNm : Nat → Int32} {ncVa : Nat → Int64} {ncTr : Nat → Int32} {φ : Nat} (hf : M_whose φ cA cTx cNm cVa cTr = some (r, ncNm, ncVa, ncTr)) : CC l yX2_whose (ws_ yX2_whose cX2_whose 5 (some .int)) ({ frames := 6, cells := 0, slots := 0, locals := 143 } : Room) g [.ref h] (mW g h ad sTaped sFault sFaultP sAt sPlace sToken sNumber sWord sText0 sWritten sSort0 sPiled sOpens sWhole sOnce sIsW sDied cA cIm cTx cTp cPl cNm cVa cTr cAs cLi cSa cHd) (some (.int r)) (mW g h ad sTaped sFault sFaultP sAt sPlace sToken sNumber sWord sText0 sWritten sSort0 sPiled sOpens sWhole sOnce sIsW sDied cA cIm cTx cTp cPl ncNm ncVa ncTr cAs cLi cSa cHd) 0 0 := by
  refine CC.of RX2 rfl plain_X2 (Nat.le_of_ble_eq_true rfl) (fun p e s m below meth c A ls X hP hD hS hl => ?_)
  have hx := X.1
  have hb := X.2.1
  have hown := X.2.2.2.2.2.1
  have hts := X.2.2.2.2.2.2.1
  have hl : lv_has ls 5 [(0, .ref h)] := hl
  unfold M_whose at hf
  refine lv_iconst (v := 0) hx hb dX2_whose_0 (by decide) ?_
  refine lv_istore_n (lv' := [(1, .int 0), (0, .ref h)]) hx hb dX2_whose_1 rfl hl (by decide) rfl (fun ls hl => ?_)
  refine lv_iconst (v := 0) hx hb dX2_whose_2 (by decide) ?_
  refine lv_istore_n (lv' := [(2, .int 0), (1, .int 0), (0, .ref h)]) hx hb dX2_whose_3 rfl hl (by decide) rfl (fun ls hl => ?_)
  obtain ⟨v6, c7, c8, c9, k14, hf⟩ := bd4s hf
  have hE11 : ∀ (H : Heap) (locs : List Loc) (ls : Array Slot), va_P g.1 vwCl (mW g h ad sTaped sFault sFaultP sAt sPlace sToken sNumber sWord sText0 sWritten sSort0 sPiled sOpens sWhole sOnce sIsW sDied cA cIm cTx cTp cPl c7 c8 c9 cAs cLi cSa cHd) H → va_D A (mW g h ad sTaped sFault sFaultP sAt sPlace sToken sNumber sWord sText0 sWritten sSort0 sPiled sOpens sWhole sOnce sIsW sDied cA cIm cTx cTp cPl c7 c8 c9 cAs cLi cSa cHd) → va_S A s.heap H locs → lv_has ls 5 [(1, .int v6)] → W p l e ({ frames := 6, cells := 0, slots := 0, locals := 143 } : Room) s m ([.ref h] : List Value).toArray below meth c H locs 0 0 (MQ below (QQ g (some (.int r)) (mW g h ad sTaped sFault sFaultP sAt sPlace sToken sNumber sWord sText0 sWritten sSort0 sPiled sOpens sWhole sOnce sIsW sDied cA cIm cTx cTp cPl ncNm ncVa ncTr cAs cLi cSa cHd) A) ([.ref h] : List Value).toArray s 0 0 A) (F0 m 101 ls []) := by
    intro H locs ls hP hD hS hl
    refine lv_iload_n hx hb dX2_whose_101 rfl (lv_at hl 0 rfl) ?_
    cases hf
    exact rI X hP hD hS dX2_whose_102
  have hL12 : ∀ (n10 : Nat) (v1 : Int32) (v2 : Int32) (c3 : Nat → Int32) (c4 : Nat → Int64) (c5 : Nat → Int32), M_whose_L4 φ cA cTx n10 v1 v2 c3 c4 c5 = some (v6, c7, c8, c9) → ∀ (H : Heap) (locs : List Loc) (ls : Array Slot), va_P g.1 vwCl (mW g h ad sTaped sFault sFaultP sAt sPlace sToken sNumber sWord sText0 sWritten sSort0 sPiled sOpens sWhole sOnce sIsW sDied cA cIm cTx cTp cPl c3 c4 c5 cAs cLi cSa cHd) H → va_D A (mW g h ad sTaped sFault sFaultP sAt sPlace sToken sNumber sWord sText0 sWritten sSort0 sPiled sOpens sWhole sOnce sIsW sDied cA cIm cTx cTp cPl c3 c4 c5 cAs cLi cSa cHd) → va_S A s.heap H locs → lv_has ls 5 [(0, .ref h), (1, .int v1), (2, .int v2)] → W p l e ({ frames := 6, cells := 0, slots := 0, locals := 143 } : Room) s m ([.ref h] : List Value).toArray below meth c H locs 0 0 (MQ below (QQ g (some (.int r)) (mW g h ad sTaped sFault sFaultP sAt sPlace sToken sNumber sWord sText0 sWritten sSort0 sPiled sOpens sWhole sOnce sIsW sDied cA cIm cTx cTp cPl ncNm ncVa ncTr cAs cLi cSa cHd) A) ([.ref h] : List Value).toArray s 0 0 A) (F0 m 4 ls []) := by
    intro n10
    induction n10 with
    | zero =>
      intro v1 v2 c3 c4 c5 hf
      exact nn hf
    | succ n10 ih13 =>
      intro v1 v2 c3 c4 c5 hf H locs ls hP hD hS hl
      rw [M_whose_L4] at hf
      refine lv_iload_n hx hb dX2_whose_4 rfl (lv_at hl 2 rfl) ?_
      refine lv_aload_n hx hb dX2_whose_5 rfl (lv_at hl 0 rfl) ?_
      refine gM0 X hP dX2_whose_6 ?_
      refine lv_iconst (v := 2) hx hb dX2_whose_9 (by decide) ?_
      obtain ⟨v15, ev15, bv15, hf⟩ := rds hf
      refine lM_cA X hP ev15 bv15 dX2_whose_10 ?_
      refine bc_ge (tgt := 101) hx hb hf dX2_whose_11 (by decide) (fun hf => ?_) (fun hf => ?_)
      · cases hf
        exact hE11 _ _ _ hP hD hS (lv_sub hl [1] rfl)
      · refine lv_iconst (v := 1) hx hb dX2_whose_14 (by decide) ?_
        refine lv_istore_n (lv' := [(3, .int 1), (0, .ref h), (1, .int v1), (2, .int v2)]) hx hb dX2_whose_15 rfl hl (by decide) rfl (fun ls hl => ?_)
        refine lv_iconst (v := 0) hx hb dX2_whose_16 (by decide) ?_
        refine lv_istore (lv' := [(4, .int 0), (3, .int 1), (0, .ref h), (1, .int v1), (2, .int v2)]) hx hb dX2_whose_17 hl (by decide) rfl (fun ls hl => ?_)
        obtain ⟨v21, c22, c23, c24, k29, hf⟩ := bd4s hf
        have hE26 : ∀ (H : Heap) (locs : List Loc) (ls : Array Slot), va_P g.1 vwCl (mW g h ad sTaped sFault sFaultP sAt sPlace sToken sNumber sWord sText0 sWritten sSort0 sPiled sOpens sWhole sOnce sIsW sDied cA cIm cTx cTp cPl c22 c23 c24 cAs cLi cSa cHd) H → va_D A (mW g h ad sTaped sFault sFaultP sAt sPlace sToken sNumber sWord sText0 sWritten sSort0 sPiled sOpens sWhole sOnce sIsW sDied cA cIm cTx cTp cPl c22 c23 c24 cAs cLi cSa cHd) → va_S A s.heap H locs → lv_has ls 5 [(0, .ref h), (1, .int v1), (2, .int v2), (3, .int v21)] → W p l e ({ frames := 6, cells := 0, slots := 0, locals := 143 } : Room) s m ([.ref h] : List Value).toArray below meth c H locs 0 0 (MQ below (QQ g (some (.int r)) (mW g h ad sTaped sFault sFaultP sAt sPlace sToken sNumber sWord sText0 sWritten sSort0 sPiled sOpens sWhole sOnce sIsW sDied cA cIm cTx cTp cPl ncNm ncVa ncTr cAs cLi cSa cHd) A) ([.ref h] : List Value).toArray s 0 0 A) (F0 m 81 ls []) := by
          intro H locs ls hP hD hS hl
          refine lv_iload_n hx hb dX2_whose_81 rfl (lv_at hl 1 rfl) ?_
          refine lv_iload_n hx hb dX2_whose_82 rfl (lv_at hl 3 rfl) ?_
          refine bq_eq (tgt := 92) hx hb hf dX2_whose_83 (by decide) (fun hf => ?_) (fun hf => ?_)
          · refine lv_iconst (v := 0) hx hb dX2_whose_92 (by decide) ?_
            refine lv_ior hx hb dX2_whose_93 ?_
            obtain ⟨v30, ev30, hf⟩ := lts hf
            refine tpi ev30 ?_
            refine lv_istore_n (lv' := [(1, .int v30), (0, .ref h), (2, .int v2), (3, .int v21)]) hx hb dX2_whose_94 rfl hl (by decide) rfl (fun ls hl => ?_)
            obtain ⟨v31, ev31, hf⟩ := lts hf
            refine lv_iinc (v := v31) (lv' := [(2, .int v31), (1, .int v30), (0, .ref h), (3, .int v21)]) hx hb dX2_whose_95 hl (k := 2) rfl (by rw [ev31]; rfl) (by decide) rfl (fun ls hl => ?_)
            refine lv_goto (tgt := 4) hx hb dX2_whose_98 (by decide) ?_
            exact ih13 _ _ _ _ _ hf _ _ _ hP hD hS (lv_sub hl [2, 1, 0] rfl)
          · refine lv_iconst (v := 1) hx hb dX2_whose_86 (by decide) ?_
            refine lv_iload_n hx hb dX2_whose_87 rfl (lv_at hl 2 rfl) ?_
            refine lv_ishl hx hb dX2_whose_88 ?_
            refine lv_goto (tgt := 93) hx hb dX2_whose_89 (by decide) ?_
            refine lv_ior hx hb dX2_whose_93 ?_
            obtain ⟨v32, ev32, hf⟩ := lts hf
            refine tpi ev32 ?_
            refine lv_istore_n (lv' := [(1, .int v32), (0, .ref h), (2, .int v2), (3, .int v21)]) hx hb dX2_whose_94 rfl hl (by decide) rfl (fun ls hl => ?_)
            obtain ⟨v33, ev33, hf⟩ := lts hf
            refine lv_iinc (v := v33) (lv' := [(2, .int v33), (1, .int v32), (0, .ref h), (3, .int v21)]) hx hb dX2_whose_95 hl (k := 2) rfl (by rw [ev33]; rfl) (by decide) rfl (fun ls hl => ?_)
            refine lv_goto (tgt := 4) hx hb dX2_whose_98 (by decide) ?_
            exact ih13 _ _ _ _ _ hf _ _ _ hP hD hS (lv_sub hl [2, 1, 0] rfl)
        have hL27 : ∀ (n25 : Nat) (v16 : Int32) (v17 : Int32) (c18 : Nat → Int32) (c19 : Nat → Int64) (c20 : Nat → Int32), M_whose_L19 φ v1 v2 cA cTx n25 v16 v17 c18 c19 c20 = some (v21, c22, c23, c24) → ∀ (H : Heap) (locs : List Loc) (ls : Array Slot), va_P g.1 vwCl (mW g h ad sTaped sFault sFaultP sAt sPlace sToken sNumber sWord sText0 sWritten sSort0 sPiled sOpens sWhole sOnce sIsW sDied cA cIm cTx cTp cPl c18 c19 c20 cAs cLi cSa cHd) H → va_D A (mW g h ad sTaped sFault sFaultP sAt sPlace sToken sNumber sWord sText0 sWritten sSort0 sPiled sOpens sWhole sOnce sIsW sDied cA cIm cTx cTp cPl c18 c19 c20 cAs cLi cSa cHd) → va_S A s.heap H locs → lv_has ls 5 [(0, .ref h), (1, .int v1), (2, .int v2), (3, .int v16), (4, .int v17)] → W p l e ({ frames := 6, cells := 0, slots := 0, locals := 143 } : Room) s m ([.ref h] : List Value).toArray below meth c H locs 0 0 (MQ below (QQ g (some (.int r)) (mW g h ad sTaped sFault sFaultP sAt sPlace sToken sNumber sWord sText0 sWritten sSort0 sPiled sOpens sWhole sOnce sIsW sDied cA cIm cTx cTp cPl ncNm ncVa ncTr cAs cLi cSa cHd) A) ([.ref h] : List Value).toArray s 0 0 A) (F0 m 19 ls []) := by
          intro n25
          induction n25 with
          | zero =>
            intro v16 v17 c18 c19 c20 hf
            exact nn hf
          | succ n25 ih28 =>
            intro v16 v17 c18 c19 c20 hf H locs ls hP hD hS hl
            rw [M_whose_L19] at hf
            refine lv_iload hx hb dX2_whose_19 (lv_at hl 4 rfl) ?_
            refine lv_aload_n hx hb dX2_whose_21 rfl (lv_at hl 0 rfl) ?_
            refine gM0 X hP dX2_whose_22 ?_
            refine lv_bipush (v := 8) hx hb dX2_whose_25 (by decide) ?_
            obtain ⟨v34, ev34, bv34, hf⟩ := rds hf
            refine lM_cA X hP ev34 bv34 dX2_whose_27 ?_
            refine bc_ge (tgt := 81) hx hb hf dX2_whose_28 (by decide) (fun hf => ?_) (fun hf => ?_)
            · cases hf
              exact hE26 _ _ _ hP hD hS (lv_sub hl [0, 1, 2, 3] rfl)
            · refine lv_iload_n hx hb dX2_whose_31 rfl (lv_at hl 3 rfl) ?_
              refine bq_eq (tgt := 73) hx hb hf dX2_whose_32 (by decide) (fun hf => ?_) (fun hf => ?_)
              · refine lv_iconst (v := 0) hx hb dX2_whose_73 (by decide) ?_
                refine lv_istore_n (lv' := [(3, .int 0), (0, .ref h), (1, .int v1), (2, .int v2), (4, .int v17)]) hx hb dX2_whose_74 rfl hl (by decide) rfl (fun ls hl => ?_)
                obtain ⟨v35, ev35, hf⟩ := lts hf
                refine lv_iinc (v := v35) (lv' := [(4, .int v35), (3, .int 0), (0, .ref h), (1, .int v1), (2, .int v2)]) hx hb dX2_whose_75 hl (k := 4) rfl (by rw [ev35]; rfl) (by decide) rfl (fun ls hl => ?_)
                refine lv_goto (tgt := 19) hx hb dX2_whose_78 (by decide) ?_
                exact ih28 _ _ _ _ _ hf _ _ _ hP hD hS (lv_sub hl [2, 3, 4, 1, 0] rfl)
              · refine lv_aload_n hx hb dX2_whose_35 rfl (lv_at hl 0 rfl) ?_
                refine lv_iload_n hx hb dX2_whose_36 rfl (lv_at hl 2 rfl) ?_
                refine lv_aload_n hx hb dX2_whose_37 rfl (lv_at hl 0 rfl) ?_
                refine gM0 X hP dX2_whose_38 ?_
                refine lv_bipush (v := 125) hx hb dX2_whose_41 (by decide) ?_
                refine lv_iconst (v := 2) hx hb dX2_whose_43 (by decide) ?_
                refine lv_iload hx hb dX2_whose_44 (lv_at hl 4 rfl) ?_
                refine lv_imul hx hb dX2_whose_46 ?_
                refine lv_iadd hx hb dX2_whose_47 ?_
                obtain ⟨v36, ev36, bv36, hf⟩ := rds hf
                refine lM_cA X hP ev36 bv36 dX2_whose_48 ?_
                obtain ⟨r37, c38, c39, c40, k41, hf⟩ := bd4s hf
                refine cVi (rest := []) X (met_M_priceOf k41) gw_X2_X2_priceOf dy_X2_priceOf ⟨⟨rfl, rfl⟩, Nat.le_of_ble_eq_true rfl, Nat.le_of_ble_eq_true rfl⟩ hP hD hS hl.1 rcM rfl rfl ⟨Nat.zero_le _, Nat.zero_le _⟩ (Nat.le_of_ble_eq_true rfl) dX2_whose_49 (fun H locs hP hD hS => ?_)
                refine lv_aload_n hx hb dX2_whose_52 rfl (lv_at hl 0 rfl) ?_
                refine gM0 X hP dX2_whose_53 ?_
                refine lv_bipush (v := 125) hx hb dX2_whose_56 (by decide) ?_
                refine lv_iconst (v := 2) hx hb dX2_whose_58 (by decide) ?_
                refine lv_iload hx hb dX2_whose_59 (lv_at hl 4 rfl) ?_
                refine lv_imul hx hb dX2_whose_61 ?_
                refine lv_iadd hx hb dX2_whose_62 ?_
                refine lv_iconst (v := 1) hx hb dX2_whose_63 (by decide) ?_
                refine lv_iadd hx hb dX2_whose_64 ?_
                obtain ⟨v42, ev42, bv42, hf⟩ := rds hf
                refine lM_cA X hP ev42 bv42 dX2_whose_65 ?_
                refine bc_ne (tgt := 73) hx hb hf dX2_whose_66 (by decide) (fun hf => ?_) (fun hf => ?_)
                · refine lv_iconst (v := 0) hx hb dX2_whose_73 (by decide) ?_
                  refine lv_istore_n (lv' := [(3, .int 0), (0, .ref h), (1, .int v1), (2, .int v2), (4, .int v17)]) hx hb dX2_whose_74 rfl hl (by decide) rfl (fun ls hl => ?_)
                  obtain ⟨v43, ev43, hf⟩ := lts hf
                  refine lv_iinc (v := v43) (lv' := [(4, .int v43), (3, .int 0), (0, .ref h), (1, .int v1), (2, .int v2)]) hx hb dX2_whose_75 hl (k := 4) rfl (by rw [ev43]; rfl) (by decide) rfl (fun ls hl => ?_)
                  refine lv_goto (tgt := 19) hx hb dX2_whose_78 (by decide) ?_
                  exact ih28 _ _ _ _ _ hf _ _ _ hP hD hS (lv_sub hl [2, 3, 4, 1, 0] rfl)
                · refine lv_iconst (v := 1) hx hb dX2_whose_69 (by decide) ?_
                  refine lv_goto (tgt := 74) hx hb dX2_whose_70 (by decide) ?_
                  refine lv_istore_n (lv' := [(3, .int 1), (0, .ref h), (1, .int v1), (2, .int v2), (4, .int v17)]) hx hb dX2_whose_74 rfl hl (by decide) rfl (fun ls hl => ?_)
                  obtain ⟨v44, ev44, hf⟩ := lts hf
                  refine lv_iinc (v := v44) (lv' := [(4, .int v44), (3, .int 1), (0, .ref h), (1, .int v1), (2, .int v2)]) hx hb dX2_whose_75 hl (k := 4) rfl (by rw [ev44]; rfl) (by decide) rfl (fun ls hl => ?_)
                  refine lv_goto (tgt := 19) hx hb dX2_whose_78 (by decide) ?_
                  exact ih28 _ _ _ _ _ hf _ _ _ hP hD hS (lv_sub hl [2, 3, 4, 1, 0] rfl)
        exact hL27 _ _ _ _ _ _ k29 _ _ _ hP hD hS (lv_sub hl [2, 3, 4, 1, 0] rfl)
  exact hL12 _ _ _ _ _ _ k14 _ _ _ hP hD hS (lv_sub hl [2, 1, 0] rfl)
theorem gw_X2_X2_isHungers : GoodIn lw_all (wsV RX2 242 RX2 yX2_isHungers (ws_ yX2_isHungers cX2_isHungers 1 (some .boolean))) := lw_V q1572 q1574 qs74 q148 q1575
theorem dy_X2_isHungers : Dy yX2_isHungers RX2 0 := by decide +kernel
set_option maxHeartbeats 4000000 in
theorem met_M_sortOf {l : Launch} {g : gG} {h : Nat} {ad : Nat → Nat} {sTaped : Int32} {sFault : Int32} {sFaultP : Int32} {sAt : Int32} {sPlace : Int32} {sToken : Int32} {sNumber : Int32} {sWord : Int64} {sText0 : Int32} {sWritten : Int32} {sSort0 : Int32} {sPiled : Int32} {sOpens : Int32} {sWhole : Int32} {sOnce : Int32} {sIsW : Int32} {sDied : Int32} {cA : Nat → Int32} {cIm : Nat → Int32} {cTx : Nat → Int32} {cTp : Nat → Int32} {cPl : Nat → Int32} {cNm : Nat → Int32} {cVa : Nat → Int64} {cTr : Nat → Int32} {cAs : Nat → Int32} {cLi : Nat → Int32} {cSa : Nat → Int32} {cHd : Nat → Int32} {r : Int32} (hf : M_sortOf sTaped sAt sPlace sToken sWord cTp = some r) : CC l yX2_sortOf (ws_ yX2_sortOf cX2_sortOf 1 (some .int)) ({ frames := 5, cells := 0, slots := 0, locals := 115 } : Room) g [.ref h] (mW g h ad sTaped sFault sFaultP sAt sPlace sToken sNumber sWord sText0 sWritten sSort0 sPiled sOpens sWhole sOnce sIsW sDied cA cIm cTx cTp cPl cNm cVa cTr cAs cLi cSa cHd) (some (.int r)) (mW g h ad sTaped sFault sFaultP sAt sPlace sToken sNumber sWord sText0 sWritten sSort0 sPiled sOpens sWhole sOnce sIsW sDied cA cIm cTx cTp cPl cNm cVa cTr cAs cLi cSa cHd) 0 0 := by
  refine CC.of RX2 rfl plain_X2 (Nat.le_of_ble_eq_true rfl) (fun p e s m below meth c A ls X hP hD hS hl => ?_)
  have hx := X.1
  have hb := X.2.1
  have hown := X.2.2.2.2.2.1
  have hts := X.2.2.2.2.2.2.1
  have hl : lv_has ls 1 [(0, .ref h)] := hl
  unfold M_sortOf at hf
  refine lv_aload_n hx hb dX2_sortOf_0 rfl (lv_at hl 0 rfl) ?_
  obtain ⟨r1, k2, hf⟩ := bd1s hf
  refine cVi (rest := []) X (met_M_isHungers k2) gw_X2_X2_isHungers dy_X2_isHungers ⟨⟨rfl, rfl⟩, Nat.le_of_ble_eq_true rfl, Nat.le_of_ble_eq_true rfl⟩ hP hD hS hl.1 rcM rfl rfl ⟨Nat.zero_le _, Nat.zero_le _⟩ (Nat.le_of_ble_eq_true rfl) dX2_sortOf_1 (fun H locs hP hD hS => ?_)
  refine bq_eq (tgt := 9) hx hb hf dX2_sortOf_4 (by decide) (fun hf => ?_) (fun hf => ?_)
  · refine lv_aload_n hx hb dX2_sortOf_9 rfl (lv_at hl 0 rfl) ?_
    refine lv_bipush (v := 102) hx hb dX2_sortOf_10 (by decide) ?_
    refine lv_bipush (v := 105) hx hb dX2_sortOf_12 (by decide) ?_
    refine lv_bipush (v := 110) hx hb dX2_sortOf_14 (by decide) ?_
    refine lv_bipush (v := 100) hx hb dX2_sortOf_16 (by decide) ?_
    refine lv_bipush (v := 115) hx hb dX2_sortOf_18 (by decide) ?_
    obtain ⟨r3, k4, hf⟩ := bd1s hf
    refine cSl (rest := [.ref h]) X (met_M_w5 (g := g) k4) gs_X2_X2_w5 dy_X2_w5 ⟨⟨rfl, rfl⟩, Nat.le_of_ble_eq_true rfl, Nat.le_of_ble_eq_true rfl⟩ hP hD hS hl.1 rfl rfl ⟨Nat.zero_le _, Nat.zero_le _⟩ (Nat.le_of_ble_eq_true rfl) dX2_sortOf_20 (fun H locs hP hD hS => ?_)
    obtain ⟨r5, k6, hf⟩ := bd1s hf
    refine cVi (rest := []) X (met_M_isWord k6) gw_X2_X2_isWord dy_X2_isWord ⟨⟨rfl, rfl⟩, Nat.le_of_ble_eq_true rfl, Nat.le_of_ble_eq_true rfl⟩ hP hD hS hl.1 rcM rfl rfl ⟨Nat.zero_le _, Nat.zero_le _⟩ (Nat.le_of_ble_eq_true rfl) dX2_sortOf_23 (fun H locs hP hD hS => ?_)
    refine bq_eq (tgt := 31) hx hb hf dX2_sortOf_26 (by decide) (fun hf => ?_) (fun hf => ?_)
    · refine lv_aload_n hx hb dX2_sortOf_31 rfl (lv_at hl 0 rfl) ?_
      refine lv_bipush (v := 112) hx hb dX2_sortOf_32 (by decide) ?_
      refine lv_bipush (v := 114) hx hb dX2_sortOf_34 (by decide) ?_
      refine lv_bipush (v := 105) hx hb dX2_sortOf_36 (by decide) ?_
      refine lv_bipush (v := 99) hx hb dX2_sortOf_38 (by decide) ?_
      refine lv_bipush (v := 101) hx hb dX2_sortOf_40 (by decide) ?_
      obtain ⟨r7, k8, hf⟩ := bd1s hf
      refine cSl (rest := [.ref h]) X (met_M_w5 (g := g) k8) gs_X2_X2_w5 dy_X2_w5 ⟨⟨rfl, rfl⟩, Nat.le_of_ble_eq_true rfl, Nat.le_of_ble_eq_true rfl⟩ hP hD hS hl.1 rfl rfl ⟨Nat.zero_le _, Nat.zero_le _⟩ (Nat.le_of_ble_eq_true rfl) dX2_sortOf_42 (fun H locs hP hD hS => ?_)
      obtain ⟨r9, k10, hf⟩ := bd1s hf
      refine cVi (rest := []) X (met_M_isWord k10) gw_X2_X2_isWord dy_X2_isWord ⟨⟨rfl, rfl⟩, Nat.le_of_ble_eq_true rfl, Nat.le_of_ble_eq_true rfl⟩ hP hD hS hl.1 rcM rfl rfl ⟨Nat.zero_le _, Nat.zero_le _⟩ (Nat.le_of_ble_eq_true rfl) dX2_sortOf_45 (fun H locs hP hD hS => ?_)
      refine bq_eq (tgt := 53) hx hb hf dX2_sortOf_48 (by decide) (fun hf => ?_) (fun hf => ?_)
      · refine lv_aload_n hx hb dX2_sortOf_53 rfl (lv_at hl 0 rfl) ?_
        refine lv_bipush (v := 101) hx hb dX2_sortOf_54 (by decide) ?_
        refine lv_bipush (v := 97) hx hb dX2_sortOf_56 (by decide) ?_
        refine lv_bipush (v := 114) hx hb dX2_sortOf_58 (by decide) ?_
        refine lv_bipush (v := 110) hx hb dX2_sortOf_60 (by decide) ?_
        refine lv_bipush (v := 115) hx hb dX2_sortOf_62 (by decide) ?_
        obtain ⟨r11, k12, hf⟩ := bd1s hf
        refine cSl (rest := [.ref h]) X (met_M_w5 (g := g) k12) gs_X2_X2_w5 dy_X2_w5 ⟨⟨rfl, rfl⟩, Nat.le_of_ble_eq_true rfl, Nat.le_of_ble_eq_true rfl⟩ hP hD hS hl.1 rfl rfl ⟨Nat.zero_le _, Nat.zero_le _⟩ (Nat.le_of_ble_eq_true rfl) dX2_sortOf_64 (fun H locs hP hD hS => ?_)
        obtain ⟨r13, k14, hf⟩ := bd1s hf
        refine cVi (rest := []) X (met_M_isWord k14) gw_X2_X2_isWord dy_X2_isWord ⟨⟨rfl, rfl⟩, Nat.le_of_ble_eq_true rfl, Nat.le_of_ble_eq_true rfl⟩ hP hD hS hl.1 rcM rfl rfl ⟨Nat.zero_le _, Nat.zero_le _⟩ (Nat.le_of_ble_eq_true rfl) dX2_sortOf_67 (fun H locs hP hD hS => ?_)
        refine bq_eq (tgt := 75) hx hb hf dX2_sortOf_70 (by decide) (fun hf => ?_) (fun hf => ?_)
        · refine lv_aload_n hx hb dX2_sortOf_75 rfl (lv_at hl 0 rfl) ?_
          refine lv_bipush (v := 108) hx hb dX2_sortOf_76 (by decide) ?_
          refine lv_bipush (v := 97) hx hb dX2_sortOf_78 (by decide) ?_
          refine lv_bipush (v := 110) hx hb dX2_sortOf_80 (by decide) ?_
          refine lv_bipush (v := 100) hx hb dX2_sortOf_82 (by decide) ?_
          obtain ⟨r15, k16, hf⟩ := bd1s hf
          refine cSl (rest := [.ref h]) X (met_M_w4 (g := g) k16) gs_X2_X2_w4 dy_X2_w4 ⟨⟨rfl, rfl⟩, Nat.le_of_ble_eq_true rfl, Nat.le_of_ble_eq_true rfl⟩ hP hD hS hl.1 rfl rfl ⟨Nat.zero_le _, Nat.zero_le _⟩ (Nat.le_of_ble_eq_true rfl) dX2_sortOf_84 (fun H locs hP hD hS => ?_)
          obtain ⟨r17, k18, hf⟩ := bd1s hf
          refine cVi (rest := []) X (met_M_isWord k18) gw_X2_X2_isWord dy_X2_isWord ⟨⟨rfl, rfl⟩, Nat.le_of_ble_eq_true rfl, Nat.le_of_ble_eq_true rfl⟩ hP hD hS hl.1 rcM rfl rfl ⟨Nat.zero_le _, Nat.zero_le _⟩ (Nat.le_of_ble_eq_true rfl) dX2_sortOf_87 (fun H locs hP hD hS => ?_)
          refine bq_eq (tgt := 95) hx hb hf dX2_sortOf_90 (by decide) (fun hf => ?_) (fun hf => ?_)
          · refine lv_aload_n hx hb dX2_sortOf_95 rfl (lv_at hl 0 rfl) ?_
            refine lv_bipush (v := 114) hx hb dX2_sortOf_96 (by decide) ?_
            refine lv_bipush (v := 111) hx hb dX2_sortOf_98 (by decide) ?_
            refine lv_bipush (v := 97) hx hb dX2_sortOf_100 (by decide) ?_
            refine lv_bipush (v := 100) hx hb dX2_sortOf_102 (by decide) ?_
            obtain ⟨r19, k20, hf⟩ := bd1s hf
            refine cSl (rest := [.ref h]) X (met_M_w4 (g := g) k20) gs_X2_X2_w4 dy_X2_w4 ⟨⟨rfl, rfl⟩, Nat.le_of_ble_eq_true rfl, Nat.le_of_ble_eq_true rfl⟩ hP hD hS hl.1 rfl rfl ⟨Nat.zero_le _, Nat.zero_le _⟩ (Nat.le_of_ble_eq_true rfl) dX2_sortOf_104 (fun H locs hP hD hS => ?_)
            obtain ⟨r21, k22, hf⟩ := bd1s hf
            refine cVi (rest := []) X (met_M_isWord k22) gw_X2_X2_isWord dy_X2_isWord ⟨⟨rfl, rfl⟩, Nat.le_of_ble_eq_true rfl, Nat.le_of_ble_eq_true rfl⟩ hP hD hS hl.1 rcM rfl rfl ⟨Nat.zero_le _, Nat.zero_le _⟩ (Nat.le_of_ble_eq_true rfl) dX2_sortOf_107 (fun H locs hP hD hS => ?_)
            refine bq_eq (tgt := 115) hx hb hf dX2_sortOf_110 (by decide) (fun hf => ?_) (fun hf => ?_)
            · refine lv_aload_n hx hb dX2_sortOf_115 rfl (lv_at hl 0 rfl) ?_
              refine lv_bipush (v := 112) hx hb dX2_sortOf_116 (by decide) ?_
              refine lv_bipush (v := 101) hx hb dX2_sortOf_118 (by decide) ?_
              refine lv_bipush (v := 114) hx hb dX2_sortOf_120 (by decide) ?_
              refine lv_bipush (v := 115) hx hb dX2_sortOf_122 (by decide) ?_
              refine lv_bipush (v := 111) hx hb dX2_sortOf_124 (by decide) ?_
              refine lv_bipush (v := 110) hx hb dX2_sortOf_126 (by decide) ?_
              obtain ⟨r23, k24, hf⟩ := bd1s hf
              refine cSl (rest := [.ref h]) X (met_M_w6 (g := g) k24) gs_X2_X2_w6 dy_X2_w6 ⟨⟨rfl, rfl⟩, Nat.le_of_ble_eq_true rfl, Nat.le_of_ble_eq_true rfl⟩ hP hD hS hl.1 rfl rfl ⟨Nat.zero_le _, Nat.zero_le _⟩ (Nat.le_of_ble_eq_true rfl) dX2_sortOf_128 (fun H locs hP hD hS => ?_)
              obtain ⟨r25, k26, hf⟩ := bd1s hf
              refine cVi (rest := []) X (met_M_isWord k26) gw_X2_X2_isWord dy_X2_isWord ⟨⟨rfl, rfl⟩, Nat.le_of_ble_eq_true rfl, Nat.le_of_ble_eq_true rfl⟩ hP hD hS hl.1 rcM rfl rfl ⟨Nat.zero_le _, Nat.zero_le _⟩ (Nat.le_of_ble_eq_true rfl) dX2_sortOf_131 (fun H locs hP hD hS => ?_)
              refine bq_eq (tgt := 140) hx hb hf dX2_sortOf_134 (by decide) (fun hf => ?_) (fun hf => ?_)
              · refine lv_aload_n hx hb dX2_sortOf_140 rfl (lv_at hl 0 rfl) ?_
                refine lv_bipush (v := 99) hx hb dX2_sortOf_141 (by decide) ?_
                refine lv_bipush (v := 97) hx hb dX2_sortOf_143 (by decide) ?_
                refine lv_bipush (v := 108) hx hb dX2_sortOf_145 (by decide) ?_
                refine lv_bipush (v := 108) hx hb dX2_sortOf_147 (by decide) ?_
                obtain ⟨r27, k28, hf⟩ := bd1s hf
                refine cSl (rest := [.ref h]) X (met_M_w4 (g := g) k28) gs_X2_X2_w4 dy_X2_w4 ⟨⟨rfl, rfl⟩, Nat.le_of_ble_eq_true rfl, Nat.le_of_ble_eq_true rfl⟩ hP hD hS hl.1 rfl rfl ⟨Nat.zero_le _, Nat.zero_le _⟩ (Nat.le_of_ble_eq_true rfl) dX2_sortOf_149 (fun H locs hP hD hS => ?_)
                obtain ⟨r29, k30, hf⟩ := bd1s hf
                refine cVi (rest := []) X (met_M_isWord k30) gw_X2_X2_isWord dy_X2_isWord ⟨⟨rfl, rfl⟩, Nat.le_of_ble_eq_true rfl, Nat.le_of_ble_eq_true rfl⟩ hP hD hS hl.1 rcM rfl rfl ⟨Nat.zero_le _, Nat.zero_le _⟩ (Nat.le_of_ble_eq_true rfl) dX2_sortOf_152 (fun H locs hP hD hS => ?_)
                refine bq_eq (tgt := 161) hx hb hf dX2_sortOf_155 (by decide) (fun hf => ?_) (fun hf => ?_)
                · refine lv_aload_n hx hb dX2_sortOf_161 rfl (lv_at hl 0 rfl) ?_
                  refine lv_bipush (v := 109) hx hb dX2_sortOf_162 (by decide) ?_
                  refine lv_bipush (v := 111) hx hb dX2_sortOf_164 (by decide) ?_
                  refine lv_bipush (v := 118) hx hb dX2_sortOf_166 (by decide) ?_
                  refine lv_bipush (v := 101) hx hb dX2_sortOf_168 (by decide) ?_
                  obtain ⟨r31, k32, hf⟩ := bd1s hf
                  refine cSl (rest := [.ref h]) X (met_M_w4 (g := g) k32) gs_X2_X2_w4 dy_X2_w4 ⟨⟨rfl, rfl⟩, Nat.le_of_ble_eq_true rfl, Nat.le_of_ble_eq_true rfl⟩ hP hD hS hl.1 rfl rfl ⟨Nat.zero_le _, Nat.zero_le _⟩ (Nat.le_of_ble_eq_true rfl) dX2_sortOf_170 (fun H locs hP hD hS => ?_)
                  obtain ⟨r33, k34, hf⟩ := bd1s hf
                  refine cVi (rest := []) X (met_M_isWord k34) gw_X2_X2_isWord dy_X2_isWord ⟨⟨rfl, rfl⟩, Nat.le_of_ble_eq_true rfl, Nat.le_of_ble_eq_true rfl⟩ hP hD hS hl.1 rcM rfl rfl ⟨Nat.zero_le _, Nat.zero_le _⟩ (Nat.le_of_ble_eq_true rfl) dX2_sortOf_173 (fun H locs hP hD hS => ?_)
                  refine bq_eq (tgt := 182) hx hb hf dX2_sortOf_176 (by decide) (fun hf => ?_) (fun hf => ?_)
                  · refine lv_aload_n hx hb dX2_sortOf_182 rfl (lv_at hl 0 rfl) ?_
                    refine lv_bipush (v := 102) hx hb dX2_sortOf_183 (by decide) ?_
                    refine lv_bipush (v := 101) hx hb dX2_sortOf_185 (by decide) ?_
                    refine lv_bipush (v := 101) hx hb dX2_sortOf_187 (by decide) ?_
                    refine lv_bipush (v := 100) hx hb dX2_sortOf_189 (by decide) ?_
                    obtain ⟨r35, k36, hf⟩ := bd1s hf
                    refine cSl (rest := [.ref h]) X (met_M_w4 (g := g) k36) gs_X2_X2_w4 dy_X2_w4 ⟨⟨rfl, rfl⟩, Nat.le_of_ble_eq_true rfl, Nat.le_of_ble_eq_true rfl⟩ hP hD hS hl.1 rfl rfl ⟨Nat.zero_le _, Nat.zero_le _⟩ (Nat.le_of_ble_eq_true rfl) dX2_sortOf_191 (fun H locs hP hD hS => ?_)
                    obtain ⟨r37, k38, hf⟩ := bd1s hf
                    refine cVi (rest := []) X (met_M_isWord k38) gw_X2_X2_isWord dy_X2_isWord ⟨⟨rfl, rfl⟩, Nat.le_of_ble_eq_true rfl, Nat.le_of_ble_eq_true rfl⟩ hP hD hS hl.1 rcM rfl rfl ⟨Nat.zero_le _, Nat.zero_le _⟩ (Nat.le_of_ble_eq_true rfl) dX2_sortOf_194 (fun H locs hP hD hS => ?_)
                    refine bq_eq (tgt := 203) hx hb hf dX2_sortOf_197 (by decide) (fun hf => ?_) (fun hf => ?_)
                    · refine lv_aload_n hx hb dX2_sortOf_203 rfl (lv_at hl 0 rfl) ?_
                      refine lv_bipush (v := 107) hx hb dX2_sortOf_204 (by decide) ?_
                      refine lv_bipush (v := 105) hx hb dX2_sortOf_206 (by decide) ?_
                      refine lv_bipush (v := 108) hx hb dX2_sortOf_208 (by decide) ?_
                      refine lv_bipush (v := 108) hx hb dX2_sortOf_210 (by decide) ?_
                      obtain ⟨r39, k40, hf⟩ := bd1s hf
                      refine cSl (rest := [.ref h]) X (met_M_w4 (g := g) k40) gs_X2_X2_w4 dy_X2_w4 ⟨⟨rfl, rfl⟩, Nat.le_of_ble_eq_true rfl, Nat.le_of_ble_eq_true rfl⟩ hP hD hS hl.1 rfl rfl ⟨Nat.zero_le _, Nat.zero_le _⟩ (Nat.le_of_ble_eq_true rfl) dX2_sortOf_212 (fun H locs hP hD hS => ?_)
                      obtain ⟨r41, k42, hf⟩ := bd1s hf
                      refine cVi (rest := []) X (met_M_isWord k42) gw_X2_X2_isWord dy_X2_isWord ⟨⟨rfl, rfl⟩, Nat.le_of_ble_eq_true rfl, Nat.le_of_ble_eq_true rfl⟩ hP hD hS hl.1 rcM rfl rfl ⟨Nat.zero_le _, Nat.zero_le _⟩ (Nat.le_of_ble_eq_true rfl) dX2_sortOf_215 (fun H locs hP hD hS => ?_)
                      refine bq_eq (tgt := 224) hx hb hf dX2_sortOf_218 (by decide) (fun hf => ?_) (fun hf => ?_)
                      · refine lv_aload_n hx hb dX2_sortOf_224 rfl (lv_at hl 0 rfl) ?_
                        refine lv_bipush (v := 112) hx hb dX2_sortOf_225 (by decide) ?_
                        refine lv_bipush (v := 97) hx hb dX2_sortOf_227 (by decide) ?_
                        refine lv_bipush (v := 114) hx hb dX2_sortOf_229 (by decide) ?_
                        refine lv_bipush (v := 100) hx hb dX2_sortOf_231 (by decide) ?_
                        refine lv_bipush (v := 111) hx hb dX2_sortOf_233 (by decide) ?_
                        refine lv_bipush (v := 110) hx hb dX2_sortOf_235 (by decide) ?_
                        obtain ⟨r43, k44, hf⟩ := bd1s hf
                        refine cSl (rest := [.ref h]) X (met_M_w6 (g := g) k44) gs_X2_X2_w6 dy_X2_w6 ⟨⟨rfl, rfl⟩, Nat.le_of_ble_eq_true rfl, Nat.le_of_ble_eq_true rfl⟩ hP hD hS hl.1 rfl rfl ⟨Nat.zero_le _, Nat.zero_le _⟩ (Nat.le_of_ble_eq_true rfl) dX2_sortOf_237 (fun H locs hP hD hS => ?_)
                        obtain ⟨r45, k46, hf⟩ := bd1s hf
                        refine cVi (rest := []) X (met_M_isWord k46) gw_X2_X2_isWord dy_X2_isWord ⟨⟨rfl, rfl⟩, Nat.le_of_ble_eq_true rfl, Nat.le_of_ble_eq_true rfl⟩ hP hD hS hl.1 rcM rfl rfl ⟨Nat.zero_le _, Nat.zero_le _⟩ (Nat.le_of_ble_eq_true rfl) dX2_sortOf_240 (fun H locs hP hD hS => ?_)
                        refine bq_eq (tgt := 251) hx hb hf dX2_sortOf_243 (by decide) (fun hf => ?_) (fun hf => ?_)
                        · refine lv_aload_n hx hb dX2_sortOf_251 rfl (lv_at hl 0 rfl) ?_
                          refine lv_bipush (v := 109) hx hb dX2_sortOf_252 (by decide) ?_
                          refine lv_bipush (v := 111) hx hb dX2_sortOf_254 (by decide) ?_
                          refine lv_bipush (v := 110) hx hb dX2_sortOf_256 (by decide) ?_
                          refine lv_bipush (v := 116) hx hb dX2_sortOf_258 (by decide) ?_
                          refine lv_bipush (v := 104) hx hb dX2_sortOf_260 (by decide) ?_
                          obtain ⟨r47, k48, hf⟩ := bd1s hf
                          refine cSl (rest := [.ref h]) X (met_M_w5 (g := g) k48) gs_X2_X2_w5 dy_X2_w5 ⟨⟨rfl, rfl⟩, Nat.le_of_ble_eq_true rfl, Nat.le_of_ble_eq_true rfl⟩ hP hD hS hl.1 rfl rfl ⟨Nat.zero_le _, Nat.zero_le _⟩ (Nat.le_of_ble_eq_true rfl) dX2_sortOf_262 (fun H locs hP hD hS => ?_)
                          obtain ⟨r49, k50, hf⟩ := bd1s hf
                          refine cVi (rest := []) X (met_M_isWord k50) gw_X2_X2_isWord dy_X2_isWord ⟨⟨rfl, rfl⟩, Nat.le_of_ble_eq_true rfl, Nat.le_of_ble_eq_true rfl⟩ hP hD hS hl.1 rcM rfl rfl ⟨Nat.zero_le _, Nat.zero_le _⟩ (Nat.le_of_ble_eq_true rfl) dX2_sortOf_265 (fun H locs hP hD hS => ?_)
                          refine bq_eq (tgt := 276) hx hb hf dX2_sortOf_268 (by decide) (fun hf => ?_) (fun hf => ?_)
                          · refine lv_iconst (v := (-1)) hx hb dX2_sortOf_276 (by decide) ?_
                            cases hf
                            exact rI X hP hD hS dX2_sortOf_277
                          · refine lv_bipush (v := 12) hx hb dX2_sortOf_271 (by decide) ?_
                            refine lv_goto (tgt := 277) hx hb dX2_sortOf_273 (by decide) ?_
                            cases hf
                            exact rI X hP hD hS dX2_sortOf_277
                        · refine lv_bipush (v := 11) hx hb dX2_sortOf_246 (by decide) ?_
                          refine lv_goto (tgt := 277) hx hb dX2_sortOf_248 (by decide) ?_
                          cases hf
                          exact rI X hP hD hS dX2_sortOf_277
                      · refine lv_bipush (v := 10) hx hb dX2_sortOf_221 (by decide) ?_
                        cases hf
                        exact rI X hP hD hS dX2_sortOf_223
                    · refine lv_bipush (v := 9) hx hb dX2_sortOf_200 (by decide) ?_
                      cases hf
                      exact rI X hP hD hS dX2_sortOf_202
                  · refine lv_bipush (v := 8) hx hb dX2_sortOf_179 (by decide) ?_
                    cases hf
                    exact rI X hP hD hS dX2_sortOf_181
                · refine lv_bipush (v := 7) hx hb dX2_sortOf_158 (by decide) ?_
                  cases hf
                  exact rI X hP hD hS dX2_sortOf_160
              · refine lv_bipush (v := 6) hx hb dX2_sortOf_137 (by decide) ?_
                cases hf
                exact rI X hP hD hS dX2_sortOf_139
            · refine lv_iconst (v := 5) hx hb dX2_sortOf_113 (by decide) ?_
              cases hf
              exact rI X hP hD hS dX2_sortOf_114
          · refine lv_iconst (v := 4) hx hb dX2_sortOf_93 (by decide) ?_
            cases hf
            exact rI X hP hD hS dX2_sortOf_94
        · refine lv_iconst (v := 3) hx hb dX2_sortOf_73 (by decide) ?_
          cases hf
          exact rI X hP hD hS dX2_sortOf_74
      · refine lv_iconst (v := 2) hx hb dX2_sortOf_51 (by decide) ?_
        cases hf
        exact rI X hP hD hS dX2_sortOf_52
    · refine lv_iconst (v := 1) hx hb dX2_sortOf_29 (by decide) ?_
      cases hf
      exact rI X hP hD hS dX2_sortOf_30
  · refine lv_iconst (v := 0) hx hb dX2_sortOf_7 (by decide) ?_
    cases hf
    exact rI X hP hD hS dX2_sortOf_8
theorem gw_X2_X2_beginOne : GoodIn lw_all (wsV RX2 218 RX2 yX2_beginOne (ws_ yX2_beginOne cX2_beginOne 2 (some .int))) := lw_V q1662 q1664 qs92 q148 q1665
theorem dy_X2_beginOne : Dy yX2_beginOne RX2 0 := by decide +kernel
theorem gw_X2_X2_behindOne : GoodIn lw_all (wsV RX2 215 RX2 yX2_behindOne (ws_ yX2_behindOne cX2_behindOne 4 (some .boolean))) := lw_V q1623 q1625 qs83 q148 q1626
theorem dy_X2_behindOne : Dy yX2_behindOne RX2 0 := by decide +kernel
set_option maxHeartbeats 4000000 in
theorem met_M_summed {l : Launch} {g : gG} {h : Nat} {ad : Nat → Nat} {sTaped : Int32} {sFault : Int32} {sFaultP : Int32} {sAt : Int32} {sPlace : Int32} {sToken : Int32} {sNumber : Int32} {sWord : Int64} {sText0 : Int32} {sWritten : Int32} {sSort0 : Int32} {sPiled : Int32} {sOpens : Int32} {sWhole : Int32} {sOnce : Int32} {sIsW : Int32} {sDied : Int32} {cA : Nat → Int32} {cIm : Nat → Int32} {cTx : Nat → Int32} {cTp : Nat → Int32} {cPl : Nat → Int32} {cNm : Nat → Int32} {cVa : Nat → Int64} {cTr : Nat → Int32} {cAs : Nat → Int32} {cLi : Nat → Int32} {cSa : Nat → Int32} {cHd : Nat → Int32} {r : Int32} {nsAt : Int32} {nsPlace : Int32} {nsToken : Int32} {nsNumber : Int32} {nsWord : Int64} {nsWritten : Int32} {nsPiled : Int32} {nsOpens : Int32} {nsWhole : Int32} {ncTx : Nat → Int32} {ncPl : Nat → Int32} {φ : Nat} (hf : M_summed φ sTaped sAt sPlace sToken sNumber sWord sText0 sWritten sSort0 sPiled sOpens sWhole cTx cTp cPl = some (r, nsAt, nsPlace, nsToken, nsNumber, nsWord, nsWritten, nsPiled, nsOpens, nsWhole, ncTx, ncPl)) : CC l yX2_summed (ws_ yX2_summed cX2_summed 2 (some .int)) ({ frames := 7, cells := 0, slots := 0, locals := 156 } : Room) g [.ref h] (mW g h ad sTaped sFault sFaultP sAt sPlace sToken sNumber sWord sText0 sWritten sSort0 sPiled sOpens sWhole sOnce sIsW sDied cA cIm cTx cTp cPl cNm cVa cTr cAs cLi cSa cHd) (some (.int r)) (mW g h ad sTaped sFault sFaultP nsAt nsPlace nsToken nsNumber nsWord sText0 nsWritten sSort0 nsPiled nsOpens nsWhole sOnce sIsW sDied cA cIm ncTx cTp ncPl cNm cVa cTr cAs cLi cSa cHd) 0 0 := by
  refine CC.of RX2 rfl plain_X2 (Nat.le_of_ble_eq_true rfl) (fun p e s m below meth c A ls X hP hD hS hl => ?_)
  have hx := X.1
  have hb := X.2.1
  have hown := X.2.2.2.2.2.1
  have hts := X.2.2.2.2.2.2.1
  have hl : lv_has ls 2 [(0, .ref h)] := hl
  unfold M_summed at hf
  refine lv_aload_n hx hb dX2_summed_0 rfl (lv_at hl 0 rfl) ?_
  refine lv_iconst (v := 0) hx hb dX2_summed_1 (by decide) ?_
  refine pM16 X hP hD hS dX2_summed_2 (fun H locs hP hD hS => ?_)
  refine lv_aload_n hx hb dX2_summed_5 rfl (lv_at hl 0 rfl) ?_
  refine lv_iconst (v := 0) hx hb dX2_summed_6 (by decide) ?_
  refine pM17 X hP hD hS dX2_summed_7 (fun H locs hP hD hS => ?_)
  refine lv_aload_n hx hb dX2_summed_10 rfl (lv_at hl 0 rfl) ?_
  refine lv_iconst (v := 0) hx hb dX2_summed_11 (by decide) ?_
  refine pM18 X hP hD hS rfl rfl dX2_summed_12 (fun H locs hP hD hS => ?_)
  have hL14 : ∀ (n12 : Nat) (c1 : Int32) (c2 : Int32) (c3 : Int32) (c4 : Int32) (c5 : Int64) (c6 : Int32) (c7 : Int32) (c8 : Int32) (c9 : Int32) (c10 : Nat → Int32) (c11 : Nat → Int32), M_summed_L15 φ sTaped sText0 sSort0 cTp n12 c1 c2 c3 c4 c5 c6 c7 c8 c9 c10 c11 = some (r, nsAt, nsPlace, nsToken, nsNumber, nsWord, nsWritten, nsPiled, nsOpens, nsWhole, ncTx, ncPl) → ∀ (H : Heap) (locs : List Loc) (ls : Array Slot), va_P g.1 vwCl (mW g h ad sTaped sFault sFaultP c1 c2 c3 c4 c5 sText0 c6 sSort0 c7 c8 c9 sOnce sIsW sDied cA cIm c10 cTp c11 cNm cVa cTr cAs cLi cSa cHd) H → va_D A (mW g h ad sTaped sFault sFaultP c1 c2 c3 c4 c5 sText0 c6 sSort0 c7 c8 c9 sOnce sIsW sDied cA cIm c10 cTp c11 cNm cVa cTr cAs cLi cSa cHd) → va_S A s.heap H locs → lv_has ls 2 [(0, .ref h)] → W p l e ({ frames := 7, cells := 0, slots := 0, locals := 156 } : Room) s m ([.ref h] : List Value).toArray below meth c H locs 0 0 (MQ below (QQ g (some (.int r)) (mW g h ad sTaped sFault sFaultP nsAt nsPlace nsToken nsNumber nsWord sText0 nsWritten sSort0 nsPiled nsOpens nsWhole sOnce sIsW sDied cA cIm ncTx cTp ncPl cNm cVa cTr cAs cLi cSa cHd) A) ([.ref h] : List Value).toArray s 0 0 A) (F0 m 15 ls []) := by
    intro n12
    induction n12 with
    | zero =>
      intro c1 c2 c3 c4 c5 c6 c7 c8 c9 c10 c11 hf
      exact nn hf
    | succ n12 ih15 =>
      intro c1 c2 c3 c4 c5 c6 c7 c8 c9 c10 c11 hf H locs ls hP hD hS hl
      rw [M_summed_L15] at hf
      refine lv_aload_n hx hb dX2_summed_15 rfl (lv_at hl 0 rfl) ?_
      refine gM18 X hP dX2_summed_16 ?_
      refine bq_eq (tgt := 48) hx hb hf dX2_summed_19 (by decide) (fun hf => ?_) (fun hf => ?_)
      · refine lv_aload_n hx hb dX2_summed_48 rfl (lv_at hl 0 rfl) ?_
        obtain ⟨r17, c18, c19, c20, c21, c22, c23, c24, c25, c26, c27, c28, k29, hf⟩ := bd12s hf
        refine cVi (rest := []) X (met_M_beginOne k29) gw_X2_X2_beginOne dy_X2_beginOne ⟨⟨rfl, rfl⟩, Nat.le_of_ble_eq_true rfl, Nat.le_of_ble_eq_true rfl⟩ hP hD hS hl.1 rcM rfl rfl ⟨Nat.zero_le _, Nat.zero_le _⟩ (Nat.le_of_ble_eq_true rfl) dX2_summed_49 (fun H locs hP hD hS => ?_)
        refine lv_istore_n (lv' := [(1, .int r17), (0, .ref h)]) hx hb dX2_summed_52 rfl hl (by decide) rfl (fun ls hl => ?_)
        refine lv_iload_n hx hb dX2_summed_53 rfl (lv_at hl 0 rfl) ?_
        refine bq_eq (tgt := 59) hx hb hf dX2_summed_54 (by decide) (fun hf => ?_) (fun hf => ?_)
        · refine lv_goto (tgt := 15) hx hb dX2_summed_59 (by decide) ?_
          exact ih15 _ _ _ _ _ _ _ _ _ _ _ hf _ _ _ hP hD hS (lv_sub hl [1] rfl)
        · refine lv_iload_n hx hb dX2_summed_57 rfl (lv_at hl 0 rfl) ?_
          cases hf
          exact rI X hP hD hS dX2_summed_58
      · refine lv_aload_n hx hb dX2_summed_22 rfl (lv_at hl 0 rfl) ?_
        obtain ⟨r30, c31, c32, c33, c34, c35, c36, c37, c38, c39, c40, c41, k42, hf⟩ := bd12s hf
        refine cVi (rest := []) X (met_M_behindOne k42) gw_X2_X2_behindOne dy_X2_behindOne ⟨⟨rfl, rfl⟩, Nat.le_of_ble_eq_true rfl, Nat.le_of_ble_eq_true rfl⟩ hP hD hS hl.1 rcM rfl rfl ⟨Nat.zero_le _, Nat.zero_le _⟩ (Nat.le_of_ble_eq_true rfl) dX2_summed_23 (fun H locs hP hD hS => ?_)
        refine bq_eq (tgt := 32) hx hb hf dX2_summed_26 (by decide) (fun hf => ?_) (fun hf => ?_)
        · refine lv_aload_n hx hb dX2_summed_32 rfl (lv_at hl 0 rfl) ?_
          obtain ⟨r43, k44, hf⟩ := bd1s hf
          refine cVi (rest := []) X (met_M_openNow k44) gw_X2_X2_openNow dy_X2_openNow ⟨⟨rfl, rfl⟩, Nat.le_of_ble_eq_true rfl, Nat.le_of_ble_eq_true rfl⟩ hP hD hS hl.1 rcM rfl rfl ⟨Nat.zero_le _, Nat.zero_le _⟩ (Nat.le_of_ble_eq_true rfl) dX2_summed_33 (fun H locs hP hD hS => ?_)
          refine bq_lt (tgt := 41) hx hb hf dX2_summed_36 (by decide) (fun hf => ?_) (fun hf => ?_)
          · refine lv_aload_n hx hb dX2_summed_41 rfl (lv_at hl 0 rfl) ?_
            refine lv_iconst (v := 1) hx hb dX2_summed_42 (by decide) ?_
            obtain ⟨c45, c46, c47, c48, k49, hf⟩ := bd4s hf
            refine cVv (rest := []) X (met_M_settle k49) gw_X2_X2_settle dy_X2_settle ⟨⟨rfl, rfl⟩, Nat.le_of_ble_eq_true rfl, Nat.le_of_ble_eq_true rfl⟩ hP hD hS hl.1 rcM rfl rfl ⟨Nat.zero_le _, Nat.zero_le _⟩ (Nat.le_of_ble_eq_true rfl) dX2_summed_43 (fun H locs hP hD hS => ?_)
            refine lv_iconst (v := 0) hx hb dX2_summed_46 (by decide) ?_
            cases hf
            exact rI X hP hD hS dX2_summed_47
          · refine lv_iconst (v := 1) hx hb dX2_summed_39 (by decide) ?_
            cases hf
            exact rI X hP hD hS dX2_summed_40
        · refine lv_goto (tgt := 15) hx hb dX2_summed_29 (by decide) ?_
          exact ih15 _ _ _ _ _ _ _ _ _ _ _ hf _ _ _ hP hD hS (lv_sub hl [0] rfl)
  exact hL14 _ _ _ _ _ _ _ _ _ _ _ _ hf _ _ _ hP hD hS (lv_sub hl [0] rfl)
set_option maxHeartbeats 4000000 in
theorem met_M_findsIn {l : Launch} {g : gG} {h : Nat} {ad : Nat → Nat} {sTaped : Int32} {sFault : Int32} {sFaultP : Int32} {sAt : Int32} {sPlace : Int32} {sToken : Int32} {sNumber : Int32} {sWord : Int64} {sText0 : Int32} {sWritten : Int32} {sSort0 : Int32} {sPiled : Int32} {sOpens : Int32} {sWhole : Int32} {sOnce : Int32} {sIsW : Int32} {sDied : Int32} {cA : Nat → Int32} {cIm : Nat → Int32} {cTx : Nat → Int32} {cTp : Nat → Int32} {cPl : Nat → Int32} {cNm : Nat → Int32} {cVa : Nat → Int64} {cTr : Nat → Int32} {cAs : Nat → Int32} {cLi : Nat → Int32} {cSa : Nat → Int32} {cHd : Nat → Int32} {x1 : Int32} {x2 : Int32} {r : Int32} {ncNm : Nat → Int32} {ncVa : Nat → Int64} {ncTr : Nat → Int32} {φ : Nat} (hf : M_findsIn φ cA cTx cNm cVa cTr x1 x2 = some (r, ncNm, ncVa, ncTr)) : CC l yX2_findsIn (ws_ yX2_findsIn cX2_findsIn 3 (some .int)) ({ frames := 5, cells := 0, slots := 0, locals := 121 } : Room) g [.ref h, .int x1, .int x2] (mW g h ad sTaped sFault sFaultP sAt sPlace sToken sNumber sWord sText0 sWritten sSort0 sPiled sOpens sWhole sOnce sIsW sDied cA cIm cTx cTp cPl cNm cVa cTr cAs cLi cSa cHd) (some (.int r)) (mW g h ad sTaped sFault sFaultP sAt sPlace sToken sNumber sWord sText0 sWritten sSort0 sPiled sOpens sWhole sOnce sIsW sDied cA cIm cTx cTp cPl ncNm ncVa ncTr cAs cLi cSa cHd) 0 0 := by
  refine CC.of RX2 rfl plain_X2 (Nat.le_of_ble_eq_true rfl) (fun p e s m below meth c A ls X hP hD hS hl => ?_)
  have hx := X.1
  have hb := X.2.1
  have hown := X.2.2.2.2.2.1
  have hts := X.2.2.2.2.2.2.1
  have hl : lv_has ls 3 [(0, .ref h), (1, .int x1), (2, .int x2)] := hl
  unfold M_findsIn at hf
  refine lv_aload_n hx hb dX2_findsIn_0 rfl (lv_at hl 0 rfl) ?_
  refine lv_iload_n hx hb dX2_findsIn_1 rfl (lv_at hl 1 rfl) ?_
  refine lv_iload_n hx hb dX2_findsIn_2 rfl (lv_at hl 2 rfl) ?_
  obtain ⟨c1, k2, hf⟩ := bd1s hf
  refine cVv (rest := []) X (met_M_nameIn k2) gw_X2_X2_nameIn dy_X2_nameIn ⟨⟨rfl, rfl⟩, Nat.le_of_ble_eq_true rfl, Nat.le_of_ble_eq_true rfl⟩ hP hD hS hl.1 rcM rfl rfl ⟨Nat.zero_le _, Nat.zero_le _⟩ (Nat.le_of_ble_eq_true rfl) dX2_findsIn_3 (fun H locs hP hD hS => ?_)
  refine lv_aload_n hx hb dX2_findsIn_6 rfl (lv_at hl 0 rfl) ?_
  refine lv_aload_n hx hb dX2_findsIn_7 rfl (lv_at hl 0 rfl) ?_
  refine gM0 X hP dX2_findsIn_8 ?_
  refine lv_iconst (v := 3) hx hb dX2_findsIn_11 (by decide) ?_
  obtain ⟨v3, ev3, bv3, hf⟩ := rds hf
  refine lM_cA X hP ev3 bv3 dX2_findsIn_12 ?_
  refine lv_iconst (v := 1) hx hb dX2_findsIn_13 (by decide) ?_
  refine lv_iconst (v := 5) hx hb dX2_findsIn_14 (by decide) ?_
  refine lv_aload_n hx hb dX2_findsIn_15 rfl (lv_at hl 0 rfl) ?_
  refine gM0 X hP dX2_findsIn_16 ?_
  refine lv_bipush (v := 80) hx hb dX2_findsIn_19 (by decide) ?_
  refine lv_iload_n hx hb dX2_findsIn_21 rfl (lv_at hl 2 rfl) ?_
  refine lv_iadd hx hb dX2_findsIn_22 ?_
  obtain ⟨v4, ev4, bv4, hf⟩ := rds hf
  refine lM_cA X hP ev4 bv4 dX2_findsIn_23 ?_
  refine lv_iconst (v := 2) hx hb dX2_findsIn_24 (by decide) ?_
  refine lv_idiv hx hb dX2_findsIn_25 (by decide) ?_
  refine lv_isub hx hb dX2_findsIn_26 ?_
  refine lv_bipush (v := 10) hx hb dX2_findsIn_27 (by decide) ?_
  obtain ⟨r5, c6, c7, k8, hf⟩ := bd3s hf
  refine cVi (rest := []) X (met_M_says k8) gw_X2_X2_says dy_X2_says ⟨⟨rfl, rfl⟩, Nat.le_of_ble_eq_true rfl, Nat.le_of_ble_eq_true rfl⟩ hP hD hS hl.1 rcM rfl rfl ⟨Nat.zero_le _, Nat.zero_le _⟩ (Nat.le_of_ble_eq_true rfl) dX2_findsIn_29 (fun H locs hP hD hS => ?_)
  cases hf
  exact rI X hP hD hS dX2_findsIn_32
set_option maxHeartbeats 4000000 in
theorem met_M_canPardon {l : Launch} {g : gG} {h : Nat} {ad : Nat → Nat} {sTaped : Int32} {sFault : Int32} {sFaultP : Int32} {sAt : Int32} {sPlace : Int32} {sToken : Int32} {sNumber : Int32} {sWord : Int64} {sText0 : Int32} {sWritten : Int32} {sSort0 : Int32} {sPiled : Int32} {sOpens : Int32} {sWhole : Int32} {sOnce : Int32} {sIsW : Int32} {sDied : Int32} {cA : Nat → Int32} {cIm : Nat → Int32} {cTx : Nat → Int32} {cTp : Nat → Int32} {cPl : Nat → Int32} {cNm : Nat → Int32} {cVa : Nat → Int64} {cTr : Nat → Int32} {cAs : Nat → Int32} {cLi : Nat → Int32} {cSa : Nat → Int32} {cHd : Nat → Int32} {x1 : Int32} {x2 : Int32} {r : Int32} {ncNm : Nat → Int32} {ncVa : Nat → Int64} {ncTr : Nat → Int32} {φ : Nat} (hf : M_canPardon φ cA cTx cNm cVa cTr x1 x2 = some (r, ncNm, ncVa, ncTr)) : CC l yX2_canPardon (ws_ yX2_canPardon cX2_canPardon 3 (some .boolean)) ({ frames := 6, cells := 0, slots := 0, locals := 143 } : Room) g [.ref h, .int x1, .int x2] (mW g h ad sTaped sFault sFaultP sAt sPlace sToken sNumber sWord sText0 sWritten sSort0 sPiled sOpens sWhole sOnce sIsW sDied cA cIm cTx cTp cPl cNm cVa cTr cAs cLi cSa cHd) (some (.int r)) (mW g h ad sTaped sFault sFaultP sAt sPlace sToken sNumber sWord sText0 sWritten sSort0 sPiled sOpens sWhole sOnce sIsW sDied cA cIm cTx cTp cPl ncNm ncVa ncTr cAs cLi cSa cHd) 0 0 := by
  refine CC.of RX2 rfl plain_X2 (Nat.le_of_ble_eq_true rfl) (fun p e s m below meth c A ls X hP hD hS hl => ?_)
  have hx := X.1
  have hb := X.2.1
  have hown := X.2.2.2.2.2.1
  have hts := X.2.2.2.2.2.2.1
  have hl : lv_has ls 3 [(0, .ref h), (1, .int x1), (2, .int x2)] := hl
  unfold M_canPardon at hf
  refine lv_aload_n hx hb dX2_canPardon_0 rfl (lv_at hl 0 rfl) ?_
  refine lv_iload_n hx hb dX2_canPardon_1 rfl (lv_at hl 1 rfl) ?_
  obtain ⟨r1, k2, hf⟩ := bd1s hf
  refine cVi (rest := []) X (met_M_isOutlaw k2) gw_X2_X2_isOutlaw dy_X2_isOutlaw ⟨⟨rfl, rfl⟩, Nat.le_of_ble_eq_true rfl, Nat.le_of_ble_eq_true rfl⟩ hP hD hS hl.1 rcM rfl rfl ⟨Nat.zero_le _, Nat.zero_le _⟩ (Nat.le_of_ble_eq_true rfl) dX2_canPardon_2 (fun H locs hP hD hS => ?_)
  refine bq_eq (tgt := 40) hx hb hf dX2_canPardon_5 (by decide) (fun hf => ?_) (fun hf => ?_)
  · refine lv_iconst (v := 0) hx hb dX2_canPardon_40 (by decide) ?_
    cases hf
    exact rZ X rfl hP hD hS dX2_canPardon_41
  · refine lv_aload_n hx hb dX2_canPardon_8 rfl (lv_at hl 0 rfl) ?_
    refine lv_iload_n hx hb dX2_canPardon_9 rfl (lv_at hl 2 rfl) ?_
    obtain ⟨r3, k4, hf⟩ := bd1s hf
    refine cVi (rest := []) X (met_M_isAlive k4) gw_X2_X2_isAlive dy_X2_isAlive ⟨⟨rfl, rfl⟩, Nat.le_of_ble_eq_true rfl, Nat.le_of_ble_eq_true rfl⟩ hP hD hS hl.1 rcM rfl rfl ⟨Nat.zero_le _, Nat.zero_le _⟩ (Nat.le_of_ble_eq_true rfl) dX2_canPardon_10 (fun H locs hP hD hS => ?_)
    refine bq_eq (tgt := 40) hx hb hf dX2_canPardon_13 (by decide) (fun hf => ?_) (fun hf => ?_)
    · refine lv_iconst (v := 0) hx hb dX2_canPardon_40 (by decide) ?_
      cases hf
      exact rZ X rfl hP hD hS dX2_canPardon_41
    · refine lv_aload_n hx hb dX2_canPardon_16 rfl (lv_at hl 0 rfl) ?_
      refine lv_iload_n hx hb dX2_canPardon_17 rfl (lv_at hl 2 rfl) ?_
      refine lv_iconst (v := 1) hx hb dX2_canPardon_18 (by decide) ?_
      obtain ⟨r5, k6, hf⟩ := bd1s hf
      refine cVi (rest := []) X (met_M_get k6) gw_X2_X2_get dy_X2_get ⟨⟨rfl, rfl⟩, Nat.le_of_ble_eq_true rfl, Nat.le_of_ble_eq_true rfl⟩ hP hD hS hl.1 rcM rfl rfl ⟨Nat.zero_le _, Nat.zero_le _⟩ (Nat.le_of_ble_eq_true rfl) dX2_canPardon_19 (fun H locs hP hD hS => ?_)
      refine lv_aload_n hx hb dX2_canPardon_22 rfl (lv_at hl 0 rfl) ?_
      refine lv_aload_n hx hb dX2_canPardon_23 rfl (lv_at hl 0 rfl) ?_
      refine gM0 X hP dX2_canPardon_24 ?_
      refine lv_iconst (v := 3) hx hb dX2_canPardon_27 (by decide) ?_
      obtain ⟨v7, ev7, bv7, hf⟩ := rds hf
      refine lM_cA X hP ev7 bv7 dX2_canPardon_28 ?_
      refine lv_iload_n hx hb dX2_canPardon_29 rfl (lv_at hl 1 rfl) ?_
      obtain ⟨r8, c9, c10, c11, k12, hf⟩ := bd4s hf
      refine cVi (rest := [.int r5]) X (met_M_priceOf k12) gw_X2_X2_priceOf dy_X2_priceOf ⟨⟨rfl, rfl⟩, Nat.le_of_ble_eq_true rfl, Nat.le_of_ble_eq_true rfl⟩ hP hD hS hl.1 rcM rfl rfl ⟨Nat.zero_le _, Nat.zero_le _⟩ (Nat.le_of_ble_eq_true rfl) dX2_canPardon_30 (fun H locs hP hD hS => ?_)
      refine bc_lt (tgt := 40) hx hb hf dX2_canPardon_33 (by decide) (fun hf => ?_) (fun hf => ?_)
      · refine lv_iconst (v := 0) hx hb dX2_canPardon_40 (by decide) ?_
        cases hf
        exact rZ X rfl hP hD hS dX2_canPardon_41
      · refine lv_iconst (v := 1) hx hb dX2_canPardon_36 (by decide) ?_
        refine lv_goto (tgt := 41) hx hb dX2_canPardon_37 (by decide) ?_
        cases hf
        exact rZ X rfl hP hD hS dX2_canPardon_41
theorem gw_X2_X2_nextFrom : GoodIn lw_all (wsV RX2 439 RX2 yX2_nextFrom (ws_ yX2_nextFrom cX2_nextFrom 5 (some .int))) := lw_V q1958 q1960 qs136 q148 q1961
theorem dy_X2_nextFrom : Dy yX2_nextFrom RX2 2 := by decide +kernel
theorem gw_X2_X2_findsIn : GoodIn lw_all (wsV RX2 307 RX2 yX2_findsIn (ws_ yX2_findsIn cX2_findsIn 3 (some .int))) := lw_V q1750 q1752 qs108 q148 q1753
theorem dy_X2_findsIn : Dy yX2_findsIn RX2 2 := by decide +kernel
set_option maxHeartbeats 4000000 in
theorem met_M_layLikely {l : Launch} {g : gG} {h : Nat} {ad : Nat → Nat} {sTaped : Int32} {sFault : Int32} {sFaultP : Int32} {sAt : Int32} {sPlace : Int32} {sToken : Int32} {sNumber : Int32} {sWord : Int64} {sText0 : Int32} {sWritten : Int32} {sSort0 : Int32} {sPiled : Int32} {sOpens : Int32} {sWhole : Int32} {sOnce : Int32} {sIsW : Int32} {sDied : Int32} {cA : Nat → Int32} {cIm : Nat → Int32} {cTx : Nat → Int32} {cTp : Nat → Int32} {cPl : Nat → Int32} {cNm : Nat → Int32} {cVa : Nat → Int64} {cTr : Nat → Int32} {cAs : Nat → Int32} {cLi : Nat → Int32} {cSa : Nat → Int32} {cHd : Nat → Int32} {x1 : Int32} {x2 : Int32} {ncNm : Nat → Int32} {ncVa : Nat → Int64} {ncTr : Nat → Int32} {ncLi : Nat → Int32} {ncSa : Nat → Int32} {φ : Nat} (hf : M_layLikely φ cA cTx cNm cVa cTr cLi cSa x1 x2 = some (ncNm, ncVa, ncTr, ncLi, ncSa)) : CC l yX2_layLikely (ws_ yX2_layLikely cX2_layLikely 6 none) ({ frames := 6, cells := 0, slots := 0, locals := 143 } : Room) g [.ref h, .int x1, .int x2] (mW g h ad sTaped sFault sFaultP sAt sPlace sToken sNumber sWord sText0 sWritten sSort0 sPiled sOpens sWhole sOnce sIsW sDied cA cIm cTx cTp cPl cNm cVa cTr cAs cLi cSa cHd) none (mW g h ad sTaped sFault sFaultP sAt sPlace sToken sNumber sWord sText0 sWritten sSort0 sPiled sOpens sWhole sOnce sIsW sDied cA cIm cTx cTp cPl ncNm ncVa ncTr cAs ncLi ncSa cHd) 0 0 := by
  refine CC.of RX2 rfl plain_X2 (Nat.le_of_ble_eq_true rfl) (fun p e s m below meth c A ls X hP hD hS hl => ?_)
  have hx := X.1
  have hb := X.2.1
  have hown := X.2.2.2.2.2.1
  have hts := X.2.2.2.2.2.2.1
  have hl : lv_has ls 6 [(0, .ref h), (1, .int x1), (2, .int x2)] := hl
  unfold M_layLikely at hf
  refine lv_iconst (v := 0) hx hb dX2_layLikely_0 (by decide) ?_
  refine lv_istore_n (lv' := [(3, .int 0), (0, .ref h), (1, .int x1), (2, .int x2)]) hx hb dX2_layLikely_1 rfl hl (by decide) rfl (fun ls hl => ?_)
  obtain ⟨c7, c8, c9, c10, c11, k16, hf⟩ := bd5s hf
  have hE13 : ∀ (H : Heap) (locs : List Loc) (ls : Array Slot), va_P g.1 vwCl (mW g h ad sTaped sFault sFaultP sAt sPlace sToken sNumber sWord sText0 sWritten sSort0 sPiled sOpens sWhole sOnce sIsW sDied cA cIm cTx cTp cPl c7 c8 c9 cAs c10 c11 cHd) H → va_D A (mW g h ad sTaped sFault sFaultP sAt sPlace sToken sNumber sWord sText0 sWritten sSort0 sPiled sOpens sWhole sOnce sIsW sDied cA cIm cTx cTp cPl c7 c8 c9 cAs c10 c11 cHd) → va_S A s.heap H locs → lv_has ls 6 [(0, .ref h), (2, .int x2)] → W p l e ({ frames := 6, cells := 0, slots := 0, locals := 143 } : Room) s m ([.ref h, .int x1, .int x2] : List Value).toArray below meth c H locs 0 0 (MQ below (QQ g none (mW g h ad sTaped sFault sFaultP sAt sPlace sToken sNumber sWord sText0 sWritten sSort0 sPiled sOpens sWhole sOnce sIsW sDied cA cIm cTx cTp cPl ncNm ncVa ncTr cAs ncLi ncSa cHd) A) ([.ref h, .int x1, .int x2] : List Value).toArray s 0 0 A) (F0 m 40 ls []) := by
    intro H locs ls hP hD hS hl
    refine lv_iconst (v := 1) hx hb dX2_layLikely_40 (by decide) ?_
    refine lv_istore_n (lv' := [(3, .int 1), (0, .ref h), (2, .int x2)]) hx hb dX2_layLikely_41 rfl hl (by decide) rfl (fun ls hl => ?_)
    obtain ⟨c19, k24, hf⟩ := bd1s hf
    have hE21 : ∀ (H : Heap) (locs : List Loc) (ls : Array Slot), va_P g.1 vwCl (mW g h ad sTaped sFault sFaultP sAt sPlace sToken sNumber sWord sText0 sWritten sSort0 sPiled sOpens sWhole sOnce sIsW sDied cA cIm cTx cTp cPl c7 c8 c9 cAs c19 c11 cHd) H → va_D A (mW g h ad sTaped sFault sFaultP sAt sPlace sToken sNumber sWord sText0 sWritten sSort0 sPiled sOpens sWhole sOnce sIsW sDied cA cIm cTx cTp cPl c7 c8 c9 cAs c19 c11 cHd) → va_S A s.heap H locs → lv_has ls 6 [] → W p l e ({ frames := 6, cells := 0, slots := 0, locals := 143 } : Room) s m ([.ref h, .int x1, .int x2] : List Value).toArray below meth c H locs 0 0 (MQ below (QQ g none (mW g h ad sTaped sFault sFaultP sAt sPlace sToken sNumber sWord sText0 sWritten sSort0 sPiled sOpens sWhole sOnce sIsW sDied cA cIm cTx cTp cPl ncNm ncVa ncTr cAs ncLi ncSa cHd) A) ([.ref h, .int x1, .int x2] : List Value).toArray s 0 0 A) (F0 m 116 ls []) := by
      intro H locs ls hP hD hS hl
      cases hf
      exact rV X hP hD hS dX2_layLikely_116
    have hL22 : ∀ (n20 : Nat) (v17 : Int32) (c18 : Nat → Int32), M_layLikely_L42 φ x2 cA c11 n20 v17 c18 = some c19 → ∀ (H : Heap) (locs : List Loc) (ls : Array Slot), va_P g.1 vwCl (mW g h ad sTaped sFault sFaultP sAt sPlace sToken sNumber sWord sText0 sWritten sSort0 sPiled sOpens sWhole sOnce sIsW sDied cA cIm cTx cTp cPl c7 c8 c9 cAs c18 c11 cHd) H → va_D A (mW g h ad sTaped sFault sFaultP sAt sPlace sToken sNumber sWord sText0 sWritten sSort0 sPiled sOpens sWhole sOnce sIsW sDied cA cIm cTx cTp cPl c7 c8 c9 cAs c18 c11 cHd) → va_S A s.heap H locs → lv_has ls 6 [(0, .ref h), (2, .int x2), (3, .int v17)] → W p l e ({ frames := 6, cells := 0, slots := 0, locals := 143 } : Room) s m ([.ref h, .int x1, .int x2] : List Value).toArray below meth c H locs 0 0 (MQ below (QQ g none (mW g h ad sTaped sFault sFaultP sAt sPlace sToken sNumber sWord sText0 sWritten sSort0 sPiled sOpens sWhole sOnce sIsW sDied cA cIm cTx cTp cPl ncNm ncVa ncTr cAs ncLi ncSa cHd) A) ([.ref h, .int x1, .int x2] : List Value).toArray s 0 0 A) (F0 m 42 ls []) := by
      intro n20
      induction n20 with
      | zero =>
        intro v17 c18 hf
        exact nn hf
      | succ n20 ih23 =>
        intro v17 c18 hf H locs ls hP hD hS hl
        rw [M_layLikely_L42] at hf
        refine lv_iload_n hx hb dX2_layLikely_42 rfl (lv_at hl 2 rfl) ?_
        refine lv_iload_n hx hb dX2_layLikely_43 rfl (lv_at hl 1 rfl) ?_
        refine bc_gt (tgt := 116) hx hb hf dX2_layLikely_44 (by decide) (fun hf => ?_) (fun hf => ?_)
        · cases hf
          exact hE21 _ _ _ hP hD hS (lv_sub hl [] rfl)
        · refine lv_iconst (v := 0) hx hb dX2_layLikely_47 (by decide) ?_
          refine lv_istore (lv' := [(4, .int 0), (0, .ref h), (2, .int x2), (3, .int v17)]) hx hb dX2_layLikely_48 hl (by decide) rfl (fun ls hl => ?_)
          obtain ⟨c27, k32, hf⟩ := bd1s hf
          have hE29 : ∀ (H : Heap) (locs : List Loc) (ls : Array Slot), va_P g.1 vwCl (mW g h ad sTaped sFault sFaultP sAt sPlace sToken sNumber sWord sText0 sWritten sSort0 sPiled sOpens sWhole sOnce sIsW sDied cA cIm cTx cTp cPl c7 c8 c9 cAs c27 c11 cHd) H → va_D A (mW g h ad sTaped sFault sFaultP sAt sPlace sToken sNumber sWord sText0 sWritten sSort0 sPiled sOpens sWhole sOnce sIsW sDied cA cIm cTx cTp cPl c7 c8 c9 cAs c27 c11 cHd) → va_S A s.heap H locs → lv_has ls 6 [(0, .ref h), (2, .int x2), (3, .int v17)] → W p l e ({ frames := 6, cells := 0, slots := 0, locals := 143 } : Room) s m ([.ref h, .int x1, .int x2] : List Value).toArray below meth c H locs 0 0 (MQ below (QQ g none (mW g h ad sTaped sFault sFaultP sAt sPlace sToken sNumber sWord sText0 sWritten sSort0 sPiled sOpens sWhole sOnce sIsW sDied cA cIm cTx cTp cPl ncNm ncVa ncTr cAs ncLi ncSa cHd) A) ([.ref h, .int x1, .int x2] : List Value).toArray s 0 0 A) (F0 m 110 ls []) := by
            intro H locs ls hP hD hS hl
            obtain ⟨v33, ev33, hf⟩ := lts hf
            refine lv_iinc (v := v33) (lv' := [(3, .int v33), (0, .ref h), (2, .int x2)]) hx hb dX2_layLikely_110 hl (k := 2) rfl (by rw [ev33]; rfl) (by decide) rfl (fun ls hl => ?_)
            refine lv_goto (tgt := 42) hx hb dX2_layLikely_113 (by decide) ?_
            exact ih23 _ _ hf _ _ _ hP hD hS (lv_sub hl [1, 2, 0] rfl)
          have hL30 : ∀ (n28 : Nat) (v25 : Int32) (c26 : Nat → Int32), M_layLikely_L50 φ x2 v17 cA c11 n28 v25 c26 = some c27 → ∀ (H : Heap) (locs : List Loc) (ls : Array Slot), va_P g.1 vwCl (mW g h ad sTaped sFault sFaultP sAt sPlace sToken sNumber sWord sText0 sWritten sSort0 sPiled sOpens sWhole sOnce sIsW sDied cA cIm cTx cTp cPl c7 c8 c9 cAs c26 c11 cHd) H → va_D A (mW g h ad sTaped sFault sFaultP sAt sPlace sToken sNumber sWord sText0 sWritten sSort0 sPiled sOpens sWhole sOnce sIsW sDied cA cIm cTx cTp cPl c7 c8 c9 cAs c26 c11 cHd) → va_S A s.heap H locs → lv_has ls 6 [(0, .ref h), (2, .int x2), (3, .int v17), (4, .int v25)] → W p l e ({ frames := 6, cells := 0, slots := 0, locals := 143 } : Room) s m ([.ref h, .int x1, .int x2] : List Value).toArray below meth c H locs 0 0 (MQ below (QQ g none (mW g h ad sTaped sFault sFaultP sAt sPlace sToken sNumber sWord sText0 sWritten sSort0 sPiled sOpens sWhole sOnce sIsW sDied cA cIm cTx cTp cPl ncNm ncVa ncTr cAs ncLi ncSa cHd) A) ([.ref h, .int x1, .int x2] : List Value).toArray s 0 0 A) (F0 m 50 ls []) := by
            intro n28
            induction n28 with
            | zero =>
              intro v25 c26 hf
              exact nn hf
            | succ n28 ih31 =>
              intro v25 c26 hf H locs ls hP hD hS hl
              rw [M_layLikely_L50] at hf
              refine lv_iload hx hb dX2_layLikely_50 (lv_at hl 3 rfl) ?_
              refine lv_aload_n hx hb dX2_layLikely_52 rfl (lv_at hl 0 rfl) ?_
              refine gM0 X hP dX2_layLikely_53 ?_
              refine lv_iconst (v := 0) hx hb dX2_layLikely_56 (by decide) ?_
              obtain ⟨v34, ev34, bv34, hf⟩ := rds hf
              refine lM_cA X hP ev34 bv34 dX2_layLikely_57 ?_
              refine bc_ge (tgt := 110) hx hb hf dX2_layLikely_58 (by decide) (fun hf => ?_) (fun hf => ?_)
              · cases hf
                exact hE29 _ _ _ hP hD hS (lv_sub hl [0, 1, 2] rfl)
              · refine lv_aload_n hx hb dX2_layLikely_61 rfl (lv_at hl 0 rfl) ?_
                refine lv_iload hx hb dX2_layLikely_62 (lv_at hl 3 rfl) ?_
                refine lv_iload_n hx hb dX2_layLikely_64 rfl (lv_at hl 2 rfl) ?_
                obtain ⟨r35, k36, hf⟩ := bd1s hf
                refine cVi (rest := []) X (met_M_nextFrom k36) gw_X2_X2_nextFrom dy_X2_nextFrom ⟨⟨rfl, rfl⟩, Nat.le_of_ble_eq_true rfl, Nat.le_of_ble_eq_true rfl⟩ hP hD hS hl.1 rcM rfl rfl ⟨Nat.zero_le _, Nat.zero_le _⟩ (Nat.le_of_ble_eq_true rfl) dX2_layLikely_65 (fun H locs hP hD hS => ?_)
                refine lv_istore (lv' := [(5, .int r35), (0, .ref h), (2, .int x2), (3, .int v17), (4, .int v25)]) hx hb dX2_layLikely_68 hl (by decide) rfl (fun ls hl => ?_)
                refine lv_aload_n hx hb dX2_layLikely_70 rfl (lv_at hl 1 rfl) ?_
                refine gM26 X hP dX2_layLikely_71 ?_
                refine lv_bipush (v := 8) hx hb dX2_layLikely_74 (by decide) ?_
                refine lv_iload_n hx hb dX2_layLikely_76 rfl (lv_at hl 3 rfl) ?_
                refine lv_imul hx hb dX2_layLikely_77 ?_
                refine lv_iload hx hb dX2_layLikely_78 (lv_at hl 4 rfl) ?_
                refine lv_iadd hx hb dX2_layLikely_80 ?_
                refine lv_aload_n hx hb dX2_layLikely_81 rfl (lv_at hl 1 rfl) ?_
                refine gM27 X hP dX2_layLikely_82 ?_
                refine lv_iload hx hb dX2_layLikely_85 (lv_at hl 0 rfl) ?_
                obtain ⟨v37, ev37, bv37, hf⟩ := rds hf
                refine lM_cSa X hP ev37 bv37 dX2_layLikely_87 ?_
                refine lv_aload_n hx hb dX2_layLikely_88 rfl (lv_at hl 1 rfl) ?_
                refine gM26 X hP dX2_layLikely_89 ?_
                refine lv_bipush (v := 8) hx hb dX2_layLikely_92 (by decide) ?_
                refine lv_iload_n hx hb dX2_layLikely_94 rfl (lv_at hl 3 rfl) ?_
                refine lv_iconst (v := 1) hx hb dX2_layLikely_95 (by decide) ?_
                refine lv_isub hx hb dX2_layLikely_96 ?_
                refine lv_imul hx hb dX2_layLikely_97 ?_
                refine lv_iload hx hb dX2_layLikely_98 (lv_at hl 0 rfl) ?_
                refine lv_iadd hx hb dX2_layLikely_100 ?_
                obtain ⟨v38, ev38, bv38, hf⟩ := rds hf
                refine lM_cLi X hP ev38 bv38 dX2_layLikely_101 ?_
                refine lv_imul hx hb dX2_layLikely_102 ?_
                obtain ⟨v39, ev39, hf⟩ := lts hf
                refine tpi ev39 ?_
                obtain ⟨c40, ec40, bc40, hf⟩ := wrs hf
                refine sM_cLi X hP hD hS ec40 bc40 dX2_layLikely_103 (fun H locs hP hD hS => ?_)
                obtain ⟨v41, ev41, hf⟩ := lts hf
                refine lv_iinc (v := v41) (lv' := [(4, .int v41), (5, .int r35), (0, .ref h), (2, .int x2), (3, .int v17)]) hx hb dX2_layLikely_104 hl (k := 4) rfl (by rw [ev41]; rfl) (by decide) rfl (fun ls hl => ?_)
                refine lv_goto (tgt := 50) hx hb dX2_layLikely_107 (by decide) ?_
                exact ih31 _ _ hf _ _ _ hP hD hS (lv_sub hl [2, 3, 4, 0] rfl)
          exact hL30 _ _ _ k32 _ _ _ hP hD hS (lv_sub hl [1, 2, 3, 0] rfl)
    exact hL22 _ _ _ k24 _ _ _ hP hD hS (lv_sub hl [1, 2, 0] rfl)
  have hL14 : ∀ (n12 : Nat) (v1 : Int32) (c2 : Nat → Int32) (c3 : Nat → Int64) (c4 : Nat → Int32) (c5 : Nat → Int32) (c6 : Nat → Int32), M_layLikely_L2 φ x1 x2 cA cTx n12 v1 c2 c3 c4 c5 c6 = some (c7, c8, c9, c10, c11) → ∀ (H : Heap) (locs : List Loc) (ls : Array Slot), va_P g.1 vwCl (mW g h ad sTaped sFault sFaultP sAt sPlace sToken sNumber sWord sText0 sWritten sSort0 sPiled sOpens sWhole sOnce sIsW sDied cA cIm cTx cTp cPl c2 c3 c4 cAs c5 c6 cHd) H → va_D A (mW g h ad sTaped sFault sFaultP sAt sPlace sToken sNumber sWord sText0 sWritten sSort0 sPiled sOpens sWhole sOnce sIsW sDied cA cIm cTx cTp cPl c2 c3 c4 cAs c5 c6 cHd) → va_S A s.heap H locs → lv_has ls 6 [(0, .ref h), (1, .int x1), (2, .int x2), (3, .int v1)] → W p l e ({ frames := 6, cells := 0, slots := 0, locals := 143 } : Room) s m ([.ref h, .int x1, .int x2] : List Value).toArray below meth c H locs 0 0 (MQ below (QQ g none (mW g h ad sTaped sFault sFaultP sAt sPlace sToken sNumber sWord sText0 sWritten sSort0 sPiled sOpens sWhole sOnce sIsW sDied cA cIm cTx cTp cPl ncNm ncVa ncTr cAs ncLi ncSa cHd) A) ([.ref h, .int x1, .int x2] : List Value).toArray s 0 0 A) (F0 m 2 ls []) := by
    intro n12
    induction n12 with
    | zero =>
      intro v1 c2 c3 c4 c5 c6 hf
      exact nn hf
    | succ n12 ih15 =>
      intro v1 c2 c3 c4 c5 c6 hf H locs ls hP hD hS hl
      rw [M_layLikely_L2] at hf
      refine lv_iload_n hx hb dX2_layLikely_2 rfl (lv_at hl 3 rfl) ?_
      refine lv_aload_n hx hb dX2_layLikely_3 rfl (lv_at hl 0 rfl) ?_
      refine gM0 X hP dX2_layLikely_4 ?_
      refine lv_iconst (v := 0) hx hb dX2_layLikely_7 (by decide) ?_
      obtain ⟨v42, ev42, bv42, hf⟩ := rds hf
      refine lM_cA X hP ev42 bv42 dX2_layLikely_8 ?_
      refine bc_ge (tgt := 40) hx hb hf dX2_layLikely_9 (by decide) (fun hf => ?_) (fun hf => ?_)
      · cases hf
        exact hE13 _ _ _ hP hD hS (lv_sub hl [0, 2] rfl)
      · refine lv_aload_n hx hb dX2_layLikely_12 rfl (lv_at hl 0 rfl) ?_
        refine gM27 X hP dX2_layLikely_13 ?_
        refine lv_iload_n hx hb dX2_layLikely_16 rfl (lv_at hl 3 rfl) ?_
        refine lv_bipush (v := 10) hx hb dX2_layLikely_17 (by decide) ?_
        refine lv_aload_n hx hb dX2_layLikely_19 rfl (lv_at hl 0 rfl) ?_
        refine lv_iload_n hx hb dX2_layLikely_20 rfl (lv_at hl 1 rfl) ?_
        refine lv_iload_n hx hb dX2_layLikely_21 rfl (lv_at hl 3 rfl) ?_
        obtain ⟨r43, c44, c45, c46, k47, hf⟩ := bd4s hf
        refine cVi (rest := [.int 10, .int v1, .ref (ad 10)]) X (met_M_findsIn k47) gw_X2_X2_findsIn dy_X2_findsIn ⟨⟨rfl, rfl⟩, Nat.le_of_ble_eq_true rfl, Nat.le_of_ble_eq_true rfl⟩ hP hD hS hl.1 rcM rfl rfl ⟨Nat.zero_le _, Nat.zero_le _⟩ (Nat.le_of_ble_eq_true rfl) dX2_layLikely_22 (fun H locs hP hD hS => ?_)
        refine lv_isub hx hb dX2_layLikely_25 ?_
        obtain ⟨v48, ev48, hf⟩ := lts hf
        refine tpi ev48 ?_
        obtain ⟨c49, ec49, bc49, hf⟩ := wrs hf
        refine sM_cSa X hP hD hS ec49 bc49 dX2_layLikely_26 (fun H locs hP hD hS => ?_)
        refine lv_aload_n hx hb dX2_layLikely_27 rfl (lv_at hl 0 rfl) ?_
        refine gM26 X hP dX2_layLikely_28 ?_
        refine lv_iload_n hx hb dX2_layLikely_31 rfl (lv_at hl 3 rfl) ?_
        refine lv_iconst (v := 1) hx hb dX2_layLikely_32 (by decide) ?_
        obtain ⟨c50, ec50, bc50, hf⟩ := wrs hf
        refine sM_cLi X hP hD hS ec50 bc50 dX2_layLikely_33 (fun H locs hP hD hS => ?_)
        obtain ⟨v51, ev51, hf⟩ := lts hf
        refine lv_iinc (v := v51) (lv' := [(3, .int v51), (0, .ref h), (1, .int x1), (2, .int x2)]) hx hb dX2_layLikely_34 hl (k := 3) rfl (by rw [ev51]; rfl) (by decide) rfl (fun ls hl => ?_)
        refine lv_goto (tgt := 2) hx hb dX2_layLikely_37 (by decide) ?_
        exact ih15 _ _ _ _ _ _ hf _ _ _ hP hD hS (lv_sub hl [1, 2, 3, 0] rfl)
  exact hL14 _ _ _ _ _ _ _ k16 _ _ _ hP hD hS (lv_sub hl [1, 2, 3, 0] rfl)
theorem gw_X2_X2_summed : GoodIn lw_all (wsV RX2 225 RX2 yX2_summed (ws_ yX2_summed cX2_summed 2 (some .int))) := lw_V q1619 q1621 qs82 q148 q1622
theorem dy_X2_summed : Dy yX2_summed RX2 0 := by decide +kernel
set_option maxHeartbeats 4000000 in
theorem met_M_lawClause {l : Launch} {g : gG} {h : Nat} {ad : Nat → Nat} {sTaped : Int32} {sFault : Int32} {sFaultP : Int32} {sAt : Int32} {sPlace : Int32} {sToken : Int32} {sNumber : Int32} {sWord : Int64} {sText0 : Int32} {sWritten : Int32} {sSort0 : Int32} {sPiled : Int32} {sOpens : Int32} {sWhole : Int32} {sOnce : Int32} {sIsW : Int32} {sDied : Int32} {cA : Nat → Int32} {cIm : Nat → Int32} {cTx : Nat → Int32} {cTp : Nat → Int32} {cPl : Nat → Int32} {cNm : Nat → Int32} {cVa : Nat → Int64} {cTr : Nat → Int32} {cAs : Nat → Int32} {cLi : Nat → Int32} {cSa : Nat → Int32} {cHd : Nat → Int32} {x1 : Int32} {r : Int32} {nsAt : Int32} {nsPlace : Int32} {nsToken : Int32} {nsNumber : Int32} {nsWord : Int64} {nsWritten : Int32} {nsPiled : Int32} {nsOpens : Int32} {nsWhole : Int32} {ncTx : Nat → Int32} {ncPl : Nat → Int32} {φ : Nat} (hf : M_lawClause φ sTaped sAt sPlace sToken sNumber sWord sText0 sWritten sSort0 sPiled sOpens sWhole cTx cTp cPl x1 = some (r, nsAt, nsPlace, nsToken, nsNumber, nsWord, nsWritten, nsPiled, nsOpens, nsWhole, ncTx, ncPl)) : CC l yX2_lawClause (ws_ yX2_lawClause cX2_lawClause 3 (some .int)) ({ frames := 8, cells := 0, slots := 0, locals := 177 } : Room) g [.ref h, .int x1] (mW g h ad sTaped sFault sFaultP sAt sPlace sToken sNumber sWord sText0 sWritten sSort0 sPiled sOpens sWhole sOnce sIsW sDied cA cIm cTx cTp cPl cNm cVa cTr cAs cLi cSa cHd) (some (.int r)) (mW g h ad sTaped sFault sFaultP nsAt nsPlace nsToken nsNumber nsWord sText0 nsWritten sSort0 nsPiled nsOpens nsWhole sOnce sIsW sDied cA cIm ncTx cTp ncPl cNm cVa cTr cAs cLi cSa cHd) 0 0 := by
  refine CC.of RX2 rfl plain_X2 (Nat.le_of_ble_eq_true rfl) (fun p e s m below meth c A ls X hP hD hS hl => ?_)
  have hx := X.1
  have hb := X.2.1
  have hown := X.2.2.2.2.2.1
  have hts := X.2.2.2.2.2.2.1
  have hl : lv_has ls 3 [(0, .ref h), (1, .int x1)] := hl
  unfold M_lawClause at hf
  refine lv_aload_n hx hb dX2_lawClause_0 rfl (lv_at hl 0 rfl) ?_
  refine gM2 X hP dX2_lawClause_1 ?_
  refine lv_iload_n hx hb dX2_lawClause_4 rfl (lv_at hl 1 rfl) ?_
  refine lv_iconst (v := 1) hx hb dX2_lawClause_5 (by decide) ?_
  refine lv_iadd hx hb dX2_lawClause_6 ?_
  refine lv_aload_n hx hb dX2_lawClause_7 rfl (lv_at hl 0 rfl) ?_
  refine gM13 X hP dX2_lawClause_8 ?_
  obtain ⟨c1, ec1, bc1, hf⟩ := wrs hf
  refine sM_cTx X hP hD hS ec1 bc1 dX2_lawClause_11 (fun H locs hP hD hS => ?_)
  refine lv_aload_n hx hb dX2_lawClause_12 rfl (lv_at hl 0 rfl) ?_
  obtain ⟨r2, c3, c4, c5, c6, c7, c8, c9, c10, c11, c12, c13, k14, hf⟩ := bd12s hf
  refine cVi (rest := []) X (met_M_summed k14) gw_X2_X2_summed dy_X2_summed ⟨⟨rfl, rfl⟩, Nat.le_of_ble_eq_true rfl, Nat.le_of_ble_eq_true rfl⟩ hP hD hS hl.1 rcM rfl rfl ⟨Nat.zero_le _, Nat.zero_le _⟩ (Nat.le_of_ble_eq_true rfl) dX2_lawClause_13 (fun H locs hP hD hS => ?_)
  refine lv_istore_n (lv' := [(2, .int r2), (0, .ref h), (1, .int x1)]) hx hb dX2_lawClause_16 rfl hl (by decide) rfl (fun ls hl => ?_)
  refine lv_aload_n hx hb dX2_lawClause_17 rfl (lv_at hl 1 rfl) ?_
  refine gM2 X hP dX2_lawClause_18 ?_
  refine lv_iload_n hx hb dX2_lawClause_21 rfl (lv_at hl 2 rfl) ?_
  refine lv_iconst (v := 2) hx hb dX2_lawClause_22 (by decide) ?_
  refine lv_iadd hx hb dX2_lawClause_23 ?_
  refine lv_aload_n hx hb dX2_lawClause_24 rfl (lv_at hl 1 rfl) ?_
  refine gM13 X hP dX2_lawClause_25 ?_
  obtain ⟨c15, ec15, bc15, hf⟩ := wrs hf
  refine sM_cTx X hP hD hS ec15 bc15 dX2_lawClause_28 (fun H locs hP hD hS => ?_)
  refine lv_iload_n hx hb dX2_lawClause_29 rfl (lv_at hl 0 rfl) ?_
  cases hf
  exact rI X hP hD hS dX2_lawClause_30
set_option maxHeartbeats 4000000 in
theorem met_M_findsOf {l : Launch} {g : gG} {h : Nat} {ad : Nat → Nat} {sTaped : Int32} {sFault : Int32} {sFaultP : Int32} {sAt : Int32} {sPlace : Int32} {sToken : Int32} {sNumber : Int32} {sWord : Int64} {sText0 : Int32} {sWritten : Int32} {sSort0 : Int32} {sPiled : Int32} {sOpens : Int32} {sWhole : Int32} {sOnce : Int32} {sIsW : Int32} {sDied : Int32} {cA : Nat → Int32} {cIm : Nat → Int32} {cTx : Nat → Int32} {cTp : Nat → Int32} {cPl : Nat → Int32} {cNm : Nat → Int32} {cVa : Nat → Int64} {cTr : Nat → Int32} {cAs : Nat → Int32} {cLi : Nat → Int32} {cSa : Nat → Int32} {cHd : Nat → Int32} {x1 : Int32} {r : Int32} {ncNm : Nat → Int32} {ncVa : Nat → Int64} {ncTr : Nat → Int32} {φ : Nat} (hf : M_findsOf φ cA cTx cNm cVa cTr x1 = some (r, ncNm, ncVa, ncTr)) : CC l yX2_findsOf (ws_ yX2_findsOf cX2_findsOf 2 (some .int)) ({ frames := 6, cells := 0, slots := 0, locals := 143 } : Room) g [.ref h, .int x1] (mW g h ad sTaped sFault sFaultP sAt sPlace sToken sNumber sWord sText0 sWritten sSort0 sPiled sOpens sWhole sOnce sIsW sDied cA cIm cTx cTp cPl cNm cVa cTr cAs cLi cSa cHd) (some (.int r)) (mW g h ad sTaped sFault sFaultP sAt sPlace sToken sNumber sWord sText0 sWritten sSort0 sPiled sOpens sWhole sOnce sIsW sDied cA cIm cTx cTp cPl ncNm ncVa ncTr cAs cLi cSa cHd) 0 0 := by
  refine CC.of RX2 rfl plain_X2 (Nat.le_of_ble_eq_true rfl) (fun p e s m below meth c A ls X hP hD hS hl => ?_)
  have hx := X.1
  have hb := X.2.1
  have hown := X.2.2.2.2.2.1
  have hts := X.2.2.2.2.2.2.1
  have hl : lv_has ls 2 [(0, .ref h), (1, .int x1)] := hl
  unfold M_findsOf at hf
  refine lv_aload_n hx hb dX2_findsOf_0 rfl (lv_at hl 0 rfl) ?_
  refine lv_iload_n hx hb dX2_findsOf_1 rfl (lv_at hl 1 rfl) ?_
  refine lv_aload_n hx hb dX2_findsOf_2 rfl (lv_at hl 0 rfl) ?_
  refine lv_iload_n hx hb dX2_findsOf_3 rfl (lv_at hl 1 rfl) ?_
  refine lv_iconst (v := 0) hx hb dX2_findsOf_4 (by decide) ?_
  obtain ⟨r1, k2, hf⟩ := bd1s hf
  refine cVi (rest := [.int x1, .ref h]) X (met_M_get k2) gw_X2_X2_get dy_X2_get ⟨⟨rfl, rfl⟩, Nat.le_of_ble_eq_true rfl, Nat.le_of_ble_eq_true rfl⟩ hP hD hS hl.1 rcM rfl rfl ⟨Nat.zero_le _, Nat.zero_le _⟩ (Nat.le_of_ble_eq_true rfl) dX2_findsOf_5 (fun H locs hP hD hS => ?_)
  obtain ⟨r3, c4, c5, c6, k7, hf⟩ := bd4s hf
  refine cVi (rest := []) X (met_M_findsIn k7) gw_X2_X2_findsIn dy_X2_findsIn ⟨⟨rfl, rfl⟩, Nat.le_of_ble_eq_true rfl, Nat.le_of_ble_eq_true rfl⟩ hP hD hS hl.1 rcM rfl rfl ⟨Nat.zero_le _, Nat.zero_le _⟩ (Nat.le_of_ble_eq_true rfl) dX2_findsOf_8 (fun H locs hP hD hS => ?_)
  cases hf
  exact rI X hP hD hS dX2_findsOf_11
theorem gw_X2_X2_canPardon : GoodIn lw_all (wsV RX2 376 RX2 yX2_canPardon (ws_ yX2_canPardon cX2_canPardon 3 (some .boolean))) := lw_V q1829 q1831 qs120 q148 q1832
theorem dy_X2_canPardon : Dy yX2_canPardon RX2 2 := by decide +kernel
theorem gw_X2_X2_payNow : GoodIn lw_all (wsV RX2 379 RX2 yX2_payNow (ws_ yX2_payNow cX2_payNow 4 (some .int))) := lw_V q1837 q1839 qs122 q148 q1840
theorem dy_X2_payNow : Dy yX2_payNow RX2 2 := by decide +kernel
set_option maxHeartbeats 4000000 in
theorem met_M_pardon {l : Launch} {g : gG} {h : Nat} {ad : Nat → Nat} {sTaped : Int32} {sFault : Int32} {sFaultP : Int32} {sAt : Int32} {sPlace : Int32} {sToken : Int32} {sNumber : Int32} {sWord : Int64} {sText0 : Int32} {sWritten : Int32} {sSort0 : Int32} {sPiled : Int32} {sOpens : Int32} {sWhole : Int32} {sOnce : Int32} {sIsW : Int32} {sDied : Int32} {cA : Nat → Int32} {cIm : Nat → Int32} {cTx : Nat → Int32} {cTp : Nat → Int32} {cPl : Nat → Int32} {cNm : Nat → Int32} {cVa : Nat → Int64} {cTr : Nat → Int32} {cAs : Nat → Int32} {cLi : Nat → Int32} {cSa : Nat → Int32} {cHd : Nat → Int32} {x1 : Int32} {x2 : Int32} {r : Int32} {ncA : Nat → Int32} {ncNm : Nat → Int32} {ncVa : Nat → Int64} {ncTr : Nat → Int32} {φ : Nat} (hf : M_pardon φ sIsW cA cTx cNm cVa cTr x1 x2 = some (r, ncA, ncNm, ncVa, ncTr)) : CC l yX2_pardon (ws_ yX2_pardon cX2_pardon 3 (some .int)) ({ frames := 7, cells := 0, slots := 0, locals := 166 } : Room) g [.ref h, .int x1, .int x2] (mW g h ad sTaped sFault sFaultP sAt sPlace sToken sNumber sWord sText0 sWritten sSort0 sPiled sOpens sWhole sOnce sIsW sDied cA cIm cTx cTp cPl cNm cVa cTr cAs cLi cSa cHd) (some (.int r)) (mW g h ad sTaped sFault sFaultP sAt sPlace sToken sNumber sWord sText0 sWritten sSort0 sPiled sOpens sWhole sOnce sIsW sDied ncA cIm cTx cTp cPl ncNm ncVa ncTr cAs cLi cSa cHd) 0 0 := by
  refine CC.of RX2 rfl plain_X2 (Nat.le_of_ble_eq_true rfl) (fun p e s m below meth c A ls X hP hD hS hl => ?_)
  have hx := X.1
  have hb := X.2.1
  have hown := X.2.2.2.2.2.1
  have hts := X.2.2.2.2.2.2.1
  have hl : lv_has ls 3 [(0, .ref h), (1, .int x1), (2, .int x2)] := hl
  unfold M_pardon at hf
  refine lv_aload_n hx hb dX2_pardon_0 rfl (lv_at hl 0 rfl) ?_
  refine lv_iload_n hx hb dX2_pardon_1 rfl (lv_at hl 1 rfl) ?_
  refine lv_iload_n hx hb dX2_pardon_2 rfl (lv_at hl 2 rfl) ?_
  obtain ⟨r1, c2, c3, c4, k5, hf⟩ := bd4s hf
  refine cVi (rest := []) X (met_M_canPardon k5) gw_X2_X2_canPardon dy_X2_canPardon ⟨⟨rfl, rfl⟩, Nat.le_of_ble_eq_true rfl, Nat.le_of_ble_eq_true rfl⟩ hP hD hS hl.1 rcM rfl rfl ⟨Nat.zero_le _, Nat.zero_le _⟩ (Nat.le_of_ble_eq_true rfl) dX2_pardon_3 (fun H locs hP hD hS => ?_)
  refine bq_ne (tgt := 11) hx hb hf dX2_pardon_6 (by decide) (fun hf => ?_) (fun hf => ?_)
  · refine lv_aload_n hx hb dX2_pardon_11 rfl (lv_at hl 0 rfl) ?_
    obtain ⟨c6, k7, hf⟩ := bd1s hf
    refine cVv (rest := []) X (met_M_keep k7) gw_X2_X2_keep dy_X2_keep ⟨⟨rfl, rfl⟩, Nat.le_of_ble_eq_true rfl, Nat.le_of_ble_eq_true rfl⟩ hP hD hS hl.1 rcM rfl rfl ⟨Nat.zero_le _, Nat.zero_le _⟩ (Nat.le_of_ble_eq_true rfl) dX2_pardon_12 (fun H locs hP hD hS => ?_)
    refine lv_aload_n hx hb dX2_pardon_15 rfl (lv_at hl 0 rfl) ?_
    refine lv_iload_n hx hb dX2_pardon_16 rfl (lv_at hl 1 rfl) ?_
    refine lv_iload_n hx hb dX2_pardon_17 rfl (lv_at hl 2 rfl) ?_
    obtain ⟨r8, c9, c10, c11, c12, k13, hf⟩ := bd5s hf
    refine cVi (rest := []) X (met_M_payNow k13) gw_X2_X2_payNow dy_X2_payNow ⟨⟨rfl, rfl⟩, Nat.le_of_ble_eq_true rfl, Nat.le_of_ble_eq_true rfl⟩ hP hD hS hl.1 rcM rfl rfl ⟨Nat.zero_le _, Nat.zero_le _⟩ (Nat.le_of_ble_eq_true rfl) dX2_pardon_18 (fun H locs hP hD hS => ?_)
    cases hf
    exact rI X hP hD hS dX2_pardon_21
  · refine lv_iconst (v := (-1)) hx hb dX2_pardon_9 (by decide) ?_
    cases hf
    exact rI X hP hD hS dX2_pardon_10
theorem gw_X2_X2_hungersOf : GoodIn lw_all (wsV RX2 328 RX2 yX2_hungersOf (ws_ yX2_hungersOf cX2_hungersOf 2 (some .int))) := lw_V q1861 q1863 qs127 q148 q1864
theorem dy_X2_hungersOf : Dy yX2_hungersOf RX2 1 := by decide +kernel
theorem gw_X2_X2_findsOf : GoodIn lw_all (wsV RX2 334 RX2 yX2_findsOf (ws_ yX2_findsOf cX2_findsOf 2 (some .int))) := lw_V q1746 q1748 qs107 q148 q1749
theorem dy_X2_findsOf : Dy yX2_findsOf RX2 1 := by decide +kernel
theorem gw_X2_X2_drawn : GoodIn lw_all (wsV RX2 337 RX2 yX2_drawn (ws_ yX2_drawn cX2_drawn 3 (some .int))) := lw_V q1798 q1800 qs115 q148 q1801
theorem dy_X2_drawn : Dy yX2_drawn RX2 1 := by decide +kernel
theorem gw_X2_X2_earnsOf : GoodIn lw_all (wsV RX2 325 RX2 yX2_earnsOf (ws_ yX2_earnsOf cX2_earnsOf 2 (some .int))) := lw_V q1857 q1859 qs126 q148 q1860
theorem dy_X2_earnsOf : Dy yX2_earnsOf RX2 1 := by decide +kernel
set_option maxHeartbeats 4000000 in
theorem met_M_live {l : Launch} {g : gG} {h : Nat} {ad : Nat → Nat} {sTaped : Int32} {sFault : Int32} {sFaultP : Int32} {sAt : Int32} {sPlace : Int32} {sToken : Int32} {sNumber : Int32} {sWord : Int64} {sText0 : Int32} {sWritten : Int32} {sSort0 : Int32} {sPiled : Int32} {sOpens : Int32} {sWhole : Int32} {sOnce : Int32} {sIsW : Int32} {sDied : Int32} {cA : Nat → Int32} {cIm : Nat → Int32} {cTx : Nat → Int32} {cTp : Nat → Int32} {cPl : Nat → Int32} {cNm : Nat → Int32} {cVa : Nat → Int64} {cTr : Nat → Int32} {cAs : Nat → Int32} {cLi : Nat → Int32} {cSa : Nat → Int32} {cHd : Nat → Int32} {x1 : Int32} {nsDied : Int32} {ncA : Nat → Int32} {ncNm : Nat → Int32} {ncVa : Nat → Int64} {ncTr : Nat → Int32} {φ : Nat} (hf : M_live φ sIsW sDied cA cTx cNm cVa cTr x1 = some (nsDied, ncA, ncNm, ncVa, ncTr)) : CC l yX2_live (ws_ yX2_live cX2_live 3 none) ({ frames := 7, cells := 0, slots := 0, locals := 164 } : Room) g [.ref h, .int x1] (mW g h ad sTaped sFault sFaultP sAt sPlace sToken sNumber sWord sText0 sWritten sSort0 sPiled sOpens sWhole sOnce sIsW sDied cA cIm cTx cTp cPl cNm cVa cTr cAs cLi cSa cHd) none (mW g h ad sTaped sFault sFaultP sAt sPlace sToken sNumber sWord sText0 sWritten sSort0 sPiled sOpens sWhole sOnce sIsW nsDied ncA cIm cTx cTp cPl ncNm ncVa ncTr cAs cLi cSa cHd) 0 0 := by
  refine CC.of RX2 rfl plain_X2 (Nat.le_of_ble_eq_true rfl) (fun p e s m below meth c A ls X hP hD hS hl => ?_)
  have hx := X.1
  have hb := X.2.1
  have hown := X.2.2.2.2.2.1
  have hts := X.2.2.2.2.2.2.1
  have hl : lv_has ls 3 [(0, .ref h), (1, .int x1)] := hl
  unfold M_live at hf
  refine lv_aload_n hx hb dX2_live_0 rfl (lv_at hl 0 rfl) ?_
  refine lv_iload_n hx hb dX2_live_1 rfl (lv_at hl 1 rfl) ?_
  refine lv_bipush (v := 6) hx hb dX2_live_2 (by decide) ?_
  obtain ⟨r1, k2, hf⟩ := bd1s hf
  refine cVi (rest := []) X (met_M_get k2) gw_X2_X2_get dy_X2_get ⟨⟨rfl, rfl⟩, Nat.le_of_ble_eq_true rfl, Nat.le_of_ble_eq_true rfl⟩ hP hD hS hl.1 rcM rfl rfl ⟨Nat.zero_le _, Nat.zero_le _⟩ (Nat.le_of_ble_eq_true rfl) dX2_live_4 (fun H locs hP hD hS => ?_)
  refine lv_iconst (v := 3) hx hb dX2_live_7 (by decide) ?_
  refine bc_ne (tgt := 12) hx hb hf dX2_live_8 (by decide) (fun hf => ?_) (fun hf => ?_)
  · refine lv_aload_n hx hb dX2_live_12 rfl (lv_at hl 0 rfl) ?_
    refine lv_iload_n hx hb dX2_live_13 rfl (lv_at hl 1 rfl) ?_
    refine lv_bipush (v := 6) hx hb dX2_live_14 (by decide) ?_
    obtain ⟨r3, k4, hf⟩ := bd1s hf
    refine cVi (rest := []) X (met_M_get k4) gw_X2_X2_get dy_X2_get ⟨⟨rfl, rfl⟩, Nat.le_of_ble_eq_true rfl, Nat.le_of_ble_eq_true rfl⟩ hP hD hS hl.1 rcM rfl rfl ⟨Nat.zero_le _, Nat.zero_le _⟩ (Nat.le_of_ble_eq_true rfl) dX2_live_16 (fun H locs hP hD hS => ?_)
    refine lv_iconst (v := 1) hx hb dX2_live_19 (by decide) ?_
    refine bc_eq (tgt := 50) hx hb hf dX2_live_20 (by decide) (fun hf => ?_) (fun hf => ?_)
    · refine lv_aload_n hx hb dX2_live_50 rfl (lv_at hl 0 rfl) ?_
      refine lv_iload_n hx hb dX2_live_51 rfl (lv_at hl 1 rfl) ?_
      refine lv_iconst (v := 4) hx hb dX2_live_52 (by decide) ?_
      refine lv_aload_n hx hb dX2_live_53 rfl (lv_at hl 0 rfl) ?_
      refine lv_iload_n hx hb dX2_live_54 rfl (lv_at hl 1 rfl) ?_
      refine lv_iconst (v := 4) hx hb dX2_live_55 (by decide) ?_
      obtain ⟨r5, k6, hf⟩ := bd1s hf
      refine cVi (rest := [.int 4, .int x1, .ref h]) X (met_M_get k6) gw_X2_X2_get dy_X2_get ⟨⟨rfl, rfl⟩, Nat.le_of_ble_eq_true rfl, Nat.le_of_ble_eq_true rfl⟩ hP hD hS hl.1 rcM rfl rfl ⟨Nat.zero_le _, Nat.zero_le _⟩ (Nat.le_of_ble_eq_true rfl) dX2_live_56 (fun H locs hP hD hS => ?_)
      refine lv_aload_n hx hb dX2_live_59 rfl (lv_at hl 0 rfl) ?_
      refine lv_iload_n hx hb dX2_live_60 rfl (lv_at hl 1 rfl) ?_
      obtain ⟨r7, c8, c9, c10, k11, hf⟩ := bd4s hf
      refine cVi (rest := [.int r5, .int 4, .int x1, .ref h]) X (met_M_hungersOf k11) gw_X2_X2_hungersOf dy_X2_hungersOf ⟨⟨rfl, rfl⟩, Nat.le_of_ble_eq_true rfl, Nat.le_of_ble_eq_true rfl⟩ hP hD hS hl.1 rcM rfl rfl ⟨Nat.zero_le _, Nat.zero_le _⟩ (Nat.le_of_ble_eq_true rfl) dX2_live_61 (fun H locs hP hD hS => ?_)
      refine lv_iadd hx hb dX2_live_64 ?_
      refine lv_i2l hx hb dX2_live_65 rfl ?_
      refine lv_iconst (v := 0) hx hb dX2_live_66 (by decide) ?_
      refine lv_bipush (v := 9) hx hb dX2_live_67 (by decide) ?_
      obtain ⟨r12, k13, hf⟩ := bd1s hf
      refine cSi (rest := [.int 4, .int x1, .ref h]) X (met_M_cut (g := g) k13) gs_X2_X2_cut dy_X2_cut ⟨⟨rfl, rfl⟩, Nat.le_of_ble_eq_true rfl, Nat.le_of_ble_eq_true rfl⟩ hP hD hS hl.1 rfl rfl ⟨Nat.zero_le _, Nat.zero_le _⟩ (Nat.le_of_ble_eq_true rfl) dX2_live_69 (fun H locs hP hD hS => ?_)
      obtain ⟨c14, k15, hf⟩ := bd1s hf
      refine cVv (rest := []) X (met_M_put k15) gw_X2_X2_put dy_X2_put ⟨⟨rfl, rfl⟩, Nat.le_of_ble_eq_true rfl, Nat.le_of_ble_eq_true rfl⟩ hP hD hS hl.1 rcM rfl rfl ⟨Nat.zero_le _, Nat.zero_le _⟩ (Nat.le_of_ble_eq_true rfl) dX2_live_72 (fun H locs hP hD hS => ?_)
      refine lv_aload_n hx hb dX2_live_75 rfl (lv_at hl 0 rfl) ?_
      refine lv_iload_n hx hb dX2_live_76 rfl (lv_at hl 1 rfl) ?_
      refine lv_iconst (v := 4) hx hb dX2_live_77 (by decide) ?_
      obtain ⟨r16, k17, hf⟩ := bd1s hf
      refine cVi (rest := []) X (met_M_get k17) gw_X2_X2_get dy_X2_get ⟨⟨rfl, rfl⟩, Nat.le_of_ble_eq_true rfl, Nat.le_of_ble_eq_true rfl⟩ hP hD hS hl.1 rcM rfl rfl ⟨Nat.zero_le _, Nat.zero_le _⟩ (Nat.le_of_ble_eq_true rfl) dX2_live_78 (fun H locs hP hD hS => ?_)
      refine lv_bipush (v := 9) hx hb dX2_live_81 (by decide) ?_
      refine bc_ne (tgt := 93) hx hb hf dX2_live_83 (by decide) (fun hf => ?_) (fun hf => ?_)
      · refine lv_aload_n hx hb dX2_live_93 rfl (lv_at hl 0 rfl) ?_
        refine lv_iload_n hx hb dX2_live_94 rfl (lv_at hl 1 rfl) ?_
        obtain ⟨r18, c19, c20, c21, k22, hf⟩ := bd4s hf
        refine cVi (rest := []) X (met_M_findsOf k22) gw_X2_X2_findsOf dy_X2_findsOf ⟨⟨rfl, rfl⟩, Nat.le_of_ble_eq_true rfl, Nat.le_of_ble_eq_true rfl⟩ hP hD hS hl.1 rcM rfl rfl ⟨Nat.zero_le _, Nat.zero_le _⟩ (Nat.le_of_ble_eq_true rfl) dX2_live_95 (fun H locs hP hD hS => ?_)
        refine lv_istore_n (lv' := [(2, .int r18), (0, .ref h), (1, .int x1)]) hx hb dX2_live_98 rfl hl (by decide) rfl (fun ls hl => ?_)
        refine lv_aload_n hx hb dX2_live_99 rfl (lv_at hl 1 rfl) ?_
        refine lv_bipush (v := 10) hx hb dX2_live_100 (by decide) ?_
        obtain ⟨r23, c24, k25, hf⟩ := bd2s hf
        refine cVi (rest := []) X (met_M_drawn k25) gw_X2_X2_drawn dy_X2_drawn ⟨⟨rfl, rfl⟩, Nat.le_of_ble_eq_true rfl, Nat.le_of_ble_eq_true rfl⟩ hP hD hS hl.1 rcM rfl rfl ⟨Nat.zero_le _, Nat.zero_le _⟩ (Nat.le_of_ble_eq_true rfl) dX2_live_102 (fun H locs hP hD hS => ?_)
        refine lv_iload_n hx hb dX2_live_105 rfl (lv_at hl 0 rfl) ?_
        refine bc_ge (tgt := 118) hx hb hf dX2_live_106 (by decide) (fun hf => ?_) (fun hf => ?_)
        · refine lv_aload_n hx hb dX2_live_118 rfl (lv_at hl 1 rfl) ?_
          refine lv_iload_n hx hb dX2_live_119 rfl (lv_at hl 2 rfl) ?_
          refine lv_iconst (v := 5) hx hb dX2_live_120 (by decide) ?_
          refine lv_aload_n hx hb dX2_live_121 rfl (lv_at hl 1 rfl) ?_
          refine lv_iload_n hx hb dX2_live_122 rfl (lv_at hl 2 rfl) ?_
          refine lv_iconst (v := 5) hx hb dX2_live_123 (by decide) ?_
          obtain ⟨r26, k27, hf⟩ := bd1s hf
          refine cVi (rest := [.int 5, .int x1, .ref h]) X (met_M_get k27) gw_X2_X2_get dy_X2_get ⟨⟨rfl, rfl⟩, Nat.le_of_ble_eq_true rfl, Nat.le_of_ble_eq_true rfl⟩ hP hD hS hl.1 rcM rfl rfl ⟨Nat.zero_le _, Nat.zero_le _⟩ (Nat.le_of_ble_eq_true rfl) dX2_live_124 (fun H locs hP hD hS => ?_)
          refine lv_iconst (v := 1) hx hb dX2_live_127 (by decide) ?_
          refine lv_iadd hx hb dX2_live_128 ?_
          obtain ⟨c28, k29, hf⟩ := bd1s hf
          refine cVv (rest := []) X (met_M_put k29) gw_X2_X2_put dy_X2_put ⟨⟨rfl, rfl⟩, Nat.le_of_ble_eq_true rfl, Nat.le_of_ble_eq_true rfl⟩ hP hD hS hl.1 rcM rfl rfl ⟨Nat.zero_le _, Nat.zero_le _⟩ (Nat.le_of_ble_eq_true rfl) dX2_live_129 (fun H locs hP hD hS => ?_)
          cases hf
          exact rV X hP hD hS dX2_live_132
        · refine lv_aload_n hx hb dX2_live_109 rfl (lv_at hl 1 rfl) ?_
          refine lv_iload_n hx hb dX2_live_110 rfl (lv_at hl 2 rfl) ?_
          refine lv_iconst (v := 4) hx hb dX2_live_111 (by decide) ?_
          obtain ⟨c30, c31, k32, hf⟩ := bd2s hf
          refine cVv (rest := []) X (met_M_die k32) gw_X2_X2_die dy_X2_die ⟨⟨rfl, rfl⟩, Nat.le_of_ble_eq_true rfl, Nat.le_of_ble_eq_true rfl⟩ hP hD hS hl.1 rcM rfl rfl ⟨Nat.zero_le _, Nat.zero_le _⟩ (Nat.le_of_ble_eq_true rfl) dX2_live_112 (fun H locs hP hD hS => ?_)
          refine lv_goto (tgt := 132) hx hb dX2_live_115 (by decide) ?_
          cases hf
          exact rV X hP hD hS dX2_live_132
      · refine lv_aload_n hx hb dX2_live_86 rfl (lv_at hl 0 rfl) ?_
        refine lv_iload_n hx hb dX2_live_87 rfl (lv_at hl 1 rfl) ?_
        refine lv_iconst (v := 3) hx hb dX2_live_88 (by decide) ?_
        obtain ⟨c33, c34, k35, hf⟩ := bd2s hf
        refine cVv (rest := []) X (met_M_die k35) gw_X2_X2_die dy_X2_die ⟨⟨rfl, rfl⟩, Nat.le_of_ble_eq_true rfl, Nat.le_of_ble_eq_true rfl⟩ hP hD hS hl.1 rcM rfl rfl ⟨Nat.zero_le _, Nat.zero_le _⟩ (Nat.le_of_ble_eq_true rfl) dX2_live_89 (fun H locs hP hD hS => ?_)
        cases hf
        exact rV X hP hD hS dX2_live_92
    · refine lv_aload_n hx hb dX2_live_23 rfl (lv_at hl 0 rfl) ?_
      refine lv_iload_n hx hb dX2_live_24 rfl (lv_at hl 1 rfl) ?_
      refine lv_iconst (v := 1) hx hb dX2_live_25 (by decide) ?_
      refine lv_aload_n hx hb dX2_live_26 rfl (lv_at hl 0 rfl) ?_
      refine lv_iload_n hx hb dX2_live_27 rfl (lv_at hl 1 rfl) ?_
      refine lv_iconst (v := 1) hx hb dX2_live_28 (by decide) ?_
      obtain ⟨r36, k37, hf⟩ := bd1s hf
      refine cVi (rest := [.int 1, .int x1, .ref h]) X (met_M_get k37) gw_X2_X2_get dy_X2_get ⟨⟨rfl, rfl⟩, Nat.le_of_ble_eq_true rfl, Nat.le_of_ble_eq_true rfl⟩ hP hD hS hl.1 rcM rfl rfl ⟨Nat.zero_le _, Nat.zero_le _⟩ (Nat.le_of_ble_eq_true rfl) dX2_live_29 (fun H locs hP hD hS => ?_)
      refine lv_aload_n hx hb dX2_live_32 rfl (lv_at hl 0 rfl) ?_
      refine lv_iload_n hx hb dX2_live_33 rfl (lv_at hl 1 rfl) ?_
      obtain ⟨r38, c39, c40, c41, k42, hf⟩ := bd4s hf
      refine cVi (rest := [.int r36, .int 1, .int x1, .ref h]) X (met_M_earnsOf k42) gw_X2_X2_earnsOf dy_X2_earnsOf ⟨⟨rfl, rfl⟩, Nat.le_of_ble_eq_true rfl, Nat.le_of_ble_eq_true rfl⟩ hP hD hS hl.1 rcM rfl rfl ⟨Nat.zero_le _, Nat.zero_le _⟩ (Nat.le_of_ble_eq_true rfl) dX2_live_34 (fun H locs hP hD hS => ?_)
      refine lv_iadd hx hb dX2_live_37 ?_
      refine lv_i2l hx hb dX2_live_38 rfl ?_
      refine lv_iconst (v := 0) hx hb dX2_live_39 (by decide) ?_
      refine lv_sipush (v := 9999) hx hb dX2_live_40 (by decide) ?_
      obtain ⟨r43, k44, hf⟩ := bd1s hf
      refine cSi (rest := [.int 1, .int x1, .ref h]) X (met_M_cut (g := g) k44) gs_X2_X2_cut dy_X2_cut ⟨⟨rfl, rfl⟩, Nat.le_of_ble_eq_true rfl, Nat.le_of_ble_eq_true rfl⟩ hP hD hS hl.1 rfl rfl ⟨Nat.zero_le _, Nat.zero_le _⟩ (Nat.le_of_ble_eq_true rfl) dX2_live_43 (fun H locs hP hD hS => ?_)
      obtain ⟨c45, k46, hf⟩ := bd1s hf
      refine cVv (rest := []) X (met_M_put k46) gw_X2_X2_put dy_X2_put ⟨⟨rfl, rfl⟩, Nat.le_of_ble_eq_true rfl, Nat.le_of_ble_eq_true rfl⟩ hP hD hS hl.1 rcM rfl rfl ⟨Nat.zero_le _, Nat.zero_le _⟩ (Nat.le_of_ble_eq_true rfl) dX2_live_46 (fun H locs hP hD hS => ?_)
      cases hf
      exact rV X hP hD hS dX2_live_49
  · cases hf
    exact rV X hP hD hS dX2_live_11
set_option maxHeartbeats 4000000 in
theorem met_M_of {l : Launch} {g : gG} {h : Nat} {ad : Nat → Nat} {sTaped : Int32} {sFault : Int32} {sFaultP : Int32} {sAt : Int32} {sPlace : Int32} {sToken : Int32} {sNumber : Int32} {sWord : Int64} {sText0 : Int32} {sWritten : Int32} {sSort0 : Int32} {sPiled : Int32} {sOpens : Int32} {sWhole : Int32} {sOnce : Int32} {sIsW : Int32} {sDied : Int32} {cA : Nat → Int32} {cIm : Nat → Int32} {cTx : Nat → Int32} {cTp : Nat → Int32} {cPl : Nat → Int32} {cNm : Nat → Int32} {cVa : Nat → Int64} {cTr : Nat → Int32} {cAs : Nat → Int32} {cLi : Nat → Int32} {cSa : Nat → Int32} {cHd : Nat → Int32} {x1 : Int32} {x2 : Int32} {r : Int32} {ncNm : Nat → Int32} {ncVa : Nat → Int64} {ncTr : Nat → Int32} {φ : Nat} (hf : M_of φ cA cTx cNm cVa cTr x1 x2 = some (r, ncNm, ncVa, ncTr)) : CC l yX2_of (ws_ yX2_of cX2_of 3 (some .int)) ({ frames := 7, cells := 0, slots := 0, locals := 164 } : Room) g [.ref h, .int x1, .int x2] (mW g h ad sTaped sFault sFaultP sAt sPlace sToken sNumber sWord sText0 sWritten sSort0 sPiled sOpens sWhole sOnce sIsW sDied cA cIm cTx cTp cPl cNm cVa cTr cAs cLi cSa cHd) (some (.int r)) (mW g h ad sTaped sFault sFaultP sAt sPlace sToken sNumber sWord sText0 sWritten sSort0 sPiled sOpens sWhole sOnce sIsW sDied cA cIm cTx cTp cPl ncNm ncVa ncTr cAs cLi cSa cHd) 0 0 := by
  refine CC.of RX2 rfl plain_X2 (Nat.le_of_ble_eq_true rfl) (fun p e s m below meth c A ls X hP hD hS hl => ?_)
  have hx := X.1
  have hb := X.2.1
  have hown := X.2.2.2.2.2.1
  have hts := X.2.2.2.2.2.2.1
  have hl : lv_has ls 3 [(0, .ref h), (1, .int x1), (2, .int x2)] := hl
  unfold M_of at hf
  refine lv_aload_n hx hb dX2_of_0 rfl (lv_at hl 0 rfl) ?_
  refine lv_iload_n hx hb dX2_of_1 rfl (lv_at hl 1 rfl) ?_
  obtain ⟨r1, k2, hf⟩ := bd1s hf
  refine cVi (rest := []) X (met_M_isPerson k2) gw_X2_X2_isPerson dy_X2_isPerson ⟨⟨rfl, rfl⟩, Nat.le_of_ble_eq_true rfl, Nat.le_of_ble_eq_true rfl⟩ hP hD hS hl.1 rcM rfl rfl ⟨Nat.zero_le _, Nat.zero_le _⟩ (Nat.le_of_ble_eq_true rfl) dX2_of_2 (fun H locs hP hD hS => ?_)
  refine bq_ne (tgt := 10) hx hb hf dX2_of_5 (by decide) (fun hf => ?_) (fun hf => ?_)
  · refine lv_iload_n hx hb dX2_of_10 rfl (lv_at hl 2 rfl) ?_
    refine swc hf (fun q hf => ?_) (fun q0 hf => ?_)
    · refine lv_tableOut (tgt := 133) hx hb dX2_of_11 (Or.inl q) (by decide) ?_
      refine lv_iload_n hx hb dX2_of_133 rfl (lv_at hl 2 rfl) ?_
      refine lv_iconst (v := 2) hx hb dX2_of_134 (by decide) ?_
      refine lv_bipush (v := 7) hx hb dX2_of_135 (by decide) ?_
      obtain ⟨r3, k4, hf⟩ := bd1s hf
      refine cSi (rest := []) X (met_M_isIn (g := g) k4) gs_X2_X2_isIn dy_X2_isIn ⟨⟨rfl, rfl⟩, Nat.le_of_ble_eq_true rfl, Nat.le_of_ble_eq_true rfl⟩ hP hD hS hl.1 rfl rfl ⟨Nat.zero_le _, Nat.zero_le _⟩ (Nat.le_of_ble_eq_true rfl) dX2_of_137 (fun H locs hP hD hS => ?_)
      refine bq_eq (tgt := 154) hx hb hf dX2_of_140 (by decide) (fun hf => ?_) (fun hf => ?_)
      · refine lv_iconst (v := (-1)) hx hb dX2_of_154 (by decide) ?_
        cases hf
        exact rI X hP hD hS dX2_of_155
      · refine lv_aload_n hx hb dX2_of_143 rfl (lv_at hl 0 rfl) ?_
        refine lv_iload_n hx hb dX2_of_144 rfl (lv_at hl 1 rfl) ?_
        refine lv_iload_n hx hb dX2_of_145 rfl (lv_at hl 2 rfl) ?_
        refine lv_iconst (v := 1) hx hb dX2_of_146 (by decide) ?_
        refine lv_isub hx hb dX2_of_147 ?_
        obtain ⟨r5, k6, hf⟩ := bd1s hf
        refine cVi (rest := []) X (met_M_get k6) gw_X2_X2_get dy_X2_get ⟨⟨rfl, rfl⟩, Nat.le_of_ble_eq_true rfl, Nat.le_of_ble_eq_true rfl⟩ hP hD hS hl.1 rcM rfl rfl ⟨Nat.zero_le _, Nat.zero_le _⟩ (Nat.le_of_ble_eq_true rfl) dX2_of_148 (fun H locs hP hD hS => ?_)
        refine lv_goto (tgt := 155) hx hb dX2_of_151 (by decide) ?_
        cases hf
        exact rI X hP hD hS dX2_of_155
    refine swc hf (fun q hf => ?_) (fun q1 hf => ?_)
    · refine lv_tableOut (tgt := 133) hx hb dX2_of_11 (Or.inr q) (by decide) ?_
      refine lv_iload_n hx hb dX2_of_133 rfl (lv_at hl 2 rfl) ?_
      refine lv_iconst (v := 2) hx hb dX2_of_134 (by decide) ?_
      refine lv_bipush (v := 7) hx hb dX2_of_135 (by decide) ?_
      obtain ⟨r7, k8, hf⟩ := bd1s hf
      refine cSi (rest := []) X (met_M_isIn (g := g) k8) gs_X2_X2_isIn dy_X2_isIn ⟨⟨rfl, rfl⟩, Nat.le_of_ble_eq_true rfl, Nat.le_of_ble_eq_true rfl⟩ hP hD hS hl.1 rfl rfl ⟨Nat.zero_le _, Nat.zero_le _⟩ (Nat.le_of_ble_eq_true rfl) dX2_of_137 (fun H locs hP hD hS => ?_)
      refine bq_eq (tgt := 154) hx hb hf dX2_of_140 (by decide) (fun hf => ?_) (fun hf => ?_)
      · refine lv_iconst (v := (-1)) hx hb dX2_of_154 (by decide) ?_
        cases hf
        exact rI X hP hD hS dX2_of_155
      · refine lv_aload_n hx hb dX2_of_143 rfl (lv_at hl 0 rfl) ?_
        refine lv_iload_n hx hb dX2_of_144 rfl (lv_at hl 1 rfl) ?_
        refine lv_iload_n hx hb dX2_of_145 rfl (lv_at hl 2 rfl) ?_
        refine lv_iconst (v := 1) hx hb dX2_of_146 (by decide) ?_
        refine lv_isub hx hb dX2_of_147 ?_
        obtain ⟨r9, k10, hf⟩ := bd1s hf
        refine cVi (rest := []) X (met_M_get k10) gw_X2_X2_get dy_X2_get ⟨⟨rfl, rfl⟩, Nat.le_of_ble_eq_true rfl, Nat.le_of_ble_eq_true rfl⟩ hP hD hS hl.1 rcM rfl rfl ⟨Nat.zero_le _, Nat.zero_le _⟩ (Nat.le_of_ble_eq_true rfl) dX2_of_148 (fun H locs hP hD hS => ?_)
        refine lv_goto (tgt := 155) hx hb dX2_of_151 (by decide) ?_
        cases hf
        exact rI X hP hD hS dX2_of_155
    refine swc hf (fun q hf => ?_) (fun q2 hf => ?_)
    · refine lv_tableIn (off := 65) (tgt := 76) hx hb dX2_of_11 q0 q1 (by rw [q]; rfl) (by decide) ?_
      refine lv_aload_n hx hb dX2_of_76 rfl (lv_at hl 0 rfl) ?_
      refine lv_iload_n hx hb dX2_of_77 rfl (lv_at hl 1 rfl) ?_
      refine lv_iconst (v := 0) hx hb dX2_of_78 (by decide) ?_
      obtain ⟨r11, k12, hf⟩ := bd1s hf
      refine cVi (rest := []) X (met_M_get k12) gw_X2_X2_get dy_X2_get ⟨⟨rfl, rfl⟩, Nat.le_of_ble_eq_true rfl, Nat.le_of_ble_eq_true rfl⟩ hP hD hS hl.1 rcM rfl rfl ⟨Nat.zero_le _, Nat.zero_le _⟩ (Nat.le_of_ble_eq_true rfl) dX2_of_79 (fun H locs hP hD hS => ?_)
      cases hf
      exact rI X hP hD hS dX2_of_82
    refine swc hf (fun q hf => ?_) (fun q2 hf => ?_)
    · refine lv_tableIn (off := 72) (tgt := 83) hx hb dX2_of_11 q0 q1 (by rw [q]; rfl) (by decide) ?_
      refine lv_aload_n hx hb dX2_of_83 rfl (lv_at hl 0 rfl) ?_
      refine lv_iload_n hx hb dX2_of_84 rfl (lv_at hl 1 rfl) ?_
      refine lv_bipush (v := 7) hx hb dX2_of_85 (by decide) ?_
      obtain ⟨r13, k14, hf⟩ := bd1s hf
      refine cVi (rest := []) X (met_M_get k14) gw_X2_X2_get dy_X2_get ⟨⟨rfl, rfl⟩, Nat.le_of_ble_eq_true rfl, Nat.le_of_ble_eq_true rfl⟩ hP hD hS hl.1 rcM rfl rfl ⟨Nat.zero_le _, Nat.zero_le _⟩ (Nat.le_of_ble_eq_true rfl) dX2_of_87 (fun H locs hP hD hS => ?_)
      cases hf
      exact rI X hP hD hS dX2_of_90
    refine swc hf (fun q hf => ?_) (fun q2 hf => ?_)
    · refine lv_tableIn (off := 122) (tgt := 133) hx hb dX2_of_11 q0 q1 (by rw [q]; rfl) (by decide) ?_
      refine lv_iload_n hx hb dX2_of_133 rfl (lv_at hl 2 rfl) ?_
      refine lv_iconst (v := 2) hx hb dX2_of_134 (by decide) ?_
      refine lv_bipush (v := 7) hx hb dX2_of_135 (by decide) ?_
      obtain ⟨r15, k16, hf⟩ := bd1s hf
      refine cSi (rest := []) X (met_M_isIn (g := g) k16) gs_X2_X2_isIn dy_X2_isIn ⟨⟨rfl, rfl⟩, Nat.le_of_ble_eq_true rfl, Nat.le_of_ble_eq_true rfl⟩ hP hD hS hl.1 rfl rfl ⟨Nat.zero_le _, Nat.zero_le _⟩ (Nat.le_of_ble_eq_true rfl) dX2_of_137 (fun H locs hP hD hS => ?_)
      refine bq_eq (tgt := 154) hx hb hf dX2_of_140 (by decide) (fun hf => ?_) (fun hf => ?_)
      · refine lv_iconst (v := (-1)) hx hb dX2_of_154 (by decide) ?_
        cases hf
        exact rI X hP hD hS dX2_of_155
      · refine lv_aload_n hx hb dX2_of_143 rfl (lv_at hl 0 rfl) ?_
        refine lv_iload_n hx hb dX2_of_144 rfl (lv_at hl 1 rfl) ?_
        refine lv_iload_n hx hb dX2_of_145 rfl (lv_at hl 2 rfl) ?_
        refine lv_iconst (v := 1) hx hb dX2_of_146 (by decide) ?_
        refine lv_isub hx hb dX2_of_147 ?_
        obtain ⟨r17, k18, hf⟩ := bd1s hf
        refine cVi (rest := []) X (met_M_get k18) gw_X2_X2_get dy_X2_get ⟨⟨rfl, rfl⟩, Nat.le_of_ble_eq_true rfl, Nat.le_of_ble_eq_true rfl⟩ hP hD hS hl.1 rcM rfl rfl ⟨Nat.zero_le _, Nat.zero_le _⟩ (Nat.le_of_ble_eq_true rfl) dX2_of_148 (fun H locs hP hD hS => ?_)
        refine lv_goto (tgt := 155) hx hb dX2_of_151 (by decide) ?_
        cases hf
        exact rI X hP hD hS dX2_of_155
    refine swc hf (fun q hf => ?_) (fun q2 hf => ?_)
    · refine lv_tableIn (off := 122) (tgt := 133) hx hb dX2_of_11 q0 q1 (by rw [q]; rfl) (by decide) ?_
      refine lv_iload_n hx hb dX2_of_133 rfl (lv_at hl 2 rfl) ?_
      refine lv_iconst (v := 2) hx hb dX2_of_134 (by decide) ?_
      refine lv_bipush (v := 7) hx hb dX2_of_135 (by decide) ?_
      obtain ⟨r19, k20, hf⟩ := bd1s hf
      refine cSi (rest := []) X (met_M_isIn (g := g) k20) gs_X2_X2_isIn dy_X2_isIn ⟨⟨rfl, rfl⟩, Nat.le_of_ble_eq_true rfl, Nat.le_of_ble_eq_true rfl⟩ hP hD hS hl.1 rfl rfl ⟨Nat.zero_le _, Nat.zero_le _⟩ (Nat.le_of_ble_eq_true rfl) dX2_of_137 (fun H locs hP hD hS => ?_)
      refine bq_eq (tgt := 154) hx hb hf dX2_of_140 (by decide) (fun hf => ?_) (fun hf => ?_)
      · refine lv_iconst (v := (-1)) hx hb dX2_of_154 (by decide) ?_
        cases hf
        exact rI X hP hD hS dX2_of_155
      · refine lv_aload_n hx hb dX2_of_143 rfl (lv_at hl 0 rfl) ?_
        refine lv_iload_n hx hb dX2_of_144 rfl (lv_at hl 1 rfl) ?_
        refine lv_iload_n hx hb dX2_of_145 rfl (lv_at hl 2 rfl) ?_
        refine lv_iconst (v := 1) hx hb dX2_of_146 (by decide) ?_
        refine lv_isub hx hb dX2_of_147 ?_
        obtain ⟨r21, k22, hf⟩ := bd1s hf
        refine cVi (rest := []) X (met_M_get k22) gw_X2_X2_get dy_X2_get ⟨⟨rfl, rfl⟩, Nat.le_of_ble_eq_true rfl, Nat.le_of_ble_eq_true rfl⟩ hP hD hS hl.1 rcM rfl rfl ⟨Nat.zero_le _, Nat.zero_le _⟩ (Nat.le_of_ble_eq_true rfl) dX2_of_148 (fun H locs hP hD hS => ?_)
        refine lv_goto (tgt := 155) hx hb dX2_of_151 (by decide) ?_
        cases hf
        exact rI X hP hD hS dX2_of_155
    refine swc hf (fun q hf => ?_) (fun q2 hf => ?_)
    · refine lv_tableIn (off := 122) (tgt := 133) hx hb dX2_of_11 q0 q1 (by rw [q]; rfl) (by decide) ?_
      refine lv_iload_n hx hb dX2_of_133 rfl (lv_at hl 2 rfl) ?_
      refine lv_iconst (v := 2) hx hb dX2_of_134 (by decide) ?_
      refine lv_bipush (v := 7) hx hb dX2_of_135 (by decide) ?_
      obtain ⟨r23, k24, hf⟩ := bd1s hf
      refine cSi (rest := []) X (met_M_isIn (g := g) k24) gs_X2_X2_isIn dy_X2_isIn ⟨⟨rfl, rfl⟩, Nat.le_of_ble_eq_true rfl, Nat.le_of_ble_eq_true rfl⟩ hP hD hS hl.1 rfl rfl ⟨Nat.zero_le _, Nat.zero_le _⟩ (Nat.le_of_ble_eq_true rfl) dX2_of_137 (fun H locs hP hD hS => ?_)
      refine bq_eq (tgt := 154) hx hb hf dX2_of_140 (by decide) (fun hf => ?_) (fun hf => ?_)
      · refine lv_iconst (v := (-1)) hx hb dX2_of_154 (by decide) ?_
        cases hf
        exact rI X hP hD hS dX2_of_155
      · refine lv_aload_n hx hb dX2_of_143 rfl (lv_at hl 0 rfl) ?_
        refine lv_iload_n hx hb dX2_of_144 rfl (lv_at hl 1 rfl) ?_
        refine lv_iload_n hx hb dX2_of_145 rfl (lv_at hl 2 rfl) ?_
        refine lv_iconst (v := 1) hx hb dX2_of_146 (by decide) ?_
        refine lv_isub hx hb dX2_of_147 ?_
        obtain ⟨r25, k26, hf⟩ := bd1s hf
        refine cVi (rest := []) X (met_M_get k26) gw_X2_X2_get dy_X2_get ⟨⟨rfl, rfl⟩, Nat.le_of_ble_eq_true rfl, Nat.le_of_ble_eq_true rfl⟩ hP hD hS hl.1 rcM rfl rfl ⟨Nat.zero_le _, Nat.zero_le _⟩ (Nat.le_of_ble_eq_true rfl) dX2_of_148 (fun H locs hP hD hS => ?_)
        refine lv_goto (tgt := 155) hx hb dX2_of_151 (by decide) ?_
        cases hf
        exact rI X hP hD hS dX2_of_155
    refine swc hf (fun q hf => ?_) (fun q2 hf => ?_)
    · refine lv_tableIn (off := 122) (tgt := 133) hx hb dX2_of_11 q0 q1 (by rw [q]; rfl) (by decide) ?_
      refine lv_iload_n hx hb dX2_of_133 rfl (lv_at hl 2 rfl) ?_
      refine lv_iconst (v := 2) hx hb dX2_of_134 (by decide) ?_
      refine lv_bipush (v := 7) hx hb dX2_of_135 (by decide) ?_
      obtain ⟨r27, k28, hf⟩ := bd1s hf
      refine cSi (rest := []) X (met_M_isIn (g := g) k28) gs_X2_X2_isIn dy_X2_isIn ⟨⟨rfl, rfl⟩, Nat.le_of_ble_eq_true rfl, Nat.le_of_ble_eq_true rfl⟩ hP hD hS hl.1 rfl rfl ⟨Nat.zero_le _, Nat.zero_le _⟩ (Nat.le_of_ble_eq_true rfl) dX2_of_137 (fun H locs hP hD hS => ?_)
      refine bq_eq (tgt := 154) hx hb hf dX2_of_140 (by decide) (fun hf => ?_) (fun hf => ?_)
      · refine lv_iconst (v := (-1)) hx hb dX2_of_154 (by decide) ?_
        cases hf
        exact rI X hP hD hS dX2_of_155
      · refine lv_aload_n hx hb dX2_of_143 rfl (lv_at hl 0 rfl) ?_
        refine lv_iload_n hx hb dX2_of_144 rfl (lv_at hl 1 rfl) ?_
        refine lv_iload_n hx hb dX2_of_145 rfl (lv_at hl 2 rfl) ?_
        refine lv_iconst (v := 1) hx hb dX2_of_146 (by decide) ?_
        refine lv_isub hx hb dX2_of_147 ?_
        obtain ⟨r29, k30, hf⟩ := bd1s hf
        refine cVi (rest := []) X (met_M_get k30) gw_X2_X2_get dy_X2_get ⟨⟨rfl, rfl⟩, Nat.le_of_ble_eq_true rfl, Nat.le_of_ble_eq_true rfl⟩ hP hD hS hl.1 rcM rfl rfl ⟨Nat.zero_le _, Nat.zero_le _⟩ (Nat.le_of_ble_eq_true rfl) dX2_of_148 (fun H locs hP hD hS => ?_)
        refine lv_goto (tgt := 155) hx hb dX2_of_151 (by decide) ?_
        cases hf
        exact rI X hP hD hS dX2_of_155
    refine swc hf (fun q hf => ?_) (fun q2 hf => ?_)
    · refine lv_tableIn (off := 122) (tgt := 133) hx hb dX2_of_11 q0 q1 (by rw [q]; rfl) (by decide) ?_
      refine lv_iload_n hx hb dX2_of_133 rfl (lv_at hl 2 rfl) ?_
      refine lv_iconst (v := 2) hx hb dX2_of_134 (by decide) ?_
      refine lv_bipush (v := 7) hx hb dX2_of_135 (by decide) ?_
      obtain ⟨r31, k32, hf⟩ := bd1s hf
      refine cSi (rest := []) X (met_M_isIn (g := g) k32) gs_X2_X2_isIn dy_X2_isIn ⟨⟨rfl, rfl⟩, Nat.le_of_ble_eq_true rfl, Nat.le_of_ble_eq_true rfl⟩ hP hD hS hl.1 rfl rfl ⟨Nat.zero_le _, Nat.zero_le _⟩ (Nat.le_of_ble_eq_true rfl) dX2_of_137 (fun H locs hP hD hS => ?_)
      refine bq_eq (tgt := 154) hx hb hf dX2_of_140 (by decide) (fun hf => ?_) (fun hf => ?_)
      · refine lv_iconst (v := (-1)) hx hb dX2_of_154 (by decide) ?_
        cases hf
        exact rI X hP hD hS dX2_of_155
      · refine lv_aload_n hx hb dX2_of_143 rfl (lv_at hl 0 rfl) ?_
        refine lv_iload_n hx hb dX2_of_144 rfl (lv_at hl 1 rfl) ?_
        refine lv_iload_n hx hb dX2_of_145 rfl (lv_at hl 2 rfl) ?_
        refine lv_iconst (v := 1) hx hb dX2_of_146 (by decide) ?_
        refine lv_isub hx hb dX2_of_147 ?_
        obtain ⟨r33, k34, hf⟩ := bd1s hf
        refine cVi (rest := []) X (met_M_get k34) gw_X2_X2_get dy_X2_get ⟨⟨rfl, rfl⟩, Nat.le_of_ble_eq_true rfl, Nat.le_of_ble_eq_true rfl⟩ hP hD hS hl.1 rcM rfl rfl ⟨Nat.zero_le _, Nat.zero_le _⟩ (Nat.le_of_ble_eq_true rfl) dX2_of_148 (fun H locs hP hD hS => ?_)
        refine lv_goto (tgt := 155) hx hb dX2_of_151 (by decide) ?_
        cases hf
        exact rI X hP hD hS dX2_of_155
    refine swc hf (fun q hf => ?_) (fun q2 hf => ?_)
    · refine lv_tableIn (off := 122) (tgt := 133) hx hb dX2_of_11 q0 q1 (by rw [q]; rfl) (by decide) ?_
      refine lv_iload_n hx hb dX2_of_133 rfl (lv_at hl 2 rfl) ?_
      refine lv_iconst (v := 2) hx hb dX2_of_134 (by decide) ?_
      refine lv_bipush (v := 7) hx hb dX2_of_135 (by decide) ?_
      obtain ⟨r35, k36, hf⟩ := bd1s hf
      refine cSi (rest := []) X (met_M_isIn (g := g) k36) gs_X2_X2_isIn dy_X2_isIn ⟨⟨rfl, rfl⟩, Nat.le_of_ble_eq_true rfl, Nat.le_of_ble_eq_true rfl⟩ hP hD hS hl.1 rfl rfl ⟨Nat.zero_le _, Nat.zero_le _⟩ (Nat.le_of_ble_eq_true rfl) dX2_of_137 (fun H locs hP hD hS => ?_)
      refine bq_eq (tgt := 154) hx hb hf dX2_of_140 (by decide) (fun hf => ?_) (fun hf => ?_)
      · refine lv_iconst (v := (-1)) hx hb dX2_of_154 (by decide) ?_
        cases hf
        exact rI X hP hD hS dX2_of_155
      · refine lv_aload_n hx hb dX2_of_143 rfl (lv_at hl 0 rfl) ?_
        refine lv_iload_n hx hb dX2_of_144 rfl (lv_at hl 1 rfl) ?_
        refine lv_iload_n hx hb dX2_of_145 rfl (lv_at hl 2 rfl) ?_
        refine lv_iconst (v := 1) hx hb dX2_of_146 (by decide) ?_
        refine lv_isub hx hb dX2_of_147 ?_
        obtain ⟨r37, k38, hf⟩ := bd1s hf
        refine cVi (rest := []) X (met_M_get k38) gw_X2_X2_get dy_X2_get ⟨⟨rfl, rfl⟩, Nat.le_of_ble_eq_true rfl, Nat.le_of_ble_eq_true rfl⟩ hP hD hS hl.1 rcM rfl rfl ⟨Nat.zero_le _, Nat.zero_le _⟩ (Nat.le_of_ble_eq_true rfl) dX2_of_148 (fun H locs hP hD hS => ?_)
        refine lv_goto (tgt := 155) hx hb dX2_of_151 (by decide) ?_
        cases hf
        exact rI X hP hD hS dX2_of_155
    refine swc hf (fun q hf => ?_) (fun q2 hf => ?_)
    · refine lv_tableIn (off := 80) (tgt := 91) hx hb dX2_of_11 q0 q1 (by rw [q]; rfl) (by decide) ?_
      refine lv_aload_n hx hb dX2_of_91 rfl (lv_at hl 0 rfl) ?_
      refine lv_iload_n hx hb dX2_of_92 rfl (lv_at hl 1 rfl) ?_
      obtain ⟨r39, c40, c41, c42, k43, hf⟩ := bd4s hf
      refine cVi (rest := []) X (met_M_hungersOf k43) gw_X2_X2_hungersOf dy_X2_hungersOf ⟨⟨rfl, rfl⟩, Nat.le_of_ble_eq_true rfl, Nat.le_of_ble_eq_true rfl⟩ hP hD hS hl.1 rcM rfl rfl ⟨Nat.zero_le _, Nat.zero_le _⟩ (Nat.le_of_ble_eq_true rfl) dX2_of_93 (fun H locs hP hD hS => ?_)
      cases hf
      exact rI X hP hD hS dX2_of_96
    refine swc hf (fun q hf => ?_) (fun q2 hf => ?_)
    · refine lv_tableIn (off := 86) (tgt := 97) hx hb dX2_of_11 q0 q1 (by rw [q]; rfl) (by decide) ?_
      refine lv_aload_n hx hb dX2_of_97 rfl (lv_at hl 0 rfl) ?_
      refine lv_iload_n hx hb dX2_of_98 rfl (lv_at hl 1 rfl) ?_
      obtain ⟨r44, c45, c46, c47, k48, hf⟩ := bd4s hf
      refine cVi (rest := []) X (met_M_findsOf k48) gw_X2_X2_findsOf dy_X2_findsOf ⟨⟨rfl, rfl⟩, Nat.le_of_ble_eq_true rfl, Nat.le_of_ble_eq_true rfl⟩ hP hD hS hl.1 rcM rfl rfl ⟨Nat.zero_le _, Nat.zero_le _⟩ (Nat.le_of_ble_eq_true rfl) dX2_of_99 (fun H locs hP hD hS => ?_)
      cases hf
      exact rI X hP hD hS dX2_of_102
    refine swc hf (fun q hf => ?_) (fun q2 hf => ?_)
    · refine lv_tableIn (off := 92) (tgt := 103) hx hb dX2_of_11 q0 q1 (by rw [q]; rfl) (by decide) ?_
      refine lv_aload_n hx hb dX2_of_103 rfl (lv_at hl 0 rfl) ?_
      refine lv_aload_n hx hb dX2_of_104 rfl (lv_at hl 0 rfl) ?_
      refine gM0 X hP dX2_of_105 ?_
      refine lv_iconst (v := 3) hx hb dX2_of_108 (by decide) ?_
      obtain ⟨v49, ev49, bv49, hf⟩ := rds hf
      refine lM_cA X hP ev49 bv49 dX2_of_109 ?_
      refine lv_iload_n hx hb dX2_of_110 rfl (lv_at hl 1 rfl) ?_
      obtain ⟨r50, c51, c52, c53, k54, hf⟩ := bd4s hf
      refine cVi (rest := []) X (met_M_priceOf k54) gw_X2_X2_priceOf dy_X2_priceOf ⟨⟨rfl, rfl⟩, Nat.le_of_ble_eq_true rfl, Nat.le_of_ble_eq_true rfl⟩ hP hD hS hl.1 rcM rfl rfl ⟨Nat.zero_le _, Nat.zero_le _⟩ (Nat.le_of_ble_eq_true rfl) dX2_of_111 (fun H locs hP hD hS => ?_)
      cases hf
      exact rI X hP hD hS dX2_of_114
    refine swc hf (fun q hf => ?_) (fun q2 hf => ?_)
    · refine lv_tableIn (off := 104) (tgt := 115) hx hb dX2_of_11 q0 q1 (by rw [q]; rfl) (by decide) ?_
      refine lv_aload_n hx hb dX2_of_115 rfl (lv_at hl 0 rfl) ?_
      refine lv_iload_n hx hb dX2_of_116 rfl (lv_at hl 1 rfl) ?_
      obtain ⟨r55, c56, c57, c58, k59, hf⟩ := bd4s hf
      refine cVi (rest := []) X (met_M_earnsOf k59) gw_X2_X2_earnsOf dy_X2_earnsOf ⟨⟨rfl, rfl⟩, Nat.le_of_ble_eq_true rfl, Nat.le_of_ble_eq_true rfl⟩ hP hD hS hl.1 rcM rfl rfl ⟨Nat.zero_le _, Nat.zero_le _⟩ (Nat.le_of_ble_eq_true rfl) dX2_of_117 (fun H locs hP hD hS => ?_)
      cases hf
      exact rI X hP hD hS dX2_of_120
    refine swc hf (fun q hf => ?_) (fun q2 hf => ?_)
    · refine lv_tableIn (off := 110) (tgt := 121) hx hb dX2_of_11 q0 q1 (by rw [q]; rfl) (by decide) ?_
      refine lv_aload_n hx hb dX2_of_121 rfl (lv_at hl 0 rfl) ?_
      refine lv_iload_n hx hb dX2_of_122 rfl (lv_at hl 1 rfl) ?_
      refine lv_aload_n hx hb dX2_of_123 rfl (lv_at hl 0 rfl) ?_
      refine lv_iload_n hx hb dX2_of_124 rfl (lv_at hl 1 rfl) ?_
      refine lv_iconst (v := 0) hx hb dX2_of_125 (by decide) ?_
      obtain ⟨r60, k61, hf⟩ := bd1s hf
      refine cVi (rest := [.int x1, .ref h]) X (met_M_get k61) gw_X2_X2_get dy_X2_get ⟨⟨rfl, rfl⟩, Nat.le_of_ble_eq_true rfl, Nat.le_of_ble_eq_true rfl⟩ hP hD hS hl.1 rcM rfl rfl ⟨Nat.zero_le _, Nat.zero_le _⟩ (Nat.le_of_ble_eq_true rfl) dX2_of_126 (fun H locs hP hD hS => ?_)
      obtain ⟨r62, k63, hf⟩ := bd1s hf
      refine cVi (rest := []) X (met_M_crowdOf k63) gw_X2_X2_crowdOf dy_X2_crowdOf ⟨⟨rfl, rfl⟩, Nat.le_of_ble_eq_true rfl, Nat.le_of_ble_eq_true rfl⟩ hP hD hS hl.1 rcM rfl rfl ⟨Nat.zero_le _, Nat.zero_le _⟩ (Nat.le_of_ble_eq_true rfl) dX2_of_129 (fun H locs hP hD hS => ?_)
      cases hf
      exact rI X hP hD hS dX2_of_132
    exact nn hf
  · refine lv_iconst (v := (-1)) hx hb dX2_of_8 (by decide) ?_
    cases hf
    exact rI X hP hD hS dX2_of_9
theorem gw_X2_X2_layLikely : GoodIn lw_all (wsV RX2 442 RX2 yX2_layLikely (ws_ yX2_layLikely cX2_layLikely 6 none)) := lw_V q1954 q1956 qs135 q148 q1957
theorem dy_X2_layLikely : Dy yX2_layLikely RX2 2 := by decide +kernel
theorem gw_X2_X2_lowestFrom : GoodIn lw_all (wsV RX2 448 RX2 yX2_lowestFrom (ws_ yX2_lowestFrom cX2_lowestFrom 3 (some .int))) := lw_V q1969 q1971 qs138 q148 q1972
theorem dy_X2_lowestFrom : Dy yX2_lowestFrom RX2 1 := by decide +kernel
set_option maxHeartbeats 4000000 in
theorem met_M_surest {l : Launch} {g : gG} {h : Nat} {ad : Nat → Nat} {sTaped : Int32} {sFault : Int32} {sFaultP : Int32} {sAt : Int32} {sPlace : Int32} {sToken : Int32} {sNumber : Int32} {sWord : Int64} {sText0 : Int32} {sWritten : Int32} {sSort0 : Int32} {sPiled : Int32} {sOpens : Int32} {sWhole : Int32} {sOnce : Int32} {sIsW : Int32} {sDied : Int32} {cA : Nat → Int32} {cIm : Nat → Int32} {cTx : Nat → Int32} {cTp : Nat → Int32} {cPl : Nat → Int32} {cNm : Nat → Int32} {cVa : Nat → Int64} {cTr : Nat → Int32} {cAs : Nat → Int32} {cLi : Nat → Int32} {cSa : Nat → Int32} {cHd : Nat → Int32} {x1 : Int32} {x2 : Int32} {x3 : Int32} {r : Int32} {ncNm : Nat → Int32} {ncVa : Nat → Int64} {ncTr : Nat → Int32} {ncLi : Nat → Int32} {ncSa : Nat → Int32} {φ : Nat} (hf : M_surest φ cA cTx cNm cVa cTr cLi cSa x1 x2 x3 = some (r, ncNm, ncVa, ncTr, ncLi, ncSa)) : CC l yX2_surest (ws_ yX2_surest cX2_surest 8 (some .int)) ({ frames := 7, cells := 0, slots := 0, locals := 168 } : Room) g [.ref h, .int x1, .int x2, .int x3] (mW g h ad sTaped sFault sFaultP sAt sPlace sToken sNumber sWord sText0 sWritten sSort0 sPiled sOpens sWhole sOnce sIsW sDied cA cIm cTx cTp cPl cNm cVa cTr cAs cLi cSa cHd) (some (.int r)) (mW g h ad sTaped sFault sFaultP sAt sPlace sToken sNumber sWord sText0 sWritten sSort0 sPiled sOpens sWhole sOnce sIsW sDied cA cIm cTx cTp cPl ncNm ncVa ncTr cAs ncLi ncSa cHd) 0 0 := by
  refine CC.of RX2 rfl plain_X2 (Nat.le_of_ble_eq_true rfl) (fun p e s m below meth c A ls X hP hD hS hl => ?_)
  have hx := X.1
  have hb := X.2.1
  have hown := X.2.2.2.2.2.1
  have hts := X.2.2.2.2.2.2.1
  have hl : lv_has ls 8 [(0, .ref h), (1, .int x1), (2, .int x2), (3, .int x3)] := hl
  unfold M_surest at hf
  refine lv_aload_n hx hb dX2_surest_0 rfl (lv_at hl 0 rfl) ?_
  refine lv_iload_n hx hb dX2_surest_1 rfl (lv_at hl 1 rfl) ?_
  obtain ⟨r1, k2, hf⟩ := bd1s hf
  refine cVi (rest := []) X (met_M_isOutlaw k2) gw_X2_X2_isOutlaw dy_X2_isOutlaw ⟨⟨rfl, rfl⟩, Nat.le_of_ble_eq_true rfl, Nat.le_of_ble_eq_true rfl⟩ hP hD hS hl.1 rcM rfl rfl ⟨Nat.zero_le _, Nat.zero_le _⟩ (Nat.le_of_ble_eq_true rfl) dX2_surest_2 (fun H locs hP hD hS => ?_)
  refine bq_eq (tgt := 30) hx hb hf dX2_surest_5 (by decide) (fun hf => ?_) (fun hf => ?_)
  · refine lv_bipush (v := (-3)) hx hb dX2_surest_30 (by decide) ?_
    cases hf
    exact rI X hP hD hS dX2_surest_32
  · refine lv_iload_n hx hb dX2_surest_8 rfl (lv_at hl 2 rfl) ?_
    refine lv_iconst (v := 1) hx hb dX2_surest_9 (by decide) ?_
    refine lv_bipush (v := 6) hx hb dX2_surest_10 (by decide) ?_
    obtain ⟨r3, k4, hf⟩ := bd1s hf
    refine cSi (rest := []) X (met_M_isIn (g := g) k4) gs_X2_X2_isIn dy_X2_isIn ⟨⟨rfl, rfl⟩, Nat.le_of_ble_eq_true rfl, Nat.le_of_ble_eq_true rfl⟩ hP hD hS hl.1 rfl rfl ⟨Nat.zero_le _, Nat.zero_le _⟩ (Nat.le_of_ble_eq_true rfl) dX2_surest_12 (fun H locs hP hD hS => ?_)
    refine bq_eq (tgt := 30) hx hb hf dX2_surest_15 (by decide) (fun hf => ?_) (fun hf => ?_)
    · refine lv_bipush (v := (-3)) hx hb dX2_surest_30 (by decide) ?_
      cases hf
      exact rI X hP hD hS dX2_surest_32
    · refine lv_iload_n hx hb dX2_surest_18 rfl (lv_at hl 3 rfl) ?_
      refine lv_bipush (v := (-2)) hx hb dX2_surest_19 (by decide) ?_
      refine lv_iload_n hx hb dX2_surest_21 rfl (lv_at hl 2 rfl) ?_
      refine lv_iconst (v := 1) hx hb dX2_surest_22 (by decide) ?_
      refine lv_isub hx hb dX2_surest_23 ?_
      obtain ⟨r5, k6, hf⟩ := bd1s hf
      refine cSi (rest := []) X (met_M_isIn (g := g) k6) gs_X2_X2_isIn dy_X2_isIn ⟨⟨rfl, rfl⟩, Nat.le_of_ble_eq_true rfl, Nat.le_of_ble_eq_true rfl⟩ hP hD hS hl.1 rfl rfl ⟨Nat.zero_le _, Nat.zero_le _⟩ (Nat.le_of_ble_eq_true rfl) dX2_surest_24 (fun H locs hP hD hS => ?_)
      refine bq_ne (tgt := 33) hx hb hf dX2_surest_27 (by decide) (fun hf => ?_) (fun hf => ?_)
      · refine lv_aload_n hx hb dX2_surest_33 rfl (lv_at hl 0 rfl) ?_
        refine lv_iload_n hx hb dX2_surest_34 rfl (lv_at hl 1 rfl) ?_
        refine lv_iload_n hx hb dX2_surest_35 rfl (lv_at hl 2 rfl) ?_
        obtain ⟨c7, c8, c9, c10, c11, k12, hf⟩ := bd5s hf
        refine cVv (rest := []) X (met_M_layLikely k12) gw_X2_X2_layLikely dy_X2_layLikely ⟨⟨rfl, rfl⟩, Nat.le_of_ble_eq_true rfl, Nat.le_of_ble_eq_true rfl⟩ hP hD hS hl.1 rcM rfl rfl ⟨Nat.zero_le _, Nat.zero_le _⟩ (Nat.le_of_ble_eq_true rfl) dX2_surest_36 (fun H locs hP hD hS => ?_)
        refine lv_aload_n hx hb dX2_surest_39 rfl (lv_at hl 0 rfl) ?_
        refine lv_iload_n hx hb dX2_surest_40 rfl (lv_at hl 1 rfl) ?_
        refine lv_iconst (v := 0) hx hb dX2_surest_41 (by decide) ?_
        obtain ⟨r13, k14, hf⟩ := bd1s hf
        refine cVi (rest := []) X (met_M_get k14) gw_X2_X2_get dy_X2_get ⟨⟨rfl, rfl⟩, Nat.le_of_ble_eq_true rfl, Nat.le_of_ble_eq_true rfl⟩ hP hD hS hl.1 rcM rfl rfl ⟨Nat.zero_le _, Nat.zero_le _⟩ (Nat.le_of_ble_eq_true rfl) dX2_surest_42 (fun H locs hP hD hS => ?_)
        refine lv_istore (lv' := [(4, .int r13), (0, .ref h), (1, .int x1), (2, .int x2), (3, .int x3)]) hx hb dX2_surest_45 hl (by decide) rfl (fun ls hl => ?_)
        refine lv_aload_n hx hb dX2_surest_47 rfl (lv_at hl 1 rfl) ?_
        refine gM26 X hP dX2_surest_48 ?_
        refine lv_bipush (v := 8) hx hb dX2_surest_51 (by decide) ?_
        refine lv_iload_n hx hb dX2_surest_53 rfl (lv_at hl 3 rfl) ?_
        refine lv_imul hx hb dX2_surest_54 ?_
        refine lv_iload hx hb dX2_surest_55 (lv_at hl 0 rfl) ?_
        refine lv_iadd hx hb dX2_surest_57 ?_
        obtain ⟨v15, ev15, bv15, hf⟩ := rds hf
        refine lM_cLi X hP ev15 bv15 dX2_surest_58 ?_
        refine lv_istore (lv' := [(5, .int v15), (4, .int r13), (0, .ref h), (1, .int x1), (2, .int x2), (3, .int x3)]) hx hb dX2_surest_59 hl (by decide) rfl (fun ls hl => ?_)
        refine lv_iconst (v := 1) hx hb dX2_surest_61 (by decide) ?_
        refine lv_istore (lv' := [(6, .int 1), (5, .int v15), (4, .int r13), (0, .ref h), (1, .int x1), (2, .int x2), (3, .int x3)]) hx hb dX2_surest_62 hl (by decide) rfl (fun ls hl => ?_)
        refine lv_iconst (v := 0) hx hb dX2_surest_64 (by decide) ?_
        refine lv_istore (lv' := [(7, .int 0), (6, .int 1), (5, .int v15), (4, .int r13), (0, .ref h), (1, .int x1), (2, .int x2), (3, .int x3)]) hx hb dX2_surest_65 hl (by decide) rfl (fun ls hl => ?_)
        obtain ⟨v18, k23, hf⟩ := bd1s hf
        have hE20 : ∀ (H : Heap) (locs : List Loc) (ls : Array Slot), va_P g.1 vwCl (mW g h ad sTaped sFault sFaultP sAt sPlace sToken sNumber sWord sText0 sWritten sSort0 sPiled sOpens sWhole sOnce sIsW sDied cA cIm cTx cTp cPl c7 c8 c9 cAs c10 c11 cHd) H → va_D A (mW g h ad sTaped sFault sFaultP sAt sPlace sToken sNumber sWord sText0 sWritten sSort0 sPiled sOpens sWhole sOnce sIsW sDied cA cIm cTx cTp cPl c7 c8 c9 cAs c10 c11 cHd) → va_S A s.heap H locs → lv_has ls 8 [(0, .ref h), (2, .int x2), (3, .int x3), (4, .int r13), (5, .int v15), (6, .int v18)] → W p l e ({ frames := 7, cells := 0, slots := 0, locals := 168 } : Room) s m ([.ref h, .int x1, .int x2, .int x3] : List Value).toArray below meth c H locs 0 0 (MQ below (QQ g (some (.int r)) (mW g h ad sTaped sFault sFaultP sAt sPlace sToken sNumber sWord sText0 sWritten sSort0 sPiled sOpens sWhole sOnce sIsW sDied cA cIm cTx cTp cPl ncNm ncVa ncTr cAs ncLi ncSa cHd) A) ([.ref h, .int x1, .int x2, .int x3] : List Value).toArray s 0 0 A) (F0 m 86 ls []) := by
          intro H locs ls hP hD hS hl
          refine lv_iload_n hx hb dX2_surest_86 rfl (lv_at hl 2 rfl) ?_
          refine bq_ge (tgt := 112) hx hb hf dX2_surest_87 (by decide) (fun hf => ?_) (fun hf => ?_)
          · refine lv_iconst (v := 0) hx hb dX2_surest_112 (by decide) ?_
            refine lv_istore (lv' := [(7, .int 0), (0, .ref h), (2, .int x2), (3, .int x3), (4, .int r13), (5, .int v15), (6, .int v18)]) hx hb dX2_surest_113 hl (by decide) rfl (fun ls hl => ?_)
            obtain ⟨v26, k31, hf⟩ := bd1s hf
            have hE28 : ∀ (H : Heap) (locs : List Loc) (ls : Array Slot), va_P g.1 vwCl (mW g h ad sTaped sFault sFaultP sAt sPlace sToken sNumber sWord sText0 sWritten sSort0 sPiled sOpens sWhole sOnce sIsW sDied cA cIm cTx cTp cPl c7 c8 c9 cAs c10 c11 cHd) H → va_D A (mW g h ad sTaped sFault sFaultP sAt sPlace sToken sNumber sWord sText0 sWritten sSort0 sPiled sOpens sWhole sOnce sIsW sDied cA cIm cTx cTp cPl c7 c8 c9 cAs c10 c11 cHd) → va_S A s.heap H locs → lv_has ls 8 [(4, .int v26)] → W p l e ({ frames := 7, cells := 0, slots := 0, locals := 168 } : Room) s m ([.ref h, .int x1, .int x2, .int x3] : List Value).toArray below meth c H locs 0 0 (MQ below (QQ g (some (.int r)) (mW g h ad sTaped sFault sFaultP sAt sPlace sToken sNumber sWord sText0 sWritten sSort0 sPiled sOpens sWhole sOnce sIsW sDied cA cIm cTx cTp cPl ncNm ncVa ncTr cAs ncLi ncSa cHd) A) ([.ref h, .int x1, .int x2, .int x3] : List Value).toArray s 0 0 A) (F0 m 153 ls []) := by
              intro H locs ls hP hD hS hl
              refine lv_iload hx hb dX2_surest_153 (lv_at hl 0 rfl) ?_
              cases hf
              exact rI X hP hD hS dX2_surest_155
            have hL29 : ∀ (n27 : Nat) (v24 : Int32) (v25 : Int32), M_surest_L115 φ x2 x3 v15 cA c10 c11 n27 v24 v25 = some v26 → ∀ (H : Heap) (locs : List Loc) (ls : Array Slot), va_P g.1 vwCl (mW g h ad sTaped sFault sFaultP sAt sPlace sToken sNumber sWord sText0 sWritten sSort0 sPiled sOpens sWhole sOnce sIsW sDied cA cIm cTx cTp cPl c7 c8 c9 cAs c10 c11 cHd) H → va_D A (mW g h ad sTaped sFault sFaultP sAt sPlace sToken sNumber sWord sText0 sWritten sSort0 sPiled sOpens sWhole sOnce sIsW sDied cA cIm cTx cTp cPl c7 c8 c9 cAs c10 c11 cHd) → va_S A s.heap H locs → lv_has ls 8 [(0, .ref h), (2, .int x2), (3, .int x3), (4, .int v24), (5, .int v15), (7, .int v25)] → W p l e ({ frames := 7, cells := 0, slots := 0, locals := 168 } : Room) s m ([.ref h, .int x1, .int x2, .int x3] : List Value).toArray below meth c H locs 0 0 (MQ below (QQ g (some (.int r)) (mW g h ad sTaped sFault sFaultP sAt sPlace sToken sNumber sWord sText0 sWritten sSort0 sPiled sOpens sWhole sOnce sIsW sDied cA cIm cTx cTp cPl ncNm ncVa ncTr cAs ncLi ncSa cHd) A) ([.ref h, .int x1, .int x2, .int x3] : List Value).toArray s 0 0 A) (F0 m 115 ls []) := by
              intro n27
              induction n27 with
              | zero =>
                intro v24 v25 hf
                exact nn hf
              | succ n27 ih30 =>
                intro v24 v25 hf H locs ls hP hD hS hl
                rw [M_surest_L115] at hf
                refine lv_iload hx hb dX2_surest_115 (lv_at hl 5 rfl) ?_
                refine lv_iload_n hx hb dX2_surest_117 rfl (lv_at hl 2 rfl) ?_
                refine bc_gt (tgt := 153) hx hb hf dX2_surest_118 (by decide) (fun hf => ?_) (fun hf => ?_)
                · cases hf
                  exact hE28 _ _ _ hP hD hS (lv_sub hl [3] rfl)
                · refine lv_iload hx hb dX2_surest_121 (lv_at hl 4 rfl) ?_
                  refine bq_ne (tgt := 135) hx hb hf dX2_surest_123 (by decide) (fun hf => ?_) (fun hf => ?_)
                  · refine lv_aload_n hx hb dX2_surest_135 rfl (lv_at hl 0 rfl) ?_
                    refine lv_iload hx hb dX2_surest_136 (lv_at hl 3 rfl) ?_
                    refine lv_iload_n hx hb dX2_surest_138 rfl (lv_at hl 1 rfl) ?_
                    refine lv_iload hx hb dX2_surest_139 (lv_at hl 5 rfl) ?_
                    refine lv_isub hx hb dX2_surest_141 ?_
                    obtain ⟨r32, k33, hf⟩ := bd1s hf
                    refine cVi (rest := []) X (met_M_nextFrom k33) gw_X2_X2_nextFrom dy_X2_nextFrom ⟨⟨rfl, rfl⟩, Nat.le_of_ble_eq_true rfl, Nat.le_of_ble_eq_true rfl⟩ hP hD hS hl.1 rcM rfl rfl ⟨Nat.zero_le _, Nat.zero_le _⟩ (Nat.le_of_ble_eq_true rfl) dX2_surest_142 (fun H locs hP hD hS => ?_)
                    refine lv_istore (lv' := [(4, .int r32), (0, .ref h), (2, .int x2), (3, .int x3), (5, .int v15), (7, .int v25)]) hx hb dX2_surest_145 hl (by decide) rfl (fun ls hl => ?_)
                    obtain ⟨v34, ev34, hf⟩ := lts hf
                    refine lv_iinc (v := v34) (lv' := [(7, .int v34), (4, .int r32), (0, .ref h), (2, .int x2), (3, .int x3), (5, .int v15)]) hx hb dX2_surest_147 hl (k := 5) rfl (by rw [ev34]; rfl) (by decide) rfl (fun ls hl => ?_)
                    refine lv_goto (tgt := 115) hx hb dX2_surest_150 (by decide) ?_
                    exact ih30 _ _ hf _ _ _ hP hD hS (lv_sub hl [2, 3, 4, 1, 5, 0] rfl)
                  · refine lv_aload_n hx hb dX2_surest_126 rfl (lv_at hl 0 rfl) ?_
                    refine lv_iload hx hb dX2_surest_127 (lv_at hl 3 rfl) ?_
                    obtain ⟨r35, k36, hf⟩ := bd1s hf
                    refine cVi (rest := []) X (met_M_lowestFrom k36) gw_X2_X2_lowestFrom dy_X2_lowestFrom ⟨⟨rfl, rfl⟩, Nat.le_of_ble_eq_true rfl, Nat.le_of_ble_eq_true rfl⟩ hP hD hS hl.1 rcM rfl rfl ⟨Nat.zero_le _, Nat.zero_le _⟩ (Nat.le_of_ble_eq_true rfl) dX2_surest_129 (fun H locs hP hD hS => ?_)
                    refine lv_goto (tgt := 145) hx hb dX2_surest_132 (by decide) ?_
                    refine lv_istore (lv' := [(4, .int r35), (0, .ref h), (2, .int x2), (3, .int x3), (5, .int v15), (7, .int v25)]) hx hb dX2_surest_145 hl (by decide) rfl (fun ls hl => ?_)
                    obtain ⟨v37, ev37, hf⟩ := lts hf
                    refine lv_iinc (v := v37) (lv' := [(7, .int v37), (4, .int r35), (0, .ref h), (2, .int x2), (3, .int x3), (5, .int v15)]) hx hb dX2_surest_147 hl (k := 5) rfl (by rw [ev37]; rfl) (by decide) rfl (fun ls hl => ?_)
                    refine lv_goto (tgt := 115) hx hb dX2_surest_150 (by decide) ?_
                    exact ih30 _ _ hf _ _ _ hP hD hS (lv_sub hl [2, 3, 4, 1, 5, 0] rfl)
            exact hL29 _ _ _ k31 _ _ _ hP hD hS (lv_sub hl [1, 2, 3, 4, 5, 0] rfl)
          · refine lv_iload_n hx hb dX2_surest_90 rfl (lv_at hl 2 rfl) ?_
            refine lv_bipush (v := (-2)) hx hb dX2_surest_91 (by decide) ?_
            refine bc_ne (tgt := 101) hx hb hf dX2_surest_93 (by decide) (fun hf => ?_) (fun hf => ?_)
            · refine lv_iload hx hb dX2_surest_101 (lv_at hl 5 rfl) ?_
              refine lv_iload hx hb dX2_surest_103 (lv_at hl 4 rfl) ?_
              refine lv_iload hx hb dX2_surest_105 (lv_at hl 5 rfl) ?_
              obtain ⟨r38, k39, hf⟩ := bd1s hf
              refine cSi (rest := [.int v18]) X (met_M_common (g := g) k39) gs_X2_X2_common dy_X2_common ⟨⟨rfl, rfl⟩, Nat.le_of_ble_eq_true rfl, Nat.le_of_ble_eq_true rfl⟩ hP hD hS hl.1 rfl rfl ⟨Nat.zero_le _, Nat.zero_le _⟩ (Nat.le_of_ble_eq_true rfl) dX2_surest_107 (fun H locs hP hD hS => ?_)
              obtain ⟨z40, hf⟩ := nzs hf
              refine lv_idiv hx hb dX2_surest_110 z40 ?_
              cases hf
              exact rI X hP hD hS dX2_surest_111
            · refine lv_iload hx hb dX2_surest_96 (lv_at hl 4 rfl) ?_
              refine lv_goto (tgt := 103) hx hb dX2_surest_98 (by decide) ?_
              refine lv_iload hx hb dX2_surest_103 (lv_at hl 4 rfl) ?_
              refine lv_iload hx hb dX2_surest_105 (lv_at hl 5 rfl) ?_
              obtain ⟨r41, k42, hf⟩ := bd1s hf
              refine cSi (rest := [.int v15]) X (met_M_common (g := g) k42) gs_X2_X2_common dy_X2_common ⟨⟨rfl, rfl⟩, Nat.le_of_ble_eq_true rfl, Nat.le_of_ble_eq_true rfl⟩ hP hD hS hl.1 rfl rfl ⟨Nat.zero_le _, Nat.zero_le _⟩ (Nat.le_of_ble_eq_true rfl) dX2_surest_107 (fun H locs hP hD hS => ?_)
              obtain ⟨z43, hf⟩ := nzs hf
              refine lv_idiv hx hb dX2_surest_110 z43 ?_
              cases hf
              exact rI X hP hD hS dX2_surest_111
        have hL21 : ∀ (n19 : Nat) (v16 : Int32) (v17 : Int32), M_surest_L67 φ x2 x3 r13 v15 n19 v16 v17 = some v18 → ∀ (H : Heap) (locs : List Loc) (ls : Array Slot), va_P g.1 vwCl (mW g h ad sTaped sFault sFaultP sAt sPlace sToken sNumber sWord sText0 sWritten sSort0 sPiled sOpens sWhole sOnce sIsW sDied cA cIm cTx cTp cPl c7 c8 c9 cAs c10 c11 cHd) H → va_D A (mW g h ad sTaped sFault sFaultP sAt sPlace sToken sNumber sWord sText0 sWritten sSort0 sPiled sOpens sWhole sOnce sIsW sDied cA cIm cTx cTp cPl c7 c8 c9 cAs c10 c11 cHd) → va_S A s.heap H locs → lv_has ls 8 [(0, .ref h), (2, .int x2), (3, .int x3), (4, .int r13), (5, .int v15), (6, .int v16), (7, .int v17)] → W p l e ({ frames := 7, cells := 0, slots := 0, locals := 168 } : Room) s m ([.ref h, .int x1, .int x2, .int x3] : List Value).toArray below meth c H locs 0 0 (MQ below (QQ g (some (.int r)) (mW g h ad sTaped sFault sFaultP sAt sPlace sToken sNumber sWord sText0 sWritten sSort0 sPiled sOpens sWhole sOnce sIsW sDied cA cIm cTx cTp cPl ncNm ncVa ncTr cAs ncLi ncSa cHd) A) ([.ref h, .int x1, .int x2, .int x3] : List Value).toArray s 0 0 A) (F0 m 67 ls []) := by
          intro n19
          induction n19 with
          | zero =>
            intro v16 v17 hf
            exact nn hf
          | succ n19 ih22 =>
            intro v16 v17 hf H locs ls hP hD hS hl
            rw [M_surest_L67] at hf
            refine lv_iload hx hb dX2_surest_67 (lv_at hl 6 rfl) ?_
            refine lv_iload_n hx hb dX2_surest_69 rfl (lv_at hl 1 rfl) ?_
            refine bc_ge (tgt := 86) hx hb hf dX2_surest_70 (by decide) (fun hf => ?_) (fun hf => ?_)
            · cases hf
              exact hE20 _ _ _ hP hD hS (lv_sub hl [0, 1, 2, 3, 4, 5] rfl)
            · refine lv_iload hx hb dX2_surest_73 (lv_at hl 5 rfl) ?_
              refine lv_bipush (v := 10) hx hb dX2_surest_75 (by decide) ?_
              refine lv_imul hx hb dX2_surest_77 ?_
              obtain ⟨v44, ev44, hf⟩ := lts hf
              refine tpi ev44 ?_
              refine lv_istore (lv' := [(6, .int v44), (0, .ref h), (2, .int x2), (3, .int x3), (4, .int r13), (5, .int v15), (7, .int v17)]) hx hb dX2_surest_78 hl (by decide) rfl (fun ls hl => ?_)
              obtain ⟨v45, ev45, hf⟩ := lts hf
              refine lv_iinc (v := v45) (lv' := [(7, .int v45), (6, .int v44), (0, .ref h), (2, .int x2), (3, .int x3), (4, .int r13), (5, .int v15)]) hx hb dX2_surest_80 hl (k := 6) rfl (by rw [ev45]; rfl) (by decide) rfl (fun ls hl => ?_)
              refine lv_goto (tgt := 67) hx hb dX2_surest_83 (by decide) ?_
              exact ih22 _ _ hf _ _ _ hP hD hS (lv_sub hl [2, 3, 4, 5, 6, 1, 0] rfl)
        exact hL21 _ _ _ k23 _ _ _ hP hD hS (lv_sub hl [4, 6, 7, 3, 2, 1, 0] rfl)
      · refine lv_bipush (v := (-3)) hx hb dX2_surest_30 (by decide) ?_
        cases hf
        exact rI X hP hD hS dX2_surest_32
theorem gw_X2_X2_pair : GoodIn lw_all (wsV RX2 232 RX2 yX2_pair (ws_ yX2_pair cX2_pair 7 (some .int))) := lw_V q1603 q1605 qs78 q148 q1606
theorem dy_X2_pair : Dy yX2_pair RX2 4 := by decide +kernel
theorem gw_X2_X2_lawClause : GoodIn lw_all (wsV RX2 239 RX2 yX2_lawClause (ws_ yX2_lawClause cX2_lawClause 3 (some .int))) := lw_V q1615 q1617 qs81 q148 q1618
theorem dy_X2_lawClause : Dy yX2_lawClause RX2 1 := by decide +kernel
theorem gw_X2_X2_personClause : GoodIn lw_all (wsV RX2 236 RX2 yX2_personClause (ws_ yX2_personClause cX2_personClause 3 (some .int))) := lw_V q1611 q1613 qs80 q148 q1614
theorem dy_X2_personClause : Dy yX2_personClause RX2 1 := by decide +kernel
set_option maxHeartbeats 4000000 in
theorem met_M_body {l : Launch} {g : gG} {h : Nat} {ad : Nat → Nat} {sTaped : Int32} {sFault : Int32} {sFaultP : Int32} {sAt : Int32} {sPlace : Int32} {sToken : Int32} {sNumber : Int32} {sWord : Int64} {sText0 : Int32} {sWritten : Int32} {sSort0 : Int32} {sPiled : Int32} {sOpens : Int32} {sWhole : Int32} {sOnce : Int32} {sIsW : Int32} {sDied : Int32} {cA : Nat → Int32} {cIm : Nat → Int32} {cTx : Nat → Int32} {cTp : Nat → Int32} {cPl : Nat → Int32} {cNm : Nat → Int32} {cVa : Nat → Int64} {cTr : Nat → Int32} {cAs : Nat → Int32} {cLi : Nat → Int32} {cSa : Nat → Int32} {cHd : Nat → Int32} {x1 : Int32} {x2 : Int32} {r : Int32} {nsAt : Int32} {nsPlace : Int32} {nsToken : Int32} {nsNumber : Int32} {nsWord : Int64} {nsWritten : Int32} {nsPiled : Int32} {nsOpens : Int32} {nsWhole : Int32} {ncTx : Nat → Int32} {ncPl : Nat → Int32} {φ : Nat} (hf : M_body φ sTaped sAt sPlace sToken sNumber sWord sText0 sWritten sSort0 sPiled sOpens sWhole cTx cTp cPl x1 x2 = some (r, nsAt, nsPlace, nsToken, nsNumber, nsWord, nsWritten, nsPiled, nsOpens, nsWhole, ncTx, ncPl)) : CC l yX2_body (ws_ yX2_body cX2_body 3 (some .int)) ({ frames := 9, cells := 0, slots := 0, locals := 199 } : Room) g [.ref h, .int x1, .int x2] (mW g h ad sTaped sFault sFaultP sAt sPlace sToken sNumber sWord sText0 sWritten sSort0 sPiled sOpens sWhole sOnce sIsW sDied cA cIm cTx cTp cPl cNm cVa cTr cAs cLi cSa cHd) (some (.int r)) (mW g h ad sTaped sFault sFaultP nsAt nsPlace nsToken nsNumber nsWord sText0 nsWritten sSort0 nsPiled nsOpens nsWhole sOnce sIsW sDied cA cIm ncTx cTp ncPl cNm cVa cTr cAs cLi cSa cHd) 0 0 := by
  refine CC.of RX2 rfl plain_X2 (Nat.le_of_ble_eq_true rfl) (fun p e s m below meth c A ls X hP hD hS hl => ?_)
  have hx := X.1
  have hb := X.2.1
  have hown := X.2.2.2.2.2.1
  have hts := X.2.2.2.2.2.2.1
  have hl : lv_has ls 3 [(0, .ref h), (1, .int x1), (2, .int x2)] := hl
  unfold M_body at hf
  refine lv_iload_n hx hb dX2_body_0 rfl (lv_at hl 1 rfl) ?_
  refine swc hf (fun q hf => ?_) (fun q0 hf => ?_)
  · refine lv_tableOut (tgt := 129) hx hb dX2_body_1 (Or.inl q) (by decide) ?_
    refine lv_iload_n hx hb dX2_body_129 rfl (lv_at hl 1 rfl) ?_
    refine lv_iconst (v := 3) hx hb dX2_body_130 (by decide) ?_
    refine bc_gt (tgt := 142) hx hb hf dX2_body_131 (by decide) (fun hf => ?_) (fun hf => ?_)
    · refine lv_aload_n hx hb dX2_body_142 rfl (lv_at hl 0 rfl) ?_
      refine lv_iload_n hx hb dX2_body_143 rfl (lv_at hl 2 rfl) ?_
      refine lv_iconst (v := 5) hx hb dX2_body_144 (by decide) ?_
      refine lv_bipush (v := 98) hx hb dX2_body_145 (by decide) ?_
      refine lv_bipush (v := 121) hx hb dX2_body_147 (by decide) ?_
      obtain ⟨r1, k2, hf⟩ := bd1s hf
      refine cSl (rest := [.int 5, .int x2, .ref h]) X (met_M_w2 (g := g) k2) gs_X2_X2_w2 dy_X2_w2 ⟨⟨rfl, rfl⟩, Nat.le_of_ble_eq_true rfl, Nat.le_of_ble_eq_true rfl⟩ hP hD hS hl.1 rfl rfl ⟨Nat.zero_le _, Nat.zero_le _⟩ (Nat.le_of_ble_eq_true rfl) dX2_body_149 (fun H locs hP hD hS => ?_)
      refine lv_iconst (v := 5) hx hb dX2_body_152 (by decide) ?_
      obtain ⟨r3, c4, c5, c6, c7, c8, c9, k10, hf⟩ := bd7s hf
      refine cVi (rest := []) X (met_M_pair k10) gw_X2_X2_pair dy_X2_pair ⟨⟨rfl, rfl⟩, Nat.le_of_ble_eq_true rfl, Nat.le_of_ble_eq_true rfl⟩ hP hD hS hl.1 rcM rfl rfl ⟨Nat.zero_le _, Nat.zero_le _⟩ (Nat.le_of_ble_eq_true rfl) dX2_body_153 (fun H locs hP hD hS => ?_)
      cases hf
      exact rI X hP hD hS dX2_body_156
    · refine lv_aload_n hx hb dX2_body_134 rfl (lv_at hl 0 rfl) ?_
      refine lv_iload_n hx hb dX2_body_135 rfl (lv_at hl 2 rfl) ?_
      obtain ⟨r11, c12, c13, c14, c15, c16, c17, c18, c19, c20, c21, c22, k23, hf⟩ := bd12s hf
      refine cVi (rest := []) X (met_M_lawClause k23) gw_X2_X2_lawClause dy_X2_lawClause ⟨⟨rfl, rfl⟩, Nat.le_of_ble_eq_true rfl, Nat.le_of_ble_eq_true rfl⟩ hP hD hS hl.1 rcM rfl rfl ⟨Nat.zero_le _, Nat.zero_le _⟩ (Nat.le_of_ble_eq_true rfl) dX2_body_136 (fun H locs hP hD hS => ?_)
      refine lv_goto (tgt := 156) hx hb dX2_body_139 (by decide) ?_
      cases hf
      exact rI X hP hD hS dX2_body_156
  refine swc hf (fun q hf => ?_) (fun q1 hf => ?_)
  · refine lv_tableOut (tgt := 129) hx hb dX2_body_1 (Or.inr q) (by decide) ?_
    refine lv_iload_n hx hb dX2_body_129 rfl (lv_at hl 1 rfl) ?_
    refine lv_iconst (v := 3) hx hb dX2_body_130 (by decide) ?_
    refine bc_gt (tgt := 142) hx hb hf dX2_body_131 (by decide) (fun hf => ?_) (fun hf => ?_)
    · refine lv_aload_n hx hb dX2_body_142 rfl (lv_at hl 0 rfl) ?_
      refine lv_iload_n hx hb dX2_body_143 rfl (lv_at hl 2 rfl) ?_
      refine lv_iconst (v := 5) hx hb dX2_body_144 (by decide) ?_
      refine lv_bipush (v := 98) hx hb dX2_body_145 (by decide) ?_
      refine lv_bipush (v := 121) hx hb dX2_body_147 (by decide) ?_
      obtain ⟨r24, k25, hf⟩ := bd1s hf
      refine cSl (rest := [.int 5, .int x2, .ref h]) X (met_M_w2 (g := g) k25) gs_X2_X2_w2 dy_X2_w2 ⟨⟨rfl, rfl⟩, Nat.le_of_ble_eq_true rfl, Nat.le_of_ble_eq_true rfl⟩ hP hD hS hl.1 rfl rfl ⟨Nat.zero_le _, Nat.zero_le _⟩ (Nat.le_of_ble_eq_true rfl) dX2_body_149 (fun H locs hP hD hS => ?_)
      refine lv_iconst (v := 5) hx hb dX2_body_152 (by decide) ?_
      obtain ⟨r26, c27, c28, c29, c30, c31, c32, k33, hf⟩ := bd7s hf
      refine cVi (rest := []) X (met_M_pair k33) gw_X2_X2_pair dy_X2_pair ⟨⟨rfl, rfl⟩, Nat.le_of_ble_eq_true rfl, Nat.le_of_ble_eq_true rfl⟩ hP hD hS hl.1 rcM rfl rfl ⟨Nat.zero_le _, Nat.zero_le _⟩ (Nat.le_of_ble_eq_true rfl) dX2_body_153 (fun H locs hP hD hS => ?_)
      cases hf
      exact rI X hP hD hS dX2_body_156
    · refine lv_aload_n hx hb dX2_body_134 rfl (lv_at hl 0 rfl) ?_
      refine lv_iload_n hx hb dX2_body_135 rfl (lv_at hl 2 rfl) ?_
      obtain ⟨r34, c35, c36, c37, c38, c39, c40, c41, c42, c43, c44, c45, k46, hf⟩ := bd12s hf
      refine cVi (rest := []) X (met_M_lawClause k46) gw_X2_X2_lawClause dy_X2_lawClause ⟨⟨rfl, rfl⟩, Nat.le_of_ble_eq_true rfl, Nat.le_of_ble_eq_true rfl⟩ hP hD hS hl.1 rcM rfl rfl ⟨Nat.zero_le _, Nat.zero_le _⟩ (Nat.le_of_ble_eq_true rfl) dX2_body_136 (fun H locs hP hD hS => ?_)
      refine lv_goto (tgt := 156) hx hb dX2_body_139 (by decide) ?_
      cases hf
      exact rI X hP hD hS dX2_body_156
  refine swc hf (fun q hf => ?_) (fun q2 hf => ?_)
  · refine lv_tableIn (off := 51) (tgt := 52) hx hb dX2_body_1 q0 q1 (by rw [q]; rfl) (by decide) ?_
    refine lv_aload_n hx hb dX2_body_52 rfl (lv_at hl 0 rfl) ?_
    refine lv_iload_n hx hb dX2_body_53 rfl (lv_at hl 2 rfl) ?_
    refine lv_iconst (v := 1) hx hb dX2_body_54 (by decide) ?_
    refine lv_iadd hx hb dX2_body_55 ?_
    refine lv_iconst (v := 0) hx hb dX2_body_56 (by decide) ?_
    refine lv_bipush (v := 9) hx hb dX2_body_57 (by decide) ?_
    obtain ⟨r47, c48, c49, c50, c51, c52, c53, k54, hf⟩ := bd7s hf
    refine cVi (rest := []) X (met_M_figure k54) gw_X2_X2_figure dy_X2_figure ⟨⟨rfl, rfl⟩, Nat.le_of_ble_eq_true rfl, Nat.le_of_ble_eq_true rfl⟩ hP hD hS hl.1 rcM rfl rfl ⟨Nat.zero_le _, Nat.zero_le _⟩ (Nat.le_of_ble_eq_true rfl) dX2_body_59 (fun H locs hP hD hS => ?_)
    cases hf
    exact rI X hP hD hS dX2_body_62
  refine swc hf (fun q hf => ?_) (fun q2 hf => ?_)
  · refine lv_tableIn (off := 62) (tgt := 63) hx hb dX2_body_1 q0 q1 (by rw [q]; rfl) (by decide) ?_
    refine lv_aload_n hx hb dX2_body_63 rfl (lv_at hl 0 rfl) ?_
    refine lv_iload_n hx hb dX2_body_64 rfl (lv_at hl 2 rfl) ?_
    refine lv_bipush (v := 7) hx hb dX2_body_65 (by decide) ?_
    refine lv_bipush (v := 116) hx hb dX2_body_67 (by decide) ?_
    refine lv_bipush (v := 111) hx hb dX2_body_69 (by decide) ?_
    obtain ⟨r55, k56, hf⟩ := bd1s hf
    refine cSl (rest := [.int 7, .int x2, .ref h]) X (met_M_w2 (g := g) k56) gs_X2_X2_w2 dy_X2_w2 ⟨⟨rfl, rfl⟩, Nat.le_of_ble_eq_true rfl, Nat.le_of_ble_eq_true rfl⟩ hP hD hS hl.1 rfl rfl ⟨Nat.zero_le _, Nat.zero_le _⟩ (Nat.le_of_ble_eq_true rfl) dX2_body_71 (fun H locs hP hD hS => ?_)
    refine lv_bipush (v := 7) hx hb dX2_body_74 (by decide) ?_
    obtain ⟨r57, c58, c59, c60, c61, c62, c63, k64, hf⟩ := bd7s hf
    refine cVi (rest := []) X (met_M_pair k64) gw_X2_X2_pair dy_X2_pair ⟨⟨rfl, rfl⟩, Nat.le_of_ble_eq_true rfl, Nat.le_of_ble_eq_true rfl⟩ hP hD hS hl.1 rcM rfl rfl ⟨Nat.zero_le _, Nat.zero_le _⟩ (Nat.le_of_ble_eq_true rfl) dX2_body_76 (fun H locs hP hD hS => ?_)
    cases hf
    exact rI X hP hD hS dX2_body_79
  refine swc hf (fun q hf => ?_) (fun q2 hf => ?_)
  · refine lv_tableIn (off := 79) (tgt := 80) hx hb dX2_body_1 q0 q1 (by rw [q]; rfl) (by decide) ?_
    refine lv_aload_n hx hb dX2_body_80 rfl (lv_at hl 0 rfl) ?_
    refine lv_iload_n hx hb dX2_body_81 rfl (lv_at hl 2 rfl) ?_
    obtain ⟨r65, c66, c67, c68, c69, c70, c71, k72, hf⟩ := bd7s hf
    refine cVi (rest := []) X (met_M_personClause k72) gw_X2_X2_personClause dy_X2_personClause ⟨⟨rfl, rfl⟩, Nat.le_of_ble_eq_true rfl, Nat.le_of_ble_eq_true rfl⟩ hP hD hS hl.1 rcM rfl rfl ⟨Nat.zero_le _, Nat.zero_le _⟩ (Nat.le_of_ble_eq_true rfl) dX2_body_82 (fun H locs hP hD hS => ?_)
    cases hf
    exact rI X hP hD hS dX2_body_85
  refine swc hf (fun q hf => ?_) (fun q2 hf => ?_)
  · refine lv_tableIn (off := 85) (tgt := 86) hx hb dX2_body_1 q0 q1 (by rw [q]; rfl) (by decide) ?_
    refine lv_aload_n hx hb dX2_body_86 rfl (lv_at hl 0 rfl) ?_
    refine lv_iload_n hx hb dX2_body_87 rfl (lv_at hl 2 rfl) ?_
    refine lv_iconst (v := 5) hx hb dX2_body_88 (by decide) ?_
    refine lv_bipush (v := 105) hx hb dX2_body_89 (by decide) ?_
    refine lv_bipush (v := 110) hx hb dX2_body_91 (by decide) ?_
    obtain ⟨r73, k74, hf⟩ := bd1s hf
    refine cSl (rest := [.int 5, .int x2, .ref h]) X (met_M_w2 (g := g) k74) gs_X2_X2_w2 dy_X2_w2 ⟨⟨rfl, rfl⟩, Nat.le_of_ble_eq_true rfl, Nat.le_of_ble_eq_true rfl⟩ hP hD hS hl.1 rfl rfl ⟨Nat.zero_le _, Nat.zero_le _⟩ (Nat.le_of_ble_eq_true rfl) dX2_body_93 (fun H locs hP hD hS => ?_)
    refine lv_bipush (v := 7) hx hb dX2_body_96 (by decide) ?_
    obtain ⟨r75, c76, c77, c78, c79, c80, c81, k82, hf⟩ := bd7s hf
    refine cVi (rest := []) X (met_M_pair k82) gw_X2_X2_pair dy_X2_pair ⟨⟨rfl, rfl⟩, Nat.le_of_ble_eq_true rfl, Nat.le_of_ble_eq_true rfl⟩ hP hD hS hl.1 rcM rfl rfl ⟨Nat.zero_le _, Nat.zero_le _⟩ (Nat.le_of_ble_eq_true rfl) dX2_body_98 (fun H locs hP hD hS => ?_)
    cases hf
    exact rI X hP hD hS dX2_body_101
  refine swc hf (fun q hf => ?_) (fun q2 hf => ?_)
  · refine lv_tableIn (off := 101) (tgt := 102) hx hb dX2_body_1 q0 q1 (by rw [q]; rfl) (by decide) ?_
    refine lv_aload_n hx hb dX2_body_102 rfl (lv_at hl 0 rfl) ?_
    refine lv_iload_n hx hb dX2_body_103 rfl (lv_at hl 2 rfl) ?_
    refine lv_iconst (v := 5) hx hb dX2_body_104 (by decide) ?_
    refine lv_bipush (v := 116) hx hb dX2_body_105 (by decide) ?_
    refine lv_bipush (v := 111) hx hb dX2_body_107 (by decide) ?_
    obtain ⟨r83, k84, hf⟩ := bd1s hf
    refine cSl (rest := [.int 5, .int x2, .ref h]) X (met_M_w2 (g := g) k84) gs_X2_X2_w2 dy_X2_w2 ⟨⟨rfl, rfl⟩, Nat.le_of_ble_eq_true rfl, Nat.le_of_ble_eq_true rfl⟩ hP hD hS hl.1 rfl rfl ⟨Nat.zero_le _, Nat.zero_le _⟩ (Nat.le_of_ble_eq_true rfl) dX2_body_109 (fun H locs hP hD hS => ?_)
    refine lv_bipush (v := 7) hx hb dX2_body_112 (by decide) ?_
    obtain ⟨r85, c86, c87, c88, c89, c90, c91, k92, hf⟩ := bd7s hf
    refine cVi (rest := []) X (met_M_pair k92) gw_X2_X2_pair dy_X2_pair ⟨⟨rfl, rfl⟩, Nat.le_of_ble_eq_true rfl, Nat.le_of_ble_eq_true rfl⟩ hP hD hS hl.1 rcM rfl rfl ⟨Nat.zero_le _, Nat.zero_le _⟩ (Nat.le_of_ble_eq_true rfl) dX2_body_114 (fun H locs hP hD hS => ?_)
    cases hf
    exact rI X hP hD hS dX2_body_117
  refine swc hf (fun q hf => ?_) (fun q2 hf => ?_)
  · refine lv_tableIn (off := 128) (tgt := 129) hx hb dX2_body_1 q0 q1 (by rw [q]; rfl) (by decide) ?_
    refine lv_iload_n hx hb dX2_body_129 rfl (lv_at hl 1 rfl) ?_
    refine lv_iconst (v := 3) hx hb dX2_body_130 (by decide) ?_
    refine bc_gt (tgt := 142) hx hb hf dX2_body_131 (by decide) (fun hf => ?_) (fun hf => ?_)
    · refine lv_aload_n hx hb dX2_body_142 rfl (lv_at hl 0 rfl) ?_
      refine lv_iload_n hx hb dX2_body_143 rfl (lv_at hl 2 rfl) ?_
      refine lv_iconst (v := 5) hx hb dX2_body_144 (by decide) ?_
      refine lv_bipush (v := 98) hx hb dX2_body_145 (by decide) ?_
      refine lv_bipush (v := 121) hx hb dX2_body_147 (by decide) ?_
      obtain ⟨r93, k94, hf⟩ := bd1s hf
      refine cSl (rest := [.int 5, .int x2, .ref h]) X (met_M_w2 (g := g) k94) gs_X2_X2_w2 dy_X2_w2 ⟨⟨rfl, rfl⟩, Nat.le_of_ble_eq_true rfl, Nat.le_of_ble_eq_true rfl⟩ hP hD hS hl.1 rfl rfl ⟨Nat.zero_le _, Nat.zero_le _⟩ (Nat.le_of_ble_eq_true rfl) dX2_body_149 (fun H locs hP hD hS => ?_)
      refine lv_iconst (v := 5) hx hb dX2_body_152 (by decide) ?_
      obtain ⟨r95, c96, c97, c98, c99, c100, c101, k102, hf⟩ := bd7s hf
      refine cVi (rest := []) X (met_M_pair k102) gw_X2_X2_pair dy_X2_pair ⟨⟨rfl, rfl⟩, Nat.le_of_ble_eq_true rfl, Nat.le_of_ble_eq_true rfl⟩ hP hD hS hl.1 rcM rfl rfl ⟨Nat.zero_le _, Nat.zero_le _⟩ (Nat.le_of_ble_eq_true rfl) dX2_body_153 (fun H locs hP hD hS => ?_)
      cases hf
      exact rI X hP hD hS dX2_body_156
    · refine lv_aload_n hx hb dX2_body_134 rfl (lv_at hl 0 rfl) ?_
      refine lv_iload_n hx hb dX2_body_135 rfl (lv_at hl 2 rfl) ?_
      obtain ⟨r103, c104, c105, c106, c107, c108, c109, c110, c111, c112, c113, c114, k115, hf⟩ := bd12s hf
      refine cVi (rest := []) X (met_M_lawClause k115) gw_X2_X2_lawClause dy_X2_lawClause ⟨⟨rfl, rfl⟩, Nat.le_of_ble_eq_true rfl, Nat.le_of_ble_eq_true rfl⟩ hP hD hS hl.1 rcM rfl rfl ⟨Nat.zero_le _, Nat.zero_le _⟩ (Nat.le_of_ble_eq_true rfl) dX2_body_136 (fun H locs hP hD hS => ?_)
      refine lv_goto (tgt := 156) hx hb dX2_body_139 (by decide) ?_
      cases hf
      exact rI X hP hD hS dX2_body_156
  refine swc hf (fun q hf => ?_) (fun q2 hf => ?_)
  · refine lv_tableIn (off := 128) (tgt := 129) hx hb dX2_body_1 q0 q1 (by rw [q]; rfl) (by decide) ?_
    refine lv_iload_n hx hb dX2_body_129 rfl (lv_at hl 1 rfl) ?_
    refine lv_iconst (v := 3) hx hb dX2_body_130 (by decide) ?_
    refine bc_gt (tgt := 142) hx hb hf dX2_body_131 (by decide) (fun hf => ?_) (fun hf => ?_)
    · refine lv_aload_n hx hb dX2_body_142 rfl (lv_at hl 0 rfl) ?_
      refine lv_iload_n hx hb dX2_body_143 rfl (lv_at hl 2 rfl) ?_
      refine lv_iconst (v := 5) hx hb dX2_body_144 (by decide) ?_
      refine lv_bipush (v := 98) hx hb dX2_body_145 (by decide) ?_
      refine lv_bipush (v := 121) hx hb dX2_body_147 (by decide) ?_
      obtain ⟨r116, k117, hf⟩ := bd1s hf
      refine cSl (rest := [.int 5, .int x2, .ref h]) X (met_M_w2 (g := g) k117) gs_X2_X2_w2 dy_X2_w2 ⟨⟨rfl, rfl⟩, Nat.le_of_ble_eq_true rfl, Nat.le_of_ble_eq_true rfl⟩ hP hD hS hl.1 rfl rfl ⟨Nat.zero_le _, Nat.zero_le _⟩ (Nat.le_of_ble_eq_true rfl) dX2_body_149 (fun H locs hP hD hS => ?_)
      refine lv_iconst (v := 5) hx hb dX2_body_152 (by decide) ?_
      obtain ⟨r118, c119, c120, c121, c122, c123, c124, k125, hf⟩ := bd7s hf
      refine cVi (rest := []) X (met_M_pair k125) gw_X2_X2_pair dy_X2_pair ⟨⟨rfl, rfl⟩, Nat.le_of_ble_eq_true rfl, Nat.le_of_ble_eq_true rfl⟩ hP hD hS hl.1 rcM rfl rfl ⟨Nat.zero_le _, Nat.zero_le _⟩ (Nat.le_of_ble_eq_true rfl) dX2_body_153 (fun H locs hP hD hS => ?_)
      cases hf
      exact rI X hP hD hS dX2_body_156
    · refine lv_aload_n hx hb dX2_body_134 rfl (lv_at hl 0 rfl) ?_
      refine lv_iload_n hx hb dX2_body_135 rfl (lv_at hl 2 rfl) ?_
      obtain ⟨r126, c127, c128, c129, c130, c131, c132, c133, c134, c135, c136, c137, k138, hf⟩ := bd12s hf
      refine cVi (rest := []) X (met_M_lawClause k138) gw_X2_X2_lawClause dy_X2_lawClause ⟨⟨rfl, rfl⟩, Nat.le_of_ble_eq_true rfl, Nat.le_of_ble_eq_true rfl⟩ hP hD hS hl.1 rcM rfl rfl ⟨Nat.zero_le _, Nat.zero_le _⟩ (Nat.le_of_ble_eq_true rfl) dX2_body_136 (fun H locs hP hD hS => ?_)
      refine lv_goto (tgt := 156) hx hb dX2_body_139 (by decide) ?_
      cases hf
      exact rI X hP hD hS dX2_body_156
  refine swc hf (fun q hf => ?_) (fun q2 hf => ?_)
  · refine lv_tableIn (off := 128) (tgt := 129) hx hb dX2_body_1 q0 q1 (by rw [q]; rfl) (by decide) ?_
    refine lv_iload_n hx hb dX2_body_129 rfl (lv_at hl 1 rfl) ?_
    refine lv_iconst (v := 3) hx hb dX2_body_130 (by decide) ?_
    refine bc_gt (tgt := 142) hx hb hf dX2_body_131 (by decide) (fun hf => ?_) (fun hf => ?_)
    · refine lv_aload_n hx hb dX2_body_142 rfl (lv_at hl 0 rfl) ?_
      refine lv_iload_n hx hb dX2_body_143 rfl (lv_at hl 2 rfl) ?_
      refine lv_iconst (v := 5) hx hb dX2_body_144 (by decide) ?_
      refine lv_bipush (v := 98) hx hb dX2_body_145 (by decide) ?_
      refine lv_bipush (v := 121) hx hb dX2_body_147 (by decide) ?_
      obtain ⟨r139, k140, hf⟩ := bd1s hf
      refine cSl (rest := [.int 5, .int x2, .ref h]) X (met_M_w2 (g := g) k140) gs_X2_X2_w2 dy_X2_w2 ⟨⟨rfl, rfl⟩, Nat.le_of_ble_eq_true rfl, Nat.le_of_ble_eq_true rfl⟩ hP hD hS hl.1 rfl rfl ⟨Nat.zero_le _, Nat.zero_le _⟩ (Nat.le_of_ble_eq_true rfl) dX2_body_149 (fun H locs hP hD hS => ?_)
      refine lv_iconst (v := 5) hx hb dX2_body_152 (by decide) ?_
      obtain ⟨r141, c142, c143, c144, c145, c146, c147, k148, hf⟩ := bd7s hf
      refine cVi (rest := []) X (met_M_pair k148) gw_X2_X2_pair dy_X2_pair ⟨⟨rfl, rfl⟩, Nat.le_of_ble_eq_true rfl, Nat.le_of_ble_eq_true rfl⟩ hP hD hS hl.1 rcM rfl rfl ⟨Nat.zero_le _, Nat.zero_le _⟩ (Nat.le_of_ble_eq_true rfl) dX2_body_153 (fun H locs hP hD hS => ?_)
      cases hf
      exact rI X hP hD hS dX2_body_156
    · refine lv_aload_n hx hb dX2_body_134 rfl (lv_at hl 0 rfl) ?_
      refine lv_iload_n hx hb dX2_body_135 rfl (lv_at hl 2 rfl) ?_
      obtain ⟨r149, c150, c151, c152, c153, c154, c155, c156, c157, c158, c159, c160, k161, hf⟩ := bd12s hf
      refine cVi (rest := []) X (met_M_lawClause k161) gw_X2_X2_lawClause dy_X2_lawClause ⟨⟨rfl, rfl⟩, Nat.le_of_ble_eq_true rfl, Nat.le_of_ble_eq_true rfl⟩ hP hD hS hl.1 rcM rfl rfl ⟨Nat.zero_le _, Nat.zero_le _⟩ (Nat.le_of_ble_eq_true rfl) dX2_body_136 (fun H locs hP hD hS => ?_)
      refine lv_goto (tgt := 156) hx hb dX2_body_139 (by decide) ?_
      cases hf
      exact rI X hP hD hS dX2_body_156
  refine swc hf (fun q hf => ?_) (fun q2 hf => ?_)
  · refine lv_tableIn (off := 117) (tgt := 118) hx hb dX2_body_1 q0 q1 (by rw [q]; rfl) (by decide) ?_
    refine lv_aload_n hx hb dX2_body_118 rfl (lv_at hl 0 rfl) ?_
    refine lv_iload_n hx hb dX2_body_119 rfl (lv_at hl 2 rfl) ?_
    refine lv_iconst (v := 1) hx hb dX2_body_120 (by decide) ?_
    refine lv_iadd hx hb dX2_body_121 ?_
    refine lv_iconst (v := 1) hx hb dX2_body_122 (by decide) ?_
    refine lv_bipush (v := 60) hx hb dX2_body_123 (by decide) ?_
    obtain ⟨r162, c163, c164, c165, c166, c167, c168, k169, hf⟩ := bd7s hf
    refine cVi (rest := []) X (met_M_figure k169) gw_X2_X2_figure dy_X2_figure ⟨⟨rfl, rfl⟩, Nat.le_of_ble_eq_true rfl, Nat.le_of_ble_eq_true rfl⟩ hP hD hS hl.1 rcM rfl rfl ⟨Nat.zero_le _, Nat.zero_le _⟩ (Nat.le_of_ble_eq_true rfl) dX2_body_125 (fun H locs hP hD hS => ?_)
    cases hf
    exact rI X hP hD hS dX2_body_128
  exact nn hf
set_option maxHeartbeats 4000000 in
theorem met_M_feedNow {l : Launch} {g : gG} {h : Nat} {ad : Nat → Nat} {sTaped : Int32} {sFault : Int32} {sFaultP : Int32} {sAt : Int32} {sPlace : Int32} {sToken : Int32} {sNumber : Int32} {sWord : Int64} {sText0 : Int32} {sWritten : Int32} {sSort0 : Int32} {sPiled : Int32} {sOpens : Int32} {sWhole : Int32} {sOnce : Int32} {sIsW : Int32} {sDied : Int32} {cA : Nat → Int32} {cIm : Nat → Int32} {cTx : Nat → Int32} {cTp : Nat → Int32} {cPl : Nat → Int32} {cNm : Nat → Int32} {cVa : Nat → Int64} {cTr : Nat → Int32} {cAs : Nat → Int32} {cLi : Nat → Int32} {cSa : Nat → Int32} {cHd : Nat → Int32} {x1 : Int32} {x2 : Int32} {ncA : Nat → Int32} {ncNm : Nat → Int32} {ncVa : Nat → Int64} {ncTr : Nat → Int32} {φ : Nat} (hf : M_feedNow φ sIsW cA cTx cNm cVa cTr x1 x2 = some (ncA, ncNm, ncVa, ncTr)) : CC l yX2_feedNow (ws_ yX2_feedNow cX2_feedNow 4 none) ({ frames := 7, cells := 0, slots := 0, locals := 164 } : Room) g [.ref h, .int x1, .int x2] (mW g h ad sTaped sFault sFaultP sAt sPlace sToken sNumber sWord sText0 sWritten sSort0 sPiled sOpens sWhole sOnce sIsW sDied cA cIm cTx cTp cPl cNm cVa cTr cAs cLi cSa cHd) none (mW g h ad sTaped sFault sFaultP sAt sPlace sToken sNumber sWord sText0 sWritten sSort0 sPiled sOpens sWhole sOnce sIsW sDied ncA cIm cTx cTp cPl ncNm ncVa ncTr cAs cLi cSa cHd) 0 0 := by
  refine CC.of RX2 rfl plain_X2 (Nat.le_of_ble_eq_true rfl) (fun p e s m below meth c A ls X hP hD hS hl => ?_)
  have hx := X.1
  have hb := X.2.1
  have hown := X.2.2.2.2.2.1
  have hts := X.2.2.2.2.2.2.1
  have hl : lv_has ls 4 [(0, .ref h), (1, .int x1), (2, .int x2)] := hl
  unfold M_feedNow at hf
  refine lv_aload_n hx hb dX2_feedNow_0 rfl (lv_at hl 0 rfl) ?_
  refine lv_iload_n hx hb dX2_feedNow_1 rfl (lv_at hl 1 rfl) ?_
  refine lv_iconst (v := 4) hx hb dX2_feedNow_2 (by decide) ?_
  refine lv_iconst (v := 0) hx hb dX2_feedNow_3 (by decide) ?_
  obtain ⟨c1, k2, hf⟩ := bd1s hf
  refine cVv (rest := []) X (met_M_put k2) gw_X2_X2_put dy_X2_put ⟨⟨rfl, rfl⟩, Nat.le_of_ble_eq_true rfl, Nat.le_of_ble_eq_true rfl⟩ hP hD hS hl.1 rcM rfl rfl ⟨Nat.zero_le _, Nat.zero_le _⟩ (Nat.le_of_ble_eq_true rfl) dX2_feedNow_4 (fun H locs hP hD hS => ?_)
  refine lv_aload_n hx hb dX2_feedNow_7 rfl (lv_at hl 0 rfl) ?_
  refine lv_iload_n hx hb dX2_feedNow_8 rfl (lv_at hl 1 rfl) ?_
  refine lv_iconst (v := 2) hx hb dX2_feedNow_9 (by decide) ?_
  obtain ⟨c3, k4, hf⟩ := bd1s hf
  refine cVv (rest := []) X (met_M_write k4) gw_X2_X2_write dy_X2_write ⟨⟨rfl, rfl⟩, Nat.le_of_ble_eq_true rfl, Nat.le_of_ble_eq_true rfl⟩ hP hD hS hl.1 rcM rfl rfl ⟨Nat.zero_le _, Nat.zero_le _⟩ (Nat.le_of_ble_eq_true rfl) dX2_feedNow_10 (fun H locs hP hD hS => ?_)
  refine lv_aload_n hx hb dX2_feedNow_13 rfl (lv_at hl 0 rfl) ?_
  refine lv_iload_n hx hb dX2_feedNow_14 rfl (lv_at hl 2 rfl) ?_
  refine lv_bipush (v := 6) hx hb dX2_feedNow_15 (by decide) ?_
  obtain ⟨r5, k6, hf⟩ := bd1s hf
  refine cVi (rest := []) X (met_M_get k6) gw_X2_X2_get dy_X2_get ⟨⟨rfl, rfl⟩, Nat.le_of_ble_eq_true rfl, Nat.le_of_ble_eq_true rfl⟩ hP hD hS hl.1 rcM rfl rfl ⟨Nat.zero_le _, Nat.zero_le _⟩ (Nat.le_of_ble_eq_true rfl) dX2_feedNow_17 (fun H locs hP hD hS => ?_)
  refine lv_iconst (v := 1) hx hb dX2_feedNow_20 (by decide) ?_
  refine bc_ne (tgt := 25) hx hb hf dX2_feedNow_21 (by decide) (fun hf => ?_) (fun hf => ?_)
  · refine lv_aload_n hx hb dX2_feedNow_25 rfl (lv_at hl 0 rfl) ?_
    refine lv_iload_n hx hb dX2_feedNow_26 rfl (lv_at hl 1 rfl) ?_
    obtain ⟨r7, c8, c9, c10, k11, hf⟩ := bd4s hf
    refine cVi (rest := []) X (met_M_findsOf k11) gw_X2_X2_findsOf dy_X2_findsOf ⟨⟨rfl, rfl⟩, Nat.le_of_ble_eq_true rfl, Nat.le_of_ble_eq_true rfl⟩ hP hD hS hl.1 rcM rfl rfl ⟨Nat.zero_le _, Nat.zero_le _⟩ (Nat.le_of_ble_eq_true rfl) dX2_feedNow_27 (fun H locs hP hD hS => ?_)
    refine lv_istore_n (lv' := [(3, .int r7), (0, .ref h), (1, .int x1), (2, .int x2)]) hx hb dX2_feedNow_30 rfl hl (by decide) rfl (fun ls hl => ?_)
    refine lv_aload_n hx hb dX2_feedNow_31 rfl (lv_at hl 1 rfl) ?_
    refine lv_bipush (v := 10) hx hb dX2_feedNow_32 (by decide) ?_
    obtain ⟨r12, c13, k14, hf⟩ := bd2s hf
    refine cVi (rest := []) X (met_M_drawn k14) gw_X2_X2_drawn dy_X2_drawn ⟨⟨rfl, rfl⟩, Nat.le_of_ble_eq_true rfl, Nat.le_of_ble_eq_true rfl⟩ hP hD hS hl.1 rcM rfl rfl ⟨Nat.zero_le _, Nat.zero_le _⟩ (Nat.le_of_ble_eq_true rfl) dX2_feedNow_34 (fun H locs hP hD hS => ?_)
    refine lv_iload_n hx hb dX2_feedNow_37 rfl (lv_at hl 0 rfl) ?_
    refine bc_ge (tgt := 61) hx hb hf dX2_feedNow_38 (by decide) (fun hf => ?_) (fun hf => ?_)
    · cases hf
      exact rV X hP hD hS dX2_feedNow_61
    · refine lv_aload_n hx hb dX2_feedNow_41 rfl (lv_at hl 1 rfl) ?_
      refine lv_iload_n hx hb dX2_feedNow_42 rfl (lv_at hl 3 rfl) ?_
      refine lv_iconst (v := 3) hx hb dX2_feedNow_43 (by decide) ?_
      refine lv_aload_n hx hb dX2_feedNow_44 rfl (lv_at hl 1 rfl) ?_
      refine lv_iload_n hx hb dX2_feedNow_45 rfl (lv_at hl 3 rfl) ?_
      refine lv_iconst (v := 3) hx hb dX2_feedNow_46 (by decide) ?_
      obtain ⟨r15, k16, hf⟩ := bd1s hf
      refine cVi (rest := [.int 3, .int x2, .ref h]) X (met_M_get k16) gw_X2_X2_get dy_X2_get ⟨⟨rfl, rfl⟩, Nat.le_of_ble_eq_true rfl, Nat.le_of_ble_eq_true rfl⟩ hP hD hS hl.1 rcM rfl rfl ⟨Nat.zero_le _, Nat.zero_le _⟩ (Nat.le_of_ble_eq_true rfl) dX2_feedNow_47 (fun H locs hP hD hS => ?_)
      refine lv_iconst (v := 1) hx hb dX2_feedNow_50 (by decide) ?_
      refine lv_iadd hx hb dX2_feedNow_51 ?_
      refine lv_i2l hx hb dX2_feedNow_52 rfl ?_
      refine lv_iconst (v := 0) hx hb dX2_feedNow_53 (by decide) ?_
      refine lv_iconst (v := 4) hx hb dX2_feedNow_54 (by decide) ?_
      obtain ⟨r17, k18, hf⟩ := bd1s hf
      refine cSi (rest := [.int 3, .int x2, .ref h]) X (met_M_cut (g := g) k18) gs_X2_X2_cut dy_X2_cut ⟨⟨rfl, rfl⟩, Nat.le_of_ble_eq_true rfl, Nat.le_of_ble_eq_true rfl⟩ hP hD hS hl.1 rfl rfl ⟨Nat.zero_le _, Nat.zero_le _⟩ (Nat.le_of_ble_eq_true rfl) dX2_feedNow_55 (fun H locs hP hD hS => ?_)
      obtain ⟨c19, k20, hf⟩ := bd1s hf
      refine cVv (rest := []) X (met_M_put k20) gw_X2_X2_put dy_X2_put ⟨⟨rfl, rfl⟩, Nat.le_of_ble_eq_true rfl, Nat.le_of_ble_eq_true rfl⟩ hP hD hS hl.1 rcM rfl rfl ⟨Nat.zero_le _, Nat.zero_le _⟩ (Nat.le_of_ble_eq_true rfl) dX2_feedNow_58 (fun H locs hP hD hS => ?_)
      cases hf
      exact rV X hP hD hS dX2_feedNow_61
  · cases hf
    exact rV X hP hD hS dX2_feedNow_24
theorem gw_X2_X2_live : GoodIn lw_all (wsV RX2 340 RX2 yX2_live (ws_ yX2_live cX2_live 3 none)) := lw_V q1853 q1855 qs125 q148 q1856
theorem dy_X2_live : Dy yX2_live RX2 1 := by decide +kernel
set_option maxHeartbeats 4000000 in
theorem met_M_goOn {l : Launch} {g : gG} {h : Nat} {ad : Nat → Nat} {sTaped : Int32} {sFault : Int32} {sFaultP : Int32} {sAt : Int32} {sPlace : Int32} {sToken : Int32} {sNumber : Int32} {sWord : Int64} {sText0 : Int32} {sWritten : Int32} {sSort0 : Int32} {sPiled : Int32} {sOpens : Int32} {sWhole : Int32} {sOnce : Int32} {sIsW : Int32} {sDied : Int32} {cA : Nat → Int32} {cIm : Nat → Int32} {cTx : Nat → Int32} {cTp : Nat → Int32} {cPl : Nat → Int32} {cNm : Nat → Int32} {cVa : Nat → Int64} {cTr : Nat → Int32} {cAs : Nat → Int32} {cLi : Nat → Int32} {cSa : Nat → Int32} {cHd : Nat → Int32} {nsDied : Int32} {ncA : Nat → Int32} {ncNm : Nat → Int32} {ncVa : Nat → Int64} {ncTr : Nat → Int32} {φ : Nat} (hf : M_goOn φ sIsW sDied cA cTx cNm cVa cTr = some (nsDied, ncA, ncNm, ncVa, ncTr)) : CC l yX2_goOn (ws_ yX2_goOn cX2_goOn 2 none) ({ frames := 8, cells := 0, slots := 0, locals := 186 } : Room) g [.ref h] (mW g h ad sTaped sFault sFaultP sAt sPlace sToken sNumber sWord sText0 sWritten sSort0 sPiled sOpens sWhole sOnce sIsW sDied cA cIm cTx cTp cPl cNm cVa cTr cAs cLi cSa cHd) none (mW g h ad sTaped sFault sFaultP sAt sPlace sToken sNumber sWord sText0 sWritten sSort0 sPiled sOpens sWhole sOnce sIsW nsDied ncA cIm cTx cTp cPl ncNm ncVa ncTr cAs cLi cSa cHd) 0 0 := by
  refine CC.of RX2 rfl plain_X2 (Nat.le_of_ble_eq_true rfl) (fun p e s m below meth c A ls X hP hD hS hl => ?_)
  have hx := X.1
  have hb := X.2.1
  have hown := X.2.2.2.2.2.1
  have hts := X.2.2.2.2.2.2.1
  have hl : lv_has ls 2 [(0, .ref h)] := hl
  unfold M_goOn at hf
  refine lv_iconst (v := 0) hx hb dX2_goOn_0 (by decide) ?_
  refine lv_istore_n (lv' := [(1, .int 0), (0, .ref h)]) hx hb dX2_goOn_1 rfl hl (by decide) rfl (fun ls hl => ?_)
  obtain ⟨c7, c8, c9, c10, c11, k16, hf⟩ := bd5s hf
  have hE13 : ∀ (H : Heap) (locs : List Loc) (ls : Array Slot), va_P g.1 vwCl (mW g h ad sTaped sFault sFaultP sAt sPlace sToken sNumber sWord sText0 sWritten sSort0 sPiled sOpens sWhole sOnce sIsW c7 c8 cIm cTx cTp cPl c9 c10 c11 cAs cLi cSa cHd) H → va_D A (mW g h ad sTaped sFault sFaultP sAt sPlace sToken sNumber sWord sText0 sWritten sSort0 sPiled sOpens sWhole sOnce sIsW c7 c8 cIm cTx cTp cPl c9 c10 c11 cAs cLi cSa cHd) → va_S A s.heap H locs → lv_has ls 2 [(0, .ref h)] → W p l e ({ frames := 8, cells := 0, slots := 0, locals := 186 } : Room) s m ([.ref h] : List Value).toArray below meth c H locs 0 0 (MQ below (QQ g none (mW g h ad sTaped sFault sFaultP sAt sPlace sToken sNumber sWord sText0 sWritten sSort0 sPiled sOpens sWhole sOnce sIsW nsDied ncA cIm cTx cTp cPl ncNm ncVa ncTr cAs cLi cSa cHd) A) ([.ref h] : List Value).toArray s 0 0 A) (F0 m 23 ls []) := by
    intro H locs ls hP hD hS hl
    refine lv_aload_n hx hb dX2_goOn_23 rfl (lv_at hl 0 rfl) ?_
    refine gM0 X hP dX2_goOn_24 ?_
    refine lv_bipush (v := 10) hx hb dX2_goOn_27 (by decide) ?_
    refine lv_dup2_11 hx hb dX2_goOn_29 rfl rfl ?_
    obtain ⟨v17, ev17, bv17, hf⟩ := rds hf
    refine lM_cA X hP ev17 bv17 dX2_goOn_30 ?_
    refine lv_iconst (v := 1) hx hb dX2_goOn_31 (by decide) ?_
    refine lv_iadd hx hb dX2_goOn_32 ?_
    obtain ⟨v18, ev18, hf⟩ := lts hf
    refine tpi ev18 ?_
    obtain ⟨c19, ec19, bc19, hf⟩ := wrs hf
    refine sM_cA X hP hD hS ec19 bc19 dX2_goOn_33 (fun H locs hP hD hS => ?_)
    cases hf
    exact rV X hP hD hS dX2_goOn_34
  have hL14 : ∀ (n12 : Nat) (v1 : Int32) (c2 : Int32) (c3 : Nat → Int32) (c4 : Nat → Int32) (c5 : Nat → Int64) (c6 : Nat → Int32), M_goOn_L2 φ sIsW cTx n12 v1 c2 c3 c4 c5 c6 = some (c7, c8, c9, c10, c11) → ∀ (H : Heap) (locs : List Loc) (ls : Array Slot), va_P g.1 vwCl (mW g h ad sTaped sFault sFaultP sAt sPlace sToken sNumber sWord sText0 sWritten sSort0 sPiled sOpens sWhole sOnce sIsW c2 c3 cIm cTx cTp cPl c4 c5 c6 cAs cLi cSa cHd) H → va_D A (mW g h ad sTaped sFault sFaultP sAt sPlace sToken sNumber sWord sText0 sWritten sSort0 sPiled sOpens sWhole sOnce sIsW c2 c3 cIm cTx cTp cPl c4 c5 c6 cAs cLi cSa cHd) → va_S A s.heap H locs → lv_has ls 2 [(0, .ref h), (1, .int v1)] → W p l e ({ frames := 8, cells := 0, slots := 0, locals := 186 } : Room) s m ([.ref h] : List Value).toArray below meth c H locs 0 0 (MQ below (QQ g none (mW g h ad sTaped sFault sFaultP sAt sPlace sToken sNumber sWord sText0 sWritten sSort0 sPiled sOpens sWhole sOnce sIsW nsDied ncA cIm cTx cTp cPl ncNm ncVa ncTr cAs cLi cSa cHd) A) ([.ref h] : List Value).toArray s 0 0 A) (F0 m 2 ls []) := by
    intro n12
    induction n12 with
    | zero =>
      intro v1 c2 c3 c4 c5 c6 hf
      exact nn hf
    | succ n12 ih15 =>
      intro v1 c2 c3 c4 c5 c6 hf H locs ls hP hD hS hl
      rw [M_goOn_L2] at hf
      refine lv_iload_n hx hb dX2_goOn_2 rfl (lv_at hl 1 rfl) ?_
      refine lv_aload_n hx hb dX2_goOn_3 rfl (lv_at hl 0 rfl) ?_
      refine gM0 X hP dX2_goOn_4 ?_
      refine lv_iconst (v := 1) hx hb dX2_goOn_7 (by decide) ?_
      obtain ⟨v20, ev20, bv20, hf⟩ := rds hf
      refine lM_cA X hP ev20 bv20 dX2_goOn_8 ?_
      refine bc_ge (tgt := 23) hx hb hf dX2_goOn_9 (by decide) (fun hf => ?_) (fun hf => ?_)
      · cases hf
        exact hE13 _ _ _ hP hD hS (lv_sub hl [0] rfl)
      · refine lv_aload_n hx hb dX2_goOn_12 rfl (lv_at hl 0 rfl) ?_
        refine lv_iload_n hx hb dX2_goOn_13 rfl (lv_at hl 1 rfl) ?_
        obtain ⟨c21, c22, c23, c24, c25, k26, hf⟩ := bd5s hf
        refine cVv (rest := []) X (met_M_live k26) gw_X2_X2_live dy_X2_live ⟨⟨rfl, rfl⟩, Nat.le_of_ble_eq_true rfl, Nat.le_of_ble_eq_true rfl⟩ hP hD hS hl.1 rcM rfl rfl ⟨Nat.zero_le _, Nat.zero_le _⟩ (Nat.le_of_ble_eq_true rfl) dX2_goOn_14 (fun H locs hP hD hS => ?_)
        obtain ⟨v27, ev27, hf⟩ := lts hf
        refine lv_iinc (v := v27) (lv' := [(1, .int v27), (0, .ref h)]) hx hb dX2_goOn_17 hl (k := 1) rfl (by rw [ev27]; rfl) (by decide) rfl (fun ls hl => ?_)
        refine lv_goto (tgt := 2) hx hb dX2_goOn_20 (by decide) ?_
        exact ih15 _ _ _ _ _ _ hf _ _ _ hP hD hS (lv_sub hl [1, 0] rfl)
  exact hL14 _ _ _ _ _ _ _ k16 _ _ _ hP hD hS (lv_sub hl [1, 0] rfl)
theorem gw_X2_X2_feedNow : GoodIn lw_all (wsV RX2 364 RX2 yX2_feedNow (ws_ yX2_feedNow cX2_feedNow 4 none)) := lw_V q1742 q1744 qs106 q148 q1745
theorem dy_X2_feedNow : Dy yX2_feedNow RX2 2 := by decide +kernel
theorem gw_X2_X2_goOn : GoodIn lw_all (wsV RX2 382 RX2 yX2_goOn (ws_ yX2_goOn cX2_goOn 2 none)) := lw_V q1849 q1851 qs124 q148 q1852
theorem dy_X2_goOn : Dy yX2_goOn RX2 0 := by decide +kernel
set_option maxHeartbeats 4000000 in
theorem met_M_happens {l : Launch} {g : gG} {h : Nat} {ad : Nat → Nat} {sTaped : Int32} {sFault : Int32} {sFaultP : Int32} {sAt : Int32} {sPlace : Int32} {sToken : Int32} {sNumber : Int32} {sWord : Int64} {sText0 : Int32} {sWritten : Int32} {sSort0 : Int32} {sPiled : Int32} {sOpens : Int32} {sWhole : Int32} {sOnce : Int32} {sIsW : Int32} {sDied : Int32} {cA : Nat → Int32} {cIm : Nat → Int32} {cTx : Nat → Int32} {cTp : Nat → Int32} {cPl : Nat → Int32} {cNm : Nat → Int32} {cVa : Nat → Int64} {cTr : Nat → Int32} {cAs : Nat → Int32} {cLi : Nat → Int32} {cSa : Nat → Int32} {cHd : Nat → Int32} {x1 : Int32} {nsDied : Int32} {ncA : Nat → Int32} {ncNm : Nat → Int32} {ncVa : Nat → Int64} {ncTr : Nat → Int32} {φ : Nat} (hf : M_happens φ sIsW sDied cA cTx cNm cVa cTr x1 = some (nsDied, ncA, ncNm, ncVa, ncTr)) : CC l yX2_happens (ws_ yX2_happens cX2_happens 5 none) ({ frames := 9, cells := 0, slots := 0, locals := 207 } : Room) g [.ref h, .int x1] (mW g h ad sTaped sFault sFaultP sAt sPlace sToken sNumber sWord sText0 sWritten sSort0 sPiled sOpens sWhole sOnce sIsW sDied cA cIm cTx cTp cPl cNm cVa cTr cAs cLi cSa cHd) none (mW g h ad sTaped sFault sFaultP sAt sPlace sToken sNumber sWord sText0 sWritten sSort0 sPiled sOpens sWhole sOnce sIsW nsDied ncA cIm cTx cTp cPl ncNm ncVa ncTr cAs cLi cSa cHd) 0 0 := by
  refine CC.of RX2 rfl plain_X2 (Nat.le_of_ble_eq_true rfl) (fun p e s m below meth c A ls X hP hD hS hl => ?_)
  have hx := X.1
  have hb := X.2.1
  have hown := X.2.2.2.2.2.1
  have hts := X.2.2.2.2.2.2.1
  have hl : lv_has ls 5 [(0, .ref h), (1, .int x1)] := hl
  unfold M_happens at hf
  refine lv_iload_n hx hb dX2_happens_0 rfl (lv_at hl 1 rfl) ?_
  refine lv_aload_n hx hb dX2_happens_1 rfl (lv_at hl 0 rfl) ?_
  refine gM0 X hP dX2_happens_2 ?_
  refine lv_iconst (v := 1) hx hb dX2_happens_5 (by decide) ?_
  obtain ⟨v1, ev1, bv1, hf⟩ := rds hf
  refine lM_cA X hP ev1 bv1 dX2_happens_6 ?_
  obtain ⟨z2, hf⟩ := nzs hf
  refine lv_irem hx hb dX2_happens_7 z2 ?_
  obtain ⟨v3, ev3, hf⟩ := lts hf
  refine tpi ev3 ?_
  refine lv_istore_n (lv' := [(2, .int v3), (0, .ref h), (1, .int x1)]) hx hb dX2_happens_8 rfl hl (by decide) rfl (fun ls hl => ?_)
  refine lv_iload_n hx hb dX2_happens_9 rfl (lv_at hl 2 rfl) ?_
  refine lv_bipush (v := 7) hx hb dX2_happens_10 (by decide) ?_
  refine lv_idiv hx hb dX2_happens_12 (by decide) ?_
  refine lv_aload_n hx hb dX2_happens_13 rfl (lv_at hl 1 rfl) ?_
  refine gM0 X hP dX2_happens_14 ?_
  refine lv_iconst (v := 0) hx hb dX2_happens_17 (by decide) ?_
  obtain ⟨v4, ev4, bv4, hf⟩ := rds hf
  refine lM_cA X hP ev4 bv4 dX2_happens_18 ?_
  obtain ⟨z5, hf⟩ := nzs hf
  refine lv_irem hx hb dX2_happens_19 z5 ?_
  obtain ⟨v6, ev6, hf⟩ := lts hf
  refine tpi ev6 ?_
  refine lv_istore_n (lv' := [(3, .int v6), (2, .int v3), (0, .ref h), (1, .int x1)]) hx hb dX2_happens_20 rfl hl (by decide) rfl (fun ls hl => ?_)
  refine lv_iload_n hx hb dX2_happens_21 rfl (lv_at hl 3 rfl) ?_
  refine lv_iconst (v := 5) hx hb dX2_happens_22 (by decide) ?_
  refine lv_idiv hx hb dX2_happens_23 (by decide) ?_
  refine lv_aload_n hx hb dX2_happens_24 rfl (lv_at hl 2 rfl) ?_
  refine gM0 X hP dX2_happens_25 ?_
  refine lv_iconst (v := 1) hx hb dX2_happens_28 (by decide) ?_
  obtain ⟨v7, ev7, bv7, hf⟩ := rds hf
  refine lM_cA X hP ev7 bv7 dX2_happens_29 ?_
  obtain ⟨z8, hf⟩ := nzs hf
  refine lv_irem hx hb dX2_happens_30 z8 ?_
  obtain ⟨v9, ev9, hf⟩ := lts hf
  refine tpi ev9 ?_
  refine lv_istore (lv' := [(4, .int v9), (3, .int v6), (2, .int v3), (0, .ref h), (1, .int x1)]) hx hb dX2_happens_31 hl (by decide) rfl (fun ls hl => ?_)
  refine lv_iload_n hx hb dX2_happens_33 rfl (lv_at hl 4 rfl) ?_
  refine lv_bipush (v := 7) hx hb dX2_happens_34 (by decide) ?_
  refine lv_irem hx hb dX2_happens_36 (by decide) ?_
  obtain ⟨v10, ev10, hf⟩ := lts hf
  refine tpi ev10 ?_
  refine swc hf (fun q hf => ?_) (fun q0 hf => ?_)
  · refine lv_tableOut (tgt := 178) hx hb dX2_happens_37 (Or.inl q) (by decide) ?_
    refine lv_aload_n hx hb dX2_happens_178 rfl (lv_at hl 3 rfl) ?_
    refine lv_iload_n hx hb dX2_happens_179 rfl (lv_at hl 2 rfl) ?_
    refine lv_iload_n hx hb dX2_happens_180 rfl (lv_at hl 1 rfl) ?_
    obtain ⟨r11, k12, hf⟩ := bd1s hf
    refine cVi (rest := []) X (met_M_canCall k12) gw_X2_X2_canCall dy_X2_canCall ⟨⟨rfl, rfl⟩, Nat.le_of_ble_eq_true rfl, Nat.le_of_ble_eq_true rfl⟩ hP hD hS hl.1 rcM rfl rfl ⟨Nat.zero_le _, Nat.zero_le _⟩ (Nat.le_of_ble_eq_true rfl) dX2_happens_181 (fun H locs hP hD hS => ?_)
    refine bq_eq (tgt := 193) hx hb hf dX2_happens_184 (by decide) (fun hf => ?_) (fun hf => ?_)
    · cases hf
      exact rV X hP hD hS dX2_happens_193
    · refine lv_aload_n hx hb dX2_happens_187 rfl (lv_at hl 3 rfl) ?_
      refine lv_iload_n hx hb dX2_happens_188 rfl (lv_at hl 2 rfl) ?_
      refine lv_iload_n hx hb dX2_happens_189 rfl (lv_at hl 1 rfl) ?_
      obtain ⟨c13, k14, hf⟩ := bd1s hf
      refine cVv (rest := []) X (met_M_callNow k14) gw_X2_X2_callNow dy_X2_callNow ⟨⟨rfl, rfl⟩, Nat.le_of_ble_eq_true rfl, Nat.le_of_ble_eq_true rfl⟩ hP hD hS hl.1 rcM rfl rfl ⟨Nat.zero_le _, Nat.zero_le _⟩ (Nat.le_of_ble_eq_true rfl) dX2_happens_190 (fun H locs hP hD hS => ?_)
      cases hf
      exact rV X hP hD hS dX2_happens_193
  refine swc hf (fun q hf => ?_) (fun q1 hf => ?_)
  · refine lv_tableOut (tgt := 178) hx hb dX2_happens_37 (Or.inr q) (by decide) ?_
    refine lv_aload_n hx hb dX2_happens_178 rfl (lv_at hl 3 rfl) ?_
    refine lv_iload_n hx hb dX2_happens_179 rfl (lv_at hl 2 rfl) ?_
    refine lv_iload_n hx hb dX2_happens_180 rfl (lv_at hl 1 rfl) ?_
    obtain ⟨r15, k16, hf⟩ := bd1s hf
    refine cVi (rest := []) X (met_M_canCall k16) gw_X2_X2_canCall dy_X2_canCall ⟨⟨rfl, rfl⟩, Nat.le_of_ble_eq_true rfl, Nat.le_of_ble_eq_true rfl⟩ hP hD hS hl.1 rcM rfl rfl ⟨Nat.zero_le _, Nat.zero_le _⟩ (Nat.le_of_ble_eq_true rfl) dX2_happens_181 (fun H locs hP hD hS => ?_)
    refine bq_eq (tgt := 193) hx hb hf dX2_happens_184 (by decide) (fun hf => ?_) (fun hf => ?_)
    · cases hf
      exact rV X hP hD hS dX2_happens_193
    · refine lv_aload_n hx hb dX2_happens_187 rfl (lv_at hl 3 rfl) ?_
      refine lv_iload_n hx hb dX2_happens_188 rfl (lv_at hl 2 rfl) ?_
      refine lv_iload_n hx hb dX2_happens_189 rfl (lv_at hl 1 rfl) ?_
      obtain ⟨c17, k18, hf⟩ := bd1s hf
      refine cVv (rest := []) X (met_M_callNow k18) gw_X2_X2_callNow dy_X2_callNow ⟨⟨rfl, rfl⟩, Nat.le_of_ble_eq_true rfl, Nat.le_of_ble_eq_true rfl⟩ hP hD hS hl.1 rcM rfl rfl ⟨Nat.zero_le _, Nat.zero_le _⟩ (Nat.le_of_ble_eq_true rfl) dX2_happens_190 (fun H locs hP hD hS => ?_)
      cases hf
      exact rV X hP hD hS dX2_happens_193
  refine swc hf (fun q hf => ?_) (fun q2 hf => ?_)
  · refine lv_tableIn (off := 35) (tgt := 72) hx hb dX2_happens_37 q0 q1 (by rw [q]; rfl) (by decide) ?_
    refine lv_aload_n hx hb dX2_happens_72 rfl (lv_at hl 3 rfl) ?_
    refine lv_iload_n hx hb dX2_happens_73 rfl (lv_at hl 2 rfl) ?_
    refine lv_iload_n hx hb dX2_happens_74 rfl (lv_at hl 1 rfl) ?_
    obtain ⟨r19, k20, hf⟩ := bd1s hf
    refine cVi (rest := []) X (met_M_canMove k20) gw_X2_X2_canMove dy_X2_canMove ⟨⟨rfl, rfl⟩, Nat.le_of_ble_eq_true rfl, Nat.le_of_ble_eq_true rfl⟩ hP hD hS hl.1 rcM rfl rfl ⟨Nat.zero_le _, Nat.zero_le _⟩ (Nat.le_of_ble_eq_true rfl) dX2_happens_75 (fun H locs hP hD hS => ?_)
    refine bq_eq (tgt := 193) hx hb hf dX2_happens_78 (by decide) (fun hf => ?_) (fun hf => ?_)
    · cases hf
      exact rV X hP hD hS dX2_happens_193
    · refine lv_aload_n hx hb dX2_happens_81 rfl (lv_at hl 3 rfl) ?_
      refine lv_iload_n hx hb dX2_happens_82 rfl (lv_at hl 2 rfl) ?_
      refine lv_iconst (v := 0) hx hb dX2_happens_83 (by decide) ?_
      refine lv_iload_n hx hb dX2_happens_84 rfl (lv_at hl 1 rfl) ?_
      obtain ⟨c21, k22, hf⟩ := bd1s hf
      refine cVv (rest := []) X (met_M_put k22) gw_X2_X2_put dy_X2_put ⟨⟨rfl, rfl⟩, Nat.le_of_ble_eq_true rfl, Nat.le_of_ble_eq_true rfl⟩ hP hD hS hl.1 rcM rfl rfl ⟨Nat.zero_le _, Nat.zero_le _⟩ (Nat.le_of_ble_eq_true rfl) dX2_happens_85 (fun H locs hP hD hS => ?_)
      refine lv_goto (tgt := 193) hx hb dX2_happens_88 (by decide) ?_
      cases hf
      exact rV X hP hD hS dX2_happens_193
  refine swc hf (fun q hf => ?_) (fun q2 hf => ?_)
  · refine lv_tableIn (off := 54) (tgt := 91) hx hb dX2_happens_37 q0 q1 (by rw [q]; rfl) (by decide) ?_
    refine lv_aload_n hx hb dX2_happens_91 rfl (lv_at hl 3 rfl) ?_
    refine lv_iload_n hx hb dX2_happens_92 rfl (lv_at hl 2 rfl) ?_
    refine lv_iload hx hb dX2_happens_93 (lv_at hl 0 rfl) ?_
    obtain ⟨r23, k24, hf⟩ := bd1s hf
    refine cVi (rest := []) X (met_M_areBeside k24) gw_X2_X2_areBeside dy_X2_areBeside ⟨⟨rfl, rfl⟩, Nat.le_of_ble_eq_true rfl, Nat.le_of_ble_eq_true rfl⟩ hP hD hS hl.1 rcM rfl rfl ⟨Nat.zero_le _, Nat.zero_le _⟩ (Nat.le_of_ble_eq_true rfl) dX2_happens_95 (fun H locs hP hD hS => ?_)
    refine bq_eq (tgt := 193) hx hb hf dX2_happens_98 (by decide) (fun hf => ?_) (fun hf => ?_)
    · cases hf
      exact rV X hP hD hS dX2_happens_193
    · refine lv_aload_n hx hb dX2_happens_101 rfl (lv_at hl 3 rfl) ?_
      refine lv_iload_n hx hb dX2_happens_102 rfl (lv_at hl 2 rfl) ?_
      refine lv_iload hx hb dX2_happens_103 (lv_at hl 0 rfl) ?_
      obtain ⟨c25, c26, c27, c28, k29, hf⟩ := bd4s hf
      refine cVv (rest := []) X (met_M_feedNow k29) gw_X2_X2_feedNow dy_X2_feedNow ⟨⟨rfl, rfl⟩, Nat.le_of_ble_eq_true rfl, Nat.le_of_ble_eq_true rfl⟩ hP hD hS hl.1 rcM rfl rfl ⟨Nat.zero_le _, Nat.zero_le _⟩ (Nat.le_of_ble_eq_true rfl) dX2_happens_105 (fun H locs hP hD hS => ?_)
      refine lv_goto (tgt := 193) hx hb dX2_happens_108 (by decide) ?_
      cases hf
      exact rV X hP hD hS dX2_happens_193
  refine swc hf (fun q hf => ?_) (fun q2 hf => ?_)
  · refine lv_tableIn (off := 74) (tgt := 111) hx hb dX2_happens_37 q0 q1 (by rw [q]; rfl) (by decide) ?_
    refine lv_iload_n hx hb dX2_happens_111 rfl (lv_at hl 4 rfl) ?_
    refine lv_iconst (v := 4) hx hb dX2_happens_112 (by decide) ?_
    refine lv_irem hx hb dX2_happens_113 (by decide) ?_
    refine bq_ne (tgt := 193) hx hb hf dX2_happens_114 (by decide) (fun hf => ?_) (fun hf => ?_)
    · cases hf
      exact rV X hP hD hS dX2_happens_193
    · refine lv_aload_n hx hb dX2_happens_117 rfl (lv_at hl 3 rfl) ?_
      refine lv_iload_n hx hb dX2_happens_118 rfl (lv_at hl 2 rfl) ?_
      refine lv_iload hx hb dX2_happens_119 (lv_at hl 0 rfl) ?_
      obtain ⟨r30, k31, hf⟩ := bd1s hf
      refine cVi (rest := []) X (met_M_areBeside k31) gw_X2_X2_areBeside dy_X2_areBeside ⟨⟨rfl, rfl⟩, Nat.le_of_ble_eq_true rfl, Nat.le_of_ble_eq_true rfl⟩ hP hD hS hl.1 rcM rfl rfl ⟨Nat.zero_le _, Nat.zero_le _⟩ (Nat.le_of_ble_eq_true rfl) dX2_happens_121 (fun H locs hP hD hS => ?_)
      refine bq_eq (tgt := 193) hx hb hf dX2_happens_124 (by decide) (fun hf => ?_) (fun hf => ?_)
      · cases hf
        exact rV X hP hD hS dX2_happens_193
      · refine lv_aload_n hx hb dX2_happens_127 rfl (lv_at hl 3 rfl) ?_
        refine lv_iload_n hx hb dX2_happens_128 rfl (lv_at hl 2 rfl) ?_
        refine lv_iload hx hb dX2_happens_129 (lv_at hl 0 rfl) ?_
        obtain ⟨c32, c33, k34, hf⟩ := bd2s hf
        refine cVv (rest := []) X (met_M_killNow k34) gw_X2_X2_killNow dy_X2_killNow ⟨⟨rfl, rfl⟩, Nat.le_of_ble_eq_true rfl, Nat.le_of_ble_eq_true rfl⟩ hP hD hS hl.1 rcM rfl rfl ⟨Nat.zero_le _, Nat.zero_le _⟩ (Nat.le_of_ble_eq_true rfl) dX2_happens_131 (fun H locs hP hD hS => ?_)
        refine lv_goto (tgt := 193) hx hb dX2_happens_134 (by decide) ?_
        cases hf
        exact rV X hP hD hS dX2_happens_193
  refine swc hf (fun q hf => ?_) (fun q2 hf => ?_)
  · refine lv_tableIn (off := 100) (tgt := 137) hx hb dX2_happens_37 q0 q1 (by rw [q]; rfl) (by decide) ?_
    refine lv_aload_n hx hb dX2_happens_137 rfl (lv_at hl 3 rfl) ?_
    refine lv_iload_n hx hb dX2_happens_138 rfl (lv_at hl 2 rfl) ?_
    refine lv_iload hx hb dX2_happens_139 (lv_at hl 0 rfl) ?_
    obtain ⟨r35, c36, c37, c38, k39, hf⟩ := bd4s hf
    refine cVi (rest := []) X (met_M_canPardon k39) gw_X2_X2_canPardon dy_X2_canPardon ⟨⟨rfl, rfl⟩, Nat.le_of_ble_eq_true rfl, Nat.le_of_ble_eq_true rfl⟩ hP hD hS hl.1 rcM rfl rfl ⟨Nat.zero_le _, Nat.zero_le _⟩ (Nat.le_of_ble_eq_true rfl) dX2_happens_141 (fun H locs hP hD hS => ?_)
    refine bq_eq (tgt := 193) hx hb hf dX2_happens_144 (by decide) (fun hf => ?_) (fun hf => ?_)
    · cases hf
      exact rV X hP hD hS dX2_happens_193
    · refine lv_aload_n hx hb dX2_happens_147 rfl (lv_at hl 3 rfl) ?_
      refine lv_iload_n hx hb dX2_happens_148 rfl (lv_at hl 2 rfl) ?_
      refine lv_iload hx hb dX2_happens_149 (lv_at hl 0 rfl) ?_
      obtain ⟨r40, c41, c42, c43, c44, k45, hf⟩ := bd5s hf
      refine cVi (rest := []) X (met_M_payNow k45) gw_X2_X2_payNow dy_X2_payNow ⟨⟨rfl, rfl⟩, Nat.le_of_ble_eq_true rfl, Nat.le_of_ble_eq_true rfl⟩ hP hD hS hl.1 rcM rfl rfl ⟨Nat.zero_le _, Nat.zero_le _⟩ (Nat.le_of_ble_eq_true rfl) dX2_happens_151 (fun H locs hP hD hS => ?_)
      refine lv_pop hx hb dX2_happens_154 rfl ?_
      refine lv_goto (tgt := 193) hx hb dX2_happens_155 (by decide) ?_
      cases hf
      exact rV X hP hD hS dX2_happens_193
  refine swc hf (fun q hf => ?_) (fun q2 hf => ?_)
  · refine lv_tableIn (off := 121) (tgt := 158) hx hb dX2_happens_37 q0 q1 (by rw [q]; rfl) (by decide) ?_
    refine lv_aload_n hx hb dX2_happens_158 rfl (lv_at hl 3 rfl) ?_
    refine gM0 X hP dX2_happens_159 ?_
    refine lv_bipush (v := 10) hx hb dX2_happens_162 (by decide) ?_
    obtain ⟨v46, ev46, bv46, hf⟩ := rds hf
    refine lM_cA X hP ev46 bv46 dX2_happens_164 ?_
    refine lv_sipush (v := 9999) hx hb dX2_happens_165 (by decide) ?_
    refine bc_ge (tgt := 193) hx hb hf dX2_happens_168 (by decide) (fun hf => ?_) (fun hf => ?_)
    · cases hf
      exact rV X hP hD hS dX2_happens_193
    · refine lv_aload_n hx hb dX2_happens_171 rfl (lv_at hl 3 rfl) ?_
      obtain ⟨c47, c48, c49, c50, c51, k52, hf⟩ := bd5s hf
      refine cVv (rest := []) X (met_M_goOn k52) gw_X2_X2_goOn dy_X2_goOn ⟨⟨rfl, rfl⟩, Nat.le_of_ble_eq_true rfl, Nat.le_of_ble_eq_true rfl⟩ hP hD hS hl.1 rcM rfl rfl ⟨Nat.zero_le _, Nat.zero_le _⟩ (Nat.le_of_ble_eq_true rfl) dX2_happens_172 (fun H locs hP hD hS => ?_)
      refine lv_goto (tgt := 193) hx hb dX2_happens_175 (by decide) ?_
      cases hf
      exact rV X hP hD hS dX2_happens_193
  exact nn hf
theorem gw_X2_X2_setAside : GoodIn lw_all (wsV RX2 430 RX2 yX2_setAside (ws_ yX2_setAside cX2_setAside 2 none)) := lw_V q1938 q1940 qs133 q148 q1941
theorem dy_X2_setAside : Dy yX2_setAside RX2 0 := by decide +kernel
theorem gw_X2_X2_putBack : GoodIn lw_all (wsV RX2 433 RX2 yX2_putBack (ws_ yX2_putBack cX2_putBack 2 none)) := lw_V q1942 q1944 qs134 q148 q1945
theorem dy_X2_putBack : Dy yX2_putBack RX2 0 := by decide +kernel
set_option maxHeartbeats 4000000 in
theorem met_M_foretold {l : Launch} {g : gG} {h : Nat} {ad : Nat → Nat} {sTaped : Int32} {sFault : Int32} {sFaultP : Int32} {sAt : Int32} {sPlace : Int32} {sToken : Int32} {sNumber : Int32} {sWord : Int64} {sText0 : Int32} {sWritten : Int32} {sSort0 : Int32} {sPiled : Int32} {sOpens : Int32} {sWhole : Int32} {sOnce : Int32} {sIsW : Int32} {sDied : Int32} {cA : Nat → Int32} {cIm : Nat → Int32} {cTx : Nat → Int32} {cTp : Nat → Int32} {cPl : Nat → Int32} {cNm : Nat → Int32} {cVa : Nat → Int64} {cTr : Nat → Int32} {cAs : Nat → Int32} {cLi : Nat → Int32} {cSa : Nat → Int32} {cHd : Nat → Int32} {x1 : Int32} {x2 : Int32} {x3 : Int32} {r : Int32} {nsIsW : Int32} {nsDied : Int32} {ncA : Nat → Int32} {ncNm : Nat → Int32} {ncVa : Nat → Int64} {ncTr : Nat → Int32} {ncAs : Nat → Int32} {φ : Nat} (hf : M_foretold φ sIsW sDied cA cTx cNm cVa cTr cAs x1 x2 x3 = some (r, nsIsW, nsDied, ncA, ncNm, ncVa, ncTr, ncAs)) : CC l yX2_foretold (ws_ yX2_foretold cX2_foretold 5 (some .int)) ({ frames := 9, cells := 0, slots := 0, locals := 207 } : Room) g [.ref h, .int x1, .int x2, .int x3] (mW g h ad sTaped sFault sFaultP sAt sPlace sToken sNumber sWord sText0 sWritten sSort0 sPiled sOpens sWhole sOnce sIsW sDied cA cIm cTx cTp cPl cNm cVa cTr cAs cLi cSa cHd) (some (.int r)) (mW g h ad sTaped sFault sFaultP sAt sPlace sToken sNumber sWord sText0 sWritten sSort0 sPiled sOpens sWhole sOnce nsIsW nsDied ncA cIm cTx cTp cPl ncNm ncVa ncTr ncAs cLi cSa cHd) 0 0 := by
  refine CC.of RX2 rfl plain_X2 (Nat.le_of_ble_eq_true rfl) (fun p e s m below meth c A ls X hP hD hS hl => ?_)
  have hx := X.1
  have hb := X.2.1
  have hown := X.2.2.2.2.2.1
  have hts := X.2.2.2.2.2.2.1
  have hl : lv_has ls 5 [(0, .ref h), (1, .int x1), (2, .int x2), (3, .int x3)] := hl
  unfold M_foretold at hf
  refine lv_iload_n hx hb dX2_foretold_0 rfl (lv_at hl 1 rfl) ?_
  refine lv_iconst (v := 1) hx hb dX2_foretold_1 (by decide) ?_
  refine lv_bipush (v := 60) hx hb dX2_foretold_2 (by decide) ?_
  obtain ⟨r1, k2, hf⟩ := bd1s hf
  refine cSi (rest := []) X (met_M_isIn (g := g) k2) gs_X2_X2_isIn dy_X2_isIn ⟨⟨rfl, rfl⟩, Nat.le_of_ble_eq_true rfl, Nat.le_of_ble_eq_true rfl⟩ hP hD hS hl.1 rfl rfl ⟨Nat.zero_le _, Nat.zero_le _⟩ (Nat.le_of_ble_eq_true rfl) dX2_foretold_4 (fun H locs hP hD hS => ?_)
  refine bq_eq (tgt := 18) hx hb hf dX2_foretold_7 (by decide) (fun hf => ?_) (fun hf => ?_)
  · refine lv_iconst (v := (-1)) hx hb dX2_foretold_18 (by decide) ?_
    cases hf
    exact rI X hP hD hS dX2_foretold_19
  · refine lv_aload_n hx hb dX2_foretold_10 rfl (lv_at hl 0 rfl) ?_
    refine lv_iload_n hx hb dX2_foretold_11 rfl (lv_at hl 2 rfl) ?_
    obtain ⟨r3, k4, hf⟩ := bd1s hf
    refine cVi (rest := []) X (met_M_isPerson k4) gw_X2_X2_isPerson dy_X2_isPerson ⟨⟨rfl, rfl⟩, Nat.le_of_ble_eq_true rfl, Nat.le_of_ble_eq_true rfl⟩ hP hD hS hl.1 rcM rfl rfl ⟨Nat.zero_le _, Nat.zero_le _⟩ (Nat.le_of_ble_eq_true rfl) dX2_foretold_12 (fun H locs hP hD hS => ?_)
    refine bq_ne (tgt := 20) hx hb hf dX2_foretold_15 (by decide) (fun hf => ?_) (fun hf => ?_)
    · refine lv_aload_n hx hb dX2_foretold_20 rfl (lv_at hl 0 rfl) ?_
      obtain ⟨c5, c6, k7, hf⟩ := bd2s hf
      refine cVv (rest := []) X (met_M_setAside k7) gw_X2_X2_setAside dy_X2_setAside ⟨⟨rfl, rfl⟩, Nat.le_of_ble_eq_true rfl, Nat.le_of_ble_eq_true rfl⟩ hP hD hS hl.1 rcM rfl rfl ⟨Nat.zero_le _, Nat.zero_le _⟩ (Nat.le_of_ble_eq_true rfl) dX2_foretold_21 (fun H locs hP hD hS => ?_)
      refine lv_iconst (v := 0) hx hb dX2_foretold_24 (by decide) ?_
      refine lv_istore (lv' := [(4, .int 0), (0, .ref h), (1, .int x1), (2, .int x2), (3, .int x3)]) hx hb dX2_foretold_25 hl (by decide) rfl (fun ls hl => ?_)
      obtain ⟨c14, c15, c16, c17, c18, k23, hf⟩ := bd5s hf
      have hE20 : ∀ (H : Heap) (locs : List Loc) (ls : Array Slot), va_P g.1 vwCl (mW g h ad sTaped sFault sFaultP sAt sPlace sToken sNumber sWord sText0 sWritten sSort0 sPiled sOpens sWhole sOnce c5 c14 c15 cIm cTx cTp cPl c16 c17 c18 c6 cLi cSa cHd) H → va_D A (mW g h ad sTaped sFault sFaultP sAt sPlace sToken sNumber sWord sText0 sWritten sSort0 sPiled sOpens sWhole sOnce c5 c14 c15 cIm cTx cTp cPl c16 c17 c18 c6 cLi cSa cHd) → va_S A s.heap H locs → lv_has ls 5 [(0, .ref h), (2, .int x2), (3, .int x3)] → W p l e ({ frames := 9, cells := 0, slots := 0, locals := 207 } : Room) s m ([.ref h, .int x1, .int x2, .int x3] : List Value).toArray below meth c H locs 0 0 (MQ below (QQ g (some (.int r)) (mW g h ad sTaped sFault sFaultP sAt sPlace sToken sNumber sWord sText0 sWritten sSort0 sPiled sOpens sWhole sOnce nsIsW nsDied ncA cIm cTx cTp cPl ncNm ncVa ncTr ncAs cLi cSa cHd) A) ([.ref h, .int x1, .int x2, .int x3] : List Value).toArray s 0 0 A) (F0 m 56 ls []) := by
        intro H locs ls hP hD hS hl
        refine lv_aload_n hx hb dX2_foretold_56 rfl (lv_at hl 0 rfl) ?_
        refine lv_iload_n hx hb dX2_foretold_57 rfl (lv_at hl 1 rfl) ?_
        refine lv_iload_n hx hb dX2_foretold_58 rfl (lv_at hl 2 rfl) ?_
        refine bq_eq (tgt := 66) hx hb hf dX2_foretold_59 (by decide) (fun hf => ?_) (fun hf => ?_)
        · refine lv_bipush (v := 6) hx hb dX2_foretold_66 (by decide) ?_
          obtain ⟨r24, k25, hf⟩ := bd1s hf
          refine cVi (rest := []) X (met_M_get k25) gw_X2_X2_get dy_X2_get ⟨⟨rfl, rfl⟩, Nat.le_of_ble_eq_true rfl, Nat.le_of_ble_eq_true rfl⟩ hP hD hS hl.1 rcM rfl rfl ⟨Nat.zero_le _, Nat.zero_le _⟩ (Nat.le_of_ble_eq_true rfl) dX2_foretold_68 (fun H locs hP hD hS => ?_)
          refine lv_istore (lv' := [(4, .int r24), (0, .ref h), (2, .int x2), (3, .int x3)]) hx hb dX2_foretold_71 hl (by decide) rfl (fun ls hl => ?_)
          refine lv_aload_n hx hb dX2_foretold_73 rfl (lv_at hl 1 rfl) ?_
          obtain ⟨c26, c27, k28, hf⟩ := bd2s hf
          refine cVv (rest := []) X (met_M_putBack k28) gw_X2_X2_putBack dy_X2_putBack ⟨⟨rfl, rfl⟩, Nat.le_of_ble_eq_true rfl, Nat.le_of_ble_eq_true rfl⟩ hP hD hS hl.1 rcM rfl rfl ⟨Nat.zero_le _, Nat.zero_le _⟩ (Nat.le_of_ble_eq_true rfl) dX2_foretold_74 (fun H locs hP hD hS => ?_)
          refine lv_iload hx hb dX2_foretold_77 (lv_at hl 0 rfl) ?_
          cases hf
          exact rI X hP hD hS dX2_foretold_79
        · refine lv_iconst (v := 1) hx hb dX2_foretold_62 (by decide) ?_
          refine lv_goto (tgt := 68) hx hb dX2_foretold_63 (by decide) ?_
          obtain ⟨r29, k30, hf⟩ := bd1s hf
          refine cVi (rest := []) X (met_M_get k30) gw_X2_X2_get dy_X2_get ⟨⟨rfl, rfl⟩, Nat.le_of_ble_eq_true rfl, Nat.le_of_ble_eq_true rfl⟩ hP hD hS hl.1 rcM rfl rfl ⟨Nat.zero_le _, Nat.zero_le _⟩ (Nat.le_of_ble_eq_true rfl) dX2_foretold_68 (fun H locs hP hD hS => ?_)
          refine lv_istore (lv' := [(4, .int r29), (0, .ref h), (2, .int x2), (3, .int x3)]) hx hb dX2_foretold_71 hl (by decide) rfl (fun ls hl => ?_)
          refine lv_aload_n hx hb dX2_foretold_73 rfl (lv_at hl 1 rfl) ?_
          obtain ⟨c31, c32, k33, hf⟩ := bd2s hf
          refine cVv (rest := []) X (met_M_putBack k33) gw_X2_X2_putBack dy_X2_putBack ⟨⟨rfl, rfl⟩, Nat.le_of_ble_eq_true rfl, Nat.le_of_ble_eq_true rfl⟩ hP hD hS hl.1 rcM rfl rfl ⟨Nat.zero_le _, Nat.zero_le _⟩ (Nat.le_of_ble_eq_true rfl) dX2_foretold_74 (fun H locs hP hD hS => ?_)
          refine lv_iload hx hb dX2_foretold_77 (lv_at hl 0 rfl) ?_
          cases hf
          exact rI X hP hD hS dX2_foretold_79
      have hL21 : ∀ (n19 : Nat) (v8 : Int32) (c9 : Int32) (c10 : Nat → Int32) (c11 : Nat → Int32) (c12 : Nat → Int64) (c13 : Nat → Int32), M_foretold_L27 φ x1 x2 x3 c5 cTx n19 v8 c9 c10 c11 c12 c13 = some (c14, c15, c16, c17, c18) → ∀ (H : Heap) (locs : List Loc) (ls : Array Slot), va_P g.1 vwCl (mW g h ad sTaped sFault sFaultP sAt sPlace sToken sNumber sWord sText0 sWritten sSort0 sPiled sOpens sWhole sOnce c5 c9 c10 cIm cTx cTp cPl c11 c12 c13 c6 cLi cSa cHd) H → va_D A (mW g h ad sTaped sFault sFaultP sAt sPlace sToken sNumber sWord sText0 sWritten sSort0 sPiled sOpens sWhole sOnce c5 c9 c10 cIm cTx cTp cPl c11 c12 c13 c6 cLi cSa cHd) → va_S A s.heap H locs → lv_has ls 5 [(0, .ref h), (1, .int x1), (2, .int x2), (3, .int x3), (4, .int v8)] → W p l e ({ frames := 9, cells := 0, slots := 0, locals := 207 } : Room) s m ([.ref h, .int x1, .int x2, .int x3] : List Value).toArray below meth c H locs 0 0 (MQ below (QQ g (some (.int r)) (mW g h ad sTaped sFault sFaultP sAt sPlace sToken sNumber sWord sText0 sWritten sSort0 sPiled sOpens sWhole sOnce nsIsW nsDied ncA cIm cTx cTp cPl ncNm ncVa ncTr ncAs cLi cSa cHd) A) ([.ref h, .int x1, .int x2, .int x3] : List Value).toArray s 0 0 A) (F0 m 27 ls []) := by
        intro n19
        induction n19 with
        | zero =>
          intro v8 c9 c10 c11 c12 c13 hf
          exact nn hf
        | succ n19 ih22 =>
          intro v8 c9 c10 c11 c12 c13 hf H locs ls hP hD hS hl
          rw [M_foretold_L27] at hf
          refine lv_iload hx hb dX2_foretold_27 (lv_at hl 4 rfl) ?_
          refine lv_iload_n hx hb dX2_foretold_29 rfl (lv_at hl 1 rfl) ?_
          refine bc_ge (tgt := 56) hx hb hf dX2_foretold_30 (by decide) (fun hf => ?_) (fun hf => ?_)
          · cases hf
            exact hE20 _ _ _ hP hD hS (lv_sub hl [0, 2, 3] rfl)
          · refine lv_aload_n hx hb dX2_foretold_33 rfl (lv_at hl 0 rfl) ?_
            refine gM0 X hP dX2_foretold_34 ?_
            refine lv_bipush (v := 10) hx hb dX2_foretold_37 (by decide) ?_
            obtain ⟨v34, ev34, bv34, hf⟩ := rds hf
            refine lM_cA X hP ev34 bv34 dX2_foretold_39 ?_
            refine lv_sipush (v := 9999) hx hb dX2_foretold_40 (by decide) ?_
            refine bc_ge (tgt := 50) hx hb hf dX2_foretold_43 (by decide) (fun hf => ?_) (fun hf => ?_)
            · obtain ⟨v35, ev35, hf⟩ := lts hf
              refine lv_iinc (v := v35) (lv' := [(4, .int v35), (0, .ref h), (1, .int x1), (2, .int x2), (3, .int x3)]) hx hb dX2_foretold_50 hl (k := 4) rfl (by rw [ev35]; rfl) (by decide) rfl (fun ls hl => ?_)
              refine lv_goto (tgt := 27) hx hb dX2_foretold_53 (by decide) ?_
              exact ih22 _ _ _ _ _ _ hf _ _ _ hP hD hS (lv_sub hl [1, 2, 3, 4, 0] rfl)
            · refine lv_aload_n hx hb dX2_foretold_46 rfl (lv_at hl 0 rfl) ?_
              obtain ⟨c36, c37, c38, c39, c40, k41, hf⟩ := bd5s hf
              refine cVv (rest := []) X (met_M_goOn k41) gw_X2_X2_goOn dy_X2_goOn ⟨⟨rfl, rfl⟩, Nat.le_of_ble_eq_true rfl, Nat.le_of_ble_eq_true rfl⟩ hP hD hS hl.1 rcM rfl rfl ⟨Nat.zero_le _, Nat.zero_le _⟩ (Nat.le_of_ble_eq_true rfl) dX2_foretold_47 (fun H locs hP hD hS => ?_)
              obtain ⟨v42, ev42, hf⟩ := lts hf
              refine lv_iinc (v := v42) (lv' := [(4, .int v42), (0, .ref h), (1, .int x1), (2, .int x2), (3, .int x3)]) hx hb dX2_foretold_50 hl (k := 4) rfl (by rw [ev42]; rfl) (by decide) rfl (fun ls hl => ?_)
              refine lv_goto (tgt := 27) hx hb dX2_foretold_53 (by decide) ?_
              exact ih22 _ _ _ _ _ _ hf _ _ _ hP hD hS (lv_sub hl [1, 2, 3, 4, 0] rfl)
      exact hL21 _ _ _ _ _ _ _ k23 _ _ _ hP hD hS (lv_sub hl [1, 2, 3, 4, 0] rfl)
    · refine lv_iconst (v := (-1)) hx hb dX2_foretold_18 (by decide) ?_
      cases hf
      exact rI X hP hD hS dX2_foretold_19
set_option maxHeartbeats 4000000 in
theorem met_M_toPay {l : Launch} {g : gG} {h : Nat} {ad : Nat → Nat} {sTaped : Int32} {sFault : Int32} {sFaultP : Int32} {sAt : Int32} {sPlace : Int32} {sToken : Int32} {sNumber : Int32} {sWord : Int64} {sText0 : Int32} {sWritten : Int32} {sSort0 : Int32} {sPiled : Int32} {sOpens : Int32} {sWhole : Int32} {sOnce : Int32} {sIsW : Int32} {sDied : Int32} {cA : Nat → Int32} {cIm : Nat → Int32} {cTx : Nat → Int32} {cTp : Nat → Int32} {cPl : Nat → Int32} {cNm : Nat → Int32} {cVa : Nat → Int64} {cTr : Nat → Int32} {cAs : Nat → Int32} {cLi : Nat → Int32} {cSa : Nat → Int32} {cHd : Nat → Int32} {x1 : Int32} {x2 : Int32} {r : Int32} {nsIsW : Int32} {nsDied : Int32} {ncA : Nat → Int32} {ncNm : Nat → Int32} {ncVa : Nat → Int64} {ncTr : Nat → Int32} {ncAs : Nat → Int32} {φ : Nat} (hf : M_toPay φ sIsW sDied cA cTx cNm cVa cTr cAs x1 x2 = some (r, nsIsW, nsDied, ncA, ncNm, ncVa, ncTr, ncAs)) : CC l yX2_toPay (ws_ yX2_toPay cX2_toPay 5 (some .int)) ({ frames := 9, cells := 0, slots := 0, locals := 207 } : Room) g [.ref h, .int x1, .int x2] (mW g h ad sTaped sFault sFaultP sAt sPlace sToken sNumber sWord sText0 sWritten sSort0 sPiled sOpens sWhole sOnce sIsW sDied cA cIm cTx cTp cPl cNm cVa cTr cAs cLi cSa cHd) (some (.int r)) (mW g h ad sTaped sFault sFaultP sAt sPlace sToken sNumber sWord sText0 sWritten sSort0 sPiled sOpens sWhole sOnce nsIsW nsDied ncA cIm cTx cTp cPl ncNm ncVa ncTr ncAs cLi cSa cHd) 0 0 := by
  refine CC.of RX2 rfl plain_X2 (Nat.le_of_ble_eq_true rfl) (fun p e s m below meth c A ls X hP hD hS hl => ?_)
  have hx := X.1
  have hb := X.2.1
  have hown := X.2.2.2.2.2.1
  have hts := X.2.2.2.2.2.2.1
  have hl : lv_has ls 5 [(0, .ref h), (1, .int x1), (2, .int x2)] := hl
  unfold M_toPay at hf
  refine lv_aload_n hx hb dX2_toPay_0 rfl (lv_at hl 0 rfl) ?_
  refine lv_iload_n hx hb dX2_toPay_1 rfl (lv_at hl 1 rfl) ?_
  obtain ⟨r1, k2, hf⟩ := bd1s hf
  refine cVi (rest := []) X (met_M_isPerson k2) gw_X2_X2_isPerson dy_X2_isPerson ⟨⟨rfl, rfl⟩, Nat.le_of_ble_eq_true rfl, Nat.le_of_ble_eq_true rfl⟩ hP hD hS hl.1 rcM rfl rfl ⟨Nat.zero_le _, Nat.zero_le _⟩ (Nat.le_of_ble_eq_true rfl) dX2_toPay_2 (fun H locs hP hD hS => ?_)
  refine bq_eq (tgt := 16) hx hb hf dX2_toPay_5 (by decide) (fun hf => ?_) (fun hf => ?_)
  · refine lv_iconst (v := (-1)) hx hb dX2_toPay_16 (by decide) ?_
    cases hf
    exact rI X hP hD hS dX2_toPay_17
  · refine lv_aload_n hx hb dX2_toPay_8 rfl (lv_at hl 0 rfl) ?_
    refine lv_iload_n hx hb dX2_toPay_9 rfl (lv_at hl 2 rfl) ?_
    obtain ⟨r3, k4, hf⟩ := bd1s hf
    refine cVi (rest := []) X (met_M_isPerson k4) gw_X2_X2_isPerson dy_X2_isPerson ⟨⟨rfl, rfl⟩, Nat.le_of_ble_eq_true rfl, Nat.le_of_ble_eq_true rfl⟩ hP hD hS hl.1 rcM rfl rfl ⟨Nat.zero_le _, Nat.zero_le _⟩ (Nat.le_of_ble_eq_true rfl) dX2_toPay_10 (fun H locs hP hD hS => ?_)
    refine bq_ne (tgt := 18) hx hb hf dX2_toPay_13 (by decide) (fun hf => ?_) (fun hf => ?_)
    · refine lv_aload_n hx hb dX2_toPay_18 rfl (lv_at hl 0 rfl) ?_
      obtain ⟨c5, c6, k7, hf⟩ := bd2s hf
      refine cVv (rest := []) X (met_M_setAside k7) gw_X2_X2_setAside dy_X2_setAside ⟨⟨rfl, rfl⟩, Nat.le_of_ble_eq_true rfl, Nat.le_of_ble_eq_true rfl⟩ hP hD hS hl.1 rcM rfl rfl ⟨Nat.zero_le _, Nat.zero_le _⟩ (Nat.le_of_ble_eq_true rfl) dX2_toPay_19 (fun H locs hP hD hS => ?_)
      refine lv_iconst (v := (-1)) hx hb dX2_toPay_22 (by decide) ?_
      refine lv_istore_n (lv' := [(3, .int (-1)), (0, .ref h), (1, .int x1), (2, .int x2)]) hx hb dX2_toPay_23 rfl hl (by decide) rfl (fun ls hl => ?_)
      refine lv_iconst (v := 0) hx hb dX2_toPay_24 (by decide) ?_
      refine lv_istore (lv' := [(4, .int 0), (3, .int (-1)), (0, .ref h), (1, .int x1), (2, .int x2)]) hx hb dX2_toPay_25 hl (by decide) rfl (fun ls hl => ?_)
      have hL17 : ∀ (n15 : Nat) (v8 : Int32) (v9 : Int32) (c10 : Int32) (c11 : Nat → Int32) (c12 : Nat → Int32) (c13 : Nat → Int64) (c14 : Nat → Int32), M_toPay_L27 φ x1 x2 c5 cTx c6 n15 v8 v9 c10 c11 c12 c13 c14 = some (r, nsIsW, nsDied, ncA, ncNm, ncVa, ncTr, ncAs) → ∀ (H : Heap) (locs : List Loc) (ls : Array Slot), va_P g.1 vwCl (mW g h ad sTaped sFault sFaultP sAt sPlace sToken sNumber sWord sText0 sWritten sSort0 sPiled sOpens sWhole sOnce c5 c10 c11 cIm cTx cTp cPl c12 c13 c14 c6 cLi cSa cHd) H → va_D A (mW g h ad sTaped sFault sFaultP sAt sPlace sToken sNumber sWord sText0 sWritten sSort0 sPiled sOpens sWhole sOnce c5 c10 c11 cIm cTx cTp cPl c12 c13 c14 c6 cLi cSa cHd) → va_S A s.heap H locs → lv_has ls 5 [(0, .ref h), (1, .int x1), (2, .int x2), (3, .int v8), (4, .int v9)] → W p l e ({ frames := 9, cells := 0, slots := 0, locals := 207 } : Room) s m ([.ref h, .int x1, .int x2] : List Value).toArray below meth c H locs 0 0 (MQ below (QQ g (some (.int r)) (mW g h ad sTaped sFault sFaultP sAt sPlace sToken sNumber sWord sText0 sWritten sSort0 sPiled sOpens sWhole sOnce nsIsW nsDied ncA cIm cTx cTp cPl ncNm ncVa ncTr ncAs cLi cSa cHd) A) ([.ref h, .int x1, .int x2] : List Value).toArray s 0 0 A) (F0 m 27 ls []) := by
        intro n15
        induction n15 with
        | zero =>
          intro v8 v9 c10 c11 c12 c13 c14 hf
          exact nn hf
        | succ n15 ih18 =>
          intro v8 v9 c10 c11 c12 c13 c14 hf H locs ls hP hD hS hl
          rw [M_toPay_L27] at hf
          refine lv_iload hx hb dX2_toPay_27 (lv_at hl 4 rfl) ?_
          refine lv_bipush (v := 60) hx hb dX2_toPay_29 (by decide) ?_
          refine bc_gt (tgt := 77) hx hb hf dX2_toPay_31 (by decide) (fun hf => ?_) (fun hf => ?_)
          · refine lv_aload_n hx hb dX2_toPay_77 rfl (lv_at hl 0 rfl) ?_
            obtain ⟨c20, c21, k22, hf⟩ := bd2s hf
            refine cVv (rest := []) X (met_M_putBack k22) gw_X2_X2_putBack dy_X2_putBack ⟨⟨rfl, rfl⟩, Nat.le_of_ble_eq_true rfl, Nat.le_of_ble_eq_true rfl⟩ hP hD hS hl.1 rcM rfl rfl ⟨Nat.zero_le _, Nat.zero_le _⟩ (Nat.le_of_ble_eq_true rfl) dX2_toPay_78 (fun H locs hP hD hS => ?_)
            refine lv_iload_n hx hb dX2_toPay_81 rfl (lv_at hl 3 rfl) ?_
            cases hf
            exact rI X hP hD hS dX2_toPay_82
          · refine lv_iload_n hx hb dX2_toPay_34 rfl (lv_at hl 3 rfl) ?_
            refine lv_iconst (v := (-1)) hx hb dX2_toPay_35 (by decide) ?_
            refine bc_ne (tgt := 77) hx hb hf dX2_toPay_36 (by decide) (fun hf => ?_) (fun hf => ?_)
            · refine lv_aload_n hx hb dX2_toPay_77 rfl (lv_at hl 0 rfl) ?_
              obtain ⟨c23, c24, k25, hf⟩ := bd2s hf
              refine cVv (rest := []) X (met_M_putBack k25) gw_X2_X2_putBack dy_X2_putBack ⟨⟨rfl, rfl⟩, Nat.le_of_ble_eq_true rfl, Nat.le_of_ble_eq_true rfl⟩ hP hD hS hl.1 rcM rfl rfl ⟨Nat.zero_le _, Nat.zero_le _⟩ (Nat.le_of_ble_eq_true rfl) dX2_toPay_78 (fun H locs hP hD hS => ?_)
              refine lv_iload_n hx hb dX2_toPay_81 rfl (lv_at hl 3 rfl) ?_
              cases hf
              exact rI X hP hD hS dX2_toPay_82
            · refine lv_aload_n hx hb dX2_toPay_39 rfl (lv_at hl 0 rfl) ?_
              refine lv_iload_n hx hb dX2_toPay_40 rfl (lv_at hl 1 rfl) ?_
              refine lv_iload_n hx hb dX2_toPay_41 rfl (lv_at hl 2 rfl) ?_
              obtain ⟨r26, c27, c28, c29, k30, hf⟩ := bd4s hf
              refine cVi (rest := []) X (met_M_canPardon k30) gw_X2_X2_canPardon dy_X2_canPardon ⟨⟨rfl, rfl⟩, Nat.le_of_ble_eq_true rfl, Nat.le_of_ble_eq_true rfl⟩ hP hD hS hl.1 rcM rfl rfl ⟨Nat.zero_le _, Nat.zero_le _⟩ (Nat.le_of_ble_eq_true rfl) dX2_toPay_42 (fun H locs hP hD hS => ?_)
              obtain ⟨v31, k32, hf⟩ := bd1s hf
              have hj33 : ∀ (H : Heap) (locs : List Loc) (ls : Array Slot), va_P g.1 vwCl (mW g h ad sTaped sFault sFaultP sAt sPlace sToken sNumber sWord sText0 sWritten sSort0 sPiled sOpens sWhole sOnce c5 c10 c11 cIm cTx cTp cPl c27 c28 c29 c6 cLi cSa cHd) H → va_D A (mW g h ad sTaped sFault sFaultP sAt sPlace sToken sNumber sWord sText0 sWritten sSort0 sPiled sOpens sWhole sOnce c5 c10 c11 cIm cTx cTp cPl c27 c28 c29 c6 cLi cSa cHd) → va_S A s.heap H locs → lv_has ls 5 [(0, .ref h), (1, .int x1), (2, .int x2), (3, .int v31), (4, .int v9)] → W p l e ({ frames := 9, cells := 0, slots := 0, locals := 207 } : Room) s m ([.ref h, .int x1, .int x2] : List Value).toArray below meth c H locs 0 0 (MQ below (QQ g (some (.int r)) (mW g h ad sTaped sFault sFaultP sAt sPlace sToken sNumber sWord sText0 sWritten sSort0 sPiled sOpens sWhole sOnce nsIsW nsDied ncA cIm cTx cTp cPl ncNm ncVa ncTr ncAs cLi cSa cHd) A) ([.ref h, .int x1, .int x2] : List Value).toArray s 0 0 A) (F0 m 51 ls []) := by
                intro H locs ls hP hD hS hl
                refine lv_aload_n hx hb dX2_toPay_51 rfl (lv_at hl 0 rfl) ?_
                refine gM0 X hP dX2_toPay_52 ?_
                refine lv_bipush (v := 10) hx hb dX2_toPay_55 (by decide) ?_
                obtain ⟨v34, ev34, bv34, hf⟩ := rds hf
                refine lM_cA X hP ev34 bv34 dX2_toPay_57 ?_
                refine lv_sipush (v := 9999) hx hb dX2_toPay_58 (by decide) ?_
                refine bc_ne (tgt := 67) hx hb hf dX2_toPay_61 (by decide) (fun hf => ?_) (fun hf => ?_)
                · refine lv_aload_n hx hb dX2_toPay_67 rfl (lv_at hl 0 rfl) ?_
                  obtain ⟨c35, c36, c37, c38, c39, k40, hf⟩ := bd5s hf
                  refine cVv (rest := []) X (met_M_goOn k40) gw_X2_X2_goOn dy_X2_goOn ⟨⟨rfl, rfl⟩, Nat.le_of_ble_eq_true rfl, Nat.le_of_ble_eq_true rfl⟩ hP hD hS hl.1 rcM rfl rfl ⟨Nat.zero_le _, Nat.zero_le _⟩ (Nat.le_of_ble_eq_true rfl) dX2_toPay_68 (fun H locs hP hD hS => ?_)
                  obtain ⟨v41, ev41, hf⟩ := lts hf
                  refine lv_iinc (v := v41) (lv' := [(4, .int v41), (0, .ref h), (1, .int x1), (2, .int x2), (3, .int v31)]) hx hb dX2_toPay_71 hl (k := 4) rfl (by rw [ev41]; rfl) (by decide) rfl (fun ls hl => ?_)
                  refine lv_goto (tgt := 27) hx hb dX2_toPay_74 (by decide) ?_
                  exact ih18 _ _ _ _ _ _ _ hf _ _ _ hP hD hS (lv_sub hl [1, 2, 3, 4, 0] rfl)
                · refine lv_goto (tgt := 77) hx hb dX2_toPay_64 (by decide) ?_
                  refine lv_aload_n hx hb dX2_toPay_77 rfl (lv_at hl 0 rfl) ?_
                  obtain ⟨c42, c43, k44, hf⟩ := bd2s hf
                  refine cVv (rest := []) X (met_M_putBack k44) gw_X2_X2_putBack dy_X2_putBack ⟨⟨rfl, rfl⟩, Nat.le_of_ble_eq_true rfl, Nat.le_of_ble_eq_true rfl⟩ hP hD hS hl.1 rcM rfl rfl ⟨Nat.zero_le _, Nat.zero_le _⟩ (Nat.le_of_ble_eq_true rfl) dX2_toPay_78 (fun H locs hP hD hS => ?_)
                  refine lv_iload_n hx hb dX2_toPay_81 rfl (lv_at hl 3 rfl) ?_
                  cases hf
                  exact rI X hP hD hS dX2_toPay_82
              replace hf := k32
              clear k32
              refine bq_eq (tgt := 51) hx hb hf dX2_toPay_45 (by decide) (fun hf => ?_) (fun hf => ?_)
              · cases hf
                exact hj33 _ _ _ hP hD hS (lv_sub hl [0, 1, 2, 3, 4] rfl)
              · refine lv_iload hx hb dX2_toPay_48 (lv_at hl 4 rfl) ?_
                refine lv_istore_n (lv' := [(3, .int v9), (0, .ref h), (1, .int x1), (2, .int x2), (4, .int v9)]) hx hb dX2_toPay_50 rfl hl (by decide) rfl (fun ls hl => ?_)
                cases hf
                exact hj33 _ _ _ hP hD hS (lv_sub hl [1, 2, 3, 0, 4] rfl)
      exact hL17 _ _ _ _ _ _ _ _ hf _ _ _ hP hD hS (lv_sub hl [2, 3, 4, 1, 0] rfl)
    · refine lv_iconst (v := (-1)) hx hb dX2_toPay_16 (by decide) ?_
      cases hf
      exact rI X hP hD hS dX2_toPay_17
theorem gw_X2_X2_sortOf : GoodIn lw_all (wsV RX2 245 RX2 yX2_sortOf (ws_ yX2_sortOf cX2_sortOf 1 (some .int))) := lw_V q1568 q1570 qs73 q148 q1571
theorem dy_X2_sortOf : Dy yX2_sortOf RX2 0 := by decide +kernel
theorem gw_X2_X2_body : GoodIn lw_all (wsV RX2 251 RX2 yX2_body (ws_ yX2_body cX2_body 3 (some .int))) := lw_V q1595 q1597 qs76 q148 q1598
theorem dy_X2_body : Dy yX2_body RX2 2 := by decide +kernel
set_option maxHeartbeats 4000000 in
theorem met_M_clause {l : Launch} {g : gG} {h : Nat} {ad : Nat → Nat} {sTaped : Int32} {sFault : Int32} {sFaultP : Int32} {sAt : Int32} {sPlace : Int32} {sToken : Int32} {sNumber : Int32} {sWord : Int64} {sText0 : Int32} {sWritten : Int32} {sSort0 : Int32} {sPiled : Int32} {sOpens : Int32} {sWhole : Int32} {sOnce : Int32} {sIsW : Int32} {sDied : Int32} {cA : Nat → Int32} {cIm : Nat → Int32} {cTx : Nat → Int32} {cTp : Nat → Int32} {cPl : Nat → Int32} {cNm : Nat → Int32} {cVa : Nat → Int64} {cTr : Nat → Int32} {cAs : Nat → Int32} {cLi : Nat → Int32} {cSa : Nat → Int32} {cHd : Nat → Int32} {r : Int32} {nsAt : Int32} {nsPlace : Int32} {nsToken : Int32} {nsNumber : Int32} {nsWord : Int64} {nsWritten : Int32} {nsSort0 : Int32} {nsPiled : Int32} {nsOpens : Int32} {nsWhole : Int32} {nsOnce : Int32} {ncTx : Nat → Int32} {ncPl : Nat → Int32} {φ : Nat} (hf : M_clause φ sTaped sAt sPlace sToken sNumber sWord sText0 sWritten sSort0 sPiled sOpens sWhole sOnce cTx cTp cPl = some (r, nsAt, nsPlace, nsToken, nsNumber, nsWord, nsWritten, nsSort0, nsPiled, nsOpens, nsWhole, nsOnce, ncTx, ncPl)) : CC l yX2_clause (ws_ yX2_clause cX2_clause 5 (some .int)) ({ frames := 10, cells := 0, slots := 0, locals := 221 } : Room) g [.ref h] (mW g h ad sTaped sFault sFaultP sAt sPlace sToken sNumber sWord sText0 sWritten sSort0 sPiled sOpens sWhole sOnce sIsW sDied cA cIm cTx cTp cPl cNm cVa cTr cAs cLi cSa cHd) (some (.int r)) (mW g h ad sTaped sFault sFaultP nsAt nsPlace nsToken nsNumber nsWord sText0 nsWritten nsSort0 nsPiled nsOpens nsWhole nsOnce sIsW sDied cA cIm ncTx cTp ncPl cNm cVa cTr cAs cLi cSa cHd) 0 0 := by
  refine CC.of RX2 rfl plain_X2 (Nat.le_of_ble_eq_true rfl) (fun p e s m below meth c A ls X hP hD hS hl => ?_)
  have hx := X.1
  have hb := X.2.1
  have hown := X.2.2.2.2.2.1
  have hts := X.2.2.2.2.2.2.1
  have hl : lv_has ls 5 [(0, .ref h)] := hl
  unfold M_clause at hf
  refine lv_aload_n hx hb dX2_clause_0 rfl (lv_at hl 0 rfl) ?_
  obtain ⟨r1, k2, hf⟩ := bd1s hf
  refine cVi (rest := []) X (met_M_sortOf k2) gw_X2_X2_sortOf dy_X2_sortOf ⟨⟨rfl, rfl⟩, Nat.le_of_ble_eq_true rfl, Nat.le_of_ble_eq_true rfl⟩ hP hD hS hl.1 rcM rfl rfl ⟨Nat.zero_le _, Nat.zero_le _⟩ (Nat.le_of_ble_eq_true rfl) dX2_clause_1 (fun H locs hP hD hS => ?_)
  refine lv_istore_n (lv' := [(1, .int r1), (0, .ref h)]) hx hb dX2_clause_4 rfl hl (by decide) rfl (fun ls hl => ?_)
  refine lv_iload_n hx hb dX2_clause_5 rfl (lv_at hl 0 rfl) ?_
  refine bq_ge (tgt := 11) hx hb hf dX2_clause_6 (by decide) (fun hf => ?_) (fun hf => ?_)
  · refine lv_iload_n hx hb dX2_clause_11 rfl (lv_at hl 0 rfl) ?_
    refine lv_iconst (v := 3) hx hb dX2_clause_12 (by decide) ?_
    obtain ⟨k3, ek3, hf⟩ := jns hf
    have hj4 : k3 = some (r, nsAt, nsPlace, nsToken, nsNumber, nsWord, nsWritten, nsSort0, nsPiled, nsOpens, nsWhole, nsOnce, ncTx, ncPl) → ∀ (H : Heap) (locs : List Loc) (ls : Array Slot), va_P g.1 vwCl (mW g h ad sTaped sFault sFaultP sAt sPlace sToken sNumber sWord sText0 sWritten sSort0 sPiled sOpens sWhole sOnce sIsW sDied cA cIm cTx cTp cPl cNm cVa cTr cAs cLi cSa cHd) H → va_D A (mW g h ad sTaped sFault sFaultP sAt sPlace sToken sNumber sWord sText0 sWritten sSort0 sPiled sOpens sWhole sOnce sIsW sDied cA cIm cTx cTp cPl cNm cVa cTr cAs cLi cSa cHd) → va_S A s.heap H locs → lv_has ls 5 [(0, .ref h), (1, .int r1)] → W p l e ({ frames := 10, cells := 0, slots := 0, locals := 221 } : Room) s m ([.ref h] : List Value).toArray below meth c H locs 0 0 (MQ below (QQ g (some (.int r)) (mW g h ad sTaped sFault sFaultP nsAt nsPlace nsToken nsNumber nsWord sText0 nsWritten nsSort0 nsPiled nsOpens nsWhole nsOnce sIsW sDied cA cIm ncTx cTp ncPl cNm cVa cTr cAs cLi cSa cHd) A) ([.ref h] : List Value).toArray s 0 0 A) (F0 m 29 ls []) := by
      intro hf H locs ls hP hD hS hl
      rw [ek3] at hf
      refine lv_aload_n hx hb dX2_clause_29 rfl (lv_at hl 0 rfl) ?_
      refine gM2 X hP dX2_clause_30 ?_
      refine lv_aload_n hx hb dX2_clause_33 rfl (lv_at hl 0 rfl) ?_
      refine gM12 X hP dX2_clause_34 ?_
      obtain ⟨v5, ev5, bv5, hf⟩ := rds hf
      refine lM_cTx X hP ev5 bv5 dX2_clause_37 ?_
      refine lv_istore_n (lv' := [(2, .int v5), (0, .ref h), (1, .int r1)]) hx hb dX2_clause_38 rfl hl (by decide) rfl (fun ls hl => ?_)
      refine lv_iload_n hx hb dX2_clause_39 rfl (lv_at hl 0 rfl) ?_
      refine lv_bipush (v := 24) hx hb dX2_clause_40 (by decide) ?_
      refine bc_ne (tgt := 48) hx hb hf dX2_clause_42 (by decide) (fun hf => ?_) (fun hf => ?_)
      · refine lv_iload_n hx hb dX2_clause_48 rfl (lv_at hl 2 rfl) ?_
        refine lv_iconst (v := 3) hx hb dX2_clause_49 (by decide) ?_
        obtain ⟨c6, k7, hf⟩ := bd1s hf
        have hj8 : ∀ (H : Heap) (locs : List Loc) (ls : Array Slot), va_P g.1 vwCl (mW g h ad sTaped sFault sFaultP sAt sPlace sToken sNumber sWord sText0 sWritten sSort0 sPiled sOpens sWhole c6 sIsW sDied cA cIm cTx cTp cPl cNm cVa cTr cAs cLi cSa cHd) H → va_D A (mW g h ad sTaped sFault sFaultP sAt sPlace sToken sNumber sWord sText0 sWritten sSort0 sPiled sOpens sWhole c6 sIsW sDied cA cIm cTx cTp cPl cNm cVa cTr cAs cLi cSa cHd) → va_S A s.heap H locs → lv_has ls 5 [(0, .ref h), (1, .int r1), (2, .int v5)] → W p l e ({ frames := 10, cells := 0, slots := 0, locals := 221 } : Room) s m ([.ref h] : List Value).toArray below meth c H locs 0 0 (MQ below (QQ g (some (.int r)) (mW g h ad sTaped sFault sFaultP nsAt nsPlace nsToken nsNumber nsWord sText0 nsWritten nsSort0 nsPiled nsOpens nsWhole nsOnce sIsW sDied cA cIm ncTx cTp ncPl cNm cVa cTr cAs cLi cSa cHd) A) ([.ref h] : List Value).toArray s 0 0 A) (F0 m 65 ls []) := by
          intro H locs ls hP hD hS hl
          refine lv_aload_n hx hb dX2_clause_65 rfl (lv_at hl 0 rfl) ?_
          refine lv_iload_n hx hb dX2_clause_66 rfl (lv_at hl 1 rfl) ?_
          refine pM14 X hP hD hS dX2_clause_67 (fun H locs hP hD hS => ?_)
          refine lv_aload_n hx hb dX2_clause_70 rfl (lv_at hl 0 rfl) ?_
          obtain ⟨c9, c10, c11, c12, c13, k14, hf⟩ := bd5s hf
          refine cVv (rest := []) X (met_M_nextToken k14) gw_X2_X2_nextToken dy_X2_nextToken ⟨⟨rfl, rfl⟩, Nat.le_of_ble_eq_true rfl, Nat.le_of_ble_eq_true rfl⟩ hP hD hS hl.1 rcM rfl rfl ⟨Nat.zero_le _, Nat.zero_le _⟩ (Nat.le_of_ble_eq_true rfl) dX2_clause_71 (fun H locs hP hD hS => ?_)
          refine lv_aload_n hx hb dX2_clause_74 rfl (lv_at hl 0 rfl) ?_
          refine gM12 X hP dX2_clause_75 ?_
          refine lv_iconst (v := 1) hx hb dX2_clause_78 (by decide) ?_
          refine lv_iadd hx hb dX2_clause_79 ?_
          refine lv_iconst (v := 5) hx hb dX2_clause_80 (by decide) ?_
          refine lv_iload_n hx hb dX2_clause_81 rfl (lv_at hl 2 rfl) ?_
          refine lv_imul hx hb dX2_clause_82 ?_
          refine lv_iadd hx hb dX2_clause_83 ?_
          obtain ⟨v15, ev15, hf⟩ := lts hf
          refine tpi ev15 ?_
          refine lv_istore_n (lv' := [(3, .int v15), (0, .ref h), (1, .int r1), (2, .int v5)]) hx hb dX2_clause_84 rfl hl (by decide) rfl (fun ls hl => ?_)
          refine lv_aload_n hx hb dX2_clause_85 rfl (lv_at hl 1 rfl) ?_
          refine gM2 X hP dX2_clause_86 ?_
          refine lv_iload_n hx hb dX2_clause_89 rfl (lv_at hl 0 rfl) ?_
          refine lv_iload_n hx hb dX2_clause_90 rfl (lv_at hl 2 rfl) ?_
          obtain ⟨c16, ec16, bc16, hf⟩ := wrs hf
          refine sM_cTx X hP hD hS ec16 bc16 dX2_clause_91 (fun H locs hP hD hS => ?_)
          refine lv_aload_n hx hb dX2_clause_92 rfl (lv_at hl 1 rfl) ?_
          refine lv_iload_n hx hb dX2_clause_93 rfl (lv_at hl 2 rfl) ?_
          refine lv_iload_n hx hb dX2_clause_94 rfl (lv_at hl 0 rfl) ?_
          obtain ⟨r17, c18, c19, c20, c21, c22, c23, c24, c25, c26, c27, c28, k29, hf⟩ := bd12s hf
          refine cVi (rest := []) X (met_M_body k29) gw_X2_X2_body dy_X2_body ⟨⟨rfl, rfl⟩, Nat.le_of_ble_eq_true rfl, Nat.le_of_ble_eq_true rfl⟩ hP hD hS hl.1 rcM rfl rfl ⟨Nat.zero_le _, Nat.zero_le _⟩ (Nat.le_of_ble_eq_true rfl) dX2_clause_95 (fun H locs hP hD hS => ?_)
          refine lv_istore (lv' := [(4, .int r17), (3, .int v15), (0, .ref h), (1, .int r1), (2, .int v5)]) hx hb dX2_clause_98 hl (by decide) rfl (fun ls hl => ?_)
          refine lv_iload hx hb dX2_clause_100 (lv_at hl 0 rfl) ?_
          refine bq_eq (tgt := 108) hx hb hf dX2_clause_102 (by decide) (fun hf => ?_) (fun hf => ?_)
          · refine lv_aload_n hx hb dX2_clause_108 rfl (lv_at hl 2 rfl) ?_
            refine gM2 X hP dX2_clause_109 ?_
            refine lv_aload_n hx hb dX2_clause_112 rfl (lv_at hl 2 rfl) ?_
            refine gM12 X hP dX2_clause_113 ?_
            refine lv_dup2_11 hx hb dX2_clause_116 rfl rfl ?_
            obtain ⟨v30, ev30, bv30, hf⟩ := rds hf
            refine lM_cTx X hP ev30 bv30 dX2_clause_117 ?_
            refine lv_iconst (v := 1) hx hb dX2_clause_118 (by decide) ?_
            refine lv_iadd hx hb dX2_clause_119 ?_
            obtain ⟨v31, ev31, hf⟩ := lts hf
            refine tpi ev31 ?_
            obtain ⟨c32, ec32, bc32, hf⟩ := wrs hf
            refine sM_cTx X hP hD hS ec32 bc32 dX2_clause_120 (fun H locs hP hD hS => ?_)
            refine lv_aload_n hx hb dX2_clause_121 rfl (lv_at hl 2 rfl) ?_
            refine gM9 X hP dX2_clause_122 ?_
            refine lv_bipush (v := 59) hx hb dX2_clause_125 (by decide) ?_
            refine bc_eq (tgt := 132) hx hb hf dX2_clause_127 (by decide) (fun hf => ?_) (fun hf => ?_)
            · refine lv_aload_n hx hb dX2_clause_132 rfl (lv_at hl 2 rfl) ?_
              obtain ⟨c33, c34, c35, c36, c37, k38, hf⟩ := bd5s hf
              refine cVv (rest := []) X (met_M_nextToken k38) gw_X2_X2_nextToken dy_X2_nextToken ⟨⟨rfl, rfl⟩, Nat.le_of_ble_eq_true rfl, Nat.le_of_ble_eq_true rfl⟩ hP hD hS hl.1 rcM rfl rfl ⟨Nat.zero_le _, Nat.zero_le _⟩ (Nat.le_of_ble_eq_true rfl) dX2_clause_133 (fun H locs hP hD hS => ?_)
              refine lv_iconst (v := 0) hx hb dX2_clause_136 (by decide) ?_
              cases hf
              exact rI X hP hD hS dX2_clause_137
            · refine lv_iconst (v := 1) hx hb dX2_clause_130 (by decide) ?_
              cases hf
              exact rI X hP hD hS dX2_clause_131
          · refine lv_iload hx hb dX2_clause_105 (lv_at hl 0 rfl) ?_
            cases hf
            exact rI X hP hD hS dX2_clause_107
        replace hf := k7
        clear k7
        refine bc_gt (tgt := 65) hx hb hf dX2_clause_50 (by decide) (fun hf => ?_) (fun hf => ?_)
        · cases hf
          exact hj8 _ _ _ hP hD hS (lv_sub hl [1, 2, 0] rfl)
        · refine lv_aload_n hx hb dX2_clause_53 rfl (lv_at hl 1 rfl) ?_
          refine lv_dup hx hb dX2_clause_54 rfl ?_
          refine gM19 X hP dX2_clause_55 ?_
          refine lv_iconst (v := 1) hx hb dX2_clause_58 (by decide) ?_
          refine lv_iload_n hx hb dX2_clause_59 rfl (lv_at hl 2 rfl) ?_
          refine lv_ishl hx hb dX2_clause_60 ?_
          refine lv_ior hx hb dX2_clause_61 ?_
          obtain ⟨v39, ev39, hf⟩ := lts hf
          refine tpi ev39 ?_
          refine pM19 X hP hD hS dX2_clause_62 (fun H locs hP hD hS => ?_)
          cases hf
          exact hj8 _ _ _ hP hD hS (lv_sub hl [1, 2, 0] rfl)
      · refine lv_bipush (v := 6) hx hb dX2_clause_45 (by decide) ?_
        cases hf
        exact rI X hP hD hS dX2_clause_47
    clear ek3
    refine bc_gt (tgt := 29) hx hb hf dX2_clause_13 (by decide) (fun hf => ?_) (fun hf => ?_)
    · exact hj4 hf _ _ _ hP hD hS (lv_sub hl [1, 0] rfl)
    · refine lv_aload_n hx hb dX2_clause_16 rfl (lv_at hl 1 rfl) ?_
      refine gM19 X hP dX2_clause_17 ?_
      refine lv_iload_n hx hb dX2_clause_20 rfl (lv_at hl 0 rfl) ?_
      obtain ⟨r40, k41, hf⟩ := bd1s hf
      refine cSi (rest := []) X (met_M_isWith (g := g) k41) gs_X2_X2_isWith dy_X2_isWith ⟨⟨rfl, rfl⟩, Nat.le_of_ble_eq_true rfl, Nat.le_of_ble_eq_true rfl⟩ hP hD hS hl.1 rfl rfl ⟨Nat.zero_le _, Nat.zero_le _⟩ (Nat.le_of_ble_eq_true rfl) dX2_clause_21 (fun H locs hP hD hS => ?_)
      refine bq_eq (tgt := 29) hx hb hf dX2_clause_24 (by decide) (fun hf => ?_) (fun hf => ?_)
      · exact hj4 hf _ _ _ hP hD hS (lv_sub hl [1, 0] rfl)
      · refine lv_iconst (v := 4) hx hb dX2_clause_27 (by decide) ?_
        cases hf
        exact rI X hP hD hS dX2_clause_28
  · refine lv_iconst (v := 1) hx hb dX2_clause_9 (by decide) ?_
    cases hf
    exact rI X hP hD hS dX2_clause_10
set_option maxHeartbeats 4000000 in
theorem met_M_feeds {l : Launch} {g : gG} {h : Nat} {ad : Nat → Nat} {sTaped : Int32} {sFault : Int32} {sFaultP : Int32} {sAt : Int32} {sPlace : Int32} {sToken : Int32} {sNumber : Int32} {sWord : Int64} {sText0 : Int32} {sWritten : Int32} {sSort0 : Int32} {sPiled : Int32} {sOpens : Int32} {sWhole : Int32} {sOnce : Int32} {sIsW : Int32} {sDied : Int32} {cA : Nat → Int32} {cIm : Nat → Int32} {cTx : Nat → Int32} {cTp : Nat → Int32} {cPl : Nat → Int32} {cNm : Nat → Int32} {cVa : Nat → Int64} {cTr : Nat → Int32} {cAs : Nat → Int32} {cLi : Nat → Int32} {cSa : Nat → Int32} {cHd : Nat → Int32} {x1 : Int32} {x2 : Int32} {r : Int32} {ncA : Nat → Int32} {ncNm : Nat → Int32} {ncVa : Nat → Int64} {ncTr : Nat → Int32} {φ : Nat} (hf : M_feeds φ sIsW cA cTx cNm cVa cTr x1 x2 = some (r, ncA, ncNm, ncVa, ncTr)) : CC l yX2_feeds (ws_ yX2_feeds cX2_feeds 3 (some .int)) ({ frames := 8, cells := 0, slots := 0, locals := 187 } : Room) g [.ref h, .int x1, .int x2] (mW g h ad sTaped sFault sFaultP sAt sPlace sToken sNumber sWord sText0 sWritten sSort0 sPiled sOpens sWhole sOnce sIsW sDied cA cIm cTx cTp cPl cNm cVa cTr cAs cLi cSa cHd) (some (.int r)) (mW g h ad sTaped sFault sFaultP sAt sPlace sToken sNumber sWord sText0 sWritten sSort0 sPiled sOpens sWhole sOnce sIsW sDied ncA cIm cTx cTp cPl ncNm ncVa ncTr cAs cLi cSa cHd) 0 0 := by
  refine CC.of RX2 rfl plain_X2 (Nat.le_of_ble_eq_true rfl) (fun p e s m below meth c A ls X hP hD hS hl => ?_)
  have hx := X.1
  have hb := X.2.1
  have hown := X.2.2.2.2.2.1
  have hts := X.2.2.2.2.2.2.1
  have hl : lv_has ls 3 [(0, .ref h), (1, .int x1), (2, .int x2)] := hl
  unfold M_feeds at hf
  refine lv_aload_n hx hb dX2_feeds_0 rfl (lv_at hl 0 rfl) ?_
  refine lv_iload_n hx hb dX2_feeds_1 rfl (lv_at hl 1 rfl) ?_
  refine lv_iload_n hx hb dX2_feeds_2 rfl (lv_at hl 2 rfl) ?_
  obtain ⟨r1, k2, hf⟩ := bd1s hf
  refine cVi (rest := []) X (met_M_areBeside k2) gw_X2_X2_areBeside dy_X2_areBeside ⟨⟨rfl, rfl⟩, Nat.le_of_ble_eq_true rfl, Nat.le_of_ble_eq_true rfl⟩ hP hD hS hl.1 rcM rfl rfl ⟨Nat.zero_le _, Nat.zero_le _⟩ (Nat.le_of_ble_eq_true rfl) dX2_feeds_3 (fun H locs hP hD hS => ?_)
  refine bq_ne (tgt := 11) hx hb hf dX2_feeds_6 (by decide) (fun hf => ?_) (fun hf => ?_)
  · refine lv_aload_n hx hb dX2_feeds_11 rfl (lv_at hl 0 rfl) ?_
    obtain ⟨c3, k4, hf⟩ := bd1s hf
    refine cVv (rest := []) X (met_M_keep k4) gw_X2_X2_keep dy_X2_keep ⟨⟨rfl, rfl⟩, Nat.le_of_ble_eq_true rfl, Nat.le_of_ble_eq_true rfl⟩ hP hD hS hl.1 rcM rfl rfl ⟨Nat.zero_le _, Nat.zero_le _⟩ (Nat.le_of_ble_eq_true rfl) dX2_feeds_12 (fun H locs hP hD hS => ?_)
    refine lv_aload_n hx hb dX2_feeds_15 rfl (lv_at hl 0 rfl) ?_
    refine lv_iload_n hx hb dX2_feeds_16 rfl (lv_at hl 1 rfl) ?_
    refine lv_iload_n hx hb dX2_feeds_17 rfl (lv_at hl 2 rfl) ?_
    obtain ⟨c5, c6, c7, c8, k9, hf⟩ := bd4s hf
    refine cVv (rest := []) X (met_M_feedNow k9) gw_X2_X2_feedNow dy_X2_feedNow ⟨⟨rfl, rfl⟩, Nat.le_of_ble_eq_true rfl, Nat.le_of_ble_eq_true rfl⟩ hP hD hS hl.1 rcM rfl rfl ⟨Nat.zero_le _, Nat.zero_le _⟩ (Nat.le_of_ble_eq_true rfl) dX2_feeds_18 (fun H locs hP hD hS => ?_)
    refine lv_aload_n hx hb dX2_feeds_21 rfl (lv_at hl 0 rfl) ?_
    refine lv_iload_n hx hb dX2_feeds_22 rfl (lv_at hl 2 rfl) ?_
    refine lv_iconst (v := 3) hx hb dX2_feeds_23 (by decide) ?_
    obtain ⟨r10, k11, hf⟩ := bd1s hf
    refine cVi (rest := []) X (met_M_get k11) gw_X2_X2_get dy_X2_get ⟨⟨rfl, rfl⟩, Nat.le_of_ble_eq_true rfl, Nat.le_of_ble_eq_true rfl⟩ hP hD hS hl.1 rcM rfl rfl ⟨Nat.zero_le _, Nat.zero_le _⟩ (Nat.le_of_ble_eq_true rfl) dX2_feeds_24 (fun H locs hP hD hS => ?_)
    cases hf
    exact rI X hP hD hS dX2_feeds_27
  · refine lv_iconst (v := (-1)) hx hb dX2_feeds_9 (by decide) ?_
    cases hf
    exact rI X hP hD hS dX2_feeds_10
set_option maxHeartbeats 4000000 in
theorem met_M_arePassed {l : Launch} {g : gG} {h : Nat} {ad : Nat → Nat} {sTaped : Int32} {sFault : Int32} {sFaultP : Int32} {sAt : Int32} {sPlace : Int32} {sToken : Int32} {sNumber : Int32} {sWord : Int64} {sText0 : Int32} {sWritten : Int32} {sSort0 : Int32} {sPiled : Int32} {sOpens : Int32} {sWhole : Int32} {sOnce : Int32} {sIsW : Int32} {sDied : Int32} {cA : Nat → Int32} {cIm : Nat → Int32} {cTx : Nat → Int32} {cTp : Nat → Int32} {cPl : Nat → Int32} {cNm : Nat → Int32} {cVa : Nat → Int64} {cTr : Nat → Int32} {cAs : Nat → Int32} {cLi : Nat → Int32} {cSa : Nat → Int32} {cHd : Nat → Int32} {x1 : Int32} {r : Int32} {nsDied : Int32} {ncA : Nat → Int32} {ncNm : Nat → Int32} {ncVa : Nat → Int64} {ncTr : Nat → Int32} {φ : Nat} (hf : M_arePassed φ sIsW sDied cA cTx cNm cVa cTr x1 = some (r, nsDied, ncA, ncNm, ncVa, ncTr)) : CC l yX2_arePassed (ws_ yX2_arePassed cX2_arePassed 3 (some .boolean)) ({ frames := 9, cells := 0, slots := 0, locals := 207 } : Room) g [.ref h, .int x1] (mW g h ad sTaped sFault sFaultP sAt sPlace sToken sNumber sWord sText0 sWritten sSort0 sPiled sOpens sWhole sOnce sIsW sDied cA cIm cTx cTp cPl cNm cVa cTr cAs cLi cSa cHd) (some (.int r)) (mW g h ad sTaped sFault sFaultP sAt sPlace sToken sNumber sWord sText0 sWritten sSort0 sPiled sOpens sWhole sOnce sIsW nsDied ncA cIm cTx cTp cPl ncNm ncVa ncTr cAs cLi cSa cHd) 0 0 := by
  refine CC.of RX2 rfl plain_X2 (Nat.le_of_ble_eq_true rfl) (fun p e s m below meth c A ls X hP hD hS hl => ?_)
  have hx := X.1
  have hb := X.2.1
  have hown := X.2.2.2.2.2.1
  have hts := X.2.2.2.2.2.2.1
  have hl : lv_has ls 3 [(0, .ref h), (1, .int x1)] := hl
  unfold M_arePassed at hf
  refine lv_aload_n hx hb dX2_arePassed_0 rfl (lv_at hl 0 rfl) ?_
  refine lv_iconst (v := 0) hx hb dX2_arePassed_1 (by decide) ?_
  refine pM24 X hP hD hS dX2_arePassed_2 (fun H locs hP hD hS => ?_)
  refine lv_iconst (v := 0) hx hb dX2_arePassed_5 (by decide) ?_
  refine lv_istore_n (lv' := [(2, .int 0), (0, .ref h), (1, .int x1)]) hx hb dX2_arePassed_6 rfl hl (by decide) rfl (fun ls hl => ?_)
  have hL9 : ∀ (n7 : Nat) (v1 : Int32) (c2 : Int32) (c3 : Nat → Int32) (c4 : Nat → Int32) (c5 : Nat → Int64) (c6 : Nat → Int32), M_arePassed_L7 φ x1 sIsW cTx n7 v1 c2 c3 c4 c5 c6 = some (r, nsDied, ncA, ncNm, ncVa, ncTr) → ∀ (H : Heap) (locs : List Loc) (ls : Array Slot), va_P g.1 vwCl (mW g h ad sTaped sFault sFaultP sAt sPlace sToken sNumber sWord sText0 sWritten sSort0 sPiled sOpens sWhole sOnce sIsW c2 c3 cIm cTx cTp cPl c4 c5 c6 cAs cLi cSa cHd) H → va_D A (mW g h ad sTaped sFault sFaultP sAt sPlace sToken sNumber sWord sText0 sWritten sSort0 sPiled sOpens sWhole sOnce sIsW c2 c3 cIm cTx cTp cPl c4 c5 c6 cAs cLi cSa cHd) → va_S A s.heap H locs → lv_has ls 3 [(0, .ref h), (1, .int x1), (2, .int v1)] → W p l e ({ frames := 9, cells := 0, slots := 0, locals := 207 } : Room) s m ([.ref h, .int x1] : List Value).toArray below meth c H locs 0 0 (MQ below (QQ g (some (.int r)) (mW g h ad sTaped sFault sFaultP sAt sPlace sToken sNumber sWord sText0 sWritten sSort0 sPiled sOpens sWhole sOnce sIsW nsDied ncA cIm cTx cTp cPl ncNm ncVa ncTr cAs cLi cSa cHd) A) ([.ref h, .int x1] : List Value).toArray s 0 0 A) (F0 m 7 ls []) := by
    intro n7
    induction n7 with
    | zero =>
      intro v1 c2 c3 c4 c5 c6 hf
      exact nn hf
    | succ n7 ih10 =>
      intro v1 c2 c3 c4 c5 c6 hf H locs ls hP hD hS hl
      rw [M_arePassed_L7] at hf
      refine lv_iload_n hx hb dX2_arePassed_7 rfl (lv_at hl 2 rfl) ?_
      refine lv_iload_n hx hb dX2_arePassed_8 rfl (lv_at hl 1 rfl) ?_
      refine bc_ge (tgt := 41) hx hb hf dX2_arePassed_9 (by decide) (fun hf => ?_) (fun hf => ?_)
      · refine lv_iconst (v := 1) hx hb dX2_arePassed_41 (by decide) ?_
        cases hf
        exact rZ X rfl hP hD hS dX2_arePassed_42
      · refine lv_aload_n hx hb dX2_arePassed_12 rfl (lv_at hl 0 rfl) ?_
        refine gM0 X hP dX2_arePassed_13 ?_
        refine lv_bipush (v := 10) hx hb dX2_arePassed_16 (by decide) ?_
        obtain ⟨v12, ev12, bv12, hf⟩ := rds hf
        refine lM_cA X hP ev12 bv12 dX2_arePassed_18 ?_
        refine lv_sipush (v := 9999) hx hb dX2_arePassed_19 (by decide) ?_
        refine bc_ne (tgt := 27) hx hb hf dX2_arePassed_22 (by decide) (fun hf => ?_) (fun hf => ?_)
        · refine lv_aload_n hx hb dX2_arePassed_27 rfl (lv_at hl 0 rfl) ?_
          obtain ⟨c13, k14, hf⟩ := bd1s hf
          refine cVv (rest := []) X (met_M_keep k14) gw_X2_X2_keep dy_X2_keep ⟨⟨rfl, rfl⟩, Nat.le_of_ble_eq_true rfl, Nat.le_of_ble_eq_true rfl⟩ hP hD hS hl.1 rcM rfl rfl ⟨Nat.zero_le _, Nat.zero_le _⟩ (Nat.le_of_ble_eq_true rfl) dX2_arePassed_28 (fun H locs hP hD hS => ?_)
          refine lv_aload_n hx hb dX2_arePassed_31 rfl (lv_at hl 0 rfl) ?_
          obtain ⟨c15, c16, c17, c18, c19, k20, hf⟩ := bd5s hf
          refine cVv (rest := []) X (met_M_goOn k20) gw_X2_X2_goOn dy_X2_goOn ⟨⟨rfl, rfl⟩, Nat.le_of_ble_eq_true rfl, Nat.le_of_ble_eq_true rfl⟩ hP hD hS hl.1 rcM rfl rfl ⟨Nat.zero_le _, Nat.zero_le _⟩ (Nat.le_of_ble_eq_true rfl) dX2_arePassed_32 (fun H locs hP hD hS => ?_)
          obtain ⟨v21, ev21, hf⟩ := lts hf
          refine lv_iinc (v := v21) (lv' := [(2, .int v21), (0, .ref h), (1, .int x1)]) hx hb dX2_arePassed_35 hl (k := 2) rfl (by rw [ev21]; rfl) (by decide) rfl (fun ls hl => ?_)
          refine lv_goto (tgt := 7) hx hb dX2_arePassed_38 (by decide) ?_
          exact ih10 _ _ _ _ _ _ hf _ _ _ hP hD hS (lv_sub hl [1, 2, 0] rfl)
        · refine lv_iconst (v := 0) hx hb dX2_arePassed_25 (by decide) ?_
          cases hf
          exact rZ X rfl hP hD hS dX2_arePassed_26
  exact hL9 _ _ _ _ _ _ _ hf _ _ _ hP hD hS (lv_sub hl [1, 2, 0] rfl)
theorem gw_X2_X2_land : GoodIn lw_all (wsV RX2 388 RX2 yX2_land (ws_ yX2_land cX2_land 2 (some .int))) := lw_V q1873 q1492 q1493 q148 q1494
theorem dy_X2_land : Dy yX2_land RX2 1 := by decide +kernel
theorem gw_X2_X2_road : GoodIn lw_all (wsV RX2 391 RX2 yX2_road (ws_ yX2_road cX2_road 3 (some .boolean))) := lw_V q1874 q1499 q1500 q148 q1501
theorem dy_X2_road : Dy yX2_road RX2 2 := by decide +kernel
theorem gw_X2_X2_person : GoodIn lw_all (wsV RX2 394 RX2 yX2_person (ws_ yX2_person cX2_person 6 (some .int))) := lw_V q1875 q1510 q1511 q148 q1512
theorem dy_X2_person : Dy yX2_person RX2 4 := by decide +kernel
theorem gw_X2_X2_call : GoodIn lw_all (wsV RX2 397 RX2 yX2_call (ws_ yX2_call cX2_call 3 (some .int))) := lw_V q1876 q1695 q1696 q148 q1697
theorem dy_X2_call : Dy yX2_call RX2 2 := by decide +kernel
theorem gw_X2_X2_move : GoodIn lw_all (wsV RX2 400 RX2 yX2_move (ws_ yX2_move cX2_move 3 (some .boolean))) := lw_V q1877 q1723 q1724 q148 q1725
theorem dy_X2_move : Dy yX2_move RX2 2 := by decide +kernel
theorem gw_X2_X2_feeds : GoodIn lw_all (wsV RX2 403 RX2 yX2_feeds (ws_ yX2_feeds cX2_feeds 3 (some .int))) := lw_V q1878 q1731 q1732 q148 q1733
theorem dy_X2_feeds : Dy yX2_feeds RX2 2 := by decide +kernel
theorem gw_X2_X2_kill : GoodIn lw_all (wsV RX2 406 RX2 yX2_kill (ws_ yX2_kill cX2_kill 3 (some .boolean))) := lw_V q1879 q1810 q1811 q148 q1812
theorem dy_X2_kill : Dy yX2_kill RX2 2 := by decide +kernel
theorem gw_X2_X2_pardon : GoodIn lw_all (wsV RX2 409 RX2 yX2_pardon (ws_ yX2_pardon cX2_pardon 3 (some .int))) := lw_V q1880 q1826 q1827 q148 q1828
theorem dy_X2_pardon : Dy yX2_pardon RX2 2 := by decide +kernel
theorem gw_X2_X2_arePassed : GoodIn lw_all (wsV RX2 385 RX2 yX2_arePassed (ws_ yX2_arePassed cX2_arePassed 3 (some .boolean))) := lw_V q1845 q1847 qs123 q148 q1848
theorem dy_X2_arePassed : Dy yX2_arePassed RX2 1 := by decide +kernel
set_option maxHeartbeats 4000000 in
theorem met_M_isPlayed {l : Launch} {g : gG} {h : Nat} {ad : Nat → Nat} {sTaped : Int32} {sFault : Int32} {sFaultP : Int32} {sAt : Int32} {sPlace : Int32} {sToken : Int32} {sNumber : Int32} {sWord : Int64} {sText0 : Int32} {sWritten : Int32} {sSort0 : Int32} {sPiled : Int32} {sOpens : Int32} {sWhole : Int32} {sOnce : Int32} {sIsW : Int32} {sDied : Int32} {cA : Nat → Int32} {cIm : Nat → Int32} {cTx : Nat → Int32} {cTp : Nat → Int32} {cPl : Nat → Int32} {cNm : Nat → Int32} {cVa : Nat → Int64} {cTr : Nat → Int32} {cAs : Nat → Int32} {cLi : Nat → Int32} {cSa : Nat → Int32} {cHd : Nat → Int32} {x1 : Int32} {r : Int32} {nsDied : Int32} {ncA : Nat → Int32} {ncNm : Nat → Int32} {ncVa : Nat → Int64} {ncTr : Nat → Int32} {φ : Nat} (hf : M_isPlayed φ sIsW sDied cA cTx cNm cVa cTr x1 = some (r, nsDied, ncA, ncNm, ncVa, ncTr)) : CC l yX2_isPlayed (ws_ yX2_isPlayed cX2_isPlayed 4 (some .boolean)) ({ frames := 10, cells := 0, slots := 0, locals := 229 } : Room) g [.ref h, .int x1] (mW g h ad sTaped sFault sFaultP sAt sPlace sToken sNumber sWord sText0 sWritten sSort0 sPiled sOpens sWhole sOnce sIsW sDied cA cIm cTx cTp cPl cNm cVa cTr cAs cLi cSa cHd) (some (.int r)) (mW g h ad sTaped sFault sFaultP sAt sPlace sToken sNumber sWord sText0 sWritten sSort0 sPiled sOpens sWhole sOnce sIsW nsDied ncA cIm cTx cTp cPl ncNm ncVa ncTr cAs cLi cSa cHd) 0 0 := by
  refine CC.of RX2 rfl plain_X2 (Nat.le_of_ble_eq_true rfl) (fun p e s m below meth c A ls X hP hD hS hl => ?_)
  have hx := X.1
  have hb := X.2.1
  have hown := X.2.2.2.2.2.1
  have hts := X.2.2.2.2.2.2.1
  have hl : lv_has ls 4 [(0, .ref h), (1, .int x1)] := hl
  unfold M_isPlayed at hf
  refine lv_aload_n hx hb dX2_isPlayed_0 rfl (lv_at hl 0 rfl) ?_
  refine gM2 X hP dX2_isPlayed_1 ?_
  refine lv_iload_n hx hb dX2_isPlayed_4 rfl (lv_at hl 1 rfl) ?_
  refine lv_iconst (v := 1) hx hb dX2_isPlayed_5 (by decide) ?_
  refine lv_iadd hx hb dX2_isPlayed_6 ?_
  obtain ⟨v1, ev1, bv1, hf⟩ := rds hf
  refine lM_cTx X hP ev1 bv1 dX2_isPlayed_7 ?_
  refine lv_istore_n (lv' := [(2, .int v1), (0, .ref h), (1, .int x1)]) hx hb dX2_isPlayed_8 rfl hl (by decide) rfl (fun ls hl => ?_)
  refine lv_aload_n hx hb dX2_isPlayed_9 rfl (lv_at hl 1 rfl) ?_
  refine gM2 X hP dX2_isPlayed_10 ?_
  refine lv_iload_n hx hb dX2_isPlayed_13 rfl (lv_at hl 2 rfl) ?_
  refine lv_iconst (v := 2) hx hb dX2_isPlayed_14 (by decide) ?_
  refine lv_iadd hx hb dX2_isPlayed_15 ?_
  obtain ⟨v2, ev2, bv2, hf⟩ := rds hf
  refine lM_cTx X hP ev2 bv2 dX2_isPlayed_16 ?_
  refine lv_istore_n (lv' := [(3, .int v2), (2, .int v1), (0, .ref h), (1, .int x1)]) hx hb dX2_isPlayed_17 rfl hl (by decide) rfl (fun ls hl => ?_)
  refine lv_aload_n hx hb dX2_isPlayed_18 rfl (lv_at hl 2 rfl) ?_
  refine gM2 X hP dX2_isPlayed_19 ?_
  refine lv_iload_n hx hb dX2_isPlayed_22 rfl (lv_at hl 3 rfl) ?_
  obtain ⟨v3, ev3, bv3, hf⟩ := rds hf
  refine lM_cTx X hP ev3 bv3 dX2_isPlayed_23 ?_
  refine swc hf (fun q hf => ?_) (fun q0 hf => ?_)
  · refine lv_tableOut (tgt := 193) hx hb dX2_isPlayed_24 (Or.inl q) (by decide) ?_
    refine lv_iconst (v := 1) hx hb dX2_isPlayed_193 (by decide) ?_
    cases hf
    exact rZ X rfl hP hD hS dX2_isPlayed_194
  refine swc hf (fun q hf => ?_) (fun q1 hf => ?_)
  · refine lv_tableOut (tgt := 193) hx hb dX2_isPlayed_24 (Or.inr q) (by decide) ?_
    refine lv_iconst (v := 1) hx hb dX2_isPlayed_193 (by decide) ?_
    cases hf
    exact rZ X rfl hP hD hS dX2_isPlayed_194
  refine swc hf (fun q hf => ?_) (fun q2 hf => ?_)
  · refine lv_tableIn (off := 52) (tgt := 76) hx hb dX2_isPlayed_24 q0 q1 (by rw [q]; rfl) (by decide) ?_
    refine lv_aload_n hx hb dX2_isPlayed_76 rfl (lv_at hl 2 rfl) ?_
    refine lv_iload_n hx hb dX2_isPlayed_77 rfl (lv_at hl 1 rfl) ?_
    obtain ⟨r4, c5, k6, hf⟩ := bd2s hf
    refine cVi (rest := []) X (met_M_land k6) gw_X2_X2_land dy_X2_land ⟨⟨rfl, rfl⟩, Nat.le_of_ble_eq_true rfl, Nat.le_of_ble_eq_true rfl⟩ hP hD hS hl.1 rcM rfl rfl ⟨Nat.zero_le _, Nat.zero_le _⟩ (Nat.le_of_ble_eq_true rfl) dX2_isPlayed_78 (fun H locs hP hD hS => ?_)
    refine bq_lt (tgt := 88) hx hb hf dX2_isPlayed_81 (by decide) (fun hf => ?_) (fun hf => ?_)
    · refine lv_iconst (v := 0) hx hb dX2_isPlayed_88 (by decide) ?_
      cases hf
      exact rZ X rfl hP hD hS dX2_isPlayed_89
    · refine lv_iconst (v := 1) hx hb dX2_isPlayed_84 (by decide) ?_
      refine lv_goto (tgt := 89) hx hb dX2_isPlayed_85 (by decide) ?_
      cases hf
      exact rZ X rfl hP hD hS dX2_isPlayed_89
  refine swc hf (fun q hf => ?_) (fun q2 hf => ?_)
  · refine lv_tableIn (off := 66) (tgt := 90) hx hb dX2_isPlayed_24 q0 q1 (by rw [q]; rfl) (by decide) ?_
    refine lv_aload_n hx hb dX2_isPlayed_90 rfl (lv_at hl 2 rfl) ?_
    refine lv_iload_n hx hb dX2_isPlayed_91 rfl (lv_at hl 1 rfl) ?_
    refine lv_iload_n hx hb dX2_isPlayed_92 rfl (lv_at hl 0 rfl) ?_
    obtain ⟨r7, c8, k9, hf⟩ := bd2s hf
    refine cVi (rest := []) X (met_M_road k9) gw_X2_X2_road dy_X2_road ⟨⟨rfl, rfl⟩, Nat.le_of_ble_eq_true rfl, Nat.le_of_ble_eq_true rfl⟩ hP hD hS hl.1 rcM rfl rfl ⟨Nat.zero_le _, Nat.zero_le _⟩ (Nat.le_of_ble_eq_true rfl) dX2_isPlayed_93 (fun H locs hP hD hS => ?_)
    obtain ⟨hz, hf⟩ := zks hf
    cases hf
    exact rZ X hz hP hD hS dX2_isPlayed_96
  refine swc hf (fun q hf => ?_) (fun q2 hf => ?_)
  · refine lv_tableIn (off := 73) (tgt := 97) hx hb dX2_isPlayed_24 q0 q1 (by rw [q]; rfl) (by decide) ?_
    refine lv_aload_n hx hb dX2_isPlayed_97 rfl (lv_at hl 2 rfl) ?_
    refine lv_iload_n hx hb dX2_isPlayed_98 rfl (lv_at hl 1 rfl) ?_
    refine lv_iload_n hx hb dX2_isPlayed_99 rfl (lv_at hl 0 rfl) ?_
    refine lv_aload_n hx hb dX2_isPlayed_100 rfl (lv_at hl 2 rfl) ?_
    refine gM2 X hP dX2_isPlayed_101 ?_
    refine lv_iload_n hx hb dX2_isPlayed_104 rfl (lv_at hl 3 rfl) ?_
    refine lv_iconst (v := 3) hx hb dX2_isPlayed_105 (by decide) ?_
    refine lv_iadd hx hb dX2_isPlayed_106 ?_
    obtain ⟨v10, ev10, bv10, hf⟩ := rds hf
    refine lM_cTx X hP ev10 bv10 dX2_isPlayed_107 ?_
    refine lv_aload_n hx hb dX2_isPlayed_108 rfl (lv_at hl 2 rfl) ?_
    refine gM2 X hP dX2_isPlayed_109 ?_
    refine lv_iload_n hx hb dX2_isPlayed_112 rfl (lv_at hl 3 rfl) ?_
    refine lv_iconst (v := 4) hx hb dX2_isPlayed_113 (by decide) ?_
    refine lv_iadd hx hb dX2_isPlayed_114 ?_
    obtain ⟨v11, ev11, bv11, hf⟩ := rds hf
    refine lM_cTx X hP ev11 bv11 dX2_isPlayed_115 ?_
    obtain ⟨r12, c13, k14, hf⟩ := bd2s hf
    refine cVi (rest := []) X (met_M_person k14) gw_X2_X2_person dy_X2_person ⟨⟨rfl, rfl⟩, Nat.le_of_ble_eq_true rfl, Nat.le_of_ble_eq_true rfl⟩ hP hD hS hl.1 rcM rfl rfl ⟨Nat.zero_le _, Nat.zero_le _⟩ (Nat.le_of_ble_eq_true rfl) dX2_isPlayed_116 (fun H locs hP hD hS => ?_)
    refine bq_lt (tgt := 126) hx hb hf dX2_isPlayed_119 (by decide) (fun hf => ?_) (fun hf => ?_)
    · refine lv_iconst (v := 0) hx hb dX2_isPlayed_126 (by decide) ?_
      cases hf
      exact rZ X rfl hP hD hS dX2_isPlayed_127
    · refine lv_iconst (v := 1) hx hb dX2_isPlayed_122 (by decide) ?_
      refine lv_goto (tgt := 127) hx hb dX2_isPlayed_123 (by decide) ?_
      cases hf
      exact rZ X rfl hP hD hS dX2_isPlayed_127
  refine swc hf (fun q hf => ?_) (fun q2 hf => ?_)
  · refine lv_tableIn (off := 104) (tgt := 128) hx hb dX2_isPlayed_24 q0 q1 (by rw [q]; rfl) (by decide) ?_
    refine lv_aload_n hx hb dX2_isPlayed_128 rfl (lv_at hl 2 rfl) ?_
    refine lv_iload_n hx hb dX2_isPlayed_129 rfl (lv_at hl 1 rfl) ?_
    refine lv_iload_n hx hb dX2_isPlayed_130 rfl (lv_at hl 0 rfl) ?_
    obtain ⟨r15, c16, k17, hf⟩ := bd2s hf
    refine cVi (rest := []) X (met_M_call k17) gw_X2_X2_call dy_X2_call ⟨⟨rfl, rfl⟩, Nat.le_of_ble_eq_true rfl, Nat.le_of_ble_eq_true rfl⟩ hP hD hS hl.1 rcM rfl rfl ⟨Nat.zero_le _, Nat.zero_le _⟩ (Nat.le_of_ble_eq_true rfl) dX2_isPlayed_131 (fun H locs hP hD hS => ?_)
    refine bq_lt (tgt := 141) hx hb hf dX2_isPlayed_134 (by decide) (fun hf => ?_) (fun hf => ?_)
    · refine lv_iconst (v := 0) hx hb dX2_isPlayed_141 (by decide) ?_
      cases hf
      exact rZ X rfl hP hD hS dX2_isPlayed_142
    · refine lv_iconst (v := 1) hx hb dX2_isPlayed_137 (by decide) ?_
      refine lv_goto (tgt := 142) hx hb dX2_isPlayed_138 (by decide) ?_
      cases hf
      exact rZ X rfl hP hD hS dX2_isPlayed_142
  refine swc hf (fun q hf => ?_) (fun q2 hf => ?_)
  · refine lv_tableIn (off := 119) (tgt := 143) hx hb dX2_isPlayed_24 q0 q1 (by rw [q]; rfl) (by decide) ?_
    refine lv_aload_n hx hb dX2_isPlayed_143 rfl (lv_at hl 2 rfl) ?_
    refine lv_iload_n hx hb dX2_isPlayed_144 rfl (lv_at hl 1 rfl) ?_
    refine lv_iload_n hx hb dX2_isPlayed_145 rfl (lv_at hl 0 rfl) ?_
    obtain ⟨r18, c19, k20, hf⟩ := bd2s hf
    refine cVi (rest := []) X (met_M_move k20) gw_X2_X2_move dy_X2_move ⟨⟨rfl, rfl⟩, Nat.le_of_ble_eq_true rfl, Nat.le_of_ble_eq_true rfl⟩ hP hD hS hl.1 rcM rfl rfl ⟨Nat.zero_le _, Nat.zero_le _⟩ (Nat.le_of_ble_eq_true rfl) dX2_isPlayed_146 (fun H locs hP hD hS => ?_)
    obtain ⟨hz, hf⟩ := zks hf
    cases hf
    exact rZ X hz hP hD hS dX2_isPlayed_149
  refine swc hf (fun q hf => ?_) (fun q2 hf => ?_)
  · refine lv_tableIn (off := 126) (tgt := 150) hx hb dX2_isPlayed_24 q0 q1 (by rw [q]; rfl) (by decide) ?_
    refine lv_aload_n hx hb dX2_isPlayed_150 rfl (lv_at hl 2 rfl) ?_
    refine lv_iload_n hx hb dX2_isPlayed_151 rfl (lv_at hl 1 rfl) ?_
    refine lv_iload_n hx hb dX2_isPlayed_152 rfl (lv_at hl 0 rfl) ?_
    obtain ⟨r21, c22, c23, c24, c25, k26, hf⟩ := bd5s hf
    refine cVi (rest := []) X (met_M_feeds k26) gw_X2_X2_feeds dy_X2_feeds ⟨⟨rfl, rfl⟩, Nat.le_of_ble_eq_true rfl, Nat.le_of_ble_eq_true rfl⟩ hP hD hS hl.1 rcM rfl rfl ⟨Nat.zero_le _, Nat.zero_le _⟩ (Nat.le_of_ble_eq_true rfl) dX2_isPlayed_153 (fun H locs hP hD hS => ?_)
    refine bq_lt (tgt := 163) hx hb hf dX2_isPlayed_156 (by decide) (fun hf => ?_) (fun hf => ?_)
    · refine lv_iconst (v := 0) hx hb dX2_isPlayed_163 (by decide) ?_
      cases hf
      exact rZ X rfl hP hD hS dX2_isPlayed_164
    · refine lv_iconst (v := 1) hx hb dX2_isPlayed_159 (by decide) ?_
      refine lv_goto (tgt := 164) hx hb dX2_isPlayed_160 (by decide) ?_
      cases hf
      exact rZ X rfl hP hD hS dX2_isPlayed_164
  refine swc hf (fun q hf => ?_) (fun q2 hf => ?_)
  · refine lv_tableIn (off := 141) (tgt := 165) hx hb dX2_isPlayed_24 q0 q1 (by rw [q]; rfl) (by decide) ?_
    refine lv_aload_n hx hb dX2_isPlayed_165 rfl (lv_at hl 2 rfl) ?_
    refine lv_iload_n hx hb dX2_isPlayed_166 rfl (lv_at hl 1 rfl) ?_
    refine lv_iload_n hx hb dX2_isPlayed_167 rfl (lv_at hl 0 rfl) ?_
    obtain ⟨r27, c28, c29, k30, hf⟩ := bd3s hf
    refine cVi (rest := []) X (met_M_kill k30) gw_X2_X2_kill dy_X2_kill ⟨⟨rfl, rfl⟩, Nat.le_of_ble_eq_true rfl, Nat.le_of_ble_eq_true rfl⟩ hP hD hS hl.1 rcM rfl rfl ⟨Nat.zero_le _, Nat.zero_le _⟩ (Nat.le_of_ble_eq_true rfl) dX2_isPlayed_168 (fun H locs hP hD hS => ?_)
    obtain ⟨hz, hf⟩ := zks hf
    cases hf
    exact rZ X hz hP hD hS dX2_isPlayed_171
  refine swc hf (fun q hf => ?_) (fun q2 hf => ?_)
  · refine lv_tableIn (off := 148) (tgt := 172) hx hb dX2_isPlayed_24 q0 q1 (by rw [q]; rfl) (by decide) ?_
    refine lv_aload_n hx hb dX2_isPlayed_172 rfl (lv_at hl 2 rfl) ?_
    refine lv_iload_n hx hb dX2_isPlayed_173 rfl (lv_at hl 1 rfl) ?_
    refine lv_iload_n hx hb dX2_isPlayed_174 rfl (lv_at hl 0 rfl) ?_
    obtain ⟨r31, c32, c33, c34, c35, k36, hf⟩ := bd5s hf
    refine cVi (rest := []) X (met_M_pardon k36) gw_X2_X2_pardon dy_X2_pardon ⟨⟨rfl, rfl⟩, Nat.le_of_ble_eq_true rfl, Nat.le_of_ble_eq_true rfl⟩ hP hD hS hl.1 rcM rfl rfl ⟨Nat.zero_le _, Nat.zero_le _⟩ (Nat.le_of_ble_eq_true rfl) dX2_isPlayed_175 (fun H locs hP hD hS => ?_)
    refine bq_lt (tgt := 185) hx hb hf dX2_isPlayed_178 (by decide) (fun hf => ?_) (fun hf => ?_)
    · refine lv_iconst (v := 0) hx hb dX2_isPlayed_185 (by decide) ?_
      cases hf
      exact rZ X rfl hP hD hS dX2_isPlayed_186
    · refine lv_iconst (v := 1) hx hb dX2_isPlayed_181 (by decide) ?_
      refine lv_goto (tgt := 186) hx hb dX2_isPlayed_182 (by decide) ?_
      cases hf
      exact rZ X rfl hP hD hS dX2_isPlayed_186
  refine swc hf (fun q hf => ?_) (fun q2 hf => ?_)
  · refine lv_tableIn (off := 163) (tgt := 187) hx hb dX2_isPlayed_24 q0 q1 (by rw [q]; rfl) (by decide) ?_
    refine lv_aload_n hx hb dX2_isPlayed_187 rfl (lv_at hl 2 rfl) ?_
    refine lv_iload_n hx hb dX2_isPlayed_188 rfl (lv_at hl 1 rfl) ?_
    obtain ⟨r37, c38, c39, c40, c41, c42, k43, hf⟩ := bd6s hf
    refine cVi (rest := []) X (met_M_arePassed k43) gw_X2_X2_arePassed dy_X2_arePassed ⟨⟨rfl, rfl⟩, Nat.le_of_ble_eq_true rfl, Nat.le_of_ble_eq_true rfl⟩ hP hD hS hl.1 rcM rfl rfl ⟨Nat.zero_le _, Nat.zero_le _⟩ (Nat.le_of_ble_eq_true rfl) dX2_isPlayed_189 (fun H locs hP hD hS => ?_)
    obtain ⟨hz, hf⟩ := zks hf
    cases hf
    exact rZ X hz hP hD hS dX2_isPlayed_192
  exact nn hf
theorem gw_X2_X2_happens : GoodIn lw_all (wsV RX2 415 RX2 yX2_happens (ws_ yX2_happens cX2_happens 5 none)) := lw_V q1885 q1887 qs129 q148 q1888
theorem dy_X2_happens : Dy yX2_happens RX2 1 := by decide +kernel
set_option maxHeartbeats 4000000 in
theorem met_M_reigns {l : Launch} {g : gG} {h : Nat} {ad : Nat → Nat} {sTaped : Int32} {sFault : Int32} {sFaultP : Int32} {sAt : Int32} {sPlace : Int32} {sToken : Int32} {sNumber : Int32} {sWord : Int64} {sText0 : Int32} {sWritten : Int32} {sSort0 : Int32} {sPiled : Int32} {sOpens : Int32} {sWhole : Int32} {sOnce : Int32} {sIsW : Int32} {sDied : Int32} {cA : Nat → Int32} {cIm : Nat → Int32} {cTx : Nat → Int32} {cTp : Nat → Int32} {cPl : Nat → Int32} {cNm : Nat → Int32} {cVa : Nat → Int64} {cTr : Nat → Int32} {cAs : Nat → Int32} {cLi : Nat → Int32} {cSa : Nat → Int32} {cHd : Nat → Int32} {x1 : Int32} {x2 : Int32} {r : Int32} {nsDied : Int32} {ncA : Nat → Int32} {ncNm : Nat → Int32} {ncVa : Nat → Int64} {ncTr : Nat → Int32} {φ : Nat} (hf : M_reigns φ sIsW sDied cA cTx cNm cVa cTr x1 x2 = some (r, nsDied, ncA, ncNm, ncVa, ncTr)) : CC l yX2_reigns (ws_ yX2_reigns cX2_reigns 5 (some .int)) ({ frames := 10, cells := 0, slots := 0, locals := 231 } : Room) g [.ref h, .int x1, .int x2] (mW g h ad sTaped sFault sFaultP sAt sPlace sToken sNumber sWord sText0 sWritten sSort0 sPiled sOpens sWhole sOnce sIsW sDied cA cIm cTx cTp cPl cNm cVa cTr cAs cLi cSa cHd) (some (.int r)) (mW g h ad sTaped sFault sFaultP sAt sPlace sToken sNumber sWord sText0 sWritten sSort0 sPiled sOpens sWhole sOnce sIsW nsDied ncA cIm cTx cTp cPl ncNm ncVa ncTr cAs cLi cSa cHd) 0 0 := by
  refine CC.of RX2 rfl plain_X2 (Nat.le_of_ble_eq_true rfl) (fun p e s m below meth c A ls X hP hD hS hl => ?_)
  have hx := X.1
  have hb := X.2.1
  have hown := X.2.2.2.2.2.1
  have hts := X.2.2.2.2.2.2.1
  have hl : lv_has ls 5 [(0, .ref h), (1, .int x1), (2, .int x2)] := hl
  unfold M_reigns at hf
  refine lv_iload_n hx hb dX2_reigns_0 rfl (lv_at hl 1 rfl) ?_
  refine lv_iconst (v := 0) hx hb dX2_reigns_1 (by decide) ?_
  refine lv_sipush (v := 9999) hx hb dX2_reigns_2 (by decide) ?_
  obtain ⟨r1, k2, hf⟩ := bd1s hf
  refine cSi (rest := []) X (met_M_isIn (g := g) k2) gs_X2_X2_isIn dy_X2_isIn ⟨⟨rfl, rfl⟩, Nat.le_of_ble_eq_true rfl, Nat.le_of_ble_eq_true rfl⟩ hP hD hS hl.1 rfl rfl ⟨Nat.zero_le _, Nat.zero_le _⟩ (Nat.le_of_ble_eq_true rfl) dX2_reigns_5 (fun H locs hP hD hS => ?_)
  refine bq_eq (tgt := 30) hx hb hf dX2_reigns_8 (by decide) (fun hf => ?_) (fun hf => ?_)
  · refine lv_iconst (v := (-1)) hx hb dX2_reigns_30 (by decide) ?_
    cases hf
    exact rI X hP hD hS dX2_reigns_31
  · refine lv_iload_n hx hb dX2_reigns_11 rfl (lv_at hl 2 rfl) ?_
    refine lv_iconst (v := 1) hx hb dX2_reigns_12 (by decide) ?_
    refine lv_bipush (v := 40) hx hb dX2_reigns_13 (by decide) ?_
    obtain ⟨r3, k4, hf⟩ := bd1s hf
    refine cSi (rest := []) X (met_M_isIn (g := g) k4) gs_X2_X2_isIn dy_X2_isIn ⟨⟨rfl, rfl⟩, Nat.le_of_ble_eq_true rfl, Nat.le_of_ble_eq_true rfl⟩ hP hD hS hl.1 rfl rfl ⟨Nat.zero_le _, Nat.zero_le _⟩ (Nat.le_of_ble_eq_true rfl) dX2_reigns_15 (fun H locs hP hD hS => ?_)
    refine bq_eq (tgt := 30) hx hb hf dX2_reigns_18 (by decide) (fun hf => ?_) (fun hf => ?_)
    · refine lv_iconst (v := (-1)) hx hb dX2_reigns_30 (by decide) ?_
      cases hf
      exact rI X hP hD hS dX2_reigns_31
    · refine lv_aload_n hx hb dX2_reigns_21 rfl (lv_at hl 0 rfl) ?_
      refine gM0 X hP dX2_reigns_22 ?_
      refine lv_iconst (v := 1) hx hb dX2_reigns_25 (by decide) ?_
      obtain ⟨v5, ev5, bv5, hf⟩ := rds hf
      refine lM_cA X hP ev5 bv5 dX2_reigns_26 ?_
      refine bq_ne (tgt := 32) hx hb hf dX2_reigns_27 (by decide) (fun hf => ?_) (fun hf => ?_)
      · refine lv_aload_n hx hb dX2_reigns_32 rfl (lv_at hl 0 rfl) ?_
        obtain ⟨c6, k7, hf⟩ := bd1s hf
        refine cVv (rest := []) X (met_M_keep k7) gw_X2_X2_keep dy_X2_keep ⟨⟨rfl, rfl⟩, Nat.le_of_ble_eq_true rfl, Nat.le_of_ble_eq_true rfl⟩ hP hD hS hl.1 rcM rfl rfl ⟨Nat.zero_le _, Nat.zero_le _⟩ (Nat.le_of_ble_eq_true rfl) dX2_reigns_33 (fun H locs hP hD hS => ?_)
        refine lv_aload_n hx hb dX2_reigns_36 rfl (lv_at hl 0 rfl) ?_
        refine gM0 X hP dX2_reigns_37 ?_
        refine lv_bipush (v := 11) hx hb dX2_reigns_40 (by decide) ?_
        refine lv_iload_n hx hb dX2_reigns_42 rfl (lv_at hl 1 rfl) ?_
        refine lv_iconst (v := 2) hx hb dX2_reigns_43 (by decide) ?_
        refine lv_imul hx hb dX2_reigns_44 ?_
        refine lv_sipush (v := 149) hx hb dX2_reigns_45 (by decide) ?_
        refine lv_iadd hx hb dX2_reigns_48 ?_
        obtain ⟨v8, ev8, hf⟩ := lts hf
        refine tpi ev8 ?_
        obtain ⟨c9, ec9, bc9, hf⟩ := wrs hf
        refine sM_cA X hP hD hS ec9 bc9 dX2_reigns_49 (fun H locs hP hD hS => ?_)
        refine lv_iconst (v := 0) hx hb dX2_reigns_50 (by decide) ?_
        refine lv_istore_n (lv' := [(3, .int 0), (0, .ref h), (1, .int x1), (2, .int x2)]) hx hb dX2_reigns_51 rfl hl (by decide) rfl (fun ls hl => ?_)
        obtain ⟨c16, c17, c18, c19, c20, k25, hf⟩ := bd5s hf
        have hE22 : ∀ (H : Heap) (locs : List Loc) (ls : Array Slot), va_P g.1 vwCl (mW g h ad sTaped sFault sFaultP sAt sPlace sToken sNumber sWord sText0 sWritten sSort0 sPiled sOpens sWhole sOnce sIsW c16 c17 cIm cTx cTp cPl c18 c19 c20 cAs cLi cSa cHd) H → va_D A (mW g h ad sTaped sFault sFaultP sAt sPlace sToken sNumber sWord sText0 sWritten sSort0 sPiled sOpens sWhole sOnce sIsW c16 c17 cIm cTx cTp cPl c18 c19 c20 cAs cLi cSa cHd) → va_S A s.heap H locs → lv_has ls 5 [(0, .ref h)] → W p l e ({ frames := 10, cells := 0, slots := 0, locals := 231 } : Room) s m ([.ref h, .int x1, .int x2] : List Value).toArray below meth c H locs 0 0 (MQ below (QQ g (some (.int r)) (mW g h ad sTaped sFault sFaultP sAt sPlace sToken sNumber sWord sText0 sWritten sSort0 sPiled sOpens sWhole sOnce sIsW nsDied ncA cIm cTx cTp cPl ncNm ncVa ncTr cAs cLi cSa cHd) A) ([.ref h, .int x1, .int x2] : List Value).toArray s 0 0 A) (F0 m 82 ls []) := by
          intro H locs ls hP hD hS hl
          refine lv_aload_n hx hb dX2_reigns_82 rfl (lv_at hl 0 rfl) ?_
          refine gM0 X hP dX2_reigns_83 ?_
          refine lv_bipush (v := 10) hx hb dX2_reigns_86 (by decide) ?_
          obtain ⟨v26, ev26, bv26, hf⟩ := rds hf
          refine lM_cA X hP ev26 bv26 dX2_reigns_88 ?_
          cases hf
          exact rI X hP hD hS dX2_reigns_89
        have hL23 : ∀ (n21 : Nat) (v10 : Int32) (c11 : Int32) (c12 : Nat → Int32) (c13 : Nat → Int32) (c14 : Nat → Int64) (c15 : Nat → Int32), M_reigns_L52 φ x2 sIsW cTx n21 v10 c11 c12 c13 c14 c15 = some (c16, c17, c18, c19, c20) → ∀ (H : Heap) (locs : List Loc) (ls : Array Slot), va_P g.1 vwCl (mW g h ad sTaped sFault sFaultP sAt sPlace sToken sNumber sWord sText0 sWritten sSort0 sPiled sOpens sWhole sOnce sIsW c11 c12 cIm cTx cTp cPl c13 c14 c15 cAs cLi cSa cHd) H → va_D A (mW g h ad sTaped sFault sFaultP sAt sPlace sToken sNumber sWord sText0 sWritten sSort0 sPiled sOpens sWhole sOnce sIsW c11 c12 cIm cTx cTp cPl c13 c14 c15 cAs cLi cSa cHd) → va_S A s.heap H locs → lv_has ls 5 [(0, .ref h), (2, .int x2), (3, .int v10)] → W p l e ({ frames := 10, cells := 0, slots := 0, locals := 231 } : Room) s m ([.ref h, .int x1, .int x2] : List Value).toArray below meth c H locs 0 0 (MQ below (QQ g (some (.int r)) (mW g h ad sTaped sFault sFaultP sAt sPlace sToken sNumber sWord sText0 sWritten sSort0 sPiled sOpens sWhole sOnce sIsW nsDied ncA cIm cTx cTp cPl ncNm ncVa ncTr cAs cLi cSa cHd) A) ([.ref h, .int x1, .int x2] : List Value).toArray s 0 0 A) (F0 m 52 ls []) := by
          intro n21
          induction n21 with
          | zero =>
            intro v10 c11 c12 c13 c14 c15 hf
            exact nn hf
          | succ n21 ih24 =>
            intro v10 c11 c12 c13 c14 c15 hf H locs ls hP hD hS hl
            rw [M_reigns_L52] at hf
            refine lv_iload_n hx hb dX2_reigns_52 rfl (lv_at hl 2 rfl) ?_
            refine lv_iload_n hx hb dX2_reigns_53 rfl (lv_at hl 1 rfl) ?_
            refine bc_ge (tgt := 82) hx hb hf dX2_reigns_54 (by decide) (fun hf => ?_) (fun hf => ?_)
            · cases hf
              exact hE22 _ _ _ hP hD hS (lv_sub hl [0] rfl)
            · refine lv_aload_n hx hb dX2_reigns_57 rfl (lv_at hl 0 rfl) ?_
              refine gM0 X hP dX2_reigns_58 ?_
              refine lv_bipush (v := 11) hx hb dX2_reigns_61 (by decide) ?_
              obtain ⟨v27, ev27, bv27, hf⟩ := rds hf
              refine lM_cA X hP ev27 bv27 dX2_reigns_63 ?_
              refine lv_istore (lv' := [(4, .int v27), (0, .ref h), (2, .int x2), (3, .int v10)]) hx hb dX2_reigns_64 hl (by decide) rfl (fun ls hl => ?_)
              refine lv_aload_n hx hb dX2_reigns_66 rfl (lv_at hl 1 rfl) ?_
              obtain ⟨c28, k29, hf⟩ := bd1s hf
              refine cVv (rest := []) X (met_M_anew k29) gw_X2_X2_anew dy_X2_anew ⟨⟨rfl, rfl⟩, Nat.le_of_ble_eq_true rfl, Nat.le_of_ble_eq_true rfl⟩ hP hD hS hl.1 rcM rfl rfl ⟨Nat.zero_le _, Nat.zero_le _⟩ (Nat.le_of_ble_eq_true rfl) dX2_reigns_67 (fun H locs hP hD hS => ?_)
              refine lv_aload_n hx hb dX2_reigns_70 rfl (lv_at hl 1 rfl) ?_
              refine lv_iload hx hb dX2_reigns_71 (lv_at hl 0 rfl) ?_
              obtain ⟨c30, c31, c32, c33, c34, k35, hf⟩ := bd5s hf
              refine cVv (rest := []) X (met_M_happens k35) gw_X2_X2_happens dy_X2_happens ⟨⟨rfl, rfl⟩, Nat.le_of_ble_eq_true rfl, Nat.le_of_ble_eq_true rfl⟩ hP hD hS hl.1 rcM rfl rfl ⟨Nat.zero_le _, Nat.zero_le _⟩ (Nat.le_of_ble_eq_true rfl) dX2_reigns_73 (fun H locs hP hD hS => ?_)
              obtain ⟨v36, ev36, hf⟩ := lts hf
              refine lv_iinc (v := v36) (lv' := [(3, .int v36), (4, .int v27), (0, .ref h), (2, .int x2)]) hx hb dX2_reigns_76 hl (k := 3) rfl (by rw [ev36]; rfl) (by decide) rfl (fun ls hl => ?_)
              refine lv_goto (tgt := 52) hx hb dX2_reigns_79 (by decide) ?_
              exact ih24 _ _ _ _ _ _ hf _ _ _ hP hD hS (lv_sub hl [2, 3, 0] rfl)
        exact hL23 _ _ _ _ _ _ _ k25 _ _ _ hP hD hS (lv_sub hl [1, 3, 0] rfl)
      · refine lv_iconst (v := (-1)) hx hb dX2_reigns_30 (by decide) ?_
        cases hf
        exact rI X hP hD hS dX2_reigns_31
theorem gw_X2_X2_clause : GoodIn lw_all (wsV RX2 254 RX2 yX2_clause (ws_ yX2_clause cX2_clause 5 (some .int))) := lw_V q1564 q1566 qs72 q148 q1567
theorem dy_X2_clause : Dy yX2_clause RX2 0 := by decide +kernel
set_option maxHeartbeats 4000000 in
theorem met_M_readText {l : Launch} {g : gG} {h : Nat} {ad : Nat → Nat} {sTaped : Int32} {sFault : Int32} {sFaultP : Int32} {sAt : Int32} {sPlace : Int32} {sToken : Int32} {sNumber : Int32} {sWord : Int64} {sText0 : Int32} {sWritten : Int32} {sSort0 : Int32} {sPiled : Int32} {sOpens : Int32} {sWhole : Int32} {sOnce : Int32} {sIsW : Int32} {sDied : Int32} {cA : Nat → Int32} {cIm : Nat → Int32} {cTx : Nat → Int32} {cTp : Nat → Int32} {cPl : Nat → Int32} {cNm : Nat → Int32} {cVa : Nat → Int64} {cTr : Nat → Int32} {cAs : Nat → Int32} {cLi : Nat → Int32} {cSa : Nat → Int32} {cHd : Nat → Int32} {r : Int32} {nsAt : Int32} {nsPlace : Int32} {nsToken : Int32} {nsNumber : Int32} {nsWord : Int64} {nsText0 : Int32} {nsWritten : Int32} {nsSort0 : Int32} {nsPiled : Int32} {nsOpens : Int32} {nsWhole : Int32} {nsOnce : Int32} {ncTx : Nat → Int32} {ncPl : Nat → Int32} {φ : Nat} (hf : M_readText φ sTaped sAt sPlace sToken sNumber sWord sText0 sWritten sSort0 sPiled sOpens sWhole sOnce cA cTx cTp cPl = some (r, nsAt, nsPlace, nsToken, nsNumber, nsWord, nsText0, nsWritten, nsSort0, nsPiled, nsOpens, nsWhole, nsOnce, ncTx, ncPl)) : CC l yX2_readText (ws_ yX2_readText cX2_readText 2 (some .int)) ({ frames := 11, cells := 0, slots := 0, locals := 245 } : Room) g [.ref h] (mW g h ad sTaped sFault sFaultP sAt sPlace sToken sNumber sWord sText0 sWritten sSort0 sPiled sOpens sWhole sOnce sIsW sDied cA cIm cTx cTp cPl cNm cVa cTr cAs cLi cSa cHd) (some (.int r)) (mW g h ad sTaped sFault sFaultP nsAt nsPlace nsToken nsNumber nsWord nsText0 nsWritten nsSort0 nsPiled nsOpens nsWhole nsOnce sIsW sDied cA cIm ncTx cTp ncPl cNm cVa cTr cAs cLi cSa cHd) 0 0 := by
  refine CC.of RX2 rfl plain_X2 (Nat.le_of_ble_eq_true rfl) (fun p e s m below meth c A ls X hP hD hS hl => ?_)
  have hx := X.1
  have hb := X.2.1
  have hown := X.2.2.2.2.2.1
  have hts := X.2.2.2.2.2.2.1
  have hl : lv_has ls 2 [(0, .ref h)] := hl
  unfold M_readText at hf
  refine lv_aload_n hx hb dX2_readText_0 rfl (lv_at hl 0 rfl) ?_
  refine lv_sipush (v := 729) hx hb dX2_readText_1 (by decide) ?_
  refine lv_aload_n hx hb dX2_readText_4 rfl (lv_at hl 0 rfl) ?_
  refine gM0 X hP dX2_readText_5 ?_
  refine lv_iconst (v := 2) hx hb dX2_readText_8 (by decide) ?_
  obtain ⟨v1, ev1, bv1, hf⟩ := rds hf
  refine lM_cA X hP ev1 bv1 dX2_readText_9 ?_
  refine lv_imul hx hb dX2_readText_10 ?_
  obtain ⟨v2, ev2, hf⟩ := lts hf
  refine tpi ev2 ?_
  refine pM12 X hP hD hS dX2_readText_11 (fun H locs hP hD hS => ?_)
  refine lv_aload_n hx hb dX2_readText_14 rfl (lv_at hl 0 rfl) ?_
  refine gM2 X hP dX2_readText_15 ?_
  refine lv_aload_n hx hb dX2_readText_18 rfl (lv_at hl 0 rfl) ?_
  refine gM12 X hP dX2_readText_19 ?_
  refine lv_iconst (v := 0) hx hb dX2_readText_22 (by decide) ?_
  obtain ⟨c3, ec3, bc3, hf⟩ := wrs hf
  refine sM_cTx X hP hD hS ec3 bc3 dX2_readText_23 (fun H locs hP hD hS => ?_)
  refine lv_aload_n hx hb dX2_readText_24 rfl (lv_at hl 0 rfl) ?_
  refine lv_iconst (v := 0) hx hb dX2_readText_25 (by decide) ?_
  refine pM13 X hP hD hS dX2_readText_26 (fun H locs hP hD hS => ?_)
  refine lv_aload_n hx hb dX2_readText_29 rfl (lv_at hl 0 rfl) ?_
  refine lv_iconst (v := 0) hx hb dX2_readText_30 (by decide) ?_
  refine pM19 X hP hD hS dX2_readText_31 (fun H locs hP hD hS => ?_)
  refine lv_aload_n hx hb dX2_readText_34 rfl (lv_at hl 0 rfl) ?_
  refine lv_iconst (v := 0) hx hb dX2_readText_35 (by decide) ?_
  refine pM7 X hP hD hS dX2_readText_36 (fun H locs hP hD hS => ?_)
  refine lv_aload_n hx hb dX2_readText_39 rfl (lv_at hl 0 rfl) ?_
  obtain ⟨c4, c5, c6, c7, c8, k9, hf⟩ := bd5s hf
  refine cVv (rest := []) X (met_M_nextToken k9) gw_X2_X2_nextToken dy_X2_nextToken ⟨⟨rfl, rfl⟩, Nat.le_of_ble_eq_true rfl, Nat.le_of_ble_eq_true rfl⟩ hP hD hS hl.1 rcM rfl rfl ⟨Nat.zero_le _, Nat.zero_le _⟩ (Nat.le_of_ble_eq_true rfl) dX2_readText_40 (fun H locs hP hD hS => ?_)
  have hL25 : ∀ (n23 : Nat) (c10 : Int32) (c11 : Int32) (c12 : Int32) (c13 : Int32) (c14 : Int64) (c15 : Int32) (c16 : Int32) (c17 : Int32) (c18 : Int32) (c19 : Int32) (c20 : Int32) (c21 : Nat → Int32) (c22 : Nat → Int32), M_readText_L43 φ sTaped v2 cTp n23 c10 c11 c12 c13 c14 c15 c16 c17 c18 c19 c20 c21 c22 = some (r, nsAt, nsPlace, nsToken, nsNumber, nsWord, nsText0, nsWritten, nsSort0, nsPiled, nsOpens, nsWhole, nsOnce, ncTx, ncPl) → ∀ (H : Heap) (locs : List Loc) (ls : Array Slot), va_P g.1 vwCl (mW g h ad sTaped sFault sFaultP c10 c11 c12 c13 c14 v2 c15 c16 c17 c18 c19 c20 sIsW sDied cA cIm c21 cTp c22 cNm cVa cTr cAs cLi cSa cHd) H → va_D A (mW g h ad sTaped sFault sFaultP c10 c11 c12 c13 c14 v2 c15 c16 c17 c18 c19 c20 sIsW sDied cA cIm c21 cTp c22 cNm cVa cTr cAs cLi cSa cHd) → va_S A s.heap H locs → lv_has ls 2 [(0, .ref h)] → W p l e ({ frames := 11, cells := 0, slots := 0, locals := 245 } : Room) s m ([.ref h] : List Value).toArray below meth c H locs 0 0 (MQ below (QQ g (some (.int r)) (mW g h ad sTaped sFault sFaultP nsAt nsPlace nsToken nsNumber nsWord nsText0 nsWritten nsSort0 nsPiled nsOpens nsWhole nsOnce sIsW sDied cA cIm ncTx cTp ncPl cNm cVa cTr cAs cLi cSa cHd) A) ([.ref h] : List Value).toArray s 0 0 A) (F0 m 43 ls []) := by
    intro n23
    induction n23 with
    | zero =>
      intro c10 c11 c12 c13 c14 c15 c16 c17 c18 c19 c20 c21 c22 hf
      exact nn hf
    | succ n23 ih26 =>
      intro c10 c11 c12 c13 c14 c15 c16 c17 c18 c19 c20 c21 c22 hf H locs ls hP hD hS hl
      rw [M_readText_L43] at hf
      refine lv_aload_n hx hb dX2_readText_43 rfl (lv_at hl 0 rfl) ?_
      refine gM9 X hP dX2_readText_44 ?_
      refine bq_eq (tgt := 64) hx hb hf dX2_readText_47 (by decide) (fun hf => ?_) (fun hf => ?_)
      · refine lv_iconst (v := 0) hx hb dX2_readText_64 (by decide) ?_
        cases hf
        exact rI X hP hD hS dX2_readText_65
      · refine lv_aload_n hx hb dX2_readText_50 rfl (lv_at hl 0 rfl) ?_
        obtain ⟨r28, c29, c30, c31, c32, c33, c34, c35, c36, c37, c38, c39, c40, c41, k42, hf⟩ := bd14s hf
        refine cVi (rest := []) X (met_M_clause k42) gw_X2_X2_clause dy_X2_clause ⟨⟨rfl, rfl⟩, Nat.le_of_ble_eq_true rfl, Nat.le_of_ble_eq_true rfl⟩ hP hD hS hl.1 rcM rfl rfl ⟨Nat.zero_le _, Nat.zero_le _⟩ (Nat.le_of_ble_eq_true rfl) dX2_readText_51 (fun H locs hP hD hS => ?_)
        refine lv_istore_n (lv' := [(1, .int r28), (0, .ref h)]) hx hb dX2_readText_54 rfl hl (by decide) rfl (fun ls hl => ?_)
        refine lv_iload_n hx hb dX2_readText_55 rfl (lv_at hl 0 rfl) ?_
        refine bq_eq (tgt := 61) hx hb hf dX2_readText_56 (by decide) (fun hf => ?_) (fun hf => ?_)
        · refine lv_goto (tgt := 43) hx hb dX2_readText_61 (by decide) ?_
          exact ih26 _ _ _ _ _ _ _ _ _ _ _ _ _ hf _ _ _ hP hD hS (lv_sub hl [1] rfl)
        · refine lv_iload_n hx hb dX2_readText_59 rfl (lv_at hl 0 rfl) ?_
          cases hf
          exact rI X hP hD hS dX2_readText_60
  exact hL25 _ _ _ _ _ _ _ _ _ _ _ _ _ _ hf _ _ _ hP hD hS (lv_sub hl [0] rfl)
set_option maxHeartbeats 4000000 in
theorem met_M_month {l : Launch} {g : gG} {h : Nat} {ad : Nat → Nat} {sTaped : Int32} {sFault : Int32} {sFaultP : Int32} {sAt : Int32} {sPlace : Int32} {sToken : Int32} {sNumber : Int32} {sWord : Int64} {sText0 : Int32} {sWritten : Int32} {sSort0 : Int32} {sPiled : Int32} {sOpens : Int32} {sWhole : Int32} {sOnce : Int32} {sIsW : Int32} {sDied : Int32} {cA : Nat → Int32} {cIm : Nat → Int32} {cTx : Nat → Int32} {cTp : Nat → Int32} {cPl : Nat → Int32} {cNm : Nat → Int32} {cVa : Nat → Int64} {cTr : Nat → Int32} {cAs : Nat → Int32} {cLi : Nat → Int32} {cSa : Nat → Int32} {cHd : Nat → Int32} {x1 : Int32} {r : Int32} {nsDied : Int32} {ncA : Nat → Int32} {ncNm : Nat → Int32} {ncVa : Nat → Int64} {ncTr : Nat → Int32} {φ : Nat} (hf : M_month φ sIsW sDied cA cTx cNm cVa cTr x1 = some (r, nsDied, ncA, ncNm, ncVa, ncTr)) : CC l yX2_month (ws_ yX2_month cX2_month 2 (some .int)) ({ frames := 10, cells := 0, slots := 0, locals := 229 } : Room) g [.ref h, .int x1] (mW g h ad sTaped sFault sFaultP sAt sPlace sToken sNumber sWord sText0 sWritten sSort0 sPiled sOpens sWhole sOnce sIsW sDied cA cIm cTx cTp cPl cNm cVa cTr cAs cLi cSa cHd) (some (.int r)) (mW g h ad sTaped sFault sFaultP sAt sPlace sToken sNumber sWord sText0 sWritten sSort0 sPiled sOpens sWhole sOnce sIsW nsDied ncA cIm cTx cTp cPl ncNm ncVa ncTr cAs cLi cSa cHd) 0 0 := by
  refine CC.of RX2 rfl plain_X2 (Nat.le_of_ble_eq_true rfl) (fun p e s m below meth c A ls X hP hD hS hl => ?_)
  have hx := X.1
  have hb := X.2.1
  have hown := X.2.2.2.2.2.1
  have hts := X.2.2.2.2.2.2.1
  have hl : lv_has ls 2 [(0, .ref h), (1, .int x1)] := hl
  unfold M_month at hf
  refine lv_iload_n hx hb dX2_month_0 rfl (lv_at hl 1 rfl) ?_
  refine lv_iconst (v := 1) hx hb dX2_month_1 (by decide) ?_
  refine lv_bipush (v := 60) hx hb dX2_month_2 (by decide) ?_
  obtain ⟨r1, k2, hf⟩ := bd1s hf
  refine cSi (rest := []) X (met_M_isIn (g := g) k2) gs_X2_X2_isIn dy_X2_isIn ⟨⟨rfl, rfl⟩, Nat.le_of_ble_eq_true rfl, Nat.le_of_ble_eq_true rfl⟩ hP hD hS hl.1 rfl rfl ⟨Nat.zero_le _, Nat.zero_le _⟩ (Nat.le_of_ble_eq_true rfl) dX2_month_4 (fun H locs hP hD hS => ?_)
  refine bq_eq (tgt := 40) hx hb hf dX2_month_7 (by decide) (fun hf => ?_) (fun hf => ?_)
  · refine lv_iconst (v := (-1)) hx hb dX2_month_40 (by decide) ?_
    cases hf
    exact rI X hP hD hS dX2_month_41
  · refine lv_aload_n hx hb dX2_month_10 rfl (lv_at hl 0 rfl) ?_
    refine gM0 X hP dX2_month_11 ?_
    refine lv_bipush (v := 10) hx hb dX2_month_14 (by decide) ?_
    obtain ⟨v3, ev3, bv3, hf⟩ := rds hf
    refine lM_cA X hP ev3 bv3 dX2_month_16 ?_
    refine lv_iload_n hx hb dX2_month_17 rfl (lv_at hl 1 rfl) ?_
    refine lv_iadd hx hb dX2_month_18 ?_
    refine lv_sipush (v := 9999) hx hb dX2_month_19 (by decide) ?_
    refine bc_gt (tgt := 40) hx hb hf dX2_month_22 (by decide) (fun hf => ?_) (fun hf => ?_)
    · refine lv_iconst (v := (-1)) hx hb dX2_month_40 (by decide) ?_
      cases hf
      exact rI X hP hD hS dX2_month_41
    · refine lv_aload_n hx hb dX2_month_25 rfl (lv_at hl 0 rfl) ?_
      refine lv_iload_n hx hb dX2_month_26 rfl (lv_at hl 1 rfl) ?_
      obtain ⟨r4, c5, c6, c7, c8, c9, k10, hf⟩ := bd6s hf
      refine cVi (rest := []) X (met_M_arePassed k10) gw_X2_X2_arePassed dy_X2_arePassed ⟨⟨rfl, rfl⟩, Nat.le_of_ble_eq_true rfl, Nat.le_of_ble_eq_true rfl⟩ hP hD hS hl.1 rcM rfl rfl ⟨Nat.zero_le _, Nat.zero_le _⟩ (Nat.le_of_ble_eq_true rfl) dX2_month_27 (fun H locs hP hD hS => ?_)
      refine bq_eq (tgt := 40) hx hb hf dX2_month_30 (by decide) (fun hf => ?_) (fun hf => ?_)
      · refine lv_iconst (v := (-1)) hx hb dX2_month_40 (by decide) ?_
        cases hf
        exact rI X hP hD hS dX2_month_41
      · refine lv_aload_n hx hb dX2_month_33 rfl (lv_at hl 0 rfl) ?_
        refine gM24 X hP dX2_month_34 ?_
        refine lv_goto (tgt := 41) hx hb dX2_month_37 (by decide) ?_
        cases hf
        exact rI X hP hD hS dX2_month_41
theorem gw_X2_X2_isPlayed : GoodIn lw_all (wsV RX2 412 RX2 yX2_isPlayed (ws_ yX2_isPlayed cX2_isPlayed 4 (some .boolean))) := lw_V q1869 q1871 qs128 q148 q1872
theorem dy_X2_isPlayed : Dy yX2_isPlayed RX2 1 := by decide +kernel
set_option maxHeartbeats 4000000 in
theorem met_M_played {l : Launch} {g : gG} {h : Nat} {ad : Nat → Nat} {sTaped : Int32} {sFault : Int32} {sFaultP : Int32} {sAt : Int32} {sPlace : Int32} {sToken : Int32} {sNumber : Int32} {sWord : Int64} {sText0 : Int32} {sWritten : Int32} {sSort0 : Int32} {sPiled : Int32} {sOpens : Int32} {sWhole : Int32} {sOnce : Int32} {sIsW : Int32} {sDied : Int32} {cA : Nat → Int32} {cIm : Nat → Int32} {cTx : Nat → Int32} {cTp : Nat → Int32} {cPl : Nat → Int32} {cNm : Nat → Int32} {cVa : Nat → Int64} {cTr : Nat → Int32} {cAs : Nat → Int32} {cLi : Nat → Int32} {cSa : Nat → Int32} {cHd : Nat → Int32} {x1 : Int32} {r : Int32} {nsDied : Int32} {ncA : Nat → Int32} {ncNm : Nat → Int32} {ncVa : Nat → Int64} {ncTr : Nat → Int32} {φ : Nat} (hf : M_played φ sIsW sDied cA cTx cNm cVa cTr x1 = some (r, nsDied, ncA, ncNm, ncVa, ncTr)) : CC l yX2_played (ws_ yX2_played cX2_played 3 (some .int)) ({ frames := 11, cells := 0, slots := 0, locals := 252 } : Room) g [.ref h, .int x1] (mW g h ad sTaped sFault sFaultP sAt sPlace sToken sNumber sWord sText0 sWritten sSort0 sPiled sOpens sWhole sOnce sIsW sDied cA cIm cTx cTp cPl cNm cVa cTr cAs cLi cSa cHd) (some (.int r)) (mW g h ad sTaped sFault sFaultP sAt sPlace sToken sNumber sWord sText0 sWritten sSort0 sPiled sOpens sWhole sOnce sIsW nsDied ncA cIm cTx cTp cPl ncNm ncVa ncTr cAs cLi cSa cHd) 0 0 := by
  refine CC.of RX2 rfl plain_X2 (Nat.le_of_ble_eq_true rfl) (fun p e s m below meth c A ls X hP hD hS hl => ?_)
  have hx := X.1
  have hb := X.2.1
  have hown := X.2.2.2.2.2.1
  have hts := X.2.2.2.2.2.2.1
  have hl : lv_has ls 3 [(0, .ref h), (1, .int x1)] := hl
  unfold M_played at hf
  refine lv_iload_n hx hb dX2_played_0 rfl (lv_at hl 1 rfl) ?_
  refine lv_iconst (v := 0) hx hb dX2_played_1 (by decide) ?_
  refine lv_aload_n hx hb dX2_played_2 rfl (lv_at hl 0 rfl) ?_
  refine gM0 X hP dX2_played_3 ?_
  refine lv_iconst (v := 2) hx hb dX2_played_6 (by decide) ?_
  obtain ⟨v1, ev1, bv1, hf⟩ := rds hf
  refine lM_cA X hP ev1 bv1 dX2_played_7 ?_
  refine lv_iconst (v := 1) hx hb dX2_played_8 (by decide) ?_
  refine lv_isub hx hb dX2_played_9 ?_
  obtain ⟨r2, k3, hf⟩ := bd1s hf
  refine cSi (rest := []) X (met_M_isIn (g := g) k3) gs_X2_X2_isIn dy_X2_isIn ⟨⟨rfl, rfl⟩, Nat.le_of_ble_eq_true rfl, Nat.le_of_ble_eq_true rfl⟩ hP hD hS hl.1 rfl rfl ⟨Nat.zero_le _, Nat.zero_le _⟩ (Nat.le_of_ble_eq_true rfl) dX2_played_10 (fun H locs hP hD hS => ?_)
  refine bq_ne (tgt := 19) hx hb hf dX2_played_13 (by decide) (fun hf => ?_) (fun hf => ?_)
  · refine lv_iconst (v := 0) hx hb dX2_played_19 (by decide) ?_
    refine lv_istore_n (lv' := [(2, .int 0), (0, .ref h), (1, .int x1)]) hx hb dX2_played_20 rfl hl (by decide) rfl (fun ls hl => ?_)
    have hL12 : ∀ (n10 : Nat) (v4 : Int32) (c5 : Int32) (c6 : Nat → Int32) (c7 : Nat → Int32) (c8 : Nat → Int64) (c9 : Nat → Int32), M_played_L21 φ x1 sIsW cTx n10 v4 c5 c6 c7 c8 c9 = some (r, nsDied, ncA, ncNm, ncVa, ncTr) → ∀ (H : Heap) (locs : List Loc) (ls : Array Slot), va_P g.1 vwCl (mW g h ad sTaped sFault sFaultP sAt sPlace sToken sNumber sWord sText0 sWritten sSort0 sPiled sOpens sWhole sOnce sIsW c5 c6 cIm cTx cTp cPl c7 c8 c9 cAs cLi cSa cHd) H → va_D A (mW g h ad sTaped sFault sFaultP sAt sPlace sToken sNumber sWord sText0 sWritten sSort0 sPiled sOpens sWhole sOnce sIsW c5 c6 cIm cTx cTp cPl c7 c8 c9 cAs cLi cSa cHd) → va_S A s.heap H locs → lv_has ls 3 [(0, .ref h), (1, .int x1), (2, .int v4)] → W p l e ({ frames := 11, cells := 0, slots := 0, locals := 252 } : Room) s m ([.ref h, .int x1] : List Value).toArray below meth c H locs 0 0 (MQ below (QQ g (some (.int r)) (mW g h ad sTaped sFault sFaultP sAt sPlace sToken sNumber sWord sText0 sWritten sSort0 sPiled sOpens sWhole sOnce sIsW nsDied ncA cIm cTx cTp cPl ncNm ncVa ncTr cAs cLi cSa cHd) A) ([.ref h, .int x1] : List Value).toArray s 0 0 A) (F0 m 21 ls []) := by
      intro n10
      induction n10 with
      | zero =>
        intro v4 c5 c6 c7 c8 c9 hf
        exact nn hf
      | succ n10 ih13 =>
        intro v4 c5 c6 c7 c8 c9 hf H locs ls hP hD hS hl
        rw [M_played_L21] at hf
        refine lv_iload_n hx hb dX2_played_21 rfl (lv_at hl 2 rfl) ?_
        refine lv_aload_n hx hb dX2_played_22 rfl (lv_at hl 0 rfl) ?_
        refine gM2 X hP dX2_played_23 ?_
        refine lv_sipush (v := 729) hx hb dX2_played_26 (by decide) ?_
        refine lv_iload_n hx hb dX2_played_29 rfl (lv_at hl 1 rfl) ?_
        refine lv_imul hx hb dX2_played_30 ?_
        obtain ⟨v15, ev15, bv15, hf⟩ := rds hf
        refine lM_cTx X hP ev15 bv15 dX2_played_31 ?_
        refine bc_ge (tgt := 61) hx hb hf dX2_played_32 (by decide) (fun hf => ?_) (fun hf => ?_)
        · refine lv_iconst (v := (-1)) hx hb dX2_played_61 (by decide) ?_
          cases hf
          exact rI X hP hD hS dX2_played_62
        · refine lv_aload_n hx hb dX2_played_35 rfl (lv_at hl 0 rfl) ?_
          refine lv_sipush (v := 729) hx hb dX2_played_36 (by decide) ?_
          refine lv_iload_n hx hb dX2_played_39 rfl (lv_at hl 1 rfl) ?_
          refine lv_imul hx hb dX2_played_40 ?_
          refine lv_iconst (v := 1) hx hb dX2_played_41 (by decide) ?_
          refine lv_iadd hx hb dX2_played_42 ?_
          refine lv_iconst (v := 5) hx hb dX2_played_43 (by decide) ?_
          refine lv_iload_n hx hb dX2_played_44 rfl (lv_at hl 2 rfl) ?_
          refine lv_imul hx hb dX2_played_45 ?_
          refine lv_iadd hx hb dX2_played_46 ?_
          obtain ⟨r16, c17, c18, c19, c20, c21, k22, hf⟩ := bd6s hf
          refine cVi (rest := []) X (met_M_isPlayed k22) gw_X2_X2_isPlayed dy_X2_isPlayed ⟨⟨rfl, rfl⟩, Nat.le_of_ble_eq_true rfl, Nat.le_of_ble_eq_true rfl⟩ hP hD hS hl.1 rcM rfl rfl ⟨Nat.zero_le _, Nat.zero_le _⟩ (Nat.le_of_ble_eq_true rfl) dX2_played_47 (fun H locs hP hD hS => ?_)
          refine bq_ne (tgt := 55) hx hb hf dX2_played_50 (by decide) (fun hf => ?_) (fun hf => ?_)
          · obtain ⟨v23, ev23, hf⟩ := lts hf
            refine lv_iinc (v := v23) (lv' := [(2, .int v23), (0, .ref h), (1, .int x1)]) hx hb dX2_played_55 hl (k := 2) rfl (by rw [ev23]; rfl) (by decide) rfl (fun ls hl => ?_)
            refine lv_goto (tgt := 21) hx hb dX2_played_58 (by decide) ?_
            exact ih13 _ _ _ _ _ _ hf _ _ _ hP hD hS (lv_sub hl [1, 2, 0] rfl)
          · refine lv_iload_n hx hb dX2_played_53 rfl (lv_at hl 2 rfl) ?_
            cases hf
            exact rI X hP hD hS dX2_played_54
    exact hL12 _ _ _ _ _ _ _ hf _ _ _ hP hD hS (lv_sub hl [1, 2, 0] rfl)
  · refine lv_bipush (v := (-2)) hx hb dX2_played_16 (by decide) ?_
    cases hf
    exact rI X hP hD hS dX2_played_18
theorem gw_X2_X2_readText : GoodIn lw_all (wsV RX2 257 RX2 yX2_readText (ws_ yX2_readText cX2_readText 2 (some .int))) := lw_V q1541 q1543 qs69 q148 q1544
theorem dy_X2_readText : Dy yX2_readText RX2 0 := by decide +kernel
set_option maxHeartbeats 4000000 in
theorem met_M_text {l : Launch} {g : gG} {h : Nat} {ad : Nat → Nat} {sTaped : Int32} {sFault : Int32} {sFaultP : Int32} {sAt : Int32} {sPlace : Int32} {sToken : Int32} {sNumber : Int32} {sWord : Int64} {sText0 : Int32} {sWritten : Int32} {sSort0 : Int32} {sPiled : Int32} {sOpens : Int32} {sWhole : Int32} {sOnce : Int32} {sIsW : Int32} {sDied : Int32} {cA : Nat → Int32} {cIm : Nat → Int32} {cTx : Nat → Int32} {cTp : Nat → Int32} {cPl : Nat → Int32} {cNm : Nat → Int32} {cVa : Nat → Int64} {cTr : Nat → Int32} {cAs : Nat → Int32} {cLi : Nat → Int32} {cSa : Nat → Int32} {cHd : Nat → Int32} {r : Int32} {nsTaped : Int32} {nsFault : Int32} {nsFaultP : Int32} {nsAt : Int32} {nsPlace : Int32} {nsToken : Int32} {nsNumber : Int32} {nsWord : Int64} {nsText0 : Int32} {nsWritten : Int32} {nsSort0 : Int32} {nsPiled : Int32} {nsOpens : Int32} {nsWhole : Int32} {nsOnce : Int32} {ncA : Nat → Int32} {ncTx : Nat → Int32} {ncPl : Nat → Int32} {φ : Nat} (hf : M_text φ sTaped sFault sFaultP sAt sPlace sToken sNumber sWord sText0 sWritten sSort0 sPiled sOpens sWhole sOnce cA cTx cTp cPl = some (r, nsTaped, nsFault, nsFaultP, nsAt, nsPlace, nsToken, nsNumber, nsWord, nsText0, nsWritten, nsSort0, nsPiled, nsOpens, nsWhole, nsOnce, ncA, ncTx, ncPl)) : CC l yX2_text (ws_ yX2_text cX2_text 1 (some .int)) ({ frames := 12, cells := 0, slots := 0, locals := 266 } : Room) g [.ref h] (mW g h ad sTaped sFault sFaultP sAt sPlace sToken sNumber sWord sText0 sWritten sSort0 sPiled sOpens sWhole sOnce sIsW sDied cA cIm cTx cTp cPl cNm cVa cTr cAs cLi cSa cHd) (some (.int r)) (mW g h ad nsTaped nsFault nsFaultP nsAt nsPlace nsToken nsNumber nsWord nsText0 nsWritten nsSort0 nsPiled nsOpens nsWhole nsOnce sIsW sDied ncA cIm ncTx cTp ncPl cNm cVa cTr cAs cLi cSa cHd) 0 0 := by
  refine CC.of RX2 rfl plain_X2 (Nat.le_of_ble_eq_true rfl) (fun p e s m below meth c A ls X hP hD hS hl => ?_)
  have hx := X.1
  have hb := X.2.1
  have hown := X.2.2.2.2.2.1
  have hts := X.2.2.2.2.2.2.1
  have hl : lv_has ls 1 [(0, .ref h)] := hl
  unfold M_text at hf
  refine lv_aload_n hx hb dX2_text_0 rfl (lv_at hl 0 rfl) ?_
  refine gM0 X hP dX2_text_1 ?_
  refine lv_iconst (v := 2) hx hb dX2_text_4 (by decide) ?_
  obtain ⟨v1, ev1, bv1, hf⟩ := rds hf
  refine lM_cA X hP ev1 bv1 dX2_text_5 ?_
  refine lv_iconst (v := 4) hx hb dX2_text_6 (by decide) ?_
  refine bc_ne (tgt := 12) hx hb hf dX2_text_7 (by decide) (fun hf => ?_) (fun hf => ?_)
  · refine lv_aload_n hx hb dX2_text_12 rfl (lv_at hl 0 rfl) ?_
    refine lv_aload_n hx hb dX2_text_13 rfl (lv_at hl 0 rfl) ?_
    obtain ⟨r2, c3, c4, c5, c6, c7, c8, c9, c10, c11, c12, c13, c14, c15, c16, k17, hf⟩ := bd15s hf
    refine cVi (rest := [.ref h]) X (met_M_readText k17) gw_X2_X2_readText dy_X2_readText ⟨⟨rfl, rfl⟩, Nat.le_of_ble_eq_true rfl, Nat.le_of_ble_eq_true rfl⟩ hP hD hS hl.1 rcM rfl rfl ⟨Nat.zero_le _, Nat.zero_le _⟩ (Nat.le_of_ble_eq_true rfl) dX2_text_14 (fun H locs hP hD hS => ?_)
    refine pM5 X hP hD hS dX2_text_17 (fun H locs hP hD hS => ?_)
    refine lv_aload_n hx hb dX2_text_20 rfl (lv_at hl 0 rfl) ?_
    refine lv_aload_n hx hb dX2_text_21 rfl (lv_at hl 0 rfl) ?_
    refine gM5 X hP dX2_text_22 ?_
    obtain ⟨v18, k19, hf⟩ := bd1s hf
    have hj20 : ∀ (H : Heap) (locs : List Loc) (ls : Array Slot), va_P g.1 vwCl (mW g h ad sTaped r2 sFaultP c3 c4 c5 c6 c7 c8 c9 c10 c11 c12 c13 c14 sIsW sDied cA cIm c15 cTp c16 cNm cVa cTr cAs cLi cSa cHd) H → va_D A (mW g h ad sTaped r2 sFaultP c3 c4 c5 c6 c7 c8 c9 c10 c11 c12 c13 c14 sIsW sDied cA cIm c15 cTp c16 cNm cVa cTr cAs cLi cSa cHd) → va_S A s.heap H locs → lv_has ls 1 [(0, .ref h)] → W p l e ({ frames := 12, cells := 0, slots := 0, locals := 266 } : Room) s m ([.ref h] : List Value).toArray below meth c H locs 0 0 (MQ below (QQ g (some (.int r)) (mW g h ad nsTaped nsFault nsFaultP nsAt nsPlace nsToken nsNumber nsWord nsText0 nsWritten nsSort0 nsPiled nsOpens nsWhole nsOnce sIsW sDied ncA cIm ncTx cTp ncPl cNm cVa cTr cAs cLi cSa cHd) A) ([.ref h] : List Value).toArray s 0 0 A) (F0 m 36 ls [.int v18, .ref h]) := by
      intro H locs ls hP hD hS hl
      refine pM6 X hP hD hS dX2_text_36 (fun H locs hP hD hS => ?_)
      refine lv_aload_n hx hb dX2_text_39 rfl (lv_at hl 0 rfl) ?_
      refine lv_iconst (v := 0) hx hb dX2_text_40 (by decide) ?_
      refine pM4 X hP hD hS dX2_text_41 (fun H locs hP hD hS => ?_)
      refine lv_aload_n hx hb dX2_text_44 rfl (lv_at hl 0 rfl) ?_
      refine gM5 X hP dX2_text_45 ?_
      refine bq_eq (tgt := 53) hx hb hf dX2_text_48 (by decide) (fun hf => ?_) (fun hf => ?_)
      · refine lv_aload_n hx hb dX2_text_53 rfl (lv_at hl 0 rfl) ?_
        refine gM0 X hP dX2_text_54 ?_
        refine lv_iconst (v := 2) hx hb dX2_text_57 (by decide) ?_
        refine lv_dup2_11 hx hb dX2_text_58 rfl rfl ?_
        obtain ⟨v21, ev21, bv21, hf⟩ := rds hf
        refine lM_cA X hP ev21 bv21 dX2_text_59 ?_
        refine lv_iconst (v := 1) hx hb dX2_text_60 (by decide) ?_
        refine lv_iadd hx hb dX2_text_61 ?_
        obtain ⟨v22, ev22, hf⟩ := lts hf
        refine tpi ev22 ?_
        obtain ⟨c23, ec23, bc23, hf⟩ := wrs hf
        refine sM_cA X hP hD hS ec23 bc23 dX2_text_62 (fun H locs hP hD hS => ?_)
        refine lv_aload_n hx hb dX2_text_63 rfl (lv_at hl 0 rfl) ?_
        refine gM0 X hP dX2_text_64 ?_
        refine lv_iconst (v := 2) hx hb dX2_text_67 (by decide) ?_
        obtain ⟨v24, ev24, bv24, hf⟩ := rds hf
        refine lM_cA X hP ev24 bv24 dX2_text_68 ?_
        refine lv_iconst (v := 1) hx hb dX2_text_69 (by decide) ?_
        refine lv_isub hx hb dX2_text_70 ?_
        cases hf
        exact rI X hP hD hS dX2_text_71
      · refine lv_iconst (v := (-1)) hx hb dX2_text_51 (by decide) ?_
        cases hf
        exact rI X hP hD hS dX2_text_52
    replace hf := k19
    clear k19
    refine bq_ne (tgt := 32) hx hb hf dX2_text_25 (by decide) (fun hf => ?_) (fun hf => ?_)
    · refine lv_aload_n hx hb dX2_text_32 rfl (lv_at hl 0 rfl) ?_
      refine gM8 X hP dX2_text_33 ?_
      cases hf
      exact hj20 _ _ _ hP hD hS (lv_sub hl [0] rfl)
    · refine lv_iconst (v := (-1)) hx hb dX2_text_28 (by decide) ?_
      refine lv_goto (tgt := 36) hx hb dX2_text_29 (by decide) ?_
      cases hf
      exact hj20 _ _ _ hP hD hS (lv_sub hl [0] rfl)
  · refine lv_iconst (v := (-1)) hx hb dX2_text_10 (by decide) ?_
    cases hf
    exact rI X hP hD hS dX2_text_11
